/-! DECODE ROWS BY BYTES: one lemma an opcode; a method's code is cut into short pieces once, and a row reads its own piece alone. -/
set_option maxRecDepth 100000
/-- the code has just these bytes from pc on -/
def DkAt (code : ByteArray) (pc : Nat) (bs : List UInt8) : Prop := ∀ (j : Nat) (b : UInt8), bs[j]? = some b → code.data.toList[pc + j]? = some b
/-- the piece W has the bytes bs from its place j on -/
def dkIn (W : List UInt8) (j : Nat) (bs : List UInt8) : Bool := decide ((W.drop j).take bs.length = bs)
theorem dk_seg {l W T : List UInt8} {o o2 : Nat} (h : l.drop o = W ++ T) (n : Nat) (hn : W.length = n) (ho : o + n = o2) : l.drop o2 = T := by
  subst ho
  rw [← List.drop_drop, h, List.drop_left' hn]
theorem dk_at {code : ByteArray} {W T bs : List UInt8} {o pc : Nat} (h : code.data.toList.drop o = W ++ T) (j : Nat) (hp : o + j = pc) (hw : dkIn W j bs = true) : DkAt code pc bs := by
  subst hp
  intro i b e
  have h1 := of_decide_eq_true hw
  have h2 : i < bs.length := (List.getElem?_eq_some_iff.mp e).1
  have h3 : W[j + i]? = some b := by
    rw [← h1, List.getElem?_take, if_pos h2, List.getElem?_drop] at e
    exact e
  have h4 : j + i < W.length := (List.getElem?_eq_some_iff.mp h3).1
  have h5 : (code.data.toList.drop o)[j + i]? = some b := by
    rw [h, List.getElem?_append_left h4]
    exact h3
  rw [List.getElem?_drop, ← Nat.add_assoc] at h5
  exact h5
theorem dk_u1 {A : ByteArray} {p : Nat} {b : UInt8} (h : A.data.toList[p]? = some b) : (Reader.u1 : Reader DecodeError Nat) A p = .ok (b.toNat, p + 1) := by
  obtain ⟨h1, h2⟩ := List.getElem?_eq_some_iff.mp h
  have h3 : p < A.size := by simpa using h1
  have h4 : A[p]'h3 = b := h2
  have e : (Reader.u1 : Reader DecodeError Nat) A p = (if h : p < A.size then .ok (A[p].toNat, p + 1) else .error (HasTruncated.truncated p)) := by
    show (do if h : p < A.size then do set (p + 1); Pure.pure A[p].toNat else MonadExcept.throw (HasTruncated.truncated p) : Reader DecodeError Nat) A p = _
    by_cases hi : p < A.size
    · rw [dif_pos hi, dif_pos hi]; rfl
    · rw [dif_neg hi, dif_neg hi]; rfl
  rw [e, dif_pos h3, h4]
theorem dk_bind {α β : Type} {r : Reader DecodeError α} {f : α → Reader DecodeError β} {A : ByteArray} {p s : Nat} {a : α} (h : r A p = .ok (a, s)) : (r >>= f) A p = f a A s := by
  show (do let (a, s) ← r A p; f a A s : Except DecodeError (β × Nat)) = _
  rw [h]
  rfl
theorem dk_map {α β : Type} {r : Reader DecodeError α} {g : α → β} {A : ByteArray} {p s : Nat} {a : α} (h : r A p = .ok (a, s)) : (g <$> r) A p = .ok (g a, s) := by
  show (do let (a, s) ← r A p; .ok (g a, s) : Except DecodeError (β × Nat)) = _
  rw [h]
  rfl
theorem dk_u2 {A : ByteArray} {p : Nat} {a b : UInt8} (h : A.data.toList[p]? = some a) (h2 : A.data.toList[p + 1]? = some b) : (Reader.u2 : Reader DecodeError Nat) A p = .ok (a.toNat * 256 + b.toNat, p + 2) := by
  show (Reader.u1 >>= fun hi => Reader.u1 >>= fun lo => Pure.pure (hi * 256 + lo) : Reader DecodeError Nat) A p = _
  rw [dk_bind (dk_u1 h), dk_bind (dk_u1 h2)]
  rfl
theorem dk_of {code : ByteArray} {pc n : Nat} {i : Instr} (h : Decoder.instr pc code pc = .ok (i, pc + n)) : decode code pc = .ok (i, n) := by
  have e : decode code pc = (match Decoder.instr pc code pc with | .error x => .error x | .ok (j, s) => .ok (j, s - pc)) := by
    show (do let (j, s) ← Decoder.instr pc code pc; Pure.pure (j, s - pc) : Except DecodeError (Instr × Nat)) = _
    cases Decoder.instr pc code pc <;> rfl
  rw [e, h]
  show Except.ok (i, pc + n - pc) = _
  rw [Nat.add_sub_cancel_left]
theorem dk_2 {code : ByteArray} {pc : Nat} (h : DkAt code pc [2]) : decode code pc = .ok (.iconst (-1), 1) := dk_of ((dk_bind (dk_u1 (h 0 _ rfl))).trans rfl)
theorem dk_3 {code : ByteArray} {pc : Nat} (h : DkAt code pc [3]) : decode code pc = .ok (.iconst 0, 1) := dk_of ((dk_bind (dk_u1 (h 0 _ rfl))).trans rfl)
theorem dk_4 {code : ByteArray} {pc : Nat} (h : DkAt code pc [4]) : decode code pc = .ok (.iconst 1, 1) := dk_of ((dk_bind (dk_u1 (h 0 _ rfl))).trans rfl)
theorem dk_5 {code : ByteArray} {pc : Nat} (h : DkAt code pc [5]) : decode code pc = .ok (.iconst 2, 1) := dk_of ((dk_bind (dk_u1 (h 0 _ rfl))).trans rfl)
theorem dk_6 {code : ByteArray} {pc : Nat} (h : DkAt code pc [6]) : decode code pc = .ok (.iconst 3, 1) := dk_of ((dk_bind (dk_u1 (h 0 _ rfl))).trans rfl)
theorem dk_7 {code : ByteArray} {pc : Nat} (h : DkAt code pc [7]) : decode code pc = .ok (.iconst 4, 1) := dk_of ((dk_bind (dk_u1 (h 0 _ rfl))).trans rfl)
theorem dk_8 {code : ByteArray} {pc : Nat} (h : DkAt code pc [8]) : decode code pc = .ok (.iconst 5, 1) := dk_of ((dk_bind (dk_u1 (h 0 _ rfl))).trans rfl)
theorem dk_9 {code : ByteArray} {pc : Nat} (h : DkAt code pc [9]) : decode code pc = .ok (.lconst 0, 1) := dk_of ((dk_bind (dk_u1 (h 0 _ rfl))).trans rfl)
theorem dk_10 {code : ByteArray} {pc : Nat} (h : DkAt code pc [10]) : decode code pc = .ok (.lconst 1, 1) := dk_of ((dk_bind (dk_u1 (h 0 _ rfl))).trans rfl)
theorem dk_16 {code : ByteArray} {pc : Nat} (a : UInt8) (h : DkAt code pc [16, a]) : decode code pc = .ok (.bipush (Reader.signed 8 a.toNat), 2) := dk_of ((dk_bind (dk_u1 (h 0 _ rfl))).trans ((dk_bind (dk_map (dk_u1 (h 1 _ rfl)))).trans rfl))
theorem dk_17 {code : ByteArray} {pc : Nat} (a b : UInt8) (h : DkAt code pc [17, a, b]) : decode code pc = .ok (.sipush (Reader.signed 16 (a.toNat * 256 + b.toNat)), 3) := dk_of ((dk_bind (dk_u1 (h 0 _ rfl))).trans ((dk_bind (dk_map (dk_u2 (h 1 _ rfl) (h 2 _ rfl)))).trans rfl))
theorem dk_18 {code : ByteArray} {pc : Nat} (a : UInt8) (h : DkAt code pc [18, a]) : decode code pc = .ok (.ldc a.toNat, 2) := dk_of ((dk_bind (dk_u1 (h 0 _ rfl))).trans ((dk_bind (dk_u1 (h 1 _ rfl))).trans rfl))
theorem dk_19 {code : ByteArray} {pc : Nat} (a b : UInt8) (h : DkAt code pc [19, a, b]) : decode code pc = .ok (.ldc_w (a.toNat * 256 + b.toNat), 3) := dk_of ((dk_bind (dk_u1 (h 0 _ rfl))).trans ((dk_bind (dk_u2 (h 1 _ rfl) (h 2 _ rfl))).trans rfl))
theorem dk_20 {code : ByteArray} {pc : Nat} (a b : UInt8) (h : DkAt code pc [20, a, b]) : decode code pc = .ok (.ldc2_w (a.toNat * 256 + b.toNat), 3) := dk_of ((dk_bind (dk_u1 (h 0 _ rfl))).trans ((dk_bind (dk_u2 (h 1 _ rfl) (h 2 _ rfl))).trans rfl))
theorem dk_21 {code : ByteArray} {pc : Nat} (a : UInt8) (h : DkAt code pc [21, a]) : decode code pc = .ok (.iload a.toNat, 2) := dk_of ((dk_bind (dk_u1 (h 0 _ rfl))).trans ((dk_bind (dk_u1 (h 1 _ rfl))).trans rfl))
theorem dk_22 {code : ByteArray} {pc : Nat} (a : UInt8) (h : DkAt code pc [22, a]) : decode code pc = .ok (.lload a.toNat, 2) := dk_of ((dk_bind (dk_u1 (h 0 _ rfl))).trans ((dk_bind (dk_u1 (h 1 _ rfl))).trans rfl))
theorem dk_25 {code : ByteArray} {pc : Nat} (a : UInt8) (h : DkAt code pc [25, a]) : decode code pc = .ok (.aload a.toNat, 2) := dk_of ((dk_bind (dk_u1 (h 0 _ rfl))).trans ((dk_bind (dk_u1 (h 1 _ rfl))).trans rfl))
theorem dk_26 {code : ByteArray} {pc : Nat} (h : DkAt code pc [26]) : decode code pc = .ok (.iload_n 0, 1) := dk_of ((dk_bind (dk_u1 (h 0 _ rfl))).trans rfl)
theorem dk_27 {code : ByteArray} {pc : Nat} (h : DkAt code pc [27]) : decode code pc = .ok (.iload_n 1, 1) := dk_of ((dk_bind (dk_u1 (h 0 _ rfl))).trans rfl)
theorem dk_28 {code : ByteArray} {pc : Nat} (h : DkAt code pc [28]) : decode code pc = .ok (.iload_n 2, 1) := dk_of ((dk_bind (dk_u1 (h 0 _ rfl))).trans rfl)
theorem dk_29 {code : ByteArray} {pc : Nat} (h : DkAt code pc [29]) : decode code pc = .ok (.iload_n 3, 1) := dk_of ((dk_bind (dk_u1 (h 0 _ rfl))).trans rfl)
theorem dk_30 {code : ByteArray} {pc : Nat} (h : DkAt code pc [30]) : decode code pc = .ok (.lload_n 0, 1) := dk_of ((dk_bind (dk_u1 (h 0 _ rfl))).trans rfl)
theorem dk_32 {code : ByteArray} {pc : Nat} (h : DkAt code pc [32]) : decode code pc = .ok (.lload_n 2, 1) := dk_of ((dk_bind (dk_u1 (h 0 _ rfl))).trans rfl)
theorem dk_42 {code : ByteArray} {pc : Nat} (h : DkAt code pc [42]) : decode code pc = .ok (.aload_n 0, 1) := dk_of ((dk_bind (dk_u1 (h 0 _ rfl))).trans rfl)
theorem dk_43 {code : ByteArray} {pc : Nat} (h : DkAt code pc [43]) : decode code pc = .ok (.aload_n 1, 1) := dk_of ((dk_bind (dk_u1 (h 0 _ rfl))).trans rfl)
theorem dk_44 {code : ByteArray} {pc : Nat} (h : DkAt code pc [44]) : decode code pc = .ok (.aload_n 2, 1) := dk_of ((dk_bind (dk_u1 (h 0 _ rfl))).trans rfl)
theorem dk_45 {code : ByteArray} {pc : Nat} (h : DkAt code pc [45]) : decode code pc = .ok (.aload_n 3, 1) := dk_of ((dk_bind (dk_u1 (h 0 _ rfl))).trans rfl)
theorem dk_46 {code : ByteArray} {pc : Nat} (h : DkAt code pc [46]) : decode code pc = .ok (.iaload, 1) := dk_of ((dk_bind (dk_u1 (h 0 _ rfl))).trans rfl)
theorem dk_50 {code : ByteArray} {pc : Nat} (h : DkAt code pc [50]) : decode code pc = .ok (.aaload, 1) := dk_of ((dk_bind (dk_u1 (h 0 _ rfl))).trans rfl)
theorem dk_51 {code : ByteArray} {pc : Nat} (h : DkAt code pc [51]) : decode code pc = .ok (.baload, 1) := dk_of ((dk_bind (dk_u1 (h 0 _ rfl))).trans rfl)
theorem dk_54 {code : ByteArray} {pc : Nat} (a : UInt8) (h : DkAt code pc [54, a]) : decode code pc = .ok (.istore a.toNat, 2) := dk_of ((dk_bind (dk_u1 (h 0 _ rfl))).trans ((dk_bind (dk_u1 (h 1 _ rfl))).trans rfl))
theorem dk_58 {code : ByteArray} {pc : Nat} (a : UInt8) (h : DkAt code pc [58, a]) : decode code pc = .ok (.astore a.toNat, 2) := dk_of ((dk_bind (dk_u1 (h 0 _ rfl))).trans ((dk_bind (dk_u1 (h 1 _ rfl))).trans rfl))
theorem dk_59 {code : ByteArray} {pc : Nat} (h : DkAt code pc [59]) : decode code pc = .ok (.istore_n 0, 1) := dk_of ((dk_bind (dk_u1 (h 0 _ rfl))).trans rfl)
theorem dk_60 {code : ByteArray} {pc : Nat} (h : DkAt code pc [60]) : decode code pc = .ok (.istore_n 1, 1) := dk_of ((dk_bind (dk_u1 (h 0 _ rfl))).trans rfl)
theorem dk_61 {code : ByteArray} {pc : Nat} (h : DkAt code pc [61]) : decode code pc = .ok (.istore_n 2, 1) := dk_of ((dk_bind (dk_u1 (h 0 _ rfl))).trans rfl)
theorem dk_62 {code : ByteArray} {pc : Nat} (h : DkAt code pc [62]) : decode code pc = .ok (.istore_n 3, 1) := dk_of ((dk_bind (dk_u1 (h 0 _ rfl))).trans rfl)
theorem dk_76 {code : ByteArray} {pc : Nat} (h : DkAt code pc [76]) : decode code pc = .ok (.astore_n 1, 1) := dk_of ((dk_bind (dk_u1 (h 0 _ rfl))).trans rfl)
theorem dk_77 {code : ByteArray} {pc : Nat} (h : DkAt code pc [77]) : decode code pc = .ok (.astore_n 2, 1) := dk_of ((dk_bind (dk_u1 (h 0 _ rfl))).trans rfl)
theorem dk_78 {code : ByteArray} {pc : Nat} (h : DkAt code pc [78]) : decode code pc = .ok (.astore_n 3, 1) := dk_of ((dk_bind (dk_u1 (h 0 _ rfl))).trans rfl)
theorem dk_79 {code : ByteArray} {pc : Nat} (h : DkAt code pc [79]) : decode code pc = .ok (.iastore, 1) := dk_of ((dk_bind (dk_u1 (h 0 _ rfl))).trans rfl)
theorem dk_83 {code : ByteArray} {pc : Nat} (h : DkAt code pc [83]) : decode code pc = .ok (.aastore, 1) := dk_of ((dk_bind (dk_u1 (h 0 _ rfl))).trans rfl)
theorem dk_84 {code : ByteArray} {pc : Nat} (h : DkAt code pc [84]) : decode code pc = .ok (.bastore, 1) := dk_of ((dk_bind (dk_u1 (h 0 _ rfl))).trans rfl)
theorem dk_87 {code : ByteArray} {pc : Nat} (h : DkAt code pc [87]) : decode code pc = .ok (.pop, 1) := dk_of ((dk_bind (dk_u1 (h 0 _ rfl))).trans rfl)
theorem dk_89 {code : ByteArray} {pc : Nat} (h : DkAt code pc [89]) : decode code pc = .ok (.dup, 1) := dk_of ((dk_bind (dk_u1 (h 0 _ rfl))).trans rfl)
theorem dk_92 {code : ByteArray} {pc : Nat} (h : DkAt code pc [92]) : decode code pc = .ok (.dup2, 1) := dk_of ((dk_bind (dk_u1 (h 0 _ rfl))).trans rfl)
theorem dk_96 {code : ByteArray} {pc : Nat} (h : DkAt code pc [96]) : decode code pc = .ok (.iadd, 1) := dk_of ((dk_bind (dk_u1 (h 0 _ rfl))).trans rfl)
theorem dk_100 {code : ByteArray} {pc : Nat} (h : DkAt code pc [100]) : decode code pc = .ok (.isub, 1) := dk_of ((dk_bind (dk_u1 (h 0 _ rfl))).trans rfl)
theorem dk_101 {code : ByteArray} {pc : Nat} (h : DkAt code pc [101]) : decode code pc = .ok (.lsub, 1) := dk_of ((dk_bind (dk_u1 (h 0 _ rfl))).trans rfl)
theorem dk_104 {code : ByteArray} {pc : Nat} (h : DkAt code pc [104]) : decode code pc = .ok (.imul, 1) := dk_of ((dk_bind (dk_u1 (h 0 _ rfl))).trans rfl)
theorem dk_108 {code : ByteArray} {pc : Nat} (h : DkAt code pc [108]) : decode code pc = .ok (.idiv, 1) := dk_of ((dk_bind (dk_u1 (h 0 _ rfl))).trans rfl)
theorem dk_112 {code : ByteArray} {pc : Nat} (h : DkAt code pc [112]) : decode code pc = .ok (.irem, 1) := dk_of ((dk_bind (dk_u1 (h 0 _ rfl))).trans rfl)
theorem dk_116 {code : ByteArray} {pc : Nat} (h : DkAt code pc [116]) : decode code pc = .ok (.ineg, 1) := dk_of ((dk_bind (dk_u1 (h 0 _ rfl))).trans rfl)
theorem dk_120 {code : ByteArray} {pc : Nat} (h : DkAt code pc [120]) : decode code pc = .ok (.ishl, 1) := dk_of ((dk_bind (dk_u1 (h 0 _ rfl))).trans rfl)
theorem dk_122 {code : ByteArray} {pc : Nat} (h : DkAt code pc [122]) : decode code pc = .ok (.ishr, 1) := dk_of ((dk_bind (dk_u1 (h 0 _ rfl))).trans rfl)
theorem dk_124 {code : ByteArray} {pc : Nat} (h : DkAt code pc [124]) : decode code pc = .ok (.iushr, 1) := dk_of ((dk_bind (dk_u1 (h 0 _ rfl))).trans rfl)
theorem dk_126 {code : ByteArray} {pc : Nat} (h : DkAt code pc [126]) : decode code pc = .ok (.iand, 1) := dk_of ((dk_bind (dk_u1 (h 0 _ rfl))).trans rfl)
theorem dk_128 {code : ByteArray} {pc : Nat} (h : DkAt code pc [128]) : decode code pc = .ok (.ior, 1) := dk_of ((dk_bind (dk_u1 (h 0 _ rfl))).trans rfl)
theorem dk_130 {code : ByteArray} {pc : Nat} (h : DkAt code pc [130]) : decode code pc = .ok (.ixor, 1) := dk_of ((dk_bind (dk_u1 (h 0 _ rfl))).trans rfl)
theorem dk_132 {code : ByteArray} {pc : Nat} (a b : UInt8) (h : DkAt code pc [132, a, b]) : decode code pc = .ok (.iinc a.toNat (Reader.signed 8 b.toNat), 3) := dk_of ((dk_bind (dk_u1 (h 0 _ rfl))).trans ((dk_bind (dk_u1 (h 1 _ rfl))).trans ((dk_bind (dk_map (dk_u1 (h 2 _ rfl)))).trans rfl)))
theorem dk_133 {code : ByteArray} {pc : Nat} (h : DkAt code pc [133]) : decode code pc = .ok (.i2l, 1) := dk_of ((dk_bind (dk_u1 (h 0 _ rfl))).trans rfl)
theorem dk_148 {code : ByteArray} {pc : Nat} (h : DkAt code pc [148]) : decode code pc = .ok (.lcmp, 1) := dk_of ((dk_bind (dk_u1 (h 0 _ rfl))).trans rfl)
theorem dk_153 {code : ByteArray} {pc : Nat} (a b : UInt8) (h : DkAt code pc [153, a, b]) : decode code pc = .ok (.ifCond .eq (Reader.signed 16 (a.toNat * 256 + b.toNat)), 3) := dk_of ((dk_bind (dk_u1 (h 0 _ rfl))).trans ((dk_bind (dk_map (dk_u2 (h 1 _ rfl) (h 2 _ rfl)))).trans rfl))
theorem dk_154 {code : ByteArray} {pc : Nat} (a b : UInt8) (h : DkAt code pc [154, a, b]) : decode code pc = .ok (.ifCond .ne (Reader.signed 16 (a.toNat * 256 + b.toNat)), 3) := dk_of ((dk_bind (dk_u1 (h 0 _ rfl))).trans ((dk_bind (dk_map (dk_u2 (h 1 _ rfl) (h 2 _ rfl)))).trans rfl))
theorem dk_155 {code : ByteArray} {pc : Nat} (a b : UInt8) (h : DkAt code pc [155, a, b]) : decode code pc = .ok (.ifCond .lt (Reader.signed 16 (a.toNat * 256 + b.toNat)), 3) := dk_of ((dk_bind (dk_u1 (h 0 _ rfl))).trans ((dk_bind (dk_map (dk_u2 (h 1 _ rfl) (h 2 _ rfl)))).trans rfl))
theorem dk_156 {code : ByteArray} {pc : Nat} (a b : UInt8) (h : DkAt code pc [156, a, b]) : decode code pc = .ok (.ifCond .ge (Reader.signed 16 (a.toNat * 256 + b.toNat)), 3) := dk_of ((dk_bind (dk_u1 (h 0 _ rfl))).trans ((dk_bind (dk_map (dk_u2 (h 1 _ rfl) (h 2 _ rfl)))).trans rfl))
theorem dk_157 {code : ByteArray} {pc : Nat} (a b : UInt8) (h : DkAt code pc [157, a, b]) : decode code pc = .ok (.ifCond .gt (Reader.signed 16 (a.toNat * 256 + b.toNat)), 3) := dk_of ((dk_bind (dk_u1 (h 0 _ rfl))).trans ((dk_bind (dk_map (dk_u2 (h 1 _ rfl) (h 2 _ rfl)))).trans rfl))
theorem dk_158 {code : ByteArray} {pc : Nat} (a b : UInt8) (h : DkAt code pc [158, a, b]) : decode code pc = .ok (.ifCond .le (Reader.signed 16 (a.toNat * 256 + b.toNat)), 3) := dk_of ((dk_bind (dk_u1 (h 0 _ rfl))).trans ((dk_bind (dk_map (dk_u2 (h 1 _ rfl) (h 2 _ rfl)))).trans rfl))
theorem dk_159 {code : ByteArray} {pc : Nat} (a b : UInt8) (h : DkAt code pc [159, a, b]) : decode code pc = .ok (.if_icmp .eq (Reader.signed 16 (a.toNat * 256 + b.toNat)), 3) := dk_of ((dk_bind (dk_u1 (h 0 _ rfl))).trans ((dk_bind (dk_map (dk_u2 (h 1 _ rfl) (h 2 _ rfl)))).trans rfl))
theorem dk_160 {code : ByteArray} {pc : Nat} (a b : UInt8) (h : DkAt code pc [160, a, b]) : decode code pc = .ok (.if_icmp .ne (Reader.signed 16 (a.toNat * 256 + b.toNat)), 3) := dk_of ((dk_bind (dk_u1 (h 0 _ rfl))).trans ((dk_bind (dk_map (dk_u2 (h 1 _ rfl) (h 2 _ rfl)))).trans rfl))
theorem dk_161 {code : ByteArray} {pc : Nat} (a b : UInt8) (h : DkAt code pc [161, a, b]) : decode code pc = .ok (.if_icmp .lt (Reader.signed 16 (a.toNat * 256 + b.toNat)), 3) := dk_of ((dk_bind (dk_u1 (h 0 _ rfl))).trans ((dk_bind (dk_map (dk_u2 (h 1 _ rfl) (h 2 _ rfl)))).trans rfl))
theorem dk_162 {code : ByteArray} {pc : Nat} (a b : UInt8) (h : DkAt code pc [162, a, b]) : decode code pc = .ok (.if_icmp .ge (Reader.signed 16 (a.toNat * 256 + b.toNat)), 3) := dk_of ((dk_bind (dk_u1 (h 0 _ rfl))).trans ((dk_bind (dk_map (dk_u2 (h 1 _ rfl) (h 2 _ rfl)))).trans rfl))
theorem dk_163 {code : ByteArray} {pc : Nat} (a b : UInt8) (h : DkAt code pc [163, a, b]) : decode code pc = .ok (.if_icmp .gt (Reader.signed 16 (a.toNat * 256 + b.toNat)), 3) := dk_of ((dk_bind (dk_u1 (h 0 _ rfl))).trans ((dk_bind (dk_map (dk_u2 (h 1 _ rfl) (h 2 _ rfl)))).trans rfl))
theorem dk_164 {code : ByteArray} {pc : Nat} (a b : UInt8) (h : DkAt code pc [164, a, b]) : decode code pc = .ok (.if_icmp .le (Reader.signed 16 (a.toNat * 256 + b.toNat)), 3) := dk_of ((dk_bind (dk_u1 (h 0 _ rfl))).trans ((dk_bind (dk_map (dk_u2 (h 1 _ rfl) (h 2 _ rfl)))).trans rfl))
theorem dk_167 {code : ByteArray} {pc : Nat} (a b : UInt8) (h : DkAt code pc [167, a, b]) : decode code pc = .ok (.goto (Reader.signed 16 (a.toNat * 256 + b.toNat)), 3) := dk_of ((dk_bind (dk_u1 (h 0 _ rfl))).trans ((dk_bind (dk_map (dk_u2 (h 1 _ rfl) (h 2 _ rfl)))).trans rfl))
theorem dk_172 {code : ByteArray} {pc : Nat} (h : DkAt code pc [172]) : decode code pc = .ok (.ireturn, 1) := dk_of ((dk_bind (dk_u1 (h 0 _ rfl))).trans rfl)
theorem dk_176 {code : ByteArray} {pc : Nat} (h : DkAt code pc [176]) : decode code pc = .ok (.areturn, 1) := dk_of ((dk_bind (dk_u1 (h 0 _ rfl))).trans rfl)
theorem dk_177 {code : ByteArray} {pc : Nat} (h : DkAt code pc [177]) : decode code pc = .ok (.return_, 1) := dk_of ((dk_bind (dk_u1 (h 0 _ rfl))).trans rfl)
theorem dk_178 {code : ByteArray} {pc : Nat} (a b : UInt8) (h : DkAt code pc [178, a, b]) : decode code pc = .ok (.getstatic (a.toNat * 256 + b.toNat), 3) := dk_of ((dk_bind (dk_u1 (h 0 _ rfl))).trans ((dk_bind (dk_u2 (h 1 _ rfl) (h 2 _ rfl))).trans rfl))
theorem dk_180 {code : ByteArray} {pc : Nat} (a b : UInt8) (h : DkAt code pc [180, a, b]) : decode code pc = .ok (.getfield (a.toNat * 256 + b.toNat), 3) := dk_of ((dk_bind (dk_u1 (h 0 _ rfl))).trans ((dk_bind (dk_u2 (h 1 _ rfl) (h 2 _ rfl))).trans rfl))
theorem dk_181 {code : ByteArray} {pc : Nat} (a b : UInt8) (h : DkAt code pc [181, a, b]) : decode code pc = .ok (.putfield (a.toNat * 256 + b.toNat), 3) := dk_of ((dk_bind (dk_u1 (h 0 _ rfl))).trans ((dk_bind (dk_u2 (h 1 _ rfl) (h 2 _ rfl))).trans rfl))
theorem dk_182 {code : ByteArray} {pc : Nat} (a b : UInt8) (h : DkAt code pc [182, a, b]) : decode code pc = .ok (.invokevirtual (a.toNat * 256 + b.toNat), 3) := dk_of ((dk_bind (dk_u1 (h 0 _ rfl))).trans ((dk_bind (dk_u2 (h 1 _ rfl) (h 2 _ rfl))).trans rfl))
theorem dk_183 {code : ByteArray} {pc : Nat} (a b : UInt8) (h : DkAt code pc [183, a, b]) : decode code pc = .ok (.invokespecial (a.toNat * 256 + b.toNat), 3) := dk_of ((dk_bind (dk_u1 (h 0 _ rfl))).trans ((dk_bind (dk_u2 (h 1 _ rfl) (h 2 _ rfl))).trans rfl))
theorem dk_184 {code : ByteArray} {pc : Nat} (a b : UInt8) (h : DkAt code pc [184, a, b]) : decode code pc = .ok (.invokestatic (a.toNat * 256 + b.toNat), 3) := dk_of ((dk_bind (dk_u1 (h 0 _ rfl))).trans ((dk_bind (dk_u2 (h 1 _ rfl) (h 2 _ rfl))).trans rfl))
theorem dk_187 {code : ByteArray} {pc : Nat} (a b : UInt8) (h : DkAt code pc [187, a, b]) : decode code pc = .ok (.new (a.toNat * 256 + b.toNat), 3) := dk_of ((dk_bind (dk_u1 (h 0 _ rfl))).trans ((dk_bind (dk_u2 (h 1 _ rfl) (h 2 _ rfl))).trans rfl))
theorem dk_188_4 {code : ByteArray} {pc : Nat} (h : DkAt code pc [188, 4]) : decode code pc = .ok (.newarray .boolean, 2) := dk_of ((dk_bind (dk_u1 (h 0 _ rfl))).trans ((dk_bind (dk_u1 (h 1 _ rfl))).trans rfl))
theorem dk_188_10 {code : ByteArray} {pc : Nat} (h : DkAt code pc [188, 10]) : decode code pc = .ok (.newarray .int, 2) := dk_of ((dk_bind (dk_u1 (h 0 _ rfl))).trans ((dk_bind (dk_u1 (h 1 _ rfl))).trans rfl))
theorem dk_189 {code : ByteArray} {pc : Nat} (a b : UInt8) (h : DkAt code pc [189, a, b]) : decode code pc = .ok (.anewarray (a.toNat * 256 + b.toNat), 3) := dk_of ((dk_bind (dk_u1 (h 0 _ rfl))).trans ((dk_bind (dk_u2 (h 1 _ rfl) (h 2 _ rfl))).trans rfl))
theorem dk_190 {code : ByteArray} {pc : Nat} (h : DkAt code pc [190]) : decode code pc = .ok (.arraylength, 1) := dk_of ((dk_bind (dk_u1 (h 0 _ rfl))).trans rfl)
theorem dk_192 {code : ByteArray} {pc : Nat} (a b : UInt8) (h : DkAt code pc [192, a, b]) : decode code pc = .ok (.checkcast (a.toNat * 256 + b.toNat), 3) := dk_of ((dk_bind (dk_u1 (h 0 _ rfl))).trans ((dk_bind (dk_u2 (h 1 _ rfl) (h 2 _ rfl))).trans rfl))

/-! java/lang/Number -/
set_option maxRecDepth 100000
def RJ0 : String := "java/lang/Number"
abbrev cJ0_init : ByteArray := prog_21_method_1_code
def yJ0_init : MethodName := ⟨RJ0, "<init>", "()V"⟩
theorem dJ0_init_0 : decode cJ0_init 0 = .ok (.aload_n 0, 1) := by decide +kernel
theorem dJ0_init_1 : decode cJ0_init 1 = .ok (.invokespecial 1, 3) := by decide +kernel
theorem dJ0_init_4 : decode cJ0_init 4 = .ok (.return_, 1) := by decide +kernel
theorem q64 : (Jvm.Cond.initialized "java/lang/Number") ∈ lw_all := lw_g (lw_at lw_m1 8 rfl) rfl
theorem q365 : (Jvm.Cond.instanceMethod ({ cls := "java/lang/Number", name := "<init>", desc := "()V" } : Jvm.MethodName)) ∈ lw_all := lw_g (lw_at lw_m2 69 rfl) rfl
theorem q366 : (Jvm.Cond.code ({ cls := "java/lang/Number", name := "<init>", desc := "()V" } : Jvm.MethodName) prog_21_method_1_code (1 : Nat) (Option.none : Option Jvm.ClassFile.FieldType)) ∈ lw_all := lw_g (lw_at lw_m2 70 rfl) rfl
theorem q367 : (Jvm.Cond.methodLink "java/lang/Number" (1 : Nat) ({ cls := "java/lang/Object", name := "<init>", desc := "()V" } : Jvm.MethodName)) ∈ lw_all := lw_g (lw_at lw_m2 71 rfl) rfl

/-! java/lang/Integer -/
set_option maxRecDepth 100000
def RJ1 : String := "java/lang/Integer"
def TJ1 : u_T := fun k => match k with
  | _ => ("java/lang/Integer", "value", "I", true)
def tyJ1 : Nat → FieldType := fun k => match k with
  | _ => .int
abbrev wsJ10 : List Cond := u_ws RJ1 TJ1 1
theorem nmJ1 : ∀ a, a < 1 → ∀ b, b < 1 → a ≠ b → (TJ1 a).2.1 ≠ (TJ1 b).2.1 := by decide +kernel
theorem tyJ1_ok : ∀ k, k < 1 → parseFieldDescriptor (TJ1 k).2.2.1 = some (tyJ1 k) := by decide +kernel
abbrev cJ1_bitCount : ByteArray := prog_17_method_49_code
def yJ1_bitCount : MethodName := ⟨RJ1, "bitCount", "(I)I"⟩
def dkwJ1_bitCount_2 : List UInt8 := [26, 16, 63, 126, 172]
abbrev dktJ1_bitCount_2 : List UInt8 := dkwJ1_bitCount_2 ++ []
def dkwJ1_bitCount_1 : List UInt8 := [26, 26, 7, 124, 96, 19, 1, 11, 126, 59, 26, 26, 16, 8, 124, 96, 59, 26, 26, 16, 16, 124, 96, 59]
abbrev dktJ1_bitCount_1 : List UInt8 := dkwJ1_bitCount_1 ++ dktJ1_bitCount_2
def dkwJ1_bitCount_0 : List UInt8 := [26, 26, 4, 124, 19, 1, 9, 126, 100, 59, 26, 19, 1, 10, 126, 26, 5, 124, 19, 1, 10, 126, 96, 59]
abbrev dktJ1_bitCount_0 : List UInt8 := dkwJ1_bitCount_0 ++ dktJ1_bitCount_1
theorem dksJ1_bitCount_0 : cJ1_bitCount.data.toList.drop 0 = dktJ1_bitCount_0 := by decide +kernel
theorem dksJ1_bitCount_1 : cJ1_bitCount.data.toList.drop 24 = dktJ1_bitCount_1 := dk_seg dksJ1_bitCount_0 24 rfl rfl
theorem dksJ1_bitCount_2 : cJ1_bitCount.data.toList.drop 48 = dktJ1_bitCount_2 := dk_seg dksJ1_bitCount_1 24 rfl rfl
theorem dJ1_bitCount_0 : decode cJ1_bitCount 0 = .ok (.iload_n 0, 1) := dk_26 (dk_at dksJ1_bitCount_0 0 rfl rfl)
theorem dJ1_bitCount_1 : decode cJ1_bitCount 1 = .ok (.iload_n 0, 1) := dk_26 (dk_at dksJ1_bitCount_0 1 rfl rfl)
theorem dJ1_bitCount_2 : decode cJ1_bitCount 2 = .ok (.iconst 1, 1) := dk_4 (dk_at dksJ1_bitCount_0 2 rfl rfl)
theorem dJ1_bitCount_3 : decode cJ1_bitCount 3 = .ok (.iushr, 1) := dk_124 (dk_at dksJ1_bitCount_0 3 rfl rfl)
theorem dJ1_bitCount_4 : decode cJ1_bitCount 4 = .ok (.ldc_w 265, 3) := dk_19 1 9 (dk_at dksJ1_bitCount_0 4 rfl rfl)
theorem dJ1_bitCount_7 : decode cJ1_bitCount 7 = .ok (.iand, 1) := dk_126 (dk_at dksJ1_bitCount_0 7 rfl rfl)
theorem dJ1_bitCount_8 : decode cJ1_bitCount 8 = .ok (.isub, 1) := dk_100 (dk_at dksJ1_bitCount_0 8 rfl rfl)
theorem dJ1_bitCount_9 : decode cJ1_bitCount 9 = .ok (.istore_n 0, 1) := dk_59 (dk_at dksJ1_bitCount_0 9 rfl rfl)
theorem dJ1_bitCount_10 : decode cJ1_bitCount 10 = .ok (.iload_n 0, 1) := dk_26 (dk_at dksJ1_bitCount_0 10 rfl rfl)
theorem dJ1_bitCount_11 : decode cJ1_bitCount 11 = .ok (.ldc_w 266, 3) := dk_19 1 10 (dk_at dksJ1_bitCount_0 11 rfl rfl)
theorem dJ1_bitCount_14 : decode cJ1_bitCount 14 = .ok (.iand, 1) := dk_126 (dk_at dksJ1_bitCount_0 14 rfl rfl)
theorem dJ1_bitCount_15 : decode cJ1_bitCount 15 = .ok (.iload_n 0, 1) := dk_26 (dk_at dksJ1_bitCount_0 15 rfl rfl)
theorem dJ1_bitCount_16 : decode cJ1_bitCount 16 = .ok (.iconst 2, 1) := dk_5 (dk_at dksJ1_bitCount_0 16 rfl rfl)
theorem dJ1_bitCount_17 : decode cJ1_bitCount 17 = .ok (.iushr, 1) := dk_124 (dk_at dksJ1_bitCount_0 17 rfl rfl)
theorem dJ1_bitCount_18 : decode cJ1_bitCount 18 = .ok (.ldc_w 266, 3) := dk_19 1 10 (dk_at dksJ1_bitCount_0 18 rfl rfl)
theorem dJ1_bitCount_21 : decode cJ1_bitCount 21 = .ok (.iand, 1) := dk_126 (dk_at dksJ1_bitCount_0 21 rfl rfl)
theorem dJ1_bitCount_22 : decode cJ1_bitCount 22 = .ok (.iadd, 1) := dk_96 (dk_at dksJ1_bitCount_0 22 rfl rfl)
theorem dJ1_bitCount_23 : decode cJ1_bitCount 23 = .ok (.istore_n 0, 1) := dk_59 (dk_at dksJ1_bitCount_0 23 rfl rfl)
theorem dJ1_bitCount_24 : decode cJ1_bitCount 24 = .ok (.iload_n 0, 1) := dk_26 (dk_at dksJ1_bitCount_1 0 rfl rfl)
theorem dJ1_bitCount_25 : decode cJ1_bitCount 25 = .ok (.iload_n 0, 1) := dk_26 (dk_at dksJ1_bitCount_1 1 rfl rfl)
theorem dJ1_bitCount_26 : decode cJ1_bitCount 26 = .ok (.iconst 4, 1) := dk_7 (dk_at dksJ1_bitCount_1 2 rfl rfl)
theorem dJ1_bitCount_27 : decode cJ1_bitCount 27 = .ok (.iushr, 1) := dk_124 (dk_at dksJ1_bitCount_1 3 rfl rfl)
theorem dJ1_bitCount_28 : decode cJ1_bitCount 28 = .ok (.iadd, 1) := dk_96 (dk_at dksJ1_bitCount_1 4 rfl rfl)
theorem dJ1_bitCount_29 : decode cJ1_bitCount 29 = .ok (.ldc_w 267, 3) := dk_19 1 11 (dk_at dksJ1_bitCount_1 5 rfl rfl)
theorem dJ1_bitCount_32 : decode cJ1_bitCount 32 = .ok (.iand, 1) := dk_126 (dk_at dksJ1_bitCount_1 8 rfl rfl)
theorem dJ1_bitCount_33 : decode cJ1_bitCount 33 = .ok (.istore_n 0, 1) := dk_59 (dk_at dksJ1_bitCount_1 9 rfl rfl)
theorem dJ1_bitCount_34 : decode cJ1_bitCount 34 = .ok (.iload_n 0, 1) := dk_26 (dk_at dksJ1_bitCount_1 10 rfl rfl)
theorem dJ1_bitCount_35 : decode cJ1_bitCount 35 = .ok (.iload_n 0, 1) := dk_26 (dk_at dksJ1_bitCount_1 11 rfl rfl)
theorem dJ1_bitCount_36 : decode cJ1_bitCount 36 = .ok (.bipush 8, 2) := dk_16 8 (dk_at dksJ1_bitCount_1 12 rfl rfl)
theorem dJ1_bitCount_38 : decode cJ1_bitCount 38 = .ok (.iushr, 1) := dk_124 (dk_at dksJ1_bitCount_1 14 rfl rfl)
theorem dJ1_bitCount_39 : decode cJ1_bitCount 39 = .ok (.iadd, 1) := dk_96 (dk_at dksJ1_bitCount_1 15 rfl rfl)
theorem dJ1_bitCount_40 : decode cJ1_bitCount 40 = .ok (.istore_n 0, 1) := dk_59 (dk_at dksJ1_bitCount_1 16 rfl rfl)
theorem dJ1_bitCount_41 : decode cJ1_bitCount 41 = .ok (.iload_n 0, 1) := dk_26 (dk_at dksJ1_bitCount_1 17 rfl rfl)
theorem dJ1_bitCount_42 : decode cJ1_bitCount 42 = .ok (.iload_n 0, 1) := dk_26 (dk_at dksJ1_bitCount_1 18 rfl rfl)
theorem dJ1_bitCount_43 : decode cJ1_bitCount 43 = .ok (.bipush 16, 2) := dk_16 16 (dk_at dksJ1_bitCount_1 19 rfl rfl)
theorem dJ1_bitCount_45 : decode cJ1_bitCount 45 = .ok (.iushr, 1) := dk_124 (dk_at dksJ1_bitCount_1 21 rfl rfl)
theorem dJ1_bitCount_46 : decode cJ1_bitCount 46 = .ok (.iadd, 1) := dk_96 (dk_at dksJ1_bitCount_1 22 rfl rfl)
theorem dJ1_bitCount_47 : decode cJ1_bitCount 47 = .ok (.istore_n 0, 1) := dk_59 (dk_at dksJ1_bitCount_1 23 rfl rfl)
theorem dJ1_bitCount_48 : decode cJ1_bitCount 48 = .ok (.iload_n 0, 1) := dk_26 (dk_at dksJ1_bitCount_2 0 rfl rfl)
theorem dJ1_bitCount_49 : decode cJ1_bitCount 49 = .ok (.bipush 63, 2) := dk_16 63 (dk_at dksJ1_bitCount_2 1 rfl rfl)
theorem dJ1_bitCount_51 : decode cJ1_bitCount 51 = .ok (.iand, 1) := dk_126 (dk_at dksJ1_bitCount_2 3 rfl rfl)
theorem dJ1_bitCount_52 : decode cJ1_bitCount 52 = .ok (.ireturn, 1) := dk_172 (dk_at dksJ1_bitCount_2 4 rfl rfl)
abbrev cJ1_numberOfTrailingZeros : ByteArray := prog_17_method_48_code
def yJ1_numberOfTrailingZeros : MethodName := ⟨RJ1, "numberOfTrailingZeros", "(I)I"⟩
def dkwJ1_numberOfTrailingZeros_3 : List UInt8 := [5, 124, 59, 27, 26, 4, 124, 96, 172]
abbrev dktJ1_numberOfTrailingZeros_3 : List UInt8 := dkwJ1_numberOfTrailingZeros_3 ++ []
def dkwJ1_numberOfTrailingZeros_2 : List UInt8 := [124, 59, 26, 16, 16, 164, 0, 10, 132, 1, 4, 26, 7, 124, 59, 26, 7, 164, 0, 10, 132, 1, 2, 26]
abbrev dktJ1_numberOfTrailingZeros_2 : List UInt8 := dkwJ1_numberOfTrailingZeros_2 ++ dktJ1_numberOfTrailingZeros_3
def dkwJ1_numberOfTrailingZeros_1 : List UInt8 := [164, 0, 11, 132, 1, 16, 26, 16, 16, 124, 59, 26, 17, 1, 0, 164, 0, 11, 132, 1, 8, 26, 16, 8]
abbrev dktJ1_numberOfTrailingZeros_1 : List UInt8 := dkwJ1_numberOfTrailingZeros_1 ++ dktJ1_numberOfTrailingZeros_2
def dkwJ1_numberOfTrailingZeros_0 : List UInt8 := [26, 2, 130, 26, 4, 100, 126, 59, 26, 157, 0, 8, 26, 16, 32, 126, 172, 4, 60, 26, 19, 1, 8]
abbrev dktJ1_numberOfTrailingZeros_0 : List UInt8 := dkwJ1_numberOfTrailingZeros_0 ++ dktJ1_numberOfTrailingZeros_1
theorem dksJ1_numberOfTrailingZeros_0 : cJ1_numberOfTrailingZeros.data.toList.drop 0 = dktJ1_numberOfTrailingZeros_0 := by decide +kernel
theorem dksJ1_numberOfTrailingZeros_1 : cJ1_numberOfTrailingZeros.data.toList.drop 23 = dktJ1_numberOfTrailingZeros_1 := dk_seg dksJ1_numberOfTrailingZeros_0 23 rfl rfl
theorem dksJ1_numberOfTrailingZeros_2 : cJ1_numberOfTrailingZeros.data.toList.drop 47 = dktJ1_numberOfTrailingZeros_2 := dk_seg dksJ1_numberOfTrailingZeros_1 24 rfl rfl
theorem dksJ1_numberOfTrailingZeros_3 : cJ1_numberOfTrailingZeros.data.toList.drop 71 = dktJ1_numberOfTrailingZeros_3 := dk_seg dksJ1_numberOfTrailingZeros_2 24 rfl rfl
theorem dJ1_numberOfTrailingZeros_0 : decode cJ1_numberOfTrailingZeros 0 = .ok (.iload_n 0, 1) := dk_26 (dk_at dksJ1_numberOfTrailingZeros_0 0 rfl rfl)
theorem dJ1_numberOfTrailingZeros_1 : decode cJ1_numberOfTrailingZeros 1 = .ok (.iconst (-1), 1) := dk_2 (dk_at dksJ1_numberOfTrailingZeros_0 1 rfl rfl)
theorem dJ1_numberOfTrailingZeros_2 : decode cJ1_numberOfTrailingZeros 2 = .ok (.ixor, 1) := dk_130 (dk_at dksJ1_numberOfTrailingZeros_0 2 rfl rfl)
theorem dJ1_numberOfTrailingZeros_3 : decode cJ1_numberOfTrailingZeros 3 = .ok (.iload_n 0, 1) := dk_26 (dk_at dksJ1_numberOfTrailingZeros_0 3 rfl rfl)
theorem dJ1_numberOfTrailingZeros_4 : decode cJ1_numberOfTrailingZeros 4 = .ok (.iconst 1, 1) := dk_4 (dk_at dksJ1_numberOfTrailingZeros_0 4 rfl rfl)
theorem dJ1_numberOfTrailingZeros_5 : decode cJ1_numberOfTrailingZeros 5 = .ok (.isub, 1) := dk_100 (dk_at dksJ1_numberOfTrailingZeros_0 5 rfl rfl)
theorem dJ1_numberOfTrailingZeros_6 : decode cJ1_numberOfTrailingZeros 6 = .ok (.iand, 1) := dk_126 (dk_at dksJ1_numberOfTrailingZeros_0 6 rfl rfl)
theorem dJ1_numberOfTrailingZeros_7 : decode cJ1_numberOfTrailingZeros 7 = .ok (.istore_n 0, 1) := dk_59 (dk_at dksJ1_numberOfTrailingZeros_0 7 rfl rfl)
theorem dJ1_numberOfTrailingZeros_8 : decode cJ1_numberOfTrailingZeros 8 = .ok (.iload_n 0, 1) := dk_26 (dk_at dksJ1_numberOfTrailingZeros_0 8 rfl rfl)
theorem dJ1_numberOfTrailingZeros_9 : decode cJ1_numberOfTrailingZeros 9 = .ok (.ifCond .gt 8, 3) := dk_157 0 8 (dk_at dksJ1_numberOfTrailingZeros_0 9 rfl rfl)
theorem dJ1_numberOfTrailingZeros_12 : decode cJ1_numberOfTrailingZeros 12 = .ok (.iload_n 0, 1) := dk_26 (dk_at dksJ1_numberOfTrailingZeros_0 12 rfl rfl)
theorem dJ1_numberOfTrailingZeros_13 : decode cJ1_numberOfTrailingZeros 13 = .ok (.bipush 32, 2) := dk_16 32 (dk_at dksJ1_numberOfTrailingZeros_0 13 rfl rfl)
theorem dJ1_numberOfTrailingZeros_15 : decode cJ1_numberOfTrailingZeros 15 = .ok (.iand, 1) := dk_126 (dk_at dksJ1_numberOfTrailingZeros_0 15 rfl rfl)
theorem dJ1_numberOfTrailingZeros_16 : decode cJ1_numberOfTrailingZeros 16 = .ok (.ireturn, 1) := dk_172 (dk_at dksJ1_numberOfTrailingZeros_0 16 rfl rfl)
theorem dJ1_numberOfTrailingZeros_17 : decode cJ1_numberOfTrailingZeros 17 = .ok (.iconst 1, 1) := dk_4 (dk_at dksJ1_numberOfTrailingZeros_0 17 rfl rfl)
theorem dJ1_numberOfTrailingZeros_18 : decode cJ1_numberOfTrailingZeros 18 = .ok (.istore_n 1, 1) := dk_60 (dk_at dksJ1_numberOfTrailingZeros_0 18 rfl rfl)
theorem dJ1_numberOfTrailingZeros_19 : decode cJ1_numberOfTrailingZeros 19 = .ok (.iload_n 0, 1) := dk_26 (dk_at dksJ1_numberOfTrailingZeros_0 19 rfl rfl)
theorem dJ1_numberOfTrailingZeros_20 : decode cJ1_numberOfTrailingZeros 20 = .ok (.ldc_w 264, 3) := dk_19 1 8 (dk_at dksJ1_numberOfTrailingZeros_0 20 rfl rfl)
theorem dJ1_numberOfTrailingZeros_23 : decode cJ1_numberOfTrailingZeros 23 = .ok (.if_icmp .le 11, 3) := dk_164 0 11 (dk_at dksJ1_numberOfTrailingZeros_1 0 rfl rfl)
theorem dJ1_numberOfTrailingZeros_26 : decode cJ1_numberOfTrailingZeros 26 = .ok (.iinc 1 16, 3) := dk_132 1 16 (dk_at dksJ1_numberOfTrailingZeros_1 3 rfl rfl)
theorem dJ1_numberOfTrailingZeros_29 : decode cJ1_numberOfTrailingZeros 29 = .ok (.iload_n 0, 1) := dk_26 (dk_at dksJ1_numberOfTrailingZeros_1 6 rfl rfl)
theorem dJ1_numberOfTrailingZeros_30 : decode cJ1_numberOfTrailingZeros 30 = .ok (.bipush 16, 2) := dk_16 16 (dk_at dksJ1_numberOfTrailingZeros_1 7 rfl rfl)
theorem dJ1_numberOfTrailingZeros_32 : decode cJ1_numberOfTrailingZeros 32 = .ok (.iushr, 1) := dk_124 (dk_at dksJ1_numberOfTrailingZeros_1 9 rfl rfl)
theorem dJ1_numberOfTrailingZeros_33 : decode cJ1_numberOfTrailingZeros 33 = .ok (.istore_n 0, 1) := dk_59 (dk_at dksJ1_numberOfTrailingZeros_1 10 rfl rfl)
theorem dJ1_numberOfTrailingZeros_34 : decode cJ1_numberOfTrailingZeros 34 = .ok (.iload_n 0, 1) := dk_26 (dk_at dksJ1_numberOfTrailingZeros_1 11 rfl rfl)
theorem dJ1_numberOfTrailingZeros_35 : decode cJ1_numberOfTrailingZeros 35 = .ok (.sipush 256, 3) := dk_17 1 0 (dk_at dksJ1_numberOfTrailingZeros_1 12 rfl rfl)
theorem dJ1_numberOfTrailingZeros_38 : decode cJ1_numberOfTrailingZeros 38 = .ok (.if_icmp .le 11, 3) := dk_164 0 11 (dk_at dksJ1_numberOfTrailingZeros_1 15 rfl rfl)
theorem dJ1_numberOfTrailingZeros_41 : decode cJ1_numberOfTrailingZeros 41 = .ok (.iinc 1 8, 3) := dk_132 1 8 (dk_at dksJ1_numberOfTrailingZeros_1 18 rfl rfl)
theorem dJ1_numberOfTrailingZeros_44 : decode cJ1_numberOfTrailingZeros 44 = .ok (.iload_n 0, 1) := dk_26 (dk_at dksJ1_numberOfTrailingZeros_1 21 rfl rfl)
theorem dJ1_numberOfTrailingZeros_45 : decode cJ1_numberOfTrailingZeros 45 = .ok (.bipush 8, 2) := dk_16 8 (dk_at dksJ1_numberOfTrailingZeros_1 22 rfl rfl)
theorem dJ1_numberOfTrailingZeros_47 : decode cJ1_numberOfTrailingZeros 47 = .ok (.iushr, 1) := dk_124 (dk_at dksJ1_numberOfTrailingZeros_2 0 rfl rfl)
theorem dJ1_numberOfTrailingZeros_48 : decode cJ1_numberOfTrailingZeros 48 = .ok (.istore_n 0, 1) := dk_59 (dk_at dksJ1_numberOfTrailingZeros_2 1 rfl rfl)
theorem dJ1_numberOfTrailingZeros_49 : decode cJ1_numberOfTrailingZeros 49 = .ok (.iload_n 0, 1) := dk_26 (dk_at dksJ1_numberOfTrailingZeros_2 2 rfl rfl)
theorem dJ1_numberOfTrailingZeros_50 : decode cJ1_numberOfTrailingZeros 50 = .ok (.bipush 16, 2) := dk_16 16 (dk_at dksJ1_numberOfTrailingZeros_2 3 rfl rfl)
theorem dJ1_numberOfTrailingZeros_52 : decode cJ1_numberOfTrailingZeros 52 = .ok (.if_icmp .le 10, 3) := dk_164 0 10 (dk_at dksJ1_numberOfTrailingZeros_2 5 rfl rfl)
theorem dJ1_numberOfTrailingZeros_55 : decode cJ1_numberOfTrailingZeros 55 = .ok (.iinc 1 4, 3) := dk_132 1 4 (dk_at dksJ1_numberOfTrailingZeros_2 8 rfl rfl)
theorem dJ1_numberOfTrailingZeros_58 : decode cJ1_numberOfTrailingZeros 58 = .ok (.iload_n 0, 1) := dk_26 (dk_at dksJ1_numberOfTrailingZeros_2 11 rfl rfl)
theorem dJ1_numberOfTrailingZeros_59 : decode cJ1_numberOfTrailingZeros 59 = .ok (.iconst 4, 1) := dk_7 (dk_at dksJ1_numberOfTrailingZeros_2 12 rfl rfl)
theorem dJ1_numberOfTrailingZeros_60 : decode cJ1_numberOfTrailingZeros 60 = .ok (.iushr, 1) := dk_124 (dk_at dksJ1_numberOfTrailingZeros_2 13 rfl rfl)
theorem dJ1_numberOfTrailingZeros_61 : decode cJ1_numberOfTrailingZeros 61 = .ok (.istore_n 0, 1) := dk_59 (dk_at dksJ1_numberOfTrailingZeros_2 14 rfl rfl)
theorem dJ1_numberOfTrailingZeros_62 : decode cJ1_numberOfTrailingZeros 62 = .ok (.iload_n 0, 1) := dk_26 (dk_at dksJ1_numberOfTrailingZeros_2 15 rfl rfl)
theorem dJ1_numberOfTrailingZeros_63 : decode cJ1_numberOfTrailingZeros 63 = .ok (.iconst 4, 1) := dk_7 (dk_at dksJ1_numberOfTrailingZeros_2 16 rfl rfl)
theorem dJ1_numberOfTrailingZeros_64 : decode cJ1_numberOfTrailingZeros 64 = .ok (.if_icmp .le 10, 3) := dk_164 0 10 (dk_at dksJ1_numberOfTrailingZeros_2 17 rfl rfl)
theorem dJ1_numberOfTrailingZeros_67 : decode cJ1_numberOfTrailingZeros 67 = .ok (.iinc 1 2, 3) := dk_132 1 2 (dk_at dksJ1_numberOfTrailingZeros_2 20 rfl rfl)
theorem dJ1_numberOfTrailingZeros_70 : decode cJ1_numberOfTrailingZeros 70 = .ok (.iload_n 0, 1) := dk_26 (dk_at dksJ1_numberOfTrailingZeros_2 23 rfl rfl)
theorem dJ1_numberOfTrailingZeros_71 : decode cJ1_numberOfTrailingZeros 71 = .ok (.iconst 2, 1) := dk_5 (dk_at dksJ1_numberOfTrailingZeros_3 0 rfl rfl)
theorem dJ1_numberOfTrailingZeros_72 : decode cJ1_numberOfTrailingZeros 72 = .ok (.iushr, 1) := dk_124 (dk_at dksJ1_numberOfTrailingZeros_3 1 rfl rfl)
theorem dJ1_numberOfTrailingZeros_73 : decode cJ1_numberOfTrailingZeros 73 = .ok (.istore_n 0, 1) := dk_59 (dk_at dksJ1_numberOfTrailingZeros_3 2 rfl rfl)
theorem dJ1_numberOfTrailingZeros_74 : decode cJ1_numberOfTrailingZeros 74 = .ok (.iload_n 1, 1) := dk_27 (dk_at dksJ1_numberOfTrailingZeros_3 3 rfl rfl)
theorem dJ1_numberOfTrailingZeros_75 : decode cJ1_numberOfTrailingZeros 75 = .ok (.iload_n 0, 1) := dk_26 (dk_at dksJ1_numberOfTrailingZeros_3 4 rfl rfl)
theorem dJ1_numberOfTrailingZeros_76 : decode cJ1_numberOfTrailingZeros 76 = .ok (.iconst 1, 1) := dk_4 (dk_at dksJ1_numberOfTrailingZeros_3 5 rfl rfl)
theorem dJ1_numberOfTrailingZeros_77 : decode cJ1_numberOfTrailingZeros 77 = .ok (.iushr, 1) := dk_124 (dk_at dksJ1_numberOfTrailingZeros_3 6 rfl rfl)
theorem dJ1_numberOfTrailingZeros_78 : decode cJ1_numberOfTrailingZeros 78 = .ok (.iadd, 1) := dk_96 (dk_at dksJ1_numberOfTrailingZeros_3 7 rfl rfl)
theorem dJ1_numberOfTrailingZeros_79 : decode cJ1_numberOfTrailingZeros 79 = .ok (.ireturn, 1) := dk_172 (dk_at dksJ1_numberOfTrailingZeros_3 8 rfl rfl)
abbrev cJ1_valueOf : ByteArray := prog_17_method_22_code
def yJ1_valueOf : MethodName := ⟨RJ1, "valueOf", "(I)Ljava/lang/Integer;"⟩
def dkwJ1_valueOf_1 : List UInt8 := [187, 0, 1, 89, 26, 183, 0, 199, 176]
abbrev dktJ1_valueOf_1 : List UInt8 := dkwJ1_valueOf_1 ++ []
def dkwJ1_valueOf_0 : List UInt8 := [26, 16, 128, 161, 0, 20, 26, 178, 0, 191, 163, 0, 13, 178, 0, 195, 26, 17, 0, 128, 96, 50, 176]
abbrev dktJ1_valueOf_0 : List UInt8 := dkwJ1_valueOf_0 ++ dktJ1_valueOf_1
theorem dksJ1_valueOf_0 : cJ1_valueOf.data.toList.drop 0 = dktJ1_valueOf_0 := by decide +kernel
theorem dksJ1_valueOf_1 : cJ1_valueOf.data.toList.drop 23 = dktJ1_valueOf_1 := dk_seg dksJ1_valueOf_0 23 rfl rfl
theorem dJ1_valueOf_0 : decode cJ1_valueOf 0 = .ok (.iload_n 0, 1) := dk_26 (dk_at dksJ1_valueOf_0 0 rfl rfl)
theorem dJ1_valueOf_1 : decode cJ1_valueOf 1 = .ok (.bipush (-128), 2) := dk_16 128 (dk_at dksJ1_valueOf_0 1 rfl rfl)
theorem dJ1_valueOf_3 : decode cJ1_valueOf 3 = .ok (.if_icmp .lt 20, 3) := dk_161 0 20 (dk_at dksJ1_valueOf_0 3 rfl rfl)
theorem dJ1_valueOf_6 : decode cJ1_valueOf 6 = .ok (.iload_n 0, 1) := dk_26 (dk_at dksJ1_valueOf_0 6 rfl rfl)
theorem dJ1_valueOf_7 : decode cJ1_valueOf 7 = .ok (.getstatic 191, 3) := dk_178 0 191 (dk_at dksJ1_valueOf_0 7 rfl rfl)
theorem dJ1_valueOf_10 : decode cJ1_valueOf 10 = .ok (.if_icmp .gt 13, 3) := dk_163 0 13 (dk_at dksJ1_valueOf_0 10 rfl rfl)
theorem dJ1_valueOf_13 : decode cJ1_valueOf 13 = .ok (.getstatic 195, 3) := dk_178 0 195 (dk_at dksJ1_valueOf_0 13 rfl rfl)
theorem dJ1_valueOf_16 : decode cJ1_valueOf 16 = .ok (.iload_n 0, 1) := dk_26 (dk_at dksJ1_valueOf_0 16 rfl rfl)
theorem dJ1_valueOf_17 : decode cJ1_valueOf 17 = .ok (.sipush 128, 3) := dk_17 0 128 (dk_at dksJ1_valueOf_0 17 rfl rfl)
theorem dJ1_valueOf_20 : decode cJ1_valueOf 20 = .ok (.iadd, 1) := dk_96 (dk_at dksJ1_valueOf_0 20 rfl rfl)
theorem dJ1_valueOf_21 : decode cJ1_valueOf 21 = .ok (.aaload, 1) := dk_50 (dk_at dksJ1_valueOf_0 21 rfl rfl)
theorem dJ1_valueOf_22 : decode cJ1_valueOf 22 = .ok (.areturn, 1) := dk_176 (dk_at dksJ1_valueOf_0 22 rfl rfl)
theorem dJ1_valueOf_23 : decode cJ1_valueOf 23 = .ok (.new 1, 3) := dk_187 0 1 (dk_at dksJ1_valueOf_1 0 rfl rfl)
theorem dJ1_valueOf_26 : decode cJ1_valueOf 26 = .ok (.dup, 1) := dk_89 (dk_at dksJ1_valueOf_1 3 rfl rfl)
theorem dJ1_valueOf_27 : decode cJ1_valueOf 27 = .ok (.iload_n 0, 1) := dk_26 (dk_at dksJ1_valueOf_1 4 rfl rfl)
theorem dJ1_valueOf_28 : decode cJ1_valueOf 28 = .ok (.invokespecial 199, 3) := dk_183 0 199 (dk_at dksJ1_valueOf_1 5 rfl rfl)
theorem dJ1_valueOf_31 : decode cJ1_valueOf 31 = .ok (.areturn, 1) := dk_176 (dk_at dksJ1_valueOf_1 8 rfl rfl)
abbrev cJ1_init : ByteArray := prog_17_method_23_code
def yJ1_init : MethodName := ⟨RJ1, "<init>", "(I)V"⟩
def dkwJ1_init_0 : List UInt8 := [42, 183, 0, 202, 42, 27, 181, 0, 205, 177]
abbrev dktJ1_init_0 : List UInt8 := dkwJ1_init_0 ++ []
theorem dksJ1_init_0 : cJ1_init.data.toList.drop 0 = dktJ1_init_0 := by decide +kernel
theorem dJ1_init_0 : decode cJ1_init 0 = .ok (.aload_n 0, 1) := dk_42 (dk_at dksJ1_init_0 0 rfl rfl)
theorem dJ1_init_1 : decode cJ1_init 1 = .ok (.invokespecial 202, 3) := dk_183 0 202 (dk_at dksJ1_init_0 1 rfl rfl)
theorem dJ1_init_4 : decode cJ1_init 4 = .ok (.aload_n 0, 1) := dk_42 (dk_at dksJ1_init_0 4 rfl rfl)
theorem dJ1_init_5 : decode cJ1_init 5 = .ok (.iload_n 1, 1) := dk_27 (dk_at dksJ1_init_0 5 rfl rfl)
theorem dJ1_init_6 : decode cJ1_init 6 = .ok (.putfield 205, 3) := dk_181 0 205 (dk_at dksJ1_init_0 6 rfl rfl)
theorem dJ1_init_9 : decode cJ1_init 9 = .ok (.return_, 1) := dk_177 (dk_at dksJ1_init_0 9 rfl rfl)
abbrev cJ1_intValue : ByteArray := prog_17_method_27_code
def yJ1_intValue : MethodName := ⟨RJ1, "intValue", "()I"⟩
theorem dJ1_intValue_0 : decode cJ1_intValue 0 = .ok (.aload_n 0, 1) := by decide +kernel
theorem dJ1_intValue_1 : decode cJ1_intValue 1 = .ok (.getfield 205, 3) := by decide +kernel
theorem dJ1_intValue_4 : decode cJ1_intValue 4 = .ok (.ireturn, 1) := by decide +kernel
abbrev cJ1_lowestOneBit : ByteArray := prog_17_method_46_code
def yJ1_lowestOneBit : MethodName := ⟨RJ1, "lowestOneBit", "(I)I"⟩
def dkwJ1_lowestOneBit_0 : List UInt8 := [26, 26, 116, 126, 172]
abbrev dktJ1_lowestOneBit_0 : List UInt8 := dkwJ1_lowestOneBit_0 ++ []
theorem dksJ1_lowestOneBit_0 : cJ1_lowestOneBit.data.toList.drop 0 = dktJ1_lowestOneBit_0 := by decide +kernel
theorem dJ1_lowestOneBit_0 : decode cJ1_lowestOneBit 0 = .ok (.iload_n 0, 1) := dk_26 (dk_at dksJ1_lowestOneBit_0 0 rfl rfl)
theorem dJ1_lowestOneBit_1 : decode cJ1_lowestOneBit 1 = .ok (.iload_n 0, 1) := dk_26 (dk_at dksJ1_lowestOneBit_0 1 rfl rfl)
theorem dJ1_lowestOneBit_2 : decode cJ1_lowestOneBit 2 = .ok (.ineg, 1) := dk_116 (dk_at dksJ1_lowestOneBit_0 2 rfl rfl)
theorem dJ1_lowestOneBit_3 : decode cJ1_lowestOneBit 3 = .ok (.iand, 1) := dk_126 (dk_at dksJ1_lowestOneBit_0 3 rfl rfl)
theorem dJ1_lowestOneBit_4 : decode cJ1_lowestOneBit 4 = .ok (.ireturn, 1) := dk_172 (dk_at dksJ1_lowestOneBit_0 4 rfl rfl)
theorem q65 : (Jvm.Cond.initialized "java/lang/Integer") ∈ lw_all := lw_g (lw_at lw_m1 9 rfl) rfl
theorem q258 : (Jvm.Cond.static ({ cls := "java/lang/Integer", name := "bitCount", desc := "(I)I" } : Jvm.MethodName)) ∈ lw_all := lw_g (lw_at lw_m1 202 rfl) rfl
theorem q259 : (Jvm.Cond.code ({ cls := "java/lang/Integer", name := "bitCount", desc := "(I)I" } : Jvm.MethodName) prog_17_method_49_code (1 : Nat) (Option.some Jvm.ClassFile.FieldType.int)) ∈ lw_all := lw_g (lw_at lw_m1 203 rfl) rfl
theorem q260 : (Jvm.Cond.constant "java/lang/Integer" (265 : Nat) (1431655765 : Int32)) ∈ lw_all := lw_g (lw_at lw_m1 204 rfl) rfl
theorem q261 : (Jvm.Cond.constant "java/lang/Integer" (266 : Nat) (858993459 : Int32)) ∈ lw_all := lw_g (lw_at lw_m1 205 rfl) rfl
theorem q262 : (Jvm.Cond.constant "java/lang/Integer" (267 : Nat) (252645135 : Int32)) ∈ lw_all := lw_g (lw_at lw_m1 206 rfl) rfl
theorem q349 : (Jvm.Cond.static ({ cls := "java/lang/Integer", name := "numberOfTrailingZeros", desc := "(I)I" } : Jvm.MethodName)) ∈ lw_all := lw_g (lw_at lw_m2 53 rfl) rfl
theorem q350 : (Jvm.Cond.code ({ cls := "java/lang/Integer", name := "numberOfTrailingZeros", desc := "(I)I" } : Jvm.MethodName) prog_17_method_48_code (2 : Nat) (Option.some Jvm.ClassFile.FieldType.int)) ∈ lw_all := lw_g (lw_at lw_m2 54 rfl) rfl
theorem q351 : (Jvm.Cond.constant "java/lang/Integer" (264 : Nat) (65536 : Int32)) ∈ lw_all := lw_g (lw_at lw_m2 55 rfl) rfl
theorem q353 : (Jvm.Cond.static ({ cls := "java/lang/Integer", name := "valueOf", desc := "(I)Ljava/lang/Integer;" } : Jvm.MethodName)) ∈ lw_all := lw_g (lw_at lw_m2 57 rfl) rfl
theorem q354 : (Jvm.Cond.code ({ cls := "java/lang/Integer", name := "valueOf", desc := "(I)Ljava/lang/Integer;" } : Jvm.MethodName) prog_17_method_22_code (1 : Nat) (Option.some (Jvm.ClassFile.FieldType.object "java/lang/Integer"))) ∈ lw_all := lw_g (lw_at lw_m2 58 rfl) rfl
theorem q355 : (Jvm.Cond.fieldLink "java/lang/Integer" (191 : Nat) "java/lang/Integer$IntegerCache" "high" "I") ∈ lw_all := lw_g (lw_at lw_m2 59 rfl) rfl
theorem q357 : (Jvm.Cond.fieldLink "java/lang/Integer" (195 : Nat) "java/lang/Integer$IntegerCache" "cache" "[Ljava/lang/Integer;") ∈ lw_all := lw_g (lw_at lw_m2 61 rfl) rfl
theorem q359 : (Jvm.Cond.classLink "java/lang/Integer" (1 : Nat) "java/lang/Integer") ∈ lw_all := lw_g (lw_at lw_m2 63 rfl) rfl
theorem q360 : (Jvm.Cond.instantiable "java/lang/Integer" (1 : Nat)) ∈ lw_all := lw_g (lw_at lw_m2 64 rfl) rfl
theorem q361 : (Jvm.Cond.methodLink "java/lang/Integer" (199 : Nat) ({ cls := "java/lang/Integer", name := "<init>", desc := "(I)V" } : Jvm.MethodName)) ∈ lw_all := lw_g (lw_at lw_m2 65 rfl) rfl
theorem q362 : (Jvm.Cond.instanceMethod ({ cls := "java/lang/Integer", name := "<init>", desc := "(I)V" } : Jvm.MethodName)) ∈ lw_all := lw_g (lw_at lw_m2 66 rfl) rfl
theorem q363 : (Jvm.Cond.code ({ cls := "java/lang/Integer", name := "<init>", desc := "(I)V" } : Jvm.MethodName) prog_17_method_23_code (2 : Nat) (Option.none : Option Jvm.ClassFile.FieldType)) ∈ lw_all := lw_g (lw_at lw_m2 67 rfl) rfl
theorem q364 : (Jvm.Cond.methodLink "java/lang/Integer" (202 : Nat) ({ cls := "java/lang/Number", name := "<init>", desc := "()V" } : Jvm.MethodName)) ∈ lw_all := lw_g (lw_at lw_m2 68 rfl) rfl
theorem q368 : (Jvm.Cond.fieldLink "java/lang/Integer" (205 : Nat) "java/lang/Integer" "value" "I") ∈ lw_all := lw_g (lw_at lw_m2 72 rfl) rfl
theorem q369 : (Jvm.Cond.laysFinal "java/lang/Integer" "java/lang/Integer" "value" "I") ∈ lw_all := lw_g (lw_at lw_m2 73 rfl) rfl
theorem q370 : (Jvm.Cond.soleField "java/lang/Integer" "value") ∈ lw_all := lw_g (lw_at lw_m2 74 rfl) rfl
theorem q371 : (Jvm.Cond.superclass "java/lang/Integer" "java/lang/Number") ∈ lw_all := lw_g (lw_at lw_m2 75 rfl) rfl
theorem q374 : (Jvm.Cond.instanceMethod ({ cls := "java/lang/Integer", name := "intValue", desc := "()I" } : Jvm.MethodName)) ∈ lw_all := lw_g (lw_at lw_m2 78 rfl) rfl
theorem q375 : (Jvm.Cond.selects "java/lang/Integer" ({ cls := "java/lang/Integer", name := "intValue", desc := "()I" } : Jvm.MethodName) ({ cls := "java/lang/Integer", name := "intValue", desc := "()I" } : Jvm.MethodName)) ∈ lw_all := lw_g (lw_at lw_m2 79 rfl) rfl
theorem q376 : (Jvm.Cond.code ({ cls := "java/lang/Integer", name := "intValue", desc := "()I" } : Jvm.MethodName) prog_17_method_27_code (1 : Nat) (Option.some Jvm.ClassFile.FieldType.int)) ∈ lw_all := lw_g (lw_at lw_m2 80 rfl) rfl
theorem q562 : (Jvm.Cond.static ({ cls := "java/lang/Integer", name := "lowestOneBit", desc := "(I)I" } : Jvm.MethodName)) ∈ lw_all := lw_g (lw_at lw_m3 26 rfl) rfl
theorem q563 : (Jvm.Cond.code ({ cls := "java/lang/Integer", name := "lowestOneBit", desc := "(I)I" } : Jvm.MethodName) prog_17_method_46_code (1 : Nat) (Option.some Jvm.ClassFile.FieldType.int)) ∈ lw_all := lw_g (lw_at lw_m3 27 rfl) rfl
theorem in_J1 : ∀ w ∈ wsJ10, w ∈ lw_all := lw_in wsJ10 [369] (by decide +kernel) (by decide +kernel)

/-! java/lang/Math -/
set_option maxRecDepth 100000
def RJ2 : String := "java/lang/Math"
abbrev cJ2_floorMod : ByteArray := prog_20_method_50_code
def yJ2_floorMod : MethodName := ⟨RJ2, "floorMod", "(II)I"⟩
def dkwJ2_floorMod_0 : List UInt8 := [26, 27, 112, 61, 26, 27, 130, 156, 0, 11, 28, 153, 0, 7, 28, 27, 96, 172, 28, 172]
abbrev dktJ2_floorMod_0 : List UInt8 := dkwJ2_floorMod_0 ++ []
theorem dksJ2_floorMod_0 : cJ2_floorMod.data.toList.drop 0 = dktJ2_floorMod_0 := by decide +kernel
theorem dJ2_floorMod_0 : decode cJ2_floorMod 0 = .ok (.iload_n 0, 1) := dk_26 (dk_at dksJ2_floorMod_0 0 rfl rfl)
theorem dJ2_floorMod_1 : decode cJ2_floorMod 1 = .ok (.iload_n 1, 1) := dk_27 (dk_at dksJ2_floorMod_0 1 rfl rfl)
theorem dJ2_floorMod_2 : decode cJ2_floorMod 2 = .ok (.irem, 1) := dk_112 (dk_at dksJ2_floorMod_0 2 rfl rfl)
theorem dJ2_floorMod_3 : decode cJ2_floorMod 3 = .ok (.istore_n 2, 1) := dk_61 (dk_at dksJ2_floorMod_0 3 rfl rfl)
theorem dJ2_floorMod_4 : decode cJ2_floorMod 4 = .ok (.iload_n 0, 1) := dk_26 (dk_at dksJ2_floorMod_0 4 rfl rfl)
theorem dJ2_floorMod_5 : decode cJ2_floorMod 5 = .ok (.iload_n 1, 1) := dk_27 (dk_at dksJ2_floorMod_0 5 rfl rfl)
theorem dJ2_floorMod_6 : decode cJ2_floorMod 6 = .ok (.ixor, 1) := dk_130 (dk_at dksJ2_floorMod_0 6 rfl rfl)
theorem dJ2_floorMod_7 : decode cJ2_floorMod 7 = .ok (.ifCond .ge 11, 3) := dk_156 0 11 (dk_at dksJ2_floorMod_0 7 rfl rfl)
theorem dJ2_floorMod_10 : decode cJ2_floorMod 10 = .ok (.iload_n 2, 1) := dk_28 (dk_at dksJ2_floorMod_0 10 rfl rfl)
theorem dJ2_floorMod_11 : decode cJ2_floorMod 11 = .ok (.ifCond .eq 7, 3) := dk_153 0 7 (dk_at dksJ2_floorMod_0 11 rfl rfl)
theorem dJ2_floorMod_14 : decode cJ2_floorMod 14 = .ok (.iload_n 2, 1) := dk_28 (dk_at dksJ2_floorMod_0 14 rfl rfl)
theorem dJ2_floorMod_15 : decode cJ2_floorMod 15 = .ok (.iload_n 1, 1) := dk_27 (dk_at dksJ2_floorMod_0 15 rfl rfl)
theorem dJ2_floorMod_16 : decode cJ2_floorMod 16 = .ok (.iadd, 1) := dk_96 (dk_at dksJ2_floorMod_0 16 rfl rfl)
theorem dJ2_floorMod_17 : decode cJ2_floorMod 17 = .ok (.ireturn, 1) := dk_172 (dk_at dksJ2_floorMod_0 17 rfl rfl)
theorem dJ2_floorMod_18 : decode cJ2_floorMod 18 = .ok (.iload_n 2, 1) := dk_28 (dk_at dksJ2_floorMod_0 18 rfl rfl)
theorem dJ2_floorMod_19 : decode cJ2_floorMod 19 = .ok (.ireturn, 1) := dk_172 (dk_at dksJ2_floorMod_0 19 rfl rfl)
abbrev cJ2_max : ByteArray := prog_20_method_65_code
def yJ2_max : MethodName := ⟨RJ2, "max", "(II)I"⟩
def dkwJ2_max_0 : List UInt8 := [26, 27, 161, 0, 7, 26, 167, 0, 4, 27, 172]
abbrev dktJ2_max_0 : List UInt8 := dkwJ2_max_0 ++ []
theorem dksJ2_max_0 : cJ2_max.data.toList.drop 0 = dktJ2_max_0 := by decide +kernel
theorem dJ2_max_0 : decode cJ2_max 0 = .ok (.iload_n 0, 1) := dk_26 (dk_at dksJ2_max_0 0 rfl rfl)
theorem dJ2_max_1 : decode cJ2_max 1 = .ok (.iload_n 1, 1) := dk_27 (dk_at dksJ2_max_0 1 rfl rfl)
theorem dJ2_max_2 : decode cJ2_max 2 = .ok (.if_icmp .lt 7, 3) := dk_161 0 7 (dk_at dksJ2_max_0 2 rfl rfl)
theorem dJ2_max_5 : decode cJ2_max 5 = .ok (.iload_n 0, 1) := dk_26 (dk_at dksJ2_max_0 5 rfl rfl)
theorem dJ2_max_6 : decode cJ2_max 6 = .ok (.goto 4, 3) := dk_167 0 4 (dk_at dksJ2_max_0 6 rfl rfl)
theorem dJ2_max_9 : decode cJ2_max 9 = .ok (.iload_n 1, 1) := dk_27 (dk_at dksJ2_max_0 9 rfl rfl)
theorem dJ2_max_10 : decode cJ2_max 10 = .ok (.ireturn, 1) := dk_172 (dk_at dksJ2_max_0 10 rfl rfl)
abbrev cJ2_min : ByteArray := prog_20_method_69_code
def yJ2_min : MethodName := ⟨RJ2, "min", "(II)I"⟩
def dkwJ2_min_0 : List UInt8 := [26, 27, 163, 0, 7, 26, 167, 0, 4, 27, 172]
abbrev dktJ2_min_0 : List UInt8 := dkwJ2_min_0 ++ []
theorem dksJ2_min_0 : cJ2_min.data.toList.drop 0 = dktJ2_min_0 := by decide +kernel
theorem dJ2_min_0 : decode cJ2_min 0 = .ok (.iload_n 0, 1) := dk_26 (dk_at dksJ2_min_0 0 rfl rfl)
theorem dJ2_min_1 : decode cJ2_min 1 = .ok (.iload_n 1, 1) := dk_27 (dk_at dksJ2_min_0 1 rfl rfl)
theorem dJ2_min_2 : decode cJ2_min 2 = .ok (.if_icmp .gt 7, 3) := dk_163 0 7 (dk_at dksJ2_min_0 2 rfl rfl)
theorem dJ2_min_5 : decode cJ2_min 5 = .ok (.iload_n 0, 1) := dk_26 (dk_at dksJ2_min_0 5 rfl rfl)
theorem dJ2_min_6 : decode cJ2_min 6 = .ok (.goto 4, 3) := dk_167 0 4 (dk_at dksJ2_min_0 6 rfl rfl)
theorem dJ2_min_9 : decode cJ2_min 9 = .ok (.iload_n 1, 1) := dk_27 (dk_at dksJ2_min_0 9 rfl rfl)
theorem dJ2_min_10 : decode cJ2_min 10 = .ok (.ireturn, 1) := dk_172 (dk_at dksJ2_min_0 10 rfl rfl)
theorem q66 : (Jvm.Cond.initialized "java/lang/Math") ∈ lw_all := lw_g (lw_at lw_m1 10 rfl) rfl
theorem q280 : (Jvm.Cond.static ({ cls := "java/lang/Math", name := "floorMod", desc := "(II)I" } : Jvm.MethodName)) ∈ lw_all := lw_g (lw_at lw_m1 224 rfl) rfl
theorem q281 : (Jvm.Cond.code ({ cls := "java/lang/Math", name := "floorMod", desc := "(II)I" } : Jvm.MethodName) prog_20_method_50_code (3 : Nat) (Option.some Jvm.ClassFile.FieldType.int)) ∈ lw_all := lw_g (lw_at lw_m1 225 rfl) rfl
theorem q584 : (Jvm.Cond.static ({ cls := "java/lang/Math", name := "max", desc := "(II)I" } : Jvm.MethodName)) ∈ lw_all := lw_g (lw_at lw_m3 48 rfl) rfl
theorem q585 : (Jvm.Cond.code ({ cls := "java/lang/Math", name := "max", desc := "(II)I" } : Jvm.MethodName) prog_20_method_65_code (2 : Nat) (Option.some Jvm.ClassFile.FieldType.int)) ∈ lw_all := lw_g (lw_at lw_m3 49 rfl) rfl
theorem q609 : (Jvm.Cond.static ({ cls := "java/lang/Math", name := "min", desc := "(II)I" } : Jvm.MethodName)) ∈ lw_all := lw_g (lw_at lw_m3 73 rfl) rfl
theorem q610 : (Jvm.Cond.code ({ cls := "java/lang/Math", name := "min", desc := "(II)I" } : Jvm.MethodName) prog_20_method_69_code (2 : Nat) (Option.some Jvm.ClassFile.FieldType.int)) ∈ lw_all := lw_g (lw_at lw_m3 74 rfl) rfl

/-! java/lang/Object -/
set_option maxRecDepth 100000
def RJ3 : String := "java/lang/Object"
abbrev cJ3_init : ByteArray := object_method_1_code
def yJ3_init : MethodName := ⟨RJ3, "<init>", "()V"⟩
theorem dJ3_init_0 : decode cJ3_init 0 = .ok (.return_, 1) := by decide +kernel
theorem q79 : (Jvm.Cond.instanceMethod ({ cls := "java/lang/Object", name := "<init>", desc := "()V" } : Jvm.MethodName)) ∈ lw_all := lw_g (lw_at lw_m1 23 rfl) rfl
theorem q80 : (Jvm.Cond.code ({ cls := "java/lang/Object", name := "<init>", desc := "()V" } : Jvm.MethodName) object_method_1_code (1 : Nat) (Option.none : Option Jvm.ClassFile.FieldType)) ∈ lw_all := lw_g (lw_at lw_m1 24 rfl) rfl

/-! RingMeets$Desk -/
set_option maxRecDepth 100000
def RX1 : String := "RingMeets$Desk"
def TX1 : u_T := fun k => match k with
  | 0 => ("RingMeets$Desk", "cells", "I", false)
  | 1 => ("RingMeets$Desk", "walkers", "[I", true)
  | 2 => ("RingMeets$Desk", "rules", "[LRingMeets$Rule;", true)
  | _ => ("RingMeets$Desk", "many", "I", false)
def tyX1 : Nat → FieldType := fun k => match k with
  | 0 => .int
  | 1 => .array .int
  | 2 => .array (.object "RingMeets$Rule")
  | _ => .int
abbrev wsX10 : List Cond := u_ws RX1 TX1 4
theorem nmX1 : ∀ a, a < 4 → ∀ b, b < 4 → a ≠ b → (TX1 a).2.1 ≠ (TX1 b).2.1 := by decide +kernel
theorem tyX1_ok : ∀ k, k < 4 → parseFieldDescriptor (TX1 k).2.2.1 = some (tyX1 k) := by decide +kernel
abbrev cX1_init : ByteArray := prog_10_method_1_code
def yX1_init : MethodName := ⟨RX1, "<init>", "()V"⟩
def dkwX1_init_2 : List UInt8 := [132, 1, 1, 167, 255, 234, 177]
abbrev dktX1_init_2 : List UInt8 := dkwX1_init_2 ++ []
def dkwX1_init_1 : List UInt8 := [181, 0, 21, 3, 60, 27, 16, 10, 162, 0, 22, 42, 180, 0, 21, 27, 187, 0, 19, 89, 183, 0, 25, 83]
abbrev dktX1_init_1 : List UInt8 := dkwX1_init_1 ++ dktX1_init_2
def dkwX1_init_0 : List UInt8 := [42, 183, 0, 3, 42, 16, 8, 181, 0, 9, 42, 16, 10, 188, 10, 181, 0, 15, 42, 16, 10, 189, 0, 19]
abbrev dktX1_init_0 : List UInt8 := dkwX1_init_0 ++ dktX1_init_1
theorem dksX1_init_0 : cX1_init.data.toList.drop 0 = dktX1_init_0 := by decide +kernel
theorem dksX1_init_1 : cX1_init.data.toList.drop 24 = dktX1_init_1 := dk_seg dksX1_init_0 24 rfl rfl
theorem dksX1_init_2 : cX1_init.data.toList.drop 48 = dktX1_init_2 := dk_seg dksX1_init_1 24 rfl rfl
theorem dX1_init_0 : decode cX1_init 0 = .ok (.aload_n 0, 1) := dk_42 (dk_at dksX1_init_0 0 rfl rfl)
theorem dX1_init_1 : decode cX1_init 1 = .ok (.invokespecial 3, 3) := dk_183 0 3 (dk_at dksX1_init_0 1 rfl rfl)
theorem dX1_init_4 : decode cX1_init 4 = .ok (.aload_n 0, 1) := dk_42 (dk_at dksX1_init_0 4 rfl rfl)
theorem dX1_init_5 : decode cX1_init 5 = .ok (.bipush 8, 2) := dk_16 8 (dk_at dksX1_init_0 5 rfl rfl)
theorem dX1_init_7 : decode cX1_init 7 = .ok (.putfield 9, 3) := dk_181 0 9 (dk_at dksX1_init_0 7 rfl rfl)
theorem dX1_init_10 : decode cX1_init 10 = .ok (.aload_n 0, 1) := dk_42 (dk_at dksX1_init_0 10 rfl rfl)
theorem dX1_init_11 : decode cX1_init 11 = .ok (.bipush 10, 2) := dk_16 10 (dk_at dksX1_init_0 11 rfl rfl)
theorem dX1_init_13 : decode cX1_init 13 = .ok (.newarray .int, 2) := dk_188_10 (dk_at dksX1_init_0 13 rfl rfl)
theorem dX1_init_15 : decode cX1_init 15 = .ok (.putfield 15, 3) := dk_181 0 15 (dk_at dksX1_init_0 15 rfl rfl)
theorem dX1_init_18 : decode cX1_init 18 = .ok (.aload_n 0, 1) := dk_42 (dk_at dksX1_init_0 18 rfl rfl)
theorem dX1_init_19 : decode cX1_init 19 = .ok (.bipush 10, 2) := dk_16 10 (dk_at dksX1_init_0 19 rfl rfl)
theorem dX1_init_21 : decode cX1_init 21 = .ok (.anewarray 19, 3) := dk_189 0 19 (dk_at dksX1_init_0 21 rfl rfl)
theorem dX1_init_24 : decode cX1_init 24 = .ok (.putfield 21, 3) := dk_181 0 21 (dk_at dksX1_init_1 0 rfl rfl)
theorem dX1_init_27 : decode cX1_init 27 = .ok (.iconst 0, 1) := dk_3 (dk_at dksX1_init_1 3 rfl rfl)
theorem dX1_init_28 : decode cX1_init 28 = .ok (.istore_n 1, 1) := dk_60 (dk_at dksX1_init_1 4 rfl rfl)
theorem dX1_init_29 : decode cX1_init 29 = .ok (.iload_n 1, 1) := dk_27 (dk_at dksX1_init_1 5 rfl rfl)
theorem dX1_init_30 : decode cX1_init 30 = .ok (.bipush 10, 2) := dk_16 10 (dk_at dksX1_init_1 6 rfl rfl)
theorem dX1_init_32 : decode cX1_init 32 = .ok (.if_icmp .ge 22, 3) := dk_162 0 22 (dk_at dksX1_init_1 8 rfl rfl)
theorem dX1_init_35 : decode cX1_init 35 = .ok (.aload_n 0, 1) := dk_42 (dk_at dksX1_init_1 11 rfl rfl)
theorem dX1_init_36 : decode cX1_init 36 = .ok (.getfield 21, 3) := dk_180 0 21 (dk_at dksX1_init_1 12 rfl rfl)
theorem dX1_init_39 : decode cX1_init 39 = .ok (.iload_n 1, 1) := dk_27 (dk_at dksX1_init_1 15 rfl rfl)
theorem dX1_init_40 : decode cX1_init 40 = .ok (.new 19, 3) := dk_187 0 19 (dk_at dksX1_init_1 16 rfl rfl)
theorem dX1_init_43 : decode cX1_init 43 = .ok (.dup, 1) := dk_89 (dk_at dksX1_init_1 19 rfl rfl)
theorem dX1_init_44 : decode cX1_init 44 = .ok (.invokespecial 25, 3) := dk_183 0 25 (dk_at dksX1_init_1 20 rfl rfl)
theorem dX1_init_47 : decode cX1_init 47 = .ok (.aastore, 1) := dk_83 (dk_at dksX1_init_1 23 rfl rfl)
theorem dX1_init_48 : decode cX1_init 48 = .ok (.iinc 1 1, 3) := dk_132 1 1 (dk_at dksX1_init_2 0 rfl rfl)
theorem dX1_init_51 : decode cX1_init 51 = .ok (.goto (-22), 3) := dk_167 255 234 (dk_at dksX1_init_2 3 rfl rfl)
theorem dX1_init_54 : decode cX1_init 54 = .ok (.return_, 1) := dk_177 (dk_at dksX1_init_2 6 rfl rfl)
abbrev cX1_all : ByteArray := prog_10_method_3_code
def yX1_all : MethodName := ⟨RX1, "all", "()I"⟩
def dkwX1_all_1 : List UInt8 := [54, 5, 27, 21, 5, 96, 60, 132, 4, 1, 167, 255, 236, 27, 172]
abbrev dktX1_all_1 : List UInt8 := dkwX1_all_1 ++ []
def dkwX1_all_0 : List UInt8 := [3, 60, 42, 180, 0, 15, 77, 44, 190, 62, 3, 54, 4, 21, 4, 29, 162, 0, 20, 44, 21, 4, 46]
abbrev dktX1_all_0 : List UInt8 := dkwX1_all_0 ++ dktX1_all_1
theorem dksX1_all_0 : cX1_all.data.toList.drop 0 = dktX1_all_0 := by decide +kernel
theorem dksX1_all_1 : cX1_all.data.toList.drop 23 = dktX1_all_1 := dk_seg dksX1_all_0 23 rfl rfl
theorem dX1_all_0 : decode cX1_all 0 = .ok (.iconst 0, 1) := dk_3 (dk_at dksX1_all_0 0 rfl rfl)
theorem dX1_all_1 : decode cX1_all 1 = .ok (.istore_n 1, 1) := dk_60 (dk_at dksX1_all_0 1 rfl rfl)
theorem dX1_all_2 : decode cX1_all 2 = .ok (.aload_n 0, 1) := dk_42 (dk_at dksX1_all_0 2 rfl rfl)
theorem dX1_all_3 : decode cX1_all 3 = .ok (.getfield 15, 3) := dk_180 0 15 (dk_at dksX1_all_0 3 rfl rfl)
theorem dX1_all_6 : decode cX1_all 6 = .ok (.astore_n 2, 1) := dk_77 (dk_at dksX1_all_0 6 rfl rfl)
theorem dX1_all_7 : decode cX1_all 7 = .ok (.aload_n 2, 1) := dk_44 (dk_at dksX1_all_0 7 rfl rfl)
theorem dX1_all_8 : decode cX1_all 8 = .ok (.arraylength, 1) := dk_190 (dk_at dksX1_all_0 8 rfl rfl)
theorem dX1_all_9 : decode cX1_all 9 = .ok (.istore_n 3, 1) := dk_62 (dk_at dksX1_all_0 9 rfl rfl)
theorem dX1_all_10 : decode cX1_all 10 = .ok (.iconst 0, 1) := dk_3 (dk_at dksX1_all_0 10 rfl rfl)
theorem dX1_all_11 : decode cX1_all 11 = .ok (.istore 4, 2) := dk_54 4 (dk_at dksX1_all_0 11 rfl rfl)
theorem dX1_all_13 : decode cX1_all 13 = .ok (.iload 4, 2) := dk_21 4 (dk_at dksX1_all_0 13 rfl rfl)
theorem dX1_all_15 : decode cX1_all 15 = .ok (.iload_n 3, 1) := dk_29 (dk_at dksX1_all_0 15 rfl rfl)
theorem dX1_all_16 : decode cX1_all 16 = .ok (.if_icmp .ge 20, 3) := dk_162 0 20 (dk_at dksX1_all_0 16 rfl rfl)
theorem dX1_all_19 : decode cX1_all 19 = .ok (.aload_n 2, 1) := dk_44 (dk_at dksX1_all_0 19 rfl rfl)
theorem dX1_all_20 : decode cX1_all 20 = .ok (.iload 4, 2) := dk_21 4 (dk_at dksX1_all_0 20 rfl rfl)
theorem dX1_all_22 : decode cX1_all 22 = .ok (.iaload, 1) := dk_46 (dk_at dksX1_all_0 22 rfl rfl)
theorem dX1_all_23 : decode cX1_all 23 = .ok (.istore 5, 2) := dk_54 5 (dk_at dksX1_all_1 0 rfl rfl)
theorem dX1_all_25 : decode cX1_all 25 = .ok (.iload_n 1, 1) := dk_27 (dk_at dksX1_all_1 2 rfl rfl)
theorem dX1_all_26 : decode cX1_all 26 = .ok (.iload 5, 2) := dk_21 5 (dk_at dksX1_all_1 3 rfl rfl)
theorem dX1_all_28 : decode cX1_all 28 = .ok (.iadd, 1) := dk_96 (dk_at dksX1_all_1 5 rfl rfl)
theorem dX1_all_29 : decode cX1_all 29 = .ok (.istore_n 1, 1) := dk_60 (dk_at dksX1_all_1 6 rfl rfl)
theorem dX1_all_30 : decode cX1_all 30 = .ok (.iinc 4 1, 3) := dk_132 4 1 (dk_at dksX1_all_1 7 rfl rfl)
theorem dX1_all_33 : decode cX1_all 33 = .ok (.goto (-20), 3) := dk_167 255 236 (dk_at dksX1_all_1 10 rfl rfl)
theorem dX1_all_36 : decode cX1_all 36 = .ok (.iload_n 1, 1) := dk_27 (dk_at dksX1_all_1 13 rfl rfl)
theorem dX1_all_37 : decode cX1_all 37 = .ok (.ireturn, 1) := dk_172 (dk_at dksX1_all_1 14 rfl rfl)
abbrev cX1_with : ByteArray := prog_10_method_4_code
def yX1_with : MethodName := ⟨RX1, "with", "(I)I"⟩
def dkwX1_with_1 : List UInt8 := [29, 120, 167, 0, 4, 3, 128, 61, 132, 3, 1, 167, 255, 225, 28, 172]
abbrev dktX1_with_1 : List UInt8 := dkwX1_with_1 ++ []
def dkwX1_with_0 : List UInt8 := [3, 61, 3, 62, 29, 42, 180, 0, 9, 162, 0, 29, 28, 42, 180, 0, 15, 29, 46, 27, 161, 0, 9, 4]
abbrev dktX1_with_0 : List UInt8 := dkwX1_with_0 ++ dktX1_with_1
theorem dksX1_with_0 : cX1_with.data.toList.drop 0 = dktX1_with_0 := by decide +kernel
theorem dksX1_with_1 : cX1_with.data.toList.drop 24 = dktX1_with_1 := dk_seg dksX1_with_0 24 rfl rfl
theorem dX1_with_0 : decode cX1_with 0 = .ok (.iconst 0, 1) := dk_3 (dk_at dksX1_with_0 0 rfl rfl)
theorem dX1_with_1 : decode cX1_with 1 = .ok (.istore_n 2, 1) := dk_61 (dk_at dksX1_with_0 1 rfl rfl)
theorem dX1_with_2 : decode cX1_with 2 = .ok (.iconst 0, 1) := dk_3 (dk_at dksX1_with_0 2 rfl rfl)
theorem dX1_with_3 : decode cX1_with 3 = .ok (.istore_n 3, 1) := dk_62 (dk_at dksX1_with_0 3 rfl rfl)
theorem dX1_with_4 : decode cX1_with 4 = .ok (.iload_n 3, 1) := dk_29 (dk_at dksX1_with_0 4 rfl rfl)
theorem dX1_with_5 : decode cX1_with 5 = .ok (.aload_n 0, 1) := dk_42 (dk_at dksX1_with_0 5 rfl rfl)
theorem dX1_with_6 : decode cX1_with 6 = .ok (.getfield 9, 3) := dk_180 0 9 (dk_at dksX1_with_0 6 rfl rfl)
theorem dX1_with_9 : decode cX1_with 9 = .ok (.if_icmp .ge 29, 3) := dk_162 0 29 (dk_at dksX1_with_0 9 rfl rfl)
theorem dX1_with_12 : decode cX1_with 12 = .ok (.iload_n 2, 1) := dk_28 (dk_at dksX1_with_0 12 rfl rfl)
theorem dX1_with_13 : decode cX1_with 13 = .ok (.aload_n 0, 1) := dk_42 (dk_at dksX1_with_0 13 rfl rfl)
theorem dX1_with_14 : decode cX1_with 14 = .ok (.getfield 15, 3) := dk_180 0 15 (dk_at dksX1_with_0 14 rfl rfl)
theorem dX1_with_17 : decode cX1_with 17 = .ok (.iload_n 3, 1) := dk_29 (dk_at dksX1_with_0 17 rfl rfl)
theorem dX1_with_18 : decode cX1_with 18 = .ok (.iaload, 1) := dk_46 (dk_at dksX1_with_0 18 rfl rfl)
theorem dX1_with_19 : decode cX1_with 19 = .ok (.iload_n 1, 1) := dk_27 (dk_at dksX1_with_0 19 rfl rfl)
theorem dX1_with_20 : decode cX1_with 20 = .ok (.if_icmp .lt 9, 3) := dk_161 0 9 (dk_at dksX1_with_0 20 rfl rfl)
theorem dX1_with_23 : decode cX1_with 23 = .ok (.iconst 1, 1) := dk_4 (dk_at dksX1_with_0 23 rfl rfl)
theorem dX1_with_24 : decode cX1_with 24 = .ok (.iload_n 3, 1) := dk_29 (dk_at dksX1_with_1 0 rfl rfl)
theorem dX1_with_25 : decode cX1_with 25 = .ok (.ishl, 1) := dk_120 (dk_at dksX1_with_1 1 rfl rfl)
theorem dX1_with_26 : decode cX1_with 26 = .ok (.goto 4, 3) := dk_167 0 4 (dk_at dksX1_with_1 2 rfl rfl)
theorem dX1_with_29 : decode cX1_with 29 = .ok (.iconst 0, 1) := dk_3 (dk_at dksX1_with_1 5 rfl rfl)
theorem dX1_with_30 : decode cX1_with 30 = .ok (.ior, 1) := dk_128 (dk_at dksX1_with_1 6 rfl rfl)
theorem dX1_with_31 : decode cX1_with 31 = .ok (.istore_n 2, 1) := dk_61 (dk_at dksX1_with_1 7 rfl rfl)
theorem dX1_with_32 : decode cX1_with 32 = .ok (.iinc 3 1, 3) := dk_132 3 1 (dk_at dksX1_with_1 8 rfl rfl)
theorem dX1_with_35 : decode cX1_with 35 = .ok (.goto (-31), 3) := dk_167 255 225 (dk_at dksX1_with_1 11 rfl rfl)
theorem dX1_with_38 : decode cX1_with 38 = .ok (.iload_n 2, 1) := dk_28 (dk_at dksX1_with_1 14 rfl rfl)
theorem dX1_with_39 : decode cX1_with 39 = .ok (.ireturn, 1) := dk_172 (dk_at dksX1_with_1 15 rfl rfl)
abbrev cX1_take : ByteArray := prog_10_method_2_code
def yX1_take : MethodName := ⟨RX1, "take", "(LRingMeets$Desk;)V"⟩
def dkwX1_take_2 : List UInt8 := [132, 2, 1, 167, 255, 232, 42, 43, 180, 0, 36, 181, 0, 36, 177]
abbrev dktX1_take_2 : List UInt8 := dkwX1_take_2 ++ []
def dkwX1_take_1 : List UInt8 := [61, 28, 16, 10, 162, 0, 24, 42, 180, 0, 21, 28, 50, 43, 180, 0, 21, 28, 50, 182, 0, 32]
abbrev dktX1_take_1 : List UInt8 := dkwX1_take_1 ++ dktX1_take_2
def dkwX1_take_0 : List UInt8 := [42, 43, 180, 0, 9, 181, 0, 9, 43, 180, 0, 15, 3, 42, 180, 0, 15, 3, 16, 10, 184, 0, 26, 3]
abbrev dktX1_take_0 : List UInt8 := dkwX1_take_0 ++ dktX1_take_1
theorem dksX1_take_0 : cX1_take.data.toList.drop 0 = dktX1_take_0 := by decide +kernel
theorem dksX1_take_1 : cX1_take.data.toList.drop 24 = dktX1_take_1 := dk_seg dksX1_take_0 24 rfl rfl
theorem dksX1_take_2 : cX1_take.data.toList.drop 46 = dktX1_take_2 := dk_seg dksX1_take_1 22 rfl rfl
theorem dX1_take_0 : decode cX1_take 0 = .ok (.aload_n 0, 1) := dk_42 (dk_at dksX1_take_0 0 rfl rfl)
theorem dX1_take_1 : decode cX1_take 1 = .ok (.aload_n 1, 1) := dk_43 (dk_at dksX1_take_0 1 rfl rfl)
theorem dX1_take_2 : decode cX1_take 2 = .ok (.getfield 9, 3) := dk_180 0 9 (dk_at dksX1_take_0 2 rfl rfl)
theorem dX1_take_5 : decode cX1_take 5 = .ok (.putfield 9, 3) := dk_181 0 9 (dk_at dksX1_take_0 5 rfl rfl)
theorem dX1_take_8 : decode cX1_take 8 = .ok (.aload_n 1, 1) := dk_43 (dk_at dksX1_take_0 8 rfl rfl)
theorem dX1_take_9 : decode cX1_take 9 = .ok (.getfield 15, 3) := dk_180 0 15 (dk_at dksX1_take_0 9 rfl rfl)
theorem dX1_take_12 : decode cX1_take 12 = .ok (.iconst 0, 1) := dk_3 (dk_at dksX1_take_0 12 rfl rfl)
theorem dX1_take_13 : decode cX1_take 13 = .ok (.aload_n 0, 1) := dk_42 (dk_at dksX1_take_0 13 rfl rfl)
theorem dX1_take_14 : decode cX1_take 14 = .ok (.getfield 15, 3) := dk_180 0 15 (dk_at dksX1_take_0 14 rfl rfl)
theorem dX1_take_17 : decode cX1_take 17 = .ok (.iconst 0, 1) := dk_3 (dk_at dksX1_take_0 17 rfl rfl)
theorem dX1_take_18 : decode cX1_take 18 = .ok (.bipush 10, 2) := dk_16 10 (dk_at dksX1_take_0 18 rfl rfl)
theorem dX1_take_20 : decode cX1_take 20 = .ok (.invokestatic 26, 3) := dk_184 0 26 (dk_at dksX1_take_0 20 rfl rfl)
theorem dX1_take_23 : decode cX1_take 23 = .ok (.iconst 0, 1) := dk_3 (dk_at dksX1_take_0 23 rfl rfl)
theorem dX1_take_24 : decode cX1_take 24 = .ok (.istore_n 2, 1) := dk_61 (dk_at dksX1_take_1 0 rfl rfl)
theorem dX1_take_25 : decode cX1_take 25 = .ok (.iload_n 2, 1) := dk_28 (dk_at dksX1_take_1 1 rfl rfl)
theorem dX1_take_26 : decode cX1_take 26 = .ok (.bipush 10, 2) := dk_16 10 (dk_at dksX1_take_1 2 rfl rfl)
theorem dX1_take_28 : decode cX1_take 28 = .ok (.if_icmp .ge 24, 3) := dk_162 0 24 (dk_at dksX1_take_1 4 rfl rfl)
theorem dX1_take_31 : decode cX1_take 31 = .ok (.aload_n 0, 1) := dk_42 (dk_at dksX1_take_1 7 rfl rfl)
theorem dX1_take_32 : decode cX1_take 32 = .ok (.getfield 21, 3) := dk_180 0 21 (dk_at dksX1_take_1 8 rfl rfl)
theorem dX1_take_35 : decode cX1_take 35 = .ok (.iload_n 2, 1) := dk_28 (dk_at dksX1_take_1 11 rfl rfl)
theorem dX1_take_36 : decode cX1_take 36 = .ok (.aaload, 1) := dk_50 (dk_at dksX1_take_1 12 rfl rfl)
theorem dX1_take_37 : decode cX1_take 37 = .ok (.aload_n 1, 1) := dk_43 (dk_at dksX1_take_1 13 rfl rfl)
theorem dX1_take_38 : decode cX1_take 38 = .ok (.getfield 21, 3) := dk_180 0 21 (dk_at dksX1_take_1 14 rfl rfl)
theorem dX1_take_41 : decode cX1_take 41 = .ok (.iload_n 2, 1) := dk_28 (dk_at dksX1_take_1 17 rfl rfl)
theorem dX1_take_42 : decode cX1_take 42 = .ok (.aaload, 1) := dk_50 (dk_at dksX1_take_1 18 rfl rfl)
theorem dX1_take_43 : decode cX1_take 43 = .ok (.invokevirtual 32, 3) := dk_182 0 32 (dk_at dksX1_take_1 19 rfl rfl)
theorem dX1_take_46 : decode cX1_take 46 = .ok (.iinc 2 1, 3) := dk_132 2 1 (dk_at dksX1_take_2 0 rfl rfl)
theorem dX1_take_49 : decode cX1_take 49 = .ok (.goto (-24), 3) := dk_167 255 232 (dk_at dksX1_take_2 3 rfl rfl)
theorem dX1_take_52 : decode cX1_take 52 = .ok (.aload_n 0, 1) := dk_42 (dk_at dksX1_take_2 6 rfl rfl)
theorem dX1_take_53 : decode cX1_take 53 = .ok (.aload_n 1, 1) := dk_43 (dk_at dksX1_take_2 7 rfl rfl)
theorem dX1_take_54 : decode cX1_take 54 = .ok (.getfield 36, 3) := dk_180 0 36 (dk_at dksX1_take_2 8 rfl rfl)
theorem dX1_take_57 : decode cX1_take 57 = .ok (.putfield 36, 3) := dk_181 0 36 (dk_at dksX1_take_2 11 rfl rfl)
theorem dX1_take_60 : decode cX1_take 60 = .ok (.return_, 1) := dk_177 (dk_at dksX1_take_2 14 rfl rfl)
theorem q58 : (Jvm.Cond.initialized "RingMeets$Desk") ∈ lw_all := lw_g (lw_at lw_m1 2 rfl) rfl
theorem q82 : (Jvm.Cond.instantiable "RingMeets$Desk" (4 : Nat)) ∈ lw_all := lw_g (lw_at lw_m1 26 rfl) rfl
theorem q84 : (Jvm.Cond.instanceMethod ({ cls := "RingMeets$Desk", name := "<init>", desc := "()V" } : Jvm.MethodName)) ∈ lw_all := lw_g (lw_at lw_m1 28 rfl) rfl
theorem q85 : (Jvm.Cond.code ({ cls := "RingMeets$Desk", name := "<init>", desc := "()V" } : Jvm.MethodName) prog_10_method_1_code (2 : Nat) (Option.none : Option Jvm.ClassFile.FieldType)) ∈ lw_all := lw_g (lw_at lw_m1 29 rfl) rfl
theorem q86 : (Jvm.Cond.methodLink "RingMeets$Desk" (3 : Nat) ({ cls := "java/lang/Object", name := "<init>", desc := "()V" } : Jvm.MethodName)) ∈ lw_all := lw_g (lw_at lw_m1 30 rfl) rfl
theorem q87 : (Jvm.Cond.classLink "RingMeets$Desk" (19 : Nat) "RingMeets$Rule") ∈ lw_all := lw_g (lw_at lw_m1 31 rfl) rfl
theorem q90 : (Jvm.Cond.methodLinkNest "RingMeets$Desk" (25 : Nat) ({ cls := "RingMeets$Rule", name := "<init>", desc := "()V" } : Jvm.MethodName) "RingMeets") ∈ lw_tbl := lw_at lw_m1 34 rfl
theorem q120 : (Jvm.Cond.fieldLink "RingMeets$Desk" (9 : Nat) "RingMeets$Desk" "cells" "I") ∈ lw_all := lw_g (lw_at lw_m1 64 rfl) rfl
theorem q123 : (Jvm.Cond.fieldLink "RingMeets$Desk" (15 : Nat) "RingMeets$Desk" "walkers" "[I") ∈ lw_all := lw_g (lw_at lw_m1 67 rfl) rfl
theorem q125 : (Jvm.Cond.fieldLink "RingMeets$Desk" (21 : Nat) "RingMeets$Desk" "rules" "[LRingMeets$Rule;") ∈ lw_all := lw_g (lw_at lw_m1 69 rfl) rfl
theorem q127 : (Jvm.Cond.fieldLink "RingMeets$Desk" (36 : Nat) "RingMeets$Desk" "many" "I") ∈ lw_all := lw_g (lw_at lw_m1 71 rfl) rfl
theorem q129 : (Jvm.Cond.lays "RingMeets$Desk" "RingMeets$Desk" "cells" "I") ∈ lw_all := lw_g (lw_at lw_m1 73 rfl) rfl
theorem q130 : (Jvm.Cond.soleField "RingMeets$Desk" "cells") ∈ lw_all := lw_g (lw_at lw_m1 74 rfl) rfl
theorem q131 : (Jvm.Cond.laysFinal "RingMeets$Desk" "RingMeets$Desk" "walkers" "[I") ∈ lw_all := lw_g (lw_at lw_m1 75 rfl) rfl
theorem q132 : (Jvm.Cond.soleField "RingMeets$Desk" "walkers") ∈ lw_all := lw_g (lw_at lw_m1 76 rfl) rfl
theorem q133 : (Jvm.Cond.laysFinal "RingMeets$Desk" "RingMeets$Desk" "rules" "[LRingMeets$Rule;") ∈ lw_all := lw_g (lw_at lw_m1 77 rfl) rfl
theorem q134 : (Jvm.Cond.soleField "RingMeets$Desk" "rules") ∈ lw_all := lw_g (lw_at lw_m1 78 rfl) rfl
theorem q135 : (Jvm.Cond.lays "RingMeets$Desk" "RingMeets$Desk" "many" "I") ∈ lw_all := lw_g (lw_at lw_m1 79 rfl) rfl
theorem q136 : (Jvm.Cond.soleField "RingMeets$Desk" "many") ∈ lw_all := lw_g (lw_at lw_m1 80 rfl) rfl
theorem q137 : (Jvm.Cond.superclass "RingMeets$Desk" "java/lang/Object") ∈ lw_all := lw_g (lw_at lw_m1 81 rfl) rfl
theorem q237 : (Jvm.Cond.instanceMethod ({ cls := "RingMeets$Desk", name := "all", desc := "()I" } : Jvm.MethodName)) ∈ lw_all := lw_g (lw_at lw_m1 181 rfl) rfl
theorem q238 : (Jvm.Cond.selects "RingMeets$Desk" ({ cls := "RingMeets$Desk", name := "all", desc := "()I" } : Jvm.MethodName) ({ cls := "RingMeets$Desk", name := "all", desc := "()I" } : Jvm.MethodName)) ∈ lw_all := lw_g (lw_at lw_m1 182 rfl) rfl
theorem q239 : (Jvm.Cond.code ({ cls := "RingMeets$Desk", name := "all", desc := "()I" } : Jvm.MethodName) prog_10_method_3_code (6 : Nat) (Option.some Jvm.ClassFile.FieldType.int)) ∈ lw_all := lw_g (lw_at lw_m1 183 rfl) rfl
theorem q254 : (Jvm.Cond.instanceMethod ({ cls := "RingMeets$Desk", name := "with", desc := "(I)I" } : Jvm.MethodName)) ∈ lw_all := lw_g (lw_at lw_m1 198 rfl) rfl
theorem q255 : (Jvm.Cond.selects "RingMeets$Desk" ({ cls := "RingMeets$Desk", name := "with", desc := "(I)I" } : Jvm.MethodName) ({ cls := "RingMeets$Desk", name := "with", desc := "(I)I" } : Jvm.MethodName)) ∈ lw_all := lw_g (lw_at lw_m1 199 rfl) rfl
theorem q256 : (Jvm.Cond.code ({ cls := "RingMeets$Desk", name := "with", desc := "(I)I" } : Jvm.MethodName) prog_10_method_4_code (4 : Nat) (Option.some Jvm.ClassFile.FieldType.int)) ∈ lw_all := lw_g (lw_at lw_m1 200 rfl) rfl
theorem q619 : (Jvm.Cond.instanceMethod ({ cls := "RingMeets$Desk", name := "take", desc := "(LRingMeets$Desk;)V" } : Jvm.MethodName)) ∈ lw_all := lw_g (lw_at lw_m3 83 rfl) rfl
theorem q620 : (Jvm.Cond.selects "RingMeets$Desk" ({ cls := "RingMeets$Desk", name := "take", desc := "(LRingMeets$Desk;)V" } : Jvm.MethodName) ({ cls := "RingMeets$Desk", name := "take", desc := "(LRingMeets$Desk;)V" } : Jvm.MethodName)) ∈ lw_all := lw_g (lw_at lw_m3 84 rfl) rfl
theorem q621 : (Jvm.Cond.code ({ cls := "RingMeets$Desk", name := "take", desc := "(LRingMeets$Desk;)V" } : Jvm.MethodName) prog_10_method_2_code (3 : Nat) (Option.none : Option Jvm.ClassFile.FieldType)) ∈ lw_all := lw_g (lw_at lw_m3 85 rfl) rfl
theorem q622 : (Jvm.Cond.methodLink "RingMeets$Desk" (26 : Nat) ({ cls := "java/lang/System", name := "arraycopy", desc := "(Ljava/lang/Object;ILjava/lang/Object;II)V" } : Jvm.MethodName)) ∈ lw_all := lw_g (lw_at lw_m3 86 rfl) rfl
theorem q623 : (Jvm.Cond.methodLink "RingMeets$Desk" (32 : Nat) ({ cls := "RingMeets$Rule", name := "take", desc := "(LRingMeets$Rule;)V" } : Jvm.MethodName)) ∈ lw_all := lw_g (lw_at lw_m3 87 rfl) rfl
theorem in_X1 : ∀ w ∈ wsX10, w ∈ lw_all := lw_in wsX10 [129, 131, 133, 135] (by decide +kernel) (by decide +kernel)

/-! RingMeets$Rule -/
set_option maxRecDepth 100000
def RX2 : String := "RingMeets$Rule"
def TX2 : u_T := fun k => match k with
  | 0 => ("RingMeets$Rule", "stands", "I", false)
  | 1 => ("RingMeets$Rule", "place", "I", false)
  | 2 => ("RingMeets$Rule", "how", "I", false)
  | 3 => ("RingMeets$Rule", "number", "I", false)
  | 4 => ("RingMeets$Rule", "done", "I", false)
  | _ => ("RingMeets$Rule", "whom", "I", false)
def tyX2 : Nat → FieldType := fun k => match k with
  | 0 => .int
  | 1 => .int
  | 2 => .int
  | 3 => .int
  | 4 => .int
  | _ => .int
abbrev wsX20 : List Cond := u_ws RX2 TX2 6
theorem nmX2 : ∀ a, a < 6 → ∀ b, b < 6 → a ≠ b → (TX2 a).2.1 ≠ (TX2 b).2.1 := by decide +kernel
theorem tyX2_ok : ∀ k, k < 6 → parseFieldDescriptor (TX2 k).2.2.1 = some (tyX2 k) := by decide +kernel
abbrev cX2_init : ByteArray := prog_13_method_1_code
def yX2_init : MethodName := ⟨RX2, "<init>", "()V"⟩
def dkwX2_init_0 : List UInt8 := [42, 183, 0, 1, 42, 5, 181, 0, 7, 177]
abbrev dktX2_init_0 : List UInt8 := dkwX2_init_0 ++ []
theorem dksX2_init_0 : cX2_init.data.toList.drop 0 = dktX2_init_0 := by decide +kernel
theorem dX2_init_0 : decode cX2_init 0 = .ok (.aload_n 0, 1) := dk_42 (dk_at dksX2_init_0 0 rfl rfl)
theorem dX2_init_1 : decode cX2_init 1 = .ok (.invokespecial 1, 3) := dk_183 0 1 (dk_at dksX2_init_0 1 rfl rfl)
theorem dX2_init_4 : decode cX2_init 4 = .ok (.aload_n 0, 1) := dk_42 (dk_at dksX2_init_0 4 rfl rfl)
theorem dX2_init_5 : decode cX2_init 5 = .ok (.iconst 2, 1) := dk_5 (dk_at dksX2_init_0 5 rfl rfl)
theorem dX2_init_6 : decode cX2_init 6 = .ok (.putfield 7, 3) := dk_181 0 7 (dk_at dksX2_init_0 6 rfl rfl)
theorem dX2_init_9 : decode cX2_init 9 = .ok (.return_, 1) := dk_177 (dk_at dksX2_init_0 9 rfl rfl)
abbrev cX2_take : ByteArray := prog_13_method_2_code
def yX2_take : MethodName := ⟨RX2, "take", "(LRingMeets$Rule;)V"⟩
def dkwX2_take_2 : List UInt8 := [177]
abbrev dktX2_take_2 : List UInt8 := dkwX2_take_2 ++ []
def dkwX2_take_1 : List UInt8 := [42, 43, 180, 0, 22, 181, 0, 22, 42, 43, 180, 0, 25, 181, 0, 25, 42, 43, 180, 0, 7, 181, 0, 7]
abbrev dktX2_take_1 : List UInt8 := dkwX2_take_1 ++ dktX2_take_2
def dkwX2_take_0 : List UInt8 := [42, 43, 180, 0, 13, 181, 0, 13, 42, 43, 180, 0, 16, 181, 0, 16, 42, 43, 180, 0, 19, 181, 0, 19]
abbrev dktX2_take_0 : List UInt8 := dkwX2_take_0 ++ dktX2_take_1
theorem dksX2_take_0 : cX2_take.data.toList.drop 0 = dktX2_take_0 := by decide +kernel
theorem dksX2_take_1 : cX2_take.data.toList.drop 24 = dktX2_take_1 := dk_seg dksX2_take_0 24 rfl rfl
theorem dksX2_take_2 : cX2_take.data.toList.drop 48 = dktX2_take_2 := dk_seg dksX2_take_1 24 rfl rfl
theorem dX2_take_0 : decode cX2_take 0 = .ok (.aload_n 0, 1) := dk_42 (dk_at dksX2_take_0 0 rfl rfl)
theorem dX2_take_1 : decode cX2_take 1 = .ok (.aload_n 1, 1) := dk_43 (dk_at dksX2_take_0 1 rfl rfl)
theorem dX2_take_2 : decode cX2_take 2 = .ok (.getfield 13, 3) := dk_180 0 13 (dk_at dksX2_take_0 2 rfl rfl)
theorem dX2_take_5 : decode cX2_take 5 = .ok (.putfield 13, 3) := dk_181 0 13 (dk_at dksX2_take_0 5 rfl rfl)
theorem dX2_take_8 : decode cX2_take 8 = .ok (.aload_n 0, 1) := dk_42 (dk_at dksX2_take_0 8 rfl rfl)
theorem dX2_take_9 : decode cX2_take 9 = .ok (.aload_n 1, 1) := dk_43 (dk_at dksX2_take_0 9 rfl rfl)
theorem dX2_take_10 : decode cX2_take 10 = .ok (.getfield 16, 3) := dk_180 0 16 (dk_at dksX2_take_0 10 rfl rfl)
theorem dX2_take_13 : decode cX2_take 13 = .ok (.putfield 16, 3) := dk_181 0 16 (dk_at dksX2_take_0 13 rfl rfl)
theorem dX2_take_16 : decode cX2_take 16 = .ok (.aload_n 0, 1) := dk_42 (dk_at dksX2_take_0 16 rfl rfl)
theorem dX2_take_17 : decode cX2_take 17 = .ok (.aload_n 1, 1) := dk_43 (dk_at dksX2_take_0 17 rfl rfl)
theorem dX2_take_18 : decode cX2_take 18 = .ok (.getfield 19, 3) := dk_180 0 19 (dk_at dksX2_take_0 18 rfl rfl)
theorem dX2_take_21 : decode cX2_take 21 = .ok (.putfield 19, 3) := dk_181 0 19 (dk_at dksX2_take_0 21 rfl rfl)
theorem dX2_take_24 : decode cX2_take 24 = .ok (.aload_n 0, 1) := dk_42 (dk_at dksX2_take_1 0 rfl rfl)
theorem dX2_take_25 : decode cX2_take 25 = .ok (.aload_n 1, 1) := dk_43 (dk_at dksX2_take_1 1 rfl rfl)
theorem dX2_take_26 : decode cX2_take 26 = .ok (.getfield 22, 3) := dk_180 0 22 (dk_at dksX2_take_1 2 rfl rfl)
theorem dX2_take_29 : decode cX2_take 29 = .ok (.putfield 22, 3) := dk_181 0 22 (dk_at dksX2_take_1 5 rfl rfl)
theorem dX2_take_32 : decode cX2_take 32 = .ok (.aload_n 0, 1) := dk_42 (dk_at dksX2_take_1 8 rfl rfl)
theorem dX2_take_33 : decode cX2_take 33 = .ok (.aload_n 1, 1) := dk_43 (dk_at dksX2_take_1 9 rfl rfl)
theorem dX2_take_34 : decode cX2_take 34 = .ok (.getfield 25, 3) := dk_180 0 25 (dk_at dksX2_take_1 10 rfl rfl)
theorem dX2_take_37 : decode cX2_take 37 = .ok (.putfield 25, 3) := dk_181 0 25 (dk_at dksX2_take_1 13 rfl rfl)
theorem dX2_take_40 : decode cX2_take 40 = .ok (.aload_n 0, 1) := dk_42 (dk_at dksX2_take_1 16 rfl rfl)
theorem dX2_take_41 : decode cX2_take 41 = .ok (.aload_n 1, 1) := dk_43 (dk_at dksX2_take_1 17 rfl rfl)
theorem dX2_take_42 : decode cX2_take 42 = .ok (.getfield 7, 3) := dk_180 0 7 (dk_at dksX2_take_1 18 rfl rfl)
theorem dX2_take_45 : decode cX2_take 45 = .ok (.putfield 7, 3) := dk_181 0 7 (dk_at dksX2_take_1 21 rfl rfl)
theorem dX2_take_48 : decode cX2_take 48 = .ok (.return_, 1) := dk_177 (dk_at dksX2_take_2 0 rfl rfl)
abbrev cX2_isSo : ByteArray := prog_13_method_3_code
def yX2_isSo : MethodName := ⟨RX2, "isSo", "(I)Z"⟩
def dkwX2_isSo_2 : List UInt8 := [42, 180, 0, 22, 164, 0, 7, 4, 167, 0, 4, 3, 172]
abbrev dktX2_isSo_2 : List UInt8 := dkwX2_isSo_2 ++ []
def dkwX2_isSo_1 : List UInt8 := [180, 0, 19, 4, 160, 0, 19, 27, 42, 180, 0, 22, 160, 0, 7, 4, 167, 0, 20, 3, 167, 0, 16, 27]
abbrev dktX2_isSo_1 : List UInt8 := dkwX2_isSo_1 ++ dktX2_isSo_2
def dkwX2_isSo_0 : List UInt8 := [42, 180, 0, 19, 154, 0, 19, 27, 42, 180, 0, 22, 162, 0, 7, 4, 167, 0, 44, 3, 167, 0, 40, 42]
abbrev dktX2_isSo_0 : List UInt8 := dkwX2_isSo_0 ++ dktX2_isSo_1
theorem dksX2_isSo_0 : cX2_isSo.data.toList.drop 0 = dktX2_isSo_0 := by decide +kernel
theorem dksX2_isSo_1 : cX2_isSo.data.toList.drop 24 = dktX2_isSo_1 := dk_seg dksX2_isSo_0 24 rfl rfl
theorem dksX2_isSo_2 : cX2_isSo.data.toList.drop 48 = dktX2_isSo_2 := dk_seg dksX2_isSo_1 24 rfl rfl
theorem dX2_isSo_0 : decode cX2_isSo 0 = .ok (.aload_n 0, 1) := dk_42 (dk_at dksX2_isSo_0 0 rfl rfl)
theorem dX2_isSo_1 : decode cX2_isSo 1 = .ok (.getfield 19, 3) := dk_180 0 19 (dk_at dksX2_isSo_0 1 rfl rfl)
theorem dX2_isSo_4 : decode cX2_isSo 4 = .ok (.ifCond .ne 19, 3) := dk_154 0 19 (dk_at dksX2_isSo_0 4 rfl rfl)
theorem dX2_isSo_7 : decode cX2_isSo 7 = .ok (.iload_n 1, 1) := dk_27 (dk_at dksX2_isSo_0 7 rfl rfl)
theorem dX2_isSo_8 : decode cX2_isSo 8 = .ok (.aload_n 0, 1) := dk_42 (dk_at dksX2_isSo_0 8 rfl rfl)
theorem dX2_isSo_9 : decode cX2_isSo 9 = .ok (.getfield 22, 3) := dk_180 0 22 (dk_at dksX2_isSo_0 9 rfl rfl)
theorem dX2_isSo_12 : decode cX2_isSo 12 = .ok (.if_icmp .ge 7, 3) := dk_162 0 7 (dk_at dksX2_isSo_0 12 rfl rfl)
theorem dX2_isSo_15 : decode cX2_isSo 15 = .ok (.iconst 1, 1) := dk_4 (dk_at dksX2_isSo_0 15 rfl rfl)
theorem dX2_isSo_16 : decode cX2_isSo 16 = .ok (.goto 44, 3) := dk_167 0 44 (dk_at dksX2_isSo_0 16 rfl rfl)
theorem dX2_isSo_19 : decode cX2_isSo 19 = .ok (.iconst 0, 1) := dk_3 (dk_at dksX2_isSo_0 19 rfl rfl)
theorem dX2_isSo_20 : decode cX2_isSo 20 = .ok (.goto 40, 3) := dk_167 0 40 (dk_at dksX2_isSo_0 20 rfl rfl)
theorem dX2_isSo_23 : decode cX2_isSo 23 = .ok (.aload_n 0, 1) := dk_42 (dk_at dksX2_isSo_0 23 rfl rfl)
theorem dX2_isSo_24 : decode cX2_isSo 24 = .ok (.getfield 19, 3) := dk_180 0 19 (dk_at dksX2_isSo_1 0 rfl rfl)
theorem dX2_isSo_27 : decode cX2_isSo 27 = .ok (.iconst 1, 1) := dk_4 (dk_at dksX2_isSo_1 3 rfl rfl)
theorem dX2_isSo_28 : decode cX2_isSo 28 = .ok (.if_icmp .ne 19, 3) := dk_160 0 19 (dk_at dksX2_isSo_1 4 rfl rfl)
theorem dX2_isSo_31 : decode cX2_isSo 31 = .ok (.iload_n 1, 1) := dk_27 (dk_at dksX2_isSo_1 7 rfl rfl)
theorem dX2_isSo_32 : decode cX2_isSo 32 = .ok (.aload_n 0, 1) := dk_42 (dk_at dksX2_isSo_1 8 rfl rfl)
theorem dX2_isSo_33 : decode cX2_isSo 33 = .ok (.getfield 22, 3) := dk_180 0 22 (dk_at dksX2_isSo_1 9 rfl rfl)
theorem dX2_isSo_36 : decode cX2_isSo 36 = .ok (.if_icmp .ne 7, 3) := dk_160 0 7 (dk_at dksX2_isSo_1 12 rfl rfl)
theorem dX2_isSo_39 : decode cX2_isSo 39 = .ok (.iconst 1, 1) := dk_4 (dk_at dksX2_isSo_1 15 rfl rfl)
theorem dX2_isSo_40 : decode cX2_isSo 40 = .ok (.goto 20, 3) := dk_167 0 20 (dk_at dksX2_isSo_1 16 rfl rfl)
theorem dX2_isSo_43 : decode cX2_isSo 43 = .ok (.iconst 0, 1) := dk_3 (dk_at dksX2_isSo_1 19 rfl rfl)
theorem dX2_isSo_44 : decode cX2_isSo 44 = .ok (.goto 16, 3) := dk_167 0 16 (dk_at dksX2_isSo_1 20 rfl rfl)
theorem dX2_isSo_47 : decode cX2_isSo 47 = .ok (.iload_n 1, 1) := dk_27 (dk_at dksX2_isSo_1 23 rfl rfl)
theorem dX2_isSo_48 : decode cX2_isSo 48 = .ok (.aload_n 0, 1) := dk_42 (dk_at dksX2_isSo_2 0 rfl rfl)
theorem dX2_isSo_49 : decode cX2_isSo 49 = .ok (.getfield 22, 3) := dk_180 0 22 (dk_at dksX2_isSo_2 1 rfl rfl)
theorem dX2_isSo_52 : decode cX2_isSo 52 = .ok (.if_icmp .le 7, 3) := dk_164 0 7 (dk_at dksX2_isSo_2 4 rfl rfl)
theorem dX2_isSo_55 : decode cX2_isSo 55 = .ok (.iconst 1, 1) := dk_4 (dk_at dksX2_isSo_2 7 rfl rfl)
theorem dX2_isSo_56 : decode cX2_isSo 56 = .ok (.goto 4, 3) := dk_167 0 4 (dk_at dksX2_isSo_2 8 rfl rfl)
theorem dX2_isSo_59 : decode cX2_isSo 59 = .ok (.iconst 0, 1) := dk_3 (dk_at dksX2_isSo_2 11 rfl rfl)
theorem dX2_isSo_60 : decode cX2_isSo 60 = .ok (.ireturn, 1) := dk_172 (dk_at dksX2_isSo_2 12 rfl rfl)
theorem q59 : (Jvm.Cond.initialized "RingMeets$Rule") ∈ lw_all := lw_g (lw_at lw_m1 3 rfl) rfl
theorem q89 : (Jvm.Cond.instantiable "RingMeets$Rule" (6 : Nat)) ∈ lw_all := lw_g (lw_at lw_m1 33 rfl) rfl
theorem q91 : (Jvm.Cond.instanceMethod ({ cls := "RingMeets$Rule", name := "<init>", desc := "()V" } : Jvm.MethodName)) ∈ lw_all := lw_g (lw_at lw_m1 35 rfl) rfl
theorem q92 : (Jvm.Cond.code ({ cls := "RingMeets$Rule", name := "<init>", desc := "()V" } : Jvm.MethodName) prog_13_method_1_code (1 : Nat) (Option.none : Option Jvm.ClassFile.FieldType)) ∈ lw_all := lw_g (lw_at lw_m1 36 rfl) rfl
theorem q93 : (Jvm.Cond.methodLink "RingMeets$Rule" (1 : Nat) ({ cls := "java/lang/Object", name := "<init>", desc := "()V" } : Jvm.MethodName)) ∈ lw_all := lw_g (lw_at lw_m1 37 rfl) rfl
theorem q94 : (Jvm.Cond.fieldLink "RingMeets$Rule" (13 : Nat) "RingMeets$Rule" "stands" "I") ∈ lw_all := lw_g (lw_at lw_m1 38 rfl) rfl
theorem q96 : (Jvm.Cond.fieldLink "RingMeets$Rule" (16 : Nat) "RingMeets$Rule" "place" "I") ∈ lw_all := lw_g (lw_at lw_m1 40 rfl) rfl
theorem q98 : (Jvm.Cond.fieldLink "RingMeets$Rule" (19 : Nat) "RingMeets$Rule" "how" "I") ∈ lw_all := lw_g (lw_at lw_m1 42 rfl) rfl
theorem q100 : (Jvm.Cond.fieldLink "RingMeets$Rule" (22 : Nat) "RingMeets$Rule" "number" "I") ∈ lw_all := lw_g (lw_at lw_m1 44 rfl) rfl
theorem q102 : (Jvm.Cond.fieldLink "RingMeets$Rule" (25 : Nat) "RingMeets$Rule" "done" "I") ∈ lw_all := lw_g (lw_at lw_m1 46 rfl) rfl
theorem q104 : (Jvm.Cond.fieldLink "RingMeets$Rule" (7 : Nat) "RingMeets$Rule" "whom" "I") ∈ lw_all := lw_g (lw_at lw_m1 48 rfl) rfl
theorem q106 : (Jvm.Cond.lays "RingMeets$Rule" "RingMeets$Rule" "stands" "I") ∈ lw_all := lw_g (lw_at lw_m1 50 rfl) rfl
theorem q107 : (Jvm.Cond.soleField "RingMeets$Rule" "stands") ∈ lw_all := lw_g (lw_at lw_m1 51 rfl) rfl
theorem q108 : (Jvm.Cond.lays "RingMeets$Rule" "RingMeets$Rule" "place" "I") ∈ lw_all := lw_g (lw_at lw_m1 52 rfl) rfl
theorem q109 : (Jvm.Cond.soleField "RingMeets$Rule" "place") ∈ lw_all := lw_g (lw_at lw_m1 53 rfl) rfl
theorem q110 : (Jvm.Cond.lays "RingMeets$Rule" "RingMeets$Rule" "how" "I") ∈ lw_all := lw_g (lw_at lw_m1 54 rfl) rfl
theorem q111 : (Jvm.Cond.soleField "RingMeets$Rule" "how") ∈ lw_all := lw_g (lw_at lw_m1 55 rfl) rfl
theorem q112 : (Jvm.Cond.lays "RingMeets$Rule" "RingMeets$Rule" "number" "I") ∈ lw_all := lw_g (lw_at lw_m1 56 rfl) rfl
theorem q113 : (Jvm.Cond.soleField "RingMeets$Rule" "number") ∈ lw_all := lw_g (lw_at lw_m1 57 rfl) rfl
theorem q114 : (Jvm.Cond.lays "RingMeets$Rule" "RingMeets$Rule" "done" "I") ∈ lw_all := lw_g (lw_at lw_m1 58 rfl) rfl
theorem q115 : (Jvm.Cond.soleField "RingMeets$Rule" "done") ∈ lw_all := lw_g (lw_at lw_m1 59 rfl) rfl
theorem q116 : (Jvm.Cond.lays "RingMeets$Rule" "RingMeets$Rule" "whom" "I") ∈ lw_all := lw_g (lw_at lw_m1 60 rfl) rfl
theorem q117 : (Jvm.Cond.soleField "RingMeets$Rule" "whom") ∈ lw_all := lw_g (lw_at lw_m1 61 rfl) rfl
theorem q118 : (Jvm.Cond.superclass "RingMeets$Rule" "java/lang/Object") ∈ lw_all := lw_g (lw_at lw_m1 62 rfl) rfl
theorem q454 : (Jvm.Cond.instanceMethod ({ cls := "RingMeets$Rule", name := "take", desc := "(LRingMeets$Rule;)V" } : Jvm.MethodName)) ∈ lw_all := lw_g (lw_at lw_m2 158 rfl) rfl
theorem q455 : (Jvm.Cond.selects "RingMeets$Rule" ({ cls := "RingMeets$Rule", name := "take", desc := "(LRingMeets$Rule;)V" } : Jvm.MethodName) ({ cls := "RingMeets$Rule", name := "take", desc := "(LRingMeets$Rule;)V" } : Jvm.MethodName)) ∈ lw_all := lw_g (lw_at lw_m2 159 rfl) rfl
theorem q456 : (Jvm.Cond.code ({ cls := "RingMeets$Rule", name := "take", desc := "(LRingMeets$Rule;)V" } : Jvm.MethodName) prog_13_method_2_code (2 : Nat) (Option.none : Option Jvm.ClassFile.FieldType)) ∈ lw_all := lw_g (lw_at lw_m2 160 rfl) rfl
theorem q474 : (Jvm.Cond.instanceMethod ({ cls := "RingMeets$Rule", name := "isSo", desc := "(I)Z" } : Jvm.MethodName)) ∈ lw_all := lw_g (lw_at lw_m2 178 rfl) rfl
theorem q475 : (Jvm.Cond.selects "RingMeets$Rule" ({ cls := "RingMeets$Rule", name := "isSo", desc := "(I)Z" } : Jvm.MethodName) ({ cls := "RingMeets$Rule", name := "isSo", desc := "(I)Z" } : Jvm.MethodName)) ∈ lw_all := lw_g (lw_at lw_m2 179 rfl) rfl
theorem q476 : (Jvm.Cond.code ({ cls := "RingMeets$Rule", name := "isSo", desc := "(I)Z" } : Jvm.MethodName) prog_13_method_3_code (2 : Nat) (Option.some Jvm.ClassFile.FieldType.boolean)) ∈ lw_all := lw_g (lw_at lw_m2 180 rfl) rfl
theorem in_X2 : ∀ w ∈ wsX20, w ∈ lw_all := lw_in wsX20 [106, 108, 110, 112, 114, 116] (by decide +kernel) (by decide +kernel)

/-! RingMeets$Likeness -/
set_option maxRecDepth 100000
def RX3 : String := "RingMeets$Likeness"
abbrev cX3_init : ByteArray := prog_11_method_1_code
def yX3_init : MethodName := ⟨RX3, "<init>", "(LRingMeets;)V"⟩
def dkwX3_init_0 : List UInt8 := [42, 43, 181, 0, 1, 42, 183, 0, 7, 177]
abbrev dktX3_init_0 : List UInt8 := dkwX3_init_0 ++ []
theorem dksX3_init_0 : cX3_init.data.toList.drop 0 = dktX3_init_0 := by decide +kernel
theorem dX3_init_0 : decode cX3_init 0 = .ok (.aload_n 0, 1) := dk_42 (dk_at dksX3_init_0 0 rfl rfl)
theorem dX3_init_1 : decode cX3_init 1 = .ok (.aload_n 1, 1) := dk_43 (dk_at dksX3_init_0 1 rfl rfl)
theorem dX3_init_2 : decode cX3_init 2 = .ok (.putfield 1, 3) := dk_181 0 1 (dk_at dksX3_init_0 2 rfl rfl)
theorem dX3_init_5 : decode cX3_init 5 = .ok (.aload_n 0, 1) := dk_42 (dk_at dksX3_init_0 5 rfl rfl)
theorem dX3_init_6 : decode cX3_init 6 = .ok (.invokespecial 7, 3) := dk_183 0 7 (dk_at dksX3_init_0 6 rfl rfl)
theorem dX3_init_9 : decode cX3_init 9 = .ok (.return_, 1) := dk_177 (dk_at dksX3_init_0 9 rfl rfl)
abbrev cX3_isAny : ByteArray := prog_11_method_3_code
def yX3_isAny : MethodName := ⟨RX3, "isAny", "(I)Z"⟩
def dkwX3_isAny_4 : List UInt8 := [3, 172]
abbrev dktX3_isAny_4 : List UInt8 := dkwX3_isAny_4 ++ []
def dkwX3_isAny_3 : List UInt8 := [182, 0, 34, 54, 5, 42, 27, 29, 21, 5, 182, 0, 38, 153, 0, 5, 4, 172, 167, 255, 218, 167, 255, 180]
abbrev dktX3_isAny_3 : List UInt8 := dkwX3_isAny_3 ++ dktX3_isAny_4
def dkwX3_isAny_2 : List UInt8 := [58, 4, 25, 4, 185, 0, 22, 1, 0, 153, 0, 34, 25, 4, 185, 0, 28, 1, 0, 192, 0, 32]
abbrev dktX3_isAny_2 : List UInt8 := dkwX3_isAny_2 ++ dktX3_isAny_3
def dkwX3_isAny_1 : List UInt8 := [185, 0, 28, 1, 0, 192, 0, 32, 182, 0, 34, 62, 187, 0, 13, 89, 27, 183, 0, 15, 182, 0, 18]
abbrev dktX3_isAny_1 : List UInt8 := dkwX3_isAny_1 ++ dktX3_isAny_2
def dkwX3_isAny_0 : List UInt8 := [187, 0, 13, 89, 27, 183, 0, 15, 182, 0, 18, 77, 44, 185, 0, 22, 1, 0, 153, 0, 73, 44]
abbrev dktX3_isAny_0 : List UInt8 := dkwX3_isAny_0 ++ dktX3_isAny_1
theorem dksX3_isAny_0 : cX3_isAny.data.toList.drop 0 = dktX3_isAny_0 := by decide +kernel
theorem dksX3_isAny_1 : cX3_isAny.data.toList.drop 22 = dktX3_isAny_1 := dk_seg dksX3_isAny_0 22 rfl rfl
theorem dksX3_isAny_2 : cX3_isAny.data.toList.drop 45 = dktX3_isAny_2 := dk_seg dksX3_isAny_1 23 rfl rfl
theorem dksX3_isAny_3 : cX3_isAny.data.toList.drop 67 = dktX3_isAny_3 := dk_seg dksX3_isAny_2 22 rfl rfl
theorem dksX3_isAny_4 : cX3_isAny.data.toList.drop 91 = dktX3_isAny_4 := dk_seg dksX3_isAny_3 24 rfl rfl
theorem dX3_isAny_0 : decode cX3_isAny 0 = .ok (.new 13, 3) := dk_187 0 13 (dk_at dksX3_isAny_0 0 rfl rfl)
theorem dX3_isAny_3 : decode cX3_isAny 3 = .ok (.dup, 1) := dk_89 (dk_at dksX3_isAny_0 3 rfl rfl)
theorem dX3_isAny_4 : decode cX3_isAny 4 = .ok (.iload_n 1, 1) := dk_27 (dk_at dksX3_isAny_0 4 rfl rfl)
theorem dX3_isAny_5 : decode cX3_isAny 5 = .ok (.invokespecial 15, 3) := dk_183 0 15 (dk_at dksX3_isAny_0 5 rfl rfl)
theorem dX3_isAny_8 : decode cX3_isAny 8 = .ok (.invokevirtual 18, 3) := dk_182 0 18 (dk_at dksX3_isAny_0 8 rfl rfl)
theorem dX3_isAny_11 : decode cX3_isAny 11 = .ok (.astore_n 2, 1) := dk_77 (dk_at dksX3_isAny_0 11 rfl rfl)
theorem dX3_isAny_12 : decode cX3_isAny 12 = .ok (.aload_n 2, 1) := dk_44 (dk_at dksX3_isAny_0 12 rfl rfl)
theorem dX3_isAny_13 : decode cX3_isAny 13 = .ok (.invokeinterface 22 1, 5) := by decide +kernel
theorem dX3_isAny_18 : decode cX3_isAny 18 = .ok (.ifCond .eq 73, 3) := dk_153 0 73 (dk_at dksX3_isAny_0 18 rfl rfl)
theorem dX3_isAny_21 : decode cX3_isAny 21 = .ok (.aload_n 2, 1) := dk_44 (dk_at dksX3_isAny_0 21 rfl rfl)
theorem dX3_isAny_22 : decode cX3_isAny 22 = .ok (.invokeinterface 28 1, 5) := by decide +kernel
theorem dX3_isAny_27 : decode cX3_isAny 27 = .ok (.checkcast 32, 3) := dk_192 0 32 (dk_at dksX3_isAny_1 5 rfl rfl)
theorem dX3_isAny_30 : decode cX3_isAny 30 = .ok (.invokevirtual 34, 3) := dk_182 0 34 (dk_at dksX3_isAny_1 8 rfl rfl)
theorem dX3_isAny_33 : decode cX3_isAny 33 = .ok (.istore_n 3, 1) := dk_62 (dk_at dksX3_isAny_1 11 rfl rfl)
theorem dX3_isAny_34 : decode cX3_isAny 34 = .ok (.new 13, 3) := dk_187 0 13 (dk_at dksX3_isAny_1 12 rfl rfl)
theorem dX3_isAny_37 : decode cX3_isAny 37 = .ok (.dup, 1) := dk_89 (dk_at dksX3_isAny_1 15 rfl rfl)
theorem dX3_isAny_38 : decode cX3_isAny 38 = .ok (.iload_n 1, 1) := dk_27 (dk_at dksX3_isAny_1 16 rfl rfl)
theorem dX3_isAny_39 : decode cX3_isAny 39 = .ok (.invokespecial 15, 3) := dk_183 0 15 (dk_at dksX3_isAny_1 17 rfl rfl)
theorem dX3_isAny_42 : decode cX3_isAny 42 = .ok (.invokevirtual 18, 3) := dk_182 0 18 (dk_at dksX3_isAny_1 20 rfl rfl)
theorem dX3_isAny_45 : decode cX3_isAny 45 = .ok (.astore 4, 2) := dk_58 4 (dk_at dksX3_isAny_2 0 rfl rfl)
theorem dX3_isAny_47 : decode cX3_isAny 47 = .ok (.aload 4, 2) := dk_25 4 (dk_at dksX3_isAny_2 2 rfl rfl)
theorem dX3_isAny_49 : decode cX3_isAny 49 = .ok (.invokeinterface 22 1, 5) := by decide +kernel
theorem dX3_isAny_54 : decode cX3_isAny 54 = .ok (.ifCond .eq 34, 3) := dk_153 0 34 (dk_at dksX3_isAny_2 9 rfl rfl)
theorem dX3_isAny_57 : decode cX3_isAny 57 = .ok (.aload 4, 2) := dk_25 4 (dk_at dksX3_isAny_2 12 rfl rfl)
theorem dX3_isAny_59 : decode cX3_isAny 59 = .ok (.invokeinterface 28 1, 5) := by decide +kernel
theorem dX3_isAny_64 : decode cX3_isAny 64 = .ok (.checkcast 32, 3) := dk_192 0 32 (dk_at dksX3_isAny_2 19 rfl rfl)
theorem dX3_isAny_67 : decode cX3_isAny 67 = .ok (.invokevirtual 34, 3) := dk_182 0 34 (dk_at dksX3_isAny_3 0 rfl rfl)
theorem dX3_isAny_70 : decode cX3_isAny 70 = .ok (.istore 5, 2) := dk_54 5 (dk_at dksX3_isAny_3 3 rfl rfl)
theorem dX3_isAny_72 : decode cX3_isAny 72 = .ok (.aload_n 0, 1) := dk_42 (dk_at dksX3_isAny_3 5 rfl rfl)
theorem dX3_isAny_73 : decode cX3_isAny 73 = .ok (.iload_n 1, 1) := dk_27 (dk_at dksX3_isAny_3 6 rfl rfl)
theorem dX3_isAny_74 : decode cX3_isAny 74 = .ok (.iload_n 3, 1) := dk_29 (dk_at dksX3_isAny_3 7 rfl rfl)
theorem dX3_isAny_75 : decode cX3_isAny 75 = .ok (.iload 5, 2) := dk_21 5 (dk_at dksX3_isAny_3 8 rfl rfl)
theorem dX3_isAny_77 : decode cX3_isAny 77 = .ok (.invokevirtual 38, 3) := dk_182 0 38 (dk_at dksX3_isAny_3 10 rfl rfl)
theorem dX3_isAny_80 : decode cX3_isAny 80 = .ok (.ifCond .eq 5, 3) := dk_153 0 5 (dk_at dksX3_isAny_3 13 rfl rfl)
theorem dX3_isAny_83 : decode cX3_isAny 83 = .ok (.iconst 1, 1) := dk_4 (dk_at dksX3_isAny_3 16 rfl rfl)
theorem dX3_isAny_84 : decode cX3_isAny 84 = .ok (.ireturn, 1) := dk_172 (dk_at dksX3_isAny_3 17 rfl rfl)
theorem dX3_isAny_85 : decode cX3_isAny 85 = .ok (.goto (-38), 3) := dk_167 255 218 (dk_at dksX3_isAny_3 18 rfl rfl)
theorem dX3_isAny_88 : decode cX3_isAny 88 = .ok (.goto (-76), 3) := dk_167 255 180 (dk_at dksX3_isAny_3 21 rfl rfl)
theorem dX3_isAny_91 : decode cX3_isAny 91 = .ok (.iconst 0, 1) := dk_3 (dk_at dksX3_isAny_4 0 rfl rfl)
theorem dX3_isAny_92 : decode cX3_isAny 92 = .ok (.ireturn, 1) := dk_172 (dk_at dksX3_isAny_4 1 rfl rfl)
abbrev cX3_kinds : ByteArray := prog_11_method_4_code
def yX3_kinds : MethodName := ⟨RX3, "kinds", "(I)I"⟩
def dkwX3_kinds_5 : List UInt8 := [3, 96, 61, 167, 255, 147, 28, 172]
abbrev dktX3_kinds_5 : List UInt8 := dkwX3_kinds_5 ++ []
def dkwX3_kinds_4 : List UInt8 := [154, 0, 7, 4, 167, 0, 4, 3, 126, 54, 5, 167, 255, 209, 28, 21, 5, 153, 0, 7, 4, 167, 0, 4]
abbrev dktX3_kinds_4 : List UInt8 := dkwX3_kinds_4 ++ dktX3_kinds_5
def dkwX3_kinds_3 : List UInt8 := [185, 0, 28, 1, 0, 192, 0, 32, 182, 0, 34, 54, 7, 21, 5, 42, 27, 21, 4, 21, 7, 182, 0, 38]
abbrev dktX3_kinds_3 : List UInt8 := dkwX3_kinds_3 ++ dktX3_kinds_4
def dkwX3_kinds_2 : List UInt8 := [120, 4, 100, 126, 183, 0, 15, 182, 0, 18, 58, 6, 25, 6, 185, 0, 22, 1, 0, 153, 0, 43, 25, 6]
abbrev dktX3_kinds_2 : List UInt8 := dkwX3_kinds_2 ++ dktX3_kinds_3
def dkwX3_kinds_1 : List UInt8 := [185, 0, 28, 1, 0, 192, 0, 32, 182, 0, 34, 54, 4, 4, 54, 5, 187, 0, 13, 89, 27, 4, 21, 4]
abbrev dktX3_kinds_1 : List UInt8 := dkwX3_kinds_1 ++ dktX3_kinds_2
def dkwX3_kinds_0 : List UInt8 := [3, 61, 187, 0, 13, 89, 27, 183, 0, 15, 182, 0, 18, 78, 45, 185, 0, 22, 1, 0, 153, 0, 106, 45]
abbrev dktX3_kinds_0 : List UInt8 := dkwX3_kinds_0 ++ dktX3_kinds_1
theorem dksX3_kinds_0 : cX3_kinds.data.toList.drop 0 = dktX3_kinds_0 := by decide +kernel
theorem dksX3_kinds_1 : cX3_kinds.data.toList.drop 24 = dktX3_kinds_1 := dk_seg dksX3_kinds_0 24 rfl rfl
theorem dksX3_kinds_2 : cX3_kinds.data.toList.drop 48 = dktX3_kinds_2 := dk_seg dksX3_kinds_1 24 rfl rfl
theorem dksX3_kinds_3 : cX3_kinds.data.toList.drop 72 = dktX3_kinds_3 := dk_seg dksX3_kinds_2 24 rfl rfl
theorem dksX3_kinds_4 : cX3_kinds.data.toList.drop 96 = dktX3_kinds_4 := dk_seg dksX3_kinds_3 24 rfl rfl
theorem dksX3_kinds_5 : cX3_kinds.data.toList.drop 120 = dktX3_kinds_5 := dk_seg dksX3_kinds_4 24 rfl rfl
theorem dX3_kinds_0 : decode cX3_kinds 0 = .ok (.iconst 0, 1) := dk_3 (dk_at dksX3_kinds_0 0 rfl rfl)
theorem dX3_kinds_1 : decode cX3_kinds 1 = .ok (.istore_n 2, 1) := dk_61 (dk_at dksX3_kinds_0 1 rfl rfl)
theorem dX3_kinds_2 : decode cX3_kinds 2 = .ok (.new 13, 3) := dk_187 0 13 (dk_at dksX3_kinds_0 2 rfl rfl)
theorem dX3_kinds_5 : decode cX3_kinds 5 = .ok (.dup, 1) := dk_89 (dk_at dksX3_kinds_0 5 rfl rfl)
theorem dX3_kinds_6 : decode cX3_kinds 6 = .ok (.iload_n 1, 1) := dk_27 (dk_at dksX3_kinds_0 6 rfl rfl)
theorem dX3_kinds_7 : decode cX3_kinds 7 = .ok (.invokespecial 15, 3) := dk_183 0 15 (dk_at dksX3_kinds_0 7 rfl rfl)
theorem dX3_kinds_10 : decode cX3_kinds 10 = .ok (.invokevirtual 18, 3) := dk_182 0 18 (dk_at dksX3_kinds_0 10 rfl rfl)
theorem dX3_kinds_13 : decode cX3_kinds 13 = .ok (.astore_n 3, 1) := dk_78 (dk_at dksX3_kinds_0 13 rfl rfl)
theorem dX3_kinds_14 : decode cX3_kinds 14 = .ok (.aload_n 3, 1) := dk_45 (dk_at dksX3_kinds_0 14 rfl rfl)
theorem dX3_kinds_15 : decode cX3_kinds 15 = .ok (.invokeinterface 22 1, 5) := by decide +kernel
theorem dX3_kinds_20 : decode cX3_kinds 20 = .ok (.ifCond .eq 106, 3) := dk_153 0 106 (dk_at dksX3_kinds_0 20 rfl rfl)
theorem dX3_kinds_23 : decode cX3_kinds 23 = .ok (.aload_n 3, 1) := dk_45 (dk_at dksX3_kinds_0 23 rfl rfl)
theorem dX3_kinds_24 : decode cX3_kinds 24 = .ok (.invokeinterface 28 1, 5) := by decide +kernel
theorem dX3_kinds_29 : decode cX3_kinds 29 = .ok (.checkcast 32, 3) := dk_192 0 32 (dk_at dksX3_kinds_1 5 rfl rfl)
theorem dX3_kinds_32 : decode cX3_kinds 32 = .ok (.invokevirtual 34, 3) := dk_182 0 34 (dk_at dksX3_kinds_1 8 rfl rfl)
theorem dX3_kinds_35 : decode cX3_kinds 35 = .ok (.istore 4, 2) := dk_54 4 (dk_at dksX3_kinds_1 11 rfl rfl)
theorem dX3_kinds_37 : decode cX3_kinds 37 = .ok (.iconst 1, 1) := dk_4 (dk_at dksX3_kinds_1 13 rfl rfl)
theorem dX3_kinds_38 : decode cX3_kinds 38 = .ok (.istore 5, 2) := dk_54 5 (dk_at dksX3_kinds_1 14 rfl rfl)
theorem dX3_kinds_40 : decode cX3_kinds 40 = .ok (.new 13, 3) := dk_187 0 13 (dk_at dksX3_kinds_1 16 rfl rfl)
theorem dX3_kinds_43 : decode cX3_kinds 43 = .ok (.dup, 1) := dk_89 (dk_at dksX3_kinds_1 19 rfl rfl)
theorem dX3_kinds_44 : decode cX3_kinds 44 = .ok (.iload_n 1, 1) := dk_27 (dk_at dksX3_kinds_1 20 rfl rfl)
theorem dX3_kinds_45 : decode cX3_kinds 45 = .ok (.iconst 1, 1) := dk_4 (dk_at dksX3_kinds_1 21 rfl rfl)
theorem dX3_kinds_46 : decode cX3_kinds 46 = .ok (.iload 4, 2) := dk_21 4 (dk_at dksX3_kinds_1 22 rfl rfl)
theorem dX3_kinds_48 : decode cX3_kinds 48 = .ok (.ishl, 1) := dk_120 (dk_at dksX3_kinds_2 0 rfl rfl)
theorem dX3_kinds_49 : decode cX3_kinds 49 = .ok (.iconst 1, 1) := dk_4 (dk_at dksX3_kinds_2 1 rfl rfl)
theorem dX3_kinds_50 : decode cX3_kinds 50 = .ok (.isub, 1) := dk_100 (dk_at dksX3_kinds_2 2 rfl rfl)
theorem dX3_kinds_51 : decode cX3_kinds 51 = .ok (.iand, 1) := dk_126 (dk_at dksX3_kinds_2 3 rfl rfl)
theorem dX3_kinds_52 : decode cX3_kinds 52 = .ok (.invokespecial 15, 3) := dk_183 0 15 (dk_at dksX3_kinds_2 4 rfl rfl)
theorem dX3_kinds_55 : decode cX3_kinds 55 = .ok (.invokevirtual 18, 3) := dk_182 0 18 (dk_at dksX3_kinds_2 7 rfl rfl)
theorem dX3_kinds_58 : decode cX3_kinds 58 = .ok (.astore 6, 2) := dk_58 6 (dk_at dksX3_kinds_2 10 rfl rfl)
theorem dX3_kinds_60 : decode cX3_kinds 60 = .ok (.aload 6, 2) := dk_25 6 (dk_at dksX3_kinds_2 12 rfl rfl)
theorem dX3_kinds_62 : decode cX3_kinds 62 = .ok (.invokeinterface 22 1, 5) := by decide +kernel
theorem dX3_kinds_67 : decode cX3_kinds 67 = .ok (.ifCond .eq 43, 3) := dk_153 0 43 (dk_at dksX3_kinds_2 19 rfl rfl)
theorem dX3_kinds_70 : decode cX3_kinds 70 = .ok (.aload 6, 2) := dk_25 6 (dk_at dksX3_kinds_2 22 rfl rfl)
theorem dX3_kinds_72 : decode cX3_kinds 72 = .ok (.invokeinterface 28 1, 5) := by decide +kernel
theorem dX3_kinds_77 : decode cX3_kinds 77 = .ok (.checkcast 32, 3) := dk_192 0 32 (dk_at dksX3_kinds_3 5 rfl rfl)
theorem dX3_kinds_80 : decode cX3_kinds 80 = .ok (.invokevirtual 34, 3) := dk_182 0 34 (dk_at dksX3_kinds_3 8 rfl rfl)
theorem dX3_kinds_83 : decode cX3_kinds 83 = .ok (.istore 7, 2) := dk_54 7 (dk_at dksX3_kinds_3 11 rfl rfl)
theorem dX3_kinds_85 : decode cX3_kinds 85 = .ok (.iload 5, 2) := dk_21 5 (dk_at dksX3_kinds_3 13 rfl rfl)
theorem dX3_kinds_87 : decode cX3_kinds 87 = .ok (.aload_n 0, 1) := dk_42 (dk_at dksX3_kinds_3 15 rfl rfl)
theorem dX3_kinds_88 : decode cX3_kinds 88 = .ok (.iload_n 1, 1) := dk_27 (dk_at dksX3_kinds_3 16 rfl rfl)
theorem dX3_kinds_89 : decode cX3_kinds 89 = .ok (.iload 4, 2) := dk_21 4 (dk_at dksX3_kinds_3 17 rfl rfl)
theorem dX3_kinds_91 : decode cX3_kinds 91 = .ok (.iload 7, 2) := dk_21 7 (dk_at dksX3_kinds_3 19 rfl rfl)
theorem dX3_kinds_93 : decode cX3_kinds 93 = .ok (.invokevirtual 38, 3) := dk_182 0 38 (dk_at dksX3_kinds_3 21 rfl rfl)
theorem dX3_kinds_96 : decode cX3_kinds 96 = .ok (.ifCond .ne 7, 3) := dk_154 0 7 (dk_at dksX3_kinds_4 0 rfl rfl)
theorem dX3_kinds_99 : decode cX3_kinds 99 = .ok (.iconst 1, 1) := dk_4 (dk_at dksX3_kinds_4 3 rfl rfl)
theorem dX3_kinds_100 : decode cX3_kinds 100 = .ok (.goto 4, 3) := dk_167 0 4 (dk_at dksX3_kinds_4 4 rfl rfl)
theorem dX3_kinds_103 : decode cX3_kinds 103 = .ok (.iconst 0, 1) := dk_3 (dk_at dksX3_kinds_4 7 rfl rfl)
theorem dX3_kinds_104 : decode cX3_kinds 104 = .ok (.iand, 1) := dk_126 (dk_at dksX3_kinds_4 8 rfl rfl)
theorem dX3_kinds_105 : decode cX3_kinds 105 = .ok (.istore 5, 2) := dk_54 5 (dk_at dksX3_kinds_4 9 rfl rfl)
theorem dX3_kinds_107 : decode cX3_kinds 107 = .ok (.goto (-47), 3) := dk_167 255 209 (dk_at dksX3_kinds_4 11 rfl rfl)
theorem dX3_kinds_110 : decode cX3_kinds 110 = .ok (.iload_n 2, 1) := dk_28 (dk_at dksX3_kinds_4 14 rfl rfl)
theorem dX3_kinds_111 : decode cX3_kinds 111 = .ok (.iload 5, 2) := dk_21 5 (dk_at dksX3_kinds_4 15 rfl rfl)
theorem dX3_kinds_113 : decode cX3_kinds 113 = .ok (.ifCond .eq 7, 3) := dk_153 0 7 (dk_at dksX3_kinds_4 17 rfl rfl)
theorem dX3_kinds_116 : decode cX3_kinds 116 = .ok (.iconst 1, 1) := dk_4 (dk_at dksX3_kinds_4 20 rfl rfl)
theorem dX3_kinds_117 : decode cX3_kinds 117 = .ok (.goto 4, 3) := dk_167 0 4 (dk_at dksX3_kinds_4 21 rfl rfl)
theorem dX3_kinds_120 : decode cX3_kinds 120 = .ok (.iconst 0, 1) := dk_3 (dk_at dksX3_kinds_5 0 rfl rfl)
theorem dX3_kinds_121 : decode cX3_kinds 121 = .ok (.iadd, 1) := dk_96 (dk_at dksX3_kinds_5 1 rfl rfl)
theorem dX3_kinds_122 : decode cX3_kinds 122 = .ok (.istore_n 2, 1) := dk_61 (dk_at dksX3_kinds_5 2 rfl rfl)
theorem dX3_kinds_123 : decode cX3_kinds 123 = .ok (.goto (-109), 3) := dk_167 255 147 (dk_at dksX3_kinds_5 3 rfl rfl)
theorem dX3_kinds_126 : decode cX3_kinds 126 = .ok (.iload_n 2, 1) := dk_28 (dk_at dksX3_kinds_5 6 rfl rfl)
theorem dX3_kinds_127 : decode cX3_kinds 127 = .ok (.ireturn, 1) := dk_172 (dk_at dksX3_kinds_5 7 rfl rfl)
theorem q60 : (Jvm.Cond.initialized "RingMeets$Likeness") ∈ lw_all := lw_g (lw_at lw_m1 4 rfl) rfl
theorem q145 : (Jvm.Cond.instanceMethod ({ cls := "RingMeets$Likeness", name := "<init>", desc := "(LRingMeets;)V" } : Jvm.MethodName)) ∈ lw_all := lw_g (lw_at lw_m1 89 rfl) rfl
theorem q146 : (Jvm.Cond.code ({ cls := "RingMeets$Likeness", name := "<init>", desc := "(LRingMeets;)V" } : Jvm.MethodName) prog_11_method_1_code (2 : Nat) (Option.none : Option Jvm.ClassFile.FieldType)) ∈ lw_all := lw_g (lw_at lw_m1 90 rfl) rfl
theorem q147 : (Jvm.Cond.methodLink "RingMeets$Likeness" (7 : Nat) ({ cls := "java/lang/Object", name := "<init>", desc := "()V" } : Jvm.MethodName)) ∈ lw_all := lw_g (lw_at lw_m1 91 rfl) rfl
theorem q149 : (Jvm.Cond.fieldLink "RingMeets$Likeness" (1 : Nat) "RingMeets$Likeness" "this$0" "LRingMeets;") ∈ lw_all := lw_g (lw_at lw_m1 93 rfl) rfl
theorem q153 : (Jvm.Cond.soleField "RingMeets$Likeness" "this$0") ∈ lw_all := lw_g (lw_at lw_m1 97 rfl) rfl
theorem q291 : (Jvm.Cond.instanceMethod ({ cls := "RingMeets$Likeness", name := "isAny", desc := "(I)Z" } : Jvm.MethodName)) ∈ lw_all := lw_g (lw_at lw_m1 235 rfl) rfl
theorem q292 : (Jvm.Cond.sameMethod "RingMeets$Likeness" "RingMeets$Likeness" "isAny" "(I)Z") ∈ lw_all := lw_g (lw_at lw_m1 236 rfl) rfl
theorem q296 : (Jvm.Cond.code ({ cls := "RingMeets$Likeness", name := "isAny", desc := "(I)Z" } : Jvm.MethodName) prog_11_method_3_code (6 : Nat) (Option.some Jvm.ClassFile.FieldType.boolean)) ∈ lw_all := lw_g (lw_at lw_m2 0 rfl) rfl
theorem q297 : (Jvm.Cond.classLink "RingMeets$Likeness" (13 : Nat) "RingMeets$Cells") ∈ lw_all := lw_g (lw_at lw_m2 1 rfl) rfl
theorem q299 : (Jvm.Cond.methodLink "RingMeets$Likeness" (15 : Nat) ({ cls := "RingMeets$Cells", name := "<init>", desc := "(I)V" } : Jvm.MethodName)) ∈ lw_all := lw_g (lw_at lw_m2 3 rfl) rfl
theorem q308 : (Jvm.Cond.methodLink "RingMeets$Likeness" (18 : Nat) ({ cls := "RingMeets$Cells", name := "iterator", desc := "()Ljava/util/Iterator;" } : Jvm.MethodName)) ∈ lw_all := lw_g (lw_at lw_m2 12 rfl) rfl
theorem q325 : (Jvm.Cond.interfaceEntry "RingMeets$Likeness" (22 : Nat)) ∈ lw_tbl := lw_at lw_m2 29 rfl
theorem q326 : (Jvm.Cond.methodLink "RingMeets$Likeness" (22 : Nat) ({ cls := "java/util/Iterator", name := "hasNext", desc := "()Z" } : Jvm.MethodName)) ∈ lw_all := lw_g (lw_at lw_m2 30 rfl) rfl
theorem q335 : (Jvm.Cond.interfaceEntry "RingMeets$Likeness" (28 : Nat)) ∈ lw_tbl := lw_at lw_m2 39 rfl
theorem q336 : (Jvm.Cond.methodLink "RingMeets$Likeness" (28 : Nat) ({ cls := "java/util/Iterator", name := "next", desc := "()Ljava/lang/Object;" } : Jvm.MethodName)) ∈ lw_all := lw_g (lw_at lw_m2 40 rfl) rfl
theorem q372 : (Jvm.Cond.classLink "RingMeets$Likeness" (32 : Nat) "java/lang/Integer") ∈ lw_all := lw_g (lw_at lw_m2 76 rfl) rfl
theorem q373 : (Jvm.Cond.methodLink "RingMeets$Likeness" (34 : Nat) ({ cls := "java/lang/Integer", name := "intValue", desc := "()I" } : Jvm.MethodName)) ∈ lw_all := lw_g (lw_at lw_m2 77 rfl) rfl
theorem q377 : (Jvm.Cond.methodLink "RingMeets$Likeness" (38 : Nat) ({ cls := "RingMeets$Likeness", name := "isLike", desc := "(III)Z" } : Jvm.MethodName)) ∈ lw_all := lw_g (lw_at lw_m2 81 rfl) rfl
theorem q378 : (Jvm.Cond.declares ({ cls := "RingMeets$Likeness", name := "isLike", desc := "(III)Z" } : Jvm.MethodName)) ∈ lw_tbl := lw_at lw_m2 82 rfl
theorem q379 : (Jvm.Cond.sameMethod "RingMeets$Likeness" "RingMeets$Likeness" "isLike" "(III)Z") ∈ lw_all := lw_g (lw_at lw_m2 83 rfl) rfl
theorem q424 : (Jvm.Cond.declares ({ cls := "RingMeets$Likeness", name := "kinds", desc := "(I)I" } : Jvm.MethodName)) ∈ lw_tbl := lw_at lw_m2 128 rfl
theorem q426 : (Jvm.Cond.instanceMethod ({ cls := "RingMeets$Likeness", name := "kinds", desc := "(I)I" } : Jvm.MethodName)) ∈ lw_all := lw_g (lw_at lw_m2 130 rfl) rfl
theorem q427 : (Jvm.Cond.code ({ cls := "RingMeets$Likeness", name := "kinds", desc := "(I)I" } : Jvm.MethodName) prog_11_method_4_code (8 : Nat) (Option.some Jvm.ClassFile.FieldType.int)) ∈ lw_all := lw_g (lw_at lw_m2 131 rfl) rfl

/-! RingMeets$1 -/
set_option maxRecDepth 100000
def RX4 : String := "RingMeets$1"
def TX4 : u_T := fun k => match k with
  | 0 => ("RingMeets$Likeness", "this$0", "LRingMeets;", true)
  | _ => ("RingMeets$1", "this$0", "LRingMeets;", true)
def tyX4 : Nat → FieldType := fun k => match k with
  | 0 => .object "RingMeets"
  | _ => .object "RingMeets"
abbrev wsX40 : List Cond := u_ws RX4 TX4 2
-- two fields of one name: no nmX4
theorem tyX4_ok : ∀ k, k < 2 → parseFieldDescriptor (TX4 k).2.2.1 = some (tyX4 k) := by decide +kernel
abbrev cX4_init : ByteArray := prog_2_method_1_code
def yX4_init : MethodName := ⟨RX4, "<init>", "(LRingMeets;)V"⟩
def dkwX4_init_0 : List UInt8 := [42, 43, 181, 0, 1, 42, 43, 183, 0, 7, 177]
abbrev dktX4_init_0 : List UInt8 := dkwX4_init_0 ++ []
theorem dksX4_init_0 : cX4_init.data.toList.drop 0 = dktX4_init_0 := by decide +kernel
theorem dX4_init_0 : decode cX4_init 0 = .ok (.aload_n 0, 1) := dk_42 (dk_at dksX4_init_0 0 rfl rfl)
theorem dX4_init_1 : decode cX4_init 1 = .ok (.aload_n 1, 1) := dk_43 (dk_at dksX4_init_0 1 rfl rfl)
theorem dX4_init_2 : decode cX4_init 2 = .ok (.putfield 1, 3) := dk_181 0 1 (dk_at dksX4_init_0 2 rfl rfl)
theorem dX4_init_5 : decode cX4_init 5 = .ok (.aload_n 0, 1) := dk_42 (dk_at dksX4_init_0 5 rfl rfl)
theorem dX4_init_6 : decode cX4_init 6 = .ok (.aload_n 1, 1) := dk_43 (dk_at dksX4_init_0 6 rfl rfl)
theorem dX4_init_7 : decode cX4_init 7 = .ok (.invokespecial 7, 3) := dk_183 0 7 (dk_at dksX4_init_0 7 rfl rfl)
theorem dX4_init_10 : decode cX4_init 10 = .ok (.return_, 1) := dk_177 (dk_at dksX4_init_0 10 rfl rfl)
abbrev cX4_isLike : ByteArray := prog_2_method_2_code
def yX4_isLike : MethodName := ⟨RX4, "isLike", "(III)Z"⟩
def dkwX4_isLike_1 : List UInt8 := [3, 172]
abbrev dktX4_isLike_1 : List UInt8 := dkwX4_isLike_1 ++ []
def dkwX4_isLike_0 : List UInt8 := [28, 29, 159, 0, 22, 42, 180, 0, 1, 27, 28, 4, 29, 4, 182, 0, 13, 154, 0, 7, 4, 167, 0, 4]
abbrev dktX4_isLike_0 : List UInt8 := dkwX4_isLike_0 ++ dktX4_isLike_1
theorem dksX4_isLike_0 : cX4_isLike.data.toList.drop 0 = dktX4_isLike_0 := by decide +kernel
theorem dksX4_isLike_1 : cX4_isLike.data.toList.drop 24 = dktX4_isLike_1 := dk_seg dksX4_isLike_0 24 rfl rfl
theorem dX4_isLike_0 : decode cX4_isLike 0 = .ok (.iload_n 2, 1) := dk_28 (dk_at dksX4_isLike_0 0 rfl rfl)
theorem dX4_isLike_1 : decode cX4_isLike 1 = .ok (.iload_n 3, 1) := dk_29 (dk_at dksX4_isLike_0 1 rfl rfl)
theorem dX4_isLike_2 : decode cX4_isLike 2 = .ok (.if_icmp .eq 22, 3) := dk_159 0 22 (dk_at dksX4_isLike_0 2 rfl rfl)
theorem dX4_isLike_5 : decode cX4_isLike 5 = .ok (.aload_n 0, 1) := dk_42 (dk_at dksX4_isLike_0 5 rfl rfl)
theorem dX4_isLike_6 : decode cX4_isLike 6 = .ok (.getfield 1, 3) := dk_180 0 1 (dk_at dksX4_isLike_0 6 rfl rfl)
theorem dX4_isLike_9 : decode cX4_isLike 9 = .ok (.iload_n 1, 1) := dk_27 (dk_at dksX4_isLike_0 9 rfl rfl)
theorem dX4_isLike_10 : decode cX4_isLike 10 = .ok (.iload_n 2, 1) := dk_28 (dk_at dksX4_isLike_0 10 rfl rfl)
theorem dX4_isLike_11 : decode cX4_isLike 11 = .ok (.iconst 1, 1) := dk_4 (dk_at dksX4_isLike_0 11 rfl rfl)
theorem dX4_isLike_12 : decode cX4_isLike 12 = .ok (.iload_n 3, 1) := dk_29 (dk_at dksX4_isLike_0 12 rfl rfl)
theorem dX4_isLike_13 : decode cX4_isLike 13 = .ok (.iconst 1, 1) := dk_4 (dk_at dksX4_isLike_0 13 rfl rfl)
theorem dX4_isLike_14 : decode cX4_isLike 14 = .ok (.invokevirtual 13, 3) := dk_182 0 13 (dk_at dksX4_isLike_0 14 rfl rfl)
theorem dX4_isLike_17 : decode cX4_isLike 17 = .ok (.ifCond .ne 7, 3) := dk_154 0 7 (dk_at dksX4_isLike_0 17 rfl rfl)
theorem dX4_isLike_20 : decode cX4_isLike 20 = .ok (.iconst 1, 1) := dk_4 (dk_at dksX4_isLike_0 20 rfl rfl)
theorem dX4_isLike_21 : decode cX4_isLike 21 = .ok (.goto 4, 3) := dk_167 0 4 (dk_at dksX4_isLike_0 21 rfl rfl)
theorem dX4_isLike_24 : decode cX4_isLike 24 = .ok (.iconst 0, 1) := dk_3 (dk_at dksX4_isLike_1 0 rfl rfl)
theorem dX4_isLike_25 : decode cX4_isLike 25 = .ok (.ireturn, 1) := dk_172 (dk_at dksX4_isLike_1 1 rfl rfl)
theorem q61 : (Jvm.Cond.initialized "RingMeets$1") ∈ lw_all := lw_g (lw_at lw_m1 5 rfl) rfl
theorem q140 : (Jvm.Cond.instantiable "RingMeets$1" (2 : Nat)) ∈ lw_all := lw_g (lw_at lw_m1 84 rfl) rfl
theorem q142 : (Jvm.Cond.instanceMethod ({ cls := "RingMeets$1", name := "<init>", desc := "(LRingMeets;)V" } : Jvm.MethodName)) ∈ lw_all := lw_g (lw_at lw_m1 86 rfl) rfl
theorem q143 : (Jvm.Cond.code ({ cls := "RingMeets$1", name := "<init>", desc := "(LRingMeets;)V" } : Jvm.MethodName) prog_2_method_1_code (2 : Nat) (Option.none : Option Jvm.ClassFile.FieldType)) ∈ lw_all := lw_g (lw_at lw_m1 87 rfl) rfl
theorem q144 : (Jvm.Cond.methodLinkNest "RingMeets$1" (7 : Nat) ({ cls := "RingMeets$Likeness", name := "<init>", desc := "(LRingMeets;)V" } : Jvm.MethodName) "RingMeets") ∈ lw_tbl := lw_at lw_m1 88 rfl
theorem q148 : (Jvm.Cond.fieldLink "RingMeets$1" (1 : Nat) "RingMeets$1" "this$0" "LRingMeets;") ∈ lw_all := lw_g (lw_at lw_m1 92 rfl) rfl
theorem q150 : (Jvm.Cond.laysFinal "RingMeets$1" "RingMeets$1" "this$0" "LRingMeets;") ∈ lw_all := lw_g (lw_at lw_m1 94 rfl) rfl
theorem q151 : (Jvm.Cond.soleField "RingMeets$1" "this$0") ∈ lw_all := lw_g (lw_at lw_m1 95 rfl) rfl
theorem q152 : (Jvm.Cond.laysFinal "RingMeets$1" "RingMeets$Likeness" "this$0" "LRingMeets;") ∈ lw_all := lw_g (lw_at lw_m1 96 rfl) rfl
theorem q154 : (Jvm.Cond.superclass "RingMeets$1" "RingMeets$Likeness") ∈ lw_all := lw_g (lw_at lw_m1 98 rfl) rfl
theorem q293 : (Jvm.Cond.selects "RingMeets$1" ({ cls := "RingMeets$Likeness", name := "isAny", desc := "(I)Z" } : Jvm.MethodName) ({ cls := "RingMeets$Likeness", name := "isAny", desc := "(I)Z" } : Jvm.MethodName)) ∈ lw_all := lw_g (lw_at lw_m1 237 rfl) rfl
theorem q380 : (Jvm.Cond.selects "RingMeets$1" ({ cls := "RingMeets$Likeness", name := "isLike", desc := "(III)Z" } : Jvm.MethodName) ({ cls := "RingMeets$1", name := "isLike", desc := "(III)Z" } : Jvm.MethodName)) ∈ lw_all := lw_g (lw_at lw_m2 84 rfl) rfl
theorem q381 : (Jvm.Cond.instanceMethod ({ cls := "RingMeets$1", name := "isLike", desc := "(III)Z" } : Jvm.MethodName)) ∈ lw_all := lw_g (lw_at lw_m2 85 rfl) rfl
theorem q382 : (Jvm.Cond.code ({ cls := "RingMeets$1", name := "isLike", desc := "(III)Z" } : Jvm.MethodName) prog_2_method_2_code (4 : Nat) (Option.some Jvm.ClassFile.FieldType.boolean)) ∈ lw_all := lw_g (lw_at lw_m2 86 rfl) rfl
theorem q383 : (Jvm.Cond.methodLinkNest "RingMeets$1" (13 : Nat) ({ cls := "RingMeets", name := "compared", desc := "(IIIII)I" } : Jvm.MethodName) "RingMeets") ∈ lw_tbl := lw_at lw_m2 87 rfl
theorem in_X4 : ∀ w ∈ wsX40, w ∈ lw_all := lw_in wsX40 [152, 150] (by decide +kernel) (by decide +kernel)

/-! RingMeets$2 -/
set_option maxRecDepth 100000
def RX5 : String := "RingMeets$2"
def TX5 : u_T := fun k => match k with
  | 0 => ("RingMeets$Likeness", "this$0", "LRingMeets;", true)
  | _ => ("RingMeets$2", "this$0", "LRingMeets;", true)
def tyX5 : Nat → FieldType := fun k => match k with
  | 0 => .object "RingMeets"
  | _ => .object "RingMeets"
abbrev wsX50 : List Cond := u_ws RX5 TX5 2
-- two fields of one name: no nmX5
theorem tyX5_ok : ∀ k, k < 2 → parseFieldDescriptor (TX5 k).2.2.1 = some (tyX5 k) := by decide +kernel
abbrev cX5_init : ByteArray := prog_4_method_1_code
def yX5_init : MethodName := ⟨RX5, "<init>", "(LRingMeets;)V"⟩
def dkwX5_init_0 : List UInt8 := [42, 43, 181, 0, 1, 42, 43, 183, 0, 7, 177]
abbrev dktX5_init_0 : List UInt8 := dkwX5_init_0 ++ []
theorem dksX5_init_0 : cX5_init.data.toList.drop 0 = dktX5_init_0 := by decide +kernel
theorem dX5_init_0 : decode cX5_init 0 = .ok (.aload_n 0, 1) := dk_42 (dk_at dksX5_init_0 0 rfl rfl)
theorem dX5_init_1 : decode cX5_init 1 = .ok (.aload_n 1, 1) := dk_43 (dk_at dksX5_init_0 1 rfl rfl)
theorem dX5_init_2 : decode cX5_init 2 = .ok (.putfield 1, 3) := dk_181 0 1 (dk_at dksX5_init_0 2 rfl rfl)
theorem dX5_init_5 : decode cX5_init 5 = .ok (.aload_n 0, 1) := dk_42 (dk_at dksX5_init_0 5 rfl rfl)
theorem dX5_init_6 : decode cX5_init 6 = .ok (.aload_n 1, 1) := dk_43 (dk_at dksX5_init_0 6 rfl rfl)
theorem dX5_init_7 : decode cX5_init 7 = .ok (.invokespecial 7, 3) := dk_183 0 7 (dk_at dksX5_init_0 7 rfl rfl)
theorem dX5_init_10 : decode cX5_init 10 = .ok (.return_, 1) := dk_177 (dk_at dksX5_init_0 10 rfl rfl)
abbrev cX5_isLike : ByteArray := prog_4_method_2_code
def yX5_isLike : MethodName := ⟨RX5, "isLike", "(III)Z"⟩
def dkwX5_isLike_0 : List UInt8 := [42, 180, 0, 1, 27, 28, 4, 29, 2, 182, 0, 13, 154, 0, 7, 4, 167, 0, 4, 3, 172]
abbrev dktX5_isLike_0 : List UInt8 := dkwX5_isLike_0 ++ []
theorem dksX5_isLike_0 : cX5_isLike.data.toList.drop 0 = dktX5_isLike_0 := by decide +kernel
theorem dX5_isLike_0 : decode cX5_isLike 0 = .ok (.aload_n 0, 1) := dk_42 (dk_at dksX5_isLike_0 0 rfl rfl)
theorem dX5_isLike_1 : decode cX5_isLike 1 = .ok (.getfield 1, 3) := dk_180 0 1 (dk_at dksX5_isLike_0 1 rfl rfl)
theorem dX5_isLike_4 : decode cX5_isLike 4 = .ok (.iload_n 1, 1) := dk_27 (dk_at dksX5_isLike_0 4 rfl rfl)
theorem dX5_isLike_5 : decode cX5_isLike 5 = .ok (.iload_n 2, 1) := dk_28 (dk_at dksX5_isLike_0 5 rfl rfl)
theorem dX5_isLike_6 : decode cX5_isLike 6 = .ok (.iconst 1, 1) := dk_4 (dk_at dksX5_isLike_0 6 rfl rfl)
theorem dX5_isLike_7 : decode cX5_isLike 7 = .ok (.iload_n 3, 1) := dk_29 (dk_at dksX5_isLike_0 7 rfl rfl)
theorem dX5_isLike_8 : decode cX5_isLike 8 = .ok (.iconst (-1), 1) := dk_2 (dk_at dksX5_isLike_0 8 rfl rfl)
theorem dX5_isLike_9 : decode cX5_isLike 9 = .ok (.invokevirtual 13, 3) := dk_182 0 13 (dk_at dksX5_isLike_0 9 rfl rfl)
theorem dX5_isLike_12 : decode cX5_isLike 12 = .ok (.ifCond .ne 7, 3) := dk_154 0 7 (dk_at dksX5_isLike_0 12 rfl rfl)
theorem dX5_isLike_15 : decode cX5_isLike 15 = .ok (.iconst 1, 1) := dk_4 (dk_at dksX5_isLike_0 15 rfl rfl)
theorem dX5_isLike_16 : decode cX5_isLike 16 = .ok (.goto 4, 3) := dk_167 0 4 (dk_at dksX5_isLike_0 16 rfl rfl)
theorem dX5_isLike_19 : decode cX5_isLike 19 = .ok (.iconst 0, 1) := dk_3 (dk_at dksX5_isLike_0 19 rfl rfl)
theorem dX5_isLike_20 : decode cX5_isLike 20 = .ok (.ireturn, 1) := dk_172 (dk_at dksX5_isLike_0 20 rfl rfl)
theorem q62 : (Jvm.Cond.initialized "RingMeets$2") ∈ lw_all := lw_g (lw_at lw_m1 6 rfl) rfl
theorem q157 : (Jvm.Cond.instantiable "RingMeets$2" (2 : Nat)) ∈ lw_all := lw_g (lw_at lw_m1 101 rfl) rfl
theorem q159 : (Jvm.Cond.instanceMethod ({ cls := "RingMeets$2", name := "<init>", desc := "(LRingMeets;)V" } : Jvm.MethodName)) ∈ lw_all := lw_g (lw_at lw_m1 103 rfl) rfl
theorem q160 : (Jvm.Cond.code ({ cls := "RingMeets$2", name := "<init>", desc := "(LRingMeets;)V" } : Jvm.MethodName) prog_4_method_1_code (2 : Nat) (Option.none : Option Jvm.ClassFile.FieldType)) ∈ lw_all := lw_g (lw_at lw_m1 104 rfl) rfl
theorem q161 : (Jvm.Cond.methodLinkNest "RingMeets$2" (7 : Nat) ({ cls := "RingMeets$Likeness", name := "<init>", desc := "(LRingMeets;)V" } : Jvm.MethodName) "RingMeets") ∈ lw_tbl := lw_at lw_m1 105 rfl
theorem q162 : (Jvm.Cond.fieldLink "RingMeets$2" (1 : Nat) "RingMeets$2" "this$0" "LRingMeets;") ∈ lw_all := lw_g (lw_at lw_m1 106 rfl) rfl
theorem q163 : (Jvm.Cond.laysFinal "RingMeets$2" "RingMeets$2" "this$0" "LRingMeets;") ∈ lw_all := lw_g (lw_at lw_m1 107 rfl) rfl
theorem q164 : (Jvm.Cond.soleField "RingMeets$2" "this$0") ∈ lw_all := lw_g (lw_at lw_m1 108 rfl) rfl
theorem q165 : (Jvm.Cond.laysFinal "RingMeets$2" "RingMeets$Likeness" "this$0" "LRingMeets;") ∈ lw_all := lw_g (lw_at lw_m1 109 rfl) rfl
theorem q166 : (Jvm.Cond.superclass "RingMeets$2" "RingMeets$Likeness") ∈ lw_all := lw_g (lw_at lw_m1 110 rfl) rfl
theorem q295 : (Jvm.Cond.selects "RingMeets$2" ({ cls := "RingMeets$Likeness", name := "isAny", desc := "(I)Z" } : Jvm.MethodName) ({ cls := "RingMeets$Likeness", name := "isAny", desc := "(I)Z" } : Jvm.MethodName)) ∈ lw_all := lw_g (lw_at lw_m1 239 rfl) rfl
theorem q389 : (Jvm.Cond.selects "RingMeets$2" ({ cls := "RingMeets$Likeness", name := "isLike", desc := "(III)Z" } : Jvm.MethodName) ({ cls := "RingMeets$2", name := "isLike", desc := "(III)Z" } : Jvm.MethodName)) ∈ lw_all := lw_g (lw_at lw_m2 93 rfl) rfl
theorem q390 : (Jvm.Cond.instanceMethod ({ cls := "RingMeets$2", name := "isLike", desc := "(III)Z" } : Jvm.MethodName)) ∈ lw_all := lw_g (lw_at lw_m2 94 rfl) rfl
theorem q391 : (Jvm.Cond.code ({ cls := "RingMeets$2", name := "isLike", desc := "(III)Z" } : Jvm.MethodName) prog_4_method_2_code (4 : Nat) (Option.some Jvm.ClassFile.FieldType.boolean)) ∈ lw_all := lw_g (lw_at lw_m2 95 rfl) rfl
theorem q392 : (Jvm.Cond.methodLinkNest "RingMeets$2" (13 : Nat) ({ cls := "RingMeets", name := "compared", desc := "(IIIII)I" } : Jvm.MethodName) "RingMeets") ∈ lw_tbl := lw_at lw_m2 96 rfl
theorem in_X5 : ∀ w ∈ wsX50, w ∈ lw_all := lw_in wsX50 [165, 163] (by decide +kernel) (by decide +kernel)

/-! RingMeets$Cells -/
set_option maxRecDepth 100000
def RX7 : String := "RingMeets$Cells"
def TX7 : u_T := fun k => match k with
  | _ => ("RingMeets$Cells", "set", "I", true)
def tyX7 : Nat → FieldType := fun k => match k with
  | _ => .int
abbrev wsX70 : List Cond := u_ws RX7 TX7 1
theorem nmX7 : ∀ a, a < 1 → ∀ b, b < 1 → a ≠ b → (TX7 a).2.1 ≠ (TX7 b).2.1 := by decide +kernel
theorem tyX7_ok : ∀ k, k < 1 → parseFieldDescriptor (TX7 k).2.2.1 = some (tyX7 k) := by decide +kernel
abbrev cX7_init : ByteArray := prog_8_method_1_code
def yX7_init : MethodName := ⟨RX7, "<init>", "(I)V"⟩
def dkwX7_init_0 : List UInt8 := [42, 183, 0, 1, 42, 27, 181, 0, 7, 177]
abbrev dktX7_init_0 : List UInt8 := dkwX7_init_0 ++ []
theorem dksX7_init_0 : cX7_init.data.toList.drop 0 = dktX7_init_0 := by decide +kernel
theorem dX7_init_0 : decode cX7_init 0 = .ok (.aload_n 0, 1) := dk_42 (dk_at dksX7_init_0 0 rfl rfl)
theorem dX7_init_1 : decode cX7_init 1 = .ok (.invokespecial 1, 3) := dk_183 0 1 (dk_at dksX7_init_0 1 rfl rfl)
theorem dX7_init_4 : decode cX7_init 4 = .ok (.aload_n 0, 1) := dk_42 (dk_at dksX7_init_0 4 rfl rfl)
theorem dX7_init_5 : decode cX7_init 5 = .ok (.iload_n 1, 1) := dk_27 (dk_at dksX7_init_0 5 rfl rfl)
theorem dX7_init_6 : decode cX7_init 6 = .ok (.putfield 7, 3) := dk_181 0 7 (dk_at dksX7_init_0 6 rfl rfl)
theorem dX7_init_9 : decode cX7_init 9 = .ok (.return_, 1) := dk_177 (dk_at dksX7_init_0 9 rfl rfl)
abbrev cX7_iterator : ByteArray := prog_8_method_2_code
def yX7_iterator : MethodName := ⟨RX7, "iterator", "()Ljava/util/Iterator;"⟩
def dkwX7_iterator_0 : List UInt8 := [187, 0, 13, 89, 42, 183, 0, 15, 176]
abbrev dktX7_iterator_0 : List UInt8 := dkwX7_iterator_0 ++ []
theorem dksX7_iterator_0 : cX7_iterator.data.toList.drop 0 = dktX7_iterator_0 := by decide +kernel
theorem dX7_iterator_0 : decode cX7_iterator 0 = .ok (.new 13, 3) := dk_187 0 13 (dk_at dksX7_iterator_0 0 rfl rfl)
theorem dX7_iterator_3 : decode cX7_iterator 3 = .ok (.dup, 1) := dk_89 (dk_at dksX7_iterator_0 3 rfl rfl)
theorem dX7_iterator_4 : decode cX7_iterator 4 = .ok (.aload_n 0, 1) := dk_42 (dk_at dksX7_iterator_0 4 rfl rfl)
theorem dX7_iterator_5 : decode cX7_iterator 5 = .ok (.invokespecial 15, 3) := dk_183 0 15 (dk_at dksX7_iterator_0 5 rfl rfl)
theorem dX7_iterator_8 : decode cX7_iterator 8 = .ok (.areturn, 1) := dk_176 (dk_at dksX7_iterator_0 8 rfl rfl)
theorem q67 : (Jvm.Cond.initialized "RingMeets$Cells") ∈ lw_all := lw_g (lw_at lw_m1 11 rfl) rfl
theorem q298 : (Jvm.Cond.instantiable "RingMeets$Cells" (1 : Nat)) ∈ lw_all := lw_g (lw_at lw_m2 2 rfl) rfl
theorem q300 : (Jvm.Cond.instanceMethod ({ cls := "RingMeets$Cells", name := "<init>", desc := "(I)V" } : Jvm.MethodName)) ∈ lw_all := lw_g (lw_at lw_m2 4 rfl) rfl
theorem q301 : (Jvm.Cond.code ({ cls := "RingMeets$Cells", name := "<init>", desc := "(I)V" } : Jvm.MethodName) prog_8_method_1_code (2 : Nat) (Option.none : Option Jvm.ClassFile.FieldType)) ∈ lw_all := lw_g (lw_at lw_m2 5 rfl) rfl
theorem q302 : (Jvm.Cond.methodLink "RingMeets$Cells" (1 : Nat) ({ cls := "java/lang/Object", name := "<init>", desc := "()V" } : Jvm.MethodName)) ∈ lw_all := lw_g (lw_at lw_m2 6 rfl) rfl
theorem q303 : (Jvm.Cond.fieldLink "RingMeets$Cells" (7 : Nat) "RingMeets$Cells" "set" "I") ∈ lw_all := lw_g (lw_at lw_m2 7 rfl) rfl
theorem q305 : (Jvm.Cond.laysFinal "RingMeets$Cells" "RingMeets$Cells" "set" "I") ∈ lw_all := lw_g (lw_at lw_m2 9 rfl) rfl
theorem q306 : (Jvm.Cond.soleField "RingMeets$Cells" "set") ∈ lw_all := lw_g (lw_at lw_m2 10 rfl) rfl
theorem q307 : (Jvm.Cond.superclass "RingMeets$Cells" "java/lang/Object") ∈ lw_all := lw_g (lw_at lw_m2 11 rfl) rfl
theorem q309 : (Jvm.Cond.instanceMethod ({ cls := "RingMeets$Cells", name := "iterator", desc := "()Ljava/util/Iterator;" } : Jvm.MethodName)) ∈ lw_all := lw_g (lw_at lw_m2 13 rfl) rfl
theorem q310 : (Jvm.Cond.selects "RingMeets$Cells" ({ cls := "RingMeets$Cells", name := "iterator", desc := "()Ljava/util/Iterator;" } : Jvm.MethodName) ({ cls := "RingMeets$Cells", name := "iterator", desc := "()Ljava/util/Iterator;" } : Jvm.MethodName)) ∈ lw_all := lw_g (lw_at lw_m2 14 rfl) rfl
theorem q311 : (Jvm.Cond.code ({ cls := "RingMeets$Cells", name := "iterator", desc := "()Ljava/util/Iterator;" } : Jvm.MethodName) prog_8_method_2_code (1 : Nat) (Option.some (Jvm.ClassFile.FieldType.object "java/util/Iterator"))) ∈ lw_all := lw_g (lw_at lw_m2 15 rfl) rfl
theorem q312 : (Jvm.Cond.classLink "RingMeets$Cells" (13 : Nat) "RingMeets$Cells$1") ∈ lw_all := lw_g (lw_at lw_m2 16 rfl) rfl
theorem q314 : (Jvm.Cond.methodLink "RingMeets$Cells" (15 : Nat) ({ cls := "RingMeets$Cells$1", name := "<init>", desc := "(LRingMeets$Cells;)V" } : Jvm.MethodName)) ∈ lw_all := lw_g (lw_at lw_m2 18 rfl) rfl
theorem in_X7 : ∀ w ∈ wsX70, w ∈ lw_all := lw_in wsX70 [305] (by decide +kernel) (by decide +kernel)

/-! RingMeets$Cells$1 -/
set_option maxRecDepth 100000
def RX8 : String := "RingMeets$Cells$1"
def TX8 : u_T := fun k => match k with
  | 0 => ("RingMeets$Cells$1", "left", "I", false)
  | _ => ("RingMeets$Cells$1", "this$0", "LRingMeets$Cells;", true)
def tyX8 : Nat → FieldType := fun k => match k with
  | 0 => .int
  | _ => .object "RingMeets$Cells"
abbrev wsX80 : List Cond := u_ws RX8 TX8 2
theorem nmX8 : ∀ a, a < 2 → ∀ b, b < 2 → a ≠ b → (TX8 a).2.1 ≠ (TX8 b).2.1 := by decide +kernel
theorem tyX8_ok : ∀ k, k < 2 → parseFieldDescriptor (TX8 k).2.2.1 = some (tyX8 k) := by decide +kernel
abbrev cX8_init : ByteArray := prog_9_method_1_code
def yX8_init : MethodName := ⟨RX8, "<init>", "(LRingMeets$Cells;)V"⟩
def dkwX8_init_0 : List UInt8 := [42, 43, 181, 0, 1, 42, 183, 0, 7, 42, 42, 180, 0, 1, 180, 0, 13, 181, 0, 19, 177]
abbrev dktX8_init_0 : List UInt8 := dkwX8_init_0 ++ []
theorem dksX8_init_0 : cX8_init.data.toList.drop 0 = dktX8_init_0 := by decide +kernel
theorem dX8_init_0 : decode cX8_init 0 = .ok (.aload_n 0, 1) := dk_42 (dk_at dksX8_init_0 0 rfl rfl)
theorem dX8_init_1 : decode cX8_init 1 = .ok (.aload_n 1, 1) := dk_43 (dk_at dksX8_init_0 1 rfl rfl)
theorem dX8_init_2 : decode cX8_init 2 = .ok (.putfield 1, 3) := dk_181 0 1 (dk_at dksX8_init_0 2 rfl rfl)
theorem dX8_init_5 : decode cX8_init 5 = .ok (.aload_n 0, 1) := dk_42 (dk_at dksX8_init_0 5 rfl rfl)
theorem dX8_init_6 : decode cX8_init 6 = .ok (.invokespecial 7, 3) := dk_183 0 7 (dk_at dksX8_init_0 6 rfl rfl)
theorem dX8_init_9 : decode cX8_init 9 = .ok (.aload_n 0, 1) := dk_42 (dk_at dksX8_init_0 9 rfl rfl)
theorem dX8_init_10 : decode cX8_init 10 = .ok (.aload_n 0, 1) := dk_42 (dk_at dksX8_init_0 10 rfl rfl)
theorem dX8_init_11 : decode cX8_init 11 = .ok (.getfield 1, 3) := dk_180 0 1 (dk_at dksX8_init_0 11 rfl rfl)
theorem dX8_init_14 : decode cX8_init 14 = .ok (.getfield 13, 3) := dk_180 0 13 (dk_at dksX8_init_0 14 rfl rfl)
theorem dX8_init_17 : decode cX8_init 17 = .ok (.putfield 19, 3) := dk_181 0 19 (dk_at dksX8_init_0 17 rfl rfl)
theorem dX8_init_20 : decode cX8_init 20 = .ok (.return_, 1) := dk_177 (dk_at dksX8_init_0 20 rfl rfl)
abbrev cX8_hasNext : ByteArray := prog_9_method_2_code
def yX8_hasNext : MethodName := ⟨RX8, "hasNext", "()Z"⟩
def dkwX8_hasNext_0 : List UInt8 := [42, 180, 0, 19, 153, 0, 7, 4, 167, 0, 4, 3, 172]
abbrev dktX8_hasNext_0 : List UInt8 := dkwX8_hasNext_0 ++ []
theorem dksX8_hasNext_0 : cX8_hasNext.data.toList.drop 0 = dktX8_hasNext_0 := by decide +kernel
theorem dX8_hasNext_0 : decode cX8_hasNext 0 = .ok (.aload_n 0, 1) := dk_42 (dk_at dksX8_hasNext_0 0 rfl rfl)
theorem dX8_hasNext_1 : decode cX8_hasNext 1 = .ok (.getfield 19, 3) := dk_180 0 19 (dk_at dksX8_hasNext_0 1 rfl rfl)
theorem dX8_hasNext_4 : decode cX8_hasNext 4 = .ok (.ifCond .eq 7, 3) := dk_153 0 7 (dk_at dksX8_hasNext_0 4 rfl rfl)
theorem dX8_hasNext_7 : decode cX8_hasNext 7 = .ok (.iconst 1, 1) := dk_4 (dk_at dksX8_hasNext_0 7 rfl rfl)
theorem dX8_hasNext_8 : decode cX8_hasNext 8 = .ok (.goto 4, 3) := dk_167 0 4 (dk_at dksX8_hasNext_0 8 rfl rfl)
theorem dX8_hasNext_11 : decode cX8_hasNext 11 = .ok (.iconst 0, 1) := dk_3 (dk_at dksX8_hasNext_0 11 rfl rfl)
theorem dX8_hasNext_12 : decode cX8_hasNext 12 = .ok (.ireturn, 1) := dk_172 (dk_at dksX8_hasNext_0 12 rfl rfl)
abbrev cX8_next : ByteArray := prog_9_method_4_code
def yX8_next : MethodName := ⟨RX8, "next", "()Ljava/lang/Object;"⟩
theorem dX8_next_0 : decode cX8_next 0 = .ok (.aload_n 0, 1) := by decide +kernel
theorem dX8_next_1 : decode cX8_next 1 = .ok (.invokevirtual 32, 3) := by decide +kernel
theorem dX8_next_4 : decode cX8_next 4 = .ok (.areturn, 1) := by decide +kernel
abbrev cX8_next_2 : ByteArray := prog_9_method_3_code
def yX8_next_2 : MethodName := ⟨RX8, "next", "()Ljava/lang/Integer;"⟩
def dkwX8_next_2_1 : List UInt8 := [184, 0, 28, 176]
abbrev dktX8_next_2_1 : List UInt8 := dkwX8_next_2_1 ++ []
def dkwX8_next_2_0 : List UInt8 := [42, 180, 0, 19, 184, 0, 22, 60, 42, 89, 180, 0, 19, 42, 180, 0, 19, 4, 100, 126, 181, 0, 19, 27]
abbrev dktX8_next_2_0 : List UInt8 := dkwX8_next_2_0 ++ dktX8_next_2_1
theorem dksX8_next_2_0 : cX8_next_2.data.toList.drop 0 = dktX8_next_2_0 := by decide +kernel
theorem dksX8_next_2_1 : cX8_next_2.data.toList.drop 24 = dktX8_next_2_1 := dk_seg dksX8_next_2_0 24 rfl rfl
theorem dX8_next_2_0 : decode cX8_next_2 0 = .ok (.aload_n 0, 1) := dk_42 (dk_at dksX8_next_2_0 0 rfl rfl)
theorem dX8_next_2_1 : decode cX8_next_2 1 = .ok (.getfield 19, 3) := dk_180 0 19 (dk_at dksX8_next_2_0 1 rfl rfl)
theorem dX8_next_2_4 : decode cX8_next_2 4 = .ok (.invokestatic 22, 3) := dk_184 0 22 (dk_at dksX8_next_2_0 4 rfl rfl)
theorem dX8_next_2_7 : decode cX8_next_2 7 = .ok (.istore_n 1, 1) := dk_60 (dk_at dksX8_next_2_0 7 rfl rfl)
theorem dX8_next_2_8 : decode cX8_next_2 8 = .ok (.aload_n 0, 1) := dk_42 (dk_at dksX8_next_2_0 8 rfl rfl)
theorem dX8_next_2_9 : decode cX8_next_2 9 = .ok (.dup, 1) := dk_89 (dk_at dksX8_next_2_0 9 rfl rfl)
theorem dX8_next_2_10 : decode cX8_next_2 10 = .ok (.getfield 19, 3) := dk_180 0 19 (dk_at dksX8_next_2_0 10 rfl rfl)
theorem dX8_next_2_13 : decode cX8_next_2 13 = .ok (.aload_n 0, 1) := dk_42 (dk_at dksX8_next_2_0 13 rfl rfl)
theorem dX8_next_2_14 : decode cX8_next_2 14 = .ok (.getfield 19, 3) := dk_180 0 19 (dk_at dksX8_next_2_0 14 rfl rfl)
theorem dX8_next_2_17 : decode cX8_next_2 17 = .ok (.iconst 1, 1) := dk_4 (dk_at dksX8_next_2_0 17 rfl rfl)
theorem dX8_next_2_18 : decode cX8_next_2 18 = .ok (.isub, 1) := dk_100 (dk_at dksX8_next_2_0 18 rfl rfl)
theorem dX8_next_2_19 : decode cX8_next_2 19 = .ok (.iand, 1) := dk_126 (dk_at dksX8_next_2_0 19 rfl rfl)
theorem dX8_next_2_20 : decode cX8_next_2 20 = .ok (.putfield 19, 3) := dk_181 0 19 (dk_at dksX8_next_2_0 20 rfl rfl)
theorem dX8_next_2_23 : decode cX8_next_2 23 = .ok (.iload_n 1, 1) := dk_27 (dk_at dksX8_next_2_0 23 rfl rfl)
theorem dX8_next_2_24 : decode cX8_next_2 24 = .ok (.invokestatic 28, 3) := dk_184 0 28 (dk_at dksX8_next_2_1 0 rfl rfl)
theorem dX8_next_2_27 : decode cX8_next_2 27 = .ok (.areturn, 1) := dk_176 (dk_at dksX8_next_2_1 3 rfl rfl)
theorem q68 : (Jvm.Cond.initialized "RingMeets$Cells$1") ∈ lw_all := lw_g (lw_at lw_m1 12 rfl) rfl
theorem q304 : (Jvm.Cond.fieldLinkNest "RingMeets$Cells$1" (13 : Nat) "RingMeets$Cells" "set" "I" "RingMeets") ∈ lw_tbl := lw_at lw_m2 8 rfl
theorem q313 : (Jvm.Cond.instantiable "RingMeets$Cells$1" (2 : Nat)) ∈ lw_all := lw_g (lw_at lw_m2 17 rfl) rfl
theorem q315 : (Jvm.Cond.instanceMethod ({ cls := "RingMeets$Cells$1", name := "<init>", desc := "(LRingMeets$Cells;)V" } : Jvm.MethodName)) ∈ lw_all := lw_g (lw_at lw_m2 19 rfl) rfl
theorem q316 : (Jvm.Cond.code ({ cls := "RingMeets$Cells$1", name := "<init>", desc := "(LRingMeets$Cells;)V" } : Jvm.MethodName) prog_9_method_1_code (2 : Nat) (Option.none : Option Jvm.ClassFile.FieldType)) ∈ lw_all := lw_g (lw_at lw_m2 20 rfl) rfl
theorem q317 : (Jvm.Cond.methodLink "RingMeets$Cells$1" (7 : Nat) ({ cls := "java/lang/Object", name := "<init>", desc := "()V" } : Jvm.MethodName)) ∈ lw_all := lw_g (lw_at lw_m2 21 rfl) rfl
theorem q318 : (Jvm.Cond.fieldLink "RingMeets$Cells$1" (19 : Nat) "RingMeets$Cells$1" "left" "I") ∈ lw_all := lw_g (lw_at lw_m2 22 rfl) rfl
theorem q319 : (Jvm.Cond.fieldLink "RingMeets$Cells$1" (1 : Nat) "RingMeets$Cells$1" "this$0" "LRingMeets$Cells;") ∈ lw_all := lw_g (lw_at lw_m2 23 rfl) rfl
theorem q320 : (Jvm.Cond.lays "RingMeets$Cells$1" "RingMeets$Cells$1" "left" "I") ∈ lw_all := lw_g (lw_at lw_m2 24 rfl) rfl
theorem q321 : (Jvm.Cond.soleField "RingMeets$Cells$1" "left") ∈ lw_all := lw_g (lw_at lw_m2 25 rfl) rfl
theorem q322 : (Jvm.Cond.laysFinal "RingMeets$Cells$1" "RingMeets$Cells$1" "this$0" "LRingMeets$Cells;") ∈ lw_all := lw_g (lw_at lw_m2 26 rfl) rfl
theorem q323 : (Jvm.Cond.soleField "RingMeets$Cells$1" "this$0") ∈ lw_all := lw_g (lw_at lw_m2 27 rfl) rfl
theorem q324 : (Jvm.Cond.superclass "RingMeets$Cells$1" "java/lang/Object") ∈ lw_all := lw_g (lw_at lw_m2 28 rfl) rfl
theorem q329 : (Jvm.Cond.castable "RingMeets$Cells$1" "java/util/Iterator") ∈ lw_tbl := lw_at lw_m2 33 rfl
theorem q330 : (Jvm.Cond.selects "RingMeets$Cells$1" ({ cls := "java/util/Iterator", name := "hasNext", desc := "()Z" } : Jvm.MethodName) ({ cls := "RingMeets$Cells$1", name := "hasNext", desc := "()Z" } : Jvm.MethodName)) ∈ lw_all := lw_g (lw_at lw_m2 34 rfl) rfl
theorem q331 : (Jvm.Cond.unhidden "RingMeets$Cells$1" "hasNext" "()Z") ∈ lw_tbl := lw_at lw_m2 35 rfl
theorem q332 : (Jvm.Cond.instanceMethod ({ cls := "RingMeets$Cells$1", name := "hasNext", desc := "()Z" } : Jvm.MethodName)) ∈ lw_all := lw_g (lw_at lw_m2 36 rfl) rfl
theorem q333 : (Jvm.Cond.publicMethod ({ cls := "RingMeets$Cells$1", name := "hasNext", desc := "()Z" } : Jvm.MethodName)) ∈ lw_tbl := lw_at lw_m2 37 rfl
theorem q334 : (Jvm.Cond.code ({ cls := "RingMeets$Cells$1", name := "hasNext", desc := "()Z" } : Jvm.MethodName) prog_9_method_2_code (1 : Nat) (Option.some Jvm.ClassFile.FieldType.boolean)) ∈ lw_all := lw_g (lw_at lw_m2 38 rfl) rfl
theorem q339 : (Jvm.Cond.selects "RingMeets$Cells$1" ({ cls := "java/util/Iterator", name := "next", desc := "()Ljava/lang/Object;" } : Jvm.MethodName) ({ cls := "RingMeets$Cells$1", name := "next", desc := "()Ljava/lang/Object;" } : Jvm.MethodName)) ∈ lw_all := lw_g (lw_at lw_m2 43 rfl) rfl
theorem q340 : (Jvm.Cond.unhidden "RingMeets$Cells$1" "next" "()Ljava/lang/Object;") ∈ lw_tbl := lw_at lw_m2 44 rfl
theorem q341 : (Jvm.Cond.instanceMethod ({ cls := "RingMeets$Cells$1", name := "next", desc := "()Ljava/lang/Object;" } : Jvm.MethodName)) ∈ lw_all := lw_g (lw_at lw_m2 45 rfl) rfl
theorem q342 : (Jvm.Cond.publicMethod ({ cls := "RingMeets$Cells$1", name := "next", desc := "()Ljava/lang/Object;" } : Jvm.MethodName)) ∈ lw_tbl := lw_at lw_m2 46 rfl
theorem q343 : (Jvm.Cond.code ({ cls := "RingMeets$Cells$1", name := "next", desc := "()Ljava/lang/Object;" } : Jvm.MethodName) prog_9_method_4_code (1 : Nat) (Option.some (Jvm.ClassFile.FieldType.object "java/lang/Object"))) ∈ lw_all := lw_g (lw_at lw_m2 47 rfl) rfl
theorem q344 : (Jvm.Cond.methodLink "RingMeets$Cells$1" (32 : Nat) ({ cls := "RingMeets$Cells$1", name := "next", desc := "()Ljava/lang/Integer;" } : Jvm.MethodName)) ∈ lw_all := lw_g (lw_at lw_m2 48 rfl) rfl
theorem q345 : (Jvm.Cond.instanceMethod ({ cls := "RingMeets$Cells$1", name := "next", desc := "()Ljava/lang/Integer;" } : Jvm.MethodName)) ∈ lw_all := lw_g (lw_at lw_m2 49 rfl) rfl
theorem q346 : (Jvm.Cond.selects "RingMeets$Cells$1" ({ cls := "RingMeets$Cells$1", name := "next", desc := "()Ljava/lang/Integer;" } : Jvm.MethodName) ({ cls := "RingMeets$Cells$1", name := "next", desc := "()Ljava/lang/Integer;" } : Jvm.MethodName)) ∈ lw_all := lw_g (lw_at lw_m2 50 rfl) rfl
theorem q347 : (Jvm.Cond.code ({ cls := "RingMeets$Cells$1", name := "next", desc := "()Ljava/lang/Integer;" } : Jvm.MethodName) prog_9_method_3_code (2 : Nat) (Option.some (Jvm.ClassFile.FieldType.object "java/lang/Integer"))) ∈ lw_all := lw_g (lw_at lw_m2 51 rfl) rfl
theorem q348 : (Jvm.Cond.methodLink "RingMeets$Cells$1" (22 : Nat) ({ cls := "java/lang/Integer", name := "numberOfTrailingZeros", desc := "(I)I" } : Jvm.MethodName)) ∈ lw_all := lw_g (lw_at lw_m2 52 rfl) rfl
theorem q352 : (Jvm.Cond.methodLink "RingMeets$Cells$1" (28 : Nat) ({ cls := "java/lang/Integer", name := "valueOf", desc := "(I)Ljava/lang/Integer;" } : Jvm.MethodName)) ∈ lw_all := lw_g (lw_at lw_m2 56 rfl) rfl
theorem in_X8 : ∀ w ∈ wsX80, w ∈ lw_all := lw_in wsX80 [320, 322] (by decide +kernel) (by decide +kernel)

/-! RingMeets$1Views -/
set_option maxRecDepth 100000
def RX9 : String := "RingMeets$1Views"
def TX9 : u_T := fun k => match k with
  | 0 => ("RingMeets$Likeness", "this$0", "LRingMeets;", true)
  | _ => ("RingMeets$1Views", "this$0", "LRingMeets;", true)
def tyX9 : Nat → FieldType := fun k => match k with
  | 0 => .object "RingMeets"
  | _ => .object "RingMeets"
abbrev wsX90 : List Cond := u_ws RX9 TX9 2
-- two fields of one name: no nmX9
theorem tyX9_ok : ∀ k, k < 2 → parseFieldDescriptor (TX9 k).2.2.1 = some (tyX9 k) := by decide +kernel
abbrev cX9_isLike : ByteArray := prog_3_method_2_code
def yX9_isLike : MethodName := ⟨RX9, "isLike", "(III)Z"⟩
def dkwX9_isLike_1 : List UInt8 := [182, 0, 13, 182, 0, 19, 154, 0, 7, 4, 167, 0, 4, 3, 172]
abbrev dktX9_isLike_1 : List UInt8 := dkwX9_isLike_1 ++ []
def dkwX9_isLike_0 : List UInt8 := [42, 180, 0, 1, 27, 28, 42, 180, 0, 1, 27, 28, 182, 0, 13, 29, 42, 180, 0, 1, 27, 29]
abbrev dktX9_isLike_0 : List UInt8 := dkwX9_isLike_0 ++ dktX9_isLike_1
theorem dksX9_isLike_0 : cX9_isLike.data.toList.drop 0 = dktX9_isLike_0 := by decide +kernel
theorem dksX9_isLike_1 : cX9_isLike.data.toList.drop 22 = dktX9_isLike_1 := dk_seg dksX9_isLike_0 22 rfl rfl
theorem dX9_isLike_0 : decode cX9_isLike 0 = .ok (.aload_n 0, 1) := dk_42 (dk_at dksX9_isLike_0 0 rfl rfl)
theorem dX9_isLike_1 : decode cX9_isLike 1 = .ok (.getfield 1, 3) := dk_180 0 1 (dk_at dksX9_isLike_0 1 rfl rfl)
theorem dX9_isLike_4 : decode cX9_isLike 4 = .ok (.iload_n 1, 1) := dk_27 (dk_at dksX9_isLike_0 4 rfl rfl)
theorem dX9_isLike_5 : decode cX9_isLike 5 = .ok (.iload_n 2, 1) := dk_28 (dk_at dksX9_isLike_0 5 rfl rfl)
theorem dX9_isLike_6 : decode cX9_isLike 6 = .ok (.aload_n 0, 1) := dk_42 (dk_at dksX9_isLike_0 6 rfl rfl)
theorem dX9_isLike_7 : decode cX9_isLike 7 = .ok (.getfield 1, 3) := dk_180 0 1 (dk_at dksX9_isLike_0 7 rfl rfl)
theorem dX9_isLike_10 : decode cX9_isLike 10 = .ok (.iload_n 1, 1) := dk_27 (dk_at dksX9_isLike_0 10 rfl rfl)
theorem dX9_isLike_11 : decode cX9_isLike 11 = .ok (.iload_n 2, 1) := dk_28 (dk_at dksX9_isLike_0 11 rfl rfl)
theorem dX9_isLike_12 : decode cX9_isLike 12 = .ok (.invokevirtual 13, 3) := dk_182 0 13 (dk_at dksX9_isLike_0 12 rfl rfl)
theorem dX9_isLike_15 : decode cX9_isLike 15 = .ok (.iload_n 3, 1) := dk_29 (dk_at dksX9_isLike_0 15 rfl rfl)
theorem dX9_isLike_16 : decode cX9_isLike 16 = .ok (.aload_n 0, 1) := dk_42 (dk_at dksX9_isLike_0 16 rfl rfl)
theorem dX9_isLike_17 : decode cX9_isLike 17 = .ok (.getfield 1, 3) := dk_180 0 1 (dk_at dksX9_isLike_0 17 rfl rfl)
theorem dX9_isLike_20 : decode cX9_isLike 20 = .ok (.iload_n 1, 1) := dk_27 (dk_at dksX9_isLike_0 20 rfl rfl)
theorem dX9_isLike_21 : decode cX9_isLike 21 = .ok (.iload_n 3, 1) := dk_29 (dk_at dksX9_isLike_0 21 rfl rfl)
theorem dX9_isLike_22 : decode cX9_isLike 22 = .ok (.invokevirtual 13, 3) := dk_182 0 13 (dk_at dksX9_isLike_1 0 rfl rfl)
theorem dX9_isLike_25 : decode cX9_isLike 25 = .ok (.invokevirtual 19, 3) := dk_182 0 19 (dk_at dksX9_isLike_1 3 rfl rfl)
theorem dX9_isLike_28 : decode cX9_isLike 28 = .ok (.ifCond .ne 7, 3) := dk_154 0 7 (dk_at dksX9_isLike_1 6 rfl rfl)
theorem dX9_isLike_31 : decode cX9_isLike 31 = .ok (.iconst 1, 1) := dk_4 (dk_at dksX9_isLike_1 9 rfl rfl)
theorem dX9_isLike_32 : decode cX9_isLike 32 = .ok (.goto 4, 3) := dk_167 0 4 (dk_at dksX9_isLike_1 10 rfl rfl)
theorem dX9_isLike_35 : decode cX9_isLike 35 = .ok (.iconst 0, 1) := dk_3 (dk_at dksX9_isLike_1 13 rfl rfl)
theorem dX9_isLike_36 : decode cX9_isLike 36 = .ok (.ireturn, 1) := dk_172 (dk_at dksX9_isLike_1 14 rfl rfl)
abbrev cX9_init : ByteArray := prog_3_method_1_code
def yX9_init : MethodName := ⟨RX9, "<init>", "(LRingMeets;)V"⟩
def dkwX9_init_0 : List UInt8 := [42, 43, 181, 0, 1, 42, 43, 183, 0, 7, 177]
abbrev dktX9_init_0 : List UInt8 := dkwX9_init_0 ++ []
theorem dksX9_init_0 : cX9_init.data.toList.drop 0 = dktX9_init_0 := by decide +kernel
theorem dX9_init_0 : decode cX9_init 0 = .ok (.aload_n 0, 1) := dk_42 (dk_at dksX9_init_0 0 rfl rfl)
theorem dX9_init_1 : decode cX9_init 1 = .ok (.aload_n 1, 1) := dk_43 (dk_at dksX9_init_0 1 rfl rfl)
theorem dX9_init_2 : decode cX9_init 2 = .ok (.putfield 1, 3) := dk_181 0 1 (dk_at dksX9_init_0 2 rfl rfl)
theorem dX9_init_5 : decode cX9_init 5 = .ok (.aload_n 0, 1) := dk_42 (dk_at dksX9_init_0 5 rfl rfl)
theorem dX9_init_6 : decode cX9_init 6 = .ok (.aload_n 1, 1) := dk_43 (dk_at dksX9_init_0 6 rfl rfl)
theorem dX9_init_7 : decode cX9_init 7 = .ok (.invokespecial 7, 3) := dk_183 0 7 (dk_at dksX9_init_0 7 rfl rfl)
theorem dX9_init_10 : decode cX9_init 10 = .ok (.return_, 1) := dk_177 (dk_at dksX9_init_0 10 rfl rfl)
theorem q70 : (Jvm.Cond.initialized "RingMeets$1Views") ∈ lw_all := lw_g (lw_at lw_m1 14 rfl) rfl
theorem q294 : (Jvm.Cond.selects "RingMeets$1Views" ({ cls := "RingMeets$Likeness", name := "isAny", desc := "(I)Z" } : Jvm.MethodName) ({ cls := "RingMeets$Likeness", name := "isAny", desc := "(I)Z" } : Jvm.MethodName)) ∈ lw_all := lw_g (lw_at lw_m1 238 rfl) rfl
theorem q384 : (Jvm.Cond.selects "RingMeets$1Views" ({ cls := "RingMeets$Likeness", name := "isLike", desc := "(III)Z" } : Jvm.MethodName) ({ cls := "RingMeets$1Views", name := "isLike", desc := "(III)Z" } : Jvm.MethodName)) ∈ lw_all := lw_g (lw_at lw_m2 88 rfl) rfl
theorem q385 : (Jvm.Cond.instanceMethod ({ cls := "RingMeets$1Views", name := "isLike", desc := "(III)Z" } : Jvm.MethodName)) ∈ lw_all := lw_g (lw_at lw_m2 89 rfl) rfl
theorem q386 : (Jvm.Cond.code ({ cls := "RingMeets$1Views", name := "isLike", desc := "(III)Z" } : Jvm.MethodName) prog_3_method_2_code (4 : Nat) (Option.some Jvm.ClassFile.FieldType.boolean)) ∈ lw_all := lw_g (lw_at lw_m2 90 rfl) rfl
theorem q387 : (Jvm.Cond.methodLinkNest "RingMeets$1Views" (13 : Nat) ({ cls := "RingMeets", name := "sideOf", desc := "(II)I" } : Jvm.MethodName) "RingMeets") ∈ lw_tbl := lw_at lw_m2 91 rfl
theorem q388 : (Jvm.Cond.methodLinkNest "RingMeets$1Views" (19 : Nat) ({ cls := "RingMeets", name := "compared", desc := "(IIIII)I" } : Jvm.MethodName) "RingMeets") ∈ lw_tbl := lw_at lw_m2 92 rfl
theorem q412 : (Jvm.Cond.instantiable "RingMeets$1Views" (2 : Nat)) ∈ lw_all := lw_g (lw_at lw_m2 116 rfl) rfl
theorem q414 : (Jvm.Cond.instanceMethod ({ cls := "RingMeets$1Views", name := "<init>", desc := "(LRingMeets;)V" } : Jvm.MethodName)) ∈ lw_all := lw_g (lw_at lw_m2 118 rfl) rfl
theorem q415 : (Jvm.Cond.code ({ cls := "RingMeets$1Views", name := "<init>", desc := "(LRingMeets;)V" } : Jvm.MethodName) prog_3_method_1_code (2 : Nat) (Option.none : Option Jvm.ClassFile.FieldType)) ∈ lw_all := lw_g (lw_at lw_m2 119 rfl) rfl
theorem q416 : (Jvm.Cond.methodLinkNest "RingMeets$1Views" (7 : Nat) ({ cls := "RingMeets$Likeness", name := "<init>", desc := "(LRingMeets;)V" } : Jvm.MethodName) "RingMeets") ∈ lw_tbl := lw_at lw_m2 120 rfl
theorem q417 : (Jvm.Cond.fieldLink "RingMeets$1Views" (1 : Nat) "RingMeets$1Views" "this$0" "LRingMeets;") ∈ lw_all := lw_g (lw_at lw_m2 121 rfl) rfl
theorem q418 : (Jvm.Cond.laysFinal "RingMeets$1Views" "RingMeets$1Views" "this$0" "LRingMeets;") ∈ lw_all := lw_g (lw_at lw_m2 122 rfl) rfl
theorem q419 : (Jvm.Cond.soleField "RingMeets$1Views" "this$0") ∈ lw_all := lw_g (lw_at lw_m2 123 rfl) rfl
theorem q420 : (Jvm.Cond.laysFinal "RingMeets$1Views" "RingMeets$Likeness" "this$0" "LRingMeets;") ∈ lw_all := lw_g (lw_at lw_m2 124 rfl) rfl
theorem q421 : (Jvm.Cond.superclass "RingMeets$1Views" "RingMeets$Likeness") ∈ lw_all := lw_g (lw_at lw_m2 125 rfl) rfl
theorem q423 : (Jvm.Cond.sameMethod "RingMeets$1Views" "RingMeets$Likeness" "kinds" "(I)I") ∈ lw_all := lw_g (lw_at lw_m2 127 rfl) rfl
theorem q425 : (Jvm.Cond.selects "RingMeets$1Views" ({ cls := "RingMeets$1Views", name := "kinds", desc := "(I)I" } : Jvm.MethodName) ({ cls := "RingMeets$Likeness", name := "kinds", desc := "(I)I" } : Jvm.MethodName)) ∈ lw_all := lw_g (lw_at lw_m2 129 rfl) rfl
theorem in_X9 : ∀ w ∈ wsX90, w ∈ lw_all := lw_in wsX90 [420, 418] (by decide +kernel) (by decide +kernel)

/-! RingMeets$3 -/
set_option maxRecDepth 100000
def RX11 : String := "RingMeets$3"
abbrev cX11_next : ByteArray := prog_5_method_2_code
def yX11_next : MethodName := ⟨RX11, "next", "(II)I"⟩
def dkwX11_next_0 : List UInt8 := [28, 154, 0, 7, 27, 167, 0, 9, 27, 28, 4, 120, 116, 126, 184, 0, 7, 172]
abbrev dktX11_next_0 : List UInt8 := dkwX11_next_0 ++ []
theorem dksX11_next_0 : cX11_next.data.toList.drop 0 = dktX11_next_0 := by decide +kernel
theorem dX11_next_0 : decode cX11_next 0 = .ok (.iload_n 2, 1) := dk_28 (dk_at dksX11_next_0 0 rfl rfl)
theorem dX11_next_1 : decode cX11_next 1 = .ok (.ifCond .ne 7, 3) := dk_154 0 7 (dk_at dksX11_next_0 1 rfl rfl)
theorem dX11_next_4 : decode cX11_next 4 = .ok (.iload_n 1, 1) := dk_27 (dk_at dksX11_next_0 4 rfl rfl)
theorem dX11_next_5 : decode cX11_next 5 = .ok (.goto 9, 3) := dk_167 0 9 (dk_at dksX11_next_0 5 rfl rfl)
theorem dX11_next_8 : decode cX11_next 8 = .ok (.iload_n 1, 1) := dk_27 (dk_at dksX11_next_0 8 rfl rfl)
theorem dX11_next_9 : decode cX11_next 9 = .ok (.iload_n 2, 1) := dk_28 (dk_at dksX11_next_0 9 rfl rfl)
theorem dX11_next_10 : decode cX11_next 10 = .ok (.iconst 1, 1) := dk_4 (dk_at dksX11_next_0 10 rfl rfl)
theorem dX11_next_11 : decode cX11_next 11 = .ok (.ishl, 1) := dk_120 (dk_at dksX11_next_0 11 rfl rfl)
theorem dX11_next_12 : decode cX11_next 12 = .ok (.ineg, 1) := dk_116 (dk_at dksX11_next_0 12 rfl rfl)
theorem dX11_next_13 : decode cX11_next 13 = .ok (.iand, 1) := dk_126 (dk_at dksX11_next_0 13 rfl rfl)
theorem dX11_next_14 : decode cX11_next 14 = .ok (.invokestatic 7, 3) := dk_184 0 7 (dk_at dksX11_next_0 14 rfl rfl)
theorem dX11_next_17 : decode cX11_next 17 = .ok (.ireturn, 1) := dk_172 (dk_at dksX11_next_0 17 rfl rfl)
theorem q558 : (Jvm.Cond.selects "RingMeets$3" ({ cls := "RingMeets$Schedule", name := "next", desc := "(II)I" } : Jvm.MethodName) ({ cls := "RingMeets$3", name := "next", desc := "(II)I" } : Jvm.MethodName)) ∈ lw_all := lw_g (lw_at lw_m3 22 rfl) rfl
theorem q559 : (Jvm.Cond.instanceMethod ({ cls := "RingMeets$3", name := "next", desc := "(II)I" } : Jvm.MethodName)) ∈ lw_all := lw_g (lw_at lw_m3 23 rfl) rfl
theorem q560 : (Jvm.Cond.code ({ cls := "RingMeets$3", name := "next", desc := "(II)I" } : Jvm.MethodName) prog_5_method_2_code (3 : Nat) (Option.some Jvm.ClassFile.FieldType.int)) ∈ lw_all := lw_g (lw_at lw_m3 24 rfl) rfl
theorem q561 : (Jvm.Cond.methodLink "RingMeets$3" (7 : Nat) ({ cls := "java/lang/Integer", name := "lowestOneBit", desc := "(I)I" } : Jvm.MethodName)) ∈ lw_all := lw_g (lw_at lw_m3 25 rfl) rfl

/-! RingMeets$4 -/
set_option maxRecDepth 100000
def RX12 : String := "RingMeets$4"
abbrev cX12_next : ByteArray := prog_6_method_2_code
def yX12_next : MethodName := ⟨RX12, "next", "(II)I"⟩
def dkwX12_next_0 : List UInt8 := [28, 154, 0, 7, 27, 167, 0, 4, 3, 172]
abbrev dktX12_next_0 : List UInt8 := dkwX12_next_0 ++ []
theorem dksX12_next_0 : cX12_next.data.toList.drop 0 = dktX12_next_0 := by decide +kernel
theorem dX12_next_0 : decode cX12_next 0 = .ok (.iload_n 2, 1) := dk_28 (dk_at dksX12_next_0 0 rfl rfl)
theorem dX12_next_1 : decode cX12_next 1 = .ok (.ifCond .ne 7, 3) := dk_154 0 7 (dk_at dksX12_next_0 1 rfl rfl)
theorem dX12_next_4 : decode cX12_next 4 = .ok (.iload_n 1, 1) := dk_27 (dk_at dksX12_next_0 4 rfl rfl)
theorem dX12_next_5 : decode cX12_next 5 = .ok (.goto 4, 3) := dk_167 0 4 (dk_at dksX12_next_0 5 rfl rfl)
theorem dX12_next_8 : decode cX12_next 8 = .ok (.iconst 0, 1) := dk_3 (dk_at dksX12_next_0 8 rfl rfl)
theorem dX12_next_9 : decode cX12_next 9 = .ok (.ireturn, 1) := dk_172 (dk_at dksX12_next_0 9 rfl rfl)
theorem q564 : (Jvm.Cond.selects "RingMeets$4" ({ cls := "RingMeets$Schedule", name := "next", desc := "(II)I" } : Jvm.MethodName) ({ cls := "RingMeets$4", name := "next", desc := "(II)I" } : Jvm.MethodName)) ∈ lw_all := lw_g (lw_at lw_m3 28 rfl) rfl
theorem q565 : (Jvm.Cond.instanceMethod ({ cls := "RingMeets$4", name := "next", desc := "(II)I" } : Jvm.MethodName)) ∈ lw_all := lw_g (lw_at lw_m3 29 rfl) rfl
theorem q566 : (Jvm.Cond.code ({ cls := "RingMeets$4", name := "next", desc := "(II)I" } : Jvm.MethodName) prog_6_method_2_code (3 : Nat) (Option.some Jvm.ClassFile.FieldType.int)) ∈ lw_all := lw_g (lw_at lw_m3 30 rfl) rfl

/-! RingMeets$5 -/
set_option maxRecDepth 100000
def RX13 : String := "RingMeets$5"
abbrev cX13_next : ByteArray := prog_7_method_2_code
def yX13_next : MethodName := ⟨RX13, "next", "(II)I"⟩
def dkwX13_next_0 : List UInt8 := [28, 27, 2, 130, 128, 4, 96, 27, 126, 172]
abbrev dktX13_next_0 : List UInt8 := dkwX13_next_0 ++ []
theorem dksX13_next_0 : cX13_next.data.toList.drop 0 = dktX13_next_0 := by decide +kernel
theorem dX13_next_0 : decode cX13_next 0 = .ok (.iload_n 2, 1) := dk_28 (dk_at dksX13_next_0 0 rfl rfl)
theorem dX13_next_1 : decode cX13_next 1 = .ok (.iload_n 1, 1) := dk_27 (dk_at dksX13_next_0 1 rfl rfl)
theorem dX13_next_2 : decode cX13_next 2 = .ok (.iconst (-1), 1) := dk_2 (dk_at dksX13_next_0 2 rfl rfl)
theorem dX13_next_3 : decode cX13_next 3 = .ok (.ixor, 1) := dk_130 (dk_at dksX13_next_0 3 rfl rfl)
theorem dX13_next_4 : decode cX13_next 4 = .ok (.ior, 1) := dk_128 (dk_at dksX13_next_0 4 rfl rfl)
theorem dX13_next_5 : decode cX13_next 5 = .ok (.iconst 1, 1) := dk_4 (dk_at dksX13_next_0 5 rfl rfl)
theorem dX13_next_6 : decode cX13_next 6 = .ok (.iadd, 1) := dk_96 (dk_at dksX13_next_0 6 rfl rfl)
theorem dX13_next_7 : decode cX13_next 7 = .ok (.iload_n 1, 1) := dk_27 (dk_at dksX13_next_0 7 rfl rfl)
theorem dX13_next_8 : decode cX13_next 8 = .ok (.iand, 1) := dk_126 (dk_at dksX13_next_0 8 rfl rfl)
theorem dX13_next_9 : decode cX13_next 9 = .ok (.ireturn, 1) := dk_172 (dk_at dksX13_next_0 9 rfl rfl)
theorem q567 : (Jvm.Cond.selects "RingMeets$5" ({ cls := "RingMeets$Schedule", name := "next", desc := "(II)I" } : Jvm.MethodName) ({ cls := "RingMeets$5", name := "next", desc := "(II)I" } : Jvm.MethodName)) ∈ lw_all := lw_g (lw_at lw_m3 31 rfl) rfl
theorem q568 : (Jvm.Cond.instanceMethod ({ cls := "RingMeets$5", name := "next", desc := "(II)I" } : Jvm.MethodName)) ∈ lw_all := lw_g (lw_at lw_m3 32 rfl) rfl
theorem q569 : (Jvm.Cond.code ({ cls := "RingMeets$5", name := "next", desc := "(II)I" } : Jvm.MethodName) prog_7_method_2_code (3 : Nat) (Option.some Jvm.ClassFile.FieldType.int)) ∈ lw_all := lw_g (lw_at lw_m3 33 rfl) rfl

theorem q56 : (Jvm.Cond.initialized "RingMeetsLaw") ∈ lw_all := lw_g (lw_at lw_m1 0 rfl) rfl
set_option maxRecDepth 100000
theorem q73 : (Jvm.Cond.classLink "RingMeetsLaw" (7 : Nat) "RingMeets") ∈ lw_all := lw_g (lw_at lw_m1 17 rfl) rfl
theorem q75 : (Jvm.Cond.methodLink "RingMeetsLaw" (9 : Nat) ({ cls := "RingMeets", name := "<init>", desc := "()V" } : Jvm.MethodName)) ∈ lw_all := lw_g (lw_at lw_m1 19 rfl) rfl
theorem q218 : (Jvm.Cond.methodLink "RingMeetsLaw" (13 : Nat) ({ cls := "RingMeets", name := "ring", desc := "(I)I" } : Jvm.MethodName)) ∈ lw_all := lw_g (lw_at lw_m1 162 rfl) rfl
theorem q227 : (Jvm.Cond.methodLink "RingMeetsLaw" (18 : Nat) ({ cls := "RingMeets", name := "stand", desc := "(II)I" } : Jvm.MethodName)) ∈ lw_all := lw_g (lw_at lw_m1 171 rfl) rfl
theorem q240 : (Jvm.Cond.methodLink "RingMeetsLaw" (23 : Nat) ({ cls := "RingMeets", name := "gap", desc := "(III)I" } : Jvm.MethodName)) ∈ lw_all := lw_g (lw_at lw_m1 184 rfl) rfl
theorem q286 : (Jvm.Cond.methodLink "RingMeetsLaw" (28 : Nat) ({ cls := "RingMeets", name := "shape", desc := "(I)I" } : Jvm.MethodName)) ∈ lw_all := lw_g (lw_at lw_m1 230 rfl) rfl
theorem q436 : (Jvm.Cond.methodLink "RingMeetsLaw" (32 : Nat) ({ cls := "RingMeets", name := "rule", desc := "(IIIII)I" } : Jvm.MethodName)) ∈ lw_all := lw_g (lw_at lw_m2 140 rfl) rfl
theorem q441 : (Jvm.Cond.methodLink "RingMeetsLaw" (37 : Nat) ({ cls := "RingMeets", name := "whom", desc := "(II)I" } : Jvm.MethodName)) ∈ lw_all := lw_g (lw_at lw_m2 145 rfl) rfl
theorem q449 : (Jvm.Cond.methodLink "RingMeetsLaw" (41 : Nat) ({ cls := "RingMeets", name := "drop", desc := "(I)I" } : Jvm.MethodName)) ∈ lw_all := lw_g (lw_at lw_m2 153 rfl) rfl
theorem q457 : (Jvm.Cond.methodLink "RingMeetsLaw" (45 : Nat) ({ cls := "RingMeets", name := "of", desc := "(II)I" } : Jvm.MethodName)) ∈ lw_all := lw_g (lw_at lw_m2 161 rfl) rfl
theorem q461 : (Jvm.Cond.methodLink "RingMeetsLaw" (49 : Nat) ({ cls := "RingMeets", name := "does", desc := "(II)I" } : Jvm.MethodName)) ∈ lw_all := lw_g (lw_at lw_m2 165 rfl) rfl
theorem q485 : (Jvm.Cond.methodLink "RingMeetsLaw" (53 : Nat) ({ cls := "RingMeets", name := "step", desc := "(I)I" } : Jvm.MethodName)) ∈ lw_all := lw_g (lw_at lw_m2 189 rfl) rfl
theorem q492 : (Jvm.Cond.methodLink "RingMeetsLaw" (57 : Nat) ({ cls := "RingMeets", name := "meets", desc := "(II)I" } : Jvm.MethodName)) ∈ lw_all := lw_g (lw_at lw_m2 196 rfl) rfl
theorem q590 : (Jvm.Cond.methodLink "RingMeetsLaw" (61 : Nat) ({ cls := "RingMeets", name := "first", desc := "(I)I" } : Jvm.MethodName)) ∈ lw_all := lw_g (lw_at lw_m3 54 rfl) rfl
theorem q596 : (Jvm.Cond.methodLink "RingMeetsLaw" (65 : Nat) ({ cls := "RingMeets", name := "blind", desc := "(I)I" } : Jvm.MethodName)) ∈ lw_all := lw_g (lw_at lw_m3 60 rfl) rfl
theorem q600 : (Jvm.Cond.methodLink "RingMeetsLaw" (69 : Nat) ({ cls := "RingMeets", name := "used", desc := "(I)I" } : Jvm.MethodName)) ∈ lw_all := lw_g (lw_at lw_m3 64 rfl) rfl
theorem q604 : (Jvm.Cond.methodLink "RingMeetsLaw" (73 : Nat) ({ cls := "RingMeets", name := "all", desc := "(III)I" } : Jvm.MethodName)) ∈ lw_all := lw_g (lw_at lw_m3 68 rfl) rfl
theorem q611 : (Jvm.Cond.methodLink "RingMeetsLaw" (77 : Nat) ({ cls := "RingMeets", name := "image", desc := "(I)I" } : Jvm.MethodName)) ∈ lw_all := lw_g (lw_at lw_m3 75 rfl) rfl
theorem q624 : (Jvm.Cond.methodLink "RingMeetsLaw" (81 : Nat) ({ cls := "RingMeets", name := "restore", desc := "(I)I" } : Jvm.MethodName)) ∈ lw_all := lw_g (lw_at lw_m3 88 rfl) rfl
theorem q628 : (Jvm.Cond.methodLink "RingMeetsLaw" (85 : Nat) ({ cls := "RingMeets", name := "count", desc := "(I)I" } : Jvm.MethodName)) ∈ lw_all := lw_g (lw_at lw_m3 92 rfl) rfl
theorem q633 : (Jvm.Cond.classLink "RingMeetsLaw" (10 : Nat) "RingMeetsModel") ∈ lw_all := lw_g (lw_at lw_m3 97 rfl) rfl
theorem q635 : (Jvm.Cond.methodLink "RingMeetsLaw" (12 : Nat) ({ cls := "RingMeetsModel", name := "<init>", desc := "()V" } : Jvm.MethodName)) ∈ lw_all := lw_g (lw_at lw_m3 99 rfl) rfl
theorem q683 : (Jvm.Cond.methodLink "RingMeetsLaw" (17 : Nat) ({ cls := "RingMeetsModel", name := "ring", desc := "(I)I" } : Jvm.MethodName)) ∈ lw_all := lw_g (lw_at lw_m3 147 rfl) rfl
theorem q694 : (Jvm.Cond.methodLink "RingMeetsLaw" (22 : Nat) ({ cls := "RingMeetsModel", name := "stand", desc := "(II)I" } : Jvm.MethodName)) ∈ lw_all := lw_g (lw_at lw_m3 158 rfl) rfl
theorem q706 : (Jvm.Cond.methodLink "RingMeetsLaw" (27 : Nat) ({ cls := "RingMeetsModel", name := "gap", desc := "(III)I" } : Jvm.MethodName)) ∈ lw_all := lw_g (lw_at lw_m3 170 rfl) rfl
theorem q745 : (Jvm.Cond.methodLink "RingMeetsLaw" (31 : Nat) ({ cls := "RingMeetsModel", name := "shape", desc := "(I)I" } : Jvm.MethodName)) ∈ lw_all := lw_g (lw_at lw_m3 209 rfl) rfl
theorem q772 : (Jvm.Cond.methodLink "RingMeetsLaw" (36 : Nat) ({ cls := "RingMeetsModel", name := "rule", desc := "(IIIII)I" } : Jvm.MethodName)) ∈ lw_all := lw_g (lw_at lw_m3 236 rfl) rfl
theorem q776 : (Jvm.Cond.methodLink "RingMeetsLaw" (40 : Nat) ({ cls := "RingMeetsModel", name := "whom", desc := "(II)I" } : Jvm.MethodName)) ∈ lw_all := lw_g (lw_at lw_m4 0 rfl) rfl
theorem q784 : (Jvm.Cond.methodLink "RingMeetsLaw" (44 : Nat) ({ cls := "RingMeetsModel", name := "drop", desc := "(I)I" } : Jvm.MethodName)) ∈ lw_all := lw_g (lw_at lw_m4 8 rfl) rfl
theorem q788 : (Jvm.Cond.methodLink "RingMeetsLaw" (48 : Nat) ({ cls := "RingMeetsModel", name := "of", desc := "(II)I" } : Jvm.MethodName)) ∈ lw_all := lw_g (lw_at lw_m4 12 rfl) rfl
theorem q792 : (Jvm.Cond.methodLink "RingMeetsLaw" (52 : Nat) ({ cls := "RingMeetsModel", name := "does", desc := "(II)I" } : Jvm.MethodName)) ∈ lw_all := lw_g (lw_at lw_m4 16 rfl) rfl
theorem q812 : (Jvm.Cond.methodLink "RingMeetsLaw" (56 : Nat) ({ cls := "RingMeetsModel", name := "step", desc := "(I)I" } : Jvm.MethodName)) ∈ lw_all := lw_g (lw_at lw_m4 36 rfl) rfl
theorem q816 : (Jvm.Cond.methodLink "RingMeetsLaw" (60 : Nat) ({ cls := "RingMeetsModel", name := "meets", desc := "(II)I" } : Jvm.MethodName)) ∈ lw_all := lw_g (lw_at lw_m4 40 rfl) rfl
theorem q870 : (Jvm.Cond.methodLink "RingMeetsLaw" (64 : Nat) ({ cls := "RingMeetsModel", name := "first", desc := "(I)I" } : Jvm.MethodName)) ∈ lw_all := lw_g (lw_at lw_m4 94 rfl) rfl
theorem q874 : (Jvm.Cond.methodLink "RingMeetsLaw" (68 : Nat) ({ cls := "RingMeetsModel", name := "blind", desc := "(I)I" } : Jvm.MethodName)) ∈ lw_all := lw_g (lw_at lw_m4 98 rfl) rfl
theorem q878 : (Jvm.Cond.methodLink "RingMeetsLaw" (72 : Nat) ({ cls := "RingMeetsModel", name := "used", desc := "(I)I" } : Jvm.MethodName)) ∈ lw_all := lw_g (lw_at lw_m4 102 rfl) rfl
theorem q882 : (Jvm.Cond.methodLink "RingMeetsLaw" (76 : Nat) ({ cls := "RingMeetsModel", name := "all", desc := "(III)I" } : Jvm.MethodName)) ∈ lw_all := lw_g (lw_at lw_m4 106 rfl) rfl
theorem q890 : (Jvm.Cond.methodLink "RingMeetsLaw" (80 : Nat) ({ cls := "RingMeetsModel", name := "image", desc := "(I)I" } : Jvm.MethodName)) ∈ lw_all := lw_g (lw_at lw_m4 114 rfl) rfl
theorem q894 : (Jvm.Cond.methodLink "RingMeetsLaw" (84 : Nat) ({ cls := "RingMeetsModel", name := "restore", desc := "(I)I" } : Jvm.MethodName)) ∈ lw_all := lw_g (lw_at lw_m4 118 rfl) rfl
theorem q898 : (Jvm.Cond.methodLink "RingMeetsLaw" (88 : Nat) ({ cls := "RingMeetsModel", name := "count", desc := "(I)I" } : Jvm.MethodName)) ∈ lw_all := lw_g (lw_at lw_m4 122 rfl) rfl

theorem q556 : (Jvm.Cond.declares ({ cls := "RingMeets$Schedule", name := "next", desc := "(II)I" } : Jvm.MethodName)) ∈ lw_tbl := lw_at lw_m3 20 rfl
set_option maxRecDepth 100000
theorem q557 : (Jvm.Cond.sameMethod "RingMeets$Schedule" "RingMeets$Schedule" "next" "(II)I") ∈ lw_all := lw_g (lw_at lw_m3 21 rfl) rfl

theorem q69 : (Jvm.Cond.initialized "java/lang/Integer$IntegerCache") ∈ lw_all := lw_g (lw_at lw_m1 13 rfl) rfl
set_option maxRecDepth 100000
theorem q356 : (Jvm.Cond.laysStatic "java/lang/Integer$IntegerCache" "high" "I") ∈ lw_tbl := lw_at lw_m2 60 rfl
theorem q358 : (Jvm.Cond.laysStatic "java/lang/Integer$IntegerCache" "cache" "[Ljava/lang/Integer;") ∈ lw_tbl := lw_at lw_m2 62 rfl

theorem q71 : (Jvm.Cond.initialized "java/lang/System") ∈ lw_all := lw_g (lw_at lw_m1 15 rfl) rfl
set_option maxRecDepth 100000
theorem q490 : (Jvm.Cond.static ({ cls := "java/lang/System", name := "arraycopy", desc := "(Ljava/lang/Object;ILjava/lang/Object;II)V" } : Jvm.MethodName)) ∈ lw_all := lw_g (lw_at lw_m2 194 rfl) rfl
theorem q491 : (Jvm.Cond.native ({ cls := "java/lang/System", name := "arraycopy", desc := "(Ljava/lang/Object;ILjava/lang/Object;II)V" } : Jvm.MethodName)) ∈ lw_all := lw_g (lw_at lw_m2 195 rfl) rfl

theorem q327 : (Jvm.Cond.interfaceMethod "java/util/Iterator" "java/util/Iterator" "hasNext" "()Z") ∈ lw_tbl := lw_at lw_m2 31 rfl
set_option maxRecDepth 100000
theorem q328 : (Jvm.Cond.declares ({ cls := "java/util/Iterator", name := "hasNext", desc := "()Z" } : Jvm.MethodName)) ∈ lw_tbl := lw_at lw_m2 32 rfl
theorem q337 : (Jvm.Cond.interfaceMethod "java/util/Iterator" "java/util/Iterator" "next" "()Ljava/lang/Object;") ∈ lw_tbl := lw_at lw_m2 41 rfl
theorem q338 : (Jvm.Cond.declares ({ cls := "java/util/Iterator", name := "next", desc := "()Ljava/lang/Object;" } : Jvm.MethodName)) ∈ lw_tbl := lw_at lw_m2 42 rfl

theorem q88 : (Jvm.Cond.arrayOver (Jvm.ClassFile.FieldType.object "RingMeets$Rule")) ∈ lw_tbl := lw_at lw_m1 32 rfl
set_option maxRecDepth 100000
theorem q119 : (Jvm.Cond.arrayClass Jvm.ClassFile.FieldType.int) ∈ lw_all := lw_g (lw_at lw_m1 63 rfl) rfl
theorem q138 : (Jvm.Cond.arrayOver (Jvm.ClassFile.FieldType.object "RingMeets$Desk")) ∈ lw_tbl := lw_at lw_m1 82 rfl
theorem q155 : (Jvm.Cond.arrayClass Jvm.ClassFile.FieldType.boolean) ∈ lw_all := lw_g (lw_at lw_m1 99 rfl) rfl
