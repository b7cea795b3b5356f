/-! DECODE ROWS BY BYTES: one lemma an opcode; a method's code is cut into short pieces once, and a row reads its own piece alone. -/
set_option maxRecDepth 100000
/-- the code has just these bytes from pc on -/
def DkAt (code : ByteArray) (pc : Nat) (bs : List UInt8) : Prop := ∀ (j : Nat) (b : UInt8), bs[j]? = some b → code.data.toList[pc + j]? = some b
/-- the piece W has the bytes bs from its place j on -/
def dkIn (W : List UInt8) (j : Nat) (bs : List UInt8) : Bool := decide ((W.drop j).take bs.length = bs)
theorem dk_seg {l W T : List UInt8} {o o2 : Nat} (h : l.drop o = W ++ T) (n : Nat) (hn : W.length = n) (ho : o + n = o2) : l.drop o2 = T := by
  subst ho
  rw [← List.drop_drop, h, List.drop_left' hn]
theorem dk_at {code : ByteArray} {W T bs : List UInt8} {o pc : Nat} (h : code.data.toList.drop o = W ++ T) (j : Nat) (hp : o + j = pc) (hw : dkIn W j bs = true) : DkAt code pc bs := by
  subst hp
  intro i b e
  have h1 := of_decide_eq_true hw
  have h2 : i < bs.length := (List.getElem?_eq_some_iff.mp e).1
  have h3 : W[j + i]? = some b := by
    rw [← h1, List.getElem?_take, if_pos h2, List.getElem?_drop] at e
    exact e
  have h4 : j + i < W.length := (List.getElem?_eq_some_iff.mp h3).1
  have h5 : (code.data.toList.drop o)[j + i]? = some b := by
    rw [h, List.getElem?_append_left h4]
    exact h3
  rw [List.getElem?_drop, ← Nat.add_assoc] at h5
  exact h5
theorem dk_u1 {A : ByteArray} {p : Nat} {b : UInt8} (h : A.data.toList[p]? = some b) : (Reader.u1 : Reader DecodeError Nat) A p = .ok (b.toNat, p + 1) := by
  obtain ⟨h1, h2⟩ := List.getElem?_eq_some_iff.mp h
  have h3 : p < A.size := by simpa using h1
  have h4 : A[p]'h3 = b := h2
  have e : (Reader.u1 : Reader DecodeError Nat) A p = (if h : p < A.size then .ok (A[p].toNat, p + 1) else .error (HasTruncated.truncated p)) := by
    show (do if h : p < A.size then do set (p + 1); Pure.pure A[p].toNat else MonadExcept.throw (HasTruncated.truncated p) : Reader DecodeError Nat) A p = _
    by_cases hi : p < A.size
    · rw [dif_pos hi, dif_pos hi]; rfl
    · rw [dif_neg hi, dif_neg hi]; rfl
  rw [e, dif_pos h3, h4]
theorem dk_bind {α β : Type} {r : Reader DecodeError α} {f : α → Reader DecodeError β} {A : ByteArray} {p s : Nat} {a : α} (h : r A p = .ok (a, s)) : (r >>= f) A p = f a A s := by
  show (do let (a, s) ← r A p; f a A s : Except DecodeError (β × Nat)) = _
  rw [h]
  rfl
theorem dk_map {α β : Type} {r : Reader DecodeError α} {g : α → β} {A : ByteArray} {p s : Nat} {a : α} (h : r A p = .ok (a, s)) : (g <$> r) A p = .ok (g a, s) := by
  show (do let (a, s) ← r A p; .ok (g a, s) : Except DecodeError (β × Nat)) = _
  rw [h]
  rfl
theorem dk_u2 {A : ByteArray} {p : Nat} {a b : UInt8} (h : A.data.toList[p]? = some a) (h2 : A.data.toList[p + 1]? = some b) : (Reader.u2 : Reader DecodeError Nat) A p = .ok (a.toNat * 256 + b.toNat, p + 2) := by
  show (Reader.u1 >>= fun hi => Reader.u1 >>= fun lo => Pure.pure (hi * 256 + lo) : Reader DecodeError Nat) A p = _
  rw [dk_bind (dk_u1 h), dk_bind (dk_u1 h2)]
  rfl
theorem dk_of {code : ByteArray} {pc n : Nat} {i : Instr} (h : Decoder.instr pc code pc = .ok (i, pc + n)) : decode code pc = .ok (i, n) := by
  have e : decode code pc = (match Decoder.instr pc code pc with | .error x => .error x | .ok (j, s) => .ok (j, s - pc)) := by
    show (do let (j, s) ← Decoder.instr pc code pc; Pure.pure (j, s - pc) : Except DecodeError (Instr × Nat)) = _
    cases Decoder.instr pc code pc <;> rfl
  rw [e, h]
  show Except.ok (i, pc + n - pc) = _
  rw [Nat.add_sub_cancel_left]
theorem dk_1 {code : ByteArray} {pc : Nat} (h : DkAt code pc [1]) : decode code pc = .ok (.aconst_null, 1) := dk_of ((dk_bind (dk_u1 (h 0 _ rfl))).trans rfl)
theorem dk_2 {code : ByteArray} {pc : Nat} (h : DkAt code pc [2]) : decode code pc = .ok (.iconst (-1), 1) := dk_of ((dk_bind (dk_u1 (h 0 _ rfl))).trans rfl)
theorem dk_3 {code : ByteArray} {pc : Nat} (h : DkAt code pc [3]) : decode code pc = .ok (.iconst 0, 1) := dk_of ((dk_bind (dk_u1 (h 0 _ rfl))).trans rfl)
theorem dk_4 {code : ByteArray} {pc : Nat} (h : DkAt code pc [4]) : decode code pc = .ok (.iconst 1, 1) := dk_of ((dk_bind (dk_u1 (h 0 _ rfl))).trans rfl)
theorem dk_5 {code : ByteArray} {pc : Nat} (h : DkAt code pc [5]) : decode code pc = .ok (.iconst 2, 1) := dk_of ((dk_bind (dk_u1 (h 0 _ rfl))).trans rfl)
theorem dk_6 {code : ByteArray} {pc : Nat} (h : DkAt code pc [6]) : decode code pc = .ok (.iconst 3, 1) := dk_of ((dk_bind (dk_u1 (h 0 _ rfl))).trans rfl)
theorem dk_7 {code : ByteArray} {pc : Nat} (h : DkAt code pc [7]) : decode code pc = .ok (.iconst 4, 1) := dk_of ((dk_bind (dk_u1 (h 0 _ rfl))).trans rfl)
theorem dk_8 {code : ByteArray} {pc : Nat} (h : DkAt code pc [8]) : decode code pc = .ok (.iconst 5, 1) := dk_of ((dk_bind (dk_u1 (h 0 _ rfl))).trans rfl)
theorem dk_9 {code : ByteArray} {pc : Nat} (h : DkAt code pc [9]) : decode code pc = .ok (.lconst 0, 1) := dk_of ((dk_bind (dk_u1 (h 0 _ rfl))).trans rfl)
theorem dk_10 {code : ByteArray} {pc : Nat} (h : DkAt code pc [10]) : decode code pc = .ok (.lconst 1, 1) := dk_of ((dk_bind (dk_u1 (h 0 _ rfl))).trans rfl)
theorem dk_16 {code : ByteArray} {pc : Nat} (a : UInt8) (h : DkAt code pc [16, a]) : decode code pc = .ok (.bipush (Reader.signed 8 a.toNat), 2) := dk_of ((dk_bind (dk_u1 (h 0 _ rfl))).trans ((dk_bind (dk_map (dk_u1 (h 1 _ rfl)))).trans rfl))
theorem dk_17 {code : ByteArray} {pc : Nat} (a b : UInt8) (h : DkAt code pc [17, a, b]) : decode code pc = .ok (.sipush (Reader.signed 16 (a.toNat * 256 + b.toNat)), 3) := dk_of ((dk_bind (dk_u1 (h 0 _ rfl))).trans ((dk_bind (dk_map (dk_u2 (h 1 _ rfl) (h 2 _ rfl)))).trans rfl))
theorem dk_18 {code : ByteArray} {pc : Nat} (a : UInt8) (h : DkAt code pc [18, a]) : decode code pc = .ok (.ldc a.toNat, 2) := dk_of ((dk_bind (dk_u1 (h 0 _ rfl))).trans ((dk_bind (dk_u1 (h 1 _ rfl))).trans rfl))
theorem dk_19 {code : ByteArray} {pc : Nat} (a b : UInt8) (h : DkAt code pc [19, a, b]) : decode code pc = .ok (.ldc_w (a.toNat * 256 + b.toNat), 3) := dk_of ((dk_bind (dk_u1 (h 0 _ rfl))).trans ((dk_bind (dk_u2 (h 1 _ rfl) (h 2 _ rfl))).trans rfl))
theorem dk_20 {code : ByteArray} {pc : Nat} (a b : UInt8) (h : DkAt code pc [20, a, b]) : decode code pc = .ok (.ldc2_w (a.toNat * 256 + b.toNat), 3) := dk_of ((dk_bind (dk_u1 (h 0 _ rfl))).trans ((dk_bind (dk_u2 (h 1 _ rfl) (h 2 _ rfl))).trans rfl))
theorem dk_21 {code : ByteArray} {pc : Nat} (a : UInt8) (h : DkAt code pc [21, a]) : decode code pc = .ok (.iload a.toNat, 2) := dk_of ((dk_bind (dk_u1 (h 0 _ rfl))).trans ((dk_bind (dk_u1 (h 1 _ rfl))).trans rfl))
theorem dk_22 {code : ByteArray} {pc : Nat} (a : UInt8) (h : DkAt code pc [22, a]) : decode code pc = .ok (.lload a.toNat, 2) := dk_of ((dk_bind (dk_u1 (h 0 _ rfl))).trans ((dk_bind (dk_u1 (h 1 _ rfl))).trans rfl))
theorem dk_26 {code : ByteArray} {pc : Nat} (h : DkAt code pc [26]) : decode code pc = .ok (.iload_n 0, 1) := dk_of ((dk_bind (dk_u1 (h 0 _ rfl))).trans rfl)
theorem dk_27 {code : ByteArray} {pc : Nat} (h : DkAt code pc [27]) : decode code pc = .ok (.iload_n 1, 1) := dk_of ((dk_bind (dk_u1 (h 0 _ rfl))).trans rfl)
theorem dk_28 {code : ByteArray} {pc : Nat} (h : DkAt code pc [28]) : decode code pc = .ok (.iload_n 2, 1) := dk_of ((dk_bind (dk_u1 (h 0 _ rfl))).trans rfl)
theorem dk_29 {code : ByteArray} {pc : Nat} (h : DkAt code pc [29]) : decode code pc = .ok (.iload_n 3, 1) := dk_of ((dk_bind (dk_u1 (h 0 _ rfl))).trans rfl)
theorem dk_30 {code : ByteArray} {pc : Nat} (h : DkAt code pc [30]) : decode code pc = .ok (.lload_n 0, 1) := dk_of ((dk_bind (dk_u1 (h 0 _ rfl))).trans rfl)
theorem dk_31 {code : ByteArray} {pc : Nat} (h : DkAt code pc [31]) : decode code pc = .ok (.lload_n 1, 1) := dk_of ((dk_bind (dk_u1 (h 0 _ rfl))).trans rfl)
theorem dk_32 {code : ByteArray} {pc : Nat} (h : DkAt code pc [32]) : decode code pc = .ok (.lload_n 2, 1) := dk_of ((dk_bind (dk_u1 (h 0 _ rfl))).trans rfl)
theorem dk_42 {code : ByteArray} {pc : Nat} (h : DkAt code pc [42]) : decode code pc = .ok (.aload_n 0, 1) := dk_of ((dk_bind (dk_u1 (h 0 _ rfl))).trans rfl)
theorem dk_43 {code : ByteArray} {pc : Nat} (h : DkAt code pc [43]) : decode code pc = .ok (.aload_n 1, 1) := dk_of ((dk_bind (dk_u1 (h 0 _ rfl))).trans rfl)
theorem dk_44 {code : ByteArray} {pc : Nat} (h : DkAt code pc [44]) : decode code pc = .ok (.aload_n 2, 1) := dk_of ((dk_bind (dk_u1 (h 0 _ rfl))).trans rfl)
theorem dk_45 {code : ByteArray} {pc : Nat} (h : DkAt code pc [45]) : decode code pc = .ok (.aload_n 3, 1) := dk_of ((dk_bind (dk_u1 (h 0 _ rfl))).trans rfl)
theorem dk_46 {code : ByteArray} {pc : Nat} (h : DkAt code pc [46]) : decode code pc = .ok (.iaload, 1) := dk_of ((dk_bind (dk_u1 (h 0 _ rfl))).trans rfl)
theorem dk_50 {code : ByteArray} {pc : Nat} (h : DkAt code pc [50]) : decode code pc = .ok (.aaload, 1) := dk_of ((dk_bind (dk_u1 (h 0 _ rfl))).trans rfl)
theorem dk_51 {code : ByteArray} {pc : Nat} (h : DkAt code pc [51]) : decode code pc = .ok (.baload, 1) := dk_of ((dk_bind (dk_u1 (h 0 _ rfl))).trans rfl)
theorem dk_53 {code : ByteArray} {pc : Nat} (h : DkAt code pc [53]) : decode code pc = .ok (.saload, 1) := dk_of ((dk_bind (dk_u1 (h 0 _ rfl))).trans rfl)
theorem dk_54 {code : ByteArray} {pc : Nat} (a : UInt8) (h : DkAt code pc [54, a]) : decode code pc = .ok (.istore a.toNat, 2) := dk_of ((dk_bind (dk_u1 (h 0 _ rfl))).trans ((dk_bind (dk_u1 (h 1 _ rfl))).trans rfl))
theorem dk_58 {code : ByteArray} {pc : Nat} (a : UInt8) (h : DkAt code pc [58, a]) : decode code pc = .ok (.astore a.toNat, 2) := dk_of ((dk_bind (dk_u1 (h 0 _ rfl))).trans ((dk_bind (dk_u1 (h 1 _ rfl))).trans rfl))
theorem dk_59 {code : ByteArray} {pc : Nat} (h : DkAt code pc [59]) : decode code pc = .ok (.istore_n 0, 1) := dk_of ((dk_bind (dk_u1 (h 0 _ rfl))).trans rfl)
theorem dk_60 {code : ByteArray} {pc : Nat} (h : DkAt code pc [60]) : decode code pc = .ok (.istore_n 1, 1) := dk_of ((dk_bind (dk_u1 (h 0 _ rfl))).trans rfl)
theorem dk_61 {code : ByteArray} {pc : Nat} (h : DkAt code pc [61]) : decode code pc = .ok (.istore_n 2, 1) := dk_of ((dk_bind (dk_u1 (h 0 _ rfl))).trans rfl)
theorem dk_62 {code : ByteArray} {pc : Nat} (h : DkAt code pc [62]) : decode code pc = .ok (.istore_n 3, 1) := dk_of ((dk_bind (dk_u1 (h 0 _ rfl))).trans rfl)
theorem dk_64 {code : ByteArray} {pc : Nat} (h : DkAt code pc [64]) : decode code pc = .ok (.lstore_n 1, 1) := dk_of ((dk_bind (dk_u1 (h 0 _ rfl))).trans rfl)
theorem dk_76 {code : ByteArray} {pc : Nat} (h : DkAt code pc [76]) : decode code pc = .ok (.astore_n 1, 1) := dk_of ((dk_bind (dk_u1 (h 0 _ rfl))).trans rfl)
theorem dk_77 {code : ByteArray} {pc : Nat} (h : DkAt code pc [77]) : decode code pc = .ok (.astore_n 2, 1) := dk_of ((dk_bind (dk_u1 (h 0 _ rfl))).trans rfl)
theorem dk_78 {code : ByteArray} {pc : Nat} (h : DkAt code pc [78]) : decode code pc = .ok (.astore_n 3, 1) := dk_of ((dk_bind (dk_u1 (h 0 _ rfl))).trans rfl)
theorem dk_79 {code : ByteArray} {pc : Nat} (h : DkAt code pc [79]) : decode code pc = .ok (.iastore, 1) := dk_of ((dk_bind (dk_u1 (h 0 _ rfl))).trans rfl)
theorem dk_83 {code : ByteArray} {pc : Nat} (h : DkAt code pc [83]) : decode code pc = .ok (.aastore, 1) := dk_of ((dk_bind (dk_u1 (h 0 _ rfl))).trans rfl)
theorem dk_84 {code : ByteArray} {pc : Nat} (h : DkAt code pc [84]) : decode code pc = .ok (.bastore, 1) := dk_of ((dk_bind (dk_u1 (h 0 _ rfl))).trans rfl)
theorem dk_86 {code : ByteArray} {pc : Nat} (h : DkAt code pc [86]) : decode code pc = .ok (.sastore, 1) := dk_of ((dk_bind (dk_u1 (h 0 _ rfl))).trans rfl)
theorem dk_87 {code : ByteArray} {pc : Nat} (h : DkAt code pc [87]) : decode code pc = .ok (.pop, 1) := dk_of ((dk_bind (dk_u1 (h 0 _ rfl))).trans rfl)
theorem dk_89 {code : ByteArray} {pc : Nat} (h : DkAt code pc [89]) : decode code pc = .ok (.dup, 1) := dk_of ((dk_bind (dk_u1 (h 0 _ rfl))).trans rfl)
theorem dk_90 {code : ByteArray} {pc : Nat} (h : DkAt code pc [90]) : decode code pc = .ok (.dup_x1, 1) := dk_of ((dk_bind (dk_u1 (h 0 _ rfl))).trans rfl)
theorem dk_92 {code : ByteArray} {pc : Nat} (h : DkAt code pc [92]) : decode code pc = .ok (.dup2, 1) := dk_of ((dk_bind (dk_u1 (h 0 _ rfl))).trans rfl)
theorem dk_96 {code : ByteArray} {pc : Nat} (h : DkAt code pc [96]) : decode code pc = .ok (.iadd, 1) := dk_of ((dk_bind (dk_u1 (h 0 _ rfl))).trans rfl)
theorem dk_97 {code : ByteArray} {pc : Nat} (h : DkAt code pc [97]) : decode code pc = .ok (.ladd, 1) := dk_of ((dk_bind (dk_u1 (h 0 _ rfl))).trans rfl)
theorem dk_100 {code : ByteArray} {pc : Nat} (h : DkAt code pc [100]) : decode code pc = .ok (.isub, 1) := dk_of ((dk_bind (dk_u1 (h 0 _ rfl))).trans rfl)
theorem dk_104 {code : ByteArray} {pc : Nat} (h : DkAt code pc [104]) : decode code pc = .ok (.imul, 1) := dk_of ((dk_bind (dk_u1 (h 0 _ rfl))).trans rfl)
theorem dk_105 {code : ByteArray} {pc : Nat} (h : DkAt code pc [105]) : decode code pc = .ok (.lmul, 1) := dk_of ((dk_bind (dk_u1 (h 0 _ rfl))).trans rfl)
theorem dk_108 {code : ByteArray} {pc : Nat} (h : DkAt code pc [108]) : decode code pc = .ok (.idiv, 1) := dk_of ((dk_bind (dk_u1 (h 0 _ rfl))).trans rfl)
theorem dk_112 {code : ByteArray} {pc : Nat} (h : DkAt code pc [112]) : decode code pc = .ok (.irem, 1) := dk_of ((dk_bind (dk_u1 (h 0 _ rfl))).trans rfl)
theorem dk_116 {code : ByteArray} {pc : Nat} (h : DkAt code pc [116]) : decode code pc = .ok (.ineg, 1) := dk_of ((dk_bind (dk_u1 (h 0 _ rfl))).trans rfl)
theorem dk_120 {code : ByteArray} {pc : Nat} (h : DkAt code pc [120]) : decode code pc = .ok (.ishl, 1) := dk_of ((dk_bind (dk_u1 (h 0 _ rfl))).trans rfl)
theorem dk_122 {code : ByteArray} {pc : Nat} (h : DkAt code pc [122]) : decode code pc = .ok (.ishr, 1) := dk_of ((dk_bind (dk_u1 (h 0 _ rfl))).trans rfl)
theorem dk_124 {code : ByteArray} {pc : Nat} (h : DkAt code pc [124]) : decode code pc = .ok (.iushr, 1) := dk_of ((dk_bind (dk_u1 (h 0 _ rfl))).trans rfl)
theorem dk_126 {code : ByteArray} {pc : Nat} (h : DkAt code pc [126]) : decode code pc = .ok (.iand, 1) := dk_of ((dk_bind (dk_u1 (h 0 _ rfl))).trans rfl)
theorem dk_128 {code : ByteArray} {pc : Nat} (h : DkAt code pc [128]) : decode code pc = .ok (.ior, 1) := dk_of ((dk_bind (dk_u1 (h 0 _ rfl))).trans rfl)
theorem dk_130 {code : ByteArray} {pc : Nat} (h : DkAt code pc [130]) : decode code pc = .ok (.ixor, 1) := dk_of ((dk_bind (dk_u1 (h 0 _ rfl))).trans rfl)
theorem dk_132 {code : ByteArray} {pc : Nat} (a b : UInt8) (h : DkAt code pc [132, a, b]) : decode code pc = .ok (.iinc a.toNat (Reader.signed 8 b.toNat), 3) := dk_of ((dk_bind (dk_u1 (h 0 _ rfl))).trans ((dk_bind (dk_u1 (h 1 _ rfl))).trans ((dk_bind (dk_map (dk_u1 (h 2 _ rfl)))).trans rfl)))
theorem dk_133 {code : ByteArray} {pc : Nat} (h : DkAt code pc [133]) : decode code pc = .ok (.i2l, 1) := dk_of ((dk_bind (dk_u1 (h 0 _ rfl))).trans rfl)
theorem dk_145 {code : ByteArray} {pc : Nat} (h : DkAt code pc [145]) : decode code pc = .ok (.i2b, 1) := dk_of ((dk_bind (dk_u1 (h 0 _ rfl))).trans rfl)
theorem dk_147 {code : ByteArray} {pc : Nat} (h : DkAt code pc [147]) : decode code pc = .ok (.i2s, 1) := dk_of ((dk_bind (dk_u1 (h 0 _ rfl))).trans rfl)
theorem dk_148 {code : ByteArray} {pc : Nat} (h : DkAt code pc [148]) : decode code pc = .ok (.lcmp, 1) := dk_of ((dk_bind (dk_u1 (h 0 _ rfl))).trans rfl)
theorem dk_153 {code : ByteArray} {pc : Nat} (a b : UInt8) (h : DkAt code pc [153, a, b]) : decode code pc = .ok (.ifCond .eq (Reader.signed 16 (a.toNat * 256 + b.toNat)), 3) := dk_of ((dk_bind (dk_u1 (h 0 _ rfl))).trans ((dk_bind (dk_map (dk_u2 (h 1 _ rfl) (h 2 _ rfl)))).trans rfl))
theorem dk_154 {code : ByteArray} {pc : Nat} (a b : UInt8) (h : DkAt code pc [154, a, b]) : decode code pc = .ok (.ifCond .ne (Reader.signed 16 (a.toNat * 256 + b.toNat)), 3) := dk_of ((dk_bind (dk_u1 (h 0 _ rfl))).trans ((dk_bind (dk_map (dk_u2 (h 1 _ rfl) (h 2 _ rfl)))).trans rfl))
theorem dk_155 {code : ByteArray} {pc : Nat} (a b : UInt8) (h : DkAt code pc [155, a, b]) : decode code pc = .ok (.ifCond .lt (Reader.signed 16 (a.toNat * 256 + b.toNat)), 3) := dk_of ((dk_bind (dk_u1 (h 0 _ rfl))).trans ((dk_bind (dk_map (dk_u2 (h 1 _ rfl) (h 2 _ rfl)))).trans rfl))
theorem dk_156 {code : ByteArray} {pc : Nat} (a b : UInt8) (h : DkAt code pc [156, a, b]) : decode code pc = .ok (.ifCond .ge (Reader.signed 16 (a.toNat * 256 + b.toNat)), 3) := dk_of ((dk_bind (dk_u1 (h 0 _ rfl))).trans ((dk_bind (dk_map (dk_u2 (h 1 _ rfl) (h 2 _ rfl)))).trans rfl))
theorem dk_157 {code : ByteArray} {pc : Nat} (a b : UInt8) (h : DkAt code pc [157, a, b]) : decode code pc = .ok (.ifCond .gt (Reader.signed 16 (a.toNat * 256 + b.toNat)), 3) := dk_of ((dk_bind (dk_u1 (h 0 _ rfl))).trans ((dk_bind (dk_map (dk_u2 (h 1 _ rfl) (h 2 _ rfl)))).trans rfl))
theorem dk_158 {code : ByteArray} {pc : Nat} (a b : UInt8) (h : DkAt code pc [158, a, b]) : decode code pc = .ok (.ifCond .le (Reader.signed 16 (a.toNat * 256 + b.toNat)), 3) := dk_of ((dk_bind (dk_u1 (h 0 _ rfl))).trans ((dk_bind (dk_map (dk_u2 (h 1 _ rfl) (h 2 _ rfl)))).trans rfl))
theorem dk_159 {code : ByteArray} {pc : Nat} (a b : UInt8) (h : DkAt code pc [159, a, b]) : decode code pc = .ok (.if_icmp .eq (Reader.signed 16 (a.toNat * 256 + b.toNat)), 3) := dk_of ((dk_bind (dk_u1 (h 0 _ rfl))).trans ((dk_bind (dk_map (dk_u2 (h 1 _ rfl) (h 2 _ rfl)))).trans rfl))
theorem dk_160 {code : ByteArray} {pc : Nat} (a b : UInt8) (h : DkAt code pc [160, a, b]) : decode code pc = .ok (.if_icmp .ne (Reader.signed 16 (a.toNat * 256 + b.toNat)), 3) := dk_of ((dk_bind (dk_u1 (h 0 _ rfl))).trans ((dk_bind (dk_map (dk_u2 (h 1 _ rfl) (h 2 _ rfl)))).trans rfl))
theorem dk_161 {code : ByteArray} {pc : Nat} (a b : UInt8) (h : DkAt code pc [161, a, b]) : decode code pc = .ok (.if_icmp .lt (Reader.signed 16 (a.toNat * 256 + b.toNat)), 3) := dk_of ((dk_bind (dk_u1 (h 0 _ rfl))).trans ((dk_bind (dk_map (dk_u2 (h 1 _ rfl) (h 2 _ rfl)))).trans rfl))
theorem dk_162 {code : ByteArray} {pc : Nat} (a b : UInt8) (h : DkAt code pc [162, a, b]) : decode code pc = .ok (.if_icmp .ge (Reader.signed 16 (a.toNat * 256 + b.toNat)), 3) := dk_of ((dk_bind (dk_u1 (h 0 _ rfl))).trans ((dk_bind (dk_map (dk_u2 (h 1 _ rfl) (h 2 _ rfl)))).trans rfl))
theorem dk_163 {code : ByteArray} {pc : Nat} (a b : UInt8) (h : DkAt code pc [163, a, b]) : decode code pc = .ok (.if_icmp .gt (Reader.signed 16 (a.toNat * 256 + b.toNat)), 3) := dk_of ((dk_bind (dk_u1 (h 0 _ rfl))).trans ((dk_bind (dk_map (dk_u2 (h 1 _ rfl) (h 2 _ rfl)))).trans rfl))
theorem dk_164 {code : ByteArray} {pc : Nat} (a b : UInt8) (h : DkAt code pc [164, a, b]) : decode code pc = .ok (.if_icmp .le (Reader.signed 16 (a.toNat * 256 + b.toNat)), 3) := dk_of ((dk_bind (dk_u1 (h 0 _ rfl))).trans ((dk_bind (dk_map (dk_u2 (h 1 _ rfl) (h 2 _ rfl)))).trans rfl))
theorem dk_165 {code : ByteArray} {pc : Nat} (a b : UInt8) (h : DkAt code pc [165, a, b]) : decode code pc = .ok (.if_acmp .eq (Reader.signed 16 (a.toNat * 256 + b.toNat)), 3) := dk_of ((dk_bind (dk_u1 (h 0 _ rfl))).trans ((dk_bind (dk_map (dk_u2 (h 1 _ rfl) (h 2 _ rfl)))).trans rfl))
theorem dk_166 {code : ByteArray} {pc : Nat} (a b : UInt8) (h : DkAt code pc [166, a, b]) : decode code pc = .ok (.if_acmp .ne (Reader.signed 16 (a.toNat * 256 + b.toNat)), 3) := dk_of ((dk_bind (dk_u1 (h 0 _ rfl))).trans ((dk_bind (dk_map (dk_u2 (h 1 _ rfl) (h 2 _ rfl)))).trans rfl))
theorem dk_167 {code : ByteArray} {pc : Nat} (a b : UInt8) (h : DkAt code pc [167, a, b]) : decode code pc = .ok (.goto (Reader.signed 16 (a.toNat * 256 + b.toNat)), 3) := dk_of ((dk_bind (dk_u1 (h 0 _ rfl))).trans ((dk_bind (dk_map (dk_u2 (h 1 _ rfl) (h 2 _ rfl)))).trans rfl))
theorem dk_172 {code : ByteArray} {pc : Nat} (h : DkAt code pc [172]) : decode code pc = .ok (.ireturn, 1) := dk_of ((dk_bind (dk_u1 (h 0 _ rfl))).trans rfl)
theorem dk_173 {code : ByteArray} {pc : Nat} (h : DkAt code pc [173]) : decode code pc = .ok (.lreturn, 1) := dk_of ((dk_bind (dk_u1 (h 0 _ rfl))).trans rfl)
theorem dk_176 {code : ByteArray} {pc : Nat} (h : DkAt code pc [176]) : decode code pc = .ok (.areturn, 1) := dk_of ((dk_bind (dk_u1 (h 0 _ rfl))).trans rfl)
theorem dk_177 {code : ByteArray} {pc : Nat} (h : DkAt code pc [177]) : decode code pc = .ok (.return_, 1) := dk_of ((dk_bind (dk_u1 (h 0 _ rfl))).trans rfl)
theorem dk_178 {code : ByteArray} {pc : Nat} (a b : UInt8) (h : DkAt code pc [178, a, b]) : decode code pc = .ok (.getstatic (a.toNat * 256 + b.toNat), 3) := dk_of ((dk_bind (dk_u1 (h 0 _ rfl))).trans ((dk_bind (dk_u2 (h 1 _ rfl) (h 2 _ rfl))).trans rfl))
theorem dk_180 {code : ByteArray} {pc : Nat} (a b : UInt8) (h : DkAt code pc [180, a, b]) : decode code pc = .ok (.getfield (a.toNat * 256 + b.toNat), 3) := dk_of ((dk_bind (dk_u1 (h 0 _ rfl))).trans ((dk_bind (dk_u2 (h 1 _ rfl) (h 2 _ rfl))).trans rfl))
theorem dk_181 {code : ByteArray} {pc : Nat} (a b : UInt8) (h : DkAt code pc [181, a, b]) : decode code pc = .ok (.putfield (a.toNat * 256 + b.toNat), 3) := dk_of ((dk_bind (dk_u1 (h 0 _ rfl))).trans ((dk_bind (dk_u2 (h 1 _ rfl) (h 2 _ rfl))).trans rfl))
theorem dk_182 {code : ByteArray} {pc : Nat} (a b : UInt8) (h : DkAt code pc [182, a, b]) : decode code pc = .ok (.invokevirtual (a.toNat * 256 + b.toNat), 3) := dk_of ((dk_bind (dk_u1 (h 0 _ rfl))).trans ((dk_bind (dk_u2 (h 1 _ rfl) (h 2 _ rfl))).trans rfl))
theorem dk_183 {code : ByteArray} {pc : Nat} (a b : UInt8) (h : DkAt code pc [183, a, b]) : decode code pc = .ok (.invokespecial (a.toNat * 256 + b.toNat), 3) := dk_of ((dk_bind (dk_u1 (h 0 _ rfl))).trans ((dk_bind (dk_u2 (h 1 _ rfl) (h 2 _ rfl))).trans rfl))
theorem dk_184 {code : ByteArray} {pc : Nat} (a b : UInt8) (h : DkAt code pc [184, a, b]) : decode code pc = .ok (.invokestatic (a.toNat * 256 + b.toNat), 3) := dk_of ((dk_bind (dk_u1 (h 0 _ rfl))).trans ((dk_bind (dk_u2 (h 1 _ rfl) (h 2 _ rfl))).trans rfl))
theorem dk_187 {code : ByteArray} {pc : Nat} (a b : UInt8) (h : DkAt code pc [187, a, b]) : decode code pc = .ok (.new (a.toNat * 256 + b.toNat), 3) := dk_of ((dk_bind (dk_u1 (h 0 _ rfl))).trans ((dk_bind (dk_u2 (h 1 _ rfl) (h 2 _ rfl))).trans rfl))
theorem dk_188_4 {code : ByteArray} {pc : Nat} (h : DkAt code pc [188, 4]) : decode code pc = .ok (.newarray .boolean, 2) := dk_of ((dk_bind (dk_u1 (h 0 _ rfl))).trans ((dk_bind (dk_u1 (h 1 _ rfl))).trans rfl))
theorem dk_188_8 {code : ByteArray} {pc : Nat} (h : DkAt code pc [188, 8]) : decode code pc = .ok (.newarray .byte, 2) := dk_of ((dk_bind (dk_u1 (h 0 _ rfl))).trans ((dk_bind (dk_u1 (h 1 _ rfl))).trans rfl))
theorem dk_188_9 {code : ByteArray} {pc : Nat} (h : DkAt code pc [188, 9]) : decode code pc = .ok (.newarray .short, 2) := dk_of ((dk_bind (dk_u1 (h 0 _ rfl))).trans ((dk_bind (dk_u1 (h 1 _ rfl))).trans rfl))
theorem dk_188_10 {code : ByteArray} {pc : Nat} (h : DkAt code pc [188, 10]) : decode code pc = .ok (.newarray .int, 2) := dk_of ((dk_bind (dk_u1 (h 0 _ rfl))).trans ((dk_bind (dk_u1 (h 1 _ rfl))).trans rfl))
theorem dk_189 {code : ByteArray} {pc : Nat} (a b : UInt8) (h : DkAt code pc [189, a, b]) : decode code pc = .ok (.anewarray (a.toNat * 256 + b.toNat), 3) := dk_of ((dk_bind (dk_u1 (h 0 _ rfl))).trans ((dk_bind (dk_u2 (h 1 _ rfl) (h 2 _ rfl))).trans rfl))
theorem dk_190 {code : ByteArray} {pc : Nat} (h : DkAt code pc [190]) : decode code pc = .ok (.arraylength, 1) := dk_of ((dk_bind (dk_u1 (h 0 _ rfl))).trans rfl)
theorem dk_191 {code : ByteArray} {pc : Nat} (h : DkAt code pc [191]) : decode code pc = .ok (.athrow, 1) := dk_of ((dk_bind (dk_u1 (h 0 _ rfl))).trans rfl)
theorem dk_192 {code : ByteArray} {pc : Nat} (a b : UInt8) (h : DkAt code pc [192, a, b]) : decode code pc = .ok (.checkcast (a.toNat * 256 + b.toNat), 3) := dk_of ((dk_bind (dk_u1 (h 0 _ rfl))).trans ((dk_bind (dk_u2 (h 1 _ rfl) (h 2 _ rfl))).trans rfl))
theorem dk_193 {code : ByteArray} {pc : Nat} (a b : UInt8) (h : DkAt code pc [193, a, b]) : decode code pc = .ok (.instanceof (a.toNat * 256 + b.toNat), 3) := dk_of ((dk_bind (dk_u1 (h 0 _ rfl))).trans ((dk_bind (dk_u2 (h 1 _ rfl) (h 2 _ rfl))).trans rfl))
theorem dk_198 {code : ByteArray} {pc : Nat} (a b : UInt8) (h : DkAt code pc [198, a, b]) : decode code pc = .ok (.ifnull (Reader.signed 16 (a.toNat * 256 + b.toNat)), 3) := dk_of ((dk_bind (dk_u1 (h 0 _ rfl))).trans ((dk_bind (dk_map (dk_u2 (h 1 _ rfl) (h 2 _ rfl)))).trans rfl))
theorem dk_199 {code : ByteArray} {pc : Nat} (a b : UInt8) (h : DkAt code pc [199, a, b]) : decode code pc = .ok (.ifnonnull (Reader.signed 16 (a.toNat * 256 + b.toNat)), 3) := dk_of ((dk_bind (dk_u1 (h 0 _ rfl))).trans ((dk_bind (dk_map (dk_u2 (h 1 _ rfl) (h 2 _ rfl)))).trans rfl))
/-! SoldWithIt -/
def RX0 : String := "SoldWithIt"
def TX0 : u_T := fun k => match k with
  | 0 => ("SoldWithIt", "latest", "I", false)
  | 1 => ("SoldWithIt", "row", "LSoldWithIt$Row;", true)
  | 2 => ("SoldWithIt", "folk", "LSoldWithIt$Folk;", true)
  | 3 => ("SoldWithIt", "stale", "Z", false)
  | 4 => ("SoldWithIt", "laws", "[I", true)
  | 5 => ("SoldWithIt", "saleHouse", "[I", true)
  | 6 => ("SoldWithIt", "saleBuyer", "[I", true)
  | 7 => ("SoldWithIt", "sales", "I", false)
  | 8 => ("SoldWithIt", "noon", "LSoldWithIt$Noon;", true)
  | 9 => ("SoldWithIt", "tried", "LSoldWithIt$Noon;", true)
  | 10 => ("SoldWithIt", "owners", "[[I", true)
  | 11 => ("SoldWithIt", "keepers", "[[I", true)
  | 12 => ("SoldWithIt", "soldSo", "[[I", true)
  | 13 => ("SoldWithIt", "lengths", "[I", true)
  | 14 => ("SoldWithIt", "worths", "[[I", true)
  | 15 => ("SoldWithIt", "likes", "[[I", true)
  | 16 => ("SoldWithIt", "keptBy", "[I", true)
  | 17 => ("SoldWithIt", "allSales", "LSoldWithIt$Sales;", true)
  | 18 => ("SoldWithIt", "facts", "Ljava/util/ArrayList;", true)
  | 19 => ("SoldWithIt", "been", "[I", true)
  | _ => ("SoldWithIt", "sheets", "[LSoldWithIt$Sheet;", true)
def tyX0 : Nat → FieldType := fun k => match k with
  | 0 => .int
  | 1 => .object "SoldWithIt$Row"
  | 2 => .object "SoldWithIt$Folk"
  | 3 => .boolean
  | 4 => .array .int
  | 5 => .array .int
  | 6 => .array .int
  | 7 => .int
  | 8 => .object "SoldWithIt$Noon"
  | 9 => .object "SoldWithIt$Noon"
  | 10 => .array (.array .int)
  | 11 => .array (.array .int)
  | 12 => .array (.array .int)
  | 13 => .array .int
  | 14 => .array (.array .int)
  | 15 => .array (.array .int)
  | 16 => .array .int
  | 17 => .object "SoldWithIt$Sales"
  | 18 => .object "java/util/ArrayList"
  | 19 => .array .int
  | _ => .array (.object "SoldWithIt$Sheet")
abbrev wsX00 : List Cond := u_ws RX0 TX0 21
theorem nmX0 : ∀ a, a < 21 → ∀ b, b < 21 → a ≠ b → (TX0 a).2.1 ≠ (TX0 b).2.1 := by decide +kernel
theorem tyX0_ok : ∀ k, k < 21 → parseFieldDescriptor (TX0 k).2.2.1 = some (tyX0 k) := by decide +kernel
abbrev cX0_init : ByteArray := prog_1_method_1_code
def yX0_init : MethodName := ⟨RX0, "<init>", "()V"⟩
abbrev cX0_type : ByteArray := prog_1_method_9_code
def yX0_type : MethodName := ⟨RX0, "type", "(II)I"⟩
abbrev cX0_isTwo : ByteArray := prog_1_method_6_code
def yX0_isTwo : MethodName := ⟨RX0, "isTwo", "(I)Z"⟩
abbrev cX0_in : ByteArray := prog_1_method_2_code
def yX0_in : MethodName := ⟨RX0, "in", "(JJJ)Z"⟩
abbrev cX0_wipe : ByteArray := prog_1_method_10_code
def yX0_wipe : MethodName := ⟨RX0, "wipe", "(I)I"⟩
abbrev cX0_fault : ByteArray := prog_1_method_12_code
def yX0_fault : MethodName := ⟨RX0, "fault", "(I)I"⟩
abbrev cX0_faultOf : ByteArray := prog_1_method_11_code
def yX0_faultOf : MethodName := ⟨RX0, "faultOf", "(I)I"⟩
abbrev cX0_house : ByteArray := prog_1_method_23_code
def yX0_house : MethodName := ⟨RX0, "house", "(II)I"⟩
abbrev cX0_isHouse : ByteArray := prog_1_method_15_code
def yX0_isHouse : MethodName := ⟨RX0, "isHouse", "(I)Z"⟩
abbrev cX0_houses : ByteArray := prog_1_method_13_code
def yX0_houses : MethodName := ⟨RX0, "houses", "()I"⟩
abbrev cX0_houseBy : ByteArray := prog_1_method_22_code
def yX0_houseBy : MethodName := ⟨RX0, "houseBy", "(II)I"⟩
abbrev cX0_house_2 : ByteArray := prog_1_method_17_code
def yX0_house_2 : MethodName := ⟨RX0, "house", "(I)LSoldWithIt$House;"⟩
abbrev cX0_within : ByteArray := prog_1_method_21_code
def yX0_within : MethodName := ⟨RX0, "within", "(I)I"⟩
abbrev cX0_people : ByteArray := prog_1_method_14_code
def yX0_people : MethodName := ⟨RX0, "people", "()I"⟩
abbrev cX0_placeOf : ByteArray := prog_1_method_19_code
def yX0_placeOf : MethodName := ⟨RX0, "placeOf", "(I)I"⟩
abbrev cX0_person : ByteArray := prog_1_method_18_code
def yX0_person : MethodName := ⟨RX0, "person", "(I)LSoldWithIt$Person;"⟩
abbrev cX0_person_2 : ByteArray := prog_1_method_26_code
def yX0_person_2 : MethodName := ⟨RX0, "person", "(II)I"⟩
abbrev cX0_isPerson : ByteArray := prog_1_method_16_code
def yX0_isPerson : MethodName := ⟨RX0, "isPerson", "(I)Z"⟩
abbrev cX0_personBy : ByteArray := prog_1_method_25_code
def yX0_personBy : MethodName := ⟨RX0, "personBy", "(II)I"⟩
abbrev cX0_told : ByteArray := prog_1_method_20_code
def yX0_told : MethodName := ⟨RX0, "told", "(I)I"⟩
abbrev cX0_ownedBy : ByteArray := prog_1_method_24_code
def yX0_ownedBy : MethodName := ⟨RX0, "ownedBy", "(I)I"⟩
abbrev cX0_law : ByteArray := prog_1_method_27_code
def yX0_law : MethodName := ⟨RX0, "law", "(II)I"⟩
abbrev cX0_sale : ByteArray := prog_1_method_28_code
def yX0_sale : MethodName := ⟨RX0, "sale", "(II)I"⟩
abbrev cX0_isOne : ByteArray := prog_1_method_8_code
def yX0_isOne : MethodName := ⟨RX0, "isOne", "(I)Z"⟩
abbrev cX0_read : ByteArray := prog_1_method_29_code
def yX0_read : MethodName := ⟨RX0, "read", "(I)I"⟩
abbrev cX0_isSheet : ByteArray := prog_1_method_78_code
def yX0_isSheet : MethodName := ⟨RX0, "isSheet", "(I)Z"⟩
abbrev cX0_met : ByteArray := prog_1_method_4_code
def yX0_met : MethodName := ⟨RX0, "met", "(I)I"⟩
abbrev cX0_undo : ByteArray := prog_1_method_30_code
def yX0_undo : MethodName := ⟨RX0, "undo", "()I"⟩
abbrev cX0_whose : ByteArray := prog_1_method_34_code
def yX0_whose : MethodName := ⟨RX0, "whose", "(II)I"⟩
abbrev cX0_isSo : ByteArray := prog_1_method_33_code
def yX0_isSo : MethodName := ⟨RX0, "isSo", "(I)Z"⟩
abbrev cX0_find : ByteArray := prog_1_method_32_code
def yX0_find : MethodName := ⟨RX0, "find", "()V"⟩
abbrev cX0_keeps : ByteArray := prog_1_method_31_code
def yX0_keeps : MethodName := ⟨RX0, "keeps", "(I)V"⟩
abbrev cX0_isIn : ByteArray := prog_1_method_7_code
def yX0_isIn : MethodName := ⟨RX0, "isIn", "(II)Z"⟩
abbrev cX0_keeper : ByteArray := prog_1_method_35_code
def yX0_keeper : MethodName := ⟨RX0, "keeper", "(II)I"⟩
abbrev cX0_sold : ByteArray := prog_1_method_36_code
def yX0_sold : MethodName := ⟨RX0, "sold", "(II)I"⟩
abbrev cX0_length : ByteArray := prog_1_method_38_code
def yX0_length : MethodName := ⟨RX0, "length", "(I)I"⟩
abbrev cX0_lengthOf : ByteArray := prog_1_method_37_code
def yX0_lengthOf : MethodName := ⟨RX0, "lengthOf", "(I)I"⟩
abbrev cX0_worth : ByteArray := prog_1_method_40_code
def yX0_worth : MethodName := ⟨RX0, "worth", "(III)I"⟩
abbrev cX0_tells : ByteArray := prog_1_method_39_code
def yX0_tells : MethodName := ⟨RX0, "tells", "([[IIII)I"⟩
abbrev cX0_any : ByteArray := prog_1_method_3_code
def yX0_any : MethodName := ⟨RX0, "any", "(I)I"⟩
abbrev cX0_like : ByteArray := prog_1_method_41_code
def yX0_like : MethodName := ⟨RX0, "like", "(III)I"⟩
abbrev cX0_gain : ByteArray := prog_1_method_43_code
def yX0_gain : MethodName := ⟨RX0, "gain", "(I)I"⟩
abbrev cX0_gainOf : ByteArray := prog_1_method_42_code
def yX0_gainOf : MethodName := ⟨RX0, "gainOf", "(I)I"⟩
abbrev cX0_best : ByteArray := prog_1_method_50_code
def yX0_best : MethodName := ⟨RX0, "best", "(II)I"⟩
abbrev cX0_bestOf : ByteArray := prog_1_method_49_code
def yX0_bestOf : MethodName := ⟨RX0, "bestOf", "(II)I"⟩
abbrev cX0_rows : ByteArray := prog_1_method_45_code
def yX0_rows : MethodName := ⟨RX0, "rows", "()I"⟩
abbrev cX0_places : ByteArray := prog_1_method_44_code
def yX0_places : MethodName := ⟨RX0, "places", "()I"⟩
abbrev cX0_triedAt : ByteArray := prog_1_method_48_code
def yX0_triedAt : MethodName := ⟨RX0, "triedAt", "(I)LSoldWithIt$Noon;"⟩
abbrev cX0_placeIn : ByteArray := prog_1_method_47_code
def yX0_placeIn : MethodName := ⟨RX0, "placeIn", "(II)I"⟩
abbrev cX0_weight : ByteArray := prog_1_method_46_code
def yX0_weight : MethodName := ⟨RX0, "weight", "(I)I"⟩
abbrev cX0_rest : ByteArray := prog_1_method_55_code
def yX0_rest : MethodName := ⟨RX0, "rest", "(I)I"⟩
abbrev cX0_restOf : ByteArray := prog_1_method_54_code
def yX0_restOf : MethodName := ⟨RX0, "restOf", "(I)I"⟩
abbrev cX0_findKept : ByteArray := prog_1_method_51_code
def yX0_findKept : MethodName := ⟨RX0, "findKept", "()V"⟩
abbrev cX0_rests : ByteArray := prog_1_method_53_code
def yX0_rests : MethodName := ⟨RX0, "rests", "(I)Z"⟩
abbrev cX0_liking : ByteArray := prog_1_method_52_code
def yX0_liking : MethodName := ⟨RX0, "liking", "(II)I"⟩
abbrev cX0_out : ByteArray := prog_1_method_58_code
def yX0_out : MethodName := ⟨RX0, "out", "(I)I"⟩
abbrev cX0_outOf : ByteArray := prog_1_method_57_code
def yX0_outOf : MethodName := ⟨RX0, "outOf", "(I)I"⟩
abbrev cX0_isTold : ByteArray := prog_1_method_56_code
def yX0_isTold : MethodName := ⟨RX0, "isTold", "(I)Z"⟩
abbrev cX0_value : ByteArray := prog_1_method_60_code
def yX0_value : MethodName := ⟨RX0, "value", "(II)I"⟩
abbrev cX0_valueOf : ByteArray := prog_1_method_59_code
def yX0_valueOf : MethodName := ⟨RX0, "valueOf", "(II)I"⟩
abbrev cX0_change : ByteArray := prog_1_method_62_code
def yX0_change : MethodName := ⟨RX0, "change", "(II)I"⟩
abbrev cX0_wouldChange : ByteArray := prog_1_method_61_code
def yX0_wouldChange : MethodName := ⟨RX0, "wouldChange", "(II)Z"⟩
abbrev cX0_changes : ByteArray := prog_1_method_64_code
def yX0_changes : MethodName := ⟨RX0, "changes", "()I"⟩
abbrev cX0_changesNow : ByteArray := prog_1_method_63_code
def yX0_changesNow : MethodName := ⟨RX0, "changesNow", "()I"⟩
abbrev cX0_should : ByteArray := prog_1_method_65_code
def yX0_should : MethodName := ⟨RX0, "should", "(I)I"⟩
abbrev cX0_come : ByteArray := prog_1_method_67_code
def yX0_come : MethodName := ⟨RX0, "come", "(II)I"⟩
abbrev cX0_comers : ByteArray := prog_1_method_66_code
def yX0_comers : MethodName := ⟨RX0, "comers", "(II)I"⟩
abbrev cX0_invite : ByteArray := prog_1_method_69_code
def yX0_invite : MethodName := ⟨RX0, "invite", "(II)I"⟩
abbrev cX0_inviteOf : ByteArray := prog_1_method_68_code
def yX0_inviteOf : MethodName := ⟨RX0, "inviteOf", "(II)I"⟩
abbrev cX0_fact : ByteArray := prog_1_method_70_code
def yX0_fact : MethodName := ⟨RX0, "fact", "(II)I"⟩
abbrev cX0_forget : ByteArray := prog_1_method_71_code
def yX0_forget : MethodName := ⟨RX0, "forget", "()I"⟩
abbrev cX0_were : ByteArray := prog_1_method_75_code
def yX0_were : MethodName := ⟨RX0, "were", "(I)I"⟩
abbrev cX0_wereOf : ByteArray := prog_1_method_74_code
def yX0_wereOf : MethodName := ⟨RX0, "wereOf", "(I)I"⟩
abbrev cX0_findBeen : ByteArray := prog_1_method_73_code
def yX0_findBeen : MethodName := ⟨RX0, "findBeen", "()I"⟩
abbrev cX0_fits : ByteArray := prog_1_method_72_code
def yX0_fits : MethodName := ⟨RX0, "fits", "(LSoldWithIt$Noon;)Z"⟩
abbrev cX0_bed : ByteArray := prog_1_method_77_code
def yX0_bed : MethodName := ⟨RX0, "bed", "()I"⟩
abbrev cX0_bedNow : ByteArray := prog_1_method_76_code
def yX0_bedNow : MethodName := ⟨RX0, "bedNow", "()I"⟩
abbrev cX0_sheet : ByteArray := prog_1_method_80_code
def yX0_sheet : MethodName := ⟨RX0, "sheet", "(III)I"⟩
abbrev cX0_rowOf : ByteArray := prog_1_method_79_code
def yX0_rowOf : MethodName := ⟨RX0, "rowOf", "(II)Ljava/lang/Object;"⟩
abbrev cX0_lose : ByteArray := prog_1_method_81_code
def yX0_lose : MethodName := ⟨RX0, "lose", "(I)I"⟩
abbrev cX0_put : ByteArray := prog_1_method_82_code
def yX0_put : MethodName := ⟨RX0, "put", "(IIII)I"⟩
abbrev cX0_get : ByteArray := prog_1_method_83_code
def yX0_get : MethodName := ⟨RX0, "get", "(III)I"⟩
abbrev cX0_lowest : ByteArray := prog_1_method_5_code
def yX0_lowest : MethodName := ⟨RX0, "lowest", "(I)I"⟩
abbrev cX0_copy : ByteArray := prog_1_method_84_code
def yX0_copy : MethodName := ⟨RX0, "copy", "(IIIII)I"⟩
abbrev cX0_write : ByteArray := prog_1_method_85_code
def yX0_write : MethodName := ⟨RX0, "write", "(I)I"⟩
abbrev cX0_count : ByteArray := prog_1_method_86_code
def yX0_count : MethodName := ⟨RX0, "count", "(I)I"⟩
abbrev cX0_digest : ByteArray := prog_1_method_87_code
def yX0_digest : MethodName := ⟨RX0, "digest", "()J"⟩
/-! SoldWithIt$Text -/
def RX1 : String := "SoldWithIt$Text"
abbrev cX1_init : ByteArray := prog_9_method_1_code
def yX1_init : MethodName := ⟨RX1, "<init>", "(I)V"⟩
abbrev cX1_type : ByteArray := prog_9_method_4_code
def yX1_type : MethodName := ⟨RX1, "type", "(I)I"⟩
abbrev cX1_wipe : ByteArray := prog_9_method_5_code
def yX1_wipe : MethodName := ⟨RX1, "wipe", "()I"⟩
abbrev cX1_read : ByteArray := prog_9_method_13_code
def yX1_read : MethodName := ⟨RX1, "read", "()I"⟩
abbrev cX1_all : ByteArray := prog_9_method_12_code
def yX1_all : MethodName := ⟨RX1, "all", "()I"⟩
abbrev cX1_next : ByteArray := prog_9_method_11_code
def yX1_next : MethodName := ⟨RX1, "next", "()V"⟩
abbrev cX1_here : ByteArray := prog_9_method_7_code
def yX1_here : MethodName := ⟨RX1, "here", "()I"⟩
abbrev cX1_torn : ByteArray := prog_9_method_9_code
def yX1_torn : MethodName := ⟨RX1, "torn", "()LSoldWithIt$Torn;"⟩
abbrev cX1_goesOn : ByteArray := prog_9_method_8_code
def yX1_goesOn : MethodName := ⟨RX1, "goesOn", "()V"⟩
abbrev cX1_figure : ByteArray := prog_9_method_10_code
def yX1_figure : MethodName := ⟨RX1, "figure", "(I)I"⟩
abbrev cX1_size : ByteArray := prog_9_method_14_code
def yX1_size : MethodName := ⟨RX1, "size", "()I"⟩
abbrev cX1_thing : ByteArray := prog_9_method_15_code
def yX1_thing : MethodName := ⟨RX1, "thing", "(I)Ljava/lang/Object;"⟩
abbrev cX1_length : ByteArray := prog_9_method_6_code
def yX1_length : MethodName := ⟨RX1, "length", "()I"⟩
/-! SoldWithIt$Row -/
def RX2 : String := "SoldWithIt$Row"
def TX2 : u_T := fun k => match k with
  | 0 => ("SoldWithIt$Text", "bytes", "[I", true)
  | 1 => ("SoldWithIt$Text", "typed", "I", false)
  | 2 => ("SoldWithIt$Text", "at", "I", false)
  | 3 => ("SoldWithIt$Text", "fresh", "Z", false)
  | 4 => ("SoldWithIt$Text", "fault", "I", false)
  | _ => ("SoldWithIt$Text", "things", "Ljava/util/ArrayList;", true)
def tyX2 : Nat → FieldType := fun k => match k with
  | 0 => .array .int
  | 1 => .int
  | 2 => .int
  | 3 => .boolean
  | 4 => .int
  | _ => .object "java/util/ArrayList"
abbrev wsX20 : List Cond := u_ws RX2 TX2 6
theorem nmX2 : ∀ a, a < 6 → ∀ b, b < 6 → a ≠ b → (TX2 a).2.1 ≠ (TX2 b).2.1 := by decide +kernel
theorem tyX2_ok : ∀ k, k < 6 → parseFieldDescriptor (TX2 k).2.2.1 = some (tyX2 k) := by decide +kernel
abbrev cX2_init : ByteArray := prog_6_method_1_code
def yX2_init : MethodName := ⟨RX2, "<init>", "()V"⟩
abbrev cX2_between : ByteArray := prog_6_method_3_code
def yX2_between : MethodName := ⟨RX2, "between", "()I"⟩
abbrev cX2_reads : ByteArray := prog_6_method_4_code
def yX2_reads : MethodName := ⟨RX2, "reads", "()Ljava/lang/Object;"⟩
abbrev cX2_reads_2 : ByteArray := prog_6_method_2_code
def yX2_reads_2 : MethodName := ⟨RX2, "reads", "()LSoldWithIt$House;"⟩
/-! java/util/AbstractCollection -/
def RJ0 : String := "java/util/AbstractCollection"
abbrev cJ0_init : ByteArray := prog_27_method_1_code
def yJ0_init : MethodName := ⟨RJ0, "<init>", "()V"⟩
/-! java/util/AbstractList -/
def RJ1 : String := "java/util/AbstractList"
abbrev cJ1_init : ByteArray := prog_28_method_1_code
def yJ1_init : MethodName := ⟨RJ1, "<init>", "()V"⟩
/-! java/util/ArrayList -/
def RJ2 : String := "java/util/ArrayList"
def TJ2 : u_T := fun k => match k with
  | 0 => ("java/util/AbstractList", "modCount", "I", false)
  | 1 => ("java/util/ArrayList", "elementData", "[Ljava/lang/Object;", false)
  | _ => ("java/util/ArrayList", "size", "I", false)
def tyJ2 : Nat → FieldType := fun k => match k with
  | 0 => .int
  | 1 => .array (.object "java/lang/Object")
  | _ => .int
abbrev wsJ20 : List Cond := u_ws RJ2 TJ2 3
theorem nmJ2 : ∀ a, a < 3 → ∀ b, b < 3 → a ≠ b → (TJ2 a).2.1 ≠ (TJ2 b).2.1 := by decide +kernel
theorem tyJ2_ok : ∀ k, k < 3 → parseFieldDescriptor (TJ2 k).2.2.1 = some (tyJ2 k) := by decide +kernel
abbrev cJ2_init : ByteArray := prog_29_method_2_code
def yJ2_init : MethodName := ⟨RJ2, "<init>", "()V"⟩
abbrev cJ2_clear : ByteArray := prog_29_method_40_code
def yJ2_clear : MethodName := ⟨RJ2, "clear", "()V"⟩
abbrev cJ2_isEmpty : ByteArray := prog_29_method_9_code
def yJ2_isEmpty : MethodName := ⟨RJ2, "isEmpty", "()Z"⟩
abbrev cJ2_size : ByteArray := prog_29_method_8_code
def yJ2_size : MethodName := ⟨RJ2, "size", "()I"⟩
abbrev cJ2_add : ByteArray := prog_29_method_25_code
def yJ2_add : MethodName := ⟨RJ2, "add", "(Ljava/lang/Object;)Z"⟩
abbrev cJ2_add_2 : ByteArray := prog_29_method_24_code
def yJ2_add_2 : MethodName := ⟨RJ2, "add", "(Ljava/lang/Object;[Ljava/lang/Object;I)V"⟩
abbrev cJ2_grow : ByteArray := prog_29_method_7_code
def yJ2_grow : MethodName := ⟨RJ2, "grow", "()[Ljava/lang/Object;"⟩
abbrev cJ2_grow_2 : ByteArray := prog_29_method_6_code
def yJ2_grow_2 : MethodName := ⟨RJ2, "grow", "(I)[Ljava/lang/Object;"⟩
abbrev cJ2_get : ByteArray := prog_29_method_20_code
def yJ2_get : MethodName := ⟨RJ2, "get", "(I)Ljava/lang/Object;"⟩
abbrev cJ2_elementData : ByteArray := prog_29_method_18_code
def yJ2_elementData : MethodName := ⟨RJ2, "elementData", "(I)Ljava/lang/Object;"⟩
/-! SoldWithIt$Folk -/
def RX3 : String := "SoldWithIt$Folk"
def TX3 : u_T := fun k => match k with
  | 0 => ("SoldWithIt$Text", "bytes", "[I", true)
  | 1 => ("SoldWithIt$Text", "typed", "I", false)
  | 2 => ("SoldWithIt$Text", "at", "I", false)
  | 3 => ("SoldWithIt$Text", "fresh", "Z", false)
  | 4 => ("SoldWithIt$Text", "fault", "I", false)
  | _ => ("SoldWithIt$Text", "things", "Ljava/util/ArrayList;", true)
def tyX3 : Nat → FieldType := fun k => match k with
  | 0 => .array .int
  | 1 => .int
  | 2 => .int
  | 3 => .boolean
  | 4 => .int
  | _ => .object "java/util/ArrayList"
abbrev wsX30 : List Cond := u_ws RX3 TX3 6
theorem nmX3 : ∀ a, a < 6 → ∀ b, b < 6 → a ≠ b → (TX3 a).2.1 ≠ (TX3 b).2.1 := by decide +kernel
theorem tyX3_ok : ∀ k, k < 6 → parseFieldDescriptor (TX3 k).2.2.1 = some (tyX3 k) := by decide +kernel
abbrev cX3_init : ByteArray := prog_2_method_1_code
def yX3_init : MethodName := ⟨RX3, "<init>", "()V"⟩
abbrev cX3_between : ByteArray := prog_2_method_3_code
def yX3_between : MethodName := ⟨RX3, "between", "()I"⟩
abbrev cX3_reads : ByteArray := prog_2_method_4_code
def yX3_reads : MethodName := ⟨RX3, "reads", "()Ljava/lang/Object;"⟩
abbrev cX3_reads_2 : ByteArray := prog_2_method_2_code
def yX3_reads_2 : MethodName := ⟨RX3, "reads", "()LSoldWithIt$Person;"⟩
/-! SoldWithIt$Noon -/
def RX4 : String := "SoldWithIt$Noon"
def TX4 : u_T := fun k => match k with
  | 0 => ("SoldWithIt$Noon", "places", "[I", true)
  | 1 => ("SoldWithIt$Noon", "owners", "[I", true)
  | 2 => ("SoldWithIt$Noon", "keepers", "[I", true)
  | 3 => ("SoldWithIt$Noon", "sold", "[I", true)
  | 4 => ("SoldWithIt$Noon", "soldNow", "I", false)
  | _ => ("SoldWithIt$Noon", "this$0", "LSoldWithIt;", true)
def tyX4 : Nat → FieldType := fun k => match k with
  | 0 => .array .int
  | 1 => .array .int
  | 2 => .array .int
  | 3 => .array .int
  | 4 => .int
  | _ => .object "SoldWithIt"
abbrev wsX40 : List Cond := u_ws RX4 TX4 6
theorem nmX4 : ∀ a, a < 6 → ∀ b, b < 6 → a ≠ b → (TX4 a).2.1 ≠ (TX4 b).2.1 := by decide +kernel
theorem tyX4_ok : ∀ k, k < 6 → parseFieldDescriptor (TX4 k).2.2.1 = some (tyX4 k) := by decide +kernel
abbrev cX4_init : ByteArray := prog_4_method_1_code
def yX4_init : MethodName := ⟨RX4, "<init>", "(LSoldWithIt;)V"⟩
abbrev cX4_begins : ByteArray := prog_4_method_2_code
def yX4_begins : MethodName := ⟨RX4, "begins", "()LSoldWithIt$Noon;"⟩
abbrev cX4_forgets : ByteArray := prog_4_method_3_code
def yX4_forgets : MethodName := ⟨RX4, "forgets", "()LSoldWithIt$Noon;"⟩
abbrev cX4_asTold : ByteArray := prog_4_method_4_code
def yX4_asTold : MethodName := ⟨RX4, "asTold", "()LSoldWithIt$Noon;"⟩
abbrev cX4_sells : ByteArray := prog_4_method_5_code
def yX4_sells : MethodName := ⟨RX4, "sells", "(II)I"⟩
abbrev cX4_goes : ByteArray := prog_4_method_6_code
def yX4_goes : MethodName := ⟨RX4, "goes", "(II)V"⟩
abbrev cX4_takes : ByteArray := prog_4_method_7_code
def yX4_takes : MethodName := ⟨RX4, "takes", "(II)V"⟩
abbrev cX4_gain : ByteArray := prog_4_method_9_code
def yX4_gain : MethodName := ⟨RX4, "gain", "(I)I"⟩
abbrev cX4_sellsAll : ByteArray := prog_4_method_8_code
def yX4_sellsAll : MethodName := ⟨RX4, "sellsAll", "()LSoldWithIt$Noon;"⟩
/-! SoldWithIt$Sales -/
def RX5 : String := "SoldWithIt$Sales"
def TX5 : u_T := fun k => match k with
  | 0 => ("SoldWithIt$Sales", "fewest", "[I", true)
  | 1 => ("SoldWithIt$Sales", "order", "[I", true)
  | 2 => ("SoldWithIt$Sales", "many", "I", false)
  | _ => ("SoldWithIt$Sales", "this$0", "LSoldWithIt;", true)
def tyX5 : Nat → FieldType := fun k => match k with
  | 0 => .array .int
  | 1 => .array .int
  | 2 => .int
  | _ => .object "SoldWithIt"
abbrev wsX50 : List Cond := u_ws RX5 TX5 4
theorem nmX5 : ∀ a, a < 4 → ∀ b, b < 4 → a ≠ b → (TX5 a).2.1 ≠ (TX5 b).2.1 := by decide +kernel
theorem tyX5_ok : ∀ k, k < 4 → parseFieldDescriptor (TX5 k).2.2.1 = some (tyX5 k) := by decide +kernel
abbrev cX5_init : ByteArray := prog_7_method_1_code
def yX5_init : MethodName := ⟨RX5, "<init>", "(LSoldWithIt;)V"⟩
abbrev cX5_runs : ByteArray := prog_7_method_2_code
def yX5_runs : MethodName := ⟨RX5, "runs", "()LSoldWithIt$Sales;"⟩
abbrev cX5_told : ByteArray := prog_7_method_3_code
def yX5_told : MethodName := ⟨RX5, "told", "()I"⟩
abbrev cX5_comes : ByteArray := prog_7_method_4_code
def yX5_comes : MethodName := ⟨RX5, "comes", "(II)V"⟩
abbrev cX5_goesOn : ByteArray := prog_7_method_5_code
def yX5_goesOn : MethodName := ⟨RX5, "goesOn", "(I)V"⟩
/-! SoldWithIt$Sheet -/
def RX6 : String := "SoldWithIt$Sheet"
def TX6 : u_T := fun k => match k with
  | _ => ("SoldWithIt$Sheet", "row", "Ljava/lang/Object;", false)
def tyX6 : Nat → FieldType := fun k => match k with
  | _ => .object "java/lang/Object"
abbrev wsX60 : List Cond := u_ws RX6 TX6 1
theorem nmX6 : ∀ a, a < 1 → ∀ b, b < 1 → a ≠ b → (TX6 a).2.1 ≠ (TX6 b).2.1 := by decide +kernel
theorem tyX6_ok : ∀ k, k < 1 → parseFieldDescriptor (TX6 k).2.2.1 = some (tyX6 k) := by decide +kernel
abbrev cX6_init : ByteArray := prog_8_method_1_code
def yX6_init : MethodName := ⟨RX6, "<init>", "()V"⟩
abbrev cX6_size : ByteArray := prog_8_method_3_code
def yX6_size : MethodName := ⟨RX6, "size", "()I"⟩
abbrev cX6_type : ByteArray := prog_8_method_2_code
def yX6_type : MethodName := ⟨RX6, "type", "()I"⟩
abbrev cX6_item : ByteArray := prog_8_method_4_code
def yX6_item : MethodName := ⟨RX6, "item", "(II)I"⟩
abbrev cX6_lay : ByteArray := prog_8_method_5_code
def yX6_lay : MethodName := ⟨RX6, "lay", "(III)V"⟩
/-! SoldWithItModel -/
def RX7 : String := "SoldWithItModel"
def TX7 : u_T := fun k => match k with
  | 0 => ("SoldWithItModel", "typed", "[I", true)
  | 1 => ("SoldWithItModel", "texts", "[I", true)
  | 2 => ("SoldWithItModel", "houses", "I", false)
  | 3 => ("SoldWithItModel", "ownerOf", "[I", true)
  | 4 => ("SoldWithItModel", "priceOf", "[I", true)
  | 5 => ("SoldWithItModel", "people", "I", false)
  | 6 => ("SoldWithItModel", "kindOf", "[I", true)
  | 7 => ("SoldWithItModel", "placeOf", "[I", true)
  | 8 => ("SoldWithItModel", "laws", "[I", true)
  | 9 => ("SoldWithItModel", "sales", "I", false)
  | 10 => ("SoldWithItModel", "saleHouse", "[I", true)
  | 11 => ("SoldWithItModel", "saleBuyer", "[I", true)
  | 12 => ("SoldWithItModel", "where", "[I", true)
  | 13 => ("SoldWithItModel", "owns", "[I", true)
  | 14 => ("SoldWithItModel", "keeps", "[I", true)
  | 15 => ("SoldWithItModel", "soldTimes", "[I", true)
  | 16 => ("SoldWithItModel", "list", "[I", true)
  | 17 => ("SoldWithItModel", "lastLength", "I", false)
  | 18 => ("SoldWithItModel", "worths", "[I", true)
  | 19 => ("SoldWithItModel", "likings", "[I", true)
  | 20 => ("SoldWithItModel", "likes", "[I", true)
  | 21 => ("SoldWithItModel", "afar", "[I", true)
  | 22 => ("SoldWithItModel", "waiting", "[I", true)
  | 23 => ("SoldWithItModel", "facts", "I", false)
  | 24 => ("SoldWithItModel", "factWho", "[I", true)
  | 25 => ("SoldWithItModel", "factKeeper", "[I", true)
  | 26 => ("SoldWithItModel", "been", "[I", true)
  | 27 => ("SoldWithItModel", "isThere", "[Z", true)
  | 28 => ("SoldWithItModel", "forms", "[I", true)
  | 29 => ("SoldWithItModel", "sizes", "[I", true)
  | 30 => ("SoldWithItModel", "items", "[I", true)
  | 31 => ("SoldWithItModel", "moved", "[I", true)
  | _ => ("SoldWithItModel", "finding", "I", false)
def tyX7 : Nat → FieldType := fun k => match k with
  | 0 => .array .int
  | 1 => .array .int
  | 2 => .int
  | 3 => .array .int
  | 4 => .array .int
  | 5 => .int
  | 6 => .array .int
  | 7 => .array .int
  | 8 => .array .int
  | 9 => .int
  | 10 => .array .int
  | 11 => .array .int
  | 12 => .array .int
  | 13 => .array .int
  | 14 => .array .int
  | 15 => .array .int
  | 16 => .array .int
  | 17 => .int
  | 18 => .array .int
  | 19 => .array .int
  | 20 => .array .int
  | 21 => .array .int
  | 22 => .array .int
  | 23 => .int
  | 24 => .array .int
  | 25 => .array .int
  | 26 => .array .int
  | 27 => .array .boolean
  | 28 => .array .int
  | 29 => .array .int
  | 30 => .array .int
  | 31 => .array .int
  | _ => .int
abbrev wsX70 : List Cond := u_ws RX7 TX7 33
theorem nmX7 : ∀ a, a < 33 → ∀ b, b < 33 → a ≠ b → (TX7 a).2.1 ≠ (TX7 b).2.1 := by decide +kernel
theorem tyX7_ok : ∀ k, k < 33 → parseFieldDescriptor (TX7 k).2.2.1 = some (tyX7 k) := by decide +kernel
abbrev cX7_init : ByteArray := prog_12_method_1_code
def yX7_init : MethodName := ⟨RX7, "<init>", "()V"⟩
abbrev cX7_type : ByteArray := prog_12_method_6_code
def yX7_type : MethodName := ⟨RX7, "type", "(II)I"⟩
abbrev cX7_in : ByteArray := prog_12_method_3_code
def yX7_in : MethodName := ⟨RX7, "in", "(III)Z"⟩
abbrev cX7_wipe : ByteArray := prog_12_method_7_code
def yX7_wipe : MethodName := ⟨RX7, "wipe", "(I)I"⟩
abbrev cX7_fault : ByteArray := prog_12_method_13_code
def yX7_fault : MethodName := ⟨RX7, "fault", "(I)I"⟩
abbrev cX7_faultOf : ByteArray := prog_12_method_11_code
def yX7_faultOf : MethodName := ⟨RX7, "faultOf", "(I)I"⟩
abbrev cX7_readsHouses : ByteArray := prog_12_method_9_code
def yX7_readsHouses : MethodName := ⟨RX7, "readsHouses", "()I"⟩
abbrev cX7_byteAt : ByteArray := prog_12_method_8_code
def yX7_byteAt : MethodName := ⟨RX7, "byteAt", "(II)I"⟩
abbrev cX7_readsPeople : ByteArray := prog_12_method_10_code
def yX7_readsPeople : MethodName := ⟨RX7, "readsPeople", "()I"⟩
abbrev cX7_house : ByteArray := prog_12_method_18_code
def yX7_house : MethodName := ⟨RX7, "house", "(II)I"⟩
abbrev cX7_isHouse : ByteArray := prog_12_method_14_code
def yX7_isHouse : MethodName := ⟨RX7, "isHouse", "(I)Z"⟩
abbrev cX7_reads : ByteArray := prog_12_method_12_code
def yX7_reads : MethodName := ⟨RX7, "reads", "()V"⟩
abbrev cX7_houseOf : ByteArray := prog_12_method_17_code
def yX7_houseOf : MethodName := ⟨RX7, "houseOf", "(II)I"⟩
abbrev cX7_person : ByteArray := prog_12_method_20_code
def yX7_person : MethodName := ⟨RX7, "person", "(II)I"⟩
abbrev cX7_isPerson : ByteArray := prog_12_method_15_code
def yX7_isPerson : MethodName := ⟨RX7, "isPerson", "(I)Z"⟩
abbrev cX7_personOf : ByteArray := prog_12_method_19_code
def yX7_personOf : MethodName := ⟨RX7, "personOf", "(II)I"⟩
abbrev cX7_law : ByteArray := prog_12_method_21_code
def yX7_law : MethodName := ⟨RX7, "law", "(II)I"⟩
abbrev cX7_sale : ByteArray := prog_12_method_23_code
def yX7_sale : MethodName := ⟨RX7, "sale", "(II)I"⟩
abbrev cX7_saleMore : ByteArray := prog_12_method_22_code
def yX7_saleMore : MethodName := ⟨RX7, "saleMore", "(II)I"⟩
abbrev cX7_isEight : ByteArray := prog_12_method_16_code
def yX7_isEight : MethodName := ⟨RX7, "isEight", "(I)Z"⟩
abbrev cX7_read : ByteArray := prog_12_method_24_code
def yX7_read : MethodName := ⟨RX7, "read", "(I)I"⟩
abbrev cX7_isSheet : ByteArray := prog_12_method_72_code
def yX7_isSheet : MethodName := ⟨RX7, "isSheet", "(I)Z"⟩
abbrev cX7_meets : ByteArray := prog_12_method_71_code
def yX7_meets : MethodName := ⟨RX7, "meets", "(I)I"⟩
abbrev cX7_undo : ByteArray := prog_12_method_25_code
def yX7_undo : MethodName := ⟨RX7, "undo", "()I"⟩
abbrev cX7_whose : ByteArray := prog_12_method_30_code
def yX7_whose : MethodName := ⟨RX7, "whose", "(II)I"⟩
abbrev cX7_lays : ByteArray := prog_12_method_29_code
def yX7_lays : MethodName := ⟨RX7, "lays", "(I)V"⟩
abbrev cX7_runs : ByteArray := prog_12_method_28_code
def yX7_runs : MethodName := ⟨RX7, "runs", "(I)V"⟩
abbrev cX7_begins : ByteArray := prog_12_method_27_code
def yX7_begins : MethodName := ⟨RX7, "begins", "()V"⟩
abbrev cX7_sells : ByteArray := prog_12_method_26_code
def yX7_sells : MethodName := ⟨RX7, "sells", "(II)I"⟩
abbrev cX7_isIn : ByteArray := prog_12_method_4_code
def yX7_isIn : MethodName := ⟨RX7, "isIn", "(II)Z"⟩
abbrev cX7_keeper : ByteArray := prog_12_method_32_code
def yX7_keeper : MethodName := ⟨RX7, "keeper", "(II)I"⟩
abbrev cX7_keeperOf : ByteArray := prog_12_method_31_code
def yX7_keeperOf : MethodName := ⟨RX7, "keeperOf", "(II)I"⟩
abbrev cX7_sold : ByteArray := prog_12_method_34_code
def yX7_sold : MethodName := ⟨RX7, "sold", "(II)I"⟩
abbrev cX7_soldOf : ByteArray := prog_12_method_33_code
def yX7_soldOf : MethodName := ⟨RX7, "soldOf", "(II)I"⟩
abbrev cX7_length : ByteArray := prog_12_method_36_code
def yX7_length : MethodName := ⟨RX7, "length", "(I)I"⟩
abbrev cX7_lengthOf : ByteArray := prog_12_method_35_code
def yX7_lengthOf : MethodName := ⟨RX7, "lengthOf", "(I)I"⟩
abbrev cX7_worth : ByteArray := prog_12_method_37_code
def yX7_worth : MethodName := ⟨RX7, "worth", "(III)I"⟩
abbrev cX7_like : ByteArray := prog_12_method_38_code
def yX7_like : MethodName := ⟨RX7, "like", "(III)I"⟩
abbrev cX7_gain : ByteArray := prog_12_method_41_code
def yX7_gain : MethodName := ⟨RX7, "gain", "(I)I"⟩
abbrev cX7_gainOf : ByteArray := prog_12_method_40_code
def yX7_gainOf : MethodName := ⟨RX7, "gainOf", "(I)I"⟩
abbrev cX7_gainBy : ByteArray := prog_12_method_39_code
def yX7_gainBy : MethodName := ⟨RX7, "gainBy", "(I)I"⟩
abbrev cX7_best : ByteArray := prog_12_method_45_code
def yX7_best : MethodName := ⟨RX7, "best", "(II)I"⟩
abbrev cX7_bestOf : ByteArray := prog_12_method_44_code
def yX7_bestOf : MethodName := ⟨RX7, "bestOf", "(II)I"⟩
abbrev cX7_rows : ByteArray := prog_12_method_42_code
def yX7_rows : MethodName := ⟨RX7, "rows", "()I"⟩
abbrev cX7_places : ByteArray := prog_12_method_43_code
def yX7_places : MethodName := ⟨RX7, "places", "(I)V"⟩
abbrev cX7_rest : ByteArray := prog_12_method_47_code
def yX7_rest : MethodName := ⟨RX7, "rest", "(I)I"⟩
abbrev cX7_restNow : ByteArray := prog_12_method_48_code
def yX7_restNow : MethodName := ⟨RX7, "restNow", "(I)I"⟩
abbrev cX7_restOf : ByteArray := prog_12_method_46_code
def yX7_restOf : MethodName := ⟨RX7, "restOf", "(I)I"⟩
abbrev cX7_out : ByteArray := prog_12_method_51_code
def yX7_out : MethodName := ⟨RX7, "out", "(I)I"⟩
abbrev cX7_outOf : ByteArray := prog_12_method_50_code
def yX7_outOf : MethodName := ⟨RX7, "outOf", "(I)I"⟩
abbrev cX7_isTold : ByteArray := prog_12_method_49_code
def yX7_isTold : MethodName := ⟨RX7, "isTold", "(I)Z"⟩
abbrev cX7_value : ByteArray := prog_12_method_53_code
def yX7_value : MethodName := ⟨RX7, "value", "(II)I"⟩
abbrev cX7_valueOf : ByteArray := prog_12_method_52_code
def yX7_valueOf : MethodName := ⟨RX7, "valueOf", "(II)I"⟩
abbrev cX7_change : ByteArray := prog_12_method_55_code
def yX7_change : MethodName := ⟨RX7, "change", "(II)I"⟩
abbrev cX7_isChange : ByteArray := prog_12_method_54_code
def yX7_isChange : MethodName := ⟨RX7, "isChange", "(II)Z"⟩
abbrev cX7_changes : ByteArray := prog_12_method_57_code
def yX7_changes : MethodName := ⟨RX7, "changes", "()I"⟩
abbrev cX7_changesNow : ByteArray := prog_12_method_56_code
def yX7_changesNow : MethodName := ⟨RX7, "changesNow", "()I"⟩
abbrev cX7_should : ByteArray := prog_12_method_61_code
def yX7_should : MethodName := ⟨RX7, "should", "(I)I"⟩
abbrev cX7_shouldOf : ByteArray := prog_12_method_60_code
def yX7_shouldOf : MethodName := ⟨RX7, "shouldOf", "(I)I"⟩
abbrev cX7_stateNow : ByteArray := prog_12_method_59_code
def yX7_stateNow : MethodName := ⟨RX7, "stateNow", "()I"⟩
abbrev cX7_ownsBy : ByteArray := prog_12_method_58_code
def yX7_ownsBy : MethodName := ⟨RX7, "ownsBy", "(I)V"⟩
abbrev cX7_come : ByteArray := prog_12_method_63_code
def yX7_come : MethodName := ⟨RX7, "come", "(II)I"⟩
abbrev cX7_comeOf : ByteArray := prog_12_method_62_code
def yX7_comeOf : MethodName := ⟨RX7, "comeOf", "(II)I"⟩
abbrev cX7_invite : ByteArray := prog_12_method_65_code
def yX7_invite : MethodName := ⟨RX7, "invite", "(II)I"⟩
abbrev cX7_inviteOf : ByteArray := prog_12_method_64_code
def yX7_inviteOf : MethodName := ⟨RX7, "inviteOf", "(II)I"⟩
abbrev cX7_ones : ByteArray := prog_12_method_5_code
def yX7_ones : MethodName := ⟨RX7, "ones", "(I)I"⟩
abbrev cX7_fact : ByteArray := prog_12_method_66_code
def yX7_fact : MethodName := ⟨RX7, "fact", "(II)I"⟩
abbrev cX7_forget : ByteArray := prog_12_method_67_code
def yX7_forget : MethodName := ⟨RX7, "forget", "()I"⟩
abbrev cX7_were : ByteArray := prog_12_method_69_code
def yX7_were : MethodName := ⟨RX7, "were", "(I)I"⟩
abbrev cX7_waysNow : ByteArray := prog_12_method_68_code
def yX7_waysNow : MethodName := ⟨RX7, "waysNow", "()I"⟩
abbrev cX7_bed : ByteArray := prog_12_method_70_code
def yX7_bed : MethodName := ⟨RX7, "bed", "()I"⟩
abbrev cX7_sheet : ByteArray := prog_12_method_73_code
def yX7_sheet : MethodName := ⟨RX7, "sheet", "(III)I"⟩
abbrev cX7_lose : ByteArray := prog_12_method_74_code
def yX7_lose : MethodName := ⟨RX7, "lose", "(I)I"⟩
abbrev cX7_put : ByteArray := prog_12_method_77_code
def yX7_put : MethodName := ⟨RX7, "put", "(IIII)I"⟩
abbrev cX7_lacks : ByteArray := prog_12_method_75_code
def yX7_lacks : MethodName := ⟨RX7, "lacks", "(III)I"⟩
abbrev cX7_keep : ByteArray := prog_12_method_76_code
def yX7_keep : MethodName := ⟨RX7, "keep", "(III)V"⟩
abbrev cX7_get : ByteArray := prog_12_method_78_code
def yX7_get : MethodName := ⟨RX7, "get", "(III)I"⟩
abbrev cX7_copy : ByteArray := prog_12_method_79_code
def yX7_copy : MethodName := ⟨RX7, "copy", "(IIIII)I"⟩
abbrev cX7_write : ByteArray := prog_12_method_80_code
def yX7_write : MethodName := ⟨RX7, "write", "(I)I"⟩
abbrev cX7_count : ByteArray := prog_12_method_82_code
def yX7_count : MethodName := ⟨RX7, "count", "(I)I"⟩
abbrev cX7_sumOf : ByteArray := prog_12_method_81_code
def yX7_sumOf : MethodName := ⟨RX7, "sumOf", "(I)I"⟩
abbrev cX7_digest : ByteArray := prog_12_method_83_code
def yX7_digest : MethodName := ⟨RX7, "digest", "()J"⟩
/-! java/lang/Throwable -/
def RJ3 : String := "java/lang/Throwable"
def TJ3 : u_T := fun k => match k with
  | 0 => ("java/lang/Throwable", "cause", "Ljava/lang/Throwable;", false)
  | 1 => ("java/lang/Throwable", "stackTrace", "[Ljava/lang/StackTraceElement;", false)
  | 2 => ("java/lang/Throwable", "suppressedExceptions", "Ljava/util/List;", false)
  | 3 => ("java/lang/Throwable", "detailMessage", "Ljava/lang/String;", false)
  | _ => ("java/lang/Throwable", "backtrace", "Ljava/lang/Object;", false)
def tyJ3 : Nat → FieldType := fun k => match k with
  | 0 => .object "java/lang/Throwable"
  | 1 => .array (.object "java/lang/StackTraceElement")
  | 2 => .object "java/util/List"
  | 3 => .object "java/lang/String"
  | _ => .object "java/lang/Object"
abbrev wsJ30 : List Cond := u_ws RJ3 TJ3 5
theorem nmJ3 : ∀ a, a < 5 → ∀ b, b < 5 → a ≠ b → (TJ3 a).2.1 ≠ (TJ3 b).2.1 := by decide +kernel
theorem tyJ3_ok : ∀ k, k < 5 → parseFieldDescriptor (TJ3 k).2.2.1 = some (tyJ3 k) := by decide +kernel
abbrev cJ3_init : ByteArray := prog_26_method_1_code
def yJ3_init : MethodName := ⟨RJ3, "<init>", "()V"⟩
abbrev cJ3_init_2 : ByteArray := prog_26_method_5_code
def yJ3_init_2 : MethodName := ⟨RJ3, "<init>", "(Ljava/lang/String;Ljava/lang/Throwable;ZZ)V"⟩
abbrev cJ3_init_3 : ByteArray := prog_26_method_2_code
def yJ3_init_3 : MethodName := ⟨RJ3, "<init>", "(Ljava/lang/String;)V"⟩
/-! java/lang/Exception -/
def RJ4 : String := "java/lang/Exception"
abbrev cJ4_init : ByteArray := prog_17_method_5_code
def yJ4_init : MethodName := ⟨RJ4, "<init>", "(Ljava/lang/String;Ljava/lang/Throwable;ZZ)V"⟩
abbrev cJ4_init_2 : ByteArray := prog_17_method_2_code
def yJ4_init_2 : MethodName := ⟨RJ4, "<init>", "(Ljava/lang/String;)V"⟩
/-! SoldWithIt$Torn -/
def RX8 : String := "SoldWithIt$Torn"
def TX8 : u_T := fun k => match k with
  | 0 => ("java/lang/Throwable", "cause", "Ljava/lang/Throwable;", false)
  | 1 => ("java/lang/Throwable", "stackTrace", "[Ljava/lang/StackTraceElement;", false)
  | 2 => ("java/lang/Throwable", "suppressedExceptions", "Ljava/util/List;", false)
  | 3 => ("java/lang/Throwable", "detailMessage", "Ljava/lang/String;", false)
  | 4 => ("java/lang/Throwable", "backtrace", "Ljava/lang/Object;", false)
  | 5 => ("java/lang/Throwable", "depth", "I", false)
  | _ => ("SoldWithIt$Torn", "place", "I", true)
def tyX8 : Nat → FieldType := fun k => match k with
  | 0 => .object "java/lang/Throwable"
  | 1 => .array (.object "java/lang/StackTraceElement")
  | 2 => .object "java/util/List"
  | 3 => .object "java/lang/String"
  | 4 => .object "java/lang/Object"
  | 5 => .int
  | _ => .int
abbrev wsX80 : List Cond := u_ws RX8 TX8 7
theorem nmX8 : ∀ a, a < 7 → ∀ b, b < 7 → a ≠ b → (TX8 a).2.1 ≠ (TX8 b).2.1 := by decide +kernel
theorem tyX8_ok : ∀ k, k < 7 → parseFieldDescriptor (TX8 k).2.2.1 = some (tyX8 k) := by decide +kernel
abbrev cX8_init : ByteArray := prog_10_method_1_code
def yX8_init : MethodName := ⟨RX8, "<init>", "(I)V"⟩
/-! SoldWithIt$Person -/
def RX9 : String := "SoldWithIt$Person"
def TX9 : u_T := fun k => match k with
  | 0 => ("SoldWithIt$Person", "kind", "I", true)
  | _ => ("SoldWithIt$Person", "place", "I", true)
def tyX9 : Nat → FieldType := fun k => match k with
  | 0 => .int
  | _ => .int
abbrev wsX90 : List Cond := u_ws RX9 TX9 2
theorem nmX9 : ∀ a, a < 2 → ∀ b, b < 2 → a ≠ b → (TX9 a).2.1 ≠ (TX9 b).2.1 := by decide +kernel
theorem tyX9_ok : ∀ k, k < 2 → parseFieldDescriptor (TX9 k).2.2.1 = some (tyX9 k) := by decide +kernel
abbrev cX9_init : ByteArray := prog_5_method_1_code
def yX9_init : MethodName := ⟨RX9, "<init>", "(II)V"⟩
abbrev cX9_isLocked : ByteArray := prog_5_method_2_code
def yX9_isLocked : MethodName := ⟨RX9, "isLocked", "()Z"⟩
/-! SoldWithIt$House -/
def RX10 : String := "SoldWithIt$House"
def TX10 : u_T := fun k => match k with
  | 0 => ("SoldWithIt$House", "owner", "I", true)
  | _ => ("SoldWithIt$House", "price", "I", true)
def tyX10 : Nat → FieldType := fun k => match k with
  | 0 => .int
  | _ => .int
abbrev wsX100 : List Cond := u_ws RX10 TX10 2
theorem nmX10 : ∀ a, a < 2 → ∀ b, b < 2 → a ≠ b → (TX10 a).2.1 ≠ (TX10 b).2.1 := by decide +kernel
theorem tyX10_ok : ∀ k, k < 2 → parseFieldDescriptor (TX10 k).2.2.1 = some (tyX10 k) := by decide +kernel
abbrev cX10_init : ByteArray := prog_3_method_1_code
def yX10_init : MethodName := ⟨RX10, "<init>", "(II)V"⟩
/-! jdk/internal/util/ArraysSupport -/
def RJ5 : String := "jdk/internal/util/ArraysSupport"
abbrev cJ5_newLength : ByteArray := prog_36_method_27_code
def yJ5_newLength : MethodName := ⟨RJ5, "newLength", "(III)I"⟩
abbrev cJ5_hugeLength : ByteArray := prog_36_method_28_code
def yJ5_hugeLength : MethodName := ⟨RJ5, "hugeLength", "(II)I"⟩
/-! java/lang/Math -/
def RJ6 : String := "java/lang/Math"
abbrev cJ6_max : ByteArray := prog_21_method_65_code
def yJ6_max : MethodName := ⟨RJ6, "max", "(II)I"⟩
abbrev cJ6_min : ByteArray := prog_21_method_69_code
def yJ6_min : MethodName := ⟨RJ6, "min", "(II)I"⟩
abbrev cJ6_abs : ByteArray := prog_21_method_59_code
def yJ6_abs : MethodName := ⟨RJ6, "abs", "(I)I"⟩
/-! java/util/Arrays -/
def RJ7 : String := "java/util/Arrays"
abbrev cJ7_copyOf : ByteArray := prog_30_method_119_code
def yJ7_copyOf : MethodName := ⟨RJ7, "copyOf", "([Ljava/lang/Object;I)[Ljava/lang/Object;"⟩
abbrev cJ7_copyOf_2 : ByteArray := prog_30_method_120_code
def yJ7_copyOf_2 : MethodName := ⟨RJ7, "copyOf", "([Ljava/lang/Object;ILjava/lang/Class;)[Ljava/lang/Object;"⟩
/-! java/util/Objects -/
def RJ8 : String := "java/util/Objects"
abbrev cJ8_checkIndex : ByteArray := prog_33_method_17_code
def yJ8_checkIndex : MethodName := ⟨RJ8, "checkIndex", "(II)I"⟩
/-! jdk/internal/util/Preconditions -/
def RJ9 : String := "jdk/internal/util/Preconditions"
abbrev cJ9_checkIndex : ByteArray := prog_37_method_11_code
def yJ9_checkIndex : MethodName := ⟨RJ9, "checkIndex", "(IILjava/util/function/BiFunction;)I"⟩
/-! java/lang/Integer -/
def RJ10 : String := "java/lang/Integer"
abbrev cJ10_bitCount : ByteArray := prog_19_method_49_code
def yJ10_bitCount : MethodName := ⟨RJ10, "bitCount", "(I)I"⟩
/-! java/lang/RuntimeException -/
def RJ11 : String := "java/lang/RuntimeException"
abbrev cJ11_init : ByteArray := prog_23_method_2_code
def yJ11_init : MethodName := ⟨RJ11, "<init>", "(Ljava/lang/String;)V"⟩
/-! java/lang/NegativeArraySizeException -/
def RJ12 : String := "java/lang/NegativeArraySizeException"
def TJ12 : u_T := fun k => match k with
  | 0 => ("java/lang/Throwable", "backtrace", "Ljava/lang/Object;", false)
  | 1 => ("java/lang/Throwable", "detailMessage", "Ljava/lang/String;", false)
  | 2 => ("java/lang/Throwable", "cause", "Ljava/lang/Throwable;", false)
  | 3 => ("java/lang/Throwable", "stackTrace", "[Ljava/lang/StackTraceElement;", false)
  | 4 => ("java/lang/Throwable", "depth", "I", false)
  | _ => ("java/lang/Throwable", "suppressedExceptions", "Ljava/util/List;", false)
def tyJ12 : Nat → FieldType := fun k => match k with
  | 0 => .object "java/lang/Object"
  | 1 => .object "java/lang/String"
  | 2 => .object "java/lang/Throwable"
  | 3 => .array (.object "java/lang/StackTraceElement")
  | 4 => .int
  | _ => .object "java/util/List"
abbrev wsJ120 : List Cond := u_ws RJ12 TJ12 6
theorem nmJ12 : ∀ a, a < 6 → ∀ b, b < 6 → a ≠ b → (TJ12 a).2.1 ≠ (TJ12 b).2.1 := by decide +kernel
theorem tyJ12_ok : ∀ k, k < 6 → parseFieldDescriptor (TJ12 k).2.2.1 = some (tyJ12 k) := by decide +kernel
abbrev cJ12_init : ByteArray := prog_22_method_2_code
def yJ12_init : MethodName := ⟨RJ12, "<init>", "(Ljava/lang/String;)V"⟩
/-! java/lang/String -/
def RJ13 : String := "java/lang/String"
def TJ13 : u_T := fun k => match k with
  | 0 => ("java/lang/String", "value", "[B", true)
  | _ => ("java/lang/String", "coder", "B", true)
def tyJ13 : Nat → FieldType := fun k => match k with
  | 0 => .array .byte
  | _ => .byte
abbrev wsJ130 : List Cond := u_ws RJ13 TJ13 2
theorem nmJ13 : ∀ a, a < 2 → ∀ b, b < 2 → a ≠ b → (TJ13 a).2.1 ≠ (TJ13 b).2.1 := by decide +kernel
theorem tyJ13_ok : ∀ k, k < 2 → parseFieldDescriptor (TJ13 k).2.2.1 = some (tyJ13 k) := by decide +kernel
/-! java/lang/ClassCastException -/
def RJ14 : String := "java/lang/ClassCastException"
def TJ14 : u_T := fun k => match k with
  | 0 => ("java/lang/Throwable", "backtrace", "Ljava/lang/Object;", false)
  | 1 => ("java/lang/Throwable", "detailMessage", "Ljava/lang/String;", false)
  | 2 => ("java/lang/Throwable", "cause", "Ljava/lang/Throwable;", false)
  | 3 => ("java/lang/Throwable", "stackTrace", "[Ljava/lang/StackTraceElement;", false)
  | 4 => ("java/lang/Throwable", "depth", "I", false)
  | _ => ("java/lang/Throwable", "suppressedExceptions", "Ljava/util/List;", false)
def tyJ14 : Nat → FieldType := fun k => match k with
  | 0 => .object "java/lang/Object"
  | 1 => .object "java/lang/String"
  | 2 => .object "java/lang/Throwable"
  | 3 => .array (.object "java/lang/StackTraceElement")
  | 4 => .int
  | _ => .object "java/util/List"
abbrev wsJ140 : List Cond := u_ws RJ14 TJ14 6
theorem nmJ14 : ∀ a, a < 6 → ∀ b, b < 6 → a ≠ b → (TJ14 a).2.1 ≠ (TJ14 b).2.1 := by decide +kernel
theorem tyJ14_ok : ∀ k, k < 6 → parseFieldDescriptor (TJ14 k).2.2.1 = some (tyJ14 k) := by decide +kernel
abbrev cJ14_init : ByteArray := prog_15_method_2_code
def yJ14_init : MethodName := ⟨RJ14, "<init>", "(Ljava/lang/String;)V"⟩
/-! java/lang/IndexOutOfBoundsException -/
def RJ15 : String := "java/lang/IndexOutOfBoundsException"
abbrev cJ15_init : ByteArray := prog_18_method_2_code
def yJ15_init : MethodName := ⟨RJ15, "<init>", "(Ljava/lang/String;)V"⟩
/-! java/lang/ArrayIndexOutOfBoundsException -/
def RJ16 : String := "java/lang/ArrayIndexOutOfBoundsException"
def TJ16 : u_T := fun k => match k with
  | 0 => ("java/lang/Throwable", "backtrace", "Ljava/lang/Object;", false)
  | 1 => ("java/lang/Throwable", "detailMessage", "Ljava/lang/String;", false)
  | 2 => ("java/lang/Throwable", "cause", "Ljava/lang/Throwable;", false)
  | 3 => ("java/lang/Throwable", "stackTrace", "[Ljava/lang/StackTraceElement;", false)
  | 4 => ("java/lang/Throwable", "depth", "I", false)
  | _ => ("java/lang/Throwable", "suppressedExceptions", "Ljava/util/List;", false)
def tyJ16 : Nat → FieldType := fun k => match k with
  | 0 => .object "java/lang/Object"
  | 1 => .object "java/lang/String"
  | 2 => .object "java/lang/Throwable"
  | 3 => .array (.object "java/lang/StackTraceElement")
  | 4 => .int
  | _ => .object "java/util/List"
abbrev wsJ160 : List Cond := u_ws RJ16 TJ16 6
theorem nmJ16 : ∀ a, a < 6 → ∀ b, b < 6 → a ≠ b → (TJ16 a).2.1 ≠ (TJ16 b).2.1 := by decide +kernel
theorem tyJ16_ok : ∀ k, k < 6 → parseFieldDescriptor (TJ16 k).2.2.1 = some (tyJ16 k) := by decide +kernel
abbrev cJ16_init : ByteArray := prog_14_method_2_code
def yJ16_init : MethodName := ⟨RJ16, "<init>", "(Ljava/lang/String;)V"⟩
/-! java/lang/Object -/
def RJ17 : String := "java/lang/Object"
abbrev cJ17_init : ByteArray := object_method_1_code
def yJ17_init : MethodName := ⟨RJ17, "<init>", "()V"⟩
/-! the law's own entry -/
abbrev cL_law : ByteArray := code
/-! the words -/
theorem q90 : (Jvm.Cond.initialized "SoldWithIt") ∈ lw_all := lw_g (lw_at lw_m1 1 rfl) rfl
theorem q120 : (Jvm.Cond.instantiable "SoldWithIt" (21 : Nat)) ∈ lw_all := lw_g (lw_at lw_m1 31 rfl) rfl
theorem q122 : (Jvm.Cond.instanceMethod ({ cls := "SoldWithIt", name := "<init>", desc := "()V" } : Jvm.MethodName)) ∈ lw_all := lw_g (lw_at lw_m1 33 rfl) rfl
theorem q123 : (Jvm.Cond.code ({ cls := "SoldWithIt", name := "<init>", desc := "()V" } : Jvm.MethodName) prog_1_method_1_code (1 : Nat) (Option.none : Option Jvm.ClassFile.FieldType)) ∈ lw_all := lw_g (lw_at lw_m1 34 rfl) rfl
theorem q124 : (Jvm.Cond.methodLink "SoldWithIt" (5 : Nat) ({ cls := "java/lang/Object", name := "<init>", desc := "()V" } : Jvm.MethodName)) ∈ lw_all := lw_g (lw_at lw_m1 35 rfl) rfl
theorem q127 : (Jvm.Cond.classLink "SoldWithIt" (11 : Nat) "SoldWithIt$Row") ∈ lw_all := lw_g (lw_at lw_m1 38 rfl) rfl
theorem q129 : (Jvm.Cond.methodLink "SoldWithIt" (13 : Nat) ({ cls := "SoldWithIt$Row", name := "<init>", desc := "()V" } : Jvm.MethodName)) ∈ lw_all := lw_g (lw_at lw_m1 40 rfl) rfl
theorem q182 : (Jvm.Cond.classLink "SoldWithIt" (18 : Nat) "SoldWithIt$Folk") ∈ lw_all := lw_g (lw_at lw_m1 93 rfl) rfl
theorem q184 : (Jvm.Cond.methodLink "SoldWithIt" (20 : Nat) ({ cls := "SoldWithIt$Folk", name := "<init>", desc := "()V" } : Jvm.MethodName)) ∈ lw_all := lw_g (lw_at lw_m1 95 rfl) rfl
theorem q195 : (Jvm.Cond.classLink "SoldWithIt" (39 : Nat) "SoldWithIt$Noon") ∈ lw_all := lw_g (lw_at lw_m1 106 rfl) rfl
theorem q197 : (Jvm.Cond.methodLinkNest "SoldWithIt" (41 : Nat) ({ cls := "SoldWithIt$Noon", name := "<init>", desc := "(LSoldWithIt;)V" } : Jvm.MethodName) "SoldWithIt") ∈ lw_tbl := lw_at lw_m1 108 rfl
theorem q202 : (Jvm.Cond.fieldLinkNest "SoldWithIt" (282 : Nat) "SoldWithIt$Noon" "places" "[I" "SoldWithIt") ∈ lw_tbl := lw_at lw_m1 113 rfl
theorem q205 : (Jvm.Cond.fieldLinkNest "SoldWithIt" (223 : Nat) "SoldWithIt$Noon" "owners" "[I" "SoldWithIt") ∈ lw_tbl := lw_at lw_m1 116 rfl
theorem q207 : (Jvm.Cond.fieldLinkNest "SoldWithIt" (231 : Nat) "SoldWithIt$Noon" "keepers" "[I" "SoldWithIt") ∈ lw_tbl := lw_at lw_m1 118 rfl
theorem q209 : (Jvm.Cond.fieldLinkNest "SoldWithIt" (233 : Nat) "SoldWithIt$Noon" "sold" "[I" "SoldWithIt") ∈ lw_tbl := lw_at lw_m1 120 rfl
theorem q225 : (Jvm.Cond.classLink "SoldWithIt" (51 : Nat) "[[I") ∈ lw_all := lw_g (lw_at lw_m1 136 rfl) rfl
theorem q227 : (Jvm.Cond.classLink "SoldWithIt" (74 : Nat) "SoldWithIt$Sales") ∈ lw_all := lw_g (lw_at lw_m1 138 rfl) rfl
theorem q229 : (Jvm.Cond.methodLinkNest "SoldWithIt" (76 : Nat) ({ cls := "SoldWithIt$Sales", name := "<init>", desc := "(LSoldWithIt;)V" } : Jvm.MethodName) "SoldWithIt") ∈ lw_tbl := lw_at lw_m1 140 rfl
theorem q234 : (Jvm.Cond.fieldLinkNest "SoldWithIt" (346 : Nat) "SoldWithIt$Sales" "fewest" "[I" "SoldWithIt") ∈ lw_tbl := lw_at lw_m1 145 rfl
theorem q247 : (Jvm.Cond.classLink "SoldWithIt" (81 : Nat) "java/util/ArrayList") ∈ lw_all := lw_g (lw_at lw_m1 158 rfl) rfl
theorem q248 : (Jvm.Cond.methodLink "SoldWithIt" (83 : Nat) ({ cls := "java/util/ArrayList", name := "<init>", desc := "()V" } : Jvm.MethodName)) ∈ lw_all := lw_g (lw_at lw_m1 159 rfl) rfl
theorem q249 : (Jvm.Cond.classLink "SoldWithIt" (91 : Nat) "SoldWithIt$Sheet") ∈ lw_all := lw_g (lw_at lw_m1 160 rfl) rfl
theorem q252 : (Jvm.Cond.methodLinkNest "SoldWithIt" (93 : Nat) ({ cls := "SoldWithIt$Sheet", name := "<init>", desc := "()V" } : Jvm.MethodName) "SoldWithIt") ∈ lw_tbl := lw_at lw_m1 163 rfl
theorem q257 : (Jvm.Cond.fieldLinkNest "SoldWithIt" (208 : Nat) "SoldWithIt$Sheet" "row" "Ljava/lang/Object;" "SoldWithIt") ∈ lw_tbl := lw_at lw_m1 168 rfl
theorem q261 : (Jvm.Cond.fieldLink "SoldWithIt" (99 : Nat) "SoldWithIt" "latest" "I") ∈ lw_all := lw_g (lw_at lw_m1 172 rfl) rfl
theorem q262 : (Jvm.Cond.fieldLink "SoldWithIt" (14 : Nat) "SoldWithIt" "row" "LSoldWithIt$Row;") ∈ lw_all := lw_g (lw_at lw_m1 173 rfl) rfl
theorem q263 : (Jvm.Cond.fieldLink "SoldWithIt" (21 : Nat) "SoldWithIt" "folk" "LSoldWithIt$Folk;") ∈ lw_all := lw_g (lw_at lw_m1 174 rfl) rfl
theorem q264 : (Jvm.Cond.fieldLink "SoldWithIt" (25 : Nat) "SoldWithIt" "stale" "Z") ∈ lw_all := lw_g (lw_at lw_m1 175 rfl) rfl
theorem q265 : (Jvm.Cond.fieldLink "SoldWithIt" (29 : Nat) "SoldWithIt" "laws" "[I") ∈ lw_all := lw_g (lw_at lw_m1 176 rfl) rfl
theorem q267 : (Jvm.Cond.fieldLink "SoldWithIt" (33 : Nat) "SoldWithIt" "saleHouse" "[I") ∈ lw_all := lw_g (lw_at lw_m1 178 rfl) rfl
theorem q269 : (Jvm.Cond.fieldLink "SoldWithIt" (36 : Nat) "SoldWithIt" "saleBuyer" "[I") ∈ lw_all := lw_g (lw_at lw_m1 180 rfl) rfl
theorem q272 : (Jvm.Cond.fieldLink "SoldWithIt" (202 : Nat) "SoldWithIt" "sales" "I") ∈ lw_all := lw_g (lw_at lw_m1 183 rfl) rfl
theorem q273 : (Jvm.Cond.fieldLink "SoldWithIt" (44 : Nat) "SoldWithIt" "noon" "LSoldWithIt$Noon;") ∈ lw_all := lw_g (lw_at lw_m1 184 rfl) rfl
theorem q274 : (Jvm.Cond.fieldLink "SoldWithIt" (48 : Nat) "SoldWithIt" "tried" "LSoldWithIt$Noon;") ∈ lw_all := lw_g (lw_at lw_m1 185 rfl) rfl
theorem q276 : (Jvm.Cond.fieldLink "SoldWithIt" (53 : Nat) "SoldWithIt" "owners" "[[I") ∈ lw_all := lw_g (lw_at lw_m1 187 rfl) rfl
theorem q277 : (Jvm.Cond.fieldLink "SoldWithIt" (56 : Nat) "SoldWithIt" "keepers" "[[I") ∈ lw_all := lw_g (lw_at lw_m1 188 rfl) rfl
theorem q278 : (Jvm.Cond.fieldLink "SoldWithIt" (59 : Nat) "SoldWithIt" "soldSo" "[[I") ∈ lw_all := lw_g (lw_at lw_m1 189 rfl) rfl
theorem q279 : (Jvm.Cond.fieldLink "SoldWithIt" (62 : Nat) "SoldWithIt" "lengths" "[I") ∈ lw_all := lw_g (lw_at lw_m1 190 rfl) rfl
theorem q280 : (Jvm.Cond.fieldLink "SoldWithIt" (65 : Nat) "SoldWithIt" "worths" "[[I") ∈ lw_all := lw_g (lw_at lw_m1 191 rfl) rfl
theorem q282 : (Jvm.Cond.fieldLink "SoldWithIt" (68 : Nat) "SoldWithIt" "likes" "[[I") ∈ lw_all := lw_g (lw_at lw_m1 193 rfl) rfl
theorem q283 : (Jvm.Cond.fieldLink "SoldWithIt" (71 : Nat) "SoldWithIt" "keptBy" "[I") ∈ lw_all := lw_g (lw_at lw_m1 194 rfl) rfl
theorem q284 : (Jvm.Cond.fieldLink "SoldWithIt" (77 : Nat) "SoldWithIt" "allSales" "LSoldWithIt$Sales;") ∈ lw_all := lw_g (lw_at lw_m1 195 rfl) rfl
theorem q285 : (Jvm.Cond.fieldLink "SoldWithIt" (84 : Nat) "SoldWithIt" "facts" "Ljava/util/ArrayList;") ∈ lw_all := lw_g (lw_at lw_m1 196 rfl) rfl
theorem q286 : (Jvm.Cond.fieldLink "SoldWithIt" (88 : Nat) "SoldWithIt" "been" "[I") ∈ lw_all := lw_g (lw_at lw_m1 197 rfl) rfl
theorem q287 : (Jvm.Cond.fieldLink "SoldWithIt" (94 : Nat) "SoldWithIt" "sheets" "[LSoldWithIt$Sheet;") ∈ lw_all := lw_g (lw_at lw_m1 198 rfl) rfl
theorem q288 : (Jvm.Cond.lays "SoldWithIt" "SoldWithIt" "latest" "I") ∈ lw_all := lw_g (lw_at lw_m1 199 rfl) rfl
theorem q289 : (Jvm.Cond.soleField "SoldWithIt" "latest") ∈ lw_all := lw_g (lw_at lw_m1 200 rfl) rfl
theorem q290 : (Jvm.Cond.laysFinal "SoldWithIt" "SoldWithIt" "row" "LSoldWithIt$Row;") ∈ lw_all := lw_g (lw_at lw_m1 201 rfl) rfl
theorem q291 : (Jvm.Cond.soleField "SoldWithIt" "row") ∈ lw_all := lw_g (lw_at lw_m1 202 rfl) rfl
theorem q292 : (Jvm.Cond.laysFinal "SoldWithIt" "SoldWithIt" "folk" "LSoldWithIt$Folk;") ∈ lw_all := lw_g (lw_at lw_m1 203 rfl) rfl
theorem q293 : (Jvm.Cond.soleField "SoldWithIt" "folk") ∈ lw_all := lw_g (lw_at lw_m1 204 rfl) rfl
theorem q294 : (Jvm.Cond.lays "SoldWithIt" "SoldWithIt" "stale" "Z") ∈ lw_all := lw_g (lw_at lw_m1 205 rfl) rfl
theorem q295 : (Jvm.Cond.soleField "SoldWithIt" "stale") ∈ lw_all := lw_g (lw_at lw_m1 206 rfl) rfl
theorem q296 : (Jvm.Cond.laysFinal "SoldWithIt" "SoldWithIt" "laws" "[I") ∈ lw_all := lw_g (lw_at lw_m1 207 rfl) rfl
theorem q297 : (Jvm.Cond.soleField "SoldWithIt" "laws") ∈ lw_all := lw_g (lw_at lw_m1 208 rfl) rfl
theorem q298 : (Jvm.Cond.laysFinal "SoldWithIt" "SoldWithIt" "saleHouse" "[I") ∈ lw_all := lw_g (lw_at lw_m1 209 rfl) rfl
theorem q299 : (Jvm.Cond.soleField "SoldWithIt" "saleHouse") ∈ lw_all := lw_g (lw_at lw_m1 210 rfl) rfl
theorem q300 : (Jvm.Cond.laysFinal "SoldWithIt" "SoldWithIt" "saleBuyer" "[I") ∈ lw_all := lw_g (lw_at lw_m1 211 rfl) rfl
theorem q301 : (Jvm.Cond.soleField "SoldWithIt" "saleBuyer") ∈ lw_all := lw_g (lw_at lw_m1 212 rfl) rfl
theorem q302 : (Jvm.Cond.lays "SoldWithIt" "SoldWithIt" "sales" "I") ∈ lw_all := lw_g (lw_at lw_m1 213 rfl) rfl
theorem q303 : (Jvm.Cond.soleField "SoldWithIt" "sales") ∈ lw_all := lw_g (lw_at lw_m1 214 rfl) rfl
theorem q304 : (Jvm.Cond.laysFinal "SoldWithIt" "SoldWithIt" "noon" "LSoldWithIt$Noon;") ∈ lw_all := lw_g (lw_at lw_m1 215 rfl) rfl
theorem q305 : (Jvm.Cond.soleField "SoldWithIt" "noon") ∈ lw_all := lw_g (lw_at lw_m1 216 rfl) rfl
theorem q306 : (Jvm.Cond.laysFinal "SoldWithIt" "SoldWithIt" "tried" "LSoldWithIt$Noon;") ∈ lw_all := lw_g (lw_at lw_m1 217 rfl) rfl
theorem q307 : (Jvm.Cond.soleField "SoldWithIt" "tried") ∈ lw_all := lw_g (lw_at lw_m1 218 rfl) rfl
theorem q308 : (Jvm.Cond.laysFinal "SoldWithIt" "SoldWithIt" "owners" "[[I") ∈ lw_all := lw_g (lw_at lw_m1 219 rfl) rfl
theorem q309 : (Jvm.Cond.soleField "SoldWithIt" "owners") ∈ lw_all := lw_g (lw_at lw_m1 220 rfl) rfl
theorem q310 : (Jvm.Cond.laysFinal "SoldWithIt" "SoldWithIt" "keepers" "[[I") ∈ lw_all := lw_g (lw_at lw_m1 221 rfl) rfl
theorem q311 : (Jvm.Cond.soleField "SoldWithIt" "keepers") ∈ lw_all := lw_g (lw_at lw_m1 222 rfl) rfl
theorem q312 : (Jvm.Cond.laysFinal "SoldWithIt" "SoldWithIt" "soldSo" "[[I") ∈ lw_all := lw_g (lw_at lw_m1 223 rfl) rfl
theorem q313 : (Jvm.Cond.soleField "SoldWithIt" "soldSo") ∈ lw_all := lw_g (lw_at lw_m1 224 rfl) rfl
theorem q314 : (Jvm.Cond.laysFinal "SoldWithIt" "SoldWithIt" "lengths" "[I") ∈ lw_all := lw_g (lw_at lw_m1 225 rfl) rfl
theorem q315 : (Jvm.Cond.soleField "SoldWithIt" "lengths") ∈ lw_all := lw_g (lw_at lw_m1 226 rfl) rfl
theorem q316 : (Jvm.Cond.laysFinal "SoldWithIt" "SoldWithIt" "worths" "[[I") ∈ lw_all := lw_g (lw_at lw_m1 227 rfl) rfl
theorem q317 : (Jvm.Cond.soleField "SoldWithIt" "worths") ∈ lw_all := lw_g (lw_at lw_m1 228 rfl) rfl
theorem q318 : (Jvm.Cond.laysFinal "SoldWithIt" "SoldWithIt" "likes" "[[I") ∈ lw_all := lw_g (lw_at lw_m1 229 rfl) rfl
theorem q319 : (Jvm.Cond.soleField "SoldWithIt" "likes") ∈ lw_all := lw_g (lw_at lw_m1 230 rfl) rfl
theorem q320 : (Jvm.Cond.laysFinal "SoldWithIt" "SoldWithIt" "keptBy" "[I") ∈ lw_all := lw_g (lw_at lw_m1 231 rfl) rfl
theorem q321 : (Jvm.Cond.soleField "SoldWithIt" "keptBy") ∈ lw_all := lw_g (lw_at lw_m1 232 rfl) rfl
theorem q322 : (Jvm.Cond.laysFinal "SoldWithIt" "SoldWithIt" "allSales" "LSoldWithIt$Sales;") ∈ lw_all := lw_g (lw_at lw_m1 233 rfl) rfl
theorem q323 : (Jvm.Cond.soleField "SoldWithIt" "allSales") ∈ lw_all := lw_g (lw_at lw_m1 234 rfl) rfl
theorem q324 : (Jvm.Cond.laysFinal "SoldWithIt" "SoldWithIt" "facts" "Ljava/util/ArrayList;") ∈ lw_all := lw_g (lw_at lw_m1 235 rfl) rfl
theorem q325 : (Jvm.Cond.soleField "SoldWithIt" "facts") ∈ lw_all := lw_g (lw_at lw_m1 236 rfl) rfl
theorem q326 : (Jvm.Cond.laysFinal "SoldWithIt" "SoldWithIt" "been" "[I") ∈ lw_all := lw_g (lw_at lw_m1 237 rfl) rfl
theorem q327 : (Jvm.Cond.soleField "SoldWithIt" "been") ∈ lw_all := lw_g (lw_at lw_m1 238 rfl) rfl
theorem q328 : (Jvm.Cond.laysFinal "SoldWithIt" "SoldWithIt" "sheets" "[LSoldWithIt$Sheet;") ∈ lw_all := lw_g (lw_at lw_m1 239 rfl) rfl
theorem q329 : (Jvm.Cond.soleField "SoldWithIt" "sheets") ∈ lw_all := lw_g (lw_at lw_m2 0 rfl) rfl
theorem q330 : (Jvm.Cond.superclass "SoldWithIt" "java/lang/Object") ∈ lw_all := lw_g (lw_at lw_m2 1 rfl) rfl
theorem q332 : (Jvm.Cond.instanceMethod ({ cls := "SoldWithIt", name := "type", desc := "(II)I" } : Jvm.MethodName)) ∈ lw_all := lw_g (lw_at lw_m2 3 rfl) rfl
theorem q333 : (Jvm.Cond.selects "SoldWithIt" ({ cls := "SoldWithIt", name := "type", desc := "(II)I" } : Jvm.MethodName) ({ cls := "SoldWithIt", name := "type", desc := "(II)I" } : Jvm.MethodName)) ∈ lw_all := lw_g (lw_at lw_m2 4 rfl) rfl
theorem q334 : (Jvm.Cond.code ({ cls := "SoldWithIt", name := "type", desc := "(II)I" } : Jvm.MethodName) prog_1_method_9_code (3 : Nat) (Option.some Jvm.ClassFile.FieldType.int)) ∈ lw_all := lw_g (lw_at lw_m2 5 rfl) rfl
theorem q335 : (Jvm.Cond.methodLink "SoldWithIt" (110 : Nat) ({ cls := "SoldWithIt", name := "isTwo", desc := "(I)Z" } : Jvm.MethodName)) ∈ lw_all := lw_g (lw_at lw_m2 6 rfl) rfl
theorem q336 : (Jvm.Cond.static ({ cls := "SoldWithIt", name := "isTwo", desc := "(I)Z" } : Jvm.MethodName)) ∈ lw_all := lw_g (lw_at lw_m2 7 rfl) rfl
theorem q337 : (Jvm.Cond.code ({ cls := "SoldWithIt", name := "isTwo", desc := "(I)Z" } : Jvm.MethodName) prog_1_method_6_code (1 : Nat) (Option.some Jvm.ClassFile.FieldType.boolean)) ∈ lw_all := lw_g (lw_at lw_m2 8 rfl) rfl
theorem q338 : (Jvm.Cond.methodLink "SoldWithIt" (104 : Nat) ({ cls := "SoldWithIt", name := "in", desc := "(JJJ)Z" } : Jvm.MethodName)) ∈ lw_all := lw_g (lw_at lw_m2 9 rfl) rfl
theorem q339 : (Jvm.Cond.static ({ cls := "SoldWithIt", name := "in", desc := "(JJJ)Z" } : Jvm.MethodName)) ∈ lw_all := lw_g (lw_at lw_m2 10 rfl) rfl
theorem q340 : (Jvm.Cond.code ({ cls := "SoldWithIt", name := "in", desc := "(JJJ)Z" } : Jvm.MethodName) prog_1_method_2_code (6 : Nat) (Option.some Jvm.ClassFile.FieldType.boolean)) ∈ lw_all := lw_g (lw_at lw_m2 11 rfl) rfl
theorem q341 : (Jvm.Cond.constantLong "SoldWithIt" (114 : Nat) (255 : Int64)) ∈ lw_all := lw_g (lw_at lw_m2 12 rfl) rfl
theorem q342 : (Jvm.Cond.methodLink "SoldWithIt" (116 : Nat) ({ cls := "SoldWithIt$Row", name := "type", desc := "(I)I" } : Jvm.MethodName)) ∈ lw_all := lw_g (lw_at lw_m2 13 rfl) rfl
theorem q348 : (Jvm.Cond.methodLink "SoldWithIt" (120 : Nat) ({ cls := "SoldWithIt$Folk", name := "type", desc := "(I)I" } : Jvm.MethodName)) ∈ lw_all := lw_g (lw_at lw_m2 19 rfl) rfl
theorem q352 : (Jvm.Cond.instanceMethod ({ cls := "SoldWithIt", name := "wipe", desc := "(I)I" } : Jvm.MethodName)) ∈ lw_all := lw_g (lw_at lw_m2 23 rfl) rfl
theorem q353 : (Jvm.Cond.selects "SoldWithIt" ({ cls := "SoldWithIt", name := "wipe", desc := "(I)I" } : Jvm.MethodName) ({ cls := "SoldWithIt", name := "wipe", desc := "(I)I" } : Jvm.MethodName)) ∈ lw_all := lw_g (lw_at lw_m2 24 rfl) rfl
theorem q354 : (Jvm.Cond.code ({ cls := "SoldWithIt", name := "wipe", desc := "(I)I" } : Jvm.MethodName) prog_1_method_10_code (2 : Nat) (Option.some Jvm.ClassFile.FieldType.int)) ∈ lw_all := lw_g (lw_at lw_m2 25 rfl) rfl
theorem q355 : (Jvm.Cond.methodLink "SoldWithIt" (121 : Nat) ({ cls := "SoldWithIt$Row", name := "wipe", desc := "()I" } : Jvm.MethodName)) ∈ lw_all := lw_g (lw_at lw_m2 26 rfl) rfl
theorem q361 : (Jvm.Cond.methodLink "SoldWithIt" (125 : Nat) ({ cls := "SoldWithIt$Folk", name := "wipe", desc := "()I" } : Jvm.MethodName)) ∈ lw_all := lw_g (lw_at lw_m2 32 rfl) rfl
theorem q365 : (Jvm.Cond.instanceMethod ({ cls := "SoldWithIt", name := "fault", desc := "(I)I" } : Jvm.MethodName)) ∈ lw_all := lw_g (lw_at lw_m2 36 rfl) rfl
theorem q366 : (Jvm.Cond.selects "SoldWithIt" ({ cls := "SoldWithIt", name := "fault", desc := "(I)I" } : Jvm.MethodName) ({ cls := "SoldWithIt", name := "fault", desc := "(I)I" } : Jvm.MethodName)) ∈ lw_all := lw_g (lw_at lw_m2 37 rfl) rfl
theorem q367 : (Jvm.Cond.code ({ cls := "SoldWithIt", name := "fault", desc := "(I)I" } : Jvm.MethodName) prog_1_method_12_code (2 : Nat) (Option.some Jvm.ClassFile.FieldType.int)) ∈ lw_all := lw_g (lw_at lw_m2 38 rfl) rfl
theorem q368 : (Jvm.Cond.methodLink "SoldWithIt" (130 : Nat) ({ cls := "SoldWithIt", name := "faultOf", desc := "(I)I" } : Jvm.MethodName)) ∈ lw_all := lw_g (lw_at lw_m2 39 rfl) rfl
theorem q369 : (Jvm.Cond.privateMethod ({ cls := "SoldWithIt", name := "faultOf", desc := "(I)I" } : Jvm.MethodName)) ∈ lw_tbl := lw_at lw_m2 40 rfl
theorem q370 : (Jvm.Cond.instanceMethod ({ cls := "SoldWithIt", name := "faultOf", desc := "(I)I" } : Jvm.MethodName)) ∈ lw_all := lw_g (lw_at lw_m2 41 rfl) rfl
theorem q371 : (Jvm.Cond.code ({ cls := "SoldWithIt", name := "faultOf", desc := "(I)I" } : Jvm.MethodName) prog_1_method_11_code (2 : Nat) (Option.some Jvm.ClassFile.FieldType.int)) ∈ lw_all := lw_g (lw_at lw_m2 42 rfl) rfl
theorem q372 : (Jvm.Cond.methodLink "SoldWithIt" (126 : Nat) ({ cls := "SoldWithIt$Row", name := "read", desc := "()I" } : Jvm.MethodName)) ∈ lw_all := lw_g (lw_at lw_m2 43 rfl) rfl
theorem q523 : (Jvm.Cond.fieldLinkNest "SoldWithIt" (184 : Nat) "SoldWithIt$Person" "kind" "I" "SoldWithIt") ∈ lw_tbl := lw_at lw_m2 194 rfl
theorem q525 : (Jvm.Cond.fieldLinkNest "SoldWithIt" (156 : Nat) "SoldWithIt$Person" "place" "I" "SoldWithIt") ∈ lw_tbl := lw_at lw_m2 196 rfl
theorem q550 : (Jvm.Cond.fieldLinkNest "SoldWithIt" (169 : Nat) "SoldWithIt$House" "owner" "I" "SoldWithIt") ∈ lw_tbl := lw_at lw_m2 221 rfl
theorem q553 : (Jvm.Cond.fieldLinkNest "SoldWithIt" (172 : Nat) "SoldWithIt$House" "price" "I" "SoldWithIt") ∈ lw_tbl := lw_at lw_m2 224 rfl
theorem q591 : (Jvm.Cond.selects "SoldWithIt" ({ cls := "java/lang/Object", name := "getClass", desc := "()Ljava/lang/Class;" } : Jvm.MethodName) ({ cls := "java/lang/Object", name := "getClass", desc := "()Ljava/lang/Class;" } : Jvm.MethodName)) ∈ lw_all := lw_g (lw_at lw_m3 22 rfl) rfl
theorem q620 : (Jvm.Cond.methodLink "SoldWithIt" (129 : Nat) ({ cls := "SoldWithIt$Folk", name := "read", desc := "()I" } : Jvm.MethodName)) ∈ lw_all := lw_g (lw_at lw_m3 51 rfl) rfl
theorem q624 : (Jvm.Cond.instanceMethod ({ cls := "SoldWithIt", name := "house", desc := "(II)I" } : Jvm.MethodName)) ∈ lw_all := lw_g (lw_at lw_m3 55 rfl) rfl
theorem q625 : (Jvm.Cond.selects "SoldWithIt" ({ cls := "SoldWithIt", name := "house", desc := "(II)I" } : Jvm.MethodName) ({ cls := "SoldWithIt", name := "house", desc := "(II)I" } : Jvm.MethodName)) ∈ lw_all := lw_g (lw_at lw_m3 56 rfl) rfl
theorem q626 : (Jvm.Cond.code ({ cls := "SoldWithIt", name := "house", desc := "(II)I" } : Jvm.MethodName) prog_1_method_23_code (3 : Nat) (Option.some Jvm.ClassFile.FieldType.int)) ∈ lw_all := lw_g (lw_at lw_m3 57 rfl) rfl
theorem q627 : (Jvm.Cond.methodLink "SoldWithIt" (159 : Nat) ({ cls := "SoldWithIt", name := "isHouse", desc := "(I)Z" } : Jvm.MethodName)) ∈ lw_all := lw_g (lw_at lw_m3 58 rfl) rfl
theorem q628 : (Jvm.Cond.privateMethod ({ cls := "SoldWithIt", name := "isHouse", desc := "(I)Z" } : Jvm.MethodName)) ∈ lw_tbl := lw_at lw_m3 59 rfl
theorem q629 : (Jvm.Cond.instanceMethod ({ cls := "SoldWithIt", name := "isHouse", desc := "(I)Z" } : Jvm.MethodName)) ∈ lw_all := lw_g (lw_at lw_m3 60 rfl) rfl
theorem q630 : (Jvm.Cond.code ({ cls := "SoldWithIt", name := "isHouse", desc := "(I)Z" } : Jvm.MethodName) prog_1_method_15_code (2 : Nat) (Option.some Jvm.ClassFile.FieldType.boolean)) ∈ lw_all := lw_g (lw_at lw_m3 61 rfl) rfl
theorem q631 : (Jvm.Cond.methodLink "SoldWithIt" (137 : Nat) ({ cls := "SoldWithIt", name := "houses", desc := "()I" } : Jvm.MethodName)) ∈ lw_all := lw_g (lw_at lw_m3 62 rfl) rfl
theorem q632 : (Jvm.Cond.privateMethod ({ cls := "SoldWithIt", name := "houses", desc := "()I" } : Jvm.MethodName)) ∈ lw_tbl := lw_at lw_m3 63 rfl
theorem q633 : (Jvm.Cond.instanceMethod ({ cls := "SoldWithIt", name := "houses", desc := "()I" } : Jvm.MethodName)) ∈ lw_all := lw_g (lw_at lw_m3 64 rfl) rfl
theorem q634 : (Jvm.Cond.code ({ cls := "SoldWithIt", name := "houses", desc := "()I" } : Jvm.MethodName) prog_1_method_13_code (1 : Nat) (Option.some Jvm.ClassFile.FieldType.int)) ∈ lw_all := lw_g (lw_at lw_m3 65 rfl) rfl
theorem q635 : (Jvm.Cond.methodLink "SoldWithIt" (133 : Nat) ({ cls := "SoldWithIt$Row", name := "size", desc := "()I" } : Jvm.MethodName)) ∈ lw_all := lw_g (lw_at lw_m3 66 rfl) rfl
theorem q642 : (Jvm.Cond.constantLong "SoldWithIt" (178 : Nat) (2 : Int64)) ∈ lw_all := lw_g (lw_at lw_m3 73 rfl) rfl
theorem q643 : (Jvm.Cond.methodLink "SoldWithIt" (180 : Nat) ({ cls := "SoldWithIt", name := "houseBy", desc := "(II)I" } : Jvm.MethodName)) ∈ lw_all := lw_g (lw_at lw_m3 74 rfl) rfl
theorem q644 : (Jvm.Cond.privateMethod ({ cls := "SoldWithIt", name := "houseBy", desc := "(II)I" } : Jvm.MethodName)) ∈ lw_tbl := lw_at lw_m3 75 rfl
theorem q645 : (Jvm.Cond.instanceMethod ({ cls := "SoldWithIt", name := "houseBy", desc := "(II)I" } : Jvm.MethodName)) ∈ lw_all := lw_g (lw_at lw_m3 76 rfl) rfl
theorem q646 : (Jvm.Cond.code ({ cls := "SoldWithIt", name := "houseBy", desc := "(II)I" } : Jvm.MethodName) prog_1_method_22_code (3 : Nat) (Option.some Jvm.ClassFile.FieldType.int)) ∈ lw_all := lw_g (lw_at lw_m3 77 rfl) rfl
theorem q647 : (Jvm.Cond.methodLink "SoldWithIt" (165 : Nat) ({ cls := "SoldWithIt", name := "house", desc := "(I)LSoldWithIt$House;" } : Jvm.MethodName)) ∈ lw_all := lw_g (lw_at lw_m3 78 rfl) rfl
theorem q648 : (Jvm.Cond.privateMethod ({ cls := "SoldWithIt", name := "house", desc := "(I)LSoldWithIt$House;" } : Jvm.MethodName)) ∈ lw_tbl := lw_at lw_m3 79 rfl
theorem q649 : (Jvm.Cond.instanceMethod ({ cls := "SoldWithIt", name := "house", desc := "(I)LSoldWithIt$House;" } : Jvm.MethodName)) ∈ lw_all := lw_g (lw_at lw_m3 80 rfl) rfl
theorem q650 : (Jvm.Cond.code ({ cls := "SoldWithIt", name := "house", desc := "(I)LSoldWithIt$House;" } : Jvm.MethodName) prog_1_method_17_code (2 : Nat) (Option.some (Jvm.ClassFile.FieldType.object "SoldWithIt$House"))) ∈ lw_all := lw_g (lw_at lw_m3 81 rfl) rfl
theorem q651 : (Jvm.Cond.methodLink "SoldWithIt" (143 : Nat) ({ cls := "SoldWithIt$Row", name := "thing", desc := "(I)Ljava/lang/Object;" } : Jvm.MethodName)) ∈ lw_all := lw_g (lw_at lw_m3 82 rfl) rfl
theorem q671 : (Jvm.Cond.classLink "SoldWithIt" (147 : Nat) "SoldWithIt$House") ∈ lw_all := lw_g (lw_at lw_m3 102 rfl) rfl
theorem q672 : (Jvm.Cond.methodLink "SoldWithIt" (175 : Nat) ({ cls := "SoldWithIt", name := "within", desc := "(I)I" } : Jvm.MethodName)) ∈ lw_all := lw_g (lw_at lw_m3 103 rfl) rfl
theorem q673 : (Jvm.Cond.privateMethod ({ cls := "SoldWithIt", name := "within", desc := "(I)I" } : Jvm.MethodName)) ∈ lw_tbl := lw_at lw_m3 104 rfl
theorem q674 : (Jvm.Cond.instanceMethod ({ cls := "SoldWithIt", name := "within", desc := "(I)I" } : Jvm.MethodName)) ∈ lw_all := lw_g (lw_at lw_m3 105 rfl) rfl
theorem q675 : (Jvm.Cond.code ({ cls := "SoldWithIt", name := "within", desc := "(I)I" } : Jvm.MethodName) prog_1_method_21_code (4 : Nat) (Option.some Jvm.ClassFile.FieldType.int)) ∈ lw_all := lw_g (lw_at lw_m3 106 rfl) rfl
theorem q676 : (Jvm.Cond.methodLink "SoldWithIt" (140 : Nat) ({ cls := "SoldWithIt", name := "people", desc := "()I" } : Jvm.MethodName)) ∈ lw_all := lw_g (lw_at lw_m3 107 rfl) rfl
theorem q677 : (Jvm.Cond.privateMethod ({ cls := "SoldWithIt", name := "people", desc := "()I" } : Jvm.MethodName)) ∈ lw_tbl := lw_at lw_m3 108 rfl
theorem q678 : (Jvm.Cond.instanceMethod ({ cls := "SoldWithIt", name := "people", desc := "()I" } : Jvm.MethodName)) ∈ lw_all := lw_g (lw_at lw_m3 109 rfl) rfl
theorem q679 : (Jvm.Cond.code ({ cls := "SoldWithIt", name := "people", desc := "()I" } : Jvm.MethodName) prog_1_method_14_code (1 : Nat) (Option.some Jvm.ClassFile.FieldType.int)) ∈ lw_all := lw_g (lw_at lw_m3 110 rfl) rfl
theorem q680 : (Jvm.Cond.methodLink "SoldWithIt" (136 : Nat) ({ cls := "SoldWithIt$Folk", name := "size", desc := "()I" } : Jvm.MethodName)) ∈ lw_all := lw_g (lw_at lw_m3 111 rfl) rfl
theorem q683 : (Jvm.Cond.methodLink "SoldWithIt" (162 : Nat) ({ cls := "SoldWithIt", name := "placeOf", desc := "(I)I" } : Jvm.MethodName)) ∈ lw_all := lw_g (lw_at lw_m3 114 rfl) rfl
theorem q684 : (Jvm.Cond.privateMethod ({ cls := "SoldWithIt", name := "placeOf", desc := "(I)I" } : Jvm.MethodName)) ∈ lw_tbl := lw_at lw_m3 115 rfl
theorem q685 : (Jvm.Cond.instanceMethod ({ cls := "SoldWithIt", name := "placeOf", desc := "(I)I" } : Jvm.MethodName)) ∈ lw_all := lw_g (lw_at lw_m3 116 rfl) rfl
theorem q686 : (Jvm.Cond.code ({ cls := "SoldWithIt", name := "placeOf", desc := "(I)I" } : Jvm.MethodName) prog_1_method_19_code (2 : Nat) (Option.some Jvm.ClassFile.FieldType.int)) ∈ lw_all := lw_g (lw_at lw_m3 117 rfl) rfl
theorem q687 : (Jvm.Cond.methodLink "SoldWithIt" (152 : Nat) ({ cls := "SoldWithIt", name := "person", desc := "(I)LSoldWithIt$Person;" } : Jvm.MethodName)) ∈ lw_all := lw_g (lw_at lw_m3 118 rfl) rfl
theorem q688 : (Jvm.Cond.privateMethod ({ cls := "SoldWithIt", name := "person", desc := "(I)LSoldWithIt$Person;" } : Jvm.MethodName)) ∈ lw_tbl := lw_at lw_m3 119 rfl
theorem q689 : (Jvm.Cond.instanceMethod ({ cls := "SoldWithIt", name := "person", desc := "(I)LSoldWithIt$Person;" } : Jvm.MethodName)) ∈ lw_all := lw_g (lw_at lw_m3 120 rfl) rfl
theorem q690 : (Jvm.Cond.code ({ cls := "SoldWithIt", name := "person", desc := "(I)LSoldWithIt$Person;" } : Jvm.MethodName) prog_1_method_18_code (2 : Nat) (Option.some (Jvm.ClassFile.FieldType.object "SoldWithIt$Person"))) ∈ lw_all := lw_g (lw_at lw_m3 121 rfl) rfl
theorem q691 : (Jvm.Cond.methodLink "SoldWithIt" (149 : Nat) ({ cls := "SoldWithIt$Folk", name := "thing", desc := "(I)Ljava/lang/Object;" } : Jvm.MethodName)) ∈ lw_all := lw_g (lw_at lw_m3 122 rfl) rfl
theorem q694 : (Jvm.Cond.classLink "SoldWithIt" (150 : Nat) "SoldWithIt$Person") ∈ lw_all := lw_g (lw_at lw_m3 125 rfl) rfl
theorem q696 : (Jvm.Cond.instanceMethod ({ cls := "SoldWithIt", name := "person", desc := "(II)I" } : Jvm.MethodName)) ∈ lw_all := lw_g (lw_at lw_m3 127 rfl) rfl
theorem q697 : (Jvm.Cond.selects "SoldWithIt" ({ cls := "SoldWithIt", name := "person", desc := "(II)I" } : Jvm.MethodName) ({ cls := "SoldWithIt", name := "person", desc := "(II)I" } : Jvm.MethodName)) ∈ lw_all := lw_g (lw_at lw_m3 128 rfl) rfl
theorem q698 : (Jvm.Cond.code ({ cls := "SoldWithIt", name := "person", desc := "(II)I" } : Jvm.MethodName) prog_1_method_26_code (3 : Nat) (Option.some Jvm.ClassFile.FieldType.int)) ∈ lw_all := lw_g (lw_at lw_m3 129 rfl) rfl
theorem q699 : (Jvm.Cond.methodLink "SoldWithIt" (193 : Nat) ({ cls := "SoldWithIt", name := "isPerson", desc := "(I)Z" } : Jvm.MethodName)) ∈ lw_all := lw_g (lw_at lw_m3 130 rfl) rfl
theorem q700 : (Jvm.Cond.privateMethod ({ cls := "SoldWithIt", name := "isPerson", desc := "(I)Z" } : Jvm.MethodName)) ∈ lw_tbl := lw_at lw_m3 131 rfl
theorem q701 : (Jvm.Cond.instanceMethod ({ cls := "SoldWithIt", name := "isPerson", desc := "(I)Z" } : Jvm.MethodName)) ∈ lw_all := lw_g (lw_at lw_m3 132 rfl) rfl
theorem q702 : (Jvm.Cond.code ({ cls := "SoldWithIt", name := "isPerson", desc := "(I)Z" } : Jvm.MethodName) prog_1_method_16_code (2 : Nat) (Option.some Jvm.ClassFile.FieldType.boolean)) ∈ lw_all := lw_g (lw_at lw_m3 133 rfl) rfl
theorem q703 : (Jvm.Cond.methodLink "SoldWithIt" (196 : Nat) ({ cls := "SoldWithIt", name := "personBy", desc := "(II)I" } : Jvm.MethodName)) ∈ lw_all := lw_g (lw_at lw_m3 134 rfl) rfl
theorem q704 : (Jvm.Cond.privateMethod ({ cls := "SoldWithIt", name := "personBy", desc := "(II)I" } : Jvm.MethodName)) ∈ lw_tbl := lw_at lw_m3 135 rfl
theorem q705 : (Jvm.Cond.instanceMethod ({ cls := "SoldWithIt", name := "personBy", desc := "(II)I" } : Jvm.MethodName)) ∈ lw_all := lw_g (lw_at lw_m3 136 rfl) rfl
theorem q706 : (Jvm.Cond.code ({ cls := "SoldWithIt", name := "personBy", desc := "(II)I" } : Jvm.MethodName) prog_1_method_25_code (3 : Nat) (Option.some Jvm.ClassFile.FieldType.int)) ∈ lw_all := lw_g (lw_at lw_m3 137 rfl) rfl
theorem q707 : (Jvm.Cond.methodLink "SoldWithIt" (187 : Nat) ({ cls := "SoldWithIt", name := "told", desc := "(I)I" } : Jvm.MethodName)) ∈ lw_all := lw_g (lw_at lw_m3 138 rfl) rfl
theorem q708 : (Jvm.Cond.static ({ cls := "SoldWithIt", name := "told", desc := "(I)I" } : Jvm.MethodName)) ∈ lw_all := lw_g (lw_at lw_m3 139 rfl) rfl
theorem q709 : (Jvm.Cond.code ({ cls := "SoldWithIt", name := "told", desc := "(I)I" } : Jvm.MethodName) prog_1_method_20_code (1 : Nat) (Option.some Jvm.ClassFile.FieldType.int)) ∈ lw_all := lw_g (lw_at lw_m3 140 rfl) rfl
theorem q710 : (Jvm.Cond.methodLink "SoldWithIt" (190 : Nat) ({ cls := "SoldWithIt", name := "ownedBy", desc := "(I)I" } : Jvm.MethodName)) ∈ lw_all := lw_g (lw_at lw_m3 141 rfl) rfl
theorem q711 : (Jvm.Cond.privateMethod ({ cls := "SoldWithIt", name := "ownedBy", desc := "(I)I" } : Jvm.MethodName)) ∈ lw_tbl := lw_at lw_m3 142 rfl
theorem q712 : (Jvm.Cond.instanceMethod ({ cls := "SoldWithIt", name := "ownedBy", desc := "(I)I" } : Jvm.MethodName)) ∈ lw_all := lw_g (lw_at lw_m3 143 rfl) rfl
theorem q713 : (Jvm.Cond.code ({ cls := "SoldWithIt", name := "ownedBy", desc := "(I)I" } : Jvm.MethodName) prog_1_method_24_code (4 : Nat) (Option.some Jvm.ClassFile.FieldType.int)) ∈ lw_all := lw_g (lw_at lw_m3 144 rfl) rfl
theorem q715 : (Jvm.Cond.instanceMethod ({ cls := "SoldWithIt", name := "law", desc := "(II)I" } : Jvm.MethodName)) ∈ lw_all := lw_g (lw_at lw_m3 146 rfl) rfl
theorem q716 : (Jvm.Cond.selects "SoldWithIt" ({ cls := "SoldWithIt", name := "law", desc := "(II)I" } : Jvm.MethodName) ({ cls := "SoldWithIt", name := "law", desc := "(II)I" } : Jvm.MethodName)) ∈ lw_all := lw_g (lw_at lw_m3 147 rfl) rfl
theorem q717 : (Jvm.Cond.code ({ cls := "SoldWithIt", name := "law", desc := "(II)I" } : Jvm.MethodName) prog_1_method_27_code (4 : Nat) (Option.some Jvm.ClassFile.FieldType.int)) ∈ lw_all := lw_g (lw_at lw_m3 148 rfl) rfl
theorem q719 : (Jvm.Cond.instanceMethod ({ cls := "SoldWithIt", name := "sale", desc := "(II)I" } : Jvm.MethodName)) ∈ lw_all := lw_g (lw_at lw_m3 150 rfl) rfl
theorem q720 : (Jvm.Cond.selects "SoldWithIt" ({ cls := "SoldWithIt", name := "sale", desc := "(II)I" } : Jvm.MethodName) ({ cls := "SoldWithIt", name := "sale", desc := "(II)I" } : Jvm.MethodName)) ∈ lw_all := lw_g (lw_at lw_m3 151 rfl) rfl
theorem q721 : (Jvm.Cond.code ({ cls := "SoldWithIt", name := "sale", desc := "(II)I" } : Jvm.MethodName) prog_1_method_28_code (3 : Nat) (Option.some Jvm.ClassFile.FieldType.int)) ∈ lw_all := lw_g (lw_at lw_m3 152 rfl) rfl
theorem q722 : (Jvm.Cond.methodLink "SoldWithIt" (199 : Nat) ({ cls := "SoldWithIt", name := "isOne", desc := "(I)Z" } : Jvm.MethodName)) ∈ lw_all := lw_g (lw_at lw_m3 153 rfl) rfl
theorem q723 : (Jvm.Cond.static ({ cls := "SoldWithIt", name := "isOne", desc := "(I)Z" } : Jvm.MethodName)) ∈ lw_all := lw_g (lw_at lw_m3 154 rfl) rfl
theorem q724 : (Jvm.Cond.code ({ cls := "SoldWithIt", name := "isOne", desc := "(I)Z" } : Jvm.MethodName) prog_1_method_8_code (1 : Nat) (Option.some Jvm.ClassFile.FieldType.boolean)) ∈ lw_all := lw_g (lw_at lw_m3 155 rfl) rfl
theorem q725 : (Jvm.Cond.constantLong "SoldWithIt" (108 : Nat) (7 : Int64)) ∈ lw_all := lw_g (lw_at lw_m3 156 rfl) rfl
theorem q727 : (Jvm.Cond.instanceMethod ({ cls := "SoldWithIt", name := "read", desc := "(I)I" } : Jvm.MethodName)) ∈ lw_all := lw_g (lw_at lw_m3 158 rfl) rfl
theorem q728 : (Jvm.Cond.selects "SoldWithIt" ({ cls := "SoldWithIt", name := "read", desc := "(I)I" } : Jvm.MethodName) ({ cls := "SoldWithIt", name := "read", desc := "(I)I" } : Jvm.MethodName)) ∈ lw_all := lw_g (lw_at lw_m3 159 rfl) rfl
theorem q729 : (Jvm.Cond.code ({ cls := "SoldWithIt", name := "read", desc := "(I)I" } : Jvm.MethodName) prog_1_method_29_code (4 : Nat) (Option.some Jvm.ClassFile.FieldType.int)) ∈ lw_all := lw_g (lw_at lw_m3 160 rfl) rfl
theorem q730 : (Jvm.Cond.methodLink "SoldWithIt" (205 : Nat) ({ cls := "SoldWithIt", name := "isSheet", desc := "(I)Z" } : Jvm.MethodName)) ∈ lw_all := lw_g (lw_at lw_m3 161 rfl) rfl
theorem q731 : (Jvm.Cond.static ({ cls := "SoldWithIt", name := "isSheet", desc := "(I)Z" } : Jvm.MethodName)) ∈ lw_all := lw_g (lw_at lw_m3 162 rfl) rfl
theorem q732 : (Jvm.Cond.code ({ cls := "SoldWithIt", name := "isSheet", desc := "(I)Z" } : Jvm.MethodName) prog_1_method_78_code (1 : Nat) (Option.some Jvm.ClassFile.FieldType.boolean)) ∈ lw_all := lw_g (lw_at lw_m3 163 rfl) rfl
theorem q733 : (Jvm.Cond.constantLong "SoldWithIt" (388 : Nat) (3 : Int64)) ∈ lw_all := lw_g (lw_at lw_m3 164 rfl) rfl
theorem q734 : (Jvm.Cond.methodLink "SoldWithIt" (211 : Nat) ({ cls := "SoldWithIt", name := "met", desc := "(I)I" } : Jvm.MethodName)) ∈ lw_all := lw_g (lw_at lw_m3 165 rfl) rfl
theorem q735 : (Jvm.Cond.privateMethod ({ cls := "SoldWithIt", name := "met", desc := "(I)I" } : Jvm.MethodName)) ∈ lw_tbl := lw_at lw_m3 166 rfl
theorem q736 : (Jvm.Cond.instanceMethod ({ cls := "SoldWithIt", name := "met", desc := "(I)I" } : Jvm.MethodName)) ∈ lw_all := lw_g (lw_at lw_m3 167 rfl) rfl
theorem q737 : (Jvm.Cond.code ({ cls := "SoldWithIt", name := "met", desc := "(I)I" } : Jvm.MethodName) prog_1_method_4_code (2 : Nat) (Option.some Jvm.ClassFile.FieldType.int)) ∈ lw_all := lw_g (lw_at lw_m3 168 rfl) rfl
theorem q738 : (Jvm.Cond.methodLink "SoldWithIt" (214 : Nat) ({ cls := "SoldWithIt$Sheet", name := "size", desc := "()I" } : Jvm.MethodName)) ∈ lw_all := lw_g (lw_at lw_m3 169 rfl) rfl
theorem q749 : (Jvm.Cond.methodLink "SoldWithIt" (215 : Nat) ({ cls := "SoldWithIt$Sheet", name := "type", desc := "()I" } : Jvm.MethodName)) ∈ lw_all := lw_g (lw_at lw_m3 180 rfl) rfl
theorem q750 : (Jvm.Cond.methodLink "SoldWithIt" (217 : Nat) ({ cls := "SoldWithIt$Sheet", name := "item", desc := "(II)I" } : Jvm.MethodName)) ∈ lw_all := lw_g (lw_at lw_m3 181 rfl) rfl
theorem q754 : (Jvm.Cond.methodLink "SoldWithIt" (220 : Nat) ({ cls := "SoldWithIt", name := "sale", desc := "(II)I" } : Jvm.MethodName)) ∈ lw_all := lw_g (lw_at lw_m3 185 rfl) rfl
theorem q756 : (Jvm.Cond.instanceMethod ({ cls := "SoldWithIt", name := "undo", desc := "()I" } : Jvm.MethodName)) ∈ lw_all := lw_g (lw_at lw_m3 187 rfl) rfl
theorem q757 : (Jvm.Cond.selects "SoldWithIt" ({ cls := "SoldWithIt", name := "undo", desc := "()I" } : Jvm.MethodName) ({ cls := "SoldWithIt", name := "undo", desc := "()I" } : Jvm.MethodName)) ∈ lw_all := lw_g (lw_at lw_m3 188 rfl) rfl
theorem q758 : (Jvm.Cond.code ({ cls := "SoldWithIt", name := "undo", desc := "()I" } : Jvm.MethodName) prog_1_method_30_code (1 : Nat) (Option.some Jvm.ClassFile.FieldType.int)) ∈ lw_all := lw_g (lw_at lw_m3 189 rfl) rfl
theorem q760 : (Jvm.Cond.instanceMethod ({ cls := "SoldWithIt", name := "whose", desc := "(II)I" } : Jvm.MethodName)) ∈ lw_all := lw_g (lw_at lw_m3 191 rfl) rfl
theorem q761 : (Jvm.Cond.selects "SoldWithIt" ({ cls := "SoldWithIt", name := "whose", desc := "(II)I" } : Jvm.MethodName) ({ cls := "SoldWithIt", name := "whose", desc := "(II)I" } : Jvm.MethodName)) ∈ lw_all := lw_g (lw_at lw_m3 192 rfl) rfl
theorem q762 : (Jvm.Cond.code ({ cls := "SoldWithIt", name := "whose", desc := "(II)I" } : Jvm.MethodName) prog_1_method_34_code (3 : Nat) (Option.some Jvm.ClassFile.FieldType.int)) ∈ lw_all := lw_g (lw_at lw_m3 193 rfl) rfl
theorem q763 : (Jvm.Cond.methodLink "SoldWithIt" (253 : Nat) ({ cls := "SoldWithIt", name := "isSo", desc := "(I)Z" } : Jvm.MethodName)) ∈ lw_all := lw_g (lw_at lw_m3 194 rfl) rfl
theorem q764 : (Jvm.Cond.privateMethod ({ cls := "SoldWithIt", name := "isSo", desc := "(I)Z" } : Jvm.MethodName)) ∈ lw_tbl := lw_at lw_m3 195 rfl
theorem q765 : (Jvm.Cond.instanceMethod ({ cls := "SoldWithIt", name := "isSo", desc := "(I)Z" } : Jvm.MethodName)) ∈ lw_all := lw_g (lw_at lw_m3 196 rfl) rfl
theorem q766 : (Jvm.Cond.code ({ cls := "SoldWithIt", name := "isSo", desc := "(I)Z" } : Jvm.MethodName) prog_1_method_33_code (2 : Nat) (Option.some Jvm.ClassFile.FieldType.boolean)) ∈ lw_all := lw_g (lw_at lw_m3 197 rfl) rfl
theorem q767 : (Jvm.Cond.methodLink "SoldWithIt" (250 : Nat) ({ cls := "SoldWithIt", name := "find", desc := "()V" } : Jvm.MethodName)) ∈ lw_all := lw_g (lw_at lw_m3 198 rfl) rfl
theorem q768 : (Jvm.Cond.privateMethod ({ cls := "SoldWithIt", name := "find", desc := "()V" } : Jvm.MethodName)) ∈ lw_tbl := lw_at lw_m3 199 rfl
theorem q769 : (Jvm.Cond.instanceMethod ({ cls := "SoldWithIt", name := "find", desc := "()V" } : Jvm.MethodName)) ∈ lw_all := lw_g (lw_at lw_m3 200 rfl) rfl
theorem q770 : (Jvm.Cond.code ({ cls := "SoldWithIt", name := "find", desc := "()V" } : Jvm.MethodName) prog_1_method_32_code (2 : Nat) (Option.none : Option Jvm.ClassFile.FieldType)) ∈ lw_all := lw_g (lw_at lw_m3 201 rfl) rfl
theorem q771 : (Jvm.Cond.methodLink "SoldWithIt" (236 : Nat) ({ cls := "SoldWithIt$Noon", name := "begins", desc := "()LSoldWithIt$Noon;" } : Jvm.MethodName)) ∈ lw_all := lw_g (lw_at lw_m3 202 rfl) rfl
theorem q782 : (Jvm.Cond.methodLink "SoldWithIt" (240 : Nat) ({ cls := "SoldWithIt$Noon", name := "asTold", desc := "()LSoldWithIt$Noon;" } : Jvm.MethodName)) ∈ lw_all := lw_g (lw_at lw_m3 213 rfl) rfl
theorem q787 : (Jvm.Cond.methodLink "SoldWithIt" (243 : Nat) ({ cls := "SoldWithIt", name := "keeps", desc := "(I)V" } : Jvm.MethodName)) ∈ lw_all := lw_g (lw_at lw_m3 218 rfl) rfl
theorem q788 : (Jvm.Cond.privateMethod ({ cls := "SoldWithIt", name := "keeps", desc := "(I)V" } : Jvm.MethodName)) ∈ lw_tbl := lw_at lw_m3 219 rfl
theorem q789 : (Jvm.Cond.instanceMethod ({ cls := "SoldWithIt", name := "keeps", desc := "(I)V" } : Jvm.MethodName)) ∈ lw_all := lw_g (lw_at lw_m3 220 rfl) rfl
theorem q790 : (Jvm.Cond.code ({ cls := "SoldWithIt", name := "keeps", desc := "(I)V" } : Jvm.MethodName) prog_1_method_31_code (2 : Nat) (Option.none : Option Jvm.ClassFile.FieldType)) ∈ lw_all := lw_g (lw_at lw_m3 221 rfl) rfl
theorem q791 : (Jvm.Cond.methodLink "SoldWithIt" (225 : Nat) ({ cls := "java/lang/System", name := "arraycopy", desc := "(Ljava/lang/Object;ILjava/lang/Object;II)V" } : Jvm.MethodName)) ∈ lw_all := lw_g (lw_at lw_m3 222 rfl) rfl
theorem q792 : (Jvm.Cond.methodLink "SoldWithIt" (247 : Nat) ({ cls := "SoldWithIt$Noon", name := "sells", desc := "(II)I" } : Jvm.MethodName)) ∈ lw_all := lw_g (lw_at lw_m3 223 rfl) rfl
theorem q803 : (Jvm.Cond.static ({ cls := "SoldWithIt", name := "isIn", desc := "(II)Z" } : Jvm.MethodName)) ∈ lw_all := lw_g (lw_at lw_m3 234 rfl) rfl
theorem q804 : (Jvm.Cond.code ({ cls := "SoldWithIt", name := "isIn", desc := "(II)Z" } : Jvm.MethodName) prog_1_method_7_code (2 : Nat) (Option.some Jvm.ClassFile.FieldType.boolean)) ∈ lw_all := lw_g (lw_at lw_m3 235 rfl) rfl
theorem q816 : (Jvm.Cond.instanceMethod ({ cls := "SoldWithIt", name := "keeper", desc := "(II)I" } : Jvm.MethodName)) ∈ lw_all := lw_g (lw_at lw_m4 7 rfl) rfl
theorem q817 : (Jvm.Cond.selects "SoldWithIt" ({ cls := "SoldWithIt", name := "keeper", desc := "(II)I" } : Jvm.MethodName) ({ cls := "SoldWithIt", name := "keeper", desc := "(II)I" } : Jvm.MethodName)) ∈ lw_all := lw_g (lw_at lw_m4 8 rfl) rfl
theorem q818 : (Jvm.Cond.code ({ cls := "SoldWithIt", name := "keeper", desc := "(II)I" } : Jvm.MethodName) prog_1_method_35_code (3 : Nat) (Option.some Jvm.ClassFile.FieldType.int)) ∈ lw_all := lw_g (lw_at lw_m4 9 rfl) rfl
theorem q820 : (Jvm.Cond.instanceMethod ({ cls := "SoldWithIt", name := "sold", desc := "(II)I" } : Jvm.MethodName)) ∈ lw_all := lw_g (lw_at lw_m4 11 rfl) rfl
theorem q821 : (Jvm.Cond.selects "SoldWithIt" ({ cls := "SoldWithIt", name := "sold", desc := "(II)I" } : Jvm.MethodName) ({ cls := "SoldWithIt", name := "sold", desc := "(II)I" } : Jvm.MethodName)) ∈ lw_all := lw_g (lw_at lw_m4 12 rfl) rfl
theorem q822 : (Jvm.Cond.code ({ cls := "SoldWithIt", name := "sold", desc := "(II)I" } : Jvm.MethodName) prog_1_method_36_code (3 : Nat) (Option.some Jvm.ClassFile.FieldType.int)) ∈ lw_all := lw_g (lw_at lw_m4 13 rfl) rfl
theorem q824 : (Jvm.Cond.instanceMethod ({ cls := "SoldWithIt", name := "length", desc := "(I)I" } : Jvm.MethodName)) ∈ lw_all := lw_g (lw_at lw_m4 15 rfl) rfl
theorem q825 : (Jvm.Cond.selects "SoldWithIt" ({ cls := "SoldWithIt", name := "length", desc := "(I)I" } : Jvm.MethodName) ({ cls := "SoldWithIt", name := "length", desc := "(I)I" } : Jvm.MethodName)) ∈ lw_all := lw_g (lw_at lw_m4 16 rfl) rfl
theorem q826 : (Jvm.Cond.code ({ cls := "SoldWithIt", name := "length", desc := "(I)I" } : Jvm.MethodName) prog_1_method_38_code (2 : Nat) (Option.some Jvm.ClassFile.FieldType.int)) ∈ lw_all := lw_g (lw_at lw_m4 17 rfl) rfl
theorem q827 : (Jvm.Cond.methodLink "SoldWithIt" (256 : Nat) ({ cls := "SoldWithIt", name := "lengthOf", desc := "(I)I" } : Jvm.MethodName)) ∈ lw_all := lw_g (lw_at lw_m4 18 rfl) rfl
theorem q828 : (Jvm.Cond.privateMethod ({ cls := "SoldWithIt", name := "lengthOf", desc := "(I)I" } : Jvm.MethodName)) ∈ lw_tbl := lw_at lw_m4 19 rfl
theorem q829 : (Jvm.Cond.instanceMethod ({ cls := "SoldWithIt", name := "lengthOf", desc := "(I)I" } : Jvm.MethodName)) ∈ lw_all := lw_g (lw_at lw_m4 20 rfl) rfl
theorem q830 : (Jvm.Cond.code ({ cls := "SoldWithIt", name := "lengthOf", desc := "(I)I" } : Jvm.MethodName) prog_1_method_37_code (2 : Nat) (Option.some Jvm.ClassFile.FieldType.int)) ∈ lw_all := lw_g (lw_at lw_m4 21 rfl) rfl
theorem q832 : (Jvm.Cond.instanceMethod ({ cls := "SoldWithIt", name := "worth", desc := "(III)I" } : Jvm.MethodName)) ∈ lw_all := lw_g (lw_at lw_m4 23 rfl) rfl
theorem q833 : (Jvm.Cond.selects "SoldWithIt" ({ cls := "SoldWithIt", name := "worth", desc := "(III)I" } : Jvm.MethodName) ({ cls := "SoldWithIt", name := "worth", desc := "(III)I" } : Jvm.MethodName)) ∈ lw_all := lw_g (lw_at lw_m4 24 rfl) rfl
theorem q834 : (Jvm.Cond.code ({ cls := "SoldWithIt", name := "worth", desc := "(III)I" } : Jvm.MethodName) prog_1_method_40_code (4 : Nat) (Option.some Jvm.ClassFile.FieldType.int)) ∈ lw_all := lw_g (lw_at lw_m4 25 rfl) rfl
theorem q835 : (Jvm.Cond.methodLink "SoldWithIt" (266 : Nat) ({ cls := "SoldWithIt", name := "tells", desc := "([[IIII)I" } : Jvm.MethodName)) ∈ lw_all := lw_g (lw_at lw_m4 26 rfl) rfl
theorem q836 : (Jvm.Cond.privateMethod ({ cls := "SoldWithIt", name := "tells", desc := "([[IIII)I" } : Jvm.MethodName)) ∈ lw_tbl := lw_at lw_m4 27 rfl
theorem q837 : (Jvm.Cond.instanceMethod ({ cls := "SoldWithIt", name := "tells", desc := "([[IIII)I" } : Jvm.MethodName)) ∈ lw_all := lw_g (lw_at lw_m4 28 rfl) rfl
theorem q838 : (Jvm.Cond.code ({ cls := "SoldWithIt", name := "tells", desc := "([[IIII)I" } : Jvm.MethodName) prog_1_method_39_code (6 : Nat) (Option.some Jvm.ClassFile.FieldType.int)) ∈ lw_all := lw_g (lw_at lw_m4 29 rfl) rfl
theorem q839 : (Jvm.Cond.constantLong "SoldWithIt" (259 : Nat) (-9 : Int64)) ∈ lw_all := lw_g (lw_at lw_m4 30 rfl) rfl
theorem q840 : (Jvm.Cond.constantLong "SoldWithIt" (261 : Nat) (9 : Int64)) ∈ lw_all := lw_g (lw_at lw_m4 31 rfl) rfl
theorem q841 : (Jvm.Cond.methodLink "SoldWithIt" (263 : Nat) ({ cls := "SoldWithIt", name := "any", desc := "(I)I" } : Jvm.MethodName)) ∈ lw_all := lw_g (lw_at lw_m4 32 rfl) rfl
theorem q842 : (Jvm.Cond.static ({ cls := "SoldWithIt", name := "any", desc := "(I)I" } : Jvm.MethodName)) ∈ lw_all := lw_g (lw_at lw_m4 33 rfl) rfl
theorem q843 : (Jvm.Cond.code ({ cls := "SoldWithIt", name := "any", desc := "(I)I" } : Jvm.MethodName) prog_1_method_3_code (1 : Nat) (Option.some Jvm.ClassFile.FieldType.int)) ∈ lw_all := lw_g (lw_at lw_m4 34 rfl) rfl
theorem q844 : (Jvm.Cond.constant "SoldWithIt" (98 : Nat) (-100000 : Int32)) ∈ lw_all := lw_g (lw_at lw_m4 35 rfl) rfl
theorem q846 : (Jvm.Cond.instanceMethod ({ cls := "SoldWithIt", name := "like", desc := "(III)I" } : Jvm.MethodName)) ∈ lw_all := lw_g (lw_at lw_m4 37 rfl) rfl
theorem q847 : (Jvm.Cond.selects "SoldWithIt" ({ cls := "SoldWithIt", name := "like", desc := "(III)I" } : Jvm.MethodName) ({ cls := "SoldWithIt", name := "like", desc := "(III)I" } : Jvm.MethodName)) ∈ lw_all := lw_g (lw_at lw_m4 38 rfl) rfl
theorem q848 : (Jvm.Cond.code ({ cls := "SoldWithIt", name := "like", desc := "(III)I" } : Jvm.MethodName) prog_1_method_41_code (4 : Nat) (Option.some Jvm.ClassFile.FieldType.int)) ∈ lw_all := lw_g (lw_at lw_m4 39 rfl) rfl
theorem q850 : (Jvm.Cond.instanceMethod ({ cls := "SoldWithIt", name := "gain", desc := "(I)I" } : Jvm.MethodName)) ∈ lw_all := lw_g (lw_at lw_m4 41 rfl) rfl
theorem q851 : (Jvm.Cond.selects "SoldWithIt" ({ cls := "SoldWithIt", name := "gain", desc := "(I)I" } : Jvm.MethodName) ({ cls := "SoldWithIt", name := "gain", desc := "(I)I" } : Jvm.MethodName)) ∈ lw_all := lw_g (lw_at lw_m4 42 rfl) rfl
theorem q852 : (Jvm.Cond.code ({ cls := "SoldWithIt", name := "gain", desc := "(I)I" } : Jvm.MethodName) prog_1_method_43_code (2 : Nat) (Option.some Jvm.ClassFile.FieldType.int)) ∈ lw_all := lw_g (lw_at lw_m4 43 rfl) rfl
theorem q853 : (Jvm.Cond.methodLink "SoldWithIt" (273 : Nat) ({ cls := "SoldWithIt", name := "gainOf", desc := "(I)I" } : Jvm.MethodName)) ∈ lw_all := lw_g (lw_at lw_m4 44 rfl) rfl
theorem q854 : (Jvm.Cond.privateMethod ({ cls := "SoldWithIt", name := "gainOf", desc := "(I)I" } : Jvm.MethodName)) ∈ lw_tbl := lw_at lw_m4 45 rfl
theorem q855 : (Jvm.Cond.instanceMethod ({ cls := "SoldWithIt", name := "gainOf", desc := "(I)I" } : Jvm.MethodName)) ∈ lw_all := lw_g (lw_at lw_m4 46 rfl) rfl
theorem q856 : (Jvm.Cond.code ({ cls := "SoldWithIt", name := "gainOf", desc := "(I)I" } : Jvm.MethodName) prog_1_method_42_code (2 : Nat) (Option.some Jvm.ClassFile.FieldType.int)) ∈ lw_all := lw_g (lw_at lw_m4 47 rfl) rfl
theorem q857 : (Jvm.Cond.methodLink "SoldWithIt" (270 : Nat) ({ cls := "SoldWithIt$Noon", name := "gain", desc := "(I)I" } : Jvm.MethodName)) ∈ lw_all := lw_g (lw_at lw_m4 48 rfl) rfl
theorem q862 : (Jvm.Cond.instanceMethod ({ cls := "SoldWithIt", name := "best", desc := "(II)I" } : Jvm.MethodName)) ∈ lw_all := lw_g (lw_at lw_m4 53 rfl) rfl
theorem q863 : (Jvm.Cond.selects "SoldWithIt" ({ cls := "SoldWithIt", name := "best", desc := "(II)I" } : Jvm.MethodName) ({ cls := "SoldWithIt", name := "best", desc := "(II)I" } : Jvm.MethodName)) ∈ lw_all := lw_g (lw_at lw_m4 54 rfl) rfl
theorem q864 : (Jvm.Cond.code ({ cls := "SoldWithIt", name := "best", desc := "(II)I" } : Jvm.MethodName) prog_1_method_50_code (3 : Nat) (Option.some Jvm.ClassFile.FieldType.int)) ∈ lw_all := lw_g (lw_at lw_m4 55 rfl) rfl
theorem q865 : (Jvm.Cond.methodLink "SoldWithIt" (297 : Nat) ({ cls := "SoldWithIt", name := "bestOf", desc := "(II)I" } : Jvm.MethodName)) ∈ lw_all := lw_g (lw_at lw_m4 56 rfl) rfl
theorem q866 : (Jvm.Cond.privateMethod ({ cls := "SoldWithIt", name := "bestOf", desc := "(II)I" } : Jvm.MethodName)) ∈ lw_tbl := lw_at lw_m4 57 rfl
theorem q867 : (Jvm.Cond.instanceMethod ({ cls := "SoldWithIt", name := "bestOf", desc := "(II)I" } : Jvm.MethodName)) ∈ lw_all := lw_g (lw_at lw_m4 58 rfl) rfl
theorem q868 : (Jvm.Cond.code ({ cls := "SoldWithIt", name := "bestOf", desc := "(II)I" } : Jvm.MethodName) prog_1_method_49_code (7 : Nat) (Option.some Jvm.ClassFile.FieldType.int)) ∈ lw_all := lw_g (lw_at lw_m4 59 rfl) rfl
theorem q869 : (Jvm.Cond.methodLink "SoldWithIt" (290 : Nat) ({ cls := "SoldWithIt", name := "rows", desc := "()I" } : Jvm.MethodName)) ∈ lw_all := lw_g (lw_at lw_m4 60 rfl) rfl
theorem q870 : (Jvm.Cond.privateMethod ({ cls := "SoldWithIt", name := "rows", desc := "()I" } : Jvm.MethodName)) ∈ lw_tbl := lw_at lw_m4 61 rfl
theorem q871 : (Jvm.Cond.instanceMethod ({ cls := "SoldWithIt", name := "rows", desc := "()I" } : Jvm.MethodName)) ∈ lw_all := lw_g (lw_at lw_m4 62 rfl) rfl
theorem q872 : (Jvm.Cond.code ({ cls := "SoldWithIt", name := "rows", desc := "()I" } : Jvm.MethodName) prog_1_method_45_code (3 : Nat) (Option.some Jvm.ClassFile.FieldType.int)) ∈ lw_all := lw_g (lw_at lw_m4 63 rfl) rfl
theorem q873 : (Jvm.Cond.methodLink "SoldWithIt" (276 : Nat) ({ cls := "SoldWithIt", name := "places", desc := "()I" } : Jvm.MethodName)) ∈ lw_all := lw_g (lw_at lw_m4 64 rfl) rfl
theorem q874 : (Jvm.Cond.privateMethod ({ cls := "SoldWithIt", name := "places", desc := "()I" } : Jvm.MethodName)) ∈ lw_tbl := lw_at lw_m4 65 rfl
theorem q875 : (Jvm.Cond.instanceMethod ({ cls := "SoldWithIt", name := "places", desc := "()I" } : Jvm.MethodName)) ∈ lw_all := lw_g (lw_at lw_m4 66 rfl) rfl
theorem q876 : (Jvm.Cond.code ({ cls := "SoldWithIt", name := "places", desc := "()I" } : Jvm.MethodName) prog_1_method_44_code (1 : Nat) (Option.some Jvm.ClassFile.FieldType.int)) ∈ lw_all := lw_g (lw_at lw_m4 67 rfl) rfl
theorem q877 : (Jvm.Cond.methodLink "SoldWithIt" (293 : Nat) ({ cls := "SoldWithIt", name := "triedAt", desc := "(I)LSoldWithIt$Noon;" } : Jvm.MethodName)) ∈ lw_all := lw_g (lw_at lw_m4 68 rfl) rfl
theorem q878 : (Jvm.Cond.privateMethod ({ cls := "SoldWithIt", name := "triedAt", desc := "(I)LSoldWithIt$Noon;" } : Jvm.MethodName)) ∈ lw_tbl := lw_at lw_m4 69 rfl
theorem q879 : (Jvm.Cond.instanceMethod ({ cls := "SoldWithIt", name := "triedAt", desc := "(I)LSoldWithIt$Noon;" } : Jvm.MethodName)) ∈ lw_all := lw_g (lw_at lw_m4 70 rfl) rfl
theorem q880 : (Jvm.Cond.code ({ cls := "SoldWithIt", name := "triedAt", desc := "(I)LSoldWithIt$Noon;" } : Jvm.MethodName) prog_1_method_48_code (3 : Nat) (Option.some (Jvm.ClassFile.FieldType.object "SoldWithIt$Noon"))) ∈ lw_all := lw_g (lw_at lw_m4 71 rfl) rfl
theorem q881 : (Jvm.Cond.methodLink "SoldWithIt" (284 : Nat) ({ cls := "SoldWithIt", name := "placeIn", desc := "(II)I" } : Jvm.MethodName)) ∈ lw_all := lw_g (lw_at lw_m4 72 rfl) rfl
theorem q882 : (Jvm.Cond.privateMethod ({ cls := "SoldWithIt", name := "placeIn", desc := "(II)I" } : Jvm.MethodName)) ∈ lw_tbl := lw_at lw_m4 73 rfl
theorem q883 : (Jvm.Cond.instanceMethod ({ cls := "SoldWithIt", name := "placeIn", desc := "(II)I" } : Jvm.MethodName)) ∈ lw_all := lw_g (lw_at lw_m4 74 rfl) rfl
theorem q884 : (Jvm.Cond.code ({ cls := "SoldWithIt", name := "placeIn", desc := "(II)I" } : Jvm.MethodName) prog_1_method_47_code (4 : Nat) (Option.some Jvm.ClassFile.FieldType.int)) ∈ lw_all := lw_g (lw_at lw_m4 75 rfl) rfl
theorem q885 : (Jvm.Cond.methodLink "SoldWithIt" (279 : Nat) ({ cls := "SoldWithIt", name := "weight", desc := "(I)I" } : Jvm.MethodName)) ∈ lw_all := lw_g (lw_at lw_m4 76 rfl) rfl
theorem q886 : (Jvm.Cond.privateMethod ({ cls := "SoldWithIt", name := "weight", desc := "(I)I" } : Jvm.MethodName)) ∈ lw_tbl := lw_at lw_m4 77 rfl
theorem q887 : (Jvm.Cond.instanceMethod ({ cls := "SoldWithIt", name := "weight", desc := "(I)I" } : Jvm.MethodName)) ∈ lw_all := lw_g (lw_at lw_m4 78 rfl) rfl
theorem q888 : (Jvm.Cond.code ({ cls := "SoldWithIt", name := "weight", desc := "(I)I" } : Jvm.MethodName) prog_1_method_46_code (4 : Nat) (Option.some Jvm.ClassFile.FieldType.int)) ∈ lw_all := lw_g (lw_at lw_m4 79 rfl) rfl
theorem q889 : (Jvm.Cond.methodLink "SoldWithIt" (287 : Nat) ({ cls := "SoldWithIt$Noon", name := "sellsAll", desc := "()LSoldWithIt$Noon;" } : Jvm.MethodName)) ∈ lw_all := lw_g (lw_at lw_m4 80 rfl) rfl
theorem q895 : (Jvm.Cond.instanceMethod ({ cls := "SoldWithIt", name := "rest", desc := "(I)I" } : Jvm.MethodName)) ∈ lw_all := lw_g (lw_at lw_m4 86 rfl) rfl
theorem q896 : (Jvm.Cond.selects "SoldWithIt" ({ cls := "SoldWithIt", name := "rest", desc := "(I)I" } : Jvm.MethodName) ({ cls := "SoldWithIt", name := "rest", desc := "(I)I" } : Jvm.MethodName)) ∈ lw_all := lw_g (lw_at lw_m4 87 rfl) rfl
theorem q897 : (Jvm.Cond.code ({ cls := "SoldWithIt", name := "rest", desc := "(I)I" } : Jvm.MethodName) prog_1_method_55_code (2 : Nat) (Option.some Jvm.ClassFile.FieldType.int)) ∈ lw_all := lw_g (lw_at lw_m4 88 rfl) rfl
theorem q898 : (Jvm.Cond.constantLong "SoldWithIt" (313 : Nat) (-2 : Int64)) ∈ lw_all := lw_g (lw_at lw_m4 89 rfl) rfl
theorem q899 : (Jvm.Cond.methodLink "SoldWithIt" (315 : Nat) ({ cls := "SoldWithIt", name := "restOf", desc := "(I)I" } : Jvm.MethodName)) ∈ lw_all := lw_g (lw_at lw_m4 90 rfl) rfl
theorem q900 : (Jvm.Cond.privateMethod ({ cls := "SoldWithIt", name := "restOf", desc := "(I)I" } : Jvm.MethodName)) ∈ lw_tbl := lw_at lw_m4 91 rfl
theorem q901 : (Jvm.Cond.instanceMethod ({ cls := "SoldWithIt", name := "restOf", desc := "(I)I" } : Jvm.MethodName)) ∈ lw_all := lw_g (lw_at lw_m4 92 rfl) rfl
theorem q902 : (Jvm.Cond.code ({ cls := "SoldWithIt", name := "restOf", desc := "(I)I" } : Jvm.MethodName) prog_1_method_54_code (6 : Nat) (Option.some Jvm.ClassFile.FieldType.int)) ∈ lw_all := lw_g (lw_at lw_m4 93 rfl) rfl
theorem q903 : (Jvm.Cond.methodLink "SoldWithIt" (307 : Nat) ({ cls := "SoldWithIt", name := "findKept", desc := "()V" } : Jvm.MethodName)) ∈ lw_all := lw_g (lw_at lw_m4 94 rfl) rfl
theorem q904 : (Jvm.Cond.privateMethod ({ cls := "SoldWithIt", name := "findKept", desc := "()V" } : Jvm.MethodName)) ∈ lw_tbl := lw_at lw_m4 95 rfl
theorem q905 : (Jvm.Cond.instanceMethod ({ cls := "SoldWithIt", name := "findKept", desc := "()V" } : Jvm.MethodName)) ∈ lw_all := lw_g (lw_at lw_m4 96 rfl) rfl
theorem q906 : (Jvm.Cond.code ({ cls := "SoldWithIt", name := "findKept", desc := "()V" } : Jvm.MethodName) prog_1_method_51_code (3 : Nat) (Option.none : Option Jvm.ClassFile.FieldType)) ∈ lw_all := lw_g (lw_at lw_m4 97 rfl) rfl
theorem q907 : (Jvm.Cond.methodLink "SoldWithIt" (310 : Nat) ({ cls := "SoldWithIt", name := "rests", desc := "(I)Z" } : Jvm.MethodName)) ∈ lw_all := lw_g (lw_at lw_m4 98 rfl) rfl
theorem q908 : (Jvm.Cond.privateMethod ({ cls := "SoldWithIt", name := "rests", desc := "(I)Z" } : Jvm.MethodName)) ∈ lw_tbl := lw_at lw_m4 99 rfl
theorem q909 : (Jvm.Cond.instanceMethod ({ cls := "SoldWithIt", name := "rests", desc := "(I)Z" } : Jvm.MethodName)) ∈ lw_all := lw_g (lw_at lw_m4 100 rfl) rfl
theorem q910 : (Jvm.Cond.code ({ cls := "SoldWithIt", name := "rests", desc := "(I)Z" } : Jvm.MethodName) prog_1_method_53_code (5 : Nat) (Option.some Jvm.ClassFile.FieldType.boolean)) ∈ lw_all := lw_g (lw_at lw_m4 101 rfl) rfl
theorem q911 : (Jvm.Cond.methodLink "SoldWithIt" (300 : Nat) ({ cls := "SoldWithIt$Person", name := "isLocked", desc := "()Z" } : Jvm.MethodName)) ∈ lw_all := lw_g (lw_at lw_m4 102 rfl) rfl
theorem q915 : (Jvm.Cond.methodLink "SoldWithIt" (304 : Nat) ({ cls := "SoldWithIt", name := "liking", desc := "(II)I" } : Jvm.MethodName)) ∈ lw_all := lw_g (lw_at lw_m4 106 rfl) rfl
theorem q916 : (Jvm.Cond.privateMethod ({ cls := "SoldWithIt", name := "liking", desc := "(II)I" } : Jvm.MethodName)) ∈ lw_tbl := lw_at lw_m4 107 rfl
theorem q917 : (Jvm.Cond.instanceMethod ({ cls := "SoldWithIt", name := "liking", desc := "(II)I" } : Jvm.MethodName)) ∈ lw_all := lw_g (lw_at lw_m4 108 rfl) rfl
theorem q918 : (Jvm.Cond.code ({ cls := "SoldWithIt", name := "liking", desc := "(II)I" } : Jvm.MethodName) prog_1_method_52_code (3 : Nat) (Option.some Jvm.ClassFile.FieldType.int)) ∈ lw_all := lw_g (lw_at lw_m4 109 rfl) rfl
theorem q920 : (Jvm.Cond.instanceMethod ({ cls := "SoldWithIt", name := "out", desc := "(I)I" } : Jvm.MethodName)) ∈ lw_all := lw_g (lw_at lw_m4 111 rfl) rfl
theorem q921 : (Jvm.Cond.selects "SoldWithIt" ({ cls := "SoldWithIt", name := "out", desc := "(I)I" } : Jvm.MethodName) ({ cls := "SoldWithIt", name := "out", desc := "(I)I" } : Jvm.MethodName)) ∈ lw_all := lw_g (lw_at lw_m4 112 rfl) rfl
theorem q922 : (Jvm.Cond.code ({ cls := "SoldWithIt", name := "out", desc := "(I)I" } : Jvm.MethodName) prog_1_method_58_code (2 : Nat) (Option.some Jvm.ClassFile.FieldType.int)) ∈ lw_all := lw_g (lw_at lw_m4 113 rfl) rfl
theorem q923 : (Jvm.Cond.methodLink "SoldWithIt" (329 : Nat) ({ cls := "SoldWithIt", name := "outOf", desc := "(I)I" } : Jvm.MethodName)) ∈ lw_all := lw_g (lw_at lw_m4 114 rfl) rfl
theorem q924 : (Jvm.Cond.privateMethod ({ cls := "SoldWithIt", name := "outOf", desc := "(I)I" } : Jvm.MethodName)) ∈ lw_tbl := lw_at lw_m4 115 rfl
theorem q925 : (Jvm.Cond.instanceMethod ({ cls := "SoldWithIt", name := "outOf", desc := "(I)I" } : Jvm.MethodName)) ∈ lw_all := lw_g (lw_at lw_m4 116 rfl) rfl
theorem q926 : (Jvm.Cond.code ({ cls := "SoldWithIt", name := "outOf", desc := "(I)I" } : Jvm.MethodName) prog_1_method_57_code (5 : Nat) (Option.some Jvm.ClassFile.FieldType.int)) ∈ lw_all := lw_g (lw_at lw_m4 117 rfl) rfl
theorem q927 : (Jvm.Cond.methodLink "SoldWithIt" (318 : Nat) ({ cls := "SoldWithIt", name := "isTold", desc := "(I)Z" } : Jvm.MethodName)) ∈ lw_all := lw_g (lw_at lw_m4 118 rfl) rfl
theorem q928 : (Jvm.Cond.privateMethod ({ cls := "SoldWithIt", name := "isTold", desc := "(I)Z" } : Jvm.MethodName)) ∈ lw_tbl := lw_at lw_m4 119 rfl
theorem q929 : (Jvm.Cond.instanceMethod ({ cls := "SoldWithIt", name := "isTold", desc := "(I)Z" } : Jvm.MethodName)) ∈ lw_all := lw_g (lw_at lw_m4 120 rfl) rfl
theorem q930 : (Jvm.Cond.code ({ cls := "SoldWithIt", name := "isTold", desc := "(I)Z" } : Jvm.MethodName) prog_1_method_56_code (4 : Nat) (Option.some Jvm.ClassFile.FieldType.boolean)) ∈ lw_all := lw_g (lw_at lw_m4 121 rfl) rfl
theorem q931 : (Jvm.Cond.methodLink "SoldWithIt" (321 : Nat) ({ cls := "java/lang/Math", name := "min", desc := "(II)I" } : Jvm.MethodName)) ∈ lw_all := lw_g (lw_at lw_m4 122 rfl) rfl
theorem q932 : (Jvm.Cond.methodLink "SoldWithIt" (326 : Nat) ({ cls := "java/lang/Math", name := "abs", desc := "(I)I" } : Jvm.MethodName)) ∈ lw_all := lw_g (lw_at lw_m4 123 rfl) rfl
theorem q936 : (Jvm.Cond.instanceMethod ({ cls := "SoldWithIt", name := "value", desc := "(II)I" } : Jvm.MethodName)) ∈ lw_all := lw_g (lw_at lw_m4 127 rfl) rfl
theorem q937 : (Jvm.Cond.selects "SoldWithIt" ({ cls := "SoldWithIt", name := "value", desc := "(II)I" } : Jvm.MethodName) ({ cls := "SoldWithIt", name := "value", desc := "(II)I" } : Jvm.MethodName)) ∈ lw_all := lw_g (lw_at lw_m4 128 rfl) rfl
theorem q938 : (Jvm.Cond.code ({ cls := "SoldWithIt", name := "value", desc := "(II)I" } : Jvm.MethodName) prog_1_method_60_code (3 : Nat) (Option.some Jvm.ClassFile.FieldType.int)) ∈ lw_all := lw_g (lw_at lw_m4 129 rfl) rfl
theorem q939 : (Jvm.Cond.methodLink "SoldWithIt" (332 : Nat) ({ cls := "SoldWithIt", name := "valueOf", desc := "(II)I" } : Jvm.MethodName)) ∈ lw_all := lw_g (lw_at lw_m4 130 rfl) rfl
theorem q940 : (Jvm.Cond.privateMethod ({ cls := "SoldWithIt", name := "valueOf", desc := "(II)I" } : Jvm.MethodName)) ∈ lw_tbl := lw_at lw_m4 131 rfl
theorem q941 : (Jvm.Cond.instanceMethod ({ cls := "SoldWithIt", name := "valueOf", desc := "(II)I" } : Jvm.MethodName)) ∈ lw_all := lw_g (lw_at lw_m4 132 rfl) rfl
theorem q942 : (Jvm.Cond.code ({ cls := "SoldWithIt", name := "valueOf", desc := "(II)I" } : Jvm.MethodName) prog_1_method_59_code (5 : Nat) (Option.some Jvm.ClassFile.FieldType.int)) ∈ lw_all := lw_g (lw_at lw_m4 133 rfl) rfl
theorem q944 : (Jvm.Cond.instanceMethod ({ cls := "SoldWithIt", name := "change", desc := "(II)I" } : Jvm.MethodName)) ∈ lw_all := lw_g (lw_at lw_m4 135 rfl) rfl
theorem q945 : (Jvm.Cond.selects "SoldWithIt" ({ cls := "SoldWithIt", name := "change", desc := "(II)I" } : Jvm.MethodName) ({ cls := "SoldWithIt", name := "change", desc := "(II)I" } : Jvm.MethodName)) ∈ lw_all := lw_g (lw_at lw_m4 136 rfl) rfl
theorem q946 : (Jvm.Cond.code ({ cls := "SoldWithIt", name := "change", desc := "(II)I" } : Jvm.MethodName) prog_1_method_62_code (3 : Nat) (Option.some Jvm.ClassFile.FieldType.int)) ∈ lw_all := lw_g (lw_at lw_m4 137 rfl) rfl
theorem q947 : (Jvm.Cond.methodLink "SoldWithIt" (335 : Nat) ({ cls := "SoldWithIt", name := "wouldChange", desc := "(II)Z" } : Jvm.MethodName)) ∈ lw_all := lw_g (lw_at lw_m4 138 rfl) rfl
theorem q948 : (Jvm.Cond.privateMethod ({ cls := "SoldWithIt", name := "wouldChange", desc := "(II)Z" } : Jvm.MethodName)) ∈ lw_tbl := lw_at lw_m4 139 rfl
theorem q949 : (Jvm.Cond.instanceMethod ({ cls := "SoldWithIt", name := "wouldChange", desc := "(II)Z" } : Jvm.MethodName)) ∈ lw_all := lw_g (lw_at lw_m4 140 rfl) rfl
theorem q950 : (Jvm.Cond.code ({ cls := "SoldWithIt", name := "wouldChange", desc := "(II)Z" } : Jvm.MethodName) prog_1_method_61_code (5 : Nat) (Option.some Jvm.ClassFile.FieldType.boolean)) ∈ lw_all := lw_g (lw_at lw_m4 141 rfl) rfl
theorem q952 : (Jvm.Cond.instanceMethod ({ cls := "SoldWithIt", name := "changes", desc := "()I" } : Jvm.MethodName)) ∈ lw_all := lw_g (lw_at lw_m4 143 rfl) rfl
theorem q953 : (Jvm.Cond.selects "SoldWithIt" ({ cls := "SoldWithIt", name := "changes", desc := "()I" } : Jvm.MethodName) ({ cls := "SoldWithIt", name := "changes", desc := "()I" } : Jvm.MethodName)) ∈ lw_all := lw_g (lw_at lw_m4 144 rfl) rfl
theorem q954 : (Jvm.Cond.code ({ cls := "SoldWithIt", name := "changes", desc := "()I" } : Jvm.MethodName) prog_1_method_64_code (1 : Nat) (Option.some Jvm.ClassFile.FieldType.int)) ∈ lw_all := lw_g (lw_at lw_m4 145 rfl) rfl
theorem q955 : (Jvm.Cond.methodLink "SoldWithIt" (339 : Nat) ({ cls := "SoldWithIt", name := "changesNow", desc := "()I" } : Jvm.MethodName)) ∈ lw_all := lw_g (lw_at lw_m4 146 rfl) rfl
theorem q956 : (Jvm.Cond.privateMethod ({ cls := "SoldWithIt", name := "changesNow", desc := "()I" } : Jvm.MethodName)) ∈ lw_tbl := lw_at lw_m4 147 rfl
theorem q957 : (Jvm.Cond.instanceMethod ({ cls := "SoldWithIt", name := "changesNow", desc := "()I" } : Jvm.MethodName)) ∈ lw_all := lw_g (lw_at lw_m4 148 rfl) rfl
theorem q958 : (Jvm.Cond.code ({ cls := "SoldWithIt", name := "changesNow", desc := "()I" } : Jvm.MethodName) prog_1_method_63_code (4 : Nat) (Option.some Jvm.ClassFile.FieldType.int)) ∈ lw_all := lw_g (lw_at lw_m4 149 rfl) rfl
theorem q960 : (Jvm.Cond.instanceMethod ({ cls := "SoldWithIt", name := "should", desc := "(I)I" } : Jvm.MethodName)) ∈ lw_all := lw_g (lw_at lw_m4 151 rfl) rfl
theorem q961 : (Jvm.Cond.selects "SoldWithIt" ({ cls := "SoldWithIt", name := "should", desc := "(I)I" } : Jvm.MethodName) ({ cls := "SoldWithIt", name := "should", desc := "(I)I" } : Jvm.MethodName)) ∈ lw_all := lw_g (lw_at lw_m4 152 rfl) rfl
theorem q962 : (Jvm.Cond.code ({ cls := "SoldWithIt", name := "should", desc := "(I)I" } : Jvm.MethodName) prog_1_method_65_code (5 : Nat) (Option.some Jvm.ClassFile.FieldType.int)) ∈ lw_all := lw_g (lw_at lw_m4 153 rfl) rfl
theorem q963 : (Jvm.Cond.methodLink "SoldWithIt" (342 : Nat) ({ cls := "SoldWithIt$Sales", name := "runs", desc := "()LSoldWithIt$Sales;" } : Jvm.MethodName)) ∈ lw_all := lw_g (lw_at lw_m4 154 rfl) rfl
theorem q986 : (Jvm.Cond.instanceMethod ({ cls := "SoldWithIt", name := "come", desc := "(II)I" } : Jvm.MethodName)) ∈ lw_all := lw_g (lw_at lw_m4 177 rfl) rfl
theorem q987 : (Jvm.Cond.selects "SoldWithIt" ({ cls := "SoldWithIt", name := "come", desc := "(II)I" } : Jvm.MethodName) ({ cls := "SoldWithIt", name := "come", desc := "(II)I" } : Jvm.MethodName)) ∈ lw_all := lw_g (lw_at lw_m4 178 rfl) rfl
theorem q988 : (Jvm.Cond.code ({ cls := "SoldWithIt", name := "come", desc := "(II)I" } : Jvm.MethodName) prog_1_method_67_code (3 : Nat) (Option.some Jvm.ClassFile.FieldType.int)) ∈ lw_all := lw_g (lw_at lw_m4 179 rfl) rfl
theorem q989 : (Jvm.Cond.methodLink "SoldWithIt" (349 : Nat) ({ cls := "SoldWithIt", name := "isIn", desc := "(II)Z" } : Jvm.MethodName)) ∈ lw_all := lw_g (lw_at lw_m4 180 rfl) rfl
theorem q990 : (Jvm.Cond.methodLink "SoldWithIt" (352 : Nat) ({ cls := "SoldWithIt", name := "comers", desc := "(II)I" } : Jvm.MethodName)) ∈ lw_all := lw_g (lw_at lw_m4 181 rfl) rfl
theorem q991 : (Jvm.Cond.privateMethod ({ cls := "SoldWithIt", name := "comers", desc := "(II)I" } : Jvm.MethodName)) ∈ lw_tbl := lw_at lw_m4 182 rfl
theorem q992 : (Jvm.Cond.instanceMethod ({ cls := "SoldWithIt", name := "comers", desc := "(II)I" } : Jvm.MethodName)) ∈ lw_all := lw_g (lw_at lw_m4 183 rfl) rfl
theorem q993 : (Jvm.Cond.code ({ cls := "SoldWithIt", name := "comers", desc := "(II)I" } : Jvm.MethodName) prog_1_method_66_code (7 : Nat) (Option.some Jvm.ClassFile.FieldType.int)) ∈ lw_all := lw_g (lw_at lw_m4 184 rfl) rfl
theorem q995 : (Jvm.Cond.instanceMethod ({ cls := "SoldWithIt", name := "invite", desc := "(II)I" } : Jvm.MethodName)) ∈ lw_all := lw_g (lw_at lw_m4 186 rfl) rfl
theorem q996 : (Jvm.Cond.selects "SoldWithIt" ({ cls := "SoldWithIt", name := "invite", desc := "(II)I" } : Jvm.MethodName) ({ cls := "SoldWithIt", name := "invite", desc := "(II)I" } : Jvm.MethodName)) ∈ lw_all := lw_g (lw_at lw_m4 187 rfl) rfl
theorem q997 : (Jvm.Cond.code ({ cls := "SoldWithIt", name := "invite", desc := "(II)I" } : Jvm.MethodName) prog_1_method_69_code (3 : Nat) (Option.some Jvm.ClassFile.FieldType.int)) ∈ lw_all := lw_g (lw_at lw_m4 188 rfl) rfl
theorem q998 : (Jvm.Cond.methodLink "SoldWithIt" (358 : Nat) ({ cls := "SoldWithIt", name := "inviteOf", desc := "(II)I" } : Jvm.MethodName)) ∈ lw_all := lw_g (lw_at lw_m4 189 rfl) rfl
theorem q999 : (Jvm.Cond.privateMethod ({ cls := "SoldWithIt", name := "inviteOf", desc := "(II)I" } : Jvm.MethodName)) ∈ lw_tbl := lw_at lw_m4 190 rfl
theorem q1000 : (Jvm.Cond.instanceMethod ({ cls := "SoldWithIt", name := "inviteOf", desc := "(II)I" } : Jvm.MethodName)) ∈ lw_all := lw_g (lw_at lw_m4 191 rfl) rfl
theorem q1001 : (Jvm.Cond.code ({ cls := "SoldWithIt", name := "inviteOf", desc := "(II)I" } : Jvm.MethodName) prog_1_method_68_code (6 : Nat) (Option.some Jvm.ClassFile.FieldType.int)) ∈ lw_all := lw_g (lw_at lw_m4 192 rfl) rfl
theorem q1002 : (Jvm.Cond.methodLink "SoldWithIt" (355 : Nat) ({ cls := "java/lang/Integer", name := "bitCount", desc := "(I)I" } : Jvm.MethodName)) ∈ lw_all := lw_g (lw_at lw_m4 193 rfl) rfl
theorem q1004 : (Jvm.Cond.instanceMethod ({ cls := "SoldWithIt", name := "fact", desc := "(II)I" } : Jvm.MethodName)) ∈ lw_all := lw_g (lw_at lw_m4 195 rfl) rfl
theorem q1005 : (Jvm.Cond.selects "SoldWithIt" ({ cls := "SoldWithIt", name := "fact", desc := "(II)I" } : Jvm.MethodName) ({ cls := "SoldWithIt", name := "fact", desc := "(II)I" } : Jvm.MethodName)) ∈ lw_all := lw_g (lw_at lw_m4 196 rfl) rfl
theorem q1006 : (Jvm.Cond.code ({ cls := "SoldWithIt", name := "fact", desc := "(II)I" } : Jvm.MethodName) prog_1_method_70_code (3 : Nat) (Option.some Jvm.ClassFile.FieldType.int)) ∈ lw_all := lw_g (lw_at lw_m4 197 rfl) rfl
theorem q1007 : (Jvm.Cond.methodLink "SoldWithIt" (361 : Nat) ({ cls := "java/util/ArrayList", name := "size", desc := "()I" } : Jvm.MethodName)) ∈ lw_all := lw_g (lw_at lw_m4 198 rfl) rfl
theorem q1008 : (Jvm.Cond.methodLink "SoldWithIt" (362 : Nat) ({ cls := "java/util/ArrayList", name := "add", desc := "(Ljava/lang/Object;)Z" } : Jvm.MethodName)) ∈ lw_all := lw_g (lw_at lw_m4 199 rfl) rfl
theorem q1010 : (Jvm.Cond.instanceMethod ({ cls := "SoldWithIt", name := "forget", desc := "()I" } : Jvm.MethodName)) ∈ lw_all := lw_g (lw_at lw_m4 201 rfl) rfl
theorem q1011 : (Jvm.Cond.selects "SoldWithIt" ({ cls := "SoldWithIt", name := "forget", desc := "()I" } : Jvm.MethodName) ({ cls := "SoldWithIt", name := "forget", desc := "()I" } : Jvm.MethodName)) ∈ lw_all := lw_g (lw_at lw_m4 202 rfl) rfl
theorem q1012 : (Jvm.Cond.code ({ cls := "SoldWithIt", name := "forget", desc := "()I" } : Jvm.MethodName) prog_1_method_71_code (2 : Nat) (Option.some Jvm.ClassFile.FieldType.int)) ∈ lw_all := lw_g (lw_at lw_m4 203 rfl) rfl
theorem q1013 : (Jvm.Cond.methodLink "SoldWithIt" (366 : Nat) ({ cls := "java/util/ArrayList", name := "clear", desc := "()V" } : Jvm.MethodName)) ∈ lw_all := lw_g (lw_at lw_m4 204 rfl) rfl
theorem q1015 : (Jvm.Cond.instanceMethod ({ cls := "SoldWithIt", name := "were", desc := "(I)I" } : Jvm.MethodName)) ∈ lw_all := lw_g (lw_at lw_m4 206 rfl) rfl
theorem q1016 : (Jvm.Cond.selects "SoldWithIt" ({ cls := "SoldWithIt", name := "were", desc := "(I)I" } : Jvm.MethodName) ({ cls := "SoldWithIt", name := "were", desc := "(I)I" } : Jvm.MethodName)) ∈ lw_all := lw_g (lw_at lw_m4 207 rfl) rfl
theorem q1017 : (Jvm.Cond.code ({ cls := "SoldWithIt", name := "were", desc := "(I)I" } : Jvm.MethodName) prog_1_method_75_code (2 : Nat) (Option.some Jvm.ClassFile.FieldType.int)) ∈ lw_all := lw_g (lw_at lw_m4 208 rfl) rfl
theorem q1018 : (Jvm.Cond.constantLong "SoldWithIt" (380 : Nat) (-1 : Int64)) ∈ lw_all := lw_g (lw_at lw_m4 209 rfl) rfl
theorem q1019 : (Jvm.Cond.methodLink "SoldWithIt" (382 : Nat) ({ cls := "SoldWithIt", name := "wereOf", desc := "(I)I" } : Jvm.MethodName)) ∈ lw_all := lw_g (lw_at lw_m4 210 rfl) rfl
theorem q1020 : (Jvm.Cond.privateMethod ({ cls := "SoldWithIt", name := "wereOf", desc := "(I)I" } : Jvm.MethodName)) ∈ lw_tbl := lw_at lw_m4 211 rfl
theorem q1021 : (Jvm.Cond.instanceMethod ({ cls := "SoldWithIt", name := "wereOf", desc := "(I)I" } : Jvm.MethodName)) ∈ lw_all := lw_g (lw_at lw_m4 212 rfl) rfl
theorem q1022 : (Jvm.Cond.code ({ cls := "SoldWithIt", name := "wereOf", desc := "(I)I" } : Jvm.MethodName) prog_1_method_74_code (3 : Nat) (Option.some Jvm.ClassFile.FieldType.int)) ∈ lw_all := lw_g (lw_at lw_m4 213 rfl) rfl
theorem q1023 : (Jvm.Cond.methodLink "SoldWithIt" (377 : Nat) ({ cls := "SoldWithIt", name := "findBeen", desc := "()I" } : Jvm.MethodName)) ∈ lw_all := lw_g (lw_at lw_m4 214 rfl) rfl
theorem q1024 : (Jvm.Cond.privateMethod ({ cls := "SoldWithIt", name := "findBeen", desc := "()I" } : Jvm.MethodName)) ∈ lw_tbl := lw_at lw_m4 215 rfl
theorem q1025 : (Jvm.Cond.instanceMethod ({ cls := "SoldWithIt", name := "findBeen", desc := "()I" } : Jvm.MethodName)) ∈ lw_all := lw_g (lw_at lw_m4 216 rfl) rfl
theorem q1026 : (Jvm.Cond.code ({ cls := "SoldWithIt", name := "findBeen", desc := "()I" } : Jvm.MethodName) prog_1_method_73_code (5 : Nat) (Option.some Jvm.ClassFile.FieldType.int)) ∈ lw_all := lw_g (lw_at lw_m4 217 rfl) rfl
theorem q1027 : (Jvm.Cond.methodLink "SoldWithIt" (373 : Nat) ({ cls := "SoldWithIt", name := "fits", desc := "(LSoldWithIt$Noon;)Z" } : Jvm.MethodName)) ∈ lw_all := lw_g (lw_at lw_m4 218 rfl) rfl
theorem q1028 : (Jvm.Cond.privateMethod ({ cls := "SoldWithIt", name := "fits", desc := "(LSoldWithIt$Noon;)Z" } : Jvm.MethodName)) ∈ lw_tbl := lw_at lw_m4 219 rfl
theorem q1029 : (Jvm.Cond.instanceMethod ({ cls := "SoldWithIt", name := "fits", desc := "(LSoldWithIt$Noon;)Z" } : Jvm.MethodName)) ∈ lw_all := lw_g (lw_at lw_m4 220 rfl) rfl
theorem q1030 : (Jvm.Cond.code ({ cls := "SoldWithIt", name := "fits", desc := "(LSoldWithIt$Noon;)Z" } : Jvm.MethodName) prog_1_method_72_code (4 : Nat) (Option.some Jvm.ClassFile.FieldType.boolean)) ∈ lw_all := lw_g (lw_at lw_m4 221 rfl) rfl
theorem q1031 : (Jvm.Cond.methodLink "SoldWithIt" (369 : Nat) ({ cls := "java/util/ArrayList", name := "get", desc := "(I)Ljava/lang/Object;" } : Jvm.MethodName)) ∈ lw_all := lw_g (lw_at lw_m4 222 rfl) rfl
theorem q1032 : (Jvm.Cond.classLink "SoldWithIt" (372 : Nat) "[I") ∈ lw_all := lw_g (lw_at lw_m4 223 rfl) rfl
theorem q1034 : (Jvm.Cond.instanceMethod ({ cls := "SoldWithIt", name := "bed", desc := "()I" } : Jvm.MethodName)) ∈ lw_all := lw_g (lw_at lw_m4 225 rfl) rfl
theorem q1035 : (Jvm.Cond.selects "SoldWithIt" ({ cls := "SoldWithIt", name := "bed", desc := "()I" } : Jvm.MethodName) ({ cls := "SoldWithIt", name := "bed", desc := "()I" } : Jvm.MethodName)) ∈ lw_all := lw_g (lw_at lw_m4 226 rfl) rfl
theorem q1036 : (Jvm.Cond.code ({ cls := "SoldWithIt", name := "bed", desc := "()I" } : Jvm.MethodName) prog_1_method_77_code (1 : Nat) (Option.some Jvm.ClassFile.FieldType.int)) ∈ lw_all := lw_g (lw_at lw_m4 227 rfl) rfl
theorem q1037 : (Jvm.Cond.methodLink "SoldWithIt" (385 : Nat) ({ cls := "SoldWithIt", name := "bedNow", desc := "()I" } : Jvm.MethodName)) ∈ lw_all := lw_g (lw_at lw_m4 228 rfl) rfl
theorem q1038 : (Jvm.Cond.privateMethod ({ cls := "SoldWithIt", name := "bedNow", desc := "()I" } : Jvm.MethodName)) ∈ lw_tbl := lw_at lw_m4 229 rfl
theorem q1039 : (Jvm.Cond.instanceMethod ({ cls := "SoldWithIt", name := "bedNow", desc := "()I" } : Jvm.MethodName)) ∈ lw_all := lw_g (lw_at lw_m4 230 rfl) rfl
theorem q1040 : (Jvm.Cond.code ({ cls := "SoldWithIt", name := "bedNow", desc := "()I" } : Jvm.MethodName) prog_1_method_76_code (3 : Nat) (Option.some Jvm.ClassFile.FieldType.int)) ∈ lw_all := lw_g (lw_at lw_m4 231 rfl) rfl
theorem q1042 : (Jvm.Cond.instanceMethod ({ cls := "SoldWithIt", name := "sheet", desc := "(III)I" } : Jvm.MethodName)) ∈ lw_all := lw_g (lw_at lw_m4 233 rfl) rfl
theorem q1043 : (Jvm.Cond.selects "SoldWithIt" ({ cls := "SoldWithIt", name := "sheet", desc := "(III)I" } : Jvm.MethodName) ({ cls := "SoldWithIt", name := "sheet", desc := "(III)I" } : Jvm.MethodName)) ∈ lw_all := lw_g (lw_at lw_m4 234 rfl) rfl
theorem q1044 : (Jvm.Cond.codeWith ({ cls := "SoldWithIt", name := "sheet", desc := "(III)I" } : Jvm.MethodName) prog_1_method_80_code (5 : Nat) (Option.some Jvm.ClassFile.FieldType.int) [((28 : Nat), (43 : Nat), (44 : Nat), (394 : Nat))]) ∈ lw_all := lw_g (lw_at lw_m4 235 rfl) rfl
theorem q1045 : (Jvm.Cond.classLink "SoldWithIt" (394 : Nat) "java/lang/NegativeArraySizeException") ∈ lw_all := lw_g (lw_at lw_m4 236 rfl) rfl
theorem q1075 : (Jvm.Cond.methodLink "SoldWithIt" (390 : Nat) ({ cls := "SoldWithIt", name := "rowOf", desc := "(II)Ljava/lang/Object;" } : Jvm.MethodName)) ∈ lw_all := lw_g (lw_at lw_m5 26 rfl) rfl
theorem q1076 : (Jvm.Cond.static ({ cls := "SoldWithIt", name := "rowOf", desc := "(II)Ljava/lang/Object;" } : Jvm.MethodName)) ∈ lw_all := lw_g (lw_at lw_m5 27 rfl) rfl
theorem q1077 : (Jvm.Cond.code ({ cls := "SoldWithIt", name := "rowOf", desc := "(II)Ljava/lang/Object;" } : Jvm.MethodName) prog_1_method_79_code (2 : Nat) (Option.some (Jvm.ClassFile.FieldType.object "java/lang/Object"))) ∈ lw_all := lw_g (lw_at lw_m5 28 rfl) rfl
theorem q1080 : (Jvm.Cond.instanceMethod ({ cls := "SoldWithIt", name := "lose", desc := "(I)I" } : Jvm.MethodName)) ∈ lw_all := lw_g (lw_at lw_m5 31 rfl) rfl
theorem q1081 : (Jvm.Cond.selects "SoldWithIt" ({ cls := "SoldWithIt", name := "lose", desc := "(I)I" } : Jvm.MethodName) ({ cls := "SoldWithIt", name := "lose", desc := "(I)I" } : Jvm.MethodName)) ∈ lw_all := lw_g (lw_at lw_m5 32 rfl) rfl
theorem q1082 : (Jvm.Cond.code ({ cls := "SoldWithIt", name := "lose", desc := "(I)I" } : Jvm.MethodName) prog_1_method_81_code (3 : Nat) (Option.some Jvm.ClassFile.FieldType.int)) ∈ lw_all := lw_g (lw_at lw_m5 33 rfl) rfl
theorem q1084 : (Jvm.Cond.instanceMethod ({ cls := "SoldWithIt", name := "put", desc := "(IIII)I" } : Jvm.MethodName)) ∈ lw_all := lw_g (lw_at lw_m5 35 rfl) rfl
theorem q1085 : (Jvm.Cond.selects "SoldWithIt" ({ cls := "SoldWithIt", name := "put", desc := "(IIII)I" } : Jvm.MethodName) ({ cls := "SoldWithIt", name := "put", desc := "(IIII)I" } : Jvm.MethodName)) ∈ lw_all := lw_g (lw_at lw_m5 36 rfl) rfl
theorem q1086 : (Jvm.Cond.codeWith ({ cls := "SoldWithIt", name := "put", desc := "(IIII)I" } : Jvm.MethodName) prog_1_method_82_code (6 : Nat) (Option.some Jvm.ClassFile.FieldType.int) [((40 : Nat), (54 : Nat), (55 : Nat), (400 : Nat)), ((40 : Nat), (54 : Nat), (63 : Nat), (402 : Nat))]) ∈ lw_all := lw_g (lw_at lw_m5 37 rfl) rfl
theorem q1087 : (Jvm.Cond.classLink "SoldWithIt" (400 : Nat) "java/lang/ClassCastException") ∈ lw_all := lw_g (lw_at lw_m5 38 rfl) rfl
theorem q1101 : (Jvm.Cond.classLink "SoldWithIt" (402 : Nat) "java/lang/ArrayIndexOutOfBoundsException") ∈ lw_all := lw_g (lw_at lw_m5 52 rfl) rfl
theorem q1120 : (Jvm.Cond.methodLink "SoldWithIt" (396 : Nat) ({ cls := "SoldWithIt$Sheet", name := "lay", desc := "(III)V" } : Jvm.MethodName)) ∈ lw_all := lw_g (lw_at lw_m5 71 rfl) rfl
theorem q1125 : (Jvm.Cond.instanceMethod ({ cls := "SoldWithIt", name := "get", desc := "(III)I" } : Jvm.MethodName)) ∈ lw_all := lw_g (lw_at lw_m5 76 rfl) rfl
theorem q1126 : (Jvm.Cond.selects "SoldWithIt" ({ cls := "SoldWithIt", name := "get", desc := "(III)I" } : Jvm.MethodName) ({ cls := "SoldWithIt", name := "get", desc := "(III)I" } : Jvm.MethodName)) ∈ lw_all := lw_g (lw_at lw_m5 77 rfl) rfl
theorem q1127 : (Jvm.Cond.codeWith ({ cls := "SoldWithIt", name := "get", desc := "(III)I" } : Jvm.MethodName) prog_1_method_83_code (5 : Nat) (Option.some Jvm.ClassFile.FieldType.int) [((40 : Nat), (51 : Nat), (52 : Nat), (400 : Nat)), ((40 : Nat), (51 : Nat), (60 : Nat), (402 : Nat))]) ∈ lw_all := lw_g (lw_at lw_m5 78 rfl) rfl
theorem q1128 : (Jvm.Cond.constant "SoldWithIt" (103 : Nat) (-2147483648 : Int32)) ∈ lw_all := lw_g (lw_at lw_m5 79 rfl) rfl
theorem q1129 : (Jvm.Cond.methodLink "SoldWithIt" (404 : Nat) ({ cls := "SoldWithIt", name := "lowest", desc := "(I)I" } : Jvm.MethodName)) ∈ lw_all := lw_g (lw_at lw_m5 80 rfl) rfl
theorem q1130 : (Jvm.Cond.privateMethod ({ cls := "SoldWithIt", name := "lowest", desc := "(I)I" } : Jvm.MethodName)) ∈ lw_tbl := lw_at lw_m5 81 rfl
theorem q1131 : (Jvm.Cond.instanceMethod ({ cls := "SoldWithIt", name := "lowest", desc := "(I)I" } : Jvm.MethodName)) ∈ lw_all := lw_g (lw_at lw_m5 82 rfl) rfl
theorem q1132 : (Jvm.Cond.code ({ cls := "SoldWithIt", name := "lowest", desc := "(I)I" } : Jvm.MethodName) prog_1_method_5_code (2 : Nat) (Option.some Jvm.ClassFile.FieldType.int)) ∈ lw_all := lw_g (lw_at lw_m5 83 rfl) rfl
theorem q1134 : (Jvm.Cond.instanceMethod ({ cls := "SoldWithIt", name := "copy", desc := "(IIIII)I" } : Jvm.MethodName)) ∈ lw_all := lw_g (lw_at lw_m5 85 rfl) rfl
theorem q1135 : (Jvm.Cond.selects "SoldWithIt" ({ cls := "SoldWithIt", name := "copy", desc := "(IIIII)I" } : Jvm.MethodName) ({ cls := "SoldWithIt", name := "copy", desc := "(IIIII)I" } : Jvm.MethodName)) ∈ lw_all := lw_g (lw_at lw_m5 86 rfl) rfl
theorem q1136 : (Jvm.Cond.codeWith ({ cls := "SoldWithIt", name := "copy", desc := "(IIIII)I" } : Jvm.MethodName) prog_1_method_84_code (7 : Nat) (Option.some Jvm.ClassFile.FieldType.int) [((74 : Nat), (101 : Nat), (102 : Nat), (407 : Nat))]) ∈ lw_all := lw_g (lw_at lw_m5 87 rfl) rfl
theorem q1137 : (Jvm.Cond.classLink "SoldWithIt" (407 : Nat) "java/lang/IndexOutOfBoundsException") ∈ lw_all := lw_g (lw_at lw_m5 88 rfl) rfl
theorem q1139 : (Jvm.Cond.instanceMethod ({ cls := "SoldWithIt", name := "write", desc := "(I)I" } : Jvm.MethodName)) ∈ lw_all := lw_g (lw_at lw_m5 90 rfl) rfl
theorem q1140 : (Jvm.Cond.selects "SoldWithIt" ({ cls := "SoldWithIt", name := "write", desc := "(I)I" } : Jvm.MethodName) ({ cls := "SoldWithIt", name := "write", desc := "(I)I" } : Jvm.MethodName)) ∈ lw_all := lw_g (lw_at lw_m5 91 rfl) rfl
theorem q1141 : (Jvm.Cond.code ({ cls := "SoldWithIt", name := "write", desc := "(I)I" } : Jvm.MethodName) prog_1_method_85_code (5 : Nat) (Option.some Jvm.ClassFile.FieldType.int)) ∈ lw_all := lw_g (lw_at lw_m5 92 rfl) rfl
theorem q1143 : (Jvm.Cond.instanceMethod ({ cls := "SoldWithIt", name := "count", desc := "(I)I" } : Jvm.MethodName)) ∈ lw_all := lw_g (lw_at lw_m5 94 rfl) rfl
theorem q1144 : (Jvm.Cond.selects "SoldWithIt" ({ cls := "SoldWithIt", name := "count", desc := "(I)I" } : Jvm.MethodName) ({ cls := "SoldWithIt", name := "count", desc := "(I)I" } : Jvm.MethodName)) ∈ lw_all := lw_g (lw_at lw_m5 95 rfl) rfl
theorem q1145 : (Jvm.Cond.code ({ cls := "SoldWithIt", name := "count", desc := "(I)I" } : Jvm.MethodName) prog_1_method_86_code (4 : Nat) (Option.some Jvm.ClassFile.FieldType.int)) ∈ lw_all := lw_g (lw_at lw_m5 96 rfl) rfl
theorem q1146 : (Jvm.Cond.methodLink "SoldWithIt" (409 : Nat) ({ cls := "SoldWithIt$Row", name := "length", desc := "()I" } : Jvm.MethodName)) ∈ lw_all := lw_g (lw_at lw_m5 97 rfl) rfl
theorem q1152 : (Jvm.Cond.methodLink "SoldWithIt" (412 : Nat) ({ cls := "SoldWithIt$Folk", name := "length", desc := "()I" } : Jvm.MethodName)) ∈ lw_all := lw_g (lw_at lw_m5 103 rfl) rfl
theorem q1156 : (Jvm.Cond.instanceMethod ({ cls := "SoldWithIt", name := "digest", desc := "()J" } : Jvm.MethodName)) ∈ lw_all := lw_g (lw_at lw_m5 107 rfl) rfl
theorem q1157 : (Jvm.Cond.selects "SoldWithIt" ({ cls := "SoldWithIt", name := "digest", desc := "()J" } : Jvm.MethodName) ({ cls := "SoldWithIt", name := "digest", desc := "()J" } : Jvm.MethodName)) ∈ lw_all := lw_g (lw_at lw_m5 108 rfl) rfl
theorem q1158 : (Jvm.Cond.code ({ cls := "SoldWithIt", name := "digest", desc := "()J" } : Jvm.MethodName) prog_1_method_87_code (5 : Nat) (Option.some Jvm.ClassFile.FieldType.long)) ∈ lw_all := lw_g (lw_at lw_m5 109 rfl) rfl
theorem q1159 : (Jvm.Cond.constantLong "SoldWithIt" (413 : Nat) (17 : Int64)) ∈ lw_all := lw_g (lw_at lw_m5 110 rfl) rfl
theorem q1160 : (Jvm.Cond.constantLong "SoldWithIt" (415 : Nat) (31 : Int64)) ∈ lw_all := lw_g (lw_at lw_m5 111 rfl) rfl
theorem q1161 : (Jvm.Cond.methodLink "SoldWithIt" (417 : Nat) ({ cls := "SoldWithIt", name := "count", desc := "(I)I" } : Jvm.MethodName)) ∈ lw_all := lw_g (lw_at lw_m5 112 rfl) rfl
theorem q1603 : (Jvm.Cond.castable "SoldWithIt" "java/lang/Object") ∈ lw_tbl := lw_at lw_m7 74 rfl
theorem in_X0 : ∀ w ∈ wsX00, w ∈ lw_all := lw_in wsX00 [288, 290, 292, 294, 296, 298, 300, 302, 304, 306, 308, 310, 312, 314, 316, 318, 320, 322, 324, 326, 328] (by decide +kernel) (by decide +kernel)
theorem q91 : (Jvm.Cond.initialized "SoldWithIt$Text") ∈ lw_all := lw_g (lw_at lw_m1 2 rfl) rfl
theorem q133 : (Jvm.Cond.instanceMethod ({ cls := "SoldWithIt$Text", name := "<init>", desc := "(I)V" } : Jvm.MethodName)) ∈ lw_all := lw_g (lw_at lw_m1 44 rfl) rfl
theorem q134 : (Jvm.Cond.code ({ cls := "SoldWithIt$Text", name := "<init>", desc := "(I)V" } : Jvm.MethodName) prog_9_method_1_code (2 : Nat) (Option.none : Option Jvm.ClassFile.FieldType)) ∈ lw_all := lw_g (lw_at lw_m1 45 rfl) rfl
theorem q135 : (Jvm.Cond.methodLink "SoldWithIt$Text" (3 : Nat) ({ cls := "java/lang/Object", name := "<init>", desc := "()V" } : Jvm.MethodName)) ∈ lw_all := lw_g (lw_at lw_m1 46 rfl) rfl
theorem q136 : (Jvm.Cond.classLink "SoldWithIt$Text" (9 : Nat) "java/util/ArrayList") ∈ lw_all := lw_g (lw_at lw_m1 47 rfl) rfl
theorem q138 : (Jvm.Cond.methodLink "SoldWithIt$Text" (11 : Nat) ({ cls := "java/util/ArrayList", name := "<init>", desc := "()V" } : Jvm.MethodName)) ∈ lw_all := lw_g (lw_at lw_m1 49 rfl) rfl
theorem q162 : (Jvm.Cond.fieldLink "SoldWithIt$Text" (18 : Nat) "SoldWithIt$Text" "bytes" "[I") ∈ lw_all := lw_g (lw_at lw_m1 73 rfl) rfl
theorem q163 : (Jvm.Cond.fieldLink "SoldWithIt$Text" (22 : Nat) "SoldWithIt$Text" "typed" "I") ∈ lw_all := lw_g (lw_at lw_m1 74 rfl) rfl
theorem q164 : (Jvm.Cond.fieldLink "SoldWithIt$Text" (30 : Nat) "SoldWithIt$Text" "at" "I") ∈ lw_all := lw_g (lw_at lw_m1 75 rfl) rfl
theorem q165 : (Jvm.Cond.fieldLink "SoldWithIt$Text" (26 : Nat) "SoldWithIt$Text" "fresh" "Z") ∈ lw_all := lw_g (lw_at lw_m1 76 rfl) rfl
theorem q166 : (Jvm.Cond.fieldLink "SoldWithIt$Text" (80 : Nat) "SoldWithIt$Text" "fault" "I") ∈ lw_all := lw_g (lw_at lw_m1 77 rfl) rfl
theorem q167 : (Jvm.Cond.fieldLink "SoldWithIt$Text" (12 : Nat) "SoldWithIt$Text" "things" "Ljava/util/ArrayList;") ∈ lw_all := lw_g (lw_at lw_m1 78 rfl) rfl
theorem q169 : (Jvm.Cond.soleField "SoldWithIt$Text" "bytes") ∈ lw_all := lw_g (lw_at lw_m1 80 rfl) rfl
theorem q171 : (Jvm.Cond.soleField "SoldWithIt$Text" "typed") ∈ lw_all := lw_g (lw_at lw_m1 82 rfl) rfl
theorem q173 : (Jvm.Cond.soleField "SoldWithIt$Text" "at") ∈ lw_all := lw_g (lw_at lw_m1 84 rfl) rfl
theorem q175 : (Jvm.Cond.soleField "SoldWithIt$Text" "fresh") ∈ lw_all := lw_g (lw_at lw_m1 86 rfl) rfl
theorem q177 : (Jvm.Cond.soleField "SoldWithIt$Text" "fault") ∈ lw_all := lw_g (lw_at lw_m1 88 rfl) rfl
theorem q179 : (Jvm.Cond.soleField "SoldWithIt$Text" "things") ∈ lw_all := lw_g (lw_at lw_m1 90 rfl) rfl
theorem q344 : (Jvm.Cond.declares ({ cls := "SoldWithIt$Text", name := "type", desc := "(I)I" } : Jvm.MethodName)) ∈ lw_tbl := lw_at lw_m2 15 rfl
theorem q346 : (Jvm.Cond.instanceMethod ({ cls := "SoldWithIt$Text", name := "type", desc := "(I)I" } : Jvm.MethodName)) ∈ lw_all := lw_g (lw_at lw_m2 17 rfl) rfl
theorem q347 : (Jvm.Cond.code ({ cls := "SoldWithIt$Text", name := "type", desc := "(I)I" } : Jvm.MethodName) prog_9_method_4_code (2 : Nat) (Option.some Jvm.ClassFile.FieldType.int)) ∈ lw_all := lw_g (lw_at lw_m2 18 rfl) rfl
theorem q357 : (Jvm.Cond.declares ({ cls := "SoldWithIt$Text", name := "wipe", desc := "()I" } : Jvm.MethodName)) ∈ lw_tbl := lw_at lw_m2 28 rfl
theorem q359 : (Jvm.Cond.instanceMethod ({ cls := "SoldWithIt$Text", name := "wipe", desc := "()I" } : Jvm.MethodName)) ∈ lw_all := lw_g (lw_at lw_m2 30 rfl) rfl
theorem q360 : (Jvm.Cond.code ({ cls := "SoldWithIt$Text", name := "wipe", desc := "()I" } : Jvm.MethodName) prog_9_method_5_code (2 : Nat) (Option.some Jvm.ClassFile.FieldType.int)) ∈ lw_all := lw_g (lw_at lw_m2 31 rfl) rfl
theorem q374 : (Jvm.Cond.declares ({ cls := "SoldWithIt$Text", name := "read", desc := "()I" } : Jvm.MethodName)) ∈ lw_tbl := lw_at lw_m2 45 rfl
theorem q376 : (Jvm.Cond.instanceMethod ({ cls := "SoldWithIt$Text", name := "read", desc := "()I" } : Jvm.MethodName)) ∈ lw_all := lw_g (lw_at lw_m2 47 rfl) rfl
theorem q377 : (Jvm.Cond.code ({ cls := "SoldWithIt$Text", name := "read", desc := "()I" } : Jvm.MethodName) prog_9_method_13_code (1 : Nat) (Option.some Jvm.ClassFile.FieldType.int)) ∈ lw_all := lw_g (lw_at lw_m2 48 rfl) rfl
theorem q378 : (Jvm.Cond.methodLink "SoldWithIt$Text" (77 : Nat) ({ cls := "SoldWithIt$Text", name := "all", desc := "()I" } : Jvm.MethodName)) ∈ lw_all := lw_g (lw_at lw_m2 49 rfl) rfl
theorem q379 : (Jvm.Cond.privateMethod ({ cls := "SoldWithIt$Text", name := "all", desc := "()I" } : Jvm.MethodName)) ∈ lw_tbl := lw_at lw_m2 50 rfl
theorem q380 : (Jvm.Cond.instanceMethod ({ cls := "SoldWithIt$Text", name := "all", desc := "()I" } : Jvm.MethodName)) ∈ lw_all := lw_g (lw_at lw_m2 51 rfl) rfl
theorem q381 : (Jvm.Cond.codeWith ({ cls := "SoldWithIt$Text", name := "all", desc := "()I" } : Jvm.MethodName) prog_9_method_12_code (2 : Nat) (Option.some Jvm.ClassFile.FieldType.int) [((12 : Nat), (31 : Nat), (32 : Nat), (33 : Nat))]) ∈ lw_all := lw_g (lw_at lw_m2 52 rfl) rfl
theorem q382 : (Jvm.Cond.classLink "SoldWithIt$Text" (33 : Nat) "SoldWithIt$Torn") ∈ lw_all := lw_g (lw_at lw_m2 53 rfl) rfl
theorem q383 : (Jvm.Cond.methodLink "SoldWithIt$Text" (68 : Nat) ({ cls := "java/util/ArrayList", name := "clear", desc := "()V" } : Jvm.MethodName)) ∈ lw_all := lw_g (lw_at lw_m2 54 rfl) rfl
theorem q387 : (Jvm.Cond.methodLink "SoldWithIt$Text" (71 : Nat) ({ cls := "SoldWithIt$Text", name := "next", desc := "()V" } : Jvm.MethodName)) ∈ lw_all := lw_g (lw_at lw_m2 58 rfl) rfl
theorem q388 : (Jvm.Cond.privateMethod ({ cls := "SoldWithIt$Text", name := "next", desc := "()V" } : Jvm.MethodName)) ∈ lw_tbl := lw_at lw_m2 59 rfl
theorem q389 : (Jvm.Cond.instanceMethod ({ cls := "SoldWithIt$Text", name := "next", desc := "()V" } : Jvm.MethodName)) ∈ lw_all := lw_g (lw_at lw_m2 60 rfl) rfl
theorem q390 : (Jvm.Cond.code ({ cls := "SoldWithIt$Text", name := "next", desc := "()V" } : Jvm.MethodName) prog_9_method_11_code (1 : Nat) (Option.none : Option Jvm.ClassFile.FieldType)) ∈ lw_all := lw_g (lw_at lw_m2 61 rfl) rfl
theorem q391 : (Jvm.Cond.methodLink "SoldWithIt$Text" (50 : Nat) ({ cls := "java/util/ArrayList", name := "isEmpty", desc := "()Z" } : Jvm.MethodName)) ∈ lw_all := lw_g (lw_at lw_m2 62 rfl) rfl
theorem q395 : (Jvm.Cond.methodLink "SoldWithIt$Text" (54 : Nat) ({ cls := "SoldWithIt$Text", name := "between", desc := "()I" } : Jvm.MethodName)) ∈ lw_all := lw_g (lw_at lw_m2 66 rfl) rfl
theorem q396 : (Jvm.Cond.declares ({ cls := "SoldWithIt$Text", name := "between", desc := "()I" } : Jvm.MethodName)) ∈ lw_tbl := lw_at lw_m2 67 rfl
theorem q397 : (Jvm.Cond.sameMethod "SoldWithIt$Text" "SoldWithIt$Text" "between" "()I") ∈ lw_all := lw_g (lw_at lw_m2 68 rfl) rfl
theorem q404 : (Jvm.Cond.methodLink "SoldWithIt$Text" (38 : Nat) ({ cls := "SoldWithIt$Text", name := "here", desc := "()I" } : Jvm.MethodName)) ∈ lw_all := lw_g (lw_at lw_m2 75 rfl) rfl
theorem q405 : (Jvm.Cond.instanceMethod ({ cls := "SoldWithIt$Text", name := "here", desc := "()I" } : Jvm.MethodName)) ∈ lw_all := lw_g (lw_at lw_m2 76 rfl) rfl
theorem q406 : (Jvm.Cond.sameMethod "SoldWithIt$Text" "SoldWithIt$Text" "here" "()I") ∈ lw_all := lw_g (lw_at lw_m2 77 rfl) rfl
theorem q409 : (Jvm.Cond.code ({ cls := "SoldWithIt$Text", name := "here", desc := "()I" } : Jvm.MethodName) prog_9_method_7_code (1 : Nat) (Option.some Jvm.ClassFile.FieldType.int)) ∈ lw_all := lw_g (lw_at lw_m2 80 rfl) rfl
theorem q410 : (Jvm.Cond.methodLink "SoldWithIt$Text" (46 : Nat) ({ cls := "SoldWithIt$Text", name := "torn", desc := "()LSoldWithIt$Torn;" } : Jvm.MethodName)) ∈ lw_all := lw_g (lw_at lw_m2 81 rfl) rfl
theorem q411 : (Jvm.Cond.instanceMethod ({ cls := "SoldWithIt$Text", name := "torn", desc := "()LSoldWithIt$Torn;" } : Jvm.MethodName)) ∈ lw_all := lw_g (lw_at lw_m2 82 rfl) rfl
theorem q412 : (Jvm.Cond.sameMethod "SoldWithIt$Text" "SoldWithIt$Text" "torn" "()LSoldWithIt$Torn;") ∈ lw_all := lw_g (lw_at lw_m2 83 rfl) rfl
theorem q415 : (Jvm.Cond.code ({ cls := "SoldWithIt$Text", name := "torn", desc := "()LSoldWithIt$Torn;" } : Jvm.MethodName) prog_9_method_9_code (1 : Nat) (Option.some (Jvm.ClassFile.FieldType.object "SoldWithIt$Torn"))) ∈ lw_all := lw_g (lw_at lw_m2 86 rfl) rfl
theorem q455 : (Jvm.Cond.methodLink "SoldWithIt$Text" (35 : Nat) ({ cls := "SoldWithIt$Torn", name := "<init>", desc := "(I)V" } : Jvm.MethodName)) ∈ lw_all := lw_g (lw_at lw_m2 126 rfl) rfl
theorem q465 : (Jvm.Cond.fieldLinkNest "SoldWithIt$Text" (74 : Nat) "SoldWithIt$Torn" "place" "I" "SoldWithIt") ∈ lw_tbl := lw_at lw_m2 136 rfl
theorem q481 : (Jvm.Cond.methodLink "SoldWithIt$Text" (57 : Nat) ({ cls := "java/util/ArrayList", name := "size", desc := "()I" } : Jvm.MethodName)) ∈ lw_all := lw_g (lw_at lw_m2 152 rfl) rfl
theorem q485 : (Jvm.Cond.methodLink "SoldWithIt$Text" (60 : Nat) ({ cls := "SoldWithIt$Text", name := "reads", desc := "()Ljava/lang/Object;" } : Jvm.MethodName)) ∈ lw_all := lw_g (lw_at lw_m2 156 rfl) rfl
theorem q486 : (Jvm.Cond.declares ({ cls := "SoldWithIt$Text", name := "reads", desc := "()Ljava/lang/Object;" } : Jvm.MethodName)) ∈ lw_tbl := lw_at lw_m2 157 rfl
theorem q487 : (Jvm.Cond.sameMethod "SoldWithIt$Text" "SoldWithIt$Text" "reads" "()Ljava/lang/Object;") ∈ lw_all := lw_g (lw_at lw_m2 158 rfl) rfl
theorem q497 : (Jvm.Cond.declares ({ cls := "SoldWithIt$Text", name := "here", desc := "()I" } : Jvm.MethodName)) ∈ lw_tbl := lw_at lw_m2 168 rfl
theorem q501 : (Jvm.Cond.declares ({ cls := "SoldWithIt$Text", name := "torn", desc := "()LSoldWithIt$Torn;" } : Jvm.MethodName)) ∈ lw_tbl := lw_at lw_m2 172 rfl
theorem q505 : (Jvm.Cond.declares ({ cls := "SoldWithIt$Text", name := "goesOn", desc := "()V" } : Jvm.MethodName)) ∈ lw_tbl := lw_at lw_m2 176 rfl
theorem q507 : (Jvm.Cond.instanceMethod ({ cls := "SoldWithIt$Text", name := "goesOn", desc := "()V" } : Jvm.MethodName)) ∈ lw_all := lw_g (lw_at lw_m2 178 rfl) rfl
theorem q508 : (Jvm.Cond.code ({ cls := "SoldWithIt$Text", name := "goesOn", desc := "()V" } : Jvm.MethodName) prog_9_method_8_code (1 : Nat) (Option.none : Option Jvm.ClassFile.FieldType)) ∈ lw_all := lw_g (lw_at lw_m2 179 rfl) rfl
theorem q513 : (Jvm.Cond.declares ({ cls := "SoldWithIt$Text", name := "figure", desc := "(I)I" } : Jvm.MethodName)) ∈ lw_tbl := lw_at lw_m2 184 rfl
theorem q515 : (Jvm.Cond.instanceMethod ({ cls := "SoldWithIt$Text", name := "figure", desc := "(I)I" } : Jvm.MethodName)) ∈ lw_all := lw_g (lw_at lw_m2 186 rfl) rfl
theorem q516 : (Jvm.Cond.code ({ cls := "SoldWithIt$Text", name := "figure", desc := "(I)I" } : Jvm.MethodName) prog_9_method_10_code (3 : Nat) (Option.some Jvm.ClassFile.FieldType.int)) ∈ lw_all := lw_g (lw_at lw_m2 187 rfl) rfl
theorem q517 : (Jvm.Cond.methodLinkNest "SoldWithIt$Text" (42 : Nat) ({ cls := "SoldWithIt", name := "in", desc := "(JJJ)Z" } : Jvm.MethodName) "SoldWithIt") ∈ lw_tbl := lw_at lw_m2 188 rfl
theorem q559 : (Jvm.Cond.methodLink "SoldWithIt$Text" (64 : Nat) ({ cls := "java/util/ArrayList", name := "add", desc := "(Ljava/lang/Object;)Z" } : Jvm.MethodName)) ∈ lw_all := lw_g (lw_at lw_m2 230 rfl) rfl
theorem q637 : (Jvm.Cond.declares ({ cls := "SoldWithIt$Text", name := "size", desc := "()I" } : Jvm.MethodName)) ∈ lw_tbl := lw_at lw_m3 68 rfl
theorem q639 : (Jvm.Cond.instanceMethod ({ cls := "SoldWithIt$Text", name := "size", desc := "()I" } : Jvm.MethodName)) ∈ lw_all := lw_g (lw_at lw_m3 70 rfl) rfl
theorem q640 : (Jvm.Cond.code ({ cls := "SoldWithIt$Text", name := "size", desc := "()I" } : Jvm.MethodName) prog_9_method_14_code (1 : Nat) (Option.some Jvm.ClassFile.FieldType.int)) ∈ lw_all := lw_g (lw_at lw_m3 71 rfl) rfl
theorem q641 : (Jvm.Cond.methodLink "SoldWithIt$Text" (83 : Nat) ({ cls := "SoldWithIt$Text", name := "read", desc := "()I" } : Jvm.MethodName)) ∈ lw_all := lw_g (lw_at lw_m3 72 rfl) rfl
theorem q653 : (Jvm.Cond.declares ({ cls := "SoldWithIt$Text", name := "thing", desc := "(I)Ljava/lang/Object;" } : Jvm.MethodName)) ∈ lw_tbl := lw_at lw_m3 84 rfl
theorem q655 : (Jvm.Cond.instanceMethod ({ cls := "SoldWithIt$Text", name := "thing", desc := "(I)Ljava/lang/Object;" } : Jvm.MethodName)) ∈ lw_all := lw_g (lw_at lw_m3 86 rfl) rfl
theorem q656 : (Jvm.Cond.code ({ cls := "SoldWithIt$Text", name := "thing", desc := "(I)Ljava/lang/Object;" } : Jvm.MethodName) prog_9_method_15_code (2 : Nat) (Option.some (Jvm.ClassFile.FieldType.object "java/lang/Object"))) ∈ lw_all := lw_g (lw_at lw_m3 87 rfl) rfl
theorem q657 : (Jvm.Cond.methodLink "SoldWithIt$Text" (86 : Nat) ({ cls := "java/util/ArrayList", name := "get", desc := "(I)Ljava/lang/Object;" } : Jvm.MethodName)) ∈ lw_all := lw_g (lw_at lw_m3 88 rfl) rfl
theorem q1148 : (Jvm.Cond.declares ({ cls := "SoldWithIt$Text", name := "length", desc := "()I" } : Jvm.MethodName)) ∈ lw_tbl := lw_at lw_m5 99 rfl
theorem q1150 : (Jvm.Cond.instanceMethod ({ cls := "SoldWithIt$Text", name := "length", desc := "()I" } : Jvm.MethodName)) ∈ lw_all := lw_g (lw_at lw_m5 101 rfl) rfl
theorem q1151 : (Jvm.Cond.code ({ cls := "SoldWithIt$Text", name := "length", desc := "()I" } : Jvm.MethodName) prog_9_method_6_code (1 : Nat) (Option.some Jvm.ClassFile.FieldType.int)) ∈ lw_all := lw_g (lw_at lw_m5 102 rfl) rfl
theorem q1595 : (Jvm.Cond.sameMethod "SoldWithIt$Text" "SoldWithIt$Text" "all" "()I") ∈ lw_all := lw_g (lw_at lw_m7 66 rfl) rfl
theorem q1596 : (Jvm.Cond.sameMethod "SoldWithIt$Text" "SoldWithIt$Text" "next" "()V") ∈ lw_all := lw_g (lw_at lw_m7 67 rfl) rfl
theorem q1598 : (Jvm.Cond.sameMethod "SoldWithIt$Text" "SoldWithIt$Text" "read" "()I") ∈ lw_all := lw_g (lw_at lw_m7 69 rfl) rfl
theorem q92 : (Jvm.Cond.initialized "SoldWithIt$Row") ∈ lw_all := lw_g (lw_at lw_m1 3 rfl) rfl
theorem q128 : (Jvm.Cond.instantiable "SoldWithIt$Row" (6 : Nat)) ∈ lw_all := lw_g (lw_at lw_m1 39 rfl) rfl
theorem q130 : (Jvm.Cond.instanceMethod ({ cls := "SoldWithIt$Row", name := "<init>", desc := "()V" } : Jvm.MethodName)) ∈ lw_all := lw_g (lw_at lw_m1 41 rfl) rfl
theorem q131 : (Jvm.Cond.code ({ cls := "SoldWithIt$Row", name := "<init>", desc := "()V" } : Jvm.MethodName) prog_6_method_1_code (1 : Nat) (Option.none : Option Jvm.ClassFile.FieldType)) ∈ lw_all := lw_g (lw_at lw_m1 42 rfl) rfl
theorem q132 : (Jvm.Cond.methodLink "SoldWithIt$Row" (3 : Nat) ({ cls := "SoldWithIt$Text", name := "<init>", desc := "(I)V" } : Jvm.MethodName)) ∈ lw_all := lw_g (lw_at lw_m1 43 rfl) rfl
theorem q168 : (Jvm.Cond.laysFinal "SoldWithIt$Row" "SoldWithIt$Text" "bytes" "[I") ∈ lw_all := lw_g (lw_at lw_m1 79 rfl) rfl
theorem q170 : (Jvm.Cond.lays "SoldWithIt$Row" "SoldWithIt$Text" "typed" "I") ∈ lw_all := lw_g (lw_at lw_m1 81 rfl) rfl
theorem q172 : (Jvm.Cond.lays "SoldWithIt$Row" "SoldWithIt$Text" "at" "I") ∈ lw_all := lw_g (lw_at lw_m1 83 rfl) rfl
theorem q174 : (Jvm.Cond.lays "SoldWithIt$Row" "SoldWithIt$Text" "fresh" "Z") ∈ lw_all := lw_g (lw_at lw_m1 85 rfl) rfl
theorem q176 : (Jvm.Cond.lays "SoldWithIt$Row" "SoldWithIt$Text" "fault" "I") ∈ lw_all := lw_g (lw_at lw_m1 87 rfl) rfl
theorem q178 : (Jvm.Cond.laysFinal "SoldWithIt$Row" "SoldWithIt$Text" "things" "Ljava/util/ArrayList;") ∈ lw_all := lw_g (lw_at lw_m1 89 rfl) rfl
theorem q180 : (Jvm.Cond.superclass "SoldWithIt$Row" "SoldWithIt$Text") ∈ lw_all := lw_g (lw_at lw_m1 91 rfl) rfl
theorem q343 : (Jvm.Cond.sameMethod "SoldWithIt$Row" "SoldWithIt$Text" "type" "(I)I") ∈ lw_all := lw_g (lw_at lw_m2 14 rfl) rfl
theorem q345 : (Jvm.Cond.selects "SoldWithIt$Row" ({ cls := "SoldWithIt$Row", name := "type", desc := "(I)I" } : Jvm.MethodName) ({ cls := "SoldWithIt$Text", name := "type", desc := "(I)I" } : Jvm.MethodName)) ∈ lw_all := lw_g (lw_at lw_m2 16 rfl) rfl
theorem q356 : (Jvm.Cond.sameMethod "SoldWithIt$Row" "SoldWithIt$Text" "wipe" "()I") ∈ lw_all := lw_g (lw_at lw_m2 27 rfl) rfl
theorem q358 : (Jvm.Cond.selects "SoldWithIt$Row" ({ cls := "SoldWithIt$Row", name := "wipe", desc := "()I" } : Jvm.MethodName) ({ cls := "SoldWithIt$Text", name := "wipe", desc := "()I" } : Jvm.MethodName)) ∈ lw_all := lw_g (lw_at lw_m2 29 rfl) rfl
theorem q373 : (Jvm.Cond.sameMethod "SoldWithIt$Row" "SoldWithIt$Text" "read" "()I") ∈ lw_all := lw_g (lw_at lw_m2 44 rfl) rfl
theorem q375 : (Jvm.Cond.selects "SoldWithIt$Row" ({ cls := "SoldWithIt$Row", name := "read", desc := "()I" } : Jvm.MethodName) ({ cls := "SoldWithIt$Text", name := "read", desc := "()I" } : Jvm.MethodName)) ∈ lw_all := lw_g (lw_at lw_m2 46 rfl) rfl
theorem q401 : (Jvm.Cond.selects "SoldWithIt$Row" ({ cls := "SoldWithIt$Text", name := "between", desc := "()I" } : Jvm.MethodName) ({ cls := "SoldWithIt$Row", name := "between", desc := "()I" } : Jvm.MethodName)) ∈ lw_all := lw_g (lw_at lw_m2 72 rfl) rfl
theorem q402 : (Jvm.Cond.instanceMethod ({ cls := "SoldWithIt$Row", name := "between", desc := "()I" } : Jvm.MethodName)) ∈ lw_all := lw_g (lw_at lw_m2 73 rfl) rfl
theorem q403 : (Jvm.Cond.code ({ cls := "SoldWithIt$Row", name := "between", desc := "()I" } : Jvm.MethodName) prog_6_method_3_code (1 : Nat) (Option.some Jvm.ClassFile.FieldType.int)) ∈ lw_all := lw_g (lw_at lw_m2 74 rfl) rfl
theorem q408 : (Jvm.Cond.selects "SoldWithIt$Row" ({ cls := "SoldWithIt$Text", name := "here", desc := "()I" } : Jvm.MethodName) ({ cls := "SoldWithIt$Text", name := "here", desc := "()I" } : Jvm.MethodName)) ∈ lw_all := lw_g (lw_at lw_m2 79 rfl) rfl
theorem q414 : (Jvm.Cond.selects "SoldWithIt$Row" ({ cls := "SoldWithIt$Text", name := "torn", desc := "()LSoldWithIt$Torn;" } : Jvm.MethodName) ({ cls := "SoldWithIt$Text", name := "torn", desc := "()LSoldWithIt$Torn;" } : Jvm.MethodName)) ∈ lw_all := lw_g (lw_at lw_m2 85 rfl) rfl
theorem q531 : (Jvm.Cond.selects "SoldWithIt$Row" ({ cls := "SoldWithIt$Text", name := "reads", desc := "()Ljava/lang/Object;" } : Jvm.MethodName) ({ cls := "SoldWithIt$Row", name := "reads", desc := "()Ljava/lang/Object;" } : Jvm.MethodName)) ∈ lw_all := lw_g (lw_at lw_m2 202 rfl) rfl
theorem q532 : (Jvm.Cond.instanceMethod ({ cls := "SoldWithIt$Row", name := "reads", desc := "()Ljava/lang/Object;" } : Jvm.MethodName)) ∈ lw_all := lw_g (lw_at lw_m2 203 rfl) rfl
theorem q533 : (Jvm.Cond.code ({ cls := "SoldWithIt$Row", name := "reads", desc := "()Ljava/lang/Object;" } : Jvm.MethodName) prog_6_method_4_code (1 : Nat) (Option.some (Jvm.ClassFile.FieldType.object "java/lang/Object"))) ∈ lw_all := lw_g (lw_at lw_m2 204 rfl) rfl
theorem q534 : (Jvm.Cond.methodLink "SoldWithIt$Row" (20 : Nat) ({ cls := "SoldWithIt$Row", name := "reads", desc := "()LSoldWithIt$House;" } : Jvm.MethodName)) ∈ lw_all := lw_g (lw_at lw_m2 205 rfl) rfl
theorem q535 : (Jvm.Cond.instanceMethod ({ cls := "SoldWithIt$Row", name := "reads", desc := "()LSoldWithIt$House;" } : Jvm.MethodName)) ∈ lw_all := lw_g (lw_at lw_m2 206 rfl) rfl
theorem q536 : (Jvm.Cond.selects "SoldWithIt$Row" ({ cls := "SoldWithIt$Row", name := "reads", desc := "()LSoldWithIt$House;" } : Jvm.MethodName) ({ cls := "SoldWithIt$Row", name := "reads", desc := "()LSoldWithIt$House;" } : Jvm.MethodName)) ∈ lw_all := lw_g (lw_at lw_m2 207 rfl) rfl
theorem q537 : (Jvm.Cond.code ({ cls := "SoldWithIt$Row", name := "reads", desc := "()LSoldWithIt$House;" } : Jvm.MethodName) prog_6_method_2_code (2 : Nat) (Option.some (Jvm.ClassFile.FieldType.object "SoldWithIt$House"))) ∈ lw_all := lw_g (lw_at lw_m2 208 rfl) rfl
theorem q538 : (Jvm.Cond.methodLink "SoldWithIt$Row" (9 : Nat) ({ cls := "SoldWithIt$Row", name := "figure", desc := "(I)I" } : Jvm.MethodName)) ∈ lw_all := lw_g (lw_at lw_m2 209 rfl) rfl
theorem q539 : (Jvm.Cond.sameMethod "SoldWithIt$Row" "SoldWithIt$Text" "figure" "(I)I") ∈ lw_all := lw_g (lw_at lw_m2 210 rfl) rfl
theorem q540 : (Jvm.Cond.selects "SoldWithIt$Row" ({ cls := "SoldWithIt$Row", name := "figure", desc := "(I)I" } : Jvm.MethodName) ({ cls := "SoldWithIt$Text", name := "figure", desc := "(I)I" } : Jvm.MethodName)) ∈ lw_all := lw_g (lw_at lw_m2 211 rfl) rfl
theorem q541 : (Jvm.Cond.classLink "SoldWithIt$Row" (15 : Nat) "SoldWithIt$House") ∈ lw_all := lw_g (lw_at lw_m2 212 rfl) rfl
theorem q543 : (Jvm.Cond.methodLink "SoldWithIt$Row" (17 : Nat) ({ cls := "SoldWithIt$House", name := "<init>", desc := "(II)V" } : Jvm.MethodName)) ∈ lw_all := lw_g (lw_at lw_m2 214 rfl) rfl
theorem q596 : (Jvm.Cond.selects "SoldWithIt$Row" ({ cls := "java/lang/Object", name := "getClass", desc := "()Ljava/lang/Class;" } : Jvm.MethodName) ({ cls := "java/lang/Object", name := "getClass", desc := "()Ljava/lang/Class;" } : Jvm.MethodName)) ∈ lw_all := lw_g (lw_at lw_m3 27 rfl) rfl
theorem q636 : (Jvm.Cond.sameMethod "SoldWithIt$Row" "SoldWithIt$Text" "size" "()I") ∈ lw_all := lw_g (lw_at lw_m3 67 rfl) rfl
theorem q638 : (Jvm.Cond.selects "SoldWithIt$Row" ({ cls := "SoldWithIt$Row", name := "size", desc := "()I" } : Jvm.MethodName) ({ cls := "SoldWithIt$Text", name := "size", desc := "()I" } : Jvm.MethodName)) ∈ lw_all := lw_g (lw_at lw_m3 69 rfl) rfl
theorem q652 : (Jvm.Cond.sameMethod "SoldWithIt$Row" "SoldWithIt$Text" "thing" "(I)Ljava/lang/Object;") ∈ lw_all := lw_g (lw_at lw_m3 83 rfl) rfl
theorem q654 : (Jvm.Cond.selects "SoldWithIt$Row" ({ cls := "SoldWithIt$Row", name := "thing", desc := "(I)Ljava/lang/Object;" } : Jvm.MethodName) ({ cls := "SoldWithIt$Text", name := "thing", desc := "(I)Ljava/lang/Object;" } : Jvm.MethodName)) ∈ lw_all := lw_g (lw_at lw_m3 85 rfl) rfl
theorem q1147 : (Jvm.Cond.sameMethod "SoldWithIt$Row" "SoldWithIt$Text" "length" "()I") ∈ lw_all := lw_g (lw_at lw_m5 98 rfl) rfl
theorem q1149 : (Jvm.Cond.selects "SoldWithIt$Row" ({ cls := "SoldWithIt$Row", name := "length", desc := "()I" } : Jvm.MethodName) ({ cls := "SoldWithIt$Text", name := "length", desc := "()I" } : Jvm.MethodName)) ∈ lw_all := lw_g (lw_at lw_m5 100 rfl) rfl
theorem q1600 : (Jvm.Cond.selects "SoldWithIt$Row" ({ cls := "SoldWithIt$Text", name := "read", desc := "()I" } : Jvm.MethodName) ({ cls := "SoldWithIt$Text", name := "read", desc := "()I" } : Jvm.MethodName)) ∈ lw_all := lw_g (lw_at lw_m7 71 rfl) rfl
theorem q1604 : (Jvm.Cond.castable "SoldWithIt$Row" "java/lang/Object") ∈ lw_tbl := lw_at lw_m7 75 rfl
theorem in_X2 : ∀ w ∈ wsX20, w ∈ lw_all := lw_in wsX20 [168, 170, 172, 174, 176, 178] (by decide +kernel) (by decide +kernel)
theorem q93 : (Jvm.Cond.initialized "java/util/AbstractCollection") ∈ lw_all := lw_g (lw_at lw_m1 4 rfl) rfl
theorem q145 : (Jvm.Cond.instanceMethod ({ cls := "java/util/AbstractCollection", name := "<init>", desc := "()V" } : Jvm.MethodName)) ∈ lw_all := lw_g (lw_at lw_m1 56 rfl) rfl
theorem q146 : (Jvm.Cond.code ({ cls := "java/util/AbstractCollection", name := "<init>", desc := "()V" } : Jvm.MethodName) prog_27_method_1_code (1 : Nat) (Option.none : Option Jvm.ClassFile.FieldType)) ∈ lw_all := lw_g (lw_at lw_m1 57 rfl) rfl
theorem q147 : (Jvm.Cond.methodLink "java/util/AbstractCollection" (1 : Nat) ({ cls := "java/lang/Object", name := "<init>", desc := "()V" } : Jvm.MethodName)) ∈ lw_all := lw_g (lw_at lw_m1 58 rfl) rfl
theorem q94 : (Jvm.Cond.initialized "java/util/AbstractList") ∈ lw_all := lw_g (lw_at lw_m1 5 rfl) rfl
theorem q142 : (Jvm.Cond.instanceMethod ({ cls := "java/util/AbstractList", name := "<init>", desc := "()V" } : Jvm.MethodName)) ∈ lw_all := lw_g (lw_at lw_m1 53 rfl) rfl
theorem q143 : (Jvm.Cond.code ({ cls := "java/util/AbstractList", name := "<init>", desc := "()V" } : Jvm.MethodName) prog_28_method_1_code (1 : Nat) (Option.none : Option Jvm.ClassFile.FieldType)) ∈ lw_all := lw_g (lw_at lw_m1 54 rfl) rfl
theorem q144 : (Jvm.Cond.methodLink "java/util/AbstractList" (1 : Nat) ({ cls := "java/util/AbstractCollection", name := "<init>", desc := "()V" } : Jvm.MethodName)) ∈ lw_all := lw_g (lw_at lw_m1 55 rfl) rfl
theorem q152 : (Jvm.Cond.fieldLink "java/util/AbstractList" (7 : Nat) "java/util/AbstractList" "modCount" "I") ∈ lw_all := lw_g (lw_at lw_m1 63 rfl) rfl
theorem q160 : (Jvm.Cond.soleField "java/util/AbstractList" "modCount") ∈ lw_all := lw_g (lw_at lw_m1 71 rfl) rfl
theorem q95 : (Jvm.Cond.initialized "java/util/ArrayList") ∈ lw_all := lw_g (lw_at lw_m1 6 rfl) rfl
theorem q137 : (Jvm.Cond.instantiable "java/util/ArrayList" (3 : Nat)) ∈ lw_all := lw_g (lw_at lw_m1 48 rfl) rfl
theorem q139 : (Jvm.Cond.instanceMethod ({ cls := "java/util/ArrayList", name := "<init>", desc := "()V" } : Jvm.MethodName)) ∈ lw_all := lw_g (lw_at lw_m1 50 rfl) rfl
theorem q140 : (Jvm.Cond.code ({ cls := "java/util/ArrayList", name := "<init>", desc := "()V" } : Jvm.MethodName) prog_29_method_2_code (1 : Nat) (Option.none : Option Jvm.ClassFile.FieldType)) ∈ lw_all := lw_g (lw_at lw_m1 51 rfl) rfl
theorem q141 : (Jvm.Cond.methodLink "java/util/ArrayList" (1 : Nat) ({ cls := "java/util/AbstractList", name := "<init>", desc := "()V" } : Jvm.MethodName)) ∈ lw_all := lw_g (lw_at lw_m1 52 rfl) rfl
theorem q148 : (Jvm.Cond.fieldLink "java/util/ArrayList" (39 : Nat) "java/util/ArrayList" "DEFAULTCAPACITY_EMPTY_ELEMENTDATA" "[Ljava/lang/Object;") ∈ lw_all := lw_g (lw_at lw_m1 59 rfl) rfl
theorem q149 : (Jvm.Cond.laysStatic "java/util/ArrayList" "DEFAULTCAPACITY_EMPTY_ELEMENTDATA" "[Ljava/lang/Object;") ∈ lw_tbl := lw_at lw_m1 60 rfl
theorem q150 : (Jvm.Cond.fieldLink "java/util/ArrayList" (9 : Nat) "java/util/ArrayList" "elementData" "[Ljava/lang/Object;") ∈ lw_all := lw_g (lw_at lw_m1 61 rfl) rfl
theorem q151 : (Jvm.Cond.fieldLink "java/util/ArrayList" (48 : Nat) "java/util/ArrayList" "size" "I") ∈ lw_all := lw_g (lw_at lw_m1 62 rfl) rfl
theorem q153 : (Jvm.Cond.fieldLink "java/util/ArrayList" (63 : Nat) "java/util/ArrayList" "modCount" "I") ∈ lw_all := lw_g (lw_at lw_m1 64 rfl) rfl
theorem q154 : (Jvm.Cond.sameField "java/util/ArrayList" "java/util/AbstractList" "modCount" "I") ∈ lw_all := lw_g (lw_at lw_m1 65 rfl) rfl
theorem q155 : (Jvm.Cond.lays "java/util/ArrayList" "java/util/ArrayList" "elementData" "[Ljava/lang/Object;") ∈ lw_all := lw_g (lw_at lw_m1 66 rfl) rfl
theorem q156 : (Jvm.Cond.soleField "java/util/ArrayList" "elementData") ∈ lw_all := lw_g (lw_at lw_m1 67 rfl) rfl
theorem q157 : (Jvm.Cond.lays "java/util/ArrayList" "java/util/ArrayList" "size" "I") ∈ lw_all := lw_g (lw_at lw_m1 68 rfl) rfl
theorem q158 : (Jvm.Cond.soleField "java/util/ArrayList" "size") ∈ lw_all := lw_g (lw_at lw_m1 69 rfl) rfl
theorem q159 : (Jvm.Cond.lays "java/util/ArrayList" "java/util/AbstractList" "modCount" "I") ∈ lw_all := lw_g (lw_at lw_m1 70 rfl) rfl
theorem q161 : (Jvm.Cond.superclass "java/util/ArrayList" "java/util/AbstractList") ∈ lw_all := lw_g (lw_at lw_m1 72 rfl) rfl
theorem q384 : (Jvm.Cond.instanceMethod ({ cls := "java/util/ArrayList", name := "clear", desc := "()V" } : Jvm.MethodName)) ∈ lw_all := lw_g (lw_at lw_m2 55 rfl) rfl
theorem q385 : (Jvm.Cond.selects "java/util/ArrayList" ({ cls := "java/util/ArrayList", name := "clear", desc := "()V" } : Jvm.MethodName) ({ cls := "java/util/ArrayList", name := "clear", desc := "()V" } : Jvm.MethodName)) ∈ lw_all := lw_g (lw_at lw_m2 56 rfl) rfl
theorem q386 : (Jvm.Cond.code ({ cls := "java/util/ArrayList", name := "clear", desc := "()V" } : Jvm.MethodName) prog_29_method_40_code (4 : Nat) (Option.none : Option Jvm.ClassFile.FieldType)) ∈ lw_all := lw_g (lw_at lw_m2 57 rfl) rfl
theorem q392 : (Jvm.Cond.instanceMethod ({ cls := "java/util/ArrayList", name := "isEmpty", desc := "()Z" } : Jvm.MethodName)) ∈ lw_all := lw_g (lw_at lw_m2 63 rfl) rfl
theorem q393 : (Jvm.Cond.selects "java/util/ArrayList" ({ cls := "java/util/ArrayList", name := "isEmpty", desc := "()Z" } : Jvm.MethodName) ({ cls := "java/util/ArrayList", name := "isEmpty", desc := "()Z" } : Jvm.MethodName)) ∈ lw_all := lw_g (lw_at lw_m2 64 rfl) rfl
theorem q394 : (Jvm.Cond.code ({ cls := "java/util/ArrayList", name := "isEmpty", desc := "()Z" } : Jvm.MethodName) prog_29_method_9_code (1 : Nat) (Option.some Jvm.ClassFile.FieldType.boolean)) ∈ lw_all := lw_g (lw_at lw_m2 65 rfl) rfl
theorem q482 : (Jvm.Cond.instanceMethod ({ cls := "java/util/ArrayList", name := "size", desc := "()I" } : Jvm.MethodName)) ∈ lw_all := lw_g (lw_at lw_m2 153 rfl) rfl
theorem q483 : (Jvm.Cond.selects "java/util/ArrayList" ({ cls := "java/util/ArrayList", name := "size", desc := "()I" } : Jvm.MethodName) ({ cls := "java/util/ArrayList", name := "size", desc := "()I" } : Jvm.MethodName)) ∈ lw_all := lw_g (lw_at lw_m2 154 rfl) rfl
theorem q484 : (Jvm.Cond.code ({ cls := "java/util/ArrayList", name := "size", desc := "()I" } : Jvm.MethodName) prog_29_method_8_code (1 : Nat) (Option.some Jvm.ClassFile.FieldType.int)) ∈ lw_all := lw_g (lw_at lw_m2 155 rfl) rfl
theorem q560 : (Jvm.Cond.instanceMethod ({ cls := "java/util/ArrayList", name := "add", desc := "(Ljava/lang/Object;)Z" } : Jvm.MethodName)) ∈ lw_all := lw_g (lw_at lw_m2 231 rfl) rfl
theorem q561 : (Jvm.Cond.selects "java/util/ArrayList" ({ cls := "java/util/ArrayList", name := "add", desc := "(Ljava/lang/Object;)Z" } : Jvm.MethodName) ({ cls := "java/util/ArrayList", name := "add", desc := "(Ljava/lang/Object;)Z" } : Jvm.MethodName)) ∈ lw_all := lw_g (lw_at lw_m2 232 rfl) rfl
theorem q562 : (Jvm.Cond.code ({ cls := "java/util/ArrayList", name := "add", desc := "(Ljava/lang/Object;)Z" } : Jvm.MethodName) prog_29_method_25_code (2 : Nat) (Option.some Jvm.ClassFile.FieldType.boolean)) ∈ lw_all := lw_g (lw_at lw_m2 233 rfl) rfl
theorem q563 : (Jvm.Cond.methodLink "java/util/ArrayList" (131 : Nat) ({ cls := "java/util/ArrayList", name := "add", desc := "(Ljava/lang/Object;[Ljava/lang/Object;I)V" } : Jvm.MethodName)) ∈ lw_all := lw_g (lw_at lw_m2 234 rfl) rfl
theorem q564 : (Jvm.Cond.privateMethod ({ cls := "java/util/ArrayList", name := "add", desc := "(Ljava/lang/Object;[Ljava/lang/Object;I)V" } : Jvm.MethodName)) ∈ lw_tbl := lw_at lw_m2 235 rfl
theorem q565 : (Jvm.Cond.instanceMethod ({ cls := "java/util/ArrayList", name := "add", desc := "(Ljava/lang/Object;[Ljava/lang/Object;I)V" } : Jvm.MethodName)) ∈ lw_all := lw_g (lw_at lw_m2 236 rfl) rfl
theorem q566 : (Jvm.Cond.code ({ cls := "java/util/ArrayList", name := "add", desc := "(Ljava/lang/Object;[Ljava/lang/Object;I)V" } : Jvm.MethodName) prog_29_method_24_code (4 : Nat) (Option.none : Option Jvm.ClassFile.FieldType)) ∈ lw_all := lw_g (lw_at lw_m2 237 rfl) rfl
theorem q567 : (Jvm.Cond.methodLink "java/util/ArrayList" (129 : Nat) ({ cls := "java/util/ArrayList", name := "grow", desc := "()[Ljava/lang/Object;" } : Jvm.MethodName)) ∈ lw_all := lw_g (lw_at lw_m2 238 rfl) rfl
theorem q568 : (Jvm.Cond.privateMethod ({ cls := "java/util/ArrayList", name := "grow", desc := "()[Ljava/lang/Object;" } : Jvm.MethodName)) ∈ lw_tbl := lw_at lw_m2 239 rfl
theorem q569 : (Jvm.Cond.instanceMethod ({ cls := "java/util/ArrayList", name := "grow", desc := "()[Ljava/lang/Object;" } : Jvm.MethodName)) ∈ lw_all := lw_g (lw_at lw_m3 0 rfl) rfl
theorem q570 : (Jvm.Cond.code ({ cls := "java/util/ArrayList", name := "grow", desc := "()[Ljava/lang/Object;" } : Jvm.MethodName) prog_29_method_7_code (1 : Nat) (Option.some (Jvm.ClassFile.FieldType.array (Jvm.ClassFile.FieldType.object "java/lang/Object")))) ∈ lw_all := lw_g (lw_at lw_m3 1 rfl) rfl
theorem q571 : (Jvm.Cond.methodLink "java/util/ArrayList" (69 : Nat) ({ cls := "java/util/ArrayList", name := "grow", desc := "(I)[Ljava/lang/Object;" } : Jvm.MethodName)) ∈ lw_all := lw_g (lw_at lw_m3 2 rfl) rfl
theorem q572 : (Jvm.Cond.privateMethod ({ cls := "java/util/ArrayList", name := "grow", desc := "(I)[Ljava/lang/Object;" } : Jvm.MethodName)) ∈ lw_tbl := lw_at lw_m3 3 rfl
theorem q573 : (Jvm.Cond.instanceMethod ({ cls := "java/util/ArrayList", name := "grow", desc := "(I)[Ljava/lang/Object;" } : Jvm.MethodName)) ∈ lw_all := lw_g (lw_at lw_m3 4 rfl) rfl
theorem q574 : (Jvm.Cond.code ({ cls := "java/util/ArrayList", name := "grow", desc := "(I)[Ljava/lang/Object;" } : Jvm.MethodName) prog_29_method_6_code (4 : Nat) (Option.some (Jvm.ClassFile.FieldType.array (Jvm.ClassFile.FieldType.object "java/lang/Object")))) ∈ lw_all := lw_g (lw_at lw_m3 5 rfl) rfl
theorem q575 : (Jvm.Cond.methodLink "java/util/ArrayList" (73 : Nat) ({ cls := "jdk/internal/util/ArraysSupport", name := "newLength", desc := "(III)I" } : Jvm.MethodName)) ∈ lw_all := lw_g (lw_at lw_m3 6 rfl) rfl
theorem q585 : (Jvm.Cond.methodLink "java/util/ArrayList" (66 : Nat) ({ cls := "java/util/Arrays", name := "copyOf", desc := "([Ljava/lang/Object;I)[Ljava/lang/Object;" } : Jvm.MethodName)) ∈ lw_all := lw_g (lw_at lw_m3 16 rfl) rfl
theorem q604 : (Jvm.Cond.selects "java/util/ArrayList" ({ cls := "java/lang/Object", name := "getClass", desc := "()Ljava/lang/Class;" } : Jvm.MethodName) ({ cls := "java/lang/Object", name := "getClass", desc := "()Ljava/lang/Class;" } : Jvm.MethodName)) ∈ lw_all := lw_g (lw_at lw_m3 35 rfl) rfl
theorem q618 : (Jvm.Cond.methodLink "java/util/ArrayList" (79 : Nat) ({ cls := "java/lang/Math", name := "max", desc := "(II)I" } : Jvm.MethodName)) ∈ lw_all := lw_g (lw_at lw_m3 49 rfl) rfl
theorem q619 : (Jvm.Cond.classLink "java/util/ArrayList" (7 : Nat) "java/lang/Object") ∈ lw_all := lw_g (lw_at lw_m3 50 rfl) rfl
theorem q658 : (Jvm.Cond.instanceMethod ({ cls := "java/util/ArrayList", name := "get", desc := "(I)Ljava/lang/Object;" } : Jvm.MethodName)) ∈ lw_all := lw_g (lw_at lw_m3 89 rfl) rfl
theorem q659 : (Jvm.Cond.selects "java/util/ArrayList" ({ cls := "java/util/ArrayList", name := "get", desc := "(I)Ljava/lang/Object;" } : Jvm.MethodName) ({ cls := "java/util/ArrayList", name := "get", desc := "(I)Ljava/lang/Object;" } : Jvm.MethodName)) ∈ lw_all := lw_g (lw_at lw_m3 90 rfl) rfl
theorem q660 : (Jvm.Cond.code ({ cls := "java/util/ArrayList", name := "get", desc := "(I)Ljava/lang/Object;" } : Jvm.MethodName) prog_29_method_20_code (2 : Nat) (Option.some (Jvm.ClassFile.FieldType.object "java/lang/Object"))) ∈ lw_all := lw_g (lw_at lw_m3 91 rfl) rfl
theorem q661 : (Jvm.Cond.methodLink "java/util/ArrayList" (118 : Nat) ({ cls := "java/util/Objects", name := "checkIndex", desc := "(II)I" } : Jvm.MethodName)) ∈ lw_all := lw_g (lw_at lw_m3 92 rfl) rfl
theorem q667 : (Jvm.Cond.methodLink "java/util/ArrayList" (123 : Nat) ({ cls := "java/util/ArrayList", name := "elementData", desc := "(I)Ljava/lang/Object;" } : Jvm.MethodName)) ∈ lw_all := lw_g (lw_at lw_m3 98 rfl) rfl
theorem q668 : (Jvm.Cond.instanceMethod ({ cls := "java/util/ArrayList", name := "elementData", desc := "(I)Ljava/lang/Object;" } : Jvm.MethodName)) ∈ lw_all := lw_g (lw_at lw_m3 99 rfl) rfl
theorem q669 : (Jvm.Cond.selects "java/util/ArrayList" ({ cls := "java/util/ArrayList", name := "elementData", desc := "(I)Ljava/lang/Object;" } : Jvm.MethodName) ({ cls := "java/util/ArrayList", name := "elementData", desc := "(I)Ljava/lang/Object;" } : Jvm.MethodName)) ∈ lw_all := lw_g (lw_at lw_m3 100 rfl) rfl
theorem q670 : (Jvm.Cond.code ({ cls := "java/util/ArrayList", name := "elementData", desc := "(I)Ljava/lang/Object;" } : Jvm.MethodName) prog_29_method_18_code (2 : Nat) (Option.some (Jvm.ClassFile.FieldType.object "java/lang/Object"))) ∈ lw_all := lw_g (lw_at lw_m3 101 rfl) rfl
theorem q1605 : (Jvm.Cond.castable "java/util/ArrayList" "java/lang/Object") ∈ lw_tbl := lw_at lw_m7 76 rfl
theorem in_J2 : ∀ w ∈ wsJ20, w ∈ lw_all := lw_in wsJ20 [159, 155, 157] (by decide +kernel) (by decide +kernel)
theorem q96 : (Jvm.Cond.initialized "SoldWithIt$Folk") ∈ lw_all := lw_g (lw_at lw_m1 7 rfl) rfl
theorem q183 : (Jvm.Cond.instantiable "SoldWithIt$Folk" (6 : Nat)) ∈ lw_all := lw_g (lw_at lw_m1 94 rfl) rfl
theorem q185 : (Jvm.Cond.instanceMethod ({ cls := "SoldWithIt$Folk", name := "<init>", desc := "()V" } : Jvm.MethodName)) ∈ lw_all := lw_g (lw_at lw_m1 96 rfl) rfl
theorem q186 : (Jvm.Cond.code ({ cls := "SoldWithIt$Folk", name := "<init>", desc := "()V" } : Jvm.MethodName) prog_2_method_1_code (1 : Nat) (Option.none : Option Jvm.ClassFile.FieldType)) ∈ lw_all := lw_g (lw_at lw_m1 97 rfl) rfl
theorem q187 : (Jvm.Cond.methodLink "SoldWithIt$Folk" (3 : Nat) ({ cls := "SoldWithIt$Text", name := "<init>", desc := "(I)V" } : Jvm.MethodName)) ∈ lw_all := lw_g (lw_at lw_m1 98 rfl) rfl
theorem q188 : (Jvm.Cond.laysFinal "SoldWithIt$Folk" "SoldWithIt$Text" "bytes" "[I") ∈ lw_all := lw_g (lw_at lw_m1 99 rfl) rfl
theorem q189 : (Jvm.Cond.lays "SoldWithIt$Folk" "SoldWithIt$Text" "typed" "I") ∈ lw_all := lw_g (lw_at lw_m1 100 rfl) rfl
theorem q190 : (Jvm.Cond.lays "SoldWithIt$Folk" "SoldWithIt$Text" "at" "I") ∈ lw_all := lw_g (lw_at lw_m1 101 rfl) rfl
theorem q191 : (Jvm.Cond.lays "SoldWithIt$Folk" "SoldWithIt$Text" "fresh" "Z") ∈ lw_all := lw_g (lw_at lw_m1 102 rfl) rfl
theorem q192 : (Jvm.Cond.lays "SoldWithIt$Folk" "SoldWithIt$Text" "fault" "I") ∈ lw_all := lw_g (lw_at lw_m1 103 rfl) rfl
theorem q193 : (Jvm.Cond.laysFinal "SoldWithIt$Folk" "SoldWithIt$Text" "things" "Ljava/util/ArrayList;") ∈ lw_all := lw_g (lw_at lw_m1 104 rfl) rfl
theorem q194 : (Jvm.Cond.superclass "SoldWithIt$Folk" "SoldWithIt$Text") ∈ lw_all := lw_g (lw_at lw_m1 105 rfl) rfl
theorem q349 : (Jvm.Cond.sameMethod "SoldWithIt$Folk" "SoldWithIt$Text" "type" "(I)I") ∈ lw_all := lw_g (lw_at lw_m2 20 rfl) rfl
theorem q350 : (Jvm.Cond.selects "SoldWithIt$Folk" ({ cls := "SoldWithIt$Folk", name := "type", desc := "(I)I" } : Jvm.MethodName) ({ cls := "SoldWithIt$Text", name := "type", desc := "(I)I" } : Jvm.MethodName)) ∈ lw_all := lw_g (lw_at lw_m2 21 rfl) rfl
theorem q362 : (Jvm.Cond.sameMethod "SoldWithIt$Folk" "SoldWithIt$Text" "wipe" "()I") ∈ lw_all := lw_g (lw_at lw_m2 33 rfl) rfl
theorem q363 : (Jvm.Cond.selects "SoldWithIt$Folk" ({ cls := "SoldWithIt$Folk", name := "wipe", desc := "()I" } : Jvm.MethodName) ({ cls := "SoldWithIt$Text", name := "wipe", desc := "()I" } : Jvm.MethodName)) ∈ lw_all := lw_g (lw_at lw_m2 34 rfl) rfl
theorem q398 : (Jvm.Cond.selects "SoldWithIt$Folk" ({ cls := "SoldWithIt$Text", name := "between", desc := "()I" } : Jvm.MethodName) ({ cls := "SoldWithIt$Folk", name := "between", desc := "()I" } : Jvm.MethodName)) ∈ lw_all := lw_g (lw_at lw_m2 69 rfl) rfl
theorem q399 : (Jvm.Cond.instanceMethod ({ cls := "SoldWithIt$Folk", name := "between", desc := "()I" } : Jvm.MethodName)) ∈ lw_all := lw_g (lw_at lw_m2 70 rfl) rfl
theorem q400 : (Jvm.Cond.code ({ cls := "SoldWithIt$Folk", name := "between", desc := "()I" } : Jvm.MethodName) prog_2_method_3_code (1 : Nat) (Option.some Jvm.ClassFile.FieldType.int)) ∈ lw_all := lw_g (lw_at lw_m2 71 rfl) rfl
theorem q407 : (Jvm.Cond.selects "SoldWithIt$Folk" ({ cls := "SoldWithIt$Text", name := "here", desc := "()I" } : Jvm.MethodName) ({ cls := "SoldWithIt$Text", name := "here", desc := "()I" } : Jvm.MethodName)) ∈ lw_all := lw_g (lw_at lw_m2 78 rfl) rfl
theorem q413 : (Jvm.Cond.selects "SoldWithIt$Folk" ({ cls := "SoldWithIt$Text", name := "torn", desc := "()LSoldWithIt$Torn;" } : Jvm.MethodName) ({ cls := "SoldWithIt$Text", name := "torn", desc := "()LSoldWithIt$Torn;" } : Jvm.MethodName)) ∈ lw_all := lw_g (lw_at lw_m2 84 rfl) rfl
theorem q488 : (Jvm.Cond.selects "SoldWithIt$Folk" ({ cls := "SoldWithIt$Text", name := "reads", desc := "()Ljava/lang/Object;" } : Jvm.MethodName) ({ cls := "SoldWithIt$Folk", name := "reads", desc := "()Ljava/lang/Object;" } : Jvm.MethodName)) ∈ lw_all := lw_g (lw_at lw_m2 159 rfl) rfl
theorem q489 : (Jvm.Cond.instanceMethod ({ cls := "SoldWithIt$Folk", name := "reads", desc := "()Ljava/lang/Object;" } : Jvm.MethodName)) ∈ lw_all := lw_g (lw_at lw_m2 160 rfl) rfl
theorem q490 : (Jvm.Cond.code ({ cls := "SoldWithIt$Folk", name := "reads", desc := "()Ljava/lang/Object;" } : Jvm.MethodName) prog_2_method_4_code (1 : Nat) (Option.some (Jvm.ClassFile.FieldType.object "java/lang/Object"))) ∈ lw_all := lw_g (lw_at lw_m2 161 rfl) rfl
theorem q491 : (Jvm.Cond.methodLink "SoldWithIt$Folk" (32 : Nat) ({ cls := "SoldWithIt$Folk", name := "reads", desc := "()LSoldWithIt$Person;" } : Jvm.MethodName)) ∈ lw_all := lw_g (lw_at lw_m2 162 rfl) rfl
theorem q492 : (Jvm.Cond.instanceMethod ({ cls := "SoldWithIt$Folk", name := "reads", desc := "()LSoldWithIt$Person;" } : Jvm.MethodName)) ∈ lw_all := lw_g (lw_at lw_m2 163 rfl) rfl
theorem q493 : (Jvm.Cond.selects "SoldWithIt$Folk" ({ cls := "SoldWithIt$Folk", name := "reads", desc := "()LSoldWithIt$Person;" } : Jvm.MethodName) ({ cls := "SoldWithIt$Folk", name := "reads", desc := "()LSoldWithIt$Person;" } : Jvm.MethodName)) ∈ lw_all := lw_g (lw_at lw_m2 164 rfl) rfl
theorem q494 : (Jvm.Cond.code ({ cls := "SoldWithIt$Folk", name := "reads", desc := "()LSoldWithIt$Person;" } : Jvm.MethodName) prog_2_method_2_code (3 : Nat) (Option.some (Jvm.ClassFile.FieldType.object "SoldWithIt$Person"))) ∈ lw_all := lw_g (lw_at lw_m2 165 rfl) rfl
theorem q495 : (Jvm.Cond.methodLink "SoldWithIt$Folk" (9 : Nat) ({ cls := "SoldWithIt$Folk", name := "here", desc := "()I" } : Jvm.MethodName)) ∈ lw_all := lw_g (lw_at lw_m2 166 rfl) rfl
theorem q496 : (Jvm.Cond.sameMethod "SoldWithIt$Folk" "SoldWithIt$Text" "here" "()I") ∈ lw_all := lw_g (lw_at lw_m2 167 rfl) rfl
theorem q498 : (Jvm.Cond.selects "SoldWithIt$Folk" ({ cls := "SoldWithIt$Folk", name := "here", desc := "()I" } : Jvm.MethodName) ({ cls := "SoldWithIt$Text", name := "here", desc := "()I" } : Jvm.MethodName)) ∈ lw_all := lw_g (lw_at lw_m2 169 rfl) rfl
theorem q499 : (Jvm.Cond.methodLink "SoldWithIt$Folk" (15 : Nat) ({ cls := "SoldWithIt$Folk", name := "torn", desc := "()LSoldWithIt$Torn;" } : Jvm.MethodName)) ∈ lw_all := lw_g (lw_at lw_m2 170 rfl) rfl
theorem q500 : (Jvm.Cond.sameMethod "SoldWithIt$Folk" "SoldWithIt$Text" "torn" "()LSoldWithIt$Torn;") ∈ lw_all := lw_g (lw_at lw_m2 171 rfl) rfl
theorem q502 : (Jvm.Cond.selects "SoldWithIt$Folk" ({ cls := "SoldWithIt$Folk", name := "torn", desc := "()LSoldWithIt$Torn;" } : Jvm.MethodName) ({ cls := "SoldWithIt$Text", name := "torn", desc := "()LSoldWithIt$Torn;" } : Jvm.MethodName)) ∈ lw_all := lw_g (lw_at lw_m2 173 rfl) rfl
theorem q503 : (Jvm.Cond.methodLink "SoldWithIt$Folk" (19 : Nat) ({ cls := "SoldWithIt$Folk", name := "goesOn", desc := "()V" } : Jvm.MethodName)) ∈ lw_all := lw_g (lw_at lw_m2 174 rfl) rfl
theorem q504 : (Jvm.Cond.sameMethod "SoldWithIt$Folk" "SoldWithIt$Text" "goesOn" "()V") ∈ lw_all := lw_g (lw_at lw_m2 175 rfl) rfl
theorem q506 : (Jvm.Cond.selects "SoldWithIt$Folk" ({ cls := "SoldWithIt$Folk", name := "goesOn", desc := "()V" } : Jvm.MethodName) ({ cls := "SoldWithIt$Text", name := "goesOn", desc := "()V" } : Jvm.MethodName)) ∈ lw_all := lw_g (lw_at lw_m2 177 rfl) rfl
theorem q509 : (Jvm.Cond.classLink "SoldWithIt$Folk" (23 : Nat) "SoldWithIt$Person") ∈ lw_all := lw_g (lw_at lw_m2 180 rfl) rfl
theorem q511 : (Jvm.Cond.methodLink "SoldWithIt$Folk" (25 : Nat) ({ cls := "SoldWithIt$Folk", name := "figure", desc := "(I)I" } : Jvm.MethodName)) ∈ lw_all := lw_g (lw_at lw_m2 182 rfl) rfl
theorem q512 : (Jvm.Cond.sameMethod "SoldWithIt$Folk" "SoldWithIt$Text" "figure" "(I)I") ∈ lw_all := lw_g (lw_at lw_m2 183 rfl) rfl
theorem q514 : (Jvm.Cond.selects "SoldWithIt$Folk" ({ cls := "SoldWithIt$Folk", name := "figure", desc := "(I)I" } : Jvm.MethodName) ({ cls := "SoldWithIt$Text", name := "figure", desc := "(I)I" } : Jvm.MethodName)) ∈ lw_all := lw_g (lw_at lw_m2 185 rfl) rfl
theorem q518 : (Jvm.Cond.methodLink "SoldWithIt$Folk" (29 : Nat) ({ cls := "SoldWithIt$Person", name := "<init>", desc := "(II)V" } : Jvm.MethodName)) ∈ lw_all := lw_g (lw_at lw_m2 189 rfl) rfl
theorem q592 : (Jvm.Cond.selects "SoldWithIt$Folk" ({ cls := "java/lang/Object", name := "getClass", desc := "()Ljava/lang/Class;" } : Jvm.MethodName) ({ cls := "java/lang/Object", name := "getClass", desc := "()Ljava/lang/Class;" } : Jvm.MethodName)) ∈ lw_all := lw_g (lw_at lw_m3 23 rfl) rfl
theorem q621 : (Jvm.Cond.sameMethod "SoldWithIt$Folk" "SoldWithIt$Text" "read" "()I") ∈ lw_all := lw_g (lw_at lw_m3 52 rfl) rfl
theorem q622 : (Jvm.Cond.selects "SoldWithIt$Folk" ({ cls := "SoldWithIt$Folk", name := "read", desc := "()I" } : Jvm.MethodName) ({ cls := "SoldWithIt$Text", name := "read", desc := "()I" } : Jvm.MethodName)) ∈ lw_all := lw_g (lw_at lw_m3 53 rfl) rfl
theorem q681 : (Jvm.Cond.sameMethod "SoldWithIt$Folk" "SoldWithIt$Text" "size" "()I") ∈ lw_all := lw_g (lw_at lw_m3 112 rfl) rfl
theorem q682 : (Jvm.Cond.selects "SoldWithIt$Folk" ({ cls := "SoldWithIt$Folk", name := "size", desc := "()I" } : Jvm.MethodName) ({ cls := "SoldWithIt$Text", name := "size", desc := "()I" } : Jvm.MethodName)) ∈ lw_all := lw_g (lw_at lw_m3 113 rfl) rfl
theorem q692 : (Jvm.Cond.sameMethod "SoldWithIt$Folk" "SoldWithIt$Text" "thing" "(I)Ljava/lang/Object;") ∈ lw_all := lw_g (lw_at lw_m3 123 rfl) rfl
theorem q693 : (Jvm.Cond.selects "SoldWithIt$Folk" ({ cls := "SoldWithIt$Folk", name := "thing", desc := "(I)Ljava/lang/Object;" } : Jvm.MethodName) ({ cls := "SoldWithIt$Text", name := "thing", desc := "(I)Ljava/lang/Object;" } : Jvm.MethodName)) ∈ lw_all := lw_g (lw_at lw_m3 124 rfl) rfl
theorem q1153 : (Jvm.Cond.sameMethod "SoldWithIt$Folk" "SoldWithIt$Text" "length" "()I") ∈ lw_all := lw_g (lw_at lw_m5 104 rfl) rfl
theorem q1154 : (Jvm.Cond.selects "SoldWithIt$Folk" ({ cls := "SoldWithIt$Folk", name := "length", desc := "()I" } : Jvm.MethodName) ({ cls := "SoldWithIt$Text", name := "length", desc := "()I" } : Jvm.MethodName)) ∈ lw_all := lw_g (lw_at lw_m5 105 rfl) rfl
theorem q1599 : (Jvm.Cond.selects "SoldWithIt$Folk" ({ cls := "SoldWithIt$Text", name := "read", desc := "()I" } : Jvm.MethodName) ({ cls := "SoldWithIt$Text", name := "read", desc := "()I" } : Jvm.MethodName)) ∈ lw_all := lw_g (lw_at lw_m7 70 rfl) rfl
theorem q1606 : (Jvm.Cond.castable "SoldWithIt$Folk" "java/lang/Object") ∈ lw_tbl := lw_at lw_m7 77 rfl
theorem in_X3 : ∀ w ∈ wsX30, w ∈ lw_all := lw_in wsX30 [188, 189, 190, 191, 192, 193] (by decide +kernel) (by decide +kernel)
theorem q97 : (Jvm.Cond.initialized "SoldWithIt$Noon") ∈ lw_all := lw_g (lw_at lw_m1 8 rfl) rfl
theorem q196 : (Jvm.Cond.instantiable "SoldWithIt$Noon" (6 : Nat)) ∈ lw_all := lw_g (lw_at lw_m1 107 rfl) rfl
theorem q198 : (Jvm.Cond.instanceMethod ({ cls := "SoldWithIt$Noon", name := "<init>", desc := "(LSoldWithIt;)V" } : Jvm.MethodName)) ∈ lw_all := lw_g (lw_at lw_m1 109 rfl) rfl
theorem q199 : (Jvm.Cond.code ({ cls := "SoldWithIt$Noon", name := "<init>", desc := "(LSoldWithIt;)V" } : Jvm.MethodName) prog_4_method_1_code (2 : Nat) (Option.none : Option Jvm.ClassFile.FieldType)) ∈ lw_all := lw_g (lw_at lw_m1 110 rfl) rfl
theorem q200 : (Jvm.Cond.methodLink "SoldWithIt$Noon" (9 : Nat) ({ cls := "java/lang/Object", name := "<init>", desc := "()V" } : Jvm.MethodName)) ∈ lw_all := lw_g (lw_at lw_m1 111 rfl) rfl
theorem q201 : (Jvm.Cond.fieldLink "SoldWithIt$Noon" (15 : Nat) "SoldWithIt$Noon" "places" "[I") ∈ lw_all := lw_g (lw_at lw_m1 112 rfl) rfl
theorem q203 : (Jvm.Cond.fieldLink "SoldWithIt$Noon" (19 : Nat) "SoldWithIt$Noon" "owners" "[I") ∈ lw_all := lw_g (lw_at lw_m1 114 rfl) rfl
theorem q206 : (Jvm.Cond.fieldLink "SoldWithIt$Noon" (22 : Nat) "SoldWithIt$Noon" "keepers" "[I") ∈ lw_all := lw_g (lw_at lw_m1 117 rfl) rfl
theorem q208 : (Jvm.Cond.fieldLink "SoldWithIt$Noon" (25 : Nat) "SoldWithIt$Noon" "sold" "[I") ∈ lw_all := lw_g (lw_at lw_m1 119 rfl) rfl
theorem q210 : (Jvm.Cond.fieldLink "SoldWithIt$Noon" (53 : Nat) "SoldWithIt$Noon" "soldNow" "I") ∈ lw_all := lw_g (lw_at lw_m1 121 rfl) rfl
theorem q211 : (Jvm.Cond.fieldLink "SoldWithIt$Noon" (3 : Nat) "SoldWithIt$Noon" "this$0" "LSoldWithIt;") ∈ lw_all := lw_g (lw_at lw_m1 122 rfl) rfl
theorem q212 : (Jvm.Cond.laysFinal "SoldWithIt$Noon" "SoldWithIt$Noon" "places" "[I") ∈ lw_all := lw_g (lw_at lw_m1 123 rfl) rfl
theorem q213 : (Jvm.Cond.soleField "SoldWithIt$Noon" "places") ∈ lw_all := lw_g (lw_at lw_m1 124 rfl) rfl
theorem q214 : (Jvm.Cond.laysFinal "SoldWithIt$Noon" "SoldWithIt$Noon" "owners" "[I") ∈ lw_all := lw_g (lw_at lw_m1 125 rfl) rfl
theorem q215 : (Jvm.Cond.soleField "SoldWithIt$Noon" "owners") ∈ lw_all := lw_g (lw_at lw_m1 126 rfl) rfl
theorem q216 : (Jvm.Cond.laysFinal "SoldWithIt$Noon" "SoldWithIt$Noon" "keepers" "[I") ∈ lw_all := lw_g (lw_at lw_m1 127 rfl) rfl
theorem q217 : (Jvm.Cond.soleField "SoldWithIt$Noon" "keepers") ∈ lw_all := lw_g (lw_at lw_m1 128 rfl) rfl
theorem q218 : (Jvm.Cond.laysFinal "SoldWithIt$Noon" "SoldWithIt$Noon" "sold" "[I") ∈ lw_all := lw_g (lw_at lw_m1 129 rfl) rfl
theorem q219 : (Jvm.Cond.soleField "SoldWithIt$Noon" "sold") ∈ lw_all := lw_g (lw_at lw_m1 130 rfl) rfl
theorem q220 : (Jvm.Cond.lays "SoldWithIt$Noon" "SoldWithIt$Noon" "soldNow" "I") ∈ lw_all := lw_g (lw_at lw_m1 131 rfl) rfl
theorem q221 : (Jvm.Cond.soleField "SoldWithIt$Noon" "soldNow") ∈ lw_all := lw_g (lw_at lw_m1 132 rfl) rfl
theorem q222 : (Jvm.Cond.laysFinal "SoldWithIt$Noon" "SoldWithIt$Noon" "this$0" "LSoldWithIt;") ∈ lw_all := lw_g (lw_at lw_m1 133 rfl) rfl
theorem q223 : (Jvm.Cond.soleField "SoldWithIt$Noon" "this$0") ∈ lw_all := lw_g (lw_at lw_m1 134 rfl) rfl
theorem q224 : (Jvm.Cond.superclass "SoldWithIt$Noon" "java/lang/Object") ∈ lw_all := lw_g (lw_at lw_m1 135 rfl) rfl
theorem q266 : (Jvm.Cond.fieldLinkNest "SoldWithIt$Noon" (76 : Nat) "SoldWithIt" "laws" "[I" "SoldWithIt") ∈ lw_tbl := lw_at lw_m1 177 rfl
theorem q268 : (Jvm.Cond.fieldLinkNest "SoldWithIt$Noon" (85 : Nat) "SoldWithIt" "saleHouse" "[I" "SoldWithIt") ∈ lw_tbl := lw_at lw_m1 179 rfl
theorem q270 : (Jvm.Cond.fieldLinkNest "SoldWithIt$Noon" (88 : Nat) "SoldWithIt" "saleBuyer" "[I" "SoldWithIt") ∈ lw_tbl := lw_at lw_m1 181 rfl
theorem q271 : (Jvm.Cond.fieldLinkNest "SoldWithIt$Noon" (82 : Nat) "SoldWithIt" "sales" "I" "SoldWithIt") ∈ lw_tbl := lw_at lw_m1 182 rfl
theorem q281 : (Jvm.Cond.fieldLinkNest "SoldWithIt$Noon" (95 : Nat) "SoldWithIt" "worths" "[[I" "SoldWithIt") ∈ lw_tbl := lw_at lw_m1 192 rfl
theorem q548 : (Jvm.Cond.fieldLinkNest "SoldWithIt$Noon" (36 : Nat) "SoldWithIt$House" "owner" "I" "SoldWithIt") ∈ lw_tbl := lw_at lw_m2 219 rfl
theorem q552 : (Jvm.Cond.fieldLinkNest "SoldWithIt$Noon" (99 : Nat) "SoldWithIt$House" "price" "I" "SoldWithIt") ∈ lw_tbl := lw_at lw_m2 223 rfl
theorem q594 : (Jvm.Cond.selects "SoldWithIt$Noon" ({ cls := "java/lang/Object", name := "getClass", desc := "()Ljava/lang/Class;" } : Jvm.MethodName) ({ cls := "java/lang/Object", name := "getClass", desc := "()Ljava/lang/Class;" } : Jvm.MethodName)) ∈ lw_all := lw_g (lw_at lw_m3 25 rfl) rfl
theorem q772 : (Jvm.Cond.instanceMethod ({ cls := "SoldWithIt$Noon", name := "begins", desc := "()LSoldWithIt$Noon;" } : Jvm.MethodName)) ∈ lw_all := lw_g (lw_at lw_m3 203 rfl) rfl
theorem q773 : (Jvm.Cond.selects "SoldWithIt$Noon" ({ cls := "SoldWithIt$Noon", name := "begins", desc := "()LSoldWithIt$Noon;" } : Jvm.MethodName) ({ cls := "SoldWithIt$Noon", name := "begins", desc := "()LSoldWithIt$Noon;" } : Jvm.MethodName)) ∈ lw_all := lw_g (lw_at lw_m3 204 rfl) rfl
theorem q774 : (Jvm.Cond.code ({ cls := "SoldWithIt$Noon", name := "begins", desc := "()LSoldWithIt$Noon;" } : Jvm.MethodName) prog_4_method_2_code (2 : Nat) (Option.some (Jvm.ClassFile.FieldType.object "SoldWithIt$Noon"))) ∈ lw_all := lw_g (lw_at lw_m3 205 rfl) rfl
theorem q775 : (Jvm.Cond.methodLinkNest "SoldWithIt$Noon" (28 : Nat) ({ cls := "SoldWithIt", name := "houses", desc := "()I" } : Jvm.MethodName) "SoldWithIt") ∈ lw_tbl := lw_at lw_m3 206 rfl
theorem q776 : (Jvm.Cond.methodLinkNest "SoldWithIt$Noon" (32 : Nat) ({ cls := "SoldWithIt", name := "house", desc := "(I)LSoldWithIt$House;" } : Jvm.MethodName) "SoldWithIt") ∈ lw_tbl := lw_at lw_m3 207 rfl
theorem q777 : (Jvm.Cond.methodLink "SoldWithIt$Noon" (42 : Nat) ({ cls := "SoldWithIt$Noon", name := "forgets", desc := "()LSoldWithIt$Noon;" } : Jvm.MethodName)) ∈ lw_all := lw_g (lw_at lw_m3 208 rfl) rfl
theorem q778 : (Jvm.Cond.instanceMethod ({ cls := "SoldWithIt$Noon", name := "forgets", desc := "()LSoldWithIt$Noon;" } : Jvm.MethodName)) ∈ lw_all := lw_g (lw_at lw_m3 209 rfl) rfl
theorem q779 : (Jvm.Cond.selects "SoldWithIt$Noon" ({ cls := "SoldWithIt$Noon", name := "forgets", desc := "()LSoldWithIt$Noon;" } : Jvm.MethodName) ({ cls := "SoldWithIt$Noon", name := "forgets", desc := "()LSoldWithIt$Noon;" } : Jvm.MethodName)) ∈ lw_all := lw_g (lw_at lw_m3 210 rfl) rfl
theorem q780 : (Jvm.Cond.code ({ cls := "SoldWithIt$Noon", name := "forgets", desc := "()LSoldWithIt$Noon;" } : Jvm.MethodName) prog_4_method_3_code (2 : Nat) (Option.some (Jvm.ClassFile.FieldType.object "SoldWithIt$Noon"))) ∈ lw_all := lw_g (lw_at lw_m3 211 rfl) rfl
theorem q781 : (Jvm.Cond.methodLinkNest "SoldWithIt$Noon" (46 : Nat) ({ cls := "SoldWithIt", name := "people", desc := "()I" } : Jvm.MethodName) "SoldWithIt") ∈ lw_tbl := lw_at lw_m3 212 rfl
theorem q783 : (Jvm.Cond.instanceMethod ({ cls := "SoldWithIt$Noon", name := "asTold", desc := "()LSoldWithIt$Noon;" } : Jvm.MethodName)) ∈ lw_all := lw_g (lw_at lw_m3 214 rfl) rfl
theorem q784 : (Jvm.Cond.selects "SoldWithIt$Noon" ({ cls := "SoldWithIt$Noon", name := "asTold", desc := "()LSoldWithIt$Noon;" } : Jvm.MethodName) ({ cls := "SoldWithIt$Noon", name := "asTold", desc := "()LSoldWithIt$Noon;" } : Jvm.MethodName)) ∈ lw_all := lw_g (lw_at lw_m3 215 rfl) rfl
theorem q785 : (Jvm.Cond.code ({ cls := "SoldWithIt$Noon", name := "asTold", desc := "()LSoldWithIt$Noon;" } : Jvm.MethodName) prog_4_method_4_code (2 : Nat) (Option.some (Jvm.ClassFile.FieldType.object "SoldWithIt$Noon"))) ∈ lw_all := lw_g (lw_at lw_m3 216 rfl) rfl
theorem q786 : (Jvm.Cond.methodLinkNest "SoldWithIt$Noon" (49 : Nat) ({ cls := "SoldWithIt", name := "placeOf", desc := "(I)I" } : Jvm.MethodName) "SoldWithIt") ∈ lw_tbl := lw_at lw_m3 217 rfl
theorem q793 : (Jvm.Cond.instanceMethod ({ cls := "SoldWithIt$Noon", name := "sells", desc := "(II)I" } : Jvm.MethodName)) ∈ lw_all := lw_g (lw_at lw_m3 224 rfl) rfl
theorem q794 : (Jvm.Cond.selects "SoldWithIt$Noon" ({ cls := "SoldWithIt$Noon", name := "sells", desc := "(II)I" } : Jvm.MethodName) ({ cls := "SoldWithIt$Noon", name := "sells", desc := "(II)I" } : Jvm.MethodName)) ∈ lw_all := lw_g (lw_at lw_m3 225 rfl) rfl
theorem q795 : (Jvm.Cond.code ({ cls := "SoldWithIt$Noon", name := "sells", desc := "(II)I" } : Jvm.MethodName) prog_4_method_5_code (3 : Nat) (Option.some Jvm.ClassFile.FieldType.int)) ∈ lw_all := lw_g (lw_at lw_m3 226 rfl) rfl
theorem q796 : (Jvm.Cond.methodLinkNest "SoldWithIt$Noon" (56 : Nat) ({ cls := "SoldWithIt", name := "isHouse", desc := "(I)Z" } : Jvm.MethodName) "SoldWithIt") ∈ lw_tbl := lw_at lw_m3 227 rfl
theorem q797 : (Jvm.Cond.methodLinkNest "SoldWithIt$Noon" (60 : Nat) ({ cls := "SoldWithIt", name := "isPerson", desc := "(I)Z" } : Jvm.MethodName) "SoldWithIt") ∈ lw_tbl := lw_at lw_m3 228 rfl
theorem q798 : (Jvm.Cond.methodLink "SoldWithIt$Noon" (63 : Nat) ({ cls := "SoldWithIt$Noon", name := "goes", desc := "(II)V" } : Jvm.MethodName)) ∈ lw_all := lw_g (lw_at lw_m3 229 rfl) rfl
theorem q799 : (Jvm.Cond.privateMethod ({ cls := "SoldWithIt$Noon", name := "goes", desc := "(II)V" } : Jvm.MethodName)) ∈ lw_tbl := lw_at lw_m3 230 rfl
theorem q800 : (Jvm.Cond.instanceMethod ({ cls := "SoldWithIt$Noon", name := "goes", desc := "(II)V" } : Jvm.MethodName)) ∈ lw_all := lw_g (lw_at lw_m3 231 rfl) rfl
theorem q801 : (Jvm.Cond.code ({ cls := "SoldWithIt$Noon", name := "goes", desc := "(II)V" } : Jvm.MethodName) prog_4_method_6_code (5 : Nat) (Option.none : Option Jvm.ClassFile.FieldType)) ∈ lw_all := lw_g (lw_at lw_m3 232 rfl) rfl
theorem q802 : (Jvm.Cond.methodLinkNest "SoldWithIt$Noon" (72 : Nat) ({ cls := "SoldWithIt", name := "isIn", desc := "(II)Z" } : Jvm.MethodName) "SoldWithIt") ∈ lw_tbl := lw_at lw_m3 233 rfl
theorem q805 : (Jvm.Cond.methodLink "SoldWithIt$Noon" (79 : Nat) ({ cls := "SoldWithIt$Noon", name := "takes", desc := "(II)V" } : Jvm.MethodName)) ∈ lw_all := lw_g (lw_at lw_m3 236 rfl) rfl
theorem q806 : (Jvm.Cond.privateMethod ({ cls := "SoldWithIt$Noon", name := "takes", desc := "(II)V" } : Jvm.MethodName)) ∈ lw_tbl := lw_at lw_m3 237 rfl
theorem q807 : (Jvm.Cond.instanceMethod ({ cls := "SoldWithIt$Noon", name := "takes", desc := "(II)V" } : Jvm.MethodName)) ∈ lw_all := lw_g (lw_at lw_m3 238 rfl) rfl
theorem q808 : (Jvm.Cond.code ({ cls := "SoldWithIt$Noon", name := "takes", desc := "(II)V" } : Jvm.MethodName) prog_4_method_7_code (4 : Nat) (Option.none : Option Jvm.ClassFile.FieldType)) ∈ lw_all := lw_g (lw_at lw_m3 239 rfl) rfl
theorem q809 : (Jvm.Cond.methodLink "SoldWithIt$Noon" (67 : Nat) ({ cls := "java/lang/Integer", name := "bitCount", desc := "(I)I" } : Jvm.MethodName)) ∈ lw_all := lw_g (lw_at lw_m4 0 rfl) rfl
theorem q858 : (Jvm.Cond.instanceMethod ({ cls := "SoldWithIt$Noon", name := "gain", desc := "(I)I" } : Jvm.MethodName)) ∈ lw_all := lw_g (lw_at lw_m4 49 rfl) rfl
theorem q859 : (Jvm.Cond.selects "SoldWithIt$Noon" ({ cls := "SoldWithIt$Noon", name := "gain", desc := "(I)I" } : Jvm.MethodName) ({ cls := "SoldWithIt$Noon", name := "gain", desc := "(I)I" } : Jvm.MethodName)) ∈ lw_all := lw_g (lw_at lw_m4 50 rfl) rfl
theorem q860 : (Jvm.Cond.code ({ cls := "SoldWithIt$Noon", name := "gain", desc := "(I)I" } : Jvm.MethodName) prog_4_method_9_code (4 : Nat) (Option.some Jvm.ClassFile.FieldType.int)) ∈ lw_all := lw_g (lw_at lw_m4 51 rfl) rfl
theorem q890 : (Jvm.Cond.instanceMethod ({ cls := "SoldWithIt$Noon", name := "sellsAll", desc := "()LSoldWithIt$Noon;" } : Jvm.MethodName)) ∈ lw_all := lw_g (lw_at lw_m4 81 rfl) rfl
theorem q891 : (Jvm.Cond.selects "SoldWithIt$Noon" ({ cls := "SoldWithIt$Noon", name := "sellsAll", desc := "()LSoldWithIt$Noon;" } : Jvm.MethodName) ({ cls := "SoldWithIt$Noon", name := "sellsAll", desc := "()LSoldWithIt$Noon;" } : Jvm.MethodName)) ∈ lw_all := lw_g (lw_at lw_m4 82 rfl) rfl
theorem q892 : (Jvm.Cond.code ({ cls := "SoldWithIt$Noon", name := "sellsAll", desc := "()LSoldWithIt$Noon;" } : Jvm.MethodName) prog_4_method_8_code (2 : Nat) (Option.some (Jvm.ClassFile.FieldType.object "SoldWithIt$Noon"))) ∈ lw_all := lw_g (lw_at lw_m4 83 rfl) rfl
theorem q893 : (Jvm.Cond.methodLink "SoldWithIt$Noon" (91 : Nat) ({ cls := "SoldWithIt$Noon", name := "sells", desc := "(II)I" } : Jvm.MethodName)) ∈ lw_all := lw_g (lw_at lw_m4 84 rfl) rfl
theorem q1607 : (Jvm.Cond.castable "SoldWithIt$Noon" "java/lang/Object") ∈ lw_tbl := lw_at lw_m7 78 rfl
theorem in_X4 : ∀ w ∈ wsX40, w ∈ lw_all := lw_in wsX40 [212, 214, 216, 218, 220, 222] (by decide +kernel) (by decide +kernel)
theorem q98 : (Jvm.Cond.initialized "SoldWithIt$Sales") ∈ lw_all := lw_g (lw_at lw_m1 9 rfl) rfl
theorem q204 : (Jvm.Cond.fieldLinkNest "SoldWithIt$Sales" (66 : Nat) "SoldWithIt$Noon" "owners" "[I" "SoldWithIt") ∈ lw_tbl := lw_at lw_m1 115 rfl
theorem q228 : (Jvm.Cond.instantiable "SoldWithIt$Sales" (4 : Nat)) ∈ lw_all := lw_g (lw_at lw_m1 139 rfl) rfl
theorem q230 : (Jvm.Cond.instanceMethod ({ cls := "SoldWithIt$Sales", name := "<init>", desc := "(LSoldWithIt;)V" } : Jvm.MethodName)) ∈ lw_all := lw_g (lw_at lw_m1 141 rfl) rfl
theorem q231 : (Jvm.Cond.code ({ cls := "SoldWithIt$Sales", name := "<init>", desc := "(LSoldWithIt;)V" } : Jvm.MethodName) prog_7_method_1_code (2 : Nat) (Option.none : Option Jvm.ClassFile.FieldType)) ∈ lw_all := lw_g (lw_at lw_m1 142 rfl) rfl
theorem q232 : (Jvm.Cond.methodLink "SoldWithIt$Sales" (9 : Nat) ({ cls := "java/lang/Object", name := "<init>", desc := "()V" } : Jvm.MethodName)) ∈ lw_all := lw_g (lw_at lw_m1 143 rfl) rfl
theorem q233 : (Jvm.Cond.fieldLink "SoldWithIt$Sales" (15 : Nat) "SoldWithIt$Sales" "fewest" "[I") ∈ lw_all := lw_g (lw_at lw_m1 144 rfl) rfl
theorem q235 : (Jvm.Cond.fieldLink "SoldWithIt$Sales" (19 : Nat) "SoldWithIt$Sales" "order" "[I") ∈ lw_all := lw_g (lw_at lw_m1 146 rfl) rfl
theorem q236 : (Jvm.Cond.fieldLink "SoldWithIt$Sales" (22 : Nat) "SoldWithIt$Sales" "many" "I") ∈ lw_all := lw_g (lw_at lw_m1 147 rfl) rfl
theorem q237 : (Jvm.Cond.fieldLink "SoldWithIt$Sales" (3 : Nat) "SoldWithIt$Sales" "this$0" "LSoldWithIt;") ∈ lw_all := lw_g (lw_at lw_m1 148 rfl) rfl
theorem q238 : (Jvm.Cond.laysFinal "SoldWithIt$Sales" "SoldWithIt$Sales" "fewest" "[I") ∈ lw_all := lw_g (lw_at lw_m1 149 rfl) rfl
theorem q239 : (Jvm.Cond.soleField "SoldWithIt$Sales" "fewest") ∈ lw_all := lw_g (lw_at lw_m1 150 rfl) rfl
theorem q240 : (Jvm.Cond.laysFinal "SoldWithIt$Sales" "SoldWithIt$Sales" "order" "[I") ∈ lw_all := lw_g (lw_at lw_m1 151 rfl) rfl
theorem q241 : (Jvm.Cond.soleField "SoldWithIt$Sales" "order") ∈ lw_all := lw_g (lw_at lw_m1 152 rfl) rfl
theorem q242 : (Jvm.Cond.lays "SoldWithIt$Sales" "SoldWithIt$Sales" "many" "I") ∈ lw_all := lw_g (lw_at lw_m1 153 rfl) rfl
theorem q243 : (Jvm.Cond.soleField "SoldWithIt$Sales" "many") ∈ lw_all := lw_g (lw_at lw_m1 154 rfl) rfl
theorem q244 : (Jvm.Cond.laysFinal "SoldWithIt$Sales" "SoldWithIt$Sales" "this$0" "LSoldWithIt;") ∈ lw_all := lw_g (lw_at lw_m1 155 rfl) rfl
theorem q245 : (Jvm.Cond.soleField "SoldWithIt$Sales" "this$0") ∈ lw_all := lw_g (lw_at lw_m1 156 rfl) rfl
theorem q246 : (Jvm.Cond.superclass "SoldWithIt$Sales" "java/lang/Object") ∈ lw_all := lw_g (lw_at lw_m1 157 rfl) rfl
theorem q275 : (Jvm.Cond.fieldLinkNest "SoldWithIt$Sales" (53 : Nat) "SoldWithIt" "tried" "LSoldWithIt$Noon;" "SoldWithIt") ∈ lw_tbl := lw_at lw_m1 186 rfl
theorem q549 : (Jvm.Cond.fieldLinkNest "SoldWithIt$Sales" (45 : Nat) "SoldWithIt$House" "owner" "I" "SoldWithIt") ∈ lw_tbl := lw_at lw_m2 220 rfl
theorem q597 : (Jvm.Cond.selects "SoldWithIt$Sales" ({ cls := "java/lang/Object", name := "getClass", desc := "()Ljava/lang/Class;" } : Jvm.MethodName) ({ cls := "java/lang/Object", name := "getClass", desc := "()Ljava/lang/Class;" } : Jvm.MethodName)) ∈ lw_all := lw_g (lw_at lw_m3 28 rfl) rfl
theorem q964 : (Jvm.Cond.instanceMethod ({ cls := "SoldWithIt$Sales", name := "runs", desc := "()LSoldWithIt$Sales;" } : Jvm.MethodName)) ∈ lw_all := lw_g (lw_at lw_m4 155 rfl) rfl
theorem q965 : (Jvm.Cond.selects "SoldWithIt$Sales" ({ cls := "SoldWithIt$Sales", name := "runs", desc := "()LSoldWithIt$Sales;" } : Jvm.MethodName) ({ cls := "SoldWithIt$Sales", name := "runs", desc := "()LSoldWithIt$Sales;" } : Jvm.MethodName)) ∈ lw_all := lw_g (lw_at lw_m4 156 rfl) rfl
theorem q966 : (Jvm.Cond.code ({ cls := "SoldWithIt$Sales", name := "runs", desc := "()LSoldWithIt$Sales;" } : Jvm.MethodName) prog_7_method_2_code (2 : Nat) (Option.some (Jvm.ClassFile.FieldType.object "SoldWithIt$Sales"))) ∈ lw_all := lw_g (lw_at lw_m4 157 rfl) rfl
theorem q967 : (Jvm.Cond.methodLink "SoldWithIt$Sales" (26 : Nat) ({ cls := "SoldWithIt$Sales", name := "told", desc := "()I" } : Jvm.MethodName)) ∈ lw_all := lw_g (lw_at lw_m4 158 rfl) rfl
theorem q968 : (Jvm.Cond.privateMethod ({ cls := "SoldWithIt$Sales", name := "told", desc := "()I" } : Jvm.MethodName)) ∈ lw_tbl := lw_at lw_m4 159 rfl
theorem q969 : (Jvm.Cond.instanceMethod ({ cls := "SoldWithIt$Sales", name := "told", desc := "()I" } : Jvm.MethodName)) ∈ lw_all := lw_g (lw_at lw_m4 160 rfl) rfl
theorem q970 : (Jvm.Cond.code ({ cls := "SoldWithIt$Sales", name := "told", desc := "()I" } : Jvm.MethodName) prog_7_method_3_code (3 : Nat) (Option.some Jvm.ClassFile.FieldType.int)) ∈ lw_all := lw_g (lw_at lw_m4 161 rfl) rfl
theorem q971 : (Jvm.Cond.methodLinkNest "SoldWithIt$Sales" (38 : Nat) ({ cls := "SoldWithIt", name := "houses", desc := "()I" } : Jvm.MethodName) "SoldWithIt") ∈ lw_tbl := lw_at lw_m4 162 rfl
theorem q972 : (Jvm.Cond.methodLinkNest "SoldWithIt$Sales" (41 : Nat) ({ cls := "SoldWithIt", name := "house", desc := "(I)LSoldWithIt$House;" } : Jvm.MethodName) "SoldWithIt") ∈ lw_tbl := lw_at lw_m4 163 rfl
theorem q973 : (Jvm.Cond.methodLink "SoldWithIt$Sales" (30 : Nat) ({ cls := "SoldWithIt$Sales", name := "comes", desc := "(II)V" } : Jvm.MethodName)) ∈ lw_all := lw_g (lw_at lw_m4 164 rfl) rfl
theorem q974 : (Jvm.Cond.privateMethod ({ cls := "SoldWithIt$Sales", name := "comes", desc := "(II)V" } : Jvm.MethodName)) ∈ lw_tbl := lw_at lw_m4 165 rfl
theorem q975 : (Jvm.Cond.instanceMethod ({ cls := "SoldWithIt$Sales", name := "comes", desc := "(II)V" } : Jvm.MethodName)) ∈ lw_all := lw_g (lw_at lw_m4 166 rfl) rfl
theorem q976 : (Jvm.Cond.code ({ cls := "SoldWithIt$Sales", name := "comes", desc := "(II)V" } : Jvm.MethodName) prog_7_method_4_code (3 : Nat) (Option.none : Option Jvm.ClassFile.FieldType)) ∈ lw_all := lw_g (lw_at lw_m4 167 rfl) rfl
theorem q977 : (Jvm.Cond.methodLink "SoldWithIt$Sales" (34 : Nat) ({ cls := "SoldWithIt$Sales", name := "goesOn", desc := "(I)V" } : Jvm.MethodName)) ∈ lw_all := lw_g (lw_at lw_m4 168 rfl) rfl
theorem q978 : (Jvm.Cond.privateMethod ({ cls := "SoldWithIt$Sales", name := "goesOn", desc := "(I)V" } : Jvm.MethodName)) ∈ lw_tbl := lw_at lw_m4 169 rfl
theorem q979 : (Jvm.Cond.instanceMethod ({ cls := "SoldWithIt$Sales", name := "goesOn", desc := "(I)V" } : Jvm.MethodName)) ∈ lw_all := lw_g (lw_at lw_m4 170 rfl) rfl
theorem q980 : (Jvm.Cond.code ({ cls := "SoldWithIt$Sales", name := "goesOn", desc := "(I)V" } : Jvm.MethodName) prog_7_method_5_code (6 : Nat) (Option.none : Option Jvm.ClassFile.FieldType)) ∈ lw_all := lw_g (lw_at lw_m4 171 rfl) rfl
theorem q981 : (Jvm.Cond.methodLinkNest "SoldWithIt$Sales" (50 : Nat) ({ cls := "SoldWithIt", name := "people", desc := "()I" } : Jvm.MethodName) "SoldWithIt") ∈ lw_tbl := lw_at lw_m4 172 rfl
theorem q982 : (Jvm.Cond.methodLink "SoldWithIt$Sales" (57 : Nat) ({ cls := "SoldWithIt$Noon", name := "asTold", desc := "()LSoldWithIt$Noon;" } : Jvm.MethodName)) ∈ lw_all := lw_g (lw_at lw_m4 173 rfl) rfl
theorem q983 : (Jvm.Cond.methodLink "SoldWithIt$Sales" (63 : Nat) ({ cls := "SoldWithIt$Noon", name := "forgets", desc := "()LSoldWithIt$Noon;" } : Jvm.MethodName)) ∈ lw_all := lw_g (lw_at lw_m4 174 rfl) rfl
theorem q984 : (Jvm.Cond.methodLink "SoldWithIt$Sales" (69 : Nat) ({ cls := "SoldWithIt$Noon", name := "sells", desc := "(II)I" } : Jvm.MethodName)) ∈ lw_all := lw_g (lw_at lw_m4 175 rfl) rfl
theorem q1608 : (Jvm.Cond.castable "SoldWithIt$Sales" "java/lang/Object") ∈ lw_tbl := lw_at lw_m7 79 rfl
theorem in_X5 : ∀ w ∈ wsX50, w ∈ lw_all := lw_in wsX50 [238, 240, 242, 244] (by decide +kernel) (by decide +kernel)
theorem q99 : (Jvm.Cond.initialized "SoldWithIt$Sheet") ∈ lw_all := lw_g (lw_at lw_m1 10 rfl) rfl
theorem q251 : (Jvm.Cond.instantiable "SoldWithIt$Sheet" (1 : Nat)) ∈ lw_all := lw_g (lw_at lw_m1 162 rfl) rfl
theorem q253 : (Jvm.Cond.instanceMethod ({ cls := "SoldWithIt$Sheet", name := "<init>", desc := "()V" } : Jvm.MethodName)) ∈ lw_all := lw_g (lw_at lw_m1 164 rfl) rfl
theorem q254 : (Jvm.Cond.code ({ cls := "SoldWithIt$Sheet", name := "<init>", desc := "()V" } : Jvm.MethodName) prog_8_method_1_code (1 : Nat) (Option.none : Option Jvm.ClassFile.FieldType)) ∈ lw_all := lw_g (lw_at lw_m1 165 rfl) rfl
theorem q255 : (Jvm.Cond.methodLink "SoldWithIt$Sheet" (1 : Nat) ({ cls := "java/lang/Object", name := "<init>", desc := "()V" } : Jvm.MethodName)) ∈ lw_all := lw_g (lw_at lw_m1 166 rfl) rfl
theorem q256 : (Jvm.Cond.fieldLink "SoldWithIt$Sheet" (7 : Nat) "SoldWithIt$Sheet" "row" "Ljava/lang/Object;") ∈ lw_all := lw_g (lw_at lw_m1 167 rfl) rfl
theorem q258 : (Jvm.Cond.lays "SoldWithIt$Sheet" "SoldWithIt$Sheet" "row" "Ljava/lang/Object;") ∈ lw_all := lw_g (lw_at lw_m1 169 rfl) rfl
theorem q259 : (Jvm.Cond.soleField "SoldWithIt$Sheet" "row") ∈ lw_all := lw_g (lw_at lw_m1 170 rfl) rfl
theorem q260 : (Jvm.Cond.superclass "SoldWithIt$Sheet" "java/lang/Object") ∈ lw_all := lw_g (lw_at lw_m1 171 rfl) rfl
theorem q598 : (Jvm.Cond.selects "SoldWithIt$Sheet" ({ cls := "java/lang/Object", name := "getClass", desc := "()Ljava/lang/Class;" } : Jvm.MethodName) ({ cls := "java/lang/Object", name := "getClass", desc := "()Ljava/lang/Class;" } : Jvm.MethodName)) ∈ lw_all := lw_g (lw_at lw_m3 29 rfl) rfl
theorem q739 : (Jvm.Cond.instanceMethod ({ cls := "SoldWithIt$Sheet", name := "size", desc := "()I" } : Jvm.MethodName)) ∈ lw_all := lw_g (lw_at lw_m3 170 rfl) rfl
theorem q740 : (Jvm.Cond.selects "SoldWithIt$Sheet" ({ cls := "SoldWithIt$Sheet", name := "size", desc := "()I" } : Jvm.MethodName) ({ cls := "SoldWithIt$Sheet", name := "size", desc := "()I" } : Jvm.MethodName)) ∈ lw_all := lw_g (lw_at lw_m3 171 rfl) rfl
theorem q741 : (Jvm.Cond.code ({ cls := "SoldWithIt$Sheet", name := "size", desc := "()I" } : Jvm.MethodName) prog_8_method_3_code (1 : Nat) (Option.some Jvm.ClassFile.FieldType.int)) ∈ lw_all := lw_g (lw_at lw_m3 172 rfl) rfl
theorem q742 : (Jvm.Cond.methodLink "SoldWithIt$Sheet" (17 : Nat) ({ cls := "SoldWithIt$Sheet", name := "type", desc := "()I" } : Jvm.MethodName)) ∈ lw_all := lw_g (lw_at lw_m3 173 rfl) rfl
theorem q743 : (Jvm.Cond.instanceMethod ({ cls := "SoldWithIt$Sheet", name := "type", desc := "()I" } : Jvm.MethodName)) ∈ lw_all := lw_g (lw_at lw_m3 174 rfl) rfl
theorem q744 : (Jvm.Cond.selects "SoldWithIt$Sheet" ({ cls := "SoldWithIt$Sheet", name := "type", desc := "()I" } : Jvm.MethodName) ({ cls := "SoldWithIt$Sheet", name := "type", desc := "()I" } : Jvm.MethodName)) ∈ lw_all := lw_g (lw_at lw_m3 175 rfl) rfl
theorem q745 : (Jvm.Cond.code ({ cls := "SoldWithIt$Sheet", name := "type", desc := "()I" } : Jvm.MethodName) prog_8_method_2_code (1 : Nat) (Option.some Jvm.ClassFile.FieldType.int)) ∈ lw_all := lw_g (lw_at lw_m3 176 rfl) rfl
theorem q746 : (Jvm.Cond.classLink "SoldWithIt$Sheet" (13 : Nat) "[B") ∈ lw_all := lw_g (lw_at lw_m3 177 rfl) rfl
theorem q747 : (Jvm.Cond.classLink "SoldWithIt$Sheet" (15 : Nat) "[S") ∈ lw_all := lw_g (lw_at lw_m3 178 rfl) rfl
theorem q748 : (Jvm.Cond.classLink "SoldWithIt$Sheet" (21 : Nat) "[I") ∈ lw_all := lw_g (lw_at lw_m3 179 rfl) rfl
theorem q751 : (Jvm.Cond.instanceMethod ({ cls := "SoldWithIt$Sheet", name := "item", desc := "(II)I" } : Jvm.MethodName)) ∈ lw_all := lw_g (lw_at lw_m3 182 rfl) rfl
theorem q752 : (Jvm.Cond.selects "SoldWithIt$Sheet" ({ cls := "SoldWithIt$Sheet", name := "item", desc := "(II)I" } : Jvm.MethodName) ({ cls := "SoldWithIt$Sheet", name := "item", desc := "(II)I" } : Jvm.MethodName)) ∈ lw_all := lw_g (lw_at lw_m3 183 rfl) rfl
theorem q753 : (Jvm.Cond.code ({ cls := "SoldWithIt$Sheet", name := "item", desc := "(II)I" } : Jvm.MethodName) prog_8_method_4_code (3 : Nat) (Option.some Jvm.ClassFile.FieldType.int)) ∈ lw_all := lw_g (lw_at lw_m3 184 rfl) rfl
theorem q1121 : (Jvm.Cond.instanceMethod ({ cls := "SoldWithIt$Sheet", name := "lay", desc := "(III)V" } : Jvm.MethodName)) ∈ lw_all := lw_g (lw_at lw_m5 72 rfl) rfl
theorem q1122 : (Jvm.Cond.selects "SoldWithIt$Sheet" ({ cls := "SoldWithIt$Sheet", name := "lay", desc := "(III)V" } : Jvm.MethodName) ({ cls := "SoldWithIt$Sheet", name := "lay", desc := "(III)V" } : Jvm.MethodName)) ∈ lw_all := lw_g (lw_at lw_m5 73 rfl) rfl
theorem q1123 : (Jvm.Cond.code ({ cls := "SoldWithIt$Sheet", name := "lay", desc := "(III)V" } : Jvm.MethodName) prog_8_method_5_code (4 : Nat) (Option.none : Option Jvm.ClassFile.FieldType)) ∈ lw_all := lw_g (lw_at lw_m5 74 rfl) rfl
theorem q1602 : (Jvm.Cond.castable "SoldWithIt$Sheet" "java/lang/Object") ∈ lw_tbl := lw_at lw_m7 73 rfl
theorem in_X6 : ∀ w ∈ wsX60, w ∈ lw_all := lw_in wsX60 [258] (by decide +kernel) (by decide +kernel)
theorem q100 : (Jvm.Cond.initialized "SoldWithItModel") ∈ lw_all := lw_g (lw_at lw_m1 11 rfl) rfl
theorem q600 : (Jvm.Cond.selects "SoldWithItModel" ({ cls := "java/lang/Object", name := "getClass", desc := "()Ljava/lang/Class;" } : Jvm.MethodName) ({ cls := "java/lang/Object", name := "getClass", desc := "()Ljava/lang/Class;" } : Jvm.MethodName)) ∈ lw_all := lw_g (lw_at lw_m3 31 rfl) rfl
theorem q1163 : (Jvm.Cond.instantiable "SoldWithItModel" (33 : Nat)) ∈ lw_all := lw_g (lw_at lw_m5 114 rfl) rfl
theorem q1165 : (Jvm.Cond.instanceMethod ({ cls := "SoldWithItModel", name := "<init>", desc := "()V" } : Jvm.MethodName)) ∈ lw_all := lw_g (lw_at lw_m5 116 rfl) rfl
theorem q1166 : (Jvm.Cond.code ({ cls := "SoldWithItModel", name := "<init>", desc := "()V" } : Jvm.MethodName) prog_12_method_1_code (2 : Nat) (Option.none : Option Jvm.ClassFile.FieldType)) ∈ lw_all := lw_g (lw_at lw_m5 117 rfl) rfl
theorem q1167 : (Jvm.Cond.methodLink "SoldWithItModel" (1 : Nat) ({ cls := "java/lang/Object", name := "<init>", desc := "()V" } : Jvm.MethodName)) ∈ lw_all := lw_g (lw_at lw_m5 118 rfl) rfl
theorem q1168 : (Jvm.Cond.fieldLink "SoldWithItModel" (7 : Nat) "SoldWithItModel" "typed" "[I") ∈ lw_all := lw_g (lw_at lw_m5 119 rfl) rfl
theorem q1169 : (Jvm.Cond.fieldLink "SoldWithItModel" (13 : Nat) "SoldWithItModel" "texts" "[I") ∈ lw_all := lw_g (lw_at lw_m5 120 rfl) rfl
theorem q1170 : (Jvm.Cond.fieldLink "SoldWithItModel" (96 : Nat) "SoldWithItModel" "houses" "I") ∈ lw_all := lw_g (lw_at lw_m5 121 rfl) rfl
theorem q1171 : (Jvm.Cond.fieldLink "SoldWithItModel" (16 : Nat) "SoldWithItModel" "ownerOf" "[I") ∈ lw_all := lw_g (lw_at lw_m5 122 rfl) rfl
theorem q1172 : (Jvm.Cond.fieldLink "SoldWithItModel" (19 : Nat) "SoldWithItModel" "priceOf" "[I") ∈ lw_all := lw_g (lw_at lw_m5 123 rfl) rfl
theorem q1173 : (Jvm.Cond.fieldLink "SoldWithItModel" (104 : Nat) "SoldWithItModel" "people" "I") ∈ lw_all := lw_g (lw_at lw_m5 124 rfl) rfl
theorem q1174 : (Jvm.Cond.fieldLink "SoldWithItModel" (22 : Nat) "SoldWithItModel" "kindOf" "[I") ∈ lw_all := lw_g (lw_at lw_m5 125 rfl) rfl
theorem q1175 : (Jvm.Cond.fieldLink "SoldWithItModel" (25 : Nat) "SoldWithItModel" "placeOf" "[I") ∈ lw_all := lw_g (lw_at lw_m5 126 rfl) rfl
theorem q1176 : (Jvm.Cond.fieldLink "SoldWithItModel" (28 : Nat) "SoldWithItModel" "laws" "[I") ∈ lw_all := lw_g (lw_at lw_m5 127 rfl) rfl
theorem q1177 : (Jvm.Cond.fieldLink "SoldWithItModel" (137 : Nat) "SoldWithItModel" "sales" "I") ∈ lw_all := lw_g (lw_at lw_m5 128 rfl) rfl
theorem q1178 : (Jvm.Cond.fieldLink "SoldWithItModel" (31 : Nat) "SoldWithItModel" "saleHouse" "[I") ∈ lw_all := lw_g (lw_at lw_m5 129 rfl) rfl
theorem q1179 : (Jvm.Cond.fieldLink "SoldWithItModel" (34 : Nat) "SoldWithItModel" "saleBuyer" "[I") ∈ lw_all := lw_g (lw_at lw_m5 130 rfl) rfl
theorem q1180 : (Jvm.Cond.fieldLink "SoldWithItModel" (37 : Nat) "SoldWithItModel" "where" "[I") ∈ lw_all := lw_g (lw_at lw_m5 131 rfl) rfl
theorem q1181 : (Jvm.Cond.fieldLink "SoldWithItModel" (40 : Nat) "SoldWithItModel" "owns" "[I") ∈ lw_all := lw_g (lw_at lw_m5 132 rfl) rfl
theorem q1182 : (Jvm.Cond.fieldLink "SoldWithItModel" (43 : Nat) "SoldWithItModel" "keeps" "[I") ∈ lw_all := lw_g (lw_at lw_m5 133 rfl) rfl
theorem q1183 : (Jvm.Cond.fieldLink "SoldWithItModel" (46 : Nat) "SoldWithItModel" "soldTimes" "[I") ∈ lw_all := lw_g (lw_at lw_m5 134 rfl) rfl
theorem q1184 : (Jvm.Cond.fieldLink "SoldWithItModel" (49 : Nat) "SoldWithItModel" "list" "[I") ∈ lw_all := lw_g (lw_at lw_m5 135 rfl) rfl
theorem q1185 : (Jvm.Cond.fieldLink "SoldWithItModel" (159 : Nat) "SoldWithItModel" "lastLength" "I") ∈ lw_all := lw_g (lw_at lw_m5 136 rfl) rfl
theorem q1186 : (Jvm.Cond.fieldLink "SoldWithItModel" (52 : Nat) "SoldWithItModel" "worths" "[I") ∈ lw_all := lw_g (lw_at lw_m5 137 rfl) rfl
theorem q1187 : (Jvm.Cond.fieldLink "SoldWithItModel" (55 : Nat) "SoldWithItModel" "likings" "[I") ∈ lw_all := lw_g (lw_at lw_m5 138 rfl) rfl
theorem q1188 : (Jvm.Cond.fieldLink "SoldWithItModel" (58 : Nat) "SoldWithItModel" "likes" "[I") ∈ lw_all := lw_g (lw_at lw_m5 139 rfl) rfl
theorem q1189 : (Jvm.Cond.fieldLink "SoldWithItModel" (61 : Nat) "SoldWithItModel" "afar" "[I") ∈ lw_all := lw_g (lw_at lw_m5 140 rfl) rfl
theorem q1190 : (Jvm.Cond.fieldLink "SoldWithItModel" (64 : Nat) "SoldWithItModel" "waiting" "[I") ∈ lw_all := lw_g (lw_at lw_m5 141 rfl) rfl
theorem q1191 : (Jvm.Cond.fieldLink "SoldWithItModel" (235 : Nat) "SoldWithItModel" "facts" "I") ∈ lw_all := lw_g (lw_at lw_m5 142 rfl) rfl
theorem q1192 : (Jvm.Cond.fieldLink "SoldWithItModel" (67 : Nat) "SoldWithItModel" "factWho" "[I") ∈ lw_all := lw_g (lw_at lw_m5 143 rfl) rfl
theorem q1193 : (Jvm.Cond.fieldLink "SoldWithItModel" (70 : Nat) "SoldWithItModel" "factKeeper" "[I") ∈ lw_all := lw_g (lw_at lw_m5 144 rfl) rfl
theorem q1194 : (Jvm.Cond.fieldLink "SoldWithItModel" (73 : Nat) "SoldWithItModel" "been" "[I") ∈ lw_all := lw_g (lw_at lw_m5 145 rfl) rfl
theorem q1195 : (Jvm.Cond.fieldLink "SoldWithItModel" (76 : Nat) "SoldWithItModel" "isThere" "[Z") ∈ lw_all := lw_g (lw_at lw_m5 146 rfl) rfl
theorem q1196 : (Jvm.Cond.fieldLink "SoldWithItModel" (80 : Nat) "SoldWithItModel" "forms" "[I") ∈ lw_all := lw_g (lw_at lw_m5 147 rfl) rfl
theorem q1197 : (Jvm.Cond.fieldLink "SoldWithItModel" (83 : Nat) "SoldWithItModel" "sizes" "[I") ∈ lw_all := lw_g (lw_at lw_m5 148 rfl) rfl
theorem q1198 : (Jvm.Cond.fieldLink "SoldWithItModel" (86 : Nat) "SoldWithItModel" "items" "[I") ∈ lw_all := lw_g (lw_at lw_m5 149 rfl) rfl
theorem q1199 : (Jvm.Cond.fieldLink "SoldWithItModel" (89 : Nat) "SoldWithItModel" "moved" "[I") ∈ lw_all := lw_g (lw_at lw_m5 150 rfl) rfl
theorem q1200 : (Jvm.Cond.fieldLink "SoldWithItModel" (241 : Nat) "SoldWithItModel" "finding" "I") ∈ lw_all := lw_g (lw_at lw_m5 151 rfl) rfl
theorem q1201 : (Jvm.Cond.laysFinal "SoldWithItModel" "SoldWithItModel" "typed" "[I") ∈ lw_all := lw_g (lw_at lw_m5 152 rfl) rfl
theorem q1202 : (Jvm.Cond.soleField "SoldWithItModel" "typed") ∈ lw_all := lw_g (lw_at lw_m5 153 rfl) rfl
theorem q1203 : (Jvm.Cond.laysFinal "SoldWithItModel" "SoldWithItModel" "texts" "[I") ∈ lw_all := lw_g (lw_at lw_m5 154 rfl) rfl
theorem q1204 : (Jvm.Cond.soleField "SoldWithItModel" "texts") ∈ lw_all := lw_g (lw_at lw_m5 155 rfl) rfl
theorem q1205 : (Jvm.Cond.lays "SoldWithItModel" "SoldWithItModel" "houses" "I") ∈ lw_all := lw_g (lw_at lw_m5 156 rfl) rfl
theorem q1206 : (Jvm.Cond.soleField "SoldWithItModel" "houses") ∈ lw_all := lw_g (lw_at lw_m5 157 rfl) rfl
theorem q1207 : (Jvm.Cond.laysFinal "SoldWithItModel" "SoldWithItModel" "ownerOf" "[I") ∈ lw_all := lw_g (lw_at lw_m5 158 rfl) rfl
theorem q1208 : (Jvm.Cond.soleField "SoldWithItModel" "ownerOf") ∈ lw_all := lw_g (lw_at lw_m5 159 rfl) rfl
theorem q1209 : (Jvm.Cond.laysFinal "SoldWithItModel" "SoldWithItModel" "priceOf" "[I") ∈ lw_all := lw_g (lw_at lw_m5 160 rfl) rfl
theorem q1210 : (Jvm.Cond.soleField "SoldWithItModel" "priceOf") ∈ lw_all := lw_g (lw_at lw_m5 161 rfl) rfl
theorem q1211 : (Jvm.Cond.lays "SoldWithItModel" "SoldWithItModel" "people" "I") ∈ lw_all := lw_g (lw_at lw_m5 162 rfl) rfl
theorem q1212 : (Jvm.Cond.soleField "SoldWithItModel" "people") ∈ lw_all := lw_g (lw_at lw_m5 163 rfl) rfl
theorem q1213 : (Jvm.Cond.laysFinal "SoldWithItModel" "SoldWithItModel" "kindOf" "[I") ∈ lw_all := lw_g (lw_at lw_m5 164 rfl) rfl
theorem q1214 : (Jvm.Cond.soleField "SoldWithItModel" "kindOf") ∈ lw_all := lw_g (lw_at lw_m5 165 rfl) rfl
theorem q1215 : (Jvm.Cond.laysFinal "SoldWithItModel" "SoldWithItModel" "placeOf" "[I") ∈ lw_all := lw_g (lw_at lw_m5 166 rfl) rfl
theorem q1216 : (Jvm.Cond.soleField "SoldWithItModel" "placeOf") ∈ lw_all := lw_g (lw_at lw_m5 167 rfl) rfl
theorem q1217 : (Jvm.Cond.laysFinal "SoldWithItModel" "SoldWithItModel" "laws" "[I") ∈ lw_all := lw_g (lw_at lw_m5 168 rfl) rfl
theorem q1218 : (Jvm.Cond.soleField "SoldWithItModel" "laws") ∈ lw_all := lw_g (lw_at lw_m5 169 rfl) rfl
theorem q1219 : (Jvm.Cond.lays "SoldWithItModel" "SoldWithItModel" "sales" "I") ∈ lw_all := lw_g (lw_at lw_m5 170 rfl) rfl
theorem q1220 : (Jvm.Cond.soleField "SoldWithItModel" "sales") ∈ lw_all := lw_g (lw_at lw_m5 171 rfl) rfl
theorem q1221 : (Jvm.Cond.laysFinal "SoldWithItModel" "SoldWithItModel" "saleHouse" "[I") ∈ lw_all := lw_g (lw_at lw_m5 172 rfl) rfl
theorem q1222 : (Jvm.Cond.soleField "SoldWithItModel" "saleHouse") ∈ lw_all := lw_g (lw_at lw_m5 173 rfl) rfl
theorem q1223 : (Jvm.Cond.laysFinal "SoldWithItModel" "SoldWithItModel" "saleBuyer" "[I") ∈ lw_all := lw_g (lw_at lw_m5 174 rfl) rfl
theorem q1224 : (Jvm.Cond.soleField "SoldWithItModel" "saleBuyer") ∈ lw_all := lw_g (lw_at lw_m5 175 rfl) rfl
theorem q1225 : (Jvm.Cond.laysFinal "SoldWithItModel" "SoldWithItModel" "where" "[I") ∈ lw_all := lw_g (lw_at lw_m5 176 rfl) rfl
theorem q1226 : (Jvm.Cond.soleField "SoldWithItModel" "where") ∈ lw_all := lw_g (lw_at lw_m5 177 rfl) rfl
theorem q1227 : (Jvm.Cond.laysFinal "SoldWithItModel" "SoldWithItModel" "owns" "[I") ∈ lw_all := lw_g (lw_at lw_m5 178 rfl) rfl
theorem q1228 : (Jvm.Cond.soleField "SoldWithItModel" "owns") ∈ lw_all := lw_g (lw_at lw_m5 179 rfl) rfl
theorem q1229 : (Jvm.Cond.laysFinal "SoldWithItModel" "SoldWithItModel" "keeps" "[I") ∈ lw_all := lw_g (lw_at lw_m5 180 rfl) rfl
theorem q1230 : (Jvm.Cond.soleField "SoldWithItModel" "keeps") ∈ lw_all := lw_g (lw_at lw_m5 181 rfl) rfl
theorem q1231 : (Jvm.Cond.laysFinal "SoldWithItModel" "SoldWithItModel" "soldTimes" "[I") ∈ lw_all := lw_g (lw_at lw_m5 182 rfl) rfl
theorem q1232 : (Jvm.Cond.soleField "SoldWithItModel" "soldTimes") ∈ lw_all := lw_g (lw_at lw_m5 183 rfl) rfl
theorem q1233 : (Jvm.Cond.laysFinal "SoldWithItModel" "SoldWithItModel" "list" "[I") ∈ lw_all := lw_g (lw_at lw_m5 184 rfl) rfl
theorem q1234 : (Jvm.Cond.soleField "SoldWithItModel" "list") ∈ lw_all := lw_g (lw_at lw_m5 185 rfl) rfl
theorem q1235 : (Jvm.Cond.lays "SoldWithItModel" "SoldWithItModel" "lastLength" "I") ∈ lw_all := lw_g (lw_at lw_m5 186 rfl) rfl
theorem q1236 : (Jvm.Cond.soleField "SoldWithItModel" "lastLength") ∈ lw_all := lw_g (lw_at lw_m5 187 rfl) rfl
theorem q1237 : (Jvm.Cond.laysFinal "SoldWithItModel" "SoldWithItModel" "worths" "[I") ∈ lw_all := lw_g (lw_at lw_m5 188 rfl) rfl
theorem q1238 : (Jvm.Cond.soleField "SoldWithItModel" "worths") ∈ lw_all := lw_g (lw_at lw_m5 189 rfl) rfl
theorem q1239 : (Jvm.Cond.laysFinal "SoldWithItModel" "SoldWithItModel" "likings" "[I") ∈ lw_all := lw_g (lw_at lw_m5 190 rfl) rfl
theorem q1240 : (Jvm.Cond.soleField "SoldWithItModel" "likings") ∈ lw_all := lw_g (lw_at lw_m5 191 rfl) rfl
theorem q1241 : (Jvm.Cond.laysFinal "SoldWithItModel" "SoldWithItModel" "likes" "[I") ∈ lw_all := lw_g (lw_at lw_m5 192 rfl) rfl
theorem q1242 : (Jvm.Cond.soleField "SoldWithItModel" "likes") ∈ lw_all := lw_g (lw_at lw_m5 193 rfl) rfl
theorem q1243 : (Jvm.Cond.laysFinal "SoldWithItModel" "SoldWithItModel" "afar" "[I") ∈ lw_all := lw_g (lw_at lw_m5 194 rfl) rfl
theorem q1244 : (Jvm.Cond.soleField "SoldWithItModel" "afar") ∈ lw_all := lw_g (lw_at lw_m5 195 rfl) rfl
theorem q1245 : (Jvm.Cond.laysFinal "SoldWithItModel" "SoldWithItModel" "waiting" "[I") ∈ lw_all := lw_g (lw_at lw_m5 196 rfl) rfl
theorem q1246 : (Jvm.Cond.soleField "SoldWithItModel" "waiting") ∈ lw_all := lw_g (lw_at lw_m5 197 rfl) rfl
theorem q1247 : (Jvm.Cond.lays "SoldWithItModel" "SoldWithItModel" "facts" "I") ∈ lw_all := lw_g (lw_at lw_m5 198 rfl) rfl
theorem q1248 : (Jvm.Cond.soleField "SoldWithItModel" "facts") ∈ lw_all := lw_g (lw_at lw_m5 199 rfl) rfl
theorem q1249 : (Jvm.Cond.laysFinal "SoldWithItModel" "SoldWithItModel" "factWho" "[I") ∈ lw_all := lw_g (lw_at lw_m5 200 rfl) rfl
theorem q1250 : (Jvm.Cond.soleField "SoldWithItModel" "factWho") ∈ lw_all := lw_g (lw_at lw_m5 201 rfl) rfl
theorem q1251 : (Jvm.Cond.laysFinal "SoldWithItModel" "SoldWithItModel" "factKeeper" "[I") ∈ lw_all := lw_g (lw_at lw_m5 202 rfl) rfl
theorem q1252 : (Jvm.Cond.soleField "SoldWithItModel" "factKeeper") ∈ lw_all := lw_g (lw_at lw_m5 203 rfl) rfl
theorem q1253 : (Jvm.Cond.laysFinal "SoldWithItModel" "SoldWithItModel" "been" "[I") ∈ lw_all := lw_g (lw_at lw_m5 204 rfl) rfl
theorem q1254 : (Jvm.Cond.soleField "SoldWithItModel" "been") ∈ lw_all := lw_g (lw_at lw_m5 205 rfl) rfl
theorem q1255 : (Jvm.Cond.laysFinal "SoldWithItModel" "SoldWithItModel" "isThere" "[Z") ∈ lw_all := lw_g (lw_at lw_m5 206 rfl) rfl
theorem q1256 : (Jvm.Cond.soleField "SoldWithItModel" "isThere") ∈ lw_all := lw_g (lw_at lw_m5 207 rfl) rfl
theorem q1257 : (Jvm.Cond.laysFinal "SoldWithItModel" "SoldWithItModel" "forms" "[I") ∈ lw_all := lw_g (lw_at lw_m5 208 rfl) rfl
theorem q1258 : (Jvm.Cond.soleField "SoldWithItModel" "forms") ∈ lw_all := lw_g (lw_at lw_m5 209 rfl) rfl
theorem q1259 : (Jvm.Cond.laysFinal "SoldWithItModel" "SoldWithItModel" "sizes" "[I") ∈ lw_all := lw_g (lw_at lw_m5 210 rfl) rfl
theorem q1260 : (Jvm.Cond.soleField "SoldWithItModel" "sizes") ∈ lw_all := lw_g (lw_at lw_m5 211 rfl) rfl
theorem q1261 : (Jvm.Cond.laysFinal "SoldWithItModel" "SoldWithItModel" "items" "[I") ∈ lw_all := lw_g (lw_at lw_m5 212 rfl) rfl
theorem q1262 : (Jvm.Cond.soleField "SoldWithItModel" "items") ∈ lw_all := lw_g (lw_at lw_m5 213 rfl) rfl
theorem q1263 : (Jvm.Cond.laysFinal "SoldWithItModel" "SoldWithItModel" "moved" "[I") ∈ lw_all := lw_g (lw_at lw_m5 214 rfl) rfl
theorem q1264 : (Jvm.Cond.soleField "SoldWithItModel" "moved") ∈ lw_all := lw_g (lw_at lw_m5 215 rfl) rfl
theorem q1265 : (Jvm.Cond.lays "SoldWithItModel" "SoldWithItModel" "finding" "I") ∈ lw_all := lw_g (lw_at lw_m5 216 rfl) rfl
theorem q1266 : (Jvm.Cond.soleField "SoldWithItModel" "finding") ∈ lw_all := lw_g (lw_at lw_m5 217 rfl) rfl
theorem q1267 : (Jvm.Cond.superclass "SoldWithItModel" "java/lang/Object") ∈ lw_all := lw_g (lw_at lw_m5 218 rfl) rfl
theorem q1270 : (Jvm.Cond.instanceMethod ({ cls := "SoldWithItModel", name := "type", desc := "(II)I" } : Jvm.MethodName)) ∈ lw_all := lw_g (lw_at lw_m5 221 rfl) rfl
theorem q1271 : (Jvm.Cond.selects "SoldWithItModel" ({ cls := "SoldWithItModel", name := "type", desc := "(II)I" } : Jvm.MethodName) ({ cls := "SoldWithItModel", name := "type", desc := "(II)I" } : Jvm.MethodName)) ∈ lw_all := lw_g (lw_at lw_m5 222 rfl) rfl
theorem q1272 : (Jvm.Cond.code ({ cls := "SoldWithItModel", name := "type", desc := "(II)I" } : Jvm.MethodName) prog_12_method_6_code (3 : Nat) (Option.some Jvm.ClassFile.FieldType.int)) ∈ lw_all := lw_g (lw_at lw_m5 223 rfl) rfl
theorem q1273 : (Jvm.Cond.methodLink "SoldWithItModel" (92 : Nat) ({ cls := "SoldWithItModel", name := "in", desc := "(III)Z" } : Jvm.MethodName)) ∈ lw_all := lw_g (lw_at lw_m5 224 rfl) rfl
theorem q1274 : (Jvm.Cond.static ({ cls := "SoldWithItModel", name := "in", desc := "(III)Z" } : Jvm.MethodName)) ∈ lw_all := lw_g (lw_at lw_m5 225 rfl) rfl
theorem q1275 : (Jvm.Cond.code ({ cls := "SoldWithItModel", name := "in", desc := "(III)Z" } : Jvm.MethodName) prog_12_method_3_code (3 : Nat) (Option.some Jvm.ClassFile.FieldType.boolean)) ∈ lw_all := lw_g (lw_at lw_m5 226 rfl) rfl
theorem q1277 : (Jvm.Cond.instanceMethod ({ cls := "SoldWithItModel", name := "wipe", desc := "(I)I" } : Jvm.MethodName)) ∈ lw_all := lw_g (lw_at lw_m5 228 rfl) rfl
theorem q1278 : (Jvm.Cond.selects "SoldWithItModel" ({ cls := "SoldWithItModel", name := "wipe", desc := "(I)I" } : Jvm.MethodName) ({ cls := "SoldWithItModel", name := "wipe", desc := "(I)I" } : Jvm.MethodName)) ∈ lw_all := lw_g (lw_at lw_m5 229 rfl) rfl
theorem q1279 : (Jvm.Cond.code ({ cls := "SoldWithItModel", name := "wipe", desc := "(I)I" } : Jvm.MethodName) prog_12_method_7_code (3 : Nat) (Option.some Jvm.ClassFile.FieldType.int)) ∈ lw_all := lw_g (lw_at lw_m5 230 rfl) rfl
theorem q1281 : (Jvm.Cond.instanceMethod ({ cls := "SoldWithItModel", name := "fault", desc := "(I)I" } : Jvm.MethodName)) ∈ lw_all := lw_g (lw_at lw_m5 232 rfl) rfl
theorem q1282 : (Jvm.Cond.selects "SoldWithItModel" ({ cls := "SoldWithItModel", name := "fault", desc := "(I)I" } : Jvm.MethodName) ({ cls := "SoldWithItModel", name := "fault", desc := "(I)I" } : Jvm.MethodName)) ∈ lw_all := lw_g (lw_at lw_m5 233 rfl) rfl
theorem q1283 : (Jvm.Cond.code ({ cls := "SoldWithItModel", name := "fault", desc := "(I)I" } : Jvm.MethodName) prog_12_method_13_code (2 : Nat) (Option.some Jvm.ClassFile.FieldType.int)) ∈ lw_all := lw_g (lw_at lw_m5 234 rfl) rfl
theorem q1284 : (Jvm.Cond.methodLink "SoldWithItModel" (114 : Nat) ({ cls := "SoldWithItModel", name := "faultOf", desc := "(I)I" } : Jvm.MethodName)) ∈ lw_all := lw_g (lw_at lw_m5 235 rfl) rfl
theorem q1285 : (Jvm.Cond.privateMethod ({ cls := "SoldWithItModel", name := "faultOf", desc := "(I)I" } : Jvm.MethodName)) ∈ lw_tbl := lw_at lw_m5 236 rfl
theorem q1286 : (Jvm.Cond.instanceMethod ({ cls := "SoldWithItModel", name := "faultOf", desc := "(I)I" } : Jvm.MethodName)) ∈ lw_all := lw_g (lw_at lw_m5 237 rfl) rfl
theorem q1287 : (Jvm.Cond.code ({ cls := "SoldWithItModel", name := "faultOf", desc := "(I)I" } : Jvm.MethodName) prog_12_method_11_code (2 : Nat) (Option.some Jvm.ClassFile.FieldType.int)) ∈ lw_all := lw_g (lw_at lw_m5 238 rfl) rfl
theorem q1288 : (Jvm.Cond.methodLink "SoldWithItModel" (107 : Nat) ({ cls := "SoldWithItModel", name := "readsHouses", desc := "()I" } : Jvm.MethodName)) ∈ lw_all := lw_g (lw_at lw_m5 239 rfl) rfl
theorem q1289 : (Jvm.Cond.privateMethod ({ cls := "SoldWithItModel", name := "readsHouses", desc := "()I" } : Jvm.MethodName)) ∈ lw_tbl := lw_at lw_m6 0 rfl
theorem q1290 : (Jvm.Cond.instanceMethod ({ cls := "SoldWithItModel", name := "readsHouses", desc := "()I" } : Jvm.MethodName)) ∈ lw_all := lw_g (lw_at lw_m6 1 rfl) rfl
theorem q1291 : (Jvm.Cond.code ({ cls := "SoldWithItModel", name := "readsHouses", desc := "()I" } : Jvm.MethodName) prog_12_method_9_code (3 : Nat) (Option.some Jvm.ClassFile.FieldType.int)) ∈ lw_all := lw_g (lw_at lw_m6 2 rfl) rfl
theorem q1292 : (Jvm.Cond.methodLink "SoldWithItModel" (100 : Nat) ({ cls := "SoldWithItModel", name := "byteAt", desc := "(II)I" } : Jvm.MethodName)) ∈ lw_all := lw_g (lw_at lw_m6 3 rfl) rfl
theorem q1293 : (Jvm.Cond.privateMethod ({ cls := "SoldWithItModel", name := "byteAt", desc := "(II)I" } : Jvm.MethodName)) ∈ lw_tbl := lw_at lw_m6 4 rfl
theorem q1294 : (Jvm.Cond.instanceMethod ({ cls := "SoldWithItModel", name := "byteAt", desc := "(II)I" } : Jvm.MethodName)) ∈ lw_all := lw_g (lw_at lw_m6 5 rfl) rfl
theorem q1295 : (Jvm.Cond.code ({ cls := "SoldWithItModel", name := "byteAt", desc := "(II)I" } : Jvm.MethodName) prog_12_method_8_code (3 : Nat) (Option.some Jvm.ClassFile.FieldType.int)) ∈ lw_all := lw_g (lw_at lw_m6 6 rfl) rfl
theorem q1296 : (Jvm.Cond.methodLink "SoldWithItModel" (111 : Nat) ({ cls := "SoldWithItModel", name := "readsPeople", desc := "()I" } : Jvm.MethodName)) ∈ lw_all := lw_g (lw_at lw_m6 7 rfl) rfl
theorem q1297 : (Jvm.Cond.privateMethod ({ cls := "SoldWithItModel", name := "readsPeople", desc := "()I" } : Jvm.MethodName)) ∈ lw_tbl := lw_at lw_m6 8 rfl
theorem q1298 : (Jvm.Cond.instanceMethod ({ cls := "SoldWithItModel", name := "readsPeople", desc := "()I" } : Jvm.MethodName)) ∈ lw_all := lw_g (lw_at lw_m6 9 rfl) rfl
theorem q1299 : (Jvm.Cond.code ({ cls := "SoldWithItModel", name := "readsPeople", desc := "()I" } : Jvm.MethodName) prog_12_method_10_code (5 : Nat) (Option.some Jvm.ClassFile.FieldType.int)) ∈ lw_all := lw_g (lw_at lw_m6 10 rfl) rfl
theorem q1301 : (Jvm.Cond.instanceMethod ({ cls := "SoldWithItModel", name := "house", desc := "(II)I" } : Jvm.MethodName)) ∈ lw_all := lw_g (lw_at lw_m6 12 rfl) rfl
theorem q1302 : (Jvm.Cond.selects "SoldWithItModel" ({ cls := "SoldWithItModel", name := "house", desc := "(II)I" } : Jvm.MethodName) ({ cls := "SoldWithItModel", name := "house", desc := "(II)I" } : Jvm.MethodName)) ∈ lw_all := lw_g (lw_at lw_m6 13 rfl) rfl
theorem q1303 : (Jvm.Cond.code ({ cls := "SoldWithItModel", name := "house", desc := "(II)I" } : Jvm.MethodName) prog_12_method_18_code (3 : Nat) (Option.some Jvm.ClassFile.FieldType.int)) ∈ lw_all := lw_g (lw_at lw_m6 14 rfl) rfl
theorem q1304 : (Jvm.Cond.methodLink "SoldWithItModel" (121 : Nat) ({ cls := "SoldWithItModel", name := "isHouse", desc := "(I)Z" } : Jvm.MethodName)) ∈ lw_all := lw_g (lw_at lw_m6 15 rfl) rfl
theorem q1305 : (Jvm.Cond.privateMethod ({ cls := "SoldWithItModel", name := "isHouse", desc := "(I)Z" } : Jvm.MethodName)) ∈ lw_tbl := lw_at lw_m6 16 rfl
theorem q1306 : (Jvm.Cond.instanceMethod ({ cls := "SoldWithItModel", name := "isHouse", desc := "(I)Z" } : Jvm.MethodName)) ∈ lw_all := lw_g (lw_at lw_m6 17 rfl) rfl
theorem q1307 : (Jvm.Cond.code ({ cls := "SoldWithItModel", name := "isHouse", desc := "(I)Z" } : Jvm.MethodName) prog_12_method_14_code (2 : Nat) (Option.some Jvm.ClassFile.FieldType.boolean)) ∈ lw_all := lw_g (lw_at lw_m6 18 rfl) rfl
theorem q1308 : (Jvm.Cond.methodLink "SoldWithItModel" (118 : Nat) ({ cls := "SoldWithItModel", name := "reads", desc := "()V" } : Jvm.MethodName)) ∈ lw_all := lw_g (lw_at lw_m6 19 rfl) rfl
theorem q1309 : (Jvm.Cond.privateMethod ({ cls := "SoldWithItModel", name := "reads", desc := "()V" } : Jvm.MethodName)) ∈ lw_tbl := lw_at lw_m6 20 rfl
theorem q1310 : (Jvm.Cond.instanceMethod ({ cls := "SoldWithItModel", name := "reads", desc := "()V" } : Jvm.MethodName)) ∈ lw_all := lw_g (lw_at lw_m6 21 rfl) rfl
theorem q1311 : (Jvm.Cond.code ({ cls := "SoldWithItModel", name := "reads", desc := "()V" } : Jvm.MethodName) prog_12_method_12_code (3 : Nat) (Option.none : Option Jvm.ClassFile.FieldType)) ∈ lw_all := lw_g (lw_at lw_m6 22 rfl) rfl
theorem q1312 : (Jvm.Cond.methodLink "SoldWithItModel" (125 : Nat) ({ cls := "SoldWithItModel", name := "houseOf", desc := "(II)I" } : Jvm.MethodName)) ∈ lw_all := lw_g (lw_at lw_m6 23 rfl) rfl
theorem q1313 : (Jvm.Cond.privateMethod ({ cls := "SoldWithItModel", name := "houseOf", desc := "(II)I" } : Jvm.MethodName)) ∈ lw_tbl := lw_at lw_m6 24 rfl
theorem q1314 : (Jvm.Cond.instanceMethod ({ cls := "SoldWithItModel", name := "houseOf", desc := "(II)I" } : Jvm.MethodName)) ∈ lw_all := lw_g (lw_at lw_m6 25 rfl) rfl
theorem q1315 : (Jvm.Cond.code ({ cls := "SoldWithItModel", name := "houseOf", desc := "(II)I" } : Jvm.MethodName) prog_12_method_17_code (5 : Nat) (Option.some Jvm.ClassFile.FieldType.int)) ∈ lw_all := lw_g (lw_at lw_m6 26 rfl) rfl
theorem q1317 : (Jvm.Cond.instanceMethod ({ cls := "SoldWithItModel", name := "person", desc := "(II)I" } : Jvm.MethodName)) ∈ lw_all := lw_g (lw_at lw_m6 28 rfl) rfl
theorem q1318 : (Jvm.Cond.selects "SoldWithItModel" ({ cls := "SoldWithItModel", name := "person", desc := "(II)I" } : Jvm.MethodName) ({ cls := "SoldWithItModel", name := "person", desc := "(II)I" } : Jvm.MethodName)) ∈ lw_all := lw_g (lw_at lw_m6 29 rfl) rfl
theorem q1319 : (Jvm.Cond.code ({ cls := "SoldWithItModel", name := "person", desc := "(II)I" } : Jvm.MethodName) prog_12_method_20_code (3 : Nat) (Option.some Jvm.ClassFile.FieldType.int)) ∈ lw_all := lw_g (lw_at lw_m6 30 rfl) rfl
theorem q1320 : (Jvm.Cond.methodLink "SoldWithItModel" (128 : Nat) ({ cls := "SoldWithItModel", name := "isPerson", desc := "(I)Z" } : Jvm.MethodName)) ∈ lw_all := lw_g (lw_at lw_m6 31 rfl) rfl
theorem q1321 : (Jvm.Cond.privateMethod ({ cls := "SoldWithItModel", name := "isPerson", desc := "(I)Z" } : Jvm.MethodName)) ∈ lw_tbl := lw_at lw_m6 32 rfl
theorem q1322 : (Jvm.Cond.instanceMethod ({ cls := "SoldWithItModel", name := "isPerson", desc := "(I)Z" } : Jvm.MethodName)) ∈ lw_all := lw_g (lw_at lw_m6 33 rfl) rfl
theorem q1323 : (Jvm.Cond.code ({ cls := "SoldWithItModel", name := "isPerson", desc := "(I)Z" } : Jvm.MethodName) prog_12_method_15_code (2 : Nat) (Option.some Jvm.ClassFile.FieldType.boolean)) ∈ lw_all := lw_g (lw_at lw_m6 34 rfl) rfl
theorem q1324 : (Jvm.Cond.methodLink "SoldWithItModel" (131 : Nat) ({ cls := "SoldWithItModel", name := "personOf", desc := "(II)I" } : Jvm.MethodName)) ∈ lw_all := lw_g (lw_at lw_m6 35 rfl) rfl
theorem q1325 : (Jvm.Cond.privateMethod ({ cls := "SoldWithItModel", name := "personOf", desc := "(II)I" } : Jvm.MethodName)) ∈ lw_tbl := lw_at lw_m6 36 rfl
theorem q1326 : (Jvm.Cond.instanceMethod ({ cls := "SoldWithItModel", name := "personOf", desc := "(II)I" } : Jvm.MethodName)) ∈ lw_all := lw_g (lw_at lw_m6 37 rfl) rfl
theorem q1327 : (Jvm.Cond.code ({ cls := "SoldWithItModel", name := "personOf", desc := "(II)I" } : Jvm.MethodName) prog_12_method_19_code (5 : Nat) (Option.some Jvm.ClassFile.FieldType.int)) ∈ lw_all := lw_g (lw_at lw_m6 38 rfl) rfl
theorem q1329 : (Jvm.Cond.instanceMethod ({ cls := "SoldWithItModel", name := "law", desc := "(II)I" } : Jvm.MethodName)) ∈ lw_all := lw_g (lw_at lw_m6 40 rfl) rfl
theorem q1330 : (Jvm.Cond.selects "SoldWithItModel" ({ cls := "SoldWithItModel", name := "law", desc := "(II)I" } : Jvm.MethodName) ({ cls := "SoldWithItModel", name := "law", desc := "(II)I" } : Jvm.MethodName)) ∈ lw_all := lw_g (lw_at lw_m6 41 rfl) rfl
theorem q1331 : (Jvm.Cond.code ({ cls := "SoldWithItModel", name := "law", desc := "(II)I" } : Jvm.MethodName) prog_12_method_21_code (4 : Nat) (Option.some Jvm.ClassFile.FieldType.int)) ∈ lw_all := lw_g (lw_at lw_m6 42 rfl) rfl
theorem q1333 : (Jvm.Cond.instanceMethod ({ cls := "SoldWithItModel", name := "sale", desc := "(II)I" } : Jvm.MethodName)) ∈ lw_all := lw_g (lw_at lw_m6 44 rfl) rfl
theorem q1334 : (Jvm.Cond.selects "SoldWithItModel" ({ cls := "SoldWithItModel", name := "sale", desc := "(II)I" } : Jvm.MethodName) ({ cls := "SoldWithItModel", name := "sale", desc := "(II)I" } : Jvm.MethodName)) ∈ lw_all := lw_g (lw_at lw_m6 45 rfl) rfl
theorem q1335 : (Jvm.Cond.code ({ cls := "SoldWithItModel", name := "sale", desc := "(II)I" } : Jvm.MethodName) prog_12_method_23_code (3 : Nat) (Option.some Jvm.ClassFile.FieldType.int)) ∈ lw_all := lw_g (lw_at lw_m6 46 rfl) rfl
theorem q1336 : (Jvm.Cond.methodLink "SoldWithItModel" (140 : Nat) ({ cls := "SoldWithItModel", name := "saleMore", desc := "(II)I" } : Jvm.MethodName)) ∈ lw_all := lw_g (lw_at lw_m6 47 rfl) rfl
theorem q1337 : (Jvm.Cond.privateMethod ({ cls := "SoldWithItModel", name := "saleMore", desc := "(II)I" } : Jvm.MethodName)) ∈ lw_tbl := lw_at lw_m6 48 rfl
theorem q1338 : (Jvm.Cond.instanceMethod ({ cls := "SoldWithItModel", name := "saleMore", desc := "(II)I" } : Jvm.MethodName)) ∈ lw_all := lw_g (lw_at lw_m6 49 rfl) rfl
theorem q1339 : (Jvm.Cond.code ({ cls := "SoldWithItModel", name := "saleMore", desc := "(II)I" } : Jvm.MethodName) prog_12_method_22_code (3 : Nat) (Option.some Jvm.ClassFile.FieldType.int)) ∈ lw_all := lw_g (lw_at lw_m6 50 rfl) rfl
theorem q1340 : (Jvm.Cond.methodLink "SoldWithItModel" (134 : Nat) ({ cls := "SoldWithItModel", name := "isEight", desc := "(I)Z" } : Jvm.MethodName)) ∈ lw_all := lw_g (lw_at lw_m6 51 rfl) rfl
theorem q1341 : (Jvm.Cond.static ({ cls := "SoldWithItModel", name := "isEight", desc := "(I)Z" } : Jvm.MethodName)) ∈ lw_all := lw_g (lw_at lw_m6 52 rfl) rfl
theorem q1342 : (Jvm.Cond.code ({ cls := "SoldWithItModel", name := "isEight", desc := "(I)Z" } : Jvm.MethodName) prog_12_method_16_code (1 : Nat) (Option.some Jvm.ClassFile.FieldType.boolean)) ∈ lw_all := lw_g (lw_at lw_m6 53 rfl) rfl
theorem q1344 : (Jvm.Cond.instanceMethod ({ cls := "SoldWithItModel", name := "read", desc := "(I)I" } : Jvm.MethodName)) ∈ lw_all := lw_g (lw_at lw_m6 55 rfl) rfl
theorem q1345 : (Jvm.Cond.selects "SoldWithItModel" ({ cls := "SoldWithItModel", name := "read", desc := "(I)I" } : Jvm.MethodName) ({ cls := "SoldWithItModel", name := "read", desc := "(I)I" } : Jvm.MethodName)) ∈ lw_all := lw_g (lw_at lw_m6 56 rfl) rfl
theorem q1346 : (Jvm.Cond.code ({ cls := "SoldWithItModel", name := "read", desc := "(I)I" } : Jvm.MethodName) prog_12_method_24_code (3 : Nat) (Option.some Jvm.ClassFile.FieldType.int)) ∈ lw_all := lw_g (lw_at lw_m6 57 rfl) rfl
theorem q1347 : (Jvm.Cond.methodLink "SoldWithItModel" (143 : Nat) ({ cls := "SoldWithItModel", name := "isSheet", desc := "(I)Z" } : Jvm.MethodName)) ∈ lw_all := lw_g (lw_at lw_m6 58 rfl) rfl
theorem q1348 : (Jvm.Cond.static ({ cls := "SoldWithItModel", name := "isSheet", desc := "(I)Z" } : Jvm.MethodName)) ∈ lw_all := lw_g (lw_at lw_m6 59 rfl) rfl
theorem q1349 : (Jvm.Cond.code ({ cls := "SoldWithItModel", name := "isSheet", desc := "(I)Z" } : Jvm.MethodName) prog_12_method_72_code (1 : Nat) (Option.some Jvm.ClassFile.FieldType.boolean)) ∈ lw_all := lw_g (lw_at lw_m6 60 rfl) rfl
theorem q1350 : (Jvm.Cond.methodLink "SoldWithItModel" (146 : Nat) ({ cls := "SoldWithItModel", name := "meets", desc := "(I)I" } : Jvm.MethodName)) ∈ lw_all := lw_g (lw_at lw_m6 61 rfl) rfl
theorem q1351 : (Jvm.Cond.privateMethod ({ cls := "SoldWithItModel", name := "meets", desc := "(I)I" } : Jvm.MethodName)) ∈ lw_tbl := lw_at lw_m6 62 rfl
theorem q1352 : (Jvm.Cond.instanceMethod ({ cls := "SoldWithItModel", name := "meets", desc := "(I)I" } : Jvm.MethodName)) ∈ lw_all := lw_g (lw_at lw_m6 63 rfl) rfl
theorem q1353 : (Jvm.Cond.code ({ cls := "SoldWithItModel", name := "meets", desc := "(I)I" } : Jvm.MethodName) prog_12_method_71_code (2 : Nat) (Option.some Jvm.ClassFile.FieldType.int)) ∈ lw_all := lw_g (lw_at lw_m6 64 rfl) rfl
theorem q1355 : (Jvm.Cond.instanceMethod ({ cls := "SoldWithItModel", name := "undo", desc := "()I" } : Jvm.MethodName)) ∈ lw_all := lw_g (lw_at lw_m6 66 rfl) rfl
theorem q1356 : (Jvm.Cond.selects "SoldWithItModel" ({ cls := "SoldWithItModel", name := "undo", desc := "()I" } : Jvm.MethodName) ({ cls := "SoldWithItModel", name := "undo", desc := "()I" } : Jvm.MethodName)) ∈ lw_all := lw_g (lw_at lw_m6 67 rfl) rfl
theorem q1357 : (Jvm.Cond.code ({ cls := "SoldWithItModel", name := "undo", desc := "()I" } : Jvm.MethodName) prog_12_method_25_code (1 : Nat) (Option.some Jvm.ClassFile.FieldType.int)) ∈ lw_all := lw_g (lw_at lw_m6 68 rfl) rfl
theorem q1359 : (Jvm.Cond.instanceMethod ({ cls := "SoldWithItModel", name := "whose", desc := "(II)I" } : Jvm.MethodName)) ∈ lw_all := lw_g (lw_at lw_m6 70 rfl) rfl
theorem q1360 : (Jvm.Cond.selects "SoldWithItModel" ({ cls := "SoldWithItModel", name := "whose", desc := "(II)I" } : Jvm.MethodName) ({ cls := "SoldWithItModel", name := "whose", desc := "(II)I" } : Jvm.MethodName)) ∈ lw_all := lw_g (lw_at lw_m6 71 rfl) rfl
theorem q1361 : (Jvm.Cond.code ({ cls := "SoldWithItModel", name := "whose", desc := "(II)I" } : Jvm.MethodName) prog_12_method_30_code (3 : Nat) (Option.some Jvm.ClassFile.FieldType.int)) ∈ lw_all := lw_g (lw_at lw_m6 72 rfl) rfl
theorem q1362 : (Jvm.Cond.methodLink "SoldWithItModel" (166 : Nat) ({ cls := "SoldWithItModel", name := "lays", desc := "(I)V" } : Jvm.MethodName)) ∈ lw_all := lw_g (lw_at lw_m6 73 rfl) rfl
theorem q1363 : (Jvm.Cond.privateMethod ({ cls := "SoldWithItModel", name := "lays", desc := "(I)V" } : Jvm.MethodName)) ∈ lw_tbl := lw_at lw_m6 74 rfl
theorem q1364 : (Jvm.Cond.instanceMethod ({ cls := "SoldWithItModel", name := "lays", desc := "(I)V" } : Jvm.MethodName)) ∈ lw_all := lw_g (lw_at lw_m6 75 rfl) rfl
theorem q1365 : (Jvm.Cond.code ({ cls := "SoldWithItModel", name := "lays", desc := "(I)V" } : Jvm.MethodName) prog_12_method_29_code (3 : Nat) (Option.none : Option Jvm.ClassFile.FieldType)) ∈ lw_all := lw_g (lw_at lw_m6 76 rfl) rfl
theorem q1366 : (Jvm.Cond.methodLink "SoldWithItModel" (162 : Nat) ({ cls := "SoldWithItModel", name := "runs", desc := "(I)V" } : Jvm.MethodName)) ∈ lw_all := lw_g (lw_at lw_m6 77 rfl) rfl
theorem q1367 : (Jvm.Cond.privateMethod ({ cls := "SoldWithItModel", name := "runs", desc := "(I)V" } : Jvm.MethodName)) ∈ lw_tbl := lw_at lw_m6 78 rfl
theorem q1368 : (Jvm.Cond.instanceMethod ({ cls := "SoldWithItModel", name := "runs", desc := "(I)V" } : Jvm.MethodName)) ∈ lw_all := lw_g (lw_at lw_m6 79 rfl) rfl
theorem q1369 : (Jvm.Cond.code ({ cls := "SoldWithItModel", name := "runs", desc := "(I)V" } : Jvm.MethodName) prog_12_method_28_code (3 : Nat) (Option.none : Option Jvm.ClassFile.FieldType)) ∈ lw_all := lw_g (lw_at lw_m6 80 rfl) rfl
theorem q1370 : (Jvm.Cond.methodLink "SoldWithItModel" (153 : Nat) ({ cls := "SoldWithItModel", name := "begins", desc := "()V" } : Jvm.MethodName)) ∈ lw_all := lw_g (lw_at lw_m6 81 rfl) rfl
theorem q1371 : (Jvm.Cond.privateMethod ({ cls := "SoldWithItModel", name := "begins", desc := "()V" } : Jvm.MethodName)) ∈ lw_tbl := lw_at lw_m6 82 rfl
theorem q1372 : (Jvm.Cond.instanceMethod ({ cls := "SoldWithItModel", name := "begins", desc := "()V" } : Jvm.MethodName)) ∈ lw_all := lw_g (lw_at lw_m6 83 rfl) rfl
theorem q1373 : (Jvm.Cond.code ({ cls := "SoldWithItModel", name := "begins", desc := "()V" } : Jvm.MethodName) prog_12_method_27_code (2 : Nat) (Option.none : Option Jvm.ClassFile.FieldType)) ∈ lw_all := lw_g (lw_at lw_m6 84 rfl) rfl
theorem q1374 : (Jvm.Cond.methodLink "SoldWithItModel" (156 : Nat) ({ cls := "SoldWithItModel", name := "sells", desc := "(II)I" } : Jvm.MethodName)) ∈ lw_all := lw_g (lw_at lw_m6 85 rfl) rfl
theorem q1375 : (Jvm.Cond.privateMethod ({ cls := "SoldWithItModel", name := "sells", desc := "(II)I" } : Jvm.MethodName)) ∈ lw_tbl := lw_at lw_m6 86 rfl
theorem q1376 : (Jvm.Cond.instanceMethod ({ cls := "SoldWithItModel", name := "sells", desc := "(II)I" } : Jvm.MethodName)) ∈ lw_all := lw_g (lw_at lw_m6 87 rfl) rfl
theorem q1377 : (Jvm.Cond.code ({ cls := "SoldWithItModel", name := "sells", desc := "(II)I" } : Jvm.MethodName) prog_12_method_26_code (10 : Nat) (Option.some Jvm.ClassFile.FieldType.int)) ∈ lw_all := lw_g (lw_at lw_m6 88 rfl) rfl
theorem q1378 : (Jvm.Cond.methodLink "SoldWithItModel" (149 : Nat) ({ cls := "SoldWithItModel", name := "isIn", desc := "(II)Z" } : Jvm.MethodName)) ∈ lw_all := lw_g (lw_at lw_m6 89 rfl) rfl
theorem q1379 : (Jvm.Cond.static ({ cls := "SoldWithItModel", name := "isIn", desc := "(II)Z" } : Jvm.MethodName)) ∈ lw_all := lw_g (lw_at lw_m6 90 rfl) rfl
theorem q1380 : (Jvm.Cond.code ({ cls := "SoldWithItModel", name := "isIn", desc := "(II)Z" } : Jvm.MethodName) prog_12_method_4_code (2 : Nat) (Option.some Jvm.ClassFile.FieldType.boolean)) ∈ lw_all := lw_g (lw_at lw_m6 91 rfl) rfl
theorem q1382 : (Jvm.Cond.instanceMethod ({ cls := "SoldWithItModel", name := "keeper", desc := "(II)I" } : Jvm.MethodName)) ∈ lw_all := lw_g (lw_at lw_m6 93 rfl) rfl
theorem q1383 : (Jvm.Cond.selects "SoldWithItModel" ({ cls := "SoldWithItModel", name := "keeper", desc := "(II)I" } : Jvm.MethodName) ({ cls := "SoldWithItModel", name := "keeper", desc := "(II)I" } : Jvm.MethodName)) ∈ lw_all := lw_g (lw_at lw_m6 94 rfl) rfl
theorem q1384 : (Jvm.Cond.code ({ cls := "SoldWithItModel", name := "keeper", desc := "(II)I" } : Jvm.MethodName) prog_12_method_32_code (3 : Nat) (Option.some Jvm.ClassFile.FieldType.int)) ∈ lw_all := lw_g (lw_at lw_m6 95 rfl) rfl
theorem q1385 : (Jvm.Cond.methodLink "SoldWithItModel" (169 : Nat) ({ cls := "SoldWithItModel", name := "keeperOf", desc := "(II)I" } : Jvm.MethodName)) ∈ lw_all := lw_g (lw_at lw_m6 96 rfl) rfl
theorem q1386 : (Jvm.Cond.privateMethod ({ cls := "SoldWithItModel", name := "keeperOf", desc := "(II)I" } : Jvm.MethodName)) ∈ lw_tbl := lw_at lw_m6 97 rfl
theorem q1387 : (Jvm.Cond.instanceMethod ({ cls := "SoldWithItModel", name := "keeperOf", desc := "(II)I" } : Jvm.MethodName)) ∈ lw_all := lw_g (lw_at lw_m6 98 rfl) rfl
theorem q1388 : (Jvm.Cond.code ({ cls := "SoldWithItModel", name := "keeperOf", desc := "(II)I" } : Jvm.MethodName) prog_12_method_31_code (3 : Nat) (Option.some Jvm.ClassFile.FieldType.int)) ∈ lw_all := lw_g (lw_at lw_m6 99 rfl) rfl
theorem q1390 : (Jvm.Cond.instanceMethod ({ cls := "SoldWithItModel", name := "sold", desc := "(II)I" } : Jvm.MethodName)) ∈ lw_all := lw_g (lw_at lw_m6 101 rfl) rfl
theorem q1391 : (Jvm.Cond.selects "SoldWithItModel" ({ cls := "SoldWithItModel", name := "sold", desc := "(II)I" } : Jvm.MethodName) ({ cls := "SoldWithItModel", name := "sold", desc := "(II)I" } : Jvm.MethodName)) ∈ lw_all := lw_g (lw_at lw_m6 102 rfl) rfl
theorem q1392 : (Jvm.Cond.code ({ cls := "SoldWithItModel", name := "sold", desc := "(II)I" } : Jvm.MethodName) prog_12_method_34_code (3 : Nat) (Option.some Jvm.ClassFile.FieldType.int)) ∈ lw_all := lw_g (lw_at lw_m6 103 rfl) rfl
theorem q1393 : (Jvm.Cond.methodLink "SoldWithItModel" (172 : Nat) ({ cls := "SoldWithItModel", name := "soldOf", desc := "(II)I" } : Jvm.MethodName)) ∈ lw_all := lw_g (lw_at lw_m6 104 rfl) rfl
theorem q1394 : (Jvm.Cond.privateMethod ({ cls := "SoldWithItModel", name := "soldOf", desc := "(II)I" } : Jvm.MethodName)) ∈ lw_tbl := lw_at lw_m6 105 rfl
theorem q1395 : (Jvm.Cond.instanceMethod ({ cls := "SoldWithItModel", name := "soldOf", desc := "(II)I" } : Jvm.MethodName)) ∈ lw_all := lw_g (lw_at lw_m6 106 rfl) rfl
theorem q1396 : (Jvm.Cond.code ({ cls := "SoldWithItModel", name := "soldOf", desc := "(II)I" } : Jvm.MethodName) prog_12_method_33_code (3 : Nat) (Option.some Jvm.ClassFile.FieldType.int)) ∈ lw_all := lw_g (lw_at lw_m6 107 rfl) rfl
theorem q1398 : (Jvm.Cond.instanceMethod ({ cls := "SoldWithItModel", name := "length", desc := "(I)I" } : Jvm.MethodName)) ∈ lw_all := lw_g (lw_at lw_m6 109 rfl) rfl
theorem q1399 : (Jvm.Cond.selects "SoldWithItModel" ({ cls := "SoldWithItModel", name := "length", desc := "(I)I" } : Jvm.MethodName) ({ cls := "SoldWithItModel", name := "length", desc := "(I)I" } : Jvm.MethodName)) ∈ lw_all := lw_g (lw_at lw_m6 110 rfl) rfl
theorem q1400 : (Jvm.Cond.code ({ cls := "SoldWithItModel", name := "length", desc := "(I)I" } : Jvm.MethodName) prog_12_method_36_code (2 : Nat) (Option.some Jvm.ClassFile.FieldType.int)) ∈ lw_all := lw_g (lw_at lw_m6 111 rfl) rfl
theorem q1401 : (Jvm.Cond.methodLink "SoldWithItModel" (175 : Nat) ({ cls := "SoldWithItModel", name := "lengthOf", desc := "(I)I" } : Jvm.MethodName)) ∈ lw_all := lw_g (lw_at lw_m6 112 rfl) rfl
theorem q1402 : (Jvm.Cond.privateMethod ({ cls := "SoldWithItModel", name := "lengthOf", desc := "(I)I" } : Jvm.MethodName)) ∈ lw_tbl := lw_at lw_m6 113 rfl
theorem q1403 : (Jvm.Cond.instanceMethod ({ cls := "SoldWithItModel", name := "lengthOf", desc := "(I)I" } : Jvm.MethodName)) ∈ lw_all := lw_g (lw_at lw_m6 114 rfl) rfl
theorem q1404 : (Jvm.Cond.code ({ cls := "SoldWithItModel", name := "lengthOf", desc := "(I)I" } : Jvm.MethodName) prog_12_method_35_code (2 : Nat) (Option.some Jvm.ClassFile.FieldType.int)) ∈ lw_all := lw_g (lw_at lw_m6 115 rfl) rfl
theorem q1406 : (Jvm.Cond.instanceMethod ({ cls := "SoldWithItModel", name := "worth", desc := "(III)I" } : Jvm.MethodName)) ∈ lw_all := lw_g (lw_at lw_m6 117 rfl) rfl
theorem q1407 : (Jvm.Cond.selects "SoldWithItModel" ({ cls := "SoldWithItModel", name := "worth", desc := "(III)I" } : Jvm.MethodName) ({ cls := "SoldWithItModel", name := "worth", desc := "(III)I" } : Jvm.MethodName)) ∈ lw_all := lw_g (lw_at lw_m6 118 rfl) rfl
theorem q1408 : (Jvm.Cond.code ({ cls := "SoldWithItModel", name := "worth", desc := "(III)I" } : Jvm.MethodName) prog_12_method_37_code (5 : Nat) (Option.some Jvm.ClassFile.FieldType.int)) ∈ lw_all := lw_g (lw_at lw_m6 119 rfl) rfl
theorem q1409 : (Jvm.Cond.constant "SoldWithItModel" (178 : Nat) (-100002 : Int32)) ∈ lw_all := lw_g (lw_at lw_m6 120 rfl) rfl
theorem q1411 : (Jvm.Cond.instanceMethod ({ cls := "SoldWithItModel", name := "like", desc := "(III)I" } : Jvm.MethodName)) ∈ lw_all := lw_g (lw_at lw_m6 122 rfl) rfl
theorem q1412 : (Jvm.Cond.selects "SoldWithItModel" ({ cls := "SoldWithItModel", name := "like", desc := "(III)I" } : Jvm.MethodName) ({ cls := "SoldWithItModel", name := "like", desc := "(III)I" } : Jvm.MethodName)) ∈ lw_all := lw_g (lw_at lw_m6 123 rfl) rfl
theorem q1413 : (Jvm.Cond.code ({ cls := "SoldWithItModel", name := "like", desc := "(III)I" } : Jvm.MethodName) prog_12_method_38_code (5 : Nat) (Option.some Jvm.ClassFile.FieldType.int)) ∈ lw_all := lw_g (lw_at lw_m6 124 rfl) rfl
theorem q1415 : (Jvm.Cond.instanceMethod ({ cls := "SoldWithItModel", name := "gain", desc := "(I)I" } : Jvm.MethodName)) ∈ lw_all := lw_g (lw_at lw_m6 126 rfl) rfl
theorem q1416 : (Jvm.Cond.selects "SoldWithItModel" ({ cls := "SoldWithItModel", name := "gain", desc := "(I)I" } : Jvm.MethodName) ({ cls := "SoldWithItModel", name := "gain", desc := "(I)I" } : Jvm.MethodName)) ∈ lw_all := lw_g (lw_at lw_m6 127 rfl) rfl
theorem q1417 : (Jvm.Cond.code ({ cls := "SoldWithItModel", name := "gain", desc := "(I)I" } : Jvm.MethodName) prog_12_method_41_code (2 : Nat) (Option.some Jvm.ClassFile.FieldType.int)) ∈ lw_all := lw_g (lw_at lw_m6 128 rfl) rfl
theorem q1418 : (Jvm.Cond.methodLink "SoldWithItModel" (182 : Nat) ({ cls := "SoldWithItModel", name := "gainOf", desc := "(I)I" } : Jvm.MethodName)) ∈ lw_all := lw_g (lw_at lw_m6 129 rfl) rfl
theorem q1419 : (Jvm.Cond.privateMethod ({ cls := "SoldWithItModel", name := "gainOf", desc := "(I)I" } : Jvm.MethodName)) ∈ lw_tbl := lw_at lw_m6 130 rfl
theorem q1420 : (Jvm.Cond.instanceMethod ({ cls := "SoldWithItModel", name := "gainOf", desc := "(I)I" } : Jvm.MethodName)) ∈ lw_all := lw_g (lw_at lw_m6 131 rfl) rfl
theorem q1421 : (Jvm.Cond.code ({ cls := "SoldWithItModel", name := "gainOf", desc := "(I)I" } : Jvm.MethodName) prog_12_method_40_code (2 : Nat) (Option.some Jvm.ClassFile.FieldType.int)) ∈ lw_all := lw_g (lw_at lw_m6 132 rfl) rfl
theorem q1422 : (Jvm.Cond.methodLink "SoldWithItModel" (179 : Nat) ({ cls := "SoldWithItModel", name := "gainBy", desc := "(I)I" } : Jvm.MethodName)) ∈ lw_all := lw_g (lw_at lw_m6 133 rfl) rfl
theorem q1423 : (Jvm.Cond.privateMethod ({ cls := "SoldWithItModel", name := "gainBy", desc := "(I)I" } : Jvm.MethodName)) ∈ lw_tbl := lw_at lw_m6 134 rfl
theorem q1424 : (Jvm.Cond.instanceMethod ({ cls := "SoldWithItModel", name := "gainBy", desc := "(I)I" } : Jvm.MethodName)) ∈ lw_all := lw_g (lw_at lw_m6 135 rfl) rfl
theorem q1425 : (Jvm.Cond.code ({ cls := "SoldWithItModel", name := "gainBy", desc := "(I)I" } : Jvm.MethodName) prog_12_method_39_code (4 : Nat) (Option.some Jvm.ClassFile.FieldType.int)) ∈ lw_all := lw_g (lw_at lw_m6 136 rfl) rfl
theorem q1427 : (Jvm.Cond.instanceMethod ({ cls := "SoldWithItModel", name := "best", desc := "(II)I" } : Jvm.MethodName)) ∈ lw_all := lw_g (lw_at lw_m6 138 rfl) rfl
theorem q1428 : (Jvm.Cond.selects "SoldWithItModel" ({ cls := "SoldWithItModel", name := "best", desc := "(II)I" } : Jvm.MethodName) ({ cls := "SoldWithItModel", name := "best", desc := "(II)I" } : Jvm.MethodName)) ∈ lw_all := lw_g (lw_at lw_m6 139 rfl) rfl
theorem q1429 : (Jvm.Cond.code ({ cls := "SoldWithItModel", name := "best", desc := "(II)I" } : Jvm.MethodName) prog_12_method_45_code (3 : Nat) (Option.some Jvm.ClassFile.FieldType.int)) ∈ lw_all := lw_g (lw_at lw_m6 140 rfl) rfl
theorem q1430 : (Jvm.Cond.methodLink "SoldWithItModel" (192 : Nat) ({ cls := "SoldWithItModel", name := "bestOf", desc := "(II)I" } : Jvm.MethodName)) ∈ lw_all := lw_g (lw_at lw_m6 141 rfl) rfl
theorem q1431 : (Jvm.Cond.privateMethod ({ cls := "SoldWithItModel", name := "bestOf", desc := "(II)I" } : Jvm.MethodName)) ∈ lw_tbl := lw_at lw_m6 142 rfl
theorem q1432 : (Jvm.Cond.instanceMethod ({ cls := "SoldWithItModel", name := "bestOf", desc := "(II)I" } : Jvm.MethodName)) ∈ lw_all := lw_g (lw_at lw_m6 143 rfl) rfl
theorem q1433 : (Jvm.Cond.code ({ cls := "SoldWithItModel", name := "bestOf", desc := "(II)I" } : Jvm.MethodName) prog_12_method_44_code (9 : Nat) (Option.some Jvm.ClassFile.FieldType.int)) ∈ lw_all := lw_g (lw_at lw_m6 144 rfl) rfl
theorem q1434 : (Jvm.Cond.constant "SoldWithItModel" (185 : Nat) (-100004 : Int32)) ∈ lw_all := lw_g (lw_at lw_m6 145 rfl) rfl
theorem q1435 : (Jvm.Cond.methodLink "SoldWithItModel" (186 : Nat) ({ cls := "SoldWithItModel", name := "rows", desc := "()I" } : Jvm.MethodName)) ∈ lw_all := lw_g (lw_at lw_m6 146 rfl) rfl
theorem q1436 : (Jvm.Cond.privateMethod ({ cls := "SoldWithItModel", name := "rows", desc := "()I" } : Jvm.MethodName)) ∈ lw_tbl := lw_at lw_m6 147 rfl
theorem q1437 : (Jvm.Cond.instanceMethod ({ cls := "SoldWithItModel", name := "rows", desc := "()I" } : Jvm.MethodName)) ∈ lw_all := lw_g (lw_at lw_m6 148 rfl) rfl
theorem q1438 : (Jvm.Cond.code ({ cls := "SoldWithItModel", name := "rows", desc := "()I" } : Jvm.MethodName) prog_12_method_42_code (3 : Nat) (Option.some Jvm.ClassFile.FieldType.int)) ∈ lw_all := lw_g (lw_at lw_m6 149 rfl) rfl
theorem q1439 : (Jvm.Cond.methodLink "SoldWithItModel" (189 : Nat) ({ cls := "SoldWithItModel", name := "places", desc := "(I)V" } : Jvm.MethodName)) ∈ lw_all := lw_g (lw_at lw_m6 150 rfl) rfl
theorem q1440 : (Jvm.Cond.privateMethod ({ cls := "SoldWithItModel", name := "places", desc := "(I)V" } : Jvm.MethodName)) ∈ lw_tbl := lw_at lw_m6 151 rfl
theorem q1441 : (Jvm.Cond.instanceMethod ({ cls := "SoldWithItModel", name := "places", desc := "(I)V" } : Jvm.MethodName)) ∈ lw_all := lw_g (lw_at lw_m6 152 rfl) rfl
theorem q1442 : (Jvm.Cond.code ({ cls := "SoldWithItModel", name := "places", desc := "(I)V" } : Jvm.MethodName) prog_12_method_43_code (4 : Nat) (Option.none : Option Jvm.ClassFile.FieldType)) ∈ lw_all := lw_g (lw_at lw_m6 153 rfl) rfl
theorem q1444 : (Jvm.Cond.instanceMethod ({ cls := "SoldWithItModel", name := "rest", desc := "(I)I" } : Jvm.MethodName)) ∈ lw_all := lw_g (lw_at lw_m6 155 rfl) rfl
theorem q1445 : (Jvm.Cond.selects "SoldWithItModel" ({ cls := "SoldWithItModel", name := "rest", desc := "(I)I" } : Jvm.MethodName) ({ cls := "SoldWithItModel", name := "rest", desc := "(I)I" } : Jvm.MethodName)) ∈ lw_all := lw_g (lw_at lw_m6 156 rfl) rfl
theorem q1446 : (Jvm.Cond.code ({ cls := "SoldWithItModel", name := "rest", desc := "(I)I" } : Jvm.MethodName) prog_12_method_47_code (2 : Nat) (Option.some Jvm.ClassFile.FieldType.int)) ∈ lw_all := lw_g (lw_at lw_m6 157 rfl) rfl
theorem q1447 : (Jvm.Cond.methodLink "SoldWithItModel" (196 : Nat) ({ cls := "SoldWithItModel", name := "restNow", desc := "(I)I" } : Jvm.MethodName)) ∈ lw_all := lw_g (lw_at lw_m6 158 rfl) rfl
theorem q1448 : (Jvm.Cond.privateMethod ({ cls := "SoldWithItModel", name := "restNow", desc := "(I)I" } : Jvm.MethodName)) ∈ lw_tbl := lw_at lw_m6 159 rfl
theorem q1449 : (Jvm.Cond.instanceMethod ({ cls := "SoldWithItModel", name := "restNow", desc := "(I)I" } : Jvm.MethodName)) ∈ lw_all := lw_g (lw_at lw_m6 160 rfl) rfl
theorem q1450 : (Jvm.Cond.code ({ cls := "SoldWithItModel", name := "restNow", desc := "(I)I" } : Jvm.MethodName) prog_12_method_48_code (2 : Nat) (Option.some Jvm.ClassFile.FieldType.int)) ∈ lw_all := lw_g (lw_at lw_m6 161 rfl) rfl
theorem q1451 : (Jvm.Cond.methodLink "SoldWithItModel" (199 : Nat) ({ cls := "SoldWithItModel", name := "restOf", desc := "(I)I" } : Jvm.MethodName)) ∈ lw_all := lw_g (lw_at lw_m6 162 rfl) rfl
theorem q1452 : (Jvm.Cond.privateMethod ({ cls := "SoldWithItModel", name := "restOf", desc := "(I)I" } : Jvm.MethodName)) ∈ lw_tbl := lw_at lw_m6 163 rfl
theorem q1453 : (Jvm.Cond.instanceMethod ({ cls := "SoldWithItModel", name := "restOf", desc := "(I)I" } : Jvm.MethodName)) ∈ lw_all := lw_g (lw_at lw_m6 164 rfl) rfl
theorem q1454 : (Jvm.Cond.code ({ cls := "SoldWithItModel", name := "restOf", desc := "(I)I" } : Jvm.MethodName) prog_12_method_46_code (11 : Nat) (Option.some Jvm.ClassFile.FieldType.int)) ∈ lw_all := lw_g (lw_at lw_m6 165 rfl) rfl
theorem q1455 : (Jvm.Cond.constant "SoldWithItModel" (195 : Nat) (-100003 : Int32)) ∈ lw_all := lw_g (lw_at lw_m6 166 rfl) rfl
theorem q1457 : (Jvm.Cond.instanceMethod ({ cls := "SoldWithItModel", name := "out", desc := "(I)I" } : Jvm.MethodName)) ∈ lw_all := lw_g (lw_at lw_m6 168 rfl) rfl
theorem q1458 : (Jvm.Cond.selects "SoldWithItModel" ({ cls := "SoldWithItModel", name := "out", desc := "(I)I" } : Jvm.MethodName) ({ cls := "SoldWithItModel", name := "out", desc := "(I)I" } : Jvm.MethodName)) ∈ lw_all := lw_g (lw_at lw_m6 169 rfl) rfl
theorem q1459 : (Jvm.Cond.code ({ cls := "SoldWithItModel", name := "out", desc := "(I)I" } : Jvm.MethodName) prog_12_method_51_code (2 : Nat) (Option.some Jvm.ClassFile.FieldType.int)) ∈ lw_all := lw_g (lw_at lw_m6 170 rfl) rfl
theorem q1460 : (Jvm.Cond.methodLink "SoldWithItModel" (205 : Nat) ({ cls := "SoldWithItModel", name := "outOf", desc := "(I)I" } : Jvm.MethodName)) ∈ lw_all := lw_g (lw_at lw_m6 171 rfl) rfl
theorem q1461 : (Jvm.Cond.privateMethod ({ cls := "SoldWithItModel", name := "outOf", desc := "(I)I" } : Jvm.MethodName)) ∈ lw_tbl := lw_at lw_m6 172 rfl
theorem q1462 : (Jvm.Cond.instanceMethod ({ cls := "SoldWithItModel", name := "outOf", desc := "(I)I" } : Jvm.MethodName)) ∈ lw_all := lw_g (lw_at lw_m6 173 rfl) rfl
theorem q1463 : (Jvm.Cond.code ({ cls := "SoldWithItModel", name := "outOf", desc := "(I)I" } : Jvm.MethodName) prog_12_method_50_code (6 : Nat) (Option.some Jvm.ClassFile.FieldType.int)) ∈ lw_all := lw_g (lw_at lw_m6 174 rfl) rfl
theorem q1464 : (Jvm.Cond.methodLink "SoldWithItModel" (202 : Nat) ({ cls := "SoldWithItModel", name := "isTold", desc := "(I)Z" } : Jvm.MethodName)) ∈ lw_all := lw_g (lw_at lw_m6 175 rfl) rfl
theorem q1465 : (Jvm.Cond.privateMethod ({ cls := "SoldWithItModel", name := "isTold", desc := "(I)Z" } : Jvm.MethodName)) ∈ lw_tbl := lw_at lw_m6 176 rfl
theorem q1466 : (Jvm.Cond.instanceMethod ({ cls := "SoldWithItModel", name := "isTold", desc := "(I)Z" } : Jvm.MethodName)) ∈ lw_all := lw_g (lw_at lw_m6 177 rfl) rfl
theorem q1467 : (Jvm.Cond.code ({ cls := "SoldWithItModel", name := "isTold", desc := "(I)Z" } : Jvm.MethodName) prog_12_method_49_code (4 : Nat) (Option.some Jvm.ClassFile.FieldType.boolean)) ∈ lw_all := lw_g (lw_at lw_m6 178 rfl) rfl
theorem q1469 : (Jvm.Cond.instanceMethod ({ cls := "SoldWithItModel", name := "value", desc := "(II)I" } : Jvm.MethodName)) ∈ lw_all := lw_g (lw_at lw_m6 180 rfl) rfl
theorem q1470 : (Jvm.Cond.selects "SoldWithItModel" ({ cls := "SoldWithItModel", name := "value", desc := "(II)I" } : Jvm.MethodName) ({ cls := "SoldWithItModel", name := "value", desc := "(II)I" } : Jvm.MethodName)) ∈ lw_all := lw_g (lw_at lw_m6 181 rfl) rfl
theorem q1471 : (Jvm.Cond.code ({ cls := "SoldWithItModel", name := "value", desc := "(II)I" } : Jvm.MethodName) prog_12_method_53_code (3 : Nat) (Option.some Jvm.ClassFile.FieldType.int)) ∈ lw_all := lw_g (lw_at lw_m6 182 rfl) rfl
theorem q1472 : (Jvm.Cond.methodLink "SoldWithItModel" (208 : Nat) ({ cls := "SoldWithItModel", name := "valueOf", desc := "(II)I" } : Jvm.MethodName)) ∈ lw_all := lw_g (lw_at lw_m6 183 rfl) rfl
theorem q1473 : (Jvm.Cond.privateMethod ({ cls := "SoldWithItModel", name := "valueOf", desc := "(II)I" } : Jvm.MethodName)) ∈ lw_tbl := lw_at lw_m6 184 rfl
theorem q1474 : (Jvm.Cond.instanceMethod ({ cls := "SoldWithItModel", name := "valueOf", desc := "(II)I" } : Jvm.MethodName)) ∈ lw_all := lw_g (lw_at lw_m6 185 rfl) rfl
theorem q1475 : (Jvm.Cond.code ({ cls := "SoldWithItModel", name := "valueOf", desc := "(II)I" } : Jvm.MethodName) prog_12_method_52_code (5 : Nat) (Option.some Jvm.ClassFile.FieldType.int)) ∈ lw_all := lw_g (lw_at lw_m6 186 rfl) rfl
theorem q1477 : (Jvm.Cond.instanceMethod ({ cls := "SoldWithItModel", name := "change", desc := "(II)I" } : Jvm.MethodName)) ∈ lw_all := lw_g (lw_at lw_m6 188 rfl) rfl
theorem q1478 : (Jvm.Cond.selects "SoldWithItModel" ({ cls := "SoldWithItModel", name := "change", desc := "(II)I" } : Jvm.MethodName) ({ cls := "SoldWithItModel", name := "change", desc := "(II)I" } : Jvm.MethodName)) ∈ lw_all := lw_g (lw_at lw_m6 189 rfl) rfl
theorem q1479 : (Jvm.Cond.code ({ cls := "SoldWithItModel", name := "change", desc := "(II)I" } : Jvm.MethodName) prog_12_method_55_code (3 : Nat) (Option.some Jvm.ClassFile.FieldType.int)) ∈ lw_all := lw_g (lw_at lw_m6 190 rfl) rfl
theorem q1480 : (Jvm.Cond.methodLink "SoldWithItModel" (211 : Nat) ({ cls := "SoldWithItModel", name := "isChange", desc := "(II)Z" } : Jvm.MethodName)) ∈ lw_all := lw_g (lw_at lw_m6 191 rfl) rfl
theorem q1481 : (Jvm.Cond.privateMethod ({ cls := "SoldWithItModel", name := "isChange", desc := "(II)Z" } : Jvm.MethodName)) ∈ lw_tbl := lw_at lw_m6 192 rfl
theorem q1482 : (Jvm.Cond.instanceMethod ({ cls := "SoldWithItModel", name := "isChange", desc := "(II)Z" } : Jvm.MethodName)) ∈ lw_all := lw_g (lw_at lw_m6 193 rfl) rfl
theorem q1483 : (Jvm.Cond.code ({ cls := "SoldWithItModel", name := "isChange", desc := "(II)Z" } : Jvm.MethodName) prog_12_method_54_code (5 : Nat) (Option.some Jvm.ClassFile.FieldType.boolean)) ∈ lw_all := lw_g (lw_at lw_m6 194 rfl) rfl
theorem q1485 : (Jvm.Cond.instanceMethod ({ cls := "SoldWithItModel", name := "changes", desc := "()I" } : Jvm.MethodName)) ∈ lw_all := lw_g (lw_at lw_m6 196 rfl) rfl
theorem q1486 : (Jvm.Cond.selects "SoldWithItModel" ({ cls := "SoldWithItModel", name := "changes", desc := "()I" } : Jvm.MethodName) ({ cls := "SoldWithItModel", name := "changes", desc := "()I" } : Jvm.MethodName)) ∈ lw_all := lw_g (lw_at lw_m6 197 rfl) rfl
theorem q1487 : (Jvm.Cond.code ({ cls := "SoldWithItModel", name := "changes", desc := "()I" } : Jvm.MethodName) prog_12_method_57_code (1 : Nat) (Option.some Jvm.ClassFile.FieldType.int)) ∈ lw_all := lw_g (lw_at lw_m6 198 rfl) rfl
theorem q1488 : (Jvm.Cond.methodLink "SoldWithItModel" (214 : Nat) ({ cls := "SoldWithItModel", name := "changesNow", desc := "()I" } : Jvm.MethodName)) ∈ lw_all := lw_g (lw_at lw_m6 199 rfl) rfl
theorem q1489 : (Jvm.Cond.privateMethod ({ cls := "SoldWithItModel", name := "changesNow", desc := "()I" } : Jvm.MethodName)) ∈ lw_tbl := lw_at lw_m6 200 rfl
theorem q1490 : (Jvm.Cond.instanceMethod ({ cls := "SoldWithItModel", name := "changesNow", desc := "()I" } : Jvm.MethodName)) ∈ lw_all := lw_g (lw_at lw_m6 201 rfl) rfl
theorem q1491 : (Jvm.Cond.code ({ cls := "SoldWithItModel", name := "changesNow", desc := "()I" } : Jvm.MethodName) prog_12_method_56_code (4 : Nat) (Option.some Jvm.ClassFile.FieldType.int)) ∈ lw_all := lw_g (lw_at lw_m6 202 rfl) rfl
theorem q1493 : (Jvm.Cond.instanceMethod ({ cls := "SoldWithItModel", name := "should", desc := "(I)I" } : Jvm.MethodName)) ∈ lw_all := lw_g (lw_at lw_m6 204 rfl) rfl
theorem q1494 : (Jvm.Cond.selects "SoldWithItModel" ({ cls := "SoldWithItModel", name := "should", desc := "(I)I" } : Jvm.MethodName) ({ cls := "SoldWithItModel", name := "should", desc := "(I)I" } : Jvm.MethodName)) ∈ lw_all := lw_g (lw_at lw_m6 205 rfl) rfl
theorem q1495 : (Jvm.Cond.code ({ cls := "SoldWithItModel", name := "should", desc := "(I)I" } : Jvm.MethodName) prog_12_method_61_code (2 : Nat) (Option.some Jvm.ClassFile.FieldType.int)) ∈ lw_all := lw_g (lw_at lw_m6 206 rfl) rfl
theorem q1496 : (Jvm.Cond.methodLink "SoldWithItModel" (223 : Nat) ({ cls := "SoldWithItModel", name := "shouldOf", desc := "(I)I" } : Jvm.MethodName)) ∈ lw_all := lw_g (lw_at lw_m6 207 rfl) rfl
theorem q1497 : (Jvm.Cond.privateMethod ({ cls := "SoldWithItModel", name := "shouldOf", desc := "(I)I" } : Jvm.MethodName)) ∈ lw_tbl := lw_at lw_m6 208 rfl
theorem q1498 : (Jvm.Cond.instanceMethod ({ cls := "SoldWithItModel", name := "shouldOf", desc := "(I)I" } : Jvm.MethodName)) ∈ lw_all := lw_g (lw_at lw_m6 209 rfl) rfl
theorem q1499 : (Jvm.Cond.code ({ cls := "SoldWithItModel", name := "shouldOf", desc := "(I)I" } : Jvm.MethodName) prog_12_method_60_code (10 : Nat) (Option.some Jvm.ClassFile.FieldType.int)) ∈ lw_all := lw_g (lw_at lw_m6 210 rfl) rfl
theorem q1500 : (Jvm.Cond.methodLink "SoldWithItModel" (217 : Nat) ({ cls := "SoldWithItModel", name := "stateNow", desc := "()I" } : Jvm.MethodName)) ∈ lw_all := lw_g (lw_at lw_m6 211 rfl) rfl
theorem q1501 : (Jvm.Cond.privateMethod ({ cls := "SoldWithItModel", name := "stateNow", desc := "()I" } : Jvm.MethodName)) ∈ lw_tbl := lw_at lw_m6 212 rfl
theorem q1502 : (Jvm.Cond.instanceMethod ({ cls := "SoldWithItModel", name := "stateNow", desc := "()I" } : Jvm.MethodName)) ∈ lw_all := lw_g (lw_at lw_m6 213 rfl) rfl
theorem q1503 : (Jvm.Cond.code ({ cls := "SoldWithItModel", name := "stateNow", desc := "()I" } : Jvm.MethodName) prog_12_method_59_code (3 : Nat) (Option.some Jvm.ClassFile.FieldType.int)) ∈ lw_all := lw_g (lw_at lw_m6 214 rfl) rfl
theorem q1504 : (Jvm.Cond.methodLink "SoldWithItModel" (220 : Nat) ({ cls := "SoldWithItModel", name := "ownsBy", desc := "(I)V" } : Jvm.MethodName)) ∈ lw_all := lw_g (lw_at lw_m6 215 rfl) rfl
theorem q1505 : (Jvm.Cond.privateMethod ({ cls := "SoldWithItModel", name := "ownsBy", desc := "(I)V" } : Jvm.MethodName)) ∈ lw_tbl := lw_at lw_m6 216 rfl
theorem q1506 : (Jvm.Cond.instanceMethod ({ cls := "SoldWithItModel", name := "ownsBy", desc := "(I)V" } : Jvm.MethodName)) ∈ lw_all := lw_g (lw_at lw_m6 217 rfl) rfl
theorem q1507 : (Jvm.Cond.code ({ cls := "SoldWithItModel", name := "ownsBy", desc := "(I)V" } : Jvm.MethodName) prog_12_method_58_code (4 : Nat) (Option.none : Option Jvm.ClassFile.FieldType)) ∈ lw_all := lw_g (lw_at lw_m6 218 rfl) rfl
theorem q1509 : (Jvm.Cond.instanceMethod ({ cls := "SoldWithItModel", name := "come", desc := "(II)I" } : Jvm.MethodName)) ∈ lw_all := lw_g (lw_at lw_m6 220 rfl) rfl
theorem q1510 : (Jvm.Cond.selects "SoldWithItModel" ({ cls := "SoldWithItModel", name := "come", desc := "(II)I" } : Jvm.MethodName) ({ cls := "SoldWithItModel", name := "come", desc := "(II)I" } : Jvm.MethodName)) ∈ lw_all := lw_g (lw_at lw_m6 221 rfl) rfl
theorem q1511 : (Jvm.Cond.code ({ cls := "SoldWithItModel", name := "come", desc := "(II)I" } : Jvm.MethodName) prog_12_method_63_code (3 : Nat) (Option.some Jvm.ClassFile.FieldType.int)) ∈ lw_all := lw_g (lw_at lw_m6 222 rfl) rfl
theorem q1512 : (Jvm.Cond.methodLink "SoldWithItModel" (226 : Nat) ({ cls := "SoldWithItModel", name := "comeOf", desc := "(II)I" } : Jvm.MethodName)) ∈ lw_all := lw_g (lw_at lw_m6 223 rfl) rfl
theorem q1513 : (Jvm.Cond.privateMethod ({ cls := "SoldWithItModel", name := "comeOf", desc := "(II)I" } : Jvm.MethodName)) ∈ lw_tbl := lw_at lw_m6 224 rfl
theorem q1514 : (Jvm.Cond.instanceMethod ({ cls := "SoldWithItModel", name := "comeOf", desc := "(II)I" } : Jvm.MethodName)) ∈ lw_all := lw_g (lw_at lw_m6 225 rfl) rfl
theorem q1515 : (Jvm.Cond.code ({ cls := "SoldWithItModel", name := "comeOf", desc := "(II)I" } : Jvm.MethodName) prog_12_method_62_code (7 : Nat) (Option.some Jvm.ClassFile.FieldType.int)) ∈ lw_all := lw_g (lw_at lw_m6 226 rfl) rfl
theorem q1517 : (Jvm.Cond.instanceMethod ({ cls := "SoldWithItModel", name := "invite", desc := "(II)I" } : Jvm.MethodName)) ∈ lw_all := lw_g (lw_at lw_m6 228 rfl) rfl
theorem q1518 : (Jvm.Cond.selects "SoldWithItModel" ({ cls := "SoldWithItModel", name := "invite", desc := "(II)I" } : Jvm.MethodName) ({ cls := "SoldWithItModel", name := "invite", desc := "(II)I" } : Jvm.MethodName)) ∈ lw_all := lw_g (lw_at lw_m6 229 rfl) rfl
theorem q1519 : (Jvm.Cond.code ({ cls := "SoldWithItModel", name := "invite", desc := "(II)I" } : Jvm.MethodName) prog_12_method_65_code (3 : Nat) (Option.some Jvm.ClassFile.FieldType.int)) ∈ lw_all := lw_g (lw_at lw_m6 230 rfl) rfl
theorem q1520 : (Jvm.Cond.methodLink "SoldWithItModel" (232 : Nat) ({ cls := "SoldWithItModel", name := "inviteOf", desc := "(II)I" } : Jvm.MethodName)) ∈ lw_all := lw_g (lw_at lw_m6 231 rfl) rfl
theorem q1521 : (Jvm.Cond.privateMethod ({ cls := "SoldWithItModel", name := "inviteOf", desc := "(II)I" } : Jvm.MethodName)) ∈ lw_tbl := lw_at lw_m6 232 rfl
theorem q1522 : (Jvm.Cond.instanceMethod ({ cls := "SoldWithItModel", name := "inviteOf", desc := "(II)I" } : Jvm.MethodName)) ∈ lw_all := lw_g (lw_at lw_m6 233 rfl) rfl
theorem q1523 : (Jvm.Cond.code ({ cls := "SoldWithItModel", name := "inviteOf", desc := "(II)I" } : Jvm.MethodName) prog_12_method_64_code (6 : Nat) (Option.some Jvm.ClassFile.FieldType.int)) ∈ lw_all := lw_g (lw_at lw_m6 234 rfl) rfl
theorem q1524 : (Jvm.Cond.methodLink "SoldWithItModel" (229 : Nat) ({ cls := "SoldWithItModel", name := "ones", desc := "(I)I" } : Jvm.MethodName)) ∈ lw_all := lw_g (lw_at lw_m6 235 rfl) rfl
theorem q1525 : (Jvm.Cond.static ({ cls := "SoldWithItModel", name := "ones", desc := "(I)I" } : Jvm.MethodName)) ∈ lw_all := lw_g (lw_at lw_m6 236 rfl) rfl
theorem q1526 : (Jvm.Cond.code ({ cls := "SoldWithItModel", name := "ones", desc := "(I)I" } : Jvm.MethodName) prog_12_method_5_code (3 : Nat) (Option.some Jvm.ClassFile.FieldType.int)) ∈ lw_all := lw_g (lw_at lw_m6 237 rfl) rfl
theorem q1528 : (Jvm.Cond.instanceMethod ({ cls := "SoldWithItModel", name := "fact", desc := "(II)I" } : Jvm.MethodName)) ∈ lw_all := lw_g (lw_at lw_m6 239 rfl) rfl
theorem q1529 : (Jvm.Cond.selects "SoldWithItModel" ({ cls := "SoldWithItModel", name := "fact", desc := "(II)I" } : Jvm.MethodName) ({ cls := "SoldWithItModel", name := "fact", desc := "(II)I" } : Jvm.MethodName)) ∈ lw_all := lw_g (lw_at lw_m7 0 rfl) rfl
theorem q1530 : (Jvm.Cond.code ({ cls := "SoldWithItModel", name := "fact", desc := "(II)I" } : Jvm.MethodName) prog_12_method_66_code (3 : Nat) (Option.some Jvm.ClassFile.FieldType.int)) ∈ lw_all := lw_g (lw_at lw_m7 1 rfl) rfl
theorem q1532 : (Jvm.Cond.instanceMethod ({ cls := "SoldWithItModel", name := "forget", desc := "()I" } : Jvm.MethodName)) ∈ lw_all := lw_g (lw_at lw_m7 3 rfl) rfl
theorem q1533 : (Jvm.Cond.selects "SoldWithItModel" ({ cls := "SoldWithItModel", name := "forget", desc := "()I" } : Jvm.MethodName) ({ cls := "SoldWithItModel", name := "forget", desc := "()I" } : Jvm.MethodName)) ∈ lw_all := lw_g (lw_at lw_m7 4 rfl) rfl
theorem q1534 : (Jvm.Cond.code ({ cls := "SoldWithItModel", name := "forget", desc := "()I" } : Jvm.MethodName) prog_12_method_67_code (2 : Nat) (Option.some Jvm.ClassFile.FieldType.int)) ∈ lw_all := lw_g (lw_at lw_m7 5 rfl) rfl
theorem q1536 : (Jvm.Cond.instanceMethod ({ cls := "SoldWithItModel", name := "were", desc := "(I)I" } : Jvm.MethodName)) ∈ lw_all := lw_g (lw_at lw_m7 7 rfl) rfl
theorem q1537 : (Jvm.Cond.selects "SoldWithItModel" ({ cls := "SoldWithItModel", name := "were", desc := "(I)I" } : Jvm.MethodName) ({ cls := "SoldWithItModel", name := "were", desc := "(I)I" } : Jvm.MethodName)) ∈ lw_all := lw_g (lw_at lw_m7 8 rfl) rfl
theorem q1538 : (Jvm.Cond.code ({ cls := "SoldWithItModel", name := "were", desc := "(I)I" } : Jvm.MethodName) prog_12_method_69_code (3 : Nat) (Option.some Jvm.ClassFile.FieldType.int)) ∈ lw_all := lw_g (lw_at lw_m7 9 rfl) rfl
theorem q1539 : (Jvm.Cond.methodLink "SoldWithItModel" (238 : Nat) ({ cls := "SoldWithItModel", name := "waysNow", desc := "()I" } : Jvm.MethodName)) ∈ lw_all := lw_g (lw_at lw_m7 10 rfl) rfl
theorem q1540 : (Jvm.Cond.privateMethod ({ cls := "SoldWithItModel", name := "waysNow", desc := "()I" } : Jvm.MethodName)) ∈ lw_tbl := lw_at lw_m7 11 rfl
theorem q1541 : (Jvm.Cond.instanceMethod ({ cls := "SoldWithItModel", name := "waysNow", desc := "()I" } : Jvm.MethodName)) ∈ lw_all := lw_g (lw_at lw_m7 12 rfl) rfl
theorem q1542 : (Jvm.Cond.code ({ cls := "SoldWithItModel", name := "waysNow", desc := "()I" } : Jvm.MethodName) prog_12_method_68_code (6 : Nat) (Option.some Jvm.ClassFile.FieldType.int)) ∈ lw_all := lw_g (lw_at lw_m7 13 rfl) rfl
theorem q1544 : (Jvm.Cond.instanceMethod ({ cls := "SoldWithItModel", name := "bed", desc := "()I" } : Jvm.MethodName)) ∈ lw_all := lw_g (lw_at lw_m7 15 rfl) rfl
theorem q1545 : (Jvm.Cond.selects "SoldWithItModel" ({ cls := "SoldWithItModel", name := "bed", desc := "()I" } : Jvm.MethodName) ({ cls := "SoldWithItModel", name := "bed", desc := "()I" } : Jvm.MethodName)) ∈ lw_all := lw_g (lw_at lw_m7 16 rfl) rfl
theorem q1546 : (Jvm.Cond.code ({ cls := "SoldWithItModel", name := "bed", desc := "()I" } : Jvm.MethodName) prog_12_method_70_code (3 : Nat) (Option.some Jvm.ClassFile.FieldType.int)) ∈ lw_all := lw_g (lw_at lw_m7 17 rfl) rfl
theorem q1548 : (Jvm.Cond.instanceMethod ({ cls := "SoldWithItModel", name := "sheet", desc := "(III)I" } : Jvm.MethodName)) ∈ lw_all := lw_g (lw_at lw_m7 19 rfl) rfl
theorem q1549 : (Jvm.Cond.selects "SoldWithItModel" ({ cls := "SoldWithItModel", name := "sheet", desc := "(III)I" } : Jvm.MethodName) ({ cls := "SoldWithItModel", name := "sheet", desc := "(III)I" } : Jvm.MethodName)) ∈ lw_all := lw_g (lw_at lw_m7 20 rfl) rfl
theorem q1550 : (Jvm.Cond.code ({ cls := "SoldWithItModel", name := "sheet", desc := "(III)I" } : Jvm.MethodName) prog_12_method_73_code (5 : Nat) (Option.some Jvm.ClassFile.FieldType.int)) ∈ lw_all := lw_g (lw_at lw_m7 21 rfl) rfl
theorem q1552 : (Jvm.Cond.instanceMethod ({ cls := "SoldWithItModel", name := "lose", desc := "(I)I" } : Jvm.MethodName)) ∈ lw_all := lw_g (lw_at lw_m7 23 rfl) rfl
theorem q1553 : (Jvm.Cond.selects "SoldWithItModel" ({ cls := "SoldWithItModel", name := "lose", desc := "(I)I" } : Jvm.MethodName) ({ cls := "SoldWithItModel", name := "lose", desc := "(I)I" } : Jvm.MethodName)) ∈ lw_all := lw_g (lw_at lw_m7 24 rfl) rfl
theorem q1554 : (Jvm.Cond.code ({ cls := "SoldWithItModel", name := "lose", desc := "(I)I" } : Jvm.MethodName) prog_12_method_74_code (2 : Nat) (Option.some Jvm.ClassFile.FieldType.int)) ∈ lw_all := lw_g (lw_at lw_m7 25 rfl) rfl
theorem q1556 : (Jvm.Cond.instanceMethod ({ cls := "SoldWithItModel", name := "put", desc := "(IIII)I" } : Jvm.MethodName)) ∈ lw_all := lw_g (lw_at lw_m7 27 rfl) rfl
theorem q1557 : (Jvm.Cond.selects "SoldWithItModel" ({ cls := "SoldWithItModel", name := "put", desc := "(IIII)I" } : Jvm.MethodName) ({ cls := "SoldWithItModel", name := "put", desc := "(IIII)I" } : Jvm.MethodName)) ∈ lw_all := lw_g (lw_at lw_m7 28 rfl) rfl
theorem q1558 : (Jvm.Cond.code ({ cls := "SoldWithItModel", name := "put", desc := "(IIII)I" } : Jvm.MethodName) prog_12_method_77_code (6 : Nat) (Option.some Jvm.ClassFile.FieldType.int)) ∈ lw_all := lw_g (lw_at lw_m7 29 rfl) rfl
theorem q1559 : (Jvm.Cond.methodLink "SoldWithItModel" (244 : Nat) ({ cls := "SoldWithItModel", name := "lacks", desc := "(III)I" } : Jvm.MethodName)) ∈ lw_all := lw_g (lw_at lw_m7 30 rfl) rfl
theorem q1560 : (Jvm.Cond.privateMethod ({ cls := "SoldWithItModel", name := "lacks", desc := "(III)I" } : Jvm.MethodName)) ∈ lw_tbl := lw_at lw_m7 31 rfl
theorem q1561 : (Jvm.Cond.instanceMethod ({ cls := "SoldWithItModel", name := "lacks", desc := "(III)I" } : Jvm.MethodName)) ∈ lw_all := lw_g (lw_at lw_m7 32 rfl) rfl
theorem q1562 : (Jvm.Cond.code ({ cls := "SoldWithItModel", name := "lacks", desc := "(III)I" } : Jvm.MethodName) prog_12_method_75_code (4 : Nat) (Option.some Jvm.ClassFile.FieldType.int)) ∈ lw_all := lw_g (lw_at lw_m7 33 rfl) rfl
theorem q1563 : (Jvm.Cond.methodLink "SoldWithItModel" (248 : Nat) ({ cls := "SoldWithItModel", name := "keep", desc := "(III)V" } : Jvm.MethodName)) ∈ lw_all := lw_g (lw_at lw_m7 34 rfl) rfl
theorem q1564 : (Jvm.Cond.privateMethod ({ cls := "SoldWithItModel", name := "keep", desc := "(III)V" } : Jvm.MethodName)) ∈ lw_tbl := lw_at lw_m7 35 rfl
theorem q1565 : (Jvm.Cond.instanceMethod ({ cls := "SoldWithItModel", name := "keep", desc := "(III)V" } : Jvm.MethodName)) ∈ lw_all := lw_g (lw_at lw_m7 36 rfl) rfl
theorem q1566 : (Jvm.Cond.code ({ cls := "SoldWithItModel", name := "keep", desc := "(III)V" } : Jvm.MethodName) prog_12_method_76_code (4 : Nat) (Option.none : Option Jvm.ClassFile.FieldType)) ∈ lw_all := lw_g (lw_at lw_m7 37 rfl) rfl
theorem q1568 : (Jvm.Cond.instanceMethod ({ cls := "SoldWithItModel", name := "get", desc := "(III)I" } : Jvm.MethodName)) ∈ lw_all := lw_g (lw_at lw_m7 39 rfl) rfl
theorem q1569 : (Jvm.Cond.selects "SoldWithItModel" ({ cls := "SoldWithItModel", name := "get", desc := "(III)I" } : Jvm.MethodName) ({ cls := "SoldWithItModel", name := "get", desc := "(III)I" } : Jvm.MethodName)) ∈ lw_all := lw_g (lw_at lw_m7 40 rfl) rfl
theorem q1570 : (Jvm.Cond.code ({ cls := "SoldWithItModel", name := "get", desc := "(III)I" } : Jvm.MethodName) prog_12_method_78_code (5 : Nat) (Option.some Jvm.ClassFile.FieldType.int)) ∈ lw_all := lw_g (lw_at lw_m7 41 rfl) rfl
theorem q1571 : (Jvm.Cond.constant "SoldWithItModel" (252 : Nat) (-2147483648 : Int32)) ∈ lw_all := lw_g (lw_at lw_m7 42 rfl) rfl
theorem q1573 : (Jvm.Cond.instanceMethod ({ cls := "SoldWithItModel", name := "copy", desc := "(IIIII)I" } : Jvm.MethodName)) ∈ lw_all := lw_g (lw_at lw_m7 44 rfl) rfl
theorem q1574 : (Jvm.Cond.selects "SoldWithItModel" ({ cls := "SoldWithItModel", name := "copy", desc := "(IIIII)I" } : Jvm.MethodName) ({ cls := "SoldWithItModel", name := "copy", desc := "(IIIII)I" } : Jvm.MethodName)) ∈ lw_all := lw_g (lw_at lw_m7 45 rfl) rfl
theorem q1575 : (Jvm.Cond.code ({ cls := "SoldWithItModel", name := "copy", desc := "(IIIII)I" } : Jvm.MethodName) prog_12_method_79_code (7 : Nat) (Option.some Jvm.ClassFile.FieldType.int)) ∈ lw_all := lw_g (lw_at lw_m7 46 rfl) rfl
theorem q1577 : (Jvm.Cond.instanceMethod ({ cls := "SoldWithItModel", name := "write", desc := "(I)I" } : Jvm.MethodName)) ∈ lw_all := lw_g (lw_at lw_m7 48 rfl) rfl
theorem q1578 : (Jvm.Cond.selects "SoldWithItModel" ({ cls := "SoldWithItModel", name := "write", desc := "(I)I" } : Jvm.MethodName) ({ cls := "SoldWithItModel", name := "write", desc := "(I)I" } : Jvm.MethodName)) ∈ lw_all := lw_g (lw_at lw_m7 49 rfl) rfl
theorem q1579 : (Jvm.Cond.code ({ cls := "SoldWithItModel", name := "write", desc := "(I)I" } : Jvm.MethodName) prog_12_method_80_code (3 : Nat) (Option.some Jvm.ClassFile.FieldType.int)) ∈ lw_all := lw_g (lw_at lw_m7 50 rfl) rfl
theorem q1581 : (Jvm.Cond.instanceMethod ({ cls := "SoldWithItModel", name := "count", desc := "(I)I" } : Jvm.MethodName)) ∈ lw_all := lw_g (lw_at lw_m7 52 rfl) rfl
theorem q1582 : (Jvm.Cond.selects "SoldWithItModel" ({ cls := "SoldWithItModel", name := "count", desc := "(I)I" } : Jvm.MethodName) ({ cls := "SoldWithItModel", name := "count", desc := "(I)I" } : Jvm.MethodName)) ∈ lw_all := lw_g (lw_at lw_m7 53 rfl) rfl
theorem q1583 : (Jvm.Cond.code ({ cls := "SoldWithItModel", name := "count", desc := "(I)I" } : Jvm.MethodName) prog_12_method_82_code (2 : Nat) (Option.some Jvm.ClassFile.FieldType.int)) ∈ lw_all := lw_g (lw_at lw_m7 54 rfl) rfl
theorem q1584 : (Jvm.Cond.methodLink "SoldWithItModel" (253 : Nat) ({ cls := "SoldWithItModel", name := "sumOf", desc := "(I)I" } : Jvm.MethodName)) ∈ lw_all := lw_g (lw_at lw_m7 55 rfl) rfl
theorem q1585 : (Jvm.Cond.privateMethod ({ cls := "SoldWithItModel", name := "sumOf", desc := "(I)I" } : Jvm.MethodName)) ∈ lw_tbl := lw_at lw_m7 56 rfl
theorem q1586 : (Jvm.Cond.instanceMethod ({ cls := "SoldWithItModel", name := "sumOf", desc := "(I)I" } : Jvm.MethodName)) ∈ lw_all := lw_g (lw_at lw_m7 57 rfl) rfl
theorem q1587 : (Jvm.Cond.code ({ cls := "SoldWithItModel", name := "sumOf", desc := "(I)I" } : Jvm.MethodName) prog_12_method_81_code (4 : Nat) (Option.some Jvm.ClassFile.FieldType.int)) ∈ lw_all := lw_g (lw_at lw_m7 58 rfl) rfl
theorem q1589 : (Jvm.Cond.instanceMethod ({ cls := "SoldWithItModel", name := "digest", desc := "()J" } : Jvm.MethodName)) ∈ lw_all := lw_g (lw_at lw_m7 60 rfl) rfl
theorem q1590 : (Jvm.Cond.selects "SoldWithItModel" ({ cls := "SoldWithItModel", name := "digest", desc := "()J" } : Jvm.MethodName) ({ cls := "SoldWithItModel", name := "digest", desc := "()J" } : Jvm.MethodName)) ∈ lw_all := lw_g (lw_at lw_m7 61 rfl) rfl
theorem q1591 : (Jvm.Cond.code ({ cls := "SoldWithItModel", name := "digest", desc := "()J" } : Jvm.MethodName) prog_12_method_83_code (5 : Nat) (Option.some Jvm.ClassFile.FieldType.long)) ∈ lw_all := lw_g (lw_at lw_m7 62 rfl) rfl
theorem q1592 : (Jvm.Cond.constantLong "SoldWithItModel" (256 : Nat) (17 : Int64)) ∈ lw_all := lw_g (lw_at lw_m7 63 rfl) rfl
theorem q1593 : (Jvm.Cond.constantLong "SoldWithItModel" (258 : Nat) (31 : Int64)) ∈ lw_all := lw_g (lw_at lw_m7 64 rfl) rfl
theorem q1594 : (Jvm.Cond.methodLink "SoldWithItModel" (260 : Nat) ({ cls := "SoldWithItModel", name := "count", desc := "(I)I" } : Jvm.MethodName)) ∈ lw_all := lw_g (lw_at lw_m7 65 rfl) rfl
theorem q1609 : (Jvm.Cond.castable "SoldWithItModel" "java/lang/Object") ∈ lw_tbl := lw_at lw_m7 80 rfl
theorem in_X7 : ∀ w ∈ wsX70, w ∈ lw_all := lw_in wsX70 [1201, 1203, 1205, 1207, 1209, 1211, 1213, 1215, 1217, 1219, 1221, 1223, 1225, 1227, 1229, 1231, 1233, 1235, 1237, 1239, 1241, 1243, 1245, 1247, 1249, 1251, 1253, 1255, 1257, 1259, 1261, 1263, 1265] (by decide +kernel) (by decide +kernel)
theorem q101 : (Jvm.Cond.initialized "java/lang/Throwable") ∈ lw_all := lw_g (lw_at lw_m1 12 rfl) rfl
theorem q420 : (Jvm.Cond.declares ({ cls := "java/lang/Throwable", name := "<init>", desc := "()V" } : Jvm.MethodName)) ∈ lw_tbl := lw_at lw_m2 91 rfl
theorem q421 : (Jvm.Cond.declares ({ cls := "java/lang/Throwable", name := "<init>", desc := "(Ljava/lang/String;)V" } : Jvm.MethodName)) ∈ lw_tbl := lw_at lw_m2 92 rfl
theorem q425 : (Jvm.Cond.lays "java/lang/Throwable" "java/lang/Throwable" "cause" "Ljava/lang/Throwable;") ∈ lw_all := lw_g (lw_at lw_m2 96 rfl) rfl
theorem q427 : (Jvm.Cond.lays "java/lang/Throwable" "java/lang/Throwable" "stackTrace" "[Ljava/lang/StackTraceElement;") ∈ lw_all := lw_g (lw_at lw_m2 98 rfl) rfl
theorem q429 : (Jvm.Cond.lays "java/lang/Throwable" "java/lang/Throwable" "suppressedExceptions" "Ljava/util/List;") ∈ lw_all := lw_g (lw_at lw_m2 100 rfl) rfl
theorem q431 : (Jvm.Cond.lays "java/lang/Throwable" "java/lang/Throwable" "detailMessage" "Ljava/lang/String;") ∈ lw_all := lw_g (lw_at lw_m2 102 rfl) rfl
theorem q433 : (Jvm.Cond.lays "java/lang/Throwable" "java/lang/Throwable" "backtrace" "Ljava/lang/Object;") ∈ lw_all := lw_g (lw_at lw_m2 104 rfl) rfl
theorem q434 : (Jvm.Cond.fieldLink "java/lang/Throwable" (198 : Nat) "java/lang/Throwable" "backtrace" "Ljava/lang/Object;") ∈ lw_all := lw_g (lw_at lw_m2 105 rfl) rfl
theorem q435 : (Jvm.Cond.superclass "java/lang/Throwable" "java/lang/Object") ∈ lw_all := lw_g (lw_at lw_m2 106 rfl) rfl
theorem q436 : (Jvm.Cond.instanceMethod ({ cls := "java/lang/Throwable", name := "<init>", desc := "()V" } : Jvm.MethodName)) ∈ lw_all := lw_g (lw_at lw_m2 107 rfl) rfl
theorem q437 : (Jvm.Cond.code ({ cls := "java/lang/Throwable", name := "<init>", desc := "()V" } : Jvm.MethodName) prog_26_method_1_code (1 : Nat) (Option.none : Option Jvm.ClassFile.FieldType)) ∈ lw_all := lw_g (lw_at lw_m2 108 rfl) rfl
theorem q438 : (Jvm.Cond.methodLink "java/lang/Throwable" (1 : Nat) ({ cls := "java/lang/Object", name := "<init>", desc := "()V" } : Jvm.MethodName)) ∈ lw_all := lw_g (lw_at lw_m2 109 rfl) rfl
theorem q439 : (Jvm.Cond.fieldLink "java/lang/Throwable" (13 : Nat) "java/lang/Throwable" "UNASSIGNED_STACK" "[Ljava/lang/StackTraceElement;") ∈ lw_all := lw_g (lw_at lw_m2 110 rfl) rfl
theorem q440 : (Jvm.Cond.laysStatic "java/lang/Throwable" "UNASSIGNED_STACK" "[Ljava/lang/StackTraceElement;") ∈ lw_tbl := lw_at lw_m2 111 rfl
theorem q441 : (Jvm.Cond.fieldLink "java/lang/Throwable" (20 : Nat) "java/lang/Throwable" "SUPPRESSED_SENTINEL" "Ljava/util/List;") ∈ lw_all := lw_g (lw_at lw_m2 112 rfl) rfl
theorem q442 : (Jvm.Cond.laysStatic "java/lang/Throwable" "SUPPRESSED_SENTINEL" "Ljava/util/List;") ∈ lw_tbl := lw_at lw_m2 113 rfl
theorem q443 : (Jvm.Cond.methodLink "java/lang/Throwable" (27 : Nat) ({ cls := "java/lang/Throwable", name := "fillInStackTrace", desc := "()Ljava/lang/Throwable;" } : Jvm.MethodName)) ∈ lw_all := lw_g (lw_at lw_m2 114 rfl) rfl
theorem q444 : (Jvm.Cond.instanceMethod ({ cls := "java/lang/Throwable", name := "fillInStackTrace", desc := "()Ljava/lang/Throwable;" } : Jvm.MethodName)) ∈ lw_all := lw_g (lw_at lw_m2 115 rfl) rfl
theorem q445 : (Jvm.Cond.sameMethod "java/lang/Throwable" "java/lang/Throwable" "fillInStackTrace" "()Ljava/lang/Throwable;") ∈ lw_all := lw_g (lw_at lw_m2 116 rfl) rfl
theorem q449 : (Jvm.Cond.codeSync ({ cls := "java/lang/Throwable", name := "fillInStackTrace", desc := "()Ljava/lang/Throwable;" } : Jvm.MethodName) prog_26_method_18_code (1 : Nat) (Option.some (Jvm.ClassFile.FieldType.object "java/lang/Throwable"))) ∈ lw_all := lw_g (lw_at lw_m2 120 rfl) rfl
theorem q450 : (Jvm.Cond.methodLink "java/lang/Throwable" (202 : Nat) ({ cls := "java/lang/Throwable", name := "fillInStackTrace", desc := "(I)Ljava/lang/Throwable;" } : Jvm.MethodName)) ∈ lw_all := lw_g (lw_at lw_m2 121 rfl) rfl
theorem q451 : (Jvm.Cond.privateMethod ({ cls := "java/lang/Throwable", name := "fillInStackTrace", desc := "(I)Ljava/lang/Throwable;" } : Jvm.MethodName)) ∈ lw_tbl := lw_at lw_m2 122 rfl
theorem q452 : (Jvm.Cond.instanceMethod ({ cls := "java/lang/Throwable", name := "fillInStackTrace", desc := "(I)Ljava/lang/Throwable;" } : Jvm.MethodName)) ∈ lw_all := lw_g (lw_at lw_m2 123 rfl) rfl
theorem q453 : (Jvm.Cond.instantiable "java/lang/Throwable" (6 : Nat)) ∈ lw_all := lw_g (lw_at lw_m2 124 rfl) rfl
theorem q454 : (Jvm.Cond.native ({ cls := "java/lang/Throwable", name := "fillInStackTrace", desc := "(I)Ljava/lang/Throwable;" } : Jvm.MethodName)) ∈ lw_all := lw_g (lw_at lw_m2 125 rfl) rfl
theorem q462 : (Jvm.Cond.instanceMethod ({ cls := "java/lang/Throwable", name := "<init>", desc := "(Ljava/lang/String;Ljava/lang/Throwable;ZZ)V" } : Jvm.MethodName)) ∈ lw_all := lw_g (lw_at lw_m2 133 rfl) rfl
theorem q463 : (Jvm.Cond.code ({ cls := "java/lang/Throwable", name := "<init>", desc := "(Ljava/lang/String;Ljava/lang/Throwable;ZZ)V" } : Jvm.MethodName) prog_26_method_5_code (5 : Nat) (Option.none : Option Jvm.ClassFile.FieldType)) ∈ lw_all := lw_g (lw_at lw_m2 134 rfl) rfl
theorem q466 : (Jvm.Cond.fieldLink "java/lang/Throwable" (198 : Nat) "java/lang/Throwable" "backtrace" "Ljava/lang/Object;") ∈ lw_all := lw_g (lw_at lw_m2 137 rfl) rfl
theorem q467 : (Jvm.Cond.fieldLink "java/lang/Throwable" (31 : Nat) "java/lang/Throwable" "detailMessage" "Ljava/lang/String;") ∈ lw_all := lw_g (lw_at lw_m2 138 rfl) rfl
theorem q468 : (Jvm.Cond.fieldLink "java/lang/Throwable" (7 : Nat) "java/lang/Throwable" "cause" "Ljava/lang/Throwable;") ∈ lw_all := lw_g (lw_at lw_m2 139 rfl) rfl
theorem q469 : (Jvm.Cond.fieldLink "java/lang/Throwable" (17 : Nat) "java/lang/Throwable" "stackTrace" "[Ljava/lang/StackTraceElement;") ∈ lw_all := lw_g (lw_at lw_m2 140 rfl) rfl
theorem q470 : (Jvm.Cond.fieldLink "java/lang/Throwable" (24 : Nat) "java/lang/Throwable" "suppressedExceptions" "Ljava/util/List;") ∈ lw_all := lw_g (lw_at lw_m2 141 rfl) rfl
theorem q473 : (Jvm.Cond.soleField "java/lang/Throwable" "backtrace") ∈ lw_all := lw_g (lw_at lw_m2 144 rfl) rfl
theorem q474 : (Jvm.Cond.soleField "java/lang/Throwable" "detailMessage") ∈ lw_all := lw_g (lw_at lw_m2 145 rfl) rfl
theorem q475 : (Jvm.Cond.soleField "java/lang/Throwable" "cause") ∈ lw_all := lw_g (lw_at lw_m2 146 rfl) rfl
theorem q476 : (Jvm.Cond.soleField "java/lang/Throwable" "stackTrace") ∈ lw_all := lw_g (lw_at lw_m2 147 rfl) rfl
theorem q478 : (Jvm.Cond.soleField "java/lang/Throwable" "depth") ∈ lw_all := lw_g (lw_at lw_m2 149 rfl) rfl
theorem q479 : (Jvm.Cond.soleField "java/lang/Throwable" "suppressedExceptions") ∈ lw_all := lw_g (lw_at lw_m2 150 rfl) rfl
theorem q1056 : (Jvm.Cond.instanceMethod ({ cls := "java/lang/Throwable", name := "<init>", desc := "(Ljava/lang/String;)V" } : Jvm.MethodName)) ∈ lw_all := lw_g (lw_at lw_m5 7 rfl) rfl
theorem q1057 : (Jvm.Cond.code ({ cls := "java/lang/Throwable", name := "<init>", desc := "(Ljava/lang/String;)V" } : Jvm.MethodName) prog_26_method_2_code (2 : Nat) (Option.none : Option Jvm.ClassFile.FieldType)) ∈ lw_all := lw_g (lw_at lw_m5 8 rfl) rfl
theorem q1597 : (Jvm.Cond.sameMethod "java/lang/Throwable" "java/lang/Throwable" "fillInStackTrace" "(I)Ljava/lang/Throwable;") ∈ lw_all := lw_g (lw_at lw_m7 68 rfl) rfl
theorem q1616 : (Jvm.Cond.castable "java/lang/Throwable" "java/lang/Object") ∈ lw_tbl := lw_at lw_m7 87 rfl
theorem in_J3 : ∀ w ∈ wsJ30, w ∈ lw_all := lw_in wsJ30 [425, 427, 429, 431, 433] (by decide +kernel) (by decide +kernel)
theorem q102 : (Jvm.Cond.initialized "java/lang/Exception") ∈ lw_all := lw_g (lw_at lw_m1 13 rfl) rfl
theorem q418 : (Jvm.Cond.declares ({ cls := "java/lang/Exception", name := "<init>", desc := "()V" } : Jvm.MethodName)) ∈ lw_tbl := lw_at lw_m2 89 rfl
theorem q419 : (Jvm.Cond.declares ({ cls := "java/lang/Exception", name := "<init>", desc := "(Ljava/lang/String;)V" } : Jvm.MethodName)) ∈ lw_tbl := lw_at lw_m2 90 rfl
theorem q459 : (Jvm.Cond.instanceMethod ({ cls := "java/lang/Exception", name := "<init>", desc := "(Ljava/lang/String;Ljava/lang/Throwable;ZZ)V" } : Jvm.MethodName)) ∈ lw_all := lw_g (lw_at lw_m2 130 rfl) rfl
theorem q460 : (Jvm.Cond.code ({ cls := "java/lang/Exception", name := "<init>", desc := "(Ljava/lang/String;Ljava/lang/Throwable;ZZ)V" } : Jvm.MethodName) prog_17_method_5_code (5 : Nat) (Option.none : Option Jvm.ClassFile.FieldType)) ∈ lw_all := lw_g (lw_at lw_m2 131 rfl) rfl
theorem q461 : (Jvm.Cond.methodLink "java/lang/Exception" (16 : Nat) ({ cls := "java/lang/Throwable", name := "<init>", desc := "(Ljava/lang/String;Ljava/lang/Throwable;ZZ)V" } : Jvm.MethodName)) ∈ lw_all := lw_g (lw_at lw_m2 132 rfl) rfl
theorem q1053 : (Jvm.Cond.instanceMethod ({ cls := "java/lang/Exception", name := "<init>", desc := "(Ljava/lang/String;)V" } : Jvm.MethodName)) ∈ lw_all := lw_g (lw_at lw_m5 4 rfl) rfl
theorem q1054 : (Jvm.Cond.code ({ cls := "java/lang/Exception", name := "<init>", desc := "(Ljava/lang/String;)V" } : Jvm.MethodName) prog_17_method_2_code (2 : Nat) (Option.none : Option Jvm.ClassFile.FieldType)) ∈ lw_all := lw_g (lw_at lw_m5 5 rfl) rfl
theorem q1055 : (Jvm.Cond.methodLink "java/lang/Exception" (7 : Nat) ({ cls := "java/lang/Throwable", name := "<init>", desc := "(Ljava/lang/String;)V" } : Jvm.MethodName)) ∈ lw_all := lw_g (lw_at lw_m5 6 rfl) rfl
theorem q103 : (Jvm.Cond.initialized "SoldWithIt$Torn") ∈ lw_all := lw_g (lw_at lw_m1 14 rfl) rfl
theorem q416 : (Jvm.Cond.instantiable "SoldWithIt$Torn" (7 : Nat)) ∈ lw_all := lw_g (lw_at lw_m2 87 rfl) rfl
theorem q417 : (Jvm.Cond.castable "SoldWithIt$Torn" "SoldWithIt$Torn") ∈ lw_tbl := lw_at lw_m2 88 rfl
theorem q422 : (Jvm.Cond.selects "SoldWithIt$Torn" ({ cls := "java/lang/Throwable", name := "fillInStackTrace", desc := "(I)Ljava/lang/Throwable;" } : Jvm.MethodName) ({ cls := "java/lang/Throwable", name := "fillInStackTrace", desc := "(I)Ljava/lang/Throwable;" } : Jvm.MethodName)) ∈ lw_all := lw_g (lw_at lw_m2 93 rfl) rfl
theorem q423 : (Jvm.Cond.selects "SoldWithIt$Torn" ({ cls := "java/lang/Throwable", name := "fillInStackTrace", desc := "()Ljava/lang/Throwable;" } : Jvm.MethodName) ({ cls := "java/lang/Throwable", name := "fillInStackTrace", desc := "()Ljava/lang/Throwable;" } : Jvm.MethodName)) ∈ lw_all := lw_g (lw_at lw_m2 94 rfl) rfl
theorem q424 : (Jvm.Cond.lays "SoldWithIt$Torn" "java/lang/Throwable" "cause" "Ljava/lang/Throwable;") ∈ lw_all := lw_g (lw_at lw_m2 95 rfl) rfl
theorem q426 : (Jvm.Cond.lays "SoldWithIt$Torn" "java/lang/Throwable" "stackTrace" "[Ljava/lang/StackTraceElement;") ∈ lw_all := lw_g (lw_at lw_m2 97 rfl) rfl
theorem q428 : (Jvm.Cond.lays "SoldWithIt$Torn" "java/lang/Throwable" "suppressedExceptions" "Ljava/util/List;") ∈ lw_all := lw_g (lw_at lw_m2 99 rfl) rfl
theorem q430 : (Jvm.Cond.lays "SoldWithIt$Torn" "java/lang/Throwable" "detailMessage" "Ljava/lang/String;") ∈ lw_all := lw_g (lw_at lw_m2 101 rfl) rfl
theorem q432 : (Jvm.Cond.lays "SoldWithIt$Torn" "java/lang/Throwable" "backtrace" "Ljava/lang/Object;") ∈ lw_all := lw_g (lw_at lw_m2 103 rfl) rfl
theorem q456 : (Jvm.Cond.instanceMethod ({ cls := "SoldWithIt$Torn", name := "<init>", desc := "(I)V" } : Jvm.MethodName)) ∈ lw_all := lw_g (lw_at lw_m2 127 rfl) rfl
theorem q457 : (Jvm.Cond.code ({ cls := "SoldWithIt$Torn", name := "<init>", desc := "(I)V" } : Jvm.MethodName) prog_10_method_1_code (2 : Nat) (Option.none : Option Jvm.ClassFile.FieldType)) ∈ lw_all := lw_g (lw_at lw_m2 128 rfl) rfl
theorem q458 : (Jvm.Cond.methodLink "SoldWithIt$Torn" (1 : Nat) ({ cls := "java/lang/Exception", name := "<init>", desc := "(Ljava/lang/String;Ljava/lang/Throwable;ZZ)V" } : Jvm.MethodName)) ∈ lw_all := lw_g (lw_at lw_m2 129 rfl) rfl
theorem q464 : (Jvm.Cond.fieldLink "SoldWithIt$Torn" (7 : Nat) "SoldWithIt$Torn" "place" "I") ∈ lw_all := lw_g (lw_at lw_m2 135 rfl) rfl
theorem q471 : (Jvm.Cond.laysFinal "SoldWithIt$Torn" "SoldWithIt$Torn" "place" "I") ∈ lw_all := lw_g (lw_at lw_m2 142 rfl) rfl
theorem q472 : (Jvm.Cond.soleField "SoldWithIt$Torn" "place") ∈ lw_all := lw_g (lw_at lw_m2 143 rfl) rfl
theorem q477 : (Jvm.Cond.lays "SoldWithIt$Torn" "java/lang/Throwable" "depth" "I") ∈ lw_all := lw_g (lw_at lw_m2 148 rfl) rfl
theorem q480 : (Jvm.Cond.superclass "SoldWithIt$Torn" "java/lang/Exception") ∈ lw_all := lw_g (lw_at lw_m2 151 rfl) rfl
theorem q599 : (Jvm.Cond.selects "SoldWithIt$Torn" ({ cls := "java/lang/Object", name := "getClass", desc := "()Ljava/lang/Class;" } : Jvm.MethodName) ({ cls := "java/lang/Object", name := "getClass", desc := "()Ljava/lang/Class;" } : Jvm.MethodName)) ∈ lw_all := lw_g (lw_at lw_m3 30 rfl) rfl
theorem q1610 : (Jvm.Cond.castable "SoldWithIt$Torn" "java/lang/Object") ∈ lw_tbl := lw_at lw_m7 81 rfl
theorem in_X8 : ∀ w ∈ wsX80, w ∈ lw_all := lw_in wsX80 [424, 426, 428, 430, 432, 477, 471] (by decide +kernel) (by decide +kernel)
theorem q104 : (Jvm.Cond.initialized "SoldWithIt$Person") ∈ lw_all := lw_g (lw_at lw_m1 15 rfl) rfl
theorem q510 : (Jvm.Cond.instantiable "SoldWithIt$Person" (2 : Nat)) ∈ lw_all := lw_g (lw_at lw_m2 181 rfl) rfl
theorem q519 : (Jvm.Cond.instanceMethod ({ cls := "SoldWithIt$Person", name := "<init>", desc := "(II)V" } : Jvm.MethodName)) ∈ lw_all := lw_g (lw_at lw_m2 190 rfl) rfl
theorem q520 : (Jvm.Cond.code ({ cls := "SoldWithIt$Person", name := "<init>", desc := "(II)V" } : Jvm.MethodName) prog_5_method_1_code (3 : Nat) (Option.none : Option Jvm.ClassFile.FieldType)) ∈ lw_all := lw_g (lw_at lw_m2 191 rfl) rfl
theorem q521 : (Jvm.Cond.methodLink "SoldWithIt$Person" (1 : Nat) ({ cls := "java/lang/Object", name := "<init>", desc := "()V" } : Jvm.MethodName)) ∈ lw_all := lw_g (lw_at lw_m2 192 rfl) rfl
theorem q522 : (Jvm.Cond.fieldLink "SoldWithIt$Person" (7 : Nat) "SoldWithIt$Person" "kind" "I") ∈ lw_all := lw_g (lw_at lw_m2 193 rfl) rfl
theorem q524 : (Jvm.Cond.fieldLink "SoldWithIt$Person" (13 : Nat) "SoldWithIt$Person" "place" "I") ∈ lw_all := lw_g (lw_at lw_m2 195 rfl) rfl
theorem q526 : (Jvm.Cond.laysFinal "SoldWithIt$Person" "SoldWithIt$Person" "kind" "I") ∈ lw_all := lw_g (lw_at lw_m2 197 rfl) rfl
theorem q527 : (Jvm.Cond.soleField "SoldWithIt$Person" "kind") ∈ lw_all := lw_g (lw_at lw_m2 198 rfl) rfl
theorem q528 : (Jvm.Cond.laysFinal "SoldWithIt$Person" "SoldWithIt$Person" "place" "I") ∈ lw_all := lw_g (lw_at lw_m2 199 rfl) rfl
theorem q529 : (Jvm.Cond.soleField "SoldWithIt$Person" "place") ∈ lw_all := lw_g (lw_at lw_m2 200 rfl) rfl
theorem q530 : (Jvm.Cond.superclass "SoldWithIt$Person" "java/lang/Object") ∈ lw_all := lw_g (lw_at lw_m2 201 rfl) rfl
theorem q595 : (Jvm.Cond.selects "SoldWithIt$Person" ({ cls := "java/lang/Object", name := "getClass", desc := "()Ljava/lang/Class;" } : Jvm.MethodName) ({ cls := "java/lang/Object", name := "getClass", desc := "()Ljava/lang/Class;" } : Jvm.MethodName)) ∈ lw_all := lw_g (lw_at lw_m3 26 rfl) rfl
theorem q912 : (Jvm.Cond.instanceMethod ({ cls := "SoldWithIt$Person", name := "isLocked", desc := "()Z" } : Jvm.MethodName)) ∈ lw_all := lw_g (lw_at lw_m4 103 rfl) rfl
theorem q913 : (Jvm.Cond.selects "SoldWithIt$Person" ({ cls := "SoldWithIt$Person", name := "isLocked", desc := "()Z" } : Jvm.MethodName) ({ cls := "SoldWithIt$Person", name := "isLocked", desc := "()Z" } : Jvm.MethodName)) ∈ lw_all := lw_g (lw_at lw_m4 104 rfl) rfl
theorem q914 : (Jvm.Cond.code ({ cls := "SoldWithIt$Person", name := "isLocked", desc := "()Z" } : Jvm.MethodName) prog_5_method_2_code (1 : Nat) (Option.some Jvm.ClassFile.FieldType.boolean)) ∈ lw_all := lw_g (lw_at lw_m4 105 rfl) rfl
theorem q1611 : (Jvm.Cond.castable "SoldWithIt$Person" "java/lang/Object") ∈ lw_tbl := lw_at lw_m7 82 rfl
theorem in_X9 : ∀ w ∈ wsX90, w ∈ lw_all := lw_in wsX90 [526, 528] (by decide +kernel) (by decide +kernel)
theorem q105 : (Jvm.Cond.initialized "SoldWithIt$House") ∈ lw_all := lw_g (lw_at lw_m1 16 rfl) rfl
theorem q542 : (Jvm.Cond.instantiable "SoldWithIt$House" (2 : Nat)) ∈ lw_all := lw_g (lw_at lw_m2 213 rfl) rfl
theorem q544 : (Jvm.Cond.instanceMethod ({ cls := "SoldWithIt$House", name := "<init>", desc := "(II)V" } : Jvm.MethodName)) ∈ lw_all := lw_g (lw_at lw_m2 215 rfl) rfl
theorem q545 : (Jvm.Cond.code ({ cls := "SoldWithIt$House", name := "<init>", desc := "(II)V" } : Jvm.MethodName) prog_3_method_1_code (3 : Nat) (Option.none : Option Jvm.ClassFile.FieldType)) ∈ lw_all := lw_g (lw_at lw_m2 216 rfl) rfl
theorem q546 : (Jvm.Cond.methodLink "SoldWithIt$House" (1 : Nat) ({ cls := "java/lang/Object", name := "<init>", desc := "()V" } : Jvm.MethodName)) ∈ lw_all := lw_g (lw_at lw_m2 217 rfl) rfl
theorem q547 : (Jvm.Cond.fieldLink "SoldWithIt$House" (7 : Nat) "SoldWithIt$House" "owner" "I") ∈ lw_all := lw_g (lw_at lw_m2 218 rfl) rfl
theorem q551 : (Jvm.Cond.fieldLink "SoldWithIt$House" (13 : Nat) "SoldWithIt$House" "price" "I") ∈ lw_all := lw_g (lw_at lw_m2 222 rfl) rfl
theorem q554 : (Jvm.Cond.laysFinal "SoldWithIt$House" "SoldWithIt$House" "owner" "I") ∈ lw_all := lw_g (lw_at lw_m2 225 rfl) rfl
theorem q555 : (Jvm.Cond.soleField "SoldWithIt$House" "owner") ∈ lw_all := lw_g (lw_at lw_m2 226 rfl) rfl
theorem q556 : (Jvm.Cond.laysFinal "SoldWithIt$House" "SoldWithIt$House" "price" "I") ∈ lw_all := lw_g (lw_at lw_m2 227 rfl) rfl
theorem q557 : (Jvm.Cond.soleField "SoldWithIt$House" "price") ∈ lw_all := lw_g (lw_at lw_m2 228 rfl) rfl
theorem q558 : (Jvm.Cond.superclass "SoldWithIt$House" "java/lang/Object") ∈ lw_all := lw_g (lw_at lw_m2 229 rfl) rfl
theorem q593 : (Jvm.Cond.selects "SoldWithIt$House" ({ cls := "java/lang/Object", name := "getClass", desc := "()Ljava/lang/Class;" } : Jvm.MethodName) ({ cls := "java/lang/Object", name := "getClass", desc := "()Ljava/lang/Class;" } : Jvm.MethodName)) ∈ lw_all := lw_g (lw_at lw_m3 24 rfl) rfl
theorem q1612 : (Jvm.Cond.castable "SoldWithIt$House" "java/lang/Object") ∈ lw_tbl := lw_at lw_m7 83 rfl
theorem in_X10 : ∀ w ∈ wsX100, w ∈ lw_all := lw_in wsX100 [554, 556] (by decide +kernel) (by decide +kernel)
theorem q106 : (Jvm.Cond.initialized "jdk/internal/util/ArraysSupport") ∈ lw_all := lw_g (lw_at lw_m1 17 rfl) rfl
theorem q576 : (Jvm.Cond.static ({ cls := "jdk/internal/util/ArraysSupport", name := "newLength", desc := "(III)I" } : Jvm.MethodName)) ∈ lw_all := lw_g (lw_at lw_m3 7 rfl) rfl
theorem q577 : (Jvm.Cond.code ({ cls := "jdk/internal/util/ArraysSupport", name := "newLength", desc := "(III)I" } : Jvm.MethodName) prog_36_method_27_code (4 : Nat) (Option.some Jvm.ClassFile.FieldType.int)) ∈ lw_all := lw_g (lw_at lw_m3 8 rfl) rfl
theorem q578 : (Jvm.Cond.methodLink "jdk/internal/util/ArraysSupport" (194 : Nat) ({ cls := "java/lang/Math", name := "max", desc := "(II)I" } : Jvm.MethodName)) ∈ lw_all := lw_g (lw_at lw_m3 9 rfl) rfl
theorem q581 : (Jvm.Cond.constant "jdk/internal/util/ArraysSupport" (200 : Nat) (2147483639 : Int32)) ∈ lw_all := lw_g (lw_at lw_m3 12 rfl) rfl
theorem q582 : (Jvm.Cond.methodLink "jdk/internal/util/ArraysSupport" (201 : Nat) ({ cls := "jdk/internal/util/ArraysSupport", name := "hugeLength", desc := "(II)I" } : Jvm.MethodName)) ∈ lw_all := lw_g (lw_at lw_m3 13 rfl) rfl
theorem q583 : (Jvm.Cond.static ({ cls := "jdk/internal/util/ArraysSupport", name := "hugeLength", desc := "(II)I" } : Jvm.MethodName)) ∈ lw_all := lw_g (lw_at lw_m3 14 rfl) rfl
theorem q584 : (Jvm.Cond.code ({ cls := "jdk/internal/util/ArraysSupport", name := "hugeLength", desc := "(II)I" } : Jvm.MethodName) prog_36_method_28_code (3 : Nat) (Option.some Jvm.ClassFile.FieldType.int)) ∈ lw_all := lw_g (lw_at lw_m3 15 rfl) rfl
theorem q107 : (Jvm.Cond.initialized "java/lang/Math") ∈ lw_all := lw_g (lw_at lw_m1 18 rfl) rfl
theorem q579 : (Jvm.Cond.static ({ cls := "java/lang/Math", name := "max", desc := "(II)I" } : Jvm.MethodName)) ∈ lw_all := lw_g (lw_at lw_m3 10 rfl) rfl
theorem q580 : (Jvm.Cond.code ({ cls := "java/lang/Math", name := "max", desc := "(II)I" } : Jvm.MethodName) prog_21_method_65_code (2 : Nat) (Option.some Jvm.ClassFile.FieldType.int)) ∈ lw_all := lw_g (lw_at lw_m3 11 rfl) rfl
theorem q613 : (Jvm.Cond.static ({ cls := "java/lang/Math", name := "min", desc := "(II)I" } : Jvm.MethodName)) ∈ lw_all := lw_g (lw_at lw_m3 44 rfl) rfl
theorem q614 : (Jvm.Cond.code ({ cls := "java/lang/Math", name := "min", desc := "(II)I" } : Jvm.MethodName) prog_21_method_69_code (2 : Nat) (Option.some Jvm.ClassFile.FieldType.int)) ∈ lw_all := lw_g (lw_at lw_m3 45 rfl) rfl
theorem q933 : (Jvm.Cond.static ({ cls := "java/lang/Math", name := "abs", desc := "(I)I" } : Jvm.MethodName)) ∈ lw_all := lw_g (lw_at lw_m4 124 rfl) rfl
theorem q934 : (Jvm.Cond.code ({ cls := "java/lang/Math", name := "abs", desc := "(I)I" } : Jvm.MethodName) prog_21_method_59_code (1 : Nat) (Option.some Jvm.ClassFile.FieldType.int)) ∈ lw_all := lw_g (lw_at lw_m4 125 rfl) rfl
theorem q108 : (Jvm.Cond.initialized "java/util/Arrays") ∈ lw_all := lw_g (lw_at lw_m1 19 rfl) rfl
theorem q586 : (Jvm.Cond.static ({ cls := "java/util/Arrays", name := "copyOf", desc := "([Ljava/lang/Object;I)[Ljava/lang/Object;" } : Jvm.MethodName)) ∈ lw_all := lw_g (lw_at lw_m3 17 rfl) rfl
theorem q587 : (Jvm.Cond.code ({ cls := "java/util/Arrays", name := "copyOf", desc := "([Ljava/lang/Object;I)[Ljava/lang/Object;" } : Jvm.MethodName) prog_30_method_119_code (2 : Nat) (Option.some (Jvm.ClassFile.FieldType.array (Jvm.ClassFile.FieldType.object "java/lang/Object")))) ∈ lw_all := lw_g (lw_at lw_m3 18 rfl) rfl
theorem q588 : (Jvm.Cond.methodLink "java/util/Arrays" (86 : Nat) ({ cls := "java/lang/Object", name := "getClass", desc := "()Ljava/lang/Class;" } : Jvm.MethodName)) ∈ lw_all := lw_g (lw_at lw_m3 19 rfl) rfl
theorem q606 : (Jvm.Cond.methodLink "java/util/Arrays" (300 : Nat) ({ cls := "java/util/Arrays", name := "copyOf", desc := "([Ljava/lang/Object;ILjava/lang/Class;)[Ljava/lang/Object;" } : Jvm.MethodName)) ∈ lw_all := lw_g (lw_at lw_m3 37 rfl) rfl
theorem q607 : (Jvm.Cond.static ({ cls := "java/util/Arrays", name := "copyOf", desc := "([Ljava/lang/Object;ILjava/lang/Class;)[Ljava/lang/Object;" } : Jvm.MethodName)) ∈ lw_all := lw_g (lw_at lw_m3 38 rfl) rfl
theorem q608 : (Jvm.Cond.code ({ cls := "java/util/Arrays", name := "copyOf", desc := "([Ljava/lang/Object;ILjava/lang/Class;)[Ljava/lang/Object;" } : Jvm.MethodName) prog_30_method_120_code (4 : Nat) (Option.some (Jvm.ClassFile.FieldType.array (Jvm.ClassFile.FieldType.object "java/lang/Object")))) ∈ lw_all := lw_g (lw_at lw_m3 39 rfl) rfl
theorem q609 : (Jvm.Cond.classLink "java/util/Arrays" (110 : Nat) "[Ljava/lang/Object;") ∈ lw_all := lw_g (lw_at lw_m3 40 rfl) rfl
theorem q611 : (Jvm.Cond.classLink "java/util/Arrays" (2 : Nat) "java/lang/Object") ∈ lw_all := lw_g (lw_at lw_m3 42 rfl) rfl
theorem q612 : (Jvm.Cond.methodLink "java/util/Arrays" (304 : Nat) ({ cls := "java/lang/Math", name := "min", desc := "(II)I" } : Jvm.MethodName)) ∈ lw_all := lw_g (lw_at lw_m3 43 rfl) rfl
theorem q615 : (Jvm.Cond.methodLink "java/util/Arrays" (150 : Nat) ({ cls := "java/lang/System", name := "arraycopy", desc := "(Ljava/lang/Object;ILjava/lang/Object;II)V" } : Jvm.MethodName)) ∈ lw_all := lw_g (lw_at lw_m3 46 rfl) rfl
theorem q110 : (Jvm.Cond.initialized "java/util/Objects") ∈ lw_all := lw_g (lw_at lw_m1 21 rfl) rfl
theorem q662 : (Jvm.Cond.static ({ cls := "java/util/Objects", name := "checkIndex", desc := "(II)I" } : Jvm.MethodName)) ∈ lw_all := lw_g (lw_at lw_m3 93 rfl) rfl
theorem q663 : (Jvm.Cond.code ({ cls := "java/util/Objects", name := "checkIndex", desc := "(II)I" } : Jvm.MethodName) prog_33_method_17_code (2 : Nat) (Option.some Jvm.ClassFile.FieldType.int)) ∈ lw_all := lw_g (lw_at lw_m3 94 rfl) rfl
theorem q664 : (Jvm.Cond.methodLink "java/util/Objects" (105 : Nat) ({ cls := "jdk/internal/util/Preconditions", name := "checkIndex", desc := "(IILjava/util/function/BiFunction;)I" } : Jvm.MethodName)) ∈ lw_all := lw_g (lw_at lw_m3 95 rfl) rfl
theorem q111 : (Jvm.Cond.initialized "jdk/internal/util/Preconditions") ∈ lw_all := lw_g (lw_at lw_m1 22 rfl) rfl
theorem q665 : (Jvm.Cond.static ({ cls := "jdk/internal/util/Preconditions", name := "checkIndex", desc := "(IILjava/util/function/BiFunction;)I" } : Jvm.MethodName)) ∈ lw_all := lw_g (lw_at lw_m3 96 rfl) rfl
theorem q666 : (Jvm.Cond.code ({ cls := "jdk/internal/util/Preconditions", name := "checkIndex", desc := "(IILjava/util/function/BiFunction;)I" } : Jvm.MethodName) prog_37_method_11_code (3 : Nat) (Option.some Jvm.ClassFile.FieldType.int)) ∈ lw_all := lw_g (lw_at lw_m3 97 rfl) rfl
theorem q112 : (Jvm.Cond.initialized "java/lang/Integer") ∈ lw_all := lw_g (lw_at lw_m1 23 rfl) rfl
theorem q810 : (Jvm.Cond.static ({ cls := "java/lang/Integer", name := "bitCount", desc := "(I)I" } : Jvm.MethodName)) ∈ lw_all := lw_g (lw_at lw_m4 1 rfl) rfl
theorem q811 : (Jvm.Cond.code ({ cls := "java/lang/Integer", name := "bitCount", desc := "(I)I" } : Jvm.MethodName) prog_19_method_49_code (1 : Nat) (Option.some Jvm.ClassFile.FieldType.int)) ∈ lw_all := lw_g (lw_at lw_m4 2 rfl) rfl
theorem q812 : (Jvm.Cond.constant "java/lang/Integer" (265 : Nat) (1431655765 : Int32)) ∈ lw_all := lw_g (lw_at lw_m4 3 rfl) rfl
theorem q813 : (Jvm.Cond.constant "java/lang/Integer" (266 : Nat) (858993459 : Int32)) ∈ lw_all := lw_g (lw_at lw_m4 4 rfl) rfl
theorem q814 : (Jvm.Cond.constant "java/lang/Integer" (267 : Nat) (252645135 : Int32)) ∈ lw_all := lw_g (lw_at lw_m4 5 rfl) rfl
theorem q113 : (Jvm.Cond.initialized "java/lang/RuntimeException") ∈ lw_all := lw_g (lw_at lw_m1 24 rfl) rfl
theorem q1050 : (Jvm.Cond.instanceMethod ({ cls := "java/lang/RuntimeException", name := "<init>", desc := "(Ljava/lang/String;)V" } : Jvm.MethodName)) ∈ lw_all := lw_g (lw_at lw_m5 1 rfl) rfl
theorem q1051 : (Jvm.Cond.code ({ cls := "java/lang/RuntimeException", name := "<init>", desc := "(Ljava/lang/String;)V" } : Jvm.MethodName) prog_23_method_2_code (2 : Nat) (Option.none : Option Jvm.ClassFile.FieldType)) ∈ lw_all := lw_g (lw_at lw_m5 2 rfl) rfl
theorem q1052 : (Jvm.Cond.methodLink "java/lang/RuntimeException" (7 : Nat) ({ cls := "java/lang/Exception", name := "<init>", desc := "(Ljava/lang/String;)V" } : Jvm.MethodName)) ∈ lw_all := lw_g (lw_at lw_m5 3 rfl) rfl
theorem q1066 : (Jvm.Cond.declares ({ cls := "java/lang/RuntimeException", name := "<init>", desc := "()V" } : Jvm.MethodName)) ∈ lw_tbl := lw_at lw_m5 17 rfl
theorem q1067 : (Jvm.Cond.declares ({ cls := "java/lang/RuntimeException", name := "<init>", desc := "(Ljava/lang/String;)V" } : Jvm.MethodName)) ∈ lw_tbl := lw_at lw_m5 18 rfl
theorem q114 : (Jvm.Cond.initialized "java/lang/NegativeArraySizeException") ∈ lw_all := lw_g (lw_at lw_m1 25 rfl) rfl
theorem q448 : (Jvm.Cond.selects "java/lang/NegativeArraySizeException" ({ cls := "java/lang/Throwable", name := "fillInStackTrace", desc := "()Ljava/lang/Throwable;" } : Jvm.MethodName) ({ cls := "java/lang/Throwable", name := "fillInStackTrace", desc := "()Ljava/lang/Throwable;" } : Jvm.MethodName)) ∈ lw_all := lw_g (lw_at lw_m2 119 rfl) rfl
theorem q603 : (Jvm.Cond.selects "java/lang/NegativeArraySizeException" ({ cls := "java/lang/Object", name := "getClass", desc := "()Ljava/lang/Class;" } : Jvm.MethodName) ({ cls := "java/lang/Object", name := "getClass", desc := "()Ljava/lang/Class;" } : Jvm.MethodName)) ∈ lw_all := lw_g (lw_at lw_m3 34 rfl) rfl
theorem q1046 : (Jvm.Cond.instantiable "java/lang/NegativeArraySizeException" (6 : Nat)) ∈ lw_all := lw_g (lw_at lw_m4 237 rfl) rfl
theorem q1047 : (Jvm.Cond.instanceMethod ({ cls := "java/lang/NegativeArraySizeException", name := "<init>", desc := "(Ljava/lang/String;)V" } : Jvm.MethodName)) ∈ lw_all := lw_g (lw_at lw_m4 238 rfl) rfl
theorem q1048 : (Jvm.Cond.code ({ cls := "java/lang/NegativeArraySizeException", name := "<init>", desc := "(Ljava/lang/String;)V" } : Jvm.MethodName) prog_22_method_2_code (2 : Nat) (Option.none : Option Jvm.ClassFile.FieldType)) ∈ lw_all := lw_g (lw_at lw_m4 239 rfl) rfl
theorem q1049 : (Jvm.Cond.methodLink "java/lang/NegativeArraySizeException" (7 : Nat) ({ cls := "java/lang/RuntimeException", name := "<init>", desc := "(Ljava/lang/String;)V" } : Jvm.MethodName)) ∈ lw_all := lw_g (lw_at lw_m5 0 rfl) rfl
theorem q1058 : (Jvm.Cond.lays "java/lang/NegativeArraySizeException" "java/lang/Throwable" "backtrace" "Ljava/lang/Object;") ∈ lw_all := lw_g (lw_at lw_m5 9 rfl) rfl
theorem q1059 : (Jvm.Cond.lays "java/lang/NegativeArraySizeException" "java/lang/Throwable" "detailMessage" "Ljava/lang/String;") ∈ lw_all := lw_g (lw_at lw_m5 10 rfl) rfl
theorem q1060 : (Jvm.Cond.lays "java/lang/NegativeArraySizeException" "java/lang/Throwable" "cause" "Ljava/lang/Throwable;") ∈ lw_all := lw_g (lw_at lw_m5 11 rfl) rfl
theorem q1061 : (Jvm.Cond.lays "java/lang/NegativeArraySizeException" "java/lang/Throwable" "stackTrace" "[Ljava/lang/StackTraceElement;") ∈ lw_all := lw_g (lw_at lw_m5 12 rfl) rfl
theorem q1062 : (Jvm.Cond.lays "java/lang/NegativeArraySizeException" "java/lang/Throwable" "depth" "I") ∈ lw_all := lw_g (lw_at lw_m5 13 rfl) rfl
theorem q1063 : (Jvm.Cond.lays "java/lang/NegativeArraySizeException" "java/lang/Throwable" "suppressedExceptions" "Ljava/util/List;") ∈ lw_all := lw_g (lw_at lw_m5 14 rfl) rfl
theorem q1064 : (Jvm.Cond.superclass "java/lang/NegativeArraySizeException" "java/lang/RuntimeException") ∈ lw_all := lw_g (lw_at lw_m5 15 rfl) rfl
theorem q1065 : (Jvm.Cond.castable "java/lang/NegativeArraySizeException" "java/lang/NegativeArraySizeException") ∈ lw_tbl := lw_at lw_m5 16 rfl
theorem q1068 : (Jvm.Cond.selects "java/lang/NegativeArraySizeException" ({ cls := "java/lang/Throwable", name := "fillInStackTrace", desc := "(I)Ljava/lang/Throwable;" } : Jvm.MethodName) ({ cls := "java/lang/Throwable", name := "fillInStackTrace", desc := "(I)Ljava/lang/Throwable;" } : Jvm.MethodName)) ∈ lw_all := lw_g (lw_at lw_m5 19 rfl) rfl
theorem q1613 : (Jvm.Cond.castable "java/lang/NegativeArraySizeException" "java/lang/Object") ∈ lw_tbl := lw_at lw_m7 84 rfl
theorem in_J12 : ∀ w ∈ wsJ120, w ∈ lw_all := lw_in wsJ120 [1058, 1059, 1060, 1061, 1062, 1063] (by decide +kernel) (by decide +kernel)
theorem q115 : (Jvm.Cond.initialized "java/lang/String") ∈ lw_all := lw_g (lw_at lw_m1 26 rfl) rfl
theorem q1069 : (Jvm.Cond.instantiable "java/lang/String" (4 : Nat)) ∈ lw_all := lw_g (lw_at lw_m5 20 rfl) rfl
theorem q1071 : (Jvm.Cond.laysFinal "java/lang/String" "java/lang/String" "value" "[B") ∈ lw_all := lw_g (lw_at lw_m5 22 rfl) rfl
theorem q1072 : (Jvm.Cond.soleField "java/lang/String" "value") ∈ lw_all := lw_g (lw_at lw_m5 23 rfl) rfl
theorem q1073 : (Jvm.Cond.laysFinal "java/lang/String" "java/lang/String" "coder" "B") ∈ lw_all := lw_g (lw_at lw_m5 24 rfl) rfl
theorem q1074 : (Jvm.Cond.soleField "java/lang/String" "coder") ∈ lw_all := lw_g (lw_at lw_m5 25 rfl) rfl
theorem q1617 : (Jvm.Cond.castable "java/lang/String" "java/lang/Object") ∈ lw_tbl := lw_at lw_m7 88 rfl
theorem in_J13 : ∀ w ∈ wsJ130, w ∈ lw_all := lw_in wsJ130 [1071, 1073] (by decide +kernel) (by decide +kernel)
theorem q116 : (Jvm.Cond.initialized "java/lang/ClassCastException") ∈ lw_all := lw_g (lw_at lw_m1 27 rfl) rfl
theorem q447 : (Jvm.Cond.selects "java/lang/ClassCastException" ({ cls := "java/lang/Throwable", name := "fillInStackTrace", desc := "()Ljava/lang/Throwable;" } : Jvm.MethodName) ({ cls := "java/lang/Throwable", name := "fillInStackTrace", desc := "()Ljava/lang/Throwable;" } : Jvm.MethodName)) ∈ lw_all := lw_g (lw_at lw_m2 118 rfl) rfl
theorem q602 : (Jvm.Cond.selects "java/lang/ClassCastException" ({ cls := "java/lang/Object", name := "getClass", desc := "()Ljava/lang/Class;" } : Jvm.MethodName) ({ cls := "java/lang/Object", name := "getClass", desc := "()Ljava/lang/Class;" } : Jvm.MethodName)) ∈ lw_all := lw_g (lw_at lw_m3 33 rfl) rfl
theorem q1088 : (Jvm.Cond.instantiable "java/lang/ClassCastException" (6 : Nat)) ∈ lw_all := lw_g (lw_at lw_m5 39 rfl) rfl
theorem q1089 : (Jvm.Cond.instanceMethod ({ cls := "java/lang/ClassCastException", name := "<init>", desc := "(Ljava/lang/String;)V" } : Jvm.MethodName)) ∈ lw_all := lw_g (lw_at lw_m5 40 rfl) rfl
theorem q1090 : (Jvm.Cond.code ({ cls := "java/lang/ClassCastException", name := "<init>", desc := "(Ljava/lang/String;)V" } : Jvm.MethodName) prog_15_method_2_code (2 : Nat) (Option.none : Option Jvm.ClassFile.FieldType)) ∈ lw_all := lw_g (lw_at lw_m5 41 rfl) rfl
theorem q1091 : (Jvm.Cond.methodLink "java/lang/ClassCastException" (7 : Nat) ({ cls := "java/lang/RuntimeException", name := "<init>", desc := "(Ljava/lang/String;)V" } : Jvm.MethodName)) ∈ lw_all := lw_g (lw_at lw_m5 42 rfl) rfl
theorem q1092 : (Jvm.Cond.lays "java/lang/ClassCastException" "java/lang/Throwable" "backtrace" "Ljava/lang/Object;") ∈ lw_all := lw_g (lw_at lw_m5 43 rfl) rfl
theorem q1093 : (Jvm.Cond.lays "java/lang/ClassCastException" "java/lang/Throwable" "detailMessage" "Ljava/lang/String;") ∈ lw_all := lw_g (lw_at lw_m5 44 rfl) rfl
theorem q1094 : (Jvm.Cond.lays "java/lang/ClassCastException" "java/lang/Throwable" "cause" "Ljava/lang/Throwable;") ∈ lw_all := lw_g (lw_at lw_m5 45 rfl) rfl
theorem q1095 : (Jvm.Cond.lays "java/lang/ClassCastException" "java/lang/Throwable" "stackTrace" "[Ljava/lang/StackTraceElement;") ∈ lw_all := lw_g (lw_at lw_m5 46 rfl) rfl
theorem q1096 : (Jvm.Cond.lays "java/lang/ClassCastException" "java/lang/Throwable" "depth" "I") ∈ lw_all := lw_g (lw_at lw_m5 47 rfl) rfl
theorem q1097 : (Jvm.Cond.lays "java/lang/ClassCastException" "java/lang/Throwable" "suppressedExceptions" "Ljava/util/List;") ∈ lw_all := lw_g (lw_at lw_m5 48 rfl) rfl
theorem q1098 : (Jvm.Cond.superclass "java/lang/ClassCastException" "java/lang/RuntimeException") ∈ lw_all := lw_g (lw_at lw_m5 49 rfl) rfl
theorem q1099 : (Jvm.Cond.castable "java/lang/ClassCastException" "java/lang/ClassCastException") ∈ lw_tbl := lw_at lw_m5 50 rfl
theorem q1100 : (Jvm.Cond.selects "java/lang/ClassCastException" ({ cls := "java/lang/Throwable", name := "fillInStackTrace", desc := "(I)Ljava/lang/Throwable;" } : Jvm.MethodName) ({ cls := "java/lang/Throwable", name := "fillInStackTrace", desc := "(I)Ljava/lang/Throwable;" } : Jvm.MethodName)) ∈ lw_all := lw_g (lw_at lw_m5 51 rfl) rfl
theorem q1614 : (Jvm.Cond.castable "java/lang/ClassCastException" "java/lang/Object") ∈ lw_tbl := lw_at lw_m7 85 rfl
theorem in_J14 : ∀ w ∈ wsJ140, w ∈ lw_all := lw_in wsJ140 [1092, 1093, 1094, 1095, 1096, 1097] (by decide +kernel) (by decide +kernel)
theorem q117 : (Jvm.Cond.initialized "java/lang/IndexOutOfBoundsException") ∈ lw_all := lw_g (lw_at lw_m1 28 rfl) rfl
theorem q1106 : (Jvm.Cond.instanceMethod ({ cls := "java/lang/IndexOutOfBoundsException", name := "<init>", desc := "(Ljava/lang/String;)V" } : Jvm.MethodName)) ∈ lw_all := lw_g (lw_at lw_m5 57 rfl) rfl
theorem q1107 : (Jvm.Cond.code ({ cls := "java/lang/IndexOutOfBoundsException", name := "<init>", desc := "(Ljava/lang/String;)V" } : Jvm.MethodName) prog_18_method_2_code (2 : Nat) (Option.none : Option Jvm.ClassFile.FieldType)) ∈ lw_all := lw_g (lw_at lw_m5 58 rfl) rfl
theorem q1108 : (Jvm.Cond.methodLink "java/lang/IndexOutOfBoundsException" (7 : Nat) ({ cls := "java/lang/RuntimeException", name := "<init>", desc := "(Ljava/lang/String;)V" } : Jvm.MethodName)) ∈ lw_all := lw_g (lw_at lw_m5 59 rfl) rfl
theorem q1117 : (Jvm.Cond.declares ({ cls := "java/lang/IndexOutOfBoundsException", name := "<init>", desc := "()V" } : Jvm.MethodName)) ∈ lw_tbl := lw_at lw_m5 68 rfl
theorem q1118 : (Jvm.Cond.declares ({ cls := "java/lang/IndexOutOfBoundsException", name := "<init>", desc := "(Ljava/lang/String;)V" } : Jvm.MethodName)) ∈ lw_tbl := lw_at lw_m5 69 rfl
theorem q118 : (Jvm.Cond.initialized "java/lang/ArrayIndexOutOfBoundsException") ∈ lw_all := lw_g (lw_at lw_m1 29 rfl) rfl
theorem q446 : (Jvm.Cond.selects "java/lang/ArrayIndexOutOfBoundsException" ({ cls := "java/lang/Throwable", name := "fillInStackTrace", desc := "()Ljava/lang/Throwable;" } : Jvm.MethodName) ({ cls := "java/lang/Throwable", name := "fillInStackTrace", desc := "()Ljava/lang/Throwable;" } : Jvm.MethodName)) ∈ lw_all := lw_g (lw_at lw_m2 117 rfl) rfl
theorem q601 : (Jvm.Cond.selects "java/lang/ArrayIndexOutOfBoundsException" ({ cls := "java/lang/Object", name := "getClass", desc := "()Ljava/lang/Class;" } : Jvm.MethodName) ({ cls := "java/lang/Object", name := "getClass", desc := "()Ljava/lang/Class;" } : Jvm.MethodName)) ∈ lw_all := lw_g (lw_at lw_m3 32 rfl) rfl
theorem q1102 : (Jvm.Cond.instantiable "java/lang/ArrayIndexOutOfBoundsException" (6 : Nat)) ∈ lw_all := lw_g (lw_at lw_m5 53 rfl) rfl
theorem q1103 : (Jvm.Cond.instanceMethod ({ cls := "java/lang/ArrayIndexOutOfBoundsException", name := "<init>", desc := "(Ljava/lang/String;)V" } : Jvm.MethodName)) ∈ lw_all := lw_g (lw_at lw_m5 54 rfl) rfl
theorem q1104 : (Jvm.Cond.code ({ cls := "java/lang/ArrayIndexOutOfBoundsException", name := "<init>", desc := "(Ljava/lang/String;)V" } : Jvm.MethodName) prog_14_method_2_code (2 : Nat) (Option.none : Option Jvm.ClassFile.FieldType)) ∈ lw_all := lw_g (lw_at lw_m5 55 rfl) rfl
theorem q1105 : (Jvm.Cond.methodLink "java/lang/ArrayIndexOutOfBoundsException" (7 : Nat) ({ cls := "java/lang/IndexOutOfBoundsException", name := "<init>", desc := "(Ljava/lang/String;)V" } : Jvm.MethodName)) ∈ lw_all := lw_g (lw_at lw_m5 56 rfl) rfl
theorem q1109 : (Jvm.Cond.lays "java/lang/ArrayIndexOutOfBoundsException" "java/lang/Throwable" "backtrace" "Ljava/lang/Object;") ∈ lw_all := lw_g (lw_at lw_m5 60 rfl) rfl
theorem q1110 : (Jvm.Cond.lays "java/lang/ArrayIndexOutOfBoundsException" "java/lang/Throwable" "detailMessage" "Ljava/lang/String;") ∈ lw_all := lw_g (lw_at lw_m5 61 rfl) rfl
theorem q1111 : (Jvm.Cond.lays "java/lang/ArrayIndexOutOfBoundsException" "java/lang/Throwable" "cause" "Ljava/lang/Throwable;") ∈ lw_all := lw_g (lw_at lw_m5 62 rfl) rfl
theorem q1112 : (Jvm.Cond.lays "java/lang/ArrayIndexOutOfBoundsException" "java/lang/Throwable" "stackTrace" "[Ljava/lang/StackTraceElement;") ∈ lw_all := lw_g (lw_at lw_m5 63 rfl) rfl
theorem q1113 : (Jvm.Cond.lays "java/lang/ArrayIndexOutOfBoundsException" "java/lang/Throwable" "depth" "I") ∈ lw_all := lw_g (lw_at lw_m5 64 rfl) rfl
theorem q1114 : (Jvm.Cond.lays "java/lang/ArrayIndexOutOfBoundsException" "java/lang/Throwable" "suppressedExceptions" "Ljava/util/List;") ∈ lw_all := lw_g (lw_at lw_m5 65 rfl) rfl
theorem q1115 : (Jvm.Cond.superclass "java/lang/ArrayIndexOutOfBoundsException" "java/lang/IndexOutOfBoundsException") ∈ lw_all := lw_g (lw_at lw_m5 66 rfl) rfl
theorem q1116 : (Jvm.Cond.castable "java/lang/ArrayIndexOutOfBoundsException" "java/lang/ArrayIndexOutOfBoundsException") ∈ lw_tbl := lw_at lw_m5 67 rfl
theorem q1119 : (Jvm.Cond.selects "java/lang/ArrayIndexOutOfBoundsException" ({ cls := "java/lang/Throwable", name := "fillInStackTrace", desc := "(I)Ljava/lang/Throwable;" } : Jvm.MethodName) ({ cls := "java/lang/Throwable", name := "fillInStackTrace", desc := "(I)Ljava/lang/Throwable;" } : Jvm.MethodName)) ∈ lw_all := lw_g (lw_at lw_m5 70 rfl) rfl
theorem q1601 : (Jvm.Cond.castable "java/lang/ArrayIndexOutOfBoundsException" "java/lang/IndexOutOfBoundsException") ∈ lw_tbl := lw_at lw_m7 72 rfl
theorem q1615 : (Jvm.Cond.castable "java/lang/ArrayIndexOutOfBoundsException" "java/lang/Object") ∈ lw_tbl := lw_at lw_m7 86 rfl
theorem in_J16 : ∀ w ∈ wsJ160, w ∈ lw_all := lw_in wsJ160 [1109, 1110, 1111, 1112, 1113, 1114] (by decide +kernel) (by decide +kernel)
theorem q125 : (Jvm.Cond.instanceMethod ({ cls := "java/lang/Object", name := "<init>", desc := "()V" } : Jvm.MethodName)) ∈ lw_all := lw_g (lw_at lw_m1 36 rfl) rfl
theorem q126 : (Jvm.Cond.code ({ cls := "java/lang/Object", name := "<init>", desc := "()V" } : Jvm.MethodName) object_method_1_code (1 : Nat) (Option.none : Option Jvm.ClassFile.FieldType)) ∈ lw_all := lw_g (lw_at lw_m1 37 rfl) rfl
theorem q589 : (Jvm.Cond.instanceMethod ({ cls := "java/lang/Object", name := "getClass", desc := "()Ljava/lang/Class;" } : Jvm.MethodName)) ∈ lw_all := lw_g (lw_at lw_m3 20 rfl) rfl
theorem q590 : (Jvm.Cond.sameMethod "java/lang/Object" "java/lang/Object" "getClass" "()Ljava/lang/Class;") ∈ lw_all := lw_g (lw_at lw_m3 21 rfl) rfl
theorem q605 : (Jvm.Cond.native ({ cls := "java/lang/Object", name := "getClass", desc := "()Ljava/lang/Class;" } : Jvm.MethodName)) ∈ lw_all := lw_g (lw_at lw_m3 36 rfl) rfl
theorem q1620 : (Jvm.Cond.declares ({ cls := "java/lang/Object", name := "getClass", desc := "()Ljava/lang/Class;" } : Jvm.MethodName)) ∈ lw_tbl := lw_at lw_m7 91 rfl
theorem q181 : (Jvm.Cond.arrayClass Jvm.ClassFile.FieldType.int) ∈ lw_all := lw_g (lw_at lw_m1 92 rfl) rfl
theorem q226 : (Jvm.Cond.arrayOver (Jvm.ClassFile.FieldType.array Jvm.ClassFile.FieldType.int)) ∈ lw_tbl := lw_at lw_m1 137 rfl
theorem q250 : (Jvm.Cond.arrayOver (Jvm.ClassFile.FieldType.object "SoldWithIt$Sheet")) ∈ lw_tbl := lw_at lw_m1 161 rfl
theorem q610 : (Jvm.Cond.arrayOver (Jvm.ClassFile.FieldType.object "java/lang/Object")) ∈ lw_tbl := lw_at lw_m3 41 rfl
theorem q1070 : (Jvm.Cond.arrayClass Jvm.ClassFile.FieldType.byte) ∈ lw_all := lw_g (lw_at lw_m5 21 rfl) rfl
theorem q1078 : (Jvm.Cond.arrayClass Jvm.ClassFile.FieldType.short) ∈ lw_all := lw_g (lw_at lw_m5 29 rfl) rfl
theorem q1268 : (Jvm.Cond.arrayClass Jvm.ClassFile.FieldType.boolean) ∈ lw_all := lw_g (lw_at lw_m5 219 rfl) rfl
theorem q89 : (Jvm.Cond.initialized "SoldWithItLaw") ∈ lw_all := lw_g (lw_at lw_m1 0 rfl) rfl
theorem q119 : (Jvm.Cond.classLink "SoldWithItLaw" (7 : Nat) "SoldWithIt") ∈ lw_all := lw_g (lw_at lw_m1 30 rfl) rfl
theorem q121 : (Jvm.Cond.methodLink "SoldWithItLaw" (9 : Nat) ({ cls := "SoldWithIt", name := "<init>", desc := "()V" } : Jvm.MethodName)) ∈ lw_all := lw_g (lw_at lw_m1 32 rfl) rfl
theorem q331 : (Jvm.Cond.methodLink "SoldWithItLaw" (13 : Nat) ({ cls := "SoldWithIt", name := "type", desc := "(II)I" } : Jvm.MethodName)) ∈ lw_all := lw_g (lw_at lw_m2 2 rfl) rfl
theorem q351 : (Jvm.Cond.methodLink "SoldWithItLaw" (18 : Nat) ({ cls := "SoldWithIt", name := "wipe", desc := "(I)I" } : Jvm.MethodName)) ∈ lw_all := lw_g (lw_at lw_m2 22 rfl) rfl
theorem q364 : (Jvm.Cond.methodLink "SoldWithItLaw" (23 : Nat) ({ cls := "SoldWithIt", name := "fault", desc := "(I)I" } : Jvm.MethodName)) ∈ lw_all := lw_g (lw_at lw_m2 35 rfl) rfl
theorem q623 : (Jvm.Cond.methodLink "SoldWithItLaw" (27 : Nat) ({ cls := "SoldWithIt", name := "house", desc := "(II)I" } : Jvm.MethodName)) ∈ lw_all := lw_g (lw_at lw_m3 54 rfl) rfl
theorem q695 : (Jvm.Cond.methodLink "SoldWithItLaw" (31 : Nat) ({ cls := "SoldWithIt", name := "person", desc := "(II)I" } : Jvm.MethodName)) ∈ lw_all := lw_g (lw_at lw_m3 126 rfl) rfl
theorem q714 : (Jvm.Cond.methodLink "SoldWithItLaw" (35 : Nat) ({ cls := "SoldWithIt", name := "law", desc := "(II)I" } : Jvm.MethodName)) ∈ lw_all := lw_g (lw_at lw_m3 145 rfl) rfl
theorem q718 : (Jvm.Cond.methodLink "SoldWithItLaw" (39 : Nat) ({ cls := "SoldWithIt", name := "sale", desc := "(II)I" } : Jvm.MethodName)) ∈ lw_all := lw_g (lw_at lw_m3 149 rfl) rfl
theorem q726 : (Jvm.Cond.methodLink "SoldWithItLaw" (43 : Nat) ({ cls := "SoldWithIt", name := "read", desc := "(I)I" } : Jvm.MethodName)) ∈ lw_all := lw_g (lw_at lw_m3 157 rfl) rfl
theorem q755 : (Jvm.Cond.methodLink "SoldWithItLaw" (47 : Nat) ({ cls := "SoldWithIt", name := "undo", desc := "()I" } : Jvm.MethodName)) ∈ lw_all := lw_g (lw_at lw_m3 186 rfl) rfl
theorem q759 : (Jvm.Cond.methodLink "SoldWithItLaw" (52 : Nat) ({ cls := "SoldWithIt", name := "whose", desc := "(II)I" } : Jvm.MethodName)) ∈ lw_all := lw_g (lw_at lw_m3 190 rfl) rfl
theorem q815 : (Jvm.Cond.methodLink "SoldWithItLaw" (56 : Nat) ({ cls := "SoldWithIt", name := "keeper", desc := "(II)I" } : Jvm.MethodName)) ∈ lw_all := lw_g (lw_at lw_m4 6 rfl) rfl
theorem q819 : (Jvm.Cond.methodLink "SoldWithItLaw" (60 : Nat) ({ cls := "SoldWithIt", name := "sold", desc := "(II)I" } : Jvm.MethodName)) ∈ lw_all := lw_g (lw_at lw_m4 10 rfl) rfl
theorem q823 : (Jvm.Cond.methodLink "SoldWithItLaw" (64 : Nat) ({ cls := "SoldWithIt", name := "length", desc := "(I)I" } : Jvm.MethodName)) ∈ lw_all := lw_g (lw_at lw_m4 14 rfl) rfl
theorem q831 : (Jvm.Cond.methodLink "SoldWithItLaw" (68 : Nat) ({ cls := "SoldWithIt", name := "worth", desc := "(III)I" } : Jvm.MethodName)) ∈ lw_all := lw_g (lw_at lw_m4 22 rfl) rfl
theorem q845 : (Jvm.Cond.methodLink "SoldWithItLaw" (73 : Nat) ({ cls := "SoldWithIt", name := "like", desc := "(III)I" } : Jvm.MethodName)) ∈ lw_all := lw_g (lw_at lw_m4 36 rfl) rfl
theorem q849 : (Jvm.Cond.methodLink "SoldWithItLaw" (77 : Nat) ({ cls := "SoldWithIt", name := "gain", desc := "(I)I" } : Jvm.MethodName)) ∈ lw_all := lw_g (lw_at lw_m4 40 rfl) rfl
theorem q861 : (Jvm.Cond.methodLink "SoldWithItLaw" (81 : Nat) ({ cls := "SoldWithIt", name := "best", desc := "(II)I" } : Jvm.MethodName)) ∈ lw_all := lw_g (lw_at lw_m4 52 rfl) rfl
theorem q894 : (Jvm.Cond.methodLink "SoldWithItLaw" (85 : Nat) ({ cls := "SoldWithIt", name := "rest", desc := "(I)I" } : Jvm.MethodName)) ∈ lw_all := lw_g (lw_at lw_m4 85 rfl) rfl
theorem q919 : (Jvm.Cond.methodLink "SoldWithItLaw" (89 : Nat) ({ cls := "SoldWithIt", name := "out", desc := "(I)I" } : Jvm.MethodName)) ∈ lw_all := lw_g (lw_at lw_m4 110 rfl) rfl
theorem q935 : (Jvm.Cond.methodLink "SoldWithItLaw" (93 : Nat) ({ cls := "SoldWithIt", name := "value", desc := "(II)I" } : Jvm.MethodName)) ∈ lw_all := lw_g (lw_at lw_m4 126 rfl) rfl
theorem q943 : (Jvm.Cond.methodLink "SoldWithItLaw" (97 : Nat) ({ cls := "SoldWithIt", name := "change", desc := "(II)I" } : Jvm.MethodName)) ∈ lw_all := lw_g (lw_at lw_m4 134 rfl) rfl
theorem q951 : (Jvm.Cond.methodLink "SoldWithItLaw" (101 : Nat) ({ cls := "SoldWithIt", name := "changes", desc := "()I" } : Jvm.MethodName)) ∈ lw_all := lw_g (lw_at lw_m4 142 rfl) rfl
theorem q959 : (Jvm.Cond.methodLink "SoldWithItLaw" (105 : Nat) ({ cls := "SoldWithIt", name := "should", desc := "(I)I" } : Jvm.MethodName)) ∈ lw_all := lw_g (lw_at lw_m4 150 rfl) rfl
theorem q985 : (Jvm.Cond.methodLink "SoldWithItLaw" (109 : Nat) ({ cls := "SoldWithIt", name := "come", desc := "(II)I" } : Jvm.MethodName)) ∈ lw_all := lw_g (lw_at lw_m4 176 rfl) rfl
theorem q994 : (Jvm.Cond.methodLink "SoldWithItLaw" (113 : Nat) ({ cls := "SoldWithIt", name := "invite", desc := "(II)I" } : Jvm.MethodName)) ∈ lw_all := lw_g (lw_at lw_m4 185 rfl) rfl
theorem q1003 : (Jvm.Cond.methodLink "SoldWithItLaw" (117 : Nat) ({ cls := "SoldWithIt", name := "fact", desc := "(II)I" } : Jvm.MethodName)) ∈ lw_all := lw_g (lw_at lw_m4 194 rfl) rfl
theorem q1009 : (Jvm.Cond.methodLink "SoldWithItLaw" (121 : Nat) ({ cls := "SoldWithIt", name := "forget", desc := "()I" } : Jvm.MethodName)) ∈ lw_all := lw_g (lw_at lw_m4 200 rfl) rfl
theorem q1014 : (Jvm.Cond.methodLink "SoldWithItLaw" (125 : Nat) ({ cls := "SoldWithIt", name := "were", desc := "(I)I" } : Jvm.MethodName)) ∈ lw_all := lw_g (lw_at lw_m4 205 rfl) rfl
theorem q1033 : (Jvm.Cond.methodLink "SoldWithItLaw" (129 : Nat) ({ cls := "SoldWithIt", name := "bed", desc := "()I" } : Jvm.MethodName)) ∈ lw_all := lw_g (lw_at lw_m4 224 rfl) rfl
theorem q1041 : (Jvm.Cond.methodLink "SoldWithItLaw" (133 : Nat) ({ cls := "SoldWithIt", name := "sheet", desc := "(III)I" } : Jvm.MethodName)) ∈ lw_all := lw_g (lw_at lw_m4 232 rfl) rfl
theorem q1079 : (Jvm.Cond.methodLink "SoldWithItLaw" (137 : Nat) ({ cls := "SoldWithIt", name := "lose", desc := "(I)I" } : Jvm.MethodName)) ∈ lw_all := lw_g (lw_at lw_m5 30 rfl) rfl
theorem q1083 : (Jvm.Cond.methodLink "SoldWithItLaw" (141 : Nat) ({ cls := "SoldWithIt", name := "put", desc := "(IIII)I" } : Jvm.MethodName)) ∈ lw_all := lw_g (lw_at lw_m5 34 rfl) rfl
theorem q1124 : (Jvm.Cond.methodLink "SoldWithItLaw" (146 : Nat) ({ cls := "SoldWithIt", name := "get", desc := "(III)I" } : Jvm.MethodName)) ∈ lw_all := lw_g (lw_at lw_m5 75 rfl) rfl
theorem q1133 : (Jvm.Cond.methodLink "SoldWithItLaw" (150 : Nat) ({ cls := "SoldWithIt", name := "copy", desc := "(IIIII)I" } : Jvm.MethodName)) ∈ lw_all := lw_g (lw_at lw_m5 84 rfl) rfl
theorem q1138 : (Jvm.Cond.methodLink "SoldWithItLaw" (155 : Nat) ({ cls := "SoldWithIt", name := "write", desc := "(I)I" } : Jvm.MethodName)) ∈ lw_all := lw_g (lw_at lw_m5 89 rfl) rfl
theorem q1142 : (Jvm.Cond.methodLink "SoldWithItLaw" (159 : Nat) ({ cls := "SoldWithIt", name := "count", desc := "(I)I" } : Jvm.MethodName)) ∈ lw_all := lw_g (lw_at lw_m5 93 rfl) rfl
theorem q1155 : (Jvm.Cond.methodLink "SoldWithItLaw" (163 : Nat) ({ cls := "SoldWithIt", name := "digest", desc := "()J" } : Jvm.MethodName)) ∈ lw_all := lw_g (lw_at lw_m5 106 rfl) rfl
theorem q1162 : (Jvm.Cond.classLink "SoldWithItLaw" (10 : Nat) "SoldWithItModel") ∈ lw_all := lw_g (lw_at lw_m5 113 rfl) rfl
theorem q1164 : (Jvm.Cond.methodLink "SoldWithItLaw" (12 : Nat) ({ cls := "SoldWithItModel", name := "<init>", desc := "()V" } : Jvm.MethodName)) ∈ lw_all := lw_g (lw_at lw_m5 115 rfl) rfl
theorem q1269 : (Jvm.Cond.methodLink "SoldWithItLaw" (17 : Nat) ({ cls := "SoldWithItModel", name := "type", desc := "(II)I" } : Jvm.MethodName)) ∈ lw_all := lw_g (lw_at lw_m5 220 rfl) rfl
theorem q1276 : (Jvm.Cond.methodLink "SoldWithItLaw" (22 : Nat) ({ cls := "SoldWithItModel", name := "wipe", desc := "(I)I" } : Jvm.MethodName)) ∈ lw_all := lw_g (lw_at lw_m5 227 rfl) rfl
theorem q1280 : (Jvm.Cond.methodLink "SoldWithItLaw" (26 : Nat) ({ cls := "SoldWithItModel", name := "fault", desc := "(I)I" } : Jvm.MethodName)) ∈ lw_all := lw_g (lw_at lw_m5 231 rfl) rfl
theorem q1300 : (Jvm.Cond.methodLink "SoldWithItLaw" (30 : Nat) ({ cls := "SoldWithItModel", name := "house", desc := "(II)I" } : Jvm.MethodName)) ∈ lw_all := lw_g (lw_at lw_m6 11 rfl) rfl
theorem q1316 : (Jvm.Cond.methodLink "SoldWithItLaw" (34 : Nat) ({ cls := "SoldWithItModel", name := "person", desc := "(II)I" } : Jvm.MethodName)) ∈ lw_all := lw_g (lw_at lw_m6 27 rfl) rfl
theorem q1328 : (Jvm.Cond.methodLink "SoldWithItLaw" (38 : Nat) ({ cls := "SoldWithItModel", name := "law", desc := "(II)I" } : Jvm.MethodName)) ∈ lw_all := lw_g (lw_at lw_m6 39 rfl) rfl
theorem q1332 : (Jvm.Cond.methodLink "SoldWithItLaw" (42 : Nat) ({ cls := "SoldWithItModel", name := "sale", desc := "(II)I" } : Jvm.MethodName)) ∈ lw_all := lw_g (lw_at lw_m6 43 rfl) rfl
theorem q1343 : (Jvm.Cond.methodLink "SoldWithItLaw" (46 : Nat) ({ cls := "SoldWithItModel", name := "read", desc := "(I)I" } : Jvm.MethodName)) ∈ lw_all := lw_g (lw_at lw_m6 54 rfl) rfl
theorem q1354 : (Jvm.Cond.methodLink "SoldWithItLaw" (51 : Nat) ({ cls := "SoldWithItModel", name := "undo", desc := "()I" } : Jvm.MethodName)) ∈ lw_all := lw_g (lw_at lw_m6 65 rfl) rfl
theorem q1358 : (Jvm.Cond.methodLink "SoldWithItLaw" (55 : Nat) ({ cls := "SoldWithItModel", name := "whose", desc := "(II)I" } : Jvm.MethodName)) ∈ lw_all := lw_g (lw_at lw_m6 69 rfl) rfl
theorem q1381 : (Jvm.Cond.methodLink "SoldWithItLaw" (59 : Nat) ({ cls := "SoldWithItModel", name := "keeper", desc := "(II)I" } : Jvm.MethodName)) ∈ lw_all := lw_g (lw_at lw_m6 92 rfl) rfl
theorem q1389 : (Jvm.Cond.methodLink "SoldWithItLaw" (63 : Nat) ({ cls := "SoldWithItModel", name := "sold", desc := "(II)I" } : Jvm.MethodName)) ∈ lw_all := lw_g (lw_at lw_m6 100 rfl) rfl
theorem q1397 : (Jvm.Cond.methodLink "SoldWithItLaw" (67 : Nat) ({ cls := "SoldWithItModel", name := "length", desc := "(I)I" } : Jvm.MethodName)) ∈ lw_all := lw_g (lw_at lw_m6 108 rfl) rfl
theorem q1405 : (Jvm.Cond.methodLink "SoldWithItLaw" (72 : Nat) ({ cls := "SoldWithItModel", name := "worth", desc := "(III)I" } : Jvm.MethodName)) ∈ lw_all := lw_g (lw_at lw_m6 116 rfl) rfl
theorem q1410 : (Jvm.Cond.methodLink "SoldWithItLaw" (76 : Nat) ({ cls := "SoldWithItModel", name := "like", desc := "(III)I" } : Jvm.MethodName)) ∈ lw_all := lw_g (lw_at lw_m6 121 rfl) rfl
theorem q1414 : (Jvm.Cond.methodLink "SoldWithItLaw" (80 : Nat) ({ cls := "SoldWithItModel", name := "gain", desc := "(I)I" } : Jvm.MethodName)) ∈ lw_all := lw_g (lw_at lw_m6 125 rfl) rfl
theorem q1426 : (Jvm.Cond.methodLink "SoldWithItLaw" (84 : Nat) ({ cls := "SoldWithItModel", name := "best", desc := "(II)I" } : Jvm.MethodName)) ∈ lw_all := lw_g (lw_at lw_m6 137 rfl) rfl
theorem q1443 : (Jvm.Cond.methodLink "SoldWithItLaw" (88 : Nat) ({ cls := "SoldWithItModel", name := "rest", desc := "(I)I" } : Jvm.MethodName)) ∈ lw_all := lw_g (lw_at lw_m6 154 rfl) rfl
theorem q1456 : (Jvm.Cond.methodLink "SoldWithItLaw" (92 : Nat) ({ cls := "SoldWithItModel", name := "out", desc := "(I)I" } : Jvm.MethodName)) ∈ lw_all := lw_g (lw_at lw_m6 167 rfl) rfl
theorem q1468 : (Jvm.Cond.methodLink "SoldWithItLaw" (96 : Nat) ({ cls := "SoldWithItModel", name := "value", desc := "(II)I" } : Jvm.MethodName)) ∈ lw_all := lw_g (lw_at lw_m6 179 rfl) rfl
theorem q1476 : (Jvm.Cond.methodLink "SoldWithItLaw" (100 : Nat) ({ cls := "SoldWithItModel", name := "change", desc := "(II)I" } : Jvm.MethodName)) ∈ lw_all := lw_g (lw_at lw_m6 187 rfl) rfl
theorem q1484 : (Jvm.Cond.methodLink "SoldWithItLaw" (104 : Nat) ({ cls := "SoldWithItModel", name := "changes", desc := "()I" } : Jvm.MethodName)) ∈ lw_all := lw_g (lw_at lw_m6 195 rfl) rfl
theorem q1492 : (Jvm.Cond.methodLink "SoldWithItLaw" (108 : Nat) ({ cls := "SoldWithItModel", name := "should", desc := "(I)I" } : Jvm.MethodName)) ∈ lw_all := lw_g (lw_at lw_m6 203 rfl) rfl
theorem q1508 : (Jvm.Cond.methodLink "SoldWithItLaw" (112 : Nat) ({ cls := "SoldWithItModel", name := "come", desc := "(II)I" } : Jvm.MethodName)) ∈ lw_all := lw_g (lw_at lw_m6 219 rfl) rfl
theorem q1516 : (Jvm.Cond.methodLink "SoldWithItLaw" (116 : Nat) ({ cls := "SoldWithItModel", name := "invite", desc := "(II)I" } : Jvm.MethodName)) ∈ lw_all := lw_g (lw_at lw_m6 227 rfl) rfl
theorem q1527 : (Jvm.Cond.methodLink "SoldWithItLaw" (120 : Nat) ({ cls := "SoldWithItModel", name := "fact", desc := "(II)I" } : Jvm.MethodName)) ∈ lw_all := lw_g (lw_at lw_m6 238 rfl) rfl
theorem q1531 : (Jvm.Cond.methodLink "SoldWithItLaw" (124 : Nat) ({ cls := "SoldWithItModel", name := "forget", desc := "()I" } : Jvm.MethodName)) ∈ lw_all := lw_g (lw_at lw_m7 2 rfl) rfl
theorem q1535 : (Jvm.Cond.methodLink "SoldWithItLaw" (128 : Nat) ({ cls := "SoldWithItModel", name := "were", desc := "(I)I" } : Jvm.MethodName)) ∈ lw_all := lw_g (lw_at lw_m7 6 rfl) rfl
theorem q1543 : (Jvm.Cond.methodLink "SoldWithItLaw" (132 : Nat) ({ cls := "SoldWithItModel", name := "bed", desc := "()I" } : Jvm.MethodName)) ∈ lw_all := lw_g (lw_at lw_m7 14 rfl) rfl
theorem q1547 : (Jvm.Cond.methodLink "SoldWithItLaw" (136 : Nat) ({ cls := "SoldWithItModel", name := "sheet", desc := "(III)I" } : Jvm.MethodName)) ∈ lw_all := lw_g (lw_at lw_m7 18 rfl) rfl
theorem q1551 : (Jvm.Cond.methodLink "SoldWithItLaw" (140 : Nat) ({ cls := "SoldWithItModel", name := "lose", desc := "(I)I" } : Jvm.MethodName)) ∈ lw_all := lw_g (lw_at lw_m7 22 rfl) rfl
theorem q1555 : (Jvm.Cond.methodLink "SoldWithItLaw" (145 : Nat) ({ cls := "SoldWithItModel", name := "put", desc := "(IIII)I" } : Jvm.MethodName)) ∈ lw_all := lw_g (lw_at lw_m7 26 rfl) rfl
theorem q1567 : (Jvm.Cond.methodLink "SoldWithItLaw" (149 : Nat) ({ cls := "SoldWithItModel", name := "get", desc := "(III)I" } : Jvm.MethodName)) ∈ lw_all := lw_g (lw_at lw_m7 38 rfl) rfl
theorem q1572 : (Jvm.Cond.methodLink "SoldWithItLaw" (154 : Nat) ({ cls := "SoldWithItModel", name := "copy", desc := "(IIIII)I" } : Jvm.MethodName)) ∈ lw_all := lw_g (lw_at lw_m7 43 rfl) rfl
theorem q1576 : (Jvm.Cond.methodLink "SoldWithItLaw" (158 : Nat) ({ cls := "SoldWithItModel", name := "write", desc := "(I)I" } : Jvm.MethodName)) ∈ lw_all := lw_g (lw_at lw_m7 47 rfl) rfl
theorem q1580 : (Jvm.Cond.methodLink "SoldWithItLaw" (162 : Nat) ({ cls := "SoldWithItModel", name := "count", desc := "(I)I" } : Jvm.MethodName)) ∈ lw_all := lw_g (lw_at lw_m7 51 rfl) rfl
theorem q1588 : (Jvm.Cond.methodLink "SoldWithItLaw" (167 : Nat) ({ cls := "SoldWithItModel", name := "digest", desc := "()J" } : Jvm.MethodName)) ∈ lw_all := lw_g (lw_at lw_m7 59 rfl) rfl
theorem q109 : (Jvm.Cond.initialized "java/lang/System") ∈ lw_all := lw_g (lw_at lw_m1 20 rfl) rfl
theorem q616 : (Jvm.Cond.static ({ cls := "java/lang/System", name := "arraycopy", desc := "(Ljava/lang/Object;ILjava/lang/Object;II)V" } : Jvm.MethodName)) ∈ lw_all := lw_g (lw_at lw_m3 47 rfl) rfl
theorem q617 : (Jvm.Cond.native ({ cls := "java/lang/System", name := "arraycopy", desc := "(Ljava/lang/Object;ILjava/lang/Object;II)V" } : Jvm.MethodName)) ∈ lw_all := lw_g (lw_at lw_m3 48 rfl) rfl
theorem q1618 : (Jvm.Cond.sameMethod "[Ljava/lang/Object;" "java/lang/Object" "getClass" "()Ljava/lang/Class;") ∈ lw_all := lw_g (lw_at lw_m7 89 rfl) rfl
theorem q1619 : (Jvm.Cond.selects "[Ljava/lang/Object;" ({ cls := "java/lang/Object", name := "getClass", desc := "()Ljava/lang/Class;" } : Jvm.MethodName) ({ cls := "java/lang/Object", name := "getClass", desc := "()Ljava/lang/Class;" } : Jvm.MethodName)) ∈ lw_all := lw_g (lw_at lw_m7 90 rfl) rfl
theorem q1624 : (Jvm.Cond.castable "[Ljava/lang/Object;" "java/lang/Object") ∈ lw_tbl := lw_at lw_m7 95 rfl
theorem q1621 : (Jvm.Cond.castable "[I" "java/lang/Object") ∈ lw_tbl := lw_at lw_m7 92 rfl
theorem q1622 : (Jvm.Cond.castable "[[I" "java/lang/Object") ∈ lw_tbl := lw_at lw_m7 93 rfl
theorem q1623 : (Jvm.Cond.castable "[LSoldWithIt$Sheet;" "java/lang/Object") ∈ lw_tbl := lw_at lw_m7 94 rfl
theorem q1625 : (Jvm.Cond.castable "[B" "java/lang/Object") ∈ lw_tbl := lw_at lw_m7 96 rfl
theorem q1626 : (Jvm.Cond.castable "[S" "java/lang/Object") ∈ lw_tbl := lw_at lw_m7 97 rfl
theorem q1627 : (Jvm.Cond.castable "[Z" "java/lang/Object") ∈ lw_tbl := lw_at lw_m7 98 rfl
