/-! DECODE ROWS BY BYTES: one lemma an opcode; a method's code is cut into short pieces once, and a row reads its own piece alone. -/
set_option maxRecDepth 100000
/-- the code has just these bytes from pc on -/
def DkAt (code : ByteArray) (pc : Nat) (bs : List UInt8) : Prop := ∀ (j : Nat) (b : UInt8), bs[j]? = some b → code.data.toList[pc + j]? = some b
/-- the piece W has the bytes bs from its place j on -/
def dkIn (W : List UInt8) (j : Nat) (bs : List UInt8) : Bool := decide ((W.drop j).take bs.length = bs)
theorem dk_seg {l W T : List UInt8} {o o2 : Nat} (h : l.drop o = W ++ T) (n : Nat) (hn : W.length = n) (ho : o + n = o2) : l.drop o2 = T := by
  subst ho
  rw [← List.drop_drop, h, List.drop_left' hn]
theorem dk_at {code : ByteArray} {W T bs : List UInt8} {o pc : Nat} (h : code.data.toList.drop o = W ++ T) (j : Nat) (hp : o + j = pc) (hw : dkIn W j bs = true) : DkAt code pc bs := by
  subst hp
  intro i b e
  have h1 := of_decide_eq_true hw
  have h2 : i < bs.length := (List.getElem?_eq_some_iff.mp e).1
  have h3 : W[j + i]? = some b := by
    rw [← h1, List.getElem?_take, if_pos h2, List.getElem?_drop] at e
    exact e
  have h4 : j + i < W.length := (List.getElem?_eq_some_iff.mp h3).1
  have h5 : (code.data.toList.drop o)[j + i]? = some b := by
    rw [h, List.getElem?_append_left h4]
    exact h3
  rw [List.getElem?_drop, ← Nat.add_assoc] at h5
  exact h5
theorem dk_u1 {A : ByteArray} {p : Nat} {b : UInt8} (h : A.data.toList[p]? = some b) : (Reader.u1 : Reader DecodeError Nat) A p = .ok (b.toNat, p + 1) := by
  obtain ⟨h1, h2⟩ := List.getElem?_eq_some_iff.mp h
  have h3 : p < A.size := by simpa using h1
  have h4 : A[p]'h3 = b := h2
  have e : (Reader.u1 : Reader DecodeError Nat) A p = (if h : p < A.size then .ok (A[p].toNat, p + 1) else .error (HasTruncated.truncated p)) := by
    show (do if h : p < A.size then do set (p + 1); Pure.pure A[p].toNat else MonadExcept.throw (HasTruncated.truncated p) : Reader DecodeError Nat) A p = _
    by_cases hi : p < A.size
    · rw [dif_pos hi, dif_pos hi]; rfl
    · rw [dif_neg hi, dif_neg hi]; rfl
  rw [e, dif_pos h3, h4]
theorem dk_bind {α β : Type} {r : Reader DecodeError α} {f : α → Reader DecodeError β} {A : ByteArray} {p s : Nat} {a : α} (h : r A p = .ok (a, s)) : (r >>= f) A p = f a A s := by
  show (do let (a, s) ← r A p; f a A s : Except DecodeError (β × Nat)) = _
  rw [h]
  rfl
theorem dk_map {α β : Type} {r : Reader DecodeError α} {g : α → β} {A : ByteArray} {p s : Nat} {a : α} (h : r A p = .ok (a, s)) : (g <$> r) A p = .ok (g a, s) := by
  show (do let (a, s) ← r A p; .ok (g a, s) : Except DecodeError (β × Nat)) = _
  rw [h]
  rfl
theorem dk_u2 {A : ByteArray} {p : Nat} {a b : UInt8} (h : A.data.toList[p]? = some a) (h2 : A.data.toList[p + 1]? = some b) : (Reader.u2 : Reader DecodeError Nat) A p = .ok (a.toNat * 256 + b.toNat, p + 2) := by
  show (Reader.u1 >>= fun hi => Reader.u1 >>= fun lo => Pure.pure (hi * 256 + lo) : Reader DecodeError Nat) A p = _
  rw [dk_bind (dk_u1 h), dk_bind (dk_u1 h2)]
  rfl
theorem dk_of {code : ByteArray} {pc n : Nat} {i : Instr} (h : Decoder.instr pc code pc = .ok (i, pc + n)) : decode code pc = .ok (i, n) := by
  have e : decode code pc = (match Decoder.instr pc code pc with | .error x => .error x | .ok (j, s) => .ok (j, s - pc)) := by
    show (do let (j, s) ← Decoder.instr pc code pc; Pure.pure (j, s - pc) : Except DecodeError (Instr × Nat)) = _
    cases Decoder.instr pc code pc <;> rfl
  rw [e, h]
  show Except.ok (i, pc + n - pc) = _
  rw [Nat.add_sub_cancel_left]
theorem dk_1 {code : ByteArray} {pc : Nat} (h : DkAt code pc [1]) : decode code pc = .ok (.aconst_null, 1) := dk_of ((dk_bind (dk_u1 (h 0 _ rfl))).trans rfl)
theorem dk_2 {code : ByteArray} {pc : Nat} (h : DkAt code pc [2]) : decode code pc = .ok (.iconst (-1), 1) := dk_of ((dk_bind (dk_u1 (h 0 _ rfl))).trans rfl)
theorem dk_3 {code : ByteArray} {pc : Nat} (h : DkAt code pc [3]) : decode code pc = .ok (.iconst 0, 1) := dk_of ((dk_bind (dk_u1 (h 0 _ rfl))).trans rfl)
theorem dk_4 {code : ByteArray} {pc : Nat} (h : DkAt code pc [4]) : decode code pc = .ok (.iconst 1, 1) := dk_of ((dk_bind (dk_u1 (h 0 _ rfl))).trans rfl)
theorem dk_5 {code : ByteArray} {pc : Nat} (h : DkAt code pc [5]) : decode code pc = .ok (.iconst 2, 1) := dk_of ((dk_bind (dk_u1 (h 0 _ rfl))).trans rfl)
theorem dk_6 {code : ByteArray} {pc : Nat} (h : DkAt code pc [6]) : decode code pc = .ok (.iconst 3, 1) := dk_of ((dk_bind (dk_u1 (h 0 _ rfl))).trans rfl)
theorem dk_7 {code : ByteArray} {pc : Nat} (h : DkAt code pc [7]) : decode code pc = .ok (.iconst 4, 1) := dk_of ((dk_bind (dk_u1 (h 0 _ rfl))).trans rfl)
theorem dk_8 {code : ByteArray} {pc : Nat} (h : DkAt code pc [8]) : decode code pc = .ok (.iconst 5, 1) := dk_of ((dk_bind (dk_u1 (h 0 _ rfl))).trans rfl)
theorem dk_9 {code : ByteArray} {pc : Nat} (h : DkAt code pc [9]) : decode code pc = .ok (.lconst 0, 1) := dk_of ((dk_bind (dk_u1 (h 0 _ rfl))).trans rfl)
theorem dk_10 {code : ByteArray} {pc : Nat} (h : DkAt code pc [10]) : decode code pc = .ok (.lconst 1, 1) := dk_of ((dk_bind (dk_u1 (h 0 _ rfl))).trans rfl)
theorem dk_16 {code : ByteArray} {pc : Nat} (a : UInt8) (h : DkAt code pc [16, a]) : decode code pc = .ok (.bipush (Reader.signed 8 a.toNat), 2) := dk_of ((dk_bind (dk_u1 (h 0 _ rfl))).trans ((dk_bind (dk_map (dk_u1 (h 1 _ rfl)))).trans rfl))
theorem dk_17 {code : ByteArray} {pc : Nat} (a b : UInt8) (h : DkAt code pc [17, a, b]) : decode code pc = .ok (.sipush (Reader.signed 16 (a.toNat * 256 + b.toNat)), 3) := dk_of ((dk_bind (dk_u1 (h 0 _ rfl))).trans ((dk_bind (dk_map (dk_u2 (h 1 _ rfl) (h 2 _ rfl)))).trans rfl))
theorem dk_18 {code : ByteArray} {pc : Nat} (a : UInt8) (h : DkAt code pc [18, a]) : decode code pc = .ok (.ldc a.toNat, 2) := dk_of ((dk_bind (dk_u1 (h 0 _ rfl))).trans ((dk_bind (dk_u1 (h 1 _ rfl))).trans rfl))
theorem dk_19 {code : ByteArray} {pc : Nat} (a b : UInt8) (h : DkAt code pc [19, a, b]) : decode code pc = .ok (.ldc_w (a.toNat * 256 + b.toNat), 3) := dk_of ((dk_bind (dk_u1 (h 0 _ rfl))).trans ((dk_bind (dk_u2 (h 1 _ rfl) (h 2 _ rfl))).trans rfl))
theorem dk_20 {code : ByteArray} {pc : Nat} (a b : UInt8) (h : DkAt code pc [20, a, b]) : decode code pc = .ok (.ldc2_w (a.toNat * 256 + b.toNat), 3) := dk_of ((dk_bind (dk_u1 (h 0 _ rfl))).trans ((dk_bind (dk_u2 (h 1 _ rfl) (h 2 _ rfl))).trans rfl))
theorem dk_21 {code : ByteArray} {pc : Nat} (a : UInt8) (h : DkAt code pc [21, a]) : decode code pc = .ok (.iload a.toNat, 2) := dk_of ((dk_bind (dk_u1 (h 0 _ rfl))).trans ((dk_bind (dk_u1 (h 1 _ rfl))).trans rfl))
theorem dk_22 {code : ByteArray} {pc : Nat} (a : UInt8) (h : DkAt code pc [22, a]) : decode code pc = .ok (.lload a.toNat, 2) := dk_of ((dk_bind (dk_u1 (h 0 _ rfl))).trans ((dk_bind (dk_u1 (h 1 _ rfl))).trans rfl))
theorem dk_25 {code : ByteArray} {pc : Nat} (a : UInt8) (h : DkAt code pc [25, a]) : decode code pc = .ok (.aload a.toNat, 2) := dk_of ((dk_bind (dk_u1 (h 0 _ rfl))).trans ((dk_bind (dk_u1 (h 1 _ rfl))).trans rfl))
theorem dk_26 {code : ByteArray} {pc : Nat} (h : DkAt code pc [26]) : decode code pc = .ok (.iload_n 0, 1) := dk_of ((dk_bind (dk_u1 (h 0 _ rfl))).trans rfl)
theorem dk_27 {code : ByteArray} {pc : Nat} (h : DkAt code pc [27]) : decode code pc = .ok (.iload_n 1, 1) := dk_of ((dk_bind (dk_u1 (h 0 _ rfl))).trans rfl)
theorem dk_28 {code : ByteArray} {pc : Nat} (h : DkAt code pc [28]) : decode code pc = .ok (.iload_n 2, 1) := dk_of ((dk_bind (dk_u1 (h 0 _ rfl))).trans rfl)
theorem dk_29 {code : ByteArray} {pc : Nat} (h : DkAt code pc [29]) : decode code pc = .ok (.iload_n 3, 1) := dk_of ((dk_bind (dk_u1 (h 0 _ rfl))).trans rfl)
theorem dk_30 {code : ByteArray} {pc : Nat} (h : DkAt code pc [30]) : decode code pc = .ok (.lload_n 0, 1) := dk_of ((dk_bind (dk_u1 (h 0 _ rfl))).trans rfl)
theorem dk_32 {code : ByteArray} {pc : Nat} (h : DkAt code pc [32]) : decode code pc = .ok (.lload_n 2, 1) := dk_of ((dk_bind (dk_u1 (h 0 _ rfl))).trans rfl)
theorem dk_42 {code : ByteArray} {pc : Nat} (h : DkAt code pc [42]) : decode code pc = .ok (.aload_n 0, 1) := dk_of ((dk_bind (dk_u1 (h 0 _ rfl))).trans rfl)
theorem dk_43 {code : ByteArray} {pc : Nat} (h : DkAt code pc [43]) : decode code pc = .ok (.aload_n 1, 1) := dk_of ((dk_bind (dk_u1 (h 0 _ rfl))).trans rfl)
theorem dk_44 {code : ByteArray} {pc : Nat} (h : DkAt code pc [44]) : decode code pc = .ok (.aload_n 2, 1) := dk_of ((dk_bind (dk_u1 (h 0 _ rfl))).trans rfl)
theorem dk_45 {code : ByteArray} {pc : Nat} (h : DkAt code pc [45]) : decode code pc = .ok (.aload_n 3, 1) := dk_of ((dk_bind (dk_u1 (h 0 _ rfl))).trans rfl)
theorem dk_46 {code : ByteArray} {pc : Nat} (h : DkAt code pc [46]) : decode code pc = .ok (.iaload, 1) := dk_of ((dk_bind (dk_u1 (h 0 _ rfl))).trans rfl)
theorem dk_50 {code : ByteArray} {pc : Nat} (h : DkAt code pc [50]) : decode code pc = .ok (.aaload, 1) := dk_of ((dk_bind (dk_u1 (h 0 _ rfl))).trans rfl)
theorem dk_51 {code : ByteArray} {pc : Nat} (h : DkAt code pc [51]) : decode code pc = .ok (.baload, 1) := dk_of ((dk_bind (dk_u1 (h 0 _ rfl))).trans rfl)
theorem dk_53 {code : ByteArray} {pc : Nat} (h : DkAt code pc [53]) : decode code pc = .ok (.saload, 1) := dk_of ((dk_bind (dk_u1 (h 0 _ rfl))).trans rfl)
theorem dk_54 {code : ByteArray} {pc : Nat} (a : UInt8) (h : DkAt code pc [54, a]) : decode code pc = .ok (.istore a.toNat, 2) := dk_of ((dk_bind (dk_u1 (h 0 _ rfl))).trans ((dk_bind (dk_u1 (h 1 _ rfl))).trans rfl))
theorem dk_55 {code : ByteArray} {pc : Nat} (a : UInt8) (h : DkAt code pc [55, a]) : decode code pc = .ok (.lstore a.toNat, 2) := dk_of ((dk_bind (dk_u1 (h 0 _ rfl))).trans ((dk_bind (dk_u1 (h 1 _ rfl))).trans rfl))
theorem dk_58 {code : ByteArray} {pc : Nat} (a : UInt8) (h : DkAt code pc [58, a]) : decode code pc = .ok (.astore a.toNat, 2) := dk_of ((dk_bind (dk_u1 (h 0 _ rfl))).trans ((dk_bind (dk_u1 (h 1 _ rfl))).trans rfl))
theorem dk_59 {code : ByteArray} {pc : Nat} (h : DkAt code pc [59]) : decode code pc = .ok (.istore_n 0, 1) := dk_of ((dk_bind (dk_u1 (h 0 _ rfl))).trans rfl)
theorem dk_60 {code : ByteArray} {pc : Nat} (h : DkAt code pc [60]) : decode code pc = .ok (.istore_n 1, 1) := dk_of ((dk_bind (dk_u1 (h 0 _ rfl))).trans rfl)
theorem dk_61 {code : ByteArray} {pc : Nat} (h : DkAt code pc [61]) : decode code pc = .ok (.istore_n 2, 1) := dk_of ((dk_bind (dk_u1 (h 0 _ rfl))).trans rfl)
theorem dk_62 {code : ByteArray} {pc : Nat} (h : DkAt code pc [62]) : decode code pc = .ok (.istore_n 3, 1) := dk_of ((dk_bind (dk_u1 (h 0 _ rfl))).trans rfl)
theorem dk_76 {code : ByteArray} {pc : Nat} (h : DkAt code pc [76]) : decode code pc = .ok (.astore_n 1, 1) := dk_of ((dk_bind (dk_u1 (h 0 _ rfl))).trans rfl)
theorem dk_77 {code : ByteArray} {pc : Nat} (h : DkAt code pc [77]) : decode code pc = .ok (.astore_n 2, 1) := dk_of ((dk_bind (dk_u1 (h 0 _ rfl))).trans rfl)
theorem dk_78 {code : ByteArray} {pc : Nat} (h : DkAt code pc [78]) : decode code pc = .ok (.astore_n 3, 1) := dk_of ((dk_bind (dk_u1 (h 0 _ rfl))).trans rfl)
theorem dk_79 {code : ByteArray} {pc : Nat} (h : DkAt code pc [79]) : decode code pc = .ok (.iastore, 1) := dk_of ((dk_bind (dk_u1 (h 0 _ rfl))).trans rfl)
theorem dk_83 {code : ByteArray} {pc : Nat} (h : DkAt code pc [83]) : decode code pc = .ok (.aastore, 1) := dk_of ((dk_bind (dk_u1 (h 0 _ rfl))).trans rfl)
theorem dk_84 {code : ByteArray} {pc : Nat} (h : DkAt code pc [84]) : decode code pc = .ok (.bastore, 1) := dk_of ((dk_bind (dk_u1 (h 0 _ rfl))).trans rfl)
theorem dk_86 {code : ByteArray} {pc : Nat} (h : DkAt code pc [86]) : decode code pc = .ok (.sastore, 1) := dk_of ((dk_bind (dk_u1 (h 0 _ rfl))).trans rfl)
theorem dk_87 {code : ByteArray} {pc : Nat} (h : DkAt code pc [87]) : decode code pc = .ok (.pop, 1) := dk_of ((dk_bind (dk_u1 (h 0 _ rfl))).trans rfl)
theorem dk_89 {code : ByteArray} {pc : Nat} (h : DkAt code pc [89]) : decode code pc = .ok (.dup, 1) := dk_of ((dk_bind (dk_u1 (h 0 _ rfl))).trans rfl)
theorem dk_92 {code : ByteArray} {pc : Nat} (h : DkAt code pc [92]) : decode code pc = .ok (.dup2, 1) := dk_of ((dk_bind (dk_u1 (h 0 _ rfl))).trans rfl)
theorem dk_96 {code : ByteArray} {pc : Nat} (h : DkAt code pc [96]) : decode code pc = .ok (.iadd, 1) := dk_of ((dk_bind (dk_u1 (h 0 _ rfl))).trans rfl)
theorem dk_97 {code : ByteArray} {pc : Nat} (h : DkAt code pc [97]) : decode code pc = .ok (.ladd, 1) := dk_of ((dk_bind (dk_u1 (h 0 _ rfl))).trans rfl)
theorem dk_100 {code : ByteArray} {pc : Nat} (h : DkAt code pc [100]) : decode code pc = .ok (.isub, 1) := dk_of ((dk_bind (dk_u1 (h 0 _ rfl))).trans rfl)
theorem dk_104 {code : ByteArray} {pc : Nat} (h : DkAt code pc [104]) : decode code pc = .ok (.imul, 1) := dk_of ((dk_bind (dk_u1 (h 0 _ rfl))).trans rfl)
theorem dk_105 {code : ByteArray} {pc : Nat} (h : DkAt code pc [105]) : decode code pc = .ok (.lmul, 1) := dk_of ((dk_bind (dk_u1 (h 0 _ rfl))).trans rfl)
theorem dk_108 {code : ByteArray} {pc : Nat} (h : DkAt code pc [108]) : decode code pc = .ok (.idiv, 1) := dk_of ((dk_bind (dk_u1 (h 0 _ rfl))).trans rfl)
theorem dk_109 {code : ByteArray} {pc : Nat} (h : DkAt code pc [109]) : decode code pc = .ok (.ldiv, 1) := dk_of ((dk_bind (dk_u1 (h 0 _ rfl))).trans rfl)
theorem dk_112 {code : ByteArray} {pc : Nat} (h : DkAt code pc [112]) : decode code pc = .ok (.irem, 1) := dk_of ((dk_bind (dk_u1 (h 0 _ rfl))).trans rfl)
theorem dk_113 {code : ByteArray} {pc : Nat} (h : DkAt code pc [113]) : decode code pc = .ok (.lrem, 1) := dk_of ((dk_bind (dk_u1 (h 0 _ rfl))).trans rfl)
theorem dk_116 {code : ByteArray} {pc : Nat} (h : DkAt code pc [116]) : decode code pc = .ok (.ineg, 1) := dk_of ((dk_bind (dk_u1 (h 0 _ rfl))).trans rfl)
theorem dk_120 {code : ByteArray} {pc : Nat} (h : DkAt code pc [120]) : decode code pc = .ok (.ishl, 1) := dk_of ((dk_bind (dk_u1 (h 0 _ rfl))).trans rfl)
theorem dk_122 {code : ByteArray} {pc : Nat} (h : DkAt code pc [122]) : decode code pc = .ok (.ishr, 1) := dk_of ((dk_bind (dk_u1 (h 0 _ rfl))).trans rfl)
theorem dk_124 {code : ByteArray} {pc : Nat} (h : DkAt code pc [124]) : decode code pc = .ok (.iushr, 1) := dk_of ((dk_bind (dk_u1 (h 0 _ rfl))).trans rfl)
theorem dk_126 {code : ByteArray} {pc : Nat} (h : DkAt code pc [126]) : decode code pc = .ok (.iand, 1) := dk_of ((dk_bind (dk_u1 (h 0 _ rfl))).trans rfl)
theorem dk_128 {code : ByteArray} {pc : Nat} (h : DkAt code pc [128]) : decode code pc = .ok (.ior, 1) := dk_of ((dk_bind (dk_u1 (h 0 _ rfl))).trans rfl)
theorem dk_132 {code : ByteArray} {pc : Nat} (a b : UInt8) (h : DkAt code pc [132, a, b]) : decode code pc = .ok (.iinc a.toNat (Reader.signed 8 b.toNat), 3) := dk_of ((dk_bind (dk_u1 (h 0 _ rfl))).trans ((dk_bind (dk_u1 (h 1 _ rfl))).trans ((dk_bind (dk_map (dk_u1 (h 2 _ rfl)))).trans rfl)))
theorem dk_133 {code : ByteArray} {pc : Nat} (h : DkAt code pc [133]) : decode code pc = .ok (.i2l, 1) := dk_of ((dk_bind (dk_u1 (h 0 _ rfl))).trans rfl)
theorem dk_145 {code : ByteArray} {pc : Nat} (h : DkAt code pc [145]) : decode code pc = .ok (.i2b, 1) := dk_of ((dk_bind (dk_u1 (h 0 _ rfl))).trans rfl)
theorem dk_146 {code : ByteArray} {pc : Nat} (h : DkAt code pc [146]) : decode code pc = .ok (.i2c, 1) := dk_of ((dk_bind (dk_u1 (h 0 _ rfl))).trans rfl)
theorem dk_147 {code : ByteArray} {pc : Nat} (h : DkAt code pc [147]) : decode code pc = .ok (.i2s, 1) := dk_of ((dk_bind (dk_u1 (h 0 _ rfl))).trans rfl)
theorem dk_148 {code : ByteArray} {pc : Nat} (h : DkAt code pc [148]) : decode code pc = .ok (.lcmp, 1) := dk_of ((dk_bind (dk_u1 (h 0 _ rfl))).trans rfl)
theorem dk_153 {code : ByteArray} {pc : Nat} (a b : UInt8) (h : DkAt code pc [153, a, b]) : decode code pc = .ok (.ifCond .eq (Reader.signed 16 (a.toNat * 256 + b.toNat)), 3) := dk_of ((dk_bind (dk_u1 (h 0 _ rfl))).trans ((dk_bind (dk_map (dk_u2 (h 1 _ rfl) (h 2 _ rfl)))).trans rfl))
theorem dk_154 {code : ByteArray} {pc : Nat} (a b : UInt8) (h : DkAt code pc [154, a, b]) : decode code pc = .ok (.ifCond .ne (Reader.signed 16 (a.toNat * 256 + b.toNat)), 3) := dk_of ((dk_bind (dk_u1 (h 0 _ rfl))).trans ((dk_bind (dk_map (dk_u2 (h 1 _ rfl) (h 2 _ rfl)))).trans rfl))
theorem dk_155 {code : ByteArray} {pc : Nat} (a b : UInt8) (h : DkAt code pc [155, a, b]) : decode code pc = .ok (.ifCond .lt (Reader.signed 16 (a.toNat * 256 + b.toNat)), 3) := dk_of ((dk_bind (dk_u1 (h 0 _ rfl))).trans ((dk_bind (dk_map (dk_u2 (h 1 _ rfl) (h 2 _ rfl)))).trans rfl))
theorem dk_156 {code : ByteArray} {pc : Nat} (a b : UInt8) (h : DkAt code pc [156, a, b]) : decode code pc = .ok (.ifCond .ge (Reader.signed 16 (a.toNat * 256 + b.toNat)), 3) := dk_of ((dk_bind (dk_u1 (h 0 _ rfl))).trans ((dk_bind (dk_map (dk_u2 (h 1 _ rfl) (h 2 _ rfl)))).trans rfl))
theorem dk_157 {code : ByteArray} {pc : Nat} (a b : UInt8) (h : DkAt code pc [157, a, b]) : decode code pc = .ok (.ifCond .gt (Reader.signed 16 (a.toNat * 256 + b.toNat)), 3) := dk_of ((dk_bind (dk_u1 (h 0 _ rfl))).trans ((dk_bind (dk_map (dk_u2 (h 1 _ rfl) (h 2 _ rfl)))).trans rfl))
theorem dk_158 {code : ByteArray} {pc : Nat} (a b : UInt8) (h : DkAt code pc [158, a, b]) : decode code pc = .ok (.ifCond .le (Reader.signed 16 (a.toNat * 256 + b.toNat)), 3) := dk_of ((dk_bind (dk_u1 (h 0 _ rfl))).trans ((dk_bind (dk_map (dk_u2 (h 1 _ rfl) (h 2 _ rfl)))).trans rfl))
theorem dk_159 {code : ByteArray} {pc : Nat} (a b : UInt8) (h : DkAt code pc [159, a, b]) : decode code pc = .ok (.if_icmp .eq (Reader.signed 16 (a.toNat * 256 + b.toNat)), 3) := dk_of ((dk_bind (dk_u1 (h 0 _ rfl))).trans ((dk_bind (dk_map (dk_u2 (h 1 _ rfl) (h 2 _ rfl)))).trans rfl))
theorem dk_160 {code : ByteArray} {pc : Nat} (a b : UInt8) (h : DkAt code pc [160, a, b]) : decode code pc = .ok (.if_icmp .ne (Reader.signed 16 (a.toNat * 256 + b.toNat)), 3) := dk_of ((dk_bind (dk_u1 (h 0 _ rfl))).trans ((dk_bind (dk_map (dk_u2 (h 1 _ rfl) (h 2 _ rfl)))).trans rfl))
theorem dk_161 {code : ByteArray} {pc : Nat} (a b : UInt8) (h : DkAt code pc [161, a, b]) : decode code pc = .ok (.if_icmp .lt (Reader.signed 16 (a.toNat * 256 + b.toNat)), 3) := dk_of ((dk_bind (dk_u1 (h 0 _ rfl))).trans ((dk_bind (dk_map (dk_u2 (h 1 _ rfl) (h 2 _ rfl)))).trans rfl))
theorem dk_162 {code : ByteArray} {pc : Nat} (a b : UInt8) (h : DkAt code pc [162, a, b]) : decode code pc = .ok (.if_icmp .ge (Reader.signed 16 (a.toNat * 256 + b.toNat)), 3) := dk_of ((dk_bind (dk_u1 (h 0 _ rfl))).trans ((dk_bind (dk_map (dk_u2 (h 1 _ rfl) (h 2 _ rfl)))).trans rfl))
theorem dk_163 {code : ByteArray} {pc : Nat} (a b : UInt8) (h : DkAt code pc [163, a, b]) : decode code pc = .ok (.if_icmp .gt (Reader.signed 16 (a.toNat * 256 + b.toNat)), 3) := dk_of ((dk_bind (dk_u1 (h 0 _ rfl))).trans ((dk_bind (dk_map (dk_u2 (h 1 _ rfl) (h 2 _ rfl)))).trans rfl))
theorem dk_164 {code : ByteArray} {pc : Nat} (a b : UInt8) (h : DkAt code pc [164, a, b]) : decode code pc = .ok (.if_icmp .le (Reader.signed 16 (a.toNat * 256 + b.toNat)), 3) := dk_of ((dk_bind (dk_u1 (h 0 _ rfl))).trans ((dk_bind (dk_map (dk_u2 (h 1 _ rfl) (h 2 _ rfl)))).trans rfl))
theorem dk_167 {code : ByteArray} {pc : Nat} (a b : UInt8) (h : DkAt code pc [167, a, b]) : decode code pc = .ok (.goto (Reader.signed 16 (a.toNat * 256 + b.toNat)), 3) := dk_of ((dk_bind (dk_u1 (h 0 _ rfl))).trans ((dk_bind (dk_map (dk_u2 (h 1 _ rfl) (h 2 _ rfl)))).trans rfl))
theorem dk_172 {code : ByteArray} {pc : Nat} (h : DkAt code pc [172]) : decode code pc = .ok (.ireturn, 1) := dk_of ((dk_bind (dk_u1 (h 0 _ rfl))).trans rfl)
theorem dk_173 {code : ByteArray} {pc : Nat} (h : DkAt code pc [173]) : decode code pc = .ok (.lreturn, 1) := dk_of ((dk_bind (dk_u1 (h 0 _ rfl))).trans rfl)
theorem dk_176 {code : ByteArray} {pc : Nat} (h : DkAt code pc [176]) : decode code pc = .ok (.areturn, 1) := dk_of ((dk_bind (dk_u1 (h 0 _ rfl))).trans rfl)
theorem dk_177 {code : ByteArray} {pc : Nat} (h : DkAt code pc [177]) : decode code pc = .ok (.return_, 1) := dk_of ((dk_bind (dk_u1 (h 0 _ rfl))).trans rfl)
theorem dk_178 {code : ByteArray} {pc : Nat} (a b : UInt8) (h : DkAt code pc [178, a, b]) : decode code pc = .ok (.getstatic (a.toNat * 256 + b.toNat), 3) := dk_of ((dk_bind (dk_u1 (h 0 _ rfl))).trans ((dk_bind (dk_u2 (h 1 _ rfl) (h 2 _ rfl))).trans rfl))
theorem dk_180 {code : ByteArray} {pc : Nat} (a b : UInt8) (h : DkAt code pc [180, a, b]) : decode code pc = .ok (.getfield (a.toNat * 256 + b.toNat), 3) := dk_of ((dk_bind (dk_u1 (h 0 _ rfl))).trans ((dk_bind (dk_u2 (h 1 _ rfl) (h 2 _ rfl))).trans rfl))
theorem dk_181 {code : ByteArray} {pc : Nat} (a b : UInt8) (h : DkAt code pc [181, a, b]) : decode code pc = .ok (.putfield (a.toNat * 256 + b.toNat), 3) := dk_of ((dk_bind (dk_u1 (h 0 _ rfl))).trans ((dk_bind (dk_u2 (h 1 _ rfl) (h 2 _ rfl))).trans rfl))
theorem dk_182 {code : ByteArray} {pc : Nat} (a b : UInt8) (h : DkAt code pc [182, a, b]) : decode code pc = .ok (.invokevirtual (a.toNat * 256 + b.toNat), 3) := dk_of ((dk_bind (dk_u1 (h 0 _ rfl))).trans ((dk_bind (dk_u2 (h 1 _ rfl) (h 2 _ rfl))).trans rfl))
theorem dk_183 {code : ByteArray} {pc : Nat} (a b : UInt8) (h : DkAt code pc [183, a, b]) : decode code pc = .ok (.invokespecial (a.toNat * 256 + b.toNat), 3) := dk_of ((dk_bind (dk_u1 (h 0 _ rfl))).trans ((dk_bind (dk_u2 (h 1 _ rfl) (h 2 _ rfl))).trans rfl))
theorem dk_184 {code : ByteArray} {pc : Nat} (a b : UInt8) (h : DkAt code pc [184, a, b]) : decode code pc = .ok (.invokestatic (a.toNat * 256 + b.toNat), 3) := dk_of ((dk_bind (dk_u1 (h 0 _ rfl))).trans ((dk_bind (dk_u2 (h 1 _ rfl) (h 2 _ rfl))).trans rfl))
theorem dk_187 {code : ByteArray} {pc : Nat} (a b : UInt8) (h : DkAt code pc [187, a, b]) : decode code pc = .ok (.new (a.toNat * 256 + b.toNat), 3) := dk_of ((dk_bind (dk_u1 (h 0 _ rfl))).trans ((dk_bind (dk_u2 (h 1 _ rfl) (h 2 _ rfl))).trans rfl))
theorem dk_188_4 {code : ByteArray} {pc : Nat} (h : DkAt code pc [188, 4]) : decode code pc = .ok (.newarray .boolean, 2) := dk_of ((dk_bind (dk_u1 (h 0 _ rfl))).trans ((dk_bind (dk_u1 (h 1 _ rfl))).trans rfl))
theorem dk_188_8 {code : ByteArray} {pc : Nat} (h : DkAt code pc [188, 8]) : decode code pc = .ok (.newarray .byte, 2) := dk_of ((dk_bind (dk_u1 (h 0 _ rfl))).trans ((dk_bind (dk_u1 (h 1 _ rfl))).trans rfl))
theorem dk_188_9 {code : ByteArray} {pc : Nat} (h : DkAt code pc [188, 9]) : decode code pc = .ok (.newarray .short, 2) := dk_of ((dk_bind (dk_u1 (h 0 _ rfl))).trans ((dk_bind (dk_u1 (h 1 _ rfl))).trans rfl))
theorem dk_188_10 {code : ByteArray} {pc : Nat} (h : DkAt code pc [188, 10]) : decode code pc = .ok (.newarray .int, 2) := dk_of ((dk_bind (dk_u1 (h 0 _ rfl))).trans ((dk_bind (dk_u1 (h 1 _ rfl))).trans rfl))
theorem dk_189 {code : ByteArray} {pc : Nat} (a b : UInt8) (h : DkAt code pc [189, a, b]) : decode code pc = .ok (.anewarray (a.toNat * 256 + b.toNat), 3) := dk_of ((dk_bind (dk_u1 (h 0 _ rfl))).trans ((dk_bind (dk_u2 (h 1 _ rfl) (h 2 _ rfl))).trans rfl))
theorem dk_190 {code : ByteArray} {pc : Nat} (h : DkAt code pc [190]) : decode code pc = .ok (.arraylength, 1) := dk_of ((dk_bind (dk_u1 (h 0 _ rfl))).trans rfl)
theorem dk_191 {code : ByteArray} {pc : Nat} (h : DkAt code pc [191]) : decode code pc = .ok (.athrow, 1) := dk_of ((dk_bind (dk_u1 (h 0 _ rfl))).trans rfl)
theorem dk_192 {code : ByteArray} {pc : Nat} (a b : UInt8) (h : DkAt code pc [192, a, b]) : decode code pc = .ok (.checkcast (a.toNat * 256 + b.toNat), 3) := dk_of ((dk_bind (dk_u1 (h 0 _ rfl))).trans ((dk_bind (dk_u2 (h 1 _ rfl) (h 2 _ rfl))).trans rfl))
theorem dk_193 {code : ByteArray} {pc : Nat} (a b : UInt8) (h : DkAt code pc [193, a, b]) : decode code pc = .ok (.instanceof (a.toNat * 256 + b.toNat), 3) := dk_of ((dk_bind (dk_u1 (h 0 _ rfl))).trans ((dk_bind (dk_u2 (h 1 _ rfl) (h 2 _ rfl))).trans rfl))
/-! FlyWheels$Plain -/
set_option maxRecDepth 100000
def RX1 : String := "FlyWheels$Plain"
abbrev cX1_init : ByteArray := prog_3_method_1_code
def yX1_init : MethodName := ⟨RX1, "<init>", "()V"⟩
theorem dX1_init_0 : decode cX1_init 0 = .ok (.aload_n 0, 1) := by decide +kernel
theorem dX1_init_1 : decode cX1_init 1 = .ok (.invokespecial 1, 3) := by decide +kernel
theorem dX1_init_4 : decode cX1_init 4 = .ok (.return_, 1) := by decide +kernel
abbrev cX1_joined : ByteArray := prog_3_method_2_code
def yX1_joined : MethodName := ⟨RX1, "joined", "(II)I"⟩
theorem dX1_joined_0 : decode cX1_joined 0 = .ok (.iload_n 2, 1) := by decide +kernel
theorem dX1_joined_1 : decode cX1_joined 1 = .ok (.ireturn, 1) := by decide +kernel
theorem q58 : (Jvm.Cond.initialized "FlyWheels$Plain") ∈ lw_all := lw_g (lw_at lw_m1 2 rfl) rfl
theorem q93 : (Jvm.Cond.instantiable "FlyWheels$Plain" (0 : Nat)) ∈ lw_all := lw_g (lw_at lw_m1 37 rfl) rfl
theorem q95 : (Jvm.Cond.instanceMethod ({ cls := "FlyWheels$Plain", name := "<init>", desc := "()V" } : Jvm.MethodName)) ∈ lw_all := lw_g (lw_at lw_m1 39 rfl) rfl
theorem q96 : (Jvm.Cond.code ({ cls := "FlyWheels$Plain", name := "<init>", desc := "()V" } : Jvm.MethodName) prog_3_method_1_code (1 : Nat) (Option.none : Option Jvm.ClassFile.FieldType)) ∈ lw_all := lw_g (lw_at lw_m1 40 rfl) rfl
theorem q97 : (Jvm.Cond.methodLink "FlyWheels$Plain" (1 : Nat) ({ cls := "java/lang/Object", name := "<init>", desc := "()V" } : Jvm.MethodName)) ∈ lw_all := lw_g (lw_at lw_m1 41 rfl) rfl
theorem q98 : (Jvm.Cond.superclass "FlyWheels$Plain" "java/lang/Object") ∈ lw_all := lw_g (lw_at lw_m1 42 rfl) rfl
theorem q565 : (Jvm.Cond.instanceMethod ({ cls := "FlyWheels$Plain", name := "joined", desc := "(II)I" } : Jvm.MethodName)) ∈ lw_all := lw_g (lw_at lw_m3 29 rfl) rfl
theorem q566 : (Jvm.Cond.selects "FlyWheels$Plain" ({ cls := "FlyWheels$Plain", name := "joined", desc := "(II)I" } : Jvm.MethodName) ({ cls := "FlyWheels$Plain", name := "joined", desc := "(II)I" } : Jvm.MethodName)) ∈ lw_all := lw_g (lw_at lw_m3 30 rfl) rfl
theorem q567 : (Jvm.Cond.sameMethod "FlyWheels$Plain" "FlyWheels$Plain" "joined" "(II)I") ∈ lw_all := lw_g (lw_at lw_m3 31 rfl) rfl
theorem q572 : (Jvm.Cond.code ({ cls := "FlyWheels$Plain", name := "joined", desc := "(II)I" } : Jvm.MethodName) prog_3_method_2_code (3 : Nat) (Option.some Jvm.ClassFile.FieldType.int)) ∈ lw_all := lw_g (lw_at lw_m3 36 rfl) rfl
/-! FlyWheels$Slip -/
set_option maxRecDepth 100000
def RX2 : String := "FlyWheels$Slip"
abbrev cX2_init : ByteArray := prog_7_method_1_code
def yX2_init : MethodName := ⟨RX2, "<init>", "()V"⟩
theorem dX2_init_0 : decode cX2_init 0 = .ok (.aload_n 0, 1) := by decide +kernel
theorem dX2_init_1 : decode cX2_init 1 = .ok (.invokespecial 1, 3) := by decide +kernel
theorem dX2_init_4 : decode cX2_init 4 = .ok (.return_, 1) := by decide +kernel
abbrev cX2_joined : ByteArray := prog_7_method_2_code
def yX2_joined : MethodName := ⟨RX2, "joined", "(II)I"⟩
def dkwX2_joined_0 : List UInt8 := [27, 42, 27, 28, 183, 0, 7, 27, 100, 5, 108, 96, 172]
abbrev dktX2_joined_0 : List UInt8 := dkwX2_joined_0 ++ []
theorem dksX2_joined_0 : cX2_joined.data.toList.drop 0 = dktX2_joined_0 := by decide +kernel
theorem dX2_joined_0 : decode cX2_joined 0 = .ok (.iload_n 1, 1) := dk_27 (dk_at dksX2_joined_0 0 rfl rfl)
theorem dX2_joined_1 : decode cX2_joined 1 = .ok (.aload_n 0, 1) := dk_42 (dk_at dksX2_joined_0 1 rfl rfl)
theorem dX2_joined_2 : decode cX2_joined 2 = .ok (.iload_n 1, 1) := dk_27 (dk_at dksX2_joined_0 2 rfl rfl)
theorem dX2_joined_3 : decode cX2_joined 3 = .ok (.iload_n 2, 1) := dk_28 (dk_at dksX2_joined_0 3 rfl rfl)
theorem dX2_joined_4 : decode cX2_joined 4 = .ok (.invokespecial 7, 3) := dk_183 0 7 (dk_at dksX2_joined_0 4 rfl rfl)
theorem dX2_joined_7 : decode cX2_joined 7 = .ok (.iload_n 1, 1) := dk_27 (dk_at dksX2_joined_0 7 rfl rfl)
theorem dX2_joined_8 : decode cX2_joined 8 = .ok (.isub, 1) := dk_100 (dk_at dksX2_joined_0 8 rfl rfl)
theorem dX2_joined_9 : decode cX2_joined 9 = .ok (.iconst 2, 1) := dk_5 (dk_at dksX2_joined_0 9 rfl rfl)
theorem dX2_joined_10 : decode cX2_joined 10 = .ok (.idiv, 1) := dk_108 (dk_at dksX2_joined_0 10 rfl rfl)
theorem dX2_joined_11 : decode cX2_joined 11 = .ok (.iadd, 1) := dk_96 (dk_at dksX2_joined_0 11 rfl rfl)
theorem dX2_joined_12 : decode cX2_joined 12 = .ok (.ireturn, 1) := dk_172 (dk_at dksX2_joined_0 12 rfl rfl)
theorem q59 : (Jvm.Cond.initialized "FlyWheels$Slip") ∈ lw_all := lw_g (lw_at lw_m1 3 rfl) rfl
theorem q100 : (Jvm.Cond.instantiable "FlyWheels$Slip" (0 : Nat)) ∈ lw_all := lw_g (lw_at lw_m1 44 rfl) rfl
theorem q102 : (Jvm.Cond.instanceMethod ({ cls := "FlyWheels$Slip", name := "<init>", desc := "()V" } : Jvm.MethodName)) ∈ lw_all := lw_g (lw_at lw_m1 46 rfl) rfl
theorem q103 : (Jvm.Cond.code ({ cls := "FlyWheels$Slip", name := "<init>", desc := "()V" } : Jvm.MethodName) prog_7_method_1_code (1 : Nat) (Option.none : Option Jvm.ClassFile.FieldType)) ∈ lw_all := lw_g (lw_at lw_m1 47 rfl) rfl
theorem q104 : (Jvm.Cond.methodLinkNest "FlyWheels$Slip" (1 : Nat) ({ cls := "FlyWheels$Plain", name := "<init>", desc := "()V" } : Jvm.MethodName) "FlyWheels") ∈ lw_tbl := lw_at lw_m1 48 rfl
theorem q105 : (Jvm.Cond.superclass "FlyWheels$Slip" "FlyWheels$Plain") ∈ lw_all := lw_g (lw_at lw_m1 49 rfl) rfl
theorem q568 : (Jvm.Cond.selects "FlyWheels$Slip" ({ cls := "FlyWheels$Plain", name := "joined", desc := "(II)I" } : Jvm.MethodName) ({ cls := "FlyWheels$Slip", name := "joined", desc := "(II)I" } : Jvm.MethodName)) ∈ lw_all := lw_g (lw_at lw_m3 32 rfl) rfl
theorem q569 : (Jvm.Cond.instanceMethod ({ cls := "FlyWheels$Slip", name := "joined", desc := "(II)I" } : Jvm.MethodName)) ∈ lw_all := lw_g (lw_at lw_m3 33 rfl) rfl
theorem q570 : (Jvm.Cond.code ({ cls := "FlyWheels$Slip", name := "joined", desc := "(II)I" } : Jvm.MethodName) prog_7_method_2_code (3 : Nat) (Option.some Jvm.ClassFile.FieldType.int)) ∈ lw_all := lw_g (lw_at lw_m3 34 rfl) rfl
theorem q571 : (Jvm.Cond.methodLink "FlyWheels$Slip" (7 : Nat) ({ cls := "FlyWheels$Plain", name := "joined", desc := "(II)I" } : Jvm.MethodName)) ∈ lw_all := lw_g (lw_at lw_m3 35 rfl) rfl
theorem q1333 : (Jvm.Cond.castable "FlyWheels$Slip" "FlyWheels$Plain") ∈ lw_tbl := lw_at lw_m6 77 rfl
/-! FlyWheels$Take -/
set_option maxRecDepth 100000
def RX3 : String := "FlyWheels$Take"
abbrev cX3_init : ByteArray := prog_9_method_1_code
def yX3_init : MethodName := ⟨RX3, "<init>", "()V"⟩
theorem dX3_init_0 : decode cX3_init 0 = .ok (.aload_n 0, 1) := by decide +kernel
theorem dX3_init_1 : decode cX3_init 1 = .ok (.invokespecial 1, 3) := by decide +kernel
theorem dX3_init_4 : decode cX3_init 4 = .ok (.return_, 1) := by decide +kernel
abbrev cX3_joined : ByteArray := prog_9_method_2_code
def yX3_joined : MethodName := ⟨RX3, "joined", "(II)I"⟩
def dkwX3_joined_0 : List UInt8 := [27, 42, 27, 28, 183, 0, 7, 184, 0, 11, 172]
abbrev dktX3_joined_0 : List UInt8 := dkwX3_joined_0 ++ []
theorem dksX3_joined_0 : cX3_joined.data.toList.drop 0 = dktX3_joined_0 := by decide +kernel
theorem dX3_joined_0 : decode cX3_joined 0 = .ok (.iload_n 1, 1) := dk_27 (dk_at dksX3_joined_0 0 rfl rfl)
theorem dX3_joined_1 : decode cX3_joined 1 = .ok (.aload_n 0, 1) := dk_42 (dk_at dksX3_joined_0 1 rfl rfl)
theorem dX3_joined_2 : decode cX3_joined 2 = .ok (.iload_n 1, 1) := dk_27 (dk_at dksX3_joined_0 2 rfl rfl)
theorem dX3_joined_3 : decode cX3_joined 3 = .ok (.iload_n 2, 1) := dk_28 (dk_at dksX3_joined_0 3 rfl rfl)
theorem dX3_joined_4 : decode cX3_joined 4 = .ok (.invokespecial 7, 3) := dk_183 0 7 (dk_at dksX3_joined_0 4 rfl rfl)
theorem dX3_joined_7 : decode cX3_joined 7 = .ok (.invokestatic 11, 3) := dk_184 0 11 (dk_at dksX3_joined_0 7 rfl rfl)
theorem dX3_joined_10 : decode cX3_joined 10 = .ok (.ireturn, 1) := dk_172 (dk_at dksX3_joined_0 10 rfl rfl)
theorem q60 : (Jvm.Cond.initialized "FlyWheels$Take") ∈ lw_all := lw_g (lw_at lw_m1 4 rfl) rfl
theorem q107 : (Jvm.Cond.instantiable "FlyWheels$Take" (0 : Nat)) ∈ lw_all := lw_g (lw_at lw_m1 51 rfl) rfl
theorem q109 : (Jvm.Cond.instanceMethod ({ cls := "FlyWheels$Take", name := "<init>", desc := "()V" } : Jvm.MethodName)) ∈ lw_all := lw_g (lw_at lw_m1 53 rfl) rfl
theorem q110 : (Jvm.Cond.code ({ cls := "FlyWheels$Take", name := "<init>", desc := "()V" } : Jvm.MethodName) prog_9_method_1_code (1 : Nat) (Option.none : Option Jvm.ClassFile.FieldType)) ∈ lw_all := lw_g (lw_at lw_m1 54 rfl) rfl
theorem q111 : (Jvm.Cond.methodLinkNest "FlyWheels$Take" (1 : Nat) ({ cls := "FlyWheels$Plain", name := "<init>", desc := "()V" } : Jvm.MethodName) "FlyWheels") ∈ lw_tbl := lw_at lw_m1 55 rfl
theorem q112 : (Jvm.Cond.superclass "FlyWheels$Take" "FlyWheels$Plain") ∈ lw_all := lw_g (lw_at lw_m1 56 rfl) rfl
theorem q577 : (Jvm.Cond.instanceMethod ({ cls := "FlyWheels$Take", name := "joined", desc := "(II)I" } : Jvm.MethodName)) ∈ lw_all := lw_g (lw_at lw_m3 41 rfl) rfl
theorem q578 : (Jvm.Cond.code ({ cls := "FlyWheels$Take", name := "joined", desc := "(II)I" } : Jvm.MethodName) prog_9_method_2_code (3 : Nat) (Option.some Jvm.ClassFile.FieldType.int)) ∈ lw_all := lw_g (lw_at lw_m3 42 rfl) rfl
theorem q579 : (Jvm.Cond.methodLink "FlyWheels$Take" (7 : Nat) ({ cls := "FlyWheels$Plain", name := "joined", desc := "(II)I" } : Jvm.MethodName)) ∈ lw_all := lw_g (lw_at lw_m3 43 rfl) rfl
theorem q580 : (Jvm.Cond.methodLink "FlyWheels$Take" (11 : Nat) ({ cls := "java/lang/Math", name := "max", desc := "(II)I" } : Jvm.MethodName)) ∈ lw_all := lw_g (lw_at lw_m3 44 rfl) rfl
theorem q586 : (Jvm.Cond.selects "FlyWheels$Take" ({ cls := "FlyWheels$Plain", name := "joined", desc := "(II)I" } : Jvm.MethodName) ({ cls := "FlyWheels$Take", name := "joined", desc := "(II)I" } : Jvm.MethodName)) ∈ lw_all := lw_g (lw_at lw_m3 50 rfl) rfl
theorem q1331 : (Jvm.Cond.sameMethod "FlyWheels$Take" "FlyWheels$Take" "joined" "(II)I") ∈ lw_all := lw_g (lw_at lw_m6 75 rfl) rfl
theorem q1334 : (Jvm.Cond.castable "FlyWheels$Take" "FlyWheels$Plain") ∈ lw_tbl := lw_at lw_m6 78 rfl
/-! FlyWheels$Soft -/
set_option maxRecDepth 100000
def RX4 : String := "FlyWheels$Soft"
abbrev cX4_init : ByteArray := prog_8_method_1_code
def yX4_init : MethodName := ⟨RX4, "<init>", "()V"⟩
theorem dX4_init_0 : decode cX4_init 0 = .ok (.aload_n 0, 1) := by decide +kernel
theorem dX4_init_1 : decode cX4_init 1 = .ok (.invokespecial 3, 3) := by decide +kernel
theorem dX4_init_4 : decode cX4_init 4 = .ok (.return_, 1) := by decide +kernel
abbrev cX4_joined : ByteArray := prog_8_method_2_code
def yX4_joined : MethodName := ⟨RX4, "joined", "(II)I"⟩
def dkwX4_joined_0 : List UInt8 := [27, 16, 20, 96, 42, 27, 28, 183, 0, 9, 184, 0, 13, 172]
abbrev dktX4_joined_0 : List UInt8 := dkwX4_joined_0 ++ []
theorem dksX4_joined_0 : cX4_joined.data.toList.drop 0 = dktX4_joined_0 := by decide +kernel
theorem dX4_joined_0 : decode cX4_joined 0 = .ok (.iload_n 1, 1) := dk_27 (dk_at dksX4_joined_0 0 rfl rfl)
theorem dX4_joined_1 : decode cX4_joined 1 = .ok (.bipush 20, 2) := dk_16 20 (dk_at dksX4_joined_0 1 rfl rfl)
theorem dX4_joined_3 : decode cX4_joined 3 = .ok (.iadd, 1) := dk_96 (dk_at dksX4_joined_0 3 rfl rfl)
theorem dX4_joined_4 : decode cX4_joined 4 = .ok (.aload_n 0, 1) := dk_42 (dk_at dksX4_joined_0 4 rfl rfl)
theorem dX4_joined_5 : decode cX4_joined 5 = .ok (.iload_n 1, 1) := dk_27 (dk_at dksX4_joined_0 5 rfl rfl)
theorem dX4_joined_6 : decode cX4_joined 6 = .ok (.iload_n 2, 1) := dk_28 (dk_at dksX4_joined_0 6 rfl rfl)
theorem dX4_joined_7 : decode cX4_joined 7 = .ok (.invokespecial 9, 3) := dk_183 0 9 (dk_at dksX4_joined_0 7 rfl rfl)
theorem dX4_joined_10 : decode cX4_joined 10 = .ok (.invokestatic 13, 3) := dk_184 0 13 (dk_at dksX4_joined_0 10 rfl rfl)
theorem dX4_joined_13 : decode cX4_joined 13 = .ok (.ireturn, 1) := dk_172 (dk_at dksX4_joined_0 13 rfl rfl)
theorem q61 : (Jvm.Cond.initialized "FlyWheels$Soft") ∈ lw_all := lw_g (lw_at lw_m1 5 rfl) rfl
theorem q114 : (Jvm.Cond.instantiable "FlyWheels$Soft" (0 : Nat)) ∈ lw_all := lw_g (lw_at lw_m1 58 rfl) rfl
theorem q116 : (Jvm.Cond.instanceMethod ({ cls := "FlyWheels$Soft", name := "<init>", desc := "()V" } : Jvm.MethodName)) ∈ lw_all := lw_g (lw_at lw_m1 60 rfl) rfl
theorem q117 : (Jvm.Cond.code ({ cls := "FlyWheels$Soft", name := "<init>", desc := "()V" } : Jvm.MethodName) prog_8_method_1_code (1 : Nat) (Option.none : Option Jvm.ClassFile.FieldType)) ∈ lw_all := lw_g (lw_at lw_m1 61 rfl) rfl
theorem q118 : (Jvm.Cond.methodLinkNest "FlyWheels$Soft" (3 : Nat) ({ cls := "FlyWheels$Take", name := "<init>", desc := "()V" } : Jvm.MethodName) "FlyWheels") ∈ lw_tbl := lw_at lw_m1 62 rfl
theorem q119 : (Jvm.Cond.superclass "FlyWheels$Soft" "FlyWheels$Take") ∈ lw_all := lw_g (lw_at lw_m1 63 rfl) rfl
theorem q573 : (Jvm.Cond.selects "FlyWheels$Soft" ({ cls := "FlyWheels$Plain", name := "joined", desc := "(II)I" } : Jvm.MethodName) ({ cls := "FlyWheels$Soft", name := "joined", desc := "(II)I" } : Jvm.MethodName)) ∈ lw_all := lw_g (lw_at lw_m3 37 rfl) rfl
theorem q574 : (Jvm.Cond.instanceMethod ({ cls := "FlyWheels$Soft", name := "joined", desc := "(II)I" } : Jvm.MethodName)) ∈ lw_all := lw_g (lw_at lw_m3 38 rfl) rfl
theorem q575 : (Jvm.Cond.code ({ cls := "FlyWheels$Soft", name := "joined", desc := "(II)I" } : Jvm.MethodName) prog_8_method_2_code (3 : Nat) (Option.some Jvm.ClassFile.FieldType.int)) ∈ lw_all := lw_g (lw_at lw_m3 39 rfl) rfl
theorem q576 : (Jvm.Cond.methodLink "FlyWheels$Soft" (9 : Nat) ({ cls := "FlyWheels$Take", name := "joined", desc := "(II)I" } : Jvm.MethodName)) ∈ lw_all := lw_g (lw_at lw_m3 40 rfl) rfl
theorem q583 : (Jvm.Cond.methodLink "FlyWheels$Soft" (13 : Nat) ({ cls := "java/lang/Math", name := "min", desc := "(II)I" } : Jvm.MethodName)) ∈ lw_all := lw_g (lw_at lw_m3 47 rfl) rfl
theorem q1335 : (Jvm.Cond.castable "FlyWheels$Soft" "FlyWheels$Plain") ∈ lw_tbl := lw_at lw_m6 79 rfl
/-! FlyWheels$Shaft -/
set_option maxRecDepth 100000
def RX5 : String := "FlyWheels$Shaft"
def TX5 : u_T := fun k => match k with
  | 0 => ("FlyWheels$Shaft", "mass", "I", false)
  | 1 => ("FlyWheels$Shaft", "swings", "I", false)
  | 2 => ("FlyWheels$Shaft", "wheels", "I", false)
  | 3 => ("FlyWheels$Shaft", "wheel", "[LFlyWheels$Wheel;", true)
  | 4 => ("FlyWheels$Shaft", "acts", "I", false)
  | 5 => ("FlyWheels$Shaft", "act", "[S", true)
  | 6 => ("FlyWheels$Shaft", "tick", "I", false)
  | 7 => ("FlyWheels$Shaft", "done", "I", false)
  | 8 => ("FlyWheels$Shaft", "lack", "I", false)
  | 9 => ("FlyWheels$Shaft", "omitted", "I", false)
  | _ => ("FlyWheels$Shaft", "off", "I", false)
def tyX5 : Nat → FieldType := fun k => match k with
  | 0 => .int
  | 1 => .int
  | 2 => .int
  | 3 => .array (.object "FlyWheels$Wheel")
  | 4 => .int
  | 5 => .array .short
  | 6 => .int
  | 7 => .int
  | 8 => .int
  | 9 => .int
  | _ => .int
abbrev wsX50 : List Cond := u_ws RX5 TX5 11
theorem nmX5 : ∀ a, a < 11 → ∀ b, b < 11 → a ≠ b → (TX5 a).2.1 ≠ (TX5 b).2.1 := by decide +kernel
theorem tyX5_ok : ∀ k, k < 11 → parseFieldDescriptor (TX5 k).2.2.1 = some (tyX5 k) := by decide +kernel
abbrev cX5_init : ByteArray := prog_5_method_1_code
def yX5_init : MethodName := ⟨RX5, "<init>", "()V"⟩
def dkwX5_init_3 : List UInt8 := [181, 0, 26, 42, 16, 252, 181, 0, 29, 177]
abbrev dktX5_init_3 : List UInt8 := dkwX5_init_3 ++ []
def dkwX5_init_2 : List UInt8 := [187, 0, 15, 89, 183, 0, 17, 83, 181, 0, 18, 42, 16, 16, 188, 9, 181, 0, 22, 42, 16, 252]
abbrev dktX5_init_2 : List UInt8 := dkwX5_init_2 ++ dktX5_init_3
def dkwX5_init_1 : List UInt8 := [89, 4, 187, 0, 15, 89, 183, 0, 17, 83, 89, 5, 187, 0, 15, 89, 183, 0, 17, 83, 89, 6]
abbrev dktX5_init_1 : List UInt8 := dkwX5_init_1 ++ dktX5_init_2
def dkwX5_init_0 : List UInt8 := [42, 183, 0, 3, 42, 8, 181, 0, 9, 42, 7, 189, 0, 15, 89, 3, 187, 0, 15, 89, 183, 0, 17, 83]
abbrev dktX5_init_0 : List UInt8 := dkwX5_init_0 ++ dktX5_init_1
theorem dksX5_init_0 : cX5_init.data.toList.drop 0 = dktX5_init_0 := by decide +kernel
theorem dksX5_init_1 : cX5_init.data.toList.drop 24 = dktX5_init_1 := dk_seg dksX5_init_0 24 rfl rfl
theorem dksX5_init_2 : cX5_init.data.toList.drop 46 = dktX5_init_2 := dk_seg dksX5_init_1 22 rfl rfl
theorem dksX5_init_3 : cX5_init.data.toList.drop 68 = dktX5_init_3 := dk_seg dksX5_init_2 22 rfl rfl
theorem dX5_init_0 : decode cX5_init 0 = .ok (.aload_n 0, 1) := dk_42 (dk_at dksX5_init_0 0 rfl rfl)
theorem dX5_init_1 : decode cX5_init 1 = .ok (.invokespecial 3, 3) := dk_183 0 3 (dk_at dksX5_init_0 1 rfl rfl)
theorem dX5_init_4 : decode cX5_init 4 = .ok (.aload_n 0, 1) := dk_42 (dk_at dksX5_init_0 4 rfl rfl)
theorem dX5_init_5 : decode cX5_init 5 = .ok (.iconst 5, 1) := dk_8 (dk_at dksX5_init_0 5 rfl rfl)
theorem dX5_init_6 : decode cX5_init 6 = .ok (.putfield 9, 3) := dk_181 0 9 (dk_at dksX5_init_0 6 rfl rfl)
theorem dX5_init_9 : decode cX5_init 9 = .ok (.aload_n 0, 1) := dk_42 (dk_at dksX5_init_0 9 rfl rfl)
theorem dX5_init_10 : decode cX5_init 10 = .ok (.iconst 4, 1) := dk_7 (dk_at dksX5_init_0 10 rfl rfl)
theorem dX5_init_11 : decode cX5_init 11 = .ok (.anewarray 15, 3) := dk_189 0 15 (dk_at dksX5_init_0 11 rfl rfl)
theorem dX5_init_14 : decode cX5_init 14 = .ok (.dup, 1) := dk_89 (dk_at dksX5_init_0 14 rfl rfl)
theorem dX5_init_15 : decode cX5_init 15 = .ok (.iconst 0, 1) := dk_3 (dk_at dksX5_init_0 15 rfl rfl)
theorem dX5_init_16 : decode cX5_init 16 = .ok (.new 15, 3) := dk_187 0 15 (dk_at dksX5_init_0 16 rfl rfl)
theorem dX5_init_19 : decode cX5_init 19 = .ok (.dup, 1) := dk_89 (dk_at dksX5_init_0 19 rfl rfl)
theorem dX5_init_20 : decode cX5_init 20 = .ok (.invokespecial 17, 3) := dk_183 0 17 (dk_at dksX5_init_0 20 rfl rfl)
theorem dX5_init_23 : decode cX5_init 23 = .ok (.aastore, 1) := dk_83 (dk_at dksX5_init_0 23 rfl rfl)
theorem dX5_init_24 : decode cX5_init 24 = .ok (.dup, 1) := dk_89 (dk_at dksX5_init_1 0 rfl rfl)
theorem dX5_init_25 : decode cX5_init 25 = .ok (.iconst 1, 1) := dk_4 (dk_at dksX5_init_1 1 rfl rfl)
theorem dX5_init_26 : decode cX5_init 26 = .ok (.new 15, 3) := dk_187 0 15 (dk_at dksX5_init_1 2 rfl rfl)
theorem dX5_init_29 : decode cX5_init 29 = .ok (.dup, 1) := dk_89 (dk_at dksX5_init_1 5 rfl rfl)
theorem dX5_init_30 : decode cX5_init 30 = .ok (.invokespecial 17, 3) := dk_183 0 17 (dk_at dksX5_init_1 6 rfl rfl)
theorem dX5_init_33 : decode cX5_init 33 = .ok (.aastore, 1) := dk_83 (dk_at dksX5_init_1 9 rfl rfl)
theorem dX5_init_34 : decode cX5_init 34 = .ok (.dup, 1) := dk_89 (dk_at dksX5_init_1 10 rfl rfl)
theorem dX5_init_35 : decode cX5_init 35 = .ok (.iconst 2, 1) := dk_5 (dk_at dksX5_init_1 11 rfl rfl)
theorem dX5_init_36 : decode cX5_init 36 = .ok (.new 15, 3) := dk_187 0 15 (dk_at dksX5_init_1 12 rfl rfl)
theorem dX5_init_39 : decode cX5_init 39 = .ok (.dup, 1) := dk_89 (dk_at dksX5_init_1 15 rfl rfl)
theorem dX5_init_40 : decode cX5_init 40 = .ok (.invokespecial 17, 3) := dk_183 0 17 (dk_at dksX5_init_1 16 rfl rfl)
theorem dX5_init_43 : decode cX5_init 43 = .ok (.aastore, 1) := dk_83 (dk_at dksX5_init_1 19 rfl rfl)
theorem dX5_init_44 : decode cX5_init 44 = .ok (.dup, 1) := dk_89 (dk_at dksX5_init_1 20 rfl rfl)
theorem dX5_init_45 : decode cX5_init 45 = .ok (.iconst 3, 1) := dk_6 (dk_at dksX5_init_1 21 rfl rfl)
theorem dX5_init_46 : decode cX5_init 46 = .ok (.new 15, 3) := dk_187 0 15 (dk_at dksX5_init_2 0 rfl rfl)
theorem dX5_init_49 : decode cX5_init 49 = .ok (.dup, 1) := dk_89 (dk_at dksX5_init_2 3 rfl rfl)
theorem dX5_init_50 : decode cX5_init 50 = .ok (.invokespecial 17, 3) := dk_183 0 17 (dk_at dksX5_init_2 4 rfl rfl)
theorem dX5_init_53 : decode cX5_init 53 = .ok (.aastore, 1) := dk_83 (dk_at dksX5_init_2 7 rfl rfl)
theorem dX5_init_54 : decode cX5_init 54 = .ok (.putfield 18, 3) := dk_181 0 18 (dk_at dksX5_init_2 8 rfl rfl)
theorem dX5_init_57 : decode cX5_init 57 = .ok (.aload_n 0, 1) := dk_42 (dk_at dksX5_init_2 11 rfl rfl)
theorem dX5_init_58 : decode cX5_init 58 = .ok (.bipush 16, 2) := dk_16 16 (dk_at dksX5_init_2 12 rfl rfl)
theorem dX5_init_60 : decode cX5_init 60 = .ok (.newarray .short, 2) := dk_188_9 (dk_at dksX5_init_2 14 rfl rfl)
theorem dX5_init_62 : decode cX5_init 62 = .ok (.putfield 22, 3) := dk_181 0 22 (dk_at dksX5_init_2 16 rfl rfl)
theorem dX5_init_65 : decode cX5_init 65 = .ok (.aload_n 0, 1) := dk_42 (dk_at dksX5_init_2 19 rfl rfl)
theorem dX5_init_66 : decode cX5_init 66 = .ok (.bipush (-4), 2) := dk_16 252 (dk_at dksX5_init_2 20 rfl rfl)
theorem dX5_init_68 : decode cX5_init 68 = .ok (.putfield 26, 3) := dk_181 0 26 (dk_at dksX5_init_3 0 rfl rfl)
theorem dX5_init_71 : decode cX5_init 71 = .ok (.aload_n 0, 1) := dk_42 (dk_at dksX5_init_3 3 rfl rfl)
theorem dX5_init_72 : decode cX5_init 72 = .ok (.bipush (-4), 2) := dk_16 252 (dk_at dksX5_init_3 4 rfl rfl)
theorem dX5_init_74 : decode cX5_init 74 = .ok (.putfield 29, 3) := dk_181 0 29 (dk_at dksX5_init_3 6 rfl rfl)
theorem dX5_init_77 : decode cX5_init 77 = .ok (.return_, 1) := dk_177 (dk_at dksX5_init_3 9 rfl rfl)
abbrev cX5_puts : ByteArray := prog_5_method_3_code
def yX5_puts : MethodName := ⟨RX5, "puts", "(III)V"⟩
def dkwX5_puts_1 : List UInt8 := [25, 4, 29, 181, 0, 64, 25, 4, 3, 181, 0, 67, 42, 89, 180, 0, 35, 4, 96, 181, 0, 35, 177]
abbrev dktX5_puts_1 : List UInt8 := dkwX5_puts_1 ++ []
def dkwX5_puts_0 : List UInt8 := [42, 180, 0, 18, 42, 180, 0, 35, 50, 58, 4, 25, 4, 27, 181, 0, 60, 25, 4, 28, 181, 0, 63]
abbrev dktX5_puts_0 : List UInt8 := dkwX5_puts_0 ++ dktX5_puts_1
theorem dksX5_puts_0 : cX5_puts.data.toList.drop 0 = dktX5_puts_0 := by decide +kernel
theorem dksX5_puts_1 : cX5_puts.data.toList.drop 23 = dktX5_puts_1 := dk_seg dksX5_puts_0 23 rfl rfl
theorem dX5_puts_0 : decode cX5_puts 0 = .ok (.aload_n 0, 1) := dk_42 (dk_at dksX5_puts_0 0 rfl rfl)
theorem dX5_puts_1 : decode cX5_puts 1 = .ok (.getfield 18, 3) := dk_180 0 18 (dk_at dksX5_puts_0 1 rfl rfl)
theorem dX5_puts_4 : decode cX5_puts 4 = .ok (.aload_n 0, 1) := dk_42 (dk_at dksX5_puts_0 4 rfl rfl)
theorem dX5_puts_5 : decode cX5_puts 5 = .ok (.getfield 35, 3) := dk_180 0 35 (dk_at dksX5_puts_0 5 rfl rfl)
theorem dX5_puts_8 : decode cX5_puts 8 = .ok (.aaload, 1) := dk_50 (dk_at dksX5_puts_0 8 rfl rfl)
theorem dX5_puts_9 : decode cX5_puts 9 = .ok (.astore 4, 2) := dk_58 4 (dk_at dksX5_puts_0 9 rfl rfl)
theorem dX5_puts_11 : decode cX5_puts 11 = .ok (.aload 4, 2) := dk_25 4 (dk_at dksX5_puts_0 11 rfl rfl)
theorem dX5_puts_13 : decode cX5_puts 13 = .ok (.iload_n 1, 1) := dk_27 (dk_at dksX5_puts_0 13 rfl rfl)
theorem dX5_puts_14 : decode cX5_puts 14 = .ok (.putfield 60, 3) := dk_181 0 60 (dk_at dksX5_puts_0 14 rfl rfl)
theorem dX5_puts_17 : decode cX5_puts 17 = .ok (.aload 4, 2) := dk_25 4 (dk_at dksX5_puts_0 17 rfl rfl)
theorem dX5_puts_19 : decode cX5_puts 19 = .ok (.iload_n 2, 1) := dk_28 (dk_at dksX5_puts_0 19 rfl rfl)
theorem dX5_puts_20 : decode cX5_puts 20 = .ok (.putfield 63, 3) := dk_181 0 63 (dk_at dksX5_puts_0 20 rfl rfl)
theorem dX5_puts_23 : decode cX5_puts 23 = .ok (.aload 4, 2) := dk_25 4 (dk_at dksX5_puts_1 0 rfl rfl)
theorem dX5_puts_25 : decode cX5_puts 25 = .ok (.iload_n 3, 1) := dk_29 (dk_at dksX5_puts_1 2 rfl rfl)
theorem dX5_puts_26 : decode cX5_puts 26 = .ok (.putfield 64, 3) := dk_181 0 64 (dk_at dksX5_puts_1 3 rfl rfl)
theorem dX5_puts_29 : decode cX5_puts 29 = .ok (.aload 4, 2) := dk_25 4 (dk_at dksX5_puts_1 6 rfl rfl)
theorem dX5_puts_31 : decode cX5_puts 31 = .ok (.iconst 0, 1) := dk_3 (dk_at dksX5_puts_1 8 rfl rfl)
theorem dX5_puts_32 : decode cX5_puts 32 = .ok (.putfield 67, 3) := dk_181 0 67 (dk_at dksX5_puts_1 9 rfl rfl)
theorem dX5_puts_35 : decode cX5_puts 35 = .ok (.aload_n 0, 1) := dk_42 (dk_at dksX5_puts_1 12 rfl rfl)
theorem dX5_puts_36 : decode cX5_puts 36 = .ok (.dup, 1) := dk_89 (dk_at dksX5_puts_1 13 rfl rfl)
theorem dX5_puts_37 : decode cX5_puts 37 = .ok (.getfield 35, 3) := dk_180 0 35 (dk_at dksX5_puts_1 14 rfl rfl)
theorem dX5_puts_40 : decode cX5_puts 40 = .ok (.iconst 1, 1) := dk_4 (dk_at dksX5_puts_1 17 rfl rfl)
theorem dX5_puts_41 : decode cX5_puts 41 = .ok (.iadd, 1) := dk_96 (dk_at dksX5_puts_1 18 rfl rfl)
theorem dX5_puts_42 : decode cX5_puts 42 = .ok (.putfield 35, 3) := dk_181 0 35 (dk_at dksX5_puts_1 19 rfl rfl)
theorem dX5_puts_45 : decode cX5_puts 45 = .ok (.return_, 1) := dk_177 (dk_at dksX5_puts_1 22 rfl rfl)
abbrev cX5_as : ByteArray := prog_5_method_2_code
def yX5_as : MethodName := ⟨RX5, "as", "(LFlyWheels$Shaft;)V"⟩
def dkwX5_as_4 : List UInt8 := [180, 0, 57, 181, 0, 57, 42, 43, 180, 0, 26, 181, 0, 26, 42, 43, 180, 0, 29, 181, 0, 29, 177]
abbrev dktX5_as_4 : List UInt8 := dkwX5_as_4 ++ []
def dkwX5_as_3 : List UInt8 := [16, 16, 184, 0, 45, 42, 43, 180, 0, 51, 181, 0, 51, 42, 43, 180, 0, 54, 181, 0, 54, 42, 43]
abbrev dktX5_as_3 : List UInt8 := dkwX5_as_3 ++ dktX5_as_4
def dkwX5_as_2 : List UInt8 := [132, 2, 1, 167, 255, 233, 42, 43, 180, 0, 42, 181, 0, 42, 43, 180, 0, 22, 3, 42, 180, 0, 22, 3]
abbrev dktX5_as_2 : List UInt8 := dkwX5_as_2 ++ dktX5_as_3
def dkwX5_as_1 : List UInt8 := [3, 61, 28, 7, 162, 0, 24, 42, 180, 0, 18, 28, 50, 43, 180, 0, 18, 28, 50, 182, 0, 38]
abbrev dktX5_as_1 : List UInt8 := dkwX5_as_1 ++ dktX5_as_2
def dkwX5_as_0 : List UInt8 := [42, 43, 180, 0, 9, 181, 0, 9, 42, 43, 180, 0, 32, 181, 0, 32, 42, 43, 180, 0, 35, 181, 0, 35]
abbrev dktX5_as_0 : List UInt8 := dkwX5_as_0 ++ dktX5_as_1
theorem dksX5_as_0 : cX5_as.data.toList.drop 0 = dktX5_as_0 := by decide +kernel
theorem dksX5_as_1 : cX5_as.data.toList.drop 24 = dktX5_as_1 := dk_seg dksX5_as_0 24 rfl rfl
theorem dksX5_as_2 : cX5_as.data.toList.drop 46 = dktX5_as_2 := dk_seg dksX5_as_1 22 rfl rfl
theorem dksX5_as_3 : cX5_as.data.toList.drop 70 = dktX5_as_3 := dk_seg dksX5_as_2 24 rfl rfl
theorem dksX5_as_4 : cX5_as.data.toList.drop 93 = dktX5_as_4 := dk_seg dksX5_as_3 23 rfl rfl
theorem dX5_as_0 : decode cX5_as 0 = .ok (.aload_n 0, 1) := dk_42 (dk_at dksX5_as_0 0 rfl rfl)
theorem dX5_as_1 : decode cX5_as 1 = .ok (.aload_n 1, 1) := dk_43 (dk_at dksX5_as_0 1 rfl rfl)
theorem dX5_as_2 : decode cX5_as 2 = .ok (.getfield 9, 3) := dk_180 0 9 (dk_at dksX5_as_0 2 rfl rfl)
theorem dX5_as_5 : decode cX5_as 5 = .ok (.putfield 9, 3) := dk_181 0 9 (dk_at dksX5_as_0 5 rfl rfl)
theorem dX5_as_8 : decode cX5_as 8 = .ok (.aload_n 0, 1) := dk_42 (dk_at dksX5_as_0 8 rfl rfl)
theorem dX5_as_9 : decode cX5_as 9 = .ok (.aload_n 1, 1) := dk_43 (dk_at dksX5_as_0 9 rfl rfl)
theorem dX5_as_10 : decode cX5_as 10 = .ok (.getfield 32, 3) := dk_180 0 32 (dk_at dksX5_as_0 10 rfl rfl)
theorem dX5_as_13 : decode cX5_as 13 = .ok (.putfield 32, 3) := dk_181 0 32 (dk_at dksX5_as_0 13 rfl rfl)
theorem dX5_as_16 : decode cX5_as 16 = .ok (.aload_n 0, 1) := dk_42 (dk_at dksX5_as_0 16 rfl rfl)
theorem dX5_as_17 : decode cX5_as 17 = .ok (.aload_n 1, 1) := dk_43 (dk_at dksX5_as_0 17 rfl rfl)
theorem dX5_as_18 : decode cX5_as 18 = .ok (.getfield 35, 3) := dk_180 0 35 (dk_at dksX5_as_0 18 rfl rfl)
theorem dX5_as_21 : decode cX5_as 21 = .ok (.putfield 35, 3) := dk_181 0 35 (dk_at dksX5_as_0 21 rfl rfl)
theorem dX5_as_24 : decode cX5_as 24 = .ok (.iconst 0, 1) := dk_3 (dk_at dksX5_as_1 0 rfl rfl)
theorem dX5_as_25 : decode cX5_as 25 = .ok (.istore_n 2, 1) := dk_61 (dk_at dksX5_as_1 1 rfl rfl)
theorem dX5_as_26 : decode cX5_as 26 = .ok (.iload_n 2, 1) := dk_28 (dk_at dksX5_as_1 2 rfl rfl)
theorem dX5_as_27 : decode cX5_as 27 = .ok (.iconst 4, 1) := dk_7 (dk_at dksX5_as_1 3 rfl rfl)
theorem dX5_as_28 : decode cX5_as 28 = .ok (.if_icmp .ge 24, 3) := dk_162 0 24 (dk_at dksX5_as_1 4 rfl rfl)
theorem dX5_as_31 : decode cX5_as 31 = .ok (.aload_n 0, 1) := dk_42 (dk_at dksX5_as_1 7 rfl rfl)
theorem dX5_as_32 : decode cX5_as 32 = .ok (.getfield 18, 3) := dk_180 0 18 (dk_at dksX5_as_1 8 rfl rfl)
theorem dX5_as_35 : decode cX5_as 35 = .ok (.iload_n 2, 1) := dk_28 (dk_at dksX5_as_1 11 rfl rfl)
theorem dX5_as_36 : decode cX5_as 36 = .ok (.aaload, 1) := dk_50 (dk_at dksX5_as_1 12 rfl rfl)
theorem dX5_as_37 : decode cX5_as 37 = .ok (.aload_n 1, 1) := dk_43 (dk_at dksX5_as_1 13 rfl rfl)
theorem dX5_as_38 : decode cX5_as 38 = .ok (.getfield 18, 3) := dk_180 0 18 (dk_at dksX5_as_1 14 rfl rfl)
theorem dX5_as_41 : decode cX5_as 41 = .ok (.iload_n 2, 1) := dk_28 (dk_at dksX5_as_1 17 rfl rfl)
theorem dX5_as_42 : decode cX5_as 42 = .ok (.aaload, 1) := dk_50 (dk_at dksX5_as_1 18 rfl rfl)
theorem dX5_as_43 : decode cX5_as 43 = .ok (.invokevirtual 38, 3) := dk_182 0 38 (dk_at dksX5_as_1 19 rfl rfl)
theorem dX5_as_46 : decode cX5_as 46 = .ok (.iinc 2 1, 3) := dk_132 2 1 (dk_at dksX5_as_2 0 rfl rfl)
theorem dX5_as_49 : decode cX5_as 49 = .ok (.goto (-23), 3) := dk_167 255 233 (dk_at dksX5_as_2 3 rfl rfl)
theorem dX5_as_52 : decode cX5_as 52 = .ok (.aload_n 0, 1) := dk_42 (dk_at dksX5_as_2 6 rfl rfl)
theorem dX5_as_53 : decode cX5_as 53 = .ok (.aload_n 1, 1) := dk_43 (dk_at dksX5_as_2 7 rfl rfl)
theorem dX5_as_54 : decode cX5_as 54 = .ok (.getfield 42, 3) := dk_180 0 42 (dk_at dksX5_as_2 8 rfl rfl)
theorem dX5_as_57 : decode cX5_as 57 = .ok (.putfield 42, 3) := dk_181 0 42 (dk_at dksX5_as_2 11 rfl rfl)
theorem dX5_as_60 : decode cX5_as 60 = .ok (.aload_n 1, 1) := dk_43 (dk_at dksX5_as_2 14 rfl rfl)
theorem dX5_as_61 : decode cX5_as 61 = .ok (.getfield 22, 3) := dk_180 0 22 (dk_at dksX5_as_2 15 rfl rfl)
theorem dX5_as_64 : decode cX5_as 64 = .ok (.iconst 0, 1) := dk_3 (dk_at dksX5_as_2 18 rfl rfl)
theorem dX5_as_65 : decode cX5_as 65 = .ok (.aload_n 0, 1) := dk_42 (dk_at dksX5_as_2 19 rfl rfl)
theorem dX5_as_66 : decode cX5_as 66 = .ok (.getfield 22, 3) := dk_180 0 22 (dk_at dksX5_as_2 20 rfl rfl)
theorem dX5_as_69 : decode cX5_as 69 = .ok (.iconst 0, 1) := dk_3 (dk_at dksX5_as_2 23 rfl rfl)
theorem dX5_as_70 : decode cX5_as 70 = .ok (.bipush 16, 2) := dk_16 16 (dk_at dksX5_as_3 0 rfl rfl)
theorem dX5_as_72 : decode cX5_as 72 = .ok (.invokestatic 45, 3) := dk_184 0 45 (dk_at dksX5_as_3 2 rfl rfl)
theorem dX5_as_75 : decode cX5_as 75 = .ok (.aload_n 0, 1) := dk_42 (dk_at dksX5_as_3 5 rfl rfl)
theorem dX5_as_76 : decode cX5_as 76 = .ok (.aload_n 1, 1) := dk_43 (dk_at dksX5_as_3 6 rfl rfl)
theorem dX5_as_77 : decode cX5_as 77 = .ok (.getfield 51, 3) := dk_180 0 51 (dk_at dksX5_as_3 7 rfl rfl)
theorem dX5_as_80 : decode cX5_as 80 = .ok (.putfield 51, 3) := dk_181 0 51 (dk_at dksX5_as_3 10 rfl rfl)
theorem dX5_as_83 : decode cX5_as 83 = .ok (.aload_n 0, 1) := dk_42 (dk_at dksX5_as_3 13 rfl rfl)
theorem dX5_as_84 : decode cX5_as 84 = .ok (.aload_n 1, 1) := dk_43 (dk_at dksX5_as_3 14 rfl rfl)
theorem dX5_as_85 : decode cX5_as 85 = .ok (.getfield 54, 3) := dk_180 0 54 (dk_at dksX5_as_3 15 rfl rfl)
theorem dX5_as_88 : decode cX5_as 88 = .ok (.putfield 54, 3) := dk_181 0 54 (dk_at dksX5_as_3 18 rfl rfl)
theorem dX5_as_91 : decode cX5_as 91 = .ok (.aload_n 0, 1) := dk_42 (dk_at dksX5_as_3 21 rfl rfl)
theorem dX5_as_92 : decode cX5_as 92 = .ok (.aload_n 1, 1) := dk_43 (dk_at dksX5_as_3 22 rfl rfl)
theorem dX5_as_93 : decode cX5_as 93 = .ok (.getfield 57, 3) := dk_180 0 57 (dk_at dksX5_as_4 0 rfl rfl)
theorem dX5_as_96 : decode cX5_as 96 = .ok (.putfield 57, 3) := dk_181 0 57 (dk_at dksX5_as_4 3 rfl rfl)
theorem dX5_as_99 : decode cX5_as 99 = .ok (.aload_n 0, 1) := dk_42 (dk_at dksX5_as_4 6 rfl rfl)
theorem dX5_as_100 : decode cX5_as 100 = .ok (.aload_n 1, 1) := dk_43 (dk_at dksX5_as_4 7 rfl rfl)
theorem dX5_as_101 : decode cX5_as 101 = .ok (.getfield 26, 3) := dk_180 0 26 (dk_at dksX5_as_4 8 rfl rfl)
theorem dX5_as_104 : decode cX5_as 104 = .ok (.putfield 26, 3) := dk_181 0 26 (dk_at dksX5_as_4 11 rfl rfl)
theorem dX5_as_107 : decode cX5_as 107 = .ok (.aload_n 0, 1) := dk_42 (dk_at dksX5_as_4 14 rfl rfl)
theorem dX5_as_108 : decode cX5_as 108 = .ok (.aload_n 1, 1) := dk_43 (dk_at dksX5_as_4 15 rfl rfl)
theorem dX5_as_109 : decode cX5_as 109 = .ok (.getfield 29, 3) := dk_180 0 29 (dk_at dksX5_as_4 16 rfl rfl)
theorem dX5_as_112 : decode cX5_as 112 = .ok (.putfield 29, 3) := dk_181 0 29 (dk_at dksX5_as_4 19 rfl rfl)
theorem dX5_as_115 : decode cX5_as 115 = .ok (.return_, 1) := dk_177 (dk_at dksX5_as_4 22 rfl rfl)
abbrev cX5_speed : ByteArray := prog_5_method_6_code
def yX5_speed : MethodName := ⟨RX5, "speed", "()I"⟩
def dkwX5_speed_0 : List UInt8 := [42, 180, 0, 32, 42, 180, 0, 9, 108, 172]
abbrev dktX5_speed_0 : List UInt8 := dkwX5_speed_0 ++ []
theorem dksX5_speed_0 : cX5_speed.data.toList.drop 0 = dktX5_speed_0 := by decide +kernel
theorem dX5_speed_0 : decode cX5_speed 0 = .ok (.aload_n 0, 1) := dk_42 (dk_at dksX5_speed_0 0 rfl rfl)
theorem dX5_speed_1 : decode cX5_speed 1 = .ok (.getfield 32, 3) := dk_180 0 32 (dk_at dksX5_speed_0 1 rfl rfl)
theorem dX5_speed_4 : decode cX5_speed 4 = .ok (.aload_n 0, 1) := dk_42 (dk_at dksX5_speed_0 4 rfl rfl)
theorem dX5_speed_5 : decode cX5_speed 5 = .ok (.getfield 9, 3) := dk_180 0 9 (dk_at dksX5_speed_0 5 rfl rfl)
theorem dX5_speed_8 : decode cX5_speed 8 = .ok (.idiv, 1) := dk_108 (dk_at dksX5_speed_0 8 rfl rfl)
theorem dX5_speed_9 : decode cX5_speed 9 = .ok (.ireturn, 1) := dk_172 (dk_at dksX5_speed_0 9 rfl rfl)
abbrev cX5_next : ByteArray := prog_5_method_4_code
def yX5_next : MethodName := ⟨RX5, "next", "()I"⟩
def dkwX5_next_0 : List UInt8 := [42, 180, 0, 42, 154, 0, 8, 16, 252, 167, 0, 12, 42, 180, 0, 51, 42, 180, 0, 42, 112, 172]
abbrev dktX5_next_0 : List UInt8 := dkwX5_next_0 ++ []
theorem dksX5_next_0 : cX5_next.data.toList.drop 0 = dktX5_next_0 := by decide +kernel
theorem dX5_next_0 : decode cX5_next 0 = .ok (.aload_n 0, 1) := dk_42 (dk_at dksX5_next_0 0 rfl rfl)
theorem dX5_next_1 : decode cX5_next 1 = .ok (.getfield 42, 3) := dk_180 0 42 (dk_at dksX5_next_0 1 rfl rfl)
theorem dX5_next_4 : decode cX5_next 4 = .ok (.ifCond .ne 8, 3) := dk_154 0 8 (dk_at dksX5_next_0 4 rfl rfl)
theorem dX5_next_7 : decode cX5_next 7 = .ok (.bipush (-4), 2) := dk_16 252 (dk_at dksX5_next_0 7 rfl rfl)
theorem dX5_next_9 : decode cX5_next 9 = .ok (.goto 12, 3) := dk_167 0 12 (dk_at dksX5_next_0 9 rfl rfl)
theorem dX5_next_12 : decode cX5_next 12 = .ok (.aload_n 0, 1) := dk_42 (dk_at dksX5_next_0 12 rfl rfl)
theorem dX5_next_13 : decode cX5_next 13 = .ok (.getfield 51, 3) := dk_180 0 51 (dk_at dksX5_next_0 13 rfl rfl)
theorem dX5_next_16 : decode cX5_next 16 = .ok (.aload_n 0, 1) := dk_42 (dk_at dksX5_next_0 16 rfl rfl)
theorem dX5_next_17 : decode cX5_next 17 = .ok (.getfield 42, 3) := dk_180 0 42 (dk_at dksX5_next_0 17 rfl rfl)
theorem dX5_next_20 : decode cX5_next 20 = .ok (.irem, 1) := dk_112 (dk_at dksX5_next_0 20 rfl rfl)
theorem dX5_next_21 : decode cX5_next 21 = .ok (.ireturn, 1) := dk_172 (dk_at dksX5_next_0 21 rfl rfl)
abbrev cX5_evenOf : ByteArray := prog_5_method_5_code
def yX5_evenOf : MethodName := ⟨RX5, "evenOf", "(I)I"⟩
def dkwX5_evenOf_1 : List UInt8 := [42, 180, 0, 9, 42, 180, 0, 18, 27, 50, 180, 0, 63, 96, 108, 172]
abbrev dktX5_evenOf_1 : List UInt8 := dkwX5_evenOf_1 ++ []
def dkwX5_evenOf_0 : List UInt8 := [42, 180, 0, 32, 42, 180, 0, 18, 27, 50, 180, 0, 67, 96, 42, 180, 0, 18, 27, 50, 180, 0, 63, 104]
abbrev dktX5_evenOf_0 : List UInt8 := dkwX5_evenOf_0 ++ dktX5_evenOf_1
theorem dksX5_evenOf_0 : cX5_evenOf.data.toList.drop 0 = dktX5_evenOf_0 := by decide +kernel
theorem dksX5_evenOf_1 : cX5_evenOf.data.toList.drop 24 = dktX5_evenOf_1 := dk_seg dksX5_evenOf_0 24 rfl rfl
theorem dX5_evenOf_0 : decode cX5_evenOf 0 = .ok (.aload_n 0, 1) := dk_42 (dk_at dksX5_evenOf_0 0 rfl rfl)
theorem dX5_evenOf_1 : decode cX5_evenOf 1 = .ok (.getfield 32, 3) := dk_180 0 32 (dk_at dksX5_evenOf_0 1 rfl rfl)
theorem dX5_evenOf_4 : decode cX5_evenOf 4 = .ok (.aload_n 0, 1) := dk_42 (dk_at dksX5_evenOf_0 4 rfl rfl)
theorem dX5_evenOf_5 : decode cX5_evenOf 5 = .ok (.getfield 18, 3) := dk_180 0 18 (dk_at dksX5_evenOf_0 5 rfl rfl)
theorem dX5_evenOf_8 : decode cX5_evenOf 8 = .ok (.iload_n 1, 1) := dk_27 (dk_at dksX5_evenOf_0 8 rfl rfl)
theorem dX5_evenOf_9 : decode cX5_evenOf 9 = .ok (.aaload, 1) := dk_50 (dk_at dksX5_evenOf_0 9 rfl rfl)
theorem dX5_evenOf_10 : decode cX5_evenOf 10 = .ok (.getfield 67, 3) := dk_180 0 67 (dk_at dksX5_evenOf_0 10 rfl rfl)
theorem dX5_evenOf_13 : decode cX5_evenOf 13 = .ok (.iadd, 1) := dk_96 (dk_at dksX5_evenOf_0 13 rfl rfl)
theorem dX5_evenOf_14 : decode cX5_evenOf 14 = .ok (.aload_n 0, 1) := dk_42 (dk_at dksX5_evenOf_0 14 rfl rfl)
theorem dX5_evenOf_15 : decode cX5_evenOf 15 = .ok (.getfield 18, 3) := dk_180 0 18 (dk_at dksX5_evenOf_0 15 rfl rfl)
theorem dX5_evenOf_18 : decode cX5_evenOf 18 = .ok (.iload_n 1, 1) := dk_27 (dk_at dksX5_evenOf_0 18 rfl rfl)
theorem dX5_evenOf_19 : decode cX5_evenOf 19 = .ok (.aaload, 1) := dk_50 (dk_at dksX5_evenOf_0 19 rfl rfl)
theorem dX5_evenOf_20 : decode cX5_evenOf 20 = .ok (.getfield 63, 3) := dk_180 0 63 (dk_at dksX5_evenOf_0 20 rfl rfl)
theorem dX5_evenOf_23 : decode cX5_evenOf 23 = .ok (.imul, 1) := dk_104 (dk_at dksX5_evenOf_0 23 rfl rfl)
theorem dX5_evenOf_24 : decode cX5_evenOf 24 = .ok (.aload_n 0, 1) := dk_42 (dk_at dksX5_evenOf_1 0 rfl rfl)
theorem dX5_evenOf_25 : decode cX5_evenOf 25 = .ok (.getfield 9, 3) := dk_180 0 9 (dk_at dksX5_evenOf_1 1 rfl rfl)
theorem dX5_evenOf_28 : decode cX5_evenOf 28 = .ok (.aload_n 0, 1) := dk_42 (dk_at dksX5_evenOf_1 4 rfl rfl)
theorem dX5_evenOf_29 : decode cX5_evenOf 29 = .ok (.getfield 18, 3) := dk_180 0 18 (dk_at dksX5_evenOf_1 5 rfl rfl)
theorem dX5_evenOf_32 : decode cX5_evenOf 32 = .ok (.iload_n 1, 1) := dk_27 (dk_at dksX5_evenOf_1 8 rfl rfl)
theorem dX5_evenOf_33 : decode cX5_evenOf 33 = .ok (.aaload, 1) := dk_50 (dk_at dksX5_evenOf_1 9 rfl rfl)
theorem dX5_evenOf_34 : decode cX5_evenOf 34 = .ok (.getfield 63, 3) := dk_180 0 63 (dk_at dksX5_evenOf_1 10 rfl rfl)
theorem dX5_evenOf_37 : decode cX5_evenOf 37 = .ok (.iadd, 1) := dk_96 (dk_at dksX5_evenOf_1 13 rfl rfl)
theorem dX5_evenOf_38 : decode cX5_evenOf 38 = .ok (.idiv, 1) := dk_108 (dk_at dksX5_evenOf_1 14 rfl rfl)
theorem dX5_evenOf_39 : decode cX5_evenOf 39 = .ok (.ireturn, 1) := dk_172 (dk_at dksX5_evenOf_1 15 rfl rfl)
abbrev cX5_all : ByteArray := prog_5_method_7_code
def yX5_all : MethodName := ⟨RX5, "all", "()I"⟩
def dkwX5_all_1 : List UInt8 := [180, 0, 67, 96, 60, 132, 2, 1, 167, 255, 233, 27, 172]
abbrev dktX5_all_1 : List UInt8 := dkwX5_all_1 ++ []
def dkwX5_all_0 : List UInt8 := [42, 180, 0, 32, 60, 3, 61, 28, 42, 180, 0, 35, 162, 0, 21, 27, 42, 180, 0, 18, 28, 50]
abbrev dktX5_all_0 : List UInt8 := dkwX5_all_0 ++ dktX5_all_1
theorem dksX5_all_0 : cX5_all.data.toList.drop 0 = dktX5_all_0 := by decide +kernel
theorem dksX5_all_1 : cX5_all.data.toList.drop 22 = dktX5_all_1 := dk_seg dksX5_all_0 22 rfl rfl
theorem dX5_all_0 : decode cX5_all 0 = .ok (.aload_n 0, 1) := dk_42 (dk_at dksX5_all_0 0 rfl rfl)
theorem dX5_all_1 : decode cX5_all 1 = .ok (.getfield 32, 3) := dk_180 0 32 (dk_at dksX5_all_0 1 rfl rfl)
theorem dX5_all_4 : decode cX5_all 4 = .ok (.istore_n 1, 1) := dk_60 (dk_at dksX5_all_0 4 rfl rfl)
theorem dX5_all_5 : decode cX5_all 5 = .ok (.iconst 0, 1) := dk_3 (dk_at dksX5_all_0 5 rfl rfl)
theorem dX5_all_6 : decode cX5_all 6 = .ok (.istore_n 2, 1) := dk_61 (dk_at dksX5_all_0 6 rfl rfl)
theorem dX5_all_7 : decode cX5_all 7 = .ok (.iload_n 2, 1) := dk_28 (dk_at dksX5_all_0 7 rfl rfl)
theorem dX5_all_8 : decode cX5_all 8 = .ok (.aload_n 0, 1) := dk_42 (dk_at dksX5_all_0 8 rfl rfl)
theorem dX5_all_9 : decode cX5_all 9 = .ok (.getfield 35, 3) := dk_180 0 35 (dk_at dksX5_all_0 9 rfl rfl)
theorem dX5_all_12 : decode cX5_all 12 = .ok (.if_icmp .ge 21, 3) := dk_162 0 21 (dk_at dksX5_all_0 12 rfl rfl)
theorem dX5_all_15 : decode cX5_all 15 = .ok (.iload_n 1, 1) := dk_27 (dk_at dksX5_all_0 15 rfl rfl)
theorem dX5_all_16 : decode cX5_all 16 = .ok (.aload_n 0, 1) := dk_42 (dk_at dksX5_all_0 16 rfl rfl)
theorem dX5_all_17 : decode cX5_all 17 = .ok (.getfield 18, 3) := dk_180 0 18 (dk_at dksX5_all_0 17 rfl rfl)
theorem dX5_all_20 : decode cX5_all 20 = .ok (.iload_n 2, 1) := dk_28 (dk_at dksX5_all_0 20 rfl rfl)
theorem dX5_all_21 : decode cX5_all 21 = .ok (.aaload, 1) := dk_50 (dk_at dksX5_all_0 21 rfl rfl)
theorem dX5_all_22 : decode cX5_all 22 = .ok (.getfield 67, 3) := dk_180 0 67 (dk_at dksX5_all_1 0 rfl rfl)
theorem dX5_all_25 : decode cX5_all 25 = .ok (.iadd, 1) := dk_96 (dk_at dksX5_all_1 3 rfl rfl)
theorem dX5_all_26 : decode cX5_all 26 = .ok (.istore_n 1, 1) := dk_60 (dk_at dksX5_all_1 4 rfl rfl)
theorem dX5_all_27 : decode cX5_all 27 = .ok (.iinc 2 1, 3) := dk_132 2 1 (dk_at dksX5_all_1 5 rfl rfl)
theorem dX5_all_30 : decode cX5_all 30 = .ok (.goto (-23), 3) := dk_167 255 233 (dk_at dksX5_all_1 8 rfl rfl)
theorem dX5_all_33 : decode cX5_all 33 = .ok (.iload_n 1, 1) := dk_27 (dk_at dksX5_all_1 11 rfl rfl)
theorem dX5_all_34 : decode cX5_all 34 = .ok (.ireturn, 1) := dk_172 (dk_at dksX5_all_1 12 rfl rfl)
abbrev cX5_isLike : ByteArray := prog_5_method_8_code
def yX5_isLike : MethodName := ⟨RX5, "isLike", "(LFlyWheels$Shaft;)Z"⟩
def dkwX5_isLike_3 : List UInt8 := [132, 3, 1, 167, 255, 216, 28, 172]
abbrev dktX5_isLike_3 : List UInt8 := dkwX5_isLike_3 ++ []
def dkwX5_isLike_2 : List UInt8 := [180, 0, 67, 43, 180, 0, 18, 29, 50, 180, 0, 67, 160, 0, 7, 4, 167, 0, 4, 3, 126, 61]
abbrev dktX5_isLike_2 : List UInt8 := dkwX5_isLike_2 ++ dktX5_isLike_3
def dkwX5_isLike_1 : List UInt8 := [167, 0, 4, 3, 61, 3, 62, 29, 42, 180, 0, 35, 162, 0, 38, 28, 42, 180, 0, 18, 29, 50]
abbrev dktX5_isLike_1 : List UInt8 := dkwX5_isLike_1 ++ dktX5_isLike_2
def dkwX5_isLike_0 : List UInt8 := [42, 182, 0, 68, 43, 182, 0, 68, 160, 0, 18, 42, 180, 0, 32, 43, 180, 0, 32, 160, 0, 7, 4]
abbrev dktX5_isLike_0 : List UInt8 := dkwX5_isLike_0 ++ dktX5_isLike_1
theorem dksX5_isLike_0 : cX5_isLike.data.toList.drop 0 = dktX5_isLike_0 := by decide +kernel
theorem dksX5_isLike_1 : cX5_isLike.data.toList.drop 23 = dktX5_isLike_1 := dk_seg dksX5_isLike_0 23 rfl rfl
theorem dksX5_isLike_2 : cX5_isLike.data.toList.drop 45 = dktX5_isLike_2 := dk_seg dksX5_isLike_1 22 rfl rfl
theorem dksX5_isLike_3 : cX5_isLike.data.toList.drop 67 = dktX5_isLike_3 := dk_seg dksX5_isLike_2 22 rfl rfl
theorem dX5_isLike_0 : decode cX5_isLike 0 = .ok (.aload_n 0, 1) := dk_42 (dk_at dksX5_isLike_0 0 rfl rfl)
theorem dX5_isLike_1 : decode cX5_isLike 1 = .ok (.invokevirtual 68, 3) := dk_182 0 68 (dk_at dksX5_isLike_0 1 rfl rfl)
theorem dX5_isLike_4 : decode cX5_isLike 4 = .ok (.aload_n 1, 1) := dk_43 (dk_at dksX5_isLike_0 4 rfl rfl)
theorem dX5_isLike_5 : decode cX5_isLike 5 = .ok (.invokevirtual 68, 3) := dk_182 0 68 (dk_at dksX5_isLike_0 5 rfl rfl)
theorem dX5_isLike_8 : decode cX5_isLike 8 = .ok (.if_icmp .ne 18, 3) := dk_160 0 18 (dk_at dksX5_isLike_0 8 rfl rfl)
theorem dX5_isLike_11 : decode cX5_isLike 11 = .ok (.aload_n 0, 1) := dk_42 (dk_at dksX5_isLike_0 11 rfl rfl)
theorem dX5_isLike_12 : decode cX5_isLike 12 = .ok (.getfield 32, 3) := dk_180 0 32 (dk_at dksX5_isLike_0 12 rfl rfl)
theorem dX5_isLike_15 : decode cX5_isLike 15 = .ok (.aload_n 1, 1) := dk_43 (dk_at dksX5_isLike_0 15 rfl rfl)
theorem dX5_isLike_16 : decode cX5_isLike 16 = .ok (.getfield 32, 3) := dk_180 0 32 (dk_at dksX5_isLike_0 16 rfl rfl)
theorem dX5_isLike_19 : decode cX5_isLike 19 = .ok (.if_icmp .ne 7, 3) := dk_160 0 7 (dk_at dksX5_isLike_0 19 rfl rfl)
theorem dX5_isLike_22 : decode cX5_isLike 22 = .ok (.iconst 1, 1) := dk_4 (dk_at dksX5_isLike_0 22 rfl rfl)
theorem dX5_isLike_23 : decode cX5_isLike 23 = .ok (.goto 4, 3) := dk_167 0 4 (dk_at dksX5_isLike_1 0 rfl rfl)
theorem dX5_isLike_26 : decode cX5_isLike 26 = .ok (.iconst 0, 1) := dk_3 (dk_at dksX5_isLike_1 3 rfl rfl)
theorem dX5_isLike_27 : decode cX5_isLike 27 = .ok (.istore_n 2, 1) := dk_61 (dk_at dksX5_isLike_1 4 rfl rfl)
theorem dX5_isLike_28 : decode cX5_isLike 28 = .ok (.iconst 0, 1) := dk_3 (dk_at dksX5_isLike_1 5 rfl rfl)
theorem dX5_isLike_29 : decode cX5_isLike 29 = .ok (.istore_n 3, 1) := dk_62 (dk_at dksX5_isLike_1 6 rfl rfl)
theorem dX5_isLike_30 : decode cX5_isLike 30 = .ok (.iload_n 3, 1) := dk_29 (dk_at dksX5_isLike_1 7 rfl rfl)
theorem dX5_isLike_31 : decode cX5_isLike 31 = .ok (.aload_n 0, 1) := dk_42 (dk_at dksX5_isLike_1 8 rfl rfl)
theorem dX5_isLike_32 : decode cX5_isLike 32 = .ok (.getfield 35, 3) := dk_180 0 35 (dk_at dksX5_isLike_1 9 rfl rfl)
theorem dX5_isLike_35 : decode cX5_isLike 35 = .ok (.if_icmp .ge 38, 3) := dk_162 0 38 (dk_at dksX5_isLike_1 12 rfl rfl)
theorem dX5_isLike_38 : decode cX5_isLike 38 = .ok (.iload_n 2, 1) := dk_28 (dk_at dksX5_isLike_1 15 rfl rfl)
theorem dX5_isLike_39 : decode cX5_isLike 39 = .ok (.aload_n 0, 1) := dk_42 (dk_at dksX5_isLike_1 16 rfl rfl)
theorem dX5_isLike_40 : decode cX5_isLike 40 = .ok (.getfield 18, 3) := dk_180 0 18 (dk_at dksX5_isLike_1 17 rfl rfl)
theorem dX5_isLike_43 : decode cX5_isLike 43 = .ok (.iload_n 3, 1) := dk_29 (dk_at dksX5_isLike_1 20 rfl rfl)
theorem dX5_isLike_44 : decode cX5_isLike 44 = .ok (.aaload, 1) := dk_50 (dk_at dksX5_isLike_1 21 rfl rfl)
theorem dX5_isLike_45 : decode cX5_isLike 45 = .ok (.getfield 67, 3) := dk_180 0 67 (dk_at dksX5_isLike_2 0 rfl rfl)
theorem dX5_isLike_48 : decode cX5_isLike 48 = .ok (.aload_n 1, 1) := dk_43 (dk_at dksX5_isLike_2 3 rfl rfl)
theorem dX5_isLike_49 : decode cX5_isLike 49 = .ok (.getfield 18, 3) := dk_180 0 18 (dk_at dksX5_isLike_2 4 rfl rfl)
theorem dX5_isLike_52 : decode cX5_isLike 52 = .ok (.iload_n 3, 1) := dk_29 (dk_at dksX5_isLike_2 7 rfl rfl)
theorem dX5_isLike_53 : decode cX5_isLike 53 = .ok (.aaload, 1) := dk_50 (dk_at dksX5_isLike_2 8 rfl rfl)
theorem dX5_isLike_54 : decode cX5_isLike 54 = .ok (.getfield 67, 3) := dk_180 0 67 (dk_at dksX5_isLike_2 9 rfl rfl)
theorem dX5_isLike_57 : decode cX5_isLike 57 = .ok (.if_icmp .ne 7, 3) := dk_160 0 7 (dk_at dksX5_isLike_2 12 rfl rfl)
theorem dX5_isLike_60 : decode cX5_isLike 60 = .ok (.iconst 1, 1) := dk_4 (dk_at dksX5_isLike_2 15 rfl rfl)
theorem dX5_isLike_61 : decode cX5_isLike 61 = .ok (.goto 4, 3) := dk_167 0 4 (dk_at dksX5_isLike_2 16 rfl rfl)
theorem dX5_isLike_64 : decode cX5_isLike 64 = .ok (.iconst 0, 1) := dk_3 (dk_at dksX5_isLike_2 19 rfl rfl)
theorem dX5_isLike_65 : decode cX5_isLike 65 = .ok (.iand, 1) := dk_126 (dk_at dksX5_isLike_2 20 rfl rfl)
theorem dX5_isLike_66 : decode cX5_isLike 66 = .ok (.istore_n 2, 1) := dk_61 (dk_at dksX5_isLike_2 21 rfl rfl)
theorem dX5_isLike_67 : decode cX5_isLike 67 = .ok (.iinc 3 1, 3) := dk_132 3 1 (dk_at dksX5_isLike_3 0 rfl rfl)
theorem dX5_isLike_70 : decode cX5_isLike 70 = .ok (.goto (-40), 3) := dk_167 255 216 (dk_at dksX5_isLike_3 3 rfl rfl)
theorem dX5_isLike_73 : decode cX5_isLike 73 = .ok (.iload_n 2, 1) := dk_28 (dk_at dksX5_isLike_3 6 rfl rfl)
theorem dX5_isLike_74 : decode cX5_isLike 74 = .ok (.ireturn, 1) := dk_172 (dk_at dksX5_isLike_3 7 rfl rfl)
theorem q62 : (Jvm.Cond.initialized "FlyWheels$Shaft") ∈ lw_all := lw_g (lw_at lw_m1 6 rfl) rfl
theorem q121 : (Jvm.Cond.instantiable "FlyWheels$Shaft" (11 : Nat)) ∈ lw_all := lw_g (lw_at lw_m1 65 rfl) rfl
theorem q123 : (Jvm.Cond.instanceMethod ({ cls := "FlyWheels$Shaft", name := "<init>", desc := "()V" } : Jvm.MethodName)) ∈ lw_all := lw_g (lw_at lw_m1 67 rfl) rfl
theorem q124 : (Jvm.Cond.code ({ cls := "FlyWheels$Shaft", name := "<init>", desc := "()V" } : Jvm.MethodName) prog_5_method_1_code (1 : Nat) (Option.none : Option Jvm.ClassFile.FieldType)) ∈ lw_all := lw_g (lw_at lw_m1 68 rfl) rfl
theorem q125 : (Jvm.Cond.methodLink "FlyWheels$Shaft" (3 : Nat) ({ cls := "java/lang/Object", name := "<init>", desc := "()V" } : Jvm.MethodName)) ∈ lw_all := lw_g (lw_at lw_m1 69 rfl) rfl
theorem q126 : (Jvm.Cond.classLink "FlyWheels$Shaft" (15 : Nat) "FlyWheels$Wheel") ∈ lw_all := lw_g (lw_at lw_m1 70 rfl) rfl
theorem q129 : (Jvm.Cond.methodLinkNest "FlyWheels$Shaft" (17 : Nat) ({ cls := "FlyWheels$Wheel", name := "<init>", desc := "()V" } : Jvm.MethodName) "FlyWheels") ∈ lw_tbl := lw_at lw_m1 73 rfl
theorem q134 : (Jvm.Cond.fieldLinkNest "FlyWheels$Shaft" (60 : Nat) "FlyWheels$Wheel" "kind" "I" "FlyWheels") ∈ lw_tbl := lw_at lw_m1 78 rfl
theorem q137 : (Jvm.Cond.fieldLinkNest "FlyWheels$Shaft" (63 : Nat) "FlyWheels$Wheel" "mass" "I" "FlyWheels") ∈ lw_tbl := lw_at lw_m1 81 rfl
theorem q140 : (Jvm.Cond.fieldLinkNest "FlyWheels$Shaft" (64 : Nat) "FlyWheels$Wheel" "loss" "I" "FlyWheels") ∈ lw_tbl := lw_at lw_m1 84 rfl
theorem q143 : (Jvm.Cond.fieldLinkNest "FlyWheels$Shaft" (67 : Nat) "FlyWheels$Wheel" "swings" "I" "FlyWheels") ∈ lw_tbl := lw_at lw_m1 87 rfl
theorem q154 : (Jvm.Cond.fieldLink "FlyWheels$Shaft" (9 : Nat) "FlyWheels$Shaft" "mass" "I") ∈ lw_all := lw_g (lw_at lw_m1 98 rfl) rfl
theorem q157 : (Jvm.Cond.fieldLink "FlyWheels$Shaft" (32 : Nat) "FlyWheels$Shaft" "swings" "I") ∈ lw_all := lw_g (lw_at lw_m1 101 rfl) rfl
theorem q159 : (Jvm.Cond.fieldLink "FlyWheels$Shaft" (35 : Nat) "FlyWheels$Shaft" "wheels" "I") ∈ lw_all := lw_g (lw_at lw_m1 103 rfl) rfl
theorem q162 : (Jvm.Cond.fieldLink "FlyWheels$Shaft" (18 : Nat) "FlyWheels$Shaft" "wheel" "[LFlyWheels$Wheel;") ∈ lw_all := lw_g (lw_at lw_m1 106 rfl) rfl
theorem q164 : (Jvm.Cond.fieldLink "FlyWheels$Shaft" (42 : Nat) "FlyWheels$Shaft" "acts" "I") ∈ lw_all := lw_g (lw_at lw_m1 108 rfl) rfl
theorem q167 : (Jvm.Cond.fieldLink "FlyWheels$Shaft" (22 : Nat) "FlyWheels$Shaft" "act" "[S") ∈ lw_all := lw_g (lw_at lw_m1 111 rfl) rfl
theorem q170 : (Jvm.Cond.fieldLink "FlyWheels$Shaft" (51 : Nat) "FlyWheels$Shaft" "tick" "I") ∈ lw_all := lw_g (lw_at lw_m1 114 rfl) rfl
theorem q172 : (Jvm.Cond.fieldLink "FlyWheels$Shaft" (54 : Nat) "FlyWheels$Shaft" "done" "I") ∈ lw_all := lw_g (lw_at lw_m1 116 rfl) rfl
theorem q174 : (Jvm.Cond.fieldLink "FlyWheels$Shaft" (57 : Nat) "FlyWheels$Shaft" "lack" "I") ∈ lw_all := lw_g (lw_at lw_m1 118 rfl) rfl
theorem q176 : (Jvm.Cond.fieldLink "FlyWheels$Shaft" (26 : Nat) "FlyWheels$Shaft" "omitted" "I") ∈ lw_all := lw_g (lw_at lw_m1 120 rfl) rfl
theorem q178 : (Jvm.Cond.fieldLink "FlyWheels$Shaft" (29 : Nat) "FlyWheels$Shaft" "off" "I") ∈ lw_all := lw_g (lw_at lw_m1 122 rfl) rfl
theorem q180 : (Jvm.Cond.lays "FlyWheels$Shaft" "FlyWheels$Shaft" "mass" "I") ∈ lw_all := lw_g (lw_at lw_m1 124 rfl) rfl
theorem q181 : (Jvm.Cond.soleField "FlyWheels$Shaft" "mass") ∈ lw_all := lw_g (lw_at lw_m1 125 rfl) rfl
theorem q182 : (Jvm.Cond.lays "FlyWheels$Shaft" "FlyWheels$Shaft" "swings" "I") ∈ lw_all := lw_g (lw_at lw_m1 126 rfl) rfl
theorem q183 : (Jvm.Cond.soleField "FlyWheels$Shaft" "swings") ∈ lw_all := lw_g (lw_at lw_m1 127 rfl) rfl
theorem q184 : (Jvm.Cond.lays "FlyWheels$Shaft" "FlyWheels$Shaft" "wheels" "I") ∈ lw_all := lw_g (lw_at lw_m1 128 rfl) rfl
theorem q185 : (Jvm.Cond.soleField "FlyWheels$Shaft" "wheels") ∈ lw_all := lw_g (lw_at lw_m1 129 rfl) rfl
theorem q186 : (Jvm.Cond.laysFinal "FlyWheels$Shaft" "FlyWheels$Shaft" "wheel" "[LFlyWheels$Wheel;") ∈ lw_all := lw_g (lw_at lw_m1 130 rfl) rfl
theorem q187 : (Jvm.Cond.soleField "FlyWheels$Shaft" "wheel") ∈ lw_all := lw_g (lw_at lw_m1 131 rfl) rfl
theorem q188 : (Jvm.Cond.lays "FlyWheels$Shaft" "FlyWheels$Shaft" "acts" "I") ∈ lw_all := lw_g (lw_at lw_m1 132 rfl) rfl
theorem q189 : (Jvm.Cond.soleField "FlyWheels$Shaft" "acts") ∈ lw_all := lw_g (lw_at lw_m1 133 rfl) rfl
theorem q190 : (Jvm.Cond.laysFinal "FlyWheels$Shaft" "FlyWheels$Shaft" "act" "[S") ∈ lw_all := lw_g (lw_at lw_m1 134 rfl) rfl
theorem q191 : (Jvm.Cond.soleField "FlyWheels$Shaft" "act") ∈ lw_all := lw_g (lw_at lw_m1 135 rfl) rfl
theorem q192 : (Jvm.Cond.lays "FlyWheels$Shaft" "FlyWheels$Shaft" "tick" "I") ∈ lw_all := lw_g (lw_at lw_m1 136 rfl) rfl
theorem q193 : (Jvm.Cond.soleField "FlyWheels$Shaft" "tick") ∈ lw_all := lw_g (lw_at lw_m1 137 rfl) rfl
theorem q194 : (Jvm.Cond.lays "FlyWheels$Shaft" "FlyWheels$Shaft" "done" "I") ∈ lw_all := lw_g (lw_at lw_m1 138 rfl) rfl
theorem q195 : (Jvm.Cond.soleField "FlyWheels$Shaft" "done") ∈ lw_all := lw_g (lw_at lw_m1 139 rfl) rfl
theorem q196 : (Jvm.Cond.lays "FlyWheels$Shaft" "FlyWheels$Shaft" "lack" "I") ∈ lw_all := lw_g (lw_at lw_m1 140 rfl) rfl
theorem q197 : (Jvm.Cond.soleField "FlyWheels$Shaft" "lack") ∈ lw_all := lw_g (lw_at lw_m1 141 rfl) rfl
theorem q198 : (Jvm.Cond.lays "FlyWheels$Shaft" "FlyWheels$Shaft" "omitted" "I") ∈ lw_all := lw_g (lw_at lw_m1 142 rfl) rfl
theorem q199 : (Jvm.Cond.soleField "FlyWheels$Shaft" "omitted") ∈ lw_all := lw_g (lw_at lw_m1 143 rfl) rfl
theorem q200 : (Jvm.Cond.lays "FlyWheels$Shaft" "FlyWheels$Shaft" "off" "I") ∈ lw_all := lw_g (lw_at lw_m1 144 rfl) rfl
theorem q201 : (Jvm.Cond.soleField "FlyWheels$Shaft" "off") ∈ lw_all := lw_g (lw_at lw_m1 145 rfl) rfl
theorem q202 : (Jvm.Cond.superclass "FlyWheels$Shaft" "java/lang/Object") ∈ lw_all := lw_g (lw_at lw_m1 146 rfl) rfl
theorem q518 : (Jvm.Cond.instanceMethod ({ cls := "FlyWheels$Shaft", name := "puts", desc := "(III)V" } : Jvm.MethodName)) ∈ lw_all := lw_g (lw_at lw_m2 222 rfl) rfl
theorem q519 : (Jvm.Cond.selects "FlyWheels$Shaft" ({ cls := "FlyWheels$Shaft", name := "puts", desc := "(III)V" } : Jvm.MethodName) ({ cls := "FlyWheels$Shaft", name := "puts", desc := "(III)V" } : Jvm.MethodName)) ∈ lw_all := lw_g (lw_at lw_m2 223 rfl) rfl
theorem q520 : (Jvm.Cond.code ({ cls := "FlyWheels$Shaft", name := "puts", desc := "(III)V" } : Jvm.MethodName) prog_5_method_3_code (5 : Nat) (Option.none : Option Jvm.ClassFile.FieldType)) ∈ lw_all := lw_g (lw_at lw_m2 224 rfl) rfl
theorem q522 : (Jvm.Cond.instanceMethod ({ cls := "FlyWheels$Shaft", name := "as", desc := "(LFlyWheels$Shaft;)V" } : Jvm.MethodName)) ∈ lw_all := lw_g (lw_at lw_m2 226 rfl) rfl
theorem q523 : (Jvm.Cond.selects "FlyWheels$Shaft" ({ cls := "FlyWheels$Shaft", name := "as", desc := "(LFlyWheels$Shaft;)V" } : Jvm.MethodName) ({ cls := "FlyWheels$Shaft", name := "as", desc := "(LFlyWheels$Shaft;)V" } : Jvm.MethodName)) ∈ lw_all := lw_g (lw_at lw_m2 227 rfl) rfl
theorem q524 : (Jvm.Cond.code ({ cls := "FlyWheels$Shaft", name := "as", desc := "(LFlyWheels$Shaft;)V" } : Jvm.MethodName) prog_5_method_2_code (3 : Nat) (Option.none : Option Jvm.ClassFile.FieldType)) ∈ lw_all := lw_g (lw_at lw_m2 228 rfl) rfl
theorem q525 : (Jvm.Cond.methodLink "FlyWheels$Shaft" (38 : Nat) ({ cls := "FlyWheels$Wheel", name := "as", desc := "(LFlyWheels$Wheel;)V" } : Jvm.MethodName)) ∈ lw_all := lw_g (lw_at lw_m2 229 rfl) rfl
theorem q529 : (Jvm.Cond.methodLink "FlyWheels$Shaft" (45 : Nat) ({ cls := "java/lang/System", name := "arraycopy", desc := "(Ljava/lang/Object;ILjava/lang/Object;II)V" } : Jvm.MethodName)) ∈ lw_all := lw_g (lw_at lw_m2 233 rfl) rfl
theorem q541 : (Jvm.Cond.instanceMethod ({ cls := "FlyWheels$Shaft", name := "speed", desc := "()I" } : Jvm.MethodName)) ∈ lw_all := lw_g (lw_at lw_m3 5 rfl) rfl
theorem q542 : (Jvm.Cond.selects "FlyWheels$Shaft" ({ cls := "FlyWheels$Shaft", name := "speed", desc := "()I" } : Jvm.MethodName) ({ cls := "FlyWheels$Shaft", name := "speed", desc := "()I" } : Jvm.MethodName)) ∈ lw_all := lw_g (lw_at lw_m3 6 rfl) rfl
theorem q543 : (Jvm.Cond.code ({ cls := "FlyWheels$Shaft", name := "speed", desc := "()I" } : Jvm.MethodName) prog_5_method_6_code (1 : Nat) (Option.some Jvm.ClassFile.FieldType.int)) ∈ lw_all := lw_g (lw_at lw_m3 7 rfl) rfl
theorem q545 : (Jvm.Cond.instanceMethod ({ cls := "FlyWheels$Shaft", name := "next", desc := "()I" } : Jvm.MethodName)) ∈ lw_all := lw_g (lw_at lw_m3 9 rfl) rfl
theorem q546 : (Jvm.Cond.selects "FlyWheels$Shaft" ({ cls := "FlyWheels$Shaft", name := "next", desc := "()I" } : Jvm.MethodName) ({ cls := "FlyWheels$Shaft", name := "next", desc := "()I" } : Jvm.MethodName)) ∈ lw_all := lw_g (lw_at lw_m3 10 rfl) rfl
theorem q547 : (Jvm.Cond.code ({ cls := "FlyWheels$Shaft", name := "next", desc := "()I" } : Jvm.MethodName) prog_5_method_4_code (1 : Nat) (Option.some Jvm.ClassFile.FieldType.int)) ∈ lw_all := lw_g (lw_at lw_m3 11 rfl) rfl
theorem q561 : (Jvm.Cond.instanceMethod ({ cls := "FlyWheels$Shaft", name := "evenOf", desc := "(I)I" } : Jvm.MethodName)) ∈ lw_all := lw_g (lw_at lw_m3 25 rfl) rfl
theorem q562 : (Jvm.Cond.selects "FlyWheels$Shaft" ({ cls := "FlyWheels$Shaft", name := "evenOf", desc := "(I)I" } : Jvm.MethodName) ({ cls := "FlyWheels$Shaft", name := "evenOf", desc := "(I)I" } : Jvm.MethodName)) ∈ lw_all := lw_g (lw_at lw_m3 26 rfl) rfl
theorem q563 : (Jvm.Cond.code ({ cls := "FlyWheels$Shaft", name := "evenOf", desc := "(I)I" } : Jvm.MethodName) prog_5_method_5_code (2 : Nat) (Option.some Jvm.ClassFile.FieldType.int)) ∈ lw_all := lw_g (lw_at lw_m3 27 rfl) rfl
theorem q685 : (Jvm.Cond.instanceMethod ({ cls := "FlyWheels$Shaft", name := "all", desc := "()I" } : Jvm.MethodName)) ∈ lw_all := lw_g (lw_at lw_m3 149 rfl) rfl
theorem q686 : (Jvm.Cond.selects "FlyWheels$Shaft" ({ cls := "FlyWheels$Shaft", name := "all", desc := "()I" } : Jvm.MethodName) ({ cls := "FlyWheels$Shaft", name := "all", desc := "()I" } : Jvm.MethodName)) ∈ lw_all := lw_g (lw_at lw_m3 150 rfl) rfl
theorem q687 : (Jvm.Cond.code ({ cls := "FlyWheels$Shaft", name := "all", desc := "()I" } : Jvm.MethodName) prog_5_method_7_code (3 : Nat) (Option.some Jvm.ClassFile.FieldType.int)) ∈ lw_all := lw_g (lw_at lw_m3 151 rfl) rfl
theorem q701 : (Jvm.Cond.instanceMethod ({ cls := "FlyWheels$Shaft", name := "isLike", desc := "(LFlyWheels$Shaft;)Z" } : Jvm.MethodName)) ∈ lw_all := lw_g (lw_at lw_m3 165 rfl) rfl
theorem q702 : (Jvm.Cond.selects "FlyWheels$Shaft" ({ cls := "FlyWheels$Shaft", name := "isLike", desc := "(LFlyWheels$Shaft;)Z" } : Jvm.MethodName) ({ cls := "FlyWheels$Shaft", name := "isLike", desc := "(LFlyWheels$Shaft;)Z" } : Jvm.MethodName)) ∈ lw_all := lw_g (lw_at lw_m3 166 rfl) rfl
theorem q703 : (Jvm.Cond.code ({ cls := "FlyWheels$Shaft", name := "isLike", desc := "(LFlyWheels$Shaft;)Z" } : Jvm.MethodName) prog_5_method_8_code (4 : Nat) (Option.some Jvm.ClassFile.FieldType.boolean)) ∈ lw_all := lw_g (lw_at lw_m3 167 rfl) rfl
theorem q704 : (Jvm.Cond.methodLink "FlyWheels$Shaft" (68 : Nat) ({ cls := "FlyWheels$Shaft", name := "next", desc := "()I" } : Jvm.MethodName)) ∈ lw_all := lw_g (lw_at lw_m3 168 rfl) rfl
theorem in_X5 : ∀ w ∈ wsX50, w ∈ lw_all := lw_in wsX50 [180, 182, 184, 186, 188, 190, 192, 194, 196, 198, 200] (by decide +kernel) (by decide +kernel)
/-! FlyWheels$Wheel -/
set_option maxRecDepth 100000
def RX6 : String := "FlyWheels$Wheel"
def TX6 : u_T := fun k => match k with
  | 0 => ("FlyWheels$Wheel", "kind", "I", false)
  | 1 => ("FlyWheels$Wheel", "mass", "I", false)
  | 2 => ("FlyWheels$Wheel", "loss", "I", false)
  | _ => ("FlyWheels$Wheel", "swings", "I", false)
def tyX6 : Nat → FieldType := fun k => match k with
  | 0 => .int
  | 1 => .int
  | 2 => .int
  | _ => .int
abbrev wsX60 : List Cond := u_ws RX6 TX6 4
theorem nmX6 : ∀ a, a < 4 → ∀ b, b < 4 → a ≠ b → (TX6 a).2.1 ≠ (TX6 b).2.1 := by decide +kernel
theorem tyX6_ok : ∀ k, k < 4 → parseFieldDescriptor (TX6 k).2.2.1 = some (tyX6 k) := by decide +kernel
abbrev cX6_init : ByteArray := prog_10_method_1_code
def yX6_init : MethodName := ⟨RX6, "<init>", "()V"⟩
theorem dX6_init_0 : decode cX6_init 0 = .ok (.aload_n 0, 1) := by decide +kernel
theorem dX6_init_1 : decode cX6_init 1 = .ok (.invokespecial 1, 3) := by decide +kernel
theorem dX6_init_4 : decode cX6_init 4 = .ok (.return_, 1) := by decide +kernel
abbrev cX6_as : ByteArray := prog_10_method_2_code
def yX6_as : MethodName := ⟨RX6, "as", "(LFlyWheels$Wheel;)V"⟩
def dkwX6_as_1 : List UInt8 := [42, 43, 180, 0, 19, 181, 0, 19, 177]
abbrev dktX6_as_1 : List UInt8 := dkwX6_as_1 ++ []
def dkwX6_as_0 : List UInt8 := [42, 43, 180, 0, 7, 181, 0, 7, 42, 43, 180, 0, 13, 181, 0, 13, 42, 43, 180, 0, 16, 181, 0, 16]
abbrev dktX6_as_0 : List UInt8 := dkwX6_as_0 ++ dktX6_as_1
theorem dksX6_as_0 : cX6_as.data.toList.drop 0 = dktX6_as_0 := by decide +kernel
theorem dksX6_as_1 : cX6_as.data.toList.drop 24 = dktX6_as_1 := dk_seg dksX6_as_0 24 rfl rfl
theorem dX6_as_0 : decode cX6_as 0 = .ok (.aload_n 0, 1) := dk_42 (dk_at dksX6_as_0 0 rfl rfl)
theorem dX6_as_1 : decode cX6_as 1 = .ok (.aload_n 1, 1) := dk_43 (dk_at dksX6_as_0 1 rfl rfl)
theorem dX6_as_2 : decode cX6_as 2 = .ok (.getfield 7, 3) := dk_180 0 7 (dk_at dksX6_as_0 2 rfl rfl)
theorem dX6_as_5 : decode cX6_as 5 = .ok (.putfield 7, 3) := dk_181 0 7 (dk_at dksX6_as_0 5 rfl rfl)
theorem dX6_as_8 : decode cX6_as 8 = .ok (.aload_n 0, 1) := dk_42 (dk_at dksX6_as_0 8 rfl rfl)
theorem dX6_as_9 : decode cX6_as 9 = .ok (.aload_n 1, 1) := dk_43 (dk_at dksX6_as_0 9 rfl rfl)
theorem dX6_as_10 : decode cX6_as 10 = .ok (.getfield 13, 3) := dk_180 0 13 (dk_at dksX6_as_0 10 rfl rfl)
theorem dX6_as_13 : decode cX6_as 13 = .ok (.putfield 13, 3) := dk_181 0 13 (dk_at dksX6_as_0 13 rfl rfl)
theorem dX6_as_16 : decode cX6_as 16 = .ok (.aload_n 0, 1) := dk_42 (dk_at dksX6_as_0 16 rfl rfl)
theorem dX6_as_17 : decode cX6_as 17 = .ok (.aload_n 1, 1) := dk_43 (dk_at dksX6_as_0 17 rfl rfl)
theorem dX6_as_18 : decode cX6_as 18 = .ok (.getfield 16, 3) := dk_180 0 16 (dk_at dksX6_as_0 18 rfl rfl)
theorem dX6_as_21 : decode cX6_as 21 = .ok (.putfield 16, 3) := dk_181 0 16 (dk_at dksX6_as_0 21 rfl rfl)
theorem dX6_as_24 : decode cX6_as 24 = .ok (.aload_n 0, 1) := dk_42 (dk_at dksX6_as_1 0 rfl rfl)
theorem dX6_as_25 : decode cX6_as 25 = .ok (.aload_n 1, 1) := dk_43 (dk_at dksX6_as_1 1 rfl rfl)
theorem dX6_as_26 : decode cX6_as 26 = .ok (.getfield 19, 3) := dk_180 0 19 (dk_at dksX6_as_1 2 rfl rfl)
theorem dX6_as_29 : decode cX6_as 29 = .ok (.putfield 19, 3) := dk_181 0 19 (dk_at dksX6_as_1 5 rfl rfl)
theorem dX6_as_32 : decode cX6_as 32 = .ok (.return_, 1) := dk_177 (dk_at dksX6_as_1 8 rfl rfl)
theorem q63 : (Jvm.Cond.initialized "FlyWheels$Wheel") ∈ lw_all := lw_g (lw_at lw_m1 7 rfl) rfl
theorem q128 : (Jvm.Cond.instantiable "FlyWheels$Wheel" (4 : Nat)) ∈ lw_all := lw_g (lw_at lw_m1 72 rfl) rfl
theorem q130 : (Jvm.Cond.instanceMethod ({ cls := "FlyWheels$Wheel", name := "<init>", desc := "()V" } : Jvm.MethodName)) ∈ lw_all := lw_g (lw_at lw_m1 74 rfl) rfl
theorem q131 : (Jvm.Cond.code ({ cls := "FlyWheels$Wheel", name := "<init>", desc := "()V" } : Jvm.MethodName) prog_10_method_1_code (1 : Nat) (Option.none : Option Jvm.ClassFile.FieldType)) ∈ lw_all := lw_g (lw_at lw_m1 75 rfl) rfl
theorem q132 : (Jvm.Cond.methodLink "FlyWheels$Wheel" (1 : Nat) ({ cls := "java/lang/Object", name := "<init>", desc := "()V" } : Jvm.MethodName)) ∈ lw_all := lw_g (lw_at lw_m1 76 rfl) rfl
theorem q133 : (Jvm.Cond.fieldLink "FlyWheels$Wheel" (7 : Nat) "FlyWheels$Wheel" "kind" "I") ∈ lw_all := lw_g (lw_at lw_m1 77 rfl) rfl
theorem q136 : (Jvm.Cond.fieldLink "FlyWheels$Wheel" (13 : Nat) "FlyWheels$Wheel" "mass" "I") ∈ lw_all := lw_g (lw_at lw_m1 80 rfl) rfl
theorem q139 : (Jvm.Cond.fieldLink "FlyWheels$Wheel" (16 : Nat) "FlyWheels$Wheel" "loss" "I") ∈ lw_all := lw_g (lw_at lw_m1 83 rfl) rfl
theorem q142 : (Jvm.Cond.fieldLink "FlyWheels$Wheel" (19 : Nat) "FlyWheels$Wheel" "swings" "I") ∈ lw_all := lw_g (lw_at lw_m1 86 rfl) rfl
theorem q145 : (Jvm.Cond.lays "FlyWheels$Wheel" "FlyWheels$Wheel" "kind" "I") ∈ lw_all := lw_g (lw_at lw_m1 89 rfl) rfl
theorem q146 : (Jvm.Cond.soleField "FlyWheels$Wheel" "kind") ∈ lw_all := lw_g (lw_at lw_m1 90 rfl) rfl
theorem q147 : (Jvm.Cond.lays "FlyWheels$Wheel" "FlyWheels$Wheel" "mass" "I") ∈ lw_all := lw_g (lw_at lw_m1 91 rfl) rfl
theorem q148 : (Jvm.Cond.soleField "FlyWheels$Wheel" "mass") ∈ lw_all := lw_g (lw_at lw_m1 92 rfl) rfl
theorem q149 : (Jvm.Cond.lays "FlyWheels$Wheel" "FlyWheels$Wheel" "loss" "I") ∈ lw_all := lw_g (lw_at lw_m1 93 rfl) rfl
theorem q150 : (Jvm.Cond.soleField "FlyWheels$Wheel" "loss") ∈ lw_all := lw_g (lw_at lw_m1 94 rfl) rfl
theorem q151 : (Jvm.Cond.lays "FlyWheels$Wheel" "FlyWheels$Wheel" "swings" "I") ∈ lw_all := lw_g (lw_at lw_m1 95 rfl) rfl
theorem q152 : (Jvm.Cond.soleField "FlyWheels$Wheel" "swings") ∈ lw_all := lw_g (lw_at lw_m1 96 rfl) rfl
theorem q153 : (Jvm.Cond.superclass "FlyWheels$Wheel" "java/lang/Object") ∈ lw_all := lw_g (lw_at lw_m1 97 rfl) rfl
theorem q526 : (Jvm.Cond.instanceMethod ({ cls := "FlyWheels$Wheel", name := "as", desc := "(LFlyWheels$Wheel;)V" } : Jvm.MethodName)) ∈ lw_all := lw_g (lw_at lw_m2 230 rfl) rfl
theorem q527 : (Jvm.Cond.selects "FlyWheels$Wheel" ({ cls := "FlyWheels$Wheel", name := "as", desc := "(LFlyWheels$Wheel;)V" } : Jvm.MethodName) ({ cls := "FlyWheels$Wheel", name := "as", desc := "(LFlyWheels$Wheel;)V" } : Jvm.MethodName)) ∈ lw_all := lw_g (lw_at lw_m2 231 rfl) rfl
theorem q528 : (Jvm.Cond.code ({ cls := "FlyWheels$Wheel", name := "as", desc := "(LFlyWheels$Wheel;)V" } : Jvm.MethodName) prog_10_method_2_code (2 : Nat) (Option.none : Option Jvm.ClassFile.FieldType)) ∈ lw_all := lw_g (lw_at lw_m2 232 rfl) rfl
theorem in_X6 : ∀ w ∈ wsX60, w ∈ lw_all := lw_in wsX60 [145, 147, 149, 151] (by decide +kernel) (by decide +kernel)
/-! FlyWheels$Sheet -/
set_option maxRecDepth 100000
def RX7 : String := "FlyWheels$Sheet"
def TX7 : u_T := fun k => match k with
  | _ => ("FlyWheels$Sheet", "cells", "Ljava/lang/Object;", false)
def tyX7 : Nat → FieldType := fun k => match k with
  | _ => .object "java/lang/Object"
abbrev wsX70 : List Cond := u_ws RX7 TX7 1
theorem nmX7 : ∀ a, a < 1 → ∀ b, b < 1 → a ≠ b → (TX7 a).2.1 ≠ (TX7 b).2.1 := by decide +kernel
theorem tyX7_ok : ∀ k, k < 1 → parseFieldDescriptor (TX7 k).2.2.1 = some (tyX7 k) := by decide +kernel
abbrev cX7_init : ByteArray := prog_6_method_1_code
def yX7_init : MethodName := ⟨RX7, "<init>", "()V"⟩
theorem dX7_init_0 : decode cX7_init 0 = .ok (.aload_n 0, 1) := by decide +kernel
theorem dX7_init_1 : decode cX7_init 1 = .ok (.invokespecial 1, 3) := by decide +kernel
theorem dX7_init_4 : decode cX7_init 4 = .ok (.return_, 1) := by decide +kernel
theorem q64 : (Jvm.Cond.initialized "FlyWheels$Sheet") ∈ lw_all := lw_g (lw_at lw_m1 8 rfl) rfl
theorem q207 : (Jvm.Cond.instantiable "FlyWheels$Sheet" (1 : Nat)) ∈ lw_all := lw_g (lw_at lw_m1 151 rfl) rfl
theorem q209 : (Jvm.Cond.instanceMethod ({ cls := "FlyWheels$Sheet", name := "<init>", desc := "()V" } : Jvm.MethodName)) ∈ lw_all := lw_g (lw_at lw_m1 153 rfl) rfl
theorem q210 : (Jvm.Cond.code ({ cls := "FlyWheels$Sheet", name := "<init>", desc := "()V" } : Jvm.MethodName) prog_6_method_1_code (1 : Nat) (Option.none : Option Jvm.ClassFile.FieldType)) ∈ lw_all := lw_g (lw_at lw_m1 154 rfl) rfl
theorem q211 : (Jvm.Cond.methodLink "FlyWheels$Sheet" (1 : Nat) ({ cls := "java/lang/Object", name := "<init>", desc := "()V" } : Jvm.MethodName)) ∈ lw_all := lw_g (lw_at lw_m1 155 rfl) rfl
theorem q213 : (Jvm.Cond.lays "FlyWheels$Sheet" "FlyWheels$Sheet" "cells" "Ljava/lang/Object;") ∈ lw_all := lw_g (lw_at lw_m1 157 rfl) rfl
theorem q214 : (Jvm.Cond.soleField "FlyWheels$Sheet" "cells") ∈ lw_all := lw_g (lw_at lw_m1 158 rfl) rfl
theorem q215 : (Jvm.Cond.superclass "FlyWheels$Sheet" "java/lang/Object") ∈ lw_all := lw_g (lw_at lw_m1 159 rfl) rfl
theorem in_X7 : ∀ w ∈ wsX70, w ∈ lw_all := lw_in wsX70 [213] (by decide +kernel) (by decide +kernel)
