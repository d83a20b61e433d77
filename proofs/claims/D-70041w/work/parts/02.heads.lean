/-! DECODE ROWS BY BYTES: one lemma an opcode; a method's code is cut into short pieces once, and a row reads its own piece alone. -/
set_option maxRecDepth 100000
/-- the code has just these bytes from pc on -/
def DkAt (code : ByteArray) (pc : Nat) (bs : List UInt8) : Prop := ∀ (j : Nat) (b : UInt8), bs[j]? = some b → code.data.toList[pc + j]? = some b
/-- the piece W has the bytes bs from its place j on -/
def dkIn (W : List UInt8) (j : Nat) (bs : List UInt8) : Bool := decide ((W.drop j).take bs.length = bs)
theorem dk_seg {l W T : List UInt8} {o o2 : Nat} (h : l.drop o = W ++ T) (n : Nat) (hn : W.length = n) (ho : o + n = o2) : l.drop o2 = T := by
  subst ho
  rw [← List.drop_drop, h, List.drop_left' hn]
theorem dk_at {code : ByteArray} {W T bs : List UInt8} {o pc : Nat} (h : code.data.toList.drop o = W ++ T) (j : Nat) (hp : o + j = pc) (hw : dkIn W j bs = true) : DkAt code pc bs := by
  subst hp
  intro i b e
  have h1 := of_decide_eq_true hw
  have h2 : i < bs.length := (List.getElem?_eq_some_iff.mp e).1
  have h3 : W[j + i]? = some b := by
    rw [← h1, List.getElem?_take, if_pos h2, List.getElem?_drop] at e
    exact e
  have h4 : j + i < W.length := (List.getElem?_eq_some_iff.mp h3).1
  have h5 : (code.data.toList.drop o)[j + i]? = some b := by
    rw [h, List.getElem?_append_left h4]
    exact h3
  rw [List.getElem?_drop, ← Nat.add_assoc] at h5
  exact h5
theorem dk_u1 {A : ByteArray} {p : Nat} {b : UInt8} (h : A.data.toList[p]? = some b) : (Reader.u1 : Reader DecodeError Nat) A p = .ok (b.toNat, p + 1) := by
  obtain ⟨h1, h2⟩ := List.getElem?_eq_some_iff.mp h
  have h3 : p < A.size := by simpa using h1
  have h4 : A[p]'h3 = b := h2
  have e : (Reader.u1 : Reader DecodeError Nat) A p = (if h : p < A.size then .ok (A[p].toNat, p + 1) else .error (HasTruncated.truncated p)) := by
    show (do if h : p < A.size then do set (p + 1); Pure.pure A[p].toNat else MonadExcept.throw (HasTruncated.truncated p) : Reader DecodeError Nat) A p = _
    by_cases hi : p < A.size
    · rw [dif_pos hi, dif_pos hi]; rfl
    · rw [dif_neg hi, dif_neg hi]; rfl
  rw [e, dif_pos h3, h4]
theorem dk_bind {α β : Type} {r : Reader DecodeError α} {f : α → Reader DecodeError β} {A : ByteArray} {p s : Nat} {a : α} (h : r A p = .ok (a, s)) : (r >>= f) A p = f a A s := by
  show (do let (a, s) ← r A p; f a A s : Except DecodeError (β × Nat)) = _
  rw [h]
  rfl
theorem dk_map {α β : Type} {r : Reader DecodeError α} {g : α → β} {A : ByteArray} {p s : Nat} {a : α} (h : r A p = .ok (a, s)) : (g <$> r) A p = .ok (g a, s) := by
  show (do let (a, s) ← r A p; .ok (g a, s) : Except DecodeError (β × Nat)) = _
  rw [h]
  rfl
theorem dk_u2 {A : ByteArray} {p : Nat} {a b : UInt8} (h : A.data.toList[p]? = some a) (h2 : A.data.toList[p + 1]? = some b) : (Reader.u2 : Reader DecodeError Nat) A p = .ok (a.toNat * 256 + b.toNat, p + 2) := by
  show (Reader.u1 >>= fun hi => Reader.u1 >>= fun lo => Pure.pure (hi * 256 + lo) : Reader DecodeError Nat) A p = _
  rw [dk_bind (dk_u1 h), dk_bind (dk_u1 h2)]
  rfl
theorem dk_of {code : ByteArray} {pc n : Nat} {i : Instr} (h : Decoder.instr pc code pc = .ok (i, pc + n)) : decode code pc = .ok (i, n) := by
  have e : decode code pc = (match Decoder.instr pc code pc with | .error x => .error x | .ok (j, s) => .ok (j, s - pc)) := by
    show (do let (j, s) ← Decoder.instr pc code pc; Pure.pure (j, s - pc) : Except DecodeError (Instr × Nat)) = _
    cases Decoder.instr pc code pc <;> rfl
  rw [e, h]
  show Except.ok (i, pc + n - pc) = _
  rw [Nat.add_sub_cancel_left]
theorem dk_1 {code : ByteArray} {pc : Nat} (h : DkAt code pc [1]) : decode code pc = .ok (.aconst_null, 1) := dk_of ((dk_bind (dk_u1 (h 0 _ rfl))).trans rfl)
theorem dk_2 {code : ByteArray} {pc : Nat} (h : DkAt code pc [2]) : decode code pc = .ok (.iconst (-1), 1) := dk_of ((dk_bind (dk_u1 (h 0 _ rfl))).trans rfl)
theorem dk_3 {code : ByteArray} {pc : Nat} (h : DkAt code pc [3]) : decode code pc = .ok (.iconst 0, 1) := dk_of ((dk_bind (dk_u1 (h 0 _ rfl))).trans rfl)
theorem dk_4 {code : ByteArray} {pc : Nat} (h : DkAt code pc [4]) : decode code pc = .ok (.iconst 1, 1) := dk_of ((dk_bind (dk_u1 (h 0 _ rfl))).trans rfl)
theorem dk_5 {code : ByteArray} {pc : Nat} (h : DkAt code pc [5]) : decode code pc = .ok (.iconst 2, 1) := dk_of ((dk_bind (dk_u1 (h 0 _ rfl))).trans rfl)
theorem dk_6 {code : ByteArray} {pc : Nat} (h : DkAt code pc [6]) : decode code pc = .ok (.iconst 3, 1) := dk_of ((dk_bind (dk_u1 (h 0 _ rfl))).trans rfl)
theorem dk_7 {code : ByteArray} {pc : Nat} (h : DkAt code pc [7]) : decode code pc = .ok (.iconst 4, 1) := dk_of ((dk_bind (dk_u1 (h 0 _ rfl))).trans rfl)
theorem dk_8 {code : ByteArray} {pc : Nat} (h : DkAt code pc [8]) : decode code pc = .ok (.iconst 5, 1) := dk_of ((dk_bind (dk_u1 (h 0 _ rfl))).trans rfl)
theorem dk_9 {code : ByteArray} {pc : Nat} (h : DkAt code pc [9]) : decode code pc = .ok (.lconst 0, 1) := dk_of ((dk_bind (dk_u1 (h 0 _ rfl))).trans rfl)
theorem dk_10 {code : ByteArray} {pc : Nat} (h : DkAt code pc [10]) : decode code pc = .ok (.lconst 1, 1) := dk_of ((dk_bind (dk_u1 (h 0 _ rfl))).trans rfl)
theorem dk_16 {code : ByteArray} {pc : Nat} (a : UInt8) (h : DkAt code pc [16, a]) : decode code pc = .ok (.bipush (Reader.signed 8 a.toNat), 2) := dk_of ((dk_bind (dk_u1 (h 0 _ rfl))).trans ((dk_bind (dk_map (dk_u1 (h 1 _ rfl)))).trans rfl))
theorem dk_17 {code : ByteArray} {pc : Nat} (a b : UInt8) (h : DkAt code pc [17, a, b]) : decode code pc = .ok (.sipush (Reader.signed 16 (a.toNat * 256 + b.toNat)), 3) := dk_of ((dk_bind (dk_u1 (h 0 _ rfl))).trans ((dk_bind (dk_map (dk_u2 (h 1 _ rfl) (h 2 _ rfl)))).trans rfl))
theorem dk_18 {code : ByteArray} {pc : Nat} (a : UInt8) (h : DkAt code pc [18, a]) : decode code pc = .ok (.ldc a.toNat, 2) := dk_of ((dk_bind (dk_u1 (h 0 _ rfl))).trans ((dk_bind (dk_u1 (h 1 _ rfl))).trans rfl))
theorem dk_19 {code : ByteArray} {pc : Nat} (a b : UInt8) (h : DkAt code pc [19, a, b]) : decode code pc = .ok (.ldc_w (a.toNat * 256 + b.toNat), 3) := dk_of ((dk_bind (dk_u1 (h 0 _ rfl))).trans ((dk_bind (dk_u2 (h 1 _ rfl) (h 2 _ rfl))).trans rfl))
theorem dk_20 {code : ByteArray} {pc : Nat} (a b : UInt8) (h : DkAt code pc [20, a, b]) : decode code pc = .ok (.ldc2_w (a.toNat * 256 + b.toNat), 3) := dk_of ((dk_bind (dk_u1 (h 0 _ rfl))).trans ((dk_bind (dk_u2 (h 1 _ rfl) (h 2 _ rfl))).trans rfl))
theorem dk_21 {code : ByteArray} {pc : Nat} (a : UInt8) (h : DkAt code pc [21, a]) : decode code pc = .ok (.iload a.toNat, 2) := dk_of ((dk_bind (dk_u1 (h 0 _ rfl))).trans ((dk_bind (dk_u1 (h 1 _ rfl))).trans rfl))
theorem dk_22 {code : ByteArray} {pc : Nat} (a : UInt8) (h : DkAt code pc [22, a]) : decode code pc = .ok (.lload a.toNat, 2) := dk_of ((dk_bind (dk_u1 (h 0 _ rfl))).trans ((dk_bind (dk_u1 (h 1 _ rfl))).trans rfl))
theorem dk_25 {code : ByteArray} {pc : Nat} (a : UInt8) (h : DkAt code pc [25, a]) : decode code pc = .ok (.aload a.toNat, 2) := dk_of ((dk_bind (dk_u1 (h 0 _ rfl))).trans ((dk_bind (dk_u1 (h 1 _ rfl))).trans rfl))
theorem dk_26 {code : ByteArray} {pc : Nat} (h : DkAt code pc [26]) : decode code pc = .ok (.iload_n 0, 1) := dk_of ((dk_bind (dk_u1 (h 0 _ rfl))).trans rfl)
theorem dk_27 {code : ByteArray} {pc : Nat} (h : DkAt code pc [27]) : decode code pc = .ok (.iload_n 1, 1) := dk_of ((dk_bind (dk_u1 (h 0 _ rfl))).trans rfl)
theorem dk_28 {code : ByteArray} {pc : Nat} (h : DkAt code pc [28]) : decode code pc = .ok (.iload_n 2, 1) := dk_of ((dk_bind (dk_u1 (h 0 _ rfl))).trans rfl)
theorem dk_29 {code : ByteArray} {pc : Nat} (h : DkAt code pc [29]) : decode code pc = .ok (.iload_n 3, 1) := dk_of ((dk_bind (dk_u1 (h 0 _ rfl))).trans rfl)
theorem dk_30 {code : ByteArray} {pc : Nat} (h : DkAt code pc [30]) : decode code pc = .ok (.lload_n 0, 1) := dk_of ((dk_bind (dk_u1 (h 0 _ rfl))).trans rfl)
theorem dk_32 {code : ByteArray} {pc : Nat} (h : DkAt code pc [32]) : decode code pc = .ok (.lload_n 2, 1) := dk_of ((dk_bind (dk_u1 (h 0 _ rfl))).trans rfl)
theorem dk_33 {code : ByteArray} {pc : Nat} (h : DkAt code pc [33]) : decode code pc = .ok (.lload_n 3, 1) := dk_of ((dk_bind (dk_u1 (h 0 _ rfl))).trans rfl)
theorem dk_42 {code : ByteArray} {pc : Nat} (h : DkAt code pc [42]) : decode code pc = .ok (.aload_n 0, 1) := dk_of ((dk_bind (dk_u1 (h 0 _ rfl))).trans rfl)
theorem dk_43 {code : ByteArray} {pc : Nat} (h : DkAt code pc [43]) : decode code pc = .ok (.aload_n 1, 1) := dk_of ((dk_bind (dk_u1 (h 0 _ rfl))).trans rfl)
theorem dk_44 {code : ByteArray} {pc : Nat} (h : DkAt code pc [44]) : decode code pc = .ok (.aload_n 2, 1) := dk_of ((dk_bind (dk_u1 (h 0 _ rfl))).trans rfl)
theorem dk_46 {code : ByteArray} {pc : Nat} (h : DkAt code pc [46]) : decode code pc = .ok (.iaload, 1) := dk_of ((dk_bind (dk_u1 (h 0 _ rfl))).trans rfl)
theorem dk_50 {code : ByteArray} {pc : Nat} (h : DkAt code pc [50]) : decode code pc = .ok (.aaload, 1) := dk_of ((dk_bind (dk_u1 (h 0 _ rfl))).trans rfl)
theorem dk_51 {code : ByteArray} {pc : Nat} (h : DkAt code pc [51]) : decode code pc = .ok (.baload, 1) := dk_of ((dk_bind (dk_u1 (h 0 _ rfl))).trans rfl)
theorem dk_53 {code : ByteArray} {pc : Nat} (h : DkAt code pc [53]) : decode code pc = .ok (.saload, 1) := dk_of ((dk_bind (dk_u1 (h 0 _ rfl))).trans rfl)
theorem dk_54 {code : ByteArray} {pc : Nat} (a : UInt8) (h : DkAt code pc [54, a]) : decode code pc = .ok (.istore a.toNat, 2) := dk_of ((dk_bind (dk_u1 (h 0 _ rfl))).trans ((dk_bind (dk_u1 (h 1 _ rfl))).trans rfl))
theorem dk_55 {code : ByteArray} {pc : Nat} (a : UInt8) (h : DkAt code pc [55, a]) : decode code pc = .ok (.lstore a.toNat, 2) := dk_of ((dk_bind (dk_u1 (h 0 _ rfl))).trans ((dk_bind (dk_u1 (h 1 _ rfl))).trans rfl))
theorem dk_58 {code : ByteArray} {pc : Nat} (a : UInt8) (h : DkAt code pc [58, a]) : decode code pc = .ok (.astore a.toNat, 2) := dk_of ((dk_bind (dk_u1 (h 0 _ rfl))).trans ((dk_bind (dk_u1 (h 1 _ rfl))).trans rfl))
theorem dk_59 {code : ByteArray} {pc : Nat} (h : DkAt code pc [59]) : decode code pc = .ok (.istore_n 0, 1) := dk_of ((dk_bind (dk_u1 (h 0 _ rfl))).trans rfl)
theorem dk_60 {code : ByteArray} {pc : Nat} (h : DkAt code pc [60]) : decode code pc = .ok (.istore_n 1, 1) := dk_of ((dk_bind (dk_u1 (h 0 _ rfl))).trans rfl)
theorem dk_61 {code : ByteArray} {pc : Nat} (h : DkAt code pc [61]) : decode code pc = .ok (.istore_n 2, 1) := dk_of ((dk_bind (dk_u1 (h 0 _ rfl))).trans rfl)
theorem dk_62 {code : ByteArray} {pc : Nat} (h : DkAt code pc [62]) : decode code pc = .ok (.istore_n 3, 1) := dk_of ((dk_bind (dk_u1 (h 0 _ rfl))).trans rfl)
theorem dk_66 {code : ByteArray} {pc : Nat} (h : DkAt code pc [66]) : decode code pc = .ok (.lstore_n 3, 1) := dk_of ((dk_bind (dk_u1 (h 0 _ rfl))).trans rfl)
theorem dk_76 {code : ByteArray} {pc : Nat} (h : DkAt code pc [76]) : decode code pc = .ok (.astore_n 1, 1) := dk_of ((dk_bind (dk_u1 (h 0 _ rfl))).trans rfl)
theorem dk_77 {code : ByteArray} {pc : Nat} (h : DkAt code pc [77]) : decode code pc = .ok (.astore_n 2, 1) := dk_of ((dk_bind (dk_u1 (h 0 _ rfl))).trans rfl)
theorem dk_79 {code : ByteArray} {pc : Nat} (h : DkAt code pc [79]) : decode code pc = .ok (.iastore, 1) := dk_of ((dk_bind (dk_u1 (h 0 _ rfl))).trans rfl)
theorem dk_83 {code : ByteArray} {pc : Nat} (h : DkAt code pc [83]) : decode code pc = .ok (.aastore, 1) := dk_of ((dk_bind (dk_u1 (h 0 _ rfl))).trans rfl)
theorem dk_84 {code : ByteArray} {pc : Nat} (h : DkAt code pc [84]) : decode code pc = .ok (.bastore, 1) := dk_of ((dk_bind (dk_u1 (h 0 _ rfl))).trans rfl)
theorem dk_86 {code : ByteArray} {pc : Nat} (h : DkAt code pc [86]) : decode code pc = .ok (.sastore, 1) := dk_of ((dk_bind (dk_u1 (h 0 _ rfl))).trans rfl)
theorem dk_87 {code : ByteArray} {pc : Nat} (h : DkAt code pc [87]) : decode code pc = .ok (.pop, 1) := dk_of ((dk_bind (dk_u1 (h 0 _ rfl))).trans rfl)
theorem dk_89 {code : ByteArray} {pc : Nat} (h : DkAt code pc [89]) : decode code pc = .ok (.dup, 1) := dk_of ((dk_bind (dk_u1 (h 0 _ rfl))).trans rfl)
theorem dk_92 {code : ByteArray} {pc : Nat} (h : DkAt code pc [92]) : decode code pc = .ok (.dup2, 1) := dk_of ((dk_bind (dk_u1 (h 0 _ rfl))).trans rfl)
theorem dk_96 {code : ByteArray} {pc : Nat} (h : DkAt code pc [96]) : decode code pc = .ok (.iadd, 1) := dk_of ((dk_bind (dk_u1 (h 0 _ rfl))).trans rfl)
theorem dk_97 {code : ByteArray} {pc : Nat} (h : DkAt code pc [97]) : decode code pc = .ok (.ladd, 1) := dk_of ((dk_bind (dk_u1 (h 0 _ rfl))).trans rfl)
theorem dk_100 {code : ByteArray} {pc : Nat} (h : DkAt code pc [100]) : decode code pc = .ok (.isub, 1) := dk_of ((dk_bind (dk_u1 (h 0 _ rfl))).trans rfl)
theorem dk_104 {code : ByteArray} {pc : Nat} (h : DkAt code pc [104]) : decode code pc = .ok (.imul, 1) := dk_of ((dk_bind (dk_u1 (h 0 _ rfl))).trans rfl)
theorem dk_105 {code : ByteArray} {pc : Nat} (h : DkAt code pc [105]) : decode code pc = .ok (.lmul, 1) := dk_of ((dk_bind (dk_u1 (h 0 _ rfl))).trans rfl)
theorem dk_108 {code : ByteArray} {pc : Nat} (h : DkAt code pc [108]) : decode code pc = .ok (.idiv, 1) := dk_of ((dk_bind (dk_u1 (h 0 _ rfl))).trans rfl)
theorem dk_109 {code : ByteArray} {pc : Nat} (h : DkAt code pc [109]) : decode code pc = .ok (.ldiv, 1) := dk_of ((dk_bind (dk_u1 (h 0 _ rfl))).trans rfl)
theorem dk_112 {code : ByteArray} {pc : Nat} (h : DkAt code pc [112]) : decode code pc = .ok (.irem, 1) := dk_of ((dk_bind (dk_u1 (h 0 _ rfl))).trans rfl)
theorem dk_113 {code : ByteArray} {pc : Nat} (h : DkAt code pc [113]) : decode code pc = .ok (.lrem, 1) := dk_of ((dk_bind (dk_u1 (h 0 _ rfl))).trans rfl)
theorem dk_120 {code : ByteArray} {pc : Nat} (h : DkAt code pc [120]) : decode code pc = .ok (.ishl, 1) := dk_of ((dk_bind (dk_u1 (h 0 _ rfl))).trans rfl)
theorem dk_122 {code : ByteArray} {pc : Nat} (h : DkAt code pc [122]) : decode code pc = .ok (.ishr, 1) := dk_of ((dk_bind (dk_u1 (h 0 _ rfl))).trans rfl)
theorem dk_124 {code : ByteArray} {pc : Nat} (h : DkAt code pc [124]) : decode code pc = .ok (.iushr, 1) := dk_of ((dk_bind (dk_u1 (h 0 _ rfl))).trans rfl)
theorem dk_126 {code : ByteArray} {pc : Nat} (h : DkAt code pc [126]) : decode code pc = .ok (.iand, 1) := dk_of ((dk_bind (dk_u1 (h 0 _ rfl))).trans rfl)
theorem dk_128 {code : ByteArray} {pc : Nat} (h : DkAt code pc [128]) : decode code pc = .ok (.ior, 1) := dk_of ((dk_bind (dk_u1 (h 0 _ rfl))).trans rfl)
theorem dk_130 {code : ByteArray} {pc : Nat} (h : DkAt code pc [130]) : decode code pc = .ok (.ixor, 1) := dk_of ((dk_bind (dk_u1 (h 0 _ rfl))).trans rfl)
theorem dk_132 {code : ByteArray} {pc : Nat} (a b : UInt8) (h : DkAt code pc [132, a, b]) : decode code pc = .ok (.iinc a.toNat (Reader.signed 8 b.toNat), 3) := dk_of ((dk_bind (dk_u1 (h 0 _ rfl))).trans ((dk_bind (dk_u1 (h 1 _ rfl))).trans ((dk_bind (dk_map (dk_u1 (h 2 _ rfl)))).trans rfl)))
theorem dk_133 {code : ByteArray} {pc : Nat} (h : DkAt code pc [133]) : decode code pc = .ok (.i2l, 1) := dk_of ((dk_bind (dk_u1 (h 0 _ rfl))).trans rfl)
theorem dk_145 {code : ByteArray} {pc : Nat} (h : DkAt code pc [145]) : decode code pc = .ok (.i2b, 1) := dk_of ((dk_bind (dk_u1 (h 0 _ rfl))).trans rfl)
theorem dk_146 {code : ByteArray} {pc : Nat} (h : DkAt code pc [146]) : decode code pc = .ok (.i2c, 1) := dk_of ((dk_bind (dk_u1 (h 0 _ rfl))).trans rfl)
theorem dk_147 {code : ByteArray} {pc : Nat} (h : DkAt code pc [147]) : decode code pc = .ok (.i2s, 1) := dk_of ((dk_bind (dk_u1 (h 0 _ rfl))).trans rfl)
theorem dk_148 {code : ByteArray} {pc : Nat} (h : DkAt code pc [148]) : decode code pc = .ok (.lcmp, 1) := dk_of ((dk_bind (dk_u1 (h 0 _ rfl))).trans rfl)
theorem dk_153 {code : ByteArray} {pc : Nat} (a b : UInt8) (h : DkAt code pc [153, a, b]) : decode code pc = .ok (.ifCond .eq (Reader.signed 16 (a.toNat * 256 + b.toNat)), 3) := dk_of ((dk_bind (dk_u1 (h 0 _ rfl))).trans ((dk_bind (dk_map (dk_u2 (h 1 _ rfl) (h 2 _ rfl)))).trans rfl))
theorem dk_154 {code : ByteArray} {pc : Nat} (a b : UInt8) (h : DkAt code pc [154, a, b]) : decode code pc = .ok (.ifCond .ne (Reader.signed 16 (a.toNat * 256 + b.toNat)), 3) := dk_of ((dk_bind (dk_u1 (h 0 _ rfl))).trans ((dk_bind (dk_map (dk_u2 (h 1 _ rfl) (h 2 _ rfl)))).trans rfl))
theorem dk_155 {code : ByteArray} {pc : Nat} (a b : UInt8) (h : DkAt code pc [155, a, b]) : decode code pc = .ok (.ifCond .lt (Reader.signed 16 (a.toNat * 256 + b.toNat)), 3) := dk_of ((dk_bind (dk_u1 (h 0 _ rfl))).trans ((dk_bind (dk_map (dk_u2 (h 1 _ rfl) (h 2 _ rfl)))).trans rfl))
theorem dk_156 {code : ByteArray} {pc : Nat} (a b : UInt8) (h : DkAt code pc [156, a, b]) : decode code pc = .ok (.ifCond .ge (Reader.signed 16 (a.toNat * 256 + b.toNat)), 3) := dk_of ((dk_bind (dk_u1 (h 0 _ rfl))).trans ((dk_bind (dk_map (dk_u2 (h 1 _ rfl) (h 2 _ rfl)))).trans rfl))
theorem dk_157 {code : ByteArray} {pc : Nat} (a b : UInt8) (h : DkAt code pc [157, a, b]) : decode code pc = .ok (.ifCond .gt (Reader.signed 16 (a.toNat * 256 + b.toNat)), 3) := dk_of ((dk_bind (dk_u1 (h 0 _ rfl))).trans ((dk_bind (dk_map (dk_u2 (h 1 _ rfl) (h 2 _ rfl)))).trans rfl))
theorem dk_158 {code : ByteArray} {pc : Nat} (a b : UInt8) (h : DkAt code pc [158, a, b]) : decode code pc = .ok (.ifCond .le (Reader.signed 16 (a.toNat * 256 + b.toNat)), 3) := dk_of ((dk_bind (dk_u1 (h 0 _ rfl))).trans ((dk_bind (dk_map (dk_u2 (h 1 _ rfl) (h 2 _ rfl)))).trans rfl))
theorem dk_159 {code : ByteArray} {pc : Nat} (a b : UInt8) (h : DkAt code pc [159, a, b]) : decode code pc = .ok (.if_icmp .eq (Reader.signed 16 (a.toNat * 256 + b.toNat)), 3) := dk_of ((dk_bind (dk_u1 (h 0 _ rfl))).trans ((dk_bind (dk_map (dk_u2 (h 1 _ rfl) (h 2 _ rfl)))).trans rfl))
theorem dk_160 {code : ByteArray} {pc : Nat} (a b : UInt8) (h : DkAt code pc [160, a, b]) : decode code pc = .ok (.if_icmp .ne (Reader.signed 16 (a.toNat * 256 + b.toNat)), 3) := dk_of ((dk_bind (dk_u1 (h 0 _ rfl))).trans ((dk_bind (dk_map (dk_u2 (h 1 _ rfl) (h 2 _ rfl)))).trans rfl))
theorem dk_161 {code : ByteArray} {pc : Nat} (a b : UInt8) (h : DkAt code pc [161, a, b]) : decode code pc = .ok (.if_icmp .lt (Reader.signed 16 (a.toNat * 256 + b.toNat)), 3) := dk_of ((dk_bind (dk_u1 (h 0 _ rfl))).trans ((dk_bind (dk_map (dk_u2 (h 1 _ rfl) (h 2 _ rfl)))).trans rfl))
theorem dk_162 {code : ByteArray} {pc : Nat} (a b : UInt8) (h : DkAt code pc [162, a, b]) : decode code pc = .ok (.if_icmp .ge (Reader.signed 16 (a.toNat * 256 + b.toNat)), 3) := dk_of ((dk_bind (dk_u1 (h 0 _ rfl))).trans ((dk_bind (dk_map (dk_u2 (h 1 _ rfl) (h 2 _ rfl)))).trans rfl))
theorem dk_163 {code : ByteArray} {pc : Nat} (a b : UInt8) (h : DkAt code pc [163, a, b]) : decode code pc = .ok (.if_icmp .gt (Reader.signed 16 (a.toNat * 256 + b.toNat)), 3) := dk_of ((dk_bind (dk_u1 (h 0 _ rfl))).trans ((dk_bind (dk_map (dk_u2 (h 1 _ rfl) (h 2 _ rfl)))).trans rfl))
theorem dk_164 {code : ByteArray} {pc : Nat} (a b : UInt8) (h : DkAt code pc [164, a, b]) : decode code pc = .ok (.if_icmp .le (Reader.signed 16 (a.toNat * 256 + b.toNat)), 3) := dk_of ((dk_bind (dk_u1 (h 0 _ rfl))).trans ((dk_bind (dk_map (dk_u2 (h 1 _ rfl) (h 2 _ rfl)))).trans rfl))
theorem dk_167 {code : ByteArray} {pc : Nat} (a b : UInt8) (h : DkAt code pc [167, a, b]) : decode code pc = .ok (.goto (Reader.signed 16 (a.toNat * 256 + b.toNat)), 3) := dk_of ((dk_bind (dk_u1 (h 0 _ rfl))).trans ((dk_bind (dk_map (dk_u2 (h 1 _ rfl) (h 2 _ rfl)))).trans rfl))
theorem dk_172 {code : ByteArray} {pc : Nat} (h : DkAt code pc [172]) : decode code pc = .ok (.ireturn, 1) := dk_of ((dk_bind (dk_u1 (h 0 _ rfl))).trans rfl)
theorem dk_173 {code : ByteArray} {pc : Nat} (h : DkAt code pc [173]) : decode code pc = .ok (.lreturn, 1) := dk_of ((dk_bind (dk_u1 (h 0 _ rfl))).trans rfl)
theorem dk_176 {code : ByteArray} {pc : Nat} (h : DkAt code pc [176]) : decode code pc = .ok (.areturn, 1) := dk_of ((dk_bind (dk_u1 (h 0 _ rfl))).trans rfl)
theorem dk_177 {code : ByteArray} {pc : Nat} (h : DkAt code pc [177]) : decode code pc = .ok (.return_, 1) := dk_of ((dk_bind (dk_u1 (h 0 _ rfl))).trans rfl)
theorem dk_178 {code : ByteArray} {pc : Nat} (a b : UInt8) (h : DkAt code pc [178, a, b]) : decode code pc = .ok (.getstatic (a.toNat * 256 + b.toNat), 3) := dk_of ((dk_bind (dk_u1 (h 0 _ rfl))).trans ((dk_bind (dk_u2 (h 1 _ rfl) (h 2 _ rfl))).trans rfl))
theorem dk_180 {code : ByteArray} {pc : Nat} (a b : UInt8) (h : DkAt code pc [180, a, b]) : decode code pc = .ok (.getfield (a.toNat * 256 + b.toNat), 3) := dk_of ((dk_bind (dk_u1 (h 0 _ rfl))).trans ((dk_bind (dk_u2 (h 1 _ rfl) (h 2 _ rfl))).trans rfl))
theorem dk_181 {code : ByteArray} {pc : Nat} (a b : UInt8) (h : DkAt code pc [181, a, b]) : decode code pc = .ok (.putfield (a.toNat * 256 + b.toNat), 3) := dk_of ((dk_bind (dk_u1 (h 0 _ rfl))).trans ((dk_bind (dk_u2 (h 1 _ rfl) (h 2 _ rfl))).trans rfl))
theorem dk_182 {code : ByteArray} {pc : Nat} (a b : UInt8) (h : DkAt code pc [182, a, b]) : decode code pc = .ok (.invokevirtual (a.toNat * 256 + b.toNat), 3) := dk_of ((dk_bind (dk_u1 (h 0 _ rfl))).trans ((dk_bind (dk_u2 (h 1 _ rfl) (h 2 _ rfl))).trans rfl))
theorem dk_183 {code : ByteArray} {pc : Nat} (a b : UInt8) (h : DkAt code pc [183, a, b]) : decode code pc = .ok (.invokespecial (a.toNat * 256 + b.toNat), 3) := dk_of ((dk_bind (dk_u1 (h 0 _ rfl))).trans ((dk_bind (dk_u2 (h 1 _ rfl) (h 2 _ rfl))).trans rfl))
theorem dk_184 {code : ByteArray} {pc : Nat} (a b : UInt8) (h : DkAt code pc [184, a, b]) : decode code pc = .ok (.invokestatic (a.toNat * 256 + b.toNat), 3) := dk_of ((dk_bind (dk_u1 (h 0 _ rfl))).trans ((dk_bind (dk_u2 (h 1 _ rfl) (h 2 _ rfl))).trans rfl))
theorem dk_187 {code : ByteArray} {pc : Nat} (a b : UInt8) (h : DkAt code pc [187, a, b]) : decode code pc = .ok (.new (a.toNat * 256 + b.toNat), 3) := dk_of ((dk_bind (dk_u1 (h 0 _ rfl))).trans ((dk_bind (dk_u2 (h 1 _ rfl) (h 2 _ rfl))).trans rfl))
theorem dk_188_4 {code : ByteArray} {pc : Nat} (h : DkAt code pc [188, 4]) : decode code pc = .ok (.newarray .boolean, 2) := dk_of ((dk_bind (dk_u1 (h 0 _ rfl))).trans ((dk_bind (dk_u1 (h 1 _ rfl))).trans rfl))
theorem dk_188_8 {code : ByteArray} {pc : Nat} (h : DkAt code pc [188, 8]) : decode code pc = .ok (.newarray .byte, 2) := dk_of ((dk_bind (dk_u1 (h 0 _ rfl))).trans ((dk_bind (dk_u1 (h 1 _ rfl))).trans rfl))
theorem dk_188_9 {code : ByteArray} {pc : Nat} (h : DkAt code pc [188, 9]) : decode code pc = .ok (.newarray .short, 2) := dk_of ((dk_bind (dk_u1 (h 0 _ rfl))).trans ((dk_bind (dk_u1 (h 1 _ rfl))).trans rfl))
theorem dk_188_10 {code : ByteArray} {pc : Nat} (h : DkAt code pc [188, 10]) : decode code pc = .ok (.newarray .int, 2) := dk_of ((dk_bind (dk_u1 (h 0 _ rfl))).trans ((dk_bind (dk_u1 (h 1 _ rfl))).trans rfl))
theorem dk_189 {code : ByteArray} {pc : Nat} (a b : UInt8) (h : DkAt code pc [189, a, b]) : decode code pc = .ok (.anewarray (a.toNat * 256 + b.toNat), 3) := dk_of ((dk_bind (dk_u1 (h 0 _ rfl))).trans ((dk_bind (dk_u2 (h 1 _ rfl) (h 2 _ rfl))).trans rfl))
theorem dk_190 {code : ByteArray} {pc : Nat} (h : DkAt code pc [190]) : decode code pc = .ok (.arraylength, 1) := dk_of ((dk_bind (dk_u1 (h 0 _ rfl))).trans rfl)
theorem dk_191 {code : ByteArray} {pc : Nat} (h : DkAt code pc [191]) : decode code pc = .ok (.athrow, 1) := dk_of ((dk_bind (dk_u1 (h 0 _ rfl))).trans rfl)
theorem dk_192 {code : ByteArray} {pc : Nat} (a b : UInt8) (h : DkAt code pc [192, a, b]) : decode code pc = .ok (.checkcast (a.toNat * 256 + b.toNat), 3) := dk_of ((dk_bind (dk_u1 (h 0 _ rfl))).trans ((dk_bind (dk_u2 (h 1 _ rfl) (h 2 _ rfl))).trans rfl))
theorem dk_193 {code : ByteArray} {pc : Nat} (a b : UInt8) (h : DkAt code pc [193, a, b]) : decode code pc = .ok (.instanceof (a.toNat * 256 + b.toNat), 3) := dk_of ((dk_bind (dk_u1 (h 0 _ rfl))).trans ((dk_bind (dk_u2 (h 1 _ rfl) (h 2 _ rfl))).trans rfl))

set_option maxRecDepth 100000
/-! OmenLine -/
def RX0 : String := "OmenLine"
def TX0 : u_T := fun k => match k with
  | 0 => ("OmenLine", "faiths", "[LOmenLine$Plain;", true)
  | 1 => ("OmenLine", "now", "LOmenLine$Branch;", true)
  | 2 => ("OmenLine", "tried", "LOmenLine$Branch;", true)
  | 3 => ("OmenLine", "images", "[LOmenLine$Branch;", true)
  | 4 => ("OmenLine", "kept", "I", false)
  | 5 => ("OmenLine", "locks", "I", false)
  | 6 => ("OmenLine", "lock", "[B", true)
  | 7 => ("OmenLine", "seen", "[B", true)
  | 8 => ("OmenLine", "seenMany", "I", false)
  | 9 => ("OmenLine", "where", "[I", true)
  | 10 => ("OmenLine", "homes", "[I", true)
  | 11 => ("OmenLine", "isSeen", "[Z", true)
  | 12 => ("OmenLine", "left", "[I", true)
  | 13 => ("OmenLine", "were", "[B", true)
  | 14 => ("OmenLine", "bumpMinute", "I", false)
  | 15 => ("OmenLine", "bumpBlock", "I", false)
  | 16 => ("OmenLine", "bumpTrains", "I", false)
  | 17 => ("OmenLine", "waited", "I", false)
  | 18 => ("OmenLine", "keptOut", "I", false)
  | 19 => ("OmenLine", "used", "I", false)
  | 20 => ("OmenLine", "tape", "[B", true)
  | 21 => ("OmenLine", "taped", "I", false)
  | 22 => ("OmenLine", "fault", "I", false)
  | 23 => ("OmenLine", "costSum", "J", false)
  | 24 => ("OmenLine", "safeSum", "J", false)
  | 25 => ("OmenLine", "allWays", "J", false)
  | 26 => ("OmenLine", "would", "[B", true)
  | 27 => ("OmenLine", "sheets", "[LOmenLine$Sheet;", true)
  | _ => ("OmenLine", "torn", "I", false)
def tyX0 : Nat → FieldType := fun k => match k with
  | 0 => .array (.object "OmenLine$Plain")
  | 1 => .object "OmenLine$Branch"
  | 2 => .object "OmenLine$Branch"
  | 3 => .array (.object "OmenLine$Branch")
  | 4 => .int
  | 5 => .int
  | 6 => .array .byte
  | 7 => .array .byte
  | 8 => .int
  | 9 => .array .int
  | 10 => .array .int
  | 11 => .array .boolean
  | 12 => .array .int
  | 13 => .array .byte
  | 14 => .int
  | 15 => .int
  | 16 => .int
  | 17 => .int
  | 18 => .int
  | 19 => .int
  | 20 => .array .byte
  | 21 => .int
  | 22 => .int
  | 23 => .long
  | 24 => .long
  | 25 => .long
  | 26 => .array .byte
  | 27 => .array (.object "OmenLine$Sheet")
  | _ => .int
abbrev wsX00 : List Cond := u_ws RX0 TX0 29
theorem nmX0 : ∀ a, a < 29 → ∀ b, b < 29 → a ≠ b → (TX0 a).2.1 ≠ (TX0 b).2.1 := by decide +kernel
theorem tyX0_ok : ∀ k, k < 29 → parseFieldDescriptor (TX0 k).2.2.1 = some (tyX0 k) := by decide +kernel
abbrev cX0_init : ByteArray := prog_1_method_10_code
def yX0_init : MethodName := ⟨RX0, "<init>", "()V"⟩
abbrev cX0_feed : ByteArray := prog_1_method_11_code
def yX0_feed : MethodName := ⟨RX0, "feed", "(I)I"⟩
abbrev cX0_in : ByteArray := prog_1_method_1_code
def yX0_in : MethodName := ⟨RX0, "in", "(JJJ)Z"⟩
abbrev cX0_end : ByteArray := prog_1_method_12_code
def yX0_end : MethodName := ⟨RX0, "end", "(I)I"⟩
abbrev cX0_text : ByteArray := prog_1_method_13_code
def yX0_text : MethodName := ⟨RX0, "text", "()I"⟩
abbrev cX0_has : ByteArray := prog_1_method_2_code
def yX0_has : MethodName := ⟨RX0, "has", "(II)Z"⟩
abbrev cX0_fault : ByteArray := prog_1_method_14_code
def yX0_fault : MethodName := ⟨RX0, "fault", "()I"⟩
abbrev cX0_rule : ByteArray := prog_1_method_19_code
def yX0_rule : MethodName := ⟨RX0, "rule", "(I)I"⟩
abbrev cX0_block : ByteArray := prog_1_method_20_code
def yX0_block : MethodName := ⟨RX0, "block", "(II)I"⟩
abbrev cX0_isBlock : ByteArray := prog_1_method_15_code
def yX0_isBlock : MethodName := ⟨RX0, "isBlock", "(I)Z"⟩
abbrev cX0_lock : ByteArray := prog_1_method_21_code
def yX0_lock : MethodName := ⟨RX0, "lock", "(II)I"⟩
abbrev cX0_isPart : ByteArray := prog_1_method_17_code
def yX0_isPart : MethodName := ⟨RX0, "isPart", "(I)Z"⟩
abbrev cX0_train : ByteArray := prog_1_method_22_code
def yX0_train : MethodName := ⟨RX0, "train", "(II)I"⟩
abbrev cX0_isTrain : ByteArray := prog_1_method_16_code
def yX0_isTrain : MethodName := ⟨RX0, "isTrain", "(I)Z"⟩
abbrev cX0_waits : ByteArray := prog_1_method_23_code
def yX0_waits : MethodName := ⟨RX0, "waits", "(II)I"⟩
abbrev cX0_hang : ByteArray := prog_1_method_25_code
def yX0_hang : MethodName := ⟨RX0, "hang", "(II)I"⟩
abbrev cX0_canHang : ByteArray := prog_1_method_24_code
def yX0_canHang : MethodName := ⟨RX0, "canHang", "(LOmenLine$Branch;II)Z"⟩
abbrev cX0_isAllowed : ByteArray := prog_1_method_3_code
def yX0_isAllowed : MethodName := ⟨RX0, "isAllowed", "(I)Z"⟩
abbrev cX0_guard : ByteArray := prog_1_method_26_code
def yX0_guard : MethodName := ⟨RX0, "guard", "(IZ)I"⟩
abbrev cX0_set : ByteArray := prog_1_method_27_code
def yX0_set : MethodName := ⟨RX0, "set", "(III)I"⟩
abbrev cX0_home : ByteArray := prog_1_method_28_code
def yX0_home : MethodName := ⟨RX0, "home", "(I)I"⟩
abbrev cX0_runs : ByteArray := prog_1_method_7_code
def yX0_runs : MethodName := ⟨RX0, "runs", "(LOmenLine$Branch;)V"⟩
abbrev cX0_steps : ByteArray := prog_1_method_6_code
def yX0_steps : MethodName := ⟨RX0, "steps", "(LOmenLine$Branch;II)V"⟩
abbrev cX0_enters : ByteArray := prog_1_method_5_code
def yX0_enters : MethodName := ⟨RX0, "enters", "(LOmenLine$Branch;III)V"⟩
abbrev cX0_whoIn : ByteArray := prog_1_method_4_code
def yX0_whoIn : MethodName := ⟨RX0, "whoIn", "(LOmenLine$Branch;II)I"⟩
abbrev cX0_at : ByteArray := prog_1_method_29_code
def yX0_at : MethodName := ⟨RX0, "at", "(II)I"⟩
abbrev cX0_isMinute : ByteArray := prog_1_method_18_code
def yX0_isMinute : MethodName := ⟨RX0, "isMinute", "(I)Z"⟩
abbrev cX0_bump : ByteArray := prog_1_method_30_code
def yX0_bump : MethodName := ⟨RX0, "bump", "(I)I"⟩
abbrev cX0_sum : ByteArray := prog_1_method_31_code
def yX0_sum : MethodName := ⟨RX0, "sum", "(I)I"⟩
abbrev cX0_cost : ByteArray := prog_1_method_8_code
def yX0_cost : MethodName := ⟨RX0, "cost", "(LOmenLine$Branch;)I"⟩
abbrev cX0_homed : ByteArray := prog_1_method_9_code
def yX0_homed : MethodName := ⟨RX0, "homed", "(LOmenLine$Branch;)I"⟩
abbrev cX0_fewest : ByteArray := prog_1_method_33_code
def yX0_fewest : MethodName := ⟨RX0, "fewest", "(I)I"⟩
abbrev cX0_runsGuarded : ByteArray := prog_1_method_32_code
def yX0_runsGuarded : MethodName := ⟨RX0, "runsGuarded", "(I)V"⟩
abbrev cX0_guards : ByteArray := prog_1_method_34_code
def yX0_guards : MethodName := ⟨RX0, "guards", "(I)I"⟩
abbrev cX0_magpies : ByteArray := prog_1_method_36_code
def yX0_magpies : MethodName := ⟨RX0, "magpies", "(I)I"⟩
abbrev cX0_flies : ByteArray := prog_1_method_35_code
def yX0_flies : MethodName := ⟨RX0, "flies", "(I)V"⟩
abbrev cX0_starts : ByteArray := prog_1_method_39_code
def yX0_starts : MethodName := ⟨RX0, "starts", "(I)I"⟩
abbrev cX0_power : ByteArray := prog_1_method_37_code
def yX0_power : MethodName := ⟨RX0, "power", "(II)I"⟩
abbrev cX0_startsBy : ByteArray := prog_1_method_38_code
def yX0_startsBy : MethodName := ⟨RX0, "startsBy", "(I)V"⟩
abbrev cX0_allowed : ByteArray := prog_1_method_40_code
def yX0_allowed : MethodName := ⟨RX0, "allowed", "(I)I"⟩
abbrev cX0_convert : ByteArray := prog_1_method_41_code
def yX0_convert : MethodName := ⟨RX0, "convert", "(I)I"⟩
abbrev cX0_mean : ByteArray := prog_1_method_44_code
def yX0_mean : MethodName := ⟨RX0, "mean", "(II)J"⟩
abbrev cX0_findOdds : ByteArray := prog_1_method_43_code
def yX0_findOdds : MethodName := ⟨RX0, "findOdds", "(I)V"⟩
abbrev cX0_lowest : ByteArray := prog_1_method_42_code
def yX0_lowest : MethodName := ⟨RX0, "lowest", "(JJI)J"⟩
abbrev cX0_luck : ByteArray := prog_1_method_45_code
def yX0_luck : MethodName := ⟨RX0, "luck", "(II)J"⟩
abbrev cX0_see : ByteArray := prog_1_method_46_code
def yX0_see : MethodName := ⟨RX0, "see", "(III)I"⟩
abbrev cX0_forget : ByteArray := prog_1_method_47_code
def yX0_forget : MethodName := ⟨RX0, "forget", "(I)I"⟩
abbrev cX0_fits : ByteArray := prog_1_method_49_code
def yX0_fits : MethodName := ⟨RX0, "fits", "(I)I"⟩
abbrev cX0_fitting : ByteArray := prog_1_method_48_code
def yX0_fitting : MethodName := ⟨RX0, "fitting", "(I)I"⟩
abbrev cX0_look : ByteArray := prog_1_method_51_code
def yX0_look : MethodName := ⟨RX0, "look", "(II)I"⟩
abbrev cX0_worstBehind : ByteArray := prog_1_method_50_code
def yX0_worstBehind : MethodName := ⟨RX0, "worstBehind", "(II)I"⟩
abbrev cX0_drift : ByteArray := prog_1_method_52_code
def yX0_drift : MethodName := ⟨RX0, "drift", "(III)I"⟩
abbrev cX0_keep : ByteArray := prog_1_method_53_code
def yX0_keep : MethodName := ⟨RX0, "keep", "(I)I"⟩
abbrev cX0_back : ByteArray := prog_1_method_54_code
def yX0_back : MethodName := ⟨RX0, "back", "(I)I"⟩
abbrev cX0_sheet : ByteArray := prog_1_method_56_code
def yX0_sheet : MethodName := ⟨RX0, "sheet", "(III)I"⟩
abbrev cX0_isSheet : ByteArray := prog_1_method_55_code
def yX0_isSheet : MethodName := ⟨RX0, "isSheet", "(II)Z"⟩
abbrev cX0_lay : ByteArray := prog_1_method_57_code
def yX0_lay : MethodName := ⟨RX0, "lay", "(III)I"⟩
abbrev cX0_read : ByteArray := prog_1_method_59_code
def yX0_read : MethodName := ⟨RX0, "read", "(IIII)I"⟩
abbrev cX0_takenOf : ByteArray := prog_1_method_58_code
def yX0_takenOf : MethodName := ⟨RX0, "takenOf", "(III)I"⟩
abbrev cX0_torn : ByteArray := prog_1_method_60_code
def yX0_torn : MethodName := ⟨RX0, "torn", "()I"⟩
abbrev cX0_count : ByteArray := prog_1_method_61_code
def yX0_count : MethodName := ⟨RX0, "count", "(I)I"⟩

/-! OmenLine$Plain -/
def RX1 : String := "OmenLine$Plain"
abbrev cX1_init : ByteArray := prog_6_method_1_code
def yX1_init : MethodName := ⟨RX1, "<init>", "()V"⟩
abbrev cX1_waits : ByteArray := prog_6_method_2_code
def yX1_waits : MethodName := ⟨RX1, "waits", "(I)I"⟩

/-! OmenLine$Sceptic -/
def RX2 : String := "OmenLine$Sceptic"
abbrev cX2_init : ByteArray := prog_8_method_1_code
def yX2_init : MethodName := ⟨RX2, "<init>", "()V"⟩
abbrev cX2_waits : ByteArray := prog_8_method_2_code
def yX2_waits : MethodName := ⟨RX2, "waits", "(I)I"⟩

/-! OmenLine$Devout -/
def RX3 : String := "OmenLine$Devout"
abbrev cX3_init : ByteArray := prog_3_method_1_code
def yX3_init : MethodName := ⟨RX3, "<init>", "()V"⟩
abbrev cX3_waits : ByteArray := prog_3_method_2_code
def yX3_waits : MethodName := ⟨RX3, "waits", "(I)I"⟩

/-! OmenLine$Heathen -/
def RX4 : String := "OmenLine$Heathen"
abbrev cX4_init : ByteArray := prog_5_method_1_code
def yX4_init : MethodName := ⟨RX4, "<init>", "()V"⟩
abbrev cX4_waits : ByteArray := prog_5_method_2_code
def yX4_waits : MethodName := ⟨RX4, "waits", "(I)I"⟩

/-! OmenLine$Branch -/
def RX5 : String := "OmenLine$Branch"
def TX5 : u_T := fun k => match k with
  | 0 => ("OmenLine$Branch", "blocks", "I", false)
  | 1 => ("OmenLine$Branch", "omen", "[B", true)
  | 2 => ("OmenLine$Branch", "guarded", "I", false)
  | 3 => ("OmenLine$Branch", "trains", "I", false)
  | _ => ("OmenLine$Branch", "train", "[B", true)
def tyX5 : Nat → FieldType := fun k => match k with
  | 0 => .int
  | 1 => .array .byte
  | 2 => .int
  | 3 => .int
  | _ => .array .byte
abbrev wsX50 : List Cond := u_ws RX5 TX5 5
theorem nmX5 : ∀ a, a < 5 → ∀ b, b < 5 → a ≠ b → (TX5 a).2.1 ≠ (TX5 b).2.1 := by decide +kernel
theorem tyX5_ok : ∀ k, k < 5 → parseFieldDescriptor (TX5 k).2.2.1 = some (tyX5 k) := by decide +kernel
abbrev cX5_init : ByteArray := prog_2_method_1_code
def yX5_init : MethodName := ⟨RX5, "<init>", "()V"⟩
abbrev cX5_as : ByteArray := prog_2_method_2_code
def yX5_as : MethodName := ⟨RX5, "as", "(LOmenLine$Branch;)V"⟩
abbrev cX5_hung : ByteArray := prog_2_method_4_code
def yX5_hung : MethodName := ⟨RX5, "hung", "()I"⟩
abbrev cX5_of : ByteArray := prog_2_method_3_code
def yX5_of : MethodName := ⟨RX5, "of", "(II)I"⟩
abbrev cX5_next : ByteArray := prog_2_method_5_code
def yX5_next : MethodName := ⟨RX5, "next", "(II)I"⟩

/-! OmenLine$Sheet -/
def RX6 : String := "OmenLine$Sheet"
def TX6 : u_T := fun k => match k with
  | _ => ("OmenLine$Sheet", "row", "Ljava/lang/Object;", false)
def tyX6 : Nat → FieldType := fun k => match k with
  | _ => .object "java/lang/Object"
abbrev wsX60 : List Cond := u_ws RX6 TX6 1
theorem nmX6 : ∀ a, a < 1 → ∀ b, b < 1 → a ≠ b → (TX6 a).2.1 ≠ (TX6 b).2.1 := by decide +kernel
theorem tyX6_ok : ∀ k, k < 1 → parseFieldDescriptor (TX6 k).2.2.1 = some (tyX6 k) := by decide +kernel
abbrev cX6_init : ByteArray := prog_9_method_1_code
def yX6_init : MethodName := ⟨RX6, "<init>", "()V"⟩

/-! OmenLineModel -/
def RX7 : String := "OmenLineModel"
def TX7 : u_T := fun k => match k with
  | 0 => ("OmenLineModel", "state", "[I", true)
  | 1 => ("OmenLineModel", "blocks", "I", false)
  | 2 => ("OmenLineModel", "trainMany", "I", false)
  | 3 => ("OmenLineModel", "locks", "[I", true)
  | 4 => ("OmenLineModel", "lockMany", "I", false)
  | 5 => ("OmenLineModel", "waits", "[I", true)
  | 6 => ("OmenLineModel", "readPage", "[I", true)
  | 7 => ("OmenLineModel", "readLocks", "[I", true)
  | 8 => ("OmenLineModel", "readBlocks", "I", false)
  | 9 => ("OmenLineModel", "readTrains", "I", false)
  | 10 => ("OmenLineModel", "readLockMany", "I", false)
  | 11 => ("OmenLineModel", "blocksTold", "Z", false)
  | 12 => ("OmenLineModel", "omensTold", "I", false)
  | 13 => ("OmenLineModel", "highBlock", "I", false)
  | 14 => ("OmenLineModel", "tape", "[I", true)
  | 15 => ("OmenLineModel", "taped", "I", false)
  | 16 => ("OmenLineModel", "fault", "I", false)
  | 17 => ("OmenLineModel", "broken", "I", false)
  | 18 => ("OmenLineModel", "brokenAt", "I", false)
  | 19 => ("OmenLineModel", "spot", "I", false)
  | 20 => ("OmenLineModel", "here", "I", false)
  | 21 => ("OmenLineModel", "token", "I", false)
  | 22 => ("OmenLineModel", "value", "I", false)
  | 23 => ("OmenLineModel", "cuts", "[I", true)
  | 24 => ("OmenLineModel", "letters", "[I", true)
  | 25 => ("OmenLineModel", "place", "[I", true)
  | 26 => ("OmenLineModel", "left", "[I", true)
  | 27 => ("OmenLineModel", "hasSeen", "[Z", true)
  | 28 => ("OmenLineModel", "homeAt", "[I", true)
  | 29 => ("OmenLineModel", "places", "[I", true)
  | 30 => ("OmenLineModel", "bumpAt", "I", false)
  | 31 => ("OmenLineModel", "bumpIn", "I", false)
  | 32 => ("OmenLineModel", "bumpOf", "I", false)
  | 33 => ("OmenLineModel", "waited", "I", false)
  | 34 => ("OmenLineModel", "keptOut", "I", false)
  | 35 => ("OmenLineModel", "visited", "I", false)
  | 36 => ("OmenLineModel", "seen", "[I", true)
  | 37 => ("OmenLineModel", "seenMany", "I", false)
  | 38 => ("OmenLineModel", "wouldBe", "[I", true)
  | 39 => ("OmenLineModel", "drawn", "I", false)
  | 40 => ("OmenLineModel", "isKept", "[Z", true)
  | 41 => ("OmenLineModel", "lanes", "[I", true)
  | 42 => ("OmenLineModel", "lengths", "[I", true)
  | 43 => ("OmenLineModel", "cells", "[I", true)
  | _ => ("OmenLineModel", "torn", "I", false)
def tyX7 : Nat → FieldType := fun k => match k with
  | 0 => .array .int
  | 1 => .int
  | 2 => .int
  | 3 => .array .int
  | 4 => .int
  | 5 => .array .int
  | 6 => .array .int
  | 7 => .array .int
  | 8 => .int
  | 9 => .int
  | 10 => .int
  | 11 => .boolean
  | 12 => .int
  | 13 => .int
  | 14 => .array .int
  | 15 => .int
  | 16 => .int
  | 17 => .int
  | 18 => .int
  | 19 => .int
  | 20 => .int
  | 21 => .int
  | 22 => .int
  | 23 => .array .int
  | 24 => .array .int
  | 25 => .array .int
  | 26 => .array .int
  | 27 => .array .boolean
  | 28 => .array .int
  | 29 => .array .int
  | 30 => .int
  | 31 => .int
  | 32 => .int
  | 33 => .int
  | 34 => .int
  | 35 => .int
  | 36 => .array .int
  | 37 => .int
  | 38 => .array .int
  | 39 => .int
  | 40 => .array .boolean
  | 41 => .array .int
  | 42 => .array .int
  | 43 => .array .int
  | _ => .int
abbrev wsX70 : List Cond := u_ws RX7 TX7 45
theorem nmX7 : ∀ a, a < 45 → ∀ b, b < 45 → a ≠ b → (TX7 a).2.1 ≠ (TX7 b).2.1 := by decide +kernel
theorem tyX7_ok : ∀ k, k < 45 → parseFieldDescriptor (TX7 k).2.2.1 = some (tyX7 k) := by decide +kernel
abbrev cX7_init : ByteArray := prog_11_method_1_code
def yX7_init : MethodName := ⟨RX7, "<init>", "()V"⟩
abbrev cX7_feed : ByteArray := prog_11_method_4_code
def yX7_feed : MethodName := ⟨RX7, "feed", "(I)I"⟩
abbrev cX7_in : ByteArray := prog_11_method_3_code
def yX7_in : MethodName := ⟨RX7, "in", "(JJJ)Z"⟩
abbrev cX7_end : ByteArray := prog_11_method_5_code
def yX7_end : MethodName := ⟨RX7, "end", "(I)I"⟩
abbrev cX7_text : ByteArray := prog_11_method_17_code
def yX7_text : MethodName := ⟨RX7, "text", "()I"⟩
abbrev cX7_step : ByteArray := prog_11_method_9_code
def yX7_step : MethodName := ⟨RX7, "step", "()V"⟩
abbrev cX7_byteAt : ByteArray := prog_11_method_6_code
def yX7_byteAt : MethodName := ⟨RX7, "byteAt", "(I)I"⟩
abbrev cX7_fails : ByteArray := prog_11_method_7_code
def yX7_fails : MethodName := ⟨RX7, "fails", "(I)V"⟩
abbrev cX7_readLine : ByteArray := prog_11_method_15_code
def yX7_readLine : MethodName := ⟨RX7, "readLine", "()V"⟩
abbrev cX7_nameHere : ByteArray := prog_11_method_8_code
def yX7_nameHere : MethodName := ⟨RX7, "nameHere", "()I"⟩
abbrev cX7_readMore : ByteArray := prog_11_method_14_code
def yX7_readMore : MethodName := ⟨RX7, "readMore", "(I)V"⟩
abbrev cX7_blockHere : ByteArray := prog_11_method_11_code
def yX7_blockHere : MethodName := ⟨RX7, "blockHere", "(I)I"⟩
abbrev cX7_other : ByteArray := prog_11_method_10_code
def yX7_other : MethodName := ⟨RX7, "other", "(III)I"⟩
abbrev cX7_readTrain : ByteArray := prog_11_method_13_code
def yX7_readTrain : MethodName := ⟨RX7, "readTrain", "(I)V"⟩
abbrev cX7_readLock : ByteArray := prog_11_method_12_code
def yX7_readLock : MethodName := ⟨RX7, "readLock", "()V"⟩
abbrev cX7_areBothHung : ByteArray := prog_11_method_16_code
def yX7_areBothHung : MethodName := ⟨RX7, "areBothHung", "()Z"⟩
abbrev cX7_fault : ByteArray := prog_11_method_18_code
def yX7_fault : MethodName := ⟨RX7, "fault", "()I"⟩
abbrev cX7_rule : ByteArray := prog_11_method_22_code
def yX7_rule : MethodName := ⟨RX7, "rule", "(I)I"⟩
abbrev cX7_omens : ByteArray := prog_11_method_21_code
def yX7_omens : MethodName := ⟨RX7, "omens", "()I"⟩
abbrev cX7_block : ByteArray := prog_11_method_24_code
def yX7_block : MethodName := ⟨RX7, "block", "(II)I"⟩
abbrev cX7_isBlock : ByteArray := prog_11_method_19_code
def yX7_isBlock : MethodName := ⟨RX7, "isBlock", "(I)Z"⟩
abbrev cX7_lockedWith : ByteArray := prog_11_method_23_code
def yX7_lockedWith : MethodName := ⟨RX7, "lockedWith", "(I)I"⟩
abbrev cX7_lock : ByteArray := prog_11_method_25_code
def yX7_lock : MethodName := ⟨RX7, "lock", "(II)I"⟩
abbrev cX7_train : ByteArray := prog_11_method_26_code
def yX7_train : MethodName := ⟨RX7, "train", "(II)I"⟩
abbrev cX7_isTrain : ByteArray := prog_11_method_20_code
def yX7_isTrain : MethodName := ⟨RX7, "isTrain", "(I)Z"⟩
abbrev cX7_waits : ByteArray := prog_11_method_27_code
def yX7_waits : MethodName := ⟨RX7, "waits", "(II)I"⟩
abbrev cX7_hang : ByteArray := prog_11_method_29_code
def yX7_hang : MethodName := ⟨RX7, "hang", "(II)I"⟩
abbrev cX7_hangs : ByteArray := prog_11_method_28_code
def yX7_hangs : MethodName := ⟨RX7, "hangs", "(II)I"⟩
abbrev cX7_guard : ByteArray := prog_11_method_30_code
def yX7_guard : MethodName := ⟨RX7, "guard", "(IZ)I"⟩
abbrev cX7_set : ByteArray := prog_11_method_31_code
def yX7_set : MethodName := ⟨RX7, "set", "(III)I"⟩
abbrev cX7_home : ByteArray := prog_11_method_39_code
def yX7_home : MethodName := ⟨RX7, "home", "(I)I"⟩
abbrev cX7_run : ByteArray := prog_11_method_36_code
def yX7_run : MethodName := ⟨RX7, "run", "()V"⟩
abbrev cX7_moves : ByteArray := prog_11_method_35_code
def yX7_moves : MethodName := ⟨RX7, "moves", "(II)V"⟩
abbrev cX7_isUp : ByteArray := prog_11_method_32_code
def yX7_isUp : MethodName := ⟨RX7, "isUp", "(I)Z"⟩
abbrev cX7_nextBlock : ByteArray := prog_11_method_33_code
def yX7_nextBlock : MethodName := ⟨RX7, "nextBlock", "(I)I"⟩
abbrev cX7_otherIn : ByteArray := prog_11_method_34_code
def yX7_otherIn : MethodName := ⟨RX7, "otherIn", "(II)I"⟩
abbrev cX7_at : ByteArray := prog_11_method_40_code
def yX7_at : MethodName := ⟨RX7, "at", "(II)I"⟩
abbrev cX7_bump : ByteArray := prog_11_method_41_code
def yX7_bump : MethodName := ⟨RX7, "bump", "(I)I"⟩
abbrev cX7_sum : ByteArray := prog_11_method_42_code
def yX7_sum : MethodName := ⟨RX7, "sum", "(I)I"⟩
abbrev cX7_cost : ByteArray := prog_11_method_38_code
def yX7_cost : MethodName := ⟨RX7, "cost", "()I"⟩
abbrev cX7_homeMany : ByteArray := prog_11_method_37_code
def yX7_homeMany : MethodName := ⟨RX7, "homeMany", "()I"⟩
abbrev cX7_fewest : ByteArray := prog_11_method_46_code
def yX7_fewest : MethodName := ⟨RX7, "fewest", "(I)I"⟩
abbrev cX7_isFewer : ByteArray := prog_11_method_45_code
def yX7_isFewer : MethodName := ⟨RX7, "isFewer", "(II)Z"⟩
abbrev cX7_bitsOf : ByteArray := prog_11_method_43_code
def yX7_bitsOf : MethodName := ⟨RX7, "bitsOf", "(I)I"⟩
abbrev cX7_guards : ByteArray := prog_11_method_47_code
def yX7_guards : MethodName := ⟨RX7, "guards", "(I)I"⟩
abbrev cX7_magpies : ByteArray := prog_11_method_50_code
def yX7_magpies : MethodName := ⟨RX7, "magpies", "(I)I"⟩
abbrev cX7_copies : ByteArray := prog_11_method_44_code
def yX7_copies : MethodName := ⟨RX7, "copies", "(II)V"⟩
abbrev cX7_isAllowed : ByteArray := prog_11_method_48_code
def yX7_isAllowed : MethodName := ⟨RX7, "isAllowed", "(I)Z"⟩
abbrev cX7_magpiesIn : ByteArray := prog_11_method_49_code
def yX7_magpiesIn : MethodName := ⟨RX7, "magpiesIn", "(I)V"⟩
abbrev cX7_starts : ByteArray := prog_11_method_52_code
def yX7_starts : MethodName := ⟨RX7, "starts", "(I)I"⟩
abbrev cX7_laysStarts : ByteArray := prog_11_method_51_code
def yX7_laysStarts : MethodName := ⟨RX7, "laysStarts", "(I)V"⟩
abbrev cX7_allowed : ByteArray := prog_11_method_53_code
def yX7_allowed : MethodName := ⟨RX7, "allowed", "(I)I"⟩
abbrev cX7_convert : ByteArray := prog_11_method_54_code
def yX7_convert : MethodName := ⟨RX7, "convert", "(I)I"⟩
abbrev cX7_mean : ByteArray := prog_11_method_57_code
def yX7_mean : MethodName := ⟨RX7, "mean", "(II)J"⟩
abbrev cX7_byMagpies : ByteArray := prog_11_method_56_code
def yX7_byMagpies : MethodName := ⟨RX7, "byMagpies", "(IZI)J"⟩
abbrev cX7_lowest : ByteArray := prog_11_method_55_code
def yX7_lowest : MethodName := ⟨RX7, "lowest", "(JJI)J"⟩
abbrev cX7_luck : ByteArray := prog_11_method_58_code
def yX7_luck : MethodName := ⟨RX7, "luck", "(II)J"⟩
abbrev cX7_see : ByteArray := prog_11_method_59_code
def yX7_see : MethodName := ⟨RX7, "see", "(III)I"⟩
abbrev cX7_forget : ByteArray := prog_11_method_60_code
def yX7_forget : MethodName := ⟨RX7, "forget", "(I)I"⟩
abbrev cX7_fits : ByteArray := prog_11_method_62_code
def yX7_fits : MethodName := ⟨RX7, "fits", "(I)I"⟩
abbrev cX7_faithsOf : ByteArray := prog_11_method_61_code
def yX7_faithsOf : MethodName := ⟨RX7, "faithsOf", "(I)I"⟩
abbrev cX7_look : ByteArray := prog_11_method_63_code
def yX7_look : MethodName := ⟨RX7, "look", "(II)I"⟩
abbrev cX7_drift : ByteArray := prog_11_method_65_code
def yX7_drift : MethodName := ⟨RX7, "drift", "(III)I"⟩
abbrev cX7_draws : ByteArray := prog_11_method_64_code
def yX7_draws : MethodName := ⟨RX7, "draws", "(I)I"⟩
abbrev cX7_keep : ByteArray := prog_11_method_66_code
def yX7_keep : MethodName := ⟨RX7, "keep", "(I)I"⟩
abbrev cX7_back : ByteArray := prog_11_method_67_code
def yX7_back : MethodName := ⟨RX7, "back", "(I)I"⟩
abbrev cX7_sheet : ByteArray := prog_11_method_68_code
def yX7_sheet : MethodName := ⟨RX7, "sheet", "(III)I"⟩
abbrev cX7_lay : ByteArray := prog_11_method_69_code
def yX7_lay : MethodName := ⟨RX7, "lay", "(III)I"⟩
abbrev cX7_read : ByteArray := prog_11_method_70_code
def yX7_read : MethodName := ⟨RX7, "read", "(IIII)I"⟩
abbrev cX7_torn : ByteArray := prog_11_method_71_code
def yX7_torn : MethodName := ⟨RX7, "torn", "()I"⟩
abbrev cX7_count : ByteArray := prog_11_method_72_code
def yX7_count : MethodName := ⟨RX7, "count", "(I)I"⟩

/-! OmenLine$Reader -/
def RX8 : String := "OmenLine$Reader"
def TX8 : u_T := fun k => match k with
  | 0 => ("OmenLine$Reader", "size", "I", true)
  | 1 => ("OmenLine$Reader", "made", "LOmenLine$Branch;", true)
  | 2 => ("OmenLine$Reader", "madeLocks", "I", false)
  | 3 => ("OmenLine$Reader", "madeLock", "[B", true)
  | 4 => ("OmenLine$Reader", "hasBlocks", "Z", false)
  | 5 => ("OmenLine$Reader", "omened", "I", false)
  | 6 => ("OmenLine$Reader", "highest", "I", false)
  | 7 => ("OmenLine$Reader", "at", "I", false)
  | 8 => ("OmenLine$Reader", "from", "I", false)
  | 9 => ("OmenLine$Reader", "sort", "I", false)
  | 10 => ("OmenLine$Reader", "value", "I", false)
  | _ => ("OmenLine$Reader", "this$0", "LOmenLine;", true)
def tyX8 : Nat → FieldType := fun k => match k with
  | 0 => .int
  | 1 => .object "OmenLine$Branch"
  | 2 => .int
  | 3 => .array .byte
  | 4 => .boolean
  | 5 => .int
  | 6 => .int
  | 7 => .int
  | 8 => .int
  | 9 => .int
  | 10 => .int
  | _ => .object "OmenLine"
abbrev wsX80 : List Cond := u_ws RX8 TX8 12
theorem nmX8 : ∀ a, a < 12 → ∀ b, b < 12 → a ≠ b → (TX8 a).2.1 ≠ (TX8 b).2.1 := by decide +kernel
theorem tyX8_ok : ∀ k, k < 12 → parseFieldDescriptor (TX8 k).2.2.1 = some (tyX8 k) := by decide +kernel
abbrev cX8_init : ByteArray := prog_7_method_1_code
def yX8_init : MethodName := ⟨RX8, "<init>", "(LOmenLine;I)V"⟩
abbrev cX8_next : ByteArray := prog_7_method_8_code
def yX8_next : MethodName := ⟨RX8, "next", "()V"⟩
abbrev cX8_isIn : ByteArray := prog_7_method_2_code
def yX8_isIn : MethodName := ⟨RX8, "isIn", "(CC)Z"⟩
abbrev cX8_need : ByteArray := prog_7_method_3_code
def yX8_need : MethodName := ⟨RX8, "need", "(ZI)V"⟩
abbrev cX8_lines : ByteArray := prog_7_method_19_code
def yX8_lines : MethodName := ⟨RX8, "lines", "()I"⟩
abbrev cX8_line : ByteArray := prog_7_method_17_code
def yX8_line : MethodName := ⟨RX8, "line", "()V"⟩
abbrev cX8_which : ByteArray := prog_7_method_7_code
def yX8_which : MethodName := ⟨RX8, "which", "(II)I"⟩
abbrev cX8_is : ByteArray := prog_7_method_6_code
def yX8_is : MethodName := ⟨RX8, "is", "(I)Z"⟩
abbrev cX8_name : ByteArray := prog_7_method_5_code
def yX8_name : MethodName := ⟨RX8, "name", "(I)Ljava/lang/String;"⟩
abbrev cX8_faith : ByteArray := prog_7_method_4_code
def yX8_faith : MethodName := ⟨RX8, "faith", "(I)Ljava/lang/String;"⟩
abbrev cX8_told : ByteArray := prog_7_method_16_code
def yX8_told : MethodName := ⟨RX8, "told", "(I)V"⟩
abbrev cX8_taken : ByteArray := prog_7_method_10_code
def yX8_taken : MethodName := ⟨RX8, "taken", "(II)I"⟩
abbrev cX8_looked : ByteArray := prog_7_method_9_code
def yX8_looked : MethodName := ⟨RX8, "looked", "(II)I"⟩
abbrev cX8_guard : ByteArray := prog_7_method_13_code
def yX8_guard : MethodName := ⟨RX8, "guard", "()V"⟩
abbrev cX8_aBlock : ByteArray := prog_7_method_11_code
def yX8_aBlock : MethodName := ⟨RX8, "aBlock", "()I"⟩
abbrev cX8_lock : ByteArray := prog_7_method_14_code
def yX8_lock : MethodName := ⟨RX8, "lock", "()V"⟩
abbrev cX8_train : ByteArray := prog_7_method_15_code
def yX8_train : MethodName := ⟨RX8, "train", "(I)V"⟩
abbrev cX8_omen : ByteArray := prog_7_method_12_code
def yX8_omen : MethodName := ⟨RX8, "omen", "(I)V"⟩
abbrev cX8_isLocked : ByteArray := prog_7_method_18_code
def yX8_isLocked : MethodName := ⟨RX8, "isLocked", "()Z"⟩

/-! OmenLine$Fault -/
def RX9 : String := "OmenLine$Fault"
def TX9 : u_T := fun k => match k with
  | 0 => ("java/lang/Throwable", "cause", "Ljava/lang/Throwable;", false)
  | 1 => ("java/lang/Throwable", "stackTrace", "[Ljava/lang/StackTraceElement;", false)
  | 2 => ("java/lang/Throwable", "suppressedExceptions", "Ljava/util/List;", false)
  | 3 => ("java/lang/Throwable", "detailMessage", "Ljava/lang/String;", false)
  | 4 => ("java/lang/Throwable", "backtrace", "Ljava/lang/Object;", false)
  | 5 => ("java/lang/Throwable", "depth", "I", false)
  | 6 => ("OmenLine$Fault", "code", "I", true)
  | _ => ("OmenLine$Fault", "place", "I", true)
def tyX9 : Nat → FieldType := fun k => match k with
  | 0 => .object "java/lang/Throwable"
  | 1 => .array (.object "java/lang/StackTraceElement")
  | 2 => .object "java/util/List"
  | 3 => .object "java/lang/String"
  | 4 => .object "java/lang/Object"
  | 5 => .int
  | 6 => .int
  | _ => .int
abbrev wsX90 : List Cond := u_ws RX9 TX9 8
theorem nmX9 : ∀ a, a < 8 → ∀ b, b < 8 → a ≠ b → (TX9 a).2.1 ≠ (TX9 b).2.1 := by decide +kernel
theorem tyX9_ok : ∀ k, k < 8 → parseFieldDescriptor (TX9 k).2.2.1 = some (tyX9 k) := by decide +kernel
abbrev cX9_init : ByteArray := prog_4_method_1_code
def yX9_init : MethodName := ⟨RX9, "<init>", "(II)V"⟩

/-! java/lang/Throwable -/
def RJ0 : String := "java/lang/Throwable"
def TJ0 : u_T := fun k => match k with
  | 0 => ("java/lang/Throwable", "cause", "Ljava/lang/Throwable;", false)
  | 1 => ("java/lang/Throwable", "stackTrace", "[Ljava/lang/StackTraceElement;", false)
  | 2 => ("java/lang/Throwable", "suppressedExceptions", "Ljava/util/List;", false)
  | 3 => ("java/lang/Throwable", "detailMessage", "Ljava/lang/String;", false)
  | _ => ("java/lang/Throwable", "backtrace", "Ljava/lang/Object;", false)
def tyJ0 : Nat → FieldType := fun k => match k with
  | 0 => .object "java/lang/Throwable"
  | 1 => .array (.object "java/lang/StackTraceElement")
  | 2 => .object "java/util/List"
  | 3 => .object "java/lang/String"
  | _ => .object "java/lang/Object"
abbrev wsJ00 : List Cond := u_ws RJ0 TJ0 5
theorem nmJ0 : ∀ a, a < 5 → ∀ b, b < 5 → a ≠ b → (TJ0 a).2.1 ≠ (TJ0 b).2.1 := by decide +kernel
theorem tyJ0_ok : ∀ k, k < 5 → parseFieldDescriptor (TJ0 k).2.2.1 = some (tyJ0 k) := by decide +kernel
abbrev cJ0_init : ByteArray := prog_25_method_1_code
def yJ0_init : MethodName := ⟨RJ0, "<init>", "()V"⟩
abbrev cJ0_init_2 : ByteArray := prog_25_method_5_code
def yJ0_init_2 : MethodName := ⟨RJ0, "<init>", "(Ljava/lang/String;Ljava/lang/Throwable;ZZ)V"⟩
abbrev cJ0_init_3 : ByteArray := prog_25_method_2_code
def yJ0_init_3 : MethodName := ⟨RJ0, "<init>", "(Ljava/lang/String;)V"⟩

/-! java/lang/Exception -/
def RJ1 : String := "java/lang/Exception"
abbrev cJ1_init : ByteArray := prog_14_method_5_code
def yJ1_init : MethodName := ⟨RJ1, "<init>", "(Ljava/lang/String;Ljava/lang/Throwable;ZZ)V"⟩
abbrev cJ1_init_2 : ByteArray := prog_14_method_2_code
def yJ1_init_2 : MethodName := ⟨RJ1, "<init>", "(Ljava/lang/String;)V"⟩
abbrev cJ1_init_3 : ByteArray := prog_14_method_1_code
def yJ1_init_3 : MethodName := ⟨RJ1, "<init>", "()V"⟩

/-! java/lang/String -/
def RJ2 : String := "java/lang/String"
def TJ2 : u_T := fun k => match k with
  | 0 => ("java/lang/String", "value", "[B", true)
  | _ => ("java/lang/String", "coder", "B", true)
def tyJ2 : Nat → FieldType := fun k => match k with
  | 0 => .array .byte
  | _ => .byte
abbrev wsJ20 : List Cond := u_ws RJ2 TJ2 2
theorem nmJ2 : ∀ a, a < 2 → ∀ b, b < 2 → a ≠ b → (TJ2 a).2.1 ≠ (TJ2 b).2.1 := by decide +kernel
theorem tyJ2_ok : ∀ k, k < 2 → parseFieldDescriptor (TJ2 k).2.2.1 = some (tyJ2 k) := by decide +kernel
abbrev cJ2_length : ByteArray := prog_21_method_54_code
def yJ2_length : MethodName := ⟨RJ2, "length", "()I"⟩
abbrev cJ2_coder : ByteArray := prog_21_method_152_code
def yJ2_coder : MethodName := ⟨RJ2, "coder", "()B"⟩
abbrev cJ2_charAt : ByteArray := prog_21_method_56_code
def yJ2_charAt : MethodName := ⟨RJ2, "charAt", "(I)C"⟩
abbrev cJ2_isLatin1 : ByteArray := prog_21_method_154_code
def yJ2_isLatin1 : MethodName := ⟨RJ2, "isLatin1", "()Z"⟩
abbrev cJ2_checkIndex : ByteArray := prog_21_method_155_code
def yJ2_checkIndex : MethodName := ⟨RJ2, "checkIndex", "(II)V"⟩

/-! java/lang/StringLatin1 -/
def RJ3 : String := "java/lang/StringLatin1"
abbrev cJ3_charAt : ByteArray := prog_22_method_2_code
def yJ3_charAt : MethodName := ⟨RJ3, "charAt", "([BI)C"⟩

/-! jdk/internal/util/Preconditions -/
def RJ4 : String := "jdk/internal/util/Preconditions"
abbrev cJ4_checkIndex : ByteArray := prog_26_method_11_code
def yJ4_checkIndex : MethodName := ⟨RJ4, "checkIndex", "(IILjava/util/function/BiFunction;)I"⟩

/-! java/lang/StringUTF16 -/
def RJ5 : String := "java/lang/StringUTF16"
abbrev cJ5_charAt : ByteArray := prog_23_method_83_code
def yJ5_charAt : MethodName := ⟨RJ5, "charAt", "([BI)C"⟩
abbrev cJ5_checkIndex : ByteArray := prog_23_method_91_code
def yJ5_checkIndex : MethodName := ⟨RJ5, "checkIndex", "(I[B)V"⟩
abbrev cJ5_length : ByteArray := prog_23_method_6_code
def yJ5_length : MethodName := ⟨RJ5, "length", "([B)I"⟩
abbrev cJ5_getChar : ByteArray := prog_23_method_5_code
def yJ5_getChar : MethodName := ⟨RJ5, "getChar", "([BI)C"⟩

/-! java/lang/Math -/
def RJ6 : String := "java/lang/Math"
abbrev cJ6_max : ByteArray := prog_17_method_65_code
def yJ6_max : MethodName := ⟨RJ6, "max", "(II)I"⟩
abbrev cJ6_min : ByteArray := prog_17_method_69_code
def yJ6_min : MethodName := ⟨RJ6, "min", "(II)I"⟩

/-! java/lang/Integer -/
def RJ7 : String := "java/lang/Integer"
abbrev cJ7_bitCount : ByteArray := prog_16_method_49_code
def yJ7_bitCount : MethodName := ⟨RJ7, "bitCount", "(I)I"⟩

/-! java/lang/RuntimeException -/
def RJ8 : String := "java/lang/RuntimeException"
abbrev cJ8_init : ByteArray := prog_20_method_2_code
def yJ8_init : MethodName := ⟨RJ8, "<init>", "(Ljava/lang/String;)V"⟩
abbrev cJ8_init_2 : ByteArray := prog_20_method_1_code
def yJ8_init_2 : MethodName := ⟨RJ8, "<init>", "()V"⟩

/-! java/lang/NegativeArraySizeException -/
def RJ9 : String := "java/lang/NegativeArraySizeException"
def TJ9 : u_T := fun k => match k with
  | 0 => ("java/lang/Throwable", "backtrace", "Ljava/lang/Object;", false)
  | 1 => ("java/lang/Throwable", "detailMessage", "Ljava/lang/String;", false)
  | 2 => ("java/lang/Throwable", "cause", "Ljava/lang/Throwable;", false)
  | 3 => ("java/lang/Throwable", "stackTrace", "[Ljava/lang/StackTraceElement;", false)
  | 4 => ("java/lang/Throwable", "depth", "I", false)
  | _ => ("java/lang/Throwable", "suppressedExceptions", "Ljava/util/List;", false)
def tyJ9 : Nat → FieldType := fun k => match k with
  | 0 => .object "java/lang/Object"
  | 1 => .object "java/lang/String"
  | 2 => .object "java/lang/Throwable"
  | 3 => .array (.object "java/lang/StackTraceElement")
  | 4 => .int
  | _ => .object "java/util/List"
abbrev wsJ90 : List Cond := u_ws RJ9 TJ9 6
theorem nmJ9 : ∀ a, a < 6 → ∀ b, b < 6 → a ≠ b → (TJ9 a).2.1 ≠ (TJ9 b).2.1 := by decide +kernel
theorem tyJ9_ok : ∀ k, k < 6 → parseFieldDescriptor (TJ9 k).2.2.1 = some (tyJ9 k) := by decide +kernel
abbrev cJ9_init : ByteArray := prog_18_method_2_code
def yJ9_init : MethodName := ⟨RJ9, "<init>", "(Ljava/lang/String;)V"⟩

/-! java/lang/NullPointerException -/
def RJ10 : String := "java/lang/NullPointerException"
def TJ10 : u_T := fun k => match k with
  | 0 => ("java/lang/Throwable", "backtrace", "Ljava/lang/Object;", false)
  | 1 => ("java/lang/Throwable", "detailMessage", "Ljava/lang/String;", false)
  | 2 => ("java/lang/Throwable", "cause", "Ljava/lang/Throwable;", false)
  | 3 => ("java/lang/Throwable", "stackTrace", "[Ljava/lang/StackTraceElement;", false)
  | 4 => ("java/lang/Throwable", "depth", "I", false)
  | 5 => ("java/lang/Throwable", "suppressedExceptions", "Ljava/util/List;", false)
  | 6 => ("java/lang/NullPointerException", "extendedMessageState", "I", false)
  | _ => ("java/lang/NullPointerException", "extendedMessage", "Ljava/lang/String;", false)
def tyJ10 : Nat → FieldType := fun k => match k with
  | 0 => .object "java/lang/Object"
  | 1 => .object "java/lang/String"
  | 2 => .object "java/lang/Throwable"
  | 3 => .array (.object "java/lang/StackTraceElement")
  | 4 => .int
  | 5 => .object "java/util/List"
  | 6 => .int
  | _ => .object "java/lang/String"
abbrev wsJ100 : List Cond := u_ws RJ10 TJ10 8
theorem nmJ10 : ∀ a, a < 8 → ∀ b, b < 8 → a ≠ b → (TJ10 a).2.1 ≠ (TJ10 b).2.1 := by decide +kernel
theorem tyJ10_ok : ∀ k, k < 8 → parseFieldDescriptor (TJ10 k).2.2.1 = some (tyJ10 k) := by decide +kernel
abbrev cJ10_init : ByteArray := prog_19_method_1_code
def yJ10_init : MethodName := ⟨RJ10, "<init>", "()V"⟩

/-! java/lang/IndexOutOfBoundsException -/
def RJ11 : String := "java/lang/IndexOutOfBoundsException"
abbrev cJ11_init : ByteArray := prog_15_method_2_code
def yJ11_init : MethodName := ⟨RJ11, "<init>", "(Ljava/lang/String;)V"⟩

/-! java/lang/ArrayIndexOutOfBoundsException -/
def RJ12 : String := "java/lang/ArrayIndexOutOfBoundsException"
def TJ12 : u_T := fun k => match k with
  | 0 => ("java/lang/Throwable", "backtrace", "Ljava/lang/Object;", false)
  | 1 => ("java/lang/Throwable", "detailMessage", "Ljava/lang/String;", false)
  | 2 => ("java/lang/Throwable", "cause", "Ljava/lang/Throwable;", false)
  | 3 => ("java/lang/Throwable", "stackTrace", "[Ljava/lang/StackTraceElement;", false)
  | 4 => ("java/lang/Throwable", "depth", "I", false)
  | _ => ("java/lang/Throwable", "suppressedExceptions", "Ljava/util/List;", false)
def tyJ12 : Nat → FieldType := fun k => match k with
  | 0 => .object "java/lang/Object"
  | 1 => .object "java/lang/String"
  | 2 => .object "java/lang/Throwable"
  | 3 => .array (.object "java/lang/StackTraceElement")
  | 4 => .int
  | _ => .object "java/util/List"
abbrev wsJ120 : List Cond := u_ws RJ12 TJ12 6
theorem nmJ12 : ∀ a, a < 6 → ∀ b, b < 6 → a ≠ b → (TJ12 a).2.1 ≠ (TJ12 b).2.1 := by decide +kernel
theorem tyJ12_ok : ∀ k, k < 6 → parseFieldDescriptor (TJ12 k).2.2.1 = some (tyJ12 k) := by decide +kernel
abbrev cJ12_init : ByteArray := prog_12_method_2_code
def yJ12_init : MethodName := ⟨RJ12, "<init>", "(Ljava/lang/String;)V"⟩

/-! java/lang/ClassCastException -/
def RJ13 : String := "java/lang/ClassCastException"
def TJ13 : u_T := fun k => match k with
  | 0 => ("java/lang/Throwable", "backtrace", "Ljava/lang/Object;", false)
  | 1 => ("java/lang/Throwable", "detailMessage", "Ljava/lang/String;", false)
  | 2 => ("java/lang/Throwable", "cause", "Ljava/lang/Throwable;", false)
  | 3 => ("java/lang/Throwable", "stackTrace", "[Ljava/lang/StackTraceElement;", false)
  | 4 => ("java/lang/Throwable", "depth", "I", false)
  | _ => ("java/lang/Throwable", "suppressedExceptions", "Ljava/util/List;", false)
def tyJ13 : Nat → FieldType := fun k => match k with
  | 0 => .object "java/lang/Object"
  | 1 => .object "java/lang/String"
  | 2 => .object "java/lang/Throwable"
  | 3 => .array (.object "java/lang/StackTraceElement")
  | 4 => .int
  | _ => .object "java/util/List"
abbrev wsJ130 : List Cond := u_ws RJ13 TJ13 6
theorem nmJ13 : ∀ a, a < 6 → ∀ b, b < 6 → a ≠ b → (TJ13 a).2.1 ≠ (TJ13 b).2.1 := by decide +kernel
theorem tyJ13_ok : ∀ k, k < 6 → parseFieldDescriptor (TJ13 k).2.2.1 = some (tyJ13 k) := by decide +kernel
abbrev cJ13_init : ByteArray := prog_13_method_2_code
def yJ13_init : MethodName := ⟨RJ13, "<init>", "(Ljava/lang/String;)V"⟩

/-! java/lang/Object -/
def RJ14 : String := "java/lang/Object"
abbrev cJ14_init : ByteArray := object_method_1_code
def yJ14_init : MethodName := ⟨RJ14, "<init>", "()V"⟩

theorem q68 : (Jvm.Cond.initialized "OmenLine") ∈ lw_all := lw_g (lw_at lw_m1 1 rfl) rfl
theorem q94 : (Jvm.Cond.instantiable "OmenLine" (29 : Nat)) ∈ lw_all := lw_g (lw_at lw_m1 27 rfl) rfl
theorem q96 : (Jvm.Cond.instanceMethod ({ cls := "OmenLine", name := "<init>", desc := "()V" } : Jvm.MethodName)) ∈ lw_all := lw_g (lw_at lw_m1 29 rfl) rfl
theorem q97 : (Jvm.Cond.code ({ cls := "OmenLine", name := "<init>", desc := "()V" } : Jvm.MethodName) prog_1_method_10_code (2 : Nat) (Option.none : Option Jvm.ClassFile.FieldType)) ∈ lw_all := lw_g (lw_at lw_m1 30 rfl) rfl
theorem q98 : (Jvm.Cond.methodLink "OmenLine" (90 : Nat) ({ cls := "java/lang/Object", name := "<init>", desc := "()V" } : Jvm.MethodName)) ∈ lw_all := lw_g (lw_at lw_m1 31 rfl) rfl
theorem q101 : (Jvm.Cond.classLink "OmenLine" (71 : Nat) "OmenLine$Plain") ∈ lw_all := lw_g (lw_at lw_m1 34 rfl) rfl
theorem q104 : (Jvm.Cond.methodLinkNest "OmenLine" (96 : Nat) ({ cls := "OmenLine$Plain", name := "<init>", desc := "()V" } : Jvm.MethodName) "OmenLine") ∈ lw_tbl := lw_at lw_m1 37 rfl
theorem q109 : (Jvm.Cond.classLink "OmenLine" (97 : Nat) "OmenLine$Sceptic") ∈ lw_all := lw_g (lw_at lw_m1 42 rfl) rfl
theorem q111 : (Jvm.Cond.methodLinkNest "OmenLine" (99 : Nat) ({ cls := "OmenLine$Sceptic", name := "<init>", desc := "()V" } : Jvm.MethodName) "OmenLine") ∈ lw_tbl := lw_at lw_m1 44 rfl
theorem q116 : (Jvm.Cond.classLink "OmenLine" (100 : Nat) "OmenLine$Devout") ∈ lw_all := lw_g (lw_at lw_m1 49 rfl) rfl
theorem q118 : (Jvm.Cond.methodLinkNest "OmenLine" (102 : Nat) ({ cls := "OmenLine$Devout", name := "<init>", desc := "()V" } : Jvm.MethodName) "OmenLine") ∈ lw_tbl := lw_at lw_m1 51 rfl
theorem q123 : (Jvm.Cond.classLink "OmenLine" (103 : Nat) "OmenLine$Heathen") ∈ lw_all := lw_g (lw_at lw_m1 56 rfl) rfl
theorem q125 : (Jvm.Cond.methodLinkNest "OmenLine" (105 : Nat) ({ cls := "OmenLine$Heathen", name := "<init>", desc := "()V" } : Jvm.MethodName) "OmenLine") ∈ lw_tbl := lw_at lw_m1 58 rfl
theorem q130 : (Jvm.Cond.classLink "OmenLine" (16 : Nat) "OmenLine$Branch") ∈ lw_all := lw_g (lw_at lw_m1 63 rfl) rfl
theorem q132 : (Jvm.Cond.methodLinkNest "OmenLine" (106 : Nat) ({ cls := "OmenLine$Branch", name := "<init>", desc := "()V" } : Jvm.MethodName) "OmenLine") ∈ lw_tbl := lw_at lw_m1 65 rfl
theorem q137 : (Jvm.Cond.fieldLinkNest "OmenLine" (188 : Nat) "OmenLine$Branch" "blocks" "I" "OmenLine") ∈ lw_tbl := lw_at lw_m1 70 rfl
theorem q140 : (Jvm.Cond.fieldLinkNest "OmenLine" (67 : Nat) "OmenLine$Branch" "omen" "[B" "OmenLine") ∈ lw_tbl := lw_at lw_m1 73 rfl
theorem q143 : (Jvm.Cond.fieldLinkNest "OmenLine" (35 : Nat) "OmenLine$Branch" "guarded" "I" "OmenLine") ∈ lw_tbl := lw_at lw_m1 76 rfl
theorem q146 : (Jvm.Cond.fieldLinkNest "OmenLine" (15 : Nat) "OmenLine$Branch" "trains" "I" "OmenLine") ∈ lw_tbl := lw_at lw_m1 79 rfl
theorem q150 : (Jvm.Cond.fieldLinkNest "OmenLine" (221 : Nat) "OmenLine$Branch" "train" "[B" "OmenLine") ∈ lw_tbl := lw_at lw_m1 83 rfl
theorem q164 : (Jvm.Cond.classLink "OmenLine" (127 : Nat) "OmenLine$Sheet") ∈ lw_all := lw_g (lw_at lw_m1 97 rfl) rfl
theorem q167 : (Jvm.Cond.methodLinkNest "OmenLine" (133 : Nat) ({ cls := "OmenLine$Sheet", name := "<init>", desc := "()V" } : Jvm.MethodName) "OmenLine") ∈ lw_tbl := lw_at lw_m1 100 rfl
theorem q171 : (Jvm.Cond.fieldLinkNest "OmenLine" (297 : Nat) "OmenLine$Sheet" "row" "Ljava/lang/Object;" "OmenLine") ∈ lw_tbl := lw_at lw_m1 104 rfl
theorem q177 : (Jvm.Cond.fieldLink "OmenLine" (60 : Nat) "OmenLine" "faiths" "[LOmenLine$Plain;") ∈ lw_all := lw_g (lw_at lw_m1 110 rfl) rfl
theorem q178 : (Jvm.Cond.fieldLink "OmenLine" (107 : Nat) "OmenLine" "now" "LOmenLine$Branch;") ∈ lw_all := lw_g (lw_at lw_m1 111 rfl) rfl
theorem q179 : (Jvm.Cond.fieldLink "OmenLine" (111 : Nat) "OmenLine" "tried" "LOmenLine$Branch;") ∈ lw_all := lw_g (lw_at lw_m1 112 rfl) rfl
theorem q180 : (Jvm.Cond.fieldLink "OmenLine" (114 : Nat) "OmenLine" "images" "[LOmenLine$Branch;") ∈ lw_all := lw_g (lw_at lw_m1 113 rfl) rfl
theorem q181 : (Jvm.Cond.fieldLink "OmenLine" (177 : Nat) "OmenLine" "kept" "I") ∈ lw_all := lw_g (lw_at lw_m1 114 rfl) rfl
theorem q182 : (Jvm.Cond.fieldLink "OmenLine" (1 : Nat) "OmenLine" "locks" "I") ∈ lw_all := lw_g (lw_at lw_m1 115 rfl) rfl
theorem q183 : (Jvm.Cond.fieldLink "OmenLine" (7 : Nat) "OmenLine" "lock" "[B") ∈ lw_all := lw_g (lw_at lw_m1 116 rfl) rfl
theorem q184 : (Jvm.Cond.fieldLink "OmenLine" (118 : Nat) "OmenLine" "seen" "[B") ∈ lw_all := lw_g (lw_at lw_m1 117 rfl) rfl
theorem q185 : (Jvm.Cond.fieldLink "OmenLine" (174 : Nat) "OmenLine" "seenMany" "I") ∈ lw_all := lw_g (lw_at lw_m1 118 rfl) rfl
theorem q186 : (Jvm.Cond.fieldLink "OmenLine" (20 : Nat) "OmenLine" "where" "[I") ∈ lw_all := lw_g (lw_at lw_m1 119 rfl) rfl
theorem q187 : (Jvm.Cond.fieldLink "OmenLine" (54 : Nat) "OmenLine" "homes" "[I") ∈ lw_all := lw_g (lw_at lw_m1 120 rfl) rfl
theorem q188 : (Jvm.Cond.fieldLink "OmenLine" (28 : Nat) "OmenLine" "isSeen" "[Z") ∈ lw_all := lw_g (lw_at lw_m1 121 rfl) rfl
theorem q189 : (Jvm.Cond.fieldLink "OmenLine" (57 : Nat) "OmenLine" "left" "[I") ∈ lw_all := lw_g (lw_at lw_m1 122 rfl) rfl
theorem q190 : (Jvm.Cond.fieldLink "OmenLine" (87 : Nat) "OmenLine" "were" "[B") ∈ lw_all := lw_g (lw_at lw_m1 123 rfl) rfl
theorem q191 : (Jvm.Cond.fieldLink "OmenLine" (41 : Nat) "OmenLine" "bumpMinute" "I") ∈ lw_all := lw_g (lw_at lw_m1 124 rfl) rfl
theorem q192 : (Jvm.Cond.fieldLink "OmenLine" (44 : Nat) "OmenLine" "bumpBlock" "I") ∈ lw_all := lw_g (lw_at lw_m1 125 rfl) rfl
theorem q193 : (Jvm.Cond.fieldLink "OmenLine" (47 : Nat) "OmenLine" "bumpTrains" "I") ∈ lw_all := lw_g (lw_at lw_m1 126 rfl) rfl
theorem q194 : (Jvm.Cond.fieldLink "OmenLine" (76 : Nat) "OmenLine" "waited" "I") ∈ lw_all := lw_g (lw_at lw_m1 127 rfl) rfl
theorem q195 : (Jvm.Cond.fieldLink "OmenLine" (38 : Nat) "OmenLine" "keptOut" "I") ∈ lw_all := lw_g (lw_at lw_m1 128 rfl) rfl
theorem q196 : (Jvm.Cond.fieldLink "OmenLine" (32 : Nat) "OmenLine" "used" "I") ∈ lw_all := lw_g (lw_at lw_m1 129 rfl) rfl
theorem q198 : (Jvm.Cond.fieldLink "OmenLine" (121 : Nat) "OmenLine" "tape" "[B") ∈ lw_all := lw_g (lw_at lw_m1 131 rfl) rfl
theorem q199 : (Jvm.Cond.fieldLink "OmenLine" (140 : Nat) "OmenLine" "taped" "I") ∈ lw_all := lw_g (lw_at lw_m1 132 rfl) rfl
theorem q200 : (Jvm.Cond.fieldLink "OmenLine" (143 : Nat) "OmenLine" "fault" "I") ∈ lw_all := lw_g (lw_at lw_m1 133 rfl) rfl
theorem q201 : (Jvm.Cond.fieldLink "OmenLine" (264 : Nat) "OmenLine" "costSum" "J") ∈ lw_all := lw_g (lw_at lw_m1 134 rfl) rfl
theorem q202 : (Jvm.Cond.fieldLink "OmenLine" (268 : Nat) "OmenLine" "safeSum" "J") ∈ lw_all := lw_g (lw_at lw_m1 135 rfl) rfl
theorem q203 : (Jvm.Cond.fieldLink "OmenLine" (271 : Nat) "OmenLine" "allWays" "J") ∈ lw_all := lw_g (lw_at lw_m1 136 rfl) rfl
theorem q204 : (Jvm.Cond.fieldLink "OmenLine" (124 : Nat) "OmenLine" "would" "[B") ∈ lw_all := lw_g (lw_at lw_m1 137 rfl) rfl
theorem q205 : (Jvm.Cond.fieldLink "OmenLine" (129 : Nat) "OmenLine" "sheets" "[LOmenLine$Sheet;") ∈ lw_all := lw_g (lw_at lw_m1 138 rfl) rfl
theorem q206 : (Jvm.Cond.fieldLink "OmenLine" (320 : Nat) "OmenLine" "torn" "I") ∈ lw_all := lw_g (lw_at lw_m1 139 rfl) rfl
theorem q207 : (Jvm.Cond.laysFinal "OmenLine" "OmenLine" "faiths" "[LOmenLine$Plain;") ∈ lw_all := lw_g (lw_at lw_m1 140 rfl) rfl
theorem q208 : (Jvm.Cond.soleField "OmenLine" "faiths") ∈ lw_all := lw_g (lw_at lw_m1 141 rfl) rfl
theorem q209 : (Jvm.Cond.laysFinal "OmenLine" "OmenLine" "now" "LOmenLine$Branch;") ∈ lw_all := lw_g (lw_at lw_m1 142 rfl) rfl
theorem q210 : (Jvm.Cond.soleField "OmenLine" "now") ∈ lw_all := lw_g (lw_at lw_m1 143 rfl) rfl
theorem q211 : (Jvm.Cond.laysFinal "OmenLine" "OmenLine" "tried" "LOmenLine$Branch;") ∈ lw_all := lw_g (lw_at lw_m1 144 rfl) rfl
theorem q212 : (Jvm.Cond.soleField "OmenLine" "tried") ∈ lw_all := lw_g (lw_at lw_m1 145 rfl) rfl
theorem q213 : (Jvm.Cond.laysFinal "OmenLine" "OmenLine" "images" "[LOmenLine$Branch;") ∈ lw_all := lw_g (lw_at lw_m1 146 rfl) rfl
theorem q214 : (Jvm.Cond.soleField "OmenLine" "images") ∈ lw_all := lw_g (lw_at lw_m1 147 rfl) rfl
theorem q215 : (Jvm.Cond.lays "OmenLine" "OmenLine" "kept" "I") ∈ lw_all := lw_g (lw_at lw_m1 148 rfl) rfl
theorem q216 : (Jvm.Cond.soleField "OmenLine" "kept") ∈ lw_all := lw_g (lw_at lw_m1 149 rfl) rfl
theorem q217 : (Jvm.Cond.lays "OmenLine" "OmenLine" "locks" "I") ∈ lw_all := lw_g (lw_at lw_m1 150 rfl) rfl
theorem q218 : (Jvm.Cond.soleField "OmenLine" "locks") ∈ lw_all := lw_g (lw_at lw_m1 151 rfl) rfl
theorem q219 : (Jvm.Cond.laysFinal "OmenLine" "OmenLine" "lock" "[B") ∈ lw_all := lw_g (lw_at lw_m1 152 rfl) rfl
theorem q220 : (Jvm.Cond.soleField "OmenLine" "lock") ∈ lw_all := lw_g (lw_at lw_m1 153 rfl) rfl
theorem q221 : (Jvm.Cond.laysFinal "OmenLine" "OmenLine" "seen" "[B") ∈ lw_all := lw_g (lw_at lw_m1 154 rfl) rfl
theorem q222 : (Jvm.Cond.soleField "OmenLine" "seen") ∈ lw_all := lw_g (lw_at lw_m1 155 rfl) rfl
theorem q223 : (Jvm.Cond.lays "OmenLine" "OmenLine" "seenMany" "I") ∈ lw_all := lw_g (lw_at lw_m1 156 rfl) rfl
theorem q224 : (Jvm.Cond.soleField "OmenLine" "seenMany") ∈ lw_all := lw_g (lw_at lw_m1 157 rfl) rfl
theorem q225 : (Jvm.Cond.laysFinal "OmenLine" "OmenLine" "where" "[I") ∈ lw_all := lw_g (lw_at lw_m1 158 rfl) rfl
theorem q226 : (Jvm.Cond.soleField "OmenLine" "where") ∈ lw_all := lw_g (lw_at lw_m1 159 rfl) rfl
theorem q227 : (Jvm.Cond.laysFinal "OmenLine" "OmenLine" "homes" "[I") ∈ lw_all := lw_g (lw_at lw_m1 160 rfl) rfl
theorem q228 : (Jvm.Cond.soleField "OmenLine" "homes") ∈ lw_all := lw_g (lw_at lw_m1 161 rfl) rfl
theorem q229 : (Jvm.Cond.laysFinal "OmenLine" "OmenLine" "isSeen" "[Z") ∈ lw_all := lw_g (lw_at lw_m1 162 rfl) rfl
theorem q230 : (Jvm.Cond.soleField "OmenLine" "isSeen") ∈ lw_all := lw_g (lw_at lw_m1 163 rfl) rfl
theorem q231 : (Jvm.Cond.laysFinal "OmenLine" "OmenLine" "left" "[I") ∈ lw_all := lw_g (lw_at lw_m1 164 rfl) rfl
theorem q232 : (Jvm.Cond.soleField "OmenLine" "left") ∈ lw_all := lw_g (lw_at lw_m1 165 rfl) rfl
theorem q233 : (Jvm.Cond.laysFinal "OmenLine" "OmenLine" "were" "[B") ∈ lw_all := lw_g (lw_at lw_m1 166 rfl) rfl
theorem q234 : (Jvm.Cond.soleField "OmenLine" "were") ∈ lw_all := lw_g (lw_at lw_m1 167 rfl) rfl
theorem q235 : (Jvm.Cond.lays "OmenLine" "OmenLine" "bumpMinute" "I") ∈ lw_all := lw_g (lw_at lw_m1 168 rfl) rfl
theorem q236 : (Jvm.Cond.soleField "OmenLine" "bumpMinute") ∈ lw_all := lw_g (lw_at lw_m1 169 rfl) rfl
theorem q237 : (Jvm.Cond.lays "OmenLine" "OmenLine" "bumpBlock" "I") ∈ lw_all := lw_g (lw_at lw_m1 170 rfl) rfl
theorem q238 : (Jvm.Cond.soleField "OmenLine" "bumpBlock") ∈ lw_all := lw_g (lw_at lw_m1 171 rfl) rfl
theorem q239 : (Jvm.Cond.lays "OmenLine" "OmenLine" "bumpTrains" "I") ∈ lw_all := lw_g (lw_at lw_m1 172 rfl) rfl
theorem q240 : (Jvm.Cond.soleField "OmenLine" "bumpTrains") ∈ lw_all := lw_g (lw_at lw_m1 173 rfl) rfl
theorem q241 : (Jvm.Cond.lays "OmenLine" "OmenLine" "waited" "I") ∈ lw_all := lw_g (lw_at lw_m1 174 rfl) rfl
theorem q242 : (Jvm.Cond.soleField "OmenLine" "waited") ∈ lw_all := lw_g (lw_at lw_m1 175 rfl) rfl
theorem q243 : (Jvm.Cond.lays "OmenLine" "OmenLine" "keptOut" "I") ∈ lw_all := lw_g (lw_at lw_m1 176 rfl) rfl
theorem q244 : (Jvm.Cond.soleField "OmenLine" "keptOut") ∈ lw_all := lw_g (lw_at lw_m1 177 rfl) rfl
theorem q245 : (Jvm.Cond.lays "OmenLine" "OmenLine" "used" "I") ∈ lw_all := lw_g (lw_at lw_m1 178 rfl) rfl
theorem q246 : (Jvm.Cond.soleField "OmenLine" "used") ∈ lw_all := lw_g (lw_at lw_m1 179 rfl) rfl
theorem q247 : (Jvm.Cond.laysFinal "OmenLine" "OmenLine" "tape" "[B") ∈ lw_all := lw_g (lw_at lw_m1 180 rfl) rfl
theorem q248 : (Jvm.Cond.soleField "OmenLine" "tape") ∈ lw_all := lw_g (lw_at lw_m1 181 rfl) rfl
theorem q249 : (Jvm.Cond.lays "OmenLine" "OmenLine" "taped" "I") ∈ lw_all := lw_g (lw_at lw_m1 182 rfl) rfl
theorem q250 : (Jvm.Cond.soleField "OmenLine" "taped") ∈ lw_all := lw_g (lw_at lw_m1 183 rfl) rfl
theorem q251 : (Jvm.Cond.lays "OmenLine" "OmenLine" "fault" "I") ∈ lw_all := lw_g (lw_at lw_m1 184 rfl) rfl
theorem q252 : (Jvm.Cond.soleField "OmenLine" "fault") ∈ lw_all := lw_g (lw_at lw_m1 185 rfl) rfl
theorem q253 : (Jvm.Cond.lays "OmenLine" "OmenLine" "costSum" "J") ∈ lw_all := lw_g (lw_at lw_m1 186 rfl) rfl
theorem q254 : (Jvm.Cond.soleField "OmenLine" "costSum") ∈ lw_all := lw_g (lw_at lw_m1 187 rfl) rfl
theorem q255 : (Jvm.Cond.lays "OmenLine" "OmenLine" "safeSum" "J") ∈ lw_all := lw_g (lw_at lw_m1 188 rfl) rfl
theorem q256 : (Jvm.Cond.soleField "OmenLine" "safeSum") ∈ lw_all := lw_g (lw_at lw_m1 189 rfl) rfl
theorem q257 : (Jvm.Cond.lays "OmenLine" "OmenLine" "allWays" "J") ∈ lw_all := lw_g (lw_at lw_m1 190 rfl) rfl
theorem q258 : (Jvm.Cond.soleField "OmenLine" "allWays") ∈ lw_all := lw_g (lw_at lw_m1 191 rfl) rfl
theorem q259 : (Jvm.Cond.laysFinal "OmenLine" "OmenLine" "would" "[B") ∈ lw_all := lw_g (lw_at lw_m1 192 rfl) rfl
theorem q260 : (Jvm.Cond.soleField "OmenLine" "would") ∈ lw_all := lw_g (lw_at lw_m1 193 rfl) rfl
theorem q261 : (Jvm.Cond.laysFinal "OmenLine" "OmenLine" "sheets" "[LOmenLine$Sheet;") ∈ lw_all := lw_g (lw_at lw_m1 194 rfl) rfl
theorem q262 : (Jvm.Cond.soleField "OmenLine" "sheets") ∈ lw_all := lw_g (lw_at lw_m1 195 rfl) rfl
theorem q263 : (Jvm.Cond.lays "OmenLine" "OmenLine" "torn" "I") ∈ lw_all := lw_g (lw_at lw_m1 196 rfl) rfl
theorem q264 : (Jvm.Cond.soleField "OmenLine" "torn") ∈ lw_all := lw_g (lw_at lw_m1 197 rfl) rfl
theorem q265 : (Jvm.Cond.superclass "OmenLine" "java/lang/Object") ∈ lw_all := lw_g (lw_at lw_m1 198 rfl) rfl
theorem q267 : (Jvm.Cond.instanceMethod ({ cls := "OmenLine", name := "feed", desc := "(I)I" } : Jvm.MethodName)) ∈ lw_all := lw_g (lw_at lw_m1 200 rfl) rfl
theorem q268 : (Jvm.Cond.selects "OmenLine" ({ cls := "OmenLine", name := "feed", desc := "(I)I" } : Jvm.MethodName) ({ cls := "OmenLine", name := "feed", desc := "(I)I" } : Jvm.MethodName)) ∈ lw_all := lw_g (lw_at lw_m1 201 rfl) rfl
theorem q269 : (Jvm.Cond.code ({ cls := "OmenLine", name := "feed", desc := "(I)I" } : Jvm.MethodName) prog_1_method_11_code (2 : Nat) (Option.some Jvm.ClassFile.FieldType.int)) ∈ lw_all := lw_g (lw_at lw_m1 202 rfl) rfl
theorem q270 : (Jvm.Cond.constantLong "OmenLine" (134 : Nat) (127 : Int64)) ∈ lw_all := lw_g (lw_at lw_m1 203 rfl) rfl
theorem q271 : (Jvm.Cond.methodLink "OmenLine" (136 : Nat) ({ cls := "OmenLine", name := "in", desc := "(JJJ)Z" } : Jvm.MethodName)) ∈ lw_all := lw_g (lw_at lw_m1 204 rfl) rfl
theorem q272 : (Jvm.Cond.static ({ cls := "OmenLine", name := "in", desc := "(JJJ)Z" } : Jvm.MethodName)) ∈ lw_all := lw_g (lw_at lw_m1 205 rfl) rfl
theorem q273 : (Jvm.Cond.code ({ cls := "OmenLine", name := "in", desc := "(JJJ)Z" } : Jvm.MethodName) prog_1_method_1_code (6 : Nat) (Option.some Jvm.ClassFile.FieldType.boolean)) ∈ lw_all := lw_g (lw_at lw_m1 206 rfl) rfl
theorem q275 : (Jvm.Cond.instanceMethod ({ cls := "OmenLine", name := "end", desc := "(I)I" } : Jvm.MethodName)) ∈ lw_all := lw_g (lw_at lw_m1 208 rfl) rfl
theorem q276 : (Jvm.Cond.selects "OmenLine" ({ cls := "OmenLine", name := "end", desc := "(I)I" } : Jvm.MethodName) ({ cls := "OmenLine", name := "end", desc := "(I)I" } : Jvm.MethodName)) ∈ lw_all := lw_g (lw_at lw_m1 209 rfl) rfl
theorem q277 : (Jvm.Cond.code ({ cls := "OmenLine", name := "end", desc := "(I)I" } : Jvm.MethodName) prog_1_method_12_code (3 : Nat) (Option.some Jvm.ClassFile.FieldType.int)) ∈ lw_all := lw_g (lw_at lw_m1 210 rfl) rfl
theorem q279 : (Jvm.Cond.instanceMethod ({ cls := "OmenLine", name := "text", desc := "()I" } : Jvm.MethodName)) ∈ lw_all := lw_g (lw_at lw_m1 212 rfl) rfl
theorem q280 : (Jvm.Cond.selects "OmenLine" ({ cls := "OmenLine", name := "text", desc := "()I" } : Jvm.MethodName) ({ cls := "OmenLine", name := "text", desc := "()I" } : Jvm.MethodName)) ∈ lw_all := lw_g (lw_at lw_m1 213 rfl) rfl
theorem q281 : (Jvm.Cond.codeWith ({ cls := "OmenLine", name := "text", desc := "()I" } : Jvm.MethodName) prog_1_method_13_code (4 : Nat) (Option.some Jvm.ClassFile.FieldType.int) [((15 : Nat), (75 : Nat), (76 : Nat), (180 : Nat))]) ∈ lw_all := lw_g (lw_at lw_m1 214 rfl) rfl
theorem q282 : (Jvm.Cond.classLink "OmenLine" (180 : Nat) "OmenLine$Fault") ∈ lw_all := lw_g (lw_at lw_m1 215 rfl) rfl
theorem q283 : (Jvm.Cond.classLink "OmenLine" (146 : Nat) "OmenLine$Reader") ∈ lw_all := lw_g (lw_at lw_m1 216 rfl) rfl
theorem q285 : (Jvm.Cond.methodLink "OmenLine" (148 : Nat) ({ cls := "OmenLine$Reader", name := "<init>", desc := "(LOmenLine;I)V" } : Jvm.MethodName)) ∈ lw_all := lw_g (lw_at lw_m1 218 rfl) rfl
theorem q367 : (Jvm.Cond.fieldLinkNest "OmenLine" (182 : Nat) "OmenLine$Fault" "code" "I" "OmenLine") ∈ lw_tbl := lw_at lw_m2 60 rfl
theorem q369 : (Jvm.Cond.fieldLinkNest "OmenLine" (185 : Nat) "OmenLine$Fault" "place" "I" "OmenLine") ∈ lw_tbl := lw_at lw_m2 62 rfl
theorem q389 : (Jvm.Cond.fieldLinkNest "OmenLine" (155 : Nat) "OmenLine$Reader" "made" "LOmenLine$Branch;" "OmenLine") ∈ lw_tbl := lw_at lw_m2 82 rfl
theorem q390 : (Jvm.Cond.fieldLinkNest "OmenLine" (162 : Nat) "OmenLine$Reader" "madeLocks" "I" "OmenLine") ∈ lw_tbl := lw_at lw_m2 83 rfl
theorem q393 : (Jvm.Cond.fieldLinkNest "OmenLine" (165 : Nat) "OmenLine$Reader" "madeLock" "[B" "OmenLine") ∈ lw_tbl := lw_at lw_m2 86 rfl
theorem q427 : (Jvm.Cond.methodLink "OmenLine" (151 : Nat) ({ cls := "OmenLine$Reader", name := "lines", desc := "()I" } : Jvm.MethodName)) ∈ lw_all := lw_g (lw_at lw_m2 120 rfl) rfl
theorem q537 : (Jvm.Cond.static ({ cls := "OmenLine", name := "has", desc := "(II)Z" } : Jvm.MethodName)) ∈ lw_all := lw_g (lw_at lw_m2 230 rfl) rfl
theorem q538 : (Jvm.Cond.code ({ cls := "OmenLine", name := "has", desc := "(II)Z" } : Jvm.MethodName) prog_1_method_2_code (2 : Nat) (Option.some Jvm.ClassFile.FieldType.boolean)) ∈ lw_all := lw_g (lw_at lw_m2 231 rfl) rfl
theorem q555 : (Jvm.Cond.methodLink "OmenLine" (158 : Nat) ({ cls := "OmenLine$Branch", name := "as", desc := "(LOmenLine$Branch;)V" } : Jvm.MethodName)) ∈ lw_all := lw_g (lw_at lw_m3 8 rfl) rfl
theorem q562 : (Jvm.Cond.methodLink "OmenLine" (168 : Nat) ({ cls := "java/lang/System", name := "arraycopy", desc := "(Ljava/lang/Object;ILjava/lang/Object;II)V" } : Jvm.MethodName)) ∈ lw_all := lw_g (lw_at lw_m3 15 rfl) rfl
theorem q564 : (Jvm.Cond.instanceMethod ({ cls := "OmenLine", name := "fault", desc := "()I" } : Jvm.MethodName)) ∈ lw_all := lw_g (lw_at lw_m3 17 rfl) rfl
theorem q565 : (Jvm.Cond.selects "OmenLine" ({ cls := "OmenLine", name := "fault", desc := "()I" } : Jvm.MethodName) ({ cls := "OmenLine", name := "fault", desc := "()I" } : Jvm.MethodName)) ∈ lw_all := lw_g (lw_at lw_m3 18 rfl) rfl
theorem q566 : (Jvm.Cond.code ({ cls := "OmenLine", name := "fault", desc := "()I" } : Jvm.MethodName) prog_1_method_14_code (1 : Nat) (Option.some Jvm.ClassFile.FieldType.int)) ∈ lw_all := lw_g (lw_at lw_m3 19 rfl) rfl
theorem q568 : (Jvm.Cond.instanceMethod ({ cls := "OmenLine", name := "rule", desc := "(I)I" } : Jvm.MethodName)) ∈ lw_all := lw_g (lw_at lw_m3 21 rfl) rfl
theorem q569 : (Jvm.Cond.selects "OmenLine" ({ cls := "OmenLine", name := "rule", desc := "(I)I" } : Jvm.MethodName) ({ cls := "OmenLine", name := "rule", desc := "(I)I" } : Jvm.MethodName)) ∈ lw_all := lw_g (lw_at lw_m3 22 rfl) rfl
theorem q570 : (Jvm.Cond.code ({ cls := "OmenLine", name := "rule", desc := "(I)I" } : Jvm.MethodName) prog_1_method_19_code (2 : Nat) (Option.some Jvm.ClassFile.FieldType.int)) ∈ lw_all := lw_g (lw_at lw_m3 23 rfl) rfl
theorem q571 : (Jvm.Cond.methodLink "OmenLine" (193 : Nat) ({ cls := "OmenLine$Branch", name := "hung", desc := "()I" } : Jvm.MethodName)) ∈ lw_all := lw_g (lw_at lw_m3 24 rfl) rfl
theorem q576 : (Jvm.Cond.instanceMethod ({ cls := "OmenLine", name := "block", desc := "(II)I" } : Jvm.MethodName)) ∈ lw_all := lw_g (lw_at lw_m3 29 rfl) rfl
theorem q577 : (Jvm.Cond.selects "OmenLine" ({ cls := "OmenLine", name := "block", desc := "(II)I" } : Jvm.MethodName) ({ cls := "OmenLine", name := "block", desc := "(II)I" } : Jvm.MethodName)) ∈ lw_all := lw_g (lw_at lw_m3 30 rfl) rfl
theorem q578 : (Jvm.Cond.code ({ cls := "OmenLine", name := "block", desc := "(II)I" } : Jvm.MethodName) prog_1_method_20_code (5 : Nat) (Option.some Jvm.ClassFile.FieldType.int)) ∈ lw_all := lw_g (lw_at lw_m3 31 rfl) rfl
theorem q579 : (Jvm.Cond.methodLink "OmenLine" (196 : Nat) ({ cls := "OmenLine", name := "isBlock", desc := "(I)Z" } : Jvm.MethodName)) ∈ lw_all := lw_g (lw_at lw_m3 32 rfl) rfl
theorem q580 : (Jvm.Cond.privateMethod ({ cls := "OmenLine", name := "isBlock", desc := "(I)Z" } : Jvm.MethodName)) ∈ lw_tbl := lw_at lw_m3 33 rfl
theorem q581 : (Jvm.Cond.instanceMethod ({ cls := "OmenLine", name := "isBlock", desc := "(I)Z" } : Jvm.MethodName)) ∈ lw_all := lw_g (lw_at lw_m3 34 rfl) rfl
theorem q582 : (Jvm.Cond.code ({ cls := "OmenLine", name := "isBlock", desc := "(I)Z" } : Jvm.MethodName) prog_1_method_15_code (2 : Nat) (Option.some Jvm.ClassFile.FieldType.boolean)) ∈ lw_all := lw_g (lw_at lw_m3 35 rfl) rfl
theorem q583 : (Jvm.Cond.constantLong "OmenLine" (200 : Nat) (2 : Int64)) ∈ lw_all := lw_g (lw_at lw_m3 36 rfl) rfl
theorem q585 : (Jvm.Cond.instanceMethod ({ cls := "OmenLine", name := "lock", desc := "(II)I" } : Jvm.MethodName)) ∈ lw_all := lw_g (lw_at lw_m3 38 rfl) rfl
theorem q586 : (Jvm.Cond.selects "OmenLine" ({ cls := "OmenLine", name := "lock", desc := "(II)I" } : Jvm.MethodName) ({ cls := "OmenLine", name := "lock", desc := "(II)I" } : Jvm.MethodName)) ∈ lw_all := lw_g (lw_at lw_m3 39 rfl) rfl
theorem q587 : (Jvm.Cond.code ({ cls := "OmenLine", name := "lock", desc := "(II)I" } : Jvm.MethodName) prog_1_method_21_code (3 : Nat) (Option.some Jvm.ClassFile.FieldType.int)) ∈ lw_all := lw_g (lw_at lw_m3 40 rfl) rfl
theorem q588 : (Jvm.Cond.methodLink "OmenLine" (202 : Nat) ({ cls := "OmenLine", name := "isPart", desc := "(I)Z" } : Jvm.MethodName)) ∈ lw_all := lw_g (lw_at lw_m3 41 rfl) rfl
theorem q589 : (Jvm.Cond.static ({ cls := "OmenLine", name := "isPart", desc := "(I)Z" } : Jvm.MethodName)) ∈ lw_all := lw_g (lw_at lw_m3 42 rfl) rfl
theorem q590 : (Jvm.Cond.code ({ cls := "OmenLine", name := "isPart", desc := "(I)Z" } : Jvm.MethodName) prog_1_method_17_code (1 : Nat) (Option.some Jvm.ClassFile.FieldType.boolean)) ∈ lw_all := lw_g (lw_at lw_m3 43 rfl) rfl
theorem q592 : (Jvm.Cond.instanceMethod ({ cls := "OmenLine", name := "train", desc := "(II)I" } : Jvm.MethodName)) ∈ lw_all := lw_g (lw_at lw_m3 45 rfl) rfl
theorem q593 : (Jvm.Cond.selects "OmenLine" ({ cls := "OmenLine", name := "train", desc := "(II)I" } : Jvm.MethodName) ({ cls := "OmenLine", name := "train", desc := "(II)I" } : Jvm.MethodName)) ∈ lw_all := lw_g (lw_at lw_m3 46 rfl) rfl
theorem q594 : (Jvm.Cond.code ({ cls := "OmenLine", name := "train", desc := "(II)I" } : Jvm.MethodName) prog_1_method_22_code (3 : Nat) (Option.some Jvm.ClassFile.FieldType.int)) ∈ lw_all := lw_g (lw_at lw_m3 47 rfl) rfl
theorem q595 : (Jvm.Cond.methodLink "OmenLine" (205 : Nat) ({ cls := "OmenLine", name := "isTrain", desc := "(I)Z" } : Jvm.MethodName)) ∈ lw_all := lw_g (lw_at lw_m3 48 rfl) rfl
theorem q596 : (Jvm.Cond.privateMethod ({ cls := "OmenLine", name := "isTrain", desc := "(I)Z" } : Jvm.MethodName)) ∈ lw_tbl := lw_at lw_m3 49 rfl
theorem q597 : (Jvm.Cond.instanceMethod ({ cls := "OmenLine", name := "isTrain", desc := "(I)Z" } : Jvm.MethodName)) ∈ lw_all := lw_g (lw_at lw_m3 50 rfl) rfl
theorem q598 : (Jvm.Cond.code ({ cls := "OmenLine", name := "isTrain", desc := "(I)Z" } : Jvm.MethodName) prog_1_method_16_code (2 : Nat) (Option.some Jvm.ClassFile.FieldType.boolean)) ∈ lw_all := lw_g (lw_at lw_m3 51 rfl) rfl
theorem q599 : (Jvm.Cond.constantLong "OmenLine" (208 : Nat) (3 : Int64)) ∈ lw_all := lw_g (lw_at lw_m3 52 rfl) rfl
theorem q600 : (Jvm.Cond.methodLink "OmenLine" (64 : Nat) ({ cls := "OmenLine$Branch", name := "of", desc := "(II)I" } : Jvm.MethodName)) ∈ lw_all := lw_g (lw_at lw_m3 53 rfl) rfl
theorem q605 : (Jvm.Cond.instanceMethod ({ cls := "OmenLine", name := "waits", desc := "(II)I" } : Jvm.MethodName)) ∈ lw_all := lw_g (lw_at lw_m3 58 rfl) rfl
theorem q606 : (Jvm.Cond.selects "OmenLine" ({ cls := "OmenLine", name := "waits", desc := "(II)I" } : Jvm.MethodName) ({ cls := "OmenLine", name := "waits", desc := "(II)I" } : Jvm.MethodName)) ∈ lw_all := lw_g (lw_at lw_m3 59 rfl) rfl
theorem q607 : (Jvm.Cond.code ({ cls := "OmenLine", name := "waits", desc := "(II)I" } : Jvm.MethodName) prog_1_method_23_code (3 : Nat) (Option.some Jvm.ClassFile.FieldType.int)) ∈ lw_all := lw_g (lw_at lw_m3 60 rfl) rfl
theorem q608 : (Jvm.Cond.constantLong "OmenLine" (210 : Nat) (4 : Int64)) ∈ lw_all := lw_g (lw_at lw_m3 61 rfl) rfl
theorem q609 : (Jvm.Cond.methodLink "OmenLine" (70 : Nat) ({ cls := "OmenLine$Plain", name := "waits", desc := "(I)I" } : Jvm.MethodName)) ∈ lw_all := lw_g (lw_at lw_m3 62 rfl) rfl
theorem q628 : (Jvm.Cond.instanceMethod ({ cls := "OmenLine", name := "hang", desc := "(II)I" } : Jvm.MethodName)) ∈ lw_all := lw_g (lw_at lw_m3 81 rfl) rfl
theorem q629 : (Jvm.Cond.selects "OmenLine" ({ cls := "OmenLine", name := "hang", desc := "(II)I" } : Jvm.MethodName) ({ cls := "OmenLine", name := "hang", desc := "(II)I" } : Jvm.MethodName)) ∈ lw_all := lw_g (lw_at lw_m3 82 rfl) rfl
theorem q630 : (Jvm.Cond.code ({ cls := "OmenLine", name := "hang", desc := "(II)I" } : Jvm.MethodName) prog_1_method_25_code (4 : Nat) (Option.some Jvm.ClassFile.FieldType.int)) ∈ lw_all := lw_g (lw_at lw_m3 83 rfl) rfl
theorem q631 : (Jvm.Cond.methodLink "OmenLine" (215 : Nat) ({ cls := "OmenLine", name := "canHang", desc := "(LOmenLine$Branch;II)Z" } : Jvm.MethodName)) ∈ lw_all := lw_g (lw_at lw_m3 84 rfl) rfl
theorem q632 : (Jvm.Cond.privateMethod ({ cls := "OmenLine", name := "canHang", desc := "(LOmenLine$Branch;II)Z" } : Jvm.MethodName)) ∈ lw_tbl := lw_at lw_m3 85 rfl
theorem q633 : (Jvm.Cond.instanceMethod ({ cls := "OmenLine", name := "canHang", desc := "(LOmenLine$Branch;II)Z" } : Jvm.MethodName)) ∈ lw_all := lw_g (lw_at lw_m3 86 rfl) rfl
theorem q634 : (Jvm.Cond.code ({ cls := "OmenLine", name := "canHang", desc := "(LOmenLine$Branch;II)Z" } : Jvm.MethodName) prog_1_method_24_code (4 : Nat) (Option.some Jvm.ClassFile.FieldType.boolean)) ∈ lw_all := lw_g (lw_at lw_m3 87 rfl) rfl
theorem q635 : (Jvm.Cond.methodLink "OmenLine" (212 : Nat) ({ cls := "OmenLine", name := "isAllowed", desc := "(I)Z" } : Jvm.MethodName)) ∈ lw_all := lw_g (lw_at lw_m3 88 rfl) rfl
theorem q636 : (Jvm.Cond.privateMethod ({ cls := "OmenLine", name := "isAllowed", desc := "(I)Z" } : Jvm.MethodName)) ∈ lw_tbl := lw_at lw_m3 89 rfl
theorem q637 : (Jvm.Cond.instanceMethod ({ cls := "OmenLine", name := "isAllowed", desc := "(I)Z" } : Jvm.MethodName)) ∈ lw_all := lw_g (lw_at lw_m3 90 rfl) rfl
theorem q638 : (Jvm.Cond.code ({ cls := "OmenLine", name := "isAllowed", desc := "(I)Z" } : Jvm.MethodName) prog_1_method_3_code (4 : Nat) (Option.some Jvm.ClassFile.FieldType.boolean)) ∈ lw_all := lw_g (lw_at lw_m3 91 rfl) rfl
theorem q639 : (Jvm.Cond.methodLink "OmenLine" (11 : Nat) ({ cls := "OmenLine", name := "has", desc := "(II)Z" } : Jvm.MethodName)) ∈ lw_all := lw_g (lw_at lw_m3 92 rfl) rfl
theorem q641 : (Jvm.Cond.instanceMethod ({ cls := "OmenLine", name := "guard", desc := "(IZ)I" } : Jvm.MethodName)) ∈ lw_all := lw_g (lw_at lw_m3 94 rfl) rfl
theorem q642 : (Jvm.Cond.selects "OmenLine" ({ cls := "OmenLine", name := "guard", desc := "(IZ)I" } : Jvm.MethodName) ({ cls := "OmenLine", name := "guard", desc := "(IZ)I" } : Jvm.MethodName)) ∈ lw_all := lw_g (lw_at lw_m3 95 rfl) rfl
theorem q643 : (Jvm.Cond.code ({ cls := "OmenLine", name := "guard", desc := "(IZ)I" } : Jvm.MethodName) prog_1_method_26_code (4 : Nat) (Option.some Jvm.ClassFile.FieldType.int)) ∈ lw_all := lw_g (lw_at lw_m3 96 rfl) rfl
theorem q645 : (Jvm.Cond.instanceMethod ({ cls := "OmenLine", name := "set", desc := "(III)I" } : Jvm.MethodName)) ∈ lw_all := lw_g (lw_at lw_m3 98 rfl) rfl
theorem q646 : (Jvm.Cond.selects "OmenLine" ({ cls := "OmenLine", name := "set", desc := "(III)I" } : Jvm.MethodName) ({ cls := "OmenLine", name := "set", desc := "(III)I" } : Jvm.MethodName)) ∈ lw_all := lw_g (lw_at lw_m3 99 rfl) rfl
theorem q647 : (Jvm.Cond.code ({ cls := "OmenLine", name := "set", desc := "(III)I" } : Jvm.MethodName) prog_1_method_27_code (5 : Nat) (Option.some Jvm.ClassFile.FieldType.int)) ∈ lw_all := lw_g (lw_at lw_m3 100 rfl) rfl
theorem q648 : (Jvm.Cond.constantLong "OmenLine" (219 : Nat) (9 : Int64)) ∈ lw_all := lw_g (lw_at lw_m3 101 rfl) rfl
theorem q650 : (Jvm.Cond.instanceMethod ({ cls := "OmenLine", name := "home", desc := "(I)I" } : Jvm.MethodName)) ∈ lw_all := lw_g (lw_at lw_m3 103 rfl) rfl
theorem q651 : (Jvm.Cond.selects "OmenLine" ({ cls := "OmenLine", name := "home", desc := "(I)I" } : Jvm.MethodName) ({ cls := "OmenLine", name := "home", desc := "(I)I" } : Jvm.MethodName)) ∈ lw_all := lw_g (lw_at lw_m3 104 rfl) rfl
theorem q652 : (Jvm.Cond.code ({ cls := "OmenLine", name := "home", desc := "(I)I" } : Jvm.MethodName) prog_1_method_28_code (2 : Nat) (Option.some Jvm.ClassFile.FieldType.int)) ∈ lw_all := lw_g (lw_at lw_m3 105 rfl) rfl
theorem q653 : (Jvm.Cond.methodLink "OmenLine" (224 : Nat) ({ cls := "OmenLine", name := "runs", desc := "(LOmenLine$Branch;)V" } : Jvm.MethodName)) ∈ lw_all := lw_g (lw_at lw_m3 106 rfl) rfl
theorem q654 : (Jvm.Cond.privateMethod ({ cls := "OmenLine", name := "runs", desc := "(LOmenLine$Branch;)V" } : Jvm.MethodName)) ∈ lw_tbl := lw_at lw_m3 107 rfl
theorem q655 : (Jvm.Cond.instanceMethod ({ cls := "OmenLine", name := "runs", desc := "(LOmenLine$Branch;)V" } : Jvm.MethodName)) ∈ lw_all := lw_g (lw_at lw_m3 108 rfl) rfl
theorem q656 : (Jvm.Cond.code ({ cls := "OmenLine", name := "runs", desc := "(LOmenLine$Branch;)V" } : Jvm.MethodName) prog_1_method_7_code (4 : Nat) (Option.none : Option Jvm.ClassFile.FieldType)) ∈ lw_all := lw_g (lw_at lw_m3 109 rfl) rfl
theorem q657 : (Jvm.Cond.methodLink "OmenLine" (83 : Nat) ({ cls := "OmenLine", name := "steps", desc := "(LOmenLine$Branch;II)V" } : Jvm.MethodName)) ∈ lw_all := lw_g (lw_at lw_m3 110 rfl) rfl
theorem q658 : (Jvm.Cond.privateMethod ({ cls := "OmenLine", name := "steps", desc := "(LOmenLine$Branch;II)V" } : Jvm.MethodName)) ∈ lw_tbl := lw_at lw_m3 111 rfl
theorem q659 : (Jvm.Cond.instanceMethod ({ cls := "OmenLine", name := "steps", desc := "(LOmenLine$Branch;II)V" } : Jvm.MethodName)) ∈ lw_all := lw_g (lw_at lw_m3 112 rfl) rfl
theorem q660 : (Jvm.Cond.code ({ cls := "OmenLine", name := "steps", desc := "(LOmenLine$Branch;II)V" } : Jvm.MethodName) prog_1_method_6_code (5 : Nat) (Option.none : Option Jvm.ClassFile.FieldType)) ∈ lw_all := lw_g (lw_at lw_m3 113 rfl) rfl
theorem q661 : (Jvm.Cond.methodLink "OmenLine" (50 : Nat) ({ cls := "OmenLine$Branch", name := "next", desc := "(II)I" } : Jvm.MethodName)) ∈ lw_all := lw_g (lw_at lw_m3 114 rfl) rfl
theorem q666 : (Jvm.Cond.methodLink "OmenLine" (79 : Nat) ({ cls := "OmenLine", name := "enters", desc := "(LOmenLine$Branch;III)V" } : Jvm.MethodName)) ∈ lw_all := lw_g (lw_at lw_m3 119 rfl) rfl
theorem q667 : (Jvm.Cond.privateMethod ({ cls := "OmenLine", name := "enters", desc := "(LOmenLine$Branch;III)V" } : Jvm.MethodName)) ∈ lw_tbl := lw_at lw_m3 120 rfl
theorem q668 : (Jvm.Cond.instanceMethod ({ cls := "OmenLine", name := "enters", desc := "(LOmenLine$Branch;III)V" } : Jvm.MethodName)) ∈ lw_all := lw_g (lw_at lw_m3 121 rfl) rfl
theorem q669 : (Jvm.Cond.code ({ cls := "OmenLine", name := "enters", desc := "(LOmenLine$Branch;III)V" } : Jvm.MethodName) prog_1_method_5_code (6 : Nat) (Option.none : Option Jvm.ClassFile.FieldType)) ∈ lw_all := lw_g (lw_at lw_m3 122 rfl) rfl
theorem q670 : (Jvm.Cond.methodLink "OmenLine" (24 : Nat) ({ cls := "OmenLine", name := "whoIn", desc := "(LOmenLine$Branch;II)I" } : Jvm.MethodName)) ∈ lw_all := lw_g (lw_at lw_m3 123 rfl) rfl
theorem q671 : (Jvm.Cond.privateMethod ({ cls := "OmenLine", name := "whoIn", desc := "(LOmenLine$Branch;II)I" } : Jvm.MethodName)) ∈ lw_tbl := lw_at lw_m3 124 rfl
theorem q672 : (Jvm.Cond.instanceMethod ({ cls := "OmenLine", name := "whoIn", desc := "(LOmenLine$Branch;II)I" } : Jvm.MethodName)) ∈ lw_all := lw_g (lw_at lw_m3 125 rfl) rfl
theorem q673 : (Jvm.Cond.code ({ cls := "OmenLine", name := "whoIn", desc := "(LOmenLine$Branch;II)I" } : Jvm.MethodName) prog_1_method_4_code (5 : Nat) (Option.some Jvm.ClassFile.FieldType.int)) ∈ lw_all := lw_g (lw_at lw_m3 126 rfl) rfl
theorem q675 : (Jvm.Cond.instanceMethod ({ cls := "OmenLine", name := "at", desc := "(II)I" } : Jvm.MethodName)) ∈ lw_all := lw_g (lw_at lw_m3 128 rfl) rfl
theorem q676 : (Jvm.Cond.selects "OmenLine" ({ cls := "OmenLine", name := "at", desc := "(II)I" } : Jvm.MethodName) ({ cls := "OmenLine", name := "at", desc := "(II)I" } : Jvm.MethodName)) ∈ lw_all := lw_g (lw_at lw_m3 129 rfl) rfl
theorem q677 : (Jvm.Cond.code ({ cls := "OmenLine", name := "at", desc := "(II)I" } : Jvm.MethodName) prog_1_method_29_code (3 : Nat) (Option.some Jvm.ClassFile.FieldType.int)) ∈ lw_all := lw_g (lw_at lw_m3 130 rfl) rfl
theorem q678 : (Jvm.Cond.methodLink "OmenLine" (227 : Nat) ({ cls := "OmenLine", name := "isMinute", desc := "(I)Z" } : Jvm.MethodName)) ∈ lw_all := lw_g (lw_at lw_m3 131 rfl) rfl
theorem q679 : (Jvm.Cond.static ({ cls := "OmenLine", name := "isMinute", desc := "(I)Z" } : Jvm.MethodName)) ∈ lw_all := lw_g (lw_at lw_m3 132 rfl) rfl
theorem q680 : (Jvm.Cond.code ({ cls := "OmenLine", name := "isMinute", desc := "(I)Z" } : Jvm.MethodName) prog_1_method_18_code (1 : Nat) (Option.some Jvm.ClassFile.FieldType.boolean)) ∈ lw_all := lw_g (lw_at lw_m3 133 rfl) rfl
theorem q681 : (Jvm.Cond.constantLong "OmenLine" (191 : Nat) (119 : Int64)) ∈ lw_all := lw_g (lw_at lw_m3 134 rfl) rfl
theorem q683 : (Jvm.Cond.instanceMethod ({ cls := "OmenLine", name := "bump", desc := "(I)I" } : Jvm.MethodName)) ∈ lw_all := lw_g (lw_at lw_m3 136 rfl) rfl
theorem q684 : (Jvm.Cond.selects "OmenLine" ({ cls := "OmenLine", name := "bump", desc := "(I)I" } : Jvm.MethodName) ({ cls := "OmenLine", name := "bump", desc := "(I)I" } : Jvm.MethodName)) ∈ lw_all := lw_g (lw_at lw_m3 137 rfl) rfl
theorem q685 : (Jvm.Cond.code ({ cls := "OmenLine", name := "bump", desc := "(I)I" } : Jvm.MethodName) prog_1_method_30_code (2 : Nat) (Option.some Jvm.ClassFile.FieldType.int)) ∈ lw_all := lw_g (lw_at lw_m3 138 rfl) rfl
theorem q687 : (Jvm.Cond.instanceMethod ({ cls := "OmenLine", name := "sum", desc := "(I)I" } : Jvm.MethodName)) ∈ lw_all := lw_g (lw_at lw_m3 140 rfl) rfl
theorem q688 : (Jvm.Cond.selects "OmenLine" ({ cls := "OmenLine", name := "sum", desc := "(I)I" } : Jvm.MethodName) ({ cls := "OmenLine", name := "sum", desc := "(I)I" } : Jvm.MethodName)) ∈ lw_all := lw_g (lw_at lw_m3 141 rfl) rfl
theorem q689 : (Jvm.Cond.code ({ cls := "OmenLine", name := "sum", desc := "(I)I" } : Jvm.MethodName) prog_1_method_31_code (2 : Nat) (Option.some Jvm.ClassFile.FieldType.int)) ∈ lw_all := lw_g (lw_at lw_m3 142 rfl) rfl
theorem q690 : (Jvm.Cond.methodLink "OmenLine" (230 : Nat) ({ cls := "OmenLine", name := "cost", desc := "(LOmenLine$Branch;)I" } : Jvm.MethodName)) ∈ lw_all := lw_g (lw_at lw_m3 143 rfl) rfl
theorem q691 : (Jvm.Cond.privateMethod ({ cls := "OmenLine", name := "cost", desc := "(LOmenLine$Branch;)I" } : Jvm.MethodName)) ∈ lw_tbl := lw_at lw_m3 144 rfl
theorem q692 : (Jvm.Cond.instanceMethod ({ cls := "OmenLine", name := "cost", desc := "(LOmenLine$Branch;)I" } : Jvm.MethodName)) ∈ lw_all := lw_g (lw_at lw_m3 145 rfl) rfl
theorem q693 : (Jvm.Cond.code ({ cls := "OmenLine", name := "cost", desc := "(LOmenLine$Branch;)I" } : Jvm.MethodName) prog_1_method_8_code (4 : Nat) (Option.some Jvm.ClassFile.FieldType.int)) ∈ lw_all := lw_g (lw_at lw_m3 146 rfl) rfl
theorem q694 : (Jvm.Cond.methodLink "OmenLine" (234 : Nat) ({ cls := "OmenLine", name := "homed", desc := "(LOmenLine$Branch;)I" } : Jvm.MethodName)) ∈ lw_all := lw_g (lw_at lw_m3 147 rfl) rfl
theorem q695 : (Jvm.Cond.privateMethod ({ cls := "OmenLine", name := "homed", desc := "(LOmenLine$Branch;)I" } : Jvm.MethodName)) ∈ lw_tbl := lw_at lw_m3 148 rfl
theorem q696 : (Jvm.Cond.instanceMethod ({ cls := "OmenLine", name := "homed", desc := "(LOmenLine$Branch;)I" } : Jvm.MethodName)) ∈ lw_all := lw_g (lw_at lw_m3 149 rfl) rfl
theorem q697 : (Jvm.Cond.code ({ cls := "OmenLine", name := "homed", desc := "(LOmenLine$Branch;)I" } : Jvm.MethodName) prog_1_method_9_code (4 : Nat) (Option.some Jvm.ClassFile.FieldType.int)) ∈ lw_all := lw_g (lw_at lw_m3 150 rfl) rfl
theorem q699 : (Jvm.Cond.instanceMethod ({ cls := "OmenLine", name := "fewest", desc := "(I)I" } : Jvm.MethodName)) ∈ lw_all := lw_g (lw_at lw_m3 152 rfl) rfl
theorem q700 : (Jvm.Cond.selects "OmenLine" ({ cls := "OmenLine", name := "fewest", desc := "(I)I" } : Jvm.MethodName) ({ cls := "OmenLine", name := "fewest", desc := "(I)I" } : Jvm.MethodName)) ∈ lw_all := lw_g (lw_at lw_m3 153 rfl) rfl
theorem q701 : (Jvm.Cond.code ({ cls := "OmenLine", name := "fewest", desc := "(I)I" } : Jvm.MethodName) prog_1_method_33_code (5 : Nat) (Option.some Jvm.ClassFile.FieldType.int)) ∈ lw_all := lw_g (lw_at lw_m3 154 rfl) rfl
theorem q702 : (Jvm.Cond.constant "OmenLine" (237 : Nat) (1000000 : Int32)) ∈ lw_all := lw_g (lw_at lw_m3 155 rfl) rfl
theorem q703 : (Jvm.Cond.methodLink "OmenLine" (238 : Nat) ({ cls := "java/lang/Integer", name := "bitCount", desc := "(I)I" } : Jvm.MethodName)) ∈ lw_all := lw_g (lw_at lw_m3 156 rfl) rfl
theorem q709 : (Jvm.Cond.methodLink "OmenLine" (243 : Nat) ({ cls := "OmenLine", name := "runsGuarded", desc := "(I)V" } : Jvm.MethodName)) ∈ lw_all := lw_g (lw_at lw_m3 162 rfl) rfl
theorem q710 : (Jvm.Cond.privateMethod ({ cls := "OmenLine", name := "runsGuarded", desc := "(I)V" } : Jvm.MethodName)) ∈ lw_tbl := lw_at lw_m3 163 rfl
theorem q711 : (Jvm.Cond.instanceMethod ({ cls := "OmenLine", name := "runsGuarded", desc := "(I)V" } : Jvm.MethodName)) ∈ lw_all := lw_g (lw_at lw_m3 164 rfl) rfl
theorem q712 : (Jvm.Cond.code ({ cls := "OmenLine", name := "runsGuarded", desc := "(I)V" } : Jvm.MethodName) prog_1_method_32_code (2 : Nat) (Option.none : Option Jvm.ClassFile.FieldType)) ∈ lw_all := lw_g (lw_at lw_m3 165 rfl) rfl
theorem q714 : (Jvm.Cond.instanceMethod ({ cls := "OmenLine", name := "guards", desc := "(I)I" } : Jvm.MethodName)) ∈ lw_all := lw_g (lw_at lw_m3 167 rfl) rfl
theorem q715 : (Jvm.Cond.selects "OmenLine" ({ cls := "OmenLine", name := "guards", desc := "(I)I" } : Jvm.MethodName) ({ cls := "OmenLine", name := "guards", desc := "(I)I" } : Jvm.MethodName)) ∈ lw_all := lw_g (lw_at lw_m3 168 rfl) rfl
theorem q716 : (Jvm.Cond.code ({ cls := "OmenLine", name := "guards", desc := "(I)I" } : Jvm.MethodName) prog_1_method_34_code (6 : Nat) (Option.some Jvm.ClassFile.FieldType.int)) ∈ lw_all := lw_g (lw_at lw_m3 169 rfl) rfl
theorem q718 : (Jvm.Cond.instanceMethod ({ cls := "OmenLine", name := "magpies", desc := "(I)I" } : Jvm.MethodName)) ∈ lw_all := lw_g (lw_at lw_m3 171 rfl) rfl
theorem q719 : (Jvm.Cond.selects "OmenLine" ({ cls := "OmenLine", name := "magpies", desc := "(I)I" } : Jvm.MethodName) ({ cls := "OmenLine", name := "magpies", desc := "(I)I" } : Jvm.MethodName)) ∈ lw_all := lw_g (lw_at lw_m3 172 rfl) rfl
theorem q720 : (Jvm.Cond.code ({ cls := "OmenLine", name := "magpies", desc := "(I)I" } : Jvm.MethodName) prog_1_method_36_code (6 : Nat) (Option.some Jvm.ClassFile.FieldType.int)) ∈ lw_all := lw_g (lw_at lw_m3 173 rfl) rfl
theorem q721 : (Jvm.Cond.methodLink "OmenLine" (247 : Nat) ({ cls := "OmenLine", name := "flies", desc := "(I)V" } : Jvm.MethodName)) ∈ lw_all := lw_g (lw_at lw_m3 174 rfl) rfl
theorem q722 : (Jvm.Cond.privateMethod ({ cls := "OmenLine", name := "flies", desc := "(I)V" } : Jvm.MethodName)) ∈ lw_tbl := lw_at lw_m3 175 rfl
theorem q723 : (Jvm.Cond.instanceMethod ({ cls := "OmenLine", name := "flies", desc := "(I)V" } : Jvm.MethodName)) ∈ lw_all := lw_g (lw_at lw_m3 176 rfl) rfl
theorem q724 : (Jvm.Cond.code ({ cls := "OmenLine", name := "flies", desc := "(I)V" } : Jvm.MethodName) prog_1_method_35_code (3 : Nat) (Option.none : Option Jvm.ClassFile.FieldType)) ∈ lw_all := lw_g (lw_at lw_m3 177 rfl) rfl
theorem q726 : (Jvm.Cond.instanceMethod ({ cls := "OmenLine", name := "starts", desc := "(I)I" } : Jvm.MethodName)) ∈ lw_all := lw_g (lw_at lw_m3 179 rfl) rfl
theorem q727 : (Jvm.Cond.selects "OmenLine" ({ cls := "OmenLine", name := "starts", desc := "(I)I" } : Jvm.MethodName) ({ cls := "OmenLine", name := "starts", desc := "(I)I" } : Jvm.MethodName)) ∈ lw_all := lw_g (lw_at lw_m3 180 rfl) rfl
theorem q728 : (Jvm.Cond.code ({ cls := "OmenLine", name := "starts", desc := "(I)I" } : Jvm.MethodName) prog_1_method_39_code (6 : Nat) (Option.some Jvm.ClassFile.FieldType.int)) ∈ lw_all := lw_g (lw_at lw_m3 181 rfl) rfl
theorem q729 : (Jvm.Cond.methodLink "OmenLine" (250 : Nat) ({ cls := "OmenLine", name := "power", desc := "(II)I" } : Jvm.MethodName)) ∈ lw_all := lw_g (lw_at lw_m3 182 rfl) rfl
theorem q730 : (Jvm.Cond.static ({ cls := "OmenLine", name := "power", desc := "(II)I" } : Jvm.MethodName)) ∈ lw_all := lw_g (lw_at lw_m3 183 rfl) rfl
theorem q731 : (Jvm.Cond.code ({ cls := "OmenLine", name := "power", desc := "(II)I" } : Jvm.MethodName) prog_1_method_37_code (4 : Nat) (Option.some Jvm.ClassFile.FieldType.int)) ∈ lw_all := lw_g (lw_at lw_m3 184 rfl) rfl
theorem q732 : (Jvm.Cond.methodLink "OmenLine" (253 : Nat) ({ cls := "OmenLine", name := "startsBy", desc := "(I)V" } : Jvm.MethodName)) ∈ lw_all := lw_g (lw_at lw_m3 185 rfl) rfl
theorem q733 : (Jvm.Cond.privateMethod ({ cls := "OmenLine", name := "startsBy", desc := "(I)V" } : Jvm.MethodName)) ∈ lw_tbl := lw_at lw_m3 186 rfl
theorem q734 : (Jvm.Cond.instanceMethod ({ cls := "OmenLine", name := "startsBy", desc := "(I)V" } : Jvm.MethodName)) ∈ lw_all := lw_g (lw_at lw_m3 187 rfl) rfl
theorem q735 : (Jvm.Cond.code ({ cls := "OmenLine", name := "startsBy", desc := "(I)V" } : Jvm.MethodName) prog_1_method_38_code (4 : Nat) (Option.none : Option Jvm.ClassFile.FieldType)) ∈ lw_all := lw_g (lw_at lw_m3 188 rfl) rfl
theorem q737 : (Jvm.Cond.instanceMethod ({ cls := "OmenLine", name := "allowed", desc := "(I)I" } : Jvm.MethodName)) ∈ lw_all := lw_g (lw_at lw_m3 190 rfl) rfl
theorem q738 : (Jvm.Cond.selects "OmenLine" ({ cls := "OmenLine", name := "allowed", desc := "(I)I" } : Jvm.MethodName) ({ cls := "OmenLine", name := "allowed", desc := "(I)I" } : Jvm.MethodName)) ∈ lw_all := lw_g (lw_at lw_m3 191 rfl) rfl
theorem q739 : (Jvm.Cond.code ({ cls := "OmenLine", name := "allowed", desc := "(I)I" } : Jvm.MethodName) prog_1_method_40_code (5 : Nat) (Option.some Jvm.ClassFile.FieldType.int)) ∈ lw_all := lw_g (lw_at lw_m3 192 rfl) rfl
theorem q740 : (Jvm.Cond.methodLink "OmenLine" (256 : Nat) ({ cls := "java/lang/Math", name := "max", desc := "(II)I" } : Jvm.MethodName)) ∈ lw_all := lw_g (lw_at lw_m3 193 rfl) rfl
theorem q742 : (Jvm.Cond.instanceMethod ({ cls := "OmenLine", name := "convert", desc := "(I)I" } : Jvm.MethodName)) ∈ lw_all := lw_g (lw_at lw_m3 195 rfl) rfl
theorem q743 : (Jvm.Cond.selects "OmenLine" ({ cls := "OmenLine", name := "convert", desc := "(I)I" } : Jvm.MethodName) ({ cls := "OmenLine", name := "convert", desc := "(I)I" } : Jvm.MethodName)) ∈ lw_all := lw_g (lw_at lw_m3 196 rfl) rfl
theorem q744 : (Jvm.Cond.code ({ cls := "OmenLine", name := "convert", desc := "(I)I" } : Jvm.MethodName) prog_1_method_41_code (7 : Nat) (Option.some Jvm.ClassFile.FieldType.int)) ∈ lw_all := lw_g (lw_at lw_m3 197 rfl) rfl
theorem q745 : (Jvm.Cond.methodLink "OmenLine" (261 : Nat) ({ cls := "java/lang/Math", name := "min", desc := "(II)I" } : Jvm.MethodName)) ∈ lw_all := lw_g (lw_at lw_m3 198 rfl) rfl
theorem q749 : (Jvm.Cond.instanceMethod ({ cls := "OmenLine", name := "mean", desc := "(II)J" } : Jvm.MethodName)) ∈ lw_all := lw_g (lw_at lw_m3 202 rfl) rfl
theorem q750 : (Jvm.Cond.selects "OmenLine" ({ cls := "OmenLine", name := "mean", desc := "(II)J" } : Jvm.MethodName) ({ cls := "OmenLine", name := "mean", desc := "(II)J" } : Jvm.MethodName)) ∈ lw_all := lw_g (lw_at lw_m3 203 rfl) rfl
theorem q751 : (Jvm.Cond.code ({ cls := "OmenLine", name := "mean", desc := "(II)J" } : Jvm.MethodName) prog_1_method_44_code (3 : Nat) (Option.some Jvm.ClassFile.FieldType.long)) ∈ lw_all := lw_g (lw_at lw_m3 204 rfl) rfl
theorem q752 : (Jvm.Cond.constantLong "OmenLine" (274 : Nat) (10 : Int64)) ∈ lw_all := lw_g (lw_at lw_m3 205 rfl) rfl
theorem q753 : (Jvm.Cond.constantLong "OmenLine" (276 : Nat) (-1 : Int64)) ∈ lw_all := lw_g (lw_at lw_m3 206 rfl) rfl
theorem q754 : (Jvm.Cond.methodLink "OmenLine" (278 : Nat) ({ cls := "OmenLine", name := "findOdds", desc := "(I)V" } : Jvm.MethodName)) ∈ lw_all := lw_g (lw_at lw_m3 207 rfl) rfl
theorem q755 : (Jvm.Cond.privateMethod ({ cls := "OmenLine", name := "findOdds", desc := "(I)V" } : Jvm.MethodName)) ∈ lw_tbl := lw_at lw_m3 208 rfl
theorem q756 : (Jvm.Cond.instanceMethod ({ cls := "OmenLine", name := "findOdds", desc := "(I)V" } : Jvm.MethodName)) ∈ lw_all := lw_g (lw_at lw_m3 209 rfl) rfl
theorem q757 : (Jvm.Cond.code ({ cls := "OmenLine", name := "findOdds", desc := "(I)V" } : Jvm.MethodName) prog_1_method_43_code (6 : Nat) (Option.none : Option Jvm.ClassFile.FieldType)) ∈ lw_all := lw_g (lw_at lw_m3 210 rfl) rfl
theorem q758 : (Jvm.Cond.methodLink "OmenLine" (281 : Nat) ({ cls := "OmenLine", name := "lowest", desc := "(JJI)J" } : Jvm.MethodName)) ∈ lw_all := lw_g (lw_at lw_m3 211 rfl) rfl
theorem q759 : (Jvm.Cond.static ({ cls := "OmenLine", name := "lowest", desc := "(JJI)J" } : Jvm.MethodName)) ∈ lw_all := lw_g (lw_at lw_m3 212 rfl) rfl
theorem q760 : (Jvm.Cond.code ({ cls := "OmenLine", name := "lowest", desc := "(JJI)J" } : Jvm.MethodName) prog_1_method_42_code (11 : Nat) (Option.some Jvm.ClassFile.FieldType.long)) ∈ lw_all := lw_g (lw_at lw_m3 213 rfl) rfl
theorem q762 : (Jvm.Cond.instanceMethod ({ cls := "OmenLine", name := "luck", desc := "(II)J" } : Jvm.MethodName)) ∈ lw_all := lw_g (lw_at lw_m3 215 rfl) rfl
theorem q763 : (Jvm.Cond.selects "OmenLine" ({ cls := "OmenLine", name := "luck", desc := "(II)J" } : Jvm.MethodName) ({ cls := "OmenLine", name := "luck", desc := "(II)J" } : Jvm.MethodName)) ∈ lw_all := lw_g (lw_at lw_m3 216 rfl) rfl
theorem q764 : (Jvm.Cond.code ({ cls := "OmenLine", name := "luck", desc := "(II)J" } : Jvm.MethodName) prog_1_method_45_code (3 : Nat) (Option.some Jvm.ClassFile.FieldType.long)) ∈ lw_all := lw_g (lw_at lw_m3 217 rfl) rfl
theorem q766 : (Jvm.Cond.instanceMethod ({ cls := "OmenLine", name := "see", desc := "(III)I" } : Jvm.MethodName)) ∈ lw_all := lw_g (lw_at lw_m3 219 rfl) rfl
theorem q767 : (Jvm.Cond.selects "OmenLine" ({ cls := "OmenLine", name := "see", desc := "(III)I" } : Jvm.MethodName) ({ cls := "OmenLine", name := "see", desc := "(III)I" } : Jvm.MethodName)) ∈ lw_all := lw_g (lw_at lw_m3 220 rfl) rfl
theorem q768 : (Jvm.Cond.code ({ cls := "OmenLine", name := "see", desc := "(III)I" } : Jvm.MethodName) prog_1_method_46_code (4 : Nat) (Option.some Jvm.ClassFile.FieldType.int)) ∈ lw_all := lw_g (lw_at lw_m3 221 rfl) rfl
theorem q770 : (Jvm.Cond.instanceMethod ({ cls := "OmenLine", name := "forget", desc := "(I)I" } : Jvm.MethodName)) ∈ lw_all := lw_g (lw_at lw_m3 223 rfl) rfl
theorem q771 : (Jvm.Cond.selects "OmenLine" ({ cls := "OmenLine", name := "forget", desc := "(I)I" } : Jvm.MethodName) ({ cls := "OmenLine", name := "forget", desc := "(I)I" } : Jvm.MethodName)) ∈ lw_all := lw_g (lw_at lw_m3 224 rfl) rfl
theorem q772 : (Jvm.Cond.code ({ cls := "OmenLine", name := "forget", desc := "(I)I" } : Jvm.MethodName) prog_1_method_47_code (3 : Nat) (Option.some Jvm.ClassFile.FieldType.int)) ∈ lw_all := lw_g (lw_at lw_m3 225 rfl) rfl
theorem q774 : (Jvm.Cond.instanceMethod ({ cls := "OmenLine", name := "fits", desc := "(I)I" } : Jvm.MethodName)) ∈ lw_all := lw_g (lw_at lw_m3 227 rfl) rfl
theorem q775 : (Jvm.Cond.selects "OmenLine" ({ cls := "OmenLine", name := "fits", desc := "(I)I" } : Jvm.MethodName) ({ cls := "OmenLine", name := "fits", desc := "(I)I" } : Jvm.MethodName)) ∈ lw_all := lw_g (lw_at lw_m3 228 rfl) rfl
theorem q776 : (Jvm.Cond.code ({ cls := "OmenLine", name := "fits", desc := "(I)I" } : Jvm.MethodName) prog_1_method_49_code (2 : Nat) (Option.some Jvm.ClassFile.FieldType.int)) ∈ lw_all := lw_g (lw_at lw_m3 229 rfl) rfl
theorem q777 : (Jvm.Cond.methodLink "OmenLine" (285 : Nat) ({ cls := "OmenLine", name := "fitting", desc := "(I)I" } : Jvm.MethodName)) ∈ lw_all := lw_g (lw_at lw_m3 230 rfl) rfl
theorem q778 : (Jvm.Cond.privateMethod ({ cls := "OmenLine", name := "fitting", desc := "(I)I" } : Jvm.MethodName)) ∈ lw_tbl := lw_at lw_m3 231 rfl
theorem q779 : (Jvm.Cond.instanceMethod ({ cls := "OmenLine", name := "fitting", desc := "(I)I" } : Jvm.MethodName)) ∈ lw_all := lw_g (lw_at lw_m3 232 rfl) rfl
theorem q780 : (Jvm.Cond.code ({ cls := "OmenLine", name := "fitting", desc := "(I)I" } : Jvm.MethodName) prog_1_method_48_code (6 : Nat) (Option.some Jvm.ClassFile.FieldType.int)) ∈ lw_all := lw_g (lw_at lw_m3 233 rfl) rfl
theorem q782 : (Jvm.Cond.instanceMethod ({ cls := "OmenLine", name := "look", desc := "(II)I" } : Jvm.MethodName)) ∈ lw_all := lw_g (lw_at lw_m3 235 rfl) rfl
theorem q783 : (Jvm.Cond.selects "OmenLine" ({ cls := "OmenLine", name := "look", desc := "(II)I" } : Jvm.MethodName) ({ cls := "OmenLine", name := "look", desc := "(II)I" } : Jvm.MethodName)) ∈ lw_all := lw_g (lw_at lw_m3 236 rfl) rfl
theorem q784 : (Jvm.Cond.code ({ cls := "OmenLine", name := "look", desc := "(II)I" } : Jvm.MethodName) prog_1_method_51_code (8 : Nat) (Option.some Jvm.ClassFile.FieldType.int)) ∈ lw_all := lw_g (lw_at lw_m3 237 rfl) rfl
theorem q785 : (Jvm.Cond.methodLink "OmenLine" (288 : Nat) ({ cls := "OmenLine", name := "worstBehind", desc := "(II)I" } : Jvm.MethodName)) ∈ lw_all := lw_g (lw_at lw_m3 238 rfl) rfl
theorem q786 : (Jvm.Cond.privateMethod ({ cls := "OmenLine", name := "worstBehind", desc := "(II)I" } : Jvm.MethodName)) ∈ lw_tbl := lw_at lw_m3 239 rfl
theorem q787 : (Jvm.Cond.instanceMethod ({ cls := "OmenLine", name := "worstBehind", desc := "(II)I" } : Jvm.MethodName)) ∈ lw_all := lw_g (lw_at lw_m4 0 rfl) rfl
theorem q788 : (Jvm.Cond.code ({ cls := "OmenLine", name := "worstBehind", desc := "(II)I" } : Jvm.MethodName) prog_1_method_50_code (7 : Nat) (Option.some Jvm.ClassFile.FieldType.int)) ∈ lw_all := lw_g (lw_at lw_m4 1 rfl) rfl
theorem q790 : (Jvm.Cond.instanceMethod ({ cls := "OmenLine", name := "drift", desc := "(III)I" } : Jvm.MethodName)) ∈ lw_all := lw_g (lw_at lw_m4 3 rfl) rfl
theorem q791 : (Jvm.Cond.selects "OmenLine" ({ cls := "OmenLine", name := "drift", desc := "(III)I" } : Jvm.MethodName) ({ cls := "OmenLine", name := "drift", desc := "(III)I" } : Jvm.MethodName)) ∈ lw_all := lw_g (lw_at lw_m4 4 rfl) rfl
theorem q792 : (Jvm.Cond.code ({ cls := "OmenLine", name := "drift", desc := "(III)I" } : Jvm.MethodName) prog_1_method_52_code (11 : Nat) (Option.some Jvm.ClassFile.FieldType.int)) ∈ lw_all := lw_g (lw_at lw_m4 5 rfl) rfl
theorem q793 : (Jvm.Cond.constantLong "OmenLine" (291 : Nat) (20 : Int64)) ∈ lw_all := lw_g (lw_at lw_m4 6 rfl) rfl
theorem q794 : (Jvm.Cond.constant "OmenLine" (293 : Nat) (1103515245 : Int32)) ∈ lw_all := lw_g (lw_at lw_m4 7 rfl) rfl
theorem q796 : (Jvm.Cond.instanceMethod ({ cls := "OmenLine", name := "keep", desc := "(I)I" } : Jvm.MethodName)) ∈ lw_all := lw_g (lw_at lw_m4 9 rfl) rfl
theorem q797 : (Jvm.Cond.selects "OmenLine" ({ cls := "OmenLine", name := "keep", desc := "(I)I" } : Jvm.MethodName) ({ cls := "OmenLine", name := "keep", desc := "(I)I" } : Jvm.MethodName)) ∈ lw_all := lw_g (lw_at lw_m4 10 rfl) rfl
theorem q798 : (Jvm.Cond.code ({ cls := "OmenLine", name := "keep", desc := "(I)I" } : Jvm.MethodName) prog_1_method_53_code (3 : Nat) (Option.some Jvm.ClassFile.FieldType.int)) ∈ lw_all := lw_g (lw_at lw_m4 11 rfl) rfl
theorem q800 : (Jvm.Cond.instanceMethod ({ cls := "OmenLine", name := "back", desc := "(I)I" } : Jvm.MethodName)) ∈ lw_all := lw_g (lw_at lw_m4 13 rfl) rfl
theorem q801 : (Jvm.Cond.selects "OmenLine" ({ cls := "OmenLine", name := "back", desc := "(I)I" } : Jvm.MethodName) ({ cls := "OmenLine", name := "back", desc := "(I)I" } : Jvm.MethodName)) ∈ lw_all := lw_g (lw_at lw_m4 14 rfl) rfl
theorem q802 : (Jvm.Cond.code ({ cls := "OmenLine", name := "back", desc := "(I)I" } : Jvm.MethodName) prog_1_method_54_code (2 : Nat) (Option.some Jvm.ClassFile.FieldType.int)) ∈ lw_all := lw_g (lw_at lw_m4 15 rfl) rfl
theorem q804 : (Jvm.Cond.instanceMethod ({ cls := "OmenLine", name := "sheet", desc := "(III)I" } : Jvm.MethodName)) ∈ lw_all := lw_g (lw_at lw_m4 17 rfl) rfl
theorem q805 : (Jvm.Cond.selects "OmenLine" ({ cls := "OmenLine", name := "sheet", desc := "(III)I" } : Jvm.MethodName) ({ cls := "OmenLine", name := "sheet", desc := "(III)I" } : Jvm.MethodName)) ∈ lw_all := lw_g (lw_at lw_m4 18 rfl) rfl
theorem q806 : (Jvm.Cond.codeWith ({ cls := "OmenLine", name := "sheet", desc := "(III)I" } : Jvm.MethodName) prog_1_method_56_code (5 : Nat) (Option.some Jvm.ClassFile.FieldType.int) [((16 : Nat), (50 : Nat), (51 : Nat), (301 : Nat))]) ∈ lw_all := lw_g (lw_at lw_m4 19 rfl) rfl
theorem q807 : (Jvm.Cond.classLink "OmenLine" (301 : Nat) "java/lang/NegativeArraySizeException") ∈ lw_all := lw_g (lw_at lw_m4 20 rfl) rfl
theorem q836 : (Jvm.Cond.methodLink "OmenLine" (294 : Nat) ({ cls := "OmenLine", name := "isSheet", desc := "(II)Z" } : Jvm.MethodName)) ∈ lw_all := lw_g (lw_at lw_m4 49 rfl) rfl
theorem q837 : (Jvm.Cond.static ({ cls := "OmenLine", name := "isSheet", desc := "(II)Z" } : Jvm.MethodName)) ∈ lw_all := lw_g (lw_at lw_m4 50 rfl) rfl
theorem q838 : (Jvm.Cond.code ({ cls := "OmenLine", name := "isSheet", desc := "(II)Z" } : Jvm.MethodName) prog_1_method_55_code (2 : Nat) (Option.some Jvm.ClassFile.FieldType.boolean)) ∈ lw_all := lw_g (lw_at lw_m4 51 rfl) rfl
theorem q841 : (Jvm.Cond.instanceMethod ({ cls := "OmenLine", name := "lay", desc := "(III)I" } : Jvm.MethodName)) ∈ lw_all := lw_g (lw_at lw_m4 54 rfl) rfl
theorem q842 : (Jvm.Cond.selects "OmenLine" ({ cls := "OmenLine", name := "lay", desc := "(III)I" } : Jvm.MethodName) ({ cls := "OmenLine", name := "lay", desc := "(III)I" } : Jvm.MethodName)) ∈ lw_all := lw_g (lw_at lw_m4 55 rfl) rfl
theorem q843 : (Jvm.Cond.codeWith ({ cls := "OmenLine", name := "lay", desc := "(III)I" } : Jvm.MethodName) prog_1_method_57_code (6 : Nat) (Option.some Jvm.ClassFile.FieldType.int) [((25 : Nat), (74 : Nat), (75 : Nat), (307 : Nat)), ((25 : Nat), (74 : Nat), (80 : Nat), (309 : Nat))]) ∈ lw_all := lw_g (lw_at lw_m4 56 rfl) rfl
theorem q844 : (Jvm.Cond.classLink "OmenLine" (307 : Nat) "java/lang/NullPointerException") ∈ lw_all := lw_g (lw_at lw_m4 57 rfl) rfl
theorem q869 : (Jvm.Cond.classLink "OmenLine" (309 : Nat) "java/lang/IndexOutOfBoundsException") ∈ lw_all := lw_g (lw_at lw_m4 82 rfl) rfl
theorem q888 : (Jvm.Cond.classLink "OmenLine" (303 : Nat) "[B") ∈ lw_all := lw_g (lw_at lw_m4 101 rfl) rfl
theorem q889 : (Jvm.Cond.classLink "OmenLine" (304 : Nat) "[S") ∈ lw_all := lw_g (lw_at lw_m4 102 rfl) rfl
theorem q890 : (Jvm.Cond.classLink "OmenLine" (306 : Nat) "[I") ∈ lw_all := lw_g (lw_at lw_m4 103 rfl) rfl
theorem q892 : (Jvm.Cond.instanceMethod ({ cls := "OmenLine", name := "read", desc := "(IIII)I" } : Jvm.MethodName)) ∈ lw_all := lw_g (lw_at lw_m4 105 rfl) rfl
theorem q893 : (Jvm.Cond.selects "OmenLine" ({ cls := "OmenLine", name := "read", desc := "(IIII)I" } : Jvm.MethodName) ({ cls := "OmenLine", name := "read", desc := "(IIII)I" } : Jvm.MethodName)) ∈ lw_all := lw_g (lw_at lw_m4 106 rfl) rfl
theorem q894 : (Jvm.Cond.codeWith ({ cls := "OmenLine", name := "read", desc := "(IIII)I" } : Jvm.MethodName) prog_1_method_59_code (8 : Nat) (Option.some Jvm.ClassFile.FieldType.int) [((40 : Nat), (100 : Nat), (110 : Nat), (307 : Nat)), ((101 : Nat), (107 : Nat), (110 : Nat), (307 : Nat)), ((40 : Nat), (100 : Nat), (118 : Nat), (318 : Nat)), ((101 : Nat), (107 : Nat), (118 : Nat), (318 : Nat)), ((40 : Nat), (100 : Nat), (126 : Nat), (309 : Nat)), ((101 : Nat), (107 : Nat), (126 : Nat), (309 : Nat))]) ∈ lw_all := lw_g (lw_at lw_m4 107 rfl) rfl
theorem q895 : (Jvm.Cond.classLink "OmenLine" (318 : Nat) "java/lang/ClassCastException") ∈ lw_all := lw_g (lw_at lw_m4 108 rfl) rfl
theorem q909 : (Jvm.Cond.methodLink "OmenLine" (311 : Nat) ({ cls := "OmenLine", name := "takenOf", desc := "(III)I" } : Jvm.MethodName)) ∈ lw_all := lw_g (lw_at lw_m4 122 rfl) rfl
theorem q910 : (Jvm.Cond.privateMethod ({ cls := "OmenLine", name := "takenOf", desc := "(III)I" } : Jvm.MethodName)) ∈ lw_tbl := lw_at lw_m4 123 rfl
theorem q911 : (Jvm.Cond.instanceMethod ({ cls := "OmenLine", name := "takenOf", desc := "(III)I" } : Jvm.MethodName)) ∈ lw_all := lw_g (lw_at lw_m4 124 rfl) rfl
theorem q912 : (Jvm.Cond.code ({ cls := "OmenLine", name := "takenOf", desc := "(III)I" } : Jvm.MethodName) prog_1_method_58_code (5 : Nat) (Option.some Jvm.ClassFile.FieldType.int)) ∈ lw_all := lw_g (lw_at lw_m4 125 rfl) rfl
theorem q913 : (Jvm.Cond.methodLink "OmenLine" (315 : Nat) ({ cls := "OmenLine", name := "hang", desc := "(II)I" } : Jvm.MethodName)) ∈ lw_all := lw_g (lw_at lw_m4 126 rfl) rfl
theorem q915 : (Jvm.Cond.instanceMethod ({ cls := "OmenLine", name := "torn", desc := "()I" } : Jvm.MethodName)) ∈ lw_all := lw_g (lw_at lw_m4 128 rfl) rfl
theorem q916 : (Jvm.Cond.selects "OmenLine" ({ cls := "OmenLine", name := "torn", desc := "()I" } : Jvm.MethodName) ({ cls := "OmenLine", name := "torn", desc := "()I" } : Jvm.MethodName)) ∈ lw_all := lw_g (lw_at lw_m4 129 rfl) rfl
theorem q917 : (Jvm.Cond.code ({ cls := "OmenLine", name := "torn", desc := "()I" } : Jvm.MethodName) prog_1_method_60_code (1 : Nat) (Option.some Jvm.ClassFile.FieldType.int)) ∈ lw_all := lw_g (lw_at lw_m4 130 rfl) rfl
theorem q919 : (Jvm.Cond.instanceMethod ({ cls := "OmenLine", name := "count", desc := "(I)I" } : Jvm.MethodName)) ∈ lw_all := lw_g (lw_at lw_m4 132 rfl) rfl
theorem q920 : (Jvm.Cond.selects "OmenLine" ({ cls := "OmenLine", name := "count", desc := "(I)I" } : Jvm.MethodName) ({ cls := "OmenLine", name := "count", desc := "(I)I" } : Jvm.MethodName)) ∈ lw_all := lw_g (lw_at lw_m4 133 rfl) rfl
theorem q921 : (Jvm.Cond.code ({ cls := "OmenLine", name := "count", desc := "(I)I" } : Jvm.MethodName) prog_1_method_61_code (6 : Nat) (Option.some Jvm.ClassFile.FieldType.int)) ∈ lw_all := lw_g (lw_at lw_m4 134 rfl) rfl
theorem q69 : (Jvm.Cond.initialized "OmenLine$Plain") ∈ lw_all := lw_g (lw_at lw_m1 2 rfl) rfl
theorem q103 : (Jvm.Cond.instantiable "OmenLine$Plain" (0 : Nat)) ∈ lw_all := lw_g (lw_at lw_m1 36 rfl) rfl
theorem q105 : (Jvm.Cond.instanceMethod ({ cls := "OmenLine$Plain", name := "<init>", desc := "()V" } : Jvm.MethodName)) ∈ lw_all := lw_g (lw_at lw_m1 38 rfl) rfl
theorem q106 : (Jvm.Cond.code ({ cls := "OmenLine$Plain", name := "<init>", desc := "()V" } : Jvm.MethodName) prog_6_method_1_code (1 : Nat) (Option.none : Option Jvm.ClassFile.FieldType)) ∈ lw_all := lw_g (lw_at lw_m1 39 rfl) rfl
theorem q107 : (Jvm.Cond.methodLink "OmenLine$Plain" (3 : Nat) ({ cls := "java/lang/Object", name := "<init>", desc := "()V" } : Jvm.MethodName)) ∈ lw_all := lw_g (lw_at lw_m1 40 rfl) rfl
theorem q108 : (Jvm.Cond.superclass "OmenLine$Plain" "java/lang/Object") ∈ lw_all := lw_g (lw_at lw_m1 41 rfl) rfl
theorem q610 : (Jvm.Cond.instanceMethod ({ cls := "OmenLine$Plain", name := "waits", desc := "(I)I" } : Jvm.MethodName)) ∈ lw_all := lw_g (lw_at lw_m3 63 rfl) rfl
theorem q611 : (Jvm.Cond.selects "OmenLine$Plain" ({ cls := "OmenLine$Plain", name := "waits", desc := "(I)I" } : Jvm.MethodName) ({ cls := "OmenLine$Plain", name := "waits", desc := "(I)I" } : Jvm.MethodName)) ∈ lw_all := lw_g (lw_at lw_m3 64 rfl) rfl
theorem q612 : (Jvm.Cond.sameMethod "OmenLine$Plain" "OmenLine$Plain" "waits" "(I)I") ∈ lw_all := lw_g (lw_at lw_m3 65 rfl) rfl
theorem q617 : (Jvm.Cond.code ({ cls := "OmenLine$Plain", name := "waits", desc := "(I)I" } : Jvm.MethodName) prog_6_method_2_code (2 : Nat) (Option.some Jvm.ClassFile.FieldType.int)) ∈ lw_all := lw_g (lw_at lw_m3 70 rfl) rfl
theorem q70 : (Jvm.Cond.initialized "OmenLine$Sceptic") ∈ lw_all := lw_g (lw_at lw_m1 3 rfl) rfl
theorem q110 : (Jvm.Cond.instantiable "OmenLine$Sceptic" (0 : Nat)) ∈ lw_all := lw_g (lw_at lw_m1 43 rfl) rfl
theorem q112 : (Jvm.Cond.instanceMethod ({ cls := "OmenLine$Sceptic", name := "<init>", desc := "()V" } : Jvm.MethodName)) ∈ lw_all := lw_g (lw_at lw_m1 45 rfl) rfl
theorem q113 : (Jvm.Cond.code ({ cls := "OmenLine$Sceptic", name := "<init>", desc := "()V" } : Jvm.MethodName) prog_8_method_1_code (1 : Nat) (Option.none : Option Jvm.ClassFile.FieldType)) ∈ lw_all := lw_g (lw_at lw_m1 46 rfl) rfl
theorem q114 : (Jvm.Cond.methodLinkNest "OmenLine$Sceptic" (1 : Nat) ({ cls := "OmenLine$Plain", name := "<init>", desc := "()V" } : Jvm.MethodName) "OmenLine") ∈ lw_tbl := lw_at lw_m1 47 rfl
theorem q115 : (Jvm.Cond.superclass "OmenLine$Sceptic" "OmenLine$Plain") ∈ lw_all := lw_g (lw_at lw_m1 48 rfl) rfl
theorem q623 : (Jvm.Cond.selects "OmenLine$Sceptic" ({ cls := "OmenLine$Plain", name := "waits", desc := "(I)I" } : Jvm.MethodName) ({ cls := "OmenLine$Sceptic", name := "waits", desc := "(I)I" } : Jvm.MethodName)) ∈ lw_all := lw_g (lw_at lw_m3 76 rfl) rfl
theorem q624 : (Jvm.Cond.instanceMethod ({ cls := "OmenLine$Sceptic", name := "waits", desc := "(I)I" } : Jvm.MethodName)) ∈ lw_all := lw_g (lw_at lw_m3 77 rfl) rfl
theorem q625 : (Jvm.Cond.code ({ cls := "OmenLine$Sceptic", name := "waits", desc := "(I)I" } : Jvm.MethodName) prog_8_method_2_code (2 : Nat) (Option.some Jvm.ClassFile.FieldType.int)) ∈ lw_all := lw_g (lw_at lw_m3 78 rfl) rfl
theorem q626 : (Jvm.Cond.methodLink "OmenLine$Sceptic" (7 : Nat) ({ cls := "OmenLine$Plain", name := "waits", desc := "(I)I" } : Jvm.MethodName)) ∈ lw_all := lw_g (lw_at lw_m3 79 rfl) rfl
theorem q1360 : (Jvm.Cond.castable "OmenLine$Sceptic" "OmenLine$Plain") ∈ lw_tbl := lw_at lw_m6 93 rfl
theorem q71 : (Jvm.Cond.initialized "OmenLine$Devout") ∈ lw_all := lw_g (lw_at lw_m1 4 rfl) rfl
theorem q117 : (Jvm.Cond.instantiable "OmenLine$Devout" (0 : Nat)) ∈ lw_all := lw_g (lw_at lw_m1 50 rfl) rfl
theorem q119 : (Jvm.Cond.instanceMethod ({ cls := "OmenLine$Devout", name := "<init>", desc := "()V" } : Jvm.MethodName)) ∈ lw_all := lw_g (lw_at lw_m1 52 rfl) rfl
theorem q120 : (Jvm.Cond.code ({ cls := "OmenLine$Devout", name := "<init>", desc := "()V" } : Jvm.MethodName) prog_3_method_1_code (1 : Nat) (Option.none : Option Jvm.ClassFile.FieldType)) ∈ lw_all := lw_g (lw_at lw_m1 53 rfl) rfl
theorem q121 : (Jvm.Cond.methodLinkNest "OmenLine$Devout" (1 : Nat) ({ cls := "OmenLine$Plain", name := "<init>", desc := "()V" } : Jvm.MethodName) "OmenLine") ∈ lw_tbl := lw_at lw_m1 54 rfl
theorem q122 : (Jvm.Cond.superclass "OmenLine$Devout" "OmenLine$Plain") ∈ lw_all := lw_g (lw_at lw_m1 55 rfl) rfl
theorem q613 : (Jvm.Cond.selects "OmenLine$Devout" ({ cls := "OmenLine$Plain", name := "waits", desc := "(I)I" } : Jvm.MethodName) ({ cls := "OmenLine$Devout", name := "waits", desc := "(I)I" } : Jvm.MethodName)) ∈ lw_all := lw_g (lw_at lw_m3 66 rfl) rfl
theorem q614 : (Jvm.Cond.instanceMethod ({ cls := "OmenLine$Devout", name := "waits", desc := "(I)I" } : Jvm.MethodName)) ∈ lw_all := lw_g (lw_at lw_m3 67 rfl) rfl
theorem q615 : (Jvm.Cond.code ({ cls := "OmenLine$Devout", name := "waits", desc := "(I)I" } : Jvm.MethodName) prog_3_method_2_code (2 : Nat) (Option.some Jvm.ClassFile.FieldType.int)) ∈ lw_all := lw_g (lw_at lw_m3 68 rfl) rfl
theorem q616 : (Jvm.Cond.methodLink "OmenLine$Devout" (7 : Nat) ({ cls := "OmenLine$Plain", name := "waits", desc := "(I)I" } : Jvm.MethodName)) ∈ lw_all := lw_g (lw_at lw_m3 69 rfl) rfl
theorem q1358 : (Jvm.Cond.sameMethod "OmenLine$Devout" "OmenLine$Devout" "waits" "(I)I") ∈ lw_all := lw_g (lw_at lw_m6 91 rfl) rfl
theorem q1361 : (Jvm.Cond.castable "OmenLine$Devout" "OmenLine$Plain") ∈ lw_tbl := lw_at lw_m6 94 rfl
theorem q72 : (Jvm.Cond.initialized "OmenLine$Heathen") ∈ lw_all := lw_g (lw_at lw_m1 5 rfl) rfl
theorem q124 : (Jvm.Cond.instantiable "OmenLine$Heathen" (0 : Nat)) ∈ lw_all := lw_g (lw_at lw_m1 57 rfl) rfl
theorem q126 : (Jvm.Cond.instanceMethod ({ cls := "OmenLine$Heathen", name := "<init>", desc := "()V" } : Jvm.MethodName)) ∈ lw_all := lw_g (lw_at lw_m1 59 rfl) rfl
theorem q127 : (Jvm.Cond.code ({ cls := "OmenLine$Heathen", name := "<init>", desc := "()V" } : Jvm.MethodName) prog_5_method_1_code (1 : Nat) (Option.none : Option Jvm.ClassFile.FieldType)) ∈ lw_all := lw_g (lw_at lw_m1 60 rfl) rfl
theorem q128 : (Jvm.Cond.methodLinkNest "OmenLine$Heathen" (3 : Nat) ({ cls := "OmenLine$Devout", name := "<init>", desc := "()V" } : Jvm.MethodName) "OmenLine") ∈ lw_tbl := lw_at lw_m1 61 rfl
theorem q129 : (Jvm.Cond.superclass "OmenLine$Heathen" "OmenLine$Devout") ∈ lw_all := lw_g (lw_at lw_m1 62 rfl) rfl
theorem q618 : (Jvm.Cond.selects "OmenLine$Heathen" ({ cls := "OmenLine$Plain", name := "waits", desc := "(I)I" } : Jvm.MethodName) ({ cls := "OmenLine$Heathen", name := "waits", desc := "(I)I" } : Jvm.MethodName)) ∈ lw_all := lw_g (lw_at lw_m3 71 rfl) rfl
theorem q619 : (Jvm.Cond.instanceMethod ({ cls := "OmenLine$Heathen", name := "waits", desc := "(I)I" } : Jvm.MethodName)) ∈ lw_all := lw_g (lw_at lw_m3 72 rfl) rfl
theorem q620 : (Jvm.Cond.code ({ cls := "OmenLine$Heathen", name := "waits", desc := "(I)I" } : Jvm.MethodName) prog_5_method_2_code (2 : Nat) (Option.some Jvm.ClassFile.FieldType.int)) ∈ lw_all := lw_g (lw_at lw_m3 73 rfl) rfl
theorem q621 : (Jvm.Cond.methodLink "OmenLine$Heathen" (9 : Nat) ({ cls := "OmenLine$Devout", name := "waits", desc := "(I)I" } : Jvm.MethodName)) ∈ lw_all := lw_g (lw_at lw_m3 74 rfl) rfl
theorem q622 : (Jvm.Cond.methodLink "OmenLine$Heathen" (13 : Nat) ({ cls := "java/lang/Math", name := "max", desc := "(II)I" } : Jvm.MethodName)) ∈ lw_all := lw_g (lw_at lw_m3 75 rfl) rfl
theorem q1362 : (Jvm.Cond.castable "OmenLine$Heathen" "OmenLine$Plain") ∈ lw_tbl := lw_at lw_m6 95 rfl
theorem q73 : (Jvm.Cond.initialized "OmenLine$Branch") ∈ lw_all := lw_g (lw_at lw_m1 6 rfl) rfl
theorem q131 : (Jvm.Cond.instantiable "OmenLine$Branch" (5 : Nat)) ∈ lw_all := lw_g (lw_at lw_m1 64 rfl) rfl
theorem q133 : (Jvm.Cond.instanceMethod ({ cls := "OmenLine$Branch", name := "<init>", desc := "()V" } : Jvm.MethodName)) ∈ lw_all := lw_g (lw_at lw_m1 66 rfl) rfl
theorem q134 : (Jvm.Cond.code ({ cls := "OmenLine$Branch", name := "<init>", desc := "()V" } : Jvm.MethodName) prog_2_method_1_code (1 : Nat) (Option.none : Option Jvm.ClassFile.FieldType)) ∈ lw_all := lw_g (lw_at lw_m1 67 rfl) rfl
theorem q135 : (Jvm.Cond.methodLink "OmenLine$Branch" (3 : Nat) ({ cls := "java/lang/Object", name := "<init>", desc := "()V" } : Jvm.MethodName)) ∈ lw_all := lw_g (lw_at lw_m1 68 rfl) rfl
theorem q136 : (Jvm.Cond.fieldLink "OmenLine$Branch" (9 : Nat) "OmenLine$Branch" "blocks" "I") ∈ lw_all := lw_g (lw_at lw_m1 69 rfl) rfl
theorem q139 : (Jvm.Cond.fieldLink "OmenLine$Branch" (15 : Nat) "OmenLine$Branch" "omen" "[B") ∈ lw_all := lw_g (lw_at lw_m1 72 rfl) rfl
theorem q142 : (Jvm.Cond.fieldLink "OmenLine$Branch" (28 : Nat) "OmenLine$Branch" "guarded" "I") ∈ lw_all := lw_g (lw_at lw_m1 75 rfl) rfl
theorem q145 : (Jvm.Cond.fieldLink "OmenLine$Branch" (31 : Nat) "OmenLine$Branch" "trains" "I") ∈ lw_all := lw_g (lw_at lw_m1 78 rfl) rfl
theorem q148 : (Jvm.Cond.fieldLink "OmenLine$Branch" (19 : Nat) "OmenLine$Branch" "train" "[B") ∈ lw_all := lw_g (lw_at lw_m1 81 rfl) rfl
theorem q151 : (Jvm.Cond.lays "OmenLine$Branch" "OmenLine$Branch" "blocks" "I") ∈ lw_all := lw_g (lw_at lw_m1 84 rfl) rfl
theorem q152 : (Jvm.Cond.soleField "OmenLine$Branch" "blocks") ∈ lw_all := lw_g (lw_at lw_m1 85 rfl) rfl
theorem q153 : (Jvm.Cond.laysFinal "OmenLine$Branch" "OmenLine$Branch" "omen" "[B") ∈ lw_all := lw_g (lw_at lw_m1 86 rfl) rfl
theorem q154 : (Jvm.Cond.soleField "OmenLine$Branch" "omen") ∈ lw_all := lw_g (lw_at lw_m1 87 rfl) rfl
theorem q155 : (Jvm.Cond.lays "OmenLine$Branch" "OmenLine$Branch" "guarded" "I") ∈ lw_all := lw_g (lw_at lw_m1 88 rfl) rfl
theorem q156 : (Jvm.Cond.soleField "OmenLine$Branch" "guarded") ∈ lw_all := lw_g (lw_at lw_m1 89 rfl) rfl
theorem q157 : (Jvm.Cond.lays "OmenLine$Branch" "OmenLine$Branch" "trains" "I") ∈ lw_all := lw_g (lw_at lw_m1 90 rfl) rfl
theorem q158 : (Jvm.Cond.soleField "OmenLine$Branch" "trains") ∈ lw_all := lw_g (lw_at lw_m1 91 rfl) rfl
theorem q159 : (Jvm.Cond.laysFinal "OmenLine$Branch" "OmenLine$Branch" "train" "[B") ∈ lw_all := lw_g (lw_at lw_m1 92 rfl) rfl
theorem q160 : (Jvm.Cond.soleField "OmenLine$Branch" "train") ∈ lw_all := lw_g (lw_at lw_m1 93 rfl) rfl
theorem q161 : (Jvm.Cond.superclass "OmenLine$Branch" "java/lang/Object") ∈ lw_all := lw_g (lw_at lw_m1 94 rfl) rfl
theorem q556 : (Jvm.Cond.instanceMethod ({ cls := "OmenLine$Branch", name := "as", desc := "(LOmenLine$Branch;)V" } : Jvm.MethodName)) ∈ lw_all := lw_g (lw_at lw_m3 9 rfl) rfl
theorem q557 : (Jvm.Cond.selects "OmenLine$Branch" ({ cls := "OmenLine$Branch", name := "as", desc := "(LOmenLine$Branch;)V" } : Jvm.MethodName) ({ cls := "OmenLine$Branch", name := "as", desc := "(LOmenLine$Branch;)V" } : Jvm.MethodName)) ∈ lw_all := lw_g (lw_at lw_m3 10 rfl) rfl
theorem q558 : (Jvm.Cond.code ({ cls := "OmenLine$Branch", name := "as", desc := "(LOmenLine$Branch;)V" } : Jvm.MethodName) prog_2_method_2_code (2 : Nat) (Option.none : Option Jvm.ClassFile.FieldType)) ∈ lw_all := lw_g (lw_at lw_m3 11 rfl) rfl
theorem q559 : (Jvm.Cond.methodLink "OmenLine$Branch" (22 : Nat) ({ cls := "java/lang/System", name := "arraycopy", desc := "(Ljava/lang/Object;ILjava/lang/Object;II)V" } : Jvm.MethodName)) ∈ lw_all := lw_g (lw_at lw_m3 12 rfl) rfl
theorem q572 : (Jvm.Cond.instanceMethod ({ cls := "OmenLine$Branch", name := "hung", desc := "()I" } : Jvm.MethodName)) ∈ lw_all := lw_g (lw_at lw_m3 25 rfl) rfl
theorem q573 : (Jvm.Cond.selects "OmenLine$Branch" ({ cls := "OmenLine$Branch", name := "hung", desc := "()I" } : Jvm.MethodName) ({ cls := "OmenLine$Branch", name := "hung", desc := "()I" } : Jvm.MethodName)) ∈ lw_all := lw_g (lw_at lw_m3 26 rfl) rfl
theorem q574 : (Jvm.Cond.code ({ cls := "OmenLine$Branch", name := "hung", desc := "()I" } : Jvm.MethodName) prog_2_method_4_code (3 : Nat) (Option.some Jvm.ClassFile.FieldType.int)) ∈ lw_all := lw_g (lw_at lw_m3 27 rfl) rfl
theorem q601 : (Jvm.Cond.instanceMethod ({ cls := "OmenLine$Branch", name := "of", desc := "(II)I" } : Jvm.MethodName)) ∈ lw_all := lw_g (lw_at lw_m3 54 rfl) rfl
theorem q602 : (Jvm.Cond.selects "OmenLine$Branch" ({ cls := "OmenLine$Branch", name := "of", desc := "(II)I" } : Jvm.MethodName) ({ cls := "OmenLine$Branch", name := "of", desc := "(II)I" } : Jvm.MethodName)) ∈ lw_all := lw_g (lw_at lw_m3 55 rfl) rfl
theorem q603 : (Jvm.Cond.code ({ cls := "OmenLine$Branch", name := "of", desc := "(II)I" } : Jvm.MethodName) prog_2_method_3_code (3 : Nat) (Option.some Jvm.ClassFile.FieldType.int)) ∈ lw_all := lw_g (lw_at lw_m3 56 rfl) rfl
theorem q662 : (Jvm.Cond.instanceMethod ({ cls := "OmenLine$Branch", name := "next", desc := "(II)I" } : Jvm.MethodName)) ∈ lw_all := lw_g (lw_at lw_m3 115 rfl) rfl
theorem q663 : (Jvm.Cond.selects "OmenLine$Branch" ({ cls := "OmenLine$Branch", name := "next", desc := "(II)I" } : Jvm.MethodName) ({ cls := "OmenLine$Branch", name := "next", desc := "(II)I" } : Jvm.MethodName)) ∈ lw_all := lw_g (lw_at lw_m3 116 rfl) rfl
theorem q664 : (Jvm.Cond.code ({ cls := "OmenLine$Branch", name := "next", desc := "(II)I" } : Jvm.MethodName) prog_2_method_5_code (4 : Nat) (Option.some Jvm.ClassFile.FieldType.int)) ∈ lw_all := lw_g (lw_at lw_m3 117 rfl) rfl
theorem q665 : (Jvm.Cond.methodLink "OmenLine$Branch" (34 : Nat) ({ cls := "OmenLine$Branch", name := "of", desc := "(II)I" } : Jvm.MethodName)) ∈ lw_all := lw_g (lw_at lw_m3 118 rfl) rfl
theorem q74 : (Jvm.Cond.initialized "OmenLine$Sheet") ∈ lw_all := lw_g (lw_at lw_m1 7 rfl) rfl
theorem q166 : (Jvm.Cond.instantiable "OmenLine$Sheet" (1 : Nat)) ∈ lw_all := lw_g (lw_at lw_m1 99 rfl) rfl
theorem q168 : (Jvm.Cond.instanceMethod ({ cls := "OmenLine$Sheet", name := "<init>", desc := "()V" } : Jvm.MethodName)) ∈ lw_all := lw_g (lw_at lw_m1 101 rfl) rfl
theorem q169 : (Jvm.Cond.code ({ cls := "OmenLine$Sheet", name := "<init>", desc := "()V" } : Jvm.MethodName) prog_9_method_1_code (1 : Nat) (Option.none : Option Jvm.ClassFile.FieldType)) ∈ lw_all := lw_g (lw_at lw_m1 102 rfl) rfl
theorem q170 : (Jvm.Cond.methodLink "OmenLine$Sheet" (1 : Nat) ({ cls := "java/lang/Object", name := "<init>", desc := "()V" } : Jvm.MethodName)) ∈ lw_all := lw_g (lw_at lw_m1 103 rfl) rfl
theorem q172 : (Jvm.Cond.lays "OmenLine$Sheet" "OmenLine$Sheet" "row" "Ljava/lang/Object;") ∈ lw_all := lw_g (lw_at lw_m1 105 rfl) rfl
theorem q173 : (Jvm.Cond.soleField "OmenLine$Sheet" "row") ∈ lw_all := lw_g (lw_at lw_m1 106 rfl) rfl
theorem q174 : (Jvm.Cond.superclass "OmenLine$Sheet" "java/lang/Object") ∈ lw_all := lw_g (lw_at lw_m1 107 rfl) rfl
theorem q75 : (Jvm.Cond.initialized "OmenLineModel") ∈ lw_all := lw_g (lw_at lw_m1 8 rfl) rfl
theorem q923 : (Jvm.Cond.instantiable "OmenLineModel" (45 : Nat)) ∈ lw_all := lw_g (lw_at lw_m4 136 rfl) rfl
theorem q925 : (Jvm.Cond.instanceMethod ({ cls := "OmenLineModel", name := "<init>", desc := "()V" } : Jvm.MethodName)) ∈ lw_all := lw_g (lw_at lw_m4 138 rfl) rfl
theorem q926 : (Jvm.Cond.code ({ cls := "OmenLineModel", name := "<init>", desc := "()V" } : Jvm.MethodName) prog_11_method_1_code (1 : Nat) (Option.none : Option Jvm.ClassFile.FieldType)) ∈ lw_all := lw_g (lw_at lw_m4 139 rfl) rfl
theorem q927 : (Jvm.Cond.methodLink "OmenLineModel" (1 : Nat) ({ cls := "java/lang/Object", name := "<init>", desc := "()V" } : Jvm.MethodName)) ∈ lw_all := lw_g (lw_at lw_m4 140 rfl) rfl
theorem q928 : (Jvm.Cond.fieldLink "OmenLineModel" (7 : Nat) "OmenLineModel" "state" "[I") ∈ lw_all := lw_g (lw_at lw_m4 141 rfl) rfl
theorem q929 : (Jvm.Cond.fieldLink "OmenLineModel" (13 : Nat) "OmenLineModel" "blocks" "I") ∈ lw_all := lw_g (lw_at lw_m4 142 rfl) rfl
theorem q930 : (Jvm.Cond.fieldLink "OmenLineModel" (173 : Nat) "OmenLineModel" "trainMany" "I") ∈ lw_all := lw_g (lw_at lw_m4 143 rfl) rfl
theorem q931 : (Jvm.Cond.fieldLink "OmenLineModel" (17 : Nat) "OmenLineModel" "locks" "[I") ∈ lw_all := lw_g (lw_at lw_m4 144 rfl) rfl
theorem q932 : (Jvm.Cond.fieldLink "OmenLineModel" (176 : Nat) "OmenLineModel" "lockMany" "I") ∈ lw_all := lw_g (lw_at lw_m4 145 rfl) rfl
theorem q933 : (Jvm.Cond.fieldLink "OmenLineModel" (20 : Nat) "OmenLineModel" "waits" "[I") ∈ lw_all := lw_g (lw_at lw_m4 146 rfl) rfl
theorem q934 : (Jvm.Cond.fieldLink "OmenLineModel" (23 : Nat) "OmenLineModel" "readPage" "[I") ∈ lw_all := lw_g (lw_at lw_m4 147 rfl) rfl
theorem q935 : (Jvm.Cond.fieldLink "OmenLineModel" (26 : Nat) "OmenLineModel" "readLocks" "[I") ∈ lw_all := lw_g (lw_at lw_m4 148 rfl) rfl
theorem q936 : (Jvm.Cond.fieldLink "OmenLineModel" (144 : Nat) "OmenLineModel" "readBlocks" "I") ∈ lw_all := lw_g (lw_at lw_m4 149 rfl) rfl
theorem q937 : (Jvm.Cond.fieldLink "OmenLineModel" (135 : Nat) "OmenLineModel" "readTrains" "I") ∈ lw_all := lw_g (lw_at lw_m4 150 rfl) rfl
theorem q938 : (Jvm.Cond.fieldLink "OmenLineModel" (128 : Nat) "OmenLineModel" "readLockMany" "I") ∈ lw_all := lw_g (lw_at lw_m4 151 rfl) rfl
theorem q939 : (Jvm.Cond.fieldLink "OmenLineModel" (156 : Nat) "OmenLineModel" "blocksTold" "Z") ∈ lw_all := lw_g (lw_at lw_m4 152 rfl) rfl
theorem q940 : (Jvm.Cond.fieldLink "OmenLineModel" (138 : Nat) "OmenLineModel" "omensTold" "I") ∈ lw_all := lw_g (lw_at lw_m4 153 rfl) rfl
theorem q941 : (Jvm.Cond.fieldLink "OmenLineModel" (122 : Nat) "OmenLineModel" "highBlock" "I") ∈ lw_all := lw_g (lw_at lw_m4 154 rfl) rfl
theorem q942 : (Jvm.Cond.fieldLink "OmenLineModel" (29 : Nat) "OmenLineModel" "tape" "[I") ∈ lw_all := lw_g (lw_at lw_m4 155 rfl) rfl
theorem q943 : (Jvm.Cond.fieldLink "OmenLineModel" (78 : Nat) "OmenLineModel" "taped" "I") ∈ lw_all := lw_g (lw_at lw_m4 156 rfl) rfl
theorem q944 : (Jvm.Cond.fieldLink "OmenLineModel" (170 : Nat) "OmenLineModel" "fault" "I") ∈ lw_all := lw_g (lw_at lw_m4 157 rfl) rfl
theorem q945 : (Jvm.Cond.fieldLink "OmenLineModel" (81 : Nat) "OmenLineModel" "broken" "I") ∈ lw_all := lw_g (lw_at lw_m4 158 rfl) rfl
theorem q946 : (Jvm.Cond.fieldLink "OmenLineModel" (87 : Nat) "OmenLineModel" "brokenAt" "I") ∈ lw_all := lw_g (lw_at lw_m4 159 rfl) rfl
theorem q947 : (Jvm.Cond.fieldLink "OmenLineModel" (93 : Nat) "OmenLineModel" "spot" "I") ∈ lw_all := lw_g (lw_at lw_m4 160 rfl) rfl
theorem q948 : (Jvm.Cond.fieldLink "OmenLineModel" (84 : Nat) "OmenLineModel" "here" "I") ∈ lw_all := lw_g (lw_at lw_m4 161 rfl) rfl
theorem q949 : (Jvm.Cond.fieldLink "OmenLineModel" (90 : Nat) "OmenLineModel" "token" "I") ∈ lw_all := lw_g (lw_at lw_m4 162 rfl) rfl
theorem q950 : (Jvm.Cond.fieldLink "OmenLineModel" (100 : Nat) "OmenLineModel" "value" "I") ∈ lw_all := lw_g (lw_at lw_m4 163 rfl) rfl
theorem q951 : (Jvm.Cond.fieldLink "OmenLineModel" (32 : Nat) "OmenLineModel" "cuts" "[I") ∈ lw_all := lw_g (lw_at lw_m4 164 rfl) rfl
theorem q952 : (Jvm.Cond.fieldLink "OmenLineModel" (35 : Nat) "OmenLineModel" "letters" "[I") ∈ lw_all := lw_g (lw_at lw_m4 165 rfl) rfl
theorem q953 : (Jvm.Cond.fieldLink "OmenLineModel" (38 : Nat) "OmenLineModel" "place" "[I") ∈ lw_all := lw_g (lw_at lw_m4 166 rfl) rfl
theorem q954 : (Jvm.Cond.fieldLink "OmenLineModel" (41 : Nat) "OmenLineModel" "left" "[I") ∈ lw_all := lw_g (lw_at lw_m4 167 rfl) rfl
theorem q955 : (Jvm.Cond.fieldLink "OmenLineModel" (44 : Nat) "OmenLineModel" "hasSeen" "[Z") ∈ lw_all := lw_g (lw_at lw_m4 168 rfl) rfl
theorem q956 : (Jvm.Cond.fieldLink "OmenLineModel" (48 : Nat) "OmenLineModel" "homeAt" "[I") ∈ lw_all := lw_g (lw_at lw_m4 169 rfl) rfl
theorem q957 : (Jvm.Cond.fieldLink "OmenLineModel" (51 : Nat) "OmenLineModel" "places" "[I") ∈ lw_all := lw_g (lw_at lw_m4 170 rfl) rfl
theorem q958 : (Jvm.Cond.fieldLink "OmenLineModel" (223 : Nat) "OmenLineModel" "bumpAt" "I") ∈ lw_all := lw_g (lw_at lw_m4 171 rfl) rfl
theorem q959 : (Jvm.Cond.fieldLink "OmenLineModel" (226 : Nat) "OmenLineModel" "bumpIn" "I") ∈ lw_all := lw_g (lw_at lw_m4 172 rfl) rfl
theorem q960 : (Jvm.Cond.fieldLink "OmenLineModel" (229 : Nat) "OmenLineModel" "bumpOf" "I") ∈ lw_all := lw_g (lw_at lw_m4 173 rfl) rfl
theorem q961 : (Jvm.Cond.fieldLink "OmenLineModel" (211 : Nat) "OmenLineModel" "waited" "I") ∈ lw_all := lw_g (lw_at lw_m4 174 rfl) rfl
theorem q962 : (Jvm.Cond.fieldLink "OmenLineModel" (220 : Nat) "OmenLineModel" "keptOut" "I") ∈ lw_all := lw_g (lw_at lw_m4 175 rfl) rfl
theorem q963 : (Jvm.Cond.fieldLink "OmenLineModel" (217 : Nat) "OmenLineModel" "visited" "I") ∈ lw_all := lw_g (lw_at lw_m4 176 rfl) rfl
theorem q964 : (Jvm.Cond.fieldLink "OmenLineModel" (54 : Nat) "OmenLineModel" "seen" "[I") ∈ lw_all := lw_g (lw_at lw_m4 177 rfl) rfl
theorem q965 : (Jvm.Cond.fieldLink "OmenLineModel" (179 : Nat) "OmenLineModel" "seenMany" "I") ∈ lw_all := lw_g (lw_at lw_m4 178 rfl) rfl
theorem q966 : (Jvm.Cond.fieldLink "OmenLineModel" (57 : Nat) "OmenLineModel" "wouldBe" "[I") ∈ lw_all := lw_g (lw_at lw_m4 179 rfl) rfl
theorem q967 : (Jvm.Cond.fieldLink "OmenLineModel" (280 : Nat) "OmenLineModel" "drawn" "I") ∈ lw_all := lw_g (lw_at lw_m4 180 rfl) rfl
theorem q968 : (Jvm.Cond.fieldLink "OmenLineModel" (60 : Nat) "OmenLineModel" "isKept" "[Z") ∈ lw_all := lw_g (lw_at lw_m4 181 rfl) rfl
theorem q969 : (Jvm.Cond.fieldLink "OmenLineModel" (63 : Nat) "OmenLineModel" "lanes" "[I") ∈ lw_all := lw_g (lw_at lw_m4 182 rfl) rfl
theorem q970 : (Jvm.Cond.fieldLink "OmenLineModel" (66 : Nat) "OmenLineModel" "lengths" "[I") ∈ lw_all := lw_g (lw_at lw_m4 183 rfl) rfl
theorem q971 : (Jvm.Cond.fieldLink "OmenLineModel" (69 : Nat) "OmenLineModel" "cells" "[I") ∈ lw_all := lw_g (lw_at lw_m4 184 rfl) rfl
theorem q972 : (Jvm.Cond.fieldLink "OmenLineModel" (289 : Nat) "OmenLineModel" "torn" "I") ∈ lw_all := lw_g (lw_at lw_m4 185 rfl) rfl
theorem q973 : (Jvm.Cond.laysFinal "OmenLineModel" "OmenLineModel" "state" "[I") ∈ lw_all := lw_g (lw_at lw_m4 186 rfl) rfl
theorem q974 : (Jvm.Cond.soleField "OmenLineModel" "state") ∈ lw_all := lw_g (lw_at lw_m4 187 rfl) rfl
theorem q975 : (Jvm.Cond.lays "OmenLineModel" "OmenLineModel" "blocks" "I") ∈ lw_all := lw_g (lw_at lw_m4 188 rfl) rfl
theorem q976 : (Jvm.Cond.soleField "OmenLineModel" "blocks") ∈ lw_all := lw_g (lw_at lw_m4 189 rfl) rfl
theorem q977 : (Jvm.Cond.lays "OmenLineModel" "OmenLineModel" "trainMany" "I") ∈ lw_all := lw_g (lw_at lw_m4 190 rfl) rfl
theorem q978 : (Jvm.Cond.soleField "OmenLineModel" "trainMany") ∈ lw_all := lw_g (lw_at lw_m4 191 rfl) rfl
theorem q979 : (Jvm.Cond.laysFinal "OmenLineModel" "OmenLineModel" "locks" "[I") ∈ lw_all := lw_g (lw_at lw_m4 192 rfl) rfl
theorem q980 : (Jvm.Cond.soleField "OmenLineModel" "locks") ∈ lw_all := lw_g (lw_at lw_m4 193 rfl) rfl
theorem q981 : (Jvm.Cond.lays "OmenLineModel" "OmenLineModel" "lockMany" "I") ∈ lw_all := lw_g (lw_at lw_m4 194 rfl) rfl
theorem q982 : (Jvm.Cond.soleField "OmenLineModel" "lockMany") ∈ lw_all := lw_g (lw_at lw_m4 195 rfl) rfl
theorem q983 : (Jvm.Cond.laysFinal "OmenLineModel" "OmenLineModel" "waits" "[I") ∈ lw_all := lw_g (lw_at lw_m4 196 rfl) rfl
theorem q984 : (Jvm.Cond.soleField "OmenLineModel" "waits") ∈ lw_all := lw_g (lw_at lw_m4 197 rfl) rfl
theorem q985 : (Jvm.Cond.laysFinal "OmenLineModel" "OmenLineModel" "readPage" "[I") ∈ lw_all := lw_g (lw_at lw_m4 198 rfl) rfl
theorem q986 : (Jvm.Cond.soleField "OmenLineModel" "readPage") ∈ lw_all := lw_g (lw_at lw_m4 199 rfl) rfl
theorem q987 : (Jvm.Cond.laysFinal "OmenLineModel" "OmenLineModel" "readLocks" "[I") ∈ lw_all := lw_g (lw_at lw_m4 200 rfl) rfl
theorem q988 : (Jvm.Cond.soleField "OmenLineModel" "readLocks") ∈ lw_all := lw_g (lw_at lw_m4 201 rfl) rfl
theorem q989 : (Jvm.Cond.lays "OmenLineModel" "OmenLineModel" "readBlocks" "I") ∈ lw_all := lw_g (lw_at lw_m4 202 rfl) rfl
theorem q990 : (Jvm.Cond.soleField "OmenLineModel" "readBlocks") ∈ lw_all := lw_g (lw_at lw_m4 203 rfl) rfl
theorem q991 : (Jvm.Cond.lays "OmenLineModel" "OmenLineModel" "readTrains" "I") ∈ lw_all := lw_g (lw_at lw_m4 204 rfl) rfl
theorem q992 : (Jvm.Cond.soleField "OmenLineModel" "readTrains") ∈ lw_all := lw_g (lw_at lw_m4 205 rfl) rfl
theorem q993 : (Jvm.Cond.lays "OmenLineModel" "OmenLineModel" "readLockMany" "I") ∈ lw_all := lw_g (lw_at lw_m4 206 rfl) rfl
theorem q994 : (Jvm.Cond.soleField "OmenLineModel" "readLockMany") ∈ lw_all := lw_g (lw_at lw_m4 207 rfl) rfl
theorem q995 : (Jvm.Cond.lays "OmenLineModel" "OmenLineModel" "blocksTold" "Z") ∈ lw_all := lw_g (lw_at lw_m4 208 rfl) rfl
theorem q996 : (Jvm.Cond.soleField "OmenLineModel" "blocksTold") ∈ lw_all := lw_g (lw_at lw_m4 209 rfl) rfl
theorem q997 : (Jvm.Cond.lays "OmenLineModel" "OmenLineModel" "omensTold" "I") ∈ lw_all := lw_g (lw_at lw_m4 210 rfl) rfl
theorem q998 : (Jvm.Cond.soleField "OmenLineModel" "omensTold") ∈ lw_all := lw_g (lw_at lw_m4 211 rfl) rfl
theorem q999 : (Jvm.Cond.lays "OmenLineModel" "OmenLineModel" "highBlock" "I") ∈ lw_all := lw_g (lw_at lw_m4 212 rfl) rfl
theorem q1000 : (Jvm.Cond.soleField "OmenLineModel" "highBlock") ∈ lw_all := lw_g (lw_at lw_m4 213 rfl) rfl
theorem q1001 : (Jvm.Cond.laysFinal "OmenLineModel" "OmenLineModel" "tape" "[I") ∈ lw_all := lw_g (lw_at lw_m4 214 rfl) rfl
theorem q1002 : (Jvm.Cond.soleField "OmenLineModel" "tape") ∈ lw_all := lw_g (lw_at lw_m4 215 rfl) rfl
theorem q1003 : (Jvm.Cond.lays "OmenLineModel" "OmenLineModel" "taped" "I") ∈ lw_all := lw_g (lw_at lw_m4 216 rfl) rfl
theorem q1004 : (Jvm.Cond.soleField "OmenLineModel" "taped") ∈ lw_all := lw_g (lw_at lw_m4 217 rfl) rfl
theorem q1005 : (Jvm.Cond.lays "OmenLineModel" "OmenLineModel" "fault" "I") ∈ lw_all := lw_g (lw_at lw_m4 218 rfl) rfl
theorem q1006 : (Jvm.Cond.soleField "OmenLineModel" "fault") ∈ lw_all := lw_g (lw_at lw_m4 219 rfl) rfl
theorem q1007 : (Jvm.Cond.lays "OmenLineModel" "OmenLineModel" "broken" "I") ∈ lw_all := lw_g (lw_at lw_m4 220 rfl) rfl
theorem q1008 : (Jvm.Cond.soleField "OmenLineModel" "broken") ∈ lw_all := lw_g (lw_at lw_m4 221 rfl) rfl
theorem q1009 : (Jvm.Cond.lays "OmenLineModel" "OmenLineModel" "brokenAt" "I") ∈ lw_all := lw_g (lw_at lw_m4 222 rfl) rfl
theorem q1010 : (Jvm.Cond.soleField "OmenLineModel" "brokenAt") ∈ lw_all := lw_g (lw_at lw_m4 223 rfl) rfl
theorem q1011 : (Jvm.Cond.lays "OmenLineModel" "OmenLineModel" "spot" "I") ∈ lw_all := lw_g (lw_at lw_m4 224 rfl) rfl
theorem q1012 : (Jvm.Cond.soleField "OmenLineModel" "spot") ∈ lw_all := lw_g (lw_at lw_m4 225 rfl) rfl
theorem q1013 : (Jvm.Cond.lays "OmenLineModel" "OmenLineModel" "here" "I") ∈ lw_all := lw_g (lw_at lw_m4 226 rfl) rfl
theorem q1014 : (Jvm.Cond.soleField "OmenLineModel" "here") ∈ lw_all := lw_g (lw_at lw_m4 227 rfl) rfl
theorem q1015 : (Jvm.Cond.lays "OmenLineModel" "OmenLineModel" "token" "I") ∈ lw_all := lw_g (lw_at lw_m4 228 rfl) rfl
theorem q1016 : (Jvm.Cond.soleField "OmenLineModel" "token") ∈ lw_all := lw_g (lw_at lw_m4 229 rfl) rfl
theorem q1017 : (Jvm.Cond.lays "OmenLineModel" "OmenLineModel" "value" "I") ∈ lw_all := lw_g (lw_at lw_m4 230 rfl) rfl
theorem q1018 : (Jvm.Cond.soleField "OmenLineModel" "value") ∈ lw_all := lw_g (lw_at lw_m4 231 rfl) rfl
theorem q1019 : (Jvm.Cond.laysFinal "OmenLineModel" "OmenLineModel" "cuts" "[I") ∈ lw_all := lw_g (lw_at lw_m4 232 rfl) rfl
theorem q1020 : (Jvm.Cond.soleField "OmenLineModel" "cuts") ∈ lw_all := lw_g (lw_at lw_m4 233 rfl) rfl
theorem q1021 : (Jvm.Cond.laysFinal "OmenLineModel" "OmenLineModel" "letters" "[I") ∈ lw_all := lw_g (lw_at lw_m4 234 rfl) rfl
theorem q1022 : (Jvm.Cond.soleField "OmenLineModel" "letters") ∈ lw_all := lw_g (lw_at lw_m4 235 rfl) rfl
theorem q1023 : (Jvm.Cond.laysFinal "OmenLineModel" "OmenLineModel" "place" "[I") ∈ lw_all := lw_g (lw_at lw_m4 236 rfl) rfl
theorem q1024 : (Jvm.Cond.soleField "OmenLineModel" "place") ∈ lw_all := lw_g (lw_at lw_m4 237 rfl) rfl
theorem q1025 : (Jvm.Cond.laysFinal "OmenLineModel" "OmenLineModel" "left" "[I") ∈ lw_all := lw_g (lw_at lw_m4 238 rfl) rfl
theorem q1026 : (Jvm.Cond.soleField "OmenLineModel" "left") ∈ lw_all := lw_g (lw_at lw_m4 239 rfl) rfl
theorem q1027 : (Jvm.Cond.laysFinal "OmenLineModel" "OmenLineModel" "hasSeen" "[Z") ∈ lw_all := lw_g (lw_at lw_m5 0 rfl) rfl
theorem q1028 : (Jvm.Cond.soleField "OmenLineModel" "hasSeen") ∈ lw_all := lw_g (lw_at lw_m5 1 rfl) rfl
theorem q1029 : (Jvm.Cond.laysFinal "OmenLineModel" "OmenLineModel" "homeAt" "[I") ∈ lw_all := lw_g (lw_at lw_m5 2 rfl) rfl
theorem q1030 : (Jvm.Cond.soleField "OmenLineModel" "homeAt") ∈ lw_all := lw_g (lw_at lw_m5 3 rfl) rfl
theorem q1031 : (Jvm.Cond.laysFinal "OmenLineModel" "OmenLineModel" "places" "[I") ∈ lw_all := lw_g (lw_at lw_m5 4 rfl) rfl
theorem q1032 : (Jvm.Cond.soleField "OmenLineModel" "places") ∈ lw_all := lw_g (lw_at lw_m5 5 rfl) rfl
theorem q1033 : (Jvm.Cond.lays "OmenLineModel" "OmenLineModel" "bumpAt" "I") ∈ lw_all := lw_g (lw_at lw_m5 6 rfl) rfl
theorem q1034 : (Jvm.Cond.soleField "OmenLineModel" "bumpAt") ∈ lw_all := lw_g (lw_at lw_m5 7 rfl) rfl
theorem q1035 : (Jvm.Cond.lays "OmenLineModel" "OmenLineModel" "bumpIn" "I") ∈ lw_all := lw_g (lw_at lw_m5 8 rfl) rfl
theorem q1036 : (Jvm.Cond.soleField "OmenLineModel" "bumpIn") ∈ lw_all := lw_g (lw_at lw_m5 9 rfl) rfl
theorem q1037 : (Jvm.Cond.lays "OmenLineModel" "OmenLineModel" "bumpOf" "I") ∈ lw_all := lw_g (lw_at lw_m5 10 rfl) rfl
theorem q1038 : (Jvm.Cond.soleField "OmenLineModel" "bumpOf") ∈ lw_all := lw_g (lw_at lw_m5 11 rfl) rfl
theorem q1039 : (Jvm.Cond.lays "OmenLineModel" "OmenLineModel" "waited" "I") ∈ lw_all := lw_g (lw_at lw_m5 12 rfl) rfl
theorem q1040 : (Jvm.Cond.soleField "OmenLineModel" "waited") ∈ lw_all := lw_g (lw_at lw_m5 13 rfl) rfl
theorem q1041 : (Jvm.Cond.lays "OmenLineModel" "OmenLineModel" "keptOut" "I") ∈ lw_all := lw_g (lw_at lw_m5 14 rfl) rfl
theorem q1042 : (Jvm.Cond.soleField "OmenLineModel" "keptOut") ∈ lw_all := lw_g (lw_at lw_m5 15 rfl) rfl
theorem q1043 : (Jvm.Cond.lays "OmenLineModel" "OmenLineModel" "visited" "I") ∈ lw_all := lw_g (lw_at lw_m5 16 rfl) rfl
theorem q1044 : (Jvm.Cond.soleField "OmenLineModel" "visited") ∈ lw_all := lw_g (lw_at lw_m5 17 rfl) rfl
theorem q1045 : (Jvm.Cond.laysFinal "OmenLineModel" "OmenLineModel" "seen" "[I") ∈ lw_all := lw_g (lw_at lw_m5 18 rfl) rfl
theorem q1046 : (Jvm.Cond.soleField "OmenLineModel" "seen") ∈ lw_all := lw_g (lw_at lw_m5 19 rfl) rfl
theorem q1047 : (Jvm.Cond.lays "OmenLineModel" "OmenLineModel" "seenMany" "I") ∈ lw_all := lw_g (lw_at lw_m5 20 rfl) rfl
theorem q1048 : (Jvm.Cond.soleField "OmenLineModel" "seenMany") ∈ lw_all := lw_g (lw_at lw_m5 21 rfl) rfl
theorem q1049 : (Jvm.Cond.laysFinal "OmenLineModel" "OmenLineModel" "wouldBe" "[I") ∈ lw_all := lw_g (lw_at lw_m5 22 rfl) rfl
theorem q1050 : (Jvm.Cond.soleField "OmenLineModel" "wouldBe") ∈ lw_all := lw_g (lw_at lw_m5 23 rfl) rfl
theorem q1051 : (Jvm.Cond.lays "OmenLineModel" "OmenLineModel" "drawn" "I") ∈ lw_all := lw_g (lw_at lw_m5 24 rfl) rfl
theorem q1052 : (Jvm.Cond.soleField "OmenLineModel" "drawn") ∈ lw_all := lw_g (lw_at lw_m5 25 rfl) rfl
theorem q1053 : (Jvm.Cond.laysFinal "OmenLineModel" "OmenLineModel" "isKept" "[Z") ∈ lw_all := lw_g (lw_at lw_m5 26 rfl) rfl
theorem q1054 : (Jvm.Cond.soleField "OmenLineModel" "isKept") ∈ lw_all := lw_g (lw_at lw_m5 27 rfl) rfl
theorem q1055 : (Jvm.Cond.laysFinal "OmenLineModel" "OmenLineModel" "lanes" "[I") ∈ lw_all := lw_g (lw_at lw_m5 28 rfl) rfl
theorem q1056 : (Jvm.Cond.soleField "OmenLineModel" "lanes") ∈ lw_all := lw_g (lw_at lw_m5 29 rfl) rfl
theorem q1057 : (Jvm.Cond.laysFinal "OmenLineModel" "OmenLineModel" "lengths" "[I") ∈ lw_all := lw_g (lw_at lw_m5 30 rfl) rfl
theorem q1058 : (Jvm.Cond.soleField "OmenLineModel" "lengths") ∈ lw_all := lw_g (lw_at lw_m5 31 rfl) rfl
theorem q1059 : (Jvm.Cond.laysFinal "OmenLineModel" "OmenLineModel" "cells" "[I") ∈ lw_all := lw_g (lw_at lw_m5 32 rfl) rfl
theorem q1060 : (Jvm.Cond.soleField "OmenLineModel" "cells") ∈ lw_all := lw_g (lw_at lw_m5 33 rfl) rfl
theorem q1061 : (Jvm.Cond.lays "OmenLineModel" "OmenLineModel" "torn" "I") ∈ lw_all := lw_g (lw_at lw_m5 34 rfl) rfl
theorem q1062 : (Jvm.Cond.soleField "OmenLineModel" "torn") ∈ lw_all := lw_g (lw_at lw_m5 35 rfl) rfl
theorem q1063 : (Jvm.Cond.superclass "OmenLineModel" "java/lang/Object") ∈ lw_all := lw_g (lw_at lw_m5 36 rfl) rfl
theorem q1065 : (Jvm.Cond.instanceMethod ({ cls := "OmenLineModel", name := "feed", desc := "(I)I" } : Jvm.MethodName)) ∈ lw_all := lw_g (lw_at lw_m5 38 rfl) rfl
theorem q1066 : (Jvm.Cond.selects "OmenLineModel" ({ cls := "OmenLineModel", name := "feed", desc := "(I)I" } : Jvm.MethodName) ({ cls := "OmenLineModel", name := "feed", desc := "(I)I" } : Jvm.MethodName)) ∈ lw_all := lw_g (lw_at lw_m5 39 rfl) rfl
theorem q1067 : (Jvm.Cond.code ({ cls := "OmenLineModel", name := "feed", desc := "(I)I" } : Jvm.MethodName) prog_11_method_4_code (2 : Nat) (Option.some Jvm.ClassFile.FieldType.int)) ∈ lw_all := lw_g (lw_at lw_m5 40 rfl) rfl
theorem q1068 : (Jvm.Cond.constantLong "OmenLineModel" (72 : Nat) (127 : Int64)) ∈ lw_all := lw_g (lw_at lw_m5 41 rfl) rfl
theorem q1069 : (Jvm.Cond.methodLink "OmenLineModel" (74 : Nat) ({ cls := "OmenLineModel", name := "in", desc := "(JJJ)Z" } : Jvm.MethodName)) ∈ lw_all := lw_g (lw_at lw_m5 42 rfl) rfl
theorem q1070 : (Jvm.Cond.static ({ cls := "OmenLineModel", name := "in", desc := "(JJJ)Z" } : Jvm.MethodName)) ∈ lw_all := lw_g (lw_at lw_m5 43 rfl) rfl
theorem q1071 : (Jvm.Cond.code ({ cls := "OmenLineModel", name := "in", desc := "(JJJ)Z" } : Jvm.MethodName) prog_11_method_3_code (6 : Nat) (Option.some Jvm.ClassFile.FieldType.boolean)) ∈ lw_all := lw_g (lw_at lw_m5 44 rfl) rfl
theorem q1073 : (Jvm.Cond.instanceMethod ({ cls := "OmenLineModel", name := "end", desc := "(I)I" } : Jvm.MethodName)) ∈ lw_all := lw_g (lw_at lw_m5 46 rfl) rfl
theorem q1074 : (Jvm.Cond.selects "OmenLineModel" ({ cls := "OmenLineModel", name := "end", desc := "(I)I" } : Jvm.MethodName) ({ cls := "OmenLineModel", name := "end", desc := "(I)I" } : Jvm.MethodName)) ∈ lw_all := lw_g (lw_at lw_m5 47 rfl) rfl
theorem q1075 : (Jvm.Cond.code ({ cls := "OmenLineModel", name := "end", desc := "(I)I" } : Jvm.MethodName) prog_11_method_5_code (3 : Nat) (Option.some Jvm.ClassFile.FieldType.int)) ∈ lw_all := lw_g (lw_at lw_m5 48 rfl) rfl
theorem q1077 : (Jvm.Cond.instanceMethod ({ cls := "OmenLineModel", name := "text", desc := "()I" } : Jvm.MethodName)) ∈ lw_all := lw_g (lw_at lw_m5 50 rfl) rfl
theorem q1078 : (Jvm.Cond.selects "OmenLineModel" ({ cls := "OmenLineModel", name := "text", desc := "()I" } : Jvm.MethodName) ({ cls := "OmenLineModel", name := "text", desc := "()I" } : Jvm.MethodName)) ∈ lw_all := lw_g (lw_at lw_m5 51 rfl) rfl
theorem q1079 : (Jvm.Cond.code ({ cls := "OmenLineModel", name := "text", desc := "()I" } : Jvm.MethodName) prog_11_method_17_code (3 : Nat) (Option.some Jvm.ClassFile.FieldType.int)) ∈ lw_all := lw_g (lw_at lw_m5 52 rfl) rfl
theorem q1080 : (Jvm.Cond.methodLink "OmenLineModel" (115 : Nat) ({ cls := "OmenLineModel", name := "step", desc := "()V" } : Jvm.MethodName)) ∈ lw_all := lw_g (lw_at lw_m5 53 rfl) rfl
theorem q1081 : (Jvm.Cond.privateMethod ({ cls := "OmenLineModel", name := "step", desc := "()V" } : Jvm.MethodName)) ∈ lw_tbl := lw_at lw_m5 54 rfl
theorem q1082 : (Jvm.Cond.instanceMethod ({ cls := "OmenLineModel", name := "step", desc := "()V" } : Jvm.MethodName)) ∈ lw_all := lw_g (lw_at lw_m5 55 rfl) rfl
theorem q1083 : (Jvm.Cond.code ({ cls := "OmenLineModel", name := "step", desc := "()V" } : Jvm.MethodName) prog_11_method_9_code (2 : Nat) (Option.none : Option Jvm.ClassFile.FieldType)) ∈ lw_all := lw_g (lw_at lw_m5 56 rfl) rfl
theorem q1084 : (Jvm.Cond.methodLink "OmenLineModel" (96 : Nat) ({ cls := "OmenLineModel", name := "byteAt", desc := "(I)I" } : Jvm.MethodName)) ∈ lw_all := lw_g (lw_at lw_m5 57 rfl) rfl
theorem q1085 : (Jvm.Cond.privateMethod ({ cls := "OmenLineModel", name := "byteAt", desc := "(I)I" } : Jvm.MethodName)) ∈ lw_tbl := lw_at lw_m5 58 rfl
theorem q1086 : (Jvm.Cond.instanceMethod ({ cls := "OmenLineModel", name := "byteAt", desc := "(I)I" } : Jvm.MethodName)) ∈ lw_all := lw_g (lw_at lw_m5 59 rfl) rfl
theorem q1087 : (Jvm.Cond.code ({ cls := "OmenLineModel", name := "byteAt", desc := "(I)I" } : Jvm.MethodName) prog_11_method_6_code (2 : Nat) (Option.some Jvm.ClassFile.FieldType.int)) ∈ lw_all := lw_g (lw_at lw_m5 60 rfl) rfl
theorem q1088 : (Jvm.Cond.constantLong "OmenLineModel" (103 : Nat) (97 : Int64)) ∈ lw_all := lw_g (lw_at lw_m5 61 rfl) rfl
theorem q1089 : (Jvm.Cond.constantLong "OmenLineModel" (105 : Nat) (122 : Int64)) ∈ lw_all := lw_g (lw_at lw_m5 62 rfl) rfl
theorem q1090 : (Jvm.Cond.constantLong "OmenLineModel" (107 : Nat) (48 : Int64)) ∈ lw_all := lw_g (lw_at lw_m5 63 rfl) rfl
theorem q1091 : (Jvm.Cond.constantLong "OmenLineModel" (109 : Nat) (57 : Int64)) ∈ lw_all := lw_g (lw_at lw_m5 64 rfl) rfl
theorem q1092 : (Jvm.Cond.methodLink "OmenLineModel" (111 : Nat) ({ cls := "OmenLineModel", name := "fails", desc := "(I)V" } : Jvm.MethodName)) ∈ lw_all := lw_g (lw_at lw_m5 65 rfl) rfl
theorem q1093 : (Jvm.Cond.privateMethod ({ cls := "OmenLineModel", name := "fails", desc := "(I)V" } : Jvm.MethodName)) ∈ lw_tbl := lw_at lw_m5 66 rfl
theorem q1094 : (Jvm.Cond.instanceMethod ({ cls := "OmenLineModel", name := "fails", desc := "(I)V" } : Jvm.MethodName)) ∈ lw_all := lw_g (lw_at lw_m5 67 rfl) rfl
theorem q1095 : (Jvm.Cond.code ({ cls := "OmenLineModel", name := "fails", desc := "(I)V" } : Jvm.MethodName) prog_11_method_7_code (2 : Nat) (Option.none : Option Jvm.ClassFile.FieldType)) ∈ lw_all := lw_g (lw_at lw_m5 68 rfl) rfl
theorem q1096 : (Jvm.Cond.methodLink "OmenLineModel" (163 : Nat) ({ cls := "OmenLineModel", name := "readLine", desc := "()V" } : Jvm.MethodName)) ∈ lw_all := lw_g (lw_at lw_m5 69 rfl) rfl
theorem q1097 : (Jvm.Cond.privateMethod ({ cls := "OmenLineModel", name := "readLine", desc := "()V" } : Jvm.MethodName)) ∈ lw_tbl := lw_at lw_m5 70 rfl
theorem q1098 : (Jvm.Cond.instanceMethod ({ cls := "OmenLineModel", name := "readLine", desc := "()V" } : Jvm.MethodName)) ∈ lw_all := lw_g (lw_at lw_m5 71 rfl) rfl
theorem q1099 : (Jvm.Cond.code ({ cls := "OmenLineModel", name := "readLine", desc := "()V" } : Jvm.MethodName) prog_11_method_15_code (2 : Nat) (Option.none : Option Jvm.ClassFile.FieldType)) ∈ lw_all := lw_g (lw_at lw_m5 72 rfl) rfl
theorem q1100 : (Jvm.Cond.methodLink "OmenLineModel" (131 : Nat) ({ cls := "OmenLineModel", name := "nameHere", desc := "()I" } : Jvm.MethodName)) ∈ lw_all := lw_g (lw_at lw_m5 73 rfl) rfl
theorem q1101 : (Jvm.Cond.privateMethod ({ cls := "OmenLineModel", name := "nameHere", desc := "()I" } : Jvm.MethodName)) ∈ lw_tbl := lw_at lw_m5 74 rfl
theorem q1102 : (Jvm.Cond.instanceMethod ({ cls := "OmenLineModel", name := "nameHere", desc := "()I" } : Jvm.MethodName)) ∈ lw_all := lw_g (lw_at lw_m5 75 rfl) rfl
theorem q1103 : (Jvm.Cond.code ({ cls := "OmenLineModel", name := "nameHere", desc := "()I" } : Jvm.MethodName) prog_11_method_8_code (4 : Nat) (Option.some Jvm.ClassFile.FieldType.int)) ∈ lw_all := lw_g (lw_at lw_m5 76 rfl) rfl
theorem q1104 : (Jvm.Cond.constantLong "OmenLineModel" (150 : Nat) (10 : Int64)) ∈ lw_all := lw_g (lw_at lw_m5 77 rfl) rfl
theorem q1105 : (Jvm.Cond.constantLong "OmenLineModel" (152 : Nat) (4 : Int64)) ∈ lw_all := lw_g (lw_at lw_m5 78 rfl) rfl
theorem q1106 : (Jvm.Cond.constantLong "OmenLineModel" (154 : Nat) (7 : Int64)) ∈ lw_all := lw_g (lw_at lw_m5 79 rfl) rfl
theorem q1107 : (Jvm.Cond.methodLink "OmenLineModel" (160 : Nat) ({ cls := "OmenLineModel", name := "readMore", desc := "(I)V" } : Jvm.MethodName)) ∈ lw_all := lw_g (lw_at lw_m5 80 rfl) rfl
theorem q1108 : (Jvm.Cond.privateMethod ({ cls := "OmenLineModel", name := "readMore", desc := "(I)V" } : Jvm.MethodName)) ∈ lw_tbl := lw_at lw_m5 81 rfl
theorem q1109 : (Jvm.Cond.instanceMethod ({ cls := "OmenLineModel", name := "readMore", desc := "(I)V" } : Jvm.MethodName)) ∈ lw_all := lw_g (lw_at lw_m5 82 rfl) rfl
theorem q1110 : (Jvm.Cond.code ({ cls := "OmenLineModel", name := "readMore", desc := "(I)V" } : Jvm.MethodName) prog_11_method_14_code (3 : Nat) (Option.none : Option Jvm.ClassFile.FieldType)) ∈ lw_all := lw_g (lw_at lw_m5 83 rfl) rfl
theorem q1111 : (Jvm.Cond.methodLink "OmenLineModel" (125 : Nat) ({ cls := "OmenLineModel", name := "blockHere", desc := "(I)I" } : Jvm.MethodName)) ∈ lw_all := lw_g (lw_at lw_m5 84 rfl) rfl
theorem q1112 : (Jvm.Cond.privateMethod ({ cls := "OmenLineModel", name := "blockHere", desc := "(I)I" } : Jvm.MethodName)) ∈ lw_tbl := lw_at lw_m5 85 rfl
theorem q1113 : (Jvm.Cond.instanceMethod ({ cls := "OmenLineModel", name := "blockHere", desc := "(I)I" } : Jvm.MethodName)) ∈ lw_all := lw_g (lw_at lw_m5 86 rfl) rfl
theorem q1114 : (Jvm.Cond.code ({ cls := "OmenLineModel", name := "blockHere", desc := "(I)I" } : Jvm.MethodName) prog_11_method_11_code (3 : Nat) (Option.some Jvm.ClassFile.FieldType.int)) ∈ lw_all := lw_g (lw_at lw_m5 87 rfl) rfl
theorem q1115 : (Jvm.Cond.methodLink "OmenLineModel" (118 : Nat) ({ cls := "OmenLineModel", name := "other", desc := "(III)I" } : Jvm.MethodName)) ∈ lw_all := lw_g (lw_at lw_m5 88 rfl) rfl
theorem q1116 : (Jvm.Cond.privateMethod ({ cls := "OmenLineModel", name := "other", desc := "(III)I" } : Jvm.MethodName)) ∈ lw_tbl := lw_at lw_m5 89 rfl
theorem q1117 : (Jvm.Cond.instanceMethod ({ cls := "OmenLineModel", name := "other", desc := "(III)I" } : Jvm.MethodName)) ∈ lw_all := lw_g (lw_at lw_m5 90 rfl) rfl
theorem q1118 : (Jvm.Cond.code ({ cls := "OmenLineModel", name := "other", desc := "(III)I" } : Jvm.MethodName) prog_11_method_10_code (5 : Nat) (Option.some Jvm.ClassFile.FieldType.int)) ∈ lw_all := lw_g (lw_at lw_m5 91 rfl) rfl
theorem q1119 : (Jvm.Cond.methodLink "OmenLineModel" (141 : Nat) ({ cls := "OmenLineModel", name := "readTrain", desc := "(I)V" } : Jvm.MethodName)) ∈ lw_all := lw_g (lw_at lw_m5 92 rfl) rfl
theorem q1120 : (Jvm.Cond.privateMethod ({ cls := "OmenLineModel", name := "readTrain", desc := "(I)V" } : Jvm.MethodName)) ∈ lw_tbl := lw_at lw_m5 93 rfl
theorem q1121 : (Jvm.Cond.instanceMethod ({ cls := "OmenLineModel", name := "readTrain", desc := "(I)V" } : Jvm.MethodName)) ∈ lw_all := lw_g (lw_at lw_m5 94 rfl) rfl
theorem q1122 : (Jvm.Cond.code ({ cls := "OmenLineModel", name := "readTrain", desc := "(I)V" } : Jvm.MethodName) prog_11_method_13_code (3 : Nat) (Option.none : Option Jvm.ClassFile.FieldType)) ∈ lw_all := lw_g (lw_at lw_m5 95 rfl) rfl
theorem q1123 : (Jvm.Cond.methodLink "OmenLineModel" (147 : Nat) ({ cls := "OmenLineModel", name := "readLock", desc := "()V" } : Jvm.MethodName)) ∈ lw_all := lw_g (lw_at lw_m5 96 rfl) rfl
theorem q1124 : (Jvm.Cond.privateMethod ({ cls := "OmenLineModel", name := "readLock", desc := "()V" } : Jvm.MethodName)) ∈ lw_tbl := lw_at lw_m5 97 rfl
theorem q1125 : (Jvm.Cond.instanceMethod ({ cls := "OmenLineModel", name := "readLock", desc := "()V" } : Jvm.MethodName)) ∈ lw_all := lw_g (lw_at lw_m5 98 rfl) rfl
theorem q1126 : (Jvm.Cond.code ({ cls := "OmenLineModel", name := "readLock", desc := "()V" } : Jvm.MethodName) prog_11_method_12_code (2 : Nat) (Option.none : Option Jvm.ClassFile.FieldType)) ∈ lw_all := lw_g (lw_at lw_m5 99 rfl) rfl
theorem q1127 : (Jvm.Cond.methodLink "OmenLineModel" (166 : Nat) ({ cls := "OmenLineModel", name := "areBothHung", desc := "()Z" } : Jvm.MethodName)) ∈ lw_all := lw_g (lw_at lw_m5 100 rfl) rfl
theorem q1128 : (Jvm.Cond.privateMethod ({ cls := "OmenLineModel", name := "areBothHung", desc := "()Z" } : Jvm.MethodName)) ∈ lw_tbl := lw_at lw_m5 101 rfl
theorem q1129 : (Jvm.Cond.instanceMethod ({ cls := "OmenLineModel", name := "areBothHung", desc := "()Z" } : Jvm.MethodName)) ∈ lw_all := lw_g (lw_at lw_m5 102 rfl) rfl
theorem q1130 : (Jvm.Cond.code ({ cls := "OmenLineModel", name := "areBothHung", desc := "()Z" } : Jvm.MethodName) prog_11_method_16_code (3 : Nat) (Option.some Jvm.ClassFile.FieldType.boolean)) ∈ lw_all := lw_g (lw_at lw_m5 103 rfl) rfl
theorem q1132 : (Jvm.Cond.instanceMethod ({ cls := "OmenLineModel", name := "fault", desc := "()I" } : Jvm.MethodName)) ∈ lw_all := lw_g (lw_at lw_m5 105 rfl) rfl
theorem q1133 : (Jvm.Cond.selects "OmenLineModel" ({ cls := "OmenLineModel", name := "fault", desc := "()I" } : Jvm.MethodName) ({ cls := "OmenLineModel", name := "fault", desc := "()I" } : Jvm.MethodName)) ∈ lw_all := lw_g (lw_at lw_m5 106 rfl) rfl
theorem q1134 : (Jvm.Cond.code ({ cls := "OmenLineModel", name := "fault", desc := "()I" } : Jvm.MethodName) prog_11_method_18_code (1 : Nat) (Option.some Jvm.ClassFile.FieldType.int)) ∈ lw_all := lw_g (lw_at lw_m5 107 rfl) rfl
theorem q1136 : (Jvm.Cond.instanceMethod ({ cls := "OmenLineModel", name := "rule", desc := "(I)I" } : Jvm.MethodName)) ∈ lw_all := lw_g (lw_at lw_m5 109 rfl) rfl
theorem q1137 : (Jvm.Cond.selects "OmenLineModel" ({ cls := "OmenLineModel", name := "rule", desc := "(I)I" } : Jvm.MethodName) ({ cls := "OmenLineModel", name := "rule", desc := "(I)I" } : Jvm.MethodName)) ∈ lw_all := lw_g (lw_at lw_m5 110 rfl) rfl
theorem q1138 : (Jvm.Cond.code ({ cls := "OmenLineModel", name := "rule", desc := "(I)I" } : Jvm.MethodName) prog_11_method_22_code (2 : Nat) (Option.some Jvm.ClassFile.FieldType.int)) ∈ lw_all := lw_g (lw_at lw_m5 111 rfl) rfl
theorem q1139 : (Jvm.Cond.methodLink "OmenLineModel" (182 : Nat) ({ cls := "OmenLineModel", name := "omens", desc := "()I" } : Jvm.MethodName)) ∈ lw_all := lw_g (lw_at lw_m5 112 rfl) rfl
theorem q1140 : (Jvm.Cond.privateMethod ({ cls := "OmenLineModel", name := "omens", desc := "()I" } : Jvm.MethodName)) ∈ lw_tbl := lw_at lw_m5 113 rfl
theorem q1141 : (Jvm.Cond.instanceMethod ({ cls := "OmenLineModel", name := "omens", desc := "()I" } : Jvm.MethodName)) ∈ lw_all := lw_g (lw_at lw_m5 114 rfl) rfl
theorem q1142 : (Jvm.Cond.code ({ cls := "OmenLineModel", name := "omens", desc := "()I" } : Jvm.MethodName) prog_11_method_21_code (3 : Nat) (Option.some Jvm.ClassFile.FieldType.int)) ∈ lw_all := lw_g (lw_at lw_m5 115 rfl) rfl
theorem q1144 : (Jvm.Cond.instanceMethod ({ cls := "OmenLineModel", name := "block", desc := "(II)I" } : Jvm.MethodName)) ∈ lw_all := lw_g (lw_at lw_m5 117 rfl) rfl
theorem q1145 : (Jvm.Cond.selects "OmenLineModel" ({ cls := "OmenLineModel", name := "block", desc := "(II)I" } : Jvm.MethodName) ({ cls := "OmenLineModel", name := "block", desc := "(II)I" } : Jvm.MethodName)) ∈ lw_all := lw_g (lw_at lw_m5 118 rfl) rfl
theorem q1146 : (Jvm.Cond.code ({ cls := "OmenLineModel", name := "block", desc := "(II)I" } : Jvm.MethodName) prog_11_method_24_code (3 : Nat) (Option.some Jvm.ClassFile.FieldType.int)) ∈ lw_all := lw_g (lw_at lw_m5 119 rfl) rfl
theorem q1147 : (Jvm.Cond.methodLink "OmenLineModel" (185 : Nat) ({ cls := "OmenLineModel", name := "isBlock", desc := "(I)Z" } : Jvm.MethodName)) ∈ lw_all := lw_g (lw_at lw_m5 120 rfl) rfl
theorem q1148 : (Jvm.Cond.privateMethod ({ cls := "OmenLineModel", name := "isBlock", desc := "(I)Z" } : Jvm.MethodName)) ∈ lw_tbl := lw_at lw_m5 121 rfl
theorem q1149 : (Jvm.Cond.instanceMethod ({ cls := "OmenLineModel", name := "isBlock", desc := "(I)Z" } : Jvm.MethodName)) ∈ lw_all := lw_g (lw_at lw_m5 122 rfl) rfl
theorem q1150 : (Jvm.Cond.code ({ cls := "OmenLineModel", name := "isBlock", desc := "(I)Z" } : Jvm.MethodName) prog_11_method_19_code (2 : Nat) (Option.some Jvm.ClassFile.FieldType.boolean)) ∈ lw_all := lw_g (lw_at lw_m5 123 rfl) rfl
theorem q1151 : (Jvm.Cond.constantLong "OmenLineModel" (189 : Nat) (2 : Int64)) ∈ lw_all := lw_g (lw_at lw_m5 124 rfl) rfl
theorem q1152 : (Jvm.Cond.methodLink "OmenLineModel" (191 : Nat) ({ cls := "OmenLineModel", name := "lockedWith", desc := "(I)I" } : Jvm.MethodName)) ∈ lw_all := lw_g (lw_at lw_m5 125 rfl) rfl
theorem q1153 : (Jvm.Cond.privateMethod ({ cls := "OmenLineModel", name := "lockedWith", desc := "(I)I" } : Jvm.MethodName)) ∈ lw_tbl := lw_at lw_m5 126 rfl
theorem q1154 : (Jvm.Cond.instanceMethod ({ cls := "OmenLineModel", name := "lockedWith", desc := "(I)I" } : Jvm.MethodName)) ∈ lw_all := lw_g (lw_at lw_m5 127 rfl) rfl
theorem q1155 : (Jvm.Cond.code ({ cls := "OmenLineModel", name := "lockedWith", desc := "(I)I" } : Jvm.MethodName) prog_11_method_23_code (4 : Nat) (Option.some Jvm.ClassFile.FieldType.int)) ∈ lw_all := lw_g (lw_at lw_m5 128 rfl) rfl
theorem q1157 : (Jvm.Cond.instanceMethod ({ cls := "OmenLineModel", name := "lock", desc := "(II)I" } : Jvm.MethodName)) ∈ lw_all := lw_g (lw_at lw_m5 130 rfl) rfl
theorem q1158 : (Jvm.Cond.selects "OmenLineModel" ({ cls := "OmenLineModel", name := "lock", desc := "(II)I" } : Jvm.MethodName) ({ cls := "OmenLineModel", name := "lock", desc := "(II)I" } : Jvm.MethodName)) ∈ lw_all := lw_g (lw_at lw_m5 131 rfl) rfl
theorem q1159 : (Jvm.Cond.code ({ cls := "OmenLineModel", name := "lock", desc := "(II)I" } : Jvm.MethodName) prog_11_method_25_code (3 : Nat) (Option.some Jvm.ClassFile.FieldType.int)) ∈ lw_all := lw_g (lw_at lw_m5 132 rfl) rfl
theorem q1161 : (Jvm.Cond.instanceMethod ({ cls := "OmenLineModel", name := "train", desc := "(II)I" } : Jvm.MethodName)) ∈ lw_all := lw_g (lw_at lw_m5 134 rfl) rfl
theorem q1162 : (Jvm.Cond.selects "OmenLineModel" ({ cls := "OmenLineModel", name := "train", desc := "(II)I" } : Jvm.MethodName) ({ cls := "OmenLineModel", name := "train", desc := "(II)I" } : Jvm.MethodName)) ∈ lw_all := lw_g (lw_at lw_m5 135 rfl) rfl
theorem q1163 : (Jvm.Cond.code ({ cls := "OmenLineModel", name := "train", desc := "(II)I" } : Jvm.MethodName) prog_11_method_26_code (3 : Nat) (Option.some Jvm.ClassFile.FieldType.int)) ∈ lw_all := lw_g (lw_at lw_m5 136 rfl) rfl
theorem q1164 : (Jvm.Cond.methodLink "OmenLineModel" (194 : Nat) ({ cls := "OmenLineModel", name := "isTrain", desc := "(I)Z" } : Jvm.MethodName)) ∈ lw_all := lw_g (lw_at lw_m5 137 rfl) rfl
theorem q1165 : (Jvm.Cond.privateMethod ({ cls := "OmenLineModel", name := "isTrain", desc := "(I)Z" } : Jvm.MethodName)) ∈ lw_tbl := lw_at lw_m5 138 rfl
theorem q1166 : (Jvm.Cond.instanceMethod ({ cls := "OmenLineModel", name := "isTrain", desc := "(I)Z" } : Jvm.MethodName)) ∈ lw_all := lw_g (lw_at lw_m5 139 rfl) rfl
theorem q1167 : (Jvm.Cond.code ({ cls := "OmenLineModel", name := "isTrain", desc := "(I)Z" } : Jvm.MethodName) prog_11_method_20_code (2 : Nat) (Option.some Jvm.ClassFile.FieldType.boolean)) ∈ lw_all := lw_g (lw_at lw_m5 140 rfl) rfl
theorem q1168 : (Jvm.Cond.constantLong "OmenLineModel" (197 : Nat) (3 : Int64)) ∈ lw_all := lw_g (lw_at lw_m5 141 rfl) rfl
theorem q1170 : (Jvm.Cond.instanceMethod ({ cls := "OmenLineModel", name := "waits", desc := "(II)I" } : Jvm.MethodName)) ∈ lw_all := lw_g (lw_at lw_m5 143 rfl) rfl
theorem q1171 : (Jvm.Cond.selects "OmenLineModel" ({ cls := "OmenLineModel", name := "waits", desc := "(II)I" } : Jvm.MethodName) ({ cls := "OmenLineModel", name := "waits", desc := "(II)I" } : Jvm.MethodName)) ∈ lw_all := lw_g (lw_at lw_m5 144 rfl) rfl
theorem q1172 : (Jvm.Cond.code ({ cls := "OmenLineModel", name := "waits", desc := "(II)I" } : Jvm.MethodName) prog_11_method_27_code (3 : Nat) (Option.some Jvm.ClassFile.FieldType.int)) ∈ lw_all := lw_g (lw_at lw_m5 145 rfl) rfl
theorem q1174 : (Jvm.Cond.instanceMethod ({ cls := "OmenLineModel", name := "hang", desc := "(II)I" } : Jvm.MethodName)) ∈ lw_all := lw_g (lw_at lw_m5 147 rfl) rfl
theorem q1175 : (Jvm.Cond.selects "OmenLineModel" ({ cls := "OmenLineModel", name := "hang", desc := "(II)I" } : Jvm.MethodName) ({ cls := "OmenLineModel", name := "hang", desc := "(II)I" } : Jvm.MethodName)) ∈ lw_all := lw_g (lw_at lw_m5 148 rfl) rfl
theorem q1176 : (Jvm.Cond.code ({ cls := "OmenLineModel", name := "hang", desc := "(II)I" } : Jvm.MethodName) prog_11_method_29_code (3 : Nat) (Option.some Jvm.ClassFile.FieldType.int)) ∈ lw_all := lw_g (lw_at lw_m5 149 rfl) rfl
theorem q1177 : (Jvm.Cond.methodLink "OmenLineModel" (199 : Nat) ({ cls := "OmenLineModel", name := "hangs", desc := "(II)I" } : Jvm.MethodName)) ∈ lw_all := lw_g (lw_at lw_m5 150 rfl) rfl
theorem q1178 : (Jvm.Cond.privateMethod ({ cls := "OmenLineModel", name := "hangs", desc := "(II)I" } : Jvm.MethodName)) ∈ lw_tbl := lw_at lw_m5 151 rfl
theorem q1179 : (Jvm.Cond.instanceMethod ({ cls := "OmenLineModel", name := "hangs", desc := "(II)I" } : Jvm.MethodName)) ∈ lw_all := lw_g (lw_at lw_m5 152 rfl) rfl
theorem q1180 : (Jvm.Cond.code ({ cls := "OmenLineModel", name := "hangs", desc := "(II)I" } : Jvm.MethodName) prog_11_method_28_code (4 : Nat) (Option.some Jvm.ClassFile.FieldType.int)) ∈ lw_all := lw_g (lw_at lw_m5 153 rfl) rfl
theorem q1182 : (Jvm.Cond.instanceMethod ({ cls := "OmenLineModel", name := "guard", desc := "(IZ)I" } : Jvm.MethodName)) ∈ lw_all := lw_g (lw_at lw_m5 155 rfl) rfl
theorem q1183 : (Jvm.Cond.selects "OmenLineModel" ({ cls := "OmenLineModel", name := "guard", desc := "(IZ)I" } : Jvm.MethodName) ({ cls := "OmenLineModel", name := "guard", desc := "(IZ)I" } : Jvm.MethodName)) ∈ lw_all := lw_g (lw_at lw_m5 156 rfl) rfl
theorem q1184 : (Jvm.Cond.code ({ cls := "OmenLineModel", name := "guard", desc := "(IZ)I" } : Jvm.MethodName) prog_11_method_30_code (4 : Nat) (Option.some Jvm.ClassFile.FieldType.int)) ∈ lw_all := lw_g (lw_at lw_m5 157 rfl) rfl
theorem q1186 : (Jvm.Cond.instanceMethod ({ cls := "OmenLineModel", name := "set", desc := "(III)I" } : Jvm.MethodName)) ∈ lw_all := lw_g (lw_at lw_m5 159 rfl) rfl
theorem q1187 : (Jvm.Cond.selects "OmenLineModel" ({ cls := "OmenLineModel", name := "set", desc := "(III)I" } : Jvm.MethodName) ({ cls := "OmenLineModel", name := "set", desc := "(III)I" } : Jvm.MethodName)) ∈ lw_all := lw_g (lw_at lw_m5 160 rfl) rfl
theorem q1188 : (Jvm.Cond.code ({ cls := "OmenLineModel", name := "set", desc := "(III)I" } : Jvm.MethodName) prog_11_method_31_code (5 : Nat) (Option.some Jvm.ClassFile.FieldType.int)) ∈ lw_all := lw_g (lw_at lw_m5 161 rfl) rfl
theorem q1189 : (Jvm.Cond.constantLong "OmenLineModel" (203 : Nat) (9 : Int64)) ∈ lw_all := lw_g (lw_at lw_m5 162 rfl) rfl
theorem q1191 : (Jvm.Cond.instanceMethod ({ cls := "OmenLineModel", name := "home", desc := "(I)I" } : Jvm.MethodName)) ∈ lw_all := lw_g (lw_at lw_m5 164 rfl) rfl
theorem q1192 : (Jvm.Cond.selects "OmenLineModel" ({ cls := "OmenLineModel", name := "home", desc := "(I)I" } : Jvm.MethodName) ({ cls := "OmenLineModel", name := "home", desc := "(I)I" } : Jvm.MethodName)) ∈ lw_all := lw_g (lw_at lw_m5 165 rfl) rfl
theorem q1193 : (Jvm.Cond.code ({ cls := "OmenLineModel", name := "home", desc := "(I)I" } : Jvm.MethodName) prog_11_method_39_code (2 : Nat) (Option.some Jvm.ClassFile.FieldType.int)) ∈ lw_all := lw_g (lw_at lw_m5 166 rfl) rfl
theorem q1194 : (Jvm.Cond.methodLink "OmenLineModel" (236 : Nat) ({ cls := "OmenLineModel", name := "run", desc := "()V" } : Jvm.MethodName)) ∈ lw_all := lw_g (lw_at lw_m5 167 rfl) rfl
theorem q1195 : (Jvm.Cond.privateMethod ({ cls := "OmenLineModel", name := "run", desc := "()V" } : Jvm.MethodName)) ∈ lw_tbl := lw_at lw_m5 168 rfl
theorem q1196 : (Jvm.Cond.instanceMethod ({ cls := "OmenLineModel", name := "run", desc := "()V" } : Jvm.MethodName)) ∈ lw_all := lw_g (lw_at lw_m5 169 rfl) rfl
theorem q1197 : (Jvm.Cond.code ({ cls := "OmenLineModel", name := "run", desc := "()V" } : Jvm.MethodName) prog_11_method_36_code (3 : Nat) (Option.none : Option Jvm.ClassFile.FieldType)) ∈ lw_all := lw_g (lw_at lw_m5 170 rfl) rfl
theorem q1198 : (Jvm.Cond.methodLink "OmenLineModel" (232 : Nat) ({ cls := "OmenLineModel", name := "moves", desc := "(II)V" } : Jvm.MethodName)) ∈ lw_all := lw_g (lw_at lw_m5 171 rfl) rfl
theorem q1199 : (Jvm.Cond.privateMethod ({ cls := "OmenLineModel", name := "moves", desc := "(II)V" } : Jvm.MethodName)) ∈ lw_tbl := lw_at lw_m5 172 rfl
theorem q1200 : (Jvm.Cond.instanceMethod ({ cls := "OmenLineModel", name := "moves", desc := "(II)V" } : Jvm.MethodName)) ∈ lw_all := lw_g (lw_at lw_m5 173 rfl) rfl
theorem q1201 : (Jvm.Cond.code ({ cls := "OmenLineModel", name := "moves", desc := "(II)V" } : Jvm.MethodName) prog_11_method_35_code (5 : Nat) (Option.none : Option Jvm.ClassFile.FieldType)) ∈ lw_all := lw_g (lw_at lw_m5 174 rfl) rfl
theorem q1202 : (Jvm.Cond.methodLink "OmenLineModel" (205 : Nat) ({ cls := "OmenLineModel", name := "isUp", desc := "(I)Z" } : Jvm.MethodName)) ∈ lw_all := lw_g (lw_at lw_m5 175 rfl) rfl
theorem q1203 : (Jvm.Cond.privateMethod ({ cls := "OmenLineModel", name := "isUp", desc := "(I)Z" } : Jvm.MethodName)) ∈ lw_tbl := lw_at lw_m5 176 rfl
theorem q1204 : (Jvm.Cond.instanceMethod ({ cls := "OmenLineModel", name := "isUp", desc := "(I)Z" } : Jvm.MethodName)) ∈ lw_all := lw_g (lw_at lw_m5 177 rfl) rfl
theorem q1205 : (Jvm.Cond.code ({ cls := "OmenLineModel", name := "isUp", desc := "(I)Z" } : Jvm.MethodName) prog_11_method_32_code (2 : Nat) (Option.some Jvm.ClassFile.FieldType.boolean)) ∈ lw_all := lw_g (lw_at lw_m5 178 rfl) rfl
theorem q1206 : (Jvm.Cond.methodLink "OmenLineModel" (208 : Nat) ({ cls := "OmenLineModel", name := "nextBlock", desc := "(I)I" } : Jvm.MethodName)) ∈ lw_all := lw_g (lw_at lw_m5 179 rfl) rfl
theorem q1207 : (Jvm.Cond.privateMethod ({ cls := "OmenLineModel", name := "nextBlock", desc := "(I)I" } : Jvm.MethodName)) ∈ lw_tbl := lw_at lw_m5 180 rfl
theorem q1208 : (Jvm.Cond.instanceMethod ({ cls := "OmenLineModel", name := "nextBlock", desc := "(I)I" } : Jvm.MethodName)) ∈ lw_all := lw_g (lw_at lw_m5 181 rfl) rfl
theorem q1209 : (Jvm.Cond.code ({ cls := "OmenLineModel", name := "nextBlock", desc := "(I)I" } : Jvm.MethodName) prog_11_method_33_code (2 : Nat) (Option.some Jvm.ClassFile.FieldType.int)) ∈ lw_all := lw_g (lw_at lw_m5 182 rfl) rfl
theorem q1210 : (Jvm.Cond.methodLink "OmenLineModel" (214 : Nat) ({ cls := "OmenLineModel", name := "otherIn", desc := "(II)I" } : Jvm.MethodName)) ∈ lw_all := lw_g (lw_at lw_m5 183 rfl) rfl
theorem q1211 : (Jvm.Cond.privateMethod ({ cls := "OmenLineModel", name := "otherIn", desc := "(II)I" } : Jvm.MethodName)) ∈ lw_tbl := lw_at lw_m5 184 rfl
theorem q1212 : (Jvm.Cond.instanceMethod ({ cls := "OmenLineModel", name := "otherIn", desc := "(II)I" } : Jvm.MethodName)) ∈ lw_all := lw_g (lw_at lw_m5 185 rfl) rfl
theorem q1213 : (Jvm.Cond.code ({ cls := "OmenLineModel", name := "otherIn", desc := "(II)I" } : Jvm.MethodName) prog_11_method_34_code (5 : Nat) (Option.some Jvm.ClassFile.FieldType.int)) ∈ lw_all := lw_g (lw_at lw_m5 186 rfl) rfl
theorem q1215 : (Jvm.Cond.instanceMethod ({ cls := "OmenLineModel", name := "at", desc := "(II)I" } : Jvm.MethodName)) ∈ lw_all := lw_g (lw_at lw_m5 188 rfl) rfl
theorem q1216 : (Jvm.Cond.selects "OmenLineModel" ({ cls := "OmenLineModel", name := "at", desc := "(II)I" } : Jvm.MethodName) ({ cls := "OmenLineModel", name := "at", desc := "(II)I" } : Jvm.MethodName)) ∈ lw_all := lw_g (lw_at lw_m5 189 rfl) rfl
theorem q1217 : (Jvm.Cond.code ({ cls := "OmenLineModel", name := "at", desc := "(II)I" } : Jvm.MethodName) prog_11_method_40_code (3 : Nat) (Option.some Jvm.ClassFile.FieldType.int)) ∈ lw_all := lw_g (lw_at lw_m5 190 rfl) rfl
theorem q1218 : (Jvm.Cond.constantLong "OmenLineModel" (239 : Nat) (119 : Int64)) ∈ lw_all := lw_g (lw_at lw_m5 191 rfl) rfl
theorem q1220 : (Jvm.Cond.instanceMethod ({ cls := "OmenLineModel", name := "bump", desc := "(I)I" } : Jvm.MethodName)) ∈ lw_all := lw_g (lw_at lw_m5 193 rfl) rfl
theorem q1221 : (Jvm.Cond.selects "OmenLineModel" ({ cls := "OmenLineModel", name := "bump", desc := "(I)I" } : Jvm.MethodName) ({ cls := "OmenLineModel", name := "bump", desc := "(I)I" } : Jvm.MethodName)) ∈ lw_all := lw_g (lw_at lw_m5 194 rfl) rfl
theorem q1222 : (Jvm.Cond.code ({ cls := "OmenLineModel", name := "bump", desc := "(I)I" } : Jvm.MethodName) prog_11_method_41_code (2 : Nat) (Option.some Jvm.ClassFile.FieldType.int)) ∈ lw_all := lw_g (lw_at lw_m5 195 rfl) rfl
theorem q1224 : (Jvm.Cond.instanceMethod ({ cls := "OmenLineModel", name := "sum", desc := "(I)I" } : Jvm.MethodName)) ∈ lw_all := lw_g (lw_at lw_m5 197 rfl) rfl
theorem q1225 : (Jvm.Cond.selects "OmenLineModel" ({ cls := "OmenLineModel", name := "sum", desc := "(I)I" } : Jvm.MethodName) ({ cls := "OmenLineModel", name := "sum", desc := "(I)I" } : Jvm.MethodName)) ∈ lw_all := lw_g (lw_at lw_m5 198 rfl) rfl
theorem q1226 : (Jvm.Cond.code ({ cls := "OmenLineModel", name := "sum", desc := "(I)I" } : Jvm.MethodName) prog_11_method_42_code (2 : Nat) (Option.some Jvm.ClassFile.FieldType.int)) ∈ lw_all := lw_g (lw_at lw_m5 199 rfl) rfl
theorem q1227 : (Jvm.Cond.methodLink "OmenLineModel" (241 : Nat) ({ cls := "OmenLineModel", name := "cost", desc := "()I" } : Jvm.MethodName)) ∈ lw_all := lw_g (lw_at lw_m5 200 rfl) rfl
theorem q1228 : (Jvm.Cond.privateMethod ({ cls := "OmenLineModel", name := "cost", desc := "()I" } : Jvm.MethodName)) ∈ lw_tbl := lw_at lw_m5 201 rfl
theorem q1229 : (Jvm.Cond.instanceMethod ({ cls := "OmenLineModel", name := "cost", desc := "()I" } : Jvm.MethodName)) ∈ lw_all := lw_g (lw_at lw_m5 202 rfl) rfl
theorem q1230 : (Jvm.Cond.code ({ cls := "OmenLineModel", name := "cost", desc := "()I" } : Jvm.MethodName) prog_11_method_38_code (3 : Nat) (Option.some Jvm.ClassFile.FieldType.int)) ∈ lw_all := lw_g (lw_at lw_m5 203 rfl) rfl
theorem q1231 : (Jvm.Cond.methodLink "OmenLineModel" (244 : Nat) ({ cls := "OmenLineModel", name := "homeMany", desc := "()I" } : Jvm.MethodName)) ∈ lw_all := lw_g (lw_at lw_m5 204 rfl) rfl
theorem q1232 : (Jvm.Cond.privateMethod ({ cls := "OmenLineModel", name := "homeMany", desc := "()I" } : Jvm.MethodName)) ∈ lw_tbl := lw_at lw_m5 205 rfl
theorem q1233 : (Jvm.Cond.instanceMethod ({ cls := "OmenLineModel", name := "homeMany", desc := "()I" } : Jvm.MethodName)) ∈ lw_all := lw_g (lw_at lw_m5 206 rfl) rfl
theorem q1234 : (Jvm.Cond.code ({ cls := "OmenLineModel", name := "homeMany", desc := "()I" } : Jvm.MethodName) prog_11_method_37_code (3 : Nat) (Option.some Jvm.ClassFile.FieldType.int)) ∈ lw_all := lw_g (lw_at lw_m5 207 rfl) rfl
theorem q1236 : (Jvm.Cond.instanceMethod ({ cls := "OmenLineModel", name := "fewest", desc := "(I)I" } : Jvm.MethodName)) ∈ lw_all := lw_g (lw_at lw_m5 209 rfl) rfl
theorem q1237 : (Jvm.Cond.selects "OmenLineModel" ({ cls := "OmenLineModel", name := "fewest", desc := "(I)I" } : Jvm.MethodName) ({ cls := "OmenLineModel", name := "fewest", desc := "(I)I" } : Jvm.MethodName)) ∈ lw_all := lw_g (lw_at lw_m5 210 rfl) rfl
theorem q1238 : (Jvm.Cond.code ({ cls := "OmenLineModel", name := "fewest", desc := "(I)I" } : Jvm.MethodName) prog_11_method_46_code (5 : Nat) (Option.some Jvm.ClassFile.FieldType.int)) ∈ lw_all := lw_g (lw_at lw_m5 211 rfl) rfl
theorem q1239 : (Jvm.Cond.methodLink "OmenLineModel" (250 : Nat) ({ cls := "OmenLineModel", name := "isFewer", desc := "(II)Z" } : Jvm.MethodName)) ∈ lw_all := lw_g (lw_at lw_m5 212 rfl) rfl
theorem q1240 : (Jvm.Cond.privateMethod ({ cls := "OmenLineModel", name := "isFewer", desc := "(II)Z" } : Jvm.MethodName)) ∈ lw_tbl := lw_at lw_m5 213 rfl
theorem q1241 : (Jvm.Cond.instanceMethod ({ cls := "OmenLineModel", name := "isFewer", desc := "(II)Z" } : Jvm.MethodName)) ∈ lw_all := lw_g (lw_at lw_m5 214 rfl) rfl
theorem q1242 : (Jvm.Cond.code ({ cls := "OmenLineModel", name := "isFewer", desc := "(II)Z" } : Jvm.MethodName) prog_11_method_45_code (3 : Nat) (Option.some Jvm.ClassFile.FieldType.boolean)) ∈ lw_all := lw_g (lw_at lw_m5 215 rfl) rfl
theorem q1243 : (Jvm.Cond.methodLink "OmenLineModel" (247 : Nat) ({ cls := "OmenLineModel", name := "bitsOf", desc := "(I)I" } : Jvm.MethodName)) ∈ lw_all := lw_g (lw_at lw_m5 216 rfl) rfl
theorem q1244 : (Jvm.Cond.static ({ cls := "OmenLineModel", name := "bitsOf", desc := "(I)I" } : Jvm.MethodName)) ∈ lw_all := lw_g (lw_at lw_m5 217 rfl) rfl
theorem q1245 : (Jvm.Cond.code ({ cls := "OmenLineModel", name := "bitsOf", desc := "(I)I" } : Jvm.MethodName) prog_11_method_43_code (3 : Nat) (Option.some Jvm.ClassFile.FieldType.int)) ∈ lw_all := lw_g (lw_at lw_m5 218 rfl) rfl
theorem q1247 : (Jvm.Cond.instanceMethod ({ cls := "OmenLineModel", name := "guards", desc := "(I)I" } : Jvm.MethodName)) ∈ lw_all := lw_g (lw_at lw_m5 220 rfl) rfl
theorem q1248 : (Jvm.Cond.selects "OmenLineModel" ({ cls := "OmenLineModel", name := "guards", desc := "(I)I" } : Jvm.MethodName) ({ cls := "OmenLineModel", name := "guards", desc := "(I)I" } : Jvm.MethodName)) ∈ lw_all := lw_g (lw_at lw_m5 221 rfl) rfl
theorem q1249 : (Jvm.Cond.code ({ cls := "OmenLineModel", name := "guards", desc := "(I)I" } : Jvm.MethodName) prog_11_method_47_code (7 : Nat) (Option.some Jvm.ClassFile.FieldType.int)) ∈ lw_all := lw_g (lw_at lw_m5 222 rfl) rfl
theorem q1250 : (Jvm.Cond.constant "OmenLineModel" (254 : Nat) (1000000 : Int32)) ∈ lw_all := lw_g (lw_at lw_m5 223 rfl) rfl
theorem q1252 : (Jvm.Cond.instanceMethod ({ cls := "OmenLineModel", name := "magpies", desc := "(I)I" } : Jvm.MethodName)) ∈ lw_all := lw_g (lw_at lw_m5 225 rfl) rfl
theorem q1253 : (Jvm.Cond.selects "OmenLineModel" ({ cls := "OmenLineModel", name := "magpies", desc := "(I)I" } : Jvm.MethodName) ({ cls := "OmenLineModel", name := "magpies", desc := "(I)I" } : Jvm.MethodName)) ∈ lw_all := lw_g (lw_at lw_m5 226 rfl) rfl
theorem q1254 : (Jvm.Cond.code ({ cls := "OmenLineModel", name := "magpies", desc := "(I)I" } : Jvm.MethodName) prog_11_method_50_code (5 : Nat) (Option.some Jvm.ClassFile.FieldType.int)) ∈ lw_all := lw_g (lw_at lw_m5 227 rfl) rfl
theorem q1255 : (Jvm.Cond.methodLink "OmenLineModel" (255 : Nat) ({ cls := "OmenLineModel", name := "copies", desc := "(II)V" } : Jvm.MethodName)) ∈ lw_all := lw_g (lw_at lw_m5 228 rfl) rfl
theorem q1256 : (Jvm.Cond.privateMethod ({ cls := "OmenLineModel", name := "copies", desc := "(II)V" } : Jvm.MethodName)) ∈ lw_tbl := lw_at lw_m5 229 rfl
theorem q1257 : (Jvm.Cond.instanceMethod ({ cls := "OmenLineModel", name := "copies", desc := "(II)V" } : Jvm.MethodName)) ∈ lw_all := lw_g (lw_at lw_m5 230 rfl) rfl
theorem q1258 : (Jvm.Cond.code ({ cls := "OmenLineModel", name := "copies", desc := "(II)V" } : Jvm.MethodName) prog_11_method_44_code (4 : Nat) (Option.none : Option Jvm.ClassFile.FieldType)) ∈ lw_all := lw_g (lw_at lw_m5 231 rfl) rfl
theorem q1259 : (Jvm.Cond.methodLink "OmenLineModel" (258 : Nat) ({ cls := "OmenLineModel", name := "isAllowed", desc := "(I)Z" } : Jvm.MethodName)) ∈ lw_all := lw_g (lw_at lw_m5 232 rfl) rfl
theorem q1260 : (Jvm.Cond.privateMethod ({ cls := "OmenLineModel", name := "isAllowed", desc := "(I)Z" } : Jvm.MethodName)) ∈ lw_tbl := lw_at lw_m5 233 rfl
theorem q1261 : (Jvm.Cond.instanceMethod ({ cls := "OmenLineModel", name := "isAllowed", desc := "(I)Z" } : Jvm.MethodName)) ∈ lw_all := lw_g (lw_at lw_m5 234 rfl) rfl
theorem q1262 : (Jvm.Cond.code ({ cls := "OmenLineModel", name := "isAllowed", desc := "(I)Z" } : Jvm.MethodName) prog_11_method_48_code (4 : Nat) (Option.some Jvm.ClassFile.FieldType.boolean)) ∈ lw_all := lw_g (lw_at lw_m5 235 rfl) rfl
theorem q1263 : (Jvm.Cond.methodLink "OmenLineModel" (261 : Nat) ({ cls := "OmenLineModel", name := "magpiesIn", desc := "(I)V" } : Jvm.MethodName)) ∈ lw_all := lw_g (lw_at lw_m5 236 rfl) rfl
theorem q1264 : (Jvm.Cond.privateMethod ({ cls := "OmenLineModel", name := "magpiesIn", desc := "(I)V" } : Jvm.MethodName)) ∈ lw_tbl := lw_at lw_m5 237 rfl
theorem q1265 : (Jvm.Cond.instanceMethod ({ cls := "OmenLineModel", name := "magpiesIn", desc := "(I)V" } : Jvm.MethodName)) ∈ lw_all := lw_g (lw_at lw_m5 238 rfl) rfl
theorem q1266 : (Jvm.Cond.code ({ cls := "OmenLineModel", name := "magpiesIn", desc := "(I)V" } : Jvm.MethodName) prog_11_method_49_code (3 : Nat) (Option.none : Option Jvm.ClassFile.FieldType)) ∈ lw_all := lw_g (lw_at lw_m5 239 rfl) rfl
theorem q1268 : (Jvm.Cond.instanceMethod ({ cls := "OmenLineModel", name := "starts", desc := "(I)I" } : Jvm.MethodName)) ∈ lw_all := lw_g (lw_at lw_m6 1 rfl) rfl
theorem q1269 : (Jvm.Cond.selects "OmenLineModel" ({ cls := "OmenLineModel", name := "starts", desc := "(I)I" } : Jvm.MethodName) ({ cls := "OmenLineModel", name := "starts", desc := "(I)I" } : Jvm.MethodName)) ∈ lw_all := lw_g (lw_at lw_m6 2 rfl) rfl
theorem q1270 : (Jvm.Cond.code ({ cls := "OmenLineModel", name := "starts", desc := "(I)I" } : Jvm.MethodName) prog_11_method_52_code (6 : Nat) (Option.some Jvm.ClassFile.FieldType.int)) ∈ lw_all := lw_g (lw_at lw_m6 3 rfl) rfl
theorem q1271 : (Jvm.Cond.methodLink "OmenLineModel" (264 : Nat) ({ cls := "OmenLineModel", name := "laysStarts", desc := "(I)V" } : Jvm.MethodName)) ∈ lw_all := lw_g (lw_at lw_m6 4 rfl) rfl
theorem q1272 : (Jvm.Cond.privateMethod ({ cls := "OmenLineModel", name := "laysStarts", desc := "(I)V" } : Jvm.MethodName)) ∈ lw_tbl := lw_at lw_m6 5 rfl
theorem q1273 : (Jvm.Cond.instanceMethod ({ cls := "OmenLineModel", name := "laysStarts", desc := "(I)V" } : Jvm.MethodName)) ∈ lw_all := lw_g (lw_at lw_m6 6 rfl) rfl
theorem q1274 : (Jvm.Cond.code ({ cls := "OmenLineModel", name := "laysStarts", desc := "(I)V" } : Jvm.MethodName) prog_11_method_51_code (4 : Nat) (Option.none : Option Jvm.ClassFile.FieldType)) ∈ lw_all := lw_g (lw_at lw_m6 7 rfl) rfl
theorem q1276 : (Jvm.Cond.instanceMethod ({ cls := "OmenLineModel", name := "allowed", desc := "(I)I" } : Jvm.MethodName)) ∈ lw_all := lw_g (lw_at lw_m6 9 rfl) rfl
theorem q1277 : (Jvm.Cond.selects "OmenLineModel" ({ cls := "OmenLineModel", name := "allowed", desc := "(I)I" } : Jvm.MethodName) ({ cls := "OmenLineModel", name := "allowed", desc := "(I)I" } : Jvm.MethodName)) ∈ lw_all := lw_g (lw_at lw_m6 10 rfl) rfl
theorem q1278 : (Jvm.Cond.code ({ cls := "OmenLineModel", name := "allowed", desc := "(I)I" } : Jvm.MethodName) prog_11_method_53_code (6 : Nat) (Option.some Jvm.ClassFile.FieldType.int)) ∈ lw_all := lw_g (lw_at lw_m6 11 rfl) rfl
theorem q1280 : (Jvm.Cond.instanceMethod ({ cls := "OmenLineModel", name := "convert", desc := "(I)I" } : Jvm.MethodName)) ∈ lw_all := lw_g (lw_at lw_m6 13 rfl) rfl
theorem q1281 : (Jvm.Cond.selects "OmenLineModel" ({ cls := "OmenLineModel", name := "convert", desc := "(I)I" } : Jvm.MethodName) ({ cls := "OmenLineModel", name := "convert", desc := "(I)I" } : Jvm.MethodName)) ∈ lw_all := lw_g (lw_at lw_m6 14 rfl) rfl
theorem q1282 : (Jvm.Cond.code ({ cls := "OmenLineModel", name := "convert", desc := "(I)I" } : Jvm.MethodName) prog_11_method_54_code (7 : Nat) (Option.some Jvm.ClassFile.FieldType.int)) ∈ lw_all := lw_g (lw_at lw_m6 15 rfl) rfl
theorem q1284 : (Jvm.Cond.instanceMethod ({ cls := "OmenLineModel", name := "mean", desc := "(II)J" } : Jvm.MethodName)) ∈ lw_all := lw_g (lw_at lw_m6 17 rfl) rfl
theorem q1285 : (Jvm.Cond.selects "OmenLineModel" ({ cls := "OmenLineModel", name := "mean", desc := "(II)J" } : Jvm.MethodName) ({ cls := "OmenLineModel", name := "mean", desc := "(II)J" } : Jvm.MethodName)) ∈ lw_all := lw_g (lw_at lw_m6 18 rfl) rfl
theorem q1286 : (Jvm.Cond.code ({ cls := "OmenLineModel", name := "mean", desc := "(II)J" } : Jvm.MethodName) prog_11_method_57_code (3 : Nat) (Option.some Jvm.ClassFile.FieldType.long)) ∈ lw_all := lw_g (lw_at lw_m6 19 rfl) rfl
theorem q1287 : (Jvm.Cond.methodLink "OmenLineModel" (271 : Nat) ({ cls := "OmenLineModel", name := "byMagpies", desc := "(IZI)J" } : Jvm.MethodName)) ∈ lw_all := lw_g (lw_at lw_m6 20 rfl) rfl
theorem q1288 : (Jvm.Cond.privateMethod ({ cls := "OmenLineModel", name := "byMagpies", desc := "(IZI)J" } : Jvm.MethodName)) ∈ lw_tbl := lw_at lw_m6 21 rfl
theorem q1289 : (Jvm.Cond.instanceMethod ({ cls := "OmenLineModel", name := "byMagpies", desc := "(IZI)J" } : Jvm.MethodName)) ∈ lw_all := lw_g (lw_at lw_m6 22 rfl) rfl
theorem q1290 : (Jvm.Cond.code ({ cls := "OmenLineModel", name := "byMagpies", desc := "(IZI)J" } : Jvm.MethodName) prog_11_method_56_code (13 : Nat) (Option.some Jvm.ClassFile.FieldType.long)) ∈ lw_all := lw_g (lw_at lw_m6 23 rfl) rfl
theorem q1291 : (Jvm.Cond.methodLink "OmenLineModel" (267 : Nat) ({ cls := "OmenLineModel", name := "lowest", desc := "(JJI)J" } : Jvm.MethodName)) ∈ lw_all := lw_g (lw_at lw_m6 24 rfl) rfl
theorem q1292 : (Jvm.Cond.static ({ cls := "OmenLineModel", name := "lowest", desc := "(JJI)J" } : Jvm.MethodName)) ∈ lw_all := lw_g (lw_at lw_m6 25 rfl) rfl
theorem q1293 : (Jvm.Cond.code ({ cls := "OmenLineModel", name := "lowest", desc := "(JJI)J" } : Jvm.MethodName) prog_11_method_55_code (11 : Nat) (Option.some Jvm.ClassFile.FieldType.long)) ∈ lw_all := lw_g (lw_at lw_m6 26 rfl) rfl
theorem q1294 : (Jvm.Cond.constantLong "OmenLineModel" (275 : Nat) (-1 : Int64)) ∈ lw_all := lw_g (lw_at lw_m6 27 rfl) rfl
theorem q1296 : (Jvm.Cond.instanceMethod ({ cls := "OmenLineModel", name := "luck", desc := "(II)J" } : Jvm.MethodName)) ∈ lw_all := lw_g (lw_at lw_m6 29 rfl) rfl
theorem q1297 : (Jvm.Cond.selects "OmenLineModel" ({ cls := "OmenLineModel", name := "luck", desc := "(II)J" } : Jvm.MethodName) ({ cls := "OmenLineModel", name := "luck", desc := "(II)J" } : Jvm.MethodName)) ∈ lw_all := lw_g (lw_at lw_m6 30 rfl) rfl
theorem q1298 : (Jvm.Cond.code ({ cls := "OmenLineModel", name := "luck", desc := "(II)J" } : Jvm.MethodName) prog_11_method_58_code (3 : Nat) (Option.some Jvm.ClassFile.FieldType.long)) ∈ lw_all := lw_g (lw_at lw_m6 31 rfl) rfl
theorem q1300 : (Jvm.Cond.instanceMethod ({ cls := "OmenLineModel", name := "see", desc := "(III)I" } : Jvm.MethodName)) ∈ lw_all := lw_g (lw_at lw_m6 33 rfl) rfl
theorem q1301 : (Jvm.Cond.selects "OmenLineModel" ({ cls := "OmenLineModel", name := "see", desc := "(III)I" } : Jvm.MethodName) ({ cls := "OmenLineModel", name := "see", desc := "(III)I" } : Jvm.MethodName)) ∈ lw_all := lw_g (lw_at lw_m6 34 rfl) rfl
theorem q1302 : (Jvm.Cond.code ({ cls := "OmenLineModel", name := "see", desc := "(III)I" } : Jvm.MethodName) prog_11_method_59_code (4 : Nat) (Option.some Jvm.ClassFile.FieldType.int)) ∈ lw_all := lw_g (lw_at lw_m6 35 rfl) rfl
theorem q1304 : (Jvm.Cond.instanceMethod ({ cls := "OmenLineModel", name := "forget", desc := "(I)I" } : Jvm.MethodName)) ∈ lw_all := lw_g (lw_at lw_m6 37 rfl) rfl
theorem q1305 : (Jvm.Cond.selects "OmenLineModel" ({ cls := "OmenLineModel", name := "forget", desc := "(I)I" } : Jvm.MethodName) ({ cls := "OmenLineModel", name := "forget", desc := "(I)I" } : Jvm.MethodName)) ∈ lw_all := lw_g (lw_at lw_m6 38 rfl) rfl
theorem q1306 : (Jvm.Cond.code ({ cls := "OmenLineModel", name := "forget", desc := "(I)I" } : Jvm.MethodName) prog_11_method_60_code (3 : Nat) (Option.some Jvm.ClassFile.FieldType.int)) ∈ lw_all := lw_g (lw_at lw_m6 39 rfl) rfl
theorem q1308 : (Jvm.Cond.instanceMethod ({ cls := "OmenLineModel", name := "fits", desc := "(I)I" } : Jvm.MethodName)) ∈ lw_all := lw_g (lw_at lw_m6 41 rfl) rfl
theorem q1309 : (Jvm.Cond.selects "OmenLineModel" ({ cls := "OmenLineModel", name := "fits", desc := "(I)I" } : Jvm.MethodName) ({ cls := "OmenLineModel", name := "fits", desc := "(I)I" } : Jvm.MethodName)) ∈ lw_all := lw_g (lw_at lw_m6 42 rfl) rfl
theorem q1310 : (Jvm.Cond.code ({ cls := "OmenLineModel", name := "fits", desc := "(I)I" } : Jvm.MethodName) prog_11_method_62_code (2 : Nat) (Option.some Jvm.ClassFile.FieldType.int)) ∈ lw_all := lw_g (lw_at lw_m6 43 rfl) rfl
theorem q1311 : (Jvm.Cond.methodLink "OmenLineModel" (277 : Nat) ({ cls := "OmenLineModel", name := "faithsOf", desc := "(I)I" } : Jvm.MethodName)) ∈ lw_all := lw_g (lw_at lw_m6 44 rfl) rfl
theorem q1312 : (Jvm.Cond.privateMethod ({ cls := "OmenLineModel", name := "faithsOf", desc := "(I)I" } : Jvm.MethodName)) ∈ lw_tbl := lw_at lw_m6 45 rfl
theorem q1313 : (Jvm.Cond.instanceMethod ({ cls := "OmenLineModel", name := "faithsOf", desc := "(I)I" } : Jvm.MethodName)) ∈ lw_all := lw_g (lw_at lw_m6 46 rfl) rfl
theorem q1314 : (Jvm.Cond.code ({ cls := "OmenLineModel", name := "faithsOf", desc := "(I)I" } : Jvm.MethodName) prog_11_method_61_code (7 : Nat) (Option.some Jvm.ClassFile.FieldType.int)) ∈ lw_all := lw_g (lw_at lw_m6 47 rfl) rfl
theorem q1316 : (Jvm.Cond.instanceMethod ({ cls := "OmenLineModel", name := "look", desc := "(II)I" } : Jvm.MethodName)) ∈ lw_all := lw_g (lw_at lw_m6 49 rfl) rfl
theorem q1317 : (Jvm.Cond.selects "OmenLineModel" ({ cls := "OmenLineModel", name := "look", desc := "(II)I" } : Jvm.MethodName) ({ cls := "OmenLineModel", name := "look", desc := "(II)I" } : Jvm.MethodName)) ∈ lw_all := lw_g (lw_at lw_m6 50 rfl) rfl
theorem q1318 : (Jvm.Cond.code ({ cls := "OmenLineModel", name := "look", desc := "(II)I" } : Jvm.MethodName) prog_11_method_63_code (11 : Nat) (Option.some Jvm.ClassFile.FieldType.int)) ∈ lw_all := lw_g (lw_at lw_m6 51 rfl) rfl
theorem q1320 : (Jvm.Cond.instanceMethod ({ cls := "OmenLineModel", name := "drift", desc := "(III)I" } : Jvm.MethodName)) ∈ lw_all := lw_g (lw_at lw_m6 53 rfl) rfl
theorem q1321 : (Jvm.Cond.selects "OmenLineModel" ({ cls := "OmenLineModel", name := "drift", desc := "(III)I" } : Jvm.MethodName) ({ cls := "OmenLineModel", name := "drift", desc := "(III)I" } : Jvm.MethodName)) ∈ lw_all := lw_g (lw_at lw_m6 54 rfl) rfl
theorem q1322 : (Jvm.Cond.code ({ cls := "OmenLineModel", name := "drift", desc := "(III)I" } : Jvm.MethodName) prog_11_method_65_code (8 : Nat) (Option.some Jvm.ClassFile.FieldType.int)) ∈ lw_all := lw_g (lw_at lw_m6 55 rfl) rfl
theorem q1323 : (Jvm.Cond.constantLong "OmenLineModel" (284 : Nat) (20 : Int64)) ∈ lw_all := lw_g (lw_at lw_m6 56 rfl) rfl
theorem q1324 : (Jvm.Cond.methodLink "OmenLineModel" (286 : Nat) ({ cls := "OmenLineModel", name := "draws", desc := "(I)I" } : Jvm.MethodName)) ∈ lw_all := lw_g (lw_at lw_m6 57 rfl) rfl
theorem q1325 : (Jvm.Cond.privateMethod ({ cls := "OmenLineModel", name := "draws", desc := "(I)I" } : Jvm.MethodName)) ∈ lw_tbl := lw_at lw_m6 58 rfl
theorem q1326 : (Jvm.Cond.instanceMethod ({ cls := "OmenLineModel", name := "draws", desc := "(I)I" } : Jvm.MethodName)) ∈ lw_all := lw_g (lw_at lw_m6 59 rfl) rfl
theorem q1327 : (Jvm.Cond.code ({ cls := "OmenLineModel", name := "draws", desc := "(I)I" } : Jvm.MethodName) prog_11_method_64_code (2 : Nat) (Option.some Jvm.ClassFile.FieldType.int)) ∈ lw_all := lw_g (lw_at lw_m6 60 rfl) rfl
theorem q1328 : (Jvm.Cond.constant "OmenLineModel" (283 : Nat) (1103515245 : Int32)) ∈ lw_all := lw_g (lw_at lw_m6 61 rfl) rfl
theorem q1330 : (Jvm.Cond.instanceMethod ({ cls := "OmenLineModel", name := "keep", desc := "(I)I" } : Jvm.MethodName)) ∈ lw_all := lw_g (lw_at lw_m6 63 rfl) rfl
theorem q1331 : (Jvm.Cond.selects "OmenLineModel" ({ cls := "OmenLineModel", name := "keep", desc := "(I)I" } : Jvm.MethodName) ({ cls := "OmenLineModel", name := "keep", desc := "(I)I" } : Jvm.MethodName)) ∈ lw_all := lw_g (lw_at lw_m6 64 rfl) rfl
theorem q1332 : (Jvm.Cond.code ({ cls := "OmenLineModel", name := "keep", desc := "(I)I" } : Jvm.MethodName) prog_11_method_66_code (3 : Nat) (Option.some Jvm.ClassFile.FieldType.int)) ∈ lw_all := lw_g (lw_at lw_m6 65 rfl) rfl
theorem q1334 : (Jvm.Cond.instanceMethod ({ cls := "OmenLineModel", name := "back", desc := "(I)I" } : Jvm.MethodName)) ∈ lw_all := lw_g (lw_at lw_m6 67 rfl) rfl
theorem q1335 : (Jvm.Cond.selects "OmenLineModel" ({ cls := "OmenLineModel", name := "back", desc := "(I)I" } : Jvm.MethodName) ({ cls := "OmenLineModel", name := "back", desc := "(I)I" } : Jvm.MethodName)) ∈ lw_all := lw_g (lw_at lw_m6 68 rfl) rfl
theorem q1336 : (Jvm.Cond.code ({ cls := "OmenLineModel", name := "back", desc := "(I)I" } : Jvm.MethodName) prog_11_method_67_code (2 : Nat) (Option.some Jvm.ClassFile.FieldType.int)) ∈ lw_all := lw_g (lw_at lw_m6 69 rfl) rfl
theorem q1338 : (Jvm.Cond.instanceMethod ({ cls := "OmenLineModel", name := "sheet", desc := "(III)I" } : Jvm.MethodName)) ∈ lw_all := lw_g (lw_at lw_m6 71 rfl) rfl
theorem q1339 : (Jvm.Cond.selects "OmenLineModel" ({ cls := "OmenLineModel", name := "sheet", desc := "(III)I" } : Jvm.MethodName) ({ cls := "OmenLineModel", name := "sheet", desc := "(III)I" } : Jvm.MethodName)) ∈ lw_all := lw_g (lw_at lw_m6 72 rfl) rfl
theorem q1340 : (Jvm.Cond.code ({ cls := "OmenLineModel", name := "sheet", desc := "(III)I" } : Jvm.MethodName) prog_11_method_68_code (5 : Nat) (Option.some Jvm.ClassFile.FieldType.int)) ∈ lw_all := lw_g (lw_at lw_m6 73 rfl) rfl
theorem q1342 : (Jvm.Cond.instanceMethod ({ cls := "OmenLineModel", name := "lay", desc := "(III)I" } : Jvm.MethodName)) ∈ lw_all := lw_g (lw_at lw_m6 75 rfl) rfl
theorem q1343 : (Jvm.Cond.selects "OmenLineModel" ({ cls := "OmenLineModel", name := "lay", desc := "(III)I" } : Jvm.MethodName) ({ cls := "OmenLineModel", name := "lay", desc := "(III)I" } : Jvm.MethodName)) ∈ lw_all := lw_g (lw_at lw_m6 76 rfl) rfl
theorem q1344 : (Jvm.Cond.code ({ cls := "OmenLineModel", name := "lay", desc := "(III)I" } : Jvm.MethodName) prog_11_method_69_code (4 : Nat) (Option.some Jvm.ClassFile.FieldType.int)) ∈ lw_all := lw_g (lw_at lw_m6 77 rfl) rfl
theorem q1346 : (Jvm.Cond.instanceMethod ({ cls := "OmenLineModel", name := "read", desc := "(IIII)I" } : Jvm.MethodName)) ∈ lw_all := lw_g (lw_at lw_m6 79 rfl) rfl
theorem q1347 : (Jvm.Cond.selects "OmenLineModel" ({ cls := "OmenLineModel", name := "read", desc := "(IIII)I" } : Jvm.MethodName) ({ cls := "OmenLineModel", name := "read", desc := "(IIII)I" } : Jvm.MethodName)) ∈ lw_all := lw_g (lw_at lw_m6 80 rfl) rfl
theorem q1348 : (Jvm.Cond.code ({ cls := "OmenLineModel", name := "read", desc := "(IIII)I" } : Jvm.MethodName) prog_11_method_70_code (9 : Nat) (Option.some Jvm.ClassFile.FieldType.int)) ∈ lw_all := lw_g (lw_at lw_m6 81 rfl) rfl
theorem q1350 : (Jvm.Cond.instanceMethod ({ cls := "OmenLineModel", name := "torn", desc := "()I" } : Jvm.MethodName)) ∈ lw_all := lw_g (lw_at lw_m6 83 rfl) rfl
theorem q1351 : (Jvm.Cond.selects "OmenLineModel" ({ cls := "OmenLineModel", name := "torn", desc := "()I" } : Jvm.MethodName) ({ cls := "OmenLineModel", name := "torn", desc := "()I" } : Jvm.MethodName)) ∈ lw_all := lw_g (lw_at lw_m6 84 rfl) rfl
theorem q1352 : (Jvm.Cond.code ({ cls := "OmenLineModel", name := "torn", desc := "()I" } : Jvm.MethodName) prog_11_method_71_code (1 : Nat) (Option.some Jvm.ClassFile.FieldType.int)) ∈ lw_all := lw_g (lw_at lw_m6 85 rfl) rfl
theorem q1354 : (Jvm.Cond.instanceMethod ({ cls := "OmenLineModel", name := "count", desc := "(I)I" } : Jvm.MethodName)) ∈ lw_all := lw_g (lw_at lw_m6 87 rfl) rfl
theorem q1355 : (Jvm.Cond.selects "OmenLineModel" ({ cls := "OmenLineModel", name := "count", desc := "(I)I" } : Jvm.MethodName) ({ cls := "OmenLineModel", name := "count", desc := "(I)I" } : Jvm.MethodName)) ∈ lw_all := lw_g (lw_at lw_m6 88 rfl) rfl
theorem q1356 : (Jvm.Cond.code ({ cls := "OmenLineModel", name := "count", desc := "(I)I" } : Jvm.MethodName) prog_11_method_72_code (4 : Nat) (Option.some Jvm.ClassFile.FieldType.int)) ∈ lw_all := lw_g (lw_at lw_m6 89 rfl) rfl
theorem q76 : (Jvm.Cond.initialized "OmenLine$Reader") ∈ lw_all := lw_g (lw_at lw_m1 9 rfl) rfl
theorem q138 : (Jvm.Cond.fieldLinkNest "OmenLine$Reader" (155 : Nat) "OmenLine$Branch" "blocks" "I" "OmenLine") ∈ lw_tbl := lw_at lw_m1 71 rfl
theorem q141 : (Jvm.Cond.fieldLinkNest "OmenLine$Reader" (134 : Nat) "OmenLine$Branch" "omen" "[B" "OmenLine") ∈ lw_tbl := lw_at lw_m1 74 rfl
theorem q144 : (Jvm.Cond.fieldLinkNest "OmenLine$Reader" (137 : Nat) "OmenLine$Branch" "guarded" "I" "OmenLine") ∈ lw_tbl := lw_at lw_m1 77 rfl
theorem q147 : (Jvm.Cond.fieldLinkNest "OmenLine$Reader" (143 : Nat) "OmenLine$Branch" "trains" "I" "OmenLine") ∈ lw_tbl := lw_at lw_m1 80 rfl
theorem q149 : (Jvm.Cond.fieldLinkNest "OmenLine$Reader" (146 : Nat) "OmenLine$Branch" "train" "[B" "OmenLine") ∈ lw_tbl := lw_at lw_m1 82 rfl
theorem q197 : (Jvm.Cond.fieldLinkNest "OmenLine$Reader" (39 : Nat) "OmenLine" "tape" "[B" "OmenLine") ∈ lw_tbl := lw_at lw_m1 130 rfl
theorem q284 : (Jvm.Cond.instantiable "OmenLine$Reader" (12 : Nat)) ∈ lw_all := lw_g (lw_at lw_m1 217 rfl) rfl
theorem q286 : (Jvm.Cond.instanceMethod ({ cls := "OmenLine$Reader", name := "<init>", desc := "(LOmenLine;I)V" } : Jvm.MethodName)) ∈ lw_all := lw_g (lw_at lw_m1 219 rfl) rfl
theorem q287 : (Jvm.Cond.code ({ cls := "OmenLine$Reader", name := "<init>", desc := "(LOmenLine;I)V" } : Jvm.MethodName) prog_7_method_1_code (3 : Nat) (Option.none : Option Jvm.ClassFile.FieldType)) ∈ lw_all := lw_g (lw_at lw_m1 220 rfl) rfl
theorem q288 : (Jvm.Cond.methodLink "OmenLine$Reader" (9 : Nat) ({ cls := "java/lang/Object", name := "<init>", desc := "()V" } : Jvm.MethodName)) ∈ lw_all := lw_g (lw_at lw_m1 221 rfl) rfl
theorem q289 : (Jvm.Cond.classLink "OmenLine$Reader" (15 : Nat) "OmenLine$Branch") ∈ lw_all := lw_g (lw_at lw_m1 222 rfl) rfl
theorem q290 : (Jvm.Cond.methodLinkNest "OmenLine$Reader" (17 : Nat) ({ cls := "OmenLine$Branch", name := "<init>", desc := "()V" } : Jvm.MethodName) "OmenLine") ∈ lw_tbl := lw_at lw_m1 223 rfl
theorem q291 : (Jvm.Cond.methodLink "OmenLine$Reader" (33 : Nat) ({ cls := "OmenLine$Reader", name := "next", desc := "()V" } : Jvm.MethodName)) ∈ lw_all := lw_g (lw_at lw_m1 224 rfl) rfl
theorem q292 : (Jvm.Cond.privateMethod ({ cls := "OmenLine$Reader", name := "next", desc := "()V" } : Jvm.MethodName)) ∈ lw_tbl := lw_at lw_m1 225 rfl
theorem q293 : (Jvm.Cond.instanceMethod ({ cls := "OmenLine$Reader", name := "next", desc := "()V" } : Jvm.MethodName)) ∈ lw_all := lw_g (lw_at lw_m1 226 rfl) rfl
theorem q294 : (Jvm.Cond.code ({ cls := "OmenLine$Reader", name := "next", desc := "()V" } : Jvm.MethodName) prog_7_method_8_code (1 : Nat) (Option.none : Option Jvm.ClassFile.FieldType)) ∈ lw_all := lw_g (lw_at lw_m1 227 rfl) rfl
theorem q295 : (Jvm.Cond.methodLink "OmenLine$Reader" (104 : Nat) ({ cls := "OmenLine$Reader", name := "isIn", desc := "(CC)Z" } : Jvm.MethodName)) ∈ lw_all := lw_g (lw_at lw_m1 228 rfl) rfl
theorem q296 : (Jvm.Cond.privateMethod ({ cls := "OmenLine$Reader", name := "isIn", desc := "(CC)Z" } : Jvm.MethodName)) ∈ lw_tbl := lw_at lw_m1 229 rfl
theorem q297 : (Jvm.Cond.instanceMethod ({ cls := "OmenLine$Reader", name := "isIn", desc := "(CC)Z" } : Jvm.MethodName)) ∈ lw_all := lw_g (lw_at lw_m1 230 rfl) rfl
theorem q298 : (Jvm.Cond.code ({ cls := "OmenLine$Reader", name := "isIn", desc := "(CC)Z" } : Jvm.MethodName) prog_7_method_2_code (3 : Nat) (Option.some Jvm.ClassFile.FieldType.boolean)) ∈ lw_all := lw_g (lw_at lw_m1 231 rfl) rfl
theorem q299 : (Jvm.Cond.methodLink "OmenLine$Reader" (100 : Nat) ({ cls := "OmenLine$Reader", name := "need", desc := "(ZI)V" } : Jvm.MethodName)) ∈ lw_all := lw_g (lw_at lw_m1 232 rfl) rfl
theorem q300 : (Jvm.Cond.privateMethod ({ cls := "OmenLine$Reader", name := "need", desc := "(ZI)V" } : Jvm.MethodName)) ∈ lw_tbl := lw_at lw_m1 233 rfl
theorem q301 : (Jvm.Cond.instanceMethod ({ cls := "OmenLine$Reader", name := "need", desc := "(ZI)V" } : Jvm.MethodName)) ∈ lw_all := lw_g (lw_at lw_m1 234 rfl) rfl
theorem q302 : (Jvm.Cond.code ({ cls := "OmenLine$Reader", name := "need", desc := "(ZI)V" } : Jvm.MethodName) prog_7_method_3_code (3 : Nat) (Option.none : Option Jvm.ClassFile.FieldType)) ∈ lw_all := lw_g (lw_at lw_m1 235 rfl) rfl
theorem q303 : (Jvm.Cond.classLink "OmenLine$Reader" (42 : Nat) "OmenLine$Fault") ∈ lw_all := lw_g (lw_at lw_m1 236 rfl) rfl
theorem q357 : (Jvm.Cond.methodLink "OmenLine$Reader" (47 : Nat) ({ cls := "OmenLine$Fault", name := "<init>", desc := "(II)V" } : Jvm.MethodName)) ∈ lw_all := lw_g (lw_at lw_m2 50 rfl) rfl
theorem q387 : (Jvm.Cond.fieldLink "OmenLine$Reader" (30 : Nat) "OmenLine$Reader" "size" "I") ∈ lw_all := lw_g (lw_at lw_m2 80 rfl) rfl
theorem q388 : (Jvm.Cond.fieldLink "OmenLine$Reader" (18 : Nat) "OmenLine$Reader" "made" "LOmenLine$Branch;") ∈ lw_all := lw_g (lw_at lw_m2 81 rfl) rfl
theorem q391 : (Jvm.Cond.fieldLink "OmenLine$Reader" (140 : Nat) "OmenLine$Reader" "madeLocks" "I") ∈ lw_all := lw_g (lw_at lw_m2 84 rfl) rfl
theorem q392 : (Jvm.Cond.fieldLink "OmenLine$Reader" (22 : Nat) "OmenLine$Reader" "madeLock" "[B") ∈ lw_all := lw_g (lw_at lw_m2 85 rfl) rfl
theorem q394 : (Jvm.Cond.fieldLink "OmenLine$Reader" (166 : Nat) "OmenLine$Reader" "hasBlocks" "Z") ∈ lw_all := lw_g (lw_at lw_m2 87 rfl) rfl
theorem q395 : (Jvm.Cond.fieldLink "OmenLine$Reader" (127 : Nat) "OmenLine$Reader" "omened" "I") ∈ lw_all := lw_g (lw_at lw_m2 88 rfl) rfl
theorem q396 : (Jvm.Cond.fieldLink "OmenLine$Reader" (26 : Nat) "OmenLine$Reader" "highest" "I") ∈ lw_all := lw_g (lw_at lw_m2 89 rfl) rfl
theorem q397 : (Jvm.Cond.fieldLink "OmenLine$Reader" (36 : Nat) "OmenLine$Reader" "at" "I") ∈ lw_all := lw_g (lw_at lw_m2 90 rfl) rfl
theorem q398 : (Jvm.Cond.fieldLink "OmenLine$Reader" (44 : Nat) "OmenLine$Reader" "from" "I") ∈ lw_all := lw_g (lw_at lw_m2 91 rfl) rfl
theorem q399 : (Jvm.Cond.fieldLink "OmenLine$Reader" (83 : Nat) "OmenLine$Reader" "sort" "I") ∈ lw_all := lw_g (lw_at lw_m2 92 rfl) rfl
theorem q400 : (Jvm.Cond.fieldLink "OmenLine$Reader" (108 : Nat) "OmenLine$Reader" "value" "I") ∈ lw_all := lw_g (lw_at lw_m2 93 rfl) rfl
theorem q401 : (Jvm.Cond.fieldLink "OmenLine$Reader" (3 : Nat) "OmenLine$Reader" "this$0" "LOmenLine;") ∈ lw_all := lw_g (lw_at lw_m2 94 rfl) rfl
theorem q402 : (Jvm.Cond.laysFinal "OmenLine$Reader" "OmenLine$Reader" "size" "I") ∈ lw_all := lw_g (lw_at lw_m2 95 rfl) rfl
theorem q403 : (Jvm.Cond.soleField "OmenLine$Reader" "size") ∈ lw_all := lw_g (lw_at lw_m2 96 rfl) rfl
theorem q404 : (Jvm.Cond.laysFinal "OmenLine$Reader" "OmenLine$Reader" "made" "LOmenLine$Branch;") ∈ lw_all := lw_g (lw_at lw_m2 97 rfl) rfl
theorem q405 : (Jvm.Cond.soleField "OmenLine$Reader" "made") ∈ lw_all := lw_g (lw_at lw_m2 98 rfl) rfl
theorem q406 : (Jvm.Cond.lays "OmenLine$Reader" "OmenLine$Reader" "madeLocks" "I") ∈ lw_all := lw_g (lw_at lw_m2 99 rfl) rfl
theorem q407 : (Jvm.Cond.soleField "OmenLine$Reader" "madeLocks") ∈ lw_all := lw_g (lw_at lw_m2 100 rfl) rfl
theorem q408 : (Jvm.Cond.laysFinal "OmenLine$Reader" "OmenLine$Reader" "madeLock" "[B") ∈ lw_all := lw_g (lw_at lw_m2 101 rfl) rfl
theorem q409 : (Jvm.Cond.soleField "OmenLine$Reader" "madeLock") ∈ lw_all := lw_g (lw_at lw_m2 102 rfl) rfl
theorem q410 : (Jvm.Cond.lays "OmenLine$Reader" "OmenLine$Reader" "hasBlocks" "Z") ∈ lw_all := lw_g (lw_at lw_m2 103 rfl) rfl
theorem q411 : (Jvm.Cond.soleField "OmenLine$Reader" "hasBlocks") ∈ lw_all := lw_g (lw_at lw_m2 104 rfl) rfl
theorem q412 : (Jvm.Cond.lays "OmenLine$Reader" "OmenLine$Reader" "omened" "I") ∈ lw_all := lw_g (lw_at lw_m2 105 rfl) rfl
theorem q413 : (Jvm.Cond.soleField "OmenLine$Reader" "omened") ∈ lw_all := lw_g (lw_at lw_m2 106 rfl) rfl
theorem q414 : (Jvm.Cond.lays "OmenLine$Reader" "OmenLine$Reader" "highest" "I") ∈ lw_all := lw_g (lw_at lw_m2 107 rfl) rfl
theorem q415 : (Jvm.Cond.soleField "OmenLine$Reader" "highest") ∈ lw_all := lw_g (lw_at lw_m2 108 rfl) rfl
theorem q416 : (Jvm.Cond.lays "OmenLine$Reader" "OmenLine$Reader" "at" "I") ∈ lw_all := lw_g (lw_at lw_m2 109 rfl) rfl
theorem q417 : (Jvm.Cond.soleField "OmenLine$Reader" "at") ∈ lw_all := lw_g (lw_at lw_m2 110 rfl) rfl
theorem q418 : (Jvm.Cond.lays "OmenLine$Reader" "OmenLine$Reader" "from" "I") ∈ lw_all := lw_g (lw_at lw_m2 111 rfl) rfl
theorem q419 : (Jvm.Cond.soleField "OmenLine$Reader" "from") ∈ lw_all := lw_g (lw_at lw_m2 112 rfl) rfl
theorem q420 : (Jvm.Cond.lays "OmenLine$Reader" "OmenLine$Reader" "sort" "I") ∈ lw_all := lw_g (lw_at lw_m2 113 rfl) rfl
theorem q421 : (Jvm.Cond.soleField "OmenLine$Reader" "sort") ∈ lw_all := lw_g (lw_at lw_m2 114 rfl) rfl
theorem q422 : (Jvm.Cond.lays "OmenLine$Reader" "OmenLine$Reader" "value" "I") ∈ lw_all := lw_g (lw_at lw_m2 115 rfl) rfl
theorem q423 : (Jvm.Cond.soleField "OmenLine$Reader" "value") ∈ lw_all := lw_g (lw_at lw_m2 116 rfl) rfl
theorem q424 : (Jvm.Cond.laysFinal "OmenLine$Reader" "OmenLine$Reader" "this$0" "LOmenLine;") ∈ lw_all := lw_g (lw_at lw_m2 117 rfl) rfl
theorem q425 : (Jvm.Cond.soleField "OmenLine$Reader" "this$0") ∈ lw_all := lw_g (lw_at lw_m2 118 rfl) rfl
theorem q426 : (Jvm.Cond.superclass "OmenLine$Reader" "java/lang/Object") ∈ lw_all := lw_g (lw_at lw_m2 119 rfl) rfl
theorem q428 : (Jvm.Cond.instanceMethod ({ cls := "OmenLine$Reader", name := "lines", desc := "()I" } : Jvm.MethodName)) ∈ lw_all := lw_g (lw_at lw_m2 121 rfl) rfl
theorem q429 : (Jvm.Cond.selects "OmenLine$Reader" ({ cls := "OmenLine$Reader", name := "lines", desc := "()I" } : Jvm.MethodName) ({ cls := "OmenLine$Reader", name := "lines", desc := "()I" } : Jvm.MethodName)) ∈ lw_all := lw_g (lw_at lw_m2 122 rfl) rfl
theorem q430 : (Jvm.Cond.code ({ cls := "OmenLine$Reader", name := "lines", desc := "()I" } : Jvm.MethodName) prog_7_method_19_code (2 : Nat) (Option.some Jvm.ClassFile.FieldType.int)) ∈ lw_all := lw_g (lw_at lw_m2 123 rfl) rfl
theorem q431 : (Jvm.Cond.methodLink "OmenLine$Reader" (173 : Nat) ({ cls := "OmenLine$Reader", name := "line", desc := "()V" } : Jvm.MethodName)) ∈ lw_all := lw_g (lw_at lw_m2 124 rfl) rfl
theorem q432 : (Jvm.Cond.privateMethod ({ cls := "OmenLine$Reader", name := "line", desc := "()V" } : Jvm.MethodName)) ∈ lw_tbl := lw_at lw_m2 125 rfl
theorem q433 : (Jvm.Cond.instanceMethod ({ cls := "OmenLine$Reader", name := "line", desc := "()V" } : Jvm.MethodName)) ∈ lw_all := lw_g (lw_at lw_m2 126 rfl) rfl
theorem q434 : (Jvm.Cond.code ({ cls := "OmenLine$Reader", name := "line", desc := "()V" } : Jvm.MethodName) prog_7_method_17_code (2 : Nat) (Option.none : Option Jvm.ClassFile.FieldType)) ∈ lw_all := lw_g (lw_at lw_m2 127 rfl) rfl
theorem q435 : (Jvm.Cond.methodLink "OmenLine$Reader" (149 : Nat) ({ cls := "OmenLine$Reader", name := "which", desc := "(II)I" } : Jvm.MethodName)) ∈ lw_all := lw_g (lw_at lw_m2 128 rfl) rfl
theorem q436 : (Jvm.Cond.privateMethod ({ cls := "OmenLine$Reader", name := "which", desc := "(II)I" } : Jvm.MethodName)) ∈ lw_tbl := lw_at lw_m2 129 rfl
theorem q437 : (Jvm.Cond.instanceMethod ({ cls := "OmenLine$Reader", name := "which", desc := "(II)I" } : Jvm.MethodName)) ∈ lw_all := lw_g (lw_at lw_m2 130 rfl) rfl
theorem q438 : (Jvm.Cond.code ({ cls := "OmenLine$Reader", name := "which", desc := "(II)I" } : Jvm.MethodName) prog_7_method_7_code (4 : Nat) (Option.some Jvm.ClassFile.FieldType.int)) ∈ lw_all := lw_g (lw_at lw_m2 131 rfl) rfl
theorem q439 : (Jvm.Cond.methodLink "OmenLine$Reader" (96 : Nat) ({ cls := "OmenLine$Reader", name := "is", desc := "(I)Z" } : Jvm.MethodName)) ∈ lw_all := lw_g (lw_at lw_m2 132 rfl) rfl
theorem q440 : (Jvm.Cond.privateMethod ({ cls := "OmenLine$Reader", name := "is", desc := "(I)Z" } : Jvm.MethodName)) ∈ lw_tbl := lw_at lw_m2 133 rfl
theorem q441 : (Jvm.Cond.instanceMethod ({ cls := "OmenLine$Reader", name := "is", desc := "(I)Z" } : Jvm.MethodName)) ∈ lw_all := lw_g (lw_at lw_m2 134 rfl) rfl
theorem q442 : (Jvm.Cond.code ({ cls := "OmenLine$Reader", name := "is", desc := "(I)Z" } : Jvm.MethodName) prog_7_method_6_code (5 : Nat) (Option.some Jvm.ClassFile.FieldType.boolean)) ∈ lw_all := lw_g (lw_at lw_m2 135 rfl) rfl
theorem q443 : (Jvm.Cond.methodLink "OmenLine$Reader" (80 : Nat) ({ cls := "OmenLine$Reader", name := "name", desc := "(I)Ljava/lang/String;" } : Jvm.MethodName)) ∈ lw_all := lw_g (lw_at lw_m2 136 rfl) rfl
theorem q444 : (Jvm.Cond.privateMethod ({ cls := "OmenLine$Reader", name := "name", desc := "(I)Ljava/lang/String;" } : Jvm.MethodName)) ∈ lw_tbl := lw_at lw_m2 137 rfl
theorem q445 : (Jvm.Cond.instanceMethod ({ cls := "OmenLine$Reader", name := "name", desc := "(I)Ljava/lang/String;" } : Jvm.MethodName)) ∈ lw_all := lw_g (lw_at lw_m2 138 rfl) rfl
theorem q446 : (Jvm.Cond.code ({ cls := "OmenLine$Reader", name := "name", desc := "(I)Ljava/lang/String;" } : Jvm.MethodName) prog_7_method_5_code (2 : Nat) (Option.some (Jvm.ClassFile.FieldType.object "java/lang/String"))) ∈ lw_all := lw_g (lw_at lw_m2 139 rfl) rfl
theorem q447 : (Jvm.Cond.stringRef "OmenLine$Reader" (58 : Nat) "magpie") ∈ lw_tbl := lw_at lw_m2 140 rfl
theorem q448 : (Jvm.Cond.stringRef "OmenLine$Reader" (60 : Nat) "sweep") ∈ lw_tbl := lw_at lw_m2 141 rfl
theorem q449 : (Jvm.Cond.stringRef "OmenLine$Reader" (62 : Nat) "cat") ∈ lw_tbl := lw_at lw_m2 142 rfl
theorem q450 : (Jvm.Cond.stringRef "OmenLine$Reader" (64 : Nat) "hearse") ∈ lw_tbl := lw_at lw_m2 143 rfl
theorem q451 : (Jvm.Cond.stringRef "OmenLine$Reader" (66 : Nat) "blocks") ∈ lw_tbl := lw_at lw_m2 144 rfl
theorem q452 : (Jvm.Cond.stringRef "OmenLine$Reader" (68 : Nat) "guard") ∈ lw_tbl := lw_at lw_m2 145 rfl
theorem q453 : (Jvm.Cond.stringRef "OmenLine$Reader" (70 : Nat) "lock") ∈ lw_tbl := lw_at lw_m2 146 rfl
theorem q454 : (Jvm.Cond.stringRef "OmenLine$Reader" (72 : Nat) "up") ∈ lw_tbl := lw_at lw_m2 147 rfl
theorem q455 : (Jvm.Cond.stringRef "OmenLine$Reader" (74 : Nat) "down") ∈ lw_tbl := lw_at lw_m2 148 rfl
theorem q456 : (Jvm.Cond.methodLink "OmenLine$Reader" (76 : Nat) ({ cls := "OmenLine$Reader", name := "faith", desc := "(I)Ljava/lang/String;" } : Jvm.MethodName)) ∈ lw_all := lw_g (lw_at lw_m2 149 rfl) rfl
theorem q457 : (Jvm.Cond.privateMethod ({ cls := "OmenLine$Reader", name := "faith", desc := "(I)Ljava/lang/String;" } : Jvm.MethodName)) ∈ lw_tbl := lw_at lw_m2 150 rfl
theorem q458 : (Jvm.Cond.instanceMethod ({ cls := "OmenLine$Reader", name := "faith", desc := "(I)Ljava/lang/String;" } : Jvm.MethodName)) ∈ lw_all := lw_g (lw_at lw_m2 151 rfl) rfl
theorem q459 : (Jvm.Cond.code ({ cls := "OmenLine$Reader", name := "faith", desc := "(I)Ljava/lang/String;" } : Jvm.MethodName) prog_7_method_4_code (2 : Nat) (Option.some (Jvm.ClassFile.FieldType.object "java/lang/String"))) ∈ lw_all := lw_g (lw_at lw_m2 152 rfl) rfl
theorem q460 : (Jvm.Cond.stringRef "OmenLine$Reader" (50 : Nat) "plain") ∈ lw_tbl := lw_at lw_m2 153 rfl
theorem q461 : (Jvm.Cond.stringRef "OmenLine$Reader" (52 : Nat) "sceptic") ∈ lw_tbl := lw_at lw_m2 154 rfl
theorem q462 : (Jvm.Cond.stringRef "OmenLine$Reader" (54 : Nat) "devout") ∈ lw_tbl := lw_at lw_m2 155 rfl
theorem q463 : (Jvm.Cond.stringRef "OmenLine$Reader" (56 : Nat) "heathen") ∈ lw_tbl := lw_at lw_m2 156 rfl
theorem q464 : (Jvm.Cond.methodLink "OmenLine$Reader" (86 : Nat) ({ cls := "java/lang/String", name := "length", desc := "()I" } : Jvm.MethodName)) ∈ lw_all := lw_g (lw_at lw_m2 157 rfl) rfl
theorem q474 : (Jvm.Cond.methodLink "OmenLine$Reader" (92 : Nat) ({ cls := "java/lang/String", name := "charAt", desc := "(I)C" } : Jvm.MethodName)) ∈ lw_all := lw_g (lw_at lw_m2 167 rfl) rfl
theorem q512 : (Jvm.Cond.methodLink "OmenLine$Reader" (170 : Nat) ({ cls := "OmenLine$Reader", name := "told", desc := "(I)V" } : Jvm.MethodName)) ∈ lw_all := lw_g (lw_at lw_m2 205 rfl) rfl
theorem q513 : (Jvm.Cond.privateMethod ({ cls := "OmenLine$Reader", name := "told", desc := "(I)V" } : Jvm.MethodName)) ∈ lw_tbl := lw_at lw_m2 206 rfl
theorem q514 : (Jvm.Cond.instanceMethod ({ cls := "OmenLine$Reader", name := "told", desc := "(I)V" } : Jvm.MethodName)) ∈ lw_all := lw_g (lw_at lw_m2 207 rfl) rfl
theorem q515 : (Jvm.Cond.code ({ cls := "OmenLine$Reader", name := "told", desc := "(I)V" } : Jvm.MethodName) prog_7_method_16_code (2 : Nat) (Option.none : Option Jvm.ClassFile.FieldType)) ∈ lw_all := lw_g (lw_at lw_m2 208 rfl) rfl
theorem q516 : (Jvm.Cond.methodLink "OmenLine$Reader" (152 : Nat) ({ cls := "OmenLine$Reader", name := "taken", desc := "(II)I" } : Jvm.MethodName)) ∈ lw_all := lw_g (lw_at lw_m2 209 rfl) rfl
theorem q517 : (Jvm.Cond.privateMethod ({ cls := "OmenLine$Reader", name := "taken", desc := "(II)I" } : Jvm.MethodName)) ∈ lw_tbl := lw_at lw_m2 210 rfl
theorem q518 : (Jvm.Cond.instanceMethod ({ cls := "OmenLine$Reader", name := "taken", desc := "(II)I" } : Jvm.MethodName)) ∈ lw_all := lw_g (lw_at lw_m2 211 rfl) rfl
theorem q519 : (Jvm.Cond.code ({ cls := "OmenLine$Reader", name := "taken", desc := "(II)I" } : Jvm.MethodName) prog_7_method_10_code (4 : Nat) (Option.some Jvm.ClassFile.FieldType.int)) ∈ lw_all := lw_g (lw_at lw_m2 212 rfl) rfl
theorem q520 : (Jvm.Cond.methodLink "OmenLine$Reader" (115 : Nat) ({ cls := "OmenLine$Reader", name := "looked", desc := "(II)I" } : Jvm.MethodName)) ∈ lw_all := lw_g (lw_at lw_m2 213 rfl) rfl
theorem q521 : (Jvm.Cond.privateMethod ({ cls := "OmenLine$Reader", name := "looked", desc := "(II)I" } : Jvm.MethodName)) ∈ lw_tbl := lw_at lw_m2 214 rfl
theorem q522 : (Jvm.Cond.instanceMethod ({ cls := "OmenLine$Reader", name := "looked", desc := "(II)I" } : Jvm.MethodName)) ∈ lw_all := lw_g (lw_at lw_m2 215 rfl) rfl
theorem q523 : (Jvm.Cond.code ({ cls := "OmenLine$Reader", name := "looked", desc := "(II)I" } : Jvm.MethodName) prog_7_method_9_code (3 : Nat) (Option.some Jvm.ClassFile.FieldType.int)) ∈ lw_all := lw_g (lw_at lw_m2 216 rfl) rfl
theorem q524 : (Jvm.Cond.methodLinkNest "OmenLine$Reader" (111 : Nat) ({ cls := "OmenLine", name := "in", desc := "(JJJ)Z" } : Jvm.MethodName) "OmenLine") ∈ lw_tbl := lw_at lw_m2 217 rfl
theorem q525 : (Jvm.Cond.methodLink "OmenLine$Reader" (157 : Nat) ({ cls := "OmenLine$Reader", name := "guard", desc := "()V" } : Jvm.MethodName)) ∈ lw_all := lw_g (lw_at lw_m2 218 rfl) rfl
theorem q526 : (Jvm.Cond.privateMethod ({ cls := "OmenLine$Reader", name := "guard", desc := "()V" } : Jvm.MethodName)) ∈ lw_tbl := lw_at lw_m2 219 rfl
theorem q527 : (Jvm.Cond.instanceMethod ({ cls := "OmenLine$Reader", name := "guard", desc := "()V" } : Jvm.MethodName)) ∈ lw_all := lw_g (lw_at lw_m2 220 rfl) rfl
theorem q528 : (Jvm.Cond.code ({ cls := "OmenLine$Reader", name := "guard", desc := "()V" } : Jvm.MethodName) prog_7_method_13_code (2 : Nat) (Option.none : Option Jvm.ClassFile.FieldType)) ∈ lw_all := lw_g (lw_at lw_m2 221 rfl) rfl
theorem q529 : (Jvm.Cond.methodLink "OmenLine$Reader" (124 : Nat) ({ cls := "OmenLine$Reader", name := "aBlock", desc := "()I" } : Jvm.MethodName)) ∈ lw_all := lw_g (lw_at lw_m2 222 rfl) rfl
theorem q530 : (Jvm.Cond.privateMethod ({ cls := "OmenLine$Reader", name := "aBlock", desc := "()I" } : Jvm.MethodName)) ∈ lw_tbl := lw_at lw_m2 223 rfl
theorem q531 : (Jvm.Cond.instanceMethod ({ cls := "OmenLine$Reader", name := "aBlock", desc := "()I" } : Jvm.MethodName)) ∈ lw_all := lw_g (lw_at lw_m2 224 rfl) rfl
theorem q532 : (Jvm.Cond.code ({ cls := "OmenLine$Reader", name := "aBlock", desc := "()I" } : Jvm.MethodName) prog_7_method_11_code (2 : Nat) (Option.some Jvm.ClassFile.FieldType.int)) ∈ lw_all := lw_g (lw_at lw_m2 225 rfl) rfl
theorem q533 : (Jvm.Cond.methodLink "OmenLine$Reader" (119 : Nat) ({ cls := "java/lang/Math", name := "max", desc := "(II)I" } : Jvm.MethodName)) ∈ lw_all := lw_g (lw_at lw_m2 226 rfl) rfl
theorem q536 : (Jvm.Cond.methodLinkNest "OmenLine$Reader" (130 : Nat) ({ cls := "OmenLine", name := "has", desc := "(II)Z" } : Jvm.MethodName) "OmenLine") ∈ lw_tbl := lw_at lw_m2 229 rfl
theorem q539 : (Jvm.Cond.methodLink "OmenLine$Reader" (159 : Nat) ({ cls := "OmenLine$Reader", name := "lock", desc := "()V" } : Jvm.MethodName)) ∈ lw_all := lw_g (lw_at lw_m2 232 rfl) rfl
theorem q540 : (Jvm.Cond.privateMethod ({ cls := "OmenLine$Reader", name := "lock", desc := "()V" } : Jvm.MethodName)) ∈ lw_tbl := lw_at lw_m2 233 rfl
theorem q541 : (Jvm.Cond.instanceMethod ({ cls := "OmenLine$Reader", name := "lock", desc := "()V" } : Jvm.MethodName)) ∈ lw_all := lw_g (lw_at lw_m2 234 rfl) rfl
theorem q542 : (Jvm.Cond.code ({ cls := "OmenLine$Reader", name := "lock", desc := "()V" } : Jvm.MethodName) prog_7_method_14_code (3 : Nat) (Option.none : Option Jvm.ClassFile.FieldType)) ∈ lw_all := lw_g (lw_at lw_m2 235 rfl) rfl
theorem q543 : (Jvm.Cond.methodLink "OmenLine$Reader" (161 : Nat) ({ cls := "OmenLine$Reader", name := "train", desc := "(I)V" } : Jvm.MethodName)) ∈ lw_all := lw_g (lw_at lw_m2 236 rfl) rfl
theorem q544 : (Jvm.Cond.privateMethod ({ cls := "OmenLine$Reader", name := "train", desc := "(I)V" } : Jvm.MethodName)) ∈ lw_tbl := lw_at lw_m2 237 rfl
theorem q545 : (Jvm.Cond.instanceMethod ({ cls := "OmenLine$Reader", name := "train", desc := "(I)V" } : Jvm.MethodName)) ∈ lw_all := lw_g (lw_at lw_m2 238 rfl) rfl
theorem q546 : (Jvm.Cond.code ({ cls := "OmenLine$Reader", name := "train", desc := "(I)V" } : Jvm.MethodName) prog_7_method_15_code (3 : Nat) (Option.none : Option Jvm.ClassFile.FieldType)) ∈ lw_all := lw_g (lw_at lw_m2 239 rfl) rfl
theorem q547 : (Jvm.Cond.methodLink "OmenLine$Reader" (164 : Nat) ({ cls := "OmenLine$Reader", name := "omen", desc := "(I)V" } : Jvm.MethodName)) ∈ lw_all := lw_g (lw_at lw_m3 0 rfl) rfl
theorem q548 : (Jvm.Cond.privateMethod ({ cls := "OmenLine$Reader", name := "omen", desc := "(I)V" } : Jvm.MethodName)) ∈ lw_tbl := lw_at lw_m3 1 rfl
theorem q549 : (Jvm.Cond.instanceMethod ({ cls := "OmenLine$Reader", name := "omen", desc := "(I)V" } : Jvm.MethodName)) ∈ lw_all := lw_g (lw_at lw_m3 2 rfl) rfl
theorem q550 : (Jvm.Cond.code ({ cls := "OmenLine$Reader", name := "omen", desc := "(I)V" } : Jvm.MethodName) prog_7_method_12_code (3 : Nat) (Option.none : Option Jvm.ClassFile.FieldType)) ∈ lw_all := lw_g (lw_at lw_m3 3 rfl) rfl
theorem q551 : (Jvm.Cond.methodLink "OmenLine$Reader" (176 : Nat) ({ cls := "OmenLine$Reader", name := "isLocked", desc := "()Z" } : Jvm.MethodName)) ∈ lw_all := lw_g (lw_at lw_m3 4 rfl) rfl
theorem q552 : (Jvm.Cond.privateMethod ({ cls := "OmenLine$Reader", name := "isLocked", desc := "()Z" } : Jvm.MethodName)) ∈ lw_tbl := lw_at lw_m3 5 rfl
theorem q553 : (Jvm.Cond.instanceMethod ({ cls := "OmenLine$Reader", name := "isLocked", desc := "()Z" } : Jvm.MethodName)) ∈ lw_all := lw_g (lw_at lw_m3 6 rfl) rfl
theorem q554 : (Jvm.Cond.code ({ cls := "OmenLine$Reader", name := "isLocked", desc := "()Z" } : Jvm.MethodName) prog_7_method_18_code (3 : Nat) (Option.some Jvm.ClassFile.FieldType.boolean)) ∈ lw_all := lw_g (lw_at lw_m3 7 rfl) rfl
theorem q79 : (Jvm.Cond.initialized "OmenLine$Fault") ∈ lw_all := lw_g (lw_at lw_m1 12 rfl) rfl
theorem q304 : (Jvm.Cond.instantiable "OmenLine$Fault" (8 : Nat)) ∈ lw_all := lw_g (lw_at lw_m1 237 rfl) rfl
theorem q305 : (Jvm.Cond.castable "OmenLine$Fault" "OmenLine$Fault") ∈ lw_tbl := lw_at lw_m1 238 rfl
theorem q310 : (Jvm.Cond.selects "OmenLine$Fault" ({ cls := "java/lang/Throwable", name := "fillInStackTrace", desc := "(I)Ljava/lang/Throwable;" } : Jvm.MethodName) ({ cls := "java/lang/Throwable", name := "fillInStackTrace", desc := "(I)Ljava/lang/Throwable;" } : Jvm.MethodName)) ∈ lw_all := lw_g (lw_at lw_m2 3 rfl) rfl
theorem q311 : (Jvm.Cond.selects "OmenLine$Fault" ({ cls := "java/lang/Throwable", name := "fillInStackTrace", desc := "()Ljava/lang/Throwable;" } : Jvm.MethodName) ({ cls := "java/lang/Throwable", name := "fillInStackTrace", desc := "()Ljava/lang/Throwable;" } : Jvm.MethodName)) ∈ lw_all := lw_g (lw_at lw_m2 4 rfl) rfl
theorem q312 : (Jvm.Cond.lays "OmenLine$Fault" "java/lang/Throwable" "cause" "Ljava/lang/Throwable;") ∈ lw_all := lw_g (lw_at lw_m2 5 rfl) rfl
theorem q314 : (Jvm.Cond.lays "OmenLine$Fault" "java/lang/Throwable" "stackTrace" "[Ljava/lang/StackTraceElement;") ∈ lw_all := lw_g (lw_at lw_m2 7 rfl) rfl
theorem q316 : (Jvm.Cond.lays "OmenLine$Fault" "java/lang/Throwable" "suppressedExceptions" "Ljava/util/List;") ∈ lw_all := lw_g (lw_at lw_m2 9 rfl) rfl
theorem q318 : (Jvm.Cond.lays "OmenLine$Fault" "java/lang/Throwable" "detailMessage" "Ljava/lang/String;") ∈ lw_all := lw_g (lw_at lw_m2 11 rfl) rfl
theorem q320 : (Jvm.Cond.lays "OmenLine$Fault" "java/lang/Throwable" "backtrace" "Ljava/lang/Object;") ∈ lw_all := lw_g (lw_at lw_m2 13 rfl) rfl
theorem q358 : (Jvm.Cond.instanceMethod ({ cls := "OmenLine$Fault", name := "<init>", desc := "(II)V" } : Jvm.MethodName)) ∈ lw_all := lw_g (lw_at lw_m2 51 rfl) rfl
theorem q359 : (Jvm.Cond.code ({ cls := "OmenLine$Fault", name := "<init>", desc := "(II)V" } : Jvm.MethodName) prog_4_method_1_code (3 : Nat) (Option.none : Option Jvm.ClassFile.FieldType)) ∈ lw_all := lw_g (lw_at lw_m2 52 rfl) rfl
theorem q360 : (Jvm.Cond.methodLink "OmenLine$Fault" (1 : Nat) ({ cls := "java/lang/Exception", name := "<init>", desc := "(Ljava/lang/String;Ljava/lang/Throwable;ZZ)V" } : Jvm.MethodName)) ∈ lw_all := lw_g (lw_at lw_m2 53 rfl) rfl
theorem q366 : (Jvm.Cond.fieldLink "OmenLine$Fault" (7 : Nat) "OmenLine$Fault" "code" "I") ∈ lw_all := lw_g (lw_at lw_m2 59 rfl) rfl
theorem q368 : (Jvm.Cond.fieldLink "OmenLine$Fault" (13 : Nat) "OmenLine$Fault" "place" "I") ∈ lw_all := lw_g (lw_at lw_m2 61 rfl) rfl
theorem q375 : (Jvm.Cond.laysFinal "OmenLine$Fault" "OmenLine$Fault" "code" "I") ∈ lw_all := lw_g (lw_at lw_m2 68 rfl) rfl
theorem q376 : (Jvm.Cond.soleField "OmenLine$Fault" "code") ∈ lw_all := lw_g (lw_at lw_m2 69 rfl) rfl
theorem q377 : (Jvm.Cond.laysFinal "OmenLine$Fault" "OmenLine$Fault" "place" "I") ∈ lw_all := lw_g (lw_at lw_m2 70 rfl) rfl
theorem q378 : (Jvm.Cond.soleField "OmenLine$Fault" "place") ∈ lw_all := lw_g (lw_at lw_m2 71 rfl) rfl
theorem q383 : (Jvm.Cond.lays "OmenLine$Fault" "java/lang/Throwable" "depth" "I") ∈ lw_all := lw_g (lw_at lw_m2 76 rfl) rfl
theorem q386 : (Jvm.Cond.superclass "OmenLine$Fault" "java/lang/Exception") ∈ lw_all := lw_g (lw_at lw_m2 79 rfl) rfl
theorem q77 : (Jvm.Cond.initialized "java/lang/Throwable") ∈ lw_all := lw_g (lw_at lw_m1 10 rfl) rfl
theorem q308 : (Jvm.Cond.declares ({ cls := "java/lang/Throwable", name := "<init>", desc := "()V" } : Jvm.MethodName)) ∈ lw_tbl := lw_at lw_m2 1 rfl
theorem q309 : (Jvm.Cond.declares ({ cls := "java/lang/Throwable", name := "<init>", desc := "(Ljava/lang/String;)V" } : Jvm.MethodName)) ∈ lw_tbl := lw_at lw_m2 2 rfl
theorem q313 : (Jvm.Cond.lays "java/lang/Throwable" "java/lang/Throwable" "cause" "Ljava/lang/Throwable;") ∈ lw_all := lw_g (lw_at lw_m2 6 rfl) rfl
theorem q315 : (Jvm.Cond.lays "java/lang/Throwable" "java/lang/Throwable" "stackTrace" "[Ljava/lang/StackTraceElement;") ∈ lw_all := lw_g (lw_at lw_m2 8 rfl) rfl
theorem q317 : (Jvm.Cond.lays "java/lang/Throwable" "java/lang/Throwable" "suppressedExceptions" "Ljava/util/List;") ∈ lw_all := lw_g (lw_at lw_m2 10 rfl) rfl
theorem q319 : (Jvm.Cond.lays "java/lang/Throwable" "java/lang/Throwable" "detailMessage" "Ljava/lang/String;") ∈ lw_all := lw_g (lw_at lw_m2 12 rfl) rfl
theorem q321 : (Jvm.Cond.lays "java/lang/Throwable" "java/lang/Throwable" "backtrace" "Ljava/lang/Object;") ∈ lw_all := lw_g (lw_at lw_m2 14 rfl) rfl
theorem q322 : (Jvm.Cond.fieldLink "java/lang/Throwable" (198 : Nat) "java/lang/Throwable" "backtrace" "Ljava/lang/Object;") ∈ lw_all := lw_g (lw_at lw_m2 15 rfl) rfl
theorem q323 : (Jvm.Cond.superclass "java/lang/Throwable" "java/lang/Object") ∈ lw_all := lw_g (lw_at lw_m2 16 rfl) rfl
theorem q324 : (Jvm.Cond.instanceMethod ({ cls := "java/lang/Throwable", name := "<init>", desc := "()V" } : Jvm.MethodName)) ∈ lw_all := lw_g (lw_at lw_m2 17 rfl) rfl
theorem q325 : (Jvm.Cond.code ({ cls := "java/lang/Throwable", name := "<init>", desc := "()V" } : Jvm.MethodName) prog_25_method_1_code (1 : Nat) (Option.none : Option Jvm.ClassFile.FieldType)) ∈ lw_all := lw_g (lw_at lw_m2 18 rfl) rfl
theorem q326 : (Jvm.Cond.methodLink "java/lang/Throwable" (1 : Nat) ({ cls := "java/lang/Object", name := "<init>", desc := "()V" } : Jvm.MethodName)) ∈ lw_all := lw_g (lw_at lw_m2 19 rfl) rfl
theorem q327 : (Jvm.Cond.fieldLink "java/lang/Throwable" (13 : Nat) "java/lang/Throwable" "UNASSIGNED_STACK" "[Ljava/lang/StackTraceElement;") ∈ lw_all := lw_g (lw_at lw_m2 20 rfl) rfl
theorem q328 : (Jvm.Cond.laysStatic "java/lang/Throwable" "UNASSIGNED_STACK" "[Ljava/lang/StackTraceElement;") ∈ lw_tbl := lw_at lw_m2 21 rfl
theorem q329 : (Jvm.Cond.fieldLink "java/lang/Throwable" (20 : Nat) "java/lang/Throwable" "SUPPRESSED_SENTINEL" "Ljava/util/List;") ∈ lw_all := lw_g (lw_at lw_m2 22 rfl) rfl
theorem q330 : (Jvm.Cond.laysStatic "java/lang/Throwable" "SUPPRESSED_SENTINEL" "Ljava/util/List;") ∈ lw_tbl := lw_at lw_m2 23 rfl
theorem q331 : (Jvm.Cond.methodLink "java/lang/Throwable" (27 : Nat) ({ cls := "java/lang/Throwable", name := "fillInStackTrace", desc := "()Ljava/lang/Throwable;" } : Jvm.MethodName)) ∈ lw_all := lw_g (lw_at lw_m2 24 rfl) rfl
theorem q332 : (Jvm.Cond.instanceMethod ({ cls := "java/lang/Throwable", name := "fillInStackTrace", desc := "()Ljava/lang/Throwable;" } : Jvm.MethodName)) ∈ lw_all := lw_g (lw_at lw_m2 25 rfl) rfl
theorem q333 : (Jvm.Cond.sameMethod "java/lang/Throwable" "java/lang/Throwable" "fillInStackTrace" "()Ljava/lang/Throwable;") ∈ lw_all := lw_g (lw_at lw_m2 26 rfl) rfl
theorem q347 : (Jvm.Cond.declares ({ cls := "java/lang/Throwable", name := "fillInStackTrace", desc := "()Ljava/lang/Throwable;" } : Jvm.MethodName)) ∈ lw_tbl := lw_at lw_m2 40 rfl
theorem q351 : (Jvm.Cond.codeSync ({ cls := "java/lang/Throwable", name := "fillInStackTrace", desc := "()Ljava/lang/Throwable;" } : Jvm.MethodName) prog_25_method_18_code (1 : Nat) (Option.some (Jvm.ClassFile.FieldType.object "java/lang/Throwable"))) ∈ lw_all := lw_g (lw_at lw_m2 44 rfl) rfl
theorem q352 : (Jvm.Cond.methodLink "java/lang/Throwable" (202 : Nat) ({ cls := "java/lang/Throwable", name := "fillInStackTrace", desc := "(I)Ljava/lang/Throwable;" } : Jvm.MethodName)) ∈ lw_all := lw_g (lw_at lw_m2 45 rfl) rfl
theorem q353 : (Jvm.Cond.privateMethod ({ cls := "java/lang/Throwable", name := "fillInStackTrace", desc := "(I)Ljava/lang/Throwable;" } : Jvm.MethodName)) ∈ lw_tbl := lw_at lw_m2 46 rfl
theorem q354 : (Jvm.Cond.instanceMethod ({ cls := "java/lang/Throwable", name := "fillInStackTrace", desc := "(I)Ljava/lang/Throwable;" } : Jvm.MethodName)) ∈ lw_all := lw_g (lw_at lw_m2 47 rfl) rfl
theorem q355 : (Jvm.Cond.instantiable "java/lang/Throwable" (6 : Nat)) ∈ lw_all := lw_g (lw_at lw_m2 48 rfl) rfl
theorem q356 : (Jvm.Cond.native ({ cls := "java/lang/Throwable", name := "fillInStackTrace", desc := "(I)Ljava/lang/Throwable;" } : Jvm.MethodName)) ∈ lw_all := lw_g (lw_at lw_m2 49 rfl) rfl
theorem q364 : (Jvm.Cond.instanceMethod ({ cls := "java/lang/Throwable", name := "<init>", desc := "(Ljava/lang/String;Ljava/lang/Throwable;ZZ)V" } : Jvm.MethodName)) ∈ lw_all := lw_g (lw_at lw_m2 57 rfl) rfl
theorem q365 : (Jvm.Cond.code ({ cls := "java/lang/Throwable", name := "<init>", desc := "(Ljava/lang/String;Ljava/lang/Throwable;ZZ)V" } : Jvm.MethodName) prog_25_method_5_code (5 : Nat) (Option.none : Option Jvm.ClassFile.FieldType)) ∈ lw_all := lw_g (lw_at lw_m2 58 rfl) rfl
theorem q370 : (Jvm.Cond.fieldLink "java/lang/Throwable" (198 : Nat) "java/lang/Throwable" "backtrace" "Ljava/lang/Object;") ∈ lw_all := lw_g (lw_at lw_m2 63 rfl) rfl
theorem q371 : (Jvm.Cond.fieldLink "java/lang/Throwable" (31 : Nat) "java/lang/Throwable" "detailMessage" "Ljava/lang/String;") ∈ lw_all := lw_g (lw_at lw_m2 64 rfl) rfl
theorem q372 : (Jvm.Cond.fieldLink "java/lang/Throwable" (7 : Nat) "java/lang/Throwable" "cause" "Ljava/lang/Throwable;") ∈ lw_all := lw_g (lw_at lw_m2 65 rfl) rfl
theorem q373 : (Jvm.Cond.fieldLink "java/lang/Throwable" (17 : Nat) "java/lang/Throwable" "stackTrace" "[Ljava/lang/StackTraceElement;") ∈ lw_all := lw_g (lw_at lw_m2 66 rfl) rfl
theorem q374 : (Jvm.Cond.fieldLink "java/lang/Throwable" (24 : Nat) "java/lang/Throwable" "suppressedExceptions" "Ljava/util/List;") ∈ lw_all := lw_g (lw_at lw_m2 67 rfl) rfl
theorem q379 : (Jvm.Cond.soleField "java/lang/Throwable" "backtrace") ∈ lw_all := lw_g (lw_at lw_m2 72 rfl) rfl
theorem q380 : (Jvm.Cond.soleField "java/lang/Throwable" "detailMessage") ∈ lw_all := lw_g (lw_at lw_m2 73 rfl) rfl
theorem q381 : (Jvm.Cond.soleField "java/lang/Throwable" "cause") ∈ lw_all := lw_g (lw_at lw_m2 74 rfl) rfl
theorem q382 : (Jvm.Cond.soleField "java/lang/Throwable" "stackTrace") ∈ lw_all := lw_g (lw_at lw_m2 75 rfl) rfl
theorem q384 : (Jvm.Cond.soleField "java/lang/Throwable" "depth") ∈ lw_all := lw_g (lw_at lw_m2 77 rfl) rfl
theorem q385 : (Jvm.Cond.soleField "java/lang/Throwable" "suppressedExceptions") ∈ lw_all := lw_g (lw_at lw_m2 78 rfl) rfl
theorem q818 : (Jvm.Cond.instanceMethod ({ cls := "java/lang/Throwable", name := "<init>", desc := "(Ljava/lang/String;)V" } : Jvm.MethodName)) ∈ lw_all := lw_g (lw_at lw_m4 31 rfl) rfl
theorem q819 : (Jvm.Cond.code ({ cls := "java/lang/Throwable", name := "<init>", desc := "(Ljava/lang/String;)V" } : Jvm.MethodName) prog_25_method_2_code (2 : Nat) (Option.none : Option Jvm.ClassFile.FieldType)) ∈ lw_all := lw_g (lw_at lw_m4 32 rfl) rfl
theorem q1357 : (Jvm.Cond.sameMethod "java/lang/Throwable" "java/lang/Throwable" "fillInStackTrace" "(I)Ljava/lang/Throwable;") ∈ lw_all := lw_g (lw_at lw_m6 90 rfl) rfl
theorem q78 : (Jvm.Cond.initialized "java/lang/Exception") ∈ lw_all := lw_g (lw_at lw_m1 11 rfl) rfl
theorem q306 : (Jvm.Cond.declares ({ cls := "java/lang/Exception", name := "<init>", desc := "()V" } : Jvm.MethodName)) ∈ lw_tbl := lw_at lw_m1 239 rfl
theorem q307 : (Jvm.Cond.declares ({ cls := "java/lang/Exception", name := "<init>", desc := "(Ljava/lang/String;)V" } : Jvm.MethodName)) ∈ lw_tbl := lw_at lw_m2 0 rfl
theorem q350 : (Jvm.Cond.superclass "java/lang/Exception" "java/lang/Throwable") ∈ lw_all := lw_g (lw_at lw_m2 43 rfl) rfl
theorem q361 : (Jvm.Cond.instanceMethod ({ cls := "java/lang/Exception", name := "<init>", desc := "(Ljava/lang/String;Ljava/lang/Throwable;ZZ)V" } : Jvm.MethodName)) ∈ lw_all := lw_g (lw_at lw_m2 54 rfl) rfl
theorem q362 : (Jvm.Cond.code ({ cls := "java/lang/Exception", name := "<init>", desc := "(Ljava/lang/String;Ljava/lang/Throwable;ZZ)V" } : Jvm.MethodName) prog_14_method_5_code (5 : Nat) (Option.none : Option Jvm.ClassFile.FieldType)) ∈ lw_all := lw_g (lw_at lw_m2 55 rfl) rfl
theorem q363 : (Jvm.Cond.methodLink "java/lang/Exception" (16 : Nat) ({ cls := "java/lang/Throwable", name := "<init>", desc := "(Ljava/lang/String;Ljava/lang/Throwable;ZZ)V" } : Jvm.MethodName)) ∈ lw_all := lw_g (lw_at lw_m2 56 rfl) rfl
theorem q815 : (Jvm.Cond.instanceMethod ({ cls := "java/lang/Exception", name := "<init>", desc := "(Ljava/lang/String;)V" } : Jvm.MethodName)) ∈ lw_all := lw_g (lw_at lw_m4 28 rfl) rfl
theorem q816 : (Jvm.Cond.code ({ cls := "java/lang/Exception", name := "<init>", desc := "(Ljava/lang/String;)V" } : Jvm.MethodName) prog_14_method_2_code (2 : Nat) (Option.none : Option Jvm.ClassFile.FieldType)) ∈ lw_all := lw_g (lw_at lw_m4 29 rfl) rfl
theorem q817 : (Jvm.Cond.methodLink "java/lang/Exception" (7 : Nat) ({ cls := "java/lang/Throwable", name := "<init>", desc := "(Ljava/lang/String;)V" } : Jvm.MethodName)) ∈ lw_all := lw_g (lw_at lw_m4 30 rfl) rfl
theorem q851 : (Jvm.Cond.instanceMethod ({ cls := "java/lang/Exception", name := "<init>", desc := "()V" } : Jvm.MethodName)) ∈ lw_all := lw_g (lw_at lw_m4 64 rfl) rfl
theorem q852 : (Jvm.Cond.code ({ cls := "java/lang/Exception", name := "<init>", desc := "()V" } : Jvm.MethodName) prog_14_method_1_code (1 : Nat) (Option.none : Option Jvm.ClassFile.FieldType)) ∈ lw_all := lw_g (lw_at lw_m4 65 rfl) rfl
theorem q853 : (Jvm.Cond.methodLink "java/lang/Exception" (1 : Nat) ({ cls := "java/lang/Throwable", name := "<init>", desc := "()V" } : Jvm.MethodName)) ∈ lw_all := lw_g (lw_at lw_m4 66 rfl) rfl
theorem q80 : (Jvm.Cond.initialized "java/lang/String") ∈ lw_all := lw_g (lw_at lw_m1 13 rfl) rfl
theorem q465 : (Jvm.Cond.instanceMethod ({ cls := "java/lang/String", name := "length", desc := "()I" } : Jvm.MethodName)) ∈ lw_all := lw_g (lw_at lw_m2 158 rfl) rfl
theorem q466 : (Jvm.Cond.selects "java/lang/String" ({ cls := "java/lang/String", name := "length", desc := "()I" } : Jvm.MethodName) ({ cls := "java/lang/String", name := "length", desc := "()I" } : Jvm.MethodName)) ∈ lw_all := lw_g (lw_at lw_m2 159 rfl) rfl
theorem q467 : (Jvm.Cond.code ({ cls := "java/lang/String", name := "length", desc := "()I" } : Jvm.MethodName) prog_21_method_54_code (1 : Nat) (Option.some Jvm.ClassFile.FieldType.int)) ∈ lw_all := lw_g (lw_at lw_m2 160 rfl) rfl
theorem q468 : (Jvm.Cond.methodLink "java/lang/String" (335 : Nat) ({ cls := "java/lang/String", name := "coder", desc := "()B" } : Jvm.MethodName)) ∈ lw_all := lw_g (lw_at lw_m2 161 rfl) rfl
theorem q469 : (Jvm.Cond.instanceMethod ({ cls := "java/lang/String", name := "coder", desc := "()B" } : Jvm.MethodName)) ∈ lw_all := lw_g (lw_at lw_m2 162 rfl) rfl
theorem q470 : (Jvm.Cond.selects "java/lang/String" ({ cls := "java/lang/String", name := "coder", desc := "()B" } : Jvm.MethodName) ({ cls := "java/lang/String", name := "coder", desc := "()B" } : Jvm.MethodName)) ∈ lw_all := lw_g (lw_at lw_m2 163 rfl) rfl
theorem q471 : (Jvm.Cond.code ({ cls := "java/lang/String", name := "coder", desc := "()B" } : Jvm.MethodName) prog_21_method_152_code (1 : Nat) (Option.some Jvm.ClassFile.FieldType.byte)) ∈ lw_all := lw_g (lw_at lw_m2 164 rfl) rfl
theorem q472 : (Jvm.Cond.fieldLink "java/lang/String" (38 : Nat) "java/lang/String" "COMPACT_STRINGS" "Z") ∈ lw_all := lw_g (lw_at lw_m2 165 rfl) rfl
theorem q473 : (Jvm.Cond.laysStatic "java/lang/String" "COMPACT_STRINGS" "Z") ∈ lw_tbl := lw_at lw_m2 166 rfl
theorem q475 : (Jvm.Cond.instanceMethod ({ cls := "java/lang/String", name := "charAt", desc := "(I)C" } : Jvm.MethodName)) ∈ lw_all := lw_g (lw_at lw_m2 168 rfl) rfl
theorem q476 : (Jvm.Cond.selects "java/lang/String" ({ cls := "java/lang/String", name := "charAt", desc := "(I)C" } : Jvm.MethodName) ({ cls := "java/lang/String", name := "charAt", desc := "(I)C" } : Jvm.MethodName)) ∈ lw_all := lw_g (lw_at lw_m2 169 rfl) rfl
theorem q477 : (Jvm.Cond.code ({ cls := "java/lang/String", name := "charAt", desc := "(I)C" } : Jvm.MethodName) prog_21_method_56_code (2 : Nat) (Option.some Jvm.ClassFile.FieldType.char)) ∈ lw_all := lw_g (lw_at lw_m2 170 rfl) rfl
theorem q478 : (Jvm.Cond.methodLink "java/lang/String" (492 : Nat) ({ cls := "java/lang/String", name := "isLatin1", desc := "()Z" } : Jvm.MethodName)) ∈ lw_all := lw_g (lw_at lw_m2 171 rfl) rfl
theorem q479 : (Jvm.Cond.instanceMethod ({ cls := "java/lang/String", name := "isLatin1", desc := "()Z" } : Jvm.MethodName)) ∈ lw_all := lw_g (lw_at lw_m2 172 rfl) rfl
theorem q480 : (Jvm.Cond.selects "java/lang/String" ({ cls := "java/lang/String", name := "isLatin1", desc := "()Z" } : Jvm.MethodName) ({ cls := "java/lang/String", name := "isLatin1", desc := "()Z" } : Jvm.MethodName)) ∈ lw_all := lw_g (lw_at lw_m2 173 rfl) rfl
theorem q481 : (Jvm.Cond.code ({ cls := "java/lang/String", name := "isLatin1", desc := "()Z" } : Jvm.MethodName) prog_21_method_154_code (1 : Nat) (Option.some Jvm.ClassFile.FieldType.boolean)) ∈ lw_all := lw_g (lw_at lw_m2 174 rfl) rfl
theorem q482 : (Jvm.Cond.methodLink "java/lang/String" (495 : Nat) ({ cls := "java/lang/StringLatin1", name := "charAt", desc := "([BI)C" } : Jvm.MethodName)) ∈ lw_all := lw_g (lw_at lw_m2 175 rfl) rfl
theorem q486 : (Jvm.Cond.static ({ cls := "java/lang/String", name := "checkIndex", desc := "(II)V" } : Jvm.MethodName)) ∈ lw_all := lw_g (lw_at lw_m2 179 rfl) rfl
theorem q487 : (Jvm.Cond.code ({ cls := "java/lang/String", name := "checkIndex", desc := "(II)V" } : Jvm.MethodName) prog_21_method_155_code (2 : Nat) (Option.none : Option Jvm.ClassFile.FieldType)) ∈ lw_all := lw_g (lw_at lw_m2 180 rfl) rfl
theorem q488 : (Jvm.Cond.fieldLink "java/lang/String" (1053 : Nat) "jdk/internal/util/Preconditions" "SIOOBE_FORMATTER" "Ljava/util/function/BiFunction;") ∈ lw_all := lw_g (lw_at lw_m2 181 rfl) rfl
theorem q490 : (Jvm.Cond.methodLink "java/lang/String" (1059 : Nat) ({ cls := "jdk/internal/util/Preconditions", name := "checkIndex", desc := "(IILjava/util/function/BiFunction;)I" } : Jvm.MethodName)) ∈ lw_all := lw_g (lw_at lw_m2 183 rfl) rfl
theorem q493 : (Jvm.Cond.methodLink "java/lang/String" (498 : Nat) ({ cls := "java/lang/StringUTF16", name := "charAt", desc := "([BI)C" } : Jvm.MethodName)) ∈ lw_all := lw_g (lw_at lw_m2 186 rfl) rfl
theorem q831 : (Jvm.Cond.instantiable "java/lang/String" (4 : Nat)) ∈ lw_all := lw_g (lw_at lw_m4 44 rfl) rfl
theorem q832 : (Jvm.Cond.laysFinal "java/lang/String" "java/lang/String" "value" "[B") ∈ lw_all := lw_g (lw_at lw_m4 45 rfl) rfl
theorem q833 : (Jvm.Cond.soleField "java/lang/String" "value") ∈ lw_all := lw_g (lw_at lw_m4 46 rfl) rfl
theorem q834 : (Jvm.Cond.laysFinal "java/lang/String" "java/lang/String" "coder" "B") ∈ lw_all := lw_g (lw_at lw_m4 47 rfl) rfl
theorem q835 : (Jvm.Cond.soleField "java/lang/String" "coder") ∈ lw_all := lw_g (lw_at lw_m4 48 rfl) rfl
theorem q1363 : (Jvm.Cond.fieldLink "java/lang/String" (9 : Nat) "java/lang/String" "value" "[B") ∈ lw_all := lw_g (lw_at lw_m6 96 rfl) rfl
theorem q1364 : (Jvm.Cond.fieldLink "java/lang/String" (15 : Nat) "java/lang/String" "coder" "B") ∈ lw_all := lw_g (lw_at lw_m6 97 rfl) rfl
theorem q81 : (Jvm.Cond.initialized "java/lang/StringLatin1") ∈ lw_all := lw_g (lw_at lw_m1 14 rfl) rfl
theorem q483 : (Jvm.Cond.static ({ cls := "java/lang/StringLatin1", name := "charAt", desc := "([BI)C" } : Jvm.MethodName)) ∈ lw_all := lw_g (lw_at lw_m2 176 rfl) rfl
theorem q484 : (Jvm.Cond.code ({ cls := "java/lang/StringLatin1", name := "charAt", desc := "([BI)C" } : Jvm.MethodName) prog_22_method_2_code (2 : Nat) (Option.some Jvm.ClassFile.FieldType.char)) ∈ lw_all := lw_g (lw_at lw_m2 177 rfl) rfl
theorem q485 : (Jvm.Cond.methodLink "java/lang/StringLatin1" (9 : Nat) ({ cls := "java/lang/String", name := "checkIndex", desc := "(II)V" } : Jvm.MethodName)) ∈ lw_all := lw_g (lw_at lw_m2 178 rfl) rfl
theorem q82 : (Jvm.Cond.initialized "jdk/internal/util/Preconditions") ∈ lw_all := lw_g (lw_at lw_m1 15 rfl) rfl
theorem q489 : (Jvm.Cond.laysStatic "jdk/internal/util/Preconditions" "SIOOBE_FORMATTER" "Ljava/util/function/BiFunction;") ∈ lw_tbl := lw_at lw_m2 182 rfl
theorem q491 : (Jvm.Cond.static ({ cls := "jdk/internal/util/Preconditions", name := "checkIndex", desc := "(IILjava/util/function/BiFunction;)I" } : Jvm.MethodName)) ∈ lw_all := lw_g (lw_at lw_m2 184 rfl) rfl
theorem q492 : (Jvm.Cond.code ({ cls := "jdk/internal/util/Preconditions", name := "checkIndex", desc := "(IILjava/util/function/BiFunction;)I" } : Jvm.MethodName) prog_26_method_11_code (3 : Nat) (Option.some Jvm.ClassFile.FieldType.int)) ∈ lw_all := lw_g (lw_at lw_m2 185 rfl) rfl
theorem q83 : (Jvm.Cond.initialized "java/lang/StringUTF16") ∈ lw_all := lw_g (lw_at lw_m1 16 rfl) rfl
theorem q494 : (Jvm.Cond.static ({ cls := "java/lang/StringUTF16", name := "charAt", desc := "([BI)C" } : Jvm.MethodName)) ∈ lw_all := lw_g (lw_at lw_m2 187 rfl) rfl
theorem q495 : (Jvm.Cond.code ({ cls := "java/lang/StringUTF16", name := "charAt", desc := "([BI)C" } : Jvm.MethodName) prog_23_method_83_code (2 : Nat) (Option.some Jvm.ClassFile.FieldType.char)) ∈ lw_all := lw_g (lw_at lw_m2 188 rfl) rfl
theorem q496 : (Jvm.Cond.methodLink "java/lang/StringUTF16" (67 : Nat) ({ cls := "java/lang/StringUTF16", name := "checkIndex", desc := "(I[B)V" } : Jvm.MethodName)) ∈ lw_all := lw_g (lw_at lw_m2 189 rfl) rfl
theorem q497 : (Jvm.Cond.static ({ cls := "java/lang/StringUTF16", name := "checkIndex", desc := "(I[B)V" } : Jvm.MethodName)) ∈ lw_all := lw_g (lw_at lw_m2 190 rfl) rfl
theorem q498 : (Jvm.Cond.code ({ cls := "java/lang/StringUTF16", name := "checkIndex", desc := "(I[B)V" } : Jvm.MethodName) prog_23_method_91_code (2 : Nat) (Option.none : Option Jvm.ClassFile.FieldType)) ∈ lw_all := lw_g (lw_at lw_m2 191 rfl) rfl
theorem q499 : (Jvm.Cond.methodLink "java/lang/StringUTF16" (48 : Nat) ({ cls := "java/lang/StringUTF16", name := "length", desc := "([B)I" } : Jvm.MethodName)) ∈ lw_all := lw_g (lw_at lw_m2 192 rfl) rfl
theorem q500 : (Jvm.Cond.static ({ cls := "java/lang/StringUTF16", name := "length", desc := "([B)I" } : Jvm.MethodName)) ∈ lw_all := lw_g (lw_at lw_m2 193 rfl) rfl
theorem q501 : (Jvm.Cond.code ({ cls := "java/lang/StringUTF16", name := "length", desc := "([B)I" } : Jvm.MethodName) prog_23_method_6_code (1 : Nat) (Option.some Jvm.ClassFile.FieldType.int)) ∈ lw_all := lw_g (lw_at lw_m2 194 rfl) rfl
theorem q502 : (Jvm.Cond.methodLink "java/lang/StringUTF16" (414 : Nat) ({ cls := "java/lang/String", name := "checkIndex", desc := "(II)V" } : Jvm.MethodName)) ∈ lw_all := lw_g (lw_at lw_m2 195 rfl) rfl
theorem q503 : (Jvm.Cond.methodLink "java/lang/StringUTF16" (71 : Nat) ({ cls := "java/lang/StringUTF16", name := "getChar", desc := "([BI)C" } : Jvm.MethodName)) ∈ lw_all := lw_g (lw_at lw_m2 196 rfl) rfl
theorem q504 : (Jvm.Cond.static ({ cls := "java/lang/StringUTF16", name := "getChar", desc := "([BI)C" } : Jvm.MethodName)) ∈ lw_all := lw_g (lw_at lw_m2 197 rfl) rfl
theorem q505 : (Jvm.Cond.code ({ cls := "java/lang/StringUTF16", name := "getChar", desc := "([BI)C" } : Jvm.MethodName) prog_23_method_5_code (2 : Nat) (Option.some Jvm.ClassFile.FieldType.char)) ∈ lw_all := lw_g (lw_at lw_m2 198 rfl) rfl
theorem q506 : (Jvm.Cond.fieldLink "java/lang/StringUTF16" (44 : Nat) "java/lang/StringUTF16" "$assertionsDisabled" "Z") ∈ lw_all := lw_g (lw_at lw_m2 199 rfl) rfl
theorem q507 : (Jvm.Cond.laysStatic "java/lang/StringUTF16" "$assertionsDisabled" "Z") ∈ lw_tbl := lw_at lw_m2 200 rfl
theorem q508 : (Jvm.Cond.fieldLink "java/lang/StringUTF16" (59 : Nat) "java/lang/StringUTF16" "HI_BYTE_SHIFT" "I") ∈ lw_all := lw_g (lw_at lw_m2 201 rfl) rfl
theorem q509 : (Jvm.Cond.laysStatic "java/lang/StringUTF16" "HI_BYTE_SHIFT" "I") ∈ lw_tbl := lw_at lw_m2 202 rfl
theorem q510 : (Jvm.Cond.fieldLink "java/lang/StringUTF16" (63 : Nat) "java/lang/StringUTF16" "LO_BYTE_SHIFT" "I") ∈ lw_all := lw_g (lw_at lw_m2 203 rfl) rfl
theorem q511 : (Jvm.Cond.laysStatic "java/lang/StringUTF16" "LO_BYTE_SHIFT" "I") ∈ lw_tbl := lw_at lw_m2 204 rfl
theorem q84 : (Jvm.Cond.initialized "java/lang/Math") ∈ lw_all := lw_g (lw_at lw_m1 17 rfl) rfl
theorem q534 : (Jvm.Cond.static ({ cls := "java/lang/Math", name := "max", desc := "(II)I" } : Jvm.MethodName)) ∈ lw_all := lw_g (lw_at lw_m2 227 rfl) rfl
theorem q535 : (Jvm.Cond.code ({ cls := "java/lang/Math", name := "max", desc := "(II)I" } : Jvm.MethodName) prog_17_method_65_code (2 : Nat) (Option.some Jvm.ClassFile.FieldType.int)) ∈ lw_all := lw_g (lw_at lw_m2 228 rfl) rfl
theorem q746 : (Jvm.Cond.static ({ cls := "java/lang/Math", name := "min", desc := "(II)I" } : Jvm.MethodName)) ∈ lw_all := lw_g (lw_at lw_m3 199 rfl) rfl
theorem q747 : (Jvm.Cond.code ({ cls := "java/lang/Math", name := "min", desc := "(II)I" } : Jvm.MethodName) prog_17_method_69_code (2 : Nat) (Option.some Jvm.ClassFile.FieldType.int)) ∈ lw_all := lw_g (lw_at lw_m3 200 rfl) rfl
theorem q86 : (Jvm.Cond.initialized "java/lang/Integer") ∈ lw_all := lw_g (lw_at lw_m1 19 rfl) rfl
theorem q704 : (Jvm.Cond.static ({ cls := "java/lang/Integer", name := "bitCount", desc := "(I)I" } : Jvm.MethodName)) ∈ lw_all := lw_g (lw_at lw_m3 157 rfl) rfl
theorem q705 : (Jvm.Cond.code ({ cls := "java/lang/Integer", name := "bitCount", desc := "(I)I" } : Jvm.MethodName) prog_16_method_49_code (1 : Nat) (Option.some Jvm.ClassFile.FieldType.int)) ∈ lw_all := lw_g (lw_at lw_m3 158 rfl) rfl
theorem q706 : (Jvm.Cond.constant "java/lang/Integer" (265 : Nat) (1431655765 : Int32)) ∈ lw_all := lw_g (lw_at lw_m3 159 rfl) rfl
theorem q707 : (Jvm.Cond.constant "java/lang/Integer" (266 : Nat) (858993459 : Int32)) ∈ lw_all := lw_g (lw_at lw_m3 160 rfl) rfl
theorem q708 : (Jvm.Cond.constant "java/lang/Integer" (267 : Nat) (252645135 : Int32)) ∈ lw_all := lw_g (lw_at lw_m3 161 rfl) rfl
theorem q87 : (Jvm.Cond.initialized "java/lang/RuntimeException") ∈ lw_all := lw_g (lw_at lw_m1 20 rfl) rfl
theorem q346 : (Jvm.Cond.sameMethod "java/lang/RuntimeException" "java/lang/Throwable" "fillInStackTrace" "()Ljava/lang/Throwable;") ∈ lw_all := lw_g (lw_at lw_m2 39 rfl) rfl
theorem q349 : (Jvm.Cond.superclass "java/lang/RuntimeException" "java/lang/Exception") ∈ lw_all := lw_g (lw_at lw_m2 42 rfl) rfl
theorem q812 : (Jvm.Cond.instanceMethod ({ cls := "java/lang/RuntimeException", name := "<init>", desc := "(Ljava/lang/String;)V" } : Jvm.MethodName)) ∈ lw_all := lw_g (lw_at lw_m4 25 rfl) rfl
theorem q813 : (Jvm.Cond.code ({ cls := "java/lang/RuntimeException", name := "<init>", desc := "(Ljava/lang/String;)V" } : Jvm.MethodName) prog_20_method_2_code (2 : Nat) (Option.none : Option Jvm.ClassFile.FieldType)) ∈ lw_all := lw_g (lw_at lw_m4 26 rfl) rfl
theorem q814 : (Jvm.Cond.methodLink "java/lang/RuntimeException" (7 : Nat) ({ cls := "java/lang/Exception", name := "<init>", desc := "(Ljava/lang/String;)V" } : Jvm.MethodName)) ∈ lw_all := lw_g (lw_at lw_m4 27 rfl) rfl
theorem q828 : (Jvm.Cond.declares ({ cls := "java/lang/RuntimeException", name := "<init>", desc := "()V" } : Jvm.MethodName)) ∈ lw_tbl := lw_at lw_m4 41 rfl
theorem q829 : (Jvm.Cond.declares ({ cls := "java/lang/RuntimeException", name := "<init>", desc := "(Ljava/lang/String;)V" } : Jvm.MethodName)) ∈ lw_tbl := lw_at lw_m4 42 rfl
theorem q848 : (Jvm.Cond.instanceMethod ({ cls := "java/lang/RuntimeException", name := "<init>", desc := "()V" } : Jvm.MethodName)) ∈ lw_all := lw_g (lw_at lw_m4 61 rfl) rfl
theorem q849 : (Jvm.Cond.code ({ cls := "java/lang/RuntimeException", name := "<init>", desc := "()V" } : Jvm.MethodName) prog_20_method_1_code (1 : Nat) (Option.none : Option Jvm.ClassFile.FieldType)) ∈ lw_all := lw_g (lw_at lw_m4 62 rfl) rfl
theorem q850 : (Jvm.Cond.methodLink "java/lang/RuntimeException" (1 : Nat) ({ cls := "java/lang/Exception", name := "<init>", desc := "()V" } : Jvm.MethodName)) ∈ lw_all := lw_g (lw_at lw_m4 63 rfl) rfl
theorem q868 : (Jvm.Cond.castable "java/lang/RuntimeException" "java/lang/Throwable") ∈ lw_tbl := lw_at lw_m4 81 rfl
theorem q88 : (Jvm.Cond.initialized "java/lang/NegativeArraySizeException") ∈ lw_all := lw_g (lw_at lw_m1 21 rfl) rfl
theorem q336 : (Jvm.Cond.selects "java/lang/NegativeArraySizeException" ({ cls := "java/lang/Throwable", name := "fillInStackTrace", desc := "()Ljava/lang/Throwable;" } : Jvm.MethodName) ({ cls := "java/lang/Throwable", name := "fillInStackTrace", desc := "()Ljava/lang/Throwable;" } : Jvm.MethodName)) ∈ lw_all := lw_g (lw_at lw_m2 29 rfl) rfl
theorem q808 : (Jvm.Cond.instantiable "java/lang/NegativeArraySizeException" (6 : Nat)) ∈ lw_all := lw_g (lw_at lw_m4 21 rfl) rfl
theorem q809 : (Jvm.Cond.instanceMethod ({ cls := "java/lang/NegativeArraySizeException", name := "<init>", desc := "(Ljava/lang/String;)V" } : Jvm.MethodName)) ∈ lw_all := lw_g (lw_at lw_m4 22 rfl) rfl
theorem q810 : (Jvm.Cond.code ({ cls := "java/lang/NegativeArraySizeException", name := "<init>", desc := "(Ljava/lang/String;)V" } : Jvm.MethodName) prog_18_method_2_code (2 : Nat) (Option.none : Option Jvm.ClassFile.FieldType)) ∈ lw_all := lw_g (lw_at lw_m4 23 rfl) rfl
theorem q811 : (Jvm.Cond.methodLink "java/lang/NegativeArraySizeException" (7 : Nat) ({ cls := "java/lang/RuntimeException", name := "<init>", desc := "(Ljava/lang/String;)V" } : Jvm.MethodName)) ∈ lw_all := lw_g (lw_at lw_m4 24 rfl) rfl
theorem q820 : (Jvm.Cond.lays "java/lang/NegativeArraySizeException" "java/lang/Throwable" "backtrace" "Ljava/lang/Object;") ∈ lw_all := lw_g (lw_at lw_m4 33 rfl) rfl
theorem q821 : (Jvm.Cond.lays "java/lang/NegativeArraySizeException" "java/lang/Throwable" "detailMessage" "Ljava/lang/String;") ∈ lw_all := lw_g (lw_at lw_m4 34 rfl) rfl
theorem q822 : (Jvm.Cond.lays "java/lang/NegativeArraySizeException" "java/lang/Throwable" "cause" "Ljava/lang/Throwable;") ∈ lw_all := lw_g (lw_at lw_m4 35 rfl) rfl
theorem q823 : (Jvm.Cond.lays "java/lang/NegativeArraySizeException" "java/lang/Throwable" "stackTrace" "[Ljava/lang/StackTraceElement;") ∈ lw_all := lw_g (lw_at lw_m4 36 rfl) rfl
theorem q824 : (Jvm.Cond.lays "java/lang/NegativeArraySizeException" "java/lang/Throwable" "depth" "I") ∈ lw_all := lw_g (lw_at lw_m4 37 rfl) rfl
theorem q825 : (Jvm.Cond.lays "java/lang/NegativeArraySizeException" "java/lang/Throwable" "suppressedExceptions" "Ljava/util/List;") ∈ lw_all := lw_g (lw_at lw_m4 38 rfl) rfl
theorem q826 : (Jvm.Cond.superclass "java/lang/NegativeArraySizeException" "java/lang/RuntimeException") ∈ lw_all := lw_g (lw_at lw_m4 39 rfl) rfl
theorem q827 : (Jvm.Cond.castable "java/lang/NegativeArraySizeException" "java/lang/NegativeArraySizeException") ∈ lw_tbl := lw_at lw_m4 40 rfl
theorem q830 : (Jvm.Cond.selects "java/lang/NegativeArraySizeException" ({ cls := "java/lang/Throwable", name := "fillInStackTrace", desc := "(I)Ljava/lang/Throwable;" } : Jvm.MethodName) ({ cls := "java/lang/Throwable", name := "fillInStackTrace", desc := "(I)Ljava/lang/Throwable;" } : Jvm.MethodName)) ∈ lw_all := lw_g (lw_at lw_m4 43 rfl) rfl
theorem q89 : (Jvm.Cond.initialized "java/lang/NullPointerException") ∈ lw_all := lw_g (lw_at lw_m1 22 rfl) rfl
theorem q337 : (Jvm.Cond.selects "java/lang/NullPointerException" ({ cls := "java/lang/Throwable", name := "fillInStackTrace", desc := "()Ljava/lang/Throwable;" } : Jvm.MethodName) ({ cls := "java/lang/NullPointerException", name := "fillInStackTrace", desc := "()Ljava/lang/Throwable;" } : Jvm.MethodName)) ∈ lw_all := lw_g (lw_at lw_m2 30 rfl) rfl
theorem q338 : (Jvm.Cond.instanceMethod ({ cls := "java/lang/NullPointerException", name := "fillInStackTrace", desc := "()Ljava/lang/Throwable;" } : Jvm.MethodName)) ∈ lw_all := lw_g (lw_at lw_m2 31 rfl) rfl
theorem q339 : (Jvm.Cond.codeSync ({ cls := "java/lang/NullPointerException", name := "fillInStackTrace", desc := "()Ljava/lang/Throwable;" } : Jvm.MethodName) prog_19_method_3_code (1 : Nat) (Option.some (Jvm.ClassFile.FieldType.object "java/lang/Throwable"))) ∈ lw_all := lw_g (lw_at lw_m2 32 rfl) rfl
theorem q340 : (Jvm.Cond.methodLink "java/lang/NullPointerException" (16 : Nat) ({ cls := "java/lang/NullPointerException", name := "getExtendedNPEMessage", desc := "()Ljava/lang/String;" } : Jvm.MethodName)) ∈ lw_all := lw_g (lw_at lw_m2 33 rfl) rfl
theorem q341 : (Jvm.Cond.privateMethod ({ cls := "java/lang/NullPointerException", name := "getExtendedNPEMessage", desc := "()Ljava/lang/String;" } : Jvm.MethodName)) ∈ lw_tbl := lw_at lw_m2 34 rfl
theorem q342 : (Jvm.Cond.instanceMethod ({ cls := "java/lang/NullPointerException", name := "getExtendedNPEMessage", desc := "()Ljava/lang/String;" } : Jvm.MethodName)) ∈ lw_all := lw_g (lw_at lw_m2 35 rfl) rfl
theorem q343 : (Jvm.Cond.instantiable "java/lang/NullPointerException" (8 : Nat)) ∈ lw_all := lw_g (lw_at lw_m2 36 rfl) rfl
theorem q344 : (Jvm.Cond.native ({ cls := "java/lang/NullPointerException", name := "getExtendedNPEMessage", desc := "()Ljava/lang/String;" } : Jvm.MethodName)) ∈ lw_all := lw_g (lw_at lw_m2 37 rfl) rfl
theorem q345 : (Jvm.Cond.methodLink "java/lang/NullPointerException" (24 : Nat) ({ cls := "java/lang/RuntimeException", name := "fillInStackTrace", desc := "()Ljava/lang/Throwable;" } : Jvm.MethodName)) ∈ lw_all := lw_g (lw_at lw_m2 38 rfl) rfl
theorem q348 : (Jvm.Cond.superclass "java/lang/NullPointerException" "java/lang/RuntimeException") ∈ lw_all := lw_g (lw_at lw_m2 41 rfl) rfl
theorem q845 : (Jvm.Cond.instanceMethod ({ cls := "java/lang/NullPointerException", name := "<init>", desc := "()V" } : Jvm.MethodName)) ∈ lw_all := lw_g (lw_at lw_m4 58 rfl) rfl
theorem q846 : (Jvm.Cond.code ({ cls := "java/lang/NullPointerException", name := "<init>", desc := "()V" } : Jvm.MethodName) prog_19_method_1_code (1 : Nat) (Option.none : Option Jvm.ClassFile.FieldType)) ∈ lw_all := lw_g (lw_at lw_m4 59 rfl) rfl
theorem q847 : (Jvm.Cond.methodLink "java/lang/NullPointerException" (1 : Nat) ({ cls := "java/lang/RuntimeException", name := "<init>", desc := "()V" } : Jvm.MethodName)) ∈ lw_all := lw_g (lw_at lw_m4 60 rfl) rfl
theorem q854 : (Jvm.Cond.fieldLink "java/lang/NullPointerException" (10 : Nat) "java/lang/NullPointerException" "extendedMessageState" "I") ∈ lw_all := lw_g (lw_at lw_m4 67 rfl) rfl
theorem q855 : (Jvm.Cond.fieldLink "java/lang/NullPointerException" (20 : Nat) "java/lang/NullPointerException" "extendedMessage" "Ljava/lang/String;") ∈ lw_all := lw_g (lw_at lw_m4 68 rfl) rfl
theorem q856 : (Jvm.Cond.lays "java/lang/NullPointerException" "java/lang/NullPointerException" "extendedMessageState" "I") ∈ lw_all := lw_g (lw_at lw_m4 69 rfl) rfl
theorem q857 : (Jvm.Cond.soleField "java/lang/NullPointerException" "extendedMessageState") ∈ lw_all := lw_g (lw_at lw_m4 70 rfl) rfl
theorem q858 : (Jvm.Cond.lays "java/lang/NullPointerException" "java/lang/NullPointerException" "extendedMessage" "Ljava/lang/String;") ∈ lw_all := lw_g (lw_at lw_m4 71 rfl) rfl
theorem q859 : (Jvm.Cond.soleField "java/lang/NullPointerException" "extendedMessage") ∈ lw_all := lw_g (lw_at lw_m4 72 rfl) rfl
theorem q860 : (Jvm.Cond.lays "java/lang/NullPointerException" "java/lang/Throwable" "backtrace" "Ljava/lang/Object;") ∈ lw_all := lw_g (lw_at lw_m4 73 rfl) rfl
theorem q861 : (Jvm.Cond.lays "java/lang/NullPointerException" "java/lang/Throwable" "detailMessage" "Ljava/lang/String;") ∈ lw_all := lw_g (lw_at lw_m4 74 rfl) rfl
theorem q862 : (Jvm.Cond.lays "java/lang/NullPointerException" "java/lang/Throwable" "cause" "Ljava/lang/Throwable;") ∈ lw_all := lw_g (lw_at lw_m4 75 rfl) rfl
theorem q863 : (Jvm.Cond.lays "java/lang/NullPointerException" "java/lang/Throwable" "stackTrace" "[Ljava/lang/StackTraceElement;") ∈ lw_all := lw_g (lw_at lw_m4 76 rfl) rfl
theorem q864 : (Jvm.Cond.lays "java/lang/NullPointerException" "java/lang/Throwable" "depth" "I") ∈ lw_all := lw_g (lw_at lw_m4 77 rfl) rfl
theorem q865 : (Jvm.Cond.lays "java/lang/NullPointerException" "java/lang/Throwable" "suppressedExceptions" "Ljava/util/List;") ∈ lw_all := lw_g (lw_at lw_m4 78 rfl) rfl
theorem q866 : (Jvm.Cond.castable "java/lang/NullPointerException" "java/lang/NullPointerException") ∈ lw_tbl := lw_at lw_m4 79 rfl
theorem q867 : (Jvm.Cond.selects "java/lang/NullPointerException" ({ cls := "java/lang/Throwable", name := "fillInStackTrace", desc := "(I)Ljava/lang/Throwable;" } : Jvm.MethodName) ({ cls := "java/lang/Throwable", name := "fillInStackTrace", desc := "(I)Ljava/lang/Throwable;" } : Jvm.MethodName)) ∈ lw_all := lw_g (lw_at lw_m4 80 rfl) rfl
theorem q90 : (Jvm.Cond.initialized "java/lang/IndexOutOfBoundsException") ∈ lw_all := lw_g (lw_at lw_m1 23 rfl) rfl
theorem q874 : (Jvm.Cond.instanceMethod ({ cls := "java/lang/IndexOutOfBoundsException", name := "<init>", desc := "(Ljava/lang/String;)V" } : Jvm.MethodName)) ∈ lw_all := lw_g (lw_at lw_m4 87 rfl) rfl
theorem q875 : (Jvm.Cond.code ({ cls := "java/lang/IndexOutOfBoundsException", name := "<init>", desc := "(Ljava/lang/String;)V" } : Jvm.MethodName) prog_15_method_2_code (2 : Nat) (Option.none : Option Jvm.ClassFile.FieldType)) ∈ lw_all := lw_g (lw_at lw_m4 88 rfl) rfl
theorem q876 : (Jvm.Cond.methodLink "java/lang/IndexOutOfBoundsException" (7 : Nat) ({ cls := "java/lang/RuntimeException", name := "<init>", desc := "(Ljava/lang/String;)V" } : Jvm.MethodName)) ∈ lw_all := lw_g (lw_at lw_m4 89 rfl) rfl
theorem q885 : (Jvm.Cond.declares ({ cls := "java/lang/IndexOutOfBoundsException", name := "<init>", desc := "()V" } : Jvm.MethodName)) ∈ lw_tbl := lw_at lw_m4 98 rfl
theorem q886 : (Jvm.Cond.declares ({ cls := "java/lang/IndexOutOfBoundsException", name := "<init>", desc := "(Ljava/lang/String;)V" } : Jvm.MethodName)) ∈ lw_tbl := lw_at lw_m4 99 rfl
theorem q91 : (Jvm.Cond.initialized "java/lang/ArrayIndexOutOfBoundsException") ∈ lw_all := lw_g (lw_at lw_m1 24 rfl) rfl
theorem q334 : (Jvm.Cond.selects "java/lang/ArrayIndexOutOfBoundsException" ({ cls := "java/lang/Throwable", name := "fillInStackTrace", desc := "()Ljava/lang/Throwable;" } : Jvm.MethodName) ({ cls := "java/lang/Throwable", name := "fillInStackTrace", desc := "()Ljava/lang/Throwable;" } : Jvm.MethodName)) ∈ lw_all := lw_g (lw_at lw_m2 27 rfl) rfl
theorem q870 : (Jvm.Cond.instantiable "java/lang/ArrayIndexOutOfBoundsException" (6 : Nat)) ∈ lw_all := lw_g (lw_at lw_m4 83 rfl) rfl
theorem q871 : (Jvm.Cond.instanceMethod ({ cls := "java/lang/ArrayIndexOutOfBoundsException", name := "<init>", desc := "(Ljava/lang/String;)V" } : Jvm.MethodName)) ∈ lw_all := lw_g (lw_at lw_m4 84 rfl) rfl
theorem q872 : (Jvm.Cond.code ({ cls := "java/lang/ArrayIndexOutOfBoundsException", name := "<init>", desc := "(Ljava/lang/String;)V" } : Jvm.MethodName) prog_12_method_2_code (2 : Nat) (Option.none : Option Jvm.ClassFile.FieldType)) ∈ lw_all := lw_g (lw_at lw_m4 85 rfl) rfl
theorem q873 : (Jvm.Cond.methodLink "java/lang/ArrayIndexOutOfBoundsException" (7 : Nat) ({ cls := "java/lang/IndexOutOfBoundsException", name := "<init>", desc := "(Ljava/lang/String;)V" } : Jvm.MethodName)) ∈ lw_all := lw_g (lw_at lw_m4 86 rfl) rfl
theorem q877 : (Jvm.Cond.lays "java/lang/ArrayIndexOutOfBoundsException" "java/lang/Throwable" "backtrace" "Ljava/lang/Object;") ∈ lw_all := lw_g (lw_at lw_m4 90 rfl) rfl
theorem q878 : (Jvm.Cond.lays "java/lang/ArrayIndexOutOfBoundsException" "java/lang/Throwable" "detailMessage" "Ljava/lang/String;") ∈ lw_all := lw_g (lw_at lw_m4 91 rfl) rfl
theorem q879 : (Jvm.Cond.lays "java/lang/ArrayIndexOutOfBoundsException" "java/lang/Throwable" "cause" "Ljava/lang/Throwable;") ∈ lw_all := lw_g (lw_at lw_m4 92 rfl) rfl
theorem q880 : (Jvm.Cond.lays "java/lang/ArrayIndexOutOfBoundsException" "java/lang/Throwable" "stackTrace" "[Ljava/lang/StackTraceElement;") ∈ lw_all := lw_g (lw_at lw_m4 93 rfl) rfl
theorem q881 : (Jvm.Cond.lays "java/lang/ArrayIndexOutOfBoundsException" "java/lang/Throwable" "depth" "I") ∈ lw_all := lw_g (lw_at lw_m4 94 rfl) rfl
theorem q882 : (Jvm.Cond.lays "java/lang/ArrayIndexOutOfBoundsException" "java/lang/Throwable" "suppressedExceptions" "Ljava/util/List;") ∈ lw_all := lw_g (lw_at lw_m4 95 rfl) rfl
theorem q883 : (Jvm.Cond.superclass "java/lang/ArrayIndexOutOfBoundsException" "java/lang/IndexOutOfBoundsException") ∈ lw_all := lw_g (lw_at lw_m4 96 rfl) rfl
theorem q884 : (Jvm.Cond.castable "java/lang/ArrayIndexOutOfBoundsException" "java/lang/ArrayIndexOutOfBoundsException") ∈ lw_tbl := lw_at lw_m4 97 rfl
theorem q887 : (Jvm.Cond.selects "java/lang/ArrayIndexOutOfBoundsException" ({ cls := "java/lang/Throwable", name := "fillInStackTrace", desc := "(I)Ljava/lang/Throwable;" } : Jvm.MethodName) ({ cls := "java/lang/Throwable", name := "fillInStackTrace", desc := "(I)Ljava/lang/Throwable;" } : Jvm.MethodName)) ∈ lw_all := lw_g (lw_at lw_m4 100 rfl) rfl
theorem q1359 : (Jvm.Cond.castable "java/lang/ArrayIndexOutOfBoundsException" "java/lang/IndexOutOfBoundsException") ∈ lw_tbl := lw_at lw_m6 92 rfl
theorem q92 : (Jvm.Cond.initialized "java/lang/ClassCastException") ∈ lw_all := lw_g (lw_at lw_m1 25 rfl) rfl
theorem q335 : (Jvm.Cond.selects "java/lang/ClassCastException" ({ cls := "java/lang/Throwable", name := "fillInStackTrace", desc := "()Ljava/lang/Throwable;" } : Jvm.MethodName) ({ cls := "java/lang/Throwable", name := "fillInStackTrace", desc := "()Ljava/lang/Throwable;" } : Jvm.MethodName)) ∈ lw_all := lw_g (lw_at lw_m2 28 rfl) rfl
theorem q896 : (Jvm.Cond.instantiable "java/lang/ClassCastException" (6 : Nat)) ∈ lw_all := lw_g (lw_at lw_m4 109 rfl) rfl
theorem q897 : (Jvm.Cond.instanceMethod ({ cls := "java/lang/ClassCastException", name := "<init>", desc := "(Ljava/lang/String;)V" } : Jvm.MethodName)) ∈ lw_all := lw_g (lw_at lw_m4 110 rfl) rfl
theorem q898 : (Jvm.Cond.code ({ cls := "java/lang/ClassCastException", name := "<init>", desc := "(Ljava/lang/String;)V" } : Jvm.MethodName) prog_13_method_2_code (2 : Nat) (Option.none : Option Jvm.ClassFile.FieldType)) ∈ lw_all := lw_g (lw_at lw_m4 111 rfl) rfl
theorem q899 : (Jvm.Cond.methodLink "java/lang/ClassCastException" (7 : Nat) ({ cls := "java/lang/RuntimeException", name := "<init>", desc := "(Ljava/lang/String;)V" } : Jvm.MethodName)) ∈ lw_all := lw_g (lw_at lw_m4 112 rfl) rfl
theorem q900 : (Jvm.Cond.lays "java/lang/ClassCastException" "java/lang/Throwable" "backtrace" "Ljava/lang/Object;") ∈ lw_all := lw_g (lw_at lw_m4 113 rfl) rfl
theorem q901 : (Jvm.Cond.lays "java/lang/ClassCastException" "java/lang/Throwable" "detailMessage" "Ljava/lang/String;") ∈ lw_all := lw_g (lw_at lw_m4 114 rfl) rfl
theorem q902 : (Jvm.Cond.lays "java/lang/ClassCastException" "java/lang/Throwable" "cause" "Ljava/lang/Throwable;") ∈ lw_all := lw_g (lw_at lw_m4 115 rfl) rfl
theorem q903 : (Jvm.Cond.lays "java/lang/ClassCastException" "java/lang/Throwable" "stackTrace" "[Ljava/lang/StackTraceElement;") ∈ lw_all := lw_g (lw_at lw_m4 116 rfl) rfl
theorem q904 : (Jvm.Cond.lays "java/lang/ClassCastException" "java/lang/Throwable" "depth" "I") ∈ lw_all := lw_g (lw_at lw_m4 117 rfl) rfl
theorem q905 : (Jvm.Cond.lays "java/lang/ClassCastException" "java/lang/Throwable" "suppressedExceptions" "Ljava/util/List;") ∈ lw_all := lw_g (lw_at lw_m4 118 rfl) rfl
theorem q906 : (Jvm.Cond.superclass "java/lang/ClassCastException" "java/lang/RuntimeException") ∈ lw_all := lw_g (lw_at lw_m4 119 rfl) rfl
theorem q907 : (Jvm.Cond.castable "java/lang/ClassCastException" "java/lang/ClassCastException") ∈ lw_tbl := lw_at lw_m4 120 rfl
theorem q908 : (Jvm.Cond.selects "java/lang/ClassCastException" ({ cls := "java/lang/Throwable", name := "fillInStackTrace", desc := "(I)Ljava/lang/Throwable;" } : Jvm.MethodName) ({ cls := "java/lang/Throwable", name := "fillInStackTrace", desc := "(I)Ljava/lang/Throwable;" } : Jvm.MethodName)) ∈ lw_all := lw_g (lw_at lw_m4 121 rfl) rfl
theorem q99 : (Jvm.Cond.instanceMethod ({ cls := "java/lang/Object", name := "<init>", desc := "()V" } : Jvm.MethodName)) ∈ lw_all := lw_g (lw_at lw_m1 32 rfl) rfl
theorem q100 : (Jvm.Cond.code ({ cls := "java/lang/Object", name := "<init>", desc := "()V" } : Jvm.MethodName) object_method_1_code (1 : Nat) (Option.none : Option Jvm.ClassFile.FieldType)) ∈ lw_all := lw_g (lw_at lw_m1 33 rfl) rfl
theorem q67 : (Jvm.Cond.initialized "OmenLineLaw") ∈ lw_all := lw_g (lw_at lw_m1 0 rfl) rfl
theorem q93 : (Jvm.Cond.classLink "OmenLineLaw" (7 : Nat) "OmenLine") ∈ lw_all := lw_g (lw_at lw_m1 26 rfl) rfl
theorem q95 : (Jvm.Cond.methodLink "OmenLineLaw" (9 : Nat) ({ cls := "OmenLine", name := "<init>", desc := "()V" } : Jvm.MethodName)) ∈ lw_all := lw_g (lw_at lw_m1 28 rfl) rfl
theorem q266 : (Jvm.Cond.methodLink "OmenLineLaw" (13 : Nat) ({ cls := "OmenLine", name := "feed", desc := "(I)I" } : Jvm.MethodName)) ∈ lw_all := lw_g (lw_at lw_m1 199 rfl) rfl
theorem q274 : (Jvm.Cond.methodLink "OmenLineLaw" (18 : Nat) ({ cls := "OmenLine", name := "end", desc := "(I)I" } : Jvm.MethodName)) ∈ lw_all := lw_g (lw_at lw_m1 207 rfl) rfl
theorem q278 : (Jvm.Cond.methodLink "OmenLineLaw" (22 : Nat) ({ cls := "OmenLine", name := "text", desc := "()I" } : Jvm.MethodName)) ∈ lw_all := lw_g (lw_at lw_m1 211 rfl) rfl
theorem q563 : (Jvm.Cond.methodLink "OmenLineLaw" (27 : Nat) ({ cls := "OmenLine", name := "fault", desc := "()I" } : Jvm.MethodName)) ∈ lw_all := lw_g (lw_at lw_m3 16 rfl) rfl
theorem q567 : (Jvm.Cond.methodLink "OmenLineLaw" (31 : Nat) ({ cls := "OmenLine", name := "rule", desc := "(I)I" } : Jvm.MethodName)) ∈ lw_all := lw_g (lw_at lw_m3 20 rfl) rfl
theorem q575 : (Jvm.Cond.methodLink "OmenLineLaw" (35 : Nat) ({ cls := "OmenLine", name := "block", desc := "(II)I" } : Jvm.MethodName)) ∈ lw_all := lw_g (lw_at lw_m3 28 rfl) rfl
theorem q584 : (Jvm.Cond.methodLink "OmenLineLaw" (40 : Nat) ({ cls := "OmenLine", name := "lock", desc := "(II)I" } : Jvm.MethodName)) ∈ lw_all := lw_g (lw_at lw_m3 37 rfl) rfl
theorem q591 : (Jvm.Cond.methodLink "OmenLineLaw" (44 : Nat) ({ cls := "OmenLine", name := "train", desc := "(II)I" } : Jvm.MethodName)) ∈ lw_all := lw_g (lw_at lw_m3 44 rfl) rfl
theorem q604 : (Jvm.Cond.methodLink "OmenLineLaw" (48 : Nat) ({ cls := "OmenLine", name := "waits", desc := "(II)I" } : Jvm.MethodName)) ∈ lw_all := lw_g (lw_at lw_m3 57 rfl) rfl
theorem q627 : (Jvm.Cond.methodLink "OmenLineLaw" (52 : Nat) ({ cls := "OmenLine", name := "hang", desc := "(II)I" } : Jvm.MethodName)) ∈ lw_all := lw_g (lw_at lw_m3 80 rfl) rfl
theorem q640 : (Jvm.Cond.methodLink "OmenLineLaw" (56 : Nat) ({ cls := "OmenLine", name := "guard", desc := "(IZ)I" } : Jvm.MethodName)) ∈ lw_all := lw_g (lw_at lw_m3 93 rfl) rfl
theorem q644 : (Jvm.Cond.methodLink "OmenLineLaw" (61 : Nat) ({ cls := "OmenLine", name := "set", desc := "(III)I" } : Jvm.MethodName)) ∈ lw_all := lw_g (lw_at lw_m3 97 rfl) rfl
theorem q649 : (Jvm.Cond.methodLink "OmenLineLaw" (66 : Nat) ({ cls := "OmenLine", name := "home", desc := "(I)I" } : Jvm.MethodName)) ∈ lw_all := lw_g (lw_at lw_m3 102 rfl) rfl
theorem q674 : (Jvm.Cond.methodLink "OmenLineLaw" (70 : Nat) ({ cls := "OmenLine", name := "at", desc := "(II)I" } : Jvm.MethodName)) ∈ lw_all := lw_g (lw_at lw_m3 127 rfl) rfl
theorem q682 : (Jvm.Cond.methodLink "OmenLineLaw" (74 : Nat) ({ cls := "OmenLine", name := "bump", desc := "(I)I" } : Jvm.MethodName)) ∈ lw_all := lw_g (lw_at lw_m3 135 rfl) rfl
theorem q686 : (Jvm.Cond.methodLink "OmenLineLaw" (78 : Nat) ({ cls := "OmenLine", name := "sum", desc := "(I)I" } : Jvm.MethodName)) ∈ lw_all := lw_g (lw_at lw_m3 139 rfl) rfl
theorem q698 : (Jvm.Cond.methodLink "OmenLineLaw" (82 : Nat) ({ cls := "OmenLine", name := "fewest", desc := "(I)I" } : Jvm.MethodName)) ∈ lw_all := lw_g (lw_at lw_m3 151 rfl) rfl
theorem q713 : (Jvm.Cond.methodLink "OmenLineLaw" (86 : Nat) ({ cls := "OmenLine", name := "guards", desc := "(I)I" } : Jvm.MethodName)) ∈ lw_all := lw_g (lw_at lw_m3 166 rfl) rfl
theorem q717 : (Jvm.Cond.methodLink "OmenLineLaw" (90 : Nat) ({ cls := "OmenLine", name := "magpies", desc := "(I)I" } : Jvm.MethodName)) ∈ lw_all := lw_g (lw_at lw_m3 170 rfl) rfl
theorem q725 : (Jvm.Cond.methodLink "OmenLineLaw" (94 : Nat) ({ cls := "OmenLine", name := "starts", desc := "(I)I" } : Jvm.MethodName)) ∈ lw_all := lw_g (lw_at lw_m3 178 rfl) rfl
theorem q736 : (Jvm.Cond.methodLink "OmenLineLaw" (98 : Nat) ({ cls := "OmenLine", name := "allowed", desc := "(I)I" } : Jvm.MethodName)) ∈ lw_all := lw_g (lw_at lw_m3 189 rfl) rfl
theorem q741 : (Jvm.Cond.methodLink "OmenLineLaw" (102 : Nat) ({ cls := "OmenLine", name := "convert", desc := "(I)I" } : Jvm.MethodName)) ∈ lw_all := lw_g (lw_at lw_m3 194 rfl) rfl
theorem q748 : (Jvm.Cond.methodLink "OmenLineLaw" (106 : Nat) ({ cls := "OmenLine", name := "mean", desc := "(II)J" } : Jvm.MethodName)) ∈ lw_all := lw_g (lw_at lw_m3 201 rfl) rfl
theorem q761 : (Jvm.Cond.methodLink "OmenLineLaw" (111 : Nat) ({ cls := "OmenLine", name := "luck", desc := "(II)J" } : Jvm.MethodName)) ∈ lw_all := lw_g (lw_at lw_m3 214 rfl) rfl
theorem q765 : (Jvm.Cond.methodLink "OmenLineLaw" (115 : Nat) ({ cls := "OmenLine", name := "see", desc := "(III)I" } : Jvm.MethodName)) ∈ lw_all := lw_g (lw_at lw_m3 218 rfl) rfl
theorem q769 : (Jvm.Cond.methodLink "OmenLineLaw" (119 : Nat) ({ cls := "OmenLine", name := "forget", desc := "(I)I" } : Jvm.MethodName)) ∈ lw_all := lw_g (lw_at lw_m3 222 rfl) rfl
theorem q773 : (Jvm.Cond.methodLink "OmenLineLaw" (123 : Nat) ({ cls := "OmenLine", name := "fits", desc := "(I)I" } : Jvm.MethodName)) ∈ lw_all := lw_g (lw_at lw_m3 226 rfl) rfl
theorem q781 : (Jvm.Cond.methodLink "OmenLineLaw" (127 : Nat) ({ cls := "OmenLine", name := "look", desc := "(II)I" } : Jvm.MethodName)) ∈ lw_all := lw_g (lw_at lw_m3 234 rfl) rfl
theorem q789 : (Jvm.Cond.methodLink "OmenLineLaw" (131 : Nat) ({ cls := "OmenLine", name := "drift", desc := "(III)I" } : Jvm.MethodName)) ∈ lw_all := lw_g (lw_at lw_m4 2 rfl) rfl
theorem q795 : (Jvm.Cond.methodLink "OmenLineLaw" (135 : Nat) ({ cls := "OmenLine", name := "keep", desc := "(I)I" } : Jvm.MethodName)) ∈ lw_all := lw_g (lw_at lw_m4 8 rfl) rfl
theorem q799 : (Jvm.Cond.methodLink "OmenLineLaw" (139 : Nat) ({ cls := "OmenLine", name := "back", desc := "(I)I" } : Jvm.MethodName)) ∈ lw_all := lw_g (lw_at lw_m4 12 rfl) rfl
theorem q803 : (Jvm.Cond.methodLink "OmenLineLaw" (143 : Nat) ({ cls := "OmenLine", name := "sheet", desc := "(III)I" } : Jvm.MethodName)) ∈ lw_all := lw_g (lw_at lw_m4 16 rfl) rfl
theorem q840 : (Jvm.Cond.methodLink "OmenLineLaw" (147 : Nat) ({ cls := "OmenLine", name := "lay", desc := "(III)I" } : Jvm.MethodName)) ∈ lw_all := lw_g (lw_at lw_m4 53 rfl) rfl
theorem q891 : (Jvm.Cond.methodLink "OmenLineLaw" (151 : Nat) ({ cls := "OmenLine", name := "read", desc := "(IIII)I" } : Jvm.MethodName)) ∈ lw_all := lw_g (lw_at lw_m4 104 rfl) rfl
theorem q914 : (Jvm.Cond.methodLink "OmenLineLaw" (156 : Nat) ({ cls := "OmenLine", name := "torn", desc := "()I" } : Jvm.MethodName)) ∈ lw_all := lw_g (lw_at lw_m4 127 rfl) rfl
theorem q918 : (Jvm.Cond.methodLink "OmenLineLaw" (160 : Nat) ({ cls := "OmenLine", name := "count", desc := "(I)I" } : Jvm.MethodName)) ∈ lw_all := lw_g (lw_at lw_m4 131 rfl) rfl
theorem q922 : (Jvm.Cond.classLink "OmenLineLaw" (10 : Nat) "OmenLineModel") ∈ lw_all := lw_g (lw_at lw_m4 135 rfl) rfl
theorem q924 : (Jvm.Cond.methodLink "OmenLineLaw" (12 : Nat) ({ cls := "OmenLineModel", name := "<init>", desc := "()V" } : Jvm.MethodName)) ∈ lw_all := lw_g (lw_at lw_m4 137 rfl) rfl
theorem q1064 : (Jvm.Cond.methodLink "OmenLineLaw" (17 : Nat) ({ cls := "OmenLineModel", name := "feed", desc := "(I)I" } : Jvm.MethodName)) ∈ lw_all := lw_g (lw_at lw_m5 37 rfl) rfl
theorem q1072 : (Jvm.Cond.methodLink "OmenLineLaw" (21 : Nat) ({ cls := "OmenLineModel", name := "end", desc := "(I)I" } : Jvm.MethodName)) ∈ lw_all := lw_g (lw_at lw_m5 45 rfl) rfl
theorem q1076 : (Jvm.Cond.methodLink "OmenLineLaw" (26 : Nat) ({ cls := "OmenLineModel", name := "text", desc := "()I" } : Jvm.MethodName)) ∈ lw_all := lw_g (lw_at lw_m5 49 rfl) rfl
theorem q1131 : (Jvm.Cond.methodLink "OmenLineLaw" (30 : Nat) ({ cls := "OmenLineModel", name := "fault", desc := "()I" } : Jvm.MethodName)) ∈ lw_all := lw_g (lw_at lw_m5 104 rfl) rfl
theorem q1135 : (Jvm.Cond.methodLink "OmenLineLaw" (34 : Nat) ({ cls := "OmenLineModel", name := "rule", desc := "(I)I" } : Jvm.MethodName)) ∈ lw_all := lw_g (lw_at lw_m5 108 rfl) rfl
theorem q1143 : (Jvm.Cond.methodLink "OmenLineLaw" (39 : Nat) ({ cls := "OmenLineModel", name := "block", desc := "(II)I" } : Jvm.MethodName)) ∈ lw_all := lw_g (lw_at lw_m5 116 rfl) rfl
theorem q1156 : (Jvm.Cond.methodLink "OmenLineLaw" (43 : Nat) ({ cls := "OmenLineModel", name := "lock", desc := "(II)I" } : Jvm.MethodName)) ∈ lw_all := lw_g (lw_at lw_m5 129 rfl) rfl
theorem q1160 : (Jvm.Cond.methodLink "OmenLineLaw" (47 : Nat) ({ cls := "OmenLineModel", name := "train", desc := "(II)I" } : Jvm.MethodName)) ∈ lw_all := lw_g (lw_at lw_m5 133 rfl) rfl
theorem q1169 : (Jvm.Cond.methodLink "OmenLineLaw" (51 : Nat) ({ cls := "OmenLineModel", name := "waits", desc := "(II)I" } : Jvm.MethodName)) ∈ lw_all := lw_g (lw_at lw_m5 142 rfl) rfl
theorem q1173 : (Jvm.Cond.methodLink "OmenLineLaw" (55 : Nat) ({ cls := "OmenLineModel", name := "hang", desc := "(II)I" } : Jvm.MethodName)) ∈ lw_all := lw_g (lw_at lw_m5 146 rfl) rfl
theorem q1181 : (Jvm.Cond.methodLink "OmenLineLaw" (60 : Nat) ({ cls := "OmenLineModel", name := "guard", desc := "(IZ)I" } : Jvm.MethodName)) ∈ lw_all := lw_g (lw_at lw_m5 154 rfl) rfl
theorem q1185 : (Jvm.Cond.methodLink "OmenLineLaw" (65 : Nat) ({ cls := "OmenLineModel", name := "set", desc := "(III)I" } : Jvm.MethodName)) ∈ lw_all := lw_g (lw_at lw_m5 158 rfl) rfl
theorem q1190 : (Jvm.Cond.methodLink "OmenLineLaw" (69 : Nat) ({ cls := "OmenLineModel", name := "home", desc := "(I)I" } : Jvm.MethodName)) ∈ lw_all := lw_g (lw_at lw_m5 163 rfl) rfl
theorem q1214 : (Jvm.Cond.methodLink "OmenLineLaw" (73 : Nat) ({ cls := "OmenLineModel", name := "at", desc := "(II)I" } : Jvm.MethodName)) ∈ lw_all := lw_g (lw_at lw_m5 187 rfl) rfl
theorem q1219 : (Jvm.Cond.methodLink "OmenLineLaw" (77 : Nat) ({ cls := "OmenLineModel", name := "bump", desc := "(I)I" } : Jvm.MethodName)) ∈ lw_all := lw_g (lw_at lw_m5 192 rfl) rfl
theorem q1223 : (Jvm.Cond.methodLink "OmenLineLaw" (81 : Nat) ({ cls := "OmenLineModel", name := "sum", desc := "(I)I" } : Jvm.MethodName)) ∈ lw_all := lw_g (lw_at lw_m5 196 rfl) rfl
theorem q1235 : (Jvm.Cond.methodLink "OmenLineLaw" (85 : Nat) ({ cls := "OmenLineModel", name := "fewest", desc := "(I)I" } : Jvm.MethodName)) ∈ lw_all := lw_g (lw_at lw_m5 208 rfl) rfl
theorem q1246 : (Jvm.Cond.methodLink "OmenLineLaw" (89 : Nat) ({ cls := "OmenLineModel", name := "guards", desc := "(I)I" } : Jvm.MethodName)) ∈ lw_all := lw_g (lw_at lw_m5 219 rfl) rfl
theorem q1251 : (Jvm.Cond.methodLink "OmenLineLaw" (93 : Nat) ({ cls := "OmenLineModel", name := "magpies", desc := "(I)I" } : Jvm.MethodName)) ∈ lw_all := lw_g (lw_at lw_m5 224 rfl) rfl
theorem q1267 : (Jvm.Cond.methodLink "OmenLineLaw" (97 : Nat) ({ cls := "OmenLineModel", name := "starts", desc := "(I)I" } : Jvm.MethodName)) ∈ lw_all := lw_g (lw_at lw_m6 0 rfl) rfl
theorem q1275 : (Jvm.Cond.methodLink "OmenLineLaw" (101 : Nat) ({ cls := "OmenLineModel", name := "allowed", desc := "(I)I" } : Jvm.MethodName)) ∈ lw_all := lw_g (lw_at lw_m6 8 rfl) rfl
theorem q1279 : (Jvm.Cond.methodLink "OmenLineLaw" (105 : Nat) ({ cls := "OmenLineModel", name := "convert", desc := "(I)I" } : Jvm.MethodName)) ∈ lw_all := lw_g (lw_at lw_m6 12 rfl) rfl
theorem q1283 : (Jvm.Cond.methodLink "OmenLineLaw" (110 : Nat) ({ cls := "OmenLineModel", name := "mean", desc := "(II)J" } : Jvm.MethodName)) ∈ lw_all := lw_g (lw_at lw_m6 16 rfl) rfl
theorem q1295 : (Jvm.Cond.methodLink "OmenLineLaw" (114 : Nat) ({ cls := "OmenLineModel", name := "luck", desc := "(II)J" } : Jvm.MethodName)) ∈ lw_all := lw_g (lw_at lw_m6 28 rfl) rfl
theorem q1299 : (Jvm.Cond.methodLink "OmenLineLaw" (118 : Nat) ({ cls := "OmenLineModel", name := "see", desc := "(III)I" } : Jvm.MethodName)) ∈ lw_all := lw_g (lw_at lw_m6 32 rfl) rfl
theorem q1303 : (Jvm.Cond.methodLink "OmenLineLaw" (122 : Nat) ({ cls := "OmenLineModel", name := "forget", desc := "(I)I" } : Jvm.MethodName)) ∈ lw_all := lw_g (lw_at lw_m6 36 rfl) rfl
theorem q1307 : (Jvm.Cond.methodLink "OmenLineLaw" (126 : Nat) ({ cls := "OmenLineModel", name := "fits", desc := "(I)I" } : Jvm.MethodName)) ∈ lw_all := lw_g (lw_at lw_m6 40 rfl) rfl
theorem q1315 : (Jvm.Cond.methodLink "OmenLineLaw" (130 : Nat) ({ cls := "OmenLineModel", name := "look", desc := "(II)I" } : Jvm.MethodName)) ∈ lw_all := lw_g (lw_at lw_m6 48 rfl) rfl
theorem q1319 : (Jvm.Cond.methodLink "OmenLineLaw" (134 : Nat) ({ cls := "OmenLineModel", name := "drift", desc := "(III)I" } : Jvm.MethodName)) ∈ lw_all := lw_g (lw_at lw_m6 52 rfl) rfl
theorem q1329 : (Jvm.Cond.methodLink "OmenLineLaw" (138 : Nat) ({ cls := "OmenLineModel", name := "keep", desc := "(I)I" } : Jvm.MethodName)) ∈ lw_all := lw_g (lw_at lw_m6 62 rfl) rfl
theorem q1333 : (Jvm.Cond.methodLink "OmenLineLaw" (142 : Nat) ({ cls := "OmenLineModel", name := "back", desc := "(I)I" } : Jvm.MethodName)) ∈ lw_all := lw_g (lw_at lw_m6 66 rfl) rfl
theorem q1337 : (Jvm.Cond.methodLink "OmenLineLaw" (146 : Nat) ({ cls := "OmenLineModel", name := "sheet", desc := "(III)I" } : Jvm.MethodName)) ∈ lw_all := lw_g (lw_at lw_m6 70 rfl) rfl
theorem q1341 : (Jvm.Cond.methodLink "OmenLineLaw" (150 : Nat) ({ cls := "OmenLineModel", name := "lay", desc := "(III)I" } : Jvm.MethodName)) ∈ lw_all := lw_g (lw_at lw_m6 74 rfl) rfl
theorem q1345 : (Jvm.Cond.methodLink "OmenLineLaw" (155 : Nat) ({ cls := "OmenLineModel", name := "read", desc := "(IIII)I" } : Jvm.MethodName)) ∈ lw_all := lw_g (lw_at lw_m6 78 rfl) rfl
theorem q1349 : (Jvm.Cond.methodLink "OmenLineLaw" (159 : Nat) ({ cls := "OmenLineModel", name := "torn", desc := "()I" } : Jvm.MethodName)) ∈ lw_all := lw_g (lw_at lw_m6 82 rfl) rfl
theorem q1353 : (Jvm.Cond.methodLink "OmenLineLaw" (163 : Nat) ({ cls := "OmenLineModel", name := "count", desc := "(I)I" } : Jvm.MethodName)) ∈ lw_all := lw_g (lw_at lw_m6 86 rfl) rfl
theorem q85 : (Jvm.Cond.initialized "java/lang/System") ∈ lw_all := lw_g (lw_at lw_m1 18 rfl) rfl
theorem q560 : (Jvm.Cond.static ({ cls := "java/lang/System", name := "arraycopy", desc := "(Ljava/lang/Object;ILjava/lang/Object;II)V" } : Jvm.MethodName)) ∈ lw_all := lw_g (lw_at lw_m3 13 rfl) rfl
theorem q561 : (Jvm.Cond.native ({ cls := "java/lang/System", name := "arraycopy", desc := "(Ljava/lang/Object;ILjava/lang/Object;II)V" } : Jvm.MethodName)) ∈ lw_all := lw_g (lw_at lw_m3 14 rfl) rfl
theorem q102 : (Jvm.Cond.arrayOver (Jvm.ClassFile.FieldType.object "OmenLine$Plain")) ∈ lw_tbl := lw_at lw_m1 35 rfl
theorem q162 : (Jvm.Cond.arrayClass Jvm.ClassFile.FieldType.byte) ∈ lw_all := lw_g (lw_at lw_m1 95 rfl) rfl
theorem q163 : (Jvm.Cond.arrayOver (Jvm.ClassFile.FieldType.object "OmenLine$Branch")) ∈ lw_tbl := lw_at lw_m1 96 rfl
theorem q165 : (Jvm.Cond.arrayOver (Jvm.ClassFile.FieldType.object "OmenLine$Sheet")) ∈ lw_tbl := lw_at lw_m1 98 rfl
theorem q175 : (Jvm.Cond.arrayClass Jvm.ClassFile.FieldType.int) ∈ lw_all := lw_g (lw_at lw_m1 108 rfl) rfl
theorem q176 : (Jvm.Cond.arrayClass Jvm.ClassFile.FieldType.boolean) ∈ lw_all := lw_g (lw_at lw_m1 109 rfl) rfl
theorem q839 : (Jvm.Cond.arrayClass Jvm.ClassFile.FieldType.short) ∈ lw_all := lw_g (lw_at lw_m4 52 rfl) rfl
theorem in_X0 : ∀ w ∈ wsX00, w ∈ lw_all := lw_in wsX00 [207, 209, 211, 213, 215, 217, 219, 221, 223, 225, 227, 229, 231, 233, 235, 237, 239, 241, 243, 245, 247, 249, 251, 253, 255, 257, 259, 261, 263] (by decide +kernel) (by decide +kernel)
theorem in_X5 : ∀ w ∈ wsX50, w ∈ lw_all := lw_in wsX50 [151, 153, 155, 157, 159] (by decide +kernel) (by decide +kernel)
theorem in_X6 : ∀ w ∈ wsX60, w ∈ lw_all := lw_in wsX60 [172] (by decide +kernel) (by decide +kernel)
theorem in_X7 : ∀ w ∈ wsX70, w ∈ lw_all := lw_in wsX70 [973, 975, 977, 979, 981, 983, 985, 987, 989, 991, 993, 995, 997, 999, 1001, 1003, 1005, 1007, 1009, 1011, 1013, 1015, 1017, 1019, 1021, 1023, 1025, 1027, 1029, 1031, 1033, 1035, 1037, 1039, 1041, 1043, 1045, 1047, 1049, 1051, 1053, 1055, 1057, 1059, 1061] (by decide +kernel) (by decide +kernel)
theorem in_X8 : ∀ w ∈ wsX80, w ∈ lw_all := lw_in wsX80 [402, 404, 406, 408, 410, 412, 414, 416, 418, 420, 422, 424] (by decide +kernel) (by decide +kernel)
theorem in_X9 : ∀ w ∈ wsX90, w ∈ lw_all := lw_in wsX90 [312, 314, 316, 318, 320, 383, 375, 377] (by decide +kernel) (by decide +kernel)
theorem in_J0 : ∀ w ∈ wsJ00, w ∈ lw_all := lw_in wsJ00 [313, 315, 317, 319, 321] (by decide +kernel) (by decide +kernel)
theorem in_J2 : ∀ w ∈ wsJ20, w ∈ lw_all := lw_in wsJ20 [832, 834] (by decide +kernel) (by decide +kernel)
theorem in_J9 : ∀ w ∈ wsJ90, w ∈ lw_all := lw_in wsJ90 [820, 821, 822, 823, 824, 825] (by decide +kernel) (by decide +kernel)
theorem in_J10 : ∀ w ∈ wsJ100, w ∈ lw_all := lw_in wsJ100 [860, 861, 862, 863, 864, 865, 856, 858] (by decide +kernel) (by decide +kernel)
theorem in_J12 : ∀ w ∈ wsJ120, w ∈ lw_all := lw_in wsJ120 [877, 878, 879, 880, 881, 882] (by decide +kernel) (by decide +kernel)
theorem in_J13 : ∀ w ∈ wsJ130, w ∈ lw_all := lw_in wsJ130 [900, 901, 902, 903, 904, 905] (by decide +kernel) (by decide +kernel)
