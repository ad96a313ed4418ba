/-! DECODE ROWS BY BYTES: one lemma an opcode; a method's code is cut into short pieces once, and a row reads its own piece alone. -/
set_option maxRecDepth 100000
/-- the code has just these bytes from pc on -/
def DkAt (code : ByteArray) (pc : Nat) (bs : List UInt8) : Prop := ∀ (j : Nat) (b : UInt8), bs[j]? = some b → code.data.toList[pc + j]? = some b
/-- the piece W has the bytes bs from its place j on -/
def dkIn (W : List UInt8) (j : Nat) (bs : List UInt8) : Bool := decide ((W.drop j).take bs.length = bs)
theorem dk_seg {l W T : List UInt8} {o o2 : Nat} (h : l.drop o = W ++ T) (n : Nat) (hn : W.length = n) (ho : o + n = o2) : l.drop o2 = T := by
  subst ho
  rw [← List.drop_drop, h, List.drop_left' hn]
theorem dk_at {code : ByteArray} {W T bs : List UInt8} {o pc : Nat} (h : code.data.toList.drop o = W ++ T) (j : Nat) (hp : o + j = pc) (hw : dkIn W j bs = true) : DkAt code pc bs := by
  subst hp
  intro i b e
  have h1 := of_decide_eq_true hw
  have h2 : i < bs.length := (List.getElem?_eq_some_iff.mp e).1
  have h3 : W[j + i]? = some b := by
    rw [← h1, List.getElem?_take, if_pos h2, List.getElem?_drop] at e
    exact e
  have h4 : j + i < W.length := (List.getElem?_eq_some_iff.mp h3).1
  have h5 : (code.data.toList.drop o)[j + i]? = some b := by
    rw [h, List.getElem?_append_left h4]
    exact h3
  rw [List.getElem?_drop, ← Nat.add_assoc] at h5
  exact h5
theorem dk_u1 {A : ByteArray} {p : Nat} {b : UInt8} (h : A.data.toList[p]? = some b) : (Reader.u1 : Reader DecodeError Nat) A p = .ok (b.toNat, p + 1) := by
  obtain ⟨h1, h2⟩ := List.getElem?_eq_some_iff.mp h
  have h3 : p < A.size := by simpa using h1
  have h4 : A[p]'h3 = b := h2
  have e : (Reader.u1 : Reader DecodeError Nat) A p = (if h : p < A.size then .ok (A[p].toNat, p + 1) else .error (HasTruncated.truncated p)) := by
    show (do if h : p < A.size then do set (p + 1); Pure.pure A[p].toNat else MonadExcept.throw (HasTruncated.truncated p) : Reader DecodeError Nat) A p = _
    by_cases hi : p < A.size
    · rw [dif_pos hi, dif_pos hi]; rfl
    · rw [dif_neg hi, dif_neg hi]; rfl
  rw [e, dif_pos h3, h4]
theorem dk_bind {α β : Type} {r : Reader DecodeError α} {f : α → Reader DecodeError β} {A : ByteArray} {p s : Nat} {a : α} (h : r A p = .ok (a, s)) : (r >>= f) A p = f a A s := by
  show (do let (a, s) ← r A p; f a A s : Except DecodeError (β × Nat)) = _
  rw [h]
  rfl
theorem dk_map {α β : Type} {r : Reader DecodeError α} {g : α → β} {A : ByteArray} {p s : Nat} {a : α} (h : r A p = .ok (a, s)) : (g <$> r) A p = .ok (g a, s) := by
  show (do let (a, s) ← r A p; .ok (g a, s) : Except DecodeError (β × Nat)) = _
  rw [h]
  rfl
theorem dk_u2 {A : ByteArray} {p : Nat} {a b : UInt8} (h : A.data.toList[p]? = some a) (h2 : A.data.toList[p + 1]? = some b) : (Reader.u2 : Reader DecodeError Nat) A p = .ok (a.toNat * 256 + b.toNat, p + 2) := by
  show (Reader.u1 >>= fun hi => Reader.u1 >>= fun lo => Pure.pure (hi * 256 + lo) : Reader DecodeError Nat) A p = _
  rw [dk_bind (dk_u1 h), dk_bind (dk_u1 h2)]
  rfl
theorem dk_of {code : ByteArray} {pc n : Nat} {i : Instr} (h : Decoder.instr pc code pc = .ok (i, pc + n)) : decode code pc = .ok (i, n) := by
  have e : decode code pc = (match Decoder.instr pc code pc with | .error x => .error x | .ok (j, s) => .ok (j, s - pc)) := by
    show (do let (j, s) ← Decoder.instr pc code pc; Pure.pure (j, s - pc) : Except DecodeError (Instr × Nat)) = _
    cases Decoder.instr pc code pc <;> rfl
  rw [e, h]
  show Except.ok (i, pc + n - pc) = _
  rw [Nat.add_sub_cancel_left]
theorem dk_1 {code : ByteArray} {pc : Nat} (h : DkAt code pc [1]) : decode code pc = .ok (.aconst_null, 1) := dk_of ((dk_bind (dk_u1 (h 0 _ rfl))).trans rfl)
theorem dk_2 {code : ByteArray} {pc : Nat} (h : DkAt code pc [2]) : decode code pc = .ok (.iconst (-1), 1) := dk_of ((dk_bind (dk_u1 (h 0 _ rfl))).trans rfl)
theorem dk_3 {code : ByteArray} {pc : Nat} (h : DkAt code pc [3]) : decode code pc = .ok (.iconst 0, 1) := dk_of ((dk_bind (dk_u1 (h 0 _ rfl))).trans rfl)
theorem dk_4 {code : ByteArray} {pc : Nat} (h : DkAt code pc [4]) : decode code pc = .ok (.iconst 1, 1) := dk_of ((dk_bind (dk_u1 (h 0 _ rfl))).trans rfl)
theorem dk_5 {code : ByteArray} {pc : Nat} (h : DkAt code pc [5]) : decode code pc = .ok (.iconst 2, 1) := dk_of ((dk_bind (dk_u1 (h 0 _ rfl))).trans rfl)
theorem dk_6 {code : ByteArray} {pc : Nat} (h : DkAt code pc [6]) : decode code pc = .ok (.iconst 3, 1) := dk_of ((dk_bind (dk_u1 (h 0 _ rfl))).trans rfl)
theorem dk_7 {code : ByteArray} {pc : Nat} (h : DkAt code pc [7]) : decode code pc = .ok (.iconst 4, 1) := dk_of ((dk_bind (dk_u1 (h 0 _ rfl))).trans rfl)
theorem dk_8 {code : ByteArray} {pc : Nat} (h : DkAt code pc [8]) : decode code pc = .ok (.iconst 5, 1) := dk_of ((dk_bind (dk_u1 (h 0 _ rfl))).trans rfl)
theorem dk_9 {code : ByteArray} {pc : Nat} (h : DkAt code pc [9]) : decode code pc = .ok (.lconst 0, 1) := dk_of ((dk_bind (dk_u1 (h 0 _ rfl))).trans rfl)
theorem dk_10 {code : ByteArray} {pc : Nat} (h : DkAt code pc [10]) : decode code pc = .ok (.lconst 1, 1) := dk_of ((dk_bind (dk_u1 (h 0 _ rfl))).trans rfl)
theorem dk_16 {code : ByteArray} {pc : Nat} (a : UInt8) (h : DkAt code pc [16, a]) : decode code pc = .ok (.bipush (Reader.signed 8 a.toNat), 2) := dk_of ((dk_bind (dk_u1 (h 0 _ rfl))).trans ((dk_bind (dk_map (dk_u1 (h 1 _ rfl)))).trans rfl))
theorem dk_17 {code : ByteArray} {pc : Nat} (a b : UInt8) (h : DkAt code pc [17, a, b]) : decode code pc = .ok (.sipush (Reader.signed 16 (a.toNat * 256 + b.toNat)), 3) := dk_of ((dk_bind (dk_u1 (h 0 _ rfl))).trans ((dk_bind (dk_map (dk_u2 (h 1 _ rfl) (h 2 _ rfl)))).trans rfl))
theorem dk_18 {code : ByteArray} {pc : Nat} (a : UInt8) (h : DkAt code pc [18, a]) : decode code pc = .ok (.ldc a.toNat, 2) := dk_of ((dk_bind (dk_u1 (h 0 _ rfl))).trans ((dk_bind (dk_u1 (h 1 _ rfl))).trans rfl))
theorem dk_19 {code : ByteArray} {pc : Nat} (a b : UInt8) (h : DkAt code pc [19, a, b]) : decode code pc = .ok (.ldc_w (a.toNat * 256 + b.toNat), 3) := dk_of ((dk_bind (dk_u1 (h 0 _ rfl))).trans ((dk_bind (dk_u2 (h 1 _ rfl) (h 2 _ rfl))).trans rfl))
theorem dk_20 {code : ByteArray} {pc : Nat} (a b : UInt8) (h : DkAt code pc [20, a, b]) : decode code pc = .ok (.ldc2_w (a.toNat * 256 + b.toNat), 3) := dk_of ((dk_bind (dk_u1 (h 0 _ rfl))).trans ((dk_bind (dk_u2 (h 1 _ rfl) (h 2 _ rfl))).trans rfl))
theorem dk_21 {code : ByteArray} {pc : Nat} (a : UInt8) (h : DkAt code pc [21, a]) : decode code pc = .ok (.iload a.toNat, 2) := dk_of ((dk_bind (dk_u1 (h 0 _ rfl))).trans ((dk_bind (dk_u1 (h 1 _ rfl))).trans rfl))
theorem dk_22 {code : ByteArray} {pc : Nat} (a : UInt8) (h : DkAt code pc [22, a]) : decode code pc = .ok (.lload a.toNat, 2) := dk_of ((dk_bind (dk_u1 (h 0 _ rfl))).trans ((dk_bind (dk_u1 (h 1 _ rfl))).trans rfl))
theorem dk_25 {code : ByteArray} {pc : Nat} (a : UInt8) (h : DkAt code pc [25, a]) : decode code pc = .ok (.aload a.toNat, 2) := dk_of ((dk_bind (dk_u1 (h 0 _ rfl))).trans ((dk_bind (dk_u1 (h 1 _ rfl))).trans rfl))
theorem dk_26 {code : ByteArray} {pc : Nat} (h : DkAt code pc [26]) : decode code pc = .ok (.iload_n 0, 1) := dk_of ((dk_bind (dk_u1 (h 0 _ rfl))).trans rfl)
theorem dk_27 {code : ByteArray} {pc : Nat} (h : DkAt code pc [27]) : decode code pc = .ok (.iload_n 1, 1) := dk_of ((dk_bind (dk_u1 (h 0 _ rfl))).trans rfl)
theorem dk_28 {code : ByteArray} {pc : Nat} (h : DkAt code pc [28]) : decode code pc = .ok (.iload_n 2, 1) := dk_of ((dk_bind (dk_u1 (h 0 _ rfl))).trans rfl)
theorem dk_29 {code : ByteArray} {pc : Nat} (h : DkAt code pc [29]) : decode code pc = .ok (.iload_n 3, 1) := dk_of ((dk_bind (dk_u1 (h 0 _ rfl))).trans rfl)
theorem dk_30 {code : ByteArray} {pc : Nat} (h : DkAt code pc [30]) : decode code pc = .ok (.lload_n 0, 1) := dk_of ((dk_bind (dk_u1 (h 0 _ rfl))).trans rfl)
theorem dk_32 {code : ByteArray} {pc : Nat} (h : DkAt code pc [32]) : decode code pc = .ok (.lload_n 2, 1) := dk_of ((dk_bind (dk_u1 (h 0 _ rfl))).trans rfl)
theorem dk_42 {code : ByteArray} {pc : Nat} (h : DkAt code pc [42]) : decode code pc = .ok (.aload_n 0, 1) := dk_of ((dk_bind (dk_u1 (h 0 _ rfl))).trans rfl)
theorem dk_43 {code : ByteArray} {pc : Nat} (h : DkAt code pc [43]) : decode code pc = .ok (.aload_n 1, 1) := dk_of ((dk_bind (dk_u1 (h 0 _ rfl))).trans rfl)
theorem dk_44 {code : ByteArray} {pc : Nat} (h : DkAt code pc [44]) : decode code pc = .ok (.aload_n 2, 1) := dk_of ((dk_bind (dk_u1 (h 0 _ rfl))).trans rfl)
theorem dk_45 {code : ByteArray} {pc : Nat} (h : DkAt code pc [45]) : decode code pc = .ok (.aload_n 3, 1) := dk_of ((dk_bind (dk_u1 (h 0 _ rfl))).trans rfl)
theorem dk_46 {code : ByteArray} {pc : Nat} (h : DkAt code pc [46]) : decode code pc = .ok (.iaload, 1) := dk_of ((dk_bind (dk_u1 (h 0 _ rfl))).trans rfl)
theorem dk_47 {code : ByteArray} {pc : Nat} (h : DkAt code pc [47]) : decode code pc = .ok (.laload, 1) := dk_of ((dk_bind (dk_u1 (h 0 _ rfl))).trans rfl)
theorem dk_50 {code : ByteArray} {pc : Nat} (h : DkAt code pc [50]) : decode code pc = .ok (.aaload, 1) := dk_of ((dk_bind (dk_u1 (h 0 _ rfl))).trans rfl)
theorem dk_51 {code : ByteArray} {pc : Nat} (h : DkAt code pc [51]) : decode code pc = .ok (.baload, 1) := dk_of ((dk_bind (dk_u1 (h 0 _ rfl))).trans rfl)
theorem dk_53 {code : ByteArray} {pc : Nat} (h : DkAt code pc [53]) : decode code pc = .ok (.saload, 1) := dk_of ((dk_bind (dk_u1 (h 0 _ rfl))).trans rfl)
theorem dk_54 {code : ByteArray} {pc : Nat} (a : UInt8) (h : DkAt code pc [54, a]) : decode code pc = .ok (.istore a.toNat, 2) := dk_of ((dk_bind (dk_u1 (h 0 _ rfl))).trans ((dk_bind (dk_u1 (h 1 _ rfl))).trans rfl))
theorem dk_55 {code : ByteArray} {pc : Nat} (a : UInt8) (h : DkAt code pc [55, a]) : decode code pc = .ok (.lstore a.toNat, 2) := dk_of ((dk_bind (dk_u1 (h 0 _ rfl))).trans ((dk_bind (dk_u1 (h 1 _ rfl))).trans rfl))
theorem dk_58 {code : ByteArray} {pc : Nat} (a : UInt8) (h : DkAt code pc [58, a]) : decode code pc = .ok (.astore a.toNat, 2) := dk_of ((dk_bind (dk_u1 (h 0 _ rfl))).trans ((dk_bind (dk_u1 (h 1 _ rfl))).trans rfl))
theorem dk_60 {code : ByteArray} {pc : Nat} (h : DkAt code pc [60]) : decode code pc = .ok (.istore_n 1, 1) := dk_of ((dk_bind (dk_u1 (h 0 _ rfl))).trans rfl)
theorem dk_61 {code : ByteArray} {pc : Nat} (h : DkAt code pc [61]) : decode code pc = .ok (.istore_n 2, 1) := dk_of ((dk_bind (dk_u1 (h 0 _ rfl))).trans rfl)
theorem dk_62 {code : ByteArray} {pc : Nat} (h : DkAt code pc [62]) : decode code pc = .ok (.istore_n 3, 1) := dk_of ((dk_bind (dk_u1 (h 0 _ rfl))).trans rfl)
theorem dk_76 {code : ByteArray} {pc : Nat} (h : DkAt code pc [76]) : decode code pc = .ok (.astore_n 1, 1) := dk_of ((dk_bind (dk_u1 (h 0 _ rfl))).trans rfl)
theorem dk_77 {code : ByteArray} {pc : Nat} (h : DkAt code pc [77]) : decode code pc = .ok (.astore_n 2, 1) := dk_of ((dk_bind (dk_u1 (h 0 _ rfl))).trans rfl)
theorem dk_78 {code : ByteArray} {pc : Nat} (h : DkAt code pc [78]) : decode code pc = .ok (.astore_n 3, 1) := dk_of ((dk_bind (dk_u1 (h 0 _ rfl))).trans rfl)
theorem dk_79 {code : ByteArray} {pc : Nat} (h : DkAt code pc [79]) : decode code pc = .ok (.iastore, 1) := dk_of ((dk_bind (dk_u1 (h 0 _ rfl))).trans rfl)
theorem dk_80 {code : ByteArray} {pc : Nat} (h : DkAt code pc [80]) : decode code pc = .ok (.lastore, 1) := dk_of ((dk_bind (dk_u1 (h 0 _ rfl))).trans rfl)
theorem dk_83 {code : ByteArray} {pc : Nat} (h : DkAt code pc [83]) : decode code pc = .ok (.aastore, 1) := dk_of ((dk_bind (dk_u1 (h 0 _ rfl))).trans rfl)
theorem dk_84 {code : ByteArray} {pc : Nat} (h : DkAt code pc [84]) : decode code pc = .ok (.bastore, 1) := dk_of ((dk_bind (dk_u1 (h 0 _ rfl))).trans rfl)
theorem dk_86 {code : ByteArray} {pc : Nat} (h : DkAt code pc [86]) : decode code pc = .ok (.sastore, 1) := dk_of ((dk_bind (dk_u1 (h 0 _ rfl))).trans rfl)
theorem dk_87 {code : ByteArray} {pc : Nat} (h : DkAt code pc [87]) : decode code pc = .ok (.pop, 1) := dk_of ((dk_bind (dk_u1 (h 0 _ rfl))).trans rfl)
theorem dk_89 {code : ByteArray} {pc : Nat} (h : DkAt code pc [89]) : decode code pc = .ok (.dup, 1) := dk_of ((dk_bind (dk_u1 (h 0 _ rfl))).trans rfl)
theorem dk_92 {code : ByteArray} {pc : Nat} (h : DkAt code pc [92]) : decode code pc = .ok (.dup2, 1) := dk_of ((dk_bind (dk_u1 (h 0 _ rfl))).trans rfl)
theorem dk_96 {code : ByteArray} {pc : Nat} (h : DkAt code pc [96]) : decode code pc = .ok (.iadd, 1) := dk_of ((dk_bind (dk_u1 (h 0 _ rfl))).trans rfl)
theorem dk_97 {code : ByteArray} {pc : Nat} (h : DkAt code pc [97]) : decode code pc = .ok (.ladd, 1) := dk_of ((dk_bind (dk_u1 (h 0 _ rfl))).trans rfl)
theorem dk_100 {code : ByteArray} {pc : Nat} (h : DkAt code pc [100]) : decode code pc = .ok (.isub, 1) := dk_of ((dk_bind (dk_u1 (h 0 _ rfl))).trans rfl)
theorem dk_104 {code : ByteArray} {pc : Nat} (h : DkAt code pc [104]) : decode code pc = .ok (.imul, 1) := dk_of ((dk_bind (dk_u1 (h 0 _ rfl))).trans rfl)
theorem dk_105 {code : ByteArray} {pc : Nat} (h : DkAt code pc [105]) : decode code pc = .ok (.lmul, 1) := dk_of ((dk_bind (dk_u1 (h 0 _ rfl))).trans rfl)
theorem dk_108 {code : ByteArray} {pc : Nat} (h : DkAt code pc [108]) : decode code pc = .ok (.idiv, 1) := dk_of ((dk_bind (dk_u1 (h 0 _ rfl))).trans rfl)
theorem dk_109 {code : ByteArray} {pc : Nat} (h : DkAt code pc [109]) : decode code pc = .ok (.ldiv, 1) := dk_of ((dk_bind (dk_u1 (h 0 _ rfl))).trans rfl)
theorem dk_112 {code : ByteArray} {pc : Nat} (h : DkAt code pc [112]) : decode code pc = .ok (.irem, 1) := dk_of ((dk_bind (dk_u1 (h 0 _ rfl))).trans rfl)
theorem dk_113 {code : ByteArray} {pc : Nat} (h : DkAt code pc [113]) : decode code pc = .ok (.lrem, 1) := dk_of ((dk_bind (dk_u1 (h 0 _ rfl))).trans rfl)
theorem dk_116 {code : ByteArray} {pc : Nat} (h : DkAt code pc [116]) : decode code pc = .ok (.ineg, 1) := dk_of ((dk_bind (dk_u1 (h 0 _ rfl))).trans rfl)
theorem dk_120 {code : ByteArray} {pc : Nat} (h : DkAt code pc [120]) : decode code pc = .ok (.ishl, 1) := dk_of ((dk_bind (dk_u1 (h 0 _ rfl))).trans rfl)
theorem dk_122 {code : ByteArray} {pc : Nat} (h : DkAt code pc [122]) : decode code pc = .ok (.ishr, 1) := dk_of ((dk_bind (dk_u1 (h 0 _ rfl))).trans rfl)
theorem dk_126 {code : ByteArray} {pc : Nat} (h : DkAt code pc [126]) : decode code pc = .ok (.iand, 1) := dk_of ((dk_bind (dk_u1 (h 0 _ rfl))).trans rfl)
theorem dk_128 {code : ByteArray} {pc : Nat} (h : DkAt code pc [128]) : decode code pc = .ok (.ior, 1) := dk_of ((dk_bind (dk_u1 (h 0 _ rfl))).trans rfl)
theorem dk_130 {code : ByteArray} {pc : Nat} (h : DkAt code pc [130]) : decode code pc = .ok (.ixor, 1) := dk_of ((dk_bind (dk_u1 (h 0 _ rfl))).trans rfl)
theorem dk_132 {code : ByteArray} {pc : Nat} (a b : UInt8) (h : DkAt code pc [132, a, b]) : decode code pc = .ok (.iinc a.toNat (Reader.signed 8 b.toNat), 3) := dk_of ((dk_bind (dk_u1 (h 0 _ rfl))).trans ((dk_bind (dk_u1 (h 1 _ rfl))).trans ((dk_bind (dk_map (dk_u1 (h 2 _ rfl)))).trans rfl)))
theorem dk_133 {code : ByteArray} {pc : Nat} (h : DkAt code pc [133]) : decode code pc = .ok (.i2l, 1) := dk_of ((dk_bind (dk_u1 (h 0 _ rfl))).trans rfl)
theorem dk_145 {code : ByteArray} {pc : Nat} (h : DkAt code pc [145]) : decode code pc = .ok (.i2b, 1) := dk_of ((dk_bind (dk_u1 (h 0 _ rfl))).trans rfl)
theorem dk_147 {code : ByteArray} {pc : Nat} (h : DkAt code pc [147]) : decode code pc = .ok (.i2s, 1) := dk_of ((dk_bind (dk_u1 (h 0 _ rfl))).trans rfl)
theorem dk_148 {code : ByteArray} {pc : Nat} (h : DkAt code pc [148]) : decode code pc = .ok (.lcmp, 1) := dk_of ((dk_bind (dk_u1 (h 0 _ rfl))).trans rfl)
theorem dk_153 {code : ByteArray} {pc : Nat} (a b : UInt8) (h : DkAt code pc [153, a, b]) : decode code pc = .ok (.ifCond .eq (Reader.signed 16 (a.toNat * 256 + b.toNat)), 3) := dk_of ((dk_bind (dk_u1 (h 0 _ rfl))).trans ((dk_bind (dk_map (dk_u2 (h 1 _ rfl) (h 2 _ rfl)))).trans rfl))
theorem dk_154 {code : ByteArray} {pc : Nat} (a b : UInt8) (h : DkAt code pc [154, a, b]) : decode code pc = .ok (.ifCond .ne (Reader.signed 16 (a.toNat * 256 + b.toNat)), 3) := dk_of ((dk_bind (dk_u1 (h 0 _ rfl))).trans ((dk_bind (dk_map (dk_u2 (h 1 _ rfl) (h 2 _ rfl)))).trans rfl))
theorem dk_155 {code : ByteArray} {pc : Nat} (a b : UInt8) (h : DkAt code pc [155, a, b]) : decode code pc = .ok (.ifCond .lt (Reader.signed 16 (a.toNat * 256 + b.toNat)), 3) := dk_of ((dk_bind (dk_u1 (h 0 _ rfl))).trans ((dk_bind (dk_map (dk_u2 (h 1 _ rfl) (h 2 _ rfl)))).trans rfl))
theorem dk_156 {code : ByteArray} {pc : Nat} (a b : UInt8) (h : DkAt code pc [156, a, b]) : decode code pc = .ok (.ifCond .ge (Reader.signed 16 (a.toNat * 256 + b.toNat)), 3) := dk_of ((dk_bind (dk_u1 (h 0 _ rfl))).trans ((dk_bind (dk_map (dk_u2 (h 1 _ rfl) (h 2 _ rfl)))).trans rfl))
theorem dk_158 {code : ByteArray} {pc : Nat} (a b : UInt8) (h : DkAt code pc [158, a, b]) : decode code pc = .ok (.ifCond .le (Reader.signed 16 (a.toNat * 256 + b.toNat)), 3) := dk_of ((dk_bind (dk_u1 (h 0 _ rfl))).trans ((dk_bind (dk_map (dk_u2 (h 1 _ rfl) (h 2 _ rfl)))).trans rfl))
theorem dk_159 {code : ByteArray} {pc : Nat} (a b : UInt8) (h : DkAt code pc [159, a, b]) : decode code pc = .ok (.if_icmp .eq (Reader.signed 16 (a.toNat * 256 + b.toNat)), 3) := dk_of ((dk_bind (dk_u1 (h 0 _ rfl))).trans ((dk_bind (dk_map (dk_u2 (h 1 _ rfl) (h 2 _ rfl)))).trans rfl))
theorem dk_160 {code : ByteArray} {pc : Nat} (a b : UInt8) (h : DkAt code pc [160, a, b]) : decode code pc = .ok (.if_icmp .ne (Reader.signed 16 (a.toNat * 256 + b.toNat)), 3) := dk_of ((dk_bind (dk_u1 (h 0 _ rfl))).trans ((dk_bind (dk_map (dk_u2 (h 1 _ rfl) (h 2 _ rfl)))).trans rfl))
theorem dk_161 {code : ByteArray} {pc : Nat} (a b : UInt8) (h : DkAt code pc [161, a, b]) : decode code pc = .ok (.if_icmp .lt (Reader.signed 16 (a.toNat * 256 + b.toNat)), 3) := dk_of ((dk_bind (dk_u1 (h 0 _ rfl))).trans ((dk_bind (dk_map (dk_u2 (h 1 _ rfl) (h 2 _ rfl)))).trans rfl))
theorem dk_162 {code : ByteArray} {pc : Nat} (a b : UInt8) (h : DkAt code pc [162, a, b]) : decode code pc = .ok (.if_icmp .ge (Reader.signed 16 (a.toNat * 256 + b.toNat)), 3) := dk_of ((dk_bind (dk_u1 (h 0 _ rfl))).trans ((dk_bind (dk_map (dk_u2 (h 1 _ rfl) (h 2 _ rfl)))).trans rfl))
theorem dk_163 {code : ByteArray} {pc : Nat} (a b : UInt8) (h : DkAt code pc [163, a, b]) : decode code pc = .ok (.if_icmp .gt (Reader.signed 16 (a.toNat * 256 + b.toNat)), 3) := dk_of ((dk_bind (dk_u1 (h 0 _ rfl))).trans ((dk_bind (dk_map (dk_u2 (h 1 _ rfl) (h 2 _ rfl)))).trans rfl))
theorem dk_164 {code : ByteArray} {pc : Nat} (a b : UInt8) (h : DkAt code pc [164, a, b]) : decode code pc = .ok (.if_icmp .le (Reader.signed 16 (a.toNat * 256 + b.toNat)), 3) := dk_of ((dk_bind (dk_u1 (h 0 _ rfl))).trans ((dk_bind (dk_map (dk_u2 (h 1 _ rfl) (h 2 _ rfl)))).trans rfl))
theorem dk_167 {code : ByteArray} {pc : Nat} (a b : UInt8) (h : DkAt code pc [167, a, b]) : decode code pc = .ok (.goto (Reader.signed 16 (a.toNat * 256 + b.toNat)), 3) := dk_of ((dk_bind (dk_u1 (h 0 _ rfl))).trans ((dk_bind (dk_map (dk_u2 (h 1 _ rfl) (h 2 _ rfl)))).trans rfl))
theorem dk_172 {code : ByteArray} {pc : Nat} (h : DkAt code pc [172]) : decode code pc = .ok (.ireturn, 1) := dk_of ((dk_bind (dk_u1 (h 0 _ rfl))).trans rfl)
theorem dk_173 {code : ByteArray} {pc : Nat} (h : DkAt code pc [173]) : decode code pc = .ok (.lreturn, 1) := dk_of ((dk_bind (dk_u1 (h 0 _ rfl))).trans rfl)
theorem dk_176 {code : ByteArray} {pc : Nat} (h : DkAt code pc [176]) : decode code pc = .ok (.areturn, 1) := dk_of ((dk_bind (dk_u1 (h 0 _ rfl))).trans rfl)
theorem dk_177 {code : ByteArray} {pc : Nat} (h : DkAt code pc [177]) : decode code pc = .ok (.return_, 1) := dk_of ((dk_bind (dk_u1 (h 0 _ rfl))).trans rfl)
theorem dk_178 {code : ByteArray} {pc : Nat} (a b : UInt8) (h : DkAt code pc [178, a, b]) : decode code pc = .ok (.getstatic (a.toNat * 256 + b.toNat), 3) := dk_of ((dk_bind (dk_u1 (h 0 _ rfl))).trans ((dk_bind (dk_u2 (h 1 _ rfl) (h 2 _ rfl))).trans rfl))
theorem dk_180 {code : ByteArray} {pc : Nat} (a b : UInt8) (h : DkAt code pc [180, a, b]) : decode code pc = .ok (.getfield (a.toNat * 256 + b.toNat), 3) := dk_of ((dk_bind (dk_u1 (h 0 _ rfl))).trans ((dk_bind (dk_u2 (h 1 _ rfl) (h 2 _ rfl))).trans rfl))
theorem dk_181 {code : ByteArray} {pc : Nat} (a b : UInt8) (h : DkAt code pc [181, a, b]) : decode code pc = .ok (.putfield (a.toNat * 256 + b.toNat), 3) := dk_of ((dk_bind (dk_u1 (h 0 _ rfl))).trans ((dk_bind (dk_u2 (h 1 _ rfl) (h 2 _ rfl))).trans rfl))
theorem dk_182 {code : ByteArray} {pc : Nat} (a b : UInt8) (h : DkAt code pc [182, a, b]) : decode code pc = .ok (.invokevirtual (a.toNat * 256 + b.toNat), 3) := dk_of ((dk_bind (dk_u1 (h 0 _ rfl))).trans ((dk_bind (dk_u2 (h 1 _ rfl) (h 2 _ rfl))).trans rfl))
theorem dk_183 {code : ByteArray} {pc : Nat} (a b : UInt8) (h : DkAt code pc [183, a, b]) : decode code pc = .ok (.invokespecial (a.toNat * 256 + b.toNat), 3) := dk_of ((dk_bind (dk_u1 (h 0 _ rfl))).trans ((dk_bind (dk_u2 (h 1 _ rfl) (h 2 _ rfl))).trans rfl))
theorem dk_184 {code : ByteArray} {pc : Nat} (a b : UInt8) (h : DkAt code pc [184, a, b]) : decode code pc = .ok (.invokestatic (a.toNat * 256 + b.toNat), 3) := dk_of ((dk_bind (dk_u1 (h 0 _ rfl))).trans ((dk_bind (dk_u2 (h 1 _ rfl) (h 2 _ rfl))).trans rfl))
theorem dk_187 {code : ByteArray} {pc : Nat} (a b : UInt8) (h : DkAt code pc [187, a, b]) : decode code pc = .ok (.new (a.toNat * 256 + b.toNat), 3) := dk_of ((dk_bind (dk_u1 (h 0 _ rfl))).trans ((dk_bind (dk_u2 (h 1 _ rfl) (h 2 _ rfl))).trans rfl))
theorem dk_188_8 {code : ByteArray} {pc : Nat} (h : DkAt code pc [188, 8]) : decode code pc = .ok (.newarray .byte, 2) := dk_of ((dk_bind (dk_u1 (h 0 _ rfl))).trans ((dk_bind (dk_u1 (h 1 _ rfl))).trans rfl))
theorem dk_188_9 {code : ByteArray} {pc : Nat} (h : DkAt code pc [188, 9]) : decode code pc = .ok (.newarray .short, 2) := dk_of ((dk_bind (dk_u1 (h 0 _ rfl))).trans ((dk_bind (dk_u1 (h 1 _ rfl))).trans rfl))
theorem dk_188_10 {code : ByteArray} {pc : Nat} (h : DkAt code pc [188, 10]) : decode code pc = .ok (.newarray .int, 2) := dk_of ((dk_bind (dk_u1 (h 0 _ rfl))).trans ((dk_bind (dk_u1 (h 1 _ rfl))).trans rfl))
theorem dk_188_11 {code : ByteArray} {pc : Nat} (h : DkAt code pc [188, 11]) : decode code pc = .ok (.newarray .long, 2) := dk_of ((dk_bind (dk_u1 (h 0 _ rfl))).trans ((dk_bind (dk_u1 (h 1 _ rfl))).trans rfl))
theorem dk_189 {code : ByteArray} {pc : Nat} (a b : UInt8) (h : DkAt code pc [189, a, b]) : decode code pc = .ok (.anewarray (a.toNat * 256 + b.toNat), 3) := dk_of ((dk_bind (dk_u1 (h 0 _ rfl))).trans ((dk_bind (dk_u2 (h 1 _ rfl) (h 2 _ rfl))).trans rfl))
theorem dk_190 {code : ByteArray} {pc : Nat} (h : DkAt code pc [190]) : decode code pc = .ok (.arraylength, 1) := dk_of ((dk_bind (dk_u1 (h 0 _ rfl))).trans rfl)
theorem dk_191 {code : ByteArray} {pc : Nat} (h : DkAt code pc [191]) : decode code pc = .ok (.athrow, 1) := dk_of ((dk_bind (dk_u1 (h 0 _ rfl))).trans rfl)
theorem dk_192 {code : ByteArray} {pc : Nat} (a b : UInt8) (h : DkAt code pc [192, a, b]) : decode code pc = .ok (.checkcast (a.toNat * 256 + b.toNat), 3) := dk_of ((dk_bind (dk_u1 (h 0 _ rfl))).trans ((dk_bind (dk_u2 (h 1 _ rfl) (h 2 _ rfl))).trans rfl))
theorem dk_193 {code : ByteArray} {pc : Nat} (a b : UInt8) (h : DkAt code pc [193, a, b]) : decode code pc = .ok (.instanceof (a.toNat * 256 + b.toNat), 3) := dk_of ((dk_bind (dk_u1 (h 0 _ rfl))).trans ((dk_bind (dk_u2 (h 1 _ rfl) (h 2 _ rfl))).trans rfl))
theorem dk_198 {code : ByteArray} {pc : Nat} (a b : UInt8) (h : DkAt code pc [198, a, b]) : decode code pc = .ok (.ifnull (Reader.signed 16 (a.toNat * 256 + b.toNat)), 3) := dk_of ((dk_bind (dk_u1 (h 0 _ rfl))).trans ((dk_bind (dk_map (dk_u2 (h 1 _ rfl) (h 2 _ rfl)))).trans rfl))
theorem dk_199 {code : ByteArray} {pc : Nat} (a b : UInt8) (h : DkAt code pc [199, a, b]) : decode code pc = .ok (.ifnonnull (Reader.signed 16 (a.toNat * 256 + b.toNat)), 3) := dk_of ((dk_bind (dk_u1 (h 0 _ rfl))).trans ((dk_bind (dk_map (dk_u2 (h 1 _ rfl) (h 2 _ rfl)))).trans rfl))
/-! SideBySideLaw -/
set_option maxRecDepth 100000
def RX0 : String := "SideBySideLaw"
abbrev cX0_element : ByteArray := method_3_code
def yX0_element : MethodName := ⟨RX0, "element", "(LSideBySide;II[J)I"⟩
def dkwX0_element_0 : List UInt8 := [45, 3, 42, 27, 28, 182, 0, 7, 80, 167, 0, 11, 58, 4, 4, 172, 58, 4, 5, 172, 3, 172]
abbrev dktX0_element_0 : List UInt8 := dkwX0_element_0 ++ []
theorem dksX0_element_0 : cX0_element.data.toList.drop 0 = dktX0_element_0 := by decide +kernel
theorem dX0_element_0 : decode cX0_element 0 = .ok (.aload_n 3, 1) := dk_45 (dk_at dksX0_element_0 0 rfl rfl)
theorem dX0_element_1 : decode cX0_element 1 = .ok (.iconst 0, 1) := dk_3 (dk_at dksX0_element_0 1 rfl rfl)
theorem dX0_element_2 : decode cX0_element 2 = .ok (.aload_n 0, 1) := dk_42 (dk_at dksX0_element_0 2 rfl rfl)
theorem dX0_element_3 : decode cX0_element 3 = .ok (.iload_n 1, 1) := dk_27 (dk_at dksX0_element_0 3 rfl rfl)
theorem dX0_element_4 : decode cX0_element 4 = .ok (.iload_n 2, 1) := dk_28 (dk_at dksX0_element_0 4 rfl rfl)
theorem dX0_element_5 : decode cX0_element 5 = .ok (.invokevirtual 7, 3) := dk_182 0 7 (dk_at dksX0_element_0 5 rfl rfl)
theorem dX0_element_8 : decode cX0_element 8 = .ok (.lastore, 1) := dk_80 (dk_at dksX0_element_0 8 rfl rfl)
theorem dX0_element_9 : decode cX0_element 9 = .ok (.goto 11, 3) := dk_167 0 11 (dk_at dksX0_element_0 9 rfl rfl)
theorem dX0_element_12 : decode cX0_element 12 = .ok (.astore 4, 2) := dk_58 4 (dk_at dksX0_element_0 12 rfl rfl)
theorem dX0_element_14 : decode cX0_element 14 = .ok (.iconst 1, 1) := dk_4 (dk_at dksX0_element_0 14 rfl rfl)
theorem dX0_element_15 : decode cX0_element 15 = .ok (.ireturn, 1) := dk_172 (dk_at dksX0_element_0 15 rfl rfl)
theorem dX0_element_16 : decode cX0_element 16 = .ok (.astore 4, 2) := dk_58 4 (dk_at dksX0_element_0 16 rfl rfl)
theorem dX0_element_18 : decode cX0_element 18 = .ok (.iconst 2, 1) := dk_5 (dk_at dksX0_element_0 18 rfl rfl)
theorem dX0_element_19 : decode cX0_element 19 = .ok (.ireturn, 1) := dk_172 (dk_at dksX0_element_0 19 rfl rfl)
theorem dX0_element_20 : decode cX0_element 20 = .ok (.iconst 0, 1) := dk_3 (dk_at dksX0_element_0 20 rfl rfl)
theorem dX0_element_21 : decode cX0_element 21 = .ok (.ireturn, 1) := dk_172 (dk_at dksX0_element_0 21 rfl rfl)
theorem q66 : (Jvm.Cond.initialized "SideBySideLaw") ∈ lw_all := lw_g (lw_at lw_m1 0 rfl) rfl
theorem q98 : (Jvm.Cond.methodLink "SideBySideLaw" (21 : Nat) ({ cls := "SideBySide", name := "court", desc := "(I)I" } : Jvm.MethodName)) ∈ lw_all := lw_g (lw_at lw_m1 32 rfl) rfl
theorem q571 : (Jvm.Cond.methodLink "SideBySideLaw" (26 : Nat) ({ cls := "SideBySide", name := "stroke", desc := "(II)I" } : Jvm.MethodName)) ∈ lw_all := lw_g (lw_at lw_m3 25 rfl) rfl
theorem q602 : (Jvm.Cond.methodLink "SideBySideLaw" (31 : Nat) ({ cls := "SideBySide", name := "player", desc := "(II)I" } : Jvm.MethodName)) ∈ lw_all := lw_g (lw_at lw_m3 56 rfl) rfl
theorem q607 : (Jvm.Cond.methodLink "SideBySideLaw" (35 : Nat) ({ cls := "SideBySide", name := "side", desc := "(II)I" } : Jvm.MethodName)) ∈ lw_all := lw_g (lw_at lw_m3 61 rfl) rfl
theorem q616 : (Jvm.Cond.methodLink "SideBySideLaw" (39 : Nat) ({ cls := "SideBySide", name := "learns", desc := "(I)I" } : Jvm.MethodName)) ∈ lw_all := lw_g (lw_at lw_m3 70 rfl) rfl
theorem q620 : (Jvm.Cond.methodLink "SideBySideLaw" (43 : Nat) ({ cls := "SideBySide", name := "stands", desc := "(III)I" } : Jvm.MethodName)) ∈ lw_all := lw_g (lw_at lw_m3 74 rfl) rfl
theorem q624 : (Jvm.Cond.methodLink "SideBySideLaw" (48 : Nat) ({ cls := "SideBySide", name := "tires", desc := "(II)I" } : Jvm.MethodName)) ∈ lw_all := lw_g (lw_at lw_m3 78 rfl) rfl
theorem q628 : (Jvm.Cond.methodLink "SideBySideLaw" (52 : Nat) ({ cls := "SideBySide", name := "hands", desc := "(I)I" } : Jvm.MethodName)) ∈ lw_all := lw_g (lw_at lw_m3 82 rfl) rfl
theorem q632 : (Jvm.Cond.methodLink "SideBySideLaw" (56 : Nat) ({ cls := "SideBySide", name := "forms", desc := "(III)I" } : Jvm.MethodName)) ∈ lw_all := lw_g (lw_at lw_m3 86 rfl) rfl
theorem q636 : (Jvm.Cond.methodLink "SideBySideLaw" (60 : Nat) ({ cls := "SideBySide", name := "blows", desc := "(I)I" } : Jvm.MethodName)) ∈ lw_all := lw_g (lw_at lw_m3 90 rfl) rfl
theorem q640 : (Jvm.Cond.methodLink "SideBySideLaw" (64 : Nat) ({ cls := "SideBySide", name := "hit", desc := "(II)I" } : Jvm.MethodName)) ∈ lw_all := lw_g (lw_at lw_m3 94 rfl) rfl
theorem q648 : (Jvm.Cond.methodLink "SideBySideLaw" (68 : Nat) ({ cls := "SideBySide", name := "whose", desc := "(II)I" } : Jvm.MethodName)) ∈ lw_all := lw_g (lw_at lw_m3 102 rfl) rfl
theorem q654 : (Jvm.Cond.methodLink "SideBySideLaw" (72 : Nat) ({ cls := "SideBySide", name := "wins", desc := "(II)I" } : Jvm.MethodName)) ∈ lw_all := lw_g (lw_at lw_m3 108 rfl) rfl
theorem q666 : (Jvm.Cond.methodLink "SideBySideLaw" (76 : Nat) ({ cls := "SideBySide", name := "falls", desc := "(II)I" } : Jvm.MethodName)) ∈ lw_all := lw_g (lw_at lw_m3 120 rfl) rfl
theorem q670 : (Jvm.Cond.methodLink "SideBySideLaw" (80 : Nat) ({ cls := "SideBySide", name := "open", desc := "(I)I" } : Jvm.MethodName)) ∈ lw_all := lw_g (lw_at lw_m3 124 rfl) rfl
theorem q674 : (Jvm.Cond.methodLink "SideBySideLaw" (84 : Nat) ({ cls := "SideBySide", name := "forced", desc := "()I" } : Jvm.MethodName)) ∈ lw_all := lw_g (lw_at lw_m3 128 rfl) rfl
theorem q678 : (Jvm.Cond.methodLink "SideBySideLaw" (89 : Nat) ({ cls := "SideBySide", name := "farthest", desc := "(II)I" } : Jvm.MethodName)) ∈ lw_all := lw_g (lw_at lw_m3 132 rfl) rfl
theorem q687 : (Jvm.Cond.methodLink "SideBySideLaw" (93 : Nat) ({ cls := "SideBySide", name := "atWhom", desc := "(I)I" } : Jvm.MethodName)) ∈ lw_all := lw_g (lw_at lw_m3 141 rfl) rfl
theorem q691 : (Jvm.Cond.methodLink "SideBySideLaw" (97 : Nat) ({ cls := "SideBySide", name := "fewest", desc := "(I)I" } : Jvm.MethodName)) ∈ lw_all := lw_g (lw_at lw_m3 145 rfl) rfl
theorem q704 : (Jvm.Cond.methodLink "SideBySideLaw" (101 : Nat) ({ cls := "SideBySide", name := "bestForm", desc := "(II)I" } : Jvm.MethodName)) ∈ lw_all := lw_g (lw_at lw_m3 158 rfl) rfl
theorem q720 : (Jvm.Cond.methodLink "SideBySideLaw" (105 : Nat) ({ cls := "SideBySide", name := "bestHabit", desc := "(II)I" } : Jvm.MethodName)) ∈ lw_all := lw_g (lw_at lw_m3 174 rfl) rfl
theorem q724 : (Jvm.Cond.methodLink "SideBySideLaw" (109 : Nat) ({ cls := "SideBySide", name := "change", desc := "(IIII)I" } : Jvm.MethodName)) ∈ lw_all := lw_g (lw_at lw_m3 178 rfl) rfl
theorem q728 : (Jvm.Cond.methodLink "SideBySideLaw" (114 : Nat) ({ cls := "SideBySide", name := "rally", desc := "(II)I" } : Jvm.MethodName)) ∈ lw_all := lw_g (lw_at lw_m3 182 rfl) rfl
theorem q755 : (Jvm.Cond.methodLink "SideBySideLaw" (118 : Nat) ({ cls := "SideBySide", name := "ways", desc := "(II)I" } : Jvm.MethodName)) ∈ lw_all := lw_g (lw_at lw_m3 209 rfl) rfl
theorem q759 : (Jvm.Cond.methodLink "SideBySideLaw" (122 : Nat) ({ cls := "SideBySide", name := "spent", desc := "(I)I" } : Jvm.MethodName)) ∈ lw_all := lw_g (lw_at lw_m3 213 rfl) rfl
theorem q763 : (Jvm.Cond.methodLink "SideBySideLaw" (126 : Nat) ({ cls := "SideBySide", name := "whatIs", desc := "(III)I" } : Jvm.MethodName)) ∈ lw_all := lw_g (lw_at lw_m3 217 rfl) rfl
theorem q782 : (Jvm.Cond.methodLink "SideBySideLaw" (130 : Nat) ({ cls := "SideBySide", name := "habits", desc := "(I)I" } : Jvm.MethodName)) ∈ lw_all := lw_g (lw_at lw_m3 236 rfl) rfl
theorem q790 : (Jvm.Cond.methodLink "SideBySideLaw" (134 : Nat) ({ cls := "SideBySide", name := "two", desc := "()I" } : Jvm.MethodName)) ∈ lw_all := lw_g (lw_at lw_m4 4 rfl) rfl
theorem q802 : (Jvm.Cond.methodLink "SideBySideLaw" (138 : Nat) ({ cls := "SideBySide", name := "draughts", desc := "(III)J" } : Jvm.MethodName)) ∈ lw_all := lw_g (lw_at lw_m4 16 rfl) rfl
theorem q819 : (Jvm.Cond.methodLink "SideBySideLaw" (143 : Nat) ({ cls := "SideBySide", name := "mean", desc := "(I)J" } : Jvm.MethodName)) ∈ lw_all := lw_g (lw_at lw_m4 33 rfl) rfl
theorem q824 : (Jvm.Cond.methodLink "SideBySideLaw" (148 : Nat) ({ cls := "SideBySide", name := "forged", desc := "(I)I" } : Jvm.MethodName)) ∈ lw_all := lw_g (lw_at lw_m4 38 rfl) rfl
theorem q828 : (Jvm.Cond.methodLink "SideBySideLaw" (152 : Nat) ({ cls := "SideBySide", name := "judge", desc := "(I)I" } : Jvm.MethodName)) ∈ lw_all := lw_g (lw_at lw_m4 42 rfl) rfl
theorem q836 : (Jvm.Cond.methodLink "SideBySideLaw" (156 : Nat) ({ cls := "SideBySide", name := "nights", desc := "(III)I" } : Jvm.MethodName)) ∈ lw_all := lw_g (lw_at lw_m4 50 rfl) rfl
theorem q847 : (Jvm.Cond.methodLink "SideBySideLaw" (160 : Nat) ({ cls := "SideBySide", name := "image", desc := "()I" } : Jvm.MethodName)) ∈ lw_all := lw_g (lw_at lw_m4 61 rfl) rfl
theorem q851 : (Jvm.Cond.methodLink "SideBySideLaw" (164 : Nat) ({ cls := "SideBySide", name := "restore", desc := "()I" } : Jvm.MethodName)) ∈ lw_all := lw_g (lw_at lw_m4 65 rfl) rfl
theorem q855 : (Jvm.Cond.methodLink "SideBySideLaw" (168 : Nat) ({ cls := "SideBySide", name := "count", desc := "(I)I" } : Jvm.MethodName)) ∈ lw_all := lw_g (lw_at lw_m4 69 rfl) rfl
theorem q859 : (Jvm.Cond.classLink "SideBySideLaw" (8 : Nat) "SideBySide") ∈ lw_all := lw_g (lw_at lw_m4 73 rfl) rfl
theorem q860 : (Jvm.Cond.methodLink "SideBySideLaw" (17 : Nat) ({ cls := "SideBySide", name := "<init>", desc := "()V" } : Jvm.MethodName)) ∈ lw_all := lw_g (lw_at lw_m4 74 rfl) rfl
theorem q965 : (Jvm.Cond.methodLink "SideBySideLaw" (172 : Nat) ({ cls := "SideBySide", name := "keep", desc := "(IIII)I" } : Jvm.MethodName)) ∈ lw_all := lw_g (lw_at lw_m4 179 rfl) rfl
theorem q972 : (Jvm.Cond.methodLink "SideBySideLaw" (176 : Nat) ({ cls := "SideBySide", name := "row", desc := "(III)I" } : Jvm.MethodName)) ∈ lw_all := lw_g (lw_at lw_m4 186 rfl) rfl
theorem q991 : (Jvm.Cond.methodLink "SideBySideLaw" (180 : Nat) ({ cls := "SideBySide", name := "put", desc := "(III)I" } : Jvm.MethodName)) ∈ lw_all := lw_g (lw_at lw_m4 205 rfl) rfl
theorem q1014 : (Jvm.Cond.methodLink "SideBySideLaw" (193 : Nat) ({ cls := "SideBySide", name := "copy", desc := "(IIIII)I" } : Jvm.MethodName)) ∈ lw_all := lw_g (lw_at lw_m4 228 rfl) rfl
theorem q1020 : (Jvm.Cond.methodLink "SideBySideLaw" (198 : Nat) ({ cls := "SideBySide", name := "cost", desc := "(I)I" } : Jvm.MethodName)) ∈ lw_all := lw_g (lw_at lw_m4 234 rfl) rfl
theorem q1075 : (Jvm.Cond.methodLink "SideBySideLaw" (202 : Nat) ({ cls := "SideBySide", name := "toss", desc := "(I)I" } : Jvm.MethodName)) ∈ lw_all := lw_g (lw_at lw_m5 49 rfl) rfl
theorem q1125 : (Jvm.Cond.methodLink "SideBySideLaw" (184 : Nat) ({ cls := "SideBySideLaw", name := "element", desc := "(LSideBySide;II[J)I" } : Jvm.MethodName)) ∈ lw_all := lw_g (lw_at lw_m5 99 rfl) rfl
theorem q1126 : (Jvm.Cond.static ({ cls := "SideBySideLaw", name := "element", desc := "(LSideBySide;II[J)I" } : Jvm.MethodName)) ∈ lw_all := lw_g (lw_at lw_m5 100 rfl) rfl
theorem q1127 : (Jvm.Cond.codeWith ({ cls := "SideBySideLaw", name := "element", desc := "(LSideBySide;II[J)I" } : Jvm.MethodName) method_3_code (5 : Nat) (Option.some Jvm.ClassFile.FieldType.int) [((0 : Nat), (9 : Nat), (12 : Nat), (13 : Nat)), ((0 : Nat), (9 : Nat), (16 : Nat), (15 : Nat))]) ∈ lw_all := lw_g (lw_at lw_m5 101 rfl) rfl
theorem q1128 : (Jvm.Cond.classLink "SideBySideLaw" (13 : Nat) "java/lang/IllegalArgumentException") ∈ lw_all := lw_g (lw_at lw_m5 102 rfl) rfl
theorem q1129 : (Jvm.Cond.classLink "SideBySideLaw" (15 : Nat) "java/lang/IllegalStateException") ∈ lw_all := lw_g (lw_at lw_m5 103 rfl) rfl
theorem q1130 : (Jvm.Cond.methodLink "SideBySideLaw" (7 : Nat) ({ cls := "SideBySide", name := "element", desc := "(II)J" } : Jvm.MethodName)) ∈ lw_all := lw_g (lw_at lw_m5 104 rfl) rfl
theorem q1164 : (Jvm.Cond.classLink "SideBySideLaw" (18 : Nat) "SideBySideModel") ∈ lw_all := lw_g (lw_at lw_m5 138 rfl) rfl
theorem q1166 : (Jvm.Cond.methodLink "SideBySideLaw" (20 : Nat) ({ cls := "SideBySideModel", name := "<init>", desc := "()V" } : Jvm.MethodName)) ∈ lw_all := lw_g (lw_at lw_m5 140 rfl) rfl
theorem q1237 : (Jvm.Cond.methodLink "SideBySideLaw" (25 : Nat) ({ cls := "SideBySideModel", name := "court", desc := "(I)I" } : Jvm.MethodName)) ∈ lw_all := lw_g (lw_at lw_m5 211 rfl) rfl
theorem q1344 : (Jvm.Cond.methodLink "SideBySideLaw" (30 : Nat) ({ cls := "SideBySideModel", name := "stroke", desc := "(II)I" } : Jvm.MethodName)) ∈ lw_all := lw_g (lw_at lw_m6 78 rfl) rfl
theorem q1348 : (Jvm.Cond.methodLink "SideBySideLaw" (34 : Nat) ({ cls := "SideBySideModel", name := "player", desc := "(II)I" } : Jvm.MethodName)) ∈ lw_all := lw_g (lw_at lw_m6 82 rfl) rfl
theorem q1352 : (Jvm.Cond.methodLink "SideBySideLaw" (38 : Nat) ({ cls := "SideBySideModel", name := "side", desc := "(II)I" } : Jvm.MethodName)) ∈ lw_all := lw_g (lw_at lw_m6 86 rfl) rfl
theorem q1360 : (Jvm.Cond.methodLink "SideBySideLaw" (42 : Nat) ({ cls := "SideBySideModel", name := "learns", desc := "(I)I" } : Jvm.MethodName)) ∈ lw_all := lw_g (lw_at lw_m6 94 rfl) rfl
theorem q1368 : (Jvm.Cond.methodLink "SideBySideLaw" (47 : Nat) ({ cls := "SideBySideModel", name := "stands", desc := "(III)I" } : Jvm.MethodName)) ∈ lw_all := lw_g (lw_at lw_m6 102 rfl) rfl
theorem q1372 : (Jvm.Cond.methodLink "SideBySideLaw" (51 : Nat) ({ cls := "SideBySideModel", name := "tires", desc := "(II)I" } : Jvm.MethodName)) ∈ lw_all := lw_g (lw_at lw_m6 106 rfl) rfl
theorem q1376 : (Jvm.Cond.methodLink "SideBySideLaw" (55 : Nat) ({ cls := "SideBySideModel", name := "hands", desc := "(I)I" } : Jvm.MethodName)) ∈ lw_all := lw_g (lw_at lw_m6 110 rfl) rfl
theorem q1380 : (Jvm.Cond.methodLink "SideBySideLaw" (59 : Nat) ({ cls := "SideBySideModel", name := "forms", desc := "(III)I" } : Jvm.MethodName)) ∈ lw_all := lw_g (lw_at lw_m6 114 rfl) rfl
theorem q1384 : (Jvm.Cond.methodLink "SideBySideLaw" (63 : Nat) ({ cls := "SideBySideModel", name := "blows", desc := "(I)I" } : Jvm.MethodName)) ∈ lw_all := lw_g (lw_at lw_m6 118 rfl) rfl
theorem q1388 : (Jvm.Cond.methodLink "SideBySideLaw" (67 : Nat) ({ cls := "SideBySideModel", name := "hit", desc := "(II)I" } : Jvm.MethodName)) ∈ lw_all := lw_g (lw_at lw_m6 122 rfl) rfl
theorem q1392 : (Jvm.Cond.methodLink "SideBySideLaw" (71 : Nat) ({ cls := "SideBySideModel", name := "whose", desc := "(II)I" } : Jvm.MethodName)) ∈ lw_all := lw_g (lw_at lw_m6 126 rfl) rfl
theorem q1408 : (Jvm.Cond.methodLink "SideBySideLaw" (75 : Nat) ({ cls := "SideBySideModel", name := "wins", desc := "(II)I" } : Jvm.MethodName)) ∈ lw_all := lw_g (lw_at lw_m6 142 rfl) rfl
theorem q1416 : (Jvm.Cond.methodLink "SideBySideLaw" (79 : Nat) ({ cls := "SideBySideModel", name := "falls", desc := "(II)I" } : Jvm.MethodName)) ∈ lw_all := lw_g (lw_at lw_m6 150 rfl) rfl
theorem q1420 : (Jvm.Cond.methodLink "SideBySideLaw" (83 : Nat) ({ cls := "SideBySideModel", name := "open", desc := "(I)I" } : Jvm.MethodName)) ∈ lw_all := lw_g (lw_at lw_m6 154 rfl) rfl
theorem q1428 : (Jvm.Cond.methodLink "SideBySideLaw" (88 : Nat) ({ cls := "SideBySideModel", name := "forced", desc := "()I" } : Jvm.MethodName)) ∈ lw_all := lw_g (lw_at lw_m6 162 rfl) rfl
theorem q1432 : (Jvm.Cond.methodLink "SideBySideLaw" (92 : Nat) ({ cls := "SideBySideModel", name := "farthest", desc := "(II)I" } : Jvm.MethodName)) ∈ lw_all := lw_g (lw_at lw_m6 166 rfl) rfl
theorem q1440 : (Jvm.Cond.methodLink "SideBySideLaw" (96 : Nat) ({ cls := "SideBySideModel", name := "atWhom", desc := "(I)I" } : Jvm.MethodName)) ∈ lw_all := lw_g (lw_at lw_m6 174 rfl) rfl
theorem q1444 : (Jvm.Cond.methodLink "SideBySideLaw" (100 : Nat) ({ cls := "SideBySideModel", name := "fewest", desc := "(I)I" } : Jvm.MethodName)) ∈ lw_all := lw_g (lw_at lw_m6 178 rfl) rfl
theorem q1453 : (Jvm.Cond.methodLink "SideBySideLaw" (104 : Nat) ({ cls := "SideBySideModel", name := "bestForm", desc := "(II)I" } : Jvm.MethodName)) ∈ lw_all := lw_g (lw_at lw_m6 187 rfl) rfl
theorem q1465 : (Jvm.Cond.methodLink "SideBySideLaw" (108 : Nat) ({ cls := "SideBySideModel", name := "bestHabit", desc := "(II)I" } : Jvm.MethodName)) ∈ lw_all := lw_g (lw_at lw_m6 199 rfl) rfl
theorem q1469 : (Jvm.Cond.methodLink "SideBySideLaw" (113 : Nat) ({ cls := "SideBySideModel", name := "change", desc := "(IIII)I" } : Jvm.MethodName)) ∈ lw_all := lw_g (lw_at lw_m6 203 rfl) rfl
theorem q1473 : (Jvm.Cond.methodLink "SideBySideLaw" (117 : Nat) ({ cls := "SideBySideModel", name := "rally", desc := "(II)I" } : Jvm.MethodName)) ∈ lw_all := lw_g (lw_at lw_m6 207 rfl) rfl
theorem q1485 : (Jvm.Cond.methodLink "SideBySideLaw" (121 : Nat) ({ cls := "SideBySideModel", name := "ways", desc := "(II)I" } : Jvm.MethodName)) ∈ lw_all := lw_g (lw_at lw_m6 219 rfl) rfl
theorem q1489 : (Jvm.Cond.methodLink "SideBySideLaw" (125 : Nat) ({ cls := "SideBySideModel", name := "spent", desc := "(I)I" } : Jvm.MethodName)) ∈ lw_all := lw_g (lw_at lw_m6 223 rfl) rfl
theorem q1493 : (Jvm.Cond.methodLink "SideBySideLaw" (129 : Nat) ({ cls := "SideBySideModel", name := "whatIs", desc := "(III)I" } : Jvm.MethodName)) ∈ lw_all := lw_g (lw_at lw_m6 227 rfl) rfl
theorem q1505 : (Jvm.Cond.methodLink "SideBySideLaw" (133 : Nat) ({ cls := "SideBySideModel", name := "habits", desc := "(I)I" } : Jvm.MethodName)) ∈ lw_all := lw_g (lw_at lw_m6 239 rfl) rfl
theorem q1509 : (Jvm.Cond.methodLink "SideBySideLaw" (137 : Nat) ({ cls := "SideBySideModel", name := "two", desc := "()I" } : Jvm.MethodName)) ∈ lw_all := lw_g (lw_at lw_m7 3 rfl) rfl
theorem q1517 : (Jvm.Cond.methodLink "SideBySideLaw" (142 : Nat) ({ cls := "SideBySideModel", name := "draughts", desc := "(III)J" } : Jvm.MethodName)) ∈ lw_all := lw_g (lw_at lw_m7 11 rfl) rfl
theorem q1535 : (Jvm.Cond.methodLink "SideBySideLaw" (147 : Nat) ({ cls := "SideBySideModel", name := "mean", desc := "(I)J" } : Jvm.MethodName)) ∈ lw_all := lw_g (lw_at lw_m7 29 rfl) rfl
theorem q1544 : (Jvm.Cond.methodLink "SideBySideLaw" (151 : Nat) ({ cls := "SideBySideModel", name := "forged", desc := "(I)I" } : Jvm.MethodName)) ∈ lw_all := lw_g (lw_at lw_m7 38 rfl) rfl
theorem q1548 : (Jvm.Cond.methodLink "SideBySideLaw" (155 : Nat) ({ cls := "SideBySideModel", name := "judge", desc := "(I)I" } : Jvm.MethodName)) ∈ lw_all := lw_g (lw_at lw_m7 42 rfl) rfl
theorem q1552 : (Jvm.Cond.methodLink "SideBySideLaw" (159 : Nat) ({ cls := "SideBySideModel", name := "nights", desc := "(III)I" } : Jvm.MethodName)) ∈ lw_all := lw_g (lw_at lw_m7 46 rfl) rfl
theorem q1563 : (Jvm.Cond.methodLink "SideBySideLaw" (163 : Nat) ({ cls := "SideBySideModel", name := "image", desc := "()I" } : Jvm.MethodName)) ∈ lw_all := lw_g (lw_at lw_m7 57 rfl) rfl
theorem q1567 : (Jvm.Cond.methodLink "SideBySideLaw" (167 : Nat) ({ cls := "SideBySideModel", name := "restore", desc := "()I" } : Jvm.MethodName)) ∈ lw_all := lw_g (lw_at lw_m7 61 rfl) rfl
theorem q1571 : (Jvm.Cond.methodLink "SideBySideLaw" (171 : Nat) ({ cls := "SideBySideModel", name := "count", desc := "(I)I" } : Jvm.MethodName)) ∈ lw_all := lw_g (lw_at lw_m7 65 rfl) rfl
theorem q1575 : (Jvm.Cond.methodLink "SideBySideLaw" (190 : Nat) ({ cls := "SideBySideModel", name := "thrown", desc := "()I" } : Jvm.MethodName)) ∈ lw_all := lw_g (lw_at lw_m7 69 rfl) rfl
theorem q1579 : (Jvm.Cond.methodLink "SideBySideLaw" (175 : Nat) ({ cls := "SideBySideModel", name := "keep", desc := "(IIII)I" } : Jvm.MethodName)) ∈ lw_all := lw_g (lw_at lw_m7 73 rfl) rfl
theorem q1583 : (Jvm.Cond.methodLink "SideBySideLaw" (179 : Nat) ({ cls := "SideBySideModel", name := "row", desc := "(III)I" } : Jvm.MethodName)) ∈ lw_all := lw_g (lw_at lw_m7 77 rfl) rfl
theorem q1587 : (Jvm.Cond.methodLink "SideBySideLaw" (183 : Nat) ({ cls := "SideBySideModel", name := "put", desc := "(III)I" } : Jvm.MethodName)) ∈ lw_all := lw_g (lw_at lw_m7 81 rfl) rfl
theorem q1591 : (Jvm.Cond.methodLink "SideBySideLaw" (189 : Nat) ({ cls := "SideBySideModel", name := "element", desc := "(II)J" } : Jvm.MethodName)) ∈ lw_all := lw_g (lw_at lw_m7 85 rfl) rfl
theorem q1595 : (Jvm.Cond.methodLink "SideBySideLaw" (197 : Nat) ({ cls := "SideBySideModel", name := "copy", desc := "(IIIII)I" } : Jvm.MethodName)) ∈ lw_all := lw_g (lw_at lw_m7 89 rfl) rfl
theorem q1599 : (Jvm.Cond.methodLink "SideBySideLaw" (201 : Nat) ({ cls := "SideBySideModel", name := "cost", desc := "(I)I" } : Jvm.MethodName)) ∈ lw_all := lw_g (lw_at lw_m7 93 rfl) rfl
theorem q1606 : (Jvm.Cond.methodLink "SideBySideLaw" (205 : Nat) ({ cls := "SideBySideModel", name := "toss", desc := "(I)I" } : Jvm.MethodName)) ∈ lw_all := lw_g (lw_at lw_m7 100 rfl) rfl
/-! SideBySide$Court -/
set_option maxRecDepth 100000
def RX2 : String := "SideBySide$Court"
def TX2 : u_T := fun k => match k with
  | 0 => ("SideBySide$Court", "stroke", "[LSideBySide$Stroke;", true)
  | 1 => ("SideBySide$Court", "at", "[I", true)
  | 2 => ("SideBySide$Court", "pace", "[I", true)
  | 3 => ("SideBySide$Court", "tired", "[I", true)
  | 4 => ("SideBySide$Court", "form", "[I", true)
  | 5 => ("SideBySide$Court", "habit", "[I", true)
  | 6 => ("SideBySide$Court", "points", "[I", true)
  | 7 => ("SideBySide$Court", "went", "[I", true)
  | 8 => ("SideBySide$Court", "left", "I", false)
  | 9 => ("SideBySide$Court", "strokes", "I", false)
  | 10 => ("SideBySide$Court", "holder", "I", false)
  | 11 => ("SideBySide$Court", "draught", "I", false)
  | _ => ("SideBySide$Court", "hits", "I", false)
def tyX2 : Nat → FieldType := fun k => match k with
  | 0 => .array (.object "SideBySide$Stroke")
  | 1 => .array .int
  | 2 => .array .int
  | 3 => .array .int
  | 4 => .array .int
  | 5 => .array .int
  | 6 => .array .int
  | 7 => .array .int
  | 8 => .int
  | 9 => .int
  | 10 => .int
  | 11 => .int
  | _ => .int
abbrev wsX20 : List Cond := u_ws RX2 TX2 13
set_option maxRecDepth 100000 in
theorem nmX2 : ∀ a, a < 13 → ∀ b, b < 13 → a ≠ b → (TX2 a).2.1 ≠ (TX2 b).2.1 := by decide +kernel
set_option maxRecDepth 100000 in
theorem tyX2_ok : ∀ k, k < 13 → parseFieldDescriptor (TX2 k).2.2.1 = some (tyX2 k) := by decide +kernel
abbrev cX2_takes : ByteArray := prog_4_method_3_code
def yX2_takes : MethodName := ⟨RX2, "takes", "(LSideBySide$Court;)V"⟩
def dkwX2_takes_5 : List UInt8 := [180, 0, 65, 181, 0, 65, 42, 43, 180, 0, 68, 181, 0, 68, 177]
abbrev dktX2_takes_5 : List UInt8 := dkwX2_takes_5 ++ []
def dkwX2_takes_4 : List UInt8 := [180, 0, 55, 181, 0, 55, 42, 43, 180, 0, 59, 181, 0, 59, 42, 43, 180, 0, 62, 181, 0, 62, 42, 43]
abbrev dktX2_takes_4 : List UInt8 := dkwX2_takes_4 ++ dktX2_takes_5
def dkwX2_takes_3 : List UInt8 := [184, 0, 45, 43, 180, 0, 33, 42, 180, 0, 33, 184, 0, 45, 42, 180, 0, 36, 3, 184, 0, 49, 42, 43]
abbrev dktX2_takes_3 : List UInt8 := dkwX2_takes_3 ++ dktX2_takes_4
def dkwX2_takes_2 : List UInt8 := [184, 0, 45, 43, 180, 0, 27, 42, 180, 0, 27, 184, 0, 45, 43, 180, 0, 30, 42, 180, 0, 30]
abbrev dktX2_takes_2 : List UInt8 := dkwX2_takes_2 ++ dktX2_takes_3
def dkwX2_takes_1 : List UInt8 := [184, 0, 45, 43, 180, 0, 21, 42, 180, 0, 21, 184, 0, 45, 43, 180, 0, 24, 42, 180, 0, 24]
abbrev dktX2_takes_1 : List UInt8 := dkwX2_takes_1 ++ dktX2_takes_2
def dkwX2_takes_0 : List UInt8 := [43, 180, 0, 11, 3, 42, 180, 0, 11, 3, 16, 8, 184, 0, 39, 43, 180, 0, 17, 42, 180, 0, 17]
abbrev dktX2_takes_0 : List UInt8 := dkwX2_takes_0 ++ dktX2_takes_1
theorem dksX2_takes_0 : cX2_takes.data.toList.drop 0 = dktX2_takes_0 := by decide +kernel
theorem dksX2_takes_1 : cX2_takes.data.toList.drop 23 = dktX2_takes_1 := dk_seg dksX2_takes_0 23 rfl rfl
theorem dksX2_takes_2 : cX2_takes.data.toList.drop 45 = dktX2_takes_2 := dk_seg dksX2_takes_1 22 rfl rfl
theorem dksX2_takes_3 : cX2_takes.data.toList.drop 67 = dktX2_takes_3 := dk_seg dksX2_takes_2 22 rfl rfl
theorem dksX2_takes_4 : cX2_takes.data.toList.drop 91 = dktX2_takes_4 := dk_seg dksX2_takes_3 24 rfl rfl
theorem dksX2_takes_5 : cX2_takes.data.toList.drop 115 = dktX2_takes_5 := dk_seg dksX2_takes_4 24 rfl rfl
theorem dX2_takes_0 : decode cX2_takes 0 = .ok (.aload_n 1, 1) := dk_43 (dk_at dksX2_takes_0 0 rfl rfl)
theorem dX2_takes_1 : decode cX2_takes 1 = .ok (.getfield 11, 3) := dk_180 0 11 (dk_at dksX2_takes_0 1 rfl rfl)
theorem dX2_takes_4 : decode cX2_takes 4 = .ok (.iconst 0, 1) := dk_3 (dk_at dksX2_takes_0 4 rfl rfl)
theorem dX2_takes_5 : decode cX2_takes 5 = .ok (.aload_n 0, 1) := dk_42 (dk_at dksX2_takes_0 5 rfl rfl)
theorem dX2_takes_6 : decode cX2_takes 6 = .ok (.getfield 11, 3) := dk_180 0 11 (dk_at dksX2_takes_0 6 rfl rfl)
theorem dX2_takes_9 : decode cX2_takes 9 = .ok (.iconst 0, 1) := dk_3 (dk_at dksX2_takes_0 9 rfl rfl)
theorem dX2_takes_10 : decode cX2_takes 10 = .ok (.bipush 8, 2) := dk_16 8 (dk_at dksX2_takes_0 10 rfl rfl)
theorem dX2_takes_12 : decode cX2_takes 12 = .ok (.invokestatic 39, 3) := dk_184 0 39 (dk_at dksX2_takes_0 12 rfl rfl)
theorem dX2_takes_15 : decode cX2_takes 15 = .ok (.aload_n 1, 1) := dk_43 (dk_at dksX2_takes_0 15 rfl rfl)
theorem dX2_takes_16 : decode cX2_takes 16 = .ok (.getfield 17, 3) := dk_180 0 17 (dk_at dksX2_takes_0 16 rfl rfl)
theorem dX2_takes_19 : decode cX2_takes 19 = .ok (.aload_n 0, 1) := dk_42 (dk_at dksX2_takes_0 19 rfl rfl)
theorem dX2_takes_20 : decode cX2_takes 20 = .ok (.getfield 17, 3) := dk_180 0 17 (dk_at dksX2_takes_0 20 rfl rfl)
theorem dX2_takes_23 : decode cX2_takes 23 = .ok (.invokestatic 45, 3) := dk_184 0 45 (dk_at dksX2_takes_1 0 rfl rfl)
theorem dX2_takes_26 : decode cX2_takes 26 = .ok (.aload_n 1, 1) := dk_43 (dk_at dksX2_takes_1 3 rfl rfl)
theorem dX2_takes_27 : decode cX2_takes 27 = .ok (.getfield 21, 3) := dk_180 0 21 (dk_at dksX2_takes_1 4 rfl rfl)
theorem dX2_takes_30 : decode cX2_takes 30 = .ok (.aload_n 0, 1) := dk_42 (dk_at dksX2_takes_1 7 rfl rfl)
theorem dX2_takes_31 : decode cX2_takes 31 = .ok (.getfield 21, 3) := dk_180 0 21 (dk_at dksX2_takes_1 8 rfl rfl)
theorem dX2_takes_34 : decode cX2_takes 34 = .ok (.invokestatic 45, 3) := dk_184 0 45 (dk_at dksX2_takes_1 11 rfl rfl)
theorem dX2_takes_37 : decode cX2_takes 37 = .ok (.aload_n 1, 1) := dk_43 (dk_at dksX2_takes_1 14 rfl rfl)
theorem dX2_takes_38 : decode cX2_takes 38 = .ok (.getfield 24, 3) := dk_180 0 24 (dk_at dksX2_takes_1 15 rfl rfl)
theorem dX2_takes_41 : decode cX2_takes 41 = .ok (.aload_n 0, 1) := dk_42 (dk_at dksX2_takes_1 18 rfl rfl)
theorem dX2_takes_42 : decode cX2_takes 42 = .ok (.getfield 24, 3) := dk_180 0 24 (dk_at dksX2_takes_1 19 rfl rfl)
theorem dX2_takes_45 : decode cX2_takes 45 = .ok (.invokestatic 45, 3) := dk_184 0 45 (dk_at dksX2_takes_2 0 rfl rfl)
theorem dX2_takes_48 : decode cX2_takes 48 = .ok (.aload_n 1, 1) := dk_43 (dk_at dksX2_takes_2 3 rfl rfl)
theorem dX2_takes_49 : decode cX2_takes 49 = .ok (.getfield 27, 3) := dk_180 0 27 (dk_at dksX2_takes_2 4 rfl rfl)
theorem dX2_takes_52 : decode cX2_takes 52 = .ok (.aload_n 0, 1) := dk_42 (dk_at dksX2_takes_2 7 rfl rfl)
theorem dX2_takes_53 : decode cX2_takes 53 = .ok (.getfield 27, 3) := dk_180 0 27 (dk_at dksX2_takes_2 8 rfl rfl)
theorem dX2_takes_56 : decode cX2_takes 56 = .ok (.invokestatic 45, 3) := dk_184 0 45 (dk_at dksX2_takes_2 11 rfl rfl)
theorem dX2_takes_59 : decode cX2_takes 59 = .ok (.aload_n 1, 1) := dk_43 (dk_at dksX2_takes_2 14 rfl rfl)
theorem dX2_takes_60 : decode cX2_takes 60 = .ok (.getfield 30, 3) := dk_180 0 30 (dk_at dksX2_takes_2 15 rfl rfl)
theorem dX2_takes_63 : decode cX2_takes 63 = .ok (.aload_n 0, 1) := dk_42 (dk_at dksX2_takes_2 18 rfl rfl)
theorem dX2_takes_64 : decode cX2_takes 64 = .ok (.getfield 30, 3) := dk_180 0 30 (dk_at dksX2_takes_2 19 rfl rfl)
theorem dX2_takes_67 : decode cX2_takes 67 = .ok (.invokestatic 45, 3) := dk_184 0 45 (dk_at dksX2_takes_3 0 rfl rfl)
theorem dX2_takes_70 : decode cX2_takes 70 = .ok (.aload_n 1, 1) := dk_43 (dk_at dksX2_takes_3 3 rfl rfl)
theorem dX2_takes_71 : decode cX2_takes 71 = .ok (.getfield 33, 3) := dk_180 0 33 (dk_at dksX2_takes_3 4 rfl rfl)
theorem dX2_takes_74 : decode cX2_takes 74 = .ok (.aload_n 0, 1) := dk_42 (dk_at dksX2_takes_3 7 rfl rfl)
theorem dX2_takes_75 : decode cX2_takes 75 = .ok (.getfield 33, 3) := dk_180 0 33 (dk_at dksX2_takes_3 8 rfl rfl)
theorem dX2_takes_78 : decode cX2_takes 78 = .ok (.invokestatic 45, 3) := dk_184 0 45 (dk_at dksX2_takes_3 11 rfl rfl)
theorem dX2_takes_81 : decode cX2_takes 81 = .ok (.aload_n 0, 1) := dk_42 (dk_at dksX2_takes_3 14 rfl rfl)
theorem dX2_takes_82 : decode cX2_takes 82 = .ok (.getfield 36, 3) := dk_180 0 36 (dk_at dksX2_takes_3 15 rfl rfl)
theorem dX2_takes_85 : decode cX2_takes 85 = .ok (.iconst 0, 1) := dk_3 (dk_at dksX2_takes_3 18 rfl rfl)
theorem dX2_takes_86 : decode cX2_takes 86 = .ok (.invokestatic 49, 3) := dk_184 0 49 (dk_at dksX2_takes_3 19 rfl rfl)
theorem dX2_takes_89 : decode cX2_takes 89 = .ok (.aload_n 0, 1) := dk_42 (dk_at dksX2_takes_3 22 rfl rfl)
theorem dX2_takes_90 : decode cX2_takes 90 = .ok (.aload_n 1, 1) := dk_43 (dk_at dksX2_takes_3 23 rfl rfl)
theorem dX2_takes_91 : decode cX2_takes 91 = .ok (.getfield 55, 3) := dk_180 0 55 (dk_at dksX2_takes_4 0 rfl rfl)
theorem dX2_takes_94 : decode cX2_takes 94 = .ok (.putfield 55, 3) := dk_181 0 55 (dk_at dksX2_takes_4 3 rfl rfl)
theorem dX2_takes_97 : decode cX2_takes 97 = .ok (.aload_n 0, 1) := dk_42 (dk_at dksX2_takes_4 6 rfl rfl)
theorem dX2_takes_98 : decode cX2_takes 98 = .ok (.aload_n 1, 1) := dk_43 (dk_at dksX2_takes_4 7 rfl rfl)
theorem dX2_takes_99 : decode cX2_takes 99 = .ok (.getfield 59, 3) := dk_180 0 59 (dk_at dksX2_takes_4 8 rfl rfl)
theorem dX2_takes_102 : decode cX2_takes 102 = .ok (.putfield 59, 3) := dk_181 0 59 (dk_at dksX2_takes_4 11 rfl rfl)
theorem dX2_takes_105 : decode cX2_takes 105 = .ok (.aload_n 0, 1) := dk_42 (dk_at dksX2_takes_4 14 rfl rfl)
theorem dX2_takes_106 : decode cX2_takes 106 = .ok (.aload_n 1, 1) := dk_43 (dk_at dksX2_takes_4 15 rfl rfl)
theorem dX2_takes_107 : decode cX2_takes 107 = .ok (.getfield 62, 3) := dk_180 0 62 (dk_at dksX2_takes_4 16 rfl rfl)
theorem dX2_takes_110 : decode cX2_takes 110 = .ok (.putfield 62, 3) := dk_181 0 62 (dk_at dksX2_takes_4 19 rfl rfl)
theorem dX2_takes_113 : decode cX2_takes 113 = .ok (.aload_n 0, 1) := dk_42 (dk_at dksX2_takes_4 22 rfl rfl)
theorem dX2_takes_114 : decode cX2_takes 114 = .ok (.aload_n 1, 1) := dk_43 (dk_at dksX2_takes_4 23 rfl rfl)
theorem dX2_takes_115 : decode cX2_takes 115 = .ok (.getfield 65, 3) := dk_180 0 65 (dk_at dksX2_takes_5 0 rfl rfl)
theorem dX2_takes_118 : decode cX2_takes 118 = .ok (.putfield 65, 3) := dk_181 0 65 (dk_at dksX2_takes_5 3 rfl rfl)
theorem dX2_takes_121 : decode cX2_takes 121 = .ok (.aload_n 0, 1) := dk_42 (dk_at dksX2_takes_5 6 rfl rfl)
theorem dX2_takes_122 : decode cX2_takes 122 = .ok (.aload_n 1, 1) := dk_43 (dk_at dksX2_takes_5 7 rfl rfl)
theorem dX2_takes_123 : decode cX2_takes 123 = .ok (.getfield 68, 3) := dk_180 0 68 (dk_at dksX2_takes_5 8 rfl rfl)
theorem dX2_takes_126 : decode cX2_takes 126 = .ok (.putfield 68, 3) := dk_181 0 68 (dk_at dksX2_takes_5 11 rfl rfl)
theorem dX2_takes_129 : decode cX2_takes 129 = .ok (.return_, 1) := dk_177 (dk_at dksX2_takes_5 14 rfl rfl)
abbrev cX2_copies : ByteArray := prog_4_method_2_code
def yX2_copies : MethodName := ⟨RX2, "copies", "([I[I)V"⟩
def dkwX2_copies_0 : List UInt8 := [42, 3, 43, 3, 43, 190, 184, 0, 39, 177]
abbrev dktX2_copies_0 : List UInt8 := dkwX2_copies_0 ++ []
theorem dksX2_copies_0 : cX2_copies.data.toList.drop 0 = dktX2_copies_0 := by decide +kernel
theorem dX2_copies_0 : decode cX2_copies 0 = .ok (.aload_n 0, 1) := dk_42 (dk_at dksX2_copies_0 0 rfl rfl)
theorem dX2_copies_1 : decode cX2_copies 1 = .ok (.iconst 0, 1) := dk_3 (dk_at dksX2_copies_0 1 rfl rfl)
theorem dX2_copies_2 : decode cX2_copies 2 = .ok (.aload_n 1, 1) := dk_43 (dk_at dksX2_copies_0 2 rfl rfl)
theorem dX2_copies_3 : decode cX2_copies 3 = .ok (.iconst 0, 1) := dk_3 (dk_at dksX2_copies_0 3 rfl rfl)
theorem dX2_copies_4 : decode cX2_copies 4 = .ok (.aload_n 1, 1) := dk_43 (dk_at dksX2_copies_0 4 rfl rfl)
theorem dX2_copies_5 : decode cX2_copies 5 = .ok (.arraylength, 1) := dk_190 (dk_at dksX2_copies_0 5 rfl rfl)
theorem dX2_copies_6 : decode cX2_copies 6 = .ok (.invokestatic 39, 3) := dk_184 0 39 (dk_at dksX2_copies_0 6 rfl rfl)
theorem dX2_copies_9 : decode cX2_copies 9 = .ok (.return_, 1) := dk_177 (dk_at dksX2_copies_0 9 rfl rfl)
abbrev cX2_learns : ByteArray := prog_4_method_5_code
def yX2_learns : MethodName := ⟨RX2, "learns", "(LSideBySide$Stroke;)I"⟩
def dkwX2_learns_1 : List UInt8 := [4, 100, 172]
abbrev dktX2_learns_1 : List UInt8 := dkwX2_learns_1 ++ []
def dkwX2_learns_0 : List UInt8 := [42, 180, 0, 11, 42, 180, 0, 59, 43, 83, 42, 89, 180, 0, 59, 4, 96, 181, 0, 59, 42, 180, 0, 59]
abbrev dktX2_learns_0 : List UInt8 := dkwX2_learns_0 ++ dktX2_learns_1
theorem dksX2_learns_0 : cX2_learns.data.toList.drop 0 = dktX2_learns_0 := by decide +kernel
theorem dksX2_learns_1 : cX2_learns.data.toList.drop 24 = dktX2_learns_1 := dk_seg dksX2_learns_0 24 rfl rfl
theorem dX2_learns_0 : decode cX2_learns 0 = .ok (.aload_n 0, 1) := dk_42 (dk_at dksX2_learns_0 0 rfl rfl)
theorem dX2_learns_1 : decode cX2_learns 1 = .ok (.getfield 11, 3) := dk_180 0 11 (dk_at dksX2_learns_0 1 rfl rfl)
theorem dX2_learns_4 : decode cX2_learns 4 = .ok (.aload_n 0, 1) := dk_42 (dk_at dksX2_learns_0 4 rfl rfl)
theorem dX2_learns_5 : decode cX2_learns 5 = .ok (.getfield 59, 3) := dk_180 0 59 (dk_at dksX2_learns_0 5 rfl rfl)
theorem dX2_learns_8 : decode cX2_learns 8 = .ok (.aload_n 1, 1) := dk_43 (dk_at dksX2_learns_0 8 rfl rfl)
theorem dX2_learns_9 : decode cX2_learns 9 = .ok (.aastore, 1) := dk_83 (dk_at dksX2_learns_0 9 rfl rfl)
theorem dX2_learns_10 : decode cX2_learns 10 = .ok (.aload_n 0, 1) := dk_42 (dk_at dksX2_learns_0 10 rfl rfl)
theorem dX2_learns_11 : decode cX2_learns 11 = .ok (.dup, 1) := dk_89 (dk_at dksX2_learns_0 11 rfl rfl)
theorem dX2_learns_12 : decode cX2_learns 12 = .ok (.getfield 59, 3) := dk_180 0 59 (dk_at dksX2_learns_0 12 rfl rfl)
theorem dX2_learns_15 : decode cX2_learns 15 = .ok (.iconst 1, 1) := dk_4 (dk_at dksX2_learns_0 15 rfl rfl)
theorem dX2_learns_16 : decode cX2_learns 16 = .ok (.iadd, 1) := dk_96 (dk_at dksX2_learns_0 16 rfl rfl)
theorem dX2_learns_17 : decode cX2_learns 17 = .ok (.putfield 59, 3) := dk_181 0 59 (dk_at dksX2_learns_0 17 rfl rfl)
theorem dX2_learns_20 : decode cX2_learns 20 = .ok (.aload_n 0, 1) := dk_42 (dk_at dksX2_learns_0 20 rfl rfl)
theorem dX2_learns_21 : decode cX2_learns 21 = .ok (.getfield 59, 3) := dk_180 0 59 (dk_at dksX2_learns_0 21 rfl rfl)
theorem dX2_learns_24 : decode cX2_learns 24 = .ok (.iconst 1, 1) := dk_4 (dk_at dksX2_learns_1 0 rfl rfl)
theorem dX2_learns_25 : decode cX2_learns 25 = .ok (.isub, 1) := dk_100 (dk_at dksX2_learns_1 1 rfl rfl)
theorem dX2_learns_26 : decode cX2_learns 26 = .ok (.ireturn, 1) := dk_172 (dk_at dksX2_learns_1 2 rfl rfl)
abbrev cX2_isStroke : ByteArray := prog_4_method_4_code
def yX2_isStroke : MethodName := ⟨RX2, "isStroke", "(I)Z"⟩
def dkwX2_isStroke_0 : List UInt8 := [27, 3, 42, 180, 0, 59, 4, 100, 184, 0, 71, 172]
abbrev dktX2_isStroke_0 : List UInt8 := dkwX2_isStroke_0 ++ []
theorem dksX2_isStroke_0 : cX2_isStroke.data.toList.drop 0 = dktX2_isStroke_0 := by decide +kernel
theorem dX2_isStroke_0 : decode cX2_isStroke 0 = .ok (.iload_n 1, 1) := dk_27 (dk_at dksX2_isStroke_0 0 rfl rfl)
theorem dX2_isStroke_1 : decode cX2_isStroke 1 = .ok (.iconst 0, 1) := dk_3 (dk_at dksX2_isStroke_0 1 rfl rfl)
theorem dX2_isStroke_2 : decode cX2_isStroke 2 = .ok (.aload_n 0, 1) := dk_42 (dk_at dksX2_isStroke_0 2 rfl rfl)
theorem dX2_isStroke_3 : decode cX2_isStroke 3 = .ok (.getfield 59, 3) := dk_180 0 59 (dk_at dksX2_isStroke_0 3 rfl rfl)
theorem dX2_isStroke_6 : decode cX2_isStroke 6 = .ok (.iconst 1, 1) := dk_4 (dk_at dksX2_isStroke_0 6 rfl rfl)
theorem dX2_isStroke_7 : decode cX2_isStroke 7 = .ok (.isub, 1) := dk_100 (dk_at dksX2_isStroke_0 7 rfl rfl)
theorem dX2_isStroke_8 : decode cX2_isStroke 8 = .ok (.invokestatic 71, 3) := dk_184 0 71 (dk_at dksX2_isStroke_0 8 rfl rfl)
theorem dX2_isStroke_11 : decode cX2_isStroke 11 = .ok (.ireturn, 1) := dk_172 (dk_at dksX2_isStroke_0 11 rfl rfl)
abbrev cX2_hits : ByteArray := prog_4_method_18_code
def yX2_hits : MethodName := ⟨RX2, "hits", "(II)Z"⟩
def dkwX2_hits_5 : List UInt8 := [164, 0, 10, 42, 29, 182, 0, 144, 4, 172, 42, 21, 6, 21, 4, 21, 5, 182, 0, 148, 3, 172]
abbrev dktX2_hits_5 : List UInt8 := dkwX2_hits_5 ++ []
def dkwX2_hits_4 : List UInt8 := [159, 0, 26, 42, 180, 0, 17, 21, 6, 46, 21, 4, 184, 0, 95, 42, 21, 6, 21, 5, 182, 0, 123]
abbrev dktX2_hits_4 : List UInt8 := dkwX2_hits_4 ++ dktX2_hits_5
def dkwX2_hits_3 : List UInt8 := [5, 5, 29, 104, 100, 6, 182, 0, 119, 42, 6, 5, 29, 104, 100, 6, 182, 0, 119, 21, 6, 16, 9]
abbrev dktX2_hits_3 : List UInt8 := dkwX2_hits_3 ++ dktX2_hits_4
def dkwX2_hits_2 : List UInt8 := [182, 0, 134, 182, 0, 119, 42, 21, 4, 182, 0, 137, 54, 6, 42, 21, 4, 182, 0, 140, 153, 0, 23, 42]
abbrev dktX2_hits_2 : List UInt8 := dkwX2_hits_2 ++ dktX2_hits_3
def dkwX2_hits_1 : List UInt8 := [54, 5, 42, 89, 180, 0, 68, 4, 96, 181, 0, 68, 42, 42, 180, 0, 62, 42, 180, 0, 11, 27, 50]
abbrev dktX2_hits_1 : List UInt8 := dkwX2_hits_1 ++ dktX2_hits_2
def dkwX2_hits_0 : List UInt8 := [42, 182, 0, 91, 62, 42, 27, 28, 182, 0, 130, 54, 4, 42, 180, 0, 11, 27, 50, 21, 4, 182, 0, 131]
abbrev dktX2_hits_0 : List UInt8 := dkwX2_hits_0 ++ dktX2_hits_1
theorem dksX2_hits_0 : cX2_hits.data.toList.drop 0 = dktX2_hits_0 := by decide +kernel
theorem dksX2_hits_1 : cX2_hits.data.toList.drop 24 = dktX2_hits_1 := dk_seg dksX2_hits_0 24 rfl rfl
theorem dksX2_hits_2 : cX2_hits.data.toList.drop 47 = dktX2_hits_2 := dk_seg dksX2_hits_1 23 rfl rfl
theorem dksX2_hits_3 : cX2_hits.data.toList.drop 71 = dktX2_hits_3 := dk_seg dksX2_hits_2 24 rfl rfl
theorem dksX2_hits_4 : cX2_hits.data.toList.drop 94 = dktX2_hits_4 := dk_seg dksX2_hits_3 23 rfl rfl
theorem dksX2_hits_5 : cX2_hits.data.toList.drop 117 = dktX2_hits_5 := dk_seg dksX2_hits_4 23 rfl rfl
theorem dX2_hits_0 : decode cX2_hits 0 = .ok (.aload_n 0, 1) := dk_42 (dk_at dksX2_hits_0 0 rfl rfl)
theorem dX2_hits_1 : decode cX2_hits 1 = .ok (.invokevirtual 91, 3) := dk_182 0 91 (dk_at dksX2_hits_0 1 rfl rfl)
theorem dX2_hits_4 : decode cX2_hits 4 = .ok (.istore_n 3, 1) := dk_62 (dk_at dksX2_hits_0 4 rfl rfl)
theorem dX2_hits_5 : decode cX2_hits 5 = .ok (.aload_n 0, 1) := dk_42 (dk_at dksX2_hits_0 5 rfl rfl)
theorem dX2_hits_6 : decode cX2_hits 6 = .ok (.iload_n 1, 1) := dk_27 (dk_at dksX2_hits_0 6 rfl rfl)
theorem dX2_hits_7 : decode cX2_hits 7 = .ok (.iload_n 2, 1) := dk_28 (dk_at dksX2_hits_0 7 rfl rfl)
theorem dX2_hits_8 : decode cX2_hits 8 = .ok (.invokevirtual 130, 3) := dk_182 0 130 (dk_at dksX2_hits_0 8 rfl rfl)
theorem dX2_hits_11 : decode cX2_hits 11 = .ok (.istore 4, 2) := dk_54 4 (dk_at dksX2_hits_0 11 rfl rfl)
theorem dX2_hits_13 : decode cX2_hits 13 = .ok (.aload_n 0, 1) := dk_42 (dk_at dksX2_hits_0 13 rfl rfl)
theorem dX2_hits_14 : decode cX2_hits 14 = .ok (.getfield 11, 3) := dk_180 0 11 (dk_at dksX2_hits_0 14 rfl rfl)
theorem dX2_hits_17 : decode cX2_hits 17 = .ok (.iload_n 1, 1) := dk_27 (dk_at dksX2_hits_0 17 rfl rfl)
theorem dX2_hits_18 : decode cX2_hits 18 = .ok (.aaload, 1) := dk_50 (dk_at dksX2_hits_0 18 rfl rfl)
theorem dX2_hits_19 : decode cX2_hits 19 = .ok (.iload 4, 2) := dk_21 4 (dk_at dksX2_hits_0 19 rfl rfl)
theorem dX2_hits_21 : decode cX2_hits 21 = .ok (.invokevirtual 131, 3) := dk_182 0 131 (dk_at dksX2_hits_0 21 rfl rfl)
theorem dX2_hits_24 : decode cX2_hits 24 = .ok (.istore 5, 2) := dk_54 5 (dk_at dksX2_hits_1 0 rfl rfl)
theorem dX2_hits_26 : decode cX2_hits 26 = .ok (.aload_n 0, 1) := dk_42 (dk_at dksX2_hits_1 2 rfl rfl)
theorem dX2_hits_27 : decode cX2_hits 27 = .ok (.dup, 1) := dk_89 (dk_at dksX2_hits_1 3 rfl rfl)
theorem dX2_hits_28 : decode cX2_hits 28 = .ok (.getfield 68, 3) := dk_180 0 68 (dk_at dksX2_hits_1 4 rfl rfl)
theorem dX2_hits_31 : decode cX2_hits 31 = .ok (.iconst 1, 1) := dk_4 (dk_at dksX2_hits_1 7 rfl rfl)
theorem dX2_hits_32 : decode cX2_hits 32 = .ok (.iadd, 1) := dk_96 (dk_at dksX2_hits_1 8 rfl rfl)
theorem dX2_hits_33 : decode cX2_hits 33 = .ok (.putfield 68, 3) := dk_181 0 68 (dk_at dksX2_hits_1 9 rfl rfl)
theorem dX2_hits_36 : decode cX2_hits 36 = .ok (.aload_n 0, 1) := dk_42 (dk_at dksX2_hits_1 12 rfl rfl)
theorem dX2_hits_37 : decode cX2_hits 37 = .ok (.aload_n 0, 1) := dk_42 (dk_at dksX2_hits_1 13 rfl rfl)
theorem dX2_hits_38 : decode cX2_hits 38 = .ok (.getfield 62, 3) := dk_180 0 62 (dk_at dksX2_hits_1 14 rfl rfl)
theorem dX2_hits_41 : decode cX2_hits 41 = .ok (.aload_n 0, 1) := dk_42 (dk_at dksX2_hits_1 17 rfl rfl)
theorem dX2_hits_42 : decode cX2_hits 42 = .ok (.getfield 11, 3) := dk_180 0 11 (dk_at dksX2_hits_1 18 rfl rfl)
theorem dX2_hits_45 : decode cX2_hits 45 = .ok (.iload_n 1, 1) := dk_27 (dk_at dksX2_hits_1 21 rfl rfl)
theorem dX2_hits_46 : decode cX2_hits 46 = .ok (.aaload, 1) := dk_50 (dk_at dksX2_hits_1 22 rfl rfl)
theorem dX2_hits_47 : decode cX2_hits 47 = .ok (.invokevirtual 134, 3) := dk_182 0 134 (dk_at dksX2_hits_2 0 rfl rfl)
theorem dX2_hits_50 : decode cX2_hits 50 = .ok (.invokevirtual 119, 3) := dk_182 0 119 (dk_at dksX2_hits_2 3 rfl rfl)
theorem dX2_hits_53 : decode cX2_hits 53 = .ok (.aload_n 0, 1) := dk_42 (dk_at dksX2_hits_2 6 rfl rfl)
theorem dX2_hits_54 : decode cX2_hits 54 = .ok (.iload 4, 2) := dk_21 4 (dk_at dksX2_hits_2 7 rfl rfl)
theorem dX2_hits_56 : decode cX2_hits 56 = .ok (.invokevirtual 137, 3) := dk_182 0 137 (dk_at dksX2_hits_2 9 rfl rfl)
theorem dX2_hits_59 : decode cX2_hits 59 = .ok (.istore 6, 2) := dk_54 6 (dk_at dksX2_hits_2 12 rfl rfl)
theorem dX2_hits_61 : decode cX2_hits 61 = .ok (.aload_n 0, 1) := dk_42 (dk_at dksX2_hits_2 14 rfl rfl)
theorem dX2_hits_62 : decode cX2_hits 62 = .ok (.iload 4, 2) := dk_21 4 (dk_at dksX2_hits_2 15 rfl rfl)
theorem dX2_hits_64 : decode cX2_hits 64 = .ok (.invokevirtual 140, 3) := dk_182 0 140 (dk_at dksX2_hits_2 17 rfl rfl)
theorem dX2_hits_67 : decode cX2_hits 67 = .ok (.ifCond .eq 23, 3) := dk_153 0 23 (dk_at dksX2_hits_2 20 rfl rfl)
theorem dX2_hits_70 : decode cX2_hits 70 = .ok (.aload_n 0, 1) := dk_42 (dk_at dksX2_hits_2 23 rfl rfl)
theorem dX2_hits_71 : decode cX2_hits 71 = .ok (.iconst 2, 1) := dk_5 (dk_at dksX2_hits_3 0 rfl rfl)
theorem dX2_hits_72 : decode cX2_hits 72 = .ok (.iconst 2, 1) := dk_5 (dk_at dksX2_hits_3 1 rfl rfl)
theorem dX2_hits_73 : decode cX2_hits 73 = .ok (.iload_n 3, 1) := dk_29 (dk_at dksX2_hits_3 2 rfl rfl)
theorem dX2_hits_74 : decode cX2_hits 74 = .ok (.imul, 1) := dk_104 (dk_at dksX2_hits_3 3 rfl rfl)
theorem dX2_hits_75 : decode cX2_hits 75 = .ok (.isub, 1) := dk_100 (dk_at dksX2_hits_3 4 rfl rfl)
theorem dX2_hits_76 : decode cX2_hits 76 = .ok (.iconst 3, 1) := dk_6 (dk_at dksX2_hits_3 5 rfl rfl)
theorem dX2_hits_77 : decode cX2_hits 77 = .ok (.invokevirtual 119, 3) := dk_182 0 119 (dk_at dksX2_hits_3 6 rfl rfl)
theorem dX2_hits_80 : decode cX2_hits 80 = .ok (.aload_n 0, 1) := dk_42 (dk_at dksX2_hits_3 9 rfl rfl)
theorem dX2_hits_81 : decode cX2_hits 81 = .ok (.iconst 3, 1) := dk_6 (dk_at dksX2_hits_3 10 rfl rfl)
theorem dX2_hits_82 : decode cX2_hits 82 = .ok (.iconst 2, 1) := dk_5 (dk_at dksX2_hits_3 11 rfl rfl)
theorem dX2_hits_83 : decode cX2_hits 83 = .ok (.iload_n 3, 1) := dk_29 (dk_at dksX2_hits_3 12 rfl rfl)
theorem dX2_hits_84 : decode cX2_hits 84 = .ok (.imul, 1) := dk_104 (dk_at dksX2_hits_3 13 rfl rfl)
theorem dX2_hits_85 : decode cX2_hits 85 = .ok (.isub, 1) := dk_100 (dk_at dksX2_hits_3 14 rfl rfl)
theorem dX2_hits_86 : decode cX2_hits 86 = .ok (.iconst 3, 1) := dk_6 (dk_at dksX2_hits_3 15 rfl rfl)
theorem dX2_hits_87 : decode cX2_hits 87 = .ok (.invokevirtual 119, 3) := dk_182 0 119 (dk_at dksX2_hits_3 16 rfl rfl)
theorem dX2_hits_90 : decode cX2_hits 90 = .ok (.iload 6, 2) := dk_21 6 (dk_at dksX2_hits_3 19 rfl rfl)
theorem dX2_hits_92 : decode cX2_hits 92 = .ok (.bipush 9, 2) := dk_16 9 (dk_at dksX2_hits_3 21 rfl rfl)
theorem dX2_hits_94 : decode cX2_hits 94 = .ok (.if_icmp .eq 26, 3) := dk_159 0 26 (dk_at dksX2_hits_4 0 rfl rfl)
theorem dX2_hits_97 : decode cX2_hits 97 = .ok (.aload_n 0, 1) := dk_42 (dk_at dksX2_hits_4 3 rfl rfl)
theorem dX2_hits_98 : decode cX2_hits 98 = .ok (.getfield 17, 3) := dk_180 0 17 (dk_at dksX2_hits_4 4 rfl rfl)
theorem dX2_hits_101 : decode cX2_hits 101 = .ok (.iload 6, 2) := dk_21 6 (dk_at dksX2_hits_4 7 rfl rfl)
theorem dX2_hits_103 : decode cX2_hits 103 = .ok (.iaload, 1) := dk_46 (dk_at dksX2_hits_4 9 rfl rfl)
theorem dX2_hits_104 : decode cX2_hits 104 = .ok (.iload 4, 2) := dk_21 4 (dk_at dksX2_hits_4 10 rfl rfl)
theorem dX2_hits_106 : decode cX2_hits 106 = .ok (.invokestatic 95, 3) := dk_184 0 95 (dk_at dksX2_hits_4 12 rfl rfl)
theorem dX2_hits_109 : decode cX2_hits 109 = .ok (.aload_n 0, 1) := dk_42 (dk_at dksX2_hits_4 15 rfl rfl)
theorem dX2_hits_110 : decode cX2_hits 110 = .ok (.iload 6, 2) := dk_21 6 (dk_at dksX2_hits_4 16 rfl rfl)
theorem dX2_hits_112 : decode cX2_hits 112 = .ok (.iload 5, 2) := dk_21 5 (dk_at dksX2_hits_4 18 rfl rfl)
theorem dX2_hits_114 : decode cX2_hits 114 = .ok (.invokevirtual 123, 3) := dk_182 0 123 (dk_at dksX2_hits_4 20 rfl rfl)
theorem dX2_hits_117 : decode cX2_hits 117 = .ok (.if_icmp .le 10, 3) := dk_164 0 10 (dk_at dksX2_hits_5 0 rfl rfl)
theorem dX2_hits_120 : decode cX2_hits 120 = .ok (.aload_n 0, 1) := dk_42 (dk_at dksX2_hits_5 3 rfl rfl)
theorem dX2_hits_121 : decode cX2_hits 121 = .ok (.iload_n 3, 1) := dk_29 (dk_at dksX2_hits_5 4 rfl rfl)
theorem dX2_hits_122 : decode cX2_hits 122 = .ok (.invokevirtual 144, 3) := dk_182 0 144 (dk_at dksX2_hits_5 5 rfl rfl)
theorem dX2_hits_125 : decode cX2_hits 125 = .ok (.iconst 1, 1) := dk_4 (dk_at dksX2_hits_5 8 rfl rfl)
theorem dX2_hits_126 : decode cX2_hits 126 = .ok (.ireturn, 1) := dk_172 (dk_at dksX2_hits_5 9 rfl rfl)
theorem dX2_hits_127 : decode cX2_hits 127 = .ok (.aload_n 0, 1) := dk_42 (dk_at dksX2_hits_5 10 rfl rfl)
theorem dX2_hits_128 : decode cX2_hits 128 = .ok (.iload 6, 2) := dk_21 6 (dk_at dksX2_hits_5 11 rfl rfl)
theorem dX2_hits_130 : decode cX2_hits 130 = .ok (.iload 4, 2) := dk_21 4 (dk_at dksX2_hits_5 13 rfl rfl)
theorem dX2_hits_132 : decode cX2_hits 132 = .ok (.iload 5, 2) := dk_21 5 (dk_at dksX2_hits_5 15 rfl rfl)
theorem dX2_hits_134 : decode cX2_hits 134 = .ok (.invokevirtual 148, 3) := dk_182 0 148 (dk_at dksX2_hits_5 17 rfl rfl)
theorem dX2_hits_137 : decode cX2_hits 137 = .ok (.iconst 0, 1) := dk_3 (dk_at dksX2_hits_5 20 rfl rfl)
theorem dX2_hits_138 : decode cX2_hits 138 = .ok (.ireturn, 1) := dk_172 (dk_at dksX2_hits_5 21 rfl rfl)
abbrev cX2_turn : ByteArray := prog_4_method_6_code
def yX2_turn : MethodName := ⟨RX2, "turn", "()I"⟩
def dkwX2_turn_0 : List UInt8 := [42, 180, 0, 62, 5, 108, 172]
abbrev dktX2_turn_0 : List UInt8 := dkwX2_turn_0 ++ []
theorem dksX2_turn_0 : cX2_turn.data.toList.drop 0 = dktX2_turn_0 := by decide +kernel
theorem dX2_turn_0 : decode cX2_turn 0 = .ok (.aload_n 0, 1) := dk_42 (dk_at dksX2_turn_0 0 rfl rfl)
theorem dX2_turn_1 : decode cX2_turn 1 = .ok (.getfield 62, 3) := dk_180 0 62 (dk_at dksX2_turn_0 1 rfl rfl)
theorem dX2_turn_4 : decode cX2_turn 4 = .ok (.iconst 2, 1) := dk_5 (dk_at dksX2_turn_0 4 rfl rfl)
theorem dX2_turn_5 : decode cX2_turn 5 = .ok (.idiv, 1) := dk_108 (dk_at dksX2_turn_0 5 rfl rfl)
theorem dX2_turn_6 : decode cX2_turn 6 = .ok (.ireturn, 1) := dk_172 (dk_at dksX2_turn_0 6 rfl rfl)
abbrev cX2_falls : ByteArray := prog_4_method_9_code
def yX2_falls : MethodName := ⟨RX2, "falls", "(II)I"⟩
def dkwX2_falls_0 : List UInt8 := [42, 180, 0, 11, 27, 50, 28, 42, 180, 0, 65, 182, 0, 84, 172]
abbrev dktX2_falls_0 : List UInt8 := dkwX2_falls_0 ++ []
theorem dksX2_falls_0 : cX2_falls.data.toList.drop 0 = dktX2_falls_0 := by decide +kernel
theorem dX2_falls_0 : decode cX2_falls 0 = .ok (.aload_n 0, 1) := dk_42 (dk_at dksX2_falls_0 0 rfl rfl)
theorem dX2_falls_1 : decode cX2_falls 1 = .ok (.getfield 11, 3) := dk_180 0 11 (dk_at dksX2_falls_0 1 rfl rfl)
theorem dX2_falls_4 : decode cX2_falls 4 = .ok (.iload_n 1, 1) := dk_27 (dk_at dksX2_falls_0 4 rfl rfl)
theorem dX2_falls_5 : decode cX2_falls 5 = .ok (.aaload, 1) := dk_50 (dk_at dksX2_falls_0 5 rfl rfl)
theorem dX2_falls_6 : decode cX2_falls 6 = .ok (.iload_n 2, 1) := dk_28 (dk_at dksX2_falls_0 6 rfl rfl)
theorem dX2_falls_7 : decode cX2_falls 7 = .ok (.aload_n 0, 1) := dk_42 (dk_at dksX2_falls_0 7 rfl rfl)
theorem dX2_falls_8 : decode cX2_falls 8 = .ok (.getfield 65, 3) := dk_180 0 65 (dk_at dksX2_falls_0 8 rfl rfl)
theorem dX2_falls_11 : decode cX2_falls 11 = .ok (.invokevirtual 84, 3) := dk_182 0 84 (dk_at dksX2_falls_0 11 rfl rfl)
theorem dX2_falls_14 : decode cX2_falls 14 = .ok (.ireturn, 1) := dk_172 (dk_at dksX2_falls_0 14 rfl rfl)
abbrev cX2_tiresMore : ByteArray := prog_4_method_8_code
def yX2_tiresMore : MethodName := ⟨RX2, "tiresMore", "(II)V"⟩
def dkwX2_tiresMore_0 : List UInt8 := [42, 180, 0, 24, 27, 16, 99, 42, 180, 0, 24, 27, 46, 28, 96, 184, 0, 81, 79, 177]
abbrev dktX2_tiresMore_0 : List UInt8 := dkwX2_tiresMore_0 ++ []
theorem dksX2_tiresMore_0 : cX2_tiresMore.data.toList.drop 0 = dktX2_tiresMore_0 := by decide +kernel
theorem dX2_tiresMore_0 : decode cX2_tiresMore 0 = .ok (.aload_n 0, 1) := dk_42 (dk_at dksX2_tiresMore_0 0 rfl rfl)
theorem dX2_tiresMore_1 : decode cX2_tiresMore 1 = .ok (.getfield 24, 3) := dk_180 0 24 (dk_at dksX2_tiresMore_0 1 rfl rfl)
theorem dX2_tiresMore_4 : decode cX2_tiresMore 4 = .ok (.iload_n 1, 1) := dk_27 (dk_at dksX2_tiresMore_0 4 rfl rfl)
theorem dX2_tiresMore_5 : decode cX2_tiresMore 5 = .ok (.bipush 99, 2) := dk_16 99 (dk_at dksX2_tiresMore_0 5 rfl rfl)
theorem dX2_tiresMore_7 : decode cX2_tiresMore 7 = .ok (.aload_n 0, 1) := dk_42 (dk_at dksX2_tiresMore_0 7 rfl rfl)
theorem dX2_tiresMore_8 : decode cX2_tiresMore 8 = .ok (.getfield 24, 3) := dk_180 0 24 (dk_at dksX2_tiresMore_0 8 rfl rfl)
theorem dX2_tiresMore_11 : decode cX2_tiresMore 11 = .ok (.iload_n 1, 1) := dk_27 (dk_at dksX2_tiresMore_0 11 rfl rfl)
theorem dX2_tiresMore_12 : decode cX2_tiresMore 12 = .ok (.iaload, 1) := dk_46 (dk_at dksX2_tiresMore_0 12 rfl rfl)
theorem dX2_tiresMore_13 : decode cX2_tiresMore 13 = .ok (.iload_n 2, 1) := dk_28 (dk_at dksX2_tiresMore_0 13 rfl rfl)
theorem dX2_tiresMore_14 : decode cX2_tiresMore 14 = .ok (.iadd, 1) := dk_96 (dk_at dksX2_tiresMore_0 14 rfl rfl)
theorem dX2_tiresMore_15 : decode cX2_tiresMore 15 = .ok (.invokestatic 81, 3) := dk_184 0 81 (dk_at dksX2_tiresMore_0 15 rfl rfl)
theorem dX2_tiresMore_18 : decode cX2_tiresMore 18 = .ok (.iastore, 1) := dk_79 (dk_at dksX2_tiresMore_0 18 rfl rfl)
theorem dX2_tiresMore_19 : decode cX2_tiresMore 19 = .ok (.return_, 1) := dk_177 (dk_at dksX2_tiresMore_0 19 rfl rfl)
abbrev cX2_whose : ByteArray := prog_4_method_11_code
def yX2_whose : MethodName := ⟨RX2, "whose", "(I)I"⟩
def dkwX2_whose_2 : List UInt8 := [167, 0, 8, 42, 28, 182, 0, 98, 172]
abbrev dktX2_whose_2 : List UInt8 := dkwX2_whose_2 ++ []
def dkwX2_whose_1 : List UInt8 := [4, 96, 46, 27, 184, 0, 95, 100, 62, 29, 156, 0, 7, 28, 167, 0, 18, 29, 158, 0, 9, 28, 4, 96]
abbrev dktX2_whose_1 : List UInt8 := dkwX2_whose_1 ++ dktX2_whose_2
def dkwX2_whose_0 : List UInt8 := [5, 5, 42, 182, 0, 91, 104, 100, 61, 42, 180, 0, 17, 28, 46, 27, 184, 0, 95, 42, 180, 0, 17, 28]
abbrev dktX2_whose_0 : List UInt8 := dkwX2_whose_0 ++ dktX2_whose_1
theorem dksX2_whose_0 : cX2_whose.data.toList.drop 0 = dktX2_whose_0 := by decide +kernel
theorem dksX2_whose_1 : cX2_whose.data.toList.drop 24 = dktX2_whose_1 := dk_seg dksX2_whose_0 24 rfl rfl
theorem dksX2_whose_2 : cX2_whose.data.toList.drop 48 = dktX2_whose_2 := dk_seg dksX2_whose_1 24 rfl rfl
theorem dX2_whose_0 : decode cX2_whose 0 = .ok (.iconst 2, 1) := dk_5 (dk_at dksX2_whose_0 0 rfl rfl)
theorem dX2_whose_1 : decode cX2_whose 1 = .ok (.iconst 2, 1) := dk_5 (dk_at dksX2_whose_0 1 rfl rfl)
theorem dX2_whose_2 : decode cX2_whose 2 = .ok (.aload_n 0, 1) := dk_42 (dk_at dksX2_whose_0 2 rfl rfl)
theorem dX2_whose_3 : decode cX2_whose 3 = .ok (.invokevirtual 91, 3) := dk_182 0 91 (dk_at dksX2_whose_0 3 rfl rfl)
theorem dX2_whose_6 : decode cX2_whose 6 = .ok (.imul, 1) := dk_104 (dk_at dksX2_whose_0 6 rfl rfl)
theorem dX2_whose_7 : decode cX2_whose 7 = .ok (.isub, 1) := dk_100 (dk_at dksX2_whose_0 7 rfl rfl)
theorem dX2_whose_8 : decode cX2_whose 8 = .ok (.istore_n 2, 1) := dk_61 (dk_at dksX2_whose_0 8 rfl rfl)
theorem dX2_whose_9 : decode cX2_whose 9 = .ok (.aload_n 0, 1) := dk_42 (dk_at dksX2_whose_0 9 rfl rfl)
theorem dX2_whose_10 : decode cX2_whose 10 = .ok (.getfield 17, 3) := dk_180 0 17 (dk_at dksX2_whose_0 10 rfl rfl)
theorem dX2_whose_13 : decode cX2_whose 13 = .ok (.iload_n 2, 1) := dk_28 (dk_at dksX2_whose_0 13 rfl rfl)
theorem dX2_whose_14 : decode cX2_whose 14 = .ok (.iaload, 1) := dk_46 (dk_at dksX2_whose_0 14 rfl rfl)
theorem dX2_whose_15 : decode cX2_whose 15 = .ok (.iload_n 1, 1) := dk_27 (dk_at dksX2_whose_0 15 rfl rfl)
theorem dX2_whose_16 : decode cX2_whose 16 = .ok (.invokestatic 95, 3) := dk_184 0 95 (dk_at dksX2_whose_0 16 rfl rfl)
theorem dX2_whose_19 : decode cX2_whose 19 = .ok (.aload_n 0, 1) := dk_42 (dk_at dksX2_whose_0 19 rfl rfl)
theorem dX2_whose_20 : decode cX2_whose 20 = .ok (.getfield 17, 3) := dk_180 0 17 (dk_at dksX2_whose_0 20 rfl rfl)
theorem dX2_whose_23 : decode cX2_whose 23 = .ok (.iload_n 2, 1) := dk_28 (dk_at dksX2_whose_0 23 rfl rfl)
theorem dX2_whose_24 : decode cX2_whose 24 = .ok (.iconst 1, 1) := dk_4 (dk_at dksX2_whose_1 0 rfl rfl)
theorem dX2_whose_25 : decode cX2_whose 25 = .ok (.iadd, 1) := dk_96 (dk_at dksX2_whose_1 1 rfl rfl)
theorem dX2_whose_26 : decode cX2_whose 26 = .ok (.iaload, 1) := dk_46 (dk_at dksX2_whose_1 2 rfl rfl)
theorem dX2_whose_27 : decode cX2_whose 27 = .ok (.iload_n 1, 1) := dk_27 (dk_at dksX2_whose_1 3 rfl rfl)
theorem dX2_whose_28 : decode cX2_whose 28 = .ok (.invokestatic 95, 3) := dk_184 0 95 (dk_at dksX2_whose_1 4 rfl rfl)
theorem dX2_whose_31 : decode cX2_whose 31 = .ok (.isub, 1) := dk_100 (dk_at dksX2_whose_1 7 rfl rfl)
theorem dX2_whose_32 : decode cX2_whose 32 = .ok (.istore_n 3, 1) := dk_62 (dk_at dksX2_whose_1 8 rfl rfl)
theorem dX2_whose_33 : decode cX2_whose 33 = .ok (.iload_n 3, 1) := dk_29 (dk_at dksX2_whose_1 9 rfl rfl)
theorem dX2_whose_34 : decode cX2_whose 34 = .ok (.ifCond .ge 7, 3) := dk_156 0 7 (dk_at dksX2_whose_1 10 rfl rfl)
theorem dX2_whose_37 : decode cX2_whose 37 = .ok (.iload_n 2, 1) := dk_28 (dk_at dksX2_whose_1 13 rfl rfl)
theorem dX2_whose_38 : decode cX2_whose 38 = .ok (.goto 18, 3) := dk_167 0 18 (dk_at dksX2_whose_1 14 rfl rfl)
theorem dX2_whose_41 : decode cX2_whose 41 = .ok (.iload_n 3, 1) := dk_29 (dk_at dksX2_whose_1 17 rfl rfl)
theorem dX2_whose_42 : decode cX2_whose 42 = .ok (.ifCond .le 9, 3) := dk_158 0 9 (dk_at dksX2_whose_1 18 rfl rfl)
theorem dX2_whose_45 : decode cX2_whose 45 = .ok (.iload_n 2, 1) := dk_28 (dk_at dksX2_whose_1 21 rfl rfl)
theorem dX2_whose_46 : decode cX2_whose 46 = .ok (.iconst 1, 1) := dk_4 (dk_at dksX2_whose_1 22 rfl rfl)
theorem dX2_whose_47 : decode cX2_whose 47 = .ok (.iadd, 1) := dk_96 (dk_at dksX2_whose_1 23 rfl rfl)
theorem dX2_whose_48 : decode cX2_whose 48 = .ok (.goto 8, 3) := dk_167 0 8 (dk_at dksX2_whose_2 0 rfl rfl)
theorem dX2_whose_51 : decode cX2_whose 51 = .ok (.aload_n 0, 1) := dk_42 (dk_at dksX2_whose_2 3 rfl rfl)
theorem dX2_whose_52 : decode cX2_whose 52 = .ok (.iload_n 2, 1) := dk_28 (dk_at dksX2_whose_2 4 rfl rfl)
theorem dX2_whose_53 : decode cX2_whose 53 = .ok (.invokevirtual 98, 3) := dk_182 0 98 (dk_at dksX2_whose_2 5 rfl rfl)
theorem dX2_whose_56 : decode cX2_whose 56 = .ok (.ireturn, 1) := dk_172 (dk_at dksX2_whose_2 8 rfl rfl)
abbrev cX2_byHabit : ByteArray := prog_4_method_10_code
def yX2_byHabit : MethodName := ⟨RX2, "byHabit", "(I)I"⟩
def dkwX2_byHabit_2 : List UInt8 := [29, 21, 4, 160, 0, 8, 16, 9, 167, 0, 14, 29, 153, 0, 7, 27, 167, 0, 6, 27, 4, 96, 172]
abbrev dktX2_byHabit_2 : List UInt8 := dkwX2_byHabit_2 ++ []
def dkwX2_byHabit_1 : List UInt8 := [180, 0, 55, 27, 184, 0, 87, 62, 42, 180, 0, 55, 27, 4, 96, 184, 0, 87, 54, 4, 28, 153, 0, 9]
abbrev dktX2_byHabit_1 : List UInt8 := dkwX2_byHabit_1 ++ dktX2_byHabit_2
def dkwX2_byHabit_0 : List UInt8 := [42, 180, 0, 30, 27, 5, 108, 46, 61, 28, 4, 159, 0, 8, 28, 5, 160, 0, 5, 27, 172, 42]
abbrev dktX2_byHabit_0 : List UInt8 := dkwX2_byHabit_0 ++ dktX2_byHabit_1
theorem dksX2_byHabit_0 : cX2_byHabit.data.toList.drop 0 = dktX2_byHabit_0 := by decide +kernel
theorem dksX2_byHabit_1 : cX2_byHabit.data.toList.drop 22 = dktX2_byHabit_1 := dk_seg dksX2_byHabit_0 22 rfl rfl
theorem dksX2_byHabit_2 : cX2_byHabit.data.toList.drop 46 = dktX2_byHabit_2 := dk_seg dksX2_byHabit_1 24 rfl rfl
theorem dX2_byHabit_0 : decode cX2_byHabit 0 = .ok (.aload_n 0, 1) := dk_42 (dk_at dksX2_byHabit_0 0 rfl rfl)
theorem dX2_byHabit_1 : decode cX2_byHabit 1 = .ok (.getfield 30, 3) := dk_180 0 30 (dk_at dksX2_byHabit_0 1 rfl rfl)
theorem dX2_byHabit_4 : decode cX2_byHabit 4 = .ok (.iload_n 1, 1) := dk_27 (dk_at dksX2_byHabit_0 4 rfl rfl)
theorem dX2_byHabit_5 : decode cX2_byHabit 5 = .ok (.iconst 2, 1) := dk_5 (dk_at dksX2_byHabit_0 5 rfl rfl)
theorem dX2_byHabit_6 : decode cX2_byHabit 6 = .ok (.idiv, 1) := dk_108 (dk_at dksX2_byHabit_0 6 rfl rfl)
theorem dX2_byHabit_7 : decode cX2_byHabit 7 = .ok (.iaload, 1) := dk_46 (dk_at dksX2_byHabit_0 7 rfl rfl)
theorem dX2_byHabit_8 : decode cX2_byHabit 8 = .ok (.istore_n 2, 1) := dk_61 (dk_at dksX2_byHabit_0 8 rfl rfl)
theorem dX2_byHabit_9 : decode cX2_byHabit 9 = .ok (.iload_n 2, 1) := dk_28 (dk_at dksX2_byHabit_0 9 rfl rfl)
theorem dX2_byHabit_10 : decode cX2_byHabit 10 = .ok (.iconst 1, 1) := dk_4 (dk_at dksX2_byHabit_0 10 rfl rfl)
theorem dX2_byHabit_11 : decode cX2_byHabit 11 = .ok (.if_icmp .eq 8, 3) := dk_159 0 8 (dk_at dksX2_byHabit_0 11 rfl rfl)
theorem dX2_byHabit_14 : decode cX2_byHabit 14 = .ok (.iload_n 2, 1) := dk_28 (dk_at dksX2_byHabit_0 14 rfl rfl)
theorem dX2_byHabit_15 : decode cX2_byHabit 15 = .ok (.iconst 2, 1) := dk_5 (dk_at dksX2_byHabit_0 15 rfl rfl)
theorem dX2_byHabit_16 : decode cX2_byHabit 16 = .ok (.if_icmp .ne 5, 3) := dk_160 0 5 (dk_at dksX2_byHabit_0 16 rfl rfl)
theorem dX2_byHabit_19 : decode cX2_byHabit 19 = .ok (.iload_n 1, 1) := dk_27 (dk_at dksX2_byHabit_0 19 rfl rfl)
theorem dX2_byHabit_20 : decode cX2_byHabit 20 = .ok (.ireturn, 1) := dk_172 (dk_at dksX2_byHabit_0 20 rfl rfl)
theorem dX2_byHabit_21 : decode cX2_byHabit 21 = .ok (.aload_n 0, 1) := dk_42 (dk_at dksX2_byHabit_0 21 rfl rfl)
theorem dX2_byHabit_22 : decode cX2_byHabit 22 = .ok (.getfield 55, 3) := dk_180 0 55 (dk_at dksX2_byHabit_1 0 rfl rfl)
theorem dX2_byHabit_25 : decode cX2_byHabit 25 = .ok (.iload_n 1, 1) := dk_27 (dk_at dksX2_byHabit_1 3 rfl rfl)
theorem dX2_byHabit_26 : decode cX2_byHabit 26 = .ok (.invokestatic 87, 3) := dk_184 0 87 (dk_at dksX2_byHabit_1 4 rfl rfl)
theorem dX2_byHabit_29 : decode cX2_byHabit 29 = .ok (.istore_n 3, 1) := dk_62 (dk_at dksX2_byHabit_1 7 rfl rfl)
theorem dX2_byHabit_30 : decode cX2_byHabit 30 = .ok (.aload_n 0, 1) := dk_42 (dk_at dksX2_byHabit_1 8 rfl rfl)
theorem dX2_byHabit_31 : decode cX2_byHabit 31 = .ok (.getfield 55, 3) := dk_180 0 55 (dk_at dksX2_byHabit_1 9 rfl rfl)
theorem dX2_byHabit_34 : decode cX2_byHabit 34 = .ok (.iload_n 1, 1) := dk_27 (dk_at dksX2_byHabit_1 12 rfl rfl)
theorem dX2_byHabit_35 : decode cX2_byHabit 35 = .ok (.iconst 1, 1) := dk_4 (dk_at dksX2_byHabit_1 13 rfl rfl)
theorem dX2_byHabit_36 : decode cX2_byHabit 36 = .ok (.iadd, 1) := dk_96 (dk_at dksX2_byHabit_1 14 rfl rfl)
theorem dX2_byHabit_37 : decode cX2_byHabit 37 = .ok (.invokestatic 87, 3) := dk_184 0 87 (dk_at dksX2_byHabit_1 15 rfl rfl)
theorem dX2_byHabit_40 : decode cX2_byHabit 40 = .ok (.istore 4, 2) := dk_54 4 (dk_at dksX2_byHabit_1 18 rfl rfl)
theorem dX2_byHabit_42 : decode cX2_byHabit 42 = .ok (.iload_n 2, 1) := dk_28 (dk_at dksX2_byHabit_1 20 rfl rfl)
theorem dX2_byHabit_43 : decode cX2_byHabit 43 = .ok (.ifCond .eq 9, 3) := dk_153 0 9 (dk_at dksX2_byHabit_1 21 rfl rfl)
theorem dX2_byHabit_46 : decode cX2_byHabit 46 = .ok (.iload_n 3, 1) := dk_29 (dk_at dksX2_byHabit_2 0 rfl rfl)
theorem dX2_byHabit_47 : decode cX2_byHabit 47 = .ok (.iload 4, 2) := dk_21 4 (dk_at dksX2_byHabit_2 1 rfl rfl)
theorem dX2_byHabit_49 : decode cX2_byHabit 49 = .ok (.if_icmp .ne 8, 3) := dk_160 0 8 (dk_at dksX2_byHabit_2 3 rfl rfl)
theorem dX2_byHabit_52 : decode cX2_byHabit 52 = .ok (.bipush 9, 2) := dk_16 9 (dk_at dksX2_byHabit_2 6 rfl rfl)
theorem dX2_byHabit_54 : decode cX2_byHabit 54 = .ok (.goto 14, 3) := dk_167 0 14 (dk_at dksX2_byHabit_2 8 rfl rfl)
theorem dX2_byHabit_57 : decode cX2_byHabit 57 = .ok (.iload_n 3, 1) := dk_29 (dk_at dksX2_byHabit_2 11 rfl rfl)
theorem dX2_byHabit_58 : decode cX2_byHabit 58 = .ok (.ifCond .eq 7, 3) := dk_153 0 7 (dk_at dksX2_byHabit_2 12 rfl rfl)
theorem dX2_byHabit_61 : decode cX2_byHabit 61 = .ok (.iload_n 1, 1) := dk_27 (dk_at dksX2_byHabit_2 15 rfl rfl)
theorem dX2_byHabit_62 : decode cX2_byHabit 62 = .ok (.goto 6, 3) := dk_167 0 6 (dk_at dksX2_byHabit_2 16 rfl rfl)
theorem dX2_byHabit_65 : decode cX2_byHabit 65 = .ok (.iload_n 1, 1) := dk_27 (dk_at dksX2_byHabit_2 19 rfl rfl)
theorem dX2_byHabit_66 : decode cX2_byHabit 66 = .ok (.iconst 1, 1) := dk_4 (dk_at dksX2_byHabit_2 20 rfl rfl)
theorem dX2_byHabit_67 : decode cX2_byHabit 67 = .ok (.iadd, 1) := dk_96 (dk_at dksX2_byHabit_2 21 rfl rfl)
theorem dX2_byHabit_68 : decode cX2_byHabit 68 = .ok (.ireturn, 1) := dk_172 (dk_at dksX2_byHabit_2 22 rfl rfl)
abbrev cX2_isClash : ByteArray := prog_4_method_12_code
def yX2_isClash : MethodName := ⟨RX2, "isClash", "(I)Z"⟩
def dkwX2_isClash_2 : List UInt8 := [4, 167, 0, 4, 3, 172]
abbrev dktX2_isClash_2 : List UInt8 := dkwX2_isClash_2 ++ []
def dkwX2_isClash_1 : List UInt8 := [180, 0, 17, 28, 46, 27, 184, 0, 95, 42, 180, 0, 17, 28, 4, 96, 46, 27, 184, 0, 95, 160, 0, 7]
abbrev dktX2_isClash_1 : List UInt8 := dkwX2_isClash_1 ++ dktX2_isClash_2
def dkwX2_isClash_0 : List UInt8 := [5, 5, 42, 182, 0, 91, 104, 100, 61, 42, 180, 0, 30, 28, 5, 108, 46, 5, 160, 0, 32, 42]
abbrev dktX2_isClash_0 : List UInt8 := dkwX2_isClash_0 ++ dktX2_isClash_1
theorem dksX2_isClash_0 : cX2_isClash.data.toList.drop 0 = dktX2_isClash_0 := by decide +kernel
theorem dksX2_isClash_1 : cX2_isClash.data.toList.drop 22 = dktX2_isClash_1 := dk_seg dksX2_isClash_0 22 rfl rfl
theorem dksX2_isClash_2 : cX2_isClash.data.toList.drop 46 = dktX2_isClash_2 := dk_seg dksX2_isClash_1 24 rfl rfl
theorem dX2_isClash_0 : decode cX2_isClash 0 = .ok (.iconst 2, 1) := dk_5 (dk_at dksX2_isClash_0 0 rfl rfl)
theorem dX2_isClash_1 : decode cX2_isClash 1 = .ok (.iconst 2, 1) := dk_5 (dk_at dksX2_isClash_0 1 rfl rfl)
theorem dX2_isClash_2 : decode cX2_isClash 2 = .ok (.aload_n 0, 1) := dk_42 (dk_at dksX2_isClash_0 2 rfl rfl)
theorem dX2_isClash_3 : decode cX2_isClash 3 = .ok (.invokevirtual 91, 3) := dk_182 0 91 (dk_at dksX2_isClash_0 3 rfl rfl)
theorem dX2_isClash_6 : decode cX2_isClash 6 = .ok (.imul, 1) := dk_104 (dk_at dksX2_isClash_0 6 rfl rfl)
theorem dX2_isClash_7 : decode cX2_isClash 7 = .ok (.isub, 1) := dk_100 (dk_at dksX2_isClash_0 7 rfl rfl)
theorem dX2_isClash_8 : decode cX2_isClash 8 = .ok (.istore_n 2, 1) := dk_61 (dk_at dksX2_isClash_0 8 rfl rfl)
theorem dX2_isClash_9 : decode cX2_isClash 9 = .ok (.aload_n 0, 1) := dk_42 (dk_at dksX2_isClash_0 9 rfl rfl)
theorem dX2_isClash_10 : decode cX2_isClash 10 = .ok (.getfield 30, 3) := dk_180 0 30 (dk_at dksX2_isClash_0 10 rfl rfl)
theorem dX2_isClash_13 : decode cX2_isClash 13 = .ok (.iload_n 2, 1) := dk_28 (dk_at dksX2_isClash_0 13 rfl rfl)
theorem dX2_isClash_14 : decode cX2_isClash 14 = .ok (.iconst 2, 1) := dk_5 (dk_at dksX2_isClash_0 14 rfl rfl)
theorem dX2_isClash_15 : decode cX2_isClash 15 = .ok (.idiv, 1) := dk_108 (dk_at dksX2_isClash_0 15 rfl rfl)
theorem dX2_isClash_16 : decode cX2_isClash 16 = .ok (.iaload, 1) := dk_46 (dk_at dksX2_isClash_0 16 rfl rfl)
theorem dX2_isClash_17 : decode cX2_isClash 17 = .ok (.iconst 2, 1) := dk_5 (dk_at dksX2_isClash_0 17 rfl rfl)
theorem dX2_isClash_18 : decode cX2_isClash 18 = .ok (.if_icmp .ne 32, 3) := dk_160 0 32 (dk_at dksX2_isClash_0 18 rfl rfl)
theorem dX2_isClash_21 : decode cX2_isClash 21 = .ok (.aload_n 0, 1) := dk_42 (dk_at dksX2_isClash_0 21 rfl rfl)
theorem dX2_isClash_22 : decode cX2_isClash 22 = .ok (.getfield 17, 3) := dk_180 0 17 (dk_at dksX2_isClash_1 0 rfl rfl)
theorem dX2_isClash_25 : decode cX2_isClash 25 = .ok (.iload_n 2, 1) := dk_28 (dk_at dksX2_isClash_1 3 rfl rfl)
theorem dX2_isClash_26 : decode cX2_isClash 26 = .ok (.iaload, 1) := dk_46 (dk_at dksX2_isClash_1 4 rfl rfl)
theorem dX2_isClash_27 : decode cX2_isClash 27 = .ok (.iload_n 1, 1) := dk_27 (dk_at dksX2_isClash_1 5 rfl rfl)
theorem dX2_isClash_28 : decode cX2_isClash 28 = .ok (.invokestatic 95, 3) := dk_184 0 95 (dk_at dksX2_isClash_1 6 rfl rfl)
theorem dX2_isClash_31 : decode cX2_isClash 31 = .ok (.aload_n 0, 1) := dk_42 (dk_at dksX2_isClash_1 9 rfl rfl)
theorem dX2_isClash_32 : decode cX2_isClash 32 = .ok (.getfield 17, 3) := dk_180 0 17 (dk_at dksX2_isClash_1 10 rfl rfl)
theorem dX2_isClash_35 : decode cX2_isClash 35 = .ok (.iload_n 2, 1) := dk_28 (dk_at dksX2_isClash_1 13 rfl rfl)
theorem dX2_isClash_36 : decode cX2_isClash 36 = .ok (.iconst 1, 1) := dk_4 (dk_at dksX2_isClash_1 14 rfl rfl)
theorem dX2_isClash_37 : decode cX2_isClash 37 = .ok (.iadd, 1) := dk_96 (dk_at dksX2_isClash_1 15 rfl rfl)
theorem dX2_isClash_38 : decode cX2_isClash 38 = .ok (.iaload, 1) := dk_46 (dk_at dksX2_isClash_1 16 rfl rfl)
theorem dX2_isClash_39 : decode cX2_isClash 39 = .ok (.iload_n 1, 1) := dk_27 (dk_at dksX2_isClash_1 17 rfl rfl)
theorem dX2_isClash_40 : decode cX2_isClash 40 = .ok (.invokestatic 95, 3) := dk_184 0 95 (dk_at dksX2_isClash_1 18 rfl rfl)
theorem dX2_isClash_43 : decode cX2_isClash 43 = .ok (.if_icmp .ne 7, 3) := dk_160 0 7 (dk_at dksX2_isClash_1 21 rfl rfl)
theorem dX2_isClash_46 : decode cX2_isClash 46 = .ok (.iconst 1, 1) := dk_4 (dk_at dksX2_isClash_2 0 rfl rfl)
theorem dX2_isClash_47 : decode cX2_isClash 47 = .ok (.goto 4, 3) := dk_167 0 4 (dk_at dksX2_isClash_2 1 rfl rfl)
theorem dX2_isClash_50 : decode cX2_isClash 50 = .ok (.iconst 0, 1) := dk_3 (dk_at dksX2_isClash_2 4 rfl rfl)
theorem dX2_isClash_51 : decode cX2_isClash 51 = .ok (.ireturn, 1) := dk_172 (dk_at dksX2_isClash_2 5 rfl rfl)
abbrev cX2_steps : ByteArray := prog_4_method_7_code
def yX2_steps : MethodName := ⟨RX2, "steps", "(II)I"⟩
def dkwX2_steps_0 : List UInt8 := [28, 4, 42, 180, 0, 21, 27, 46, 42, 180, 0, 24, 27, 46, 16, 30, 108, 100, 184, 0, 75, 104, 172]
abbrev dktX2_steps_0 : List UInt8 := dkwX2_steps_0 ++ []
theorem dksX2_steps_0 : cX2_steps.data.toList.drop 0 = dktX2_steps_0 := by decide +kernel
theorem dX2_steps_0 : decode cX2_steps 0 = .ok (.iload_n 2, 1) := dk_28 (dk_at dksX2_steps_0 0 rfl rfl)
theorem dX2_steps_1 : decode cX2_steps 1 = .ok (.iconst 1, 1) := dk_4 (dk_at dksX2_steps_0 1 rfl rfl)
theorem dX2_steps_2 : decode cX2_steps 2 = .ok (.aload_n 0, 1) := dk_42 (dk_at dksX2_steps_0 2 rfl rfl)
theorem dX2_steps_3 : decode cX2_steps 3 = .ok (.getfield 21, 3) := dk_180 0 21 (dk_at dksX2_steps_0 3 rfl rfl)
theorem dX2_steps_6 : decode cX2_steps 6 = .ok (.iload_n 1, 1) := dk_27 (dk_at dksX2_steps_0 6 rfl rfl)
theorem dX2_steps_7 : decode cX2_steps 7 = .ok (.iaload, 1) := dk_46 (dk_at dksX2_steps_0 7 rfl rfl)
theorem dX2_steps_8 : decode cX2_steps 8 = .ok (.aload_n 0, 1) := dk_42 (dk_at dksX2_steps_0 8 rfl rfl)
theorem dX2_steps_9 : decode cX2_steps 9 = .ok (.getfield 24, 3) := dk_180 0 24 (dk_at dksX2_steps_0 9 rfl rfl)
theorem dX2_steps_12 : decode cX2_steps 12 = .ok (.iload_n 1, 1) := dk_27 (dk_at dksX2_steps_0 12 rfl rfl)
theorem dX2_steps_13 : decode cX2_steps 13 = .ok (.iaload, 1) := dk_46 (dk_at dksX2_steps_0 13 rfl rfl)
theorem dX2_steps_14 : decode cX2_steps 14 = .ok (.bipush 30, 2) := dk_16 30 (dk_at dksX2_steps_0 14 rfl rfl)
theorem dX2_steps_16 : decode cX2_steps 16 = .ok (.idiv, 1) := dk_108 (dk_at dksX2_steps_0 16 rfl rfl)
theorem dX2_steps_17 : decode cX2_steps 17 = .ok (.isub, 1) := dk_100 (dk_at dksX2_steps_0 17 rfl rfl)
theorem dX2_steps_18 : decode cX2_steps 18 = .ok (.invokestatic 75, 3) := dk_184 0 75 (dk_at dksX2_steps_0 18 rfl rfl)
theorem dX2_steps_21 : decode cX2_steps 21 = .ok (.imul, 1) := dk_104 (dk_at dksX2_steps_0 21 rfl rfl)
theorem dX2_steps_22 : decode cX2_steps 22 = .ok (.ireturn, 1) := dk_172 (dk_at dksX2_steps_0 22 rfl rfl)
abbrev cX2_wins : ByteArray := prog_4_method_16_code
def yX2_wins : MethodName := ⟨RX2, "wins", "(I)V"⟩
def dkwX2_wins_0 : List UInt8 := [42, 180, 0, 33, 27, 92, 46, 4, 96, 79, 42, 5, 27, 104, 181, 0, 62, 177]
abbrev dktX2_wins_0 : List UInt8 := dkwX2_wins_0 ++ []
theorem dksX2_wins_0 : cX2_wins.data.toList.drop 0 = dktX2_wins_0 := by decide +kernel
theorem dX2_wins_0 : decode cX2_wins 0 = .ok (.aload_n 0, 1) := dk_42 (dk_at dksX2_wins_0 0 rfl rfl)
theorem dX2_wins_1 : decode cX2_wins 1 = .ok (.getfield 33, 3) := dk_180 0 33 (dk_at dksX2_wins_0 1 rfl rfl)
theorem dX2_wins_4 : decode cX2_wins 4 = .ok (.iload_n 1, 1) := dk_27 (dk_at dksX2_wins_0 4 rfl rfl)
theorem dX2_wins_5 : decode cX2_wins 5 = .ok (.dup2, 1) := dk_92 (dk_at dksX2_wins_0 5 rfl rfl)
theorem dX2_wins_6 : decode cX2_wins 6 = .ok (.iaload, 1) := dk_46 (dk_at dksX2_wins_0 6 rfl rfl)
theorem dX2_wins_7 : decode cX2_wins 7 = .ok (.iconst 1, 1) := dk_4 (dk_at dksX2_wins_0 7 rfl rfl)
theorem dX2_wins_8 : decode cX2_wins 8 = .ok (.iadd, 1) := dk_96 (dk_at dksX2_wins_0 8 rfl rfl)
theorem dX2_wins_9 : decode cX2_wins 9 = .ok (.iastore, 1) := dk_79 (dk_at dksX2_wins_0 9 rfl rfl)
theorem dX2_wins_10 : decode cX2_wins 10 = .ok (.aload_n 0, 1) := dk_42 (dk_at dksX2_wins_0 10 rfl rfl)
theorem dX2_wins_11 : decode cX2_wins 11 = .ok (.iconst 2, 1) := dk_5 (dk_at dksX2_wins_0 11 rfl rfl)
theorem dX2_wins_12 : decode cX2_wins 12 = .ok (.iload_n 1, 1) := dk_27 (dk_at dksX2_wins_0 12 rfl rfl)
theorem dX2_wins_13 : decode cX2_wins 13 = .ok (.imul, 1) := dk_104 (dk_at dksX2_wins_0 13 rfl rfl)
theorem dX2_wins_14 : decode cX2_wins 14 = .ok (.putfield 62, 3) := dk_181 0 62 (dk_at dksX2_wins_0 14 rfl rfl)
theorem dX2_wins_17 : decode cX2_wins 17 = .ok (.return_, 1) := dk_177 (dk_at dksX2_wins_0 17 rfl rfl)
abbrev cX2_gets : ByteArray := prog_4_method_17_code
def yX2_gets : MethodName := ⟨RX2, "gets", "(III)V"⟩
def dkwX2_gets_2 : List UInt8 := [182, 0, 108, 42, 27, 4, 130, 29, 182, 0, 123, 182, 0, 126, 177]
abbrev dktX2_gets_2 : List UInt8 := dkwX2_gets_2 ++ []
def dkwX2_gets_1 : List UInt8 := [180, 0, 17, 27, 28, 79, 42, 27, 21, 4, 182, 0, 119, 42, 27, 181, 0, 62, 42, 27, 4, 130, 42, 27]
abbrev dktX2_gets_1 : List UInt8 := dkwX2_gets_1 ++ dktX2_gets_2
def dkwX2_gets_0 : List UInt8 := [42, 180, 0, 17, 27, 46, 28, 184, 0, 95, 54, 4, 42, 180, 0, 36, 27, 92, 46, 21, 4, 96, 79, 42]
abbrev dktX2_gets_0 : List UInt8 := dkwX2_gets_0 ++ dktX2_gets_1
theorem dksX2_gets_0 : cX2_gets.data.toList.drop 0 = dktX2_gets_0 := by decide +kernel
theorem dksX2_gets_1 : cX2_gets.data.toList.drop 24 = dktX2_gets_1 := dk_seg dksX2_gets_0 24 rfl rfl
theorem dksX2_gets_2 : cX2_gets.data.toList.drop 48 = dktX2_gets_2 := dk_seg dksX2_gets_1 24 rfl rfl
theorem dX2_gets_0 : decode cX2_gets 0 = .ok (.aload_n 0, 1) := dk_42 (dk_at dksX2_gets_0 0 rfl rfl)
theorem dX2_gets_1 : decode cX2_gets 1 = .ok (.getfield 17, 3) := dk_180 0 17 (dk_at dksX2_gets_0 1 rfl rfl)
theorem dX2_gets_4 : decode cX2_gets 4 = .ok (.iload_n 1, 1) := dk_27 (dk_at dksX2_gets_0 4 rfl rfl)
theorem dX2_gets_5 : decode cX2_gets 5 = .ok (.iaload, 1) := dk_46 (dk_at dksX2_gets_0 5 rfl rfl)
theorem dX2_gets_6 : decode cX2_gets 6 = .ok (.iload_n 2, 1) := dk_28 (dk_at dksX2_gets_0 6 rfl rfl)
theorem dX2_gets_7 : decode cX2_gets 7 = .ok (.invokestatic 95, 3) := dk_184 0 95 (dk_at dksX2_gets_0 7 rfl rfl)
theorem dX2_gets_10 : decode cX2_gets 10 = .ok (.istore 4, 2) := dk_54 4 (dk_at dksX2_gets_0 10 rfl rfl)
theorem dX2_gets_12 : decode cX2_gets 12 = .ok (.aload_n 0, 1) := dk_42 (dk_at dksX2_gets_0 12 rfl rfl)
theorem dX2_gets_13 : decode cX2_gets 13 = .ok (.getfield 36, 3) := dk_180 0 36 (dk_at dksX2_gets_0 13 rfl rfl)
theorem dX2_gets_16 : decode cX2_gets 16 = .ok (.iload_n 1, 1) := dk_27 (dk_at dksX2_gets_0 16 rfl rfl)
theorem dX2_gets_17 : decode cX2_gets 17 = .ok (.dup2, 1) := dk_92 (dk_at dksX2_gets_0 17 rfl rfl)
theorem dX2_gets_18 : decode cX2_gets 18 = .ok (.iaload, 1) := dk_46 (dk_at dksX2_gets_0 18 rfl rfl)
theorem dX2_gets_19 : decode cX2_gets 19 = .ok (.iload 4, 2) := dk_21 4 (dk_at dksX2_gets_0 19 rfl rfl)
theorem dX2_gets_21 : decode cX2_gets 21 = .ok (.iadd, 1) := dk_96 (dk_at dksX2_gets_0 21 rfl rfl)
theorem dX2_gets_22 : decode cX2_gets 22 = .ok (.iastore, 1) := dk_79 (dk_at dksX2_gets_0 22 rfl rfl)
theorem dX2_gets_23 : decode cX2_gets 23 = .ok (.aload_n 0, 1) := dk_42 (dk_at dksX2_gets_0 23 rfl rfl)
theorem dX2_gets_24 : decode cX2_gets 24 = .ok (.getfield 17, 3) := dk_180 0 17 (dk_at dksX2_gets_1 0 rfl rfl)
theorem dX2_gets_27 : decode cX2_gets 27 = .ok (.iload_n 1, 1) := dk_27 (dk_at dksX2_gets_1 3 rfl rfl)
theorem dX2_gets_28 : decode cX2_gets 28 = .ok (.iload_n 2, 1) := dk_28 (dk_at dksX2_gets_1 4 rfl rfl)
theorem dX2_gets_29 : decode cX2_gets 29 = .ok (.iastore, 1) := dk_79 (dk_at dksX2_gets_1 5 rfl rfl)
theorem dX2_gets_30 : decode cX2_gets 30 = .ok (.aload_n 0, 1) := dk_42 (dk_at dksX2_gets_1 6 rfl rfl)
theorem dX2_gets_31 : decode cX2_gets 31 = .ok (.iload_n 1, 1) := dk_27 (dk_at dksX2_gets_1 7 rfl rfl)
theorem dX2_gets_32 : decode cX2_gets 32 = .ok (.iload 4, 2) := dk_21 4 (dk_at dksX2_gets_1 8 rfl rfl)
theorem dX2_gets_34 : decode cX2_gets 34 = .ok (.invokevirtual 119, 3) := dk_182 0 119 (dk_at dksX2_gets_1 10 rfl rfl)
theorem dX2_gets_37 : decode cX2_gets 37 = .ok (.aload_n 0, 1) := dk_42 (dk_at dksX2_gets_1 13 rfl rfl)
theorem dX2_gets_38 : decode cX2_gets 38 = .ok (.iload_n 1, 1) := dk_27 (dk_at dksX2_gets_1 14 rfl rfl)
theorem dX2_gets_39 : decode cX2_gets 39 = .ok (.putfield 62, 3) := dk_181 0 62 (dk_at dksX2_gets_1 15 rfl rfl)
theorem dX2_gets_42 : decode cX2_gets 42 = .ok (.aload_n 0, 1) := dk_42 (dk_at dksX2_gets_1 18 rfl rfl)
theorem dX2_gets_43 : decode cX2_gets 43 = .ok (.iload_n 1, 1) := dk_27 (dk_at dksX2_gets_1 19 rfl rfl)
theorem dX2_gets_44 : decode cX2_gets 44 = .ok (.iconst 1, 1) := dk_4 (dk_at dksX2_gets_1 20 rfl rfl)
theorem dX2_gets_45 : decode cX2_gets 45 = .ok (.ixor, 1) := dk_130 (dk_at dksX2_gets_1 21 rfl rfl)
theorem dX2_gets_46 : decode cX2_gets 46 = .ok (.aload_n 0, 1) := dk_42 (dk_at dksX2_gets_1 22 rfl rfl)
theorem dX2_gets_47 : decode cX2_gets 47 = .ok (.iload_n 1, 1) := dk_27 (dk_at dksX2_gets_1 23 rfl rfl)
theorem dX2_gets_48 : decode cX2_gets 48 = .ok (.invokevirtual 108, 3) := dk_182 0 108 (dk_at dksX2_gets_2 0 rfl rfl)
theorem dX2_gets_51 : decode cX2_gets 51 = .ok (.aload_n 0, 1) := dk_42 (dk_at dksX2_gets_2 3 rfl rfl)
theorem dX2_gets_52 : decode cX2_gets 52 = .ok (.iload_n 1, 1) := dk_27 (dk_at dksX2_gets_2 4 rfl rfl)
theorem dX2_gets_53 : decode cX2_gets 53 = .ok (.iconst 1, 1) := dk_4 (dk_at dksX2_gets_2 5 rfl rfl)
theorem dX2_gets_54 : decode cX2_gets 54 = .ok (.ixor, 1) := dk_130 (dk_at dksX2_gets_2 6 rfl rfl)
theorem dX2_gets_55 : decode cX2_gets 55 = .ok (.iload_n 3, 1) := dk_29 (dk_at dksX2_gets_2 7 rfl rfl)
theorem dX2_gets_56 : decode cX2_gets 56 = .ok (.invokevirtual 123, 3) := dk_182 0 123 (dk_at dksX2_gets_2 8 rfl rfl)
theorem dX2_gets_59 : decode cX2_gets 59 = .ok (.invokevirtual 126, 3) := dk_182 0 126 (dk_at dksX2_gets_2 11 rfl rfl)
theorem dX2_gets_62 : decode cX2_gets 62 = .ok (.return_, 1) := dk_177 (dk_at dksX2_gets_2 14 rfl rfl)
abbrev cX2_placeBy : ByteArray := prog_4_method_13_code
def yX2_placeBy : MethodName := ⟨RX2, "placeBy", "(I)I"⟩
def dkwX2_placeBy_1 : List UInt8 := [167, 0, 18, 6, 5, 42, 180, 0, 17, 27, 46, 184, 0, 105, 100, 104, 4, 96, 172]
abbrev dktX2_placeBy_1 : List UInt8 := dkwX2_placeBy_1 ++ []
def dkwX2_placeBy_0 : List UInt8 := [42, 180, 0, 17, 27, 46, 184, 0, 102, 61, 42, 180, 0, 27, 27, 5, 108, 46, 154, 0, 9, 8, 28, 100]
abbrev dktX2_placeBy_0 : List UInt8 := dkwX2_placeBy_0 ++ dktX2_placeBy_1
theorem dksX2_placeBy_0 : cX2_placeBy.data.toList.drop 0 = dktX2_placeBy_0 := by decide +kernel
theorem dksX2_placeBy_1 : cX2_placeBy.data.toList.drop 24 = dktX2_placeBy_1 := dk_seg dksX2_placeBy_0 24 rfl rfl
theorem dX2_placeBy_0 : decode cX2_placeBy 0 = .ok (.aload_n 0, 1) := dk_42 (dk_at dksX2_placeBy_0 0 rfl rfl)
theorem dX2_placeBy_1 : decode cX2_placeBy 1 = .ok (.getfield 17, 3) := dk_180 0 17 (dk_at dksX2_placeBy_0 1 rfl rfl)
theorem dX2_placeBy_4 : decode cX2_placeBy 4 = .ok (.iload_n 1, 1) := dk_27 (dk_at dksX2_placeBy_0 4 rfl rfl)
theorem dX2_placeBy_5 : decode cX2_placeBy 5 = .ok (.iaload, 1) := dk_46 (dk_at dksX2_placeBy_0 5 rfl rfl)
theorem dX2_placeBy_6 : decode cX2_placeBy 6 = .ok (.invokestatic 102, 3) := dk_184 0 102 (dk_at dksX2_placeBy_0 6 rfl rfl)
theorem dX2_placeBy_9 : decode cX2_placeBy 9 = .ok (.istore_n 2, 1) := dk_61 (dk_at dksX2_placeBy_0 9 rfl rfl)
theorem dX2_placeBy_10 : decode cX2_placeBy 10 = .ok (.aload_n 0, 1) := dk_42 (dk_at dksX2_placeBy_0 10 rfl rfl)
theorem dX2_placeBy_11 : decode cX2_placeBy 11 = .ok (.getfield 27, 3) := dk_180 0 27 (dk_at dksX2_placeBy_0 11 rfl rfl)
theorem dX2_placeBy_14 : decode cX2_placeBy 14 = .ok (.iload_n 1, 1) := dk_27 (dk_at dksX2_placeBy_0 14 rfl rfl)
theorem dX2_placeBy_15 : decode cX2_placeBy 15 = .ok (.iconst 2, 1) := dk_5 (dk_at dksX2_placeBy_0 15 rfl rfl)
theorem dX2_placeBy_16 : decode cX2_placeBy 16 = .ok (.idiv, 1) := dk_108 (dk_at dksX2_placeBy_0 16 rfl rfl)
theorem dX2_placeBy_17 : decode cX2_placeBy 17 = .ok (.iaload, 1) := dk_46 (dk_at dksX2_placeBy_0 17 rfl rfl)
theorem dX2_placeBy_18 : decode cX2_placeBy 18 = .ok (.ifCond .ne 9, 3) := dk_154 0 9 (dk_at dksX2_placeBy_0 18 rfl rfl)
theorem dX2_placeBy_21 : decode cX2_placeBy 21 = .ok (.iconst 5, 1) := dk_8 (dk_at dksX2_placeBy_0 21 rfl rfl)
theorem dX2_placeBy_22 : decode cX2_placeBy 22 = .ok (.iload_n 2, 1) := dk_28 (dk_at dksX2_placeBy_0 22 rfl rfl)
theorem dX2_placeBy_23 : decode cX2_placeBy 23 = .ok (.isub, 1) := dk_100 (dk_at dksX2_placeBy_0 23 rfl rfl)
theorem dX2_placeBy_24 : decode cX2_placeBy 24 = .ok (.goto 18, 3) := dk_167 0 18 (dk_at dksX2_placeBy_1 0 rfl rfl)
theorem dX2_placeBy_27 : decode cX2_placeBy 27 = .ok (.iconst 3, 1) := dk_6 (dk_at dksX2_placeBy_1 3 rfl rfl)
theorem dX2_placeBy_28 : decode cX2_placeBy 28 = .ok (.iconst 2, 1) := dk_5 (dk_at dksX2_placeBy_1 4 rfl rfl)
theorem dX2_placeBy_29 : decode cX2_placeBy 29 = .ok (.aload_n 0, 1) := dk_42 (dk_at dksX2_placeBy_1 5 rfl rfl)
theorem dX2_placeBy_30 : decode cX2_placeBy 30 = .ok (.getfield 17, 3) := dk_180 0 17 (dk_at dksX2_placeBy_1 6 rfl rfl)
theorem dX2_placeBy_33 : decode cX2_placeBy 33 = .ok (.iload_n 1, 1) := dk_27 (dk_at dksX2_placeBy_1 9 rfl rfl)
theorem dX2_placeBy_34 : decode cX2_placeBy 34 = .ok (.iaload, 1) := dk_46 (dk_at dksX2_placeBy_1 10 rfl rfl)
theorem dX2_placeBy_35 : decode cX2_placeBy 35 = .ok (.invokestatic 105, 3) := dk_184 0 105 (dk_at dksX2_placeBy_1 11 rfl rfl)
theorem dX2_placeBy_38 : decode cX2_placeBy 38 = .ok (.isub, 1) := dk_100 (dk_at dksX2_placeBy_1 14 rfl rfl)
theorem dX2_placeBy_39 : decode cX2_placeBy 39 = .ok (.imul, 1) := dk_104 (dk_at dksX2_placeBy_1 15 rfl rfl)
theorem dX2_placeBy_40 : decode cX2_placeBy 40 = .ok (.iconst 1, 1) := dk_4 (dk_at dksX2_placeBy_1 16 rfl rfl)
theorem dX2_placeBy_41 : decode cX2_placeBy 41 = .ok (.iadd, 1) := dk_96 (dk_at dksX2_placeBy_1 17 rfl rfl)
theorem dX2_placeBy_42 : decode cX2_placeBy 42 = .ok (.ireturn, 1) := dk_172 (dk_at dksX2_placeBy_1 18 rfl rfl)
abbrev cX2_stepsIn : ByteArray := prog_4_method_15_code
def yX2_stepsIn : MethodName := ⟨RX2, "stepsIn", "(III)V"⟩
def dkwX2_stepsIn_5 : List UInt8 := [96, 79, 177]
abbrev dktX2_stepsIn_5 : List UInt8 := dkwX2_stepsIn_5 ++ []
def dkwX2_stepsIn_4 : List UInt8 := [180, 0, 17, 27, 6, 21, 4, 104, 21, 5, 96, 79, 42, 180, 0, 36, 27, 92, 46, 21, 7, 21, 9, 96]
abbrev dktX2_stepsIn_4 : List UInt8 := dkwX2_stepsIn_4 ++ dktX2_stepsIn_5
def dkwX2_stepsIn_3 : List UInt8 := [184, 0, 111, 184, 0, 81, 54, 9, 21, 4, 21, 8, 3, 184, 0, 114, 21, 9, 104, 96, 54, 4, 42]
abbrev dktX2_stepsIn_3 : List UInt8 := dkwX2_stepsIn_3 ++ dktX2_stepsIn_4
def dkwX2_stepsIn_2 : List UInt8 := [184, 0, 114, 21, 7, 104, 96, 54, 5, 28, 184, 0, 105, 21, 4, 100, 54, 8, 29, 21, 7, 100, 21, 8]
abbrev dktX2_stepsIn_2 : List UInt8 := dkwX2_stepsIn_2 ++ dktX2_stepsIn_3
def dkwX2_stepsIn_1 : List UInt8 := [184, 0, 102, 21, 5, 100, 54, 6, 29, 21, 6, 184, 0, 111, 184, 0, 81, 54, 7, 21, 5, 21, 6, 3]
abbrev dktX2_stepsIn_1 : List UInt8 := dkwX2_stepsIn_1 ++ dktX2_stepsIn_2
def dkwX2_stepsIn_0 : List UInt8 := [42, 180, 0, 17, 27, 46, 184, 0, 105, 54, 4, 42, 180, 0, 17, 27, 46, 184, 0, 102, 54, 5, 28]
abbrev dktX2_stepsIn_0 : List UInt8 := dkwX2_stepsIn_0 ++ dktX2_stepsIn_1
theorem dksX2_stepsIn_0 : cX2_stepsIn.data.toList.drop 0 = dktX2_stepsIn_0 := by decide +kernel
theorem dksX2_stepsIn_1 : cX2_stepsIn.data.toList.drop 23 = dktX2_stepsIn_1 := dk_seg dksX2_stepsIn_0 23 rfl rfl
theorem dksX2_stepsIn_2 : cX2_stepsIn.data.toList.drop 47 = dktX2_stepsIn_2 := dk_seg dksX2_stepsIn_1 24 rfl rfl
theorem dksX2_stepsIn_3 : cX2_stepsIn.data.toList.drop 71 = dktX2_stepsIn_3 := dk_seg dksX2_stepsIn_2 24 rfl rfl
theorem dksX2_stepsIn_4 : cX2_stepsIn.data.toList.drop 94 = dktX2_stepsIn_4 := dk_seg dksX2_stepsIn_3 23 rfl rfl
theorem dksX2_stepsIn_5 : cX2_stepsIn.data.toList.drop 118 = dktX2_stepsIn_5 := dk_seg dksX2_stepsIn_4 24 rfl rfl
theorem dX2_stepsIn_0 : decode cX2_stepsIn 0 = .ok (.aload_n 0, 1) := dk_42 (dk_at dksX2_stepsIn_0 0 rfl rfl)
theorem dX2_stepsIn_1 : decode cX2_stepsIn 1 = .ok (.getfield 17, 3) := dk_180 0 17 (dk_at dksX2_stepsIn_0 1 rfl rfl)
theorem dX2_stepsIn_4 : decode cX2_stepsIn 4 = .ok (.iload_n 1, 1) := dk_27 (dk_at dksX2_stepsIn_0 4 rfl rfl)
theorem dX2_stepsIn_5 : decode cX2_stepsIn 5 = .ok (.iaload, 1) := dk_46 (dk_at dksX2_stepsIn_0 5 rfl rfl)
theorem dX2_stepsIn_6 : decode cX2_stepsIn 6 = .ok (.invokestatic 105, 3) := dk_184 0 105 (dk_at dksX2_stepsIn_0 6 rfl rfl)
theorem dX2_stepsIn_9 : decode cX2_stepsIn 9 = .ok (.istore 4, 2) := dk_54 4 (dk_at dksX2_stepsIn_0 9 rfl rfl)
theorem dX2_stepsIn_11 : decode cX2_stepsIn 11 = .ok (.aload_n 0, 1) := dk_42 (dk_at dksX2_stepsIn_0 11 rfl rfl)
theorem dX2_stepsIn_12 : decode cX2_stepsIn 12 = .ok (.getfield 17, 3) := dk_180 0 17 (dk_at dksX2_stepsIn_0 12 rfl rfl)
theorem dX2_stepsIn_15 : decode cX2_stepsIn 15 = .ok (.iload_n 1, 1) := dk_27 (dk_at dksX2_stepsIn_0 15 rfl rfl)
theorem dX2_stepsIn_16 : decode cX2_stepsIn 16 = .ok (.iaload, 1) := dk_46 (dk_at dksX2_stepsIn_0 16 rfl rfl)
theorem dX2_stepsIn_17 : decode cX2_stepsIn 17 = .ok (.invokestatic 102, 3) := dk_184 0 102 (dk_at dksX2_stepsIn_0 17 rfl rfl)
theorem dX2_stepsIn_20 : decode cX2_stepsIn 20 = .ok (.istore 5, 2) := dk_54 5 (dk_at dksX2_stepsIn_0 20 rfl rfl)
theorem dX2_stepsIn_22 : decode cX2_stepsIn 22 = .ok (.iload_n 2, 1) := dk_28 (dk_at dksX2_stepsIn_0 22 rfl rfl)
theorem dX2_stepsIn_23 : decode cX2_stepsIn 23 = .ok (.invokestatic 102, 3) := dk_184 0 102 (dk_at dksX2_stepsIn_1 0 rfl rfl)
theorem dX2_stepsIn_26 : decode cX2_stepsIn 26 = .ok (.iload 5, 2) := dk_21 5 (dk_at dksX2_stepsIn_1 3 rfl rfl)
theorem dX2_stepsIn_28 : decode cX2_stepsIn 28 = .ok (.isub, 1) := dk_100 (dk_at dksX2_stepsIn_1 5 rfl rfl)
theorem dX2_stepsIn_29 : decode cX2_stepsIn 29 = .ok (.istore 6, 2) := dk_54 6 (dk_at dksX2_stepsIn_1 6 rfl rfl)
theorem dX2_stepsIn_31 : decode cX2_stepsIn 31 = .ok (.iload_n 3, 1) := dk_29 (dk_at dksX2_stepsIn_1 8 rfl rfl)
theorem dX2_stepsIn_32 : decode cX2_stepsIn 32 = .ok (.iload 6, 2) := dk_21 6 (dk_at dksX2_stepsIn_1 9 rfl rfl)
theorem dX2_stepsIn_34 : decode cX2_stepsIn 34 = .ok (.invokestatic 111, 3) := dk_184 0 111 (dk_at dksX2_stepsIn_1 11 rfl rfl)
theorem dX2_stepsIn_37 : decode cX2_stepsIn 37 = .ok (.invokestatic 81, 3) := dk_184 0 81 (dk_at dksX2_stepsIn_1 14 rfl rfl)
theorem dX2_stepsIn_40 : decode cX2_stepsIn 40 = .ok (.istore 7, 2) := dk_54 7 (dk_at dksX2_stepsIn_1 17 rfl rfl)
theorem dX2_stepsIn_42 : decode cX2_stepsIn 42 = .ok (.iload 5, 2) := dk_21 5 (dk_at dksX2_stepsIn_1 19 rfl rfl)
theorem dX2_stepsIn_44 : decode cX2_stepsIn 44 = .ok (.iload 6, 2) := dk_21 6 (dk_at dksX2_stepsIn_1 21 rfl rfl)
theorem dX2_stepsIn_46 : decode cX2_stepsIn 46 = .ok (.iconst 0, 1) := dk_3 (dk_at dksX2_stepsIn_1 23 rfl rfl)
theorem dX2_stepsIn_47 : decode cX2_stepsIn 47 = .ok (.invokestatic 114, 3) := dk_184 0 114 (dk_at dksX2_stepsIn_2 0 rfl rfl)
theorem dX2_stepsIn_50 : decode cX2_stepsIn 50 = .ok (.iload 7, 2) := dk_21 7 (dk_at dksX2_stepsIn_2 3 rfl rfl)
theorem dX2_stepsIn_52 : decode cX2_stepsIn 52 = .ok (.imul, 1) := dk_104 (dk_at dksX2_stepsIn_2 5 rfl rfl)
theorem dX2_stepsIn_53 : decode cX2_stepsIn 53 = .ok (.iadd, 1) := dk_96 (dk_at dksX2_stepsIn_2 6 rfl rfl)
theorem dX2_stepsIn_54 : decode cX2_stepsIn 54 = .ok (.istore 5, 2) := dk_54 5 (dk_at dksX2_stepsIn_2 7 rfl rfl)
theorem dX2_stepsIn_56 : decode cX2_stepsIn 56 = .ok (.iload_n 2, 1) := dk_28 (dk_at dksX2_stepsIn_2 9 rfl rfl)
theorem dX2_stepsIn_57 : decode cX2_stepsIn 57 = .ok (.invokestatic 105, 3) := dk_184 0 105 (dk_at dksX2_stepsIn_2 10 rfl rfl)
theorem dX2_stepsIn_60 : decode cX2_stepsIn 60 = .ok (.iload 4, 2) := dk_21 4 (dk_at dksX2_stepsIn_2 13 rfl rfl)
theorem dX2_stepsIn_62 : decode cX2_stepsIn 62 = .ok (.isub, 1) := dk_100 (dk_at dksX2_stepsIn_2 15 rfl rfl)
theorem dX2_stepsIn_63 : decode cX2_stepsIn 63 = .ok (.istore 8, 2) := dk_54 8 (dk_at dksX2_stepsIn_2 16 rfl rfl)
theorem dX2_stepsIn_65 : decode cX2_stepsIn 65 = .ok (.iload_n 3, 1) := dk_29 (dk_at dksX2_stepsIn_2 18 rfl rfl)
theorem dX2_stepsIn_66 : decode cX2_stepsIn 66 = .ok (.iload 7, 2) := dk_21 7 (dk_at dksX2_stepsIn_2 19 rfl rfl)
theorem dX2_stepsIn_68 : decode cX2_stepsIn 68 = .ok (.isub, 1) := dk_100 (dk_at dksX2_stepsIn_2 21 rfl rfl)
theorem dX2_stepsIn_69 : decode cX2_stepsIn 69 = .ok (.iload 8, 2) := dk_21 8 (dk_at dksX2_stepsIn_2 22 rfl rfl)
theorem dX2_stepsIn_71 : decode cX2_stepsIn 71 = .ok (.invokestatic 111, 3) := dk_184 0 111 (dk_at dksX2_stepsIn_3 0 rfl rfl)
theorem dX2_stepsIn_74 : decode cX2_stepsIn 74 = .ok (.invokestatic 81, 3) := dk_184 0 81 (dk_at dksX2_stepsIn_3 3 rfl rfl)
theorem dX2_stepsIn_77 : decode cX2_stepsIn 77 = .ok (.istore 9, 2) := dk_54 9 (dk_at dksX2_stepsIn_3 6 rfl rfl)
theorem dX2_stepsIn_79 : decode cX2_stepsIn 79 = .ok (.iload 4, 2) := dk_21 4 (dk_at dksX2_stepsIn_3 8 rfl rfl)
theorem dX2_stepsIn_81 : decode cX2_stepsIn 81 = .ok (.iload 8, 2) := dk_21 8 (dk_at dksX2_stepsIn_3 10 rfl rfl)
theorem dX2_stepsIn_83 : decode cX2_stepsIn 83 = .ok (.iconst 0, 1) := dk_3 (dk_at dksX2_stepsIn_3 12 rfl rfl)
theorem dX2_stepsIn_84 : decode cX2_stepsIn 84 = .ok (.invokestatic 114, 3) := dk_184 0 114 (dk_at dksX2_stepsIn_3 13 rfl rfl)
theorem dX2_stepsIn_87 : decode cX2_stepsIn 87 = .ok (.iload 9, 2) := dk_21 9 (dk_at dksX2_stepsIn_3 16 rfl rfl)
theorem dX2_stepsIn_89 : decode cX2_stepsIn 89 = .ok (.imul, 1) := dk_104 (dk_at dksX2_stepsIn_3 18 rfl rfl)
theorem dX2_stepsIn_90 : decode cX2_stepsIn 90 = .ok (.iadd, 1) := dk_96 (dk_at dksX2_stepsIn_3 19 rfl rfl)
theorem dX2_stepsIn_91 : decode cX2_stepsIn 91 = .ok (.istore 4, 2) := dk_54 4 (dk_at dksX2_stepsIn_3 20 rfl rfl)
theorem dX2_stepsIn_93 : decode cX2_stepsIn 93 = .ok (.aload_n 0, 1) := dk_42 (dk_at dksX2_stepsIn_3 22 rfl rfl)
theorem dX2_stepsIn_94 : decode cX2_stepsIn 94 = .ok (.getfield 17, 3) := dk_180 0 17 (dk_at dksX2_stepsIn_4 0 rfl rfl)
theorem dX2_stepsIn_97 : decode cX2_stepsIn 97 = .ok (.iload_n 1, 1) := dk_27 (dk_at dksX2_stepsIn_4 3 rfl rfl)
theorem dX2_stepsIn_98 : decode cX2_stepsIn 98 = .ok (.iconst 3, 1) := dk_6 (dk_at dksX2_stepsIn_4 4 rfl rfl)
theorem dX2_stepsIn_99 : decode cX2_stepsIn 99 = .ok (.iload 4, 2) := dk_21 4 (dk_at dksX2_stepsIn_4 5 rfl rfl)
theorem dX2_stepsIn_101 : decode cX2_stepsIn 101 = .ok (.imul, 1) := dk_104 (dk_at dksX2_stepsIn_4 7 rfl rfl)
theorem dX2_stepsIn_102 : decode cX2_stepsIn 102 = .ok (.iload 5, 2) := dk_21 5 (dk_at dksX2_stepsIn_4 8 rfl rfl)
theorem dX2_stepsIn_104 : decode cX2_stepsIn 104 = .ok (.iadd, 1) := dk_96 (dk_at dksX2_stepsIn_4 10 rfl rfl)
theorem dX2_stepsIn_105 : decode cX2_stepsIn 105 = .ok (.iastore, 1) := dk_79 (dk_at dksX2_stepsIn_4 11 rfl rfl)
theorem dX2_stepsIn_106 : decode cX2_stepsIn 106 = .ok (.aload_n 0, 1) := dk_42 (dk_at dksX2_stepsIn_4 12 rfl rfl)
theorem dX2_stepsIn_107 : decode cX2_stepsIn 107 = .ok (.getfield 36, 3) := dk_180 0 36 (dk_at dksX2_stepsIn_4 13 rfl rfl)
theorem dX2_stepsIn_110 : decode cX2_stepsIn 110 = .ok (.iload_n 1, 1) := dk_27 (dk_at dksX2_stepsIn_4 16 rfl rfl)
theorem dX2_stepsIn_111 : decode cX2_stepsIn 111 = .ok (.dup2, 1) := dk_92 (dk_at dksX2_stepsIn_4 17 rfl rfl)
theorem dX2_stepsIn_112 : decode cX2_stepsIn 112 = .ok (.iaload, 1) := dk_46 (dk_at dksX2_stepsIn_4 18 rfl rfl)
theorem dX2_stepsIn_113 : decode cX2_stepsIn 113 = .ok (.iload 7, 2) := dk_21 7 (dk_at dksX2_stepsIn_4 19 rfl rfl)
theorem dX2_stepsIn_115 : decode cX2_stepsIn 115 = .ok (.iload 9, 2) := dk_21 9 (dk_at dksX2_stepsIn_4 21 rfl rfl)
theorem dX2_stepsIn_117 : decode cX2_stepsIn 117 = .ok (.iadd, 1) := dk_96 (dk_at dksX2_stepsIn_4 23 rfl rfl)
theorem dX2_stepsIn_118 : decode cX2_stepsIn 118 = .ok (.iadd, 1) := dk_96 (dk_at dksX2_stepsIn_5 0 rfl rfl)
theorem dX2_stepsIn_119 : decode cX2_stepsIn 119 = .ok (.iastore, 1) := dk_79 (dk_at dksX2_stepsIn_5 1 rfl rfl)
theorem dX2_stepsIn_120 : decode cX2_stepsIn 120 = .ok (.return_, 1) := dk_177 (dk_at dksX2_stepsIn_5 2 rfl rfl)
abbrev cX2_outOfPlace : ByteArray := prog_4_method_14_code
def yX2_outOfPlace : MethodName := ⟨RX2, "outOfPlace", "(I)I"⟩
def dkwX2_outOfPlace_0 : List UInt8 := [42, 180, 0, 17, 27, 4, 130, 46, 42, 27, 182, 0, 108, 184, 0, 95, 172]
abbrev dktX2_outOfPlace_0 : List UInt8 := dkwX2_outOfPlace_0 ++ []
theorem dksX2_outOfPlace_0 : cX2_outOfPlace.data.toList.drop 0 = dktX2_outOfPlace_0 := by decide +kernel
theorem dX2_outOfPlace_0 : decode cX2_outOfPlace 0 = .ok (.aload_n 0, 1) := dk_42 (dk_at dksX2_outOfPlace_0 0 rfl rfl)
theorem dX2_outOfPlace_1 : decode cX2_outOfPlace 1 = .ok (.getfield 17, 3) := dk_180 0 17 (dk_at dksX2_outOfPlace_0 1 rfl rfl)
theorem dX2_outOfPlace_4 : decode cX2_outOfPlace 4 = .ok (.iload_n 1, 1) := dk_27 (dk_at dksX2_outOfPlace_0 4 rfl rfl)
theorem dX2_outOfPlace_5 : decode cX2_outOfPlace 5 = .ok (.iconst 1, 1) := dk_4 (dk_at dksX2_outOfPlace_0 5 rfl rfl)
theorem dX2_outOfPlace_6 : decode cX2_outOfPlace 6 = .ok (.ixor, 1) := dk_130 (dk_at dksX2_outOfPlace_0 6 rfl rfl)
theorem dX2_outOfPlace_7 : decode cX2_outOfPlace 7 = .ok (.iaload, 1) := dk_46 (dk_at dksX2_outOfPlace_0 7 rfl rfl)
theorem dX2_outOfPlace_8 : decode cX2_outOfPlace 8 = .ok (.aload_n 0, 1) := dk_42 (dk_at dksX2_outOfPlace_0 8 rfl rfl)
theorem dX2_outOfPlace_9 : decode cX2_outOfPlace 9 = .ok (.iload_n 1, 1) := dk_27 (dk_at dksX2_outOfPlace_0 9 rfl rfl)
theorem dX2_outOfPlace_10 : decode cX2_outOfPlace 10 = .ok (.invokevirtual 108, 3) := dk_182 0 108 (dk_at dksX2_outOfPlace_0 10 rfl rfl)
theorem dX2_outOfPlace_13 : decode cX2_outOfPlace 13 = .ok (.invokestatic 95, 3) := dk_184 0 95 (dk_at dksX2_outOfPlace_0 13 rfl rfl)
theorem dX2_outOfPlace_16 : decode cX2_outOfPlace 16 = .ok (.ireturn, 1) := dk_172 (dk_at dksX2_outOfPlace_0 16 rfl rfl)
abbrev cX2_tiredOf : ByteArray := prog_4_method_20_code
def yX2_tiredOf : MethodName := ⟨RX2, "tiredOf", "(I)I"⟩
def dkwX2_tiredOf_0 : List UInt8 := [42, 180, 0, 24, 5, 27, 104, 46, 42, 180, 0, 24, 5, 27, 104, 4, 96, 46, 96, 172]
abbrev dktX2_tiredOf_0 : List UInt8 := dkwX2_tiredOf_0 ++ []
theorem dksX2_tiredOf_0 : cX2_tiredOf.data.toList.drop 0 = dktX2_tiredOf_0 := by decide +kernel
theorem dX2_tiredOf_0 : decode cX2_tiredOf 0 = .ok (.aload_n 0, 1) := dk_42 (dk_at dksX2_tiredOf_0 0 rfl rfl)
theorem dX2_tiredOf_1 : decode cX2_tiredOf 1 = .ok (.getfield 24, 3) := dk_180 0 24 (dk_at dksX2_tiredOf_0 1 rfl rfl)
theorem dX2_tiredOf_4 : decode cX2_tiredOf 4 = .ok (.iconst 2, 1) := dk_5 (dk_at dksX2_tiredOf_0 4 rfl rfl)
theorem dX2_tiredOf_5 : decode cX2_tiredOf 5 = .ok (.iload_n 1, 1) := dk_27 (dk_at dksX2_tiredOf_0 5 rfl rfl)
theorem dX2_tiredOf_6 : decode cX2_tiredOf 6 = .ok (.imul, 1) := dk_104 (dk_at dksX2_tiredOf_0 6 rfl rfl)
theorem dX2_tiredOf_7 : decode cX2_tiredOf 7 = .ok (.iaload, 1) := dk_46 (dk_at dksX2_tiredOf_0 7 rfl rfl)
theorem dX2_tiredOf_8 : decode cX2_tiredOf 8 = .ok (.aload_n 0, 1) := dk_42 (dk_at dksX2_tiredOf_0 8 rfl rfl)
theorem dX2_tiredOf_9 : decode cX2_tiredOf 9 = .ok (.getfield 24, 3) := dk_180 0 24 (dk_at dksX2_tiredOf_0 9 rfl rfl)
theorem dX2_tiredOf_12 : decode cX2_tiredOf 12 = .ok (.iconst 2, 1) := dk_5 (dk_at dksX2_tiredOf_0 12 rfl rfl)
theorem dX2_tiredOf_13 : decode cX2_tiredOf 13 = .ok (.iload_n 1, 1) := dk_27 (dk_at dksX2_tiredOf_0 13 rfl rfl)
theorem dX2_tiredOf_14 : decode cX2_tiredOf 14 = .ok (.imul, 1) := dk_104 (dk_at dksX2_tiredOf_0 14 rfl rfl)
theorem dX2_tiredOf_15 : decode cX2_tiredOf 15 = .ok (.iconst 1, 1) := dk_4 (dk_at dksX2_tiredOf_0 15 rfl rfl)
theorem dX2_tiredOf_16 : decode cX2_tiredOf 16 = .ok (.iadd, 1) := dk_96 (dk_at dksX2_tiredOf_0 16 rfl rfl)
theorem dX2_tiredOf_17 : decode cX2_tiredOf 17 = .ok (.iaload, 1) := dk_46 (dk_at dksX2_tiredOf_0 17 rfl rfl)
theorem dX2_tiredOf_18 : decode cX2_tiredOf 18 = .ok (.iadd, 1) := dk_96 (dk_at dksX2_tiredOf_0 18 rfl rfl)
theorem dX2_tiredOf_19 : decode cX2_tiredOf 19 = .ok (.ireturn, 1) := dk_172 (dk_at dksX2_tiredOf_0 19 rfl rfl)
abbrev cX2_allPoints : ByteArray := prog_4_method_19_code
def yX2_allPoints : MethodName := ⟨RX2, "allPoints", "()I"⟩
def dkwX2_allPoints_0 : List UInt8 := [42, 180, 0, 33, 3, 46, 42, 180, 0, 33, 4, 46, 96, 172]
abbrev dktX2_allPoints_0 : List UInt8 := dkwX2_allPoints_0 ++ []
theorem dksX2_allPoints_0 : cX2_allPoints.data.toList.drop 0 = dktX2_allPoints_0 := by decide +kernel
theorem dX2_allPoints_0 : decode cX2_allPoints 0 = .ok (.aload_n 0, 1) := dk_42 (dk_at dksX2_allPoints_0 0 rfl rfl)
theorem dX2_allPoints_1 : decode cX2_allPoints 1 = .ok (.getfield 33, 3) := dk_180 0 33 (dk_at dksX2_allPoints_0 1 rfl rfl)
theorem dX2_allPoints_4 : decode cX2_allPoints 4 = .ok (.iconst 0, 1) := dk_3 (dk_at dksX2_allPoints_0 4 rfl rfl)
theorem dX2_allPoints_5 : decode cX2_allPoints 5 = .ok (.iaload, 1) := dk_46 (dk_at dksX2_allPoints_0 5 rfl rfl)
theorem dX2_allPoints_6 : decode cX2_allPoints 6 = .ok (.aload_n 0, 1) := dk_42 (dk_at dksX2_allPoints_0 6 rfl rfl)
theorem dX2_allPoints_7 : decode cX2_allPoints 7 = .ok (.getfield 33, 3) := dk_180 0 33 (dk_at dksX2_allPoints_0 7 rfl rfl)
theorem dX2_allPoints_10 : decode cX2_allPoints 10 = .ok (.iconst 1, 1) := dk_4 (dk_at dksX2_allPoints_0 10 rfl rfl)
theorem dX2_allPoints_11 : decode cX2_allPoints 11 = .ok (.iaload, 1) := dk_46 (dk_at dksX2_allPoints_0 11 rfl rfl)
theorem dX2_allPoints_12 : decode cX2_allPoints 12 = .ok (.iadd, 1) := dk_96 (dk_at dksX2_allPoints_0 12 rfl rfl)
theorem dX2_allPoints_13 : decode cX2_allPoints 13 = .ok (.ireturn, 1) := dk_172 (dk_at dksX2_allPoints_0 13 rfl rfl)
abbrev cX2_init : ByteArray := prog_4_method_1_code
def yX2_init : MethodName := ⟨RX2, "<init>", "()V"⟩
def dkwX2_init_4 : List UInt8 := [181, 0, 33, 42, 7, 188, 10, 181, 0, 36, 177]
abbrev dktX2_init_4 : List UInt8 := dkwX2_init_4 ++ []
def dkwX2_init_3 : List UInt8 := [188, 10, 181, 0, 27, 42, 5, 188, 10, 89, 3, 4, 79, 89, 4, 4, 79, 181, 0, 30, 42, 5, 188, 10]
abbrev dktX2_init_3 : List UInt8 := dkwX2_init_3 ++ dktX2_init_4
def dkwX2_init_2 : List UInt8 := [4, 4, 79, 89, 5, 4, 79, 89, 6, 4, 79, 181, 0, 21, 42, 7, 188, 10, 181, 0, 24, 42, 5]
abbrev dktX2_init_2 : List UInt8 := dkwX2_init_2 ++ dktX2_init_3
def dkwX2_init_1 : List UInt8 := [16, 7, 79, 89, 5, 4, 79, 89, 6, 16, 7, 79, 181, 0, 17, 42, 7, 188, 10, 89, 3, 4, 79, 89]
abbrev dktX2_init_1 : List UInt8 := dkwX2_init_1 ++ dktX2_init_2
def dkwX2_init_0 : List UInt8 := [42, 183, 0, 3, 42, 16, 8, 189, 0, 9, 181, 0, 11, 42, 7, 188, 10, 89, 3, 4, 79, 89, 4]
abbrev dktX2_init_0 : List UInt8 := dkwX2_init_0 ++ dktX2_init_1
theorem dksX2_init_0 : cX2_init.data.toList.drop 0 = dktX2_init_0 := by decide +kernel
theorem dksX2_init_1 : cX2_init.data.toList.drop 23 = dktX2_init_1 := dk_seg dksX2_init_0 23 rfl rfl
theorem dksX2_init_2 : cX2_init.data.toList.drop 47 = dktX2_init_2 := dk_seg dksX2_init_1 24 rfl rfl
theorem dksX2_init_3 : cX2_init.data.toList.drop 70 = dktX2_init_3 := dk_seg dksX2_init_2 23 rfl rfl
theorem dksX2_init_4 : cX2_init.data.toList.drop 94 = dktX2_init_4 := dk_seg dksX2_init_3 24 rfl rfl
theorem dX2_init_0 : decode cX2_init 0 = .ok (.aload_n 0, 1) := dk_42 (dk_at dksX2_init_0 0 rfl rfl)
theorem dX2_init_1 : decode cX2_init 1 = .ok (.invokespecial 3, 3) := dk_183 0 3 (dk_at dksX2_init_0 1 rfl rfl)
theorem dX2_init_4 : decode cX2_init 4 = .ok (.aload_n 0, 1) := dk_42 (dk_at dksX2_init_0 4 rfl rfl)
theorem dX2_init_5 : decode cX2_init 5 = .ok (.bipush 8, 2) := dk_16 8 (dk_at dksX2_init_0 5 rfl rfl)
theorem dX2_init_7 : decode cX2_init 7 = .ok (.anewarray 9, 3) := dk_189 0 9 (dk_at dksX2_init_0 7 rfl rfl)
theorem dX2_init_10 : decode cX2_init 10 = .ok (.putfield 11, 3) := dk_181 0 11 (dk_at dksX2_init_0 10 rfl rfl)
theorem dX2_init_13 : decode cX2_init 13 = .ok (.aload_n 0, 1) := dk_42 (dk_at dksX2_init_0 13 rfl rfl)
theorem dX2_init_14 : decode cX2_init 14 = .ok (.iconst 4, 1) := dk_7 (dk_at dksX2_init_0 14 rfl rfl)
theorem dX2_init_15 : decode cX2_init 15 = .ok (.newarray .int, 2) := dk_188_10 (dk_at dksX2_init_0 15 rfl rfl)
theorem dX2_init_17 : decode cX2_init 17 = .ok (.dup, 1) := dk_89 (dk_at dksX2_init_0 17 rfl rfl)
theorem dX2_init_18 : decode cX2_init 18 = .ok (.iconst 0, 1) := dk_3 (dk_at dksX2_init_0 18 rfl rfl)
theorem dX2_init_19 : decode cX2_init 19 = .ok (.iconst 1, 1) := dk_4 (dk_at dksX2_init_0 19 rfl rfl)
theorem dX2_init_20 : decode cX2_init 20 = .ok (.iastore, 1) := dk_79 (dk_at dksX2_init_0 20 rfl rfl)
theorem dX2_init_21 : decode cX2_init 21 = .ok (.dup, 1) := dk_89 (dk_at dksX2_init_0 21 rfl rfl)
theorem dX2_init_22 : decode cX2_init 22 = .ok (.iconst 1, 1) := dk_4 (dk_at dksX2_init_0 22 rfl rfl)
theorem dX2_init_23 : decode cX2_init 23 = .ok (.bipush 7, 2) := dk_16 7 (dk_at dksX2_init_1 0 rfl rfl)
theorem dX2_init_25 : decode cX2_init 25 = .ok (.iastore, 1) := dk_79 (dk_at dksX2_init_1 2 rfl rfl)
theorem dX2_init_26 : decode cX2_init 26 = .ok (.dup, 1) := dk_89 (dk_at dksX2_init_1 3 rfl rfl)
theorem dX2_init_27 : decode cX2_init 27 = .ok (.iconst 2, 1) := dk_5 (dk_at dksX2_init_1 4 rfl rfl)
theorem dX2_init_28 : decode cX2_init 28 = .ok (.iconst 1, 1) := dk_4 (dk_at dksX2_init_1 5 rfl rfl)
theorem dX2_init_29 : decode cX2_init 29 = .ok (.iastore, 1) := dk_79 (dk_at dksX2_init_1 6 rfl rfl)
theorem dX2_init_30 : decode cX2_init 30 = .ok (.dup, 1) := dk_89 (dk_at dksX2_init_1 7 rfl rfl)
theorem dX2_init_31 : decode cX2_init 31 = .ok (.iconst 3, 1) := dk_6 (dk_at dksX2_init_1 8 rfl rfl)
theorem dX2_init_32 : decode cX2_init 32 = .ok (.bipush 7, 2) := dk_16 7 (dk_at dksX2_init_1 9 rfl rfl)
theorem dX2_init_34 : decode cX2_init 34 = .ok (.iastore, 1) := dk_79 (dk_at dksX2_init_1 11 rfl rfl)
theorem dX2_init_35 : decode cX2_init 35 = .ok (.putfield 17, 3) := dk_181 0 17 (dk_at dksX2_init_1 12 rfl rfl)
theorem dX2_init_38 : decode cX2_init 38 = .ok (.aload_n 0, 1) := dk_42 (dk_at dksX2_init_1 15 rfl rfl)
theorem dX2_init_39 : decode cX2_init 39 = .ok (.iconst 4, 1) := dk_7 (dk_at dksX2_init_1 16 rfl rfl)
theorem dX2_init_40 : decode cX2_init 40 = .ok (.newarray .int, 2) := dk_188_10 (dk_at dksX2_init_1 17 rfl rfl)
theorem dX2_init_42 : decode cX2_init 42 = .ok (.dup, 1) := dk_89 (dk_at dksX2_init_1 19 rfl rfl)
theorem dX2_init_43 : decode cX2_init 43 = .ok (.iconst 0, 1) := dk_3 (dk_at dksX2_init_1 20 rfl rfl)
theorem dX2_init_44 : decode cX2_init 44 = .ok (.iconst 1, 1) := dk_4 (dk_at dksX2_init_1 21 rfl rfl)
theorem dX2_init_45 : decode cX2_init 45 = .ok (.iastore, 1) := dk_79 (dk_at dksX2_init_1 22 rfl rfl)
theorem dX2_init_46 : decode cX2_init 46 = .ok (.dup, 1) := dk_89 (dk_at dksX2_init_1 23 rfl rfl)
theorem dX2_init_47 : decode cX2_init 47 = .ok (.iconst 1, 1) := dk_4 (dk_at dksX2_init_2 0 rfl rfl)
theorem dX2_init_48 : decode cX2_init 48 = .ok (.iconst 1, 1) := dk_4 (dk_at dksX2_init_2 1 rfl rfl)
theorem dX2_init_49 : decode cX2_init 49 = .ok (.iastore, 1) := dk_79 (dk_at dksX2_init_2 2 rfl rfl)
theorem dX2_init_50 : decode cX2_init 50 = .ok (.dup, 1) := dk_89 (dk_at dksX2_init_2 3 rfl rfl)
theorem dX2_init_51 : decode cX2_init 51 = .ok (.iconst 2, 1) := dk_5 (dk_at dksX2_init_2 4 rfl rfl)
theorem dX2_init_52 : decode cX2_init 52 = .ok (.iconst 1, 1) := dk_4 (dk_at dksX2_init_2 5 rfl rfl)
theorem dX2_init_53 : decode cX2_init 53 = .ok (.iastore, 1) := dk_79 (dk_at dksX2_init_2 6 rfl rfl)
theorem dX2_init_54 : decode cX2_init 54 = .ok (.dup, 1) := dk_89 (dk_at dksX2_init_2 7 rfl rfl)
theorem dX2_init_55 : decode cX2_init 55 = .ok (.iconst 3, 1) := dk_6 (dk_at dksX2_init_2 8 rfl rfl)
theorem dX2_init_56 : decode cX2_init 56 = .ok (.iconst 1, 1) := dk_4 (dk_at dksX2_init_2 9 rfl rfl)
theorem dX2_init_57 : decode cX2_init 57 = .ok (.iastore, 1) := dk_79 (dk_at dksX2_init_2 10 rfl rfl)
theorem dX2_init_58 : decode cX2_init 58 = .ok (.putfield 21, 3) := dk_181 0 21 (dk_at dksX2_init_2 11 rfl rfl)
theorem dX2_init_61 : decode cX2_init 61 = .ok (.aload_n 0, 1) := dk_42 (dk_at dksX2_init_2 14 rfl rfl)
theorem dX2_init_62 : decode cX2_init 62 = .ok (.iconst 4, 1) := dk_7 (dk_at dksX2_init_2 15 rfl rfl)
theorem dX2_init_63 : decode cX2_init 63 = .ok (.newarray .int, 2) := dk_188_10 (dk_at dksX2_init_2 16 rfl rfl)
theorem dX2_init_65 : decode cX2_init 65 = .ok (.putfield 24, 3) := dk_181 0 24 (dk_at dksX2_init_2 18 rfl rfl)
theorem dX2_init_68 : decode cX2_init 68 = .ok (.aload_n 0, 1) := dk_42 (dk_at dksX2_init_2 21 rfl rfl)
theorem dX2_init_69 : decode cX2_init 69 = .ok (.iconst 2, 1) := dk_5 (dk_at dksX2_init_2 22 rfl rfl)
theorem dX2_init_70 : decode cX2_init 70 = .ok (.newarray .int, 2) := dk_188_10 (dk_at dksX2_init_3 0 rfl rfl)
theorem dX2_init_72 : decode cX2_init 72 = .ok (.putfield 27, 3) := dk_181 0 27 (dk_at dksX2_init_3 2 rfl rfl)
theorem dX2_init_75 : decode cX2_init 75 = .ok (.aload_n 0, 1) := dk_42 (dk_at dksX2_init_3 5 rfl rfl)
theorem dX2_init_76 : decode cX2_init 76 = .ok (.iconst 2, 1) := dk_5 (dk_at dksX2_init_3 6 rfl rfl)
theorem dX2_init_77 : decode cX2_init 77 = .ok (.newarray .int, 2) := dk_188_10 (dk_at dksX2_init_3 7 rfl rfl)
theorem dX2_init_79 : decode cX2_init 79 = .ok (.dup, 1) := dk_89 (dk_at dksX2_init_3 9 rfl rfl)
theorem dX2_init_80 : decode cX2_init 80 = .ok (.iconst 0, 1) := dk_3 (dk_at dksX2_init_3 10 rfl rfl)
theorem dX2_init_81 : decode cX2_init 81 = .ok (.iconst 1, 1) := dk_4 (dk_at dksX2_init_3 11 rfl rfl)
theorem dX2_init_82 : decode cX2_init 82 = .ok (.iastore, 1) := dk_79 (dk_at dksX2_init_3 12 rfl rfl)
theorem dX2_init_83 : decode cX2_init 83 = .ok (.dup, 1) := dk_89 (dk_at dksX2_init_3 13 rfl rfl)
theorem dX2_init_84 : decode cX2_init 84 = .ok (.iconst 1, 1) := dk_4 (dk_at dksX2_init_3 14 rfl rfl)
theorem dX2_init_85 : decode cX2_init 85 = .ok (.iconst 1, 1) := dk_4 (dk_at dksX2_init_3 15 rfl rfl)
theorem dX2_init_86 : decode cX2_init 86 = .ok (.iastore, 1) := dk_79 (dk_at dksX2_init_3 16 rfl rfl)
theorem dX2_init_87 : decode cX2_init 87 = .ok (.putfield 30, 3) := dk_181 0 30 (dk_at dksX2_init_3 17 rfl rfl)
theorem dX2_init_90 : decode cX2_init 90 = .ok (.aload_n 0, 1) := dk_42 (dk_at dksX2_init_3 20 rfl rfl)
theorem dX2_init_91 : decode cX2_init 91 = .ok (.iconst 2, 1) := dk_5 (dk_at dksX2_init_3 21 rfl rfl)
theorem dX2_init_92 : decode cX2_init 92 = .ok (.newarray .int, 2) := dk_188_10 (dk_at dksX2_init_3 22 rfl rfl)
theorem dX2_init_94 : decode cX2_init 94 = .ok (.putfield 33, 3) := dk_181 0 33 (dk_at dksX2_init_4 0 rfl rfl)
theorem dX2_init_97 : decode cX2_init 97 = .ok (.aload_n 0, 1) := dk_42 (dk_at dksX2_init_4 3 rfl rfl)
theorem dX2_init_98 : decode cX2_init 98 = .ok (.iconst 4, 1) := dk_7 (dk_at dksX2_init_4 4 rfl rfl)
theorem dX2_init_99 : decode cX2_init 99 = .ok (.newarray .int, 2) := dk_188_10 (dk_at dksX2_init_4 5 rfl rfl)
theorem dX2_init_101 : decode cX2_init 101 = .ok (.putfield 36, 3) := dk_181 0 36 (dk_at dksX2_init_4 7 rfl rfl)
theorem dX2_init_104 : decode cX2_init 104 = .ok (.return_, 1) := dk_177 (dk_at dksX2_init_4 10 rfl rfl)
theorem q68 : (Jvm.Cond.initialized "SideBySide$Court") ∈ lw_all := lw_g (lw_at lw_m1 2 rfl) rfl
theorem q300 : (Jvm.Cond.instanceMethod ({ cls := "SideBySide$Court", name := "takes", desc := "(LSideBySide$Court;)V" } : Jvm.MethodName)) ∈ lw_all := lw_g (lw_at lw_m1 234 rfl) rfl
theorem q301 : (Jvm.Cond.selects "SideBySide$Court" ({ cls := "SideBySide$Court", name := "takes", desc := "(LSideBySide$Court;)V" } : Jvm.MethodName) ({ cls := "SideBySide$Court", name := "takes", desc := "(LSideBySide$Court;)V" } : Jvm.MethodName)) ∈ lw_all := lw_g (lw_at lw_m1 235 rfl) rfl
theorem q302 : (Jvm.Cond.code ({ cls := "SideBySide$Court", name := "takes", desc := "(LSideBySide$Court;)V" } : Jvm.MethodName) prog_4_method_3_code (2 : Nat) (Option.none : Option Jvm.ClassFile.FieldType)) ∈ lw_all := lw_g (lw_at lw_m1 236 rfl) rfl
theorem q303 : (Jvm.Cond.methodLink "SideBySide$Court" (39 : Nat) ({ cls := "java/lang/System", name := "arraycopy", desc := "(Ljava/lang/Object;ILjava/lang/Object;II)V" } : Jvm.MethodName)) ∈ lw_all := lw_g (lw_at lw_m1 237 rfl) rfl
theorem q306 : (Jvm.Cond.methodLink "SideBySide$Court" (45 : Nat) ({ cls := "SideBySide$Court", name := "copies", desc := "([I[I)V" } : Jvm.MethodName)) ∈ lw_all := lw_g (lw_at lw_m2 0 rfl) rfl
theorem q307 : (Jvm.Cond.static ({ cls := "SideBySide$Court", name := "copies", desc := "([I[I)V" } : Jvm.MethodName)) ∈ lw_all := lw_g (lw_at lw_m2 1 rfl) rfl
theorem q308 : (Jvm.Cond.code ({ cls := "SideBySide$Court", name := "copies", desc := "([I[I)V" } : Jvm.MethodName) prog_4_method_2_code (2 : Nat) (Option.none : Option Jvm.ClassFile.FieldType)) ∈ lw_all := lw_g (lw_at lw_m2 2 rfl) rfl
theorem q309 : (Jvm.Cond.methodLink "SideBySide$Court" (49 : Nat) ({ cls := "java/util/Arrays", name := "fill", desc := "([II)V" } : Jvm.MethodName)) ∈ lw_all := lw_g (lw_at lw_m2 3 rfl) rfl
theorem q393 : (Jvm.Cond.instanceMethod ({ cls := "SideBySide$Court", name := "learns", desc := "(LSideBySide$Stroke;)I" } : Jvm.MethodName)) ∈ lw_all := lw_g (lw_at lw_m2 87 rfl) rfl
theorem q394 : (Jvm.Cond.selects "SideBySide$Court" ({ cls := "SideBySide$Court", name := "learns", desc := "(LSideBySide$Stroke;)I" } : Jvm.MethodName) ({ cls := "SideBySide$Court", name := "learns", desc := "(LSideBySide$Stroke;)I" } : Jvm.MethodName)) ∈ lw_all := lw_g (lw_at lw_m2 88 rfl) rfl
theorem q395 : (Jvm.Cond.code ({ cls := "SideBySide$Court", name := "learns", desc := "(LSideBySide$Stroke;)I" } : Jvm.MethodName) prog_4_method_5_code (2 : Nat) (Option.some Jvm.ClassFile.FieldType.int)) ∈ lw_all := lw_g (lw_at lw_m2 89 rfl) rfl
theorem q401 : (Jvm.Cond.instanceMethod ({ cls := "SideBySide$Court", name := "isStroke", desc := "(I)Z" } : Jvm.MethodName)) ∈ lw_all := lw_g (lw_at lw_m2 95 rfl) rfl
theorem q402 : (Jvm.Cond.selects "SideBySide$Court" ({ cls := "SideBySide$Court", name := "isStroke", desc := "(I)Z" } : Jvm.MethodName) ({ cls := "SideBySide$Court", name := "isStroke", desc := "(I)Z" } : Jvm.MethodName)) ∈ lw_all := lw_g (lw_at lw_m2 96 rfl) rfl
theorem q403 : (Jvm.Cond.code ({ cls := "SideBySide$Court", name := "isStroke", desc := "(I)Z" } : Jvm.MethodName) prog_4_method_4_code (2 : Nat) (Option.some Jvm.ClassFile.FieldType.boolean)) ∈ lw_all := lw_g (lw_at lw_m2 97 rfl) rfl
theorem q404 : (Jvm.Cond.methodLinkNest "SideBySide$Court" (71 : Nat) ({ cls := "SideBySide", name := "isIn", desc := "(III)Z" } : Jvm.MethodName) "SideBySide") ∈ lw_tbl := lw_at lw_m2 98 rfl
theorem q412 : (Jvm.Cond.instanceMethod ({ cls := "SideBySide$Court", name := "hits", desc := "(II)Z" } : Jvm.MethodName)) ∈ lw_all := lw_g (lw_at lw_m2 106 rfl) rfl
theorem q413 : (Jvm.Cond.selects "SideBySide$Court" ({ cls := "SideBySide$Court", name := "hits", desc := "(II)Z" } : Jvm.MethodName) ({ cls := "SideBySide$Court", name := "hits", desc := "(II)Z" } : Jvm.MethodName)) ∈ lw_all := lw_g (lw_at lw_m2 107 rfl) rfl
theorem q414 : (Jvm.Cond.code ({ cls := "SideBySide$Court", name := "hits", desc := "(II)Z" } : Jvm.MethodName) prog_4_method_18_code (7 : Nat) (Option.some Jvm.ClassFile.FieldType.boolean)) ∈ lw_all := lw_g (lw_at lw_m2 108 rfl) rfl
theorem q415 : (Jvm.Cond.methodLink "SideBySide$Court" (91 : Nat) ({ cls := "SideBySide$Court", name := "turn", desc := "()I" } : Jvm.MethodName)) ∈ lw_all := lw_g (lw_at lw_m2 109 rfl) rfl
theorem q416 : (Jvm.Cond.instanceMethod ({ cls := "SideBySide$Court", name := "turn", desc := "()I" } : Jvm.MethodName)) ∈ lw_all := lw_g (lw_at lw_m2 110 rfl) rfl
theorem q417 : (Jvm.Cond.selects "SideBySide$Court" ({ cls := "SideBySide$Court", name := "turn", desc := "()I" } : Jvm.MethodName) ({ cls := "SideBySide$Court", name := "turn", desc := "()I" } : Jvm.MethodName)) ∈ lw_all := lw_g (lw_at lw_m2 111 rfl) rfl
theorem q418 : (Jvm.Cond.code ({ cls := "SideBySide$Court", name := "turn", desc := "()I" } : Jvm.MethodName) prog_4_method_6_code (1 : Nat) (Option.some Jvm.ClassFile.FieldType.int)) ∈ lw_all := lw_g (lw_at lw_m2 112 rfl) rfl
theorem q419 : (Jvm.Cond.methodLink "SideBySide$Court" (130 : Nat) ({ cls := "SideBySide$Court", name := "falls", desc := "(II)I" } : Jvm.MethodName)) ∈ lw_all := lw_g (lw_at lw_m2 113 rfl) rfl
theorem q420 : (Jvm.Cond.instanceMethod ({ cls := "SideBySide$Court", name := "falls", desc := "(II)I" } : Jvm.MethodName)) ∈ lw_all := lw_g (lw_at lw_m2 114 rfl) rfl
theorem q421 : (Jvm.Cond.selects "SideBySide$Court" ({ cls := "SideBySide$Court", name := "falls", desc := "(II)I" } : Jvm.MethodName) ({ cls := "SideBySide$Court", name := "falls", desc := "(II)I" } : Jvm.MethodName)) ∈ lw_all := lw_g (lw_at lw_m2 115 rfl) rfl
theorem q422 : (Jvm.Cond.code ({ cls := "SideBySide$Court", name := "falls", desc := "(II)I" } : Jvm.MethodName) prog_4_method_9_code (3 : Nat) (Option.some Jvm.ClassFile.FieldType.int)) ∈ lw_all := lw_g (lw_at lw_m2 116 rfl) rfl
theorem q452 : (Jvm.Cond.methodLink "SideBySide$Court" (131 : Nat) ({ cls := "SideBySide$Stroke", name := "time", desc := "(I)I" } : Jvm.MethodName)) ∈ lw_all := lw_g (lw_at lw_m2 146 rfl) rfl
theorem q503 : (Jvm.Cond.methodLink "SideBySide$Court" (119 : Nat) ({ cls := "SideBySide$Court", name := "tiresMore", desc := "(II)V" } : Jvm.MethodName)) ∈ lw_all := lw_g (lw_at lw_m2 197 rfl) rfl
theorem q504 : (Jvm.Cond.instanceMethod ({ cls := "SideBySide$Court", name := "tiresMore", desc := "(II)V" } : Jvm.MethodName)) ∈ lw_all := lw_g (lw_at lw_m2 198 rfl) rfl
theorem q505 : (Jvm.Cond.selects "SideBySide$Court" ({ cls := "SideBySide$Court", name := "tiresMore", desc := "(II)V" } : Jvm.MethodName) ({ cls := "SideBySide$Court", name := "tiresMore", desc := "(II)V" } : Jvm.MethodName)) ∈ lw_all := lw_g (lw_at lw_m2 199 rfl) rfl
theorem q506 : (Jvm.Cond.code ({ cls := "SideBySide$Court", name := "tiresMore", desc := "(II)V" } : Jvm.MethodName) prog_4_method_8_code (3 : Nat) (Option.none : Option Jvm.ClassFile.FieldType)) ∈ lw_all := lw_g (lw_at lw_m2 200 rfl) rfl
theorem q507 : (Jvm.Cond.methodLink "SideBySide$Court" (81 : Nat) ({ cls := "java/lang/Math", name := "min", desc := "(II)I" } : Jvm.MethodName)) ∈ lw_all := lw_g (lw_at lw_m2 201 rfl) rfl
theorem q508 : (Jvm.Cond.methodLink "SideBySide$Court" (137 : Nat) ({ cls := "SideBySide$Court", name := "whose", desc := "(I)I" } : Jvm.MethodName)) ∈ lw_all := lw_g (lw_at lw_m2 202 rfl) rfl
theorem q509 : (Jvm.Cond.instanceMethod ({ cls := "SideBySide$Court", name := "whose", desc := "(I)I" } : Jvm.MethodName)) ∈ lw_all := lw_g (lw_at lw_m2 203 rfl) rfl
theorem q510 : (Jvm.Cond.selects "SideBySide$Court" ({ cls := "SideBySide$Court", name := "whose", desc := "(I)I" } : Jvm.MethodName) ({ cls := "SideBySide$Court", name := "whose", desc := "(I)I" } : Jvm.MethodName)) ∈ lw_all := lw_g (lw_at lw_m2 204 rfl) rfl
theorem q511 : (Jvm.Cond.code ({ cls := "SideBySide$Court", name := "whose", desc := "(I)I" } : Jvm.MethodName) prog_4_method_11_code (4 : Nat) (Option.some Jvm.ClassFile.FieldType.int)) ∈ lw_all := lw_g (lw_at lw_m2 205 rfl) rfl
theorem q512 : (Jvm.Cond.methodLinkNest "SideBySide$Court" (95 : Nat) ({ cls := "SideBySide", name := "wayTo", desc := "(II)I" } : Jvm.MethodName) "SideBySide") ∈ lw_tbl := lw_at lw_m2 206 rfl
theorem q520 : (Jvm.Cond.methodLink "SideBySide$Court" (98 : Nat) ({ cls := "SideBySide$Court", name := "byHabit", desc := "(I)I" } : Jvm.MethodName)) ∈ lw_all := lw_g (lw_at lw_m2 214 rfl) rfl
theorem q521 : (Jvm.Cond.privateMethod ({ cls := "SideBySide$Court", name := "byHabit", desc := "(I)I" } : Jvm.MethodName)) ∈ lw_tbl := lw_at lw_m2 215 rfl
theorem q522 : (Jvm.Cond.instanceMethod ({ cls := "SideBySide$Court", name := "byHabit", desc := "(I)I" } : Jvm.MethodName)) ∈ lw_all := lw_g (lw_at lw_m2 216 rfl) rfl
theorem q523 : (Jvm.Cond.instantiable "SideBySide$Court" (13 : Nat)) ∈ lw_all := lw_g (lw_at lw_m2 217 rfl) rfl
theorem q524 : (Jvm.Cond.code ({ cls := "SideBySide$Court", name := "byHabit", desc := "(I)I" } : Jvm.MethodName) prog_4_method_10_code (5 : Nat) (Option.some Jvm.ClassFile.FieldType.int)) ∈ lw_all := lw_g (lw_at lw_m2 218 rfl) rfl
theorem q525 : (Jvm.Cond.methodLinkNest "SideBySide$Court" (87 : Nat) ({ cls := "SideBySide", name := "has", desc := "(II)Z" } : Jvm.MethodName) "SideBySide") ∈ lw_tbl := lw_at lw_m2 219 rfl
theorem q528 : (Jvm.Cond.methodLink "SideBySide$Court" (140 : Nat) ({ cls := "SideBySide$Court", name := "isClash", desc := "(I)Z" } : Jvm.MethodName)) ∈ lw_all := lw_g (lw_at lw_m2 222 rfl) rfl
theorem q529 : (Jvm.Cond.privateMethod ({ cls := "SideBySide$Court", name := "isClash", desc := "(I)Z" } : Jvm.MethodName)) ∈ lw_tbl := lw_at lw_m2 223 rfl
theorem q530 : (Jvm.Cond.instanceMethod ({ cls := "SideBySide$Court", name := "isClash", desc := "(I)Z" } : Jvm.MethodName)) ∈ lw_all := lw_g (lw_at lw_m2 224 rfl) rfl
theorem q531 : (Jvm.Cond.code ({ cls := "SideBySide$Court", name := "isClash", desc := "(I)Z" } : Jvm.MethodName) prog_4_method_12_code (3 : Nat) (Option.some Jvm.ClassFile.FieldType.boolean)) ∈ lw_all := lw_g (lw_at lw_m2 225 rfl) rfl
theorem q532 : (Jvm.Cond.methodLink "SideBySide$Court" (123 : Nat) ({ cls := "SideBySide$Court", name := "steps", desc := "(II)I" } : Jvm.MethodName)) ∈ lw_all := lw_g (lw_at lw_m2 226 rfl) rfl
theorem q533 : (Jvm.Cond.instanceMethod ({ cls := "SideBySide$Court", name := "steps", desc := "(II)I" } : Jvm.MethodName)) ∈ lw_all := lw_g (lw_at lw_m2 227 rfl) rfl
theorem q534 : (Jvm.Cond.selects "SideBySide$Court" ({ cls := "SideBySide$Court", name := "steps", desc := "(II)I" } : Jvm.MethodName) ({ cls := "SideBySide$Court", name := "steps", desc := "(II)I" } : Jvm.MethodName)) ∈ lw_all := lw_g (lw_at lw_m2 228 rfl) rfl
theorem q535 : (Jvm.Cond.code ({ cls := "SideBySide$Court", name := "steps", desc := "(II)I" } : Jvm.MethodName) prog_4_method_7_code (3 : Nat) (Option.some Jvm.ClassFile.FieldType.int)) ∈ lw_all := lw_g (lw_at lw_m2 229 rfl) rfl
theorem q536 : (Jvm.Cond.methodLink "SideBySide$Court" (75 : Nat) ({ cls := "java/lang/Math", name := "max", desc := "(II)I" } : Jvm.MethodName)) ∈ lw_all := lw_g (lw_at lw_m2 230 rfl) rfl
theorem q537 : (Jvm.Cond.methodLink "SideBySide$Court" (144 : Nat) ({ cls := "SideBySide$Court", name := "wins", desc := "(I)V" } : Jvm.MethodName)) ∈ lw_all := lw_g (lw_at lw_m2 231 rfl) rfl
theorem q538 : (Jvm.Cond.privateMethod ({ cls := "SideBySide$Court", name := "wins", desc := "(I)V" } : Jvm.MethodName)) ∈ lw_tbl := lw_at lw_m2 232 rfl
theorem q539 : (Jvm.Cond.instanceMethod ({ cls := "SideBySide$Court", name := "wins", desc := "(I)V" } : Jvm.MethodName)) ∈ lw_all := lw_g (lw_at lw_m2 233 rfl) rfl
theorem q540 : (Jvm.Cond.code ({ cls := "SideBySide$Court", name := "wins", desc := "(I)V" } : Jvm.MethodName) prog_4_method_16_code (2 : Nat) (Option.none : Option Jvm.ClassFile.FieldType)) ∈ lw_all := lw_g (lw_at lw_m2 234 rfl) rfl
theorem q541 : (Jvm.Cond.methodLink "SideBySide$Court" (148 : Nat) ({ cls := "SideBySide$Court", name := "gets", desc := "(III)V" } : Jvm.MethodName)) ∈ lw_all := lw_g (lw_at lw_m2 235 rfl) rfl
theorem q542 : (Jvm.Cond.privateMethod ({ cls := "SideBySide$Court", name := "gets", desc := "(III)V" } : Jvm.MethodName)) ∈ lw_tbl := lw_at lw_m2 236 rfl
theorem q543 : (Jvm.Cond.instanceMethod ({ cls := "SideBySide$Court", name := "gets", desc := "(III)V" } : Jvm.MethodName)) ∈ lw_all := lw_g (lw_at lw_m2 237 rfl) rfl
theorem q544 : (Jvm.Cond.code ({ cls := "SideBySide$Court", name := "gets", desc := "(III)V" } : Jvm.MethodName) prog_4_method_17_code (5 : Nat) (Option.none : Option Jvm.ClassFile.FieldType)) ∈ lw_all := lw_g (lw_at lw_m2 238 rfl) rfl
theorem q545 : (Jvm.Cond.methodLink "SideBySide$Court" (108 : Nat) ({ cls := "SideBySide$Court", name := "placeBy", desc := "(I)I" } : Jvm.MethodName)) ∈ lw_all := lw_g (lw_at lw_m2 239 rfl) rfl
theorem q546 : (Jvm.Cond.privateMethod ({ cls := "SideBySide$Court", name := "placeBy", desc := "(I)I" } : Jvm.MethodName)) ∈ lw_tbl := lw_at lw_m3 0 rfl
theorem q547 : (Jvm.Cond.instanceMethod ({ cls := "SideBySide$Court", name := "placeBy", desc := "(I)I" } : Jvm.MethodName)) ∈ lw_all := lw_g (lw_at lw_m3 1 rfl) rfl
theorem q548 : (Jvm.Cond.code ({ cls := "SideBySide$Court", name := "placeBy", desc := "(I)I" } : Jvm.MethodName) prog_4_method_13_code (3 : Nat) (Option.some Jvm.ClassFile.FieldType.int)) ∈ lw_all := lw_g (lw_at lw_m3 2 rfl) rfl
theorem q549 : (Jvm.Cond.methodLinkNest "SideBySide$Court" (102 : Nat) ({ cls := "SideBySide", name := "columnOf", desc := "(I)I" } : Jvm.MethodName) "SideBySide") ∈ lw_tbl := lw_at lw_m3 3 rfl
theorem q550 : (Jvm.Cond.methodLinkNest "SideBySide$Court" (105 : Nat) ({ cls := "SideBySide", name := "rowOf", desc := "(I)I" } : Jvm.MethodName) "SideBySide") ∈ lw_tbl := lw_at lw_m3 4 rfl
theorem q551 : (Jvm.Cond.methodLink "SideBySide$Court" (126 : Nat) ({ cls := "SideBySide$Court", name := "stepsIn", desc := "(III)V" } : Jvm.MethodName)) ∈ lw_all := lw_g (lw_at lw_m3 5 rfl) rfl
theorem q552 : (Jvm.Cond.privateMethod ({ cls := "SideBySide$Court", name := "stepsIn", desc := "(III)V" } : Jvm.MethodName)) ∈ lw_tbl := lw_at lw_m3 6 rfl
theorem q553 : (Jvm.Cond.instanceMethod ({ cls := "SideBySide$Court", name := "stepsIn", desc := "(III)V" } : Jvm.MethodName)) ∈ lw_all := lw_g (lw_at lw_m3 7 rfl) rfl
theorem q554 : (Jvm.Cond.code ({ cls := "SideBySide$Court", name := "stepsIn", desc := "(III)V" } : Jvm.MethodName) prog_4_method_15_code (10 : Nat) (Option.none : Option Jvm.ClassFile.FieldType)) ∈ lw_all := lw_g (lw_at lw_m3 8 rfl) rfl
theorem q555 : (Jvm.Cond.methodLink "SideBySide$Court" (111 : Nat) ({ cls := "java/lang/Math", name := "abs", desc := "(I)I" } : Jvm.MethodName)) ∈ lw_all := lw_g (lw_at lw_m3 9 rfl) rfl
theorem q556 : (Jvm.Cond.methodLink "SideBySide$Court" (114 : Nat) ({ cls := "java/lang/Integer", name := "compare", desc := "(II)I" } : Jvm.MethodName)) ∈ lw_all := lw_g (lw_at lw_m3 10 rfl) rfl
theorem q613 : (Jvm.Cond.instanceMethod ({ cls := "SideBySide$Court", name := "outOfPlace", desc := "(I)I" } : Jvm.MethodName)) ∈ lw_all := lw_g (lw_at lw_m3 67 rfl) rfl
theorem q614 : (Jvm.Cond.selects "SideBySide$Court" ({ cls := "SideBySide$Court", name := "outOfPlace", desc := "(I)I" } : Jvm.MethodName) ({ cls := "SideBySide$Court", name := "outOfPlace", desc := "(I)I" } : Jvm.MethodName)) ∈ lw_all := lw_g (lw_at lw_m3 68 rfl) rfl
theorem q615 : (Jvm.Cond.code ({ cls := "SideBySide$Court", name := "outOfPlace", desc := "(I)I" } : Jvm.MethodName) prog_4_method_14_code (2 : Nat) (Option.some Jvm.ClassFile.FieldType.int)) ∈ lw_all := lw_g (lw_at lw_m3 69 rfl) rfl
theorem q799 : (Jvm.Cond.instanceMethod ({ cls := "SideBySide$Court", name := "tiredOf", desc := "(I)I" } : Jvm.MethodName)) ∈ lw_all := lw_g (lw_at lw_m4 13 rfl) rfl
theorem q800 : (Jvm.Cond.selects "SideBySide$Court" ({ cls := "SideBySide$Court", name := "tiredOf", desc := "(I)I" } : Jvm.MethodName) ({ cls := "SideBySide$Court", name := "tiredOf", desc := "(I)I" } : Jvm.MethodName)) ∈ lw_all := lw_g (lw_at lw_m4 14 rfl) rfl
theorem q801 : (Jvm.Cond.code ({ cls := "SideBySide$Court", name := "tiredOf", desc := "(I)I" } : Jvm.MethodName) prog_4_method_20_code (2 : Nat) (Option.some Jvm.ClassFile.FieldType.int)) ∈ lw_all := lw_g (lw_at lw_m4 15 rfl) rfl
theorem q833 : (Jvm.Cond.instanceMethod ({ cls := "SideBySide$Court", name := "allPoints", desc := "()I" } : Jvm.MethodName)) ∈ lw_all := lw_g (lw_at lw_m4 47 rfl) rfl
theorem q834 : (Jvm.Cond.selects "SideBySide$Court" ({ cls := "SideBySide$Court", name := "allPoints", desc := "()I" } : Jvm.MethodName) ({ cls := "SideBySide$Court", name := "allPoints", desc := "()I" } : Jvm.MethodName)) ∈ lw_all := lw_g (lw_at lw_m4 48 rfl) rfl
theorem q835 : (Jvm.Cond.code ({ cls := "SideBySide$Court", name := "allPoints", desc := "()I" } : Jvm.MethodName) prog_4_method_19_code (1 : Nat) (Option.some Jvm.ClassFile.FieldType.int)) ∈ lw_all := lw_g (lw_at lw_m4 49 rfl) rfl
theorem q866 : (Jvm.Cond.instanceMethod ({ cls := "SideBySide$Court", name := "<init>", desc := "()V" } : Jvm.MethodName)) ∈ lw_all := lw_g (lw_at lw_m4 80 rfl) rfl
theorem q867 : (Jvm.Cond.code ({ cls := "SideBySide$Court", name := "<init>", desc := "()V" } : Jvm.MethodName) prog_4_method_1_code (1 : Nat) (Option.none : Option Jvm.ClassFile.FieldType)) ∈ lw_all := lw_g (lw_at lw_m4 81 rfl) rfl
theorem q868 : (Jvm.Cond.methodLink "SideBySide$Court" (3 : Nat) ({ cls := "java/lang/Object", name := "<init>", desc := "()V" } : Jvm.MethodName)) ∈ lw_all := lw_g (lw_at lw_m4 82 rfl) rfl
theorem q869 : (Jvm.Cond.classLink "SideBySide$Court" (9 : Nat) "SideBySide$Stroke") ∈ lw_all := lw_g (lw_at lw_m4 83 rfl) rfl
theorem q871 : (Jvm.Cond.fieldLink "SideBySide$Court" (11 : Nat) "SideBySide$Court" "stroke" "[LSideBySide$Stroke;") ∈ lw_all := lw_g (lw_at lw_m4 85 rfl) rfl
theorem q873 : (Jvm.Cond.fieldLink "SideBySide$Court" (17 : Nat) "SideBySide$Court" "at" "[I") ∈ lw_all := lw_g (lw_at lw_m4 87 rfl) rfl
theorem q875 : (Jvm.Cond.fieldLink "SideBySide$Court" (21 : Nat) "SideBySide$Court" "pace" "[I") ∈ lw_all := lw_g (lw_at lw_m4 89 rfl) rfl
theorem q877 : (Jvm.Cond.fieldLink "SideBySide$Court" (24 : Nat) "SideBySide$Court" "tired" "[I") ∈ lw_all := lw_g (lw_at lw_m4 91 rfl) rfl
theorem q879 : (Jvm.Cond.fieldLink "SideBySide$Court" (27 : Nat) "SideBySide$Court" "form" "[I") ∈ lw_all := lw_g (lw_at lw_m4 93 rfl) rfl
theorem q881 : (Jvm.Cond.fieldLink "SideBySide$Court" (30 : Nat) "SideBySide$Court" "habit" "[I") ∈ lw_all := lw_g (lw_at lw_m4 95 rfl) rfl
theorem q883 : (Jvm.Cond.fieldLink "SideBySide$Court" (33 : Nat) "SideBySide$Court" "points" "[I") ∈ lw_all := lw_g (lw_at lw_m4 97 rfl) rfl
theorem q885 : (Jvm.Cond.fieldLink "SideBySide$Court" (36 : Nat) "SideBySide$Court" "went" "[I") ∈ lw_all := lw_g (lw_at lw_m4 99 rfl) rfl
theorem q887 : (Jvm.Cond.fieldLink "SideBySide$Court" (55 : Nat) "SideBySide$Court" "left" "I") ∈ lw_all := lw_g (lw_at lw_m4 101 rfl) rfl
theorem q889 : (Jvm.Cond.fieldLink "SideBySide$Court" (59 : Nat) "SideBySide$Court" "strokes" "I") ∈ lw_all := lw_g (lw_at lw_m4 103 rfl) rfl
theorem q891 : (Jvm.Cond.fieldLink "SideBySide$Court" (62 : Nat) "SideBySide$Court" "holder" "I") ∈ lw_all := lw_g (lw_at lw_m4 105 rfl) rfl
theorem q893 : (Jvm.Cond.fieldLink "SideBySide$Court" (65 : Nat) "SideBySide$Court" "draught" "I") ∈ lw_all := lw_g (lw_at lw_m4 107 rfl) rfl
theorem q895 : (Jvm.Cond.fieldLink "SideBySide$Court" (68 : Nat) "SideBySide$Court" "hits" "I") ∈ lw_all := lw_g (lw_at lw_m4 109 rfl) rfl
theorem q897 : (Jvm.Cond.laysFinal "SideBySide$Court" "SideBySide$Court" "stroke" "[LSideBySide$Stroke;") ∈ lw_all := lw_g (lw_at lw_m4 111 rfl) rfl
theorem q898 : (Jvm.Cond.soleField "SideBySide$Court" "stroke") ∈ lw_all := lw_g (lw_at lw_m4 112 rfl) rfl
theorem q899 : (Jvm.Cond.laysFinal "SideBySide$Court" "SideBySide$Court" "at" "[I") ∈ lw_all := lw_g (lw_at lw_m4 113 rfl) rfl
theorem q900 : (Jvm.Cond.soleField "SideBySide$Court" "at") ∈ lw_all := lw_g (lw_at lw_m4 114 rfl) rfl
theorem q901 : (Jvm.Cond.laysFinal "SideBySide$Court" "SideBySide$Court" "pace" "[I") ∈ lw_all := lw_g (lw_at lw_m4 115 rfl) rfl
theorem q902 : (Jvm.Cond.soleField "SideBySide$Court" "pace") ∈ lw_all := lw_g (lw_at lw_m4 116 rfl) rfl
theorem q903 : (Jvm.Cond.laysFinal "SideBySide$Court" "SideBySide$Court" "tired" "[I") ∈ lw_all := lw_g (lw_at lw_m4 117 rfl) rfl
theorem q904 : (Jvm.Cond.soleField "SideBySide$Court" "tired") ∈ lw_all := lw_g (lw_at lw_m4 118 rfl) rfl
theorem q905 : (Jvm.Cond.laysFinal "SideBySide$Court" "SideBySide$Court" "form" "[I") ∈ lw_all := lw_g (lw_at lw_m4 119 rfl) rfl
theorem q906 : (Jvm.Cond.soleField "SideBySide$Court" "form") ∈ lw_all := lw_g (lw_at lw_m4 120 rfl) rfl
theorem q907 : (Jvm.Cond.laysFinal "SideBySide$Court" "SideBySide$Court" "habit" "[I") ∈ lw_all := lw_g (lw_at lw_m4 121 rfl) rfl
theorem q908 : (Jvm.Cond.soleField "SideBySide$Court" "habit") ∈ lw_all := lw_g (lw_at lw_m4 122 rfl) rfl
theorem q909 : (Jvm.Cond.laysFinal "SideBySide$Court" "SideBySide$Court" "points" "[I") ∈ lw_all := lw_g (lw_at lw_m4 123 rfl) rfl
theorem q910 : (Jvm.Cond.soleField "SideBySide$Court" "points") ∈ lw_all := lw_g (lw_at lw_m4 124 rfl) rfl
theorem q911 : (Jvm.Cond.laysFinal "SideBySide$Court" "SideBySide$Court" "went" "[I") ∈ lw_all := lw_g (lw_at lw_m4 125 rfl) rfl
theorem q912 : (Jvm.Cond.soleField "SideBySide$Court" "went") ∈ lw_all := lw_g (lw_at lw_m4 126 rfl) rfl
theorem q913 : (Jvm.Cond.lays "SideBySide$Court" "SideBySide$Court" "left" "I") ∈ lw_all := lw_g (lw_at lw_m4 127 rfl) rfl
theorem q914 : (Jvm.Cond.soleField "SideBySide$Court" "left") ∈ lw_all := lw_g (lw_at lw_m4 128 rfl) rfl
theorem q915 : (Jvm.Cond.lays "SideBySide$Court" "SideBySide$Court" "strokes" "I") ∈ lw_all := lw_g (lw_at lw_m4 129 rfl) rfl
theorem q916 : (Jvm.Cond.soleField "SideBySide$Court" "strokes") ∈ lw_all := lw_g (lw_at lw_m4 130 rfl) rfl
theorem q917 : (Jvm.Cond.lays "SideBySide$Court" "SideBySide$Court" "holder" "I") ∈ lw_all := lw_g (lw_at lw_m4 131 rfl) rfl
theorem q918 : (Jvm.Cond.soleField "SideBySide$Court" "holder") ∈ lw_all := lw_g (lw_at lw_m4 132 rfl) rfl
theorem q919 : (Jvm.Cond.lays "SideBySide$Court" "SideBySide$Court" "draught" "I") ∈ lw_all := lw_g (lw_at lw_m4 133 rfl) rfl
theorem q920 : (Jvm.Cond.soleField "SideBySide$Court" "draught") ∈ lw_all := lw_g (lw_at lw_m4 134 rfl) rfl
theorem q921 : (Jvm.Cond.lays "SideBySide$Court" "SideBySide$Court" "hits" "I") ∈ lw_all := lw_g (lw_at lw_m4 135 rfl) rfl
theorem q922 : (Jvm.Cond.soleField "SideBySide$Court" "hits") ∈ lw_all := lw_g (lw_at lw_m4 136 rfl) rfl
theorem q923 : (Jvm.Cond.superclass "SideBySide$Court" "java/lang/Object") ∈ lw_all := lw_g (lw_at lw_m4 137 rfl) rfl
theorem in_X2 : ∀ w ∈ wsX20, w ∈ lw_all := lw_in wsX20 [897, 899, 901, 903, 905, 907, 909, 911, 913, 915, 917, 919, 921] (by decide +kernel) (by decide +kernel)
/-! SideBySide$Shelf -/
set_option maxRecDepth 100000
def RX3 : String := "SideBySide$Shelf"
def TX3 : u_T := fun k => match k with
  | _ => ("SideBySide$Shelf", "held", "Ljava/lang/Object;", false)
def tyX3 : Nat → FieldType := fun k => match k with
  | _ => .object "java/lang/Object"
abbrev wsX30 : List Cond := u_ws RX3 TX3 1
theorem nmX3 : ∀ a, a < 1 → ∀ b, b < 1 → a ≠ b → (TX3 a).2.1 ≠ (TX3 b).2.1 := by decide +kernel
theorem tyX3_ok : ∀ k, k < 1 → parseFieldDescriptor (TX3 k).2.2.1 = some (tyX3 k) := by decide +kernel
abbrev cX3_init : ByteArray := prog_12_method_1_code
def yX3_init : MethodName := ⟨RX3, "<init>", "()V"⟩
theorem dX3_init_0 : decode cX3_init 0 = .ok (.aload_n 0, 1) := by decide +kernel
theorem dX3_init_1 : decode cX3_init 1 = .ok (.invokespecial 1, 3) := by decide +kernel
theorem dX3_init_4 : decode cX3_init 4 = .ok (.return_, 1) := by decide +kernel
theorem q69 : (Jvm.Cond.initialized "SideBySide$Shelf") ∈ lw_all := lw_g (lw_at lw_m1 3 rfl) rfl
theorem q928 : (Jvm.Cond.instantiable "SideBySide$Shelf" (1 : Nat)) ∈ lw_all := lw_g (lw_at lw_m4 142 rfl) rfl
theorem q930 : (Jvm.Cond.instanceMethod ({ cls := "SideBySide$Shelf", name := "<init>", desc := "()V" } : Jvm.MethodName)) ∈ lw_all := lw_g (lw_at lw_m4 144 rfl) rfl
theorem q931 : (Jvm.Cond.code ({ cls := "SideBySide$Shelf", name := "<init>", desc := "()V" } : Jvm.MethodName) prog_12_method_1_code (1 : Nat) (Option.none : Option Jvm.ClassFile.FieldType)) ∈ lw_all := lw_g (lw_at lw_m4 145 rfl) rfl
theorem q932 : (Jvm.Cond.methodLink "SideBySide$Shelf" (1 : Nat) ({ cls := "java/lang/Object", name := "<init>", desc := "()V" } : Jvm.MethodName)) ∈ lw_all := lw_g (lw_at lw_m4 146 rfl) rfl
theorem q934 : (Jvm.Cond.lays "SideBySide$Shelf" "SideBySide$Shelf" "held" "Ljava/lang/Object;") ∈ lw_all := lw_g (lw_at lw_m4 148 rfl) rfl
theorem q935 : (Jvm.Cond.soleField "SideBySide$Shelf" "held") ∈ lw_all := lw_g (lw_at lw_m4 149 rfl) rfl
theorem q936 : (Jvm.Cond.superclass "SideBySide$Shelf" "java/lang/Object") ∈ lw_all := lw_g (lw_at lw_m4 150 rfl) rfl
theorem in_X3 : ∀ w ∈ wsX30, w ∈ lw_all := lw_in wsX30 [934] (by decide +kernel) (by decide +kernel)
/-! SideBySide$CourtReader -/
set_option maxRecDepth 100000
def RX5 : String := "SideBySide$CourtReader"
def TX5 : u_T := fun k => match k with
  | 0 => ("SideBySide$CourtReader", "text", "[B", true)
  | _ => ("SideBySide$CourtReader", "at", "I", false)
def tyX5 : Nat → FieldType := fun k => match k with
  | 0 => .array .byte
  | _ => .int
abbrev wsX50 : List Cond := u_ws RX5 TX5 2
theorem nmX5 : ∀ a, a < 2 → ∀ b, b < 2 → a ≠ b → (TX5 a).2.1 ≠ (TX5 b).2.1 := by decide +kernel
theorem tyX5_ok : ∀ k, k < 2 → parseFieldDescriptor (TX5 k).2.2.1 = some (tyX5 k) := by decide +kernel
abbrev cX5_init : ByteArray := prog_5_method_1_code
def yX5_init : MethodName := ⟨RX5, "<init>", "([B)V"⟩
def dkwX5_init_0 : List UInt8 := [42, 183, 0, 3, 42, 43, 181, 0, 9, 177]
abbrev dktX5_init_0 : List UInt8 := dkwX5_init_0 ++ []
theorem dksX5_init_0 : cX5_init.data.toList.drop 0 = dktX5_init_0 := by decide +kernel
theorem dX5_init_0 : decode cX5_init 0 = .ok (.aload_n 0, 1) := dk_42 (dk_at dksX5_init_0 0 rfl rfl)
theorem dX5_init_1 : decode cX5_init 1 = .ok (.invokespecial 3, 3) := dk_183 0 3 (dk_at dksX5_init_0 1 rfl rfl)
theorem dX5_init_4 : decode cX5_init 4 = .ok (.aload_n 0, 1) := dk_42 (dk_at dksX5_init_0 4 rfl rfl)
theorem dX5_init_5 : decode cX5_init 5 = .ok (.aload_n 1, 1) := dk_43 (dk_at dksX5_init_0 5 rfl rfl)
theorem dX5_init_6 : decode cX5_init 6 = .ok (.putfield 9, 3) := dk_181 0 9 (dk_at dksX5_init_0 6 rfl rfl)
theorem dX5_init_9 : decode cX5_init 9 = .ok (.return_, 1) := dk_177 (dk_at dksX5_init_0 9 rfl rfl)
abbrev cX5_whole : ByteArray := prog_5_method_8_code
def yX5_whole : MethodName := ⟨RX5, "whole", "([LSideBySide$Told;)I"⟩
def dkwX5_whole_1 : List UInt8 := [28, 172]
abbrev dktX5_whole_1 : List UInt8 := dkwX5_whole_1 ++ []
def dkwX5_whole_0 : List UInt8 := [3, 61, 43, 28, 42, 182, 0, 59, 83, 132, 2, 1, 42, 180, 0, 15, 42, 180, 0, 9, 190, 161, 255, 237]
abbrev dktX5_whole_0 : List UInt8 := dkwX5_whole_0 ++ dktX5_whole_1
theorem dksX5_whole_0 : cX5_whole.data.toList.drop 0 = dktX5_whole_0 := by decide +kernel
theorem dksX5_whole_1 : cX5_whole.data.toList.drop 24 = dktX5_whole_1 := dk_seg dksX5_whole_0 24 rfl rfl
theorem dX5_whole_0 : decode cX5_whole 0 = .ok (.iconst 0, 1) := dk_3 (dk_at dksX5_whole_0 0 rfl rfl)
theorem dX5_whole_1 : decode cX5_whole 1 = .ok (.istore_n 2, 1) := dk_61 (dk_at dksX5_whole_0 1 rfl rfl)
theorem dX5_whole_2 : decode cX5_whole 2 = .ok (.aload_n 1, 1) := dk_43 (dk_at dksX5_whole_0 2 rfl rfl)
theorem dX5_whole_3 : decode cX5_whole 3 = .ok (.iload_n 2, 1) := dk_28 (dk_at dksX5_whole_0 3 rfl rfl)
theorem dX5_whole_4 : decode cX5_whole 4 = .ok (.aload_n 0, 1) := dk_42 (dk_at dksX5_whole_0 4 rfl rfl)
theorem dX5_whole_5 : decode cX5_whole 5 = .ok (.invokevirtual 59, 3) := dk_182 0 59 (dk_at dksX5_whole_0 5 rfl rfl)
theorem dX5_whole_8 : decode cX5_whole 8 = .ok (.aastore, 1) := dk_83 (dk_at dksX5_whole_0 8 rfl rfl)
theorem dX5_whole_9 : decode cX5_whole 9 = .ok (.iinc 2 1, 3) := dk_132 2 1 (dk_at dksX5_whole_0 9 rfl rfl)
theorem dX5_whole_12 : decode cX5_whole 12 = .ok (.aload_n 0, 1) := dk_42 (dk_at dksX5_whole_0 12 rfl rfl)
theorem dX5_whole_13 : decode cX5_whole 13 = .ok (.getfield 15, 3) := dk_180 0 15 (dk_at dksX5_whole_0 13 rfl rfl)
theorem dX5_whole_16 : decode cX5_whole 16 = .ok (.aload_n 0, 1) := dk_42 (dk_at dksX5_whole_0 16 rfl rfl)
theorem dX5_whole_17 : decode cX5_whole 17 = .ok (.getfield 9, 3) := dk_180 0 9 (dk_at dksX5_whole_0 17 rfl rfl)
theorem dX5_whole_20 : decode cX5_whole 20 = .ok (.arraylength, 1) := dk_190 (dk_at dksX5_whole_0 20 rfl rfl)
theorem dX5_whole_21 : decode cX5_whole 21 = .ok (.if_icmp .lt (-19), 3) := dk_161 255 237 (dk_at dksX5_whole_0 21 rfl rfl)
theorem dX5_whole_24 : decode cX5_whole 24 = .ok (.iload_n 2, 1) := dk_28 (dk_at dksX5_whole_1 0 rfl rfl)
theorem dX5_whole_25 : decode cX5_whole 25 = .ok (.ireturn, 1) := dk_172 (dk_at dksX5_whole_1 1 rfl rfl)
abbrev cX5_statement : ByteArray := prog_5_method_7_code
def yX5_statement : MethodName := ⟨RX5, "statement", "()LSideBySide$Told;"⟩
def dkwX5_statement_2 : List UInt8 := [180, 0, 15, 4, 96, 181, 0, 15, 43, 176]
abbrev dktX5_statement_2 : List UInt8 := dkwX5_statement_2 ++ []
def dkwX5_statement_1 : List UInt8 := [181, 0, 15, 42, 43, 182, 0, 55, 42, 182, 0, 24, 16, 59, 159, 0, 8, 42, 182, 0, 32, 191, 42, 89]
abbrev dktX5_statement_1 : List UInt8 := dkwX5_statement_1 ++ dktX5_statement_2
def dkwX5_statement_0 : List UInt8 := [187, 0, 41, 89, 42, 182, 0, 24, 42, 180, 0, 15, 183, 0, 52, 76, 42, 89, 180, 0, 15, 4, 96]
abbrev dktX5_statement_0 : List UInt8 := dkwX5_statement_0 ++ dktX5_statement_1
theorem dksX5_statement_0 : cX5_statement.data.toList.drop 0 = dktX5_statement_0 := by decide +kernel
theorem dksX5_statement_1 : cX5_statement.data.toList.drop 23 = dktX5_statement_1 := dk_seg dksX5_statement_0 23 rfl rfl
theorem dksX5_statement_2 : cX5_statement.data.toList.drop 47 = dktX5_statement_2 := dk_seg dksX5_statement_1 24 rfl rfl
theorem dX5_statement_0 : decode cX5_statement 0 = .ok (.new 41, 3) := dk_187 0 41 (dk_at dksX5_statement_0 0 rfl rfl)
theorem dX5_statement_3 : decode cX5_statement 3 = .ok (.dup, 1) := dk_89 (dk_at dksX5_statement_0 3 rfl rfl)
theorem dX5_statement_4 : decode cX5_statement 4 = .ok (.aload_n 0, 1) := dk_42 (dk_at dksX5_statement_0 4 rfl rfl)
theorem dX5_statement_5 : decode cX5_statement 5 = .ok (.invokevirtual 24, 3) := dk_182 0 24 (dk_at dksX5_statement_0 5 rfl rfl)
theorem dX5_statement_8 : decode cX5_statement 8 = .ok (.aload_n 0, 1) := dk_42 (dk_at dksX5_statement_0 8 rfl rfl)
theorem dX5_statement_9 : decode cX5_statement 9 = .ok (.getfield 15, 3) := dk_180 0 15 (dk_at dksX5_statement_0 9 rfl rfl)
theorem dX5_statement_12 : decode cX5_statement 12 = .ok (.invokespecial 52, 3) := dk_183 0 52 (dk_at dksX5_statement_0 12 rfl rfl)
theorem dX5_statement_15 : decode cX5_statement 15 = .ok (.astore_n 1, 1) := dk_76 (dk_at dksX5_statement_0 15 rfl rfl)
theorem dX5_statement_16 : decode cX5_statement 16 = .ok (.aload_n 0, 1) := dk_42 (dk_at dksX5_statement_0 16 rfl rfl)
theorem dX5_statement_17 : decode cX5_statement 17 = .ok (.dup, 1) := dk_89 (dk_at dksX5_statement_0 17 rfl rfl)
theorem dX5_statement_18 : decode cX5_statement 18 = .ok (.getfield 15, 3) := dk_180 0 15 (dk_at dksX5_statement_0 18 rfl rfl)
theorem dX5_statement_21 : decode cX5_statement 21 = .ok (.iconst 1, 1) := dk_4 (dk_at dksX5_statement_0 21 rfl rfl)
theorem dX5_statement_22 : decode cX5_statement 22 = .ok (.iadd, 1) := dk_96 (dk_at dksX5_statement_0 22 rfl rfl)
theorem dX5_statement_23 : decode cX5_statement 23 = .ok (.putfield 15, 3) := dk_181 0 15 (dk_at dksX5_statement_1 0 rfl rfl)
theorem dX5_statement_26 : decode cX5_statement 26 = .ok (.aload_n 0, 1) := dk_42 (dk_at dksX5_statement_1 3 rfl rfl)
theorem dX5_statement_27 : decode cX5_statement 27 = .ok (.aload_n 1, 1) := dk_43 (dk_at dksX5_statement_1 4 rfl rfl)
theorem dX5_statement_28 : decode cX5_statement 28 = .ok (.invokevirtual 55, 3) := dk_182 0 55 (dk_at dksX5_statement_1 5 rfl rfl)
theorem dX5_statement_31 : decode cX5_statement 31 = .ok (.aload_n 0, 1) := dk_42 (dk_at dksX5_statement_1 8 rfl rfl)
theorem dX5_statement_32 : decode cX5_statement 32 = .ok (.invokevirtual 24, 3) := dk_182 0 24 (dk_at dksX5_statement_1 9 rfl rfl)
theorem dX5_statement_35 : decode cX5_statement 35 = .ok (.bipush 59, 2) := dk_16 59 (dk_at dksX5_statement_1 12 rfl rfl)
theorem dX5_statement_37 : decode cX5_statement 37 = .ok (.if_icmp .eq 8, 3) := dk_159 0 8 (dk_at dksX5_statement_1 14 rfl rfl)
theorem dX5_statement_40 : decode cX5_statement 40 = .ok (.aload_n 0, 1) := dk_42 (dk_at dksX5_statement_1 17 rfl rfl)
theorem dX5_statement_41 : decode cX5_statement 41 = .ok (.invokevirtual 32, 3) := dk_182 0 32 (dk_at dksX5_statement_1 18 rfl rfl)
theorem dX5_statement_44 : decode cX5_statement 44 = .ok (.athrow, 1) := dk_191 (dk_at dksX5_statement_1 21 rfl rfl)
theorem dX5_statement_45 : decode cX5_statement 45 = .ok (.aload_n 0, 1) := dk_42 (dk_at dksX5_statement_1 22 rfl rfl)
theorem dX5_statement_46 : decode cX5_statement 46 = .ok (.dup, 1) := dk_89 (dk_at dksX5_statement_1 23 rfl rfl)
theorem dX5_statement_47 : decode cX5_statement 47 = .ok (.getfield 15, 3) := dk_180 0 15 (dk_at dksX5_statement_2 0 rfl rfl)
theorem dX5_statement_50 : decode cX5_statement 50 = .ok (.iconst 1, 1) := dk_4 (dk_at dksX5_statement_2 3 rfl rfl)
theorem dX5_statement_51 : decode cX5_statement 51 = .ok (.iadd, 1) := dk_96 (dk_at dksX5_statement_2 4 rfl rfl)
theorem dX5_statement_52 : decode cX5_statement 52 = .ok (.putfield 15, 3) := dk_181 0 15 (dk_at dksX5_statement_2 5 rfl rfl)
theorem dX5_statement_55 : decode cX5_statement 55 = .ok (.aload_n 1, 1) := dk_43 (dk_at dksX5_statement_2 8 rfl rfl)
theorem dX5_statement_56 : decode cX5_statement 56 = .ok (.areturn, 1) := dk_176 (dk_at dksX5_statement_2 9 rfl rfl)
abbrev cX5_sign : ByteArray := prog_5_method_2_code
def yX5_sign : MethodName := ⟨RX5, "sign", "()I"⟩
def dkwX5_sign_1 : List UInt8 := [2, 172]
abbrev dktX5_sign_1 : List UInt8 := dkwX5_sign_1 ++ []
def dkwX5_sign_0 : List UInt8 := [42, 180, 0, 15, 42, 180, 0, 9, 190, 162, 0, 15, 42, 180, 0, 9, 42, 180, 0, 15, 51, 167, 0, 4]
abbrev dktX5_sign_0 : List UInt8 := dkwX5_sign_0 ++ dktX5_sign_1
theorem dksX5_sign_0 : cX5_sign.data.toList.drop 0 = dktX5_sign_0 := by decide +kernel
theorem dksX5_sign_1 : cX5_sign.data.toList.drop 24 = dktX5_sign_1 := dk_seg dksX5_sign_0 24 rfl rfl
theorem dX5_sign_0 : decode cX5_sign 0 = .ok (.aload_n 0, 1) := dk_42 (dk_at dksX5_sign_0 0 rfl rfl)
theorem dX5_sign_1 : decode cX5_sign 1 = .ok (.getfield 15, 3) := dk_180 0 15 (dk_at dksX5_sign_0 1 rfl rfl)
theorem dX5_sign_4 : decode cX5_sign 4 = .ok (.aload_n 0, 1) := dk_42 (dk_at dksX5_sign_0 4 rfl rfl)
theorem dX5_sign_5 : decode cX5_sign 5 = .ok (.getfield 9, 3) := dk_180 0 9 (dk_at dksX5_sign_0 5 rfl rfl)
theorem dX5_sign_8 : decode cX5_sign 8 = .ok (.arraylength, 1) := dk_190 (dk_at dksX5_sign_0 8 rfl rfl)
theorem dX5_sign_9 : decode cX5_sign 9 = .ok (.if_icmp .ge 15, 3) := dk_162 0 15 (dk_at dksX5_sign_0 9 rfl rfl)
theorem dX5_sign_12 : decode cX5_sign 12 = .ok (.aload_n 0, 1) := dk_42 (dk_at dksX5_sign_0 12 rfl rfl)
theorem dX5_sign_13 : decode cX5_sign 13 = .ok (.getfield 9, 3) := dk_180 0 9 (dk_at dksX5_sign_0 13 rfl rfl)
theorem dX5_sign_16 : decode cX5_sign 16 = .ok (.aload_n 0, 1) := dk_42 (dk_at dksX5_sign_0 16 rfl rfl)
theorem dX5_sign_17 : decode cX5_sign 17 = .ok (.getfield 15, 3) := dk_180 0 15 (dk_at dksX5_sign_0 17 rfl rfl)
theorem dX5_sign_20 : decode cX5_sign 20 = .ok (.baload, 1) := dk_51 (dk_at dksX5_sign_0 20 rfl rfl)
theorem dX5_sign_21 : decode cX5_sign 21 = .ok (.goto 4, 3) := dk_167 0 4 (dk_at dksX5_sign_0 21 rfl rfl)
theorem dX5_sign_24 : decode cX5_sign 24 = .ok (.iconst (-1), 1) := dk_2 (dk_at dksX5_sign_1 0 rfl rfl)
theorem dX5_sign_25 : decode cX5_sign 25 = .ok (.ireturn, 1) := dk_172 (dk_at dksX5_sign_1 1 rfl rfl)
abbrev cX5_reads : ByteArray := prog_5_method_6_code
def yX5_reads : MethodName := ⟨RX5, "reads", "(LSideBySide$Told;)V"⟩
def dkwX5_reads_4 : List UInt8 := [42, 89, 180, 0, 15, 4, 100, 181, 0, 15, 42, 182, 0, 32, 191, 177]
abbrev dktX5_reads_4 : List UInt8 := dkwX5_reads_4 ++ []
def dkwX5_reads_3 : List UInt8 := [182, 0, 40, 43, 42, 5, 182, 0, 36, 182, 0, 40, 167, 0, 27, 42, 43, 4, 182, 0, 48, 167, 0, 18]
abbrev dktX5_reads_3 : List UInt8 := dkwX5_reads_3 ++ dktX5_reads_4
def dkwX5_reads_2 : List UInt8 := [42, 43, 6, 182, 0, 48, 167, 0, 57, 42, 43, 5, 182, 0, 48, 167, 0, 48, 43, 42, 4, 182, 0, 36]
abbrev dktX5_reads_2 : List UInt8 := dkwX5_reads_2 ++ dktX5_reads_3
def dkwX5_reads_1 : List UInt8 := [170, 0, 0, 0, 0, 0, 0, 156, 0, 0, 0, 98, 0, 0, 0, 120, 0, 0, 0, 117, 0, 0, 0, 156, 0, 0, 0, 147, 0, 0, 0, 156, 0, 0, 0, 117, 0, 0, 0, 156, 0, 0, 0, 117, 0, 0, 0, 156, 0, 0, 0, 156, 0, 0, 0, 156, 0, 0, 0, 147, 0, 0, 0, 156, 0, 0, 0, 156, 0, 0, 0, 156, 0, 0, 0, 108, 0, 0, 0, 156, 0, 0, 0, 156, 0, 0, 0, 156, 0, 0, 0, 126, 0, 0, 0, 156, 0, 0, 0, 156, 0, 0, 0, 156, 0, 0, 0, 117]
abbrev dktX5_reads_1 : List UInt8 := dkwX5_reads_1 ++ dktX5_reads_2
def dkwX5_reads_0 : List UInt8 := [43, 180, 0, 45]
abbrev dktX5_reads_0 : List UInt8 := dkwX5_reads_0 ++ dktX5_reads_1
theorem dksX5_reads_0 : cX5_reads.data.toList.drop 0 = dktX5_reads_0 := by decide +kernel
theorem dksX5_reads_1 : cX5_reads.data.toList.drop 4 = dktX5_reads_1 := dk_seg dksX5_reads_0 4 rfl rfl
theorem dksX5_reads_2 : cX5_reads.data.toList.drop 112 = dktX5_reads_2 := dk_seg dksX5_reads_1 108 rfl rfl
theorem dksX5_reads_3 : cX5_reads.data.toList.drop 136 = dktX5_reads_3 := dk_seg dksX5_reads_2 24 rfl rfl
theorem dksX5_reads_4 : cX5_reads.data.toList.drop 160 = dktX5_reads_4 := dk_seg dksX5_reads_3 24 rfl rfl
theorem dX5_reads_0 : decode cX5_reads 0 = .ok (.aload_n 1, 1) := dk_43 (dk_at dksX5_reads_0 0 rfl rfl)
theorem dX5_reads_1 : decode cX5_reads 1 = .ok (.getfield 45, 3) := dk_180 0 45 (dk_at dksX5_reads_0 1 rfl rfl)
theorem dX5_reads_4 : decode cX5_reads 4 = .ok (.tableswitch 156 98 120 #[117, 156, 147, 156, 117, 156, 117, 156, 156, 156, 147, 156, 156, 156, 108, 156, 156, 156, 126, 156, 156, 156, 117], 108) := by decide +kernel
theorem dX5_reads_112 : decode cX5_reads 112 = .ok (.aload_n 0, 1) := dk_42 (dk_at dksX5_reads_2 0 rfl rfl)
theorem dX5_reads_113 : decode cX5_reads 113 = .ok (.aload_n 1, 1) := dk_43 (dk_at dksX5_reads_2 1 rfl rfl)
theorem dX5_reads_114 : decode cX5_reads 114 = .ok (.iconst 3, 1) := dk_6 (dk_at dksX5_reads_2 2 rfl rfl)
theorem dX5_reads_115 : decode cX5_reads 115 = .ok (.invokevirtual 48, 3) := dk_182 0 48 (dk_at dksX5_reads_2 3 rfl rfl)
theorem dX5_reads_118 : decode cX5_reads 118 = .ok (.goto 57, 3) := dk_167 0 57 (dk_at dksX5_reads_2 6 rfl rfl)
theorem dX5_reads_121 : decode cX5_reads 121 = .ok (.aload_n 0, 1) := dk_42 (dk_at dksX5_reads_2 9 rfl rfl)
theorem dX5_reads_122 : decode cX5_reads 122 = .ok (.aload_n 1, 1) := dk_43 (dk_at dksX5_reads_2 10 rfl rfl)
theorem dX5_reads_123 : decode cX5_reads 123 = .ok (.iconst 2, 1) := dk_5 (dk_at dksX5_reads_2 11 rfl rfl)
theorem dX5_reads_124 : decode cX5_reads 124 = .ok (.invokevirtual 48, 3) := dk_182 0 48 (dk_at dksX5_reads_2 12 rfl rfl)
theorem dX5_reads_127 : decode cX5_reads 127 = .ok (.goto 48, 3) := dk_167 0 48 (dk_at dksX5_reads_2 15 rfl rfl)
theorem dX5_reads_130 : decode cX5_reads 130 = .ok (.aload_n 1, 1) := dk_43 (dk_at dksX5_reads_2 18 rfl rfl)
theorem dX5_reads_131 : decode cX5_reads 131 = .ok (.aload_n 0, 1) := dk_42 (dk_at dksX5_reads_2 19 rfl rfl)
theorem dX5_reads_132 : decode cX5_reads 132 = .ok (.iconst 1, 1) := dk_4 (dk_at dksX5_reads_2 20 rfl rfl)
theorem dX5_reads_133 : decode cX5_reads 133 = .ok (.invokevirtual 36, 3) := dk_182 0 36 (dk_at dksX5_reads_2 21 rfl rfl)
theorem dX5_reads_136 : decode cX5_reads 136 = .ok (.invokevirtual 40, 3) := dk_182 0 40 (dk_at dksX5_reads_3 0 rfl rfl)
theorem dX5_reads_139 : decode cX5_reads 139 = .ok (.aload_n 1, 1) := dk_43 (dk_at dksX5_reads_3 3 rfl rfl)
theorem dX5_reads_140 : decode cX5_reads 140 = .ok (.aload_n 0, 1) := dk_42 (dk_at dksX5_reads_3 4 rfl rfl)
theorem dX5_reads_141 : decode cX5_reads 141 = .ok (.iconst 2, 1) := dk_5 (dk_at dksX5_reads_3 5 rfl rfl)
theorem dX5_reads_142 : decode cX5_reads 142 = .ok (.invokevirtual 36, 3) := dk_182 0 36 (dk_at dksX5_reads_3 6 rfl rfl)
theorem dX5_reads_145 : decode cX5_reads 145 = .ok (.invokevirtual 40, 3) := dk_182 0 40 (dk_at dksX5_reads_3 9 rfl rfl)
theorem dX5_reads_148 : decode cX5_reads 148 = .ok (.goto 27, 3) := dk_167 0 27 (dk_at dksX5_reads_3 12 rfl rfl)
theorem dX5_reads_151 : decode cX5_reads 151 = .ok (.aload_n 0, 1) := dk_42 (dk_at dksX5_reads_3 15 rfl rfl)
theorem dX5_reads_152 : decode cX5_reads 152 = .ok (.aload_n 1, 1) := dk_43 (dk_at dksX5_reads_3 16 rfl rfl)
theorem dX5_reads_153 : decode cX5_reads 153 = .ok (.iconst 1, 1) := dk_4 (dk_at dksX5_reads_3 17 rfl rfl)
theorem dX5_reads_154 : decode cX5_reads 154 = .ok (.invokevirtual 48, 3) := dk_182 0 48 (dk_at dksX5_reads_3 18 rfl rfl)
theorem dX5_reads_157 : decode cX5_reads 157 = .ok (.goto 18, 3) := dk_167 0 18 (dk_at dksX5_reads_3 21 rfl rfl)
theorem dX5_reads_160 : decode cX5_reads 160 = .ok (.aload_n 0, 1) := dk_42 (dk_at dksX5_reads_4 0 rfl rfl)
theorem dX5_reads_161 : decode cX5_reads 161 = .ok (.dup, 1) := dk_89 (dk_at dksX5_reads_4 1 rfl rfl)
theorem dX5_reads_162 : decode cX5_reads 162 = .ok (.getfield 15, 3) := dk_180 0 15 (dk_at dksX5_reads_4 2 rfl rfl)
theorem dX5_reads_165 : decode cX5_reads 165 = .ok (.iconst 1, 1) := dk_4 (dk_at dksX5_reads_4 5 rfl rfl)
theorem dX5_reads_166 : decode cX5_reads 166 = .ok (.isub, 1) := dk_100 (dk_at dksX5_reads_4 6 rfl rfl)
theorem dX5_reads_167 : decode cX5_reads 167 = .ok (.putfield 15, 3) := dk_181 0 15 (dk_at dksX5_reads_4 7 rfl rfl)
theorem dX5_reads_170 : decode cX5_reads 170 = .ok (.aload_n 0, 1) := dk_42 (dk_at dksX5_reads_4 10 rfl rfl)
theorem dX5_reads_171 : decode cX5_reads 171 = .ok (.invokevirtual 32, 3) := dk_182 0 32 (dk_at dksX5_reads_4 11 rfl rfl)
theorem dX5_reads_174 : decode cX5_reads 174 = .ok (.athrow, 1) := dk_191 (dk_at dksX5_reads_4 14 rfl rfl)
theorem dX5_reads_175 : decode cX5_reads 175 = .ok (.return_, 1) := dk_177 (dk_at dksX5_reads_4 15 rfl rfl)
abbrev cX5_digits : ByteArray := prog_5_method_5_code
def yX5_digits : MethodName := ⟨RX5, "digits", "(LSideBySide$Told;I)V"⟩
def dkwX5_digits_0 : List UInt8 := [3, 62, 29, 28, 162, 0, 18, 43, 42, 4, 182, 0, 36, 182, 0, 40, 132, 3, 1, 167, 255, 239, 177]
abbrev dktX5_digits_0 : List UInt8 := dkwX5_digits_0 ++ []
theorem dksX5_digits_0 : cX5_digits.data.toList.drop 0 = dktX5_digits_0 := by decide +kernel
theorem dX5_digits_0 : decode cX5_digits 0 = .ok (.iconst 0, 1) := dk_3 (dk_at dksX5_digits_0 0 rfl rfl)
theorem dX5_digits_1 : decode cX5_digits 1 = .ok (.istore_n 3, 1) := dk_62 (dk_at dksX5_digits_0 1 rfl rfl)
theorem dX5_digits_2 : decode cX5_digits 2 = .ok (.iload_n 3, 1) := dk_29 (dk_at dksX5_digits_0 2 rfl rfl)
theorem dX5_digits_3 : decode cX5_digits 3 = .ok (.iload_n 2, 1) := dk_28 (dk_at dksX5_digits_0 3 rfl rfl)
theorem dX5_digits_4 : decode cX5_digits 4 = .ok (.if_icmp .ge 18, 3) := dk_162 0 18 (dk_at dksX5_digits_0 4 rfl rfl)
theorem dX5_digits_7 : decode cX5_digits 7 = .ok (.aload_n 1, 1) := dk_43 (dk_at dksX5_digits_0 7 rfl rfl)
theorem dX5_digits_8 : decode cX5_digits 8 = .ok (.aload_n 0, 1) := dk_42 (dk_at dksX5_digits_0 8 rfl rfl)
theorem dX5_digits_9 : decode cX5_digits 9 = .ok (.iconst 1, 1) := dk_4 (dk_at dksX5_digits_0 9 rfl rfl)
theorem dX5_digits_10 : decode cX5_digits 10 = .ok (.invokevirtual 36, 3) := dk_182 0 36 (dk_at dksX5_digits_0 10 rfl rfl)
theorem dX5_digits_13 : decode cX5_digits 13 = .ok (.invokevirtual 40, 3) := dk_182 0 40 (dk_at dksX5_digits_0 13 rfl rfl)
theorem dX5_digits_16 : decode cX5_digits 16 = .ok (.iinc 3 1, 3) := dk_132 3 1 (dk_at dksX5_digits_0 16 rfl rfl)
theorem dX5_digits_19 : decode cX5_digits 19 = .ok (.goto (-17), 3) := dk_167 255 239 (dk_at dksX5_digits_0 19 rfl rfl)
theorem dX5_digits_22 : decode cX5_digits 22 = .ok (.return_, 1) := dk_177 (dk_at dksX5_digits_0 22 rfl rfl)
abbrev cX5_number : ByteArray := prog_5_method_4_code
def yX5_number : MethodName := ⟨RX5, "number", "(I)I"⟩
def dkwX5_number_2 : List UInt8 := [181, 0, 15, 132, 3, 1, 167, 255, 206, 28, 172]
abbrev dktX5_number_2 : List UInt8 := dkwX5_number_2 ++ []
def dkwX5_number_1 : List UInt8 := [182, 0, 32, 191, 16, 10, 28, 104, 42, 182, 0, 24, 96, 16, 48, 100, 61, 42, 89, 180, 0, 15, 4, 96]
abbrev dktX5_number_1 : List UInt8 := dkwX5_number_1 ++ dktX5_number_2
def dkwX5_number_0 : List UInt8 := [3, 61, 3, 62, 29, 27, 162, 0, 51, 42, 182, 0, 24, 16, 48, 16, 57, 184, 0, 28, 154, 0, 8, 42]
abbrev dktX5_number_0 : List UInt8 := dkwX5_number_0 ++ dktX5_number_1
theorem dksX5_number_0 : cX5_number.data.toList.drop 0 = dktX5_number_0 := by decide +kernel
theorem dksX5_number_1 : cX5_number.data.toList.drop 24 = dktX5_number_1 := dk_seg dksX5_number_0 24 rfl rfl
theorem dksX5_number_2 : cX5_number.data.toList.drop 48 = dktX5_number_2 := dk_seg dksX5_number_1 24 rfl rfl
theorem dX5_number_0 : decode cX5_number 0 = .ok (.iconst 0, 1) := dk_3 (dk_at dksX5_number_0 0 rfl rfl)
theorem dX5_number_1 : decode cX5_number 1 = .ok (.istore_n 2, 1) := dk_61 (dk_at dksX5_number_0 1 rfl rfl)
theorem dX5_number_2 : decode cX5_number 2 = .ok (.iconst 0, 1) := dk_3 (dk_at dksX5_number_0 2 rfl rfl)
theorem dX5_number_3 : decode cX5_number 3 = .ok (.istore_n 3, 1) := dk_62 (dk_at dksX5_number_0 3 rfl rfl)
theorem dX5_number_4 : decode cX5_number 4 = .ok (.iload_n 3, 1) := dk_29 (dk_at dksX5_number_0 4 rfl rfl)
theorem dX5_number_5 : decode cX5_number 5 = .ok (.iload_n 1, 1) := dk_27 (dk_at dksX5_number_0 5 rfl rfl)
theorem dX5_number_6 : decode cX5_number 6 = .ok (.if_icmp .ge 51, 3) := dk_162 0 51 (dk_at dksX5_number_0 6 rfl rfl)
theorem dX5_number_9 : decode cX5_number 9 = .ok (.aload_n 0, 1) := dk_42 (dk_at dksX5_number_0 9 rfl rfl)
theorem dX5_number_10 : decode cX5_number 10 = .ok (.invokevirtual 24, 3) := dk_182 0 24 (dk_at dksX5_number_0 10 rfl rfl)
theorem dX5_number_13 : decode cX5_number 13 = .ok (.bipush 48, 2) := dk_16 48 (dk_at dksX5_number_0 13 rfl rfl)
theorem dX5_number_15 : decode cX5_number 15 = .ok (.bipush 57, 2) := dk_16 57 (dk_at dksX5_number_0 15 rfl rfl)
theorem dX5_number_17 : decode cX5_number 17 = .ok (.invokestatic 28, 3) := dk_184 0 28 (dk_at dksX5_number_0 17 rfl rfl)
theorem dX5_number_20 : decode cX5_number 20 = .ok (.ifCond .ne 8, 3) := dk_154 0 8 (dk_at dksX5_number_0 20 rfl rfl)
theorem dX5_number_23 : decode cX5_number 23 = .ok (.aload_n 0, 1) := dk_42 (dk_at dksX5_number_0 23 rfl rfl)
theorem dX5_number_24 : decode cX5_number 24 = .ok (.invokevirtual 32, 3) := dk_182 0 32 (dk_at dksX5_number_1 0 rfl rfl)
theorem dX5_number_27 : decode cX5_number 27 = .ok (.athrow, 1) := dk_191 (dk_at dksX5_number_1 3 rfl rfl)
theorem dX5_number_28 : decode cX5_number 28 = .ok (.bipush 10, 2) := dk_16 10 (dk_at dksX5_number_1 4 rfl rfl)
theorem dX5_number_30 : decode cX5_number 30 = .ok (.iload_n 2, 1) := dk_28 (dk_at dksX5_number_1 6 rfl rfl)
theorem dX5_number_31 : decode cX5_number 31 = .ok (.imul, 1) := dk_104 (dk_at dksX5_number_1 7 rfl rfl)
theorem dX5_number_32 : decode cX5_number 32 = .ok (.aload_n 0, 1) := dk_42 (dk_at dksX5_number_1 8 rfl rfl)
theorem dX5_number_33 : decode cX5_number 33 = .ok (.invokevirtual 24, 3) := dk_182 0 24 (dk_at dksX5_number_1 9 rfl rfl)
theorem dX5_number_36 : decode cX5_number 36 = .ok (.iadd, 1) := dk_96 (dk_at dksX5_number_1 12 rfl rfl)
theorem dX5_number_37 : decode cX5_number 37 = .ok (.bipush 48, 2) := dk_16 48 (dk_at dksX5_number_1 13 rfl rfl)
theorem dX5_number_39 : decode cX5_number 39 = .ok (.isub, 1) := dk_100 (dk_at dksX5_number_1 15 rfl rfl)
theorem dX5_number_40 : decode cX5_number 40 = .ok (.istore_n 2, 1) := dk_61 (dk_at dksX5_number_1 16 rfl rfl)
theorem dX5_number_41 : decode cX5_number 41 = .ok (.aload_n 0, 1) := dk_42 (dk_at dksX5_number_1 17 rfl rfl)
theorem dX5_number_42 : decode cX5_number 42 = .ok (.dup, 1) := dk_89 (dk_at dksX5_number_1 18 rfl rfl)
theorem dX5_number_43 : decode cX5_number 43 = .ok (.getfield 15, 3) := dk_180 0 15 (dk_at dksX5_number_1 19 rfl rfl)
theorem dX5_number_46 : decode cX5_number 46 = .ok (.iconst 1, 1) := dk_4 (dk_at dksX5_number_1 22 rfl rfl)
theorem dX5_number_47 : decode cX5_number 47 = .ok (.iadd, 1) := dk_96 (dk_at dksX5_number_1 23 rfl rfl)
theorem dX5_number_48 : decode cX5_number 48 = .ok (.putfield 15, 3) := dk_181 0 15 (dk_at dksX5_number_2 0 rfl rfl)
theorem dX5_number_51 : decode cX5_number 51 = .ok (.iinc 3 1, 3) := dk_132 3 1 (dk_at dksX5_number_2 3 rfl rfl)
theorem dX5_number_54 : decode cX5_number 54 = .ok (.goto (-50), 3) := dk_167 255 206 (dk_at dksX5_number_2 6 rfl rfl)
theorem dX5_number_57 : decode cX5_number 57 = .ok (.iload_n 2, 1) := dk_28 (dk_at dksX5_number_2 9 rfl rfl)
theorem dX5_number_58 : decode cX5_number 58 = .ok (.ireturn, 1) := dk_172 (dk_at dksX5_number_2 10 rfl rfl)
abbrev cX5_broken : ByteArray := prog_5_method_3_code
def yX5_broken : MethodName := ⟨RX5, "broken", "()LSideBySide$Broken;"⟩
def dkwX5_broken_0 : List UInt8 := [187, 0, 19, 89, 17, 252, 24, 42, 180, 0, 15, 100, 183, 0, 21, 176]
abbrev dktX5_broken_0 : List UInt8 := dkwX5_broken_0 ++ []
theorem dksX5_broken_0 : cX5_broken.data.toList.drop 0 = dktX5_broken_0 := by decide +kernel
theorem dX5_broken_0 : decode cX5_broken 0 = .ok (.new 19, 3) := dk_187 0 19 (dk_at dksX5_broken_0 0 rfl rfl)
theorem dX5_broken_3 : decode cX5_broken 3 = .ok (.dup, 1) := dk_89 (dk_at dksX5_broken_0 3 rfl rfl)
theorem dX5_broken_4 : decode cX5_broken 4 = .ok (.sipush (-1000), 3) := dk_17 252 24 (dk_at dksX5_broken_0 4 rfl rfl)
theorem dX5_broken_7 : decode cX5_broken 7 = .ok (.aload_n 0, 1) := dk_42 (dk_at dksX5_broken_0 7 rfl rfl)
theorem dX5_broken_8 : decode cX5_broken 8 = .ok (.getfield 15, 3) := dk_180 0 15 (dk_at dksX5_broken_0 8 rfl rfl)
theorem dX5_broken_11 : decode cX5_broken 11 = .ok (.isub, 1) := dk_100 (dk_at dksX5_broken_0 11 rfl rfl)
theorem dX5_broken_12 : decode cX5_broken 12 = .ok (.invokespecial 21, 3) := dk_183 0 21 (dk_at dksX5_broken_0 12 rfl rfl)
theorem dX5_broken_15 : decode cX5_broken 15 = .ok (.areturn, 1) := dk_176 (dk_at dksX5_broken_0 15 rfl rfl)
theorem q76 : (Jvm.Cond.initialized "SideBySide$CourtReader") ∈ lw_all := lw_g (lw_at lw_m1 10 rfl) rfl
theorem q208 : (Jvm.Cond.instantiable "SideBySide$CourtReader" (2 : Nat)) ∈ lw_all := lw_g (lw_at lw_m1 142 rfl) rfl
theorem q210 : (Jvm.Cond.instanceMethod ({ cls := "SideBySide$CourtReader", name := "<init>", desc := "([B)V" } : Jvm.MethodName)) ∈ lw_all := lw_g (lw_at lw_m1 144 rfl) rfl
theorem q211 : (Jvm.Cond.code ({ cls := "SideBySide$CourtReader", name := "<init>", desc := "([B)V" } : Jvm.MethodName) prog_5_method_1_code (2 : Nat) (Option.none : Option Jvm.ClassFile.FieldType)) ∈ lw_all := lw_g (lw_at lw_m1 145 rfl) rfl
theorem q212 : (Jvm.Cond.methodLink "SideBySide$CourtReader" (3 : Nat) ({ cls := "java/lang/Object", name := "<init>", desc := "()V" } : Jvm.MethodName)) ∈ lw_all := lw_g (lw_at lw_m1 146 rfl) rfl
theorem q213 : (Jvm.Cond.fieldLink "SideBySide$CourtReader" (9 : Nat) "SideBySide$CourtReader" "text" "[B") ∈ lw_all := lw_g (lw_at lw_m1 147 rfl) rfl
theorem q214 : (Jvm.Cond.fieldLink "SideBySide$CourtReader" (15 : Nat) "SideBySide$CourtReader" "at" "I") ∈ lw_all := lw_g (lw_at lw_m1 148 rfl) rfl
theorem q215 : (Jvm.Cond.laysFinal "SideBySide$CourtReader" "SideBySide$CourtReader" "text" "[B") ∈ lw_all := lw_g (lw_at lw_m1 149 rfl) rfl
theorem q216 : (Jvm.Cond.soleField "SideBySide$CourtReader" "text") ∈ lw_all := lw_g (lw_at lw_m1 150 rfl) rfl
theorem q217 : (Jvm.Cond.lays "SideBySide$CourtReader" "SideBySide$CourtReader" "at" "I") ∈ lw_all := lw_g (lw_at lw_m1 151 rfl) rfl
theorem q218 : (Jvm.Cond.soleField "SideBySide$CourtReader" "at") ∈ lw_all := lw_g (lw_at lw_m1 152 rfl) rfl
theorem q219 : (Jvm.Cond.superclass "SideBySide$CourtReader" "java/lang/Object") ∈ lw_all := lw_g (lw_at lw_m1 153 rfl) rfl
theorem q221 : (Jvm.Cond.instanceMethod ({ cls := "SideBySide$CourtReader", name := "whole", desc := "([LSideBySide$Told;)I" } : Jvm.MethodName)) ∈ lw_all := lw_g (lw_at lw_m1 155 rfl) rfl
theorem q222 : (Jvm.Cond.selects "SideBySide$CourtReader" ({ cls := "SideBySide$CourtReader", name := "whole", desc := "([LSideBySide$Told;)I" } : Jvm.MethodName) ({ cls := "SideBySide$CourtReader", name := "whole", desc := "([LSideBySide$Told;)I" } : Jvm.MethodName)) ∈ lw_all := lw_g (lw_at lw_m1 156 rfl) rfl
theorem q223 : (Jvm.Cond.code ({ cls := "SideBySide$CourtReader", name := "whole", desc := "([LSideBySide$Told;)I" } : Jvm.MethodName) prog_5_method_8_code (3 : Nat) (Option.some Jvm.ClassFile.FieldType.int)) ∈ lw_all := lw_g (lw_at lw_m1 157 rfl) rfl
theorem q224 : (Jvm.Cond.methodLink "SideBySide$CourtReader" (59 : Nat) ({ cls := "SideBySide$CourtReader", name := "statement", desc := "()LSideBySide$Told;" } : Jvm.MethodName)) ∈ lw_all := lw_g (lw_at lw_m1 158 rfl) rfl
theorem q225 : (Jvm.Cond.privateMethod ({ cls := "SideBySide$CourtReader", name := "statement", desc := "()LSideBySide$Told;" } : Jvm.MethodName)) ∈ lw_tbl := lw_at lw_m1 159 rfl
theorem q226 : (Jvm.Cond.instanceMethod ({ cls := "SideBySide$CourtReader", name := "statement", desc := "()LSideBySide$Told;" } : Jvm.MethodName)) ∈ lw_all := lw_g (lw_at lw_m1 160 rfl) rfl
theorem q227 : (Jvm.Cond.code ({ cls := "SideBySide$CourtReader", name := "statement", desc := "()LSideBySide$Told;" } : Jvm.MethodName) prog_5_method_7_code (2 : Nat) (Option.some (Jvm.ClassFile.FieldType.object "SideBySide$Told"))) ∈ lw_all := lw_g (lw_at lw_m1 161 rfl) rfl
theorem q228 : (Jvm.Cond.classLink "SideBySide$CourtReader" (41 : Nat) "SideBySide$Told") ∈ lw_all := lw_g (lw_at lw_m1 162 rfl) rfl
theorem q230 : (Jvm.Cond.methodLink "SideBySide$CourtReader" (24 : Nat) ({ cls := "SideBySide$CourtReader", name := "sign", desc := "()I" } : Jvm.MethodName)) ∈ lw_all := lw_g (lw_at lw_m1 164 rfl) rfl
theorem q231 : (Jvm.Cond.privateMethod ({ cls := "SideBySide$CourtReader", name := "sign", desc := "()I" } : Jvm.MethodName)) ∈ lw_tbl := lw_at lw_m1 165 rfl
theorem q232 : (Jvm.Cond.instanceMethod ({ cls := "SideBySide$CourtReader", name := "sign", desc := "()I" } : Jvm.MethodName)) ∈ lw_all := lw_g (lw_at lw_m1 166 rfl) rfl
theorem q233 : (Jvm.Cond.code ({ cls := "SideBySide$CourtReader", name := "sign", desc := "()I" } : Jvm.MethodName) prog_5_method_2_code (1 : Nat) (Option.some Jvm.ClassFile.FieldType.int)) ∈ lw_all := lw_g (lw_at lw_m1 167 rfl) rfl
theorem q234 : (Jvm.Cond.methodLink "SideBySide$CourtReader" (52 : Nat) ({ cls := "SideBySide$Told", name := "<init>", desc := "(II)V" } : Jvm.MethodName)) ∈ lw_all := lw_g (lw_at lw_m1 168 rfl) rfl
theorem q239 : (Jvm.Cond.fieldLink "SideBySide$CourtReader" (45 : Nat) "SideBySide$Told" "letter" "I") ∈ lw_all := lw_g (lw_at lw_m1 173 rfl) rfl
theorem q256 : (Jvm.Cond.methodLink "SideBySide$CourtReader" (55 : Nat) ({ cls := "SideBySide$CourtReader", name := "reads", desc := "(LSideBySide$Told;)V" } : Jvm.MethodName)) ∈ lw_all := lw_g (lw_at lw_m1 190 rfl) rfl
theorem q257 : (Jvm.Cond.privateMethod ({ cls := "SideBySide$CourtReader", name := "reads", desc := "(LSideBySide$Told;)V" } : Jvm.MethodName)) ∈ lw_tbl := lw_at lw_m1 191 rfl
theorem q258 : (Jvm.Cond.instanceMethod ({ cls := "SideBySide$CourtReader", name := "reads", desc := "(LSideBySide$Told;)V" } : Jvm.MethodName)) ∈ lw_all := lw_g (lw_at lw_m1 192 rfl) rfl
theorem q259 : (Jvm.Cond.code ({ cls := "SideBySide$CourtReader", name := "reads", desc := "(LSideBySide$Told;)V" } : Jvm.MethodName) prog_5_method_6_code (2 : Nat) (Option.none : Option Jvm.ClassFile.FieldType)) ∈ lw_all := lw_g (lw_at lw_m1 193 rfl) rfl
theorem q260 : (Jvm.Cond.methodLink "SideBySide$CourtReader" (48 : Nat) ({ cls := "SideBySide$CourtReader", name := "digits", desc := "(LSideBySide$Told;I)V" } : Jvm.MethodName)) ∈ lw_all := lw_g (lw_at lw_m1 194 rfl) rfl
theorem q261 : (Jvm.Cond.privateMethod ({ cls := "SideBySide$CourtReader", name := "digits", desc := "(LSideBySide$Told;I)V" } : Jvm.MethodName)) ∈ lw_tbl := lw_at lw_m1 195 rfl
theorem q262 : (Jvm.Cond.instanceMethod ({ cls := "SideBySide$CourtReader", name := "digits", desc := "(LSideBySide$Told;I)V" } : Jvm.MethodName)) ∈ lw_all := lw_g (lw_at lw_m1 196 rfl) rfl
theorem q263 : (Jvm.Cond.code ({ cls := "SideBySide$CourtReader", name := "digits", desc := "(LSideBySide$Told;I)V" } : Jvm.MethodName) prog_5_method_5_code (4 : Nat) (Option.none : Option Jvm.ClassFile.FieldType)) ∈ lw_all := lw_g (lw_at lw_m1 197 rfl) rfl
theorem q264 : (Jvm.Cond.methodLink "SideBySide$CourtReader" (36 : Nat) ({ cls := "SideBySide$CourtReader", name := "number", desc := "(I)I" } : Jvm.MethodName)) ∈ lw_all := lw_g (lw_at lw_m1 198 rfl) rfl
theorem q265 : (Jvm.Cond.privateMethod ({ cls := "SideBySide$CourtReader", name := "number", desc := "(I)I" } : Jvm.MethodName)) ∈ lw_tbl := lw_at lw_m1 199 rfl
theorem q266 : (Jvm.Cond.instanceMethod ({ cls := "SideBySide$CourtReader", name := "number", desc := "(I)I" } : Jvm.MethodName)) ∈ lw_all := lw_g (lw_at lw_m1 200 rfl) rfl
theorem q267 : (Jvm.Cond.code ({ cls := "SideBySide$CourtReader", name := "number", desc := "(I)I" } : Jvm.MethodName) prog_5_method_4_code (4 : Nat) (Option.some Jvm.ClassFile.FieldType.int)) ∈ lw_all := lw_g (lw_at lw_m1 201 rfl) rfl
theorem q268 : (Jvm.Cond.methodLinkNest "SideBySide$CourtReader" (28 : Nat) ({ cls := "SideBySide", name := "isIn", desc := "(III)Z" } : Jvm.MethodName) "SideBySide") ∈ lw_tbl := lw_at lw_m1 202 rfl
theorem q269 : (Jvm.Cond.methodLink "SideBySide$CourtReader" (32 : Nat) ({ cls := "SideBySide$CourtReader", name := "broken", desc := "()LSideBySide$Broken;" } : Jvm.MethodName)) ∈ lw_all := lw_g (lw_at lw_m1 203 rfl) rfl
theorem q270 : (Jvm.Cond.privateMethod ({ cls := "SideBySide$CourtReader", name := "broken", desc := "()LSideBySide$Broken;" } : Jvm.MethodName)) ∈ lw_tbl := lw_at lw_m1 204 rfl
theorem q271 : (Jvm.Cond.instanceMethod ({ cls := "SideBySide$CourtReader", name := "broken", desc := "()LSideBySide$Broken;" } : Jvm.MethodName)) ∈ lw_all := lw_g (lw_at lw_m1 205 rfl) rfl
theorem q272 : (Jvm.Cond.code ({ cls := "SideBySide$CourtReader", name := "broken", desc := "()LSideBySide$Broken;" } : Jvm.MethodName) prog_5_method_3_code (1 : Nat) (Option.some (Jvm.ClassFile.FieldType.object "SideBySide$Broken"))) ∈ lw_all := lw_g (lw_at lw_m1 206 rfl) rfl
theorem q273 : (Jvm.Cond.classLink "SideBySide$CourtReader" (19 : Nat) "SideBySide$Broken") ∈ lw_all := lw_g (lw_at lw_m1 207 rfl) rfl
theorem q282 : (Jvm.Cond.methodLink "SideBySide$CourtReader" (21 : Nat) ({ cls := "SideBySide$Broken", name := "<init>", desc := "(I)V" } : Jvm.MethodName)) ∈ lw_all := lw_g (lw_at lw_m1 216 rfl) rfl
theorem q295 : (Jvm.Cond.methodLink "SideBySide$CourtReader" (40 : Nat) ({ cls := "SideBySide$Told", name := "tells", desc := "(I)V" } : Jvm.MethodName)) ∈ lw_all := lw_g (lw_at lw_m1 229 rfl) rfl
theorem in_X5 : ∀ w ∈ wsX50, w ∈ lw_all := lw_in wsX50 [215, 217] (by decide +kernel) (by decide +kernel)
/-! SideBySide$Told -/
set_option maxRecDepth 100000
def RX6 : String := "SideBySide$Told"
def TX6 : u_T := fun k => match k with
  | 0 => ("SideBySide$Told", "letter", "I", true)
  | 1 => ("SideBySide$Told", "at", "I", true)
  | 2 => ("SideBySide$Told", "numbers", "[I", true)
  | _ => ("SideBySide$Told", "many", "I", false)
def tyX6 : Nat → FieldType := fun k => match k with
  | 0 => .int
  | 1 => .int
  | 2 => .array .int
  | _ => .int
abbrev wsX60 : List Cond := u_ws RX6 TX6 4
theorem nmX6 : ∀ a, a < 4 → ∀ b, b < 4 → a ≠ b → (TX6 a).2.1 ≠ (TX6 b).2.1 := by decide +kernel
theorem tyX6_ok : ∀ k, k < 4 → parseFieldDescriptor (TX6 k).2.2.1 = some (tyX6 k) := by decide +kernel
abbrev cX6_init : ByteArray := prog_17_method_1_code
def yX6_init : MethodName := ⟨RX6, "<init>", "(II)V"⟩
def dkwX6_init_0 : List UInt8 := [42, 183, 0, 1, 42, 6, 188, 10, 181, 0, 7, 42, 27, 181, 0, 13, 42, 28, 181, 0, 17, 177]
abbrev dktX6_init_0 : List UInt8 := dkwX6_init_0 ++ []
theorem dksX6_init_0 : cX6_init.data.toList.drop 0 = dktX6_init_0 := by decide +kernel
theorem dX6_init_0 : decode cX6_init 0 = .ok (.aload_n 0, 1) := dk_42 (dk_at dksX6_init_0 0 rfl rfl)
theorem dX6_init_1 : decode cX6_init 1 = .ok (.invokespecial 1, 3) := dk_183 0 1 (dk_at dksX6_init_0 1 rfl rfl)
theorem dX6_init_4 : decode cX6_init 4 = .ok (.aload_n 0, 1) := dk_42 (dk_at dksX6_init_0 4 rfl rfl)
theorem dX6_init_5 : decode cX6_init 5 = .ok (.iconst 3, 1) := dk_6 (dk_at dksX6_init_0 5 rfl rfl)
theorem dX6_init_6 : decode cX6_init 6 = .ok (.newarray .int, 2) := dk_188_10 (dk_at dksX6_init_0 6 rfl rfl)
theorem dX6_init_8 : decode cX6_init 8 = .ok (.putfield 7, 3) := dk_181 0 7 (dk_at dksX6_init_0 8 rfl rfl)
theorem dX6_init_11 : decode cX6_init 11 = .ok (.aload_n 0, 1) := dk_42 (dk_at dksX6_init_0 11 rfl rfl)
theorem dX6_init_12 : decode cX6_init 12 = .ok (.iload_n 1, 1) := dk_27 (dk_at dksX6_init_0 12 rfl rfl)
theorem dX6_init_13 : decode cX6_init 13 = .ok (.putfield 13, 3) := dk_181 0 13 (dk_at dksX6_init_0 13 rfl rfl)
theorem dX6_init_16 : decode cX6_init 16 = .ok (.aload_n 0, 1) := dk_42 (dk_at dksX6_init_0 16 rfl rfl)
theorem dX6_init_17 : decode cX6_init 17 = .ok (.iload_n 2, 1) := dk_28 (dk_at dksX6_init_0 17 rfl rfl)
theorem dX6_init_18 : decode cX6_init 18 = .ok (.putfield 17, 3) := dk_181 0 17 (dk_at dksX6_init_0 18 rfl rfl)
theorem dX6_init_21 : decode cX6_init 21 = .ok (.return_, 1) := dk_177 (dk_at dksX6_init_0 21 rfl rfl)
abbrev cX6_tells : ByteArray := prog_17_method_2_code
def yX6_tells : MethodName := ⟨RX6, "tells", "(I)V"⟩
def dkwX6_tells_0 : List UInt8 := [42, 180, 0, 7, 42, 180, 0, 20, 27, 79, 42, 89, 180, 0, 20, 4, 96, 181, 0, 20, 177]
abbrev dktX6_tells_0 : List UInt8 := dkwX6_tells_0 ++ []
theorem dksX6_tells_0 : cX6_tells.data.toList.drop 0 = dktX6_tells_0 := by decide +kernel
theorem dX6_tells_0 : decode cX6_tells 0 = .ok (.aload_n 0, 1) := dk_42 (dk_at dksX6_tells_0 0 rfl rfl)
theorem dX6_tells_1 : decode cX6_tells 1 = .ok (.getfield 7, 3) := dk_180 0 7 (dk_at dksX6_tells_0 1 rfl rfl)
theorem dX6_tells_4 : decode cX6_tells 4 = .ok (.aload_n 0, 1) := dk_42 (dk_at dksX6_tells_0 4 rfl rfl)
theorem dX6_tells_5 : decode cX6_tells 5 = .ok (.getfield 20, 3) := dk_180 0 20 (dk_at dksX6_tells_0 5 rfl rfl)
theorem dX6_tells_8 : decode cX6_tells 8 = .ok (.iload_n 1, 1) := dk_27 (dk_at dksX6_tells_0 8 rfl rfl)
theorem dX6_tells_9 : decode cX6_tells 9 = .ok (.iastore, 1) := dk_79 (dk_at dksX6_tells_0 9 rfl rfl)
theorem dX6_tells_10 : decode cX6_tells 10 = .ok (.aload_n 0, 1) := dk_42 (dk_at dksX6_tells_0 10 rfl rfl)
theorem dX6_tells_11 : decode cX6_tells 11 = .ok (.dup, 1) := dk_89 (dk_at dksX6_tells_0 11 rfl rfl)
theorem dX6_tells_12 : decode cX6_tells 12 = .ok (.getfield 20, 3) := dk_180 0 20 (dk_at dksX6_tells_0 12 rfl rfl)
theorem dX6_tells_15 : decode cX6_tells 15 = .ok (.iconst 1, 1) := dk_4 (dk_at dksX6_tells_0 15 rfl rfl)
theorem dX6_tells_16 : decode cX6_tells 16 = .ok (.iadd, 1) := dk_96 (dk_at dksX6_tells_0 16 rfl rfl)
theorem dX6_tells_17 : decode cX6_tells 17 = .ok (.putfield 20, 3) := dk_181 0 20 (dk_at dksX6_tells_0 17 rfl rfl)
theorem dX6_tells_20 : decode cX6_tells 20 = .ok (.return_, 1) := dk_177 (dk_at dksX6_tells_0 20 rfl rfl)
theorem q77 : (Jvm.Cond.initialized "SideBySide$Told") ∈ lw_all := lw_g (lw_at lw_m1 11 rfl) rfl
theorem q229 : (Jvm.Cond.instantiable "SideBySide$Told" (4 : Nat)) ∈ lw_all := lw_g (lw_at lw_m1 163 rfl) rfl
theorem q235 : (Jvm.Cond.instanceMethod ({ cls := "SideBySide$Told", name := "<init>", desc := "(II)V" } : Jvm.MethodName)) ∈ lw_all := lw_g (lw_at lw_m1 169 rfl) rfl
theorem q236 : (Jvm.Cond.code ({ cls := "SideBySide$Told", name := "<init>", desc := "(II)V" } : Jvm.MethodName) prog_17_method_1_code (3 : Nat) (Option.none : Option Jvm.ClassFile.FieldType)) ∈ lw_all := lw_g (lw_at lw_m1 170 rfl) rfl
theorem q237 : (Jvm.Cond.methodLink "SideBySide$Told" (1 : Nat) ({ cls := "java/lang/Object", name := "<init>", desc := "()V" } : Jvm.MethodName)) ∈ lw_all := lw_g (lw_at lw_m1 171 rfl) rfl
theorem q238 : (Jvm.Cond.fieldLink "SideBySide$Told" (13 : Nat) "SideBySide$Told" "letter" "I") ∈ lw_all := lw_g (lw_at lw_m1 172 rfl) rfl
theorem q241 : (Jvm.Cond.fieldLink "SideBySide$Told" (17 : Nat) "SideBySide$Told" "at" "I") ∈ lw_all := lw_g (lw_at lw_m1 175 rfl) rfl
theorem q243 : (Jvm.Cond.fieldLink "SideBySide$Told" (7 : Nat) "SideBySide$Told" "numbers" "[I") ∈ lw_all := lw_g (lw_at lw_m1 177 rfl) rfl
theorem q245 : (Jvm.Cond.fieldLink "SideBySide$Told" (20 : Nat) "SideBySide$Told" "many" "I") ∈ lw_all := lw_g (lw_at lw_m1 179 rfl) rfl
theorem q246 : (Jvm.Cond.laysFinal "SideBySide$Told" "SideBySide$Told" "letter" "I") ∈ lw_all := lw_g (lw_at lw_m1 180 rfl) rfl
theorem q247 : (Jvm.Cond.soleField "SideBySide$Told" "letter") ∈ lw_all := lw_g (lw_at lw_m1 181 rfl) rfl
theorem q248 : (Jvm.Cond.laysFinal "SideBySide$Told" "SideBySide$Told" "at" "I") ∈ lw_all := lw_g (lw_at lw_m1 182 rfl) rfl
theorem q249 : (Jvm.Cond.soleField "SideBySide$Told" "at") ∈ lw_all := lw_g (lw_at lw_m1 183 rfl) rfl
theorem q250 : (Jvm.Cond.laysFinal "SideBySide$Told" "SideBySide$Told" "numbers" "[I") ∈ lw_all := lw_g (lw_at lw_m1 184 rfl) rfl
theorem q251 : (Jvm.Cond.soleField "SideBySide$Told" "numbers") ∈ lw_all := lw_g (lw_at lw_m1 185 rfl) rfl
theorem q252 : (Jvm.Cond.lays "SideBySide$Told" "SideBySide$Told" "many" "I") ∈ lw_all := lw_g (lw_at lw_m1 186 rfl) rfl
theorem q253 : (Jvm.Cond.soleField "SideBySide$Told" "many") ∈ lw_all := lw_g (lw_at lw_m1 187 rfl) rfl
theorem q254 : (Jvm.Cond.superclass "SideBySide$Told" "java/lang/Object") ∈ lw_all := lw_g (lw_at lw_m1 188 rfl) rfl
theorem q296 : (Jvm.Cond.instanceMethod ({ cls := "SideBySide$Told", name := "tells", desc := "(I)V" } : Jvm.MethodName)) ∈ lw_all := lw_g (lw_at lw_m1 230 rfl) rfl
theorem q297 : (Jvm.Cond.selects "SideBySide$Told" ({ cls := "SideBySide$Told", name := "tells", desc := "(I)V" } : Jvm.MethodName) ({ cls := "SideBySide$Told", name := "tells", desc := "(I)V" } : Jvm.MethodName)) ∈ lw_all := lw_g (lw_at lw_m1 231 rfl) rfl
theorem q298 : (Jvm.Cond.code ({ cls := "SideBySide$Told", name := "tells", desc := "(I)V" } : Jvm.MethodName) prog_17_method_2_code (2 : Nat) (Option.none : Option Jvm.ClassFile.FieldType)) ∈ lw_all := lw_g (lw_at lw_m1 232 rfl) rfl
theorem in_X6 : ∀ w ∈ wsX60, w ∈ lw_all := lw_in wsX60 [246, 248, 250, 252] (by decide +kernel) (by decide +kernel)
/-! SideBySide$Broken -/
set_option maxRecDepth 100000
def RX7 : String := "SideBySide$Broken"
def TX7 : u_T := fun k => match k with
  | 0 => ("java/lang/Throwable", "cause", "Ljava/lang/Throwable;", false)
  | 1 => ("java/lang/Throwable", "stackTrace", "[Ljava/lang/StackTraceElement;", false)
  | 2 => ("java/lang/Throwable", "suppressedExceptions", "Ljava/util/List;", false)
  | 3 => ("java/lang/Throwable", "detailMessage", "Ljava/lang/String;", false)
  | 4 => ("java/lang/Throwable", "backtrace", "Ljava/lang/Object;", false)
  | 5 => ("java/lang/Throwable", "depth", "I", false)
  | _ => ("SideBySide$Broken", "code", "I", true)
def tyX7 : Nat → FieldType := fun k => match k with
  | 0 => .object "java/lang/Throwable"
  | 1 => .array (.object "java/lang/StackTraceElement")
  | 2 => .object "java/util/List"
  | 3 => .object "java/lang/String"
  | 4 => .object "java/lang/Object"
  | 5 => .int
  | _ => .int
abbrev wsX70 : List Cond := u_ws RX7 TX7 7
theorem nmX7 : ∀ a, a < 7 → ∀ b, b < 7 → a ≠ b → (TX7 a).2.1 ≠ (TX7 b).2.1 := by decide +kernel
theorem tyX7_ok : ∀ k, k < 7 → parseFieldDescriptor (TX7 k).2.2.1 = some (tyX7 k) := by decide +kernel
abbrev cX7_init : ByteArray := prog_3_method_1_code
def yX7_init : MethodName := ⟨RX7, "<init>", "(I)V"⟩
def dkwX7_init_0 : List UInt8 := [42, 183, 0, 1, 42, 27, 181, 0, 7, 177]
abbrev dktX7_init_0 : List UInt8 := dkwX7_init_0 ++ []
theorem dksX7_init_0 : cX7_init.data.toList.drop 0 = dktX7_init_0 := by decide +kernel
theorem dX7_init_0 : decode cX7_init 0 = .ok (.aload_n 0, 1) := dk_42 (dk_at dksX7_init_0 0 rfl rfl)
theorem dX7_init_1 : decode cX7_init 1 = .ok (.invokespecial 1, 3) := dk_183 0 1 (dk_at dksX7_init_0 1 rfl rfl)
theorem dX7_init_4 : decode cX7_init 4 = .ok (.aload_n 0, 1) := dk_42 (dk_at dksX7_init_0 4 rfl rfl)
theorem dX7_init_5 : decode cX7_init 5 = .ok (.iload_n 1, 1) := dk_27 (dk_at dksX7_init_0 5 rfl rfl)
theorem dX7_init_6 : decode cX7_init 6 = .ok (.putfield 7, 3) := dk_181 0 7 (dk_at dksX7_init_0 6 rfl rfl)
theorem dX7_init_9 : decode cX7_init 9 = .ok (.return_, 1) := dk_177 (dk_at dksX7_init_0 9 rfl rfl)
theorem q78 : (Jvm.Cond.initialized "SideBySide$Broken") ∈ lw_all := lw_g (lw_at lw_m1 12 rfl) rfl
theorem q125 : (Jvm.Cond.selects "SideBySide$Broken" ({ cls := "java/lang/Throwable", name := "fillInStackTrace", desc := "()Ljava/lang/Throwable;" } : Jvm.MethodName) ({ cls := "java/lang/Throwable", name := "fillInStackTrace", desc := "()Ljava/lang/Throwable;" } : Jvm.MethodName)) ∈ lw_all := lw_g (lw_at lw_m1 59 rfl) rfl
theorem q274 : (Jvm.Cond.instantiable "SideBySide$Broken" (7 : Nat)) ∈ lw_all := lw_g (lw_at lw_m1 208 rfl) rfl
theorem q275 : (Jvm.Cond.castable "SideBySide$Broken" "SideBySide$Broken") ∈ lw_tbl := lw_at lw_m1 209 rfl
theorem q276 : (Jvm.Cond.selects "SideBySide$Broken" ({ cls := "java/lang/Throwable", name := "fillInStackTrace", desc := "(I)Ljava/lang/Throwable;" } : Jvm.MethodName) ({ cls := "java/lang/Throwable", name := "fillInStackTrace", desc := "(I)Ljava/lang/Throwable;" } : Jvm.MethodName)) ∈ lw_all := lw_g (lw_at lw_m1 210 rfl) rfl
theorem q277 : (Jvm.Cond.lays "SideBySide$Broken" "java/lang/Throwable" "cause" "Ljava/lang/Throwable;") ∈ lw_all := lw_g (lw_at lw_m1 211 rfl) rfl
theorem q278 : (Jvm.Cond.lays "SideBySide$Broken" "java/lang/Throwable" "stackTrace" "[Ljava/lang/StackTraceElement;") ∈ lw_all := lw_g (lw_at lw_m1 212 rfl) rfl
theorem q279 : (Jvm.Cond.lays "SideBySide$Broken" "java/lang/Throwable" "suppressedExceptions" "Ljava/util/List;") ∈ lw_all := lw_g (lw_at lw_m1 213 rfl) rfl
theorem q280 : (Jvm.Cond.lays "SideBySide$Broken" "java/lang/Throwable" "detailMessage" "Ljava/lang/String;") ∈ lw_all := lw_g (lw_at lw_m1 214 rfl) rfl
theorem q281 : (Jvm.Cond.lays "SideBySide$Broken" "java/lang/Throwable" "backtrace" "Ljava/lang/Object;") ∈ lw_all := lw_g (lw_at lw_m1 215 rfl) rfl
theorem q283 : (Jvm.Cond.instanceMethod ({ cls := "SideBySide$Broken", name := "<init>", desc := "(I)V" } : Jvm.MethodName)) ∈ lw_all := lw_g (lw_at lw_m1 217 rfl) rfl
theorem q284 : (Jvm.Cond.code ({ cls := "SideBySide$Broken", name := "<init>", desc := "(I)V" } : Jvm.MethodName) prog_3_method_1_code (2 : Nat) (Option.none : Option Jvm.ClassFile.FieldType)) ∈ lw_all := lw_g (lw_at lw_m1 218 rfl) rfl
theorem q285 : (Jvm.Cond.methodLink "SideBySide$Broken" (1 : Nat) ({ cls := "java/lang/Exception", name := "<init>", desc := "()V" } : Jvm.MethodName)) ∈ lw_all := lw_g (lw_at lw_m1 219 rfl) rfl
theorem q289 : (Jvm.Cond.fieldLink "SideBySide$Broken" (7 : Nat) "SideBySide$Broken" "code" "I") ∈ lw_all := lw_g (lw_at lw_m1 223 rfl) rfl
theorem q291 : (Jvm.Cond.laysFinal "SideBySide$Broken" "SideBySide$Broken" "code" "I") ∈ lw_all := lw_g (lw_at lw_m1 225 rfl) rfl
theorem q292 : (Jvm.Cond.soleField "SideBySide$Broken" "code") ∈ lw_all := lw_g (lw_at lw_m1 226 rfl) rfl
theorem q293 : (Jvm.Cond.lays "SideBySide$Broken" "java/lang/Throwable" "depth" "I") ∈ lw_all := lw_g (lw_at lw_m1 227 rfl) rfl
theorem q294 : (Jvm.Cond.superclass "SideBySide$Broken" "java/lang/Exception") ∈ lw_all := lw_g (lw_at lw_m1 228 rfl) rfl
theorem in_X7 : ∀ w ∈ wsX70, w ∈ lw_all := lw_in wsX70 [277, 278, 279, 280, 281, 293, 291] (by decide +kernel) (by decide +kernel)
/-! SideBySide$Stroke -/
set_option maxRecDepth 100000
def RX8 : String := "SideBySide$Stroke"
def TX8 : u_T := fun k => match k with
  | _ => ("SideBySide$Stroke", "figure", "I", true)
def tyX8 : Nat → FieldType := fun k => match k with
  | _ => .int
abbrev wsX80 : List Cond := u_ws RX8 TX8 1
theorem nmX8 : ∀ a, a < 1 → ∀ b, b < 1 → a ≠ b → (TX8 a).2.1 ≠ (TX8 b).2.1 := by decide +kernel
theorem tyX8_ok : ∀ k, k < 1 → parseFieldDescriptor (TX8 k).2.2.1 = some (tyX8 k) := by decide +kernel
abbrev cX8_init : ByteArray := prog_14_method_1_code
def yX8_init : MethodName := ⟨RX8, "<init>", "(I)V"⟩
def dkwX8_init_0 : List UInt8 := [42, 183, 0, 1, 42, 27, 181, 0, 7, 177]
abbrev dktX8_init_0 : List UInt8 := dkwX8_init_0 ++ []
theorem dksX8_init_0 : cX8_init.data.toList.drop 0 = dktX8_init_0 := by decide +kernel
theorem dX8_init_0 : decode cX8_init 0 = .ok (.aload_n 0, 1) := dk_42 (dk_at dksX8_init_0 0 rfl rfl)
theorem dX8_init_1 : decode cX8_init 1 = .ok (.invokespecial 1, 3) := dk_183 0 1 (dk_at dksX8_init_0 1 rfl rfl)
theorem dX8_init_4 : decode cX8_init 4 = .ok (.aload_n 0, 1) := dk_42 (dk_at dksX8_init_0 4 rfl rfl)
theorem dX8_init_5 : decode cX8_init 5 = .ok (.iload_n 1, 1) := dk_27 (dk_at dksX8_init_0 5 rfl rfl)
theorem dX8_init_6 : decode cX8_init 6 = .ok (.putfield 7, 3) := dk_181 0 7 (dk_at dksX8_init_0 6 rfl rfl)
theorem dX8_init_9 : decode cX8_init 9 = .ok (.return_, 1) := dk_177 (dk_at dksX8_init_0 9 rfl rfl)
abbrev cX8_time : ByteArray := prog_14_method_3_code
def yX8_time : MethodName := ⟨RX8, "time", "(I)I"⟩
theorem dX8_time_0 : decode cX8_time 0 = .ok (.iconst 3, 1) := by decide +kernel
theorem dX8_time_1 : decode cX8_time 1 = .ok (.ireturn, 1) := by decide +kernel
abbrev cX8_kind : ByteArray := prog_14_method_2_code
def yX8_kind : MethodName := ⟨RX8, "kind", "()I"⟩
theorem dX8_kind_0 : decode cX8_kind 0 = .ok (.iconst 0, 1) := by decide +kernel
theorem dX8_kind_1 : decode cX8_kind 1 = .ok (.ireturn, 1) := by decide +kernel
abbrev cX8_cost : ByteArray := prog_14_method_4_code
def yX8_cost : MethodName := ⟨RX8, "cost", "()I"⟩
theorem dX8_cost_0 : decode cX8_cost 0 = .ok (.iconst 2, 1) := by decide +kernel
theorem dX8_cost_1 : decode cX8_cost 1 = .ok (.ireturn, 1) := by decide +kernel
abbrev cX8_failure : ByteArray := prog_14_method_5_code
def yX8_failure : MethodName := ⟨RX8, "failure", "()LSideBySide$Tossed;"⟩
def dkwX8_failure_0 : List UInt8 := [42, 180, 0, 7, 154, 0, 7, 1, 167, 0, 14, 187, 0, 13, 89, 42, 180, 0, 7, 183, 0, 15, 176]
abbrev dktX8_failure_0 : List UInt8 := dkwX8_failure_0 ++ []
theorem dksX8_failure_0 : cX8_failure.data.toList.drop 0 = dktX8_failure_0 := by decide +kernel
theorem dX8_failure_0 : decode cX8_failure 0 = .ok (.aload_n 0, 1) := dk_42 (dk_at dksX8_failure_0 0 rfl rfl)
theorem dX8_failure_1 : decode cX8_failure 1 = .ok (.getfield 7, 3) := dk_180 0 7 (dk_at dksX8_failure_0 1 rfl rfl)
theorem dX8_failure_4 : decode cX8_failure 4 = .ok (.ifCond .ne 7, 3) := dk_154 0 7 (dk_at dksX8_failure_0 4 rfl rfl)
theorem dX8_failure_7 : decode cX8_failure 7 = .ok (.aconst_null, 1) := dk_1 (dk_at dksX8_failure_0 7 rfl rfl)
theorem dX8_failure_8 : decode cX8_failure 8 = .ok (.goto 14, 3) := dk_167 0 14 (dk_at dksX8_failure_0 8 rfl rfl)
theorem dX8_failure_11 : decode cX8_failure 11 = .ok (.new 13, 3) := dk_187 0 13 (dk_at dksX8_failure_0 11 rfl rfl)
theorem dX8_failure_14 : decode cX8_failure 14 = .ok (.dup, 1) := dk_89 (dk_at dksX8_failure_0 14 rfl rfl)
theorem dX8_failure_15 : decode cX8_failure 15 = .ok (.aload_n 0, 1) := dk_42 (dk_at dksX8_failure_0 15 rfl rfl)
theorem dX8_failure_16 : decode cX8_failure 16 = .ok (.getfield 7, 3) := dk_180 0 7 (dk_at dksX8_failure_0 16 rfl rfl)
theorem dX8_failure_19 : decode cX8_failure 19 = .ok (.invokespecial 15, 3) := dk_183 0 15 (dk_at dksX8_failure_0 19 rfl rfl)
theorem dX8_failure_22 : decode cX8_failure 22 = .ok (.areturn, 1) := dk_176 (dk_at dksX8_failure_0 22 rfl rfl)
theorem q81 : (Jvm.Cond.initialized "SideBySide$Stroke") ∈ lw_all := lw_g (lw_at lw_m1 15 rfl) rfl
theorem q320 : (Jvm.Cond.instantiable "SideBySide$Stroke" (1 : Nat)) ∈ lw_all := lw_g (lw_at lw_m2 14 rfl) rfl
theorem q322 : (Jvm.Cond.instanceMethod ({ cls := "SideBySide$Stroke", name := "<init>", desc := "(I)V" } : Jvm.MethodName)) ∈ lw_all := lw_g (lw_at lw_m2 16 rfl) rfl
theorem q323 : (Jvm.Cond.code ({ cls := "SideBySide$Stroke", name := "<init>", desc := "(I)V" } : Jvm.MethodName) prog_14_method_1_code (2 : Nat) (Option.none : Option Jvm.ClassFile.FieldType)) ∈ lw_all := lw_g (lw_at lw_m2 17 rfl) rfl
theorem q324 : (Jvm.Cond.methodLink "SideBySide$Stroke" (1 : Nat) ({ cls := "java/lang/Object", name := "<init>", desc := "()V" } : Jvm.MethodName)) ∈ lw_all := lw_g (lw_at lw_m2 18 rfl) rfl
theorem q325 : (Jvm.Cond.fieldLink "SideBySide$Stroke" (7 : Nat) "SideBySide$Stroke" "figure" "I") ∈ lw_all := lw_g (lw_at lw_m2 19 rfl) rfl
theorem q333 : (Jvm.Cond.laysFinal "SideBySide$Stroke" "SideBySide$Stroke" "figure" "I") ∈ lw_all := lw_g (lw_at lw_m2 27 rfl) rfl
theorem q334 : (Jvm.Cond.soleField "SideBySide$Stroke" "figure") ∈ lw_all := lw_g (lw_at lw_m2 28 rfl) rfl
theorem q335 : (Jvm.Cond.superclass "SideBySide$Stroke" "java/lang/Object") ∈ lw_all := lw_g (lw_at lw_m2 29 rfl) rfl
theorem q435 : (Jvm.Cond.unhidden "SideBySide$Stroke" "falls" "(II)I") ∈ lw_tbl := lw_at lw_m2 129 rfl
theorem q453 : (Jvm.Cond.instanceMethod ({ cls := "SideBySide$Stroke", name := "time", desc := "(I)I" } : Jvm.MethodName)) ∈ lw_all := lw_g (lw_at lw_m2 147 rfl) rfl
theorem q454 : (Jvm.Cond.selects "SideBySide$Stroke" ({ cls := "SideBySide$Stroke", name := "time", desc := "(I)I" } : Jvm.MethodName) ({ cls := "SideBySide$Stroke", name := "time", desc := "(I)I" } : Jvm.MethodName)) ∈ lw_all := lw_g (lw_at lw_m2 148 rfl) rfl
theorem q455 : (Jvm.Cond.sameMethod "SideBySide$Stroke" "SideBySide$Stroke" "time" "(I)I") ∈ lw_all := lw_g (lw_at lw_m2 149 rfl) rfl
theorem q481 : (Jvm.Cond.code ({ cls := "SideBySide$Stroke", name := "time", desc := "(I)I" } : Jvm.MethodName) prog_14_method_3_code (2 : Nat) (Option.some Jvm.ClassFile.FieldType.int)) ∈ lw_all := lw_g (lw_at lw_m2 175 rfl) rfl
theorem q500 : (Jvm.Cond.unhidden "SideBySide$Stroke" "tires" "()I") ∈ lw_tbl := lw_at lw_m2 194 rfl
theorem q576 : (Jvm.Cond.instanceMethod ({ cls := "SideBySide$Stroke", name := "kind", desc := "()I" } : Jvm.MethodName)) ∈ lw_all := lw_g (lw_at lw_m3 30 rfl) rfl
theorem q577 : (Jvm.Cond.selects "SideBySide$Stroke" ({ cls := "SideBySide$Stroke", name := "kind", desc := "()I" } : Jvm.MethodName) ({ cls := "SideBySide$Stroke", name := "kind", desc := "()I" } : Jvm.MethodName)) ∈ lw_all := lw_g (lw_at lw_m3 31 rfl) rfl
theorem q578 : (Jvm.Cond.sameMethod "SideBySide$Stroke" "SideBySide$Stroke" "kind" "()I") ∈ lw_all := lw_g (lw_at lw_m3 32 rfl) rfl
theorem q600 : (Jvm.Cond.code ({ cls := "SideBySide$Stroke", name := "kind", desc := "()I" } : Jvm.MethodName) prog_14_method_2_code (1 : Nat) (Option.some Jvm.ClassFile.FieldType.int)) ∈ lw_all := lw_g (lw_at lw_m3 54 rfl) rfl
theorem q1047 : (Jvm.Cond.instanceMethod ({ cls := "SideBySide$Stroke", name := "cost", desc := "()I" } : Jvm.MethodName)) ∈ lw_all := lw_g (lw_at lw_m5 21 rfl) rfl
theorem q1048 : (Jvm.Cond.selects "SideBySide$Stroke" ({ cls := "SideBySide$Stroke", name := "cost", desc := "()I" } : Jvm.MethodName) ({ cls := "SideBySide$Stroke", name := "cost", desc := "()I" } : Jvm.MethodName)) ∈ lw_all := lw_g (lw_at lw_m5 22 rfl) rfl
theorem q1049 : (Jvm.Cond.sameMethod "SideBySide$Stroke" "SideBySide$Stroke" "cost" "()I") ∈ lw_all := lw_g (lw_at lw_m5 23 rfl) rfl
theorem q1074 : (Jvm.Cond.code ({ cls := "SideBySide$Stroke", name := "cost", desc := "()I" } : Jvm.MethodName) prog_14_method_4_code (1 : Nat) (Option.some Jvm.ClassFile.FieldType.int)) ∈ lw_all := lw_g (lw_at lw_m5 48 rfl) rfl
theorem q1081 : (Jvm.Cond.instanceMethod ({ cls := "SideBySide$Stroke", name := "failure", desc := "()LSideBySide$Tossed;" } : Jvm.MethodName)) ∈ lw_all := lw_g (lw_at lw_m5 55 rfl) rfl
theorem q1082 : (Jvm.Cond.selects "SideBySide$Stroke" ({ cls := "SideBySide$Stroke", name := "failure", desc := "()LSideBySide$Tossed;" } : Jvm.MethodName) ({ cls := "SideBySide$Stroke", name := "failure", desc := "()LSideBySide$Tossed;" } : Jvm.MethodName)) ∈ lw_all := lw_g (lw_at lw_m5 56 rfl) rfl
theorem q1083 : (Jvm.Cond.sameMethod "SideBySide$Stroke" "SideBySide$Stroke" "failure" "()LSideBySide$Tossed;") ∈ lw_all := lw_g (lw_at lw_m5 57 rfl) rfl
theorem q1122 : (Jvm.Cond.code ({ cls := "SideBySide$Stroke", name := "failure", desc := "()LSideBySide$Tossed;" } : Jvm.MethodName) prog_14_method_5_code (1 : Nat) (Option.some (Jvm.ClassFile.FieldType.object "SideBySide$Tossed"))) ∈ lw_all := lw_g (lw_at lw_m5 96 rfl) rfl
theorem q1123 : (Jvm.Cond.classLink "SideBySide$Stroke" (13 : Nat) "SideBySide$Tossed") ∈ lw_all := lw_g (lw_at lw_m5 97 rfl) rfl
theorem q1124 : (Jvm.Cond.methodLink "SideBySide$Stroke" (15 : Nat) ({ cls := "SideBySide$Tossed", name := "<init>", desc := "(I)V" } : Jvm.MethodName)) ∈ lw_all := lw_g (lw_at lw_m5 98 rfl) rfl
theorem in_X8 : ∀ w ∈ wsX80, w ∈ lw_all := lw_in wsX80 [333] (by decide +kernel) (by decide +kernel)
/-! SideBySide$Smash -/
set_option maxRecDepth 100000
def RX9 : String := "SideBySide$Smash"
def TX9 : u_T := fun k => match k with
  | _ => ("SideBySide$Stroke", "figure", "I", true)
def tyX9 : Nat → FieldType := fun k => match k with
  | _ => .int
abbrev wsX90 : List Cond := u_ws RX9 TX9 1
theorem nmX9 : ∀ a, a < 1 → ∀ b, b < 1 → a ≠ b → (TX9 a).2.1 ≠ (TX9 b).2.1 := by decide +kernel
theorem tyX9_ok : ∀ k, k < 1 → parseFieldDescriptor (TX9 k).2.2.1 = some (tyX9 k) := by decide +kernel
abbrev cX9_init : ByteArray := prog_13_method_1_code
def yX9_init : MethodName := ⟨RX9, "<init>", "(I)V"⟩
def dkwX9_init_0 : List UInt8 := [42, 27, 183, 0, 3, 177]
abbrev dktX9_init_0 : List UInt8 := dkwX9_init_0 ++ []
theorem dksX9_init_0 : cX9_init.data.toList.drop 0 = dktX9_init_0 := by decide +kernel
theorem dX9_init_0 : decode cX9_init 0 = .ok (.aload_n 0, 1) := dk_42 (dk_at dksX9_init_0 0 rfl rfl)
theorem dX9_init_1 : decode cX9_init 1 = .ok (.iload_n 1, 1) := dk_27 (dk_at dksX9_init_0 1 rfl rfl)
theorem dX9_init_2 : decode cX9_init 2 = .ok (.invokespecial 3, 3) := dk_183 0 3 (dk_at dksX9_init_0 2 rfl rfl)
theorem dX9_init_5 : decode cX9_init 5 = .ok (.return_, 1) := dk_177 (dk_at dksX9_init_0 5 rfl rfl)
abbrev cX9_time : ByteArray := prog_13_method_3_code
def yX9_time : MethodName := ⟨RX9, "time", "(I)I"⟩
def dkwX9_time_0 : List UInt8 := [42, 180, 0, 9, 8, 161, 0, 7, 4, 167, 0, 4, 5, 172]
abbrev dktX9_time_0 : List UInt8 := dkwX9_time_0 ++ []
theorem dksX9_time_0 : cX9_time.data.toList.drop 0 = dktX9_time_0 := by decide +kernel
theorem dX9_time_0 : decode cX9_time 0 = .ok (.aload_n 0, 1) := dk_42 (dk_at dksX9_time_0 0 rfl rfl)
theorem dX9_time_1 : decode cX9_time 1 = .ok (.getfield 9, 3) := dk_180 0 9 (dk_at dksX9_time_0 1 rfl rfl)
theorem dX9_time_4 : decode cX9_time 4 = .ok (.iconst 5, 1) := dk_8 (dk_at dksX9_time_0 4 rfl rfl)
theorem dX9_time_5 : decode cX9_time 5 = .ok (.if_icmp .lt 7, 3) := dk_161 0 7 (dk_at dksX9_time_0 5 rfl rfl)
theorem dX9_time_8 : decode cX9_time 8 = .ok (.iconst 1, 1) := dk_4 (dk_at dksX9_time_0 8 rfl rfl)
theorem dX9_time_9 : decode cX9_time 9 = .ok (.goto 4, 3) := dk_167 0 4 (dk_at dksX9_time_0 9 rfl rfl)
theorem dX9_time_12 : decode cX9_time 12 = .ok (.iconst 2, 1) := dk_5 (dk_at dksX9_time_0 12 rfl rfl)
theorem dX9_time_13 : decode cX9_time 13 = .ok (.ireturn, 1) := dk_172 (dk_at dksX9_time_0 13 rfl rfl)
abbrev cX9_tires : ByteArray := prog_13_method_4_code
def yX9_tires : MethodName := ⟨RX9, "tires", "()I"⟩
theorem dX9_tires_0 : decode cX9_tires 0 = .ok (.iconst 5, 1) := by decide +kernel
theorem dX9_tires_1 : decode cX9_tires 1 = .ok (.ireturn, 1) := by decide +kernel
abbrev cX9_kind : ByteArray := prog_13_method_2_code
def yX9_kind : MethodName := ⟨RX9, "kind", "()I"⟩
theorem dX9_kind_0 : decode cX9_kind 0 = .ok (.iconst 1, 1) := by decide +kernel
theorem dX9_kind_1 : decode cX9_kind 1 = .ok (.ireturn, 1) := by decide +kernel
abbrev cX9_cost : ByteArray := prog_13_method_5_code
def yX9_cost : MethodName := ⟨RX9, "cost", "()I"⟩
theorem dX9_cost_0 : decode cX9_cost 0 = .ok (.bipush 6, 2) := by decide +kernel
theorem dX9_cost_2 : decode cX9_cost 2 = .ok (.ireturn, 1) := by decide +kernel
theorem q82 : (Jvm.Cond.initialized "SideBySide$Smash") ∈ lw_all := lw_g (lw_at lw_m1 16 rfl) rfl
theorem q326 : (Jvm.Cond.fieldLink "SideBySide$Smash" (9 : Nat) "SideBySide$Smash" "figure" "I") ∈ lw_all := lw_g (lw_at lw_m2 20 rfl) rfl
theorem q327 : (Jvm.Cond.sameField "SideBySide$Smash" "SideBySide$Stroke" "figure" "I") ∈ lw_all := lw_g (lw_at lw_m2 21 rfl) rfl
theorem q337 : (Jvm.Cond.instantiable "SideBySide$Smash" (1 : Nat)) ∈ lw_all := lw_g (lw_at lw_m2 31 rfl) rfl
theorem q339 : (Jvm.Cond.instanceMethod ({ cls := "SideBySide$Smash", name := "<init>", desc := "(I)V" } : Jvm.MethodName)) ∈ lw_all := lw_g (lw_at lw_m2 33 rfl) rfl
theorem q340 : (Jvm.Cond.code ({ cls := "SideBySide$Smash", name := "<init>", desc := "(I)V" } : Jvm.MethodName) prog_13_method_1_code (2 : Nat) (Option.none : Option Jvm.ClassFile.FieldType)) ∈ lw_all := lw_g (lw_at lw_m2 34 rfl) rfl
theorem q341 : (Jvm.Cond.methodLink "SideBySide$Smash" (3 : Nat) ({ cls := "SideBySide$Stroke", name := "<init>", desc := "(I)V" } : Jvm.MethodName)) ∈ lw_all := lw_g (lw_at lw_m2 35 rfl) rfl
theorem q342 : (Jvm.Cond.laysFinal "SideBySide$Smash" "SideBySide$Stroke" "figure" "I") ∈ lw_all := lw_g (lw_at lw_m2 36 rfl) rfl
theorem q343 : (Jvm.Cond.superclass "SideBySide$Smash" "SideBySide$Stroke") ∈ lw_all := lw_g (lw_at lw_m2 37 rfl) rfl
theorem q434 : (Jvm.Cond.unhidden "SideBySide$Smash" "falls" "(II)I") ∈ lw_tbl := lw_at lw_m2 128 rfl
theorem q474 : (Jvm.Cond.selects "SideBySide$Smash" ({ cls := "SideBySide$Stroke", name := "time", desc := "(I)I" } : Jvm.MethodName) ({ cls := "SideBySide$Smash", name := "time", desc := "(I)I" } : Jvm.MethodName)) ∈ lw_all := lw_g (lw_at lw_m2 168 rfl) rfl
theorem q475 : (Jvm.Cond.instanceMethod ({ cls := "SideBySide$Smash", name := "time", desc := "(I)I" } : Jvm.MethodName)) ∈ lw_all := lw_g (lw_at lw_m2 169 rfl) rfl
theorem q476 : (Jvm.Cond.code ({ cls := "SideBySide$Smash", name := "time", desc := "(I)I" } : Jvm.MethodName) prog_13_method_3_code (2 : Nat) (Option.some Jvm.ClassFile.FieldType.int)) ∈ lw_all := lw_g (lw_at lw_m2 170 rfl) rfl
theorem q497 : (Jvm.Cond.selects "SideBySide$Smash" ({ cls := "SideBySide$Tires", name := "tires", desc := "()I" } : Jvm.MethodName) ({ cls := "SideBySide$Smash", name := "tires", desc := "()I" } : Jvm.MethodName)) ∈ lw_all := lw_g (lw_at lw_m2 191 rfl) rfl
theorem q498 : (Jvm.Cond.instanceMethod ({ cls := "SideBySide$Smash", name := "tires", desc := "()I" } : Jvm.MethodName)) ∈ lw_all := lw_g (lw_at lw_m2 192 rfl) rfl
theorem q499 : (Jvm.Cond.code ({ cls := "SideBySide$Smash", name := "tires", desc := "()I" } : Jvm.MethodName) prog_13_method_4_code (1 : Nat) (Option.some Jvm.ClassFile.FieldType.int)) ∈ lw_all := lw_g (lw_at lw_m2 193 rfl) rfl
theorem q594 : (Jvm.Cond.selects "SideBySide$Smash" ({ cls := "SideBySide$Stroke", name := "kind", desc := "()I" } : Jvm.MethodName) ({ cls := "SideBySide$Smash", name := "kind", desc := "()I" } : Jvm.MethodName)) ∈ lw_all := lw_g (lw_at lw_m3 48 rfl) rfl
theorem q595 : (Jvm.Cond.instanceMethod ({ cls := "SideBySide$Smash", name := "kind", desc := "()I" } : Jvm.MethodName)) ∈ lw_all := lw_g (lw_at lw_m3 49 rfl) rfl
theorem q596 : (Jvm.Cond.code ({ cls := "SideBySide$Smash", name := "kind", desc := "()I" } : Jvm.MethodName) prog_13_method_2_code (1 : Nat) (Option.some Jvm.ClassFile.FieldType.int)) ∈ lw_all := lw_g (lw_at lw_m3 50 rfl) rfl
theorem q1068 : (Jvm.Cond.selects "SideBySide$Smash" ({ cls := "SideBySide$Stroke", name := "cost", desc := "()I" } : Jvm.MethodName) ({ cls := "SideBySide$Smash", name := "cost", desc := "()I" } : Jvm.MethodName)) ∈ lw_all := lw_g (lw_at lw_m5 42 rfl) rfl
theorem q1069 : (Jvm.Cond.instanceMethod ({ cls := "SideBySide$Smash", name := "cost", desc := "()I" } : Jvm.MethodName)) ∈ lw_all := lw_g (lw_at lw_m5 43 rfl) rfl
theorem q1070 : (Jvm.Cond.code ({ cls := "SideBySide$Smash", name := "cost", desc := "()I" } : Jvm.MethodName) prog_13_method_5_code (1 : Nat) (Option.some Jvm.ClassFile.FieldType.int)) ∈ lw_all := lw_g (lw_at lw_m5 44 rfl) rfl
theorem q1120 : (Jvm.Cond.selects "SideBySide$Smash" ({ cls := "SideBySide$Stroke", name := "failure", desc := "()LSideBySide$Tossed;" } : Jvm.MethodName) ({ cls := "SideBySide$Stroke", name := "failure", desc := "()LSideBySide$Tossed;" } : Jvm.MethodName)) ∈ lw_all := lw_g (lw_at lw_m5 94 rfl) rfl
theorem q1625 : (Jvm.Cond.castable "SideBySide$Smash" "SideBySide$Stroke") ∈ lw_tbl := lw_at lw_m7 119 rfl
theorem in_X9 : ∀ w ∈ wsX90, w ∈ lw_all := lw_in wsX90 [342] (by decide +kernel) (by decide +kernel)
/-! SideBySide$Drop -/
set_option maxRecDepth 100000
def RX10 : String := "SideBySide$Drop"
def TX10 : u_T := fun k => match k with
  | _ => ("SideBySide$Stroke", "figure", "I", true)
def tyX10 : Nat → FieldType := fun k => match k with
  | _ => .int
abbrev wsX100 : List Cond := u_ws RX10 TX10 1
theorem nmX10 : ∀ a, a < 1 → ∀ b, b < 1 → a ≠ b → (TX10 a).2.1 ≠ (TX10 b).2.1 := by decide +kernel
theorem tyX10_ok : ∀ k, k < 1 → parseFieldDescriptor (TX10 k).2.2.1 = some (tyX10 k) := by decide +kernel
abbrev cX10_init : ByteArray := prog_6_method_1_code
def yX10_init : MethodName := ⟨RX10, "<init>", "(I)V"⟩
def dkwX10_init_0 : List UInt8 := [42, 27, 183, 0, 3, 177]
abbrev dktX10_init_0 : List UInt8 := dkwX10_init_0 ++ []
theorem dksX10_init_0 : cX10_init.data.toList.drop 0 = dktX10_init_0 := by decide +kernel
theorem dX10_init_0 : decode cX10_init 0 = .ok (.aload_n 0, 1) := dk_42 (dk_at dksX10_init_0 0 rfl rfl)
theorem dX10_init_1 : decode cX10_init 1 = .ok (.iload_n 1, 1) := dk_27 (dk_at dksX10_init_0 1 rfl rfl)
theorem dX10_init_2 : decode cX10_init 2 = .ok (.invokespecial 3, 3) := dk_183 0 3 (dk_at dksX10_init_0 2 rfl rfl)
theorem dX10_init_5 : decode cX10_init 5 = .ok (.return_, 1) := dk_177 (dk_at dksX10_init_0 5 rfl rfl)
abbrev cX10_time : ByteArray := prog_6_method_3_code
def yX10_time : MethodName := ⟨RX10, "time", "(I)I"⟩
def dkwX10_time_0 : List UInt8 := [27, 184, 0, 9, 154, 0, 7, 5, 167, 0, 8, 42, 27, 183, 0, 13, 172]
abbrev dktX10_time_0 : List UInt8 := dkwX10_time_0 ++ []
theorem dksX10_time_0 : cX10_time.data.toList.drop 0 = dktX10_time_0 := by decide +kernel
theorem dX10_time_0 : decode cX10_time 0 = .ok (.iload_n 1, 1) := dk_27 (dk_at dksX10_time_0 0 rfl rfl)
theorem dX10_time_1 : decode cX10_time 1 = .ok (.invokestatic 9, 3) := dk_184 0 9 (dk_at dksX10_time_0 1 rfl rfl)
theorem dX10_time_4 : decode cX10_time 4 = .ok (.ifCond .ne 7, 3) := dk_154 0 7 (dk_at dksX10_time_0 4 rfl rfl)
theorem dX10_time_7 : decode cX10_time 7 = .ok (.iconst 2, 1) := dk_5 (dk_at dksX10_time_0 7 rfl rfl)
theorem dX10_time_8 : decode cX10_time 8 = .ok (.goto 8, 3) := dk_167 0 8 (dk_at dksX10_time_0 8 rfl rfl)
theorem dX10_time_11 : decode cX10_time 11 = .ok (.aload_n 0, 1) := dk_42 (dk_at dksX10_time_0 11 rfl rfl)
theorem dX10_time_12 : decode cX10_time 12 = .ok (.iload_n 1, 1) := dk_27 (dk_at dksX10_time_0 12 rfl rfl)
theorem dX10_time_13 : decode cX10_time 13 = .ok (.invokespecial 13, 3) := dk_183 0 13 (dk_at dksX10_time_0 13 rfl rfl)
theorem dX10_time_16 : decode cX10_time 16 = .ok (.ireturn, 1) := dk_172 (dk_at dksX10_time_0 16 rfl rfl)
abbrev cX10_tires : ByteArray := prog_6_method_4_code
def yX10_tires : MethodName := ⟨RX10, "tires", "()I"⟩
def dkwX10_tires_0 : List UInt8 := [42, 183, 0, 16, 42, 180, 0, 20, 6, 108, 96, 172]
abbrev dktX10_tires_0 : List UInt8 := dkwX10_tires_0 ++ []
theorem dksX10_tires_0 : cX10_tires.data.toList.drop 0 = dktX10_tires_0 := by decide +kernel
theorem dX10_tires_0 : decode cX10_tires 0 = .ok (.aload_n 0, 1) := dk_42 (dk_at dksX10_tires_0 0 rfl rfl)
theorem dX10_tires_1 : decode cX10_tires 1 = .ok (.invokespecial 16, 3) := dk_183 0 16 (dk_at dksX10_tires_0 1 rfl rfl)
theorem dX10_tires_4 : decode cX10_tires 4 = .ok (.aload_n 0, 1) := dk_42 (dk_at dksX10_tires_0 4 rfl rfl)
theorem dX10_tires_5 : decode cX10_tires 5 = .ok (.getfield 20, 3) := dk_180 0 20 (dk_at dksX10_tires_0 5 rfl rfl)
theorem dX10_tires_8 : decode cX10_tires 8 = .ok (.iconst 3, 1) := dk_6 (dk_at dksX10_tires_0 8 rfl rfl)
theorem dX10_tires_9 : decode cX10_tires 9 = .ok (.idiv, 1) := dk_108 (dk_at dksX10_tires_0 9 rfl rfl)
theorem dX10_tires_10 : decode cX10_tires 10 = .ok (.iadd, 1) := dk_96 (dk_at dksX10_tires_0 10 rfl rfl)
theorem dX10_tires_11 : decode cX10_tires 11 = .ok (.ireturn, 1) := dk_172 (dk_at dksX10_tires_0 11 rfl rfl)
abbrev cX10_kind : ByteArray := prog_6_method_2_code
def yX10_kind : MethodName := ⟨RX10, "kind", "()I"⟩
theorem dX10_kind_0 : decode cX10_kind 0 = .ok (.iconst 2, 1) := by decide +kernel
theorem dX10_kind_1 : decode cX10_kind 1 = .ok (.ireturn, 1) := by decide +kernel
abbrev cX10_cost : ByteArray := prog_6_method_5_code
def yX10_cost : MethodName := ⟨RX10, "cost", "()I"⟩
def dkwX10_cost_0 : List UInt8 := [42, 183, 0, 26, 42, 180, 0, 20, 96, 172]
abbrev dktX10_cost_0 : List UInt8 := dkwX10_cost_0 ++ []
theorem dksX10_cost_0 : cX10_cost.data.toList.drop 0 = dktX10_cost_0 := by decide +kernel
theorem dX10_cost_0 : decode cX10_cost 0 = .ok (.aload_n 0, 1) := dk_42 (dk_at dksX10_cost_0 0 rfl rfl)
theorem dX10_cost_1 : decode cX10_cost 1 = .ok (.invokespecial 26, 3) := dk_183 0 26 (dk_at dksX10_cost_0 1 rfl rfl)
theorem dX10_cost_4 : decode cX10_cost 4 = .ok (.aload_n 0, 1) := dk_42 (dk_at dksX10_cost_0 4 rfl rfl)
theorem dX10_cost_5 : decode cX10_cost 5 = .ok (.getfield 20, 3) := dk_180 0 20 (dk_at dksX10_cost_0 5 rfl rfl)
theorem dX10_cost_8 : decode cX10_cost 8 = .ok (.iadd, 1) := dk_96 (dk_at dksX10_cost_0 8 rfl rfl)
theorem dX10_cost_9 : decode cX10_cost 9 = .ok (.ireturn, 1) := dk_172 (dk_at dksX10_cost_0 9 rfl rfl)
abbrev cX10_failure : ByteArray := prog_6_method_6_code
def yX10_failure : MethodName := ⟨RX10, "failure", "()LSideBySide$Tossed;"⟩
def dkwX10_failure_1 : List UInt8 := [183, 0, 38, 176]
abbrev dktX10_failure_1 : List UInt8 := dkwX10_failure_1 ++ []
def dkwX10_failure_0 : List UInt8 := [42, 183, 0, 29, 76, 43, 199, 0, 7, 1, 167, 0, 17, 187, 0, 33, 89, 43, 180, 0, 35, 16, 100, 96]
abbrev dktX10_failure_0 : List UInt8 := dkwX10_failure_0 ++ dktX10_failure_1
theorem dksX10_failure_0 : cX10_failure.data.toList.drop 0 = dktX10_failure_0 := by decide +kernel
theorem dksX10_failure_1 : cX10_failure.data.toList.drop 24 = dktX10_failure_1 := dk_seg dksX10_failure_0 24 rfl rfl
theorem dX10_failure_0 : decode cX10_failure 0 = .ok (.aload_n 0, 1) := dk_42 (dk_at dksX10_failure_0 0 rfl rfl)
theorem dX10_failure_1 : decode cX10_failure 1 = .ok (.invokespecial 29, 3) := dk_183 0 29 (dk_at dksX10_failure_0 1 rfl rfl)
theorem dX10_failure_4 : decode cX10_failure 4 = .ok (.astore_n 1, 1) := dk_76 (dk_at dksX10_failure_0 4 rfl rfl)
theorem dX10_failure_5 : decode cX10_failure 5 = .ok (.aload_n 1, 1) := dk_43 (dk_at dksX10_failure_0 5 rfl rfl)
theorem dX10_failure_6 : decode cX10_failure 6 = .ok (.ifnonnull 7, 3) := dk_199 0 7 (dk_at dksX10_failure_0 6 rfl rfl)
theorem dX10_failure_9 : decode cX10_failure 9 = .ok (.aconst_null, 1) := dk_1 (dk_at dksX10_failure_0 9 rfl rfl)
theorem dX10_failure_10 : decode cX10_failure 10 = .ok (.goto 17, 3) := dk_167 0 17 (dk_at dksX10_failure_0 10 rfl rfl)
theorem dX10_failure_13 : decode cX10_failure 13 = .ok (.new 33, 3) := dk_187 0 33 (dk_at dksX10_failure_0 13 rfl rfl)
theorem dX10_failure_16 : decode cX10_failure 16 = .ok (.dup, 1) := dk_89 (dk_at dksX10_failure_0 16 rfl rfl)
theorem dX10_failure_17 : decode cX10_failure 17 = .ok (.aload_n 1, 1) := dk_43 (dk_at dksX10_failure_0 17 rfl rfl)
theorem dX10_failure_18 : decode cX10_failure 18 = .ok (.getfield 35, 3) := dk_180 0 35 (dk_at dksX10_failure_0 18 rfl rfl)
theorem dX10_failure_21 : decode cX10_failure 21 = .ok (.bipush 100, 2) := dk_16 100 (dk_at dksX10_failure_0 21 rfl rfl)
theorem dX10_failure_23 : decode cX10_failure 23 = .ok (.iadd, 1) := dk_96 (dk_at dksX10_failure_0 23 rfl rfl)
theorem dX10_failure_24 : decode cX10_failure 24 = .ok (.invokespecial 38, 3) := dk_183 0 38 (dk_at dksX10_failure_1 0 rfl rfl)
theorem dX10_failure_27 : decode cX10_failure 27 = .ok (.areturn, 1) := dk_176 (dk_at dksX10_failure_1 3 rfl rfl)
theorem q83 : (Jvm.Cond.initialized "SideBySide$Drop") ∈ lw_all := lw_g (lw_at lw_m1 17 rfl) rfl
theorem q330 : (Jvm.Cond.fieldLink "SideBySide$Drop" (20 : Nat) "SideBySide$Drop" "figure" "I") ∈ lw_all := lw_g (lw_at lw_m2 24 rfl) rfl
theorem q331 : (Jvm.Cond.sameField "SideBySide$Drop" "SideBySide$Stroke" "figure" "I") ∈ lw_all := lw_g (lw_at lw_m2 25 rfl) rfl
theorem q345 : (Jvm.Cond.instantiable "SideBySide$Drop" (1 : Nat)) ∈ lw_all := lw_g (lw_at lw_m2 39 rfl) rfl
theorem q347 : (Jvm.Cond.instanceMethod ({ cls := "SideBySide$Drop", name := "<init>", desc := "(I)V" } : Jvm.MethodName)) ∈ lw_all := lw_g (lw_at lw_m2 41 rfl) rfl
theorem q348 : (Jvm.Cond.code ({ cls := "SideBySide$Drop", name := "<init>", desc := "(I)V" } : Jvm.MethodName) prog_6_method_1_code (2 : Nat) (Option.none : Option Jvm.ClassFile.FieldType)) ∈ lw_all := lw_g (lw_at lw_m2 42 rfl) rfl
theorem q349 : (Jvm.Cond.methodLink "SideBySide$Drop" (3 : Nat) ({ cls := "SideBySide$Stroke", name := "<init>", desc := "(I)V" } : Jvm.MethodName)) ∈ lw_all := lw_g (lw_at lw_m2 43 rfl) rfl
theorem q350 : (Jvm.Cond.laysFinal "SideBySide$Drop" "SideBySide$Stroke" "figure" "I") ∈ lw_all := lw_g (lw_at lw_m2 44 rfl) rfl
theorem q351 : (Jvm.Cond.superclass "SideBySide$Drop" "SideBySide$Stroke") ∈ lw_all := lw_g (lw_at lw_m2 45 rfl) rfl
theorem q430 : (Jvm.Cond.unhidden "SideBySide$Drop" "falls" "(II)I") ∈ lw_tbl := lw_at lw_m2 124 rfl
theorem q457 : (Jvm.Cond.selects "SideBySide$Drop" ({ cls := "SideBySide$Stroke", name := "time", desc := "(I)I" } : Jvm.MethodName) ({ cls := "SideBySide$Drop", name := "time", desc := "(I)I" } : Jvm.MethodName)) ∈ lw_all := lw_g (lw_at lw_m2 151 rfl) rfl
theorem q458 : (Jvm.Cond.instanceMethod ({ cls := "SideBySide$Drop", name := "time", desc := "(I)I" } : Jvm.MethodName)) ∈ lw_all := lw_g (lw_at lw_m2 152 rfl) rfl
theorem q459 : (Jvm.Cond.code ({ cls := "SideBySide$Drop", name := "time", desc := "(I)I" } : Jvm.MethodName) prog_6_method_3_code (2 : Nat) (Option.some Jvm.ClassFile.FieldType.int)) ∈ lw_all := lw_g (lw_at lw_m2 153 rfl) rfl
theorem q460 : (Jvm.Cond.methodLinkNest "SideBySide$Drop" (9 : Nat) ({ cls := "SideBySide", name := "rowOf", desc := "(I)I" } : Jvm.MethodName) "SideBySide") ∈ lw_tbl := lw_at lw_m2 154 rfl
theorem q461 : (Jvm.Cond.methodLink "SideBySide$Drop" (13 : Nat) ({ cls := "SideBySide$Stroke", name := "time", desc := "(I)I" } : Jvm.MethodName)) ∈ lw_all := lw_g (lw_at lw_m2 155 rfl) rfl
theorem q484 : (Jvm.Cond.selects "SideBySide$Drop" ({ cls := "SideBySide$Tires", name := "tires", desc := "()I" } : Jvm.MethodName) ({ cls := "SideBySide$Drop", name := "tires", desc := "()I" } : Jvm.MethodName)) ∈ lw_all := lw_g (lw_at lw_m2 178 rfl) rfl
theorem q485 : (Jvm.Cond.instanceMethod ({ cls := "SideBySide$Drop", name := "tires", desc := "()I" } : Jvm.MethodName)) ∈ lw_all := lw_g (lw_at lw_m2 179 rfl) rfl
theorem q486 : (Jvm.Cond.code ({ cls := "SideBySide$Drop", name := "tires", desc := "()I" } : Jvm.MethodName) prog_6_method_4_code (1 : Nat) (Option.some Jvm.ClassFile.FieldType.int)) ∈ lw_all := lw_g (lw_at lw_m2 180 rfl) rfl
theorem q582 : (Jvm.Cond.selects "SideBySide$Drop" ({ cls := "SideBySide$Stroke", name := "kind", desc := "()I" } : Jvm.MethodName) ({ cls := "SideBySide$Drop", name := "kind", desc := "()I" } : Jvm.MethodName)) ∈ lw_all := lw_g (lw_at lw_m3 36 rfl) rfl
theorem q583 : (Jvm.Cond.instanceMethod ({ cls := "SideBySide$Drop", name := "kind", desc := "()I" } : Jvm.MethodName)) ∈ lw_all := lw_g (lw_at lw_m3 37 rfl) rfl
theorem q584 : (Jvm.Cond.code ({ cls := "SideBySide$Drop", name := "kind", desc := "()I" } : Jvm.MethodName) prog_6_method_2_code (1 : Nat) (Option.some Jvm.ClassFile.FieldType.int)) ∈ lw_all := lw_g (lw_at lw_m3 38 rfl) rfl
theorem q1053 : (Jvm.Cond.selects "SideBySide$Drop" ({ cls := "SideBySide$Stroke", name := "cost", desc := "()I" } : Jvm.MethodName) ({ cls := "SideBySide$Drop", name := "cost", desc := "()I" } : Jvm.MethodName)) ∈ lw_all := lw_g (lw_at lw_m5 27 rfl) rfl
theorem q1054 : (Jvm.Cond.instanceMethod ({ cls := "SideBySide$Drop", name := "cost", desc := "()I" } : Jvm.MethodName)) ∈ lw_all := lw_g (lw_at lw_m5 28 rfl) rfl
theorem q1055 : (Jvm.Cond.code ({ cls := "SideBySide$Drop", name := "cost", desc := "()I" } : Jvm.MethodName) prog_6_method_5_code (1 : Nat) (Option.some Jvm.ClassFile.FieldType.int)) ∈ lw_all := lw_g (lw_at lw_m5 29 rfl) rfl
theorem q1056 : (Jvm.Cond.methodLink "SideBySide$Drop" (26 : Nat) ({ cls := "SideBySide$Stroke", name := "cost", desc := "()I" } : Jvm.MethodName)) ∈ lw_all := lw_g (lw_at lw_m5 30 rfl) rfl
theorem q1085 : (Jvm.Cond.selects "SideBySide$Drop" ({ cls := "SideBySide$Stroke", name := "failure", desc := "()LSideBySide$Tossed;" } : Jvm.MethodName) ({ cls := "SideBySide$Drop", name := "failure", desc := "()LSideBySide$Tossed;" } : Jvm.MethodName)) ∈ lw_all := lw_g (lw_at lw_m5 59 rfl) rfl
theorem q1086 : (Jvm.Cond.instanceMethod ({ cls := "SideBySide$Drop", name := "failure", desc := "()LSideBySide$Tossed;" } : Jvm.MethodName)) ∈ lw_all := lw_g (lw_at lw_m5 60 rfl) rfl
theorem q1087 : (Jvm.Cond.code ({ cls := "SideBySide$Drop", name := "failure", desc := "()LSideBySide$Tossed;" } : Jvm.MethodName) prog_6_method_6_code (2 : Nat) (Option.some (Jvm.ClassFile.FieldType.object "SideBySide$Tossed"))) ∈ lw_all := lw_g (lw_at lw_m5 61 rfl) rfl
theorem q1088 : (Jvm.Cond.methodLink "SideBySide$Drop" (29 : Nat) ({ cls := "SideBySide$Stroke", name := "failure", desc := "()LSideBySide$Tossed;" } : Jvm.MethodName)) ∈ lw_all := lw_g (lw_at lw_m5 62 rfl) rfl
theorem q1089 : (Jvm.Cond.classLink "SideBySide$Drop" (33 : Nat) "SideBySide$Tossed") ∈ lw_all := lw_g (lw_at lw_m5 63 rfl) rfl
theorem q1098 : (Jvm.Cond.methodLink "SideBySide$Drop" (38 : Nat) ({ cls := "SideBySide$Tossed", name := "<init>", desc := "(I)V" } : Jvm.MethodName)) ∈ lw_all := lw_g (lw_at lw_m5 72 rfl) rfl
theorem q1103 : (Jvm.Cond.fieldLink "SideBySide$Drop" (35 : Nat) "SideBySide$Tossed" "n" "I") ∈ lw_all := lw_g (lw_at lw_m5 77 rfl) rfl
theorem q1613 : (Jvm.Cond.sameMethod "SideBySide$Drop" "SideBySide$Drop" "time" "(I)I") ∈ lw_all := lw_g (lw_at lw_m7 107 rfl) rfl
theorem q1616 : (Jvm.Cond.sameMethod "SideBySide$Drop" "SideBySide$Drop" "cost" "()I") ∈ lw_all := lw_g (lw_at lw_m7 110 rfl) rfl
theorem q1617 : (Jvm.Cond.sameMethod "SideBySide$Drop" "SideBySide$Drop" "failure" "()LSideBySide$Tossed;") ∈ lw_all := lw_g (lw_at lw_m7 111 rfl) rfl
theorem q1621 : (Jvm.Cond.castable "SideBySide$Drop" "SideBySide$Stroke") ∈ lw_tbl := lw_at lw_m7 115 rfl
theorem in_X10 : ∀ w ∈ wsX100, w ∈ lw_all := lw_in wsX100 [350] (by decide +kernel) (by decide +kernel)
/-! SideBySide$Lift -/
set_option maxRecDepth 100000
def RX11 : String := "SideBySide$Lift"
def TX11 : u_T := fun k => match k with
  | _ => ("SideBySide$Stroke", "figure", "I", true)
def tyX11 : Nat → FieldType := fun k => match k with
  | _ => .int
abbrev wsX110 : List Cond := u_ws RX11 TX11 1
theorem nmX11 : ∀ a, a < 1 → ∀ b, b < 1 → a ≠ b → (TX11 a).2.1 ≠ (TX11 b).2.1 := by decide +kernel
theorem tyX11_ok : ∀ k, k < 1 → parseFieldDescriptor (TX11 k).2.2.1 = some (tyX11 k) := by decide +kernel
abbrev cX11_init : ByteArray := prog_10_method_1_code
def yX11_init : MethodName := ⟨RX11, "<init>", "(I)V"⟩
def dkwX11_init_0 : List UInt8 := [42, 27, 183, 0, 3, 177]
abbrev dktX11_init_0 : List UInt8 := dkwX11_init_0 ++ []
theorem dksX11_init_0 : cX11_init.data.toList.drop 0 = dktX11_init_0 := by decide +kernel
theorem dX11_init_0 : decode cX11_init 0 = .ok (.aload_n 0, 1) := dk_42 (dk_at dksX11_init_0 0 rfl rfl)
theorem dX11_init_1 : decode cX11_init 1 = .ok (.iload_n 1, 1) := dk_27 (dk_at dksX11_init_0 1 rfl rfl)
theorem dX11_init_2 : decode cX11_init 2 = .ok (.invokespecial 3, 3) := dk_183 0 3 (dk_at dksX11_init_0 2 rfl rfl)
theorem dX11_init_5 : decode cX11_init 5 = .ok (.return_, 1) := dk_177 (dk_at dksX11_init_0 5 rfl rfl)
abbrev cX11_time : ByteArray := prog_10_method_3_code
def yX11_time : MethodName := ⟨RX11, "time", "(I)I"⟩
def dkwX11_time_0 : List UInt8 := [42, 27, 183, 0, 9, 6, 96, 172]
abbrev dktX11_time_0 : List UInt8 := dkwX11_time_0 ++ []
theorem dksX11_time_0 : cX11_time.data.toList.drop 0 = dktX11_time_0 := by decide +kernel
theorem dX11_time_0 : decode cX11_time 0 = .ok (.aload_n 0, 1) := dk_42 (dk_at dksX11_time_0 0 rfl rfl)
theorem dX11_time_1 : decode cX11_time 1 = .ok (.iload_n 1, 1) := dk_27 (dk_at dksX11_time_0 1 rfl rfl)
theorem dX11_time_2 : decode cX11_time 2 = .ok (.invokespecial 9, 3) := dk_183 0 9 (dk_at dksX11_time_0 2 rfl rfl)
theorem dX11_time_5 : decode cX11_time 5 = .ok (.iconst 3, 1) := dk_6 (dk_at dksX11_time_0 5 rfl rfl)
theorem dX11_time_6 : decode cX11_time 6 = .ok (.iadd, 1) := dk_96 (dk_at dksX11_time_0 6 rfl rfl)
theorem dX11_time_7 : decode cX11_time 7 = .ok (.ireturn, 1) := dk_172 (dk_at dksX11_time_0 7 rfl rfl)
abbrev cX11_tires : ByteArray := prog_10_method_4_code
def yX11_tires : MethodName := ⟨RX11, "tires", "()I"⟩
def dkwX11_tires_0 : List UInt8 := [42, 183, 0, 13, 4, 96, 172]
abbrev dktX11_tires_0 : List UInt8 := dkwX11_tires_0 ++ []
theorem dksX11_tires_0 : cX11_tires.data.toList.drop 0 = dktX11_tires_0 := by decide +kernel
theorem dX11_tires_0 : decode cX11_tires 0 = .ok (.aload_n 0, 1) := dk_42 (dk_at dksX11_tires_0 0 rfl rfl)
theorem dX11_tires_1 : decode cX11_tires 1 = .ok (.invokespecial 13, 3) := dk_183 0 13 (dk_at dksX11_tires_0 1 rfl rfl)
theorem dX11_tires_4 : decode cX11_tires 4 = .ok (.iconst 1, 1) := dk_4 (dk_at dksX11_tires_0 4 rfl rfl)
theorem dX11_tires_5 : decode cX11_tires 5 = .ok (.iadd, 1) := dk_96 (dk_at dksX11_tires_0 5 rfl rfl)
theorem dX11_tires_6 : decode cX11_tires 6 = .ok (.ireturn, 1) := dk_172 (dk_at dksX11_tires_0 6 rfl rfl)
abbrev cX11_kind : ByteArray := prog_10_method_2_code
def yX11_kind : MethodName := ⟨RX11, "kind", "()I"⟩
theorem dX11_kind_0 : decode cX11_kind 0 = .ok (.iconst 3, 1) := by decide +kernel
theorem dX11_kind_1 : decode cX11_kind 1 = .ok (.ireturn, 1) := by decide +kernel
abbrev cX11_cost : ByteArray := prog_10_method_5_code
def yX11_cost : MethodName := ⟨RX11, "cost", "()I"⟩
theorem dX11_cost_0 : decode cX11_cost 0 = .ok (.iconst 1, 1) := by decide +kernel
theorem dX11_cost_1 : decode cX11_cost 1 = .ok (.ireturn, 1) := by decide +kernel
abbrev cX11_failure : ByteArray := prog_10_method_6_code
def yX11_failure : MethodName := ⟨RX11, "failure", "()LSideBySide$Tossed;"⟩
theorem dX11_failure_0 : decode cX11_failure 0 = .ok (.aconst_null, 1) := by decide +kernel
theorem dX11_failure_1 : decode cX11_failure 1 = .ok (.areturn, 1) := by decide +kernel
theorem q84 : (Jvm.Cond.initialized "SideBySide$Lift") ∈ lw_all := lw_g (lw_at lw_m1 18 rfl) rfl
theorem q353 : (Jvm.Cond.instantiable "SideBySide$Lift" (1 : Nat)) ∈ lw_all := lw_g (lw_at lw_m2 47 rfl) rfl
theorem q355 : (Jvm.Cond.instanceMethod ({ cls := "SideBySide$Lift", name := "<init>", desc := "(I)V" } : Jvm.MethodName)) ∈ lw_all := lw_g (lw_at lw_m2 49 rfl) rfl
theorem q356 : (Jvm.Cond.code ({ cls := "SideBySide$Lift", name := "<init>", desc := "(I)V" } : Jvm.MethodName) prog_10_method_1_code (2 : Nat) (Option.none : Option Jvm.ClassFile.FieldType)) ∈ lw_all := lw_g (lw_at lw_m2 50 rfl) rfl
theorem q357 : (Jvm.Cond.methodLink "SideBySide$Lift" (3 : Nat) ({ cls := "SideBySide$Stroke", name := "<init>", desc := "(I)V" } : Jvm.MethodName)) ∈ lw_all := lw_g (lw_at lw_m2 51 rfl) rfl
theorem q358 : (Jvm.Cond.laysFinal "SideBySide$Lift" "SideBySide$Stroke" "figure" "I") ∈ lw_all := lw_g (lw_at lw_m2 52 rfl) rfl
theorem q359 : (Jvm.Cond.superclass "SideBySide$Lift" "SideBySide$Stroke") ∈ lw_all := lw_g (lw_at lw_m2 53 rfl) rfl
theorem q432 : (Jvm.Cond.unhidden "SideBySide$Lift" "falls" "(II)I") ∈ lw_tbl := lw_at lw_m2 126 rfl
theorem q466 : (Jvm.Cond.instanceMethod ({ cls := "SideBySide$Lift", name := "time", desc := "(I)I" } : Jvm.MethodName)) ∈ lw_all := lw_g (lw_at lw_m2 160 rfl) rfl
theorem q467 : (Jvm.Cond.code ({ cls := "SideBySide$Lift", name := "time", desc := "(I)I" } : Jvm.MethodName) prog_10_method_3_code (2 : Nat) (Option.some Jvm.ClassFile.FieldType.int)) ∈ lw_all := lw_g (lw_at lw_m2 161 rfl) rfl
theorem q468 : (Jvm.Cond.methodLink "SideBySide$Lift" (9 : Nat) ({ cls := "SideBySide$Stroke", name := "time", desc := "(I)I" } : Jvm.MethodName)) ∈ lw_all := lw_g (lw_at lw_m2 162 rfl) rfl
theorem q469 : (Jvm.Cond.selects "SideBySide$Lift" ({ cls := "SideBySide$Stroke", name := "time", desc := "(I)I" } : Jvm.MethodName) ({ cls := "SideBySide$Lift", name := "time", desc := "(I)I" } : Jvm.MethodName)) ∈ lw_all := lw_g (lw_at lw_m2 163 rfl) rfl
theorem q493 : (Jvm.Cond.instanceMethod ({ cls := "SideBySide$Lift", name := "tires", desc := "()I" } : Jvm.MethodName)) ∈ lw_all := lw_g (lw_at lw_m2 187 rfl) rfl
theorem q494 : (Jvm.Cond.code ({ cls := "SideBySide$Lift", name := "tires", desc := "()I" } : Jvm.MethodName) prog_10_method_4_code (1 : Nat) (Option.some Jvm.ClassFile.FieldType.int)) ∈ lw_all := lw_g (lw_at lw_m2 188 rfl) rfl
theorem q495 : (Jvm.Cond.selects "SideBySide$Lift" ({ cls := "SideBySide$Tires", name := "tires", desc := "()I" } : Jvm.MethodName) ({ cls := "SideBySide$Lift", name := "tires", desc := "()I" } : Jvm.MethodName)) ∈ lw_all := lw_g (lw_at lw_m2 189 rfl) rfl
theorem q588 : (Jvm.Cond.selects "SideBySide$Lift" ({ cls := "SideBySide$Stroke", name := "kind", desc := "()I" } : Jvm.MethodName) ({ cls := "SideBySide$Lift", name := "kind", desc := "()I" } : Jvm.MethodName)) ∈ lw_all := lw_g (lw_at lw_m3 42 rfl) rfl
theorem q589 : (Jvm.Cond.instanceMethod ({ cls := "SideBySide$Lift", name := "kind", desc := "()I" } : Jvm.MethodName)) ∈ lw_all := lw_g (lw_at lw_m3 43 rfl) rfl
theorem q590 : (Jvm.Cond.code ({ cls := "SideBySide$Lift", name := "kind", desc := "()I" } : Jvm.MethodName) prog_10_method_2_code (1 : Nat) (Option.some Jvm.ClassFile.FieldType.int)) ∈ lw_all := lw_g (lw_at lw_m3 44 rfl) rfl
theorem q1061 : (Jvm.Cond.instanceMethod ({ cls := "SideBySide$Lift", name := "cost", desc := "()I" } : Jvm.MethodName)) ∈ lw_all := lw_g (lw_at lw_m5 35 rfl) rfl
theorem q1062 : (Jvm.Cond.code ({ cls := "SideBySide$Lift", name := "cost", desc := "()I" } : Jvm.MethodName) prog_10_method_5_code (1 : Nat) (Option.some Jvm.ClassFile.FieldType.int)) ∈ lw_all := lw_g (lw_at lw_m5 36 rfl) rfl
theorem q1063 : (Jvm.Cond.selects "SideBySide$Lift" ({ cls := "SideBySide$Stroke", name := "cost", desc := "()I" } : Jvm.MethodName) ({ cls := "SideBySide$Lift", name := "cost", desc := "()I" } : Jvm.MethodName)) ∈ lw_all := lw_g (lw_at lw_m5 37 rfl) rfl
theorem q1110 : (Jvm.Cond.instanceMethod ({ cls := "SideBySide$Lift", name := "failure", desc := "()LSideBySide$Tossed;" } : Jvm.MethodName)) ∈ lw_all := lw_g (lw_at lw_m5 84 rfl) rfl
theorem q1111 : (Jvm.Cond.code ({ cls := "SideBySide$Lift", name := "failure", desc := "()LSideBySide$Tossed;" } : Jvm.MethodName) prog_10_method_6_code (1 : Nat) (Option.some (Jvm.ClassFile.FieldType.object "SideBySide$Tossed"))) ∈ lw_all := lw_g (lw_at lw_m5 85 rfl) rfl
theorem q1112 : (Jvm.Cond.selects "SideBySide$Lift" ({ cls := "SideBySide$Stroke", name := "failure", desc := "()LSideBySide$Tossed;" } : Jvm.MethodName) ({ cls := "SideBySide$Lift", name := "failure", desc := "()LSideBySide$Tossed;" } : Jvm.MethodName)) ∈ lw_all := lw_g (lw_at lw_m5 86 rfl) rfl
theorem q1612 : (Jvm.Cond.sameMethod "SideBySide$Lift" "SideBySide$Lift" "time" "(I)I") ∈ lw_all := lw_g (lw_at lw_m7 106 rfl) rfl
theorem q1614 : (Jvm.Cond.sameMethod "SideBySide$Lift" "SideBySide$Lift" "tires" "()I") ∈ lw_all := lw_g (lw_at lw_m7 108 rfl) rfl
theorem q1615 : (Jvm.Cond.sameMethod "SideBySide$Lift" "SideBySide$Lift" "cost" "()I") ∈ lw_all := lw_g (lw_at lw_m7 109 rfl) rfl
theorem q1623 : (Jvm.Cond.castable "SideBySide$Lift" "SideBySide$Stroke") ∈ lw_tbl := lw_at lw_m7 117 rfl
theorem in_X11 : ∀ w ∈ wsX110, w ∈ lw_all := lw_in wsX110 [358] (by decide +kernel) (by decide +kernel)
/-! SideBySide$Push -/
set_option maxRecDepth 100000
def RX12 : String := "SideBySide$Push"
def TX12 : u_T := fun k => match k with
  | _ => ("SideBySide$Stroke", "figure", "I", true)
def tyX12 : Nat → FieldType := fun k => match k with
  | _ => .int
abbrev wsX120 : List Cond := u_ws RX12 TX12 1
theorem nmX12 : ∀ a, a < 1 → ∀ b, b < 1 → a ≠ b → (TX12 a).2.1 ≠ (TX12 b).2.1 := by decide +kernel
theorem tyX12_ok : ∀ k, k < 1 → parseFieldDescriptor (TX12 k).2.2.1 = some (tyX12 k) := by decide +kernel
abbrev cX12_init : ByteArray := prog_11_method_1_code
def yX12_init : MethodName := ⟨RX12, "<init>", "(I)V"⟩
def dkwX12_init_0 : List UInt8 := [42, 27, 183, 0, 3, 177]
abbrev dktX12_init_0 : List UInt8 := dkwX12_init_0 ++ []
theorem dksX12_init_0 : cX12_init.data.toList.drop 0 = dktX12_init_0 := by decide +kernel
theorem dX12_init_0 : decode cX12_init 0 = .ok (.aload_n 0, 1) := dk_42 (dk_at dksX12_init_0 0 rfl rfl)
theorem dX12_init_1 : decode cX12_init 1 = .ok (.iload_n 1, 1) := dk_27 (dk_at dksX12_init_0 1 rfl rfl)
theorem dX12_init_2 : decode cX12_init 2 = .ok (.invokespecial 3, 3) := dk_183 0 3 (dk_at dksX12_init_0 2 rfl rfl)
theorem dX12_init_5 : decode cX12_init 5 = .ok (.return_, 1) := dk_177 (dk_at dksX12_init_0 5 rfl rfl)
abbrev cX12_time : ByteArray := prog_11_method_3_code
def yX12_time : MethodName := ⟨RX12, "time", "(I)I"⟩
def dkwX12_time_0 : List UInt8 := [42, 27, 183, 0, 9, 4, 100, 172]
abbrev dktX12_time_0 : List UInt8 := dkwX12_time_0 ++ []
theorem dksX12_time_0 : cX12_time.data.toList.drop 0 = dktX12_time_0 := by decide +kernel
theorem dX12_time_0 : decode cX12_time 0 = .ok (.aload_n 0, 1) := dk_42 (dk_at dksX12_time_0 0 rfl rfl)
theorem dX12_time_1 : decode cX12_time 1 = .ok (.iload_n 1, 1) := dk_27 (dk_at dksX12_time_0 1 rfl rfl)
theorem dX12_time_2 : decode cX12_time 2 = .ok (.invokespecial 9, 3) := dk_183 0 9 (dk_at dksX12_time_0 2 rfl rfl)
theorem dX12_time_5 : decode cX12_time 5 = .ok (.iconst 1, 1) := dk_4 (dk_at dksX12_time_0 5 rfl rfl)
theorem dX12_time_6 : decode cX12_time 6 = .ok (.isub, 1) := dk_100 (dk_at dksX12_time_0 6 rfl rfl)
theorem dX12_time_7 : decode cX12_time 7 = .ok (.ireturn, 1) := dk_172 (dk_at dksX12_time_0 7 rfl rfl)
abbrev cX12_kind : ByteArray := prog_11_method_2_code
def yX12_kind : MethodName := ⟨RX12, "kind", "()I"⟩
theorem dX12_kind_0 : decode cX12_kind 0 = .ok (.iconst 4, 1) := by decide +kernel
theorem dX12_kind_1 : decode cX12_kind 1 = .ok (.ireturn, 1) := by decide +kernel
abbrev cX12_cost : ByteArray := prog_11_method_4_code
def yX12_cost : MethodName := ⟨RX12, "cost", "()I"⟩
def dkwX12_cost_0 : List UInt8 := [42, 183, 0, 13, 5, 108, 172]
abbrev dktX12_cost_0 : List UInt8 := dkwX12_cost_0 ++ []
theorem dksX12_cost_0 : cX12_cost.data.toList.drop 0 = dktX12_cost_0 := by decide +kernel
theorem dX12_cost_0 : decode cX12_cost 0 = .ok (.aload_n 0, 1) := dk_42 (dk_at dksX12_cost_0 0 rfl rfl)
theorem dX12_cost_1 : decode cX12_cost 1 = .ok (.invokespecial 13, 3) := dk_183 0 13 (dk_at dksX12_cost_0 1 rfl rfl)
theorem dX12_cost_4 : decode cX12_cost 4 = .ok (.iconst 2, 1) := dk_5 (dk_at dksX12_cost_0 4 rfl rfl)
theorem dX12_cost_5 : decode cX12_cost 5 = .ok (.idiv, 1) := dk_108 (dk_at dksX12_cost_0 5 rfl rfl)
theorem dX12_cost_6 : decode cX12_cost 6 = .ok (.ireturn, 1) := dk_172 (dk_at dksX12_cost_0 6 rfl rfl)
abbrev cX12_failure : ByteArray := prog_11_method_5_code
def yX12_failure : MethodName := ⟨RX12, "failure", "()LSideBySide$Tossed;"⟩
def dkwX12_failure_1 : List UInt8 := [183, 0, 26, 176]
abbrev dktX12_failure_1 : List UInt8 := dkwX12_failure_1 ++ []
def dkwX12_failure_0 : List UInt8 := [42, 183, 0, 17, 199, 0, 7, 1, 167, 0, 18, 187, 0, 21, 89, 17, 0, 200, 42, 182, 0, 23, 96]
abbrev dktX12_failure_0 : List UInt8 := dkwX12_failure_0 ++ dktX12_failure_1
theorem dksX12_failure_0 : cX12_failure.data.toList.drop 0 = dktX12_failure_0 := by decide +kernel
theorem dksX12_failure_1 : cX12_failure.data.toList.drop 23 = dktX12_failure_1 := dk_seg dksX12_failure_0 23 rfl rfl
theorem dX12_failure_0 : decode cX12_failure 0 = .ok (.aload_n 0, 1) := dk_42 (dk_at dksX12_failure_0 0 rfl rfl)
theorem dX12_failure_1 : decode cX12_failure 1 = .ok (.invokespecial 17, 3) := dk_183 0 17 (dk_at dksX12_failure_0 1 rfl rfl)
theorem dX12_failure_4 : decode cX12_failure 4 = .ok (.ifnonnull 7, 3) := dk_199 0 7 (dk_at dksX12_failure_0 4 rfl rfl)
theorem dX12_failure_7 : decode cX12_failure 7 = .ok (.aconst_null, 1) := dk_1 (dk_at dksX12_failure_0 7 rfl rfl)
theorem dX12_failure_8 : decode cX12_failure 8 = .ok (.goto 18, 3) := dk_167 0 18 (dk_at dksX12_failure_0 8 rfl rfl)
theorem dX12_failure_11 : decode cX12_failure 11 = .ok (.new 21, 3) := dk_187 0 21 (dk_at dksX12_failure_0 11 rfl rfl)
theorem dX12_failure_14 : decode cX12_failure 14 = .ok (.dup, 1) := dk_89 (dk_at dksX12_failure_0 14 rfl rfl)
theorem dX12_failure_15 : decode cX12_failure 15 = .ok (.sipush 200, 3) := dk_17 0 200 (dk_at dksX12_failure_0 15 rfl rfl)
theorem dX12_failure_18 : decode cX12_failure 18 = .ok (.aload_n 0, 1) := dk_42 (dk_at dksX12_failure_0 18 rfl rfl)
theorem dX12_failure_19 : decode cX12_failure 19 = .ok (.invokevirtual 23, 3) := dk_182 0 23 (dk_at dksX12_failure_0 19 rfl rfl)
theorem dX12_failure_22 : decode cX12_failure 22 = .ok (.iadd, 1) := dk_96 (dk_at dksX12_failure_0 22 rfl rfl)
theorem dX12_failure_23 : decode cX12_failure 23 = .ok (.invokespecial 26, 3) := dk_183 0 26 (dk_at dksX12_failure_1 0 rfl rfl)
theorem dX12_failure_26 : decode cX12_failure 26 = .ok (.areturn, 1) := dk_176 (dk_at dksX12_failure_1 3 rfl rfl)
theorem q85 : (Jvm.Cond.initialized "SideBySide$Push") ∈ lw_all := lw_g (lw_at lw_m1 19 rfl) rfl
theorem q361 : (Jvm.Cond.instantiable "SideBySide$Push" (1 : Nat)) ∈ lw_all := lw_g (lw_at lw_m2 55 rfl) rfl
theorem q363 : (Jvm.Cond.instanceMethod ({ cls := "SideBySide$Push", name := "<init>", desc := "(I)V" } : Jvm.MethodName)) ∈ lw_all := lw_g (lw_at lw_m2 57 rfl) rfl
theorem q364 : (Jvm.Cond.code ({ cls := "SideBySide$Push", name := "<init>", desc := "(I)V" } : Jvm.MethodName) prog_11_method_1_code (2 : Nat) (Option.none : Option Jvm.ClassFile.FieldType)) ∈ lw_all := lw_g (lw_at lw_m2 58 rfl) rfl
theorem q365 : (Jvm.Cond.methodLink "SideBySide$Push" (3 : Nat) ({ cls := "SideBySide$Drop", name := "<init>", desc := "(I)V" } : Jvm.MethodName)) ∈ lw_all := lw_g (lw_at lw_m2 59 rfl) rfl
theorem q366 : (Jvm.Cond.laysFinal "SideBySide$Push" "SideBySide$Stroke" "figure" "I") ∈ lw_all := lw_g (lw_at lw_m2 60 rfl) rfl
theorem q367 : (Jvm.Cond.superclass "SideBySide$Push" "SideBySide$Drop") ∈ lw_all := lw_g (lw_at lw_m2 61 rfl) rfl
theorem q433 : (Jvm.Cond.unhidden "SideBySide$Push" "falls" "(II)I") ∈ lw_tbl := lw_at lw_m2 127 rfl
theorem q470 : (Jvm.Cond.selects "SideBySide$Push" ({ cls := "SideBySide$Stroke", name := "time", desc := "(I)I" } : Jvm.MethodName) ({ cls := "SideBySide$Push", name := "time", desc := "(I)I" } : Jvm.MethodName)) ∈ lw_all := lw_g (lw_at lw_m2 164 rfl) rfl
theorem q471 : (Jvm.Cond.instanceMethod ({ cls := "SideBySide$Push", name := "time", desc := "(I)I" } : Jvm.MethodName)) ∈ lw_all := lw_g (lw_at lw_m2 165 rfl) rfl
theorem q472 : (Jvm.Cond.code ({ cls := "SideBySide$Push", name := "time", desc := "(I)I" } : Jvm.MethodName) prog_11_method_3_code (2 : Nat) (Option.some Jvm.ClassFile.FieldType.int)) ∈ lw_all := lw_g (lw_at lw_m2 166 rfl) rfl
theorem q473 : (Jvm.Cond.methodLink "SideBySide$Push" (9 : Nat) ({ cls := "SideBySide$Drop", name := "time", desc := "(I)I" } : Jvm.MethodName)) ∈ lw_all := lw_g (lw_at lw_m2 167 rfl) rfl
theorem q496 : (Jvm.Cond.selects "SideBySide$Push" ({ cls := "SideBySide$Tires", name := "tires", desc := "()I" } : Jvm.MethodName) ({ cls := "SideBySide$Drop", name := "tires", desc := "()I" } : Jvm.MethodName)) ∈ lw_all := lw_g (lw_at lw_m2 190 rfl) rfl
theorem q591 : (Jvm.Cond.selects "SideBySide$Push" ({ cls := "SideBySide$Stroke", name := "kind", desc := "()I" } : Jvm.MethodName) ({ cls := "SideBySide$Push", name := "kind", desc := "()I" } : Jvm.MethodName)) ∈ lw_all := lw_g (lw_at lw_m3 45 rfl) rfl
theorem q592 : (Jvm.Cond.instanceMethod ({ cls := "SideBySide$Push", name := "kind", desc := "()I" } : Jvm.MethodName)) ∈ lw_all := lw_g (lw_at lw_m3 46 rfl) rfl
theorem q593 : (Jvm.Cond.code ({ cls := "SideBySide$Push", name := "kind", desc := "()I" } : Jvm.MethodName) prog_11_method_2_code (1 : Nat) (Option.some Jvm.ClassFile.FieldType.int)) ∈ lw_all := lw_g (lw_at lw_m3 47 rfl) rfl
theorem q1064 : (Jvm.Cond.selects "SideBySide$Push" ({ cls := "SideBySide$Stroke", name := "cost", desc := "()I" } : Jvm.MethodName) ({ cls := "SideBySide$Push", name := "cost", desc := "()I" } : Jvm.MethodName)) ∈ lw_all := lw_g (lw_at lw_m5 38 rfl) rfl
theorem q1065 : (Jvm.Cond.instanceMethod ({ cls := "SideBySide$Push", name := "cost", desc := "()I" } : Jvm.MethodName)) ∈ lw_all := lw_g (lw_at lw_m5 39 rfl) rfl
theorem q1066 : (Jvm.Cond.code ({ cls := "SideBySide$Push", name := "cost", desc := "()I" } : Jvm.MethodName) prog_11_method_4_code (1 : Nat) (Option.some Jvm.ClassFile.FieldType.int)) ∈ lw_all := lw_g (lw_at lw_m5 40 rfl) rfl
theorem q1067 : (Jvm.Cond.methodLink "SideBySide$Push" (13 : Nat) ({ cls := "SideBySide$Drop", name := "cost", desc := "()I" } : Jvm.MethodName)) ∈ lw_all := lw_g (lw_at lw_m5 41 rfl) rfl
theorem q1113 : (Jvm.Cond.selects "SideBySide$Push" ({ cls := "SideBySide$Stroke", name := "failure", desc := "()LSideBySide$Tossed;" } : Jvm.MethodName) ({ cls := "SideBySide$Push", name := "failure", desc := "()LSideBySide$Tossed;" } : Jvm.MethodName)) ∈ lw_all := lw_g (lw_at lw_m5 87 rfl) rfl
theorem q1114 : (Jvm.Cond.instanceMethod ({ cls := "SideBySide$Push", name := "failure", desc := "()LSideBySide$Tossed;" } : Jvm.MethodName)) ∈ lw_all := lw_g (lw_at lw_m5 88 rfl) rfl
theorem q1115 : (Jvm.Cond.code ({ cls := "SideBySide$Push", name := "failure", desc := "()LSideBySide$Tossed;" } : Jvm.MethodName) prog_11_method_5_code (1 : Nat) (Option.some (Jvm.ClassFile.FieldType.object "SideBySide$Tossed"))) ∈ lw_all := lw_g (lw_at lw_m5 89 rfl) rfl
theorem q1116 : (Jvm.Cond.methodLink "SideBySide$Push" (17 : Nat) ({ cls := "SideBySide$Drop", name := "failure", desc := "()LSideBySide$Tossed;" } : Jvm.MethodName)) ∈ lw_all := lw_g (lw_at lw_m5 90 rfl) rfl
theorem q1117 : (Jvm.Cond.classLink "SideBySide$Push" (21 : Nat) "SideBySide$Tossed") ∈ lw_all := lw_g (lw_at lw_m5 91 rfl) rfl
theorem q1118 : (Jvm.Cond.methodLink "SideBySide$Push" (23 : Nat) ({ cls := "SideBySide$Push", name := "cost", desc := "()I" } : Jvm.MethodName)) ∈ lw_all := lw_g (lw_at lw_m5 92 rfl) rfl
theorem q1119 : (Jvm.Cond.methodLink "SideBySide$Push" (26 : Nat) ({ cls := "SideBySide$Tossed", name := "<init>", desc := "(I)V" } : Jvm.MethodName)) ∈ lw_all := lw_g (lw_at lw_m5 93 rfl) rfl
theorem q1618 : (Jvm.Cond.selects "SideBySide$Push" ({ cls := "SideBySide$Push", name := "cost", desc := "()I" } : Jvm.MethodName) ({ cls := "SideBySide$Push", name := "cost", desc := "()I" } : Jvm.MethodName)) ∈ lw_all := lw_g (lw_at lw_m7 112 rfl) rfl
theorem q1624 : (Jvm.Cond.castable "SideBySide$Push" "SideBySide$Stroke") ∈ lw_tbl := lw_at lw_m7 118 rfl
theorem in_X12 : ∀ w ∈ wsX120, w ∈ lw_all := lw_in wsX120 [366] (by decide +kernel) (by decide +kernel)
/-! SideBySide$Flick -/
set_option maxRecDepth 100000
def RX13 : String := "SideBySide$Flick"
def TX13 : u_T := fun k => match k with
  | _ => ("SideBySide$Stroke", "figure", "I", true)
def tyX13 : Nat → FieldType := fun k => match k with
  | _ => .int
abbrev wsX130 : List Cond := u_ws RX13 TX13 1
theorem nmX13 : ∀ a, a < 1 → ∀ b, b < 1 → a ≠ b → (TX13 a).2.1 ≠ (TX13 b).2.1 := by decide +kernel
theorem tyX13_ok : ∀ k, k < 1 → parseFieldDescriptor (TX13 k).2.2.1 = some (tyX13 k) := by decide +kernel
abbrev cX13_init : ByteArray := prog_9_method_1_code
def yX13_init : MethodName := ⟨RX13, "<init>", "(I)V"⟩
def dkwX13_init_0 : List UInt8 := [42, 27, 183, 0, 3, 177]
abbrev dktX13_init_0 : List UInt8 := dkwX13_init_0 ++ []
theorem dksX13_init_0 : cX13_init.data.toList.drop 0 = dktX13_init_0 := by decide +kernel
theorem dX13_init_0 : decode cX13_init 0 = .ok (.aload_n 0, 1) := dk_42 (dk_at dksX13_init_0 0 rfl rfl)
theorem dX13_init_1 : decode cX13_init 1 = .ok (.iload_n 1, 1) := dk_27 (dk_at dksX13_init_0 1 rfl rfl)
theorem dX13_init_2 : decode cX13_init 2 = .ok (.invokespecial 3, 3) := dk_183 0 3 (dk_at dksX13_init_0 2 rfl rfl)
theorem dX13_init_5 : decode cX13_init 5 = .ok (.return_, 1) := dk_177 (dk_at dksX13_init_0 5 rfl rfl)
abbrev cX13_time : ByteArray := prog_9_method_3_code
def yX13_time : MethodName := ⟨RX13, "time", "(I)I"⟩
def dkwX13_time_0 : List UInt8 := [42, 27, 183, 0, 9, 5, 108, 172]
abbrev dktX13_time_0 : List UInt8 := dkwX13_time_0 ++ []
theorem dksX13_time_0 : cX13_time.data.toList.drop 0 = dktX13_time_0 := by decide +kernel
theorem dX13_time_0 : decode cX13_time 0 = .ok (.aload_n 0, 1) := dk_42 (dk_at dksX13_time_0 0 rfl rfl)
theorem dX13_time_1 : decode cX13_time 1 = .ok (.iload_n 1, 1) := dk_27 (dk_at dksX13_time_0 1 rfl rfl)
theorem dX13_time_2 : decode cX13_time 2 = .ok (.invokespecial 9, 3) := dk_183 0 9 (dk_at dksX13_time_0 2 rfl rfl)
theorem dX13_time_5 : decode cX13_time 5 = .ok (.iconst 2, 1) := dk_5 (dk_at dksX13_time_0 5 rfl rfl)
theorem dX13_time_6 : decode cX13_time 6 = .ok (.idiv, 1) := dk_108 (dk_at dksX13_time_0 6 rfl rfl)
theorem dX13_time_7 : decode cX13_time 7 = .ok (.ireturn, 1) := dk_172 (dk_at dksX13_time_0 7 rfl rfl)
abbrev cX13_tires : ByteArray := prog_9_method_4_code
def yX13_tires : MethodName := ⟨RX13, "tires", "()I"⟩
def dkwX13_tires_0 : List UInt8 := [42, 183, 0, 13, 4, 100, 172]
abbrev dktX13_tires_0 : List UInt8 := dkwX13_tires_0 ++ []
theorem dksX13_tires_0 : cX13_tires.data.toList.drop 0 = dktX13_tires_0 := by decide +kernel
theorem dX13_tires_0 : decode cX13_tires 0 = .ok (.aload_n 0, 1) := dk_42 (dk_at dksX13_tires_0 0 rfl rfl)
theorem dX13_tires_1 : decode cX13_tires 1 = .ok (.invokespecial 13, 3) := dk_183 0 13 (dk_at dksX13_tires_0 1 rfl rfl)
theorem dX13_tires_4 : decode cX13_tires 4 = .ok (.iconst 1, 1) := dk_4 (dk_at dksX13_tires_0 4 rfl rfl)
theorem dX13_tires_5 : decode cX13_tires 5 = .ok (.isub, 1) := dk_100 (dk_at dksX13_tires_0 5 rfl rfl)
theorem dX13_tires_6 : decode cX13_tires 6 = .ok (.ireturn, 1) := dk_172 (dk_at dksX13_tires_0 6 rfl rfl)
abbrev cX13_kind : ByteArray := prog_9_method_2_code
def yX13_kind : MethodName := ⟨RX13, "kind", "()I"⟩
theorem dX13_kind_0 : decode cX13_kind 0 = .ok (.iconst 5, 1) := by decide +kernel
theorem dX13_kind_1 : decode cX13_kind 1 = .ok (.ireturn, 1) := by decide +kernel
abbrev cX13_cost : ByteArray := prog_9_method_5_code
def yX13_cost : MethodName := ⟨RX13, "cost", "()I"⟩
def dkwX13_cost_0 : List UInt8 := [42, 183, 0, 17, 5, 96, 172]
abbrev dktX13_cost_0 : List UInt8 := dkwX13_cost_0 ++ []
theorem dksX13_cost_0 : cX13_cost.data.toList.drop 0 = dktX13_cost_0 := by decide +kernel
theorem dX13_cost_0 : decode cX13_cost 0 = .ok (.aload_n 0, 1) := dk_42 (dk_at dksX13_cost_0 0 rfl rfl)
theorem dX13_cost_1 : decode cX13_cost 1 = .ok (.invokespecial 17, 3) := dk_183 0 17 (dk_at dksX13_cost_0 1 rfl rfl)
theorem dX13_cost_4 : decode cX13_cost 4 = .ok (.iconst 2, 1) := dk_5 (dk_at dksX13_cost_0 4 rfl rfl)
theorem dX13_cost_5 : decode cX13_cost 5 = .ok (.iadd, 1) := dk_96 (dk_at dksX13_cost_0 5 rfl rfl)
theorem dX13_cost_6 : decode cX13_cost 6 = .ok (.ireturn, 1) := dk_172 (dk_at dksX13_cost_0 6 rfl rfl)
theorem q86 : (Jvm.Cond.initialized "SideBySide$Flick") ∈ lw_all := lw_g (lw_at lw_m1 20 rfl) rfl
theorem q369 : (Jvm.Cond.instantiable "SideBySide$Flick" (1 : Nat)) ∈ lw_all := lw_g (lw_at lw_m2 63 rfl) rfl
theorem q371 : (Jvm.Cond.instanceMethod ({ cls := "SideBySide$Flick", name := "<init>", desc := "(I)V" } : Jvm.MethodName)) ∈ lw_all := lw_g (lw_at lw_m2 65 rfl) rfl
theorem q372 : (Jvm.Cond.code ({ cls := "SideBySide$Flick", name := "<init>", desc := "(I)V" } : Jvm.MethodName) prog_9_method_1_code (2 : Nat) (Option.none : Option Jvm.ClassFile.FieldType)) ∈ lw_all := lw_g (lw_at lw_m2 66 rfl) rfl
theorem q373 : (Jvm.Cond.methodLink "SideBySide$Flick" (3 : Nat) ({ cls := "SideBySide$Lift", name := "<init>", desc := "(I)V" } : Jvm.MethodName)) ∈ lw_all := lw_g (lw_at lw_m2 67 rfl) rfl
theorem q374 : (Jvm.Cond.laysFinal "SideBySide$Flick" "SideBySide$Stroke" "figure" "I") ∈ lw_all := lw_g (lw_at lw_m2 68 rfl) rfl
theorem q375 : (Jvm.Cond.superclass "SideBySide$Flick" "SideBySide$Lift") ∈ lw_all := lw_g (lw_at lw_m2 69 rfl) rfl
theorem q431 : (Jvm.Cond.unhidden "SideBySide$Flick" "falls" "(II)I") ∈ lw_tbl := lw_at lw_m2 125 rfl
theorem q462 : (Jvm.Cond.selects "SideBySide$Flick" ({ cls := "SideBySide$Stroke", name := "time", desc := "(I)I" } : Jvm.MethodName) ({ cls := "SideBySide$Flick", name := "time", desc := "(I)I" } : Jvm.MethodName)) ∈ lw_all := lw_g (lw_at lw_m2 156 rfl) rfl
theorem q463 : (Jvm.Cond.instanceMethod ({ cls := "SideBySide$Flick", name := "time", desc := "(I)I" } : Jvm.MethodName)) ∈ lw_all := lw_g (lw_at lw_m2 157 rfl) rfl
theorem q464 : (Jvm.Cond.code ({ cls := "SideBySide$Flick", name := "time", desc := "(I)I" } : Jvm.MethodName) prog_9_method_3_code (2 : Nat) (Option.some Jvm.ClassFile.FieldType.int)) ∈ lw_all := lw_g (lw_at lw_m2 158 rfl) rfl
theorem q465 : (Jvm.Cond.methodLink "SideBySide$Flick" (9 : Nat) ({ cls := "SideBySide$Lift", name := "time", desc := "(I)I" } : Jvm.MethodName)) ∈ lw_all := lw_g (lw_at lw_m2 159 rfl) rfl
theorem q489 : (Jvm.Cond.selects "SideBySide$Flick" ({ cls := "SideBySide$Tires", name := "tires", desc := "()I" } : Jvm.MethodName) ({ cls := "SideBySide$Flick", name := "tires", desc := "()I" } : Jvm.MethodName)) ∈ lw_all := lw_g (lw_at lw_m2 183 rfl) rfl
theorem q490 : (Jvm.Cond.instanceMethod ({ cls := "SideBySide$Flick", name := "tires", desc := "()I" } : Jvm.MethodName)) ∈ lw_all := lw_g (lw_at lw_m2 184 rfl) rfl
theorem q491 : (Jvm.Cond.code ({ cls := "SideBySide$Flick", name := "tires", desc := "()I" } : Jvm.MethodName) prog_9_method_4_code (1 : Nat) (Option.some Jvm.ClassFile.FieldType.int)) ∈ lw_all := lw_g (lw_at lw_m2 185 rfl) rfl
theorem q492 : (Jvm.Cond.methodLink "SideBySide$Flick" (13 : Nat) ({ cls := "SideBySide$Lift", name := "tires", desc := "()I" } : Jvm.MethodName)) ∈ lw_all := lw_g (lw_at lw_m2 186 rfl) rfl
theorem q585 : (Jvm.Cond.selects "SideBySide$Flick" ({ cls := "SideBySide$Stroke", name := "kind", desc := "()I" } : Jvm.MethodName) ({ cls := "SideBySide$Flick", name := "kind", desc := "()I" } : Jvm.MethodName)) ∈ lw_all := lw_g (lw_at lw_m3 39 rfl) rfl
theorem q586 : (Jvm.Cond.instanceMethod ({ cls := "SideBySide$Flick", name := "kind", desc := "()I" } : Jvm.MethodName)) ∈ lw_all := lw_g (lw_at lw_m3 40 rfl) rfl
theorem q587 : (Jvm.Cond.code ({ cls := "SideBySide$Flick", name := "kind", desc := "()I" } : Jvm.MethodName) prog_9_method_2_code (1 : Nat) (Option.some Jvm.ClassFile.FieldType.int)) ∈ lw_all := lw_g (lw_at lw_m3 41 rfl) rfl
theorem q1057 : (Jvm.Cond.selects "SideBySide$Flick" ({ cls := "SideBySide$Stroke", name := "cost", desc := "()I" } : Jvm.MethodName) ({ cls := "SideBySide$Flick", name := "cost", desc := "()I" } : Jvm.MethodName)) ∈ lw_all := lw_g (lw_at lw_m5 31 rfl) rfl
theorem q1058 : (Jvm.Cond.instanceMethod ({ cls := "SideBySide$Flick", name := "cost", desc := "()I" } : Jvm.MethodName)) ∈ lw_all := lw_g (lw_at lw_m5 32 rfl) rfl
theorem q1059 : (Jvm.Cond.code ({ cls := "SideBySide$Flick", name := "cost", desc := "()I" } : Jvm.MethodName) prog_9_method_5_code (1 : Nat) (Option.some Jvm.ClassFile.FieldType.int)) ∈ lw_all := lw_g (lw_at lw_m5 33 rfl) rfl
theorem q1060 : (Jvm.Cond.methodLink "SideBySide$Flick" (17 : Nat) ({ cls := "SideBySide$Lift", name := "cost", desc := "()I" } : Jvm.MethodName)) ∈ lw_all := lw_g (lw_at lw_m5 34 rfl) rfl
theorem q1109 : (Jvm.Cond.selects "SideBySide$Flick" ({ cls := "SideBySide$Stroke", name := "failure", desc := "()LSideBySide$Tossed;" } : Jvm.MethodName) ({ cls := "SideBySide$Lift", name := "failure", desc := "()LSideBySide$Tossed;" } : Jvm.MethodName)) ∈ lw_all := lw_g (lw_at lw_m5 83 rfl) rfl
theorem q1622 : (Jvm.Cond.castable "SideBySide$Flick" "SideBySide$Stroke") ∈ lw_tbl := lw_at lw_m7 116 rfl
theorem in_X13 : ∀ w ∈ wsX130, w ∈ lw_all := lw_in wsX130 [374] (by decide +kernel) (by decide +kernel)
/-! SideBySide$Between -/
set_option maxRecDepth 100000
def RX14 : String := "SideBySide$Between"
def TX14 : u_T := fun k => match k with
  | _ => ("SideBySide$Stroke", "figure", "I", true)
def tyX14 : Nat → FieldType := fun k => match k with
  | _ => .int
abbrev wsX140 : List Cond := u_ws RX14 TX14 1
theorem nmX14 : ∀ a, a < 1 → ∀ b, b < 1 → a ≠ b → (TX14 a).2.1 ≠ (TX14 b).2.1 := by decide +kernel
theorem tyX14_ok : ∀ k, k < 1 → parseFieldDescriptor (TX14 k).2.2.1 = some (tyX14 k) := by decide +kernel
abbrev cX14_init : ByteArray := prog_2_method_1_code
def yX14_init : MethodName := ⟨RX14, "<init>", "(I)V"⟩
def dkwX14_init_0 : List UInt8 := [42, 27, 183, 0, 3, 177]
abbrev dktX14_init_0 : List UInt8 := dkwX14_init_0 ++ []
theorem dksX14_init_0 : cX14_init.data.toList.drop 0 = dktX14_init_0 := by decide +kernel
theorem dX14_init_0 : decode cX14_init 0 = .ok (.aload_n 0, 1) := dk_42 (dk_at dksX14_init_0 0 rfl rfl)
theorem dX14_init_1 : decode cX14_init 1 = .ok (.iload_n 1, 1) := dk_27 (dk_at dksX14_init_0 1 rfl rfl)
theorem dX14_init_2 : decode cX14_init 2 = .ok (.invokespecial 3, 3) := dk_183 0 3 (dk_at dksX14_init_0 2 rfl rfl)
theorem dX14_init_5 : decode cX14_init 5 = .ok (.return_, 1) := dk_177 (dk_at dksX14_init_0 5 rfl rfl)
abbrev cX14_falls : ByteArray := prog_2_method_3_code
def yX14_falls : MethodName := ⟨RX14, "falls", "(II)I"⟩
def dkwX14_falls_0 : List UInt8 := [6, 27, 184, 0, 9, 104, 4, 96, 172]
abbrev dktX14_falls_0 : List UInt8 := dkwX14_falls_0 ++ []
theorem dksX14_falls_0 : cX14_falls.data.toList.drop 0 = dktX14_falls_0 := by decide +kernel
theorem dX14_falls_0 : decode cX14_falls 0 = .ok (.iconst 3, 1) := dk_6 (dk_at dksX14_falls_0 0 rfl rfl)
theorem dX14_falls_1 : decode cX14_falls 1 = .ok (.iload_n 1, 1) := dk_27 (dk_at dksX14_falls_0 1 rfl rfl)
theorem dX14_falls_2 : decode cX14_falls 2 = .ok (.invokestatic 9, 3) := dk_184 0 9 (dk_at dksX14_falls_0 2 rfl rfl)
theorem dX14_falls_5 : decode cX14_falls 5 = .ok (.imul, 1) := dk_104 (dk_at dksX14_falls_0 5 rfl rfl)
theorem dX14_falls_6 : decode cX14_falls 6 = .ok (.iconst 1, 1) := dk_4 (dk_at dksX14_falls_0 6 rfl rfl)
theorem dX14_falls_7 : decode cX14_falls 7 = .ok (.iadd, 1) := dk_96 (dk_at dksX14_falls_0 7 rfl rfl)
theorem dX14_falls_8 : decode cX14_falls 8 = .ok (.ireturn, 1) := dk_172 (dk_at dksX14_falls_0 8 rfl rfl)
abbrev cX14_kind : ByteArray := prog_2_method_2_code
def yX14_kind : MethodName := ⟨RX14, "kind", "()I"⟩
theorem dX14_kind_0 : decode cX14_kind 0 = .ok (.bipush 6, 2) := by decide +kernel
theorem dX14_kind_2 : decode cX14_kind 2 = .ok (.ireturn, 1) := by decide +kernel
abbrev cX14_cost : ByteArray := prog_2_method_4_code
def yX14_cost : MethodName := ⟨RX14, "cost", "()I"⟩
theorem dX14_cost_0 : decode cX14_cost 0 = .ok (.aload_n 0, 1) := by decide +kernel
theorem dX14_cost_1 : decode cX14_cost 1 = .ok (.getfield 13, 3) := by decide +kernel
theorem dX14_cost_4 : decode cX14_cost 4 = .ok (.ireturn, 1) := by decide +kernel
theorem q87 : (Jvm.Cond.initialized "SideBySide$Between") ∈ lw_all := lw_g (lw_at lw_m1 21 rfl) rfl
theorem q328 : (Jvm.Cond.fieldLink "SideBySide$Between" (13 : Nat) "SideBySide$Between" "figure" "I") ∈ lw_all := lw_g (lw_at lw_m2 22 rfl) rfl
theorem q329 : (Jvm.Cond.sameField "SideBySide$Between" "SideBySide$Stroke" "figure" "I") ∈ lw_all := lw_g (lw_at lw_m2 23 rfl) rfl
theorem q377 : (Jvm.Cond.instantiable "SideBySide$Between" (1 : Nat)) ∈ lw_all := lw_g (lw_at lw_m2 71 rfl) rfl
theorem q379 : (Jvm.Cond.instanceMethod ({ cls := "SideBySide$Between", name := "<init>", desc := "(I)V" } : Jvm.MethodName)) ∈ lw_all := lw_g (lw_at lw_m2 73 rfl) rfl
theorem q380 : (Jvm.Cond.code ({ cls := "SideBySide$Between", name := "<init>", desc := "(I)V" } : Jvm.MethodName) prog_2_method_1_code (2 : Nat) (Option.none : Option Jvm.ClassFile.FieldType)) ∈ lw_all := lw_g (lw_at lw_m2 74 rfl) rfl
theorem q381 : (Jvm.Cond.methodLink "SideBySide$Between" (3 : Nat) ({ cls := "SideBySide$Stroke", name := "<init>", desc := "(I)V" } : Jvm.MethodName)) ∈ lw_all := lw_g (lw_at lw_m2 75 rfl) rfl
theorem q382 : (Jvm.Cond.laysFinal "SideBySide$Between" "SideBySide$Stroke" "figure" "I") ∈ lw_all := lw_g (lw_at lw_m2 76 rfl) rfl
theorem q383 : (Jvm.Cond.superclass "SideBySide$Between" "SideBySide$Stroke") ∈ lw_all := lw_g (lw_at lw_m2 77 rfl) rfl
theorem q424 : (Jvm.Cond.selects "SideBySide$Between" ({ cls := "SideBySide$Falls", name := "falls", desc := "(II)I" } : Jvm.MethodName) ({ cls := "SideBySide$Between", name := "falls", desc := "(II)I" } : Jvm.MethodName)) ∈ lw_all := lw_g (lw_at lw_m2 118 rfl) rfl
theorem q425 : (Jvm.Cond.instanceMethod ({ cls := "SideBySide$Between", name := "falls", desc := "(II)I" } : Jvm.MethodName)) ∈ lw_all := lw_g (lw_at lw_m2 119 rfl) rfl
theorem q426 : (Jvm.Cond.code ({ cls := "SideBySide$Between", name := "falls", desc := "(II)I" } : Jvm.MethodName) prog_2_method_3_code (3 : Nat) (Option.some Jvm.ClassFile.FieldType.int)) ∈ lw_all := lw_g (lw_at lw_m2 120 rfl) rfl
theorem q427 : (Jvm.Cond.methodLinkNest "SideBySide$Between" (9 : Nat) ({ cls := "SideBySide", name := "rowOf", desc := "(I)I" } : Jvm.MethodName) "SideBySide") ∈ lw_tbl := lw_at lw_m2 121 rfl
theorem q456 : (Jvm.Cond.selects "SideBySide$Between" ({ cls := "SideBySide$Stroke", name := "time", desc := "(I)I" } : Jvm.MethodName) ({ cls := "SideBySide$Stroke", name := "time", desc := "(I)I" } : Jvm.MethodName)) ∈ lw_all := lw_g (lw_at lw_m2 150 rfl) rfl
theorem q483 : (Jvm.Cond.unhidden "SideBySide$Between" "tires" "()I") ∈ lw_tbl := lw_at lw_m2 177 rfl
theorem q579 : (Jvm.Cond.selects "SideBySide$Between" ({ cls := "SideBySide$Stroke", name := "kind", desc := "()I" } : Jvm.MethodName) ({ cls := "SideBySide$Between", name := "kind", desc := "()I" } : Jvm.MethodName)) ∈ lw_all := lw_g (lw_at lw_m3 33 rfl) rfl
theorem q580 : (Jvm.Cond.instanceMethod ({ cls := "SideBySide$Between", name := "kind", desc := "()I" } : Jvm.MethodName)) ∈ lw_all := lw_g (lw_at lw_m3 34 rfl) rfl
theorem q581 : (Jvm.Cond.code ({ cls := "SideBySide$Between", name := "kind", desc := "()I" } : Jvm.MethodName) prog_2_method_2_code (1 : Nat) (Option.some Jvm.ClassFile.FieldType.int)) ∈ lw_all := lw_g (lw_at lw_m3 35 rfl) rfl
theorem q1050 : (Jvm.Cond.selects "SideBySide$Between" ({ cls := "SideBySide$Stroke", name := "cost", desc := "()I" } : Jvm.MethodName) ({ cls := "SideBySide$Between", name := "cost", desc := "()I" } : Jvm.MethodName)) ∈ lw_all := lw_g (lw_at lw_m5 24 rfl) rfl
theorem q1051 : (Jvm.Cond.instanceMethod ({ cls := "SideBySide$Between", name := "cost", desc := "()I" } : Jvm.MethodName)) ∈ lw_all := lw_g (lw_at lw_m5 25 rfl) rfl
theorem q1052 : (Jvm.Cond.code ({ cls := "SideBySide$Between", name := "cost", desc := "()I" } : Jvm.MethodName) prog_2_method_4_code (1 : Nat) (Option.some Jvm.ClassFile.FieldType.int)) ∈ lw_all := lw_g (lw_at lw_m5 26 rfl) rfl
theorem q1084 : (Jvm.Cond.selects "SideBySide$Between" ({ cls := "SideBySide$Stroke", name := "failure", desc := "()LSideBySide$Tossed;" } : Jvm.MethodName) ({ cls := "SideBySide$Stroke", name := "failure", desc := "()LSideBySide$Tossed;" } : Jvm.MethodName)) ∈ lw_all := lw_g (lw_at lw_m5 58 rfl) rfl
theorem q1620 : (Jvm.Cond.castable "SideBySide$Between" "SideBySide$Stroke") ∈ lw_tbl := lw_at lw_m7 114 rfl
theorem in_X14 : ∀ w ∈ wsX140, w ∈ lw_all := lw_in wsX140 [382] (by decide +kernel) (by decide +kernel)
/-! SideBySide$Wander -/
set_option maxRecDepth 100000
def RX15 : String := "SideBySide$Wander"
def TX15 : u_T := fun k => match k with
  | _ => ("SideBySide$Stroke", "figure", "I", true)
def tyX15 : Nat → FieldType := fun k => match k with
  | _ => .int
abbrev wsX150 : List Cond := u_ws RX15 TX15 1
theorem nmX15 : ∀ a, a < 1 → ∀ b, b < 1 → a ≠ b → (TX15 a).2.1 ≠ (TX15 b).2.1 := by decide +kernel
theorem tyX15_ok : ∀ k, k < 1 → parseFieldDescriptor (TX15 k).2.2.1 = some (tyX15 k) := by decide +kernel
abbrev cX15_init : ByteArray := prog_19_method_1_code
def yX15_init : MethodName := ⟨RX15, "<init>", "(I)V"⟩
def dkwX15_init_0 : List UInt8 := [42, 27, 183, 0, 1, 177]
abbrev dktX15_init_0 : List UInt8 := dkwX15_init_0 ++ []
theorem dksX15_init_0 : cX15_init.data.toList.drop 0 = dktX15_init_0 := by decide +kernel
theorem dX15_init_0 : decode cX15_init 0 = .ok (.aload_n 0, 1) := dk_42 (dk_at dksX15_init_0 0 rfl rfl)
theorem dX15_init_1 : decode cX15_init 1 = .ok (.iload_n 1, 1) := dk_27 (dk_at dksX15_init_0 1 rfl rfl)
theorem dX15_init_2 : decode cX15_init 2 = .ok (.invokespecial 1, 3) := dk_183 0 1 (dk_at dksX15_init_0 2 rfl rfl)
theorem dX15_init_5 : decode cX15_init 5 = .ok (.return_, 1) := dk_177 (dk_at dksX15_init_0 5 rfl rfl)
abbrev cX15_falls : ByteArray := prog_19_method_4_code
def yX15_falls : MethodName := ⟨RX15, "falls", "(II)I"⟩
def dkwX15_falls_0 : List UInt8 := [6, 27, 184, 0, 11, 104, 3, 5, 27, 184, 0, 16, 28, 96, 184, 0, 19, 184, 0, 25, 96, 172]
abbrev dktX15_falls_0 : List UInt8 := dkwX15_falls_0 ++ []
theorem dksX15_falls_0 : cX15_falls.data.toList.drop 0 = dktX15_falls_0 := by decide +kernel
theorem dX15_falls_0 : decode cX15_falls 0 = .ok (.iconst 3, 1) := dk_6 (dk_at dksX15_falls_0 0 rfl rfl)
theorem dX15_falls_1 : decode cX15_falls 1 = .ok (.iload_n 1, 1) := dk_27 (dk_at dksX15_falls_0 1 rfl rfl)
theorem dX15_falls_2 : decode cX15_falls 2 = .ok (.invokestatic 11, 3) := dk_184 0 11 (dk_at dksX15_falls_0 2 rfl rfl)
theorem dX15_falls_5 : decode cX15_falls 5 = .ok (.imul, 1) := dk_104 (dk_at dksX15_falls_0 5 rfl rfl)
theorem dX15_falls_6 : decode cX15_falls 6 = .ok (.iconst 0, 1) := dk_3 (dk_at dksX15_falls_0 6 rfl rfl)
theorem dX15_falls_7 : decode cX15_falls 7 = .ok (.iconst 2, 1) := dk_5 (dk_at dksX15_falls_0 7 rfl rfl)
theorem dX15_falls_8 : decode cX15_falls 8 = .ok (.iload_n 1, 1) := dk_27 (dk_at dksX15_falls_0 8 rfl rfl)
theorem dX15_falls_9 : decode cX15_falls 9 = .ok (.invokestatic 16, 3) := dk_184 0 16 (dk_at dksX15_falls_0 9 rfl rfl)
theorem dX15_falls_12 : decode cX15_falls 12 = .ok (.iload_n 2, 1) := dk_28 (dk_at dksX15_falls_0 12 rfl rfl)
theorem dX15_falls_13 : decode cX15_falls 13 = .ok (.iadd, 1) := dk_96 (dk_at dksX15_falls_0 13 rfl rfl)
theorem dX15_falls_14 : decode cX15_falls 14 = .ok (.invokestatic 19, 3) := dk_184 0 19 (dk_at dksX15_falls_0 14 rfl rfl)
theorem dX15_falls_17 : decode cX15_falls 17 = .ok (.invokestatic 25, 3) := dk_184 0 25 (dk_at dksX15_falls_0 17 rfl rfl)
theorem dX15_falls_20 : decode cX15_falls 20 = .ok (.iadd, 1) := dk_96 (dk_at dksX15_falls_0 20 rfl rfl)
theorem dX15_falls_21 : decode cX15_falls 21 = .ok (.ireturn, 1) := dk_172 (dk_at dksX15_falls_0 21 rfl rfl)
abbrev cX15_time : ByteArray := prog_19_method_3_code
def yX15_time : MethodName := ⟨RX15, "time", "(I)I"⟩
def dkwX15_time_0 : List UInt8 := [42, 27, 183, 0, 7, 4, 96, 172]
abbrev dktX15_time_0 : List UInt8 := dkwX15_time_0 ++ []
theorem dksX15_time_0 : cX15_time.data.toList.drop 0 = dktX15_time_0 := by decide +kernel
theorem dX15_time_0 : decode cX15_time 0 = .ok (.aload_n 0, 1) := dk_42 (dk_at dksX15_time_0 0 rfl rfl)
theorem dX15_time_1 : decode cX15_time 1 = .ok (.iload_n 1, 1) := dk_27 (dk_at dksX15_time_0 1 rfl rfl)
theorem dX15_time_2 : decode cX15_time 2 = .ok (.invokespecial 7, 3) := dk_183 0 7 (dk_at dksX15_time_0 2 rfl rfl)
theorem dX15_time_5 : decode cX15_time 5 = .ok (.iconst 1, 1) := dk_4 (dk_at dksX15_time_0 5 rfl rfl)
theorem dX15_time_6 : decode cX15_time 6 = .ok (.iadd, 1) := dk_96 (dk_at dksX15_time_0 6 rfl rfl)
theorem dX15_time_7 : decode cX15_time 7 = .ok (.ireturn, 1) := dk_172 (dk_at dksX15_time_0 7 rfl rfl)
abbrev cX15_kind : ByteArray := prog_19_method_2_code
def yX15_kind : MethodName := ⟨RX15, "kind", "()I"⟩
theorem dX15_kind_0 : decode cX15_kind 0 = .ok (.bipush 7, 2) := by decide +kernel
theorem dX15_kind_2 : decode cX15_kind 2 = .ok (.ireturn, 1) := by decide +kernel
abbrev cX15_cost : ByteArray := prog_19_method_5_code
def yX15_cost : MethodName := ⟨RX15, "cost", "()I"⟩
theorem dX15_cost_0 : decode cX15_cost 0 = .ok (.iconst 0, 1) := by decide +kernel
theorem dX15_cost_1 : decode cX15_cost 1 = .ok (.ireturn, 1) := by decide +kernel
theorem q88 : (Jvm.Cond.initialized "SideBySide$Wander") ∈ lw_all := lw_g (lw_at lw_m1 22 rfl) rfl
theorem q385 : (Jvm.Cond.instantiable "SideBySide$Wander" (1 : Nat)) ∈ lw_all := lw_g (lw_at lw_m2 79 rfl) rfl
theorem q387 : (Jvm.Cond.instanceMethod ({ cls := "SideBySide$Wander", name := "<init>", desc := "(I)V" } : Jvm.MethodName)) ∈ lw_all := lw_g (lw_at lw_m2 81 rfl) rfl
theorem q388 : (Jvm.Cond.code ({ cls := "SideBySide$Wander", name := "<init>", desc := "(I)V" } : Jvm.MethodName) prog_19_method_1_code (2 : Nat) (Option.none : Option Jvm.ClassFile.FieldType)) ∈ lw_all := lw_g (lw_at lw_m2 82 rfl) rfl
theorem q389 : (Jvm.Cond.methodLink "SideBySide$Wander" (1 : Nat) ({ cls := "SideBySide$Lift", name := "<init>", desc := "(I)V" } : Jvm.MethodName)) ∈ lw_all := lw_g (lw_at lw_m2 83 rfl) rfl
theorem q390 : (Jvm.Cond.laysFinal "SideBySide$Wander" "SideBySide$Stroke" "figure" "I") ∈ lw_all := lw_g (lw_at lw_m2 84 rfl) rfl
theorem q391 : (Jvm.Cond.superclass "SideBySide$Wander" "SideBySide$Lift") ∈ lw_all := lw_g (lw_at lw_m2 85 rfl) rfl
theorem q436 : (Jvm.Cond.selects "SideBySide$Wander" ({ cls := "SideBySide$Falls", name := "falls", desc := "(II)I" } : Jvm.MethodName) ({ cls := "SideBySide$Wander", name := "falls", desc := "(II)I" } : Jvm.MethodName)) ∈ lw_all := lw_g (lw_at lw_m2 130 rfl) rfl
theorem q437 : (Jvm.Cond.instanceMethod ({ cls := "SideBySide$Wander", name := "falls", desc := "(II)I" } : Jvm.MethodName)) ∈ lw_all := lw_g (lw_at lw_m2 131 rfl) rfl
theorem q438 : (Jvm.Cond.code ({ cls := "SideBySide$Wander", name := "falls", desc := "(II)I" } : Jvm.MethodName) prog_19_method_4_code (3 : Nat) (Option.some Jvm.ClassFile.FieldType.int)) ∈ lw_all := lw_g (lw_at lw_m2 132 rfl) rfl
theorem q439 : (Jvm.Cond.methodLinkNest "SideBySide$Wander" (11 : Nat) ({ cls := "SideBySide", name := "rowOf", desc := "(I)I" } : Jvm.MethodName) "SideBySide") ∈ lw_tbl := lw_at lw_m2 133 rfl
theorem q440 : (Jvm.Cond.methodLinkNest "SideBySide$Wander" (16 : Nat) ({ cls := "SideBySide", name := "columnOf", desc := "(I)I" } : Jvm.MethodName) "SideBySide") ∈ lw_tbl := lw_at lw_m2 134 rfl
theorem q443 : (Jvm.Cond.methodLink "SideBySide$Wander" (19 : Nat) ({ cls := "java/lang/Math", name := "min", desc := "(II)I" } : Jvm.MethodName)) ∈ lw_all := lw_g (lw_at lw_m2 137 rfl) rfl
theorem q446 : (Jvm.Cond.methodLink "SideBySide$Wander" (25 : Nat) ({ cls := "java/lang/Math", name := "max", desc := "(II)I" } : Jvm.MethodName)) ∈ lw_all := lw_g (lw_at lw_m2 140 rfl) rfl
theorem q477 : (Jvm.Cond.selects "SideBySide$Wander" ({ cls := "SideBySide$Stroke", name := "time", desc := "(I)I" } : Jvm.MethodName) ({ cls := "SideBySide$Wander", name := "time", desc := "(I)I" } : Jvm.MethodName)) ∈ lw_all := lw_g (lw_at lw_m2 171 rfl) rfl
theorem q478 : (Jvm.Cond.instanceMethod ({ cls := "SideBySide$Wander", name := "time", desc := "(I)I" } : Jvm.MethodName)) ∈ lw_all := lw_g (lw_at lw_m2 172 rfl) rfl
theorem q479 : (Jvm.Cond.code ({ cls := "SideBySide$Wander", name := "time", desc := "(I)I" } : Jvm.MethodName) prog_19_method_3_code (2 : Nat) (Option.some Jvm.ClassFile.FieldType.int)) ∈ lw_all := lw_g (lw_at lw_m2 173 rfl) rfl
theorem q480 : (Jvm.Cond.methodLink "SideBySide$Wander" (7 : Nat) ({ cls := "SideBySide$Lift", name := "time", desc := "(I)I" } : Jvm.MethodName)) ∈ lw_all := lw_g (lw_at lw_m2 174 rfl) rfl
theorem q501 : (Jvm.Cond.selects "SideBySide$Wander" ({ cls := "SideBySide$Tires", name := "tires", desc := "()I" } : Jvm.MethodName) ({ cls := "SideBySide$Lift", name := "tires", desc := "()I" } : Jvm.MethodName)) ∈ lw_all := lw_g (lw_at lw_m2 195 rfl) rfl
theorem q597 : (Jvm.Cond.selects "SideBySide$Wander" ({ cls := "SideBySide$Stroke", name := "kind", desc := "()I" } : Jvm.MethodName) ({ cls := "SideBySide$Wander", name := "kind", desc := "()I" } : Jvm.MethodName)) ∈ lw_all := lw_g (lw_at lw_m3 51 rfl) rfl
theorem q598 : (Jvm.Cond.instanceMethod ({ cls := "SideBySide$Wander", name := "kind", desc := "()I" } : Jvm.MethodName)) ∈ lw_all := lw_g (lw_at lw_m3 52 rfl) rfl
theorem q599 : (Jvm.Cond.code ({ cls := "SideBySide$Wander", name := "kind", desc := "()I" } : Jvm.MethodName) prog_19_method_2_code (1 : Nat) (Option.some Jvm.ClassFile.FieldType.int)) ∈ lw_all := lw_g (lw_at lw_m3 53 rfl) rfl
theorem q1071 : (Jvm.Cond.selects "SideBySide$Wander" ({ cls := "SideBySide$Stroke", name := "cost", desc := "()I" } : Jvm.MethodName) ({ cls := "SideBySide$Wander", name := "cost", desc := "()I" } : Jvm.MethodName)) ∈ lw_all := lw_g (lw_at lw_m5 45 rfl) rfl
theorem q1072 : (Jvm.Cond.instanceMethod ({ cls := "SideBySide$Wander", name := "cost", desc := "()I" } : Jvm.MethodName)) ∈ lw_all := lw_g (lw_at lw_m5 46 rfl) rfl
theorem q1073 : (Jvm.Cond.code ({ cls := "SideBySide$Wander", name := "cost", desc := "()I" } : Jvm.MethodName) prog_19_method_5_code (1 : Nat) (Option.some Jvm.ClassFile.FieldType.int)) ∈ lw_all := lw_g (lw_at lw_m5 47 rfl) rfl
theorem q1121 : (Jvm.Cond.selects "SideBySide$Wander" ({ cls := "SideBySide$Stroke", name := "failure", desc := "()LSideBySide$Tossed;" } : Jvm.MethodName) ({ cls := "SideBySide$Lift", name := "failure", desc := "()LSideBySide$Tossed;" } : Jvm.MethodName)) ∈ lw_all := lw_g (lw_at lw_m5 95 rfl) rfl
theorem q1626 : (Jvm.Cond.castable "SideBySide$Wander" "SideBySide$Stroke") ∈ lw_tbl := lw_at lw_m7 120 rfl
theorem in_X15 : ∀ w ∈ wsX150, w ∈ lw_all := lw_in wsX150 [390] (by decide +kernel) (by decide +kernel)
/-! SideBySide$Tossed -/
set_option maxRecDepth 100000
def RX16 : String := "SideBySide$Tossed"
def TX16 : u_T := fun k => match k with
  | 0 => ("java/lang/Throwable", "cause", "Ljava/lang/Throwable;", false)
  | 1 => ("java/lang/Throwable", "stackTrace", "[Ljava/lang/StackTraceElement;", false)
  | 2 => ("java/lang/Throwable", "suppressedExceptions", "Ljava/util/List;", false)
  | 3 => ("java/lang/Throwable", "detailMessage", "Ljava/lang/String;", false)
  | 4 => ("java/lang/Throwable", "backtrace", "Ljava/lang/Object;", false)
  | 5 => ("java/lang/Throwable", "depth", "I", false)
  | _ => ("SideBySide$Tossed", "n", "I", true)
def tyX16 : Nat → FieldType := fun k => match k with
  | 0 => .object "java/lang/Throwable"
  | 1 => .array (.object "java/lang/StackTraceElement")
  | 2 => .object "java/util/List"
  | 3 => .object "java/lang/String"
  | 4 => .object "java/lang/Object"
  | 5 => .int
  | _ => .int
abbrev wsX160 : List Cond := u_ws RX16 TX16 7
theorem nmX16 : ∀ a, a < 7 → ∀ b, b < 7 → a ≠ b → (TX16 a).2.1 ≠ (TX16 b).2.1 := by decide +kernel
theorem tyX16_ok : ∀ k, k < 7 → parseFieldDescriptor (TX16 k).2.2.1 = some (tyX16 k) := by decide +kernel
abbrev cX16_init : ByteArray := prog_18_method_1_code
def yX16_init : MethodName := ⟨RX16, "<init>", "(I)V"⟩
def dkwX16_init_0 : List UInt8 := [42, 183, 0, 1, 42, 27, 181, 0, 7, 177]
abbrev dktX16_init_0 : List UInt8 := dkwX16_init_0 ++ []
theorem dksX16_init_0 : cX16_init.data.toList.drop 0 = dktX16_init_0 := by decide +kernel
theorem dX16_init_0 : decode cX16_init 0 = .ok (.aload_n 0, 1) := dk_42 (dk_at dksX16_init_0 0 rfl rfl)
theorem dX16_init_1 : decode cX16_init 1 = .ok (.invokespecial 1, 3) := dk_183 0 1 (dk_at dksX16_init_0 1 rfl rfl)
theorem dX16_init_4 : decode cX16_init 4 = .ok (.aload_n 0, 1) := dk_42 (dk_at dksX16_init_0 4 rfl rfl)
theorem dX16_init_5 : decode cX16_init 5 = .ok (.iload_n 1, 1) := dk_27 (dk_at dksX16_init_0 5 rfl rfl)
theorem dX16_init_6 : decode cX16_init 6 = .ok (.putfield 7, 3) := dk_181 0 7 (dk_at dksX16_init_0 6 rfl rfl)
theorem dX16_init_9 : decode cX16_init 9 = .ok (.return_, 1) := dk_177 (dk_at dksX16_init_0 9 rfl rfl)
theorem q97 : (Jvm.Cond.initialized "SideBySide$Tossed") ∈ lw_all := lw_g (lw_at lw_m1 31 rfl) rfl
theorem q126 : (Jvm.Cond.selects "SideBySide$Tossed" ({ cls := "java/lang/Throwable", name := "fillInStackTrace", desc := "()Ljava/lang/Throwable;" } : Jvm.MethodName) ({ cls := "java/lang/Throwable", name := "fillInStackTrace", desc := "()Ljava/lang/Throwable;" } : Jvm.MethodName)) ∈ lw_all := lw_g (lw_at lw_m1 60 rfl) rfl
theorem q1090 : (Jvm.Cond.instantiable "SideBySide$Tossed" (7 : Nat)) ∈ lw_all := lw_g (lw_at lw_m5 64 rfl) rfl
theorem q1091 : (Jvm.Cond.castable "SideBySide$Tossed" "SideBySide$Tossed") ∈ lw_tbl := lw_at lw_m5 65 rfl
theorem q1092 : (Jvm.Cond.selects "SideBySide$Tossed" ({ cls := "java/lang/Throwable", name := "fillInStackTrace", desc := "(I)Ljava/lang/Throwable;" } : Jvm.MethodName) ({ cls := "java/lang/Throwable", name := "fillInStackTrace", desc := "(I)Ljava/lang/Throwable;" } : Jvm.MethodName)) ∈ lw_all := lw_g (lw_at lw_m5 66 rfl) rfl
theorem q1093 : (Jvm.Cond.lays "SideBySide$Tossed" "java/lang/Throwable" "cause" "Ljava/lang/Throwable;") ∈ lw_all := lw_g (lw_at lw_m5 67 rfl) rfl
theorem q1094 : (Jvm.Cond.lays "SideBySide$Tossed" "java/lang/Throwable" "stackTrace" "[Ljava/lang/StackTraceElement;") ∈ lw_all := lw_g (lw_at lw_m5 68 rfl) rfl
theorem q1095 : (Jvm.Cond.lays "SideBySide$Tossed" "java/lang/Throwable" "suppressedExceptions" "Ljava/util/List;") ∈ lw_all := lw_g (lw_at lw_m5 69 rfl) rfl
theorem q1096 : (Jvm.Cond.lays "SideBySide$Tossed" "java/lang/Throwable" "detailMessage" "Ljava/lang/String;") ∈ lw_all := lw_g (lw_at lw_m5 70 rfl) rfl
theorem q1097 : (Jvm.Cond.lays "SideBySide$Tossed" "java/lang/Throwable" "backtrace" "Ljava/lang/Object;") ∈ lw_all := lw_g (lw_at lw_m5 71 rfl) rfl
theorem q1099 : (Jvm.Cond.instanceMethod ({ cls := "SideBySide$Tossed", name := "<init>", desc := "(I)V" } : Jvm.MethodName)) ∈ lw_all := lw_g (lw_at lw_m5 73 rfl) rfl
theorem q1100 : (Jvm.Cond.code ({ cls := "SideBySide$Tossed", name := "<init>", desc := "(I)V" } : Jvm.MethodName) prog_18_method_1_code (2 : Nat) (Option.none : Option Jvm.ClassFile.FieldType)) ∈ lw_all := lw_g (lw_at lw_m5 74 rfl) rfl
theorem q1101 : (Jvm.Cond.methodLink "SideBySide$Tossed" (1 : Nat) ({ cls := "java/lang/RuntimeException", name := "<init>", desc := "()V" } : Jvm.MethodName)) ∈ lw_all := lw_g (lw_at lw_m5 75 rfl) rfl
theorem q1102 : (Jvm.Cond.fieldLink "SideBySide$Tossed" (7 : Nat) "SideBySide$Tossed" "n" "I") ∈ lw_all := lw_g (lw_at lw_m5 76 rfl) rfl
theorem q1105 : (Jvm.Cond.laysFinal "SideBySide$Tossed" "SideBySide$Tossed" "n" "I") ∈ lw_all := lw_g (lw_at lw_m5 79 rfl) rfl
theorem q1106 : (Jvm.Cond.soleField "SideBySide$Tossed" "n") ∈ lw_all := lw_g (lw_at lw_m5 80 rfl) rfl
theorem q1107 : (Jvm.Cond.lays "SideBySide$Tossed" "java/lang/Throwable" "depth" "I") ∈ lw_all := lw_g (lw_at lw_m5 81 rfl) rfl
theorem q1108 : (Jvm.Cond.superclass "SideBySide$Tossed" "java/lang/RuntimeException") ∈ lw_all := lw_g (lw_at lw_m5 82 rfl) rfl
theorem in_X16 : ∀ w ∈ wsX160, w ∈ lw_all := lw_in wsX160 [1093, 1094, 1095, 1096, 1097, 1107, 1105] (by decide +kernel) (by decide +kernel)
/-! SideBySide$Falls -/
set_option maxRecDepth 100000
def RX17 : String := "SideBySide$Falls"
abbrev cX17_falls : ByteArray := prog_8_method_1_code
def yX17_falls : MethodName := ⟨RX17, "falls", "(II)I"⟩
theorem dX17_falls_0 : decode cX17_falls 0 = .ok (.iload_n 1, 1) := by decide +kernel
theorem dX17_falls_1 : decode cX17_falls 1 = .ok (.ireturn, 1) := by decide +kernel
theorem q423 : (Jvm.Cond.declares ({ cls := "SideBySide$Falls", name := "falls", desc := "(II)I" } : Jvm.MethodName)) ∈ lw_tbl := lw_at lw_m2 117 rfl
theorem q449 : (Jvm.Cond.instanceMethod ({ cls := "SideBySide$Falls", name := "falls", desc := "(II)I" } : Jvm.MethodName)) ∈ lw_all := lw_g (lw_at lw_m2 143 rfl) rfl
theorem q450 : (Jvm.Cond.publicMethod ({ cls := "SideBySide$Falls", name := "falls", desc := "(II)I" } : Jvm.MethodName)) ∈ lw_tbl := lw_at lw_m2 144 rfl
theorem q451 : (Jvm.Cond.code ({ cls := "SideBySide$Falls", name := "falls", desc := "(II)I" } : Jvm.MethodName) prog_8_method_1_code (3 : Nat) (Option.some Jvm.ClassFile.FieldType.int)) ∈ lw_all := lw_g (lw_at lw_m2 145 rfl) rfl
/-! SideBySide$Tires -/
set_option maxRecDepth 100000
def RX18 : String := "SideBySide$Tires"
abbrev cX18_tires : ByteArray := prog_16_method_1_code
def yX18_tires : MethodName := ⟨RX18, "tires", "()I"⟩
theorem dX18_tires_0 : decode cX18_tires 0 = .ok (.iconst 1, 1) := by decide +kernel
theorem dX18_tires_1 : decode cX18_tires 1 = .ok (.ireturn, 1) := by decide +kernel
theorem q482 : (Jvm.Cond.declares ({ cls := "SideBySide$Tires", name := "tires", desc := "()I" } : Jvm.MethodName)) ∈ lw_tbl := lw_at lw_m2 176 rfl
theorem q487 : (Jvm.Cond.instanceMethod ({ cls := "SideBySide$Tires", name := "tires", desc := "()I" } : Jvm.MethodName)) ∈ lw_all := lw_g (lw_at lw_m2 181 rfl) rfl
theorem q488 : (Jvm.Cond.code ({ cls := "SideBySide$Tires", name := "tires", desc := "()I" } : Jvm.MethodName) prog_16_method_1_code (1 : Nat) (Option.some Jvm.ClassFile.FieldType.int)) ∈ lw_all := lw_g (lw_at lw_m2 182 rfl) rfl
theorem q502 : (Jvm.Cond.publicMethod ({ cls := "SideBySide$Tires", name := "tires", desc := "()I" } : Jvm.MethodName)) ∈ lw_tbl := lw_at lw_m2 196 rfl
/-! java/lang/Throwable -/
set_option maxRecDepth 100000
def RJ0 : String := "java/lang/Throwable"
def TJ0 : u_T := fun k => match k with
  | 0 => ("java/lang/Throwable", "cause", "Ljava/lang/Throwable;", false)
  | 1 => ("java/lang/Throwable", "stackTrace", "[Ljava/lang/StackTraceElement;", false)
  | 2 => ("java/lang/Throwable", "suppressedExceptions", "Ljava/util/List;", false)
  | 3 => ("java/lang/Throwable", "detailMessage", "Ljava/lang/String;", false)
  | _ => ("java/lang/Throwable", "backtrace", "Ljava/lang/Object;", false)
def tyJ0 : Nat → FieldType := fun k => match k with
  | 0 => .object "java/lang/Throwable"
  | 1 => .array (.object "java/lang/StackTraceElement")
  | 2 => .object "java/util/List"
  | 3 => .object "java/lang/String"
  | _ => .object "java/lang/Object"
abbrev wsJ00 : List Cond := u_ws RJ0 TJ0 5
theorem nmJ0 : ∀ a, a < 5 → ∀ b, b < 5 → a ≠ b → (TJ0 a).2.1 ≠ (TJ0 b).2.1 := by decide +kernel
theorem tyJ0_ok : ∀ k, k < 5 → parseFieldDescriptor (TJ0 k).2.2.1 = some (tyJ0 k) := by decide +kernel
abbrev cJ0_init : ByteArray := prog_35_method_2_code
def yJ0_init : MethodName := ⟨RJ0, "<init>", "(Ljava/lang/String;)V"⟩
def dkwJ0_init_1 : List UInt8 := [182, 0, 27, 87, 42, 43, 181, 0, 31, 177]
abbrev dktJ0_init_1 : List UInt8 := dkwJ0_init_1 ++ []
def dkwJ0_init_0 : List UInt8 := [42, 183, 0, 1, 42, 42, 181, 0, 7, 42, 178, 0, 13, 181, 0, 17, 42, 178, 0, 20, 181, 0, 24, 42]
abbrev dktJ0_init_0 : List UInt8 := dkwJ0_init_0 ++ dktJ0_init_1
theorem dksJ0_init_0 : cJ0_init.data.toList.drop 0 = dktJ0_init_0 := by decide +kernel
theorem dksJ0_init_1 : cJ0_init.data.toList.drop 24 = dktJ0_init_1 := dk_seg dksJ0_init_0 24 rfl rfl
theorem dJ0_init_0 : decode cJ0_init 0 = .ok (.aload_n 0, 1) := dk_42 (dk_at dksJ0_init_0 0 rfl rfl)
theorem dJ0_init_1 : decode cJ0_init 1 = .ok (.invokespecial 1, 3) := dk_183 0 1 (dk_at dksJ0_init_0 1 rfl rfl)
theorem dJ0_init_4 : decode cJ0_init 4 = .ok (.aload_n 0, 1) := dk_42 (dk_at dksJ0_init_0 4 rfl rfl)
theorem dJ0_init_5 : decode cJ0_init 5 = .ok (.aload_n 0, 1) := dk_42 (dk_at dksJ0_init_0 5 rfl rfl)
theorem dJ0_init_6 : decode cJ0_init 6 = .ok (.putfield 7, 3) := dk_181 0 7 (dk_at dksJ0_init_0 6 rfl rfl)
theorem dJ0_init_9 : decode cJ0_init 9 = .ok (.aload_n 0, 1) := dk_42 (dk_at dksJ0_init_0 9 rfl rfl)
theorem dJ0_init_10 : decode cJ0_init 10 = .ok (.getstatic 13, 3) := dk_178 0 13 (dk_at dksJ0_init_0 10 rfl rfl)
theorem dJ0_init_13 : decode cJ0_init 13 = .ok (.putfield 17, 3) := dk_181 0 17 (dk_at dksJ0_init_0 13 rfl rfl)
theorem dJ0_init_16 : decode cJ0_init 16 = .ok (.aload_n 0, 1) := dk_42 (dk_at dksJ0_init_0 16 rfl rfl)
theorem dJ0_init_17 : decode cJ0_init 17 = .ok (.getstatic 20, 3) := dk_178 0 20 (dk_at dksJ0_init_0 17 rfl rfl)
theorem dJ0_init_20 : decode cJ0_init 20 = .ok (.putfield 24, 3) := dk_181 0 24 (dk_at dksJ0_init_0 20 rfl rfl)
theorem dJ0_init_23 : decode cJ0_init 23 = .ok (.aload_n 0, 1) := dk_42 (dk_at dksJ0_init_0 23 rfl rfl)
theorem dJ0_init_24 : decode cJ0_init 24 = .ok (.invokevirtual 27, 3) := dk_182 0 27 (dk_at dksJ0_init_1 0 rfl rfl)
theorem dJ0_init_27 : decode cJ0_init 27 = .ok (.pop, 1) := dk_87 (dk_at dksJ0_init_1 3 rfl rfl)
theorem dJ0_init_28 : decode cJ0_init 28 = .ok (.aload_n 0, 1) := dk_42 (dk_at dksJ0_init_1 4 rfl rfl)
theorem dJ0_init_29 : decode cJ0_init 29 = .ok (.aload_n 1, 1) := dk_43 (dk_at dksJ0_init_1 5 rfl rfl)
theorem dJ0_init_30 : decode cJ0_init 30 = .ok (.putfield 31, 3) := dk_181 0 31 (dk_at dksJ0_init_1 6 rfl rfl)
theorem dJ0_init_33 : decode cJ0_init 33 = .ok (.return_, 1) := dk_177 (dk_at dksJ0_init_1 9 rfl rfl)
abbrev cJ0_init_2 : ByteArray := prog_35_method_1_code
def yJ0_init_2 : MethodName := ⟨RJ0, "<init>", "()V"⟩
def dkwJ0_init_2_1 : List UInt8 := [182, 0, 27, 87, 177]
abbrev dktJ0_init_2_1 : List UInt8 := dkwJ0_init_2_1 ++ []
def dkwJ0_init_2_0 : List UInt8 := [42, 183, 0, 1, 42, 42, 181, 0, 7, 42, 178, 0, 13, 181, 0, 17, 42, 178, 0, 20, 181, 0, 24, 42]
abbrev dktJ0_init_2_0 : List UInt8 := dkwJ0_init_2_0 ++ dktJ0_init_2_1
theorem dksJ0_init_2_0 : cJ0_init_2.data.toList.drop 0 = dktJ0_init_2_0 := by decide +kernel
theorem dksJ0_init_2_1 : cJ0_init_2.data.toList.drop 24 = dktJ0_init_2_1 := dk_seg dksJ0_init_2_0 24 rfl rfl
theorem dJ0_init_2_0 : decode cJ0_init_2 0 = .ok (.aload_n 0, 1) := dk_42 (dk_at dksJ0_init_2_0 0 rfl rfl)
theorem dJ0_init_2_1 : decode cJ0_init_2 1 = .ok (.invokespecial 1, 3) := dk_183 0 1 (dk_at dksJ0_init_2_0 1 rfl rfl)
theorem dJ0_init_2_4 : decode cJ0_init_2 4 = .ok (.aload_n 0, 1) := dk_42 (dk_at dksJ0_init_2_0 4 rfl rfl)
theorem dJ0_init_2_5 : decode cJ0_init_2 5 = .ok (.aload_n 0, 1) := dk_42 (dk_at dksJ0_init_2_0 5 rfl rfl)
theorem dJ0_init_2_6 : decode cJ0_init_2 6 = .ok (.putfield 7, 3) := dk_181 0 7 (dk_at dksJ0_init_2_0 6 rfl rfl)
theorem dJ0_init_2_9 : decode cJ0_init_2 9 = .ok (.aload_n 0, 1) := dk_42 (dk_at dksJ0_init_2_0 9 rfl rfl)
theorem dJ0_init_2_10 : decode cJ0_init_2 10 = .ok (.getstatic 13, 3) := dk_178 0 13 (dk_at dksJ0_init_2_0 10 rfl rfl)
theorem dJ0_init_2_13 : decode cJ0_init_2 13 = .ok (.putfield 17, 3) := dk_181 0 17 (dk_at dksJ0_init_2_0 13 rfl rfl)
theorem dJ0_init_2_16 : decode cJ0_init_2 16 = .ok (.aload_n 0, 1) := dk_42 (dk_at dksJ0_init_2_0 16 rfl rfl)
theorem dJ0_init_2_17 : decode cJ0_init_2 17 = .ok (.getstatic 20, 3) := dk_178 0 20 (dk_at dksJ0_init_2_0 17 rfl rfl)
theorem dJ0_init_2_20 : decode cJ0_init_2 20 = .ok (.putfield 24, 3) := dk_181 0 24 (dk_at dksJ0_init_2_0 20 rfl rfl)
theorem dJ0_init_2_23 : decode cJ0_init_2 23 = .ok (.aload_n 0, 1) := dk_42 (dk_at dksJ0_init_2_0 23 rfl rfl)
theorem dJ0_init_2_24 : decode cJ0_init_2 24 = .ok (.invokevirtual 27, 3) := dk_182 0 27 (dk_at dksJ0_init_2_1 0 rfl rfl)
theorem dJ0_init_2_27 : decode cJ0_init_2 27 = .ok (.pop, 1) := dk_87 (dk_at dksJ0_init_2_1 3 rfl rfl)
theorem dJ0_init_2_28 : decode cJ0_init_2 28 = .ok (.return_, 1) := dk_177 (dk_at dksJ0_init_2_1 4 rfl rfl)
theorem q71 : (Jvm.Cond.initialized "java/lang/Throwable") ∈ lw_all := lw_g (lw_at lw_m1 5 rfl) rfl
theorem q113 : (Jvm.Cond.instanceMethod ({ cls := "java/lang/Throwable", name := "<init>", desc := "(Ljava/lang/String;)V" } : Jvm.MethodName)) ∈ lw_all := lw_g (lw_at lw_m1 47 rfl) rfl
theorem q114 : (Jvm.Cond.code ({ cls := "java/lang/Throwable", name := "<init>", desc := "(Ljava/lang/String;)V" } : Jvm.MethodName) prog_35_method_2_code (2 : Nat) (Option.none : Option Jvm.ClassFile.FieldType)) ∈ lw_all := lw_g (lw_at lw_m1 48 rfl) rfl
theorem q115 : (Jvm.Cond.methodLink "java/lang/Throwable" (1 : Nat) ({ cls := "java/lang/Object", name := "<init>", desc := "()V" } : Jvm.MethodName)) ∈ lw_all := lw_g (lw_at lw_m1 49 rfl) rfl
theorem q118 : (Jvm.Cond.fieldLink "java/lang/Throwable" (13 : Nat) "java/lang/Throwable" "UNASSIGNED_STACK" "[Ljava/lang/StackTraceElement;") ∈ lw_all := lw_g (lw_at lw_m1 52 rfl) rfl
theorem q119 : (Jvm.Cond.laysStatic "java/lang/Throwable" "UNASSIGNED_STACK" "[Ljava/lang/StackTraceElement;") ∈ lw_tbl := lw_at lw_m1 53 rfl
theorem q120 : (Jvm.Cond.fieldLink "java/lang/Throwable" (20 : Nat) "java/lang/Throwable" "SUPPRESSED_SENTINEL" "Ljava/util/List;") ∈ lw_all := lw_g (lw_at lw_m1 54 rfl) rfl
theorem q121 : (Jvm.Cond.laysStatic "java/lang/Throwable" "SUPPRESSED_SENTINEL" "Ljava/util/List;") ∈ lw_tbl := lw_at lw_m1 55 rfl
theorem q122 : (Jvm.Cond.methodLink "java/lang/Throwable" (27 : Nat) ({ cls := "java/lang/Throwable", name := "fillInStackTrace", desc := "()Ljava/lang/Throwable;" } : Jvm.MethodName)) ∈ lw_all := lw_g (lw_at lw_m1 56 rfl) rfl
theorem q123 : (Jvm.Cond.instanceMethod ({ cls := "java/lang/Throwable", name := "fillInStackTrace", desc := "()Ljava/lang/Throwable;" } : Jvm.MethodName)) ∈ lw_all := lw_g (lw_at lw_m1 57 rfl) rfl
theorem q124 : (Jvm.Cond.sameMethod "java/lang/Throwable" "java/lang/Throwable" "fillInStackTrace" "()Ljava/lang/Throwable;") ∈ lw_all := lw_g (lw_at lw_m1 58 rfl) rfl
theorem q142 : (Jvm.Cond.declares ({ cls := "java/lang/Throwable", name := "fillInStackTrace", desc := "()Ljava/lang/Throwable;" } : Jvm.MethodName)) ∈ lw_tbl := lw_at lw_m1 76 rfl
theorem q146 : (Jvm.Cond.codeSync ({ cls := "java/lang/Throwable", name := "fillInStackTrace", desc := "()Ljava/lang/Throwable;" } : Jvm.MethodName) prog_35_method_18_code (1 : Nat) (Option.some (Jvm.ClassFile.FieldType.object "java/lang/Throwable"))) ∈ lw_all := lw_g (lw_at lw_m1 80 rfl) rfl
theorem q147 : (Jvm.Cond.methodLink "java/lang/Throwable" (202 : Nat) ({ cls := "java/lang/Throwable", name := "fillInStackTrace", desc := "(I)Ljava/lang/Throwable;" } : Jvm.MethodName)) ∈ lw_all := lw_g (lw_at lw_m1 81 rfl) rfl
theorem q148 : (Jvm.Cond.privateMethod ({ cls := "java/lang/Throwable", name := "fillInStackTrace", desc := "(I)Ljava/lang/Throwable;" } : Jvm.MethodName)) ∈ lw_tbl := lw_at lw_m1 82 rfl
theorem q149 : (Jvm.Cond.instanceMethod ({ cls := "java/lang/Throwable", name := "fillInStackTrace", desc := "(I)Ljava/lang/Throwable;" } : Jvm.MethodName)) ∈ lw_all := lw_g (lw_at lw_m1 83 rfl) rfl
theorem q150 : (Jvm.Cond.instantiable "java/lang/Throwable" (6 : Nat)) ∈ lw_all := lw_g (lw_at lw_m1 84 rfl) rfl
theorem q151 : (Jvm.Cond.native ({ cls := "java/lang/Throwable", name := "fillInStackTrace", desc := "(I)Ljava/lang/Throwable;" } : Jvm.MethodName)) ∈ lw_all := lw_g (lw_at lw_m1 85 rfl) rfl
theorem q152 : (Jvm.Cond.fieldLink "java/lang/Throwable" (198 : Nat) "java/lang/Throwable" "backtrace" "Ljava/lang/Object;") ∈ lw_all := lw_g (lw_at lw_m1 86 rfl) rfl
theorem q153 : (Jvm.Cond.fieldLink "java/lang/Throwable" (31 : Nat) "java/lang/Throwable" "detailMessage" "Ljava/lang/String;") ∈ lw_all := lw_g (lw_at lw_m1 87 rfl) rfl
theorem q154 : (Jvm.Cond.fieldLink "java/lang/Throwable" (7 : Nat) "java/lang/Throwable" "cause" "Ljava/lang/Throwable;") ∈ lw_all := lw_g (lw_at lw_m1 88 rfl) rfl
theorem q155 : (Jvm.Cond.fieldLink "java/lang/Throwable" (17 : Nat) "java/lang/Throwable" "stackTrace" "[Ljava/lang/StackTraceElement;") ∈ lw_all := lw_g (lw_at lw_m1 89 rfl) rfl
theorem q156 : (Jvm.Cond.fieldLink "java/lang/Throwable" (24 : Nat) "java/lang/Throwable" "suppressedExceptions" "Ljava/util/List;") ∈ lw_all := lw_g (lw_at lw_m1 90 rfl) rfl
theorem q158 : (Jvm.Cond.soleField "java/lang/Throwable" "backtrace") ∈ lw_all := lw_g (lw_at lw_m1 92 rfl) rfl
theorem q160 : (Jvm.Cond.soleField "java/lang/Throwable" "detailMessage") ∈ lw_all := lw_g (lw_at lw_m1 94 rfl) rfl
theorem q162 : (Jvm.Cond.soleField "java/lang/Throwable" "cause") ∈ lw_all := lw_g (lw_at lw_m1 96 rfl) rfl
theorem q164 : (Jvm.Cond.soleField "java/lang/Throwable" "stackTrace") ∈ lw_all := lw_g (lw_at lw_m1 98 rfl) rfl
theorem q166 : (Jvm.Cond.soleField "java/lang/Throwable" "depth") ∈ lw_all := lw_g (lw_at lw_m1 100 rfl) rfl
theorem q168 : (Jvm.Cond.soleField "java/lang/Throwable" "suppressedExceptions") ∈ lw_all := lw_g (lw_at lw_m1 102 rfl) rfl
theorem q175 : (Jvm.Cond.declares ({ cls := "java/lang/Throwable", name := "<init>", desc := "()V" } : Jvm.MethodName)) ∈ lw_tbl := lw_at lw_m1 109 rfl
theorem q176 : (Jvm.Cond.declares ({ cls := "java/lang/Throwable", name := "<init>", desc := "(Ljava/lang/String;)V" } : Jvm.MethodName)) ∈ lw_tbl := lw_at lw_m1 110 rfl
theorem q178 : (Jvm.Cond.lays "java/lang/Throwable" "java/lang/Throwable" "cause" "Ljava/lang/Throwable;") ∈ lw_all := lw_g (lw_at lw_m1 112 rfl) rfl
theorem q179 : (Jvm.Cond.lays "java/lang/Throwable" "java/lang/Throwable" "stackTrace" "[Ljava/lang/StackTraceElement;") ∈ lw_all := lw_g (lw_at lw_m1 113 rfl) rfl
theorem q180 : (Jvm.Cond.lays "java/lang/Throwable" "java/lang/Throwable" "suppressedExceptions" "Ljava/util/List;") ∈ lw_all := lw_g (lw_at lw_m1 114 rfl) rfl
theorem q181 : (Jvm.Cond.lays "java/lang/Throwable" "java/lang/Throwable" "detailMessage" "Ljava/lang/String;") ∈ lw_all := lw_g (lw_at lw_m1 115 rfl) rfl
theorem q182 : (Jvm.Cond.lays "java/lang/Throwable" "java/lang/Throwable" "backtrace" "Ljava/lang/Object;") ∈ lw_all := lw_g (lw_at lw_m1 116 rfl) rfl
theorem q183 : (Jvm.Cond.fieldLink "java/lang/Throwable" (198 : Nat) "java/lang/Throwable" "backtrace" "Ljava/lang/Object;") ∈ lw_all := lw_g (lw_at lw_m1 117 rfl) rfl
theorem q184 : (Jvm.Cond.superclass "java/lang/Throwable" "java/lang/Object") ∈ lw_all := lw_g (lw_at lw_m1 118 rfl) rfl
theorem q185 : (Jvm.Cond.instanceMethod ({ cls := "java/lang/Throwable", name := "<init>", desc := "()V" } : Jvm.MethodName)) ∈ lw_all := lw_g (lw_at lw_m1 119 rfl) rfl
theorem q186 : (Jvm.Cond.code ({ cls := "java/lang/Throwable", name := "<init>", desc := "()V" } : Jvm.MethodName) prog_35_method_1_code (1 : Nat) (Option.none : Option Jvm.ClassFile.FieldType)) ∈ lw_all := lw_g (lw_at lw_m1 120 rfl) rfl
theorem q1611 : (Jvm.Cond.sameMethod "java/lang/Throwable" "java/lang/Throwable" "fillInStackTrace" "(I)Ljava/lang/Throwable;") ∈ lw_all := lw_g (lw_at lw_m7 105 rfl) rfl
theorem in_J0 : ∀ w ∈ wsJ00, w ∈ lw_all := lw_in wsJ00 [178, 179, 180, 181, 182] (by decide +kernel) (by decide +kernel)
/-! java/lang/Exception -/
set_option maxRecDepth 100000
def RJ1 : String := "java/lang/Exception"
abbrev cJ1_init : ByteArray := prog_24_method_2_code
def yJ1_init : MethodName := ⟨RJ1, "<init>", "(Ljava/lang/String;)V"⟩
def dkwJ1_init_0 : List UInt8 := [42, 43, 183, 0, 7, 177]
abbrev dktJ1_init_0 : List UInt8 := dkwJ1_init_0 ++ []
theorem dksJ1_init_0 : cJ1_init.data.toList.drop 0 = dktJ1_init_0 := by decide +kernel
theorem dJ1_init_0 : decode cJ1_init 0 = .ok (.aload_n 0, 1) := dk_42 (dk_at dksJ1_init_0 0 rfl rfl)
theorem dJ1_init_1 : decode cJ1_init 1 = .ok (.aload_n 1, 1) := dk_43 (dk_at dksJ1_init_0 1 rfl rfl)
theorem dJ1_init_2 : decode cJ1_init 2 = .ok (.invokespecial 7, 3) := dk_183 0 7 (dk_at dksJ1_init_0 2 rfl rfl)
theorem dJ1_init_5 : decode cJ1_init 5 = .ok (.return_, 1) := dk_177 (dk_at dksJ1_init_0 5 rfl rfl)
abbrev cJ1_init_2 : ByteArray := prog_24_method_1_code
def yJ1_init_2 : MethodName := ⟨RJ1, "<init>", "()V"⟩
theorem dJ1_init_2_0 : decode cJ1_init_2 0 = .ok (.aload_n 0, 1) := by decide +kernel
theorem dJ1_init_2_1 : decode cJ1_init_2 1 = .ok (.invokespecial 1, 3) := by decide +kernel
theorem dJ1_init_2_4 : decode cJ1_init_2 4 = .ok (.return_, 1) := by decide +kernel
theorem q72 : (Jvm.Cond.initialized "java/lang/Exception") ∈ lw_all := lw_g (lw_at lw_m1 6 rfl) rfl
theorem q110 : (Jvm.Cond.instanceMethod ({ cls := "java/lang/Exception", name := "<init>", desc := "(Ljava/lang/String;)V" } : Jvm.MethodName)) ∈ lw_all := lw_g (lw_at lw_m1 44 rfl) rfl
theorem q111 : (Jvm.Cond.code ({ cls := "java/lang/Exception", name := "<init>", desc := "(Ljava/lang/String;)V" } : Jvm.MethodName) prog_24_method_2_code (2 : Nat) (Option.none : Option Jvm.ClassFile.FieldType)) ∈ lw_all := lw_g (lw_at lw_m1 45 rfl) rfl
theorem q112 : (Jvm.Cond.methodLink "java/lang/Exception" (7 : Nat) ({ cls := "java/lang/Throwable", name := "<init>", desc := "(Ljava/lang/String;)V" } : Jvm.MethodName)) ∈ lw_all := lw_g (lw_at lw_m1 46 rfl) rfl
theorem q145 : (Jvm.Cond.superclass "java/lang/Exception" "java/lang/Throwable") ∈ lw_all := lw_g (lw_at lw_m1 79 rfl) rfl
theorem q173 : (Jvm.Cond.declares ({ cls := "java/lang/Exception", name := "<init>", desc := "()V" } : Jvm.MethodName)) ∈ lw_tbl := lw_at lw_m1 107 rfl
theorem q174 : (Jvm.Cond.declares ({ cls := "java/lang/Exception", name := "<init>", desc := "(Ljava/lang/String;)V" } : Jvm.MethodName)) ∈ lw_tbl := lw_at lw_m1 108 rfl
theorem q286 : (Jvm.Cond.instanceMethod ({ cls := "java/lang/Exception", name := "<init>", desc := "()V" } : Jvm.MethodName)) ∈ lw_all := lw_g (lw_at lw_m1 220 rfl) rfl
theorem q287 : (Jvm.Cond.code ({ cls := "java/lang/Exception", name := "<init>", desc := "()V" } : Jvm.MethodName) prog_24_method_1_code (1 : Nat) (Option.none : Option Jvm.ClassFile.FieldType)) ∈ lw_all := lw_g (lw_at lw_m1 221 rfl) rfl
theorem q288 : (Jvm.Cond.methodLink "java/lang/Exception" (1 : Nat) ({ cls := "java/lang/Throwable", name := "<init>", desc := "()V" } : Jvm.MethodName)) ∈ lw_all := lw_g (lw_at lw_m1 222 rfl) rfl
/-! java/lang/ArrayIndexOutOfBoundsException -/
set_option maxRecDepth 100000
def RJ10 : String := "java/lang/ArrayIndexOutOfBoundsException"
def TJ10 : u_T := fun k => match k with
  | 0 => ("java/lang/Throwable", "backtrace", "Ljava/lang/Object;", false)
  | 1 => ("java/lang/Throwable", "detailMessage", "Ljava/lang/String;", false)
  | 2 => ("java/lang/Throwable", "cause", "Ljava/lang/Throwable;", false)
  | 3 => ("java/lang/Throwable", "stackTrace", "[Ljava/lang/StackTraceElement;", false)
  | 4 => ("java/lang/Throwable", "depth", "I", false)
  | _ => ("java/lang/Throwable", "suppressedExceptions", "Ljava/util/List;", false)
def tyJ10 : Nat → FieldType := fun k => match k with
  | 0 => .object "java/lang/Object"
  | 1 => .object "java/lang/String"
  | 2 => .object "java/lang/Throwable"
  | 3 => .array (.object "java/lang/StackTraceElement")
  | 4 => .int
  | _ => .object "java/util/List"
abbrev wsJ100 : List Cond := u_ws RJ10 TJ10 6
theorem nmJ10 : ∀ a, a < 6 → ∀ b, b < 6 → a ≠ b → (TJ10 a).2.1 ≠ (TJ10 b).2.1 := by decide +kernel
theorem tyJ10_ok : ∀ k, k < 6 → parseFieldDescriptor (TJ10 k).2.2.1 = some (tyJ10 k) := by decide +kernel
abbrev cJ10_init : ByteArray := prog_22_method_2_code
def yJ10_init : MethodName := ⟨RJ10, "<init>", "(Ljava/lang/String;)V"⟩
def dkwJ10_init_0 : List UInt8 := [42, 43, 183, 0, 7, 177]
abbrev dktJ10_init_0 : List UInt8 := dkwJ10_init_0 ++ []
theorem dksJ10_init_0 : cJ10_init.data.toList.drop 0 = dktJ10_init_0 := by decide +kernel
theorem dJ10_init_0 : decode cJ10_init 0 = .ok (.aload_n 0, 1) := dk_42 (dk_at dksJ10_init_0 0 rfl rfl)
theorem dJ10_init_1 : decode cJ10_init 1 = .ok (.aload_n 1, 1) := dk_43 (dk_at dksJ10_init_0 1 rfl rfl)
theorem dJ10_init_2 : decode cJ10_init 2 = .ok (.invokespecial 7, 3) := dk_183 0 7 (dk_at dksJ10_init_0 2 rfl rfl)
theorem dJ10_init_5 : decode cJ10_init 5 = .ok (.return_, 1) := dk_177 (dk_at dksJ10_init_0 5 rfl rfl)
theorem q93 : (Jvm.Cond.initialized "java/lang/ArrayIndexOutOfBoundsException") ∈ lw_all := lw_g (lw_at lw_m1 27 rfl) rfl
theorem q127 : (Jvm.Cond.selects "java/lang/ArrayIndexOutOfBoundsException" ({ cls := "java/lang/Throwable", name := "fillInStackTrace", desc := "()Ljava/lang/Throwable;" } : Jvm.MethodName) ({ cls := "java/lang/Throwable", name := "fillInStackTrace", desc := "()Ljava/lang/Throwable;" } : Jvm.MethodName)) ∈ lw_all := lw_g (lw_at lw_m1 61 rfl) rfl
theorem q996 : (Jvm.Cond.instantiable "java/lang/ArrayIndexOutOfBoundsException" (6 : Nat)) ∈ lw_all := lw_g (lw_at lw_m4 210 rfl) rfl
theorem q997 : (Jvm.Cond.instanceMethod ({ cls := "java/lang/ArrayIndexOutOfBoundsException", name := "<init>", desc := "(Ljava/lang/String;)V" } : Jvm.MethodName)) ∈ lw_all := lw_g (lw_at lw_m4 211 rfl) rfl
theorem q998 : (Jvm.Cond.code ({ cls := "java/lang/ArrayIndexOutOfBoundsException", name := "<init>", desc := "(Ljava/lang/String;)V" } : Jvm.MethodName) prog_22_method_2_code (2 : Nat) (Option.none : Option Jvm.ClassFile.FieldType)) ∈ lw_all := lw_g (lw_at lw_m4 212 rfl) rfl
theorem q999 : (Jvm.Cond.methodLink "java/lang/ArrayIndexOutOfBoundsException" (7 : Nat) ({ cls := "java/lang/IndexOutOfBoundsException", name := "<init>", desc := "(Ljava/lang/String;)V" } : Jvm.MethodName)) ∈ lw_all := lw_g (lw_at lw_m4 213 rfl) rfl
theorem q1003 : (Jvm.Cond.lays "java/lang/ArrayIndexOutOfBoundsException" "java/lang/Throwable" "backtrace" "Ljava/lang/Object;") ∈ lw_all := lw_g (lw_at lw_m4 217 rfl) rfl
theorem q1004 : (Jvm.Cond.lays "java/lang/ArrayIndexOutOfBoundsException" "java/lang/Throwable" "detailMessage" "Ljava/lang/String;") ∈ lw_all := lw_g (lw_at lw_m4 218 rfl) rfl
theorem q1005 : (Jvm.Cond.lays "java/lang/ArrayIndexOutOfBoundsException" "java/lang/Throwable" "cause" "Ljava/lang/Throwable;") ∈ lw_all := lw_g (lw_at lw_m4 219 rfl) rfl
theorem q1006 : (Jvm.Cond.lays "java/lang/ArrayIndexOutOfBoundsException" "java/lang/Throwable" "stackTrace" "[Ljava/lang/StackTraceElement;") ∈ lw_all := lw_g (lw_at lw_m4 220 rfl) rfl
theorem q1007 : (Jvm.Cond.lays "java/lang/ArrayIndexOutOfBoundsException" "java/lang/Throwable" "depth" "I") ∈ lw_all := lw_g (lw_at lw_m4 221 rfl) rfl
theorem q1008 : (Jvm.Cond.lays "java/lang/ArrayIndexOutOfBoundsException" "java/lang/Throwable" "suppressedExceptions" "Ljava/util/List;") ∈ lw_all := lw_g (lw_at lw_m4 222 rfl) rfl
theorem q1009 : (Jvm.Cond.superclass "java/lang/ArrayIndexOutOfBoundsException" "java/lang/IndexOutOfBoundsException") ∈ lw_all := lw_g (lw_at lw_m4 223 rfl) rfl
theorem q1010 : (Jvm.Cond.castable "java/lang/ArrayIndexOutOfBoundsException" "java/lang/ArrayIndexOutOfBoundsException") ∈ lw_tbl := lw_at lw_m4 224 rfl
theorem q1013 : (Jvm.Cond.selects "java/lang/ArrayIndexOutOfBoundsException" ({ cls := "java/lang/Throwable", name := "fillInStackTrace", desc := "(I)Ljava/lang/Throwable;" } : Jvm.MethodName) ({ cls := "java/lang/Throwable", name := "fillInStackTrace", desc := "(I)Ljava/lang/Throwable;" } : Jvm.MethodName)) ∈ lw_all := lw_g (lw_at lw_m4 227 rfl) rfl
theorem q1619 : (Jvm.Cond.castable "java/lang/ArrayIndexOutOfBoundsException" "java/lang/IndexOutOfBoundsException") ∈ lw_tbl := lw_at lw_m7 113 rfl
theorem in_J10 : ∀ w ∈ wsJ100, w ∈ lw_all := lw_in wsJ100 [1003, 1004, 1005, 1006, 1007, 1008] (by decide +kernel) (by decide +kernel)
/-! java/lang/NullPointerException -/
set_option maxRecDepth 100000
def RJ11 : String := "java/lang/NullPointerException"
def TJ11 : u_T := fun k => match k with
  | 0 => ("java/lang/Throwable", "backtrace", "Ljava/lang/Object;", false)
  | 1 => ("java/lang/Throwable", "detailMessage", "Ljava/lang/String;", false)
  | 2 => ("java/lang/Throwable", "cause", "Ljava/lang/Throwable;", false)
  | 3 => ("java/lang/Throwable", "stackTrace", "[Ljava/lang/StackTraceElement;", false)
  | 4 => ("java/lang/Throwable", "depth", "I", false)
  | 5 => ("java/lang/Throwable", "suppressedExceptions", "Ljava/util/List;", false)
  | 6 => ("java/lang/NullPointerException", "extendedMessageState", "I", false)
  | _ => ("java/lang/NullPointerException", "extendedMessage", "Ljava/lang/String;", false)
def tyJ11 : Nat → FieldType := fun k => match k with
  | 0 => .object "java/lang/Object"
  | 1 => .object "java/lang/String"
  | 2 => .object "java/lang/Throwable"
  | 3 => .array (.object "java/lang/StackTraceElement")
  | 4 => .int
  | 5 => .object "java/util/List"
  | 6 => .int
  | _ => .object "java/lang/String"
abbrev wsJ110 : List Cond := u_ws RJ11 TJ11 8
theorem nmJ11 : ∀ a, a < 8 → ∀ b, b < 8 → a ≠ b → (TJ11 a).2.1 ≠ (TJ11 b).2.1 := by decide +kernel
theorem tyJ11_ok : ∀ k, k < 8 → parseFieldDescriptor (TJ11 k).2.2.1 = some (tyJ11 k) := by decide +kernel
abbrev cJ11_init : ByteArray := prog_31_method_1_code
def yJ11_init : MethodName := ⟨RJ11, "<init>", "()V"⟩
theorem dJ11_init_0 : decode cJ11_init 0 = .ok (.aload_n 0, 1) := by decide +kernel
theorem dJ11_init_1 : decode cJ11_init 1 = .ok (.invokespecial 1, 3) := by decide +kernel
theorem dJ11_init_4 : decode cJ11_init 4 = .ok (.return_, 1) := by decide +kernel
theorem q94 : (Jvm.Cond.initialized "java/lang/NullPointerException") ∈ lw_all := lw_g (lw_at lw_m1 28 rfl) rfl
theorem q132 : (Jvm.Cond.selects "java/lang/NullPointerException" ({ cls := "java/lang/Throwable", name := "fillInStackTrace", desc := "()Ljava/lang/Throwable;" } : Jvm.MethodName) ({ cls := "java/lang/NullPointerException", name := "fillInStackTrace", desc := "()Ljava/lang/Throwable;" } : Jvm.MethodName)) ∈ lw_all := lw_g (lw_at lw_m1 66 rfl) rfl
theorem q133 : (Jvm.Cond.instanceMethod ({ cls := "java/lang/NullPointerException", name := "fillInStackTrace", desc := "()Ljava/lang/Throwable;" } : Jvm.MethodName)) ∈ lw_all := lw_g (lw_at lw_m1 67 rfl) rfl
theorem q134 : (Jvm.Cond.codeSync ({ cls := "java/lang/NullPointerException", name := "fillInStackTrace", desc := "()Ljava/lang/Throwable;" } : Jvm.MethodName) prog_31_method_3_code (1 : Nat) (Option.some (Jvm.ClassFile.FieldType.object "java/lang/Throwable"))) ∈ lw_all := lw_g (lw_at lw_m1 68 rfl) rfl
theorem q135 : (Jvm.Cond.methodLink "java/lang/NullPointerException" (16 : Nat) ({ cls := "java/lang/NullPointerException", name := "getExtendedNPEMessage", desc := "()Ljava/lang/String;" } : Jvm.MethodName)) ∈ lw_all := lw_g (lw_at lw_m1 69 rfl) rfl
theorem q136 : (Jvm.Cond.privateMethod ({ cls := "java/lang/NullPointerException", name := "getExtendedNPEMessage", desc := "()Ljava/lang/String;" } : Jvm.MethodName)) ∈ lw_tbl := lw_at lw_m1 70 rfl
theorem q137 : (Jvm.Cond.instanceMethod ({ cls := "java/lang/NullPointerException", name := "getExtendedNPEMessage", desc := "()Ljava/lang/String;" } : Jvm.MethodName)) ∈ lw_all := lw_g (lw_at lw_m1 71 rfl) rfl
theorem q138 : (Jvm.Cond.instantiable "java/lang/NullPointerException" (8 : Nat)) ∈ lw_all := lw_g (lw_at lw_m1 72 rfl) rfl
theorem q139 : (Jvm.Cond.native ({ cls := "java/lang/NullPointerException", name := "getExtendedNPEMessage", desc := "()Ljava/lang/String;" } : Jvm.MethodName)) ∈ lw_all := lw_g (lw_at lw_m1 73 rfl) rfl
theorem q140 : (Jvm.Cond.methodLink "java/lang/NullPointerException" (24 : Nat) ({ cls := "java/lang/RuntimeException", name := "fillInStackTrace", desc := "()Ljava/lang/Throwable;" } : Jvm.MethodName)) ∈ lw_all := lw_g (lw_at lw_m1 74 rfl) rfl
theorem q143 : (Jvm.Cond.superclass "java/lang/NullPointerException" "java/lang/RuntimeException") ∈ lw_all := lw_g (lw_at lw_m1 77 rfl) rfl
theorem q1025 : (Jvm.Cond.instanceMethod ({ cls := "java/lang/NullPointerException", name := "<init>", desc := "()V" } : Jvm.MethodName)) ∈ lw_all := lw_g (lw_at lw_m4 239 rfl) rfl
theorem q1026 : (Jvm.Cond.code ({ cls := "java/lang/NullPointerException", name := "<init>", desc := "()V" } : Jvm.MethodName) prog_31_method_1_code (1 : Nat) (Option.none : Option Jvm.ClassFile.FieldType)) ∈ lw_all := lw_g (lw_at lw_m5 0 rfl) rfl
theorem q1027 : (Jvm.Cond.methodLink "java/lang/NullPointerException" (1 : Nat) ({ cls := "java/lang/RuntimeException", name := "<init>", desc := "()V" } : Jvm.MethodName)) ∈ lw_all := lw_g (lw_at lw_m5 1 rfl) rfl
theorem q1031 : (Jvm.Cond.fieldLink "java/lang/NullPointerException" (10 : Nat) "java/lang/NullPointerException" "extendedMessageState" "I") ∈ lw_all := lw_g (lw_at lw_m5 5 rfl) rfl
theorem q1032 : (Jvm.Cond.fieldLink "java/lang/NullPointerException" (20 : Nat) "java/lang/NullPointerException" "extendedMessage" "Ljava/lang/String;") ∈ lw_all := lw_g (lw_at lw_m5 6 rfl) rfl
theorem q1033 : (Jvm.Cond.lays "java/lang/NullPointerException" "java/lang/NullPointerException" "extendedMessageState" "I") ∈ lw_all := lw_g (lw_at lw_m5 7 rfl) rfl
theorem q1034 : (Jvm.Cond.soleField "java/lang/NullPointerException" "extendedMessageState") ∈ lw_all := lw_g (lw_at lw_m5 8 rfl) rfl
theorem q1035 : (Jvm.Cond.lays "java/lang/NullPointerException" "java/lang/NullPointerException" "extendedMessage" "Ljava/lang/String;") ∈ lw_all := lw_g (lw_at lw_m5 9 rfl) rfl
theorem q1036 : (Jvm.Cond.soleField "java/lang/NullPointerException" "extendedMessage") ∈ lw_all := lw_g (lw_at lw_m5 10 rfl) rfl
theorem q1037 : (Jvm.Cond.lays "java/lang/NullPointerException" "java/lang/Throwable" "backtrace" "Ljava/lang/Object;") ∈ lw_all := lw_g (lw_at lw_m5 11 rfl) rfl
theorem q1038 : (Jvm.Cond.lays "java/lang/NullPointerException" "java/lang/Throwable" "detailMessage" "Ljava/lang/String;") ∈ lw_all := lw_g (lw_at lw_m5 12 rfl) rfl
theorem q1039 : (Jvm.Cond.lays "java/lang/NullPointerException" "java/lang/Throwable" "cause" "Ljava/lang/Throwable;") ∈ lw_all := lw_g (lw_at lw_m5 13 rfl) rfl
theorem q1040 : (Jvm.Cond.lays "java/lang/NullPointerException" "java/lang/Throwable" "stackTrace" "[Ljava/lang/StackTraceElement;") ∈ lw_all := lw_g (lw_at lw_m5 14 rfl) rfl
theorem q1041 : (Jvm.Cond.lays "java/lang/NullPointerException" "java/lang/Throwable" "depth" "I") ∈ lw_all := lw_g (lw_at lw_m5 15 rfl) rfl
theorem q1042 : (Jvm.Cond.lays "java/lang/NullPointerException" "java/lang/Throwable" "suppressedExceptions" "Ljava/util/List;") ∈ lw_all := lw_g (lw_at lw_m5 16 rfl) rfl
theorem q1043 : (Jvm.Cond.castable "java/lang/NullPointerException" "java/lang/NullPointerException") ∈ lw_tbl := lw_at lw_m5 17 rfl
theorem q1044 : (Jvm.Cond.selects "java/lang/NullPointerException" ({ cls := "java/lang/Throwable", name := "fillInStackTrace", desc := "(I)Ljava/lang/Throwable;" } : Jvm.MethodName) ({ cls := "java/lang/Throwable", name := "fillInStackTrace", desc := "(I)Ljava/lang/Throwable;" } : Jvm.MethodName)) ∈ lw_all := lw_g (lw_at lw_m5 18 rfl) rfl
theorem in_J11 : ∀ w ∈ wsJ110, w ∈ lw_all := lw_in wsJ110 [1037, 1038, 1039, 1040, 1041, 1042, 1033, 1035] (by decide +kernel) (by decide +kernel)
/-! java/lang/IllegalArgumentException -/
set_option maxRecDepth 100000
def RJ12 : String := "java/lang/IllegalArgumentException"
def TJ12 : u_T := fun k => match k with
  | 0 => ("java/lang/Throwable", "cause", "Ljava/lang/Throwable;", false)
  | 1 => ("java/lang/Throwable", "stackTrace", "[Ljava/lang/StackTraceElement;", false)
  | 2 => ("java/lang/Throwable", "suppressedExceptions", "Ljava/util/List;", false)
  | 3 => ("java/lang/Throwable", "detailMessage", "Ljava/lang/String;", false)
  | 4 => ("java/lang/Throwable", "backtrace", "Ljava/lang/Object;", false)
  | _ => ("java/lang/Throwable", "depth", "I", false)
def tyJ12 : Nat → FieldType := fun k => match k with
  | 0 => .object "java/lang/Throwable"
  | 1 => .array (.object "java/lang/StackTraceElement")
  | 2 => .object "java/util/List"
  | 3 => .object "java/lang/String"
  | 4 => .object "java/lang/Object"
  | _ => .int
abbrev wsJ120 : List Cond := u_ws RJ12 TJ12 6
theorem nmJ12 : ∀ a, a < 6 → ∀ b, b < 6 → a ≠ b → (TJ12 a).2.1 ≠ (TJ12 b).2.1 := by decide +kernel
theorem tyJ12_ok : ∀ k, k < 6 → parseFieldDescriptor (TJ12 k).2.2.1 = some (tyJ12 k) := by decide +kernel
abbrev cJ12_init : ByteArray := prog_25_method_1_code
def yJ12_init : MethodName := ⟨RJ12, "<init>", "()V"⟩
theorem dJ12_init_0 : decode cJ12_init 0 = .ok (.aload_n 0, 1) := by decide +kernel
theorem dJ12_init_1 : decode cJ12_init 1 = .ok (.invokespecial 1, 3) := by decide +kernel
theorem dJ12_init_4 : decode cJ12_init 4 = .ok (.return_, 1) := by decide +kernel
theorem q95 : (Jvm.Cond.initialized "java/lang/IllegalArgumentException") ∈ lw_all := lw_g (lw_at lw_m1 29 rfl) rfl
theorem q129 : (Jvm.Cond.selects "java/lang/IllegalArgumentException" ({ cls := "java/lang/Throwable", name := "fillInStackTrace", desc := "()Ljava/lang/Throwable;" } : Jvm.MethodName) ({ cls := "java/lang/Throwable", name := "fillInStackTrace", desc := "()Ljava/lang/Throwable;" } : Jvm.MethodName)) ∈ lw_all := lw_g (lw_at lw_m1 63 rfl) rfl
theorem q1135 : (Jvm.Cond.instantiable "java/lang/IllegalArgumentException" (6 : Nat)) ∈ lw_all := lw_g (lw_at lw_m5 109 rfl) rfl
theorem q1136 : (Jvm.Cond.castable "java/lang/IllegalArgumentException" "java/lang/IllegalArgumentException") ∈ lw_tbl := lw_at lw_m5 110 rfl
theorem q1137 : (Jvm.Cond.selects "java/lang/IllegalArgumentException" ({ cls := "java/lang/Throwable", name := "fillInStackTrace", desc := "(I)Ljava/lang/Throwable;" } : Jvm.MethodName) ({ cls := "java/lang/Throwable", name := "fillInStackTrace", desc := "(I)Ljava/lang/Throwable;" } : Jvm.MethodName)) ∈ lw_all := lw_g (lw_at lw_m5 111 rfl) rfl
theorem q1138 : (Jvm.Cond.lays "java/lang/IllegalArgumentException" "java/lang/Throwable" "cause" "Ljava/lang/Throwable;") ∈ lw_all := lw_g (lw_at lw_m5 112 rfl) rfl
theorem q1139 : (Jvm.Cond.lays "java/lang/IllegalArgumentException" "java/lang/Throwable" "stackTrace" "[Ljava/lang/StackTraceElement;") ∈ lw_all := lw_g (lw_at lw_m5 113 rfl) rfl
theorem q1140 : (Jvm.Cond.lays "java/lang/IllegalArgumentException" "java/lang/Throwable" "suppressedExceptions" "Ljava/util/List;") ∈ lw_all := lw_g (lw_at lw_m5 114 rfl) rfl
theorem q1141 : (Jvm.Cond.lays "java/lang/IllegalArgumentException" "java/lang/Throwable" "detailMessage" "Ljava/lang/String;") ∈ lw_all := lw_g (lw_at lw_m5 115 rfl) rfl
theorem q1142 : (Jvm.Cond.lays "java/lang/IllegalArgumentException" "java/lang/Throwable" "backtrace" "Ljava/lang/Object;") ∈ lw_all := lw_g (lw_at lw_m5 116 rfl) rfl
theorem q1144 : (Jvm.Cond.instanceMethod ({ cls := "java/lang/IllegalArgumentException", name := "<init>", desc := "()V" } : Jvm.MethodName)) ∈ lw_all := lw_g (lw_at lw_m5 118 rfl) rfl
theorem q1145 : (Jvm.Cond.code ({ cls := "java/lang/IllegalArgumentException", name := "<init>", desc := "()V" } : Jvm.MethodName) prog_25_method_1_code (1 : Nat) (Option.none : Option Jvm.ClassFile.FieldType)) ∈ lw_all := lw_g (lw_at lw_m5 119 rfl) rfl
theorem q1146 : (Jvm.Cond.methodLink "java/lang/IllegalArgumentException" (1 : Nat) ({ cls := "java/lang/RuntimeException", name := "<init>", desc := "()V" } : Jvm.MethodName)) ∈ lw_all := lw_g (lw_at lw_m5 120 rfl) rfl
theorem q1147 : (Jvm.Cond.lays "java/lang/IllegalArgumentException" "java/lang/Throwable" "depth" "I") ∈ lw_all := lw_g (lw_at lw_m5 121 rfl) rfl
theorem q1148 : (Jvm.Cond.superclass "java/lang/IllegalArgumentException" "java/lang/RuntimeException") ∈ lw_all := lw_g (lw_at lw_m5 122 rfl) rfl
theorem in_J12 : ∀ w ∈ wsJ120, w ∈ lw_all := lw_in wsJ120 [1138, 1139, 1140, 1141, 1142, 1147] (by decide +kernel) (by decide +kernel)
/-! java/lang/IllegalStateException -/
set_option maxRecDepth 100000
def RJ13 : String := "java/lang/IllegalStateException"
def TJ13 : u_T := fun k => match k with
  | 0 => ("java/lang/Throwable", "cause", "Ljava/lang/Throwable;", false)
  | 1 => ("java/lang/Throwable", "stackTrace", "[Ljava/lang/StackTraceElement;", false)
  | 2 => ("java/lang/Throwable", "suppressedExceptions", "Ljava/util/List;", false)
  | 3 => ("java/lang/Throwable", "detailMessage", "Ljava/lang/String;", false)
  | 4 => ("java/lang/Throwable", "backtrace", "Ljava/lang/Object;", false)
  | _ => ("java/lang/Throwable", "depth", "I", false)
def tyJ13 : Nat → FieldType := fun k => match k with
  | 0 => .object "java/lang/Throwable"
  | 1 => .array (.object "java/lang/StackTraceElement")
  | 2 => .object "java/util/List"
  | 3 => .object "java/lang/String"
  | 4 => .object "java/lang/Object"
  | _ => .int
abbrev wsJ130 : List Cond := u_ws RJ13 TJ13 6
theorem nmJ13 : ∀ a, a < 6 → ∀ b, b < 6 → a ≠ b → (TJ13 a).2.1 ≠ (TJ13 b).2.1 := by decide +kernel
theorem tyJ13_ok : ∀ k, k < 6 → parseFieldDescriptor (TJ13 k).2.2.1 = some (tyJ13 k) := by decide +kernel
abbrev cJ13_init : ByteArray := prog_26_method_1_code
def yJ13_init : MethodName := ⟨RJ13, "<init>", "()V"⟩
theorem dJ13_init_0 : decode cJ13_init 0 = .ok (.aload_n 0, 1) := by decide +kernel
theorem dJ13_init_1 : decode cJ13_init 1 = .ok (.invokespecial 1, 3) := by decide +kernel
theorem dJ13_init_4 : decode cJ13_init 4 = .ok (.return_, 1) := by decide +kernel
theorem q96 : (Jvm.Cond.initialized "java/lang/IllegalStateException") ∈ lw_all := lw_g (lw_at lw_m1 30 rfl) rfl
theorem q130 : (Jvm.Cond.selects "java/lang/IllegalStateException" ({ cls := "java/lang/Throwable", name := "fillInStackTrace", desc := "()Ljava/lang/Throwable;" } : Jvm.MethodName) ({ cls := "java/lang/Throwable", name := "fillInStackTrace", desc := "()Ljava/lang/Throwable;" } : Jvm.MethodName)) ∈ lw_all := lw_g (lw_at lw_m1 64 rfl) rfl
theorem q1150 : (Jvm.Cond.instantiable "java/lang/IllegalStateException" (6 : Nat)) ∈ lw_all := lw_g (lw_at lw_m5 124 rfl) rfl
theorem q1151 : (Jvm.Cond.castable "java/lang/IllegalStateException" "java/lang/IllegalStateException") ∈ lw_tbl := lw_at lw_m5 125 rfl
theorem q1152 : (Jvm.Cond.selects "java/lang/IllegalStateException" ({ cls := "java/lang/Throwable", name := "fillInStackTrace", desc := "(I)Ljava/lang/Throwable;" } : Jvm.MethodName) ({ cls := "java/lang/Throwable", name := "fillInStackTrace", desc := "(I)Ljava/lang/Throwable;" } : Jvm.MethodName)) ∈ lw_all := lw_g (lw_at lw_m5 126 rfl) rfl
theorem q1153 : (Jvm.Cond.lays "java/lang/IllegalStateException" "java/lang/Throwable" "cause" "Ljava/lang/Throwable;") ∈ lw_all := lw_g (lw_at lw_m5 127 rfl) rfl
theorem q1154 : (Jvm.Cond.lays "java/lang/IllegalStateException" "java/lang/Throwable" "stackTrace" "[Ljava/lang/StackTraceElement;") ∈ lw_all := lw_g (lw_at lw_m5 128 rfl) rfl
theorem q1155 : (Jvm.Cond.lays "java/lang/IllegalStateException" "java/lang/Throwable" "suppressedExceptions" "Ljava/util/List;") ∈ lw_all := lw_g (lw_at lw_m5 129 rfl) rfl
theorem q1156 : (Jvm.Cond.lays "java/lang/IllegalStateException" "java/lang/Throwable" "detailMessage" "Ljava/lang/String;") ∈ lw_all := lw_g (lw_at lw_m5 130 rfl) rfl
theorem q1157 : (Jvm.Cond.lays "java/lang/IllegalStateException" "java/lang/Throwable" "backtrace" "Ljava/lang/Object;") ∈ lw_all := lw_g (lw_at lw_m5 131 rfl) rfl
theorem q1159 : (Jvm.Cond.instanceMethod ({ cls := "java/lang/IllegalStateException", name := "<init>", desc := "()V" } : Jvm.MethodName)) ∈ lw_all := lw_g (lw_at lw_m5 133 rfl) rfl
theorem q1160 : (Jvm.Cond.code ({ cls := "java/lang/IllegalStateException", name := "<init>", desc := "()V" } : Jvm.MethodName) prog_26_method_1_code (1 : Nat) (Option.none : Option Jvm.ClassFile.FieldType)) ∈ lw_all := lw_g (lw_at lw_m5 134 rfl) rfl
theorem q1161 : (Jvm.Cond.methodLink "java/lang/IllegalStateException" (1 : Nat) ({ cls := "java/lang/RuntimeException", name := "<init>", desc := "()V" } : Jvm.MethodName)) ∈ lw_all := lw_g (lw_at lw_m5 135 rfl) rfl
theorem q1162 : (Jvm.Cond.lays "java/lang/IllegalStateException" "java/lang/Throwable" "depth" "I") ∈ lw_all := lw_g (lw_at lw_m5 136 rfl) rfl
theorem q1163 : (Jvm.Cond.superclass "java/lang/IllegalStateException" "java/lang/RuntimeException") ∈ lw_all := lw_g (lw_at lw_m5 137 rfl) rfl
theorem in_J13 : ∀ w ∈ wsJ130, w ∈ lw_all := lw_in wsJ130 [1153, 1154, 1155, 1156, 1157, 1162] (by decide +kernel) (by decide +kernel)
/-! java/lang/Object -/
set_option maxRecDepth 100000
def RJ14 : String := "java/lang/Object"
abbrev cJ14_init : ByteArray := object_method_1_code
def yJ14_init : MethodName := ⟨RJ14, "<init>", "()V"⟩
theorem dJ14_init_0 : decode cJ14_init 0 = .ok (.return_, 1) := by decide +kernel
theorem q116 : (Jvm.Cond.instanceMethod ({ cls := "java/lang/Object", name := "<init>", desc := "()V" } : Jvm.MethodName)) ∈ lw_all := lw_g (lw_at lw_m1 50 rfl) rfl
theorem q117 : (Jvm.Cond.code ({ cls := "java/lang/Object", name := "<init>", desc := "()V" } : Jvm.MethodName) object_method_1_code (1 : Nat) (Option.none : Option Jvm.ClassFile.FieldType)) ∈ lw_all := lw_g (lw_at lw_m1 51 rfl) rfl
/-! java/lang/RuntimeException -/
set_option maxRecDepth 100000
def RJ2 : String := "java/lang/RuntimeException"
abbrev cJ2_init : ByteArray := prog_32_method_2_code
def yJ2_init : MethodName := ⟨RJ2, "<init>", "(Ljava/lang/String;)V"⟩
def dkwJ2_init_0 : List UInt8 := [42, 43, 183, 0, 7, 177]
abbrev dktJ2_init_0 : List UInt8 := dkwJ2_init_0 ++ []
theorem dksJ2_init_0 : cJ2_init.data.toList.drop 0 = dktJ2_init_0 := by decide +kernel
theorem dJ2_init_0 : decode cJ2_init 0 = .ok (.aload_n 0, 1) := dk_42 (dk_at dksJ2_init_0 0 rfl rfl)
theorem dJ2_init_1 : decode cJ2_init 1 = .ok (.aload_n 1, 1) := dk_43 (dk_at dksJ2_init_0 1 rfl rfl)
theorem dJ2_init_2 : decode cJ2_init 2 = .ok (.invokespecial 7, 3) := dk_183 0 7 (dk_at dksJ2_init_0 2 rfl rfl)
theorem dJ2_init_5 : decode cJ2_init 5 = .ok (.return_, 1) := dk_177 (dk_at dksJ2_init_0 5 rfl rfl)
abbrev cJ2_init_2 : ByteArray := prog_32_method_1_code
def yJ2_init_2 : MethodName := ⟨RJ2, "<init>", "()V"⟩
theorem dJ2_init_2_0 : decode cJ2_init_2 0 = .ok (.aload_n 0, 1) := by decide +kernel
theorem dJ2_init_2_1 : decode cJ2_init_2 1 = .ok (.invokespecial 1, 3) := by decide +kernel
theorem dJ2_init_2_4 : decode cJ2_init_2 4 = .ok (.return_, 1) := by decide +kernel
theorem q73 : (Jvm.Cond.initialized "java/lang/RuntimeException") ∈ lw_all := lw_g (lw_at lw_m1 7 rfl) rfl
theorem q107 : (Jvm.Cond.instanceMethod ({ cls := "java/lang/RuntimeException", name := "<init>", desc := "(Ljava/lang/String;)V" } : Jvm.MethodName)) ∈ lw_all := lw_g (lw_at lw_m1 41 rfl) rfl
theorem q108 : (Jvm.Cond.code ({ cls := "java/lang/RuntimeException", name := "<init>", desc := "(Ljava/lang/String;)V" } : Jvm.MethodName) prog_32_method_2_code (2 : Nat) (Option.none : Option Jvm.ClassFile.FieldType)) ∈ lw_all := lw_g (lw_at lw_m1 42 rfl) rfl
theorem q109 : (Jvm.Cond.methodLink "java/lang/RuntimeException" (7 : Nat) ({ cls := "java/lang/Exception", name := "<init>", desc := "(Ljava/lang/String;)V" } : Jvm.MethodName)) ∈ lw_all := lw_g (lw_at lw_m1 43 rfl) rfl
theorem q141 : (Jvm.Cond.sameMethod "java/lang/RuntimeException" "java/lang/Throwable" "fillInStackTrace" "()Ljava/lang/Throwable;") ∈ lw_all := lw_g (lw_at lw_m1 75 rfl) rfl
theorem q144 : (Jvm.Cond.superclass "java/lang/RuntimeException" "java/lang/Exception") ∈ lw_all := lw_g (lw_at lw_m1 78 rfl) rfl
theorem q171 : (Jvm.Cond.declares ({ cls := "java/lang/RuntimeException", name := "<init>", desc := "()V" } : Jvm.MethodName)) ∈ lw_tbl := lw_at lw_m1 105 rfl
theorem q172 : (Jvm.Cond.declares ({ cls := "java/lang/RuntimeException", name := "<init>", desc := "(Ljava/lang/String;)V" } : Jvm.MethodName)) ∈ lw_tbl := lw_at lw_m1 106 rfl
theorem q1028 : (Jvm.Cond.instanceMethod ({ cls := "java/lang/RuntimeException", name := "<init>", desc := "()V" } : Jvm.MethodName)) ∈ lw_all := lw_g (lw_at lw_m5 2 rfl) rfl
theorem q1029 : (Jvm.Cond.code ({ cls := "java/lang/RuntimeException", name := "<init>", desc := "()V" } : Jvm.MethodName) prog_32_method_1_code (1 : Nat) (Option.none : Option Jvm.ClassFile.FieldType)) ∈ lw_all := lw_g (lw_at lw_m5 3 rfl) rfl
theorem q1030 : (Jvm.Cond.methodLink "java/lang/RuntimeException" (1 : Nat) ({ cls := "java/lang/Exception", name := "<init>", desc := "()V" } : Jvm.MethodName)) ∈ lw_all := lw_g (lw_at lw_m5 4 rfl) rfl
theorem q1045 : (Jvm.Cond.castable "java/lang/RuntimeException" "java/lang/Throwable") ∈ lw_tbl := lw_at lw_m5 19 rfl
/-! java/lang/ClassCastException -/
set_option maxRecDepth 100000
def RJ3 : String := "java/lang/ClassCastException"
def TJ3 : u_T := fun k => match k with
  | 0 => ("java/lang/Throwable", "backtrace", "Ljava/lang/Object;", false)
  | 1 => ("java/lang/Throwable", "detailMessage", "Ljava/lang/String;", false)
  | 2 => ("java/lang/Throwable", "cause", "Ljava/lang/Throwable;", false)
  | 3 => ("java/lang/Throwable", "stackTrace", "[Ljava/lang/StackTraceElement;", false)
  | 4 => ("java/lang/Throwable", "depth", "I", false)
  | _ => ("java/lang/Throwable", "suppressedExceptions", "Ljava/util/List;", false)
def tyJ3 : Nat → FieldType := fun k => match k with
  | 0 => .object "java/lang/Object"
  | 1 => .object "java/lang/String"
  | 2 => .object "java/lang/Throwable"
  | 3 => .array (.object "java/lang/StackTraceElement")
  | 4 => .int
  | _ => .object "java/util/List"
abbrev wsJ30 : List Cond := u_ws RJ3 TJ3 6
theorem nmJ3 : ∀ a, a < 6 → ∀ b, b < 6 → a ≠ b → (TJ3 a).2.1 ≠ (TJ3 b).2.1 := by decide +kernel
theorem tyJ3_ok : ∀ k, k < 6 → parseFieldDescriptor (TJ3 k).2.2.1 = some (tyJ3 k) := by decide +kernel
abbrev cJ3_init : ByteArray := prog_23_method_2_code
def yJ3_init : MethodName := ⟨RJ3, "<init>", "(Ljava/lang/String;)V"⟩
def dkwJ3_init_0 : List UInt8 := [42, 43, 183, 0, 7, 177]
abbrev dktJ3_init_0 : List UInt8 := dkwJ3_init_0 ++ []
theorem dksJ3_init_0 : cJ3_init.data.toList.drop 0 = dktJ3_init_0 := by decide +kernel
theorem dJ3_init_0 : decode cJ3_init 0 = .ok (.aload_n 0, 1) := dk_42 (dk_at dksJ3_init_0 0 rfl rfl)
theorem dJ3_init_1 : decode cJ3_init 1 = .ok (.aload_n 1, 1) := dk_43 (dk_at dksJ3_init_0 1 rfl rfl)
theorem dJ3_init_2 : decode cJ3_init 2 = .ok (.invokespecial 7, 3) := dk_183 0 7 (dk_at dksJ3_init_0 2 rfl rfl)
theorem dJ3_init_5 : decode cJ3_init 5 = .ok (.return_, 1) := dk_177 (dk_at dksJ3_init_0 5 rfl rfl)
theorem q74 : (Jvm.Cond.initialized "java/lang/ClassCastException") ∈ lw_all := lw_g (lw_at lw_m1 8 rfl) rfl
theorem q103 : (Jvm.Cond.instantiable "java/lang/ClassCastException" (6 : Nat)) ∈ lw_all := lw_g (lw_at lw_m1 37 rfl) rfl
theorem q104 : (Jvm.Cond.instanceMethod ({ cls := "java/lang/ClassCastException", name := "<init>", desc := "(Ljava/lang/String;)V" } : Jvm.MethodName)) ∈ lw_all := lw_g (lw_at lw_m1 38 rfl) rfl
theorem q105 : (Jvm.Cond.code ({ cls := "java/lang/ClassCastException", name := "<init>", desc := "(Ljava/lang/String;)V" } : Jvm.MethodName) prog_23_method_2_code (2 : Nat) (Option.none : Option Jvm.ClassFile.FieldType)) ∈ lw_all := lw_g (lw_at lw_m1 39 rfl) rfl
theorem q106 : (Jvm.Cond.methodLink "java/lang/ClassCastException" (7 : Nat) ({ cls := "java/lang/RuntimeException", name := "<init>", desc := "(Ljava/lang/String;)V" } : Jvm.MethodName)) ∈ lw_all := lw_g (lw_at lw_m1 40 rfl) rfl
theorem q128 : (Jvm.Cond.selects "java/lang/ClassCastException" ({ cls := "java/lang/Throwable", name := "fillInStackTrace", desc := "()Ljava/lang/Throwable;" } : Jvm.MethodName) ({ cls := "java/lang/Throwable", name := "fillInStackTrace", desc := "()Ljava/lang/Throwable;" } : Jvm.MethodName)) ∈ lw_all := lw_g (lw_at lw_m1 62 rfl) rfl
theorem q157 : (Jvm.Cond.lays "java/lang/ClassCastException" "java/lang/Throwable" "backtrace" "Ljava/lang/Object;") ∈ lw_all := lw_g (lw_at lw_m1 91 rfl) rfl
theorem q159 : (Jvm.Cond.lays "java/lang/ClassCastException" "java/lang/Throwable" "detailMessage" "Ljava/lang/String;") ∈ lw_all := lw_g (lw_at lw_m1 93 rfl) rfl
theorem q161 : (Jvm.Cond.lays "java/lang/ClassCastException" "java/lang/Throwable" "cause" "Ljava/lang/Throwable;") ∈ lw_all := lw_g (lw_at lw_m1 95 rfl) rfl
theorem q163 : (Jvm.Cond.lays "java/lang/ClassCastException" "java/lang/Throwable" "stackTrace" "[Ljava/lang/StackTraceElement;") ∈ lw_all := lw_g (lw_at lw_m1 97 rfl) rfl
theorem q165 : (Jvm.Cond.lays "java/lang/ClassCastException" "java/lang/Throwable" "depth" "I") ∈ lw_all := lw_g (lw_at lw_m1 99 rfl) rfl
theorem q167 : (Jvm.Cond.lays "java/lang/ClassCastException" "java/lang/Throwable" "suppressedExceptions" "Ljava/util/List;") ∈ lw_all := lw_g (lw_at lw_m1 101 rfl) rfl
theorem q169 : (Jvm.Cond.superclass "java/lang/ClassCastException" "java/lang/RuntimeException") ∈ lw_all := lw_g (lw_at lw_m1 103 rfl) rfl
theorem q170 : (Jvm.Cond.castable "java/lang/ClassCastException" "java/lang/ClassCastException") ∈ lw_tbl := lw_at lw_m1 104 rfl
theorem q177 : (Jvm.Cond.selects "java/lang/ClassCastException" ({ cls := "java/lang/Throwable", name := "fillInStackTrace", desc := "(I)Ljava/lang/Throwable;" } : Jvm.MethodName) ({ cls := "java/lang/Throwable", name := "fillInStackTrace", desc := "(I)Ljava/lang/Throwable;" } : Jvm.MethodName)) ∈ lw_all := lw_g (lw_at lw_m1 111 rfl) rfl
theorem in_J3 : ∀ w ∈ wsJ30, w ∈ lw_all := lw_in wsJ30 [157, 159, 161, 163, 165, 167] (by decide +kernel) (by decide +kernel)
/-! java/lang/String -/
set_option maxRecDepth 100000
def RJ4 : String := "java/lang/String"
def TJ4 : u_T := fun k => match k with
  | 0 => ("java/lang/String", "value", "[B", true)
  | _ => ("java/lang/String", "coder", "B", true)
def tyJ4 : Nat → FieldType := fun k => match k with
  | 0 => .array .byte
  | _ => .byte
abbrev wsJ40 : List Cond := u_ws RJ4 TJ4 2
theorem nmJ4 : ∀ a, a < 2 → ∀ b, b < 2 → a ≠ b → (TJ4 a).2.1 ≠ (TJ4 b).2.1 := by decide +kernel
theorem tyJ4_ok : ∀ k, k < 2 → parseFieldDescriptor (TJ4 k).2.2.1 = some (tyJ4 k) := by decide +kernel
theorem q75 : (Jvm.Cond.initialized "java/lang/String") ∈ lw_all := lw_g (lw_at lw_m1 9 rfl) rfl
theorem q187 : (Jvm.Cond.instantiable "java/lang/String" (4 : Nat)) ∈ lw_all := lw_g (lw_at lw_m1 121 rfl) rfl
theorem q189 : (Jvm.Cond.laysFinal "java/lang/String" "java/lang/String" "value" "[B") ∈ lw_all := lw_g (lw_at lw_m1 123 rfl) rfl
theorem q190 : (Jvm.Cond.soleField "java/lang/String" "value") ∈ lw_all := lw_g (lw_at lw_m1 124 rfl) rfl
theorem q191 : (Jvm.Cond.laysFinal "java/lang/String" "java/lang/String" "coder" "B") ∈ lw_all := lw_g (lw_at lw_m1 125 rfl) rfl
theorem q192 : (Jvm.Cond.soleField "java/lang/String" "coder") ∈ lw_all := lw_g (lw_at lw_m1 126 rfl) rfl
theorem in_J4 : ∀ w ∈ wsJ40, w ∈ lw_all := lw_in wsJ40 [189, 191] (by decide +kernel) (by decide +kernel)
/-! java/util/Arrays -/
set_option maxRecDepth 100000
def RJ5 : String := "java/util/Arrays"
abbrev cJ5_fill : ByteArray := prog_36_method_103_code
def yJ5_fill : MethodName := ⟨RJ5, "fill", "([II)V"⟩
def dkwJ5_fill_0 : List UInt8 := [3, 61, 42, 190, 62, 28, 29, 162, 0, 13, 42, 28, 27, 79, 132, 2, 1, 167, 255, 244, 177]
abbrev dktJ5_fill_0 : List UInt8 := dkwJ5_fill_0 ++ []
theorem dksJ5_fill_0 : cJ5_fill.data.toList.drop 0 = dktJ5_fill_0 := by decide +kernel
theorem dJ5_fill_0 : decode cJ5_fill 0 = .ok (.iconst 0, 1) := dk_3 (dk_at dksJ5_fill_0 0 rfl rfl)
theorem dJ5_fill_1 : decode cJ5_fill 1 = .ok (.istore_n 2, 1) := dk_61 (dk_at dksJ5_fill_0 1 rfl rfl)
theorem dJ5_fill_2 : decode cJ5_fill 2 = .ok (.aload_n 0, 1) := dk_42 (dk_at dksJ5_fill_0 2 rfl rfl)
theorem dJ5_fill_3 : decode cJ5_fill 3 = .ok (.arraylength, 1) := dk_190 (dk_at dksJ5_fill_0 3 rfl rfl)
theorem dJ5_fill_4 : decode cJ5_fill 4 = .ok (.istore_n 3, 1) := dk_62 (dk_at dksJ5_fill_0 4 rfl rfl)
theorem dJ5_fill_5 : decode cJ5_fill 5 = .ok (.iload_n 2, 1) := dk_28 (dk_at dksJ5_fill_0 5 rfl rfl)
theorem dJ5_fill_6 : decode cJ5_fill 6 = .ok (.iload_n 3, 1) := dk_29 (dk_at dksJ5_fill_0 6 rfl rfl)
theorem dJ5_fill_7 : decode cJ5_fill 7 = .ok (.if_icmp .ge 13, 3) := dk_162 0 13 (dk_at dksJ5_fill_0 7 rfl rfl)
theorem dJ5_fill_10 : decode cJ5_fill 10 = .ok (.aload_n 0, 1) := dk_42 (dk_at dksJ5_fill_0 10 rfl rfl)
theorem dJ5_fill_11 : decode cJ5_fill 11 = .ok (.iload_n 2, 1) := dk_28 (dk_at dksJ5_fill_0 11 rfl rfl)
theorem dJ5_fill_12 : decode cJ5_fill 12 = .ok (.iload_n 1, 1) := dk_27 (dk_at dksJ5_fill_0 12 rfl rfl)
theorem dJ5_fill_13 : decode cJ5_fill 13 = .ok (.iastore, 1) := dk_79 (dk_at dksJ5_fill_0 13 rfl rfl)
theorem dJ5_fill_14 : decode cJ5_fill 14 = .ok (.iinc 2 1, 3) := dk_132 2 1 (dk_at dksJ5_fill_0 14 rfl rfl)
theorem dJ5_fill_17 : decode cJ5_fill 17 = .ok (.goto (-12), 3) := dk_167 255 244 (dk_at dksJ5_fill_0 17 rfl rfl)
theorem dJ5_fill_20 : decode cJ5_fill 20 = .ok (.return_, 1) := dk_177 (dk_at dksJ5_fill_0 20 rfl rfl)
theorem q80 : (Jvm.Cond.initialized "java/util/Arrays") ∈ lw_all := lw_g (lw_at lw_m1 14 rfl) rfl
theorem q310 : (Jvm.Cond.static ({ cls := "java/util/Arrays", name := "fill", desc := "([II)V" } : Jvm.MethodName)) ∈ lw_all := lw_g (lw_at lw_m2 4 rfl) rfl
theorem q311 : (Jvm.Cond.code ({ cls := "java/util/Arrays", name := "fill", desc := "([II)V" } : Jvm.MethodName) prog_36_method_103_code (4 : Nat) (Option.none : Option Jvm.ClassFile.FieldType)) ∈ lw_all := lw_g (lw_at lw_m2 5 rfl) rfl
/-! java/lang/Math -/
set_option maxRecDepth 100000
def RJ6 : String := "java/lang/Math"
abbrev cJ6_min : ByteArray := prog_29_method_69_code
def yJ6_min : MethodName := ⟨RJ6, "min", "(II)I"⟩
def dkwJ6_min_0 : List UInt8 := [26, 27, 163, 0, 7, 26, 167, 0, 4, 27, 172]
abbrev dktJ6_min_0 : List UInt8 := dkwJ6_min_0 ++ []
theorem dksJ6_min_0 : cJ6_min.data.toList.drop 0 = dktJ6_min_0 := by decide +kernel
theorem dJ6_min_0 : decode cJ6_min 0 = .ok (.iload_n 0, 1) := dk_26 (dk_at dksJ6_min_0 0 rfl rfl)
theorem dJ6_min_1 : decode cJ6_min 1 = .ok (.iload_n 1, 1) := dk_27 (dk_at dksJ6_min_0 1 rfl rfl)
theorem dJ6_min_2 : decode cJ6_min 2 = .ok (.if_icmp .gt 7, 3) := dk_163 0 7 (dk_at dksJ6_min_0 2 rfl rfl)
theorem dJ6_min_5 : decode cJ6_min 5 = .ok (.iload_n 0, 1) := dk_26 (dk_at dksJ6_min_0 5 rfl rfl)
theorem dJ6_min_6 : decode cJ6_min 6 = .ok (.goto 4, 3) := dk_167 0 4 (dk_at dksJ6_min_0 6 rfl rfl)
theorem dJ6_min_9 : decode cJ6_min 9 = .ok (.iload_n 1, 1) := dk_27 (dk_at dksJ6_min_0 9 rfl rfl)
theorem dJ6_min_10 : decode cJ6_min 10 = .ok (.ireturn, 1) := dk_172 (dk_at dksJ6_min_0 10 rfl rfl)
abbrev cJ6_max : ByteArray := prog_29_method_65_code
def yJ6_max : MethodName := ⟨RJ6, "max", "(II)I"⟩
def dkwJ6_max_0 : List UInt8 := [26, 27, 161, 0, 7, 26, 167, 0, 4, 27, 172]
abbrev dktJ6_max_0 : List UInt8 := dkwJ6_max_0 ++ []
theorem dksJ6_max_0 : cJ6_max.data.toList.drop 0 = dktJ6_max_0 := by decide +kernel
theorem dJ6_max_0 : decode cJ6_max 0 = .ok (.iload_n 0, 1) := dk_26 (dk_at dksJ6_max_0 0 rfl rfl)
theorem dJ6_max_1 : decode cJ6_max 1 = .ok (.iload_n 1, 1) := dk_27 (dk_at dksJ6_max_0 1 rfl rfl)
theorem dJ6_max_2 : decode cJ6_max 2 = .ok (.if_icmp .lt 7, 3) := dk_161 0 7 (dk_at dksJ6_max_0 2 rfl rfl)
theorem dJ6_max_5 : decode cJ6_max 5 = .ok (.iload_n 0, 1) := dk_26 (dk_at dksJ6_max_0 5 rfl rfl)
theorem dJ6_max_6 : decode cJ6_max 6 = .ok (.goto 4, 3) := dk_167 0 4 (dk_at dksJ6_max_0 6 rfl rfl)
theorem dJ6_max_9 : decode cJ6_max 9 = .ok (.iload_n 1, 1) := dk_27 (dk_at dksJ6_max_0 9 rfl rfl)
theorem dJ6_max_10 : decode cJ6_max 10 = .ok (.ireturn, 1) := dk_172 (dk_at dksJ6_max_0 10 rfl rfl)
abbrev cJ6_abs : ByteArray := prog_29_method_59_code
def yJ6_abs : MethodName := ⟨RJ6, "abs", "(I)I"⟩
def dkwJ6_abs_0 : List UInt8 := [26, 156, 0, 8, 26, 116, 167, 0, 4, 26, 172]
abbrev dktJ6_abs_0 : List UInt8 := dkwJ6_abs_0 ++ []
theorem dksJ6_abs_0 : cJ6_abs.data.toList.drop 0 = dktJ6_abs_0 := by decide +kernel
theorem dJ6_abs_0 : decode cJ6_abs 0 = .ok (.iload_n 0, 1) := dk_26 (dk_at dksJ6_abs_0 0 rfl rfl)
theorem dJ6_abs_1 : decode cJ6_abs 1 = .ok (.ifCond .ge 8, 3) := dk_156 0 8 (dk_at dksJ6_abs_0 1 rfl rfl)
theorem dJ6_abs_4 : decode cJ6_abs 4 = .ok (.iload_n 0, 1) := dk_26 (dk_at dksJ6_abs_0 4 rfl rfl)
theorem dJ6_abs_5 : decode cJ6_abs 5 = .ok (.ineg, 1) := dk_116 (dk_at dksJ6_abs_0 5 rfl rfl)
theorem dJ6_abs_6 : decode cJ6_abs 6 = .ok (.goto 4, 3) := dk_167 0 4 (dk_at dksJ6_abs_0 6 rfl rfl)
theorem dJ6_abs_9 : decode cJ6_abs 9 = .ok (.iload_n 0, 1) := dk_26 (dk_at dksJ6_abs_0 9 rfl rfl)
theorem dJ6_abs_10 : decode cJ6_abs 10 = .ok (.ireturn, 1) := dk_172 (dk_at dksJ6_abs_0 10 rfl rfl)
theorem q89 : (Jvm.Cond.initialized "java/lang/Math") ∈ lw_all := lw_g (lw_at lw_m1 23 rfl) rfl
theorem q444 : (Jvm.Cond.static ({ cls := "java/lang/Math", name := "min", desc := "(II)I" } : Jvm.MethodName)) ∈ lw_all := lw_g (lw_at lw_m2 138 rfl) rfl
theorem q445 : (Jvm.Cond.code ({ cls := "java/lang/Math", name := "min", desc := "(II)I" } : Jvm.MethodName) prog_29_method_69_code (2 : Nat) (Option.some Jvm.ClassFile.FieldType.int)) ∈ lw_all := lw_g (lw_at lw_m2 139 rfl) rfl
theorem q447 : (Jvm.Cond.static ({ cls := "java/lang/Math", name := "max", desc := "(II)I" } : Jvm.MethodName)) ∈ lw_all := lw_g (lw_at lw_m2 141 rfl) rfl
theorem q448 : (Jvm.Cond.code ({ cls := "java/lang/Math", name := "max", desc := "(II)I" } : Jvm.MethodName) prog_29_method_65_code (2 : Nat) (Option.some Jvm.ClassFile.FieldType.int)) ∈ lw_all := lw_g (lw_at lw_m2 142 rfl) rfl
theorem q517 : (Jvm.Cond.static ({ cls := "java/lang/Math", name := "abs", desc := "(I)I" } : Jvm.MethodName)) ∈ lw_all := lw_g (lw_at lw_m2 211 rfl) rfl
theorem q518 : (Jvm.Cond.code ({ cls := "java/lang/Math", name := "abs", desc := "(I)I" } : Jvm.MethodName) prog_29_method_59_code (1 : Nat) (Option.some Jvm.ClassFile.FieldType.int)) ∈ lw_all := lw_g (lw_at lw_m2 212 rfl) rfl
/-! java/lang/Integer -/
set_option maxRecDepth 100000
def RJ7 : String := "java/lang/Integer"
abbrev cJ7_compare : ByteArray := prog_28_method_40_code
def yJ7_compare : MethodName := ⟨RJ7, "compare", "(II)I"⟩
def dkwJ7_compare_0 : List UInt8 := [26, 27, 162, 0, 7, 2, 167, 0, 13, 26, 27, 160, 0, 7, 3, 167, 0, 4, 4, 172]
abbrev dktJ7_compare_0 : List UInt8 := dkwJ7_compare_0 ++ []
theorem dksJ7_compare_0 : cJ7_compare.data.toList.drop 0 = dktJ7_compare_0 := by decide +kernel
theorem dJ7_compare_0 : decode cJ7_compare 0 = .ok (.iload_n 0, 1) := dk_26 (dk_at dksJ7_compare_0 0 rfl rfl)
theorem dJ7_compare_1 : decode cJ7_compare 1 = .ok (.iload_n 1, 1) := dk_27 (dk_at dksJ7_compare_0 1 rfl rfl)
theorem dJ7_compare_2 : decode cJ7_compare 2 = .ok (.if_icmp .ge 7, 3) := dk_162 0 7 (dk_at dksJ7_compare_0 2 rfl rfl)
theorem dJ7_compare_5 : decode cJ7_compare 5 = .ok (.iconst (-1), 1) := dk_2 (dk_at dksJ7_compare_0 5 rfl rfl)
theorem dJ7_compare_6 : decode cJ7_compare 6 = .ok (.goto 13, 3) := dk_167 0 13 (dk_at dksJ7_compare_0 6 rfl rfl)
theorem dJ7_compare_9 : decode cJ7_compare 9 = .ok (.iload_n 0, 1) := dk_26 (dk_at dksJ7_compare_0 9 rfl rfl)
theorem dJ7_compare_10 : decode cJ7_compare 10 = .ok (.iload_n 1, 1) := dk_27 (dk_at dksJ7_compare_0 10 rfl rfl)
theorem dJ7_compare_11 : decode cJ7_compare 11 = .ok (.if_icmp .ne 7, 3) := dk_160 0 7 (dk_at dksJ7_compare_0 11 rfl rfl)
theorem dJ7_compare_14 : decode cJ7_compare 14 = .ok (.iconst 0, 1) := dk_3 (dk_at dksJ7_compare_0 14 rfl rfl)
theorem dJ7_compare_15 : decode cJ7_compare 15 = .ok (.goto 4, 3) := dk_167 0 4 (dk_at dksJ7_compare_0 15 rfl rfl)
theorem dJ7_compare_18 : decode cJ7_compare 18 = .ok (.iconst 1, 1) := dk_4 (dk_at dksJ7_compare_0 18 rfl rfl)
theorem dJ7_compare_19 : decode cJ7_compare 19 = .ok (.ireturn, 1) := dk_172 (dk_at dksJ7_compare_0 19 rfl rfl)
theorem q90 : (Jvm.Cond.initialized "java/lang/Integer") ∈ lw_all := lw_g (lw_at lw_m1 24 rfl) rfl
theorem q557 : (Jvm.Cond.static ({ cls := "java/lang/Integer", name := "compare", desc := "(II)I" } : Jvm.MethodName)) ∈ lw_all := lw_g (lw_at lw_m3 11 rfl) rfl
theorem q558 : (Jvm.Cond.code ({ cls := "java/lang/Integer", name := "compare", desc := "(II)I" } : Jvm.MethodName) prog_28_method_40_code (2 : Nat) (Option.some Jvm.ClassFile.FieldType.int)) ∈ lw_all := lw_g (lw_at lw_m3 12 rfl) rfl
/-! java/lang/NegativeArraySizeException -/
set_option maxRecDepth 100000
def RJ8 : String := "java/lang/NegativeArraySizeException"
def TJ8 : u_T := fun k => match k with
  | 0 => ("java/lang/Throwable", "backtrace", "Ljava/lang/Object;", false)
  | 1 => ("java/lang/Throwable", "detailMessage", "Ljava/lang/String;", false)
  | 2 => ("java/lang/Throwable", "cause", "Ljava/lang/Throwable;", false)
  | 3 => ("java/lang/Throwable", "stackTrace", "[Ljava/lang/StackTraceElement;", false)
  | 4 => ("java/lang/Throwable", "depth", "I", false)
  | _ => ("java/lang/Throwable", "suppressedExceptions", "Ljava/util/List;", false)
def tyJ8 : Nat → FieldType := fun k => match k with
  | 0 => .object "java/lang/Object"
  | 1 => .object "java/lang/String"
  | 2 => .object "java/lang/Throwable"
  | 3 => .array (.object "java/lang/StackTraceElement")
  | 4 => .int
  | _ => .object "java/util/List"
abbrev wsJ80 : List Cond := u_ws RJ8 TJ8 6
theorem nmJ8 : ∀ a, a < 6 → ∀ b, b < 6 → a ≠ b → (TJ8 a).2.1 ≠ (TJ8 b).2.1 := by decide +kernel
theorem tyJ8_ok : ∀ k, k < 6 → parseFieldDescriptor (TJ8 k).2.2.1 = some (tyJ8 k) := by decide +kernel
abbrev cJ8_init : ByteArray := prog_30_method_2_code
def yJ8_init : MethodName := ⟨RJ8, "<init>", "(Ljava/lang/String;)V"⟩
def dkwJ8_init_0 : List UInt8 := [42, 43, 183, 0, 7, 177]
abbrev dktJ8_init_0 : List UInt8 := dkwJ8_init_0 ++ []
theorem dksJ8_init_0 : cJ8_init.data.toList.drop 0 = dktJ8_init_0 := by decide +kernel
theorem dJ8_init_0 : decode cJ8_init 0 = .ok (.aload_n 0, 1) := dk_42 (dk_at dksJ8_init_0 0 rfl rfl)
theorem dJ8_init_1 : decode cJ8_init 1 = .ok (.aload_n 1, 1) := dk_43 (dk_at dksJ8_init_0 1 rfl rfl)
theorem dJ8_init_2 : decode cJ8_init 2 = .ok (.invokespecial 7, 3) := dk_183 0 7 (dk_at dksJ8_init_0 2 rfl rfl)
theorem dJ8_init_5 : decode cJ8_init 5 = .ok (.return_, 1) := dk_177 (dk_at dksJ8_init_0 5 rfl rfl)
theorem q91 : (Jvm.Cond.initialized "java/lang/NegativeArraySizeException") ∈ lw_all := lw_g (lw_at lw_m1 25 rfl) rfl
theorem q131 : (Jvm.Cond.selects "java/lang/NegativeArraySizeException" ({ cls := "java/lang/Throwable", name := "fillInStackTrace", desc := "()Ljava/lang/Throwable;" } : Jvm.MethodName) ({ cls := "java/lang/Throwable", name := "fillInStackTrace", desc := "()Ljava/lang/Throwable;" } : Jvm.MethodName)) ∈ lw_all := lw_g (lw_at lw_m1 65 rfl) rfl
theorem q977 : (Jvm.Cond.instantiable "java/lang/NegativeArraySizeException" (6 : Nat)) ∈ lw_all := lw_g (lw_at lw_m4 191 rfl) rfl
theorem q978 : (Jvm.Cond.instanceMethod ({ cls := "java/lang/NegativeArraySizeException", name := "<init>", desc := "(Ljava/lang/String;)V" } : Jvm.MethodName)) ∈ lw_all := lw_g (lw_at lw_m4 192 rfl) rfl
theorem q979 : (Jvm.Cond.code ({ cls := "java/lang/NegativeArraySizeException", name := "<init>", desc := "(Ljava/lang/String;)V" } : Jvm.MethodName) prog_30_method_2_code (2 : Nat) (Option.none : Option Jvm.ClassFile.FieldType)) ∈ lw_all := lw_g (lw_at lw_m4 193 rfl) rfl
theorem q980 : (Jvm.Cond.methodLink "java/lang/NegativeArraySizeException" (7 : Nat) ({ cls := "java/lang/RuntimeException", name := "<init>", desc := "(Ljava/lang/String;)V" } : Jvm.MethodName)) ∈ lw_all := lw_g (lw_at lw_m4 194 rfl) rfl
theorem q981 : (Jvm.Cond.lays "java/lang/NegativeArraySizeException" "java/lang/Throwable" "backtrace" "Ljava/lang/Object;") ∈ lw_all := lw_g (lw_at lw_m4 195 rfl) rfl
theorem q982 : (Jvm.Cond.lays "java/lang/NegativeArraySizeException" "java/lang/Throwable" "detailMessage" "Ljava/lang/String;") ∈ lw_all := lw_g (lw_at lw_m4 196 rfl) rfl
theorem q983 : (Jvm.Cond.lays "java/lang/NegativeArraySizeException" "java/lang/Throwable" "cause" "Ljava/lang/Throwable;") ∈ lw_all := lw_g (lw_at lw_m4 197 rfl) rfl
theorem q984 : (Jvm.Cond.lays "java/lang/NegativeArraySizeException" "java/lang/Throwable" "stackTrace" "[Ljava/lang/StackTraceElement;") ∈ lw_all := lw_g (lw_at lw_m4 198 rfl) rfl
theorem q985 : (Jvm.Cond.lays "java/lang/NegativeArraySizeException" "java/lang/Throwable" "depth" "I") ∈ lw_all := lw_g (lw_at lw_m4 199 rfl) rfl
theorem q986 : (Jvm.Cond.lays "java/lang/NegativeArraySizeException" "java/lang/Throwable" "suppressedExceptions" "Ljava/util/List;") ∈ lw_all := lw_g (lw_at lw_m4 200 rfl) rfl
theorem q987 : (Jvm.Cond.superclass "java/lang/NegativeArraySizeException" "java/lang/RuntimeException") ∈ lw_all := lw_g (lw_at lw_m4 201 rfl) rfl
theorem q988 : (Jvm.Cond.castable "java/lang/NegativeArraySizeException" "java/lang/NegativeArraySizeException") ∈ lw_tbl := lw_at lw_m4 202 rfl
theorem q989 : (Jvm.Cond.selects "java/lang/NegativeArraySizeException" ({ cls := "java/lang/Throwable", name := "fillInStackTrace", desc := "(I)Ljava/lang/Throwable;" } : Jvm.MethodName) ({ cls := "java/lang/Throwable", name := "fillInStackTrace", desc := "(I)Ljava/lang/Throwable;" } : Jvm.MethodName)) ∈ lw_all := lw_g (lw_at lw_m4 203 rfl) rfl
theorem in_J8 : ∀ w ∈ wsJ80, w ∈ lw_all := lw_in wsJ80 [981, 982, 983, 984, 985, 986] (by decide +kernel) (by decide +kernel)
/-! java/lang/IndexOutOfBoundsException -/
set_option maxRecDepth 100000
def RJ9 : String := "java/lang/IndexOutOfBoundsException"
abbrev cJ9_init : ByteArray := prog_27_method_2_code
def yJ9_init : MethodName := ⟨RJ9, "<init>", "(Ljava/lang/String;)V"⟩
def dkwJ9_init_0 : List UInt8 := [42, 43, 183, 0, 7, 177]
abbrev dktJ9_init_0 : List UInt8 := dkwJ9_init_0 ++ []
theorem dksJ9_init_0 : cJ9_init.data.toList.drop 0 = dktJ9_init_0 := by decide +kernel
theorem dJ9_init_0 : decode cJ9_init 0 = .ok (.aload_n 0, 1) := dk_42 (dk_at dksJ9_init_0 0 rfl rfl)
theorem dJ9_init_1 : decode cJ9_init 1 = .ok (.aload_n 1, 1) := dk_43 (dk_at dksJ9_init_0 1 rfl rfl)
theorem dJ9_init_2 : decode cJ9_init 2 = .ok (.invokespecial 7, 3) := dk_183 0 7 (dk_at dksJ9_init_0 2 rfl rfl)
theorem dJ9_init_5 : decode cJ9_init 5 = .ok (.return_, 1) := dk_177 (dk_at dksJ9_init_0 5 rfl rfl)
theorem q92 : (Jvm.Cond.initialized "java/lang/IndexOutOfBoundsException") ∈ lw_all := lw_g (lw_at lw_m1 26 rfl) rfl
theorem q1000 : (Jvm.Cond.instanceMethod ({ cls := "java/lang/IndexOutOfBoundsException", name := "<init>", desc := "(Ljava/lang/String;)V" } : Jvm.MethodName)) ∈ lw_all := lw_g (lw_at lw_m4 214 rfl) rfl
theorem q1001 : (Jvm.Cond.code ({ cls := "java/lang/IndexOutOfBoundsException", name := "<init>", desc := "(Ljava/lang/String;)V" } : Jvm.MethodName) prog_27_method_2_code (2 : Nat) (Option.none : Option Jvm.ClassFile.FieldType)) ∈ lw_all := lw_g (lw_at lw_m4 215 rfl) rfl
theorem q1002 : (Jvm.Cond.methodLink "java/lang/IndexOutOfBoundsException" (7 : Nat) ({ cls := "java/lang/RuntimeException", name := "<init>", desc := "(Ljava/lang/String;)V" } : Jvm.MethodName)) ∈ lw_all := lw_g (lw_at lw_m4 216 rfl) rfl
theorem q1011 : (Jvm.Cond.declares ({ cls := "java/lang/IndexOutOfBoundsException", name := "<init>", desc := "()V" } : Jvm.MethodName)) ∈ lw_tbl := lw_at lw_m4 225 rfl
theorem q1012 : (Jvm.Cond.declares ({ cls := "java/lang/IndexOutOfBoundsException", name := "<init>", desc := "(Ljava/lang/String;)V" } : Jvm.MethodName)) ∈ lw_tbl := lw_at lw_m4 226 rfl
theorem q79 : (Jvm.Cond.initialized "java/lang/System") ∈ lw_all := lw_g (lw_at lw_m1 13 rfl) rfl
set_option maxRecDepth 100000
theorem q304 : (Jvm.Cond.static ({ cls := "java/lang/System", name := "arraycopy", desc := "(Ljava/lang/Object;ILjava/lang/Object;II)V" } : Jvm.MethodName)) ∈ lw_all := lw_g (lw_at lw_m1 238 rfl) rfl
theorem q305 : (Jvm.Cond.native ({ cls := "java/lang/System", name := "arraycopy", desc := "(Ljava/lang/Object;ILjava/lang/Object;II)V" } : Jvm.MethodName)) ∈ lw_all := lw_g (lw_at lw_m1 239 rfl) rfl
theorem q188 : (Jvm.Cond.arrayClass Jvm.ClassFile.FieldType.byte) ∈ lw_all := lw_g (lw_at lw_m1 122 rfl) rfl
set_option maxRecDepth 100000
theorem q255 : (Jvm.Cond.arrayClass Jvm.ClassFile.FieldType.int) ∈ lw_all := lw_g (lw_at lw_m1 189 rfl) rfl
theorem q870 : (Jvm.Cond.arrayOver (Jvm.ClassFile.FieldType.object "SideBySide$Stroke")) ∈ lw_tbl := lw_at lw_m4 84 rfl
theorem q925 : (Jvm.Cond.arrayOver (Jvm.ClassFile.FieldType.object "SideBySide$Told")) ∈ lw_tbl := lw_at lw_m4 139 rfl
theorem q927 : (Jvm.Cond.arrayOver (Jvm.ClassFile.FieldType.object "SideBySide$Shelf")) ∈ lw_tbl := lw_at lw_m4 141 rfl
theorem q990 : (Jvm.Cond.arrayClass Jvm.ClassFile.FieldType.short) ∈ lw_all := lw_g (lw_at lw_m4 204 rfl) rfl
theorem q1610 : (Jvm.Cond.arrayClass Jvm.ClassFile.FieldType.long) ∈ lw_all := lw_g (lw_at lw_m7 104 rfl) rfl
