/-! DECODE ROWS BY BYTES: one lemma an opcode; a method's code is cut into short pieces once, and a row reads its own piece alone. -/
set_option maxRecDepth 100000
/-- the code has just these bytes from pc on -/
def DkAt (code : ByteArray) (pc : Nat) (bs : List UInt8) : Prop := ∀ (j : Nat) (b : UInt8), bs[j]? = some b → code.data.toList[pc + j]? = some b
/-- the piece W has the bytes bs from its place j on -/
def dkIn (W : List UInt8) (j : Nat) (bs : List UInt8) : Bool := decide ((W.drop j).take bs.length = bs)
theorem dk_seg {l W T : List UInt8} {o o2 : Nat} (h : l.drop o = W ++ T) (n : Nat) (hn : W.length = n) (ho : o + n = o2) : l.drop o2 = T := by
  subst ho
  rw [← List.drop_drop, h, List.drop_left' hn]
theorem dk_at {code : ByteArray} {W T bs : List UInt8} {o pc : Nat} (h : code.data.toList.drop o = W ++ T) (j : Nat) (hp : o + j = pc) (hw : dkIn W j bs = true) : DkAt code pc bs := by
  subst hp
  intro i b e
  have h1 := of_decide_eq_true hw
  have h2 : i < bs.length := (List.getElem?_eq_some_iff.mp e).1
  have h3 : W[j + i]? = some b := by
    rw [← h1, List.getElem?_take, if_pos h2, List.getElem?_drop] at e
    exact e
  have h4 : j + i < W.length := (List.getElem?_eq_some_iff.mp h3).1
  have h5 : (code.data.toList.drop o)[j + i]? = some b := by
    rw [h, List.getElem?_append_left h4]
    exact h3
  rw [List.getElem?_drop, ← Nat.add_assoc] at h5
  exact h5
theorem dk_u1 {A : ByteArray} {p : Nat} {b : UInt8} (h : A.data.toList[p]? = some b) : (Reader.u1 : Reader DecodeError Nat) A p = .ok (b.toNat, p + 1) := by
  obtain ⟨h1, h2⟩ := List.getElem?_eq_some_iff.mp h
  have h3 : p < A.size := by simpa using h1
  have h4 : A[p]'h3 = b := h2
  have e : (Reader.u1 : Reader DecodeError Nat) A p = (if h : p < A.size then .ok (A[p].toNat, p + 1) else .error (HasTruncated.truncated p)) := by
    show (do if h : p < A.size then do set (p + 1); Pure.pure A[p].toNat else MonadExcept.throw (HasTruncated.truncated p) : Reader DecodeError Nat) A p = _
    by_cases hi : p < A.size
    · rw [dif_pos hi, dif_pos hi]; rfl
    · rw [dif_neg hi, dif_neg hi]; rfl
  rw [e, dif_pos h3, h4]
theorem dk_bind {α β : Type} {r : Reader DecodeError α} {f : α → Reader DecodeError β} {A : ByteArray} {p s : Nat} {a : α} (h : r A p = .ok (a, s)) : (r >>= f) A p = f a A s := by
  show (do let (a, s) ← r A p; f a A s : Except DecodeError (β × Nat)) = _
  rw [h]
  rfl
theorem dk_map {α β : Type} {r : Reader DecodeError α} {g : α → β} {A : ByteArray} {p s : Nat} {a : α} (h : r A p = .ok (a, s)) : (g <$> r) A p = .ok (g a, s) := by
  show (do let (a, s) ← r A p; .ok (g a, s) : Except DecodeError (β × Nat)) = _
  rw [h]
  rfl
theorem dk_u2 {A : ByteArray} {p : Nat} {a b : UInt8} (h : A.data.toList[p]? = some a) (h2 : A.data.toList[p + 1]? = some b) : (Reader.u2 : Reader DecodeError Nat) A p = .ok (a.toNat * 256 + b.toNat, p + 2) := by
  show (Reader.u1 >>= fun hi => Reader.u1 >>= fun lo => Pure.pure (hi * 256 + lo) : Reader DecodeError Nat) A p = _
  rw [dk_bind (dk_u1 h), dk_bind (dk_u1 h2)]
  rfl
theorem dk_of {code : ByteArray} {pc n : Nat} {i : Instr} (h : Decoder.instr pc code pc = .ok (i, pc + n)) : decode code pc = .ok (i, n) := by
  have e : decode code pc = (match Decoder.instr pc code pc with | .error x => .error x | .ok (j, s) => .ok (j, s - pc)) := by
    show (do let (j, s) ← Decoder.instr pc code pc; Pure.pure (j, s - pc) : Except DecodeError (Instr × Nat)) = _
    cases Decoder.instr pc code pc <;> rfl
  rw [e, h]
  show Except.ok (i, pc + n - pc) = _
  rw [Nat.add_sub_cancel_left]
theorem dk_1 {code : ByteArray} {pc : Nat} (h : DkAt code pc [1]) : decode code pc = .ok (.aconst_null, 1) := dk_of ((dk_bind (dk_u1 (h 0 _ rfl))).trans rfl)
theorem dk_2 {code : ByteArray} {pc : Nat} (h : DkAt code pc [2]) : decode code pc = .ok (.iconst (-1), 1) := dk_of ((dk_bind (dk_u1 (h 0 _ rfl))).trans rfl)
theorem dk_3 {code : ByteArray} {pc : Nat} (h : DkAt code pc [3]) : decode code pc = .ok (.iconst 0, 1) := dk_of ((dk_bind (dk_u1 (h 0 _ rfl))).trans rfl)
theorem dk_4 {code : ByteArray} {pc : Nat} (h : DkAt code pc [4]) : decode code pc = .ok (.iconst 1, 1) := dk_of ((dk_bind (dk_u1 (h 0 _ rfl))).trans rfl)
theorem dk_5 {code : ByteArray} {pc : Nat} (h : DkAt code pc [5]) : decode code pc = .ok (.iconst 2, 1) := dk_of ((dk_bind (dk_u1 (h 0 _ rfl))).trans rfl)
theorem dk_6 {code : ByteArray} {pc : Nat} (h : DkAt code pc [6]) : decode code pc = .ok (.iconst 3, 1) := dk_of ((dk_bind (dk_u1 (h 0 _ rfl))).trans rfl)
theorem dk_7 {code : ByteArray} {pc : Nat} (h : DkAt code pc [7]) : decode code pc = .ok (.iconst 4, 1) := dk_of ((dk_bind (dk_u1 (h 0 _ rfl))).trans rfl)
theorem dk_8 {code : ByteArray} {pc : Nat} (h : DkAt code pc [8]) : decode code pc = .ok (.iconst 5, 1) := dk_of ((dk_bind (dk_u1 (h 0 _ rfl))).trans rfl)
theorem dk_9 {code : ByteArray} {pc : Nat} (h : DkAt code pc [9]) : decode code pc = .ok (.lconst 0, 1) := dk_of ((dk_bind (dk_u1 (h 0 _ rfl))).trans rfl)
theorem dk_16 {code : ByteArray} {pc : Nat} (a : UInt8) (h : DkAt code pc [16, a]) : decode code pc = .ok (.bipush (Reader.signed 8 a.toNat), 2) := dk_of ((dk_bind (dk_u1 (h 0 _ rfl))).trans ((dk_bind (dk_map (dk_u1 (h 1 _ rfl)))).trans rfl))
theorem dk_17 {code : ByteArray} {pc : Nat} (a b : UInt8) (h : DkAt code pc [17, a, b]) : decode code pc = .ok (.sipush (Reader.signed 16 (a.toNat * 256 + b.toNat)), 3) := dk_of ((dk_bind (dk_u1 (h 0 _ rfl))).trans ((dk_bind (dk_map (dk_u2 (h 1 _ rfl) (h 2 _ rfl)))).trans rfl))
theorem dk_18 {code : ByteArray} {pc : Nat} (a : UInt8) (h : DkAt code pc [18, a]) : decode code pc = .ok (.ldc a.toNat, 2) := dk_of ((dk_bind (dk_u1 (h 0 _ rfl))).trans ((dk_bind (dk_u1 (h 1 _ rfl))).trans rfl))
theorem dk_19 {code : ByteArray} {pc : Nat} (a b : UInt8) (h : DkAt code pc [19, a, b]) : decode code pc = .ok (.ldc_w (a.toNat * 256 + b.toNat), 3) := dk_of ((dk_bind (dk_u1 (h 0 _ rfl))).trans ((dk_bind (dk_u2 (h 1 _ rfl) (h 2 _ rfl))).trans rfl))
theorem dk_20 {code : ByteArray} {pc : Nat} (a b : UInt8) (h : DkAt code pc [20, a, b]) : decode code pc = .ok (.ldc2_w (a.toNat * 256 + b.toNat), 3) := dk_of ((dk_bind (dk_u1 (h 0 _ rfl))).trans ((dk_bind (dk_u2 (h 1 _ rfl) (h 2 _ rfl))).trans rfl))
theorem dk_21 {code : ByteArray} {pc : Nat} (a : UInt8) (h : DkAt code pc [21, a]) : decode code pc = .ok (.iload a.toNat, 2) := dk_of ((dk_bind (dk_u1 (h 0 _ rfl))).trans ((dk_bind (dk_u1 (h 1 _ rfl))).trans rfl))
theorem dk_22 {code : ByteArray} {pc : Nat} (a : UInt8) (h : DkAt code pc [22, a]) : decode code pc = .ok (.lload a.toNat, 2) := dk_of ((dk_bind (dk_u1 (h 0 _ rfl))).trans ((dk_bind (dk_u1 (h 1 _ rfl))).trans rfl))
theorem dk_25 {code : ByteArray} {pc : Nat} (a : UInt8) (h : DkAt code pc [25, a]) : decode code pc = .ok (.aload a.toNat, 2) := dk_of ((dk_bind (dk_u1 (h 0 _ rfl))).trans ((dk_bind (dk_u1 (h 1 _ rfl))).trans rfl))
theorem dk_26 {code : ByteArray} {pc : Nat} (h : DkAt code pc [26]) : decode code pc = .ok (.iload_n 0, 1) := dk_of ((dk_bind (dk_u1 (h 0 _ rfl))).trans rfl)
theorem dk_27 {code : ByteArray} {pc : Nat} (h : DkAt code pc [27]) : decode code pc = .ok (.iload_n 1, 1) := dk_of ((dk_bind (dk_u1 (h 0 _ rfl))).trans rfl)
theorem dk_28 {code : ByteArray} {pc : Nat} (h : DkAt code pc [28]) : decode code pc = .ok (.iload_n 2, 1) := dk_of ((dk_bind (dk_u1 (h 0 _ rfl))).trans rfl)
theorem dk_29 {code : ByteArray} {pc : Nat} (h : DkAt code pc [29]) : decode code pc = .ok (.iload_n 3, 1) := dk_of ((dk_bind (dk_u1 (h 0 _ rfl))).trans rfl)
theorem dk_30 {code : ByteArray} {pc : Nat} (h : DkAt code pc [30]) : decode code pc = .ok (.lload_n 0, 1) := dk_of ((dk_bind (dk_u1 (h 0 _ rfl))).trans rfl)
theorem dk_31 {code : ByteArray} {pc : Nat} (h : DkAt code pc [31]) : decode code pc = .ok (.lload_n 1, 1) := dk_of ((dk_bind (dk_u1 (h 0 _ rfl))).trans rfl)
theorem dk_32 {code : ByteArray} {pc : Nat} (h : DkAt code pc [32]) : decode code pc = .ok (.lload_n 2, 1) := dk_of ((dk_bind (dk_u1 (h 0 _ rfl))).trans rfl)
theorem dk_33 {code : ByteArray} {pc : Nat} (h : DkAt code pc [33]) : decode code pc = .ok (.lload_n 3, 1) := dk_of ((dk_bind (dk_u1 (h 0 _ rfl))).trans rfl)
theorem dk_42 {code : ByteArray} {pc : Nat} (h : DkAt code pc [42]) : decode code pc = .ok (.aload_n 0, 1) := dk_of ((dk_bind (dk_u1 (h 0 _ rfl))).trans rfl)
theorem dk_43 {code : ByteArray} {pc : Nat} (h : DkAt code pc [43]) : decode code pc = .ok (.aload_n 1, 1) := dk_of ((dk_bind (dk_u1 (h 0 _ rfl))).trans rfl)
theorem dk_44 {code : ByteArray} {pc : Nat} (h : DkAt code pc [44]) : decode code pc = .ok (.aload_n 2, 1) := dk_of ((dk_bind (dk_u1 (h 0 _ rfl))).trans rfl)
theorem dk_45 {code : ByteArray} {pc : Nat} (h : DkAt code pc [45]) : decode code pc = .ok (.aload_n 3, 1) := dk_of ((dk_bind (dk_u1 (h 0 _ rfl))).trans rfl)
theorem dk_46 {code : ByteArray} {pc : Nat} (h : DkAt code pc [46]) : decode code pc = .ok (.iaload, 1) := dk_of ((dk_bind (dk_u1 (h 0 _ rfl))).trans rfl)
theorem dk_47 {code : ByteArray} {pc : Nat} (h : DkAt code pc [47]) : decode code pc = .ok (.laload, 1) := dk_of ((dk_bind (dk_u1 (h 0 _ rfl))).trans rfl)
theorem dk_50 {code : ByteArray} {pc : Nat} (h : DkAt code pc [50]) : decode code pc = .ok (.aaload, 1) := dk_of ((dk_bind (dk_u1 (h 0 _ rfl))).trans rfl)
theorem dk_51 {code : ByteArray} {pc : Nat} (h : DkAt code pc [51]) : decode code pc = .ok (.baload, 1) := dk_of ((dk_bind (dk_u1 (h 0 _ rfl))).trans rfl)
theorem dk_54 {code : ByteArray} {pc : Nat} (a : UInt8) (h : DkAt code pc [54, a]) : decode code pc = .ok (.istore a.toNat, 2) := dk_of ((dk_bind (dk_u1 (h 0 _ rfl))).trans ((dk_bind (dk_u1 (h 1 _ rfl))).trans rfl))
theorem dk_55 {code : ByteArray} {pc : Nat} (a : UInt8) (h : DkAt code pc [55, a]) : decode code pc = .ok (.lstore a.toNat, 2) := dk_of ((dk_bind (dk_u1 (h 0 _ rfl))).trans ((dk_bind (dk_u1 (h 1 _ rfl))).trans rfl))
theorem dk_58 {code : ByteArray} {pc : Nat} (a : UInt8) (h : DkAt code pc [58, a]) : decode code pc = .ok (.astore a.toNat, 2) := dk_of ((dk_bind (dk_u1 (h 0 _ rfl))).trans ((dk_bind (dk_u1 (h 1 _ rfl))).trans rfl))
theorem dk_60 {code : ByteArray} {pc : Nat} (h : DkAt code pc [60]) : decode code pc = .ok (.istore_n 1, 1) := dk_of ((dk_bind (dk_u1 (h 0 _ rfl))).trans rfl)
theorem dk_61 {code : ByteArray} {pc : Nat} (h : DkAt code pc [61]) : decode code pc = .ok (.istore_n 2, 1) := dk_of ((dk_bind (dk_u1 (h 0 _ rfl))).trans rfl)
theorem dk_62 {code : ByteArray} {pc : Nat} (h : DkAt code pc [62]) : decode code pc = .ok (.istore_n 3, 1) := dk_of ((dk_bind (dk_u1 (h 0 _ rfl))).trans rfl)
theorem dk_64 {code : ByteArray} {pc : Nat} (h : DkAt code pc [64]) : decode code pc = .ok (.lstore_n 1, 1) := dk_of ((dk_bind (dk_u1 (h 0 _ rfl))).trans rfl)
theorem dk_65 {code : ByteArray} {pc : Nat} (h : DkAt code pc [65]) : decode code pc = .ok (.lstore_n 2, 1) := dk_of ((dk_bind (dk_u1 (h 0 _ rfl))).trans rfl)
theorem dk_66 {code : ByteArray} {pc : Nat} (h : DkAt code pc [66]) : decode code pc = .ok (.lstore_n 3, 1) := dk_of ((dk_bind (dk_u1 (h 0 _ rfl))).trans rfl)
theorem dk_76 {code : ByteArray} {pc : Nat} (h : DkAt code pc [76]) : decode code pc = .ok (.astore_n 1, 1) := dk_of ((dk_bind (dk_u1 (h 0 _ rfl))).trans rfl)
theorem dk_77 {code : ByteArray} {pc : Nat} (h : DkAt code pc [77]) : decode code pc = .ok (.astore_n 2, 1) := dk_of ((dk_bind (dk_u1 (h 0 _ rfl))).trans rfl)
theorem dk_78 {code : ByteArray} {pc : Nat} (h : DkAt code pc [78]) : decode code pc = .ok (.astore_n 3, 1) := dk_of ((dk_bind (dk_u1 (h 0 _ rfl))).trans rfl)
theorem dk_79 {code : ByteArray} {pc : Nat} (h : DkAt code pc [79]) : decode code pc = .ok (.iastore, 1) := dk_of ((dk_bind (dk_u1 (h 0 _ rfl))).trans rfl)
theorem dk_80 {code : ByteArray} {pc : Nat} (h : DkAt code pc [80]) : decode code pc = .ok (.lastore, 1) := dk_of ((dk_bind (dk_u1 (h 0 _ rfl))).trans rfl)
theorem dk_83 {code : ByteArray} {pc : Nat} (h : DkAt code pc [83]) : decode code pc = .ok (.aastore, 1) := dk_of ((dk_bind (dk_u1 (h 0 _ rfl))).trans rfl)
theorem dk_84 {code : ByteArray} {pc : Nat} (h : DkAt code pc [84]) : decode code pc = .ok (.bastore, 1) := dk_of ((dk_bind (dk_u1 (h 0 _ rfl))).trans rfl)
theorem dk_87 {code : ByteArray} {pc : Nat} (h : DkAt code pc [87]) : decode code pc = .ok (.pop, 1) := dk_of ((dk_bind (dk_u1 (h 0 _ rfl))).trans rfl)
theorem dk_89 {code : ByteArray} {pc : Nat} (h : DkAt code pc [89]) : decode code pc = .ok (.dup, 1) := dk_of ((dk_bind (dk_u1 (h 0 _ rfl))).trans rfl)
theorem dk_90 {code : ByteArray} {pc : Nat} (h : DkAt code pc [90]) : decode code pc = .ok (.dup_x1, 1) := dk_of ((dk_bind (dk_u1 (h 0 _ rfl))).trans rfl)
theorem dk_92 {code : ByteArray} {pc : Nat} (h : DkAt code pc [92]) : decode code pc = .ok (.dup2, 1) := dk_of ((dk_bind (dk_u1 (h 0 _ rfl))).trans rfl)
theorem dk_96 {code : ByteArray} {pc : Nat} (h : DkAt code pc [96]) : decode code pc = .ok (.iadd, 1) := dk_of ((dk_bind (dk_u1 (h 0 _ rfl))).trans rfl)
theorem dk_97 {code : ByteArray} {pc : Nat} (h : DkAt code pc [97]) : decode code pc = .ok (.ladd, 1) := dk_of ((dk_bind (dk_u1 (h 0 _ rfl))).trans rfl)
theorem dk_100 {code : ByteArray} {pc : Nat} (h : DkAt code pc [100]) : decode code pc = .ok (.isub, 1) := dk_of ((dk_bind (dk_u1 (h 0 _ rfl))).trans rfl)
theorem dk_101 {code : ByteArray} {pc : Nat} (h : DkAt code pc [101]) : decode code pc = .ok (.lsub, 1) := dk_of ((dk_bind (dk_u1 (h 0 _ rfl))).trans rfl)
theorem dk_104 {code : ByteArray} {pc : Nat} (h : DkAt code pc [104]) : decode code pc = .ok (.imul, 1) := dk_of ((dk_bind (dk_u1 (h 0 _ rfl))).trans rfl)
theorem dk_105 {code : ByteArray} {pc : Nat} (h : DkAt code pc [105]) : decode code pc = .ok (.lmul, 1) := dk_of ((dk_bind (dk_u1 (h 0 _ rfl))).trans rfl)
theorem dk_108 {code : ByteArray} {pc : Nat} (h : DkAt code pc [108]) : decode code pc = .ok (.idiv, 1) := dk_of ((dk_bind (dk_u1 (h 0 _ rfl))).trans rfl)
theorem dk_109 {code : ByteArray} {pc : Nat} (h : DkAt code pc [109]) : decode code pc = .ok (.ldiv, 1) := dk_of ((dk_bind (dk_u1 (h 0 _ rfl))).trans rfl)
theorem dk_112 {code : ByteArray} {pc : Nat} (h : DkAt code pc [112]) : decode code pc = .ok (.irem, 1) := dk_of ((dk_bind (dk_u1 (h 0 _ rfl))).trans rfl)
theorem dk_113 {code : ByteArray} {pc : Nat} (h : DkAt code pc [113]) : decode code pc = .ok (.lrem, 1) := dk_of ((dk_bind (dk_u1 (h 0 _ rfl))).trans rfl)
theorem dk_120 {code : ByteArray} {pc : Nat} (h : DkAt code pc [120]) : decode code pc = .ok (.ishl, 1) := dk_of ((dk_bind (dk_u1 (h 0 _ rfl))).trans rfl)
theorem dk_122 {code : ByteArray} {pc : Nat} (h : DkAt code pc [122]) : decode code pc = .ok (.ishr, 1) := dk_of ((dk_bind (dk_u1 (h 0 _ rfl))).trans rfl)
theorem dk_126 {code : ByteArray} {pc : Nat} (h : DkAt code pc [126]) : decode code pc = .ok (.iand, 1) := dk_of ((dk_bind (dk_u1 (h 0 _ rfl))).trans rfl)
theorem dk_128 {code : ByteArray} {pc : Nat} (h : DkAt code pc [128]) : decode code pc = .ok (.ior, 1) := dk_of ((dk_bind (dk_u1 (h 0 _ rfl))).trans rfl)
theorem dk_130 {code : ByteArray} {pc : Nat} (h : DkAt code pc [130]) : decode code pc = .ok (.ixor, 1) := dk_of ((dk_bind (dk_u1 (h 0 _ rfl))).trans rfl)
theorem dk_132 {code : ByteArray} {pc : Nat} (a b : UInt8) (h : DkAt code pc [132, a, b]) : decode code pc = .ok (.iinc a.toNat (Reader.signed 8 b.toNat), 3) := dk_of ((dk_bind (dk_u1 (h 0 _ rfl))).trans ((dk_bind (dk_u1 (h 1 _ rfl))).trans ((dk_bind (dk_map (dk_u1 (h 2 _ rfl)))).trans rfl)))
theorem dk_133 {code : ByteArray} {pc : Nat} (h : DkAt code pc [133]) : decode code pc = .ok (.i2l, 1) := dk_of ((dk_bind (dk_u1 (h 0 _ rfl))).trans rfl)
theorem dk_145 {code : ByteArray} {pc : Nat} (h : DkAt code pc [145]) : decode code pc = .ok (.i2b, 1) := dk_of ((dk_bind (dk_u1 (h 0 _ rfl))).trans rfl)
theorem dk_146 {code : ByteArray} {pc : Nat} (h : DkAt code pc [146]) : decode code pc = .ok (.i2c, 1) := dk_of ((dk_bind (dk_u1 (h 0 _ rfl))).trans rfl)
theorem dk_148 {code : ByteArray} {pc : Nat} (h : DkAt code pc [148]) : decode code pc = .ok (.lcmp, 1) := dk_of ((dk_bind (dk_u1 (h 0 _ rfl))).trans rfl)
theorem dk_153 {code : ByteArray} {pc : Nat} (a b : UInt8) (h : DkAt code pc [153, a, b]) : decode code pc = .ok (.ifCond .eq (Reader.signed 16 (a.toNat * 256 + b.toNat)), 3) := dk_of ((dk_bind (dk_u1 (h 0 _ rfl))).trans ((dk_bind (dk_map (dk_u2 (h 1 _ rfl) (h 2 _ rfl)))).trans rfl))
theorem dk_154 {code : ByteArray} {pc : Nat} (a b : UInt8) (h : DkAt code pc [154, a, b]) : decode code pc = .ok (.ifCond .ne (Reader.signed 16 (a.toNat * 256 + b.toNat)), 3) := dk_of ((dk_bind (dk_u1 (h 0 _ rfl))).trans ((dk_bind (dk_map (dk_u2 (h 1 _ rfl) (h 2 _ rfl)))).trans rfl))
theorem dk_155 {code : ByteArray} {pc : Nat} (a b : UInt8) (h : DkAt code pc [155, a, b]) : decode code pc = .ok (.ifCond .lt (Reader.signed 16 (a.toNat * 256 + b.toNat)), 3) := dk_of ((dk_bind (dk_u1 (h 0 _ rfl))).trans ((dk_bind (dk_map (dk_u2 (h 1 _ rfl) (h 2 _ rfl)))).trans rfl))
theorem dk_156 {code : ByteArray} {pc : Nat} (a b : UInt8) (h : DkAt code pc [156, a, b]) : decode code pc = .ok (.ifCond .ge (Reader.signed 16 (a.toNat * 256 + b.toNat)), 3) := dk_of ((dk_bind (dk_u1 (h 0 _ rfl))).trans ((dk_bind (dk_map (dk_u2 (h 1 _ rfl) (h 2 _ rfl)))).trans rfl))
theorem dk_157 {code : ByteArray} {pc : Nat} (a b : UInt8) (h : DkAt code pc [157, a, b]) : decode code pc = .ok (.ifCond .gt (Reader.signed 16 (a.toNat * 256 + b.toNat)), 3) := dk_of ((dk_bind (dk_u1 (h 0 _ rfl))).trans ((dk_bind (dk_map (dk_u2 (h 1 _ rfl) (h 2 _ rfl)))).trans rfl))
theorem dk_158 {code : ByteArray} {pc : Nat} (a b : UInt8) (h : DkAt code pc [158, a, b]) : decode code pc = .ok (.ifCond .le (Reader.signed 16 (a.toNat * 256 + b.toNat)), 3) := dk_of ((dk_bind (dk_u1 (h 0 _ rfl))).trans ((dk_bind (dk_map (dk_u2 (h 1 _ rfl) (h 2 _ rfl)))).trans rfl))
theorem dk_159 {code : ByteArray} {pc : Nat} (a b : UInt8) (h : DkAt code pc [159, a, b]) : decode code pc = .ok (.if_icmp .eq (Reader.signed 16 (a.toNat * 256 + b.toNat)), 3) := dk_of ((dk_bind (dk_u1 (h 0 _ rfl))).trans ((dk_bind (dk_map (dk_u2 (h 1 _ rfl) (h 2 _ rfl)))).trans rfl))
theorem dk_160 {code : ByteArray} {pc : Nat} (a b : UInt8) (h : DkAt code pc [160, a, b]) : decode code pc = .ok (.if_icmp .ne (Reader.signed 16 (a.toNat * 256 + b.toNat)), 3) := dk_of ((dk_bind (dk_u1 (h 0 _ rfl))).trans ((dk_bind (dk_map (dk_u2 (h 1 _ rfl) (h 2 _ rfl)))).trans rfl))
theorem dk_161 {code : ByteArray} {pc : Nat} (a b : UInt8) (h : DkAt code pc [161, a, b]) : decode code pc = .ok (.if_icmp .lt (Reader.signed 16 (a.toNat * 256 + b.toNat)), 3) := dk_of ((dk_bind (dk_u1 (h 0 _ rfl))).trans ((dk_bind (dk_map (dk_u2 (h 1 _ rfl) (h 2 _ rfl)))).trans rfl))
theorem dk_162 {code : ByteArray} {pc : Nat} (a b : UInt8) (h : DkAt code pc [162, a, b]) : decode code pc = .ok (.if_icmp .ge (Reader.signed 16 (a.toNat * 256 + b.toNat)), 3) := dk_of ((dk_bind (dk_u1 (h 0 _ rfl))).trans ((dk_bind (dk_map (dk_u2 (h 1 _ rfl) (h 2 _ rfl)))).trans rfl))
theorem dk_163 {code : ByteArray} {pc : Nat} (a b : UInt8) (h : DkAt code pc [163, a, b]) : decode code pc = .ok (.if_icmp .gt (Reader.signed 16 (a.toNat * 256 + b.toNat)), 3) := dk_of ((dk_bind (dk_u1 (h 0 _ rfl))).trans ((dk_bind (dk_map (dk_u2 (h 1 _ rfl) (h 2 _ rfl)))).trans rfl))
theorem dk_164 {code : ByteArray} {pc : Nat} (a b : UInt8) (h : DkAt code pc [164, a, b]) : decode code pc = .ok (.if_icmp .le (Reader.signed 16 (a.toNat * 256 + b.toNat)), 3) := dk_of ((dk_bind (dk_u1 (h 0 _ rfl))).trans ((dk_bind (dk_map (dk_u2 (h 1 _ rfl) (h 2 _ rfl)))).trans rfl))
theorem dk_167 {code : ByteArray} {pc : Nat} (a b : UInt8) (h : DkAt code pc [167, a, b]) : decode code pc = .ok (.goto (Reader.signed 16 (a.toNat * 256 + b.toNat)), 3) := dk_of ((dk_bind (dk_u1 (h 0 _ rfl))).trans ((dk_bind (dk_map (dk_u2 (h 1 _ rfl) (h 2 _ rfl)))).trans rfl))
theorem dk_172 {code : ByteArray} {pc : Nat} (h : DkAt code pc [172]) : decode code pc = .ok (.ireturn, 1) := dk_of ((dk_bind (dk_u1 (h 0 _ rfl))).trans rfl)
theorem dk_173 {code : ByteArray} {pc : Nat} (h : DkAt code pc [173]) : decode code pc = .ok (.lreturn, 1) := dk_of ((dk_bind (dk_u1 (h 0 _ rfl))).trans rfl)
theorem dk_176 {code : ByteArray} {pc : Nat} (h : DkAt code pc [176]) : decode code pc = .ok (.areturn, 1) := dk_of ((dk_bind (dk_u1 (h 0 _ rfl))).trans rfl)
theorem dk_177 {code : ByteArray} {pc : Nat} (h : DkAt code pc [177]) : decode code pc = .ok (.return_, 1) := dk_of ((dk_bind (dk_u1 (h 0 _ rfl))).trans rfl)
theorem dk_178 {code : ByteArray} {pc : Nat} (a b : UInt8) (h : DkAt code pc [178, a, b]) : decode code pc = .ok (.getstatic (a.toNat * 256 + b.toNat), 3) := dk_of ((dk_bind (dk_u1 (h 0 _ rfl))).trans ((dk_bind (dk_u2 (h 1 _ rfl) (h 2 _ rfl))).trans rfl))
theorem dk_180 {code : ByteArray} {pc : Nat} (a b : UInt8) (h : DkAt code pc [180, a, b]) : decode code pc = .ok (.getfield (a.toNat * 256 + b.toNat), 3) := dk_of ((dk_bind (dk_u1 (h 0 _ rfl))).trans ((dk_bind (dk_u2 (h 1 _ rfl) (h 2 _ rfl))).trans rfl))
theorem dk_181 {code : ByteArray} {pc : Nat} (a b : UInt8) (h : DkAt code pc [181, a, b]) : decode code pc = .ok (.putfield (a.toNat * 256 + b.toNat), 3) := dk_of ((dk_bind (dk_u1 (h 0 _ rfl))).trans ((dk_bind (dk_u2 (h 1 _ rfl) (h 2 _ rfl))).trans rfl))
theorem dk_182 {code : ByteArray} {pc : Nat} (a b : UInt8) (h : DkAt code pc [182, a, b]) : decode code pc = .ok (.invokevirtual (a.toNat * 256 + b.toNat), 3) := dk_of ((dk_bind (dk_u1 (h 0 _ rfl))).trans ((dk_bind (dk_u2 (h 1 _ rfl) (h 2 _ rfl))).trans rfl))
theorem dk_183 {code : ByteArray} {pc : Nat} (a b : UInt8) (h : DkAt code pc [183, a, b]) : decode code pc = .ok (.invokespecial (a.toNat * 256 + b.toNat), 3) := dk_of ((dk_bind (dk_u1 (h 0 _ rfl))).trans ((dk_bind (dk_u2 (h 1 _ rfl) (h 2 _ rfl))).trans rfl))
theorem dk_184 {code : ByteArray} {pc : Nat} (a b : UInt8) (h : DkAt code pc [184, a, b]) : decode code pc = .ok (.invokestatic (a.toNat * 256 + b.toNat), 3) := dk_of ((dk_bind (dk_u1 (h 0 _ rfl))).trans ((dk_bind (dk_u2 (h 1 _ rfl) (h 2 _ rfl))).trans rfl))
theorem dk_187 {code : ByteArray} {pc : Nat} (a b : UInt8) (h : DkAt code pc [187, a, b]) : decode code pc = .ok (.new (a.toNat * 256 + b.toNat), 3) := dk_of ((dk_bind (dk_u1 (h 0 _ rfl))).trans ((dk_bind (dk_u2 (h 1 _ rfl) (h 2 _ rfl))).trans rfl))
theorem dk_188_8 {code : ByteArray} {pc : Nat} (h : DkAt code pc [188, 8]) : decode code pc = .ok (.newarray .byte, 2) := dk_of ((dk_bind (dk_u1 (h 0 _ rfl))).trans ((dk_bind (dk_u1 (h 1 _ rfl))).trans rfl))
theorem dk_188_10 {code : ByteArray} {pc : Nat} (h : DkAt code pc [188, 10]) : decode code pc = .ok (.newarray .int, 2) := dk_of ((dk_bind (dk_u1 (h 0 _ rfl))).trans ((dk_bind (dk_u1 (h 1 _ rfl))).trans rfl))
theorem dk_188_11 {code : ByteArray} {pc : Nat} (h : DkAt code pc [188, 11]) : decode code pc = .ok (.newarray .long, 2) := dk_of ((dk_bind (dk_u1 (h 0 _ rfl))).trans ((dk_bind (dk_u1 (h 1 _ rfl))).trans rfl))
theorem dk_189 {code : ByteArray} {pc : Nat} (a b : UInt8) (h : DkAt code pc [189, a, b]) : decode code pc = .ok (.anewarray (a.toNat * 256 + b.toNat), 3) := dk_of ((dk_bind (dk_u1 (h 0 _ rfl))).trans ((dk_bind (dk_u2 (h 1 _ rfl) (h 2 _ rfl))).trans rfl))
theorem dk_190 {code : ByteArray} {pc : Nat} (h : DkAt code pc [190]) : decode code pc = .ok (.arraylength, 1) := dk_of ((dk_bind (dk_u1 (h 0 _ rfl))).trans rfl)
theorem dk_191 {code : ByteArray} {pc : Nat} (h : DkAt code pc [191]) : decode code pc = .ok (.athrow, 1) := dk_of ((dk_bind (dk_u1 (h 0 _ rfl))).trans rfl)
theorem dk_198 {code : ByteArray} {pc : Nat} (a b : UInt8) (h : DkAt code pc [198, a, b]) : decode code pc = .ok (.ifnull (Reader.signed 16 (a.toNat * 256 + b.toNat)), 3) := dk_of ((dk_bind (dk_u1 (h 0 _ rfl))).trans ((dk_bind (dk_map (dk_u2 (h 1 _ rfl) (h 2 _ rfl)))).trans rfl))
theorem dk_199 {code : ByteArray} {pc : Nat} (a b : UInt8) (h : DkAt code pc [199, a, b]) : decode code pc = .ok (.ifnonnull (Reader.signed 16 (a.toNat * 256 + b.toNat)), 3) := dk_of ((dk_bind (dk_u1 (h 0 _ rfl))).trans ((dk_bind (dk_map (dk_u2 (h 1 _ rfl) (h 2 _ rfl)))).trans rfl))
/-! java/lang/Throwable -/
set_option maxRecDepth 100000
def RJ0 : String := "java/lang/Throwable"
def TJ0 : u_T := fun k => match k with
  | 0 => ("java/lang/Throwable", "cause", "Ljava/lang/Throwable;", false)
  | 1 => ("java/lang/Throwable", "stackTrace", "[Ljava/lang/StackTraceElement;", false)
  | 2 => ("java/lang/Throwable", "suppressedExceptions", "Ljava/util/List;", false)
  | 3 => ("java/lang/Throwable", "detailMessage", "Ljava/lang/String;", false)
  | _ => ("java/lang/Throwable", "backtrace", "Ljava/lang/Object;", false)
def tyJ0 : Nat → FieldType := fun k => match k with
  | 0 => .object "java/lang/Throwable"
  | 1 => .array (.object "java/lang/StackTraceElement")
  | 2 => .object "java/util/List"
  | 3 => .object "java/lang/String"
  | _ => .object "java/lang/Object"
abbrev wsJ00 : List Cond := u_ws RJ0 TJ0 5
theorem nmJ0 : ∀ a, a < 5 → ∀ b, b < 5 → a ≠ b → (TJ0 a).2.1 ≠ (TJ0 b).2.1 := by decide +kernel
theorem tyJ0_ok : ∀ k, k < 5 → parseFieldDescriptor (TJ0 k).2.2.1 = some (tyJ0 k) := by decide +kernel
abbrev cJ0_init : ByteArray := prog_37_method_1_code
def yJ0_init : MethodName := ⟨RJ0, "<init>", "()V"⟩
def dkwJ0_init_1 : List UInt8 := [182, 0, 27, 87, 177]
abbrev dktJ0_init_1 : List UInt8 := dkwJ0_init_1 ++ []
def dkwJ0_init_0 : List UInt8 := [42, 183, 0, 1, 42, 42, 181, 0, 7, 42, 178, 0, 13, 181, 0, 17, 42, 178, 0, 20, 181, 0, 24, 42]
abbrev dktJ0_init_0 : List UInt8 := dkwJ0_init_0 ++ dktJ0_init_1
theorem dksJ0_init_0 : cJ0_init.data.toList.drop 0 = dktJ0_init_0 := by decide +kernel
theorem dksJ0_init_1 : cJ0_init.data.toList.drop 24 = dktJ0_init_1 := dk_seg dksJ0_init_0 24 rfl rfl
theorem dJ0_init_0 : decode cJ0_init 0 = .ok (.aload_n 0, 1) := dk_42 (dk_at dksJ0_init_0 0 rfl rfl)
theorem dJ0_init_1 : decode cJ0_init 1 = .ok (.invokespecial 1, 3) := dk_183 0 1 (dk_at dksJ0_init_0 1 rfl rfl)
theorem dJ0_init_4 : decode cJ0_init 4 = .ok (.aload_n 0, 1) := dk_42 (dk_at dksJ0_init_0 4 rfl rfl)
theorem dJ0_init_5 : decode cJ0_init 5 = .ok (.aload_n 0, 1) := dk_42 (dk_at dksJ0_init_0 5 rfl rfl)
theorem dJ0_init_6 : decode cJ0_init 6 = .ok (.putfield 7, 3) := dk_181 0 7 (dk_at dksJ0_init_0 6 rfl rfl)
theorem dJ0_init_9 : decode cJ0_init 9 = .ok (.aload_n 0, 1) := dk_42 (dk_at dksJ0_init_0 9 rfl rfl)
theorem dJ0_init_10 : decode cJ0_init 10 = .ok (.getstatic 13, 3) := dk_178 0 13 (dk_at dksJ0_init_0 10 rfl rfl)
theorem dJ0_init_13 : decode cJ0_init 13 = .ok (.putfield 17, 3) := dk_181 0 17 (dk_at dksJ0_init_0 13 rfl rfl)
theorem dJ0_init_16 : decode cJ0_init 16 = .ok (.aload_n 0, 1) := dk_42 (dk_at dksJ0_init_0 16 rfl rfl)
theorem dJ0_init_17 : decode cJ0_init 17 = .ok (.getstatic 20, 3) := dk_178 0 20 (dk_at dksJ0_init_0 17 rfl rfl)
theorem dJ0_init_20 : decode cJ0_init 20 = .ok (.putfield 24, 3) := dk_181 0 24 (dk_at dksJ0_init_0 20 rfl rfl)
theorem dJ0_init_23 : decode cJ0_init 23 = .ok (.aload_n 0, 1) := dk_42 (dk_at dksJ0_init_0 23 rfl rfl)
theorem dJ0_init_24 : decode cJ0_init 24 = .ok (.invokevirtual 27, 3) := dk_182 0 27 (dk_at dksJ0_init_1 0 rfl rfl)
theorem dJ0_init_27 : decode cJ0_init 27 = .ok (.pop, 1) := dk_87 (dk_at dksJ0_init_1 3 rfl rfl)
theorem dJ0_init_28 : decode cJ0_init 28 = .ok (.return_, 1) := dk_177 (dk_at dksJ0_init_1 4 rfl rfl)
abbrev cJ0_init_2 : ByteArray := prog_37_method_5_code
def yJ0_init_2 : MethodName := ⟨RJ0, "<init>", "(Ljava/lang/String;Ljava/lang/Throwable;ZZ)V"⟩
def dkwJ0_init_2_2 : List UInt8 := [44, 181, 0, 7, 29, 154, 0, 8, 42, 1, 181, 0, 24, 177]
abbrev dktJ0_init_2_2 : List UInt8 := dkwJ0_init_2_2 ++ []
def dkwJ0_init_2_1 : List UInt8 := [21, 4, 153, 0, 11, 42, 182, 0, 27, 87, 167, 0, 8, 42, 1, 181, 0, 17, 42, 43, 181, 0, 31, 42]
abbrev dktJ0_init_2_1 : List UInt8 := dkwJ0_init_2_1 ++ dktJ0_init_2_2
def dkwJ0_init_2_0 : List UInt8 := [42, 183, 0, 1, 42, 42, 181, 0, 7, 42, 178, 0, 13, 181, 0, 17, 42, 178, 0, 20, 181, 0, 24]
abbrev dktJ0_init_2_0 : List UInt8 := dkwJ0_init_2_0 ++ dktJ0_init_2_1
theorem dksJ0_init_2_0 : cJ0_init_2.data.toList.drop 0 = dktJ0_init_2_0 := by decide +kernel
theorem dksJ0_init_2_1 : cJ0_init_2.data.toList.drop 23 = dktJ0_init_2_1 := dk_seg dksJ0_init_2_0 23 rfl rfl
theorem dksJ0_init_2_2 : cJ0_init_2.data.toList.drop 47 = dktJ0_init_2_2 := dk_seg dksJ0_init_2_1 24 rfl rfl
theorem dJ0_init_2_0 : decode cJ0_init_2 0 = .ok (.aload_n 0, 1) := dk_42 (dk_at dksJ0_init_2_0 0 rfl rfl)
theorem dJ0_init_2_1 : decode cJ0_init_2 1 = .ok (.invokespecial 1, 3) := dk_183 0 1 (dk_at dksJ0_init_2_0 1 rfl rfl)
theorem dJ0_init_2_4 : decode cJ0_init_2 4 = .ok (.aload_n 0, 1) := dk_42 (dk_at dksJ0_init_2_0 4 rfl rfl)
theorem dJ0_init_2_5 : decode cJ0_init_2 5 = .ok (.aload_n 0, 1) := dk_42 (dk_at dksJ0_init_2_0 5 rfl rfl)
theorem dJ0_init_2_6 : decode cJ0_init_2 6 = .ok (.putfield 7, 3) := dk_181 0 7 (dk_at dksJ0_init_2_0 6 rfl rfl)
theorem dJ0_init_2_9 : decode cJ0_init_2 9 = .ok (.aload_n 0, 1) := dk_42 (dk_at dksJ0_init_2_0 9 rfl rfl)
theorem dJ0_init_2_10 : decode cJ0_init_2 10 = .ok (.getstatic 13, 3) := dk_178 0 13 (dk_at dksJ0_init_2_0 10 rfl rfl)
theorem dJ0_init_2_13 : decode cJ0_init_2 13 = .ok (.putfield 17, 3) := dk_181 0 17 (dk_at dksJ0_init_2_0 13 rfl rfl)
theorem dJ0_init_2_16 : decode cJ0_init_2 16 = .ok (.aload_n 0, 1) := dk_42 (dk_at dksJ0_init_2_0 16 rfl rfl)
theorem dJ0_init_2_17 : decode cJ0_init_2 17 = .ok (.getstatic 20, 3) := dk_178 0 20 (dk_at dksJ0_init_2_0 17 rfl rfl)
theorem dJ0_init_2_20 : decode cJ0_init_2 20 = .ok (.putfield 24, 3) := dk_181 0 24 (dk_at dksJ0_init_2_0 20 rfl rfl)
theorem dJ0_init_2_23 : decode cJ0_init_2 23 = .ok (.iload 4, 2) := dk_21 4 (dk_at dksJ0_init_2_1 0 rfl rfl)
theorem dJ0_init_2_25 : decode cJ0_init_2 25 = .ok (.ifCond .eq 11, 3) := dk_153 0 11 (dk_at dksJ0_init_2_1 2 rfl rfl)
theorem dJ0_init_2_28 : decode cJ0_init_2 28 = .ok (.aload_n 0, 1) := dk_42 (dk_at dksJ0_init_2_1 5 rfl rfl)
theorem dJ0_init_2_29 : decode cJ0_init_2 29 = .ok (.invokevirtual 27, 3) := dk_182 0 27 (dk_at dksJ0_init_2_1 6 rfl rfl)
theorem dJ0_init_2_32 : decode cJ0_init_2 32 = .ok (.pop, 1) := dk_87 (dk_at dksJ0_init_2_1 9 rfl rfl)
theorem dJ0_init_2_33 : decode cJ0_init_2 33 = .ok (.goto 8, 3) := dk_167 0 8 (dk_at dksJ0_init_2_1 10 rfl rfl)
theorem dJ0_init_2_36 : decode cJ0_init_2 36 = .ok (.aload_n 0, 1) := dk_42 (dk_at dksJ0_init_2_1 13 rfl rfl)
theorem dJ0_init_2_37 : decode cJ0_init_2 37 = .ok (.aconst_null, 1) := dk_1 (dk_at dksJ0_init_2_1 14 rfl rfl)
theorem dJ0_init_2_38 : decode cJ0_init_2 38 = .ok (.putfield 17, 3) := dk_181 0 17 (dk_at dksJ0_init_2_1 15 rfl rfl)
theorem dJ0_init_2_41 : decode cJ0_init_2 41 = .ok (.aload_n 0, 1) := dk_42 (dk_at dksJ0_init_2_1 18 rfl rfl)
theorem dJ0_init_2_42 : decode cJ0_init_2 42 = .ok (.aload_n 1, 1) := dk_43 (dk_at dksJ0_init_2_1 19 rfl rfl)
theorem dJ0_init_2_43 : decode cJ0_init_2 43 = .ok (.putfield 31, 3) := dk_181 0 31 (dk_at dksJ0_init_2_1 20 rfl rfl)
theorem dJ0_init_2_46 : decode cJ0_init_2 46 = .ok (.aload_n 0, 1) := dk_42 (dk_at dksJ0_init_2_1 23 rfl rfl)
theorem dJ0_init_2_47 : decode cJ0_init_2 47 = .ok (.aload_n 2, 1) := dk_44 (dk_at dksJ0_init_2_2 0 rfl rfl)
theorem dJ0_init_2_48 : decode cJ0_init_2 48 = .ok (.putfield 7, 3) := dk_181 0 7 (dk_at dksJ0_init_2_2 1 rfl rfl)
theorem dJ0_init_2_51 : decode cJ0_init_2 51 = .ok (.iload_n 3, 1) := dk_29 (dk_at dksJ0_init_2_2 4 rfl rfl)
theorem dJ0_init_2_52 : decode cJ0_init_2 52 = .ok (.ifCond .ne 8, 3) := dk_154 0 8 (dk_at dksJ0_init_2_2 5 rfl rfl)
theorem dJ0_init_2_55 : decode cJ0_init_2 55 = .ok (.aload_n 0, 1) := dk_42 (dk_at dksJ0_init_2_2 8 rfl rfl)
theorem dJ0_init_2_56 : decode cJ0_init_2 56 = .ok (.aconst_null, 1) := dk_1 (dk_at dksJ0_init_2_2 9 rfl rfl)
theorem dJ0_init_2_57 : decode cJ0_init_2 57 = .ok (.putfield 24, 3) := dk_181 0 24 (dk_at dksJ0_init_2_2 10 rfl rfl)
theorem dJ0_init_2_60 : decode cJ0_init_2 60 = .ok (.return_, 1) := dk_177 (dk_at dksJ0_init_2_2 13 rfl rfl)
theorem q117 : (Jvm.Cond.initialized "java/lang/Throwable") ∈ lw_all := lw_g (lw_at lw_m1 10 rfl) rfl
theorem q844 : (Jvm.Cond.declares ({ cls := "java/lang/Throwable", name := "<init>", desc := "()V" } : Jvm.MethodName)) ∈ lw_tbl := lw_at lw_m4 17 rfl
theorem q845 : (Jvm.Cond.declares ({ cls := "java/lang/Throwable", name := "<init>", desc := "(Ljava/lang/String;)V" } : Jvm.MethodName)) ∈ lw_tbl := lw_at lw_m4 18 rfl
theorem q849 : (Jvm.Cond.lays "java/lang/Throwable" "java/lang/Throwable" "cause" "Ljava/lang/Throwable;") ∈ lw_all := lw_g (lw_at lw_m4 22 rfl) rfl
theorem q851 : (Jvm.Cond.lays "java/lang/Throwable" "java/lang/Throwable" "stackTrace" "[Ljava/lang/StackTraceElement;") ∈ lw_all := lw_g (lw_at lw_m4 24 rfl) rfl
theorem q853 : (Jvm.Cond.lays "java/lang/Throwable" "java/lang/Throwable" "suppressedExceptions" "Ljava/util/List;") ∈ lw_all := lw_g (lw_at lw_m4 26 rfl) rfl
theorem q855 : (Jvm.Cond.lays "java/lang/Throwable" "java/lang/Throwable" "detailMessage" "Ljava/lang/String;") ∈ lw_all := lw_g (lw_at lw_m4 28 rfl) rfl
theorem q857 : (Jvm.Cond.lays "java/lang/Throwable" "java/lang/Throwable" "backtrace" "Ljava/lang/Object;") ∈ lw_all := lw_g (lw_at lw_m4 30 rfl) rfl
theorem q858 : (Jvm.Cond.fieldLink "java/lang/Throwable" (198 : Nat) "java/lang/Throwable" "backtrace" "Ljava/lang/Object;") ∈ lw_all := lw_g (lw_at lw_m4 31 rfl) rfl
theorem q859 : (Jvm.Cond.superclass "java/lang/Throwable" "java/lang/Object") ∈ lw_all := lw_g (lw_at lw_m4 32 rfl) rfl
theorem q860 : (Jvm.Cond.instanceMethod ({ cls := "java/lang/Throwable", name := "<init>", desc := "()V" } : Jvm.MethodName)) ∈ lw_all := lw_g (lw_at lw_m4 33 rfl) rfl
theorem q861 : (Jvm.Cond.code ({ cls := "java/lang/Throwable", name := "<init>", desc := "()V" } : Jvm.MethodName) prog_37_method_1_code (1 : Nat) (Option.none : Option Jvm.ClassFile.FieldType)) ∈ lw_all := lw_g (lw_at lw_m4 34 rfl) rfl
theorem q862 : (Jvm.Cond.methodLink "java/lang/Throwable" (1 : Nat) ({ cls := "java/lang/Object", name := "<init>", desc := "()V" } : Jvm.MethodName)) ∈ lw_all := lw_g (lw_at lw_m4 35 rfl) rfl
theorem q863 : (Jvm.Cond.fieldLink "java/lang/Throwable" (13 : Nat) "java/lang/Throwable" "UNASSIGNED_STACK" "[Ljava/lang/StackTraceElement;") ∈ lw_all := lw_g (lw_at lw_m4 36 rfl) rfl
theorem q864 : (Jvm.Cond.laysStatic "java/lang/Throwable" "UNASSIGNED_STACK" "[Ljava/lang/StackTraceElement;") ∈ lw_tbl := lw_at lw_m4 37 rfl
theorem q865 : (Jvm.Cond.fieldLink "java/lang/Throwable" (20 : Nat) "java/lang/Throwable" "SUPPRESSED_SENTINEL" "Ljava/util/List;") ∈ lw_all := lw_g (lw_at lw_m4 38 rfl) rfl
theorem q866 : (Jvm.Cond.laysStatic "java/lang/Throwable" "SUPPRESSED_SENTINEL" "Ljava/util/List;") ∈ lw_tbl := lw_at lw_m4 39 rfl
theorem q867 : (Jvm.Cond.methodLink "java/lang/Throwable" (27 : Nat) ({ cls := "java/lang/Throwable", name := "fillInStackTrace", desc := "()Ljava/lang/Throwable;" } : Jvm.MethodName)) ∈ lw_all := lw_g (lw_at lw_m4 40 rfl) rfl
theorem q868 : (Jvm.Cond.instanceMethod ({ cls := "java/lang/Throwable", name := "fillInStackTrace", desc := "()Ljava/lang/Throwable;" } : Jvm.MethodName)) ∈ lw_all := lw_g (lw_at lw_m4 41 rfl) rfl
theorem q869 : (Jvm.Cond.sameMethod "java/lang/Throwable" "java/lang/Throwable" "fillInStackTrace" "()Ljava/lang/Throwable;") ∈ lw_all := lw_g (lw_at lw_m4 42 rfl) rfl
theorem q872 : (Jvm.Cond.codeSync ({ cls := "java/lang/Throwable", name := "fillInStackTrace", desc := "()Ljava/lang/Throwable;" } : Jvm.MethodName) prog_37_method_18_code (1 : Nat) (Option.some (Jvm.ClassFile.FieldType.object "java/lang/Throwable"))) ∈ lw_all := lw_g (lw_at lw_m4 45 rfl) rfl
theorem q873 : (Jvm.Cond.methodLink "java/lang/Throwable" (202 : Nat) ({ cls := "java/lang/Throwable", name := "fillInStackTrace", desc := "(I)Ljava/lang/Throwable;" } : Jvm.MethodName)) ∈ lw_all := lw_g (lw_at lw_m4 46 rfl) rfl
theorem q874 : (Jvm.Cond.privateMethod ({ cls := "java/lang/Throwable", name := "fillInStackTrace", desc := "(I)Ljava/lang/Throwable;" } : Jvm.MethodName)) ∈ lw_tbl := lw_at lw_m4 47 rfl
theorem q875 : (Jvm.Cond.instanceMethod ({ cls := "java/lang/Throwable", name := "fillInStackTrace", desc := "(I)Ljava/lang/Throwable;" } : Jvm.MethodName)) ∈ lw_all := lw_g (lw_at lw_m4 48 rfl) rfl
theorem q876 : (Jvm.Cond.instantiable "java/lang/Throwable" (6 : Nat)) ∈ lw_all := lw_g (lw_at lw_m4 49 rfl) rfl
theorem q877 : (Jvm.Cond.native ({ cls := "java/lang/Throwable", name := "fillInStackTrace", desc := "(I)Ljava/lang/Throwable;" } : Jvm.MethodName)) ∈ lw_all := lw_g (lw_at lw_m4 50 rfl) rfl
theorem q888 : (Jvm.Cond.fieldLink "java/lang/Throwable" (198 : Nat) "java/lang/Throwable" "backtrace" "Ljava/lang/Object;") ∈ lw_all := lw_g (lw_at lw_m4 61 rfl) rfl
theorem q889 : (Jvm.Cond.fieldLink "java/lang/Throwable" (31 : Nat) "java/lang/Throwable" "detailMessage" "Ljava/lang/String;") ∈ lw_all := lw_g (lw_at lw_m4 62 rfl) rfl
theorem q890 : (Jvm.Cond.fieldLink "java/lang/Throwable" (7 : Nat) "java/lang/Throwable" "cause" "Ljava/lang/Throwable;") ∈ lw_all := lw_g (lw_at lw_m4 63 rfl) rfl
theorem q891 : (Jvm.Cond.fieldLink "java/lang/Throwable" (17 : Nat) "java/lang/Throwable" "stackTrace" "[Ljava/lang/StackTraceElement;") ∈ lw_all := lw_g (lw_at lw_m4 64 rfl) rfl
theorem q892 : (Jvm.Cond.fieldLink "java/lang/Throwable" (24 : Nat) "java/lang/Throwable" "suppressedExceptions" "Ljava/util/List;") ∈ lw_all := lw_g (lw_at lw_m4 65 rfl) rfl
theorem q893 : (Jvm.Cond.soleField "java/lang/Throwable" "backtrace") ∈ lw_all := lw_g (lw_at lw_m4 66 rfl) rfl
theorem q894 : (Jvm.Cond.soleField "java/lang/Throwable" "detailMessage") ∈ lw_all := lw_g (lw_at lw_m4 67 rfl) rfl
theorem q895 : (Jvm.Cond.soleField "java/lang/Throwable" "cause") ∈ lw_all := lw_g (lw_at lw_m4 68 rfl) rfl
theorem q896 : (Jvm.Cond.soleField "java/lang/Throwable" "stackTrace") ∈ lw_all := lw_g (lw_at lw_m4 69 rfl) rfl
theorem q898 : (Jvm.Cond.soleField "java/lang/Throwable" "depth") ∈ lw_all := lw_g (lw_at lw_m4 71 rfl) rfl
theorem q899 : (Jvm.Cond.soleField "java/lang/Throwable" "suppressedExceptions") ∈ lw_all := lw_g (lw_at lw_m4 72 rfl) rfl
theorem q1060 : (Jvm.Cond.instanceMethod ({ cls := "java/lang/Throwable", name := "<init>", desc := "(Ljava/lang/String;Ljava/lang/Throwable;ZZ)V" } : Jvm.MethodName)) ∈ lw_all := lw_g (lw_at lw_m4 233 rfl) rfl
theorem q1061 : (Jvm.Cond.code ({ cls := "java/lang/Throwable", name := "<init>", desc := "(Ljava/lang/String;Ljava/lang/Throwable;ZZ)V" } : Jvm.MethodName) prog_37_method_5_code (5 : Nat) (Option.none : Option Jvm.ClassFile.FieldType)) ∈ lw_all := lw_g (lw_at lw_m4 234 rfl) rfl
theorem q2480 : (Jvm.Cond.sameMethod "java/lang/Throwable" "java/lang/Throwable" "fillInStackTrace" "(I)Ljava/lang/Throwable;") ∈ lw_all := lw_g (lw_at lw_m10 213 rfl) rfl
theorem q2508 : (Jvm.Cond.castable "java/lang/Throwable" "java/lang/Object") ∈ lw_tbl := lw_at lw_m11 1 rfl
theorem in_J0 : ∀ w ∈ wsJ00, w ∈ lw_all := lw_in wsJ00 [849, 851, 853, 855, 857] (by decide +kernel) (by decide +kernel)
/-! java/lang/Exception -/
set_option maxRecDepth 100000
def RJ1 : String := "java/lang/Exception"
abbrev cJ1_init : ByteArray := prog_29_method_1_code
def yJ1_init : MethodName := ⟨RJ1, "<init>", "()V"⟩
theorem dJ1_init_0 : decode cJ1_init 0 = .ok (.aload_n 0, 1) := by decide +kernel
theorem dJ1_init_1 : decode cJ1_init 1 = .ok (.invokespecial 1, 3) := by decide +kernel
theorem dJ1_init_4 : decode cJ1_init 4 = .ok (.return_, 1) := by decide +kernel
abbrev cJ1_init_2 : ByteArray := prog_29_method_5_code
def yJ1_init_2 : MethodName := ⟨RJ1, "<init>", "(Ljava/lang/String;Ljava/lang/Throwable;ZZ)V"⟩
def dkwJ1_init_2_0 : List UInt8 := [42, 43, 44, 29, 21, 4, 183, 0, 16, 177]
abbrev dktJ1_init_2_0 : List UInt8 := dkwJ1_init_2_0 ++ []
theorem dksJ1_init_2_0 : cJ1_init_2.data.toList.drop 0 = dktJ1_init_2_0 := by decide +kernel
theorem dJ1_init_2_0 : decode cJ1_init_2 0 = .ok (.aload_n 0, 1) := dk_42 (dk_at dksJ1_init_2_0 0 rfl rfl)
theorem dJ1_init_2_1 : decode cJ1_init_2 1 = .ok (.aload_n 1, 1) := dk_43 (dk_at dksJ1_init_2_0 1 rfl rfl)
theorem dJ1_init_2_2 : decode cJ1_init_2 2 = .ok (.aload_n 2, 1) := dk_44 (dk_at dksJ1_init_2_0 2 rfl rfl)
theorem dJ1_init_2_3 : decode cJ1_init_2 3 = .ok (.iload_n 3, 1) := dk_29 (dk_at dksJ1_init_2_0 3 rfl rfl)
theorem dJ1_init_2_4 : decode cJ1_init_2 4 = .ok (.iload 4, 2) := dk_21 4 (dk_at dksJ1_init_2_0 4 rfl rfl)
theorem dJ1_init_2_6 : decode cJ1_init_2 6 = .ok (.invokespecial 16, 3) := dk_183 0 16 (dk_at dksJ1_init_2_0 6 rfl rfl)
theorem dJ1_init_2_9 : decode cJ1_init_2 9 = .ok (.return_, 1) := dk_177 (dk_at dksJ1_init_2_0 9 rfl rfl)
theorem q118 : (Jvm.Cond.initialized "java/lang/Exception") ∈ lw_all := lw_g (lw_at lw_m1 11 rfl) rfl
theorem q842 : (Jvm.Cond.declares ({ cls := "java/lang/Exception", name := "<init>", desc := "()V" } : Jvm.MethodName)) ∈ lw_tbl := lw_at lw_m4 15 rfl
theorem q843 : (Jvm.Cond.declares ({ cls := "java/lang/Exception", name := "<init>", desc := "(Ljava/lang/String;)V" } : Jvm.MethodName)) ∈ lw_tbl := lw_at lw_m4 16 rfl
theorem q885 : (Jvm.Cond.instanceMethod ({ cls := "java/lang/Exception", name := "<init>", desc := "()V" } : Jvm.MethodName)) ∈ lw_all := lw_g (lw_at lw_m4 58 rfl) rfl
theorem q886 : (Jvm.Cond.code ({ cls := "java/lang/Exception", name := "<init>", desc := "()V" } : Jvm.MethodName) prog_29_method_1_code (1 : Nat) (Option.none : Option Jvm.ClassFile.FieldType)) ∈ lw_all := lw_g (lw_at lw_m4 59 rfl) rfl
theorem q887 : (Jvm.Cond.methodLink "java/lang/Exception" (1 : Nat) ({ cls := "java/lang/Throwable", name := "<init>", desc := "()V" } : Jvm.MethodName)) ∈ lw_all := lw_g (lw_at lw_m4 60 rfl) rfl
theorem q1057 : (Jvm.Cond.instanceMethod ({ cls := "java/lang/Exception", name := "<init>", desc := "(Ljava/lang/String;Ljava/lang/Throwable;ZZ)V" } : Jvm.MethodName)) ∈ lw_all := lw_g (lw_at lw_m4 230 rfl) rfl
theorem q1058 : (Jvm.Cond.code ({ cls := "java/lang/Exception", name := "<init>", desc := "(Ljava/lang/String;Ljava/lang/Throwable;ZZ)V" } : Jvm.MethodName) prog_29_method_5_code (5 : Nat) (Option.none : Option Jvm.ClassFile.FieldType)) ∈ lw_all := lw_g (lw_at lw_m4 231 rfl) rfl
theorem q1059 : (Jvm.Cond.methodLink "java/lang/Exception" (16 : Nat) ({ cls := "java/lang/Throwable", name := "<init>", desc := "(Ljava/lang/String;Ljava/lang/Throwable;ZZ)V" } : Jvm.MethodName)) ∈ lw_all := lw_g (lw_at lw_m4 232 rfl) rfl
/-! java/lang/Object -/
set_option maxRecDepth 100000
def RJ10 : String := "java/lang/Object"
abbrev cJ10_init : ByteArray := object_method_1_code
def yJ10_init : MethodName := ⟨RJ10, "<init>", "()V"⟩
theorem dJ10_init_0 : decode cJ10_init 0 = .ok (.return_, 1) := by decide +kernel
theorem q151 : (Jvm.Cond.instanceMethod ({ cls := "java/lang/Object", name := "<init>", desc := "()V" } : Jvm.MethodName)) ∈ lw_all := lw_g (lw_at lw_m1 44 rfl) rfl
theorem q152 : (Jvm.Cond.code ({ cls := "java/lang/Object", name := "<init>", desc := "()V" } : Jvm.MethodName) object_method_1_code (1 : Nat) (Option.none : Option Jvm.ClassFile.FieldType)) ∈ lw_all := lw_g (lw_at lw_m1 45 rfl) rfl
/-! java/lang/RuntimeException -/
set_option maxRecDepth 100000
def RJ2 : String := "java/lang/RuntimeException"
abbrev cJ2_init : ByteArray := prog_32_method_1_code
def yJ2_init : MethodName := ⟨RJ2, "<init>", "()V"⟩
theorem dJ2_init_0 : decode cJ2_init 0 = .ok (.aload_n 0, 1) := by decide +kernel
theorem dJ2_init_1 : decode cJ2_init 1 = .ok (.invokespecial 1, 3) := by decide +kernel
theorem dJ2_init_4 : decode cJ2_init 4 = .ok (.return_, 1) := by decide +kernel
theorem q119 : (Jvm.Cond.initialized "java/lang/RuntimeException") ∈ lw_all := lw_g (lw_at lw_m1 12 rfl) rfl
theorem q840 : (Jvm.Cond.declares ({ cls := "java/lang/RuntimeException", name := "<init>", desc := "()V" } : Jvm.MethodName)) ∈ lw_tbl := lw_at lw_m4 13 rfl
theorem q841 : (Jvm.Cond.declares ({ cls := "java/lang/RuntimeException", name := "<init>", desc := "(Ljava/lang/String;)V" } : Jvm.MethodName)) ∈ lw_tbl := lw_at lw_m4 14 rfl
theorem q882 : (Jvm.Cond.instanceMethod ({ cls := "java/lang/RuntimeException", name := "<init>", desc := "()V" } : Jvm.MethodName)) ∈ lw_all := lw_g (lw_at lw_m4 55 rfl) rfl
theorem q883 : (Jvm.Cond.code ({ cls := "java/lang/RuntimeException", name := "<init>", desc := "()V" } : Jvm.MethodName) prog_32_method_1_code (1 : Nat) (Option.none : Option Jvm.ClassFile.FieldType)) ∈ lw_all := lw_g (lw_at lw_m4 56 rfl) rfl
theorem q884 : (Jvm.Cond.methodLink "java/lang/RuntimeException" (1 : Nat) ({ cls := "java/lang/Exception", name := "<init>", desc := "()V" } : Jvm.MethodName)) ∈ lw_all := lw_g (lw_at lw_m4 57 rfl) rfl
/-! java/lang/IllegalArgumentException -/
set_option maxRecDepth 100000
def RJ3 : String := "java/lang/IllegalArgumentException"
def TJ3 : u_T := fun k => match k with
  | 0 => ("java/lang/Throwable", "cause", "Ljava/lang/Throwable;", false)
  | 1 => ("java/lang/Throwable", "stackTrace", "[Ljava/lang/StackTraceElement;", false)
  | 2 => ("java/lang/Throwable", "suppressedExceptions", "Ljava/util/List;", false)
  | 3 => ("java/lang/Throwable", "detailMessage", "Ljava/lang/String;", false)
  | 4 => ("java/lang/Throwable", "backtrace", "Ljava/lang/Object;", false)
  | _ => ("java/lang/Throwable", "depth", "I", false)
def tyJ3 : Nat → FieldType := fun k => match k with
  | 0 => .object "java/lang/Throwable"
  | 1 => .array (.object "java/lang/StackTraceElement")
  | 2 => .object "java/util/List"
  | 3 => .object "java/lang/String"
  | 4 => .object "java/lang/Object"
  | _ => .int
abbrev wsJ30 : List Cond := u_ws RJ3 TJ3 6
theorem nmJ3 : ∀ a, a < 6 → ∀ b, b < 6 → a ≠ b → (TJ3 a).2.1 ≠ (TJ3 b).2.1 := by decide +kernel
theorem tyJ3_ok : ∀ k, k < 6 → parseFieldDescriptor (TJ3 k).2.2.1 = some (tyJ3 k) := by decide +kernel
abbrev cJ3_init : ByteArray := prog_30_method_1_code
def yJ3_init : MethodName := ⟨RJ3, "<init>", "()V"⟩
theorem dJ3_init_0 : decode cJ3_init 0 = .ok (.aload_n 0, 1) := by decide +kernel
theorem dJ3_init_1 : decode cJ3_init 1 = .ok (.invokespecial 1, 3) := by decide +kernel
theorem dJ3_init_4 : decode cJ3_init 4 = .ok (.return_, 1) := by decide +kernel
theorem q120 : (Jvm.Cond.initialized "java/lang/IllegalArgumentException") ∈ lw_all := lw_g (lw_at lw_m1 13 rfl) rfl
theorem q838 : (Jvm.Cond.instantiable "java/lang/IllegalArgumentException" (6 : Nat)) ∈ lw_all := lw_g (lw_at lw_m4 11 rfl) rfl
theorem q839 : (Jvm.Cond.castable "java/lang/IllegalArgumentException" "java/lang/IllegalArgumentException") ∈ lw_tbl := lw_at lw_m4 12 rfl
theorem q846 : (Jvm.Cond.selects "java/lang/IllegalArgumentException" ({ cls := "java/lang/Throwable", name := "fillInStackTrace", desc := "(I)Ljava/lang/Throwable;" } : Jvm.MethodName) ({ cls := "java/lang/Throwable", name := "fillInStackTrace", desc := "(I)Ljava/lang/Throwable;" } : Jvm.MethodName)) ∈ lw_all := lw_g (lw_at lw_m4 19 rfl) rfl
theorem q847 : (Jvm.Cond.selects "java/lang/IllegalArgumentException" ({ cls := "java/lang/Throwable", name := "fillInStackTrace", desc := "()Ljava/lang/Throwable;" } : Jvm.MethodName) ({ cls := "java/lang/Throwable", name := "fillInStackTrace", desc := "()Ljava/lang/Throwable;" } : Jvm.MethodName)) ∈ lw_all := lw_g (lw_at lw_m4 20 rfl) rfl
theorem q848 : (Jvm.Cond.lays "java/lang/IllegalArgumentException" "java/lang/Throwable" "cause" "Ljava/lang/Throwable;") ∈ lw_all := lw_g (lw_at lw_m4 21 rfl) rfl
theorem q850 : (Jvm.Cond.lays "java/lang/IllegalArgumentException" "java/lang/Throwable" "stackTrace" "[Ljava/lang/StackTraceElement;") ∈ lw_all := lw_g (lw_at lw_m4 23 rfl) rfl
theorem q852 : (Jvm.Cond.lays "java/lang/IllegalArgumentException" "java/lang/Throwable" "suppressedExceptions" "Ljava/util/List;") ∈ lw_all := lw_g (lw_at lw_m4 25 rfl) rfl
theorem q854 : (Jvm.Cond.lays "java/lang/IllegalArgumentException" "java/lang/Throwable" "detailMessage" "Ljava/lang/String;") ∈ lw_all := lw_g (lw_at lw_m4 27 rfl) rfl
theorem q856 : (Jvm.Cond.lays "java/lang/IllegalArgumentException" "java/lang/Throwable" "backtrace" "Ljava/lang/Object;") ∈ lw_all := lw_g (lw_at lw_m4 29 rfl) rfl
theorem q879 : (Jvm.Cond.instanceMethod ({ cls := "java/lang/IllegalArgumentException", name := "<init>", desc := "()V" } : Jvm.MethodName)) ∈ lw_all := lw_g (lw_at lw_m4 52 rfl) rfl
theorem q880 : (Jvm.Cond.code ({ cls := "java/lang/IllegalArgumentException", name := "<init>", desc := "()V" } : Jvm.MethodName) prog_30_method_1_code (1 : Nat) (Option.none : Option Jvm.ClassFile.FieldType)) ∈ lw_all := lw_g (lw_at lw_m4 53 rfl) rfl
theorem q881 : (Jvm.Cond.methodLink "java/lang/IllegalArgumentException" (1 : Nat) ({ cls := "java/lang/RuntimeException", name := "<init>", desc := "()V" } : Jvm.MethodName)) ∈ lw_all := lw_g (lw_at lw_m4 54 rfl) rfl
theorem q897 : (Jvm.Cond.lays "java/lang/IllegalArgumentException" "java/lang/Throwable" "depth" "I") ∈ lw_all := lw_g (lw_at lw_m4 70 rfl) rfl
theorem q900 : (Jvm.Cond.superclass "java/lang/IllegalArgumentException" "java/lang/RuntimeException") ∈ lw_all := lw_g (lw_at lw_m4 73 rfl) rfl
theorem q2490 : (Jvm.Cond.castable "java/lang/IllegalArgumentException" "java/lang/Object") ∈ lw_tbl := lw_at lw_m10 223 rfl
theorem in_J3 : ∀ w ∈ wsJ30, w ∈ lw_all := lw_in wsJ30 [848, 850, 852, 854, 856, 897] (by decide +kernel) (by decide +kernel)
/-! java/lang/String -/
set_option maxRecDepth 100000
def RJ4 : String := "java/lang/String"
abbrev cJ4_length : ByteArray := prog_33_method_54_code
def yJ4_length : MethodName := ⟨RJ4, "length", "()I"⟩
def dkwJ4_length_0 : List UInt8 := [42, 180, 0, 9, 190, 42, 182, 1, 79, 122, 172]
abbrev dktJ4_length_0 : List UInt8 := dkwJ4_length_0 ++ []
theorem dksJ4_length_0 : cJ4_length.data.toList.drop 0 = dktJ4_length_0 := by decide +kernel
theorem dJ4_length_0 : decode cJ4_length 0 = .ok (.aload_n 0, 1) := dk_42 (dk_at dksJ4_length_0 0 rfl rfl)
theorem dJ4_length_1 : decode cJ4_length 1 = .ok (.getfield 9, 3) := dk_180 0 9 (dk_at dksJ4_length_0 1 rfl rfl)
theorem dJ4_length_4 : decode cJ4_length 4 = .ok (.arraylength, 1) := dk_190 (dk_at dksJ4_length_0 4 rfl rfl)
theorem dJ4_length_5 : decode cJ4_length 5 = .ok (.aload_n 0, 1) := dk_42 (dk_at dksJ4_length_0 5 rfl rfl)
theorem dJ4_length_6 : decode cJ4_length 6 = .ok (.invokevirtual 335, 3) := dk_182 1 79 (dk_at dksJ4_length_0 6 rfl rfl)
theorem dJ4_length_9 : decode cJ4_length 9 = .ok (.ishr, 1) := dk_122 (dk_at dksJ4_length_0 9 rfl rfl)
theorem dJ4_length_10 : decode cJ4_length 10 = .ok (.ireturn, 1) := dk_172 (dk_at dksJ4_length_0 10 rfl rfl)
abbrev cJ4_coder : ByteArray := prog_33_method_152_code
def yJ4_coder : MethodName := ⟨RJ4, "coder", "()B"⟩
def dkwJ4_coder_0 : List UInt8 := [178, 0, 38, 153, 0, 10, 42, 180, 0, 15, 167, 0, 4, 4, 172]
abbrev dktJ4_coder_0 : List UInt8 := dkwJ4_coder_0 ++ []
theorem dksJ4_coder_0 : cJ4_coder.data.toList.drop 0 = dktJ4_coder_0 := by decide +kernel
theorem dJ4_coder_0 : decode cJ4_coder 0 = .ok (.getstatic 38, 3) := dk_178 0 38 (dk_at dksJ4_coder_0 0 rfl rfl)
theorem dJ4_coder_3 : decode cJ4_coder 3 = .ok (.ifCond .eq 10, 3) := dk_153 0 10 (dk_at dksJ4_coder_0 3 rfl rfl)
theorem dJ4_coder_6 : decode cJ4_coder 6 = .ok (.aload_n 0, 1) := dk_42 (dk_at dksJ4_coder_0 6 rfl rfl)
theorem dJ4_coder_7 : decode cJ4_coder 7 = .ok (.getfield 15, 3) := dk_180 0 15 (dk_at dksJ4_coder_0 7 rfl rfl)
theorem dJ4_coder_10 : decode cJ4_coder 10 = .ok (.goto 4, 3) := dk_167 0 4 (dk_at dksJ4_coder_0 10 rfl rfl)
theorem dJ4_coder_13 : decode cJ4_coder 13 = .ok (.iconst 1, 1) := dk_4 (dk_at dksJ4_coder_0 13 rfl rfl)
theorem dJ4_coder_14 : decode cJ4_coder 14 = .ok (.ireturn, 1) := dk_172 (dk_at dksJ4_coder_0 14 rfl rfl)
abbrev cJ4_charAt : ByteArray := prog_33_method_56_code
def yJ4_charAt : MethodName := ⟨RJ4, "charAt", "(I)C"⟩
def dkwJ4_charAt_1 : List UInt8 := [172]
abbrev dktJ4_charAt_1 : List UInt8 := dkwJ4_charAt_1 ++ []
def dkwJ4_charAt_0 : List UInt8 := [42, 182, 1, 236, 153, 0, 12, 42, 180, 0, 9, 27, 184, 1, 239, 172, 42, 180, 0, 9, 27, 184, 1, 242]
abbrev dktJ4_charAt_0 : List UInt8 := dkwJ4_charAt_0 ++ dktJ4_charAt_1
theorem dksJ4_charAt_0 : cJ4_charAt.data.toList.drop 0 = dktJ4_charAt_0 := by decide +kernel
theorem dksJ4_charAt_1 : cJ4_charAt.data.toList.drop 24 = dktJ4_charAt_1 := dk_seg dksJ4_charAt_0 24 rfl rfl
theorem dJ4_charAt_0 : decode cJ4_charAt 0 = .ok (.aload_n 0, 1) := dk_42 (dk_at dksJ4_charAt_0 0 rfl rfl)
theorem dJ4_charAt_1 : decode cJ4_charAt 1 = .ok (.invokevirtual 492, 3) := dk_182 1 236 (dk_at dksJ4_charAt_0 1 rfl rfl)
theorem dJ4_charAt_4 : decode cJ4_charAt 4 = .ok (.ifCond .eq 12, 3) := dk_153 0 12 (dk_at dksJ4_charAt_0 4 rfl rfl)
theorem dJ4_charAt_7 : decode cJ4_charAt 7 = .ok (.aload_n 0, 1) := dk_42 (dk_at dksJ4_charAt_0 7 rfl rfl)
theorem dJ4_charAt_8 : decode cJ4_charAt 8 = .ok (.getfield 9, 3) := dk_180 0 9 (dk_at dksJ4_charAt_0 8 rfl rfl)
theorem dJ4_charAt_11 : decode cJ4_charAt 11 = .ok (.iload_n 1, 1) := dk_27 (dk_at dksJ4_charAt_0 11 rfl rfl)
theorem dJ4_charAt_12 : decode cJ4_charAt 12 = .ok (.invokestatic 495, 3) := dk_184 1 239 (dk_at dksJ4_charAt_0 12 rfl rfl)
theorem dJ4_charAt_15 : decode cJ4_charAt 15 = .ok (.ireturn, 1) := dk_172 (dk_at dksJ4_charAt_0 15 rfl rfl)
theorem dJ4_charAt_16 : decode cJ4_charAt 16 = .ok (.aload_n 0, 1) := dk_42 (dk_at dksJ4_charAt_0 16 rfl rfl)
theorem dJ4_charAt_17 : decode cJ4_charAt 17 = .ok (.getfield 9, 3) := dk_180 0 9 (dk_at dksJ4_charAt_0 17 rfl rfl)
theorem dJ4_charAt_20 : decode cJ4_charAt 20 = .ok (.iload_n 1, 1) := dk_27 (dk_at dksJ4_charAt_0 20 rfl rfl)
theorem dJ4_charAt_21 : decode cJ4_charAt 21 = .ok (.invokestatic 498, 3) := dk_184 1 242 (dk_at dksJ4_charAt_0 21 rfl rfl)
theorem dJ4_charAt_24 : decode cJ4_charAt 24 = .ok (.ireturn, 1) := dk_172 (dk_at dksJ4_charAt_1 0 rfl rfl)
abbrev cJ4_isLatin1 : ByteArray := prog_33_method_154_code
def yJ4_isLatin1 : MethodName := ⟨RJ4, "isLatin1", "()Z"⟩
def dkwJ4_isLatin1_0 : List UInt8 := [178, 0, 38, 153, 0, 14, 42, 180, 0, 15, 154, 0, 7, 4, 167, 0, 4, 3, 172]
abbrev dktJ4_isLatin1_0 : List UInt8 := dkwJ4_isLatin1_0 ++ []
theorem dksJ4_isLatin1_0 : cJ4_isLatin1.data.toList.drop 0 = dktJ4_isLatin1_0 := by decide +kernel
theorem dJ4_isLatin1_0 : decode cJ4_isLatin1 0 = .ok (.getstatic 38, 3) := dk_178 0 38 (dk_at dksJ4_isLatin1_0 0 rfl rfl)
theorem dJ4_isLatin1_3 : decode cJ4_isLatin1 3 = .ok (.ifCond .eq 14, 3) := dk_153 0 14 (dk_at dksJ4_isLatin1_0 3 rfl rfl)
theorem dJ4_isLatin1_6 : decode cJ4_isLatin1 6 = .ok (.aload_n 0, 1) := dk_42 (dk_at dksJ4_isLatin1_0 6 rfl rfl)
theorem dJ4_isLatin1_7 : decode cJ4_isLatin1 7 = .ok (.getfield 15, 3) := dk_180 0 15 (dk_at dksJ4_isLatin1_0 7 rfl rfl)
theorem dJ4_isLatin1_10 : decode cJ4_isLatin1 10 = .ok (.ifCond .ne 7, 3) := dk_154 0 7 (dk_at dksJ4_isLatin1_0 10 rfl rfl)
theorem dJ4_isLatin1_13 : decode cJ4_isLatin1 13 = .ok (.iconst 1, 1) := dk_4 (dk_at dksJ4_isLatin1_0 13 rfl rfl)
theorem dJ4_isLatin1_14 : decode cJ4_isLatin1 14 = .ok (.goto 4, 3) := dk_167 0 4 (dk_at dksJ4_isLatin1_0 14 rfl rfl)
theorem dJ4_isLatin1_17 : decode cJ4_isLatin1 17 = .ok (.iconst 0, 1) := dk_3 (dk_at dksJ4_isLatin1_0 17 rfl rfl)
theorem dJ4_isLatin1_18 : decode cJ4_isLatin1 18 = .ok (.ireturn, 1) := dk_172 (dk_at dksJ4_isLatin1_0 18 rfl rfl)
abbrev cJ4_checkIndex : ByteArray := prog_33_method_155_code
def yJ4_checkIndex : MethodName := ⟨RJ4, "checkIndex", "(II)V"⟩
def dkwJ4_checkIndex_0 : List UInt8 := [26, 27, 178, 4, 29, 184, 4, 35, 87, 177]
abbrev dktJ4_checkIndex_0 : List UInt8 := dkwJ4_checkIndex_0 ++ []
theorem dksJ4_checkIndex_0 : cJ4_checkIndex.data.toList.drop 0 = dktJ4_checkIndex_0 := by decide +kernel
theorem dJ4_checkIndex_0 : decode cJ4_checkIndex 0 = .ok (.iload_n 0, 1) := dk_26 (dk_at dksJ4_checkIndex_0 0 rfl rfl)
theorem dJ4_checkIndex_1 : decode cJ4_checkIndex 1 = .ok (.iload_n 1, 1) := dk_27 (dk_at dksJ4_checkIndex_0 1 rfl rfl)
theorem dJ4_checkIndex_2 : decode cJ4_checkIndex 2 = .ok (.getstatic 1053, 3) := dk_178 4 29 (dk_at dksJ4_checkIndex_0 2 rfl rfl)
theorem dJ4_checkIndex_5 : decode cJ4_checkIndex 5 = .ok (.invokestatic 1059, 3) := dk_184 4 35 (dk_at dksJ4_checkIndex_0 5 rfl rfl)
theorem dJ4_checkIndex_8 : decode cJ4_checkIndex 8 = .ok (.pop, 1) := dk_87 (dk_at dksJ4_checkIndex_0 8 rfl rfl)
theorem dJ4_checkIndex_9 : decode cJ4_checkIndex 9 = .ok (.return_, 1) := dk_177 (dk_at dksJ4_checkIndex_0 9 rfl rfl)
theorem q123 : (Jvm.Cond.initialized "java/lang/String") ∈ lw_all := lw_g (lw_at lw_m1 16 rfl) rfl
theorem q997 : (Jvm.Cond.instanceMethod ({ cls := "java/lang/String", name := "length", desc := "()I" } : Jvm.MethodName)) ∈ lw_all := lw_g (lw_at lw_m4 170 rfl) rfl
theorem q998 : (Jvm.Cond.selects "java/lang/String" ({ cls := "java/lang/String", name := "length", desc := "()I" } : Jvm.MethodName) ({ cls := "java/lang/String", name := "length", desc := "()I" } : Jvm.MethodName)) ∈ lw_all := lw_g (lw_at lw_m4 171 rfl) rfl
theorem q999 : (Jvm.Cond.code ({ cls := "java/lang/String", name := "length", desc := "()I" } : Jvm.MethodName) prog_33_method_54_code (1 : Nat) (Option.some Jvm.ClassFile.FieldType.int)) ∈ lw_all := lw_g (lw_at lw_m4 172 rfl) rfl
theorem q1000 : (Jvm.Cond.methodLink "java/lang/String" (335 : Nat) ({ cls := "java/lang/String", name := "coder", desc := "()B" } : Jvm.MethodName)) ∈ lw_all := lw_g (lw_at lw_m4 173 rfl) rfl
theorem q1001 : (Jvm.Cond.instanceMethod ({ cls := "java/lang/String", name := "coder", desc := "()B" } : Jvm.MethodName)) ∈ lw_all := lw_g (lw_at lw_m4 174 rfl) rfl
theorem q1002 : (Jvm.Cond.selects "java/lang/String" ({ cls := "java/lang/String", name := "coder", desc := "()B" } : Jvm.MethodName) ({ cls := "java/lang/String", name := "coder", desc := "()B" } : Jvm.MethodName)) ∈ lw_all := lw_g (lw_at lw_m4 175 rfl) rfl
theorem q1003 : (Jvm.Cond.code ({ cls := "java/lang/String", name := "coder", desc := "()B" } : Jvm.MethodName) prog_33_method_152_code (1 : Nat) (Option.some Jvm.ClassFile.FieldType.byte)) ∈ lw_all := lw_g (lw_at lw_m4 176 rfl) rfl
theorem q1004 : (Jvm.Cond.fieldLink "java/lang/String" (38 : Nat) "java/lang/String" "COMPACT_STRINGS" "Z") ∈ lw_all := lw_g (lw_at lw_m4 177 rfl) rfl
theorem q1005 : (Jvm.Cond.laysStatic "java/lang/String" "COMPACT_STRINGS" "Z") ∈ lw_tbl := lw_at lw_m4 178 rfl
theorem q1007 : (Jvm.Cond.instanceMethod ({ cls := "java/lang/String", name := "charAt", desc := "(I)C" } : Jvm.MethodName)) ∈ lw_all := lw_g (lw_at lw_m4 180 rfl) rfl
theorem q1008 : (Jvm.Cond.selects "java/lang/String" ({ cls := "java/lang/String", name := "charAt", desc := "(I)C" } : Jvm.MethodName) ({ cls := "java/lang/String", name := "charAt", desc := "(I)C" } : Jvm.MethodName)) ∈ lw_all := lw_g (lw_at lw_m4 181 rfl) rfl
theorem q1009 : (Jvm.Cond.code ({ cls := "java/lang/String", name := "charAt", desc := "(I)C" } : Jvm.MethodName) prog_33_method_56_code (2 : Nat) (Option.some Jvm.ClassFile.FieldType.char)) ∈ lw_all := lw_g (lw_at lw_m4 182 rfl) rfl
theorem q1010 : (Jvm.Cond.methodLink "java/lang/String" (492 : Nat) ({ cls := "java/lang/String", name := "isLatin1", desc := "()Z" } : Jvm.MethodName)) ∈ lw_all := lw_g (lw_at lw_m4 183 rfl) rfl
theorem q1011 : (Jvm.Cond.instanceMethod ({ cls := "java/lang/String", name := "isLatin1", desc := "()Z" } : Jvm.MethodName)) ∈ lw_all := lw_g (lw_at lw_m4 184 rfl) rfl
theorem q1012 : (Jvm.Cond.selects "java/lang/String" ({ cls := "java/lang/String", name := "isLatin1", desc := "()Z" } : Jvm.MethodName) ({ cls := "java/lang/String", name := "isLatin1", desc := "()Z" } : Jvm.MethodName)) ∈ lw_all := lw_g (lw_at lw_m4 185 rfl) rfl
theorem q1013 : (Jvm.Cond.code ({ cls := "java/lang/String", name := "isLatin1", desc := "()Z" } : Jvm.MethodName) prog_33_method_154_code (1 : Nat) (Option.some Jvm.ClassFile.FieldType.boolean)) ∈ lw_all := lw_g (lw_at lw_m4 186 rfl) rfl
theorem q1014 : (Jvm.Cond.methodLink "java/lang/String" (495 : Nat) ({ cls := "java/lang/StringLatin1", name := "charAt", desc := "([BI)C" } : Jvm.MethodName)) ∈ lw_all := lw_g (lw_at lw_m4 187 rfl) rfl
theorem q1018 : (Jvm.Cond.static ({ cls := "java/lang/String", name := "checkIndex", desc := "(II)V" } : Jvm.MethodName)) ∈ lw_all := lw_g (lw_at lw_m4 191 rfl) rfl
theorem q1019 : (Jvm.Cond.code ({ cls := "java/lang/String", name := "checkIndex", desc := "(II)V" } : Jvm.MethodName) prog_33_method_155_code (2 : Nat) (Option.none : Option Jvm.ClassFile.FieldType)) ∈ lw_all := lw_g (lw_at lw_m4 192 rfl) rfl
theorem q1020 : (Jvm.Cond.fieldLink "java/lang/String" (1053 : Nat) "jdk/internal/util/Preconditions" "SIOOBE_FORMATTER" "Ljava/util/function/BiFunction;") ∈ lw_all := lw_g (lw_at lw_m4 193 rfl) rfl
theorem q1022 : (Jvm.Cond.methodLink "java/lang/String" (1059 : Nat) ({ cls := "jdk/internal/util/Preconditions", name := "checkIndex", desc := "(IILjava/util/function/BiFunction;)I" } : Jvm.MethodName)) ∈ lw_all := lw_g (lw_at lw_m4 195 rfl) rfl
theorem q1025 : (Jvm.Cond.methodLink "java/lang/String" (498 : Nat) ({ cls := "java/lang/StringUTF16", name := "charAt", desc := "([BI)C" } : Jvm.MethodName)) ∈ lw_all := lw_g (lw_at lw_m4 198 rfl) rfl
theorem q2509 : (Jvm.Cond.castable "java/lang/String" "java/lang/Object") ∈ lw_tbl := lw_at lw_m11 2 rfl
theorem q2516 : (Jvm.Cond.fieldLink "java/lang/String" (9 : Nat) "java/lang/String" "value" "[B") ∈ lw_all := lw_g (lw_at lw_m11 9 rfl) rfl
theorem q2517 : (Jvm.Cond.fieldLink "java/lang/String" (15 : Nat) "java/lang/String" "coder" "B") ∈ lw_all := lw_g (lw_at lw_m11 10 rfl) rfl
/-! java/lang/StringLatin1 -/
set_option maxRecDepth 100000
def RJ5 : String := "java/lang/StringLatin1"
abbrev cJ5_charAt : ByteArray := prog_34_method_2_code
def yJ5_charAt : MethodName := ⟨RJ5, "charAt", "([BI)C"⟩
def dkwJ5_charAt_0 : List UInt8 := [27, 42, 190, 184, 0, 9, 42, 27, 51, 17, 0, 255, 126, 146, 172]
abbrev dktJ5_charAt_0 : List UInt8 := dkwJ5_charAt_0 ++ []
theorem dksJ5_charAt_0 : cJ5_charAt.data.toList.drop 0 = dktJ5_charAt_0 := by decide +kernel
theorem dJ5_charAt_0 : decode cJ5_charAt 0 = .ok (.iload_n 1, 1) := dk_27 (dk_at dksJ5_charAt_0 0 rfl rfl)
theorem dJ5_charAt_1 : decode cJ5_charAt 1 = .ok (.aload_n 0, 1) := dk_42 (dk_at dksJ5_charAt_0 1 rfl rfl)
theorem dJ5_charAt_2 : decode cJ5_charAt 2 = .ok (.arraylength, 1) := dk_190 (dk_at dksJ5_charAt_0 2 rfl rfl)
theorem dJ5_charAt_3 : decode cJ5_charAt 3 = .ok (.invokestatic 9, 3) := dk_184 0 9 (dk_at dksJ5_charAt_0 3 rfl rfl)
theorem dJ5_charAt_6 : decode cJ5_charAt 6 = .ok (.aload_n 0, 1) := dk_42 (dk_at dksJ5_charAt_0 6 rfl rfl)
theorem dJ5_charAt_7 : decode cJ5_charAt 7 = .ok (.iload_n 1, 1) := dk_27 (dk_at dksJ5_charAt_0 7 rfl rfl)
theorem dJ5_charAt_8 : decode cJ5_charAt 8 = .ok (.baload, 1) := dk_51 (dk_at dksJ5_charAt_0 8 rfl rfl)
theorem dJ5_charAt_9 : decode cJ5_charAt 9 = .ok (.sipush 255, 3) := dk_17 0 255 (dk_at dksJ5_charAt_0 9 rfl rfl)
theorem dJ5_charAt_12 : decode cJ5_charAt 12 = .ok (.iand, 1) := dk_126 (dk_at dksJ5_charAt_0 12 rfl rfl)
theorem dJ5_charAt_13 : decode cJ5_charAt 13 = .ok (.i2c, 1) := dk_146 (dk_at dksJ5_charAt_0 13 rfl rfl)
theorem dJ5_charAt_14 : decode cJ5_charAt 14 = .ok (.ireturn, 1) := dk_172 (dk_at dksJ5_charAt_0 14 rfl rfl)
theorem q124 : (Jvm.Cond.initialized "java/lang/StringLatin1") ∈ lw_all := lw_g (lw_at lw_m1 17 rfl) rfl
theorem q1015 : (Jvm.Cond.static ({ cls := "java/lang/StringLatin1", name := "charAt", desc := "([BI)C" } : Jvm.MethodName)) ∈ lw_all := lw_g (lw_at lw_m4 188 rfl) rfl
theorem q1016 : (Jvm.Cond.code ({ cls := "java/lang/StringLatin1", name := "charAt", desc := "([BI)C" } : Jvm.MethodName) prog_34_method_2_code (2 : Nat) (Option.some Jvm.ClassFile.FieldType.char)) ∈ lw_all := lw_g (lw_at lw_m4 189 rfl) rfl
theorem q1017 : (Jvm.Cond.methodLink "java/lang/StringLatin1" (9 : Nat) ({ cls := "java/lang/String", name := "checkIndex", desc := "(II)V" } : Jvm.MethodName)) ∈ lw_all := lw_g (lw_at lw_m4 190 rfl) rfl
/-! jdk/internal/util/Preconditions -/
set_option maxRecDepth 100000
def RJ6 : String := "jdk/internal/util/Preconditions"
abbrev cJ6_checkIndex : ByteArray := prog_39_method_11_code
def yJ6_checkIndex : MethodName := ⟨RJ6, "checkIndex", "(IILjava/util/function/BiFunction;)I"⟩
def dkwJ6_checkIndex_0 : List UInt8 := [26, 155, 0, 8, 26, 27, 161, 0, 10, 44, 26, 27, 184, 0, 95, 191, 26, 172]
abbrev dktJ6_checkIndex_0 : List UInt8 := dkwJ6_checkIndex_0 ++ []
theorem dksJ6_checkIndex_0 : cJ6_checkIndex.data.toList.drop 0 = dktJ6_checkIndex_0 := by decide +kernel
theorem dJ6_checkIndex_0 : decode cJ6_checkIndex 0 = .ok (.iload_n 0, 1) := dk_26 (dk_at dksJ6_checkIndex_0 0 rfl rfl)
theorem dJ6_checkIndex_1 : decode cJ6_checkIndex 1 = .ok (.ifCond .lt 8, 3) := dk_155 0 8 (dk_at dksJ6_checkIndex_0 1 rfl rfl)
theorem dJ6_checkIndex_4 : decode cJ6_checkIndex 4 = .ok (.iload_n 0, 1) := dk_26 (dk_at dksJ6_checkIndex_0 4 rfl rfl)
theorem dJ6_checkIndex_5 : decode cJ6_checkIndex 5 = .ok (.iload_n 1, 1) := dk_27 (dk_at dksJ6_checkIndex_0 5 rfl rfl)
theorem dJ6_checkIndex_6 : decode cJ6_checkIndex 6 = .ok (.if_icmp .lt 10, 3) := dk_161 0 10 (dk_at dksJ6_checkIndex_0 6 rfl rfl)
theorem dJ6_checkIndex_9 : decode cJ6_checkIndex 9 = .ok (.aload_n 2, 1) := dk_44 (dk_at dksJ6_checkIndex_0 9 rfl rfl)
theorem dJ6_checkIndex_10 : decode cJ6_checkIndex 10 = .ok (.iload_n 0, 1) := dk_26 (dk_at dksJ6_checkIndex_0 10 rfl rfl)
theorem dJ6_checkIndex_11 : decode cJ6_checkIndex 11 = .ok (.iload_n 1, 1) := dk_27 (dk_at dksJ6_checkIndex_0 11 rfl rfl)
theorem dJ6_checkIndex_12 : decode cJ6_checkIndex 12 = .ok (.invokestatic 95, 3) := dk_184 0 95 (dk_at dksJ6_checkIndex_0 12 rfl rfl)
theorem dJ6_checkIndex_15 : decode cJ6_checkIndex 15 = .ok (.athrow, 1) := dk_191 (dk_at dksJ6_checkIndex_0 15 rfl rfl)
theorem dJ6_checkIndex_16 : decode cJ6_checkIndex 16 = .ok (.iload_n 0, 1) := dk_26 (dk_at dksJ6_checkIndex_0 16 rfl rfl)
theorem dJ6_checkIndex_17 : decode cJ6_checkIndex 17 = .ok (.ireturn, 1) := dk_172 (dk_at dksJ6_checkIndex_0 17 rfl rfl)
theorem q125 : (Jvm.Cond.initialized "jdk/internal/util/Preconditions") ∈ lw_all := lw_g (lw_at lw_m1 18 rfl) rfl
theorem q1021 : (Jvm.Cond.laysStatic "jdk/internal/util/Preconditions" "SIOOBE_FORMATTER" "Ljava/util/function/BiFunction;") ∈ lw_tbl := lw_at lw_m4 194 rfl
theorem q1023 : (Jvm.Cond.static ({ cls := "jdk/internal/util/Preconditions", name := "checkIndex", desc := "(IILjava/util/function/BiFunction;)I" } : Jvm.MethodName)) ∈ lw_all := lw_g (lw_at lw_m4 196 rfl) rfl
theorem q1024 : (Jvm.Cond.code ({ cls := "jdk/internal/util/Preconditions", name := "checkIndex", desc := "(IILjava/util/function/BiFunction;)I" } : Jvm.MethodName) prog_39_method_11_code (3 : Nat) (Option.some Jvm.ClassFile.FieldType.int)) ∈ lw_all := lw_g (lw_at lw_m4 197 rfl) rfl
/-! java/lang/StringUTF16 -/
set_option maxRecDepth 100000
def RJ7 : String := "java/lang/StringUTF16"
abbrev cJ7_charAt : ByteArray := prog_35_method_83_code
def yJ7_charAt : MethodName := ⟨RJ7, "charAt", "([BI)C"⟩
def dkwJ7_charAt_0 : List UInt8 := [27, 42, 184, 0, 67, 42, 27, 184, 0, 71, 172]
abbrev dktJ7_charAt_0 : List UInt8 := dkwJ7_charAt_0 ++ []
theorem dksJ7_charAt_0 : cJ7_charAt.data.toList.drop 0 = dktJ7_charAt_0 := by decide +kernel
theorem dJ7_charAt_0 : decode cJ7_charAt 0 = .ok (.iload_n 1, 1) := dk_27 (dk_at dksJ7_charAt_0 0 rfl rfl)
theorem dJ7_charAt_1 : decode cJ7_charAt 1 = .ok (.aload_n 0, 1) := dk_42 (dk_at dksJ7_charAt_0 1 rfl rfl)
theorem dJ7_charAt_2 : decode cJ7_charAt 2 = .ok (.invokestatic 67, 3) := dk_184 0 67 (dk_at dksJ7_charAt_0 2 rfl rfl)
theorem dJ7_charAt_5 : decode cJ7_charAt 5 = .ok (.aload_n 0, 1) := dk_42 (dk_at dksJ7_charAt_0 5 rfl rfl)
theorem dJ7_charAt_6 : decode cJ7_charAt 6 = .ok (.iload_n 1, 1) := dk_27 (dk_at dksJ7_charAt_0 6 rfl rfl)
theorem dJ7_charAt_7 : decode cJ7_charAt 7 = .ok (.invokestatic 71, 3) := dk_184 0 71 (dk_at dksJ7_charAt_0 7 rfl rfl)
theorem dJ7_charAt_10 : decode cJ7_charAt 10 = .ok (.ireturn, 1) := dk_172 (dk_at dksJ7_charAt_0 10 rfl rfl)
abbrev cJ7_checkIndex : ByteArray := prog_35_method_91_code
def yJ7_checkIndex : MethodName := ⟨RJ7, "checkIndex", "(I[B)V"⟩
def dkwJ7_checkIndex_0 : List UInt8 := [26, 43, 184, 0, 48, 184, 1, 158, 177]
abbrev dktJ7_checkIndex_0 : List UInt8 := dkwJ7_checkIndex_0 ++ []
theorem dksJ7_checkIndex_0 : cJ7_checkIndex.data.toList.drop 0 = dktJ7_checkIndex_0 := by decide +kernel
theorem dJ7_checkIndex_0 : decode cJ7_checkIndex 0 = .ok (.iload_n 0, 1) := dk_26 (dk_at dksJ7_checkIndex_0 0 rfl rfl)
theorem dJ7_checkIndex_1 : decode cJ7_checkIndex 1 = .ok (.aload_n 1, 1) := dk_43 (dk_at dksJ7_checkIndex_0 1 rfl rfl)
theorem dJ7_checkIndex_2 : decode cJ7_checkIndex 2 = .ok (.invokestatic 48, 3) := dk_184 0 48 (dk_at dksJ7_checkIndex_0 2 rfl rfl)
theorem dJ7_checkIndex_5 : decode cJ7_checkIndex 5 = .ok (.invokestatic 414, 3) := dk_184 1 158 (dk_at dksJ7_checkIndex_0 5 rfl rfl)
theorem dJ7_checkIndex_8 : decode cJ7_checkIndex 8 = .ok (.return_, 1) := dk_177 (dk_at dksJ7_checkIndex_0 8 rfl rfl)
abbrev cJ7_length : ByteArray := prog_35_method_6_code
def yJ7_length : MethodName := ⟨RJ7, "length", "([B)I"⟩
def dkwJ7_length_0 : List UInt8 := [42, 190, 4, 122, 172]
abbrev dktJ7_length_0 : List UInt8 := dkwJ7_length_0 ++ []
theorem dksJ7_length_0 : cJ7_length.data.toList.drop 0 = dktJ7_length_0 := by decide +kernel
theorem dJ7_length_0 : decode cJ7_length 0 = .ok (.aload_n 0, 1) := dk_42 (dk_at dksJ7_length_0 0 rfl rfl)
theorem dJ7_length_1 : decode cJ7_length 1 = .ok (.arraylength, 1) := dk_190 (dk_at dksJ7_length_0 1 rfl rfl)
theorem dJ7_length_2 : decode cJ7_length 2 = .ok (.iconst 1, 1) := dk_4 (dk_at dksJ7_length_0 2 rfl rfl)
theorem dJ7_length_3 : decode cJ7_length 3 = .ok (.ishr, 1) := dk_122 (dk_at dksJ7_length_0 3 rfl rfl)
theorem dJ7_length_4 : decode cJ7_length 4 = .ok (.ireturn, 1) := dk_172 (dk_at dksJ7_length_0 4 rfl rfl)
abbrev cJ7_getChar : ByteArray := prog_35_method_5_code
def yJ7_getChar : MethodName := ⟨RJ7, "getChar", "([BI)C"⟩
def dkwJ7_getChar_2 : List UInt8 := [51, 17, 0, 255, 126, 178, 0, 63, 120, 128, 146, 172]
abbrev dktJ7_getChar_2 : List UInt8 := dkwJ7_getChar_2 ++ []
def dkwJ7_getChar_1 : List UInt8 := [183, 0, 56, 191, 27, 4, 120, 60, 42, 27, 132, 1, 1, 51, 17, 0, 255, 126, 178, 0, 59, 120, 42, 27]
abbrev dktJ7_getChar_1 : List UInt8 := dkwJ7_getChar_1 ++ dktJ7_getChar_2
def dkwJ7_getChar_0 : List UInt8 := [178, 0, 44, 154, 0, 25, 27, 155, 0, 11, 27, 42, 184, 0, 48, 161, 0, 13, 187, 0, 52, 89, 18, 54]
abbrev dktJ7_getChar_0 : List UInt8 := dkwJ7_getChar_0 ++ dktJ7_getChar_1
theorem dksJ7_getChar_0 : cJ7_getChar.data.toList.drop 0 = dktJ7_getChar_0 := by decide +kernel
theorem dksJ7_getChar_1 : cJ7_getChar.data.toList.drop 24 = dktJ7_getChar_1 := dk_seg dksJ7_getChar_0 24 rfl rfl
theorem dksJ7_getChar_2 : cJ7_getChar.data.toList.drop 48 = dktJ7_getChar_2 := dk_seg dksJ7_getChar_1 24 rfl rfl
theorem dJ7_getChar_0 : decode cJ7_getChar 0 = .ok (.getstatic 44, 3) := dk_178 0 44 (dk_at dksJ7_getChar_0 0 rfl rfl)
theorem dJ7_getChar_3 : decode cJ7_getChar 3 = .ok (.ifCond .ne 25, 3) := dk_154 0 25 (dk_at dksJ7_getChar_0 3 rfl rfl)
theorem dJ7_getChar_6 : decode cJ7_getChar 6 = .ok (.iload_n 1, 1) := dk_27 (dk_at dksJ7_getChar_0 6 rfl rfl)
theorem dJ7_getChar_7 : decode cJ7_getChar 7 = .ok (.ifCond .lt 11, 3) := dk_155 0 11 (dk_at dksJ7_getChar_0 7 rfl rfl)
theorem dJ7_getChar_10 : decode cJ7_getChar 10 = .ok (.iload_n 1, 1) := dk_27 (dk_at dksJ7_getChar_0 10 rfl rfl)
theorem dJ7_getChar_11 : decode cJ7_getChar 11 = .ok (.aload_n 0, 1) := dk_42 (dk_at dksJ7_getChar_0 11 rfl rfl)
theorem dJ7_getChar_12 : decode cJ7_getChar 12 = .ok (.invokestatic 48, 3) := dk_184 0 48 (dk_at dksJ7_getChar_0 12 rfl rfl)
theorem dJ7_getChar_15 : decode cJ7_getChar 15 = .ok (.if_icmp .lt 13, 3) := dk_161 0 13 (dk_at dksJ7_getChar_0 15 rfl rfl)
theorem dJ7_getChar_18 : decode cJ7_getChar 18 = .ok (.new 52, 3) := dk_187 0 52 (dk_at dksJ7_getChar_0 18 rfl rfl)
theorem dJ7_getChar_21 : decode cJ7_getChar 21 = .ok (.dup, 1) := dk_89 (dk_at dksJ7_getChar_0 21 rfl rfl)
theorem dJ7_getChar_22 : decode cJ7_getChar 22 = .ok (.ldc 54, 2) := dk_18 54 (dk_at dksJ7_getChar_0 22 rfl rfl)
theorem dJ7_getChar_24 : decode cJ7_getChar 24 = .ok (.invokespecial 56, 3) := dk_183 0 56 (dk_at dksJ7_getChar_1 0 rfl rfl)
theorem dJ7_getChar_27 : decode cJ7_getChar 27 = .ok (.athrow, 1) := dk_191 (dk_at dksJ7_getChar_1 3 rfl rfl)
theorem dJ7_getChar_28 : decode cJ7_getChar 28 = .ok (.iload_n 1, 1) := dk_27 (dk_at dksJ7_getChar_1 4 rfl rfl)
theorem dJ7_getChar_29 : decode cJ7_getChar 29 = .ok (.iconst 1, 1) := dk_4 (dk_at dksJ7_getChar_1 5 rfl rfl)
theorem dJ7_getChar_30 : decode cJ7_getChar 30 = .ok (.ishl, 1) := dk_120 (dk_at dksJ7_getChar_1 6 rfl rfl)
theorem dJ7_getChar_31 : decode cJ7_getChar 31 = .ok (.istore_n 1, 1) := dk_60 (dk_at dksJ7_getChar_1 7 rfl rfl)
theorem dJ7_getChar_32 : decode cJ7_getChar 32 = .ok (.aload_n 0, 1) := dk_42 (dk_at dksJ7_getChar_1 8 rfl rfl)
theorem dJ7_getChar_33 : decode cJ7_getChar 33 = .ok (.iload_n 1, 1) := dk_27 (dk_at dksJ7_getChar_1 9 rfl rfl)
theorem dJ7_getChar_34 : decode cJ7_getChar 34 = .ok (.iinc 1 1, 3) := dk_132 1 1 (dk_at dksJ7_getChar_1 10 rfl rfl)
theorem dJ7_getChar_37 : decode cJ7_getChar 37 = .ok (.baload, 1) := dk_51 (dk_at dksJ7_getChar_1 13 rfl rfl)
theorem dJ7_getChar_38 : decode cJ7_getChar 38 = .ok (.sipush 255, 3) := dk_17 0 255 (dk_at dksJ7_getChar_1 14 rfl rfl)
theorem dJ7_getChar_41 : decode cJ7_getChar 41 = .ok (.iand, 1) := dk_126 (dk_at dksJ7_getChar_1 17 rfl rfl)
theorem dJ7_getChar_42 : decode cJ7_getChar 42 = .ok (.getstatic 59, 3) := dk_178 0 59 (dk_at dksJ7_getChar_1 18 rfl rfl)
theorem dJ7_getChar_45 : decode cJ7_getChar 45 = .ok (.ishl, 1) := dk_120 (dk_at dksJ7_getChar_1 21 rfl rfl)
theorem dJ7_getChar_46 : decode cJ7_getChar 46 = .ok (.aload_n 0, 1) := dk_42 (dk_at dksJ7_getChar_1 22 rfl rfl)
theorem dJ7_getChar_47 : decode cJ7_getChar 47 = .ok (.iload_n 1, 1) := dk_27 (dk_at dksJ7_getChar_1 23 rfl rfl)
theorem dJ7_getChar_48 : decode cJ7_getChar 48 = .ok (.baload, 1) := dk_51 (dk_at dksJ7_getChar_2 0 rfl rfl)
theorem dJ7_getChar_49 : decode cJ7_getChar 49 = .ok (.sipush 255, 3) := dk_17 0 255 (dk_at dksJ7_getChar_2 1 rfl rfl)
theorem dJ7_getChar_52 : decode cJ7_getChar 52 = .ok (.iand, 1) := dk_126 (dk_at dksJ7_getChar_2 4 rfl rfl)
theorem dJ7_getChar_53 : decode cJ7_getChar 53 = .ok (.getstatic 63, 3) := dk_178 0 63 (dk_at dksJ7_getChar_2 5 rfl rfl)
theorem dJ7_getChar_56 : decode cJ7_getChar 56 = .ok (.ishl, 1) := dk_120 (dk_at dksJ7_getChar_2 8 rfl rfl)
theorem dJ7_getChar_57 : decode cJ7_getChar 57 = .ok (.ior, 1) := dk_128 (dk_at dksJ7_getChar_2 9 rfl rfl)
theorem dJ7_getChar_58 : decode cJ7_getChar 58 = .ok (.i2c, 1) := dk_146 (dk_at dksJ7_getChar_2 10 rfl rfl)
theorem dJ7_getChar_59 : decode cJ7_getChar 59 = .ok (.ireturn, 1) := dk_172 (dk_at dksJ7_getChar_2 11 rfl rfl)
theorem q126 : (Jvm.Cond.initialized "java/lang/StringUTF16") ∈ lw_all := lw_g (lw_at lw_m1 19 rfl) rfl
theorem q1026 : (Jvm.Cond.static ({ cls := "java/lang/StringUTF16", name := "charAt", desc := "([BI)C" } : Jvm.MethodName)) ∈ lw_all := lw_g (lw_at lw_m4 199 rfl) rfl
theorem q1027 : (Jvm.Cond.code ({ cls := "java/lang/StringUTF16", name := "charAt", desc := "([BI)C" } : Jvm.MethodName) prog_35_method_83_code (2 : Nat) (Option.some Jvm.ClassFile.FieldType.char)) ∈ lw_all := lw_g (lw_at lw_m4 200 rfl) rfl
theorem q1028 : (Jvm.Cond.methodLink "java/lang/StringUTF16" (67 : Nat) ({ cls := "java/lang/StringUTF16", name := "checkIndex", desc := "(I[B)V" } : Jvm.MethodName)) ∈ lw_all := lw_g (lw_at lw_m4 201 rfl) rfl
theorem q1029 : (Jvm.Cond.static ({ cls := "java/lang/StringUTF16", name := "checkIndex", desc := "(I[B)V" } : Jvm.MethodName)) ∈ lw_all := lw_g (lw_at lw_m4 202 rfl) rfl
theorem q1030 : (Jvm.Cond.code ({ cls := "java/lang/StringUTF16", name := "checkIndex", desc := "(I[B)V" } : Jvm.MethodName) prog_35_method_91_code (2 : Nat) (Option.none : Option Jvm.ClassFile.FieldType)) ∈ lw_all := lw_g (lw_at lw_m4 203 rfl) rfl
theorem q1031 : (Jvm.Cond.methodLink "java/lang/StringUTF16" (48 : Nat) ({ cls := "java/lang/StringUTF16", name := "length", desc := "([B)I" } : Jvm.MethodName)) ∈ lw_all := lw_g (lw_at lw_m4 204 rfl) rfl
theorem q1032 : (Jvm.Cond.static ({ cls := "java/lang/StringUTF16", name := "length", desc := "([B)I" } : Jvm.MethodName)) ∈ lw_all := lw_g (lw_at lw_m4 205 rfl) rfl
theorem q1033 : (Jvm.Cond.code ({ cls := "java/lang/StringUTF16", name := "length", desc := "([B)I" } : Jvm.MethodName) prog_35_method_6_code (1 : Nat) (Option.some Jvm.ClassFile.FieldType.int)) ∈ lw_all := lw_g (lw_at lw_m4 206 rfl) rfl
theorem q1034 : (Jvm.Cond.methodLink "java/lang/StringUTF16" (414 : Nat) ({ cls := "java/lang/String", name := "checkIndex", desc := "(II)V" } : Jvm.MethodName)) ∈ lw_all := lw_g (lw_at lw_m4 207 rfl) rfl
theorem q1035 : (Jvm.Cond.methodLink "java/lang/StringUTF16" (71 : Nat) ({ cls := "java/lang/StringUTF16", name := "getChar", desc := "([BI)C" } : Jvm.MethodName)) ∈ lw_all := lw_g (lw_at lw_m4 208 rfl) rfl
theorem q1036 : (Jvm.Cond.static ({ cls := "java/lang/StringUTF16", name := "getChar", desc := "([BI)C" } : Jvm.MethodName)) ∈ lw_all := lw_g (lw_at lw_m4 209 rfl) rfl
theorem q1037 : (Jvm.Cond.code ({ cls := "java/lang/StringUTF16", name := "getChar", desc := "([BI)C" } : Jvm.MethodName) prog_35_method_5_code (2 : Nat) (Option.some Jvm.ClassFile.FieldType.char)) ∈ lw_all := lw_g (lw_at lw_m4 210 rfl) rfl
theorem q1038 : (Jvm.Cond.fieldLink "java/lang/StringUTF16" (44 : Nat) "java/lang/StringUTF16" "$assertionsDisabled" "Z") ∈ lw_all := lw_g (lw_at lw_m4 211 rfl) rfl
theorem q1039 : (Jvm.Cond.laysStatic "java/lang/StringUTF16" "$assertionsDisabled" "Z") ∈ lw_tbl := lw_at lw_m4 212 rfl
theorem q1040 : (Jvm.Cond.fieldLink "java/lang/StringUTF16" (59 : Nat) "java/lang/StringUTF16" "HI_BYTE_SHIFT" "I") ∈ lw_all := lw_g (lw_at lw_m4 213 rfl) rfl
theorem q1041 : (Jvm.Cond.laysStatic "java/lang/StringUTF16" "HI_BYTE_SHIFT" "I") ∈ lw_tbl := lw_at lw_m4 214 rfl
theorem q1042 : (Jvm.Cond.fieldLink "java/lang/StringUTF16" (63 : Nat) "java/lang/StringUTF16" "LO_BYTE_SHIFT" "I") ∈ lw_all := lw_g (lw_at lw_m4 215 rfl) rfl
theorem q1043 : (Jvm.Cond.laysStatic "java/lang/StringUTF16" "LO_BYTE_SHIFT" "I") ∈ lw_tbl := lw_at lw_m4 216 rfl
/-! java/lang/Math -/
set_option maxRecDepth 100000
def RJ8 : String := "java/lang/Math"
abbrev cJ8_min : ByteArray := prog_31_method_69_code
def yJ8_min : MethodName := ⟨RJ8, "min", "(II)I"⟩
def dkwJ8_min_0 : List UInt8 := [26, 27, 163, 0, 7, 26, 167, 0, 4, 27, 172]
abbrev dktJ8_min_0 : List UInt8 := dkwJ8_min_0 ++ []
theorem dksJ8_min_0 : cJ8_min.data.toList.drop 0 = dktJ8_min_0 := by decide +kernel
theorem dJ8_min_0 : decode cJ8_min 0 = .ok (.iload_n 0, 1) := dk_26 (dk_at dksJ8_min_0 0 rfl rfl)
theorem dJ8_min_1 : decode cJ8_min 1 = .ok (.iload_n 1, 1) := dk_27 (dk_at dksJ8_min_0 1 rfl rfl)
theorem dJ8_min_2 : decode cJ8_min 2 = .ok (.if_icmp .gt 7, 3) := dk_163 0 7 (dk_at dksJ8_min_0 2 rfl rfl)
theorem dJ8_min_5 : decode cJ8_min 5 = .ok (.iload_n 0, 1) := dk_26 (dk_at dksJ8_min_0 5 rfl rfl)
theorem dJ8_min_6 : decode cJ8_min 6 = .ok (.goto 4, 3) := dk_167 0 4 (dk_at dksJ8_min_0 6 rfl rfl)
theorem dJ8_min_9 : decode cJ8_min 9 = .ok (.iload_n 1, 1) := dk_27 (dk_at dksJ8_min_0 9 rfl rfl)
theorem dJ8_min_10 : decode cJ8_min 10 = .ok (.ireturn, 1) := dk_172 (dk_at dksJ8_min_0 10 rfl rfl)
abbrev cJ8_min_2 : ByteArray := prog_31_method_70_code
def yJ8_min_2 : MethodName := ⟨RJ8, "min", "(JJ)J"⟩
def dkwJ8_min_2_0 : List UInt8 := [30, 32, 148, 157, 0, 7, 30, 167, 0, 4, 32, 173]
abbrev dktJ8_min_2_0 : List UInt8 := dkwJ8_min_2_0 ++ []
theorem dksJ8_min_2_0 : cJ8_min_2.data.toList.drop 0 = dktJ8_min_2_0 := by decide +kernel
theorem dJ8_min_2_0 : decode cJ8_min_2 0 = .ok (.lload_n 0, 1) := dk_30 (dk_at dksJ8_min_2_0 0 rfl rfl)
theorem dJ8_min_2_1 : decode cJ8_min_2 1 = .ok (.lload_n 2, 1) := dk_32 (dk_at dksJ8_min_2_0 1 rfl rfl)
theorem dJ8_min_2_2 : decode cJ8_min_2 2 = .ok (.lcmp, 1) := dk_148 (dk_at dksJ8_min_2_0 2 rfl rfl)
theorem dJ8_min_2_3 : decode cJ8_min_2 3 = .ok (.ifCond .gt 7, 3) := dk_157 0 7 (dk_at dksJ8_min_2_0 3 rfl rfl)
theorem dJ8_min_2_6 : decode cJ8_min_2 6 = .ok (.lload_n 0, 1) := dk_30 (dk_at dksJ8_min_2_0 6 rfl rfl)
theorem dJ8_min_2_7 : decode cJ8_min_2 7 = .ok (.goto 4, 3) := dk_167 0 4 (dk_at dksJ8_min_2_0 7 rfl rfl)
theorem dJ8_min_2_10 : decode cJ8_min_2 10 = .ok (.lload_n 2, 1) := dk_32 (dk_at dksJ8_min_2_0 10 rfl rfl)
theorem dJ8_min_2_11 : decode cJ8_min_2 11 = .ok (.lreturn, 1) := dk_173 (dk_at dksJ8_min_2_0 11 rfl rfl)
abbrev cJ8_max : ByteArray := prog_31_method_66_code
def yJ8_max : MethodName := ⟨RJ8, "max", "(JJ)J"⟩
def dkwJ8_max_0 : List UInt8 := [30, 32, 148, 155, 0, 7, 30, 167, 0, 4, 32, 173]
abbrev dktJ8_max_0 : List UInt8 := dkwJ8_max_0 ++ []
theorem dksJ8_max_0 : cJ8_max.data.toList.drop 0 = dktJ8_max_0 := by decide +kernel
theorem dJ8_max_0 : decode cJ8_max 0 = .ok (.lload_n 0, 1) := dk_30 (dk_at dksJ8_max_0 0 rfl rfl)
theorem dJ8_max_1 : decode cJ8_max 1 = .ok (.lload_n 2, 1) := dk_32 (dk_at dksJ8_max_0 1 rfl rfl)
theorem dJ8_max_2 : decode cJ8_max 2 = .ok (.lcmp, 1) := dk_148 (dk_at dksJ8_max_0 2 rfl rfl)
theorem dJ8_max_3 : decode cJ8_max 3 = .ok (.ifCond .lt 7, 3) := dk_155 0 7 (dk_at dksJ8_max_0 3 rfl rfl)
theorem dJ8_max_6 : decode cJ8_max 6 = .ok (.lload_n 0, 1) := dk_30 (dk_at dksJ8_max_0 6 rfl rfl)
theorem dJ8_max_7 : decode cJ8_max 7 = .ok (.goto 4, 3) := dk_167 0 4 (dk_at dksJ8_max_0 7 rfl rfl)
theorem dJ8_max_10 : decode cJ8_max 10 = .ok (.lload_n 2, 1) := dk_32 (dk_at dksJ8_max_0 10 rfl rfl)
theorem dJ8_max_11 : decode cJ8_max 11 = .ok (.lreturn, 1) := dk_173 (dk_at dksJ8_max_0 11 rfl rfl)
abbrev cJ8_max_2 : ByteArray := prog_31_method_65_code
def yJ8_max_2 : MethodName := ⟨RJ8, "max", "(II)I"⟩
def dkwJ8_max_2_0 : List UInt8 := [26, 27, 161, 0, 7, 26, 167, 0, 4, 27, 172]
abbrev dktJ8_max_2_0 : List UInt8 := dkwJ8_max_2_0 ++ []
theorem dksJ8_max_2_0 : cJ8_max_2.data.toList.drop 0 = dktJ8_max_2_0 := by decide +kernel
theorem dJ8_max_2_0 : decode cJ8_max_2 0 = .ok (.iload_n 0, 1) := dk_26 (dk_at dksJ8_max_2_0 0 rfl rfl)
theorem dJ8_max_2_1 : decode cJ8_max_2 1 = .ok (.iload_n 1, 1) := dk_27 (dk_at dksJ8_max_2_0 1 rfl rfl)
theorem dJ8_max_2_2 : decode cJ8_max_2 2 = .ok (.if_icmp .lt 7, 3) := dk_161 0 7 (dk_at dksJ8_max_2_0 2 rfl rfl)
theorem dJ8_max_2_5 : decode cJ8_max_2 5 = .ok (.iload_n 0, 1) := dk_26 (dk_at dksJ8_max_2_0 5 rfl rfl)
theorem dJ8_max_2_6 : decode cJ8_max_2 6 = .ok (.goto 4, 3) := dk_167 0 4 (dk_at dksJ8_max_2_0 6 rfl rfl)
theorem dJ8_max_2_9 : decode cJ8_max_2 9 = .ok (.iload_n 1, 1) := dk_27 (dk_at dksJ8_max_2_0 9 rfl rfl)
theorem dJ8_max_2_10 : decode cJ8_max_2 10 = .ok (.ireturn, 1) := dk_172 (dk_at dksJ8_max_2_0 10 rfl rfl)
theorem q128 : (Jvm.Cond.initialized "java/lang/Math") ∈ lw_all := lw_g (lw_at lw_m1 21 rfl) rfl
theorem q587 : (Jvm.Cond.static ({ cls := "java/lang/Math", name := "min", desc := "(II)I" } : Jvm.MethodName)) ∈ lw_all := lw_g (lw_at lw_m3 0 rfl) rfl
theorem q588 : (Jvm.Cond.code ({ cls := "java/lang/Math", name := "min", desc := "(II)I" } : Jvm.MethodName) prog_31_method_69_code (2 : Nat) (Option.some Jvm.ClassFile.FieldType.int)) ∈ lw_all := lw_g (lw_at lw_m3 1 rfl) rfl
theorem q1567 : (Jvm.Cond.static ({ cls := "java/lang/Math", name := "min", desc := "(JJ)J" } : Jvm.MethodName)) ∈ lw_all := lw_g (lw_at lw_m7 20 rfl) rfl
theorem q1568 : (Jvm.Cond.code ({ cls := "java/lang/Math", name := "min", desc := "(JJ)J" } : Jvm.MethodName) prog_31_method_70_code (4 : Nat) (Option.some Jvm.ClassFile.FieldType.long)) ∈ lw_all := lw_g (lw_at lw_m7 21 rfl) rfl
theorem q1585 : (Jvm.Cond.static ({ cls := "java/lang/Math", name := "max", desc := "(JJ)J" } : Jvm.MethodName)) ∈ lw_all := lw_g (lw_at lw_m7 38 rfl) rfl
theorem q1586 : (Jvm.Cond.code ({ cls := "java/lang/Math", name := "max", desc := "(JJ)J" } : Jvm.MethodName) prog_31_method_66_code (4 : Nat) (Option.some Jvm.ClassFile.FieldType.long)) ∈ lw_all := lw_g (lw_at lw_m7 39 rfl) rfl
theorem q1702 : (Jvm.Cond.static ({ cls := "java/lang/Math", name := "max", desc := "(II)I" } : Jvm.MethodName)) ∈ lw_all := lw_g (lw_at lw_m7 155 rfl) rfl
theorem q1703 : (Jvm.Cond.code ({ cls := "java/lang/Math", name := "max", desc := "(II)I" } : Jvm.MethodName) prog_31_method_65_code (2 : Nat) (Option.some Jvm.ClassFile.FieldType.int)) ∈ lw_all := lw_g (lw_at lw_m7 156 rfl) rfl
/-! java/util/NoSuchElementException -/
set_option maxRecDepth 100000
def RJ9 : String := "java/util/NoSuchElementException"
def TJ9 : u_T := fun k => match k with
  | 0 => ("java/lang/Throwable", "cause", "Ljava/lang/Throwable;", false)
  | 1 => ("java/lang/Throwable", "stackTrace", "[Ljava/lang/StackTraceElement;", false)
  | 2 => ("java/lang/Throwable", "suppressedExceptions", "Ljava/util/List;", false)
  | 3 => ("java/lang/Throwable", "detailMessage", "Ljava/lang/String;", false)
  | 4 => ("java/lang/Throwable", "backtrace", "Ljava/lang/Object;", false)
  | _ => ("java/lang/Throwable", "depth", "I", false)
def tyJ9 : Nat → FieldType := fun k => match k with
  | 0 => .object "java/lang/Throwable"
  | 1 => .array (.object "java/lang/StackTraceElement")
  | 2 => .object "java/util/List"
  | 3 => .object "java/lang/String"
  | 4 => .object "java/lang/Object"
  | _ => .int
abbrev wsJ90 : List Cond := u_ws RJ9 TJ9 6
theorem nmJ9 : ∀ a, a < 6 → ∀ b, b < 6 → a ≠ b → (TJ9 a).2.1 ≠ (TJ9 b).2.1 := by decide +kernel
theorem tyJ9_ok : ∀ k, k < 6 → parseFieldDescriptor (TJ9 k).2.2.1 = some (tyJ9 k) := by decide +kernel
abbrev cJ9_init : ByteArray := prog_38_method_1_code
def yJ9_init : MethodName := ⟨RJ9, "<init>", "()V"⟩
theorem dJ9_init_0 : decode cJ9_init 0 = .ok (.aload_n 0, 1) := by decide +kernel
theorem dJ9_init_1 : decode cJ9_init 1 = .ok (.invokespecial 1, 3) := by decide +kernel
theorem dJ9_init_4 : decode cJ9_init 4 = .ok (.return_, 1) := by decide +kernel
theorem q130 : (Jvm.Cond.initialized "java/util/NoSuchElementException") ∈ lw_all := lw_g (lw_at lw_m1 23 rfl) rfl
theorem q871 : (Jvm.Cond.selects "java/util/NoSuchElementException" ({ cls := "java/lang/Throwable", name := "fillInStackTrace", desc := "()Ljava/lang/Throwable;" } : Jvm.MethodName) ({ cls := "java/lang/Throwable", name := "fillInStackTrace", desc := "()Ljava/lang/Throwable;" } : Jvm.MethodName)) ∈ lw_all := lw_g (lw_at lw_m4 44 rfl) rfl
theorem q1116 : (Jvm.Cond.instantiable "java/util/NoSuchElementException" (6 : Nat)) ∈ lw_all := lw_g (lw_at lw_m5 49 rfl) rfl
theorem q1117 : (Jvm.Cond.castable "java/util/NoSuchElementException" "java/util/NoSuchElementException") ∈ lw_tbl := lw_at lw_m5 50 rfl
theorem q1118 : (Jvm.Cond.selects "java/util/NoSuchElementException" ({ cls := "java/lang/Throwable", name := "fillInStackTrace", desc := "(I)Ljava/lang/Throwable;" } : Jvm.MethodName) ({ cls := "java/lang/Throwable", name := "fillInStackTrace", desc := "(I)Ljava/lang/Throwable;" } : Jvm.MethodName)) ∈ lw_all := lw_g (lw_at lw_m5 51 rfl) rfl
theorem q1119 : (Jvm.Cond.lays "java/util/NoSuchElementException" "java/lang/Throwable" "cause" "Ljava/lang/Throwable;") ∈ lw_all := lw_g (lw_at lw_m5 52 rfl) rfl
theorem q1120 : (Jvm.Cond.lays "java/util/NoSuchElementException" "java/lang/Throwable" "stackTrace" "[Ljava/lang/StackTraceElement;") ∈ lw_all := lw_g (lw_at lw_m5 53 rfl) rfl
theorem q1121 : (Jvm.Cond.lays "java/util/NoSuchElementException" "java/lang/Throwable" "suppressedExceptions" "Ljava/util/List;") ∈ lw_all := lw_g (lw_at lw_m5 54 rfl) rfl
theorem q1122 : (Jvm.Cond.lays "java/util/NoSuchElementException" "java/lang/Throwable" "detailMessage" "Ljava/lang/String;") ∈ lw_all := lw_g (lw_at lw_m5 55 rfl) rfl
theorem q1123 : (Jvm.Cond.lays "java/util/NoSuchElementException" "java/lang/Throwable" "backtrace" "Ljava/lang/Object;") ∈ lw_all := lw_g (lw_at lw_m5 56 rfl) rfl
theorem q1125 : (Jvm.Cond.instanceMethod ({ cls := "java/util/NoSuchElementException", name := "<init>", desc := "()V" } : Jvm.MethodName)) ∈ lw_all := lw_g (lw_at lw_m5 58 rfl) rfl
theorem q1126 : (Jvm.Cond.code ({ cls := "java/util/NoSuchElementException", name := "<init>", desc := "()V" } : Jvm.MethodName) prog_38_method_1_code (1 : Nat) (Option.none : Option Jvm.ClassFile.FieldType)) ∈ lw_all := lw_g (lw_at lw_m5 59 rfl) rfl
theorem q1127 : (Jvm.Cond.methodLink "java/util/NoSuchElementException" (1 : Nat) ({ cls := "java/lang/RuntimeException", name := "<init>", desc := "()V" } : Jvm.MethodName)) ∈ lw_all := lw_g (lw_at lw_m5 60 rfl) rfl
theorem q1128 : (Jvm.Cond.lays "java/util/NoSuchElementException" "java/lang/Throwable" "depth" "I") ∈ lw_all := lw_g (lw_at lw_m5 61 rfl) rfl
theorem q1129 : (Jvm.Cond.superclass "java/util/NoSuchElementException" "java/lang/RuntimeException") ∈ lw_all := lw_g (lw_at lw_m5 62 rfl) rfl
theorem q2494 : (Jvm.Cond.castable "java/util/NoSuchElementException" "java/lang/Object") ∈ lw_tbl := lw_at lw_m10 227 rfl
theorem in_J9 : ∀ w ∈ wsJ90, w ∈ lw_all := lw_in wsJ90 [1119, 1120, 1121, 1122, 1123, 1128] (by decide +kernel) (by decide +kernel)
/-! CardCups$OfficeReader -/
set_option maxRecDepth 100000
def RX10 : String := "CardCups$OfficeReader"
def TX10 : u_T := fun k => match k with
  | 0 => ("CardCups$OfficeReader", "words", "[Ljava/lang/String;", true)
  | 1 => ("CardCups$OfficeReader", "in", "LCardCups$Reader;", true)
  | 2 => ("CardCups$OfficeReader", "office", "LCardCups$Office;", true)
  | 3 => ("CardCups$OfficeReader", "calendar", "LCardCups$Calendar;", true)
  | _ => ("CardCups$OfficeReader", "clauses", "I", false)
def tyX10 : Nat → FieldType := fun k => match k with
  | 0 => .array (.object "java/lang/String")
  | 1 => .object "CardCups$Reader"
  | 2 => .object "CardCups$Office"
  | 3 => .object "CardCups$Calendar"
  | _ => .int
abbrev wsX100 : List Cond := u_ws RX10 TX10 5
theorem nmX10 : ∀ a, a < 5 → ∀ b, b < 5 → a ≠ b → (TX10 a).2.1 ≠ (TX10 b).2.1 := by decide +kernel
theorem tyX10_ok : ∀ k, k < 5 → parseFieldDescriptor (TX10 k).2.2.1 = some (tyX10 k) := by decide +kernel
abbrev cX10_init : ByteArray := prog_14_method_1_code
def yX10_init : MethodName := ⟨RX10, "<init>", "(LCardCups$Reader;)V"⟩
def dkwX10_init_3 : List UInt8 := [181, 0, 38, 42, 187, 0, 42, 89, 183, 0, 44, 181, 0, 45, 42, 43, 181, 0, 49, 177]
abbrev dktX10_init_3 : List UInt8 := dkwX10_init_3 ++ []
def dkwX10_init_2 : List UInt8 := [16, 7, 18, 25, 83, 89, 16, 8, 18, 27, 83, 181, 0, 29, 42, 187, 0, 35, 89, 183, 0, 37]
abbrev dktX10_init_2 : List UInt8 := dkwX10_init_2 ++ dktX10_init_3
def dkwX10_init_1 : List UInt8 := [83, 89, 6, 18, 17, 83, 89, 7, 18, 19, 83, 89, 8, 18, 21, 83, 89, 16, 6, 18, 23, 83, 89]
abbrev dktX10_init_1 : List UInt8 := dkwX10_init_1 ++ dktX10_init_2
def dkwX10_init_0 : List UInt8 := [42, 183, 0, 3, 42, 16, 9, 189, 0, 9, 89, 3, 18, 11, 83, 89, 4, 18, 13, 83, 89, 5, 18, 15]
abbrev dktX10_init_0 : List UInt8 := dkwX10_init_0 ++ dktX10_init_1
theorem dksX10_init_0 : cX10_init.data.toList.drop 0 = dktX10_init_0 := by decide +kernel
theorem dksX10_init_1 : cX10_init.data.toList.drop 24 = dktX10_init_1 := dk_seg dksX10_init_0 24 rfl rfl
theorem dksX10_init_2 : cX10_init.data.toList.drop 47 = dktX10_init_2 := dk_seg dksX10_init_1 23 rfl rfl
theorem dksX10_init_3 : cX10_init.data.toList.drop 69 = dktX10_init_3 := dk_seg dksX10_init_2 22 rfl rfl
theorem dX10_init_0 : decode cX10_init 0 = .ok (.aload_n 0, 1) := dk_42 (dk_at dksX10_init_0 0 rfl rfl)
theorem dX10_init_1 : decode cX10_init 1 = .ok (.invokespecial 3, 3) := dk_183 0 3 (dk_at dksX10_init_0 1 rfl rfl)
theorem dX10_init_4 : decode cX10_init 4 = .ok (.aload_n 0, 1) := dk_42 (dk_at dksX10_init_0 4 rfl rfl)
theorem dX10_init_5 : decode cX10_init 5 = .ok (.bipush 9, 2) := dk_16 9 (dk_at dksX10_init_0 5 rfl rfl)
theorem dX10_init_7 : decode cX10_init 7 = .ok (.anewarray 9, 3) := dk_189 0 9 (dk_at dksX10_init_0 7 rfl rfl)
theorem dX10_init_10 : decode cX10_init 10 = .ok (.dup, 1) := dk_89 (dk_at dksX10_init_0 10 rfl rfl)
theorem dX10_init_11 : decode cX10_init 11 = .ok (.iconst 0, 1) := dk_3 (dk_at dksX10_init_0 11 rfl rfl)
theorem dX10_init_12 : decode cX10_init 12 = .ok (.ldc 11, 2) := dk_18 11 (dk_at dksX10_init_0 12 rfl rfl)
theorem dX10_init_14 : decode cX10_init 14 = .ok (.aastore, 1) := dk_83 (dk_at dksX10_init_0 14 rfl rfl)
theorem dX10_init_15 : decode cX10_init 15 = .ok (.dup, 1) := dk_89 (dk_at dksX10_init_0 15 rfl rfl)
theorem dX10_init_16 : decode cX10_init 16 = .ok (.iconst 1, 1) := dk_4 (dk_at dksX10_init_0 16 rfl rfl)
theorem dX10_init_17 : decode cX10_init 17 = .ok (.ldc 13, 2) := dk_18 13 (dk_at dksX10_init_0 17 rfl rfl)
theorem dX10_init_19 : decode cX10_init 19 = .ok (.aastore, 1) := dk_83 (dk_at dksX10_init_0 19 rfl rfl)
theorem dX10_init_20 : decode cX10_init 20 = .ok (.dup, 1) := dk_89 (dk_at dksX10_init_0 20 rfl rfl)
theorem dX10_init_21 : decode cX10_init 21 = .ok (.iconst 2, 1) := dk_5 (dk_at dksX10_init_0 21 rfl rfl)
theorem dX10_init_22 : decode cX10_init 22 = .ok (.ldc 15, 2) := dk_18 15 (dk_at dksX10_init_0 22 rfl rfl)
theorem dX10_init_24 : decode cX10_init 24 = .ok (.aastore, 1) := dk_83 (dk_at dksX10_init_1 0 rfl rfl)
theorem dX10_init_25 : decode cX10_init 25 = .ok (.dup, 1) := dk_89 (dk_at dksX10_init_1 1 rfl rfl)
theorem dX10_init_26 : decode cX10_init 26 = .ok (.iconst 3, 1) := dk_6 (dk_at dksX10_init_1 2 rfl rfl)
theorem dX10_init_27 : decode cX10_init 27 = .ok (.ldc 17, 2) := dk_18 17 (dk_at dksX10_init_1 3 rfl rfl)
theorem dX10_init_29 : decode cX10_init 29 = .ok (.aastore, 1) := dk_83 (dk_at dksX10_init_1 5 rfl rfl)
theorem dX10_init_30 : decode cX10_init 30 = .ok (.dup, 1) := dk_89 (dk_at dksX10_init_1 6 rfl rfl)
theorem dX10_init_31 : decode cX10_init 31 = .ok (.iconst 4, 1) := dk_7 (dk_at dksX10_init_1 7 rfl rfl)
theorem dX10_init_32 : decode cX10_init 32 = .ok (.ldc 19, 2) := dk_18 19 (dk_at dksX10_init_1 8 rfl rfl)
theorem dX10_init_34 : decode cX10_init 34 = .ok (.aastore, 1) := dk_83 (dk_at dksX10_init_1 10 rfl rfl)
theorem dX10_init_35 : decode cX10_init 35 = .ok (.dup, 1) := dk_89 (dk_at dksX10_init_1 11 rfl rfl)
theorem dX10_init_36 : decode cX10_init 36 = .ok (.iconst 5, 1) := dk_8 (dk_at dksX10_init_1 12 rfl rfl)
theorem dX10_init_37 : decode cX10_init 37 = .ok (.ldc 21, 2) := dk_18 21 (dk_at dksX10_init_1 13 rfl rfl)
theorem dX10_init_39 : decode cX10_init 39 = .ok (.aastore, 1) := dk_83 (dk_at dksX10_init_1 15 rfl rfl)
theorem dX10_init_40 : decode cX10_init 40 = .ok (.dup, 1) := dk_89 (dk_at dksX10_init_1 16 rfl rfl)
theorem dX10_init_41 : decode cX10_init 41 = .ok (.bipush 6, 2) := dk_16 6 (dk_at dksX10_init_1 17 rfl rfl)
theorem dX10_init_43 : decode cX10_init 43 = .ok (.ldc 23, 2) := dk_18 23 (dk_at dksX10_init_1 19 rfl rfl)
theorem dX10_init_45 : decode cX10_init 45 = .ok (.aastore, 1) := dk_83 (dk_at dksX10_init_1 21 rfl rfl)
theorem dX10_init_46 : decode cX10_init 46 = .ok (.dup, 1) := dk_89 (dk_at dksX10_init_1 22 rfl rfl)
theorem dX10_init_47 : decode cX10_init 47 = .ok (.bipush 7, 2) := dk_16 7 (dk_at dksX10_init_2 0 rfl rfl)
theorem dX10_init_49 : decode cX10_init 49 = .ok (.ldc 25, 2) := dk_18 25 (dk_at dksX10_init_2 2 rfl rfl)
theorem dX10_init_51 : decode cX10_init 51 = .ok (.aastore, 1) := dk_83 (dk_at dksX10_init_2 4 rfl rfl)
theorem dX10_init_52 : decode cX10_init 52 = .ok (.dup, 1) := dk_89 (dk_at dksX10_init_2 5 rfl rfl)
theorem dX10_init_53 : decode cX10_init 53 = .ok (.bipush 8, 2) := dk_16 8 (dk_at dksX10_init_2 6 rfl rfl)
theorem dX10_init_55 : decode cX10_init 55 = .ok (.ldc 27, 2) := dk_18 27 (dk_at dksX10_init_2 8 rfl rfl)
theorem dX10_init_57 : decode cX10_init 57 = .ok (.aastore, 1) := dk_83 (dk_at dksX10_init_2 10 rfl rfl)
theorem dX10_init_58 : decode cX10_init 58 = .ok (.putfield 29, 3) := dk_181 0 29 (dk_at dksX10_init_2 11 rfl rfl)
theorem dX10_init_61 : decode cX10_init 61 = .ok (.aload_n 0, 1) := dk_42 (dk_at dksX10_init_2 14 rfl rfl)
theorem dX10_init_62 : decode cX10_init 62 = .ok (.new 35, 3) := dk_187 0 35 (dk_at dksX10_init_2 15 rfl rfl)
theorem dX10_init_65 : decode cX10_init 65 = .ok (.dup, 1) := dk_89 (dk_at dksX10_init_2 18 rfl rfl)
theorem dX10_init_66 : decode cX10_init 66 = .ok (.invokespecial 37, 3) := dk_183 0 37 (dk_at dksX10_init_2 19 rfl rfl)
theorem dX10_init_69 : decode cX10_init 69 = .ok (.putfield 38, 3) := dk_181 0 38 (dk_at dksX10_init_3 0 rfl rfl)
theorem dX10_init_72 : decode cX10_init 72 = .ok (.aload_n 0, 1) := dk_42 (dk_at dksX10_init_3 3 rfl rfl)
theorem dX10_init_73 : decode cX10_init 73 = .ok (.new 42, 3) := dk_187 0 42 (dk_at dksX10_init_3 4 rfl rfl)
theorem dX10_init_76 : decode cX10_init 76 = .ok (.dup, 1) := dk_89 (dk_at dksX10_init_3 7 rfl rfl)
theorem dX10_init_77 : decode cX10_init 77 = .ok (.invokespecial 44, 3) := dk_183 0 44 (dk_at dksX10_init_3 8 rfl rfl)
theorem dX10_init_80 : decode cX10_init 80 = .ok (.putfield 45, 3) := dk_181 0 45 (dk_at dksX10_init_3 11 rfl rfl)
theorem dX10_init_83 : decode cX10_init 83 = .ok (.aload_n 0, 1) := dk_42 (dk_at dksX10_init_3 14 rfl rfl)
theorem dX10_init_84 : decode cX10_init 84 = .ok (.aload_n 1, 1) := dk_43 (dk_at dksX10_init_3 15 rfl rfl)
theorem dX10_init_85 : decode cX10_init 85 = .ok (.putfield 49, 3) := dk_181 0 49 (dk_at dksX10_init_3 16 rfl rfl)
theorem dX10_init_88 : decode cX10_init 88 = .ok (.return_, 1) := dk_177 (dk_at dksX10_init_3 19 rfl rfl)
abbrev cX10_reads : ByteArray := prog_14_method_2_code
def yX10_reads : MethodName := ⟨RX10, "reads", "()V"⟩
def dkwX10_reads_0 : List UInt8 := [42, 180, 0, 49, 182, 0, 53, 2, 159, 0, 10, 42, 182, 0, 59, 167, 255, 241, 177]
abbrev dktX10_reads_0 : List UInt8 := dkwX10_reads_0 ++ []
theorem dksX10_reads_0 : cX10_reads.data.toList.drop 0 = dktX10_reads_0 := by decide +kernel
theorem dX10_reads_0 : decode cX10_reads 0 = .ok (.aload_n 0, 1) := dk_42 (dk_at dksX10_reads_0 0 rfl rfl)
theorem dX10_reads_1 : decode cX10_reads 1 = .ok (.getfield 49, 3) := dk_180 0 49 (dk_at dksX10_reads_0 1 rfl rfl)
theorem dX10_reads_4 : decode cX10_reads 4 = .ok (.invokevirtual 53, 3) := dk_182 0 53 (dk_at dksX10_reads_0 4 rfl rfl)
theorem dX10_reads_7 : decode cX10_reads 7 = .ok (.iconst (-1), 1) := dk_2 (dk_at dksX10_reads_0 7 rfl rfl)
theorem dX10_reads_8 : decode cX10_reads 8 = .ok (.if_icmp .eq 10, 3) := dk_159 0 10 (dk_at dksX10_reads_0 8 rfl rfl)
theorem dX10_reads_11 : decode cX10_reads 11 = .ok (.aload_n 0, 1) := dk_42 (dk_at dksX10_reads_0 11 rfl rfl)
theorem dX10_reads_12 : decode cX10_reads 12 = .ok (.invokevirtual 59, 3) := dk_182 0 59 (dk_at dksX10_reads_0 12 rfl rfl)
theorem dX10_reads_15 : decode cX10_reads 15 = .ok (.goto (-15), 3) := dk_167 255 241 (dk_at dksX10_reads_0 15 rfl rfl)
theorem dX10_reads_18 : decode cX10_reads 18 = .ok (.return_, 1) := dk_177 (dk_at dksX10_reads_0 18 rfl rfl)
abbrev cX10_clause : ByteArray := prog_14_method_3_code
def yX10_clause : MethodName := ⟨RX10, "clause", "()V"⟩
def dkwX10_clause_18 : List UInt8 := [182, 0, 113, 177]
abbrev dktX10_clause_18 : List UInt8 := dkwX10_clause_18 ++ []
def dkwX10_clause_17 : List UInt8 := [29, 42, 180, 0, 49, 3, 16, 99, 182, 0, 87, 79, 132, 3, 1, 167, 255, 222, 42, 180, 0, 49, 16, 59]
abbrev dktX10_clause_17 : List UInt8 := dkwX10_clause_17 ++ dktX10_clause_18
def dkwX10_clause_16 : List UInt8 := [167, 0, 42, 3, 62, 29, 42, 180, 0, 38, 180, 0, 109, 190, 162, 0, 28, 42, 180, 0, 38, 180, 0, 109]
abbrev dktX10_clause_16 : List UInt8 := dkwX10_clause_16 ++ dktX10_clause_17
def dkwX10_clause_15 : List UInt8 := [181, 0, 105, 167, 0, 62, 42, 180, 0, 38, 42, 180, 0, 49, 3, 16, 16, 182, 0, 87, 181, 0, 107]
abbrev dktX10_clause_15 : List UInt8 := dkwX10_clause_15 ++ dktX10_clause_16
def dkwX10_clause_14 : List UInt8 := [182, 0, 87, 181, 0, 103, 167, 0, 82, 42, 180, 0, 38, 42, 180, 0, 49, 4, 16, 99, 182, 0, 87]
abbrev dktX10_clause_14 : List UInt8 := dkwX10_clause_14 ++ dktX10_clause_15
def dkwX10_clause_13 : List UInt8 := [3, 4, 182, 0, 87, 181, 0, 101, 167, 0, 102, 42, 180, 0, 38, 42, 180, 0, 49, 3, 16, 16]
abbrev dktX10_clause_13 : List UInt8 := dkwX10_clause_13 ++ dktX10_clause_14
def dkwX10_clause_12 : List UInt8 := [180, 0, 38, 180, 0, 95, 100, 182, 0, 87, 181, 0, 98, 167, 0, 121, 42, 180, 0, 38, 42, 180, 0, 49]
abbrev dktX10_clause_12 : List UInt8 := dkwX10_clause_12 ++ dktX10_clause_13
def dkwX10_clause_11 : List UInt8 := [182, 0, 87, 181, 0, 95, 42, 180, 0, 38, 42, 180, 0, 49, 3, 42, 180, 0, 38, 180, 0, 91, 42]
abbrev dktX10_clause_11 : List UInt8 := dkwX10_clause_11 ++ dktX10_clause_12
def dkwX10_clause_10 : List UInt8 := [182, 0, 93, 87, 167, 0, 176, 42, 180, 0, 38, 42, 180, 0, 49, 3, 42, 180, 0, 38, 180, 0, 91]
abbrev dktX10_clause_10 : List UInt8 := dkwX10_clause_10 ++ dktX10_clause_11
def dkwX10_clause_9 : List UInt8 := [4, 100, 182, 0, 87, 62, 42, 180, 0, 45, 29, 42, 180, 0, 49, 3, 17, 1, 224, 182, 0, 87]
abbrev dktX10_clause_9 : List UInt8 := dkwX10_clause_9 ++ dktX10_clause_10
def dkwX10_clause_8 : List UInt8 := [89, 180, 0, 78, 4, 96, 181, 0, 78, 167, 0, 217, 42, 180, 0, 49, 3, 42, 180, 0, 38, 180, 0, 78]
abbrev dktX10_clause_8 : List UInt8 := dkwX10_clause_8 ++ dktX10_clause_9
def dkwX10_clause_7 : List UInt8 := [42, 180, 0, 38, 42, 180, 0, 49, 4, 16, 12, 182, 0, 87, 181, 0, 91, 167, 0, 233, 42, 180, 0, 38]
abbrev dktX10_clause_7 : List UInt8 := dkwX10_clause_7 ++ dktX10_clause_8
def dkwX10_clause_6 : List UInt8 := [170, 0, 0, 1, 0, 0, 0, 0, 0, 0, 0, 0, 7, 0, 0, 0, 45, 0, 0, 0, 65, 0, 0, 0, 81, 0, 0, 0, 122, 0, 0, 0, 177, 0, 0, 0, 196, 0, 0, 0, 216, 0, 0, 0, 236]
abbrev dktX10_clause_6 : List UInt8 := dkwX10_clause_6 ++ dktX10_clause_7
def dkwX10_clause_5 : List UInt8 := [89, 180, 0, 74, 4, 96, 181, 0, 74, 28]
abbrev dktX10_clause_5 : List UInt8 := dkwX10_clause_5 ++ dktX10_clause_6
def dkwX10_clause_4 : List UInt8 := [180, 0, 74, 158, 0, 13, 187, 0, 69, 89, 7, 27, 183, 0, 71, 191, 42, 180, 0, 49, 182, 0, 84, 42]
abbrev dktX10_clause_4 : List UInt8 := dkwX10_clause_4 ++ dktX10_clause_5
def dkwX10_clause_3 : List UInt8 := [180, 0, 81, 16, 24, 160, 0, 13, 187, 0, 69, 89, 6, 27, 183, 0, 71, 191, 28, 154, 0, 20, 42]
abbrev dktX10_clause_3 : List UInt8 := dkwX10_clause_3 ++ dktX10_clause_4
def dkwX10_clause_2 : List UInt8 := [160, 0, 15, 42, 180, 0, 38, 180, 0, 78, 16, 6, 159, 0, 20, 28, 5, 160, 0, 25, 42, 180, 0, 45]
abbrev dktX10_clause_2 : List UInt8 := dkwX10_clause_2 ++ dktX10_clause_3
def dkwX10_clause_1 : List UInt8 := [160, 0, 13, 187, 0, 69, 89, 4, 27, 183, 0, 71, 191, 42, 180, 0, 74, 16, 60, 159, 0, 37, 28, 4]
abbrev dktX10_clause_1 : List UInt8 := dkwX10_clause_1 ++ dktX10_clause_2
def dkwX10_clause_0 : List UInt8 := [42, 180, 0, 49, 182, 0, 62, 60, 42, 180, 0, 49, 42, 180, 0, 29, 182, 0, 65, 61, 28, 2]
abbrev dktX10_clause_0 : List UInt8 := dkwX10_clause_0 ++ dktX10_clause_1
theorem dksX10_clause_0 : cX10_clause.data.toList.drop 0 = dktX10_clause_0 := by decide +kernel
theorem dksX10_clause_1 : cX10_clause.data.toList.drop 22 = dktX10_clause_1 := dk_seg dksX10_clause_0 22 rfl rfl
theorem dksX10_clause_2 : cX10_clause.data.toList.drop 46 = dktX10_clause_2 := dk_seg dksX10_clause_1 24 rfl rfl
theorem dksX10_clause_3 : cX10_clause.data.toList.drop 70 = dktX10_clause_3 := dk_seg dksX10_clause_2 24 rfl rfl
theorem dksX10_clause_4 : cX10_clause.data.toList.drop 93 = dktX10_clause_4 := dk_seg dksX10_clause_3 23 rfl rfl
theorem dksX10_clause_5 : cX10_clause.data.toList.drop 117 = dktX10_clause_5 := dk_seg dksX10_clause_4 24 rfl rfl
theorem dksX10_clause_6 : cX10_clause.data.toList.drop 127 = dktX10_clause_6 := dk_seg dksX10_clause_5 10 rfl rfl
theorem dksX10_clause_7 : cX10_clause.data.toList.drop 172 = dktX10_clause_7 := dk_seg dksX10_clause_6 45 rfl rfl
theorem dksX10_clause_8 : cX10_clause.data.toList.drop 196 = dktX10_clause_8 := dk_seg dksX10_clause_7 24 rfl rfl
theorem dksX10_clause_9 : cX10_clause.data.toList.drop 220 = dktX10_clause_9 := dk_seg dksX10_clause_8 24 rfl rfl
theorem dksX10_clause_10 : cX10_clause.data.toList.drop 242 = dktX10_clause_10 := dk_seg dksX10_clause_9 22 rfl rfl
theorem dksX10_clause_11 : cX10_clause.data.toList.drop 265 = dktX10_clause_11 := dk_seg dksX10_clause_10 23 rfl rfl
theorem dksX10_clause_12 : cX10_clause.data.toList.drop 288 = dktX10_clause_12 := dk_seg dksX10_clause_11 23 rfl rfl
theorem dksX10_clause_13 : cX10_clause.data.toList.drop 312 = dktX10_clause_13 := dk_seg dksX10_clause_12 24 rfl rfl
theorem dksX10_clause_14 : cX10_clause.data.toList.drop 334 = dktX10_clause_14 := dk_seg dksX10_clause_13 22 rfl rfl
theorem dksX10_clause_15 : cX10_clause.data.toList.drop 357 = dktX10_clause_15 := dk_seg dksX10_clause_14 23 rfl rfl
theorem dksX10_clause_16 : cX10_clause.data.toList.drop 380 = dktX10_clause_16 := dk_seg dksX10_clause_15 23 rfl rfl
theorem dksX10_clause_17 : cX10_clause.data.toList.drop 404 = dktX10_clause_17 := dk_seg dksX10_clause_16 24 rfl rfl
theorem dksX10_clause_18 : cX10_clause.data.toList.drop 428 = dktX10_clause_18 := dk_seg dksX10_clause_17 24 rfl rfl
theorem dX10_clause_0 : decode cX10_clause 0 = .ok (.aload_n 0, 1) := dk_42 (dk_at dksX10_clause_0 0 rfl rfl)
theorem dX10_clause_1 : decode cX10_clause 1 = .ok (.getfield 49, 3) := dk_180 0 49 (dk_at dksX10_clause_0 1 rfl rfl)
theorem dX10_clause_4 : decode cX10_clause 4 = .ok (.invokevirtual 62, 3) := dk_182 0 62 (dk_at dksX10_clause_0 4 rfl rfl)
theorem dX10_clause_7 : decode cX10_clause 7 = .ok (.istore_n 1, 1) := dk_60 (dk_at dksX10_clause_0 7 rfl rfl)
theorem dX10_clause_8 : decode cX10_clause 8 = .ok (.aload_n 0, 1) := dk_42 (dk_at dksX10_clause_0 8 rfl rfl)
theorem dX10_clause_9 : decode cX10_clause 9 = .ok (.getfield 49, 3) := dk_180 0 49 (dk_at dksX10_clause_0 9 rfl rfl)
theorem dX10_clause_12 : decode cX10_clause 12 = .ok (.aload_n 0, 1) := dk_42 (dk_at dksX10_clause_0 12 rfl rfl)
theorem dX10_clause_13 : decode cX10_clause 13 = .ok (.getfield 29, 3) := dk_180 0 29 (dk_at dksX10_clause_0 13 rfl rfl)
theorem dX10_clause_16 : decode cX10_clause 16 = .ok (.invokevirtual 65, 3) := dk_182 0 65 (dk_at dksX10_clause_0 16 rfl rfl)
theorem dX10_clause_19 : decode cX10_clause 19 = .ok (.istore_n 2, 1) := dk_61 (dk_at dksX10_clause_0 19 rfl rfl)
theorem dX10_clause_20 : decode cX10_clause 20 = .ok (.iload_n 2, 1) := dk_28 (dk_at dksX10_clause_0 20 rfl rfl)
theorem dX10_clause_21 : decode cX10_clause 21 = .ok (.iconst (-1), 1) := dk_2 (dk_at dksX10_clause_0 21 rfl rfl)
theorem dX10_clause_22 : decode cX10_clause 22 = .ok (.if_icmp .ne 13, 3) := dk_160 0 13 (dk_at dksX10_clause_1 0 rfl rfl)
theorem dX10_clause_25 : decode cX10_clause 25 = .ok (.new 69, 3) := dk_187 0 69 (dk_at dksX10_clause_1 3 rfl rfl)
theorem dX10_clause_28 : decode cX10_clause 28 = .ok (.dup, 1) := dk_89 (dk_at dksX10_clause_1 6 rfl rfl)
theorem dX10_clause_29 : decode cX10_clause 29 = .ok (.iconst 1, 1) := dk_4 (dk_at dksX10_clause_1 7 rfl rfl)
theorem dX10_clause_30 : decode cX10_clause 30 = .ok (.iload_n 1, 1) := dk_27 (dk_at dksX10_clause_1 8 rfl rfl)
theorem dX10_clause_31 : decode cX10_clause 31 = .ok (.invokespecial 71, 3) := dk_183 0 71 (dk_at dksX10_clause_1 9 rfl rfl)
theorem dX10_clause_34 : decode cX10_clause 34 = .ok (.athrow, 1) := dk_191 (dk_at dksX10_clause_1 12 rfl rfl)
theorem dX10_clause_35 : decode cX10_clause 35 = .ok (.aload_n 0, 1) := dk_42 (dk_at dksX10_clause_1 13 rfl rfl)
theorem dX10_clause_36 : decode cX10_clause 36 = .ok (.getfield 74, 3) := dk_180 0 74 (dk_at dksX10_clause_1 14 rfl rfl)
theorem dX10_clause_39 : decode cX10_clause 39 = .ok (.bipush 60, 2) := dk_16 60 (dk_at dksX10_clause_1 17 rfl rfl)
theorem dX10_clause_41 : decode cX10_clause 41 = .ok (.if_icmp .eq 37, 3) := dk_159 0 37 (dk_at dksX10_clause_1 19 rfl rfl)
theorem dX10_clause_44 : decode cX10_clause 44 = .ok (.iload_n 2, 1) := dk_28 (dk_at dksX10_clause_1 22 rfl rfl)
theorem dX10_clause_45 : decode cX10_clause 45 = .ok (.iconst 1, 1) := dk_4 (dk_at dksX10_clause_1 23 rfl rfl)
theorem dX10_clause_46 : decode cX10_clause 46 = .ok (.if_icmp .ne 15, 3) := dk_160 0 15 (dk_at dksX10_clause_2 0 rfl rfl)
theorem dX10_clause_49 : decode cX10_clause 49 = .ok (.aload_n 0, 1) := dk_42 (dk_at dksX10_clause_2 3 rfl rfl)
theorem dX10_clause_50 : decode cX10_clause 50 = .ok (.getfield 38, 3) := dk_180 0 38 (dk_at dksX10_clause_2 4 rfl rfl)
theorem dX10_clause_53 : decode cX10_clause 53 = .ok (.getfield 78, 3) := dk_180 0 78 (dk_at dksX10_clause_2 7 rfl rfl)
theorem dX10_clause_56 : decode cX10_clause 56 = .ok (.bipush 6, 2) := dk_16 6 (dk_at dksX10_clause_2 10 rfl rfl)
theorem dX10_clause_58 : decode cX10_clause 58 = .ok (.if_icmp .eq 20, 3) := dk_159 0 20 (dk_at dksX10_clause_2 12 rfl rfl)
theorem dX10_clause_61 : decode cX10_clause 61 = .ok (.iload_n 2, 1) := dk_28 (dk_at dksX10_clause_2 15 rfl rfl)
theorem dX10_clause_62 : decode cX10_clause 62 = .ok (.iconst 2, 1) := dk_5 (dk_at dksX10_clause_2 16 rfl rfl)
theorem dX10_clause_63 : decode cX10_clause 63 = .ok (.if_icmp .ne 25, 3) := dk_160 0 25 (dk_at dksX10_clause_2 17 rfl rfl)
theorem dX10_clause_66 : decode cX10_clause 66 = .ok (.aload_n 0, 1) := dk_42 (dk_at dksX10_clause_2 20 rfl rfl)
theorem dX10_clause_67 : decode cX10_clause 67 = .ok (.getfield 45, 3) := dk_180 0 45 (dk_at dksX10_clause_2 21 rfl rfl)
theorem dX10_clause_70 : decode cX10_clause 70 = .ok (.getfield 81, 3) := dk_180 0 81 (dk_at dksX10_clause_3 0 rfl rfl)
theorem dX10_clause_73 : decode cX10_clause 73 = .ok (.bipush 24, 2) := dk_16 24 (dk_at dksX10_clause_3 3 rfl rfl)
theorem dX10_clause_75 : decode cX10_clause 75 = .ok (.if_icmp .ne 13, 3) := dk_160 0 13 (dk_at dksX10_clause_3 5 rfl rfl)
theorem dX10_clause_78 : decode cX10_clause 78 = .ok (.new 69, 3) := dk_187 0 69 (dk_at dksX10_clause_3 8 rfl rfl)
theorem dX10_clause_81 : decode cX10_clause 81 = .ok (.dup, 1) := dk_89 (dk_at dksX10_clause_3 11 rfl rfl)
theorem dX10_clause_82 : decode cX10_clause 82 = .ok (.iconst 3, 1) := dk_6 (dk_at dksX10_clause_3 12 rfl rfl)
theorem dX10_clause_83 : decode cX10_clause 83 = .ok (.iload_n 1, 1) := dk_27 (dk_at dksX10_clause_3 13 rfl rfl)
theorem dX10_clause_84 : decode cX10_clause 84 = .ok (.invokespecial 71, 3) := dk_183 0 71 (dk_at dksX10_clause_3 14 rfl rfl)
theorem dX10_clause_87 : decode cX10_clause 87 = .ok (.athrow, 1) := dk_191 (dk_at dksX10_clause_3 17 rfl rfl)
theorem dX10_clause_88 : decode cX10_clause 88 = .ok (.iload_n 2, 1) := dk_28 (dk_at dksX10_clause_3 18 rfl rfl)
theorem dX10_clause_89 : decode cX10_clause 89 = .ok (.ifCond .ne 20, 3) := dk_154 0 20 (dk_at dksX10_clause_3 19 rfl rfl)
theorem dX10_clause_92 : decode cX10_clause 92 = .ok (.aload_n 0, 1) := dk_42 (dk_at dksX10_clause_3 22 rfl rfl)
theorem dX10_clause_93 : decode cX10_clause 93 = .ok (.getfield 74, 3) := dk_180 0 74 (dk_at dksX10_clause_4 0 rfl rfl)
theorem dX10_clause_96 : decode cX10_clause 96 = .ok (.ifCond .le 13, 3) := dk_158 0 13 (dk_at dksX10_clause_4 3 rfl rfl)
theorem dX10_clause_99 : decode cX10_clause 99 = .ok (.new 69, 3) := dk_187 0 69 (dk_at dksX10_clause_4 6 rfl rfl)
theorem dX10_clause_102 : decode cX10_clause 102 = .ok (.dup, 1) := dk_89 (dk_at dksX10_clause_4 9 rfl rfl)
theorem dX10_clause_103 : decode cX10_clause 103 = .ok (.iconst 4, 1) := dk_7 (dk_at dksX10_clause_4 10 rfl rfl)
theorem dX10_clause_104 : decode cX10_clause 104 = .ok (.iload_n 1, 1) := dk_27 (dk_at dksX10_clause_4 11 rfl rfl)
theorem dX10_clause_105 : decode cX10_clause 105 = .ok (.invokespecial 71, 3) := dk_183 0 71 (dk_at dksX10_clause_4 12 rfl rfl)
theorem dX10_clause_108 : decode cX10_clause 108 = .ok (.athrow, 1) := dk_191 (dk_at dksX10_clause_4 15 rfl rfl)
theorem dX10_clause_109 : decode cX10_clause 109 = .ok (.aload_n 0, 1) := dk_42 (dk_at dksX10_clause_4 16 rfl rfl)
theorem dX10_clause_110 : decode cX10_clause 110 = .ok (.getfield 49, 3) := dk_180 0 49 (dk_at dksX10_clause_4 17 rfl rfl)
theorem dX10_clause_113 : decode cX10_clause 113 = .ok (.invokevirtual 84, 3) := dk_182 0 84 (dk_at dksX10_clause_4 20 rfl rfl)
theorem dX10_clause_116 : decode cX10_clause 116 = .ok (.aload_n 0, 1) := dk_42 (dk_at dksX10_clause_4 23 rfl rfl)
theorem dX10_clause_117 : decode cX10_clause 117 = .ok (.dup, 1) := dk_89 (dk_at dksX10_clause_5 0 rfl rfl)
theorem dX10_clause_118 : decode cX10_clause 118 = .ok (.getfield 74, 3) := dk_180 0 74 (dk_at dksX10_clause_5 1 rfl rfl)
theorem dX10_clause_121 : decode cX10_clause 121 = .ok (.iconst 1, 1) := dk_4 (dk_at dksX10_clause_5 4 rfl rfl)
theorem dX10_clause_122 : decode cX10_clause 122 = .ok (.iadd, 1) := dk_96 (dk_at dksX10_clause_5 5 rfl rfl)
theorem dX10_clause_123 : decode cX10_clause 123 = .ok (.putfield 74, 3) := dk_181 0 74 (dk_at dksX10_clause_5 6 rfl rfl)
theorem dX10_clause_126 : decode cX10_clause 126 = .ok (.iload_n 2, 1) := dk_28 (dk_at dksX10_clause_5 9 rfl rfl)
theorem dX10_clause_127 : decode cX10_clause 127 = .ok (.tableswitch 256 0 7 #[45, 65, 81, 122, 177, 196, 216, 236], 45) := by decide +kernel
theorem dX10_clause_172 : decode cX10_clause 172 = .ok (.aload_n 0, 1) := dk_42 (dk_at dksX10_clause_7 0 rfl rfl)
theorem dX10_clause_173 : decode cX10_clause 173 = .ok (.getfield 38, 3) := dk_180 0 38 (dk_at dksX10_clause_7 1 rfl rfl)
theorem dX10_clause_176 : decode cX10_clause 176 = .ok (.aload_n 0, 1) := dk_42 (dk_at dksX10_clause_7 4 rfl rfl)
theorem dX10_clause_177 : decode cX10_clause 177 = .ok (.getfield 49, 3) := dk_180 0 49 (dk_at dksX10_clause_7 5 rfl rfl)
theorem dX10_clause_180 : decode cX10_clause 180 = .ok (.iconst 1, 1) := dk_4 (dk_at dksX10_clause_7 8 rfl rfl)
theorem dX10_clause_181 : decode cX10_clause 181 = .ok (.bipush 12, 2) := dk_16 12 (dk_at dksX10_clause_7 9 rfl rfl)
theorem dX10_clause_183 : decode cX10_clause 183 = .ok (.invokevirtual 87, 3) := dk_182 0 87 (dk_at dksX10_clause_7 11 rfl rfl)
theorem dX10_clause_186 : decode cX10_clause 186 = .ok (.putfield 91, 3) := dk_181 0 91 (dk_at dksX10_clause_7 14 rfl rfl)
theorem dX10_clause_189 : decode cX10_clause 189 = .ok (.goto 233, 3) := dk_167 0 233 (dk_at dksX10_clause_7 17 rfl rfl)
theorem dX10_clause_192 : decode cX10_clause 192 = .ok (.aload_n 0, 1) := dk_42 (dk_at dksX10_clause_7 20 rfl rfl)
theorem dX10_clause_193 : decode cX10_clause 193 = .ok (.getfield 38, 3) := dk_180 0 38 (dk_at dksX10_clause_7 21 rfl rfl)
theorem dX10_clause_196 : decode cX10_clause 196 = .ok (.dup, 1) := dk_89 (dk_at dksX10_clause_8 0 rfl rfl)
theorem dX10_clause_197 : decode cX10_clause 197 = .ok (.getfield 78, 3) := dk_180 0 78 (dk_at dksX10_clause_8 1 rfl rfl)
theorem dX10_clause_200 : decode cX10_clause 200 = .ok (.iconst 1, 1) := dk_4 (dk_at dksX10_clause_8 4 rfl rfl)
theorem dX10_clause_201 : decode cX10_clause 201 = .ok (.iadd, 1) := dk_96 (dk_at dksX10_clause_8 5 rfl rfl)
theorem dX10_clause_202 : decode cX10_clause 202 = .ok (.putfield 78, 3) := dk_181 0 78 (dk_at dksX10_clause_8 6 rfl rfl)
theorem dX10_clause_205 : decode cX10_clause 205 = .ok (.goto 217, 3) := dk_167 0 217 (dk_at dksX10_clause_8 9 rfl rfl)
theorem dX10_clause_208 : decode cX10_clause 208 = .ok (.aload_n 0, 1) := dk_42 (dk_at dksX10_clause_8 12 rfl rfl)
theorem dX10_clause_209 : decode cX10_clause 209 = .ok (.getfield 49, 3) := dk_180 0 49 (dk_at dksX10_clause_8 13 rfl rfl)
theorem dX10_clause_212 : decode cX10_clause 212 = .ok (.iconst 0, 1) := dk_3 (dk_at dksX10_clause_8 16 rfl rfl)
theorem dX10_clause_213 : decode cX10_clause 213 = .ok (.aload_n 0, 1) := dk_42 (dk_at dksX10_clause_8 17 rfl rfl)
theorem dX10_clause_214 : decode cX10_clause 214 = .ok (.getfield 38, 3) := dk_180 0 38 (dk_at dksX10_clause_8 18 rfl rfl)
theorem dX10_clause_217 : decode cX10_clause 217 = .ok (.getfield 78, 3) := dk_180 0 78 (dk_at dksX10_clause_8 21 rfl rfl)
theorem dX10_clause_220 : decode cX10_clause 220 = .ok (.iconst 1, 1) := dk_4 (dk_at dksX10_clause_9 0 rfl rfl)
theorem dX10_clause_221 : decode cX10_clause 221 = .ok (.isub, 1) := dk_100 (dk_at dksX10_clause_9 1 rfl rfl)
theorem dX10_clause_222 : decode cX10_clause 222 = .ok (.invokevirtual 87, 3) := dk_182 0 87 (dk_at dksX10_clause_9 2 rfl rfl)
theorem dX10_clause_225 : decode cX10_clause 225 = .ok (.istore_n 3, 1) := dk_62 (dk_at dksX10_clause_9 5 rfl rfl)
theorem dX10_clause_226 : decode cX10_clause 226 = .ok (.aload_n 0, 1) := dk_42 (dk_at dksX10_clause_9 6 rfl rfl)
theorem dX10_clause_227 : decode cX10_clause 227 = .ok (.getfield 45, 3) := dk_180 0 45 (dk_at dksX10_clause_9 7 rfl rfl)
theorem dX10_clause_230 : decode cX10_clause 230 = .ok (.iload_n 3, 1) := dk_29 (dk_at dksX10_clause_9 10 rfl rfl)
theorem dX10_clause_231 : decode cX10_clause 231 = .ok (.aload_n 0, 1) := dk_42 (dk_at dksX10_clause_9 11 rfl rfl)
theorem dX10_clause_232 : decode cX10_clause 232 = .ok (.getfield 49, 3) := dk_180 0 49 (dk_at dksX10_clause_9 12 rfl rfl)
theorem dX10_clause_235 : decode cX10_clause 235 = .ok (.iconst 0, 1) := dk_3 (dk_at dksX10_clause_9 15 rfl rfl)
theorem dX10_clause_236 : decode cX10_clause 236 = .ok (.sipush 480, 3) := dk_17 1 224 (dk_at dksX10_clause_9 16 rfl rfl)
theorem dX10_clause_239 : decode cX10_clause 239 = .ok (.invokevirtual 87, 3) := dk_182 0 87 (dk_at dksX10_clause_9 19 rfl rfl)
theorem dX10_clause_242 : decode cX10_clause 242 = .ok (.invokevirtual 93, 3) := dk_182 0 93 (dk_at dksX10_clause_10 0 rfl rfl)
theorem dX10_clause_245 : decode cX10_clause 245 = .ok (.pop, 1) := dk_87 (dk_at dksX10_clause_10 3 rfl rfl)
theorem dX10_clause_246 : decode cX10_clause 246 = .ok (.goto 176, 3) := dk_167 0 176 (dk_at dksX10_clause_10 4 rfl rfl)
theorem dX10_clause_249 : decode cX10_clause 249 = .ok (.aload_n 0, 1) := dk_42 (dk_at dksX10_clause_10 7 rfl rfl)
theorem dX10_clause_250 : decode cX10_clause 250 = .ok (.getfield 38, 3) := dk_180 0 38 (dk_at dksX10_clause_10 8 rfl rfl)
theorem dX10_clause_253 : decode cX10_clause 253 = .ok (.aload_n 0, 1) := dk_42 (dk_at dksX10_clause_10 11 rfl rfl)
theorem dX10_clause_254 : decode cX10_clause 254 = .ok (.getfield 49, 3) := dk_180 0 49 (dk_at dksX10_clause_10 12 rfl rfl)
theorem dX10_clause_257 : decode cX10_clause 257 = .ok (.iconst 0, 1) := dk_3 (dk_at dksX10_clause_10 15 rfl rfl)
theorem dX10_clause_258 : decode cX10_clause 258 = .ok (.aload_n 0, 1) := dk_42 (dk_at dksX10_clause_10 16 rfl rfl)
theorem dX10_clause_259 : decode cX10_clause 259 = .ok (.getfield 38, 3) := dk_180 0 38 (dk_at dksX10_clause_10 17 rfl rfl)
theorem dX10_clause_262 : decode cX10_clause 262 = .ok (.getfield 91, 3) := dk_180 0 91 (dk_at dksX10_clause_10 20 rfl rfl)
theorem dX10_clause_265 : decode cX10_clause 265 = .ok (.invokevirtual 87, 3) := dk_182 0 87 (dk_at dksX10_clause_11 0 rfl rfl)
theorem dX10_clause_268 : decode cX10_clause 268 = .ok (.putfield 95, 3) := dk_181 0 95 (dk_at dksX10_clause_11 3 rfl rfl)
theorem dX10_clause_271 : decode cX10_clause 271 = .ok (.aload_n 0, 1) := dk_42 (dk_at dksX10_clause_11 6 rfl rfl)
theorem dX10_clause_272 : decode cX10_clause 272 = .ok (.getfield 38, 3) := dk_180 0 38 (dk_at dksX10_clause_11 7 rfl rfl)
theorem dX10_clause_275 : decode cX10_clause 275 = .ok (.aload_n 0, 1) := dk_42 (dk_at dksX10_clause_11 10 rfl rfl)
theorem dX10_clause_276 : decode cX10_clause 276 = .ok (.getfield 49, 3) := dk_180 0 49 (dk_at dksX10_clause_11 11 rfl rfl)
theorem dX10_clause_279 : decode cX10_clause 279 = .ok (.iconst 0, 1) := dk_3 (dk_at dksX10_clause_11 14 rfl rfl)
theorem dX10_clause_280 : decode cX10_clause 280 = .ok (.aload_n 0, 1) := dk_42 (dk_at dksX10_clause_11 15 rfl rfl)
theorem dX10_clause_281 : decode cX10_clause 281 = .ok (.getfield 38, 3) := dk_180 0 38 (dk_at dksX10_clause_11 16 rfl rfl)
theorem dX10_clause_284 : decode cX10_clause 284 = .ok (.getfield 91, 3) := dk_180 0 91 (dk_at dksX10_clause_11 19 rfl rfl)
theorem dX10_clause_287 : decode cX10_clause 287 = .ok (.aload_n 0, 1) := dk_42 (dk_at dksX10_clause_11 22 rfl rfl)
theorem dX10_clause_288 : decode cX10_clause 288 = .ok (.getfield 38, 3) := dk_180 0 38 (dk_at dksX10_clause_12 0 rfl rfl)
theorem dX10_clause_291 : decode cX10_clause 291 = .ok (.getfield 95, 3) := dk_180 0 95 (dk_at dksX10_clause_12 3 rfl rfl)
theorem dX10_clause_294 : decode cX10_clause 294 = .ok (.isub, 1) := dk_100 (dk_at dksX10_clause_12 6 rfl rfl)
theorem dX10_clause_295 : decode cX10_clause 295 = .ok (.invokevirtual 87, 3) := dk_182 0 87 (dk_at dksX10_clause_12 7 rfl rfl)
theorem dX10_clause_298 : decode cX10_clause 298 = .ok (.putfield 98, 3) := dk_181 0 98 (dk_at dksX10_clause_12 10 rfl rfl)
theorem dX10_clause_301 : decode cX10_clause 301 = .ok (.goto 121, 3) := dk_167 0 121 (dk_at dksX10_clause_12 13 rfl rfl)
theorem dX10_clause_304 : decode cX10_clause 304 = .ok (.aload_n 0, 1) := dk_42 (dk_at dksX10_clause_12 16 rfl rfl)
theorem dX10_clause_305 : decode cX10_clause 305 = .ok (.getfield 38, 3) := dk_180 0 38 (dk_at dksX10_clause_12 17 rfl rfl)
theorem dX10_clause_308 : decode cX10_clause 308 = .ok (.aload_n 0, 1) := dk_42 (dk_at dksX10_clause_12 20 rfl rfl)
theorem dX10_clause_309 : decode cX10_clause 309 = .ok (.getfield 49, 3) := dk_180 0 49 (dk_at dksX10_clause_12 21 rfl rfl)
theorem dX10_clause_312 : decode cX10_clause 312 = .ok (.iconst 0, 1) := dk_3 (dk_at dksX10_clause_13 0 rfl rfl)
theorem dX10_clause_313 : decode cX10_clause 313 = .ok (.iconst 1, 1) := dk_4 (dk_at dksX10_clause_13 1 rfl rfl)
theorem dX10_clause_314 : decode cX10_clause 314 = .ok (.invokevirtual 87, 3) := dk_182 0 87 (dk_at dksX10_clause_13 2 rfl rfl)
theorem dX10_clause_317 : decode cX10_clause 317 = .ok (.putfield 101, 3) := dk_181 0 101 (dk_at dksX10_clause_13 5 rfl rfl)
theorem dX10_clause_320 : decode cX10_clause 320 = .ok (.goto 102, 3) := dk_167 0 102 (dk_at dksX10_clause_13 8 rfl rfl)
theorem dX10_clause_323 : decode cX10_clause 323 = .ok (.aload_n 0, 1) := dk_42 (dk_at dksX10_clause_13 11 rfl rfl)
theorem dX10_clause_324 : decode cX10_clause 324 = .ok (.getfield 38, 3) := dk_180 0 38 (dk_at dksX10_clause_13 12 rfl rfl)
theorem dX10_clause_327 : decode cX10_clause 327 = .ok (.aload_n 0, 1) := dk_42 (dk_at dksX10_clause_13 15 rfl rfl)
theorem dX10_clause_328 : decode cX10_clause 328 = .ok (.getfield 49, 3) := dk_180 0 49 (dk_at dksX10_clause_13 16 rfl rfl)
theorem dX10_clause_331 : decode cX10_clause 331 = .ok (.iconst 0, 1) := dk_3 (dk_at dksX10_clause_13 19 rfl rfl)
theorem dX10_clause_332 : decode cX10_clause 332 = .ok (.bipush 16, 2) := dk_16 16 (dk_at dksX10_clause_13 20 rfl rfl)
theorem dX10_clause_334 : decode cX10_clause 334 = .ok (.invokevirtual 87, 3) := dk_182 0 87 (dk_at dksX10_clause_14 0 rfl rfl)
theorem dX10_clause_337 : decode cX10_clause 337 = .ok (.putfield 103, 3) := dk_181 0 103 (dk_at dksX10_clause_14 3 rfl rfl)
theorem dX10_clause_340 : decode cX10_clause 340 = .ok (.goto 82, 3) := dk_167 0 82 (dk_at dksX10_clause_14 6 rfl rfl)
theorem dX10_clause_343 : decode cX10_clause 343 = .ok (.aload_n 0, 1) := dk_42 (dk_at dksX10_clause_14 9 rfl rfl)
theorem dX10_clause_344 : decode cX10_clause 344 = .ok (.getfield 38, 3) := dk_180 0 38 (dk_at dksX10_clause_14 10 rfl rfl)
theorem dX10_clause_347 : decode cX10_clause 347 = .ok (.aload_n 0, 1) := dk_42 (dk_at dksX10_clause_14 13 rfl rfl)
theorem dX10_clause_348 : decode cX10_clause 348 = .ok (.getfield 49, 3) := dk_180 0 49 (dk_at dksX10_clause_14 14 rfl rfl)
theorem dX10_clause_351 : decode cX10_clause 351 = .ok (.iconst 1, 1) := dk_4 (dk_at dksX10_clause_14 17 rfl rfl)
theorem dX10_clause_352 : decode cX10_clause 352 = .ok (.bipush 99, 2) := dk_16 99 (dk_at dksX10_clause_14 18 rfl rfl)
theorem dX10_clause_354 : decode cX10_clause 354 = .ok (.invokevirtual 87, 3) := dk_182 0 87 (dk_at dksX10_clause_14 20 rfl rfl)
theorem dX10_clause_357 : decode cX10_clause 357 = .ok (.putfield 105, 3) := dk_181 0 105 (dk_at dksX10_clause_15 0 rfl rfl)
theorem dX10_clause_360 : decode cX10_clause 360 = .ok (.goto 62, 3) := dk_167 0 62 (dk_at dksX10_clause_15 3 rfl rfl)
theorem dX10_clause_363 : decode cX10_clause 363 = .ok (.aload_n 0, 1) := dk_42 (dk_at dksX10_clause_15 6 rfl rfl)
theorem dX10_clause_364 : decode cX10_clause 364 = .ok (.getfield 38, 3) := dk_180 0 38 (dk_at dksX10_clause_15 7 rfl rfl)
theorem dX10_clause_367 : decode cX10_clause 367 = .ok (.aload_n 0, 1) := dk_42 (dk_at dksX10_clause_15 10 rfl rfl)
theorem dX10_clause_368 : decode cX10_clause 368 = .ok (.getfield 49, 3) := dk_180 0 49 (dk_at dksX10_clause_15 11 rfl rfl)
theorem dX10_clause_371 : decode cX10_clause 371 = .ok (.iconst 0, 1) := dk_3 (dk_at dksX10_clause_15 14 rfl rfl)
theorem dX10_clause_372 : decode cX10_clause 372 = .ok (.bipush 16, 2) := dk_16 16 (dk_at dksX10_clause_15 15 rfl rfl)
theorem dX10_clause_374 : decode cX10_clause 374 = .ok (.invokevirtual 87, 3) := dk_182 0 87 (dk_at dksX10_clause_15 17 rfl rfl)
theorem dX10_clause_377 : decode cX10_clause 377 = .ok (.putfield 107, 3) := dk_181 0 107 (dk_at dksX10_clause_15 20 rfl rfl)
theorem dX10_clause_380 : decode cX10_clause 380 = .ok (.goto 42, 3) := dk_167 0 42 (dk_at dksX10_clause_16 0 rfl rfl)
theorem dX10_clause_383 : decode cX10_clause 383 = .ok (.iconst 0, 1) := dk_3 (dk_at dksX10_clause_16 3 rfl rfl)
theorem dX10_clause_384 : decode cX10_clause 384 = .ok (.istore_n 3, 1) := dk_62 (dk_at dksX10_clause_16 4 rfl rfl)
theorem dX10_clause_385 : decode cX10_clause 385 = .ok (.iload_n 3, 1) := dk_29 (dk_at dksX10_clause_16 5 rfl rfl)
theorem dX10_clause_386 : decode cX10_clause 386 = .ok (.aload_n 0, 1) := dk_42 (dk_at dksX10_clause_16 6 rfl rfl)
theorem dX10_clause_387 : decode cX10_clause 387 = .ok (.getfield 38, 3) := dk_180 0 38 (dk_at dksX10_clause_16 7 rfl rfl)
theorem dX10_clause_390 : decode cX10_clause 390 = .ok (.getfield 109, 3) := dk_180 0 109 (dk_at dksX10_clause_16 10 rfl rfl)
theorem dX10_clause_393 : decode cX10_clause 393 = .ok (.arraylength, 1) := dk_190 (dk_at dksX10_clause_16 13 rfl rfl)
theorem dX10_clause_394 : decode cX10_clause 394 = .ok (.if_icmp .ge 28, 3) := dk_162 0 28 (dk_at dksX10_clause_16 14 rfl rfl)
theorem dX10_clause_397 : decode cX10_clause 397 = .ok (.aload_n 0, 1) := dk_42 (dk_at dksX10_clause_16 17 rfl rfl)
theorem dX10_clause_398 : decode cX10_clause 398 = .ok (.getfield 38, 3) := dk_180 0 38 (dk_at dksX10_clause_16 18 rfl rfl)
theorem dX10_clause_401 : decode cX10_clause 401 = .ok (.getfield 109, 3) := dk_180 0 109 (dk_at dksX10_clause_16 21 rfl rfl)
theorem dX10_clause_404 : decode cX10_clause 404 = .ok (.iload_n 3, 1) := dk_29 (dk_at dksX10_clause_17 0 rfl rfl)
theorem dX10_clause_405 : decode cX10_clause 405 = .ok (.aload_n 0, 1) := dk_42 (dk_at dksX10_clause_17 1 rfl rfl)
theorem dX10_clause_406 : decode cX10_clause 406 = .ok (.getfield 49, 3) := dk_180 0 49 (dk_at dksX10_clause_17 2 rfl rfl)
theorem dX10_clause_409 : decode cX10_clause 409 = .ok (.iconst 0, 1) := dk_3 (dk_at dksX10_clause_17 5 rfl rfl)
theorem dX10_clause_410 : decode cX10_clause 410 = .ok (.bipush 99, 2) := dk_16 99 (dk_at dksX10_clause_17 6 rfl rfl)
theorem dX10_clause_412 : decode cX10_clause 412 = .ok (.invokevirtual 87, 3) := dk_182 0 87 (dk_at dksX10_clause_17 8 rfl rfl)
theorem dX10_clause_415 : decode cX10_clause 415 = .ok (.iastore, 1) := dk_79 (dk_at dksX10_clause_17 11 rfl rfl)
theorem dX10_clause_416 : decode cX10_clause 416 = .ok (.iinc 3 1, 3) := dk_132 3 1 (dk_at dksX10_clause_17 12 rfl rfl)
theorem dX10_clause_419 : decode cX10_clause 419 = .ok (.goto (-34), 3) := dk_167 255 222 (dk_at dksX10_clause_17 15 rfl rfl)
theorem dX10_clause_422 : decode cX10_clause 422 = .ok (.aload_n 0, 1) := dk_42 (dk_at dksX10_clause_17 18 rfl rfl)
theorem dX10_clause_423 : decode cX10_clause 423 = .ok (.getfield 49, 3) := dk_180 0 49 (dk_at dksX10_clause_17 19 rfl rfl)
theorem dX10_clause_426 : decode cX10_clause 426 = .ok (.bipush 59, 2) := dk_16 59 (dk_at dksX10_clause_17 22 rfl rfl)
theorem dX10_clause_428 : decode cX10_clause 428 = .ok (.invokevirtual 113, 3) := dk_182 0 113 (dk_at dksX10_clause_18 0 rfl rfl)
theorem dX10_clause_431 : decode cX10_clause 431 = .ok (.return_, 1) := dk_177 (dk_at dksX10_clause_18 3 rfl rfl)
theorem q121 : (Jvm.Cond.initialized "CardCups$OfficeReader") ∈ lw_all := lw_g (lw_at lw_m1 14 rfl) rfl
theorem q167 : (Jvm.Cond.fieldLinkNest "CardCups$OfficeReader" (81 : Nat) "CardCups$Calendar" "many" "I" "CardCups") ∈ lw_tbl := lw_at lw_m1 60 rfl
theorem q375 : (Jvm.Cond.fieldLinkNest "CardCups$OfficeReader" (109 : Nat) "CardCups$Office" "price" "[I" "CardCups") ∈ lw_tbl := lw_at lw_m2 28 rfl
theorem q380 : (Jvm.Cond.fieldLinkNest "CardCups$OfficeReader" (91 : Nat) "CardCups$Office" "cups" "I" "CardCups") ∈ lw_tbl := lw_at lw_m2 33 rfl
theorem q386 : (Jvm.Cond.fieldLinkNest "CardCups$OfficeReader" (95 : Nat) "CardCups$Office" "clean" "I" "CardCups") ∈ lw_tbl := lw_at lw_m2 39 rfl
theorem q390 : (Jvm.Cond.fieldLinkNest "CardCups$OfficeReader" (98 : Nat) "CardCups$Office" "dirty" "I" "CardCups") ∈ lw_tbl := lw_at lw_m2 43 rfl
theorem q394 : (Jvm.Cond.fieldLinkNest "CardCups$OfficeReader" (101 : Nat) "CardCups$Office" "card" "I" "CardCups") ∈ lw_tbl := lw_at lw_m2 47 rfl
theorem q398 : (Jvm.Cond.fieldLinkNest "CardCups$OfficeReader" (103 : Nat) "CardCups$Office" "fall" "I" "CardCups") ∈ lw_tbl := lw_at lw_m2 51 rfl
theorem q402 : (Jvm.Cond.fieldLinkNest "CardCups$OfficeReader" (105 : Nat) "CardCups$Office" "warm" "I" "CardCups") ∈ lw_tbl := lw_at lw_m2 55 rfl
theorem q407 : (Jvm.Cond.fieldLinkNest "CardCups$OfficeReader" (107 : Nat) "CardCups$Office" "see" "I" "CardCups") ∈ lw_tbl := lw_at lw_m2 60 rfl
theorem q410 : (Jvm.Cond.fieldLinkNest "CardCups$OfficeReader" (78 : Nat) "CardCups$Office" "people" "I" "CardCups") ∈ lw_tbl := lw_at lw_m2 63 rfl
theorem q902 : (Jvm.Cond.instantiable "CardCups$OfficeReader" (5 : Nat)) ∈ lw_all := lw_g (lw_at lw_m4 75 rfl) rfl
theorem q927 : (Jvm.Cond.instanceMethod ({ cls := "CardCups$OfficeReader", name := "<init>", desc := "(LCardCups$Reader;)V" } : Jvm.MethodName)) ∈ lw_all := lw_g (lw_at lw_m4 100 rfl) rfl
theorem q928 : (Jvm.Cond.code ({ cls := "CardCups$OfficeReader", name := "<init>", desc := "(LCardCups$Reader;)V" } : Jvm.MethodName) prog_14_method_1_code (2 : Nat) (Option.none : Option Jvm.ClassFile.FieldType)) ∈ lw_all := lw_g (lw_at lw_m4 101 rfl) rfl
theorem q929 : (Jvm.Cond.methodLink "CardCups$OfficeReader" (3 : Nat) ({ cls := "java/lang/Object", name := "<init>", desc := "()V" } : Jvm.MethodName)) ∈ lw_all := lw_g (lw_at lw_m4 102 rfl) rfl
theorem q930 : (Jvm.Cond.classLink "CardCups$OfficeReader" (9 : Nat) "java/lang/String") ∈ lw_all := lw_g (lw_at lw_m4 103 rfl) rfl
theorem q932 : (Jvm.Cond.stringRef "CardCups$OfficeReader" (11 : Nat) "machine") ∈ lw_tbl := lw_at lw_m4 105 rfl
theorem q933 : (Jvm.Cond.stringRef "CardCups$OfficeReader" (13 : Nat) "person") ∈ lw_tbl := lw_at lw_m4 106 rfl
theorem q934 : (Jvm.Cond.stringRef "CardCups$OfficeReader" (15 : Nat) "comes") ∈ lw_tbl := lw_at lw_m4 107 rfl
theorem q935 : (Jvm.Cond.stringRef "CardCups$OfficeReader" (17 : Nat) "cups") ∈ lw_tbl := lw_at lw_m4 108 rfl
theorem q936 : (Jvm.Cond.stringRef "CardCups$OfficeReader" (19 : Nat) "card") ∈ lw_tbl := lw_at lw_m4 109 rfl
theorem q937 : (Jvm.Cond.stringRef "CardCups$OfficeReader" (21 : Nat) "fall") ∈ lw_tbl := lw_at lw_m4 110 rfl
theorem q938 : (Jvm.Cond.stringRef "CardCups$OfficeReader" (23 : Nat) "warm") ∈ lw_tbl := lw_at lw_m4 111 rfl
theorem q939 : (Jvm.Cond.stringRef "CardCups$OfficeReader" (25 : Nat) "see") ∈ lw_tbl := lw_at lw_m4 112 rfl
theorem q940 : (Jvm.Cond.stringRef "CardCups$OfficeReader" (27 : Nat) "cost") ∈ lw_tbl := lw_at lw_m4 113 rfl
theorem q941 : (Jvm.Cond.classLink "CardCups$OfficeReader" (35 : Nat) "CardCups$Office") ∈ lw_all := lw_g (lw_at lw_m4 114 rfl) rfl
theorem q942 : (Jvm.Cond.methodLinkNest "CardCups$OfficeReader" (37 : Nat) ({ cls := "CardCups$Office", name := "<init>", desc := "()V" } : Jvm.MethodName) "CardCups") ∈ lw_tbl := lw_at lw_m4 115 rfl
theorem q943 : (Jvm.Cond.classLink "CardCups$OfficeReader" (42 : Nat) "CardCups$Calendar") ∈ lw_all := lw_g (lw_at lw_m4 116 rfl) rfl
theorem q944 : (Jvm.Cond.methodLinkNest "CardCups$OfficeReader" (44 : Nat) ({ cls := "CardCups$Calendar", name := "<init>", desc := "()V" } : Jvm.MethodName) "CardCups") ∈ lw_tbl := lw_at lw_m4 117 rfl
theorem q945 : (Jvm.Cond.fieldLink "CardCups$OfficeReader" (29 : Nat) "CardCups$OfficeReader" "words" "[Ljava/lang/String;") ∈ lw_all := lw_g (lw_at lw_m4 118 rfl) rfl
theorem q946 : (Jvm.Cond.fieldLink "CardCups$OfficeReader" (49 : Nat) "CardCups$OfficeReader" "in" "LCardCups$Reader;") ∈ lw_all := lw_g (lw_at lw_m4 119 rfl) rfl
theorem q947 : (Jvm.Cond.fieldLink "CardCups$OfficeReader" (38 : Nat) "CardCups$OfficeReader" "office" "LCardCups$Office;") ∈ lw_all := lw_g (lw_at lw_m4 120 rfl) rfl
theorem q949 : (Jvm.Cond.fieldLink "CardCups$OfficeReader" (45 : Nat) "CardCups$OfficeReader" "calendar" "LCardCups$Calendar;") ∈ lw_all := lw_g (lw_at lw_m4 122 rfl) rfl
theorem q951 : (Jvm.Cond.fieldLink "CardCups$OfficeReader" (74 : Nat) "CardCups$OfficeReader" "clauses" "I") ∈ lw_all := lw_g (lw_at lw_m4 124 rfl) rfl
theorem q952 : (Jvm.Cond.laysFinal "CardCups$OfficeReader" "CardCups$OfficeReader" "words" "[Ljava/lang/String;") ∈ lw_all := lw_g (lw_at lw_m4 125 rfl) rfl
theorem q953 : (Jvm.Cond.soleField "CardCups$OfficeReader" "words") ∈ lw_all := lw_g (lw_at lw_m4 126 rfl) rfl
theorem q954 : (Jvm.Cond.laysFinal "CardCups$OfficeReader" "CardCups$OfficeReader" "in" "LCardCups$Reader;") ∈ lw_all := lw_g (lw_at lw_m4 127 rfl) rfl
theorem q955 : (Jvm.Cond.soleField "CardCups$OfficeReader" "in") ∈ lw_all := lw_g (lw_at lw_m4 128 rfl) rfl
theorem q956 : (Jvm.Cond.laysFinal "CardCups$OfficeReader" "CardCups$OfficeReader" "office" "LCardCups$Office;") ∈ lw_all := lw_g (lw_at lw_m4 129 rfl) rfl
theorem q957 : (Jvm.Cond.soleField "CardCups$OfficeReader" "office") ∈ lw_all := lw_g (lw_at lw_m4 130 rfl) rfl
theorem q958 : (Jvm.Cond.laysFinal "CardCups$OfficeReader" "CardCups$OfficeReader" "calendar" "LCardCups$Calendar;") ∈ lw_all := lw_g (lw_at lw_m4 131 rfl) rfl
theorem q959 : (Jvm.Cond.soleField "CardCups$OfficeReader" "calendar") ∈ lw_all := lw_g (lw_at lw_m4 132 rfl) rfl
theorem q960 : (Jvm.Cond.lays "CardCups$OfficeReader" "CardCups$OfficeReader" "clauses" "I") ∈ lw_all := lw_g (lw_at lw_m4 133 rfl) rfl
theorem q961 : (Jvm.Cond.soleField "CardCups$OfficeReader" "clauses") ∈ lw_all := lw_g (lw_at lw_m4 134 rfl) rfl
theorem q962 : (Jvm.Cond.superclass "CardCups$OfficeReader" "java/lang/Object") ∈ lw_all := lw_g (lw_at lw_m4 135 rfl) rfl
theorem q964 : (Jvm.Cond.instanceMethod ({ cls := "CardCups$OfficeReader", name := "reads", desc := "()V" } : Jvm.MethodName)) ∈ lw_all := lw_g (lw_at lw_m4 137 rfl) rfl
theorem q965 : (Jvm.Cond.selects "CardCups$OfficeReader" ({ cls := "CardCups$OfficeReader", name := "reads", desc := "()V" } : Jvm.MethodName) ({ cls := "CardCups$OfficeReader", name := "reads", desc := "()V" } : Jvm.MethodName)) ∈ lw_all := lw_g (lw_at lw_m4 138 rfl) rfl
theorem q966 : (Jvm.Cond.code ({ cls := "CardCups$OfficeReader", name := "reads", desc := "()V" } : Jvm.MethodName) prog_14_method_2_code (1 : Nat) (Option.none : Option Jvm.ClassFile.FieldType)) ∈ lw_all := lw_g (lw_at lw_m4 139 rfl) rfl
theorem q967 : (Jvm.Cond.methodLink "CardCups$OfficeReader" (53 : Nat) ({ cls := "CardCups$Reader", name := "now", desc := "()I" } : Jvm.MethodName)) ∈ lw_all := lw_g (lw_at lw_m4 140 rfl) rfl
theorem q975 : (Jvm.Cond.methodLink "CardCups$OfficeReader" (59 : Nat) ({ cls := "CardCups$OfficeReader", name := "clause", desc := "()V" } : Jvm.MethodName)) ∈ lw_all := lw_g (lw_at lw_m4 148 rfl) rfl
theorem q976 : (Jvm.Cond.privateMethod ({ cls := "CardCups$OfficeReader", name := "clause", desc := "()V" } : Jvm.MethodName)) ∈ lw_tbl := lw_at lw_m4 149 rfl
theorem q977 : (Jvm.Cond.instanceMethod ({ cls := "CardCups$OfficeReader", name := "clause", desc := "()V" } : Jvm.MethodName)) ∈ lw_all := lw_g (lw_at lw_m4 150 rfl) rfl
theorem q978 : (Jvm.Cond.code ({ cls := "CardCups$OfficeReader", name := "clause", desc := "()V" } : Jvm.MethodName) prog_14_method_3_code (4 : Nat) (Option.none : Option Jvm.ClassFile.FieldType)) ∈ lw_all := lw_g (lw_at lw_m4 151 rfl) rfl
theorem q979 : (Jvm.Cond.methodLink "CardCups$OfficeReader" (62 : Nat) ({ cls := "CardCups$Reader", name := "place", desc := "()I" } : Jvm.MethodName)) ∈ lw_all := lw_g (lw_at lw_m4 152 rfl) rfl
theorem q984 : (Jvm.Cond.methodLink "CardCups$OfficeReader" (65 : Nat) ({ cls := "CardCups$Reader", name := "which", desc := "([Ljava/lang/String;)I" } : Jvm.MethodName)) ∈ lw_all := lw_g (lw_at lw_m4 157 rfl) rfl
theorem q1044 : (Jvm.Cond.classLink "CardCups$OfficeReader" (69 : Nat) "CardCups$Wrong") ∈ lw_all := lw_g (lw_at lw_m4 217 rfl) rfl
theorem q1053 : (Jvm.Cond.methodLink "CardCups$OfficeReader" (71 : Nat) ({ cls := "CardCups$Wrong", name := "<init>", desc := "(II)V" } : Jvm.MethodName)) ∈ lw_all := lw_g (lw_at lw_m4 226 rfl) rfl
theorem q1072 : (Jvm.Cond.methodLink "CardCups$OfficeReader" (84 : Nat) ({ cls := "CardCups$Reader", name := "skipsWord", desc := "()V" } : Jvm.MethodName)) ∈ lw_all := lw_g (lw_at lw_m5 5 rfl) rfl
theorem q1076 : (Jvm.Cond.methodLink "CardCups$OfficeReader" (87 : Nat) ({ cls := "CardCups$Reader", name := "number", desc := "(II)I" } : Jvm.MethodName)) ∈ lw_all := lw_g (lw_at lw_m5 9 rfl) rfl
theorem q1087 : (Jvm.Cond.methodLink "CardCups$OfficeReader" (93 : Nat) ({ cls := "CardCups$Calendar", name := "comes", desc := "(II)I" } : Jvm.MethodName)) ∈ lw_all := lw_g (lw_at lw_m5 20 rfl) rfl
theorem q1091 : (Jvm.Cond.methodLink "CardCups$OfficeReader" (113 : Nat) ({ cls := "CardCups$Reader", name := "sign", desc := "(C)V" } : Jvm.MethodName)) ∈ lw_all := lw_g (lw_at lw_m5 24 rfl) rfl
theorem q2491 : (Jvm.Cond.castable "CardCups$OfficeReader" "java/lang/Object") ∈ lw_tbl := lw_at lw_m10 224 rfl
theorem in_X10 : ∀ w ∈ wsX100, w ∈ lw_all := lw_in wsX100 [952, 954, 956, 958, 960] (by decide +kernel) (by decide +kernel)
/-! CardCups$Reader -/
set_option maxRecDepth 100000
def RX11 : String := "CardCups$Reader"
def TX11 : u_T := fun k => match k with
  | 0 => ("CardCups$Reader", "bytes", "[B", true)
  | 1 => ("CardCups$Reader", "end", "I", true)
  | 2 => ("CardCups$Reader", "at", "I", false)
  | _ => ("CardCups$Reader", "open", "I", false)
def tyX11 : Nat → FieldType := fun k => match k with
  | 0 => .array .byte
  | 1 => .int
  | 2 => .int
  | _ => .int
abbrev wsX110 : List Cond := u_ws RX11 TX11 4
theorem nmX11 : ∀ a, a < 4 → ∀ b, b < 4 → a ≠ b → (TX11 a).2.1 ≠ (TX11 b).2.1 := by decide +kernel
theorem tyX11_ok : ∀ k, k < 4 → parseFieldDescriptor (TX11 k).2.2.1 = some (tyX11 k) := by decide +kernel
abbrev cX11_init : ByteArray := prog_16_method_1_code
def yX11_init : MethodName := ⟨RX11, "<init>", "([BI)V"⟩
def dkwX11_init_0 : List UInt8 := [42, 183, 0, 3, 42, 43, 181, 0, 9, 42, 28, 181, 0, 15, 177]
abbrev dktX11_init_0 : List UInt8 := dkwX11_init_0 ++ []
theorem dksX11_init_0 : cX11_init.data.toList.drop 0 = dktX11_init_0 := by decide +kernel
theorem dX11_init_0 : decode cX11_init 0 = .ok (.aload_n 0, 1) := dk_42 (dk_at dksX11_init_0 0 rfl rfl)
theorem dX11_init_1 : decode cX11_init 1 = .ok (.invokespecial 3, 3) := dk_183 0 3 (dk_at dksX11_init_0 1 rfl rfl)
theorem dX11_init_4 : decode cX11_init 4 = .ok (.aload_n 0, 1) := dk_42 (dk_at dksX11_init_0 4 rfl rfl)
theorem dX11_init_5 : decode cX11_init 5 = .ok (.aload_n 1, 1) := dk_43 (dk_at dksX11_init_0 5 rfl rfl)
theorem dX11_init_6 : decode cX11_init 6 = .ok (.putfield 9, 3) := dk_181 0 9 (dk_at dksX11_init_0 6 rfl rfl)
theorem dX11_init_9 : decode cX11_init 9 = .ok (.aload_n 0, 1) := dk_42 (dk_at dksX11_init_0 9 rfl rfl)
theorem dX11_init_10 : decode cX11_init 10 = .ok (.iload_n 2, 1) := dk_28 (dk_at dksX11_init_0 10 rfl rfl)
theorem dX11_init_11 : decode cX11_init 11 = .ok (.putfield 15, 3) := dk_181 0 15 (dk_at dksX11_init_0 11 rfl rfl)
theorem dX11_init_14 : decode cX11_init 14 = .ok (.return_, 1) := dk_177 (dk_at dksX11_init_0 14 rfl rfl)
abbrev cX11_now : ByteArray := prog_16_method_3_code
def yX11_now : MethodName := ⟨RX11, "now", "()I"⟩
def dkwX11_now_1 : List UInt8 := [167, 255, 233, 42, 42, 180, 0, 19, 182, 0, 22, 172]
abbrev dktX11_now_1 : List UInt8 := dkwX11_now_1 ++ []
def dkwX11_now_0 : List UInt8 := [42, 42, 180, 0, 19, 182, 0, 22, 16, 32, 160, 0, 16, 42, 89, 180, 0, 19, 4, 96, 181, 0, 19]
abbrev dktX11_now_0 : List UInt8 := dkwX11_now_0 ++ dktX11_now_1
theorem dksX11_now_0 : cX11_now.data.toList.drop 0 = dktX11_now_0 := by decide +kernel
theorem dksX11_now_1 : cX11_now.data.toList.drop 23 = dktX11_now_1 := dk_seg dksX11_now_0 23 rfl rfl
theorem dX11_now_0 : decode cX11_now 0 = .ok (.aload_n 0, 1) := dk_42 (dk_at dksX11_now_0 0 rfl rfl)
theorem dX11_now_1 : decode cX11_now 1 = .ok (.aload_n 0, 1) := dk_42 (dk_at dksX11_now_0 1 rfl rfl)
theorem dX11_now_2 : decode cX11_now 2 = .ok (.getfield 19, 3) := dk_180 0 19 (dk_at dksX11_now_0 2 rfl rfl)
theorem dX11_now_5 : decode cX11_now 5 = .ok (.invokevirtual 22, 3) := dk_182 0 22 (dk_at dksX11_now_0 5 rfl rfl)
theorem dX11_now_8 : decode cX11_now 8 = .ok (.bipush 32, 2) := dk_16 32 (dk_at dksX11_now_0 8 rfl rfl)
theorem dX11_now_10 : decode cX11_now 10 = .ok (.if_icmp .ne 16, 3) := dk_160 0 16 (dk_at dksX11_now_0 10 rfl rfl)
theorem dX11_now_13 : decode cX11_now 13 = .ok (.aload_n 0, 1) := dk_42 (dk_at dksX11_now_0 13 rfl rfl)
theorem dX11_now_14 : decode cX11_now 14 = .ok (.dup, 1) := dk_89 (dk_at dksX11_now_0 14 rfl rfl)
theorem dX11_now_15 : decode cX11_now 15 = .ok (.getfield 19, 3) := dk_180 0 19 (dk_at dksX11_now_0 15 rfl rfl)
theorem dX11_now_18 : decode cX11_now 18 = .ok (.iconst 1, 1) := dk_4 (dk_at dksX11_now_0 18 rfl rfl)
theorem dX11_now_19 : decode cX11_now 19 = .ok (.iadd, 1) := dk_96 (dk_at dksX11_now_0 19 rfl rfl)
theorem dX11_now_20 : decode cX11_now 20 = .ok (.putfield 19, 3) := dk_181 0 19 (dk_at dksX11_now_0 20 rfl rfl)
theorem dX11_now_23 : decode cX11_now 23 = .ok (.goto (-23), 3) := dk_167 255 233 (dk_at dksX11_now_1 0 rfl rfl)
theorem dX11_now_26 : decode cX11_now 26 = .ok (.aload_n 0, 1) := dk_42 (dk_at dksX11_now_1 3 rfl rfl)
theorem dX11_now_27 : decode cX11_now 27 = .ok (.aload_n 0, 1) := dk_42 (dk_at dksX11_now_1 4 rfl rfl)
theorem dX11_now_28 : decode cX11_now 28 = .ok (.getfield 19, 3) := dk_180 0 19 (dk_at dksX11_now_1 5 rfl rfl)
theorem dX11_now_31 : decode cX11_now 31 = .ok (.invokevirtual 22, 3) := dk_182 0 22 (dk_at dksX11_now_1 8 rfl rfl)
theorem dX11_now_34 : decode cX11_now 34 = .ok (.ireturn, 1) := dk_172 (dk_at dksX11_now_1 11 rfl rfl)
abbrev cX11_byteAt : ByteArray := prog_16_method_2_code
def yX11_byteAt : MethodName := ⟨RX11, "byteAt", "(I)I"⟩
def dkwX11_byteAt_0 : List UInt8 := [27, 42, 180, 0, 15, 162, 0, 16, 42, 180, 0, 9, 27, 51, 17, 0, 255, 126, 167, 0, 4, 2, 172]
abbrev dktX11_byteAt_0 : List UInt8 := dkwX11_byteAt_0 ++ []
theorem dksX11_byteAt_0 : cX11_byteAt.data.toList.drop 0 = dktX11_byteAt_0 := by decide +kernel
theorem dX11_byteAt_0 : decode cX11_byteAt 0 = .ok (.iload_n 1, 1) := dk_27 (dk_at dksX11_byteAt_0 0 rfl rfl)
theorem dX11_byteAt_1 : decode cX11_byteAt 1 = .ok (.aload_n 0, 1) := dk_42 (dk_at dksX11_byteAt_0 1 rfl rfl)
theorem dX11_byteAt_2 : decode cX11_byteAt 2 = .ok (.getfield 15, 3) := dk_180 0 15 (dk_at dksX11_byteAt_0 2 rfl rfl)
theorem dX11_byteAt_5 : decode cX11_byteAt 5 = .ok (.if_icmp .ge 16, 3) := dk_162 0 16 (dk_at dksX11_byteAt_0 5 rfl rfl)
theorem dX11_byteAt_8 : decode cX11_byteAt 8 = .ok (.aload_n 0, 1) := dk_42 (dk_at dksX11_byteAt_0 8 rfl rfl)
theorem dX11_byteAt_9 : decode cX11_byteAt 9 = .ok (.getfield 9, 3) := dk_180 0 9 (dk_at dksX11_byteAt_0 9 rfl rfl)
theorem dX11_byteAt_12 : decode cX11_byteAt 12 = .ok (.iload_n 1, 1) := dk_27 (dk_at dksX11_byteAt_0 12 rfl rfl)
theorem dX11_byteAt_13 : decode cX11_byteAt 13 = .ok (.baload, 1) := dk_51 (dk_at dksX11_byteAt_0 13 rfl rfl)
theorem dX11_byteAt_14 : decode cX11_byteAt 14 = .ok (.sipush 255, 3) := dk_17 0 255 (dk_at dksX11_byteAt_0 14 rfl rfl)
theorem dX11_byteAt_17 : decode cX11_byteAt 17 = .ok (.iand, 1) := dk_126 (dk_at dksX11_byteAt_0 17 rfl rfl)
theorem dX11_byteAt_18 : decode cX11_byteAt 18 = .ok (.goto 4, 3) := dk_167 0 4 (dk_at dksX11_byteAt_0 18 rfl rfl)
theorem dX11_byteAt_21 : decode cX11_byteAt 21 = .ok (.iconst (-1), 1) := dk_2 (dk_at dksX11_byteAt_0 21 rfl rfl)
theorem dX11_byteAt_22 : decode cX11_byteAt 22 = .ok (.ireturn, 1) := dk_172 (dk_at dksX11_byteAt_0 22 rfl rfl)
abbrev cX11_place : ByteArray := prog_16_method_4_code
def yX11_place : MethodName := ⟨RX11, "place", "()I"⟩
def dkwX11_place_0 : List UInt8 := [42, 182, 0, 26, 87, 42, 180, 0, 19, 172]
abbrev dktX11_place_0 : List UInt8 := dkwX11_place_0 ++ []
theorem dksX11_place_0 : cX11_place.data.toList.drop 0 = dktX11_place_0 := by decide +kernel
theorem dX11_place_0 : decode cX11_place 0 = .ok (.aload_n 0, 1) := dk_42 (dk_at dksX11_place_0 0 rfl rfl)
theorem dX11_place_1 : decode cX11_place 1 = .ok (.invokevirtual 26, 3) := dk_182 0 26 (dk_at dksX11_place_0 1 rfl rfl)
theorem dX11_place_4 : decode cX11_place 4 = .ok (.pop, 1) := dk_87 (dk_at dksX11_place_0 4 rfl rfl)
theorem dX11_place_5 : decode cX11_place 5 = .ok (.aload_n 0, 1) := dk_42 (dk_at dksX11_place_0 5 rfl rfl)
theorem dX11_place_6 : decode cX11_place 6 = .ok (.getfield 19, 3) := dk_180 0 19 (dk_at dksX11_place_0 6 rfl rfl)
theorem dX11_place_9 : decode cX11_place 9 = .ok (.ireturn, 1) := dk_172 (dk_at dksX11_place_0 9 rfl rfl)
abbrev cX11_which : ByteArray := prog_16_method_9_code
def yX11_which : MethodName := ⟨RX11, "which", "([Ljava/lang/String;)I"⟩
def dkwX11_which_1 : List UInt8 := [167, 255, 235, 2, 172]
abbrev dktX11_which_1 : List UInt8 := dkwX11_which_1 ++ []
def dkwX11_which_0 : List UInt8 := [3, 61, 28, 43, 190, 162, 0, 21, 42, 43, 28, 50, 182, 0, 46, 153, 0, 5, 28, 172, 132, 2, 1]
abbrev dktX11_which_0 : List UInt8 := dkwX11_which_0 ++ dktX11_which_1
theorem dksX11_which_0 : cX11_which.data.toList.drop 0 = dktX11_which_0 := by decide +kernel
theorem dksX11_which_1 : cX11_which.data.toList.drop 23 = dktX11_which_1 := dk_seg dksX11_which_0 23 rfl rfl
theorem dX11_which_0 : decode cX11_which 0 = .ok (.iconst 0, 1) := dk_3 (dk_at dksX11_which_0 0 rfl rfl)
theorem dX11_which_1 : decode cX11_which 1 = .ok (.istore_n 2, 1) := dk_61 (dk_at dksX11_which_0 1 rfl rfl)
theorem dX11_which_2 : decode cX11_which 2 = .ok (.iload_n 2, 1) := dk_28 (dk_at dksX11_which_0 2 rfl rfl)
theorem dX11_which_3 : decode cX11_which 3 = .ok (.aload_n 1, 1) := dk_43 (dk_at dksX11_which_0 3 rfl rfl)
theorem dX11_which_4 : decode cX11_which 4 = .ok (.arraylength, 1) := dk_190 (dk_at dksX11_which_0 4 rfl rfl)
theorem dX11_which_5 : decode cX11_which 5 = .ok (.if_icmp .ge 21, 3) := dk_162 0 21 (dk_at dksX11_which_0 5 rfl rfl)
theorem dX11_which_8 : decode cX11_which 8 = .ok (.aload_n 0, 1) := dk_42 (dk_at dksX11_which_0 8 rfl rfl)
theorem dX11_which_9 : decode cX11_which 9 = .ok (.aload_n 1, 1) := dk_43 (dk_at dksX11_which_0 9 rfl rfl)
theorem dX11_which_10 : decode cX11_which 10 = .ok (.iload_n 2, 1) := dk_28 (dk_at dksX11_which_0 10 rfl rfl)
theorem dX11_which_11 : decode cX11_which 11 = .ok (.aaload, 1) := dk_50 (dk_at dksX11_which_0 11 rfl rfl)
theorem dX11_which_12 : decode cX11_which 12 = .ok (.invokevirtual 46, 3) := dk_182 0 46 (dk_at dksX11_which_0 12 rfl rfl)
theorem dX11_which_15 : decode cX11_which 15 = .ok (.ifCond .eq 5, 3) := dk_153 0 5 (dk_at dksX11_which_0 15 rfl rfl)
theorem dX11_which_18 : decode cX11_which 18 = .ok (.iload_n 2, 1) := dk_28 (dk_at dksX11_which_0 18 rfl rfl)
theorem dX11_which_19 : decode cX11_which 19 = .ok (.ireturn, 1) := dk_172 (dk_at dksX11_which_0 19 rfl rfl)
theorem dX11_which_20 : decode cX11_which 20 = .ok (.iinc 2 1, 3) := dk_132 2 1 (dk_at dksX11_which_0 20 rfl rfl)
theorem dX11_which_23 : decode cX11_which 23 = .ok (.goto (-21), 3) := dk_167 255 235 (dk_at dksX11_which_1 0 rfl rfl)
theorem dX11_which_26 : decode cX11_which 26 = .ok (.iconst (-1), 1) := dk_2 (dk_at dksX11_which_1 3 rfl rfl)
theorem dX11_which_27 : decode cX11_which 27 = .ok (.ireturn, 1) := dk_172 (dk_at dksX11_which_1 4 rfl rfl)
abbrev cX11_isWord : ByteArray := prog_16_method_7_code
def yX11_isWord : MethodName := ⟨RX11, "isWord", "(Ljava/lang/String;)Z"⟩
def dkwX11_isWord_3 : List UInt8 := [172]
abbrev dktX11_isWord_3 : List UInt8 := dkwX11_isWord_3 ++ []
def dkwX11_isWord_2 : List UInt8 := [21, 4, 96, 182, 0, 22, 43, 21, 4, 182, 0, 42, 159, 0, 5, 3, 172, 132, 4, 1, 167, 255, 228, 4]
abbrev dktX11_isWord_2 : List UInt8 := dkwX11_isWord_2 ++ dktX11_isWord_3
def dkwX11_isWord_1 : List UInt8 := [167, 255, 240, 29, 43, 182, 0, 37, 159, 0, 5, 3, 172, 3, 54, 4, 21, 4, 29, 162, 0, 28, 42, 28]
abbrev dktX11_isWord_1 : List UInt8 := dkwX11_isWord_1 ++ dktX11_isWord_2
def dkwX11_isWord_0 : List UInt8 := [42, 182, 0, 30, 61, 3, 62, 42, 28, 29, 96, 182, 0, 22, 184, 0, 33, 153, 0, 9, 132, 3, 1]
abbrev dktX11_isWord_0 : List UInt8 := dkwX11_isWord_0 ++ dktX11_isWord_1
theorem dksX11_isWord_0 : cX11_isWord.data.toList.drop 0 = dktX11_isWord_0 := by decide +kernel
theorem dksX11_isWord_1 : cX11_isWord.data.toList.drop 23 = dktX11_isWord_1 := dk_seg dksX11_isWord_0 23 rfl rfl
theorem dksX11_isWord_2 : cX11_isWord.data.toList.drop 47 = dktX11_isWord_2 := dk_seg dksX11_isWord_1 24 rfl rfl
theorem dksX11_isWord_3 : cX11_isWord.data.toList.drop 71 = dktX11_isWord_3 := dk_seg dksX11_isWord_2 24 rfl rfl
theorem dX11_isWord_0 : decode cX11_isWord 0 = .ok (.aload_n 0, 1) := dk_42 (dk_at dksX11_isWord_0 0 rfl rfl)
theorem dX11_isWord_1 : decode cX11_isWord 1 = .ok (.invokevirtual 30, 3) := dk_182 0 30 (dk_at dksX11_isWord_0 1 rfl rfl)
theorem dX11_isWord_4 : decode cX11_isWord 4 = .ok (.istore_n 2, 1) := dk_61 (dk_at dksX11_isWord_0 4 rfl rfl)
theorem dX11_isWord_5 : decode cX11_isWord 5 = .ok (.iconst 0, 1) := dk_3 (dk_at dksX11_isWord_0 5 rfl rfl)
theorem dX11_isWord_6 : decode cX11_isWord 6 = .ok (.istore_n 3, 1) := dk_62 (dk_at dksX11_isWord_0 6 rfl rfl)
theorem dX11_isWord_7 : decode cX11_isWord 7 = .ok (.aload_n 0, 1) := dk_42 (dk_at dksX11_isWord_0 7 rfl rfl)
theorem dX11_isWord_8 : decode cX11_isWord 8 = .ok (.iload_n 2, 1) := dk_28 (dk_at dksX11_isWord_0 8 rfl rfl)
theorem dX11_isWord_9 : decode cX11_isWord 9 = .ok (.iload_n 3, 1) := dk_29 (dk_at dksX11_isWord_0 9 rfl rfl)
theorem dX11_isWord_10 : decode cX11_isWord 10 = .ok (.iadd, 1) := dk_96 (dk_at dksX11_isWord_0 10 rfl rfl)
theorem dX11_isWord_11 : decode cX11_isWord 11 = .ok (.invokevirtual 22, 3) := dk_182 0 22 (dk_at dksX11_isWord_0 11 rfl rfl)
theorem dX11_isWord_14 : decode cX11_isWord 14 = .ok (.invokestatic 33, 3) := dk_184 0 33 (dk_at dksX11_isWord_0 14 rfl rfl)
theorem dX11_isWord_17 : decode cX11_isWord 17 = .ok (.ifCond .eq 9, 3) := dk_153 0 9 (dk_at dksX11_isWord_0 17 rfl rfl)
theorem dX11_isWord_20 : decode cX11_isWord 20 = .ok (.iinc 3 1, 3) := dk_132 3 1 (dk_at dksX11_isWord_0 20 rfl rfl)
theorem dX11_isWord_23 : decode cX11_isWord 23 = .ok (.goto (-16), 3) := dk_167 255 240 (dk_at dksX11_isWord_1 0 rfl rfl)
theorem dX11_isWord_26 : decode cX11_isWord 26 = .ok (.iload_n 3, 1) := dk_29 (dk_at dksX11_isWord_1 3 rfl rfl)
theorem dX11_isWord_27 : decode cX11_isWord 27 = .ok (.aload_n 1, 1) := dk_43 (dk_at dksX11_isWord_1 4 rfl rfl)
theorem dX11_isWord_28 : decode cX11_isWord 28 = .ok (.invokevirtual 37, 3) := dk_182 0 37 (dk_at dksX11_isWord_1 5 rfl rfl)
theorem dX11_isWord_31 : decode cX11_isWord 31 = .ok (.if_icmp .eq 5, 3) := dk_159 0 5 (dk_at dksX11_isWord_1 8 rfl rfl)
theorem dX11_isWord_34 : decode cX11_isWord 34 = .ok (.iconst 0, 1) := dk_3 (dk_at dksX11_isWord_1 11 rfl rfl)
theorem dX11_isWord_35 : decode cX11_isWord 35 = .ok (.ireturn, 1) := dk_172 (dk_at dksX11_isWord_1 12 rfl rfl)
theorem dX11_isWord_36 : decode cX11_isWord 36 = .ok (.iconst 0, 1) := dk_3 (dk_at dksX11_isWord_1 13 rfl rfl)
theorem dX11_isWord_37 : decode cX11_isWord 37 = .ok (.istore 4, 2) := dk_54 4 (dk_at dksX11_isWord_1 14 rfl rfl)
theorem dX11_isWord_39 : decode cX11_isWord 39 = .ok (.iload 4, 2) := dk_21 4 (dk_at dksX11_isWord_1 16 rfl rfl)
theorem dX11_isWord_41 : decode cX11_isWord 41 = .ok (.iload_n 3, 1) := dk_29 (dk_at dksX11_isWord_1 18 rfl rfl)
theorem dX11_isWord_42 : decode cX11_isWord 42 = .ok (.if_icmp .ge 28, 3) := dk_162 0 28 (dk_at dksX11_isWord_1 19 rfl rfl)
theorem dX11_isWord_45 : decode cX11_isWord 45 = .ok (.aload_n 0, 1) := dk_42 (dk_at dksX11_isWord_1 22 rfl rfl)
theorem dX11_isWord_46 : decode cX11_isWord 46 = .ok (.iload_n 2, 1) := dk_28 (dk_at dksX11_isWord_1 23 rfl rfl)
theorem dX11_isWord_47 : decode cX11_isWord 47 = .ok (.iload 4, 2) := dk_21 4 (dk_at dksX11_isWord_2 0 rfl rfl)
theorem dX11_isWord_49 : decode cX11_isWord 49 = .ok (.iadd, 1) := dk_96 (dk_at dksX11_isWord_2 2 rfl rfl)
theorem dX11_isWord_50 : decode cX11_isWord 50 = .ok (.invokevirtual 22, 3) := dk_182 0 22 (dk_at dksX11_isWord_2 3 rfl rfl)
theorem dX11_isWord_53 : decode cX11_isWord 53 = .ok (.aload_n 1, 1) := dk_43 (dk_at dksX11_isWord_2 6 rfl rfl)
theorem dX11_isWord_54 : decode cX11_isWord 54 = .ok (.iload 4, 2) := dk_21 4 (dk_at dksX11_isWord_2 7 rfl rfl)
theorem dX11_isWord_56 : decode cX11_isWord 56 = .ok (.invokevirtual 42, 3) := dk_182 0 42 (dk_at dksX11_isWord_2 9 rfl rfl)
theorem dX11_isWord_59 : decode cX11_isWord 59 = .ok (.if_icmp .eq 5, 3) := dk_159 0 5 (dk_at dksX11_isWord_2 12 rfl rfl)
theorem dX11_isWord_62 : decode cX11_isWord 62 = .ok (.iconst 0, 1) := dk_3 (dk_at dksX11_isWord_2 15 rfl rfl)
theorem dX11_isWord_63 : decode cX11_isWord 63 = .ok (.ireturn, 1) := dk_172 (dk_at dksX11_isWord_2 16 rfl rfl)
theorem dX11_isWord_64 : decode cX11_isWord 64 = .ok (.iinc 4 1, 3) := dk_132 4 1 (dk_at dksX11_isWord_2 17 rfl rfl)
theorem dX11_isWord_67 : decode cX11_isWord 67 = .ok (.goto (-28), 3) := dk_167 255 228 (dk_at dksX11_isWord_2 20 rfl rfl)
theorem dX11_isWord_70 : decode cX11_isWord 70 = .ok (.iconst 1, 1) := dk_4 (dk_at dksX11_isWord_2 23 rfl rfl)
theorem dX11_isWord_71 : decode cX11_isWord 71 = .ok (.ireturn, 1) := dk_172 (dk_at dksX11_isWord_3 0 rfl rfl)
abbrev cX11_isSmall : ByteArray := prog_16_method_5_code
def yX11_isSmall : MethodName := ⟨RX11, "isSmall", "(I)Z"⟩
def dkwX11_isSmall_0 : List UInt8 := [26, 16, 97, 161, 0, 13, 26, 16, 122, 163, 0, 7, 4, 167, 0, 4, 3, 172]
abbrev dktX11_isSmall_0 : List UInt8 := dkwX11_isSmall_0 ++ []
theorem dksX11_isSmall_0 : cX11_isSmall.data.toList.drop 0 = dktX11_isSmall_0 := by decide +kernel
theorem dX11_isSmall_0 : decode cX11_isSmall 0 = .ok (.iload_n 0, 1) := dk_26 (dk_at dksX11_isSmall_0 0 rfl rfl)
theorem dX11_isSmall_1 : decode cX11_isSmall 1 = .ok (.bipush 97, 2) := dk_16 97 (dk_at dksX11_isSmall_0 1 rfl rfl)
theorem dX11_isSmall_3 : decode cX11_isSmall 3 = .ok (.if_icmp .lt 13, 3) := dk_161 0 13 (dk_at dksX11_isSmall_0 3 rfl rfl)
theorem dX11_isSmall_6 : decode cX11_isSmall 6 = .ok (.iload_n 0, 1) := dk_26 (dk_at dksX11_isSmall_0 6 rfl rfl)
theorem dX11_isSmall_7 : decode cX11_isSmall 7 = .ok (.bipush 122, 2) := dk_16 122 (dk_at dksX11_isSmall_0 7 rfl rfl)
theorem dX11_isSmall_9 : decode cX11_isSmall 9 = .ok (.if_icmp .gt 7, 3) := dk_163 0 7 (dk_at dksX11_isSmall_0 9 rfl rfl)
theorem dX11_isSmall_12 : decode cX11_isSmall 12 = .ok (.iconst 1, 1) := dk_4 (dk_at dksX11_isSmall_0 12 rfl rfl)
theorem dX11_isSmall_13 : decode cX11_isSmall 13 = .ok (.goto 4, 3) := dk_167 0 4 (dk_at dksX11_isSmall_0 13 rfl rfl)
theorem dX11_isSmall_16 : decode cX11_isSmall 16 = .ok (.iconst 0, 1) := dk_3 (dk_at dksX11_isSmall_0 16 rfl rfl)
theorem dX11_isSmall_17 : decode cX11_isSmall 17 = .ok (.ireturn, 1) := dk_172 (dk_at dksX11_isSmall_0 17 rfl rfl)
abbrev cX11_skipsWord : ByteArray := prog_16_method_10_code
def yX11_skipsWord : MethodName := ⟨RX11, "skipsWord", "()V"⟩
def dkwX11_skipsWord_1 : List UInt8 := [167, 255, 232, 177]
abbrev dktX11_skipsWord_1 : List UInt8 := dkwX11_skipsWord_1 ++ []
def dkwX11_skipsWord_0 : List UInt8 := [42, 42, 180, 0, 19, 182, 0, 22, 184, 0, 33, 153, 0, 16, 42, 89, 180, 0, 19, 4, 96, 181, 0, 19]
abbrev dktX11_skipsWord_0 : List UInt8 := dkwX11_skipsWord_0 ++ dktX11_skipsWord_1
theorem dksX11_skipsWord_0 : cX11_skipsWord.data.toList.drop 0 = dktX11_skipsWord_0 := by decide +kernel
theorem dksX11_skipsWord_1 : cX11_skipsWord.data.toList.drop 24 = dktX11_skipsWord_1 := dk_seg dksX11_skipsWord_0 24 rfl rfl
theorem dX11_skipsWord_0 : decode cX11_skipsWord 0 = .ok (.aload_n 0, 1) := dk_42 (dk_at dksX11_skipsWord_0 0 rfl rfl)
theorem dX11_skipsWord_1 : decode cX11_skipsWord 1 = .ok (.aload_n 0, 1) := dk_42 (dk_at dksX11_skipsWord_0 1 rfl rfl)
theorem dX11_skipsWord_2 : decode cX11_skipsWord 2 = .ok (.getfield 19, 3) := dk_180 0 19 (dk_at dksX11_skipsWord_0 2 rfl rfl)
theorem dX11_skipsWord_5 : decode cX11_skipsWord 5 = .ok (.invokevirtual 22, 3) := dk_182 0 22 (dk_at dksX11_skipsWord_0 5 rfl rfl)
theorem dX11_skipsWord_8 : decode cX11_skipsWord 8 = .ok (.invokestatic 33, 3) := dk_184 0 33 (dk_at dksX11_skipsWord_0 8 rfl rfl)
theorem dX11_skipsWord_11 : decode cX11_skipsWord 11 = .ok (.ifCond .eq 16, 3) := dk_153 0 16 (dk_at dksX11_skipsWord_0 11 rfl rfl)
theorem dX11_skipsWord_14 : decode cX11_skipsWord 14 = .ok (.aload_n 0, 1) := dk_42 (dk_at dksX11_skipsWord_0 14 rfl rfl)
theorem dX11_skipsWord_15 : decode cX11_skipsWord 15 = .ok (.dup, 1) := dk_89 (dk_at dksX11_skipsWord_0 15 rfl rfl)
theorem dX11_skipsWord_16 : decode cX11_skipsWord 16 = .ok (.getfield 19, 3) := dk_180 0 19 (dk_at dksX11_skipsWord_0 16 rfl rfl)
theorem dX11_skipsWord_19 : decode cX11_skipsWord 19 = .ok (.iconst 1, 1) := dk_4 (dk_at dksX11_skipsWord_0 19 rfl rfl)
theorem dX11_skipsWord_20 : decode cX11_skipsWord 20 = .ok (.iadd, 1) := dk_96 (dk_at dksX11_skipsWord_0 20 rfl rfl)
theorem dX11_skipsWord_21 : decode cX11_skipsWord 21 = .ok (.putfield 19, 3) := dk_181 0 19 (dk_at dksX11_skipsWord_0 21 rfl rfl)
theorem dX11_skipsWord_24 : decode cX11_skipsWord 24 = .ok (.goto (-24), 3) := dk_167 255 232 (dk_at dksX11_skipsWord_1 0 rfl rfl)
theorem dX11_skipsWord_27 : decode cX11_skipsWord 27 = .ok (.return_, 1) := dk_177 (dk_at dksX11_skipsWord_1 3 rfl rfl)
abbrev cX11_number : ByteArray := prog_16_method_11_code
def yX11_number : MethodName := ⟨RX11, "number", "(II)I"⟩
def dkwX11_number_4 : List UInt8 := [21, 4, 28, 164, 0, 13, 187, 0, 53, 89, 5, 29, 183, 0, 55, 191, 21, 4, 172]
abbrev dktX11_number_4 : List UInt8 := dkwX11_number_4 ++ []
def dkwX11_number_3 : List UInt8 := [184, 0, 59, 54, 4, 42, 89, 180, 0, 19, 4, 96, 181, 0, 19, 167, 255, 208, 21, 4, 27, 161, 0, 9]
abbrev dktX11_number_3 : List UInt8 := dkwX11_number_3 ++ dktX11_number_4
def dkwX11_number_2 : List UInt8 := [153, 0, 40, 16, 10, 21, 4, 104, 42, 42, 180, 0, 19, 182, 0, 22, 96, 16, 48, 100, 18, 58]
abbrev dktX11_number_2 : List UInt8 := dkwX11_number_2 ++ dktX11_number_3
def dkwX11_number_1 : List UInt8 := [187, 0, 53, 89, 4, 42, 180, 0, 19, 183, 0, 55, 191, 42, 42, 180, 0, 19, 182, 0, 22, 184, 0, 50]
abbrev dktX11_number_1 : List UInt8 := dkwX11_number_1 ++ dktX11_number_2
def dkwX11_number_0 : List UInt8 := [42, 182, 0, 30, 62, 3, 54, 4, 42, 42, 180, 0, 19, 182, 0, 22, 184, 0, 50, 154, 0, 16]
abbrev dktX11_number_0 : List UInt8 := dkwX11_number_0 ++ dktX11_number_1
theorem dksX11_number_0 : cX11_number.data.toList.drop 0 = dktX11_number_0 := by decide +kernel
theorem dksX11_number_1 : cX11_number.data.toList.drop 22 = dktX11_number_1 := dk_seg dksX11_number_0 22 rfl rfl
theorem dksX11_number_2 : cX11_number.data.toList.drop 46 = dktX11_number_2 := dk_seg dksX11_number_1 24 rfl rfl
theorem dksX11_number_3 : cX11_number.data.toList.drop 68 = dktX11_number_3 := dk_seg dksX11_number_2 22 rfl rfl
theorem dksX11_number_4 : cX11_number.data.toList.drop 92 = dktX11_number_4 := dk_seg dksX11_number_3 24 rfl rfl
theorem dX11_number_0 : decode cX11_number 0 = .ok (.aload_n 0, 1) := dk_42 (dk_at dksX11_number_0 0 rfl rfl)
theorem dX11_number_1 : decode cX11_number 1 = .ok (.invokevirtual 30, 3) := dk_182 0 30 (dk_at dksX11_number_0 1 rfl rfl)
theorem dX11_number_4 : decode cX11_number 4 = .ok (.istore_n 3, 1) := dk_62 (dk_at dksX11_number_0 4 rfl rfl)
theorem dX11_number_5 : decode cX11_number 5 = .ok (.iconst 0, 1) := dk_3 (dk_at dksX11_number_0 5 rfl rfl)
theorem dX11_number_6 : decode cX11_number 6 = .ok (.istore 4, 2) := dk_54 4 (dk_at dksX11_number_0 6 rfl rfl)
theorem dX11_number_8 : decode cX11_number 8 = .ok (.aload_n 0, 1) := dk_42 (dk_at dksX11_number_0 8 rfl rfl)
theorem dX11_number_9 : decode cX11_number 9 = .ok (.aload_n 0, 1) := dk_42 (dk_at dksX11_number_0 9 rfl rfl)
theorem dX11_number_10 : decode cX11_number 10 = .ok (.getfield 19, 3) := dk_180 0 19 (dk_at dksX11_number_0 10 rfl rfl)
theorem dX11_number_13 : decode cX11_number 13 = .ok (.invokevirtual 22, 3) := dk_182 0 22 (dk_at dksX11_number_0 13 rfl rfl)
theorem dX11_number_16 : decode cX11_number 16 = .ok (.invokestatic 50, 3) := dk_184 0 50 (dk_at dksX11_number_0 16 rfl rfl)
theorem dX11_number_19 : decode cX11_number 19 = .ok (.ifCond .ne 16, 3) := dk_154 0 16 (dk_at dksX11_number_0 19 rfl rfl)
theorem dX11_number_22 : decode cX11_number 22 = .ok (.new 53, 3) := dk_187 0 53 (dk_at dksX11_number_1 0 rfl rfl)
theorem dX11_number_25 : decode cX11_number 25 = .ok (.dup, 1) := dk_89 (dk_at dksX11_number_1 3 rfl rfl)
theorem dX11_number_26 : decode cX11_number 26 = .ok (.iconst 1, 1) := dk_4 (dk_at dksX11_number_1 4 rfl rfl)
theorem dX11_number_27 : decode cX11_number 27 = .ok (.aload_n 0, 1) := dk_42 (dk_at dksX11_number_1 5 rfl rfl)
theorem dX11_number_28 : decode cX11_number 28 = .ok (.getfield 19, 3) := dk_180 0 19 (dk_at dksX11_number_1 6 rfl rfl)
theorem dX11_number_31 : decode cX11_number 31 = .ok (.invokespecial 55, 3) := dk_183 0 55 (dk_at dksX11_number_1 9 rfl rfl)
theorem dX11_number_34 : decode cX11_number 34 = .ok (.athrow, 1) := dk_191 (dk_at dksX11_number_1 12 rfl rfl)
theorem dX11_number_35 : decode cX11_number 35 = .ok (.aload_n 0, 1) := dk_42 (dk_at dksX11_number_1 13 rfl rfl)
theorem dX11_number_36 : decode cX11_number 36 = .ok (.aload_n 0, 1) := dk_42 (dk_at dksX11_number_1 14 rfl rfl)
theorem dX11_number_37 : decode cX11_number 37 = .ok (.getfield 19, 3) := dk_180 0 19 (dk_at dksX11_number_1 15 rfl rfl)
theorem dX11_number_40 : decode cX11_number 40 = .ok (.invokevirtual 22, 3) := dk_182 0 22 (dk_at dksX11_number_1 18 rfl rfl)
theorem dX11_number_43 : decode cX11_number 43 = .ok (.invokestatic 50, 3) := dk_184 0 50 (dk_at dksX11_number_1 21 rfl rfl)
theorem dX11_number_46 : decode cX11_number 46 = .ok (.ifCond .eq 40, 3) := dk_153 0 40 (dk_at dksX11_number_2 0 rfl rfl)
theorem dX11_number_49 : decode cX11_number 49 = .ok (.bipush 10, 2) := dk_16 10 (dk_at dksX11_number_2 3 rfl rfl)
theorem dX11_number_51 : decode cX11_number 51 = .ok (.iload 4, 2) := dk_21 4 (dk_at dksX11_number_2 5 rfl rfl)
theorem dX11_number_53 : decode cX11_number 53 = .ok (.imul, 1) := dk_104 (dk_at dksX11_number_2 7 rfl rfl)
theorem dX11_number_54 : decode cX11_number 54 = .ok (.aload_n 0, 1) := dk_42 (dk_at dksX11_number_2 8 rfl rfl)
theorem dX11_number_55 : decode cX11_number 55 = .ok (.aload_n 0, 1) := dk_42 (dk_at dksX11_number_2 9 rfl rfl)
theorem dX11_number_56 : decode cX11_number 56 = .ok (.getfield 19, 3) := dk_180 0 19 (dk_at dksX11_number_2 10 rfl rfl)
theorem dX11_number_59 : decode cX11_number 59 = .ok (.invokevirtual 22, 3) := dk_182 0 22 (dk_at dksX11_number_2 13 rfl rfl)
theorem dX11_number_62 : decode cX11_number 62 = .ok (.iadd, 1) := dk_96 (dk_at dksX11_number_2 16 rfl rfl)
theorem dX11_number_63 : decode cX11_number 63 = .ok (.bipush 48, 2) := dk_16 48 (dk_at dksX11_number_2 17 rfl rfl)
theorem dX11_number_65 : decode cX11_number 65 = .ok (.isub, 1) := dk_100 (dk_at dksX11_number_2 19 rfl rfl)
theorem dX11_number_66 : decode cX11_number 66 = .ok (.ldc 58, 2) := dk_18 58 (dk_at dksX11_number_2 20 rfl rfl)
theorem dX11_number_68 : decode cX11_number 68 = .ok (.invokestatic 59, 3) := dk_184 0 59 (dk_at dksX11_number_3 0 rfl rfl)
theorem dX11_number_71 : decode cX11_number 71 = .ok (.istore 4, 2) := dk_54 4 (dk_at dksX11_number_3 3 rfl rfl)
theorem dX11_number_73 : decode cX11_number 73 = .ok (.aload_n 0, 1) := dk_42 (dk_at dksX11_number_3 5 rfl rfl)
theorem dX11_number_74 : decode cX11_number 74 = .ok (.dup, 1) := dk_89 (dk_at dksX11_number_3 6 rfl rfl)
theorem dX11_number_75 : decode cX11_number 75 = .ok (.getfield 19, 3) := dk_180 0 19 (dk_at dksX11_number_3 7 rfl rfl)
theorem dX11_number_78 : decode cX11_number 78 = .ok (.iconst 1, 1) := dk_4 (dk_at dksX11_number_3 10 rfl rfl)
theorem dX11_number_79 : decode cX11_number 79 = .ok (.iadd, 1) := dk_96 (dk_at dksX11_number_3 11 rfl rfl)
theorem dX11_number_80 : decode cX11_number 80 = .ok (.putfield 19, 3) := dk_181 0 19 (dk_at dksX11_number_3 12 rfl rfl)
theorem dX11_number_83 : decode cX11_number 83 = .ok (.goto (-48), 3) := dk_167 255 208 (dk_at dksX11_number_3 15 rfl rfl)
theorem dX11_number_86 : decode cX11_number 86 = .ok (.iload 4, 2) := dk_21 4 (dk_at dksX11_number_3 18 rfl rfl)
theorem dX11_number_88 : decode cX11_number 88 = .ok (.iload_n 1, 1) := dk_27 (dk_at dksX11_number_3 20 rfl rfl)
theorem dX11_number_89 : decode cX11_number 89 = .ok (.if_icmp .lt 9, 3) := dk_161 0 9 (dk_at dksX11_number_3 21 rfl rfl)
theorem dX11_number_92 : decode cX11_number 92 = .ok (.iload 4, 2) := dk_21 4 (dk_at dksX11_number_4 0 rfl rfl)
theorem dX11_number_94 : decode cX11_number 94 = .ok (.iload_n 2, 1) := dk_28 (dk_at dksX11_number_4 2 rfl rfl)
theorem dX11_number_95 : decode cX11_number 95 = .ok (.if_icmp .le 13, 3) := dk_164 0 13 (dk_at dksX11_number_4 3 rfl rfl)
theorem dX11_number_98 : decode cX11_number 98 = .ok (.new 53, 3) := dk_187 0 53 (dk_at dksX11_number_4 6 rfl rfl)
theorem dX11_number_101 : decode cX11_number 101 = .ok (.dup, 1) := dk_89 (dk_at dksX11_number_4 9 rfl rfl)
theorem dX11_number_102 : decode cX11_number 102 = .ok (.iconst 2, 1) := dk_5 (dk_at dksX11_number_4 10 rfl rfl)
theorem dX11_number_103 : decode cX11_number 103 = .ok (.iload_n 3, 1) := dk_29 (dk_at dksX11_number_4 11 rfl rfl)
theorem dX11_number_104 : decode cX11_number 104 = .ok (.invokespecial 55, 3) := dk_183 0 55 (dk_at dksX11_number_4 12 rfl rfl)
theorem dX11_number_107 : decode cX11_number 107 = .ok (.athrow, 1) := dk_191 (dk_at dksX11_number_4 15 rfl rfl)
theorem dX11_number_108 : decode cX11_number 108 = .ok (.iload 4, 2) := dk_21 4 (dk_at dksX11_number_4 16 rfl rfl)
theorem dX11_number_110 : decode cX11_number 110 = .ok (.ireturn, 1) := dk_172 (dk_at dksX11_number_4 18 rfl rfl)
abbrev cX11_isDigit : ByteArray := prog_16_method_6_code
def yX11_isDigit : MethodName := ⟨RX11, "isDigit", "(I)Z"⟩
def dkwX11_isDigit_0 : List UInt8 := [26, 16, 48, 161, 0, 13, 26, 16, 57, 163, 0, 7, 4, 167, 0, 4, 3, 172]
abbrev dktX11_isDigit_0 : List UInt8 := dkwX11_isDigit_0 ++ []
theorem dksX11_isDigit_0 : cX11_isDigit.data.toList.drop 0 = dktX11_isDigit_0 := by decide +kernel
theorem dX11_isDigit_0 : decode cX11_isDigit 0 = .ok (.iload_n 0, 1) := dk_26 (dk_at dksX11_isDigit_0 0 rfl rfl)
theorem dX11_isDigit_1 : decode cX11_isDigit 1 = .ok (.bipush 48, 2) := dk_16 48 (dk_at dksX11_isDigit_0 1 rfl rfl)
theorem dX11_isDigit_3 : decode cX11_isDigit 3 = .ok (.if_icmp .lt 13, 3) := dk_161 0 13 (dk_at dksX11_isDigit_0 3 rfl rfl)
theorem dX11_isDigit_6 : decode cX11_isDigit 6 = .ok (.iload_n 0, 1) := dk_26 (dk_at dksX11_isDigit_0 6 rfl rfl)
theorem dX11_isDigit_7 : decode cX11_isDigit 7 = .ok (.bipush 57, 2) := dk_16 57 (dk_at dksX11_isDigit_0 7 rfl rfl)
theorem dX11_isDigit_9 : decode cX11_isDigit 9 = .ok (.if_icmp .gt 7, 3) := dk_163 0 7 (dk_at dksX11_isDigit_0 9 rfl rfl)
theorem dX11_isDigit_12 : decode cX11_isDigit 12 = .ok (.iconst 1, 1) := dk_4 (dk_at dksX11_isDigit_0 12 rfl rfl)
theorem dX11_isDigit_13 : decode cX11_isDigit 13 = .ok (.goto 4, 3) := dk_167 0 4 (dk_at dksX11_isDigit_0 13 rfl rfl)
theorem dX11_isDigit_16 : decode cX11_isDigit 16 = .ok (.iconst 0, 1) := dk_3 (dk_at dksX11_isDigit_0 16 rfl rfl)
theorem dX11_isDigit_17 : decode cX11_isDigit 17 = .ok (.ireturn, 1) := dk_172 (dk_at dksX11_isDigit_0 17 rfl rfl)
abbrev cX11_sign : ByteArray := prog_16_method_12_code
def yX11_sign : MethodName := ⟨RX11, "sign", "(C)V"⟩
def dkwX11_sign_1 : List UInt8 := [180, 0, 19, 4, 96, 181, 0, 19, 177]
abbrev dktX11_sign_1 : List UInt8 := dkwX11_sign_1 ++ []
def dkwX11_sign_0 : List UInt8 := [42, 182, 0, 26, 27, 159, 0, 16, 187, 0, 53, 89, 4, 42, 180, 0, 19, 183, 0, 55, 191, 42, 89]
abbrev dktX11_sign_0 : List UInt8 := dkwX11_sign_0 ++ dktX11_sign_1
theorem dksX11_sign_0 : cX11_sign.data.toList.drop 0 = dktX11_sign_0 := by decide +kernel
theorem dksX11_sign_1 : cX11_sign.data.toList.drop 23 = dktX11_sign_1 := dk_seg dksX11_sign_0 23 rfl rfl
theorem dX11_sign_0 : decode cX11_sign 0 = .ok (.aload_n 0, 1) := dk_42 (dk_at dksX11_sign_0 0 rfl rfl)
theorem dX11_sign_1 : decode cX11_sign 1 = .ok (.invokevirtual 26, 3) := dk_182 0 26 (dk_at dksX11_sign_0 1 rfl rfl)
theorem dX11_sign_4 : decode cX11_sign 4 = .ok (.iload_n 1, 1) := dk_27 (dk_at dksX11_sign_0 4 rfl rfl)
theorem dX11_sign_5 : decode cX11_sign 5 = .ok (.if_icmp .eq 16, 3) := dk_159 0 16 (dk_at dksX11_sign_0 5 rfl rfl)
theorem dX11_sign_8 : decode cX11_sign 8 = .ok (.new 53, 3) := dk_187 0 53 (dk_at dksX11_sign_0 8 rfl rfl)
theorem dX11_sign_11 : decode cX11_sign 11 = .ok (.dup, 1) := dk_89 (dk_at dksX11_sign_0 11 rfl rfl)
theorem dX11_sign_12 : decode cX11_sign 12 = .ok (.iconst 1, 1) := dk_4 (dk_at dksX11_sign_0 12 rfl rfl)
theorem dX11_sign_13 : decode cX11_sign 13 = .ok (.aload_n 0, 1) := dk_42 (dk_at dksX11_sign_0 13 rfl rfl)
theorem dX11_sign_14 : decode cX11_sign 14 = .ok (.getfield 19, 3) := dk_180 0 19 (dk_at dksX11_sign_0 14 rfl rfl)
theorem dX11_sign_17 : decode cX11_sign 17 = .ok (.invokespecial 55, 3) := dk_183 0 55 (dk_at dksX11_sign_0 17 rfl rfl)
theorem dX11_sign_20 : decode cX11_sign 20 = .ok (.athrow, 1) := dk_191 (dk_at dksX11_sign_0 20 rfl rfl)
theorem dX11_sign_21 : decode cX11_sign 21 = .ok (.aload_n 0, 1) := dk_42 (dk_at dksX11_sign_0 21 rfl rfl)
theorem dX11_sign_22 : decode cX11_sign 22 = .ok (.dup, 1) := dk_89 (dk_at dksX11_sign_0 22 rfl rfl)
theorem dX11_sign_23 : decode cX11_sign 23 = .ok (.getfield 19, 3) := dk_180 0 19 (dk_at dksX11_sign_1 0 rfl rfl)
theorem dX11_sign_26 : decode cX11_sign 26 = .ok (.iconst 1, 1) := dk_4 (dk_at dksX11_sign_1 3 rfl rfl)
theorem dX11_sign_27 : decode cX11_sign 27 = .ok (.iadd, 1) := dk_96 (dk_at dksX11_sign_1 4 rfl rfl)
theorem dX11_sign_28 : decode cX11_sign 28 = .ok (.putfield 19, 3) := dk_181 0 19 (dk_at dksX11_sign_1 5 rfl rfl)
theorem dX11_sign_31 : decode cX11_sign 31 = .ok (.return_, 1) := dk_177 (dk_at dksX11_sign_1 8 rfl rfl)
abbrev cX11_takes : ByteArray := prog_16_method_8_code
def yX11_takes : MethodName := ⟨RX11, "takes", "(Ljava/lang/String;)Z"⟩
def dkwX11_takes_1 : List UInt8 := [172]
abbrev dktX11_takes_1 : List UInt8 := dkwX11_takes_1 ++ []
def dkwX11_takes_0 : List UInt8 := [42, 43, 182, 0, 46, 61, 28, 153, 0, 16, 42, 89, 180, 0, 19, 43, 182, 0, 37, 96, 181, 0, 19, 28]
abbrev dktX11_takes_0 : List UInt8 := dkwX11_takes_0 ++ dktX11_takes_1
theorem dksX11_takes_0 : cX11_takes.data.toList.drop 0 = dktX11_takes_0 := by decide +kernel
theorem dksX11_takes_1 : cX11_takes.data.toList.drop 24 = dktX11_takes_1 := dk_seg dksX11_takes_0 24 rfl rfl
theorem dX11_takes_0 : decode cX11_takes 0 = .ok (.aload_n 0, 1) := dk_42 (dk_at dksX11_takes_0 0 rfl rfl)
theorem dX11_takes_1 : decode cX11_takes 1 = .ok (.aload_n 1, 1) := dk_43 (dk_at dksX11_takes_0 1 rfl rfl)
theorem dX11_takes_2 : decode cX11_takes 2 = .ok (.invokevirtual 46, 3) := dk_182 0 46 (dk_at dksX11_takes_0 2 rfl rfl)
theorem dX11_takes_5 : decode cX11_takes 5 = .ok (.istore_n 2, 1) := dk_61 (dk_at dksX11_takes_0 5 rfl rfl)
theorem dX11_takes_6 : decode cX11_takes 6 = .ok (.iload_n 2, 1) := dk_28 (dk_at dksX11_takes_0 6 rfl rfl)
theorem dX11_takes_7 : decode cX11_takes 7 = .ok (.ifCond .eq 16, 3) := dk_153 0 16 (dk_at dksX11_takes_0 7 rfl rfl)
theorem dX11_takes_10 : decode cX11_takes 10 = .ok (.aload_n 0, 1) := dk_42 (dk_at dksX11_takes_0 10 rfl rfl)
theorem dX11_takes_11 : decode cX11_takes 11 = .ok (.dup, 1) := dk_89 (dk_at dksX11_takes_0 11 rfl rfl)
theorem dX11_takes_12 : decode cX11_takes 12 = .ok (.getfield 19, 3) := dk_180 0 19 (dk_at dksX11_takes_0 12 rfl rfl)
theorem dX11_takes_15 : decode cX11_takes 15 = .ok (.aload_n 1, 1) := dk_43 (dk_at dksX11_takes_0 15 rfl rfl)
theorem dX11_takes_16 : decode cX11_takes 16 = .ok (.invokevirtual 37, 3) := dk_182 0 37 (dk_at dksX11_takes_0 16 rfl rfl)
theorem dX11_takes_19 : decode cX11_takes 19 = .ok (.iadd, 1) := dk_96 (dk_at dksX11_takes_0 19 rfl rfl)
theorem dX11_takes_20 : decode cX11_takes 20 = .ok (.putfield 19, 3) := dk_181 0 19 (dk_at dksX11_takes_0 20 rfl rfl)
theorem dX11_takes_23 : decode cX11_takes 23 = .ok (.iload_n 2, 1) := dk_28 (dk_at dksX11_takes_0 23 rfl rfl)
theorem dX11_takes_24 : decode cX11_takes 24 = .ok (.ireturn, 1) := dk_172 (dk_at dksX11_takes_1 0 rfl rfl)
abbrev cX11_opens : ByteArray := prog_16_method_14_code
def yX11_opens : MethodName := ⟨RX11, "opens", "()V"⟩
def dkwX11_opens_1 : List UInt8 := [180, 0, 65, 4, 96, 181, 0, 65, 177]
abbrev dktX11_opens_1 : List UInt8 := dkwX11_opens_1 ++ []
def dkwX11_opens_0 : List UInt8 := [42, 180, 0, 65, 16, 6, 160, 0, 16, 187, 0, 53, 89, 6, 42, 182, 0, 30, 183, 0, 55, 191, 42, 89]
abbrev dktX11_opens_0 : List UInt8 := dkwX11_opens_0 ++ dktX11_opens_1
theorem dksX11_opens_0 : cX11_opens.data.toList.drop 0 = dktX11_opens_0 := by decide +kernel
theorem dksX11_opens_1 : cX11_opens.data.toList.drop 24 = dktX11_opens_1 := dk_seg dksX11_opens_0 24 rfl rfl
theorem dX11_opens_0 : decode cX11_opens 0 = .ok (.aload_n 0, 1) := dk_42 (dk_at dksX11_opens_0 0 rfl rfl)
theorem dX11_opens_1 : decode cX11_opens 1 = .ok (.getfield 65, 3) := dk_180 0 65 (dk_at dksX11_opens_0 1 rfl rfl)
theorem dX11_opens_4 : decode cX11_opens 4 = .ok (.bipush 6, 2) := dk_16 6 (dk_at dksX11_opens_0 4 rfl rfl)
theorem dX11_opens_6 : decode cX11_opens 6 = .ok (.if_icmp .ne 16, 3) := dk_160 0 16 (dk_at dksX11_opens_0 6 rfl rfl)
theorem dX11_opens_9 : decode cX11_opens 9 = .ok (.new 53, 3) := dk_187 0 53 (dk_at dksX11_opens_0 9 rfl rfl)
theorem dX11_opens_12 : decode cX11_opens 12 = .ok (.dup, 1) := dk_89 (dk_at dksX11_opens_0 12 rfl rfl)
theorem dX11_opens_13 : decode cX11_opens 13 = .ok (.iconst 3, 1) := dk_6 (dk_at dksX11_opens_0 13 rfl rfl)
theorem dX11_opens_14 : decode cX11_opens 14 = .ok (.aload_n 0, 1) := dk_42 (dk_at dksX11_opens_0 14 rfl rfl)
theorem dX11_opens_15 : decode cX11_opens 15 = .ok (.invokevirtual 30, 3) := dk_182 0 30 (dk_at dksX11_opens_0 15 rfl rfl)
theorem dX11_opens_18 : decode cX11_opens 18 = .ok (.invokespecial 55, 3) := dk_183 0 55 (dk_at dksX11_opens_0 18 rfl rfl)
theorem dX11_opens_21 : decode cX11_opens 21 = .ok (.athrow, 1) := dk_191 (dk_at dksX11_opens_0 21 rfl rfl)
theorem dX11_opens_22 : decode cX11_opens 22 = .ok (.aload_n 0, 1) := dk_42 (dk_at dksX11_opens_0 22 rfl rfl)
theorem dX11_opens_23 : decode cX11_opens 23 = .ok (.dup, 1) := dk_89 (dk_at dksX11_opens_0 23 rfl rfl)
theorem dX11_opens_24 : decode cX11_opens 24 = .ok (.getfield 65, 3) := dk_180 0 65 (dk_at dksX11_opens_1 0 rfl rfl)
theorem dX11_opens_27 : decode cX11_opens 27 = .ok (.iconst 1, 1) := dk_4 (dk_at dksX11_opens_1 3 rfl rfl)
theorem dX11_opens_28 : decode cX11_opens 28 = .ok (.iadd, 1) := dk_96 (dk_at dksX11_opens_1 4 rfl rfl)
theorem dX11_opens_29 : decode cX11_opens 29 = .ok (.putfield 65, 3) := dk_181 0 65 (dk_at dksX11_opens_1 5 rfl rfl)
theorem dX11_opens_32 : decode cX11_opens 32 = .ok (.return_, 1) := dk_177 (dk_at dksX11_opens_1 8 rfl rfl)
abbrev cX11_closes : ByteArray := prog_16_method_15_code
def yX11_closes : MethodName := ⟨RX11, "closes", "()V"⟩
def dkwX11_closes_0 : List UInt8 := [42, 89, 180, 0, 65, 4, 100, 181, 0, 65, 177]
abbrev dktX11_closes_0 : List UInt8 := dkwX11_closes_0 ++ []
theorem dksX11_closes_0 : cX11_closes.data.toList.drop 0 = dktX11_closes_0 := by decide +kernel
theorem dX11_closes_0 : decode cX11_closes 0 = .ok (.aload_n 0, 1) := dk_42 (dk_at dksX11_closes_0 0 rfl rfl)
theorem dX11_closes_1 : decode cX11_closes 1 = .ok (.dup, 1) := dk_89 (dk_at dksX11_closes_0 1 rfl rfl)
theorem dX11_closes_2 : decode cX11_closes 2 = .ok (.getfield 65, 3) := dk_180 0 65 (dk_at dksX11_closes_0 2 rfl rfl)
theorem dX11_closes_5 : decode cX11_closes 5 = .ok (.iconst 1, 1) := dk_4 (dk_at dksX11_closes_0 5 rfl rfl)
theorem dX11_closes_6 : decode cX11_closes 6 = .ok (.isub, 1) := dk_100 (dk_at dksX11_closes_0 6 rfl rfl)
theorem dX11_closes_7 : decode cX11_closes 7 = .ok (.putfield 65, 3) := dk_181 0 65 (dk_at dksX11_closes_0 7 rfl rfl)
theorem dX11_closes_10 : decode cX11_closes 10 = .ok (.return_, 1) := dk_177 (dk_at dksX11_closes_0 10 rfl rfl)
abbrev cX11_takesSign : ByteArray := prog_16_method_13_code
def yX11_takesSign : MethodName := ⟨RX11, "takesSign", "(C)Z"⟩
def dkwX11_takesSign_1 : List UInt8 := [96, 181, 0, 19, 28, 172]
abbrev dktX11_takesSign_1 : List UInt8 := dkwX11_takesSign_1 ++ []
def dkwX11_takesSign_0 : List UInt8 := [42, 182, 0, 26, 27, 160, 0, 7, 4, 167, 0, 4, 3, 61, 28, 153, 0, 13, 42, 89, 180, 0, 19, 4]
abbrev dktX11_takesSign_0 : List UInt8 := dkwX11_takesSign_0 ++ dktX11_takesSign_1
theorem dksX11_takesSign_0 : cX11_takesSign.data.toList.drop 0 = dktX11_takesSign_0 := by decide +kernel
theorem dksX11_takesSign_1 : cX11_takesSign.data.toList.drop 24 = dktX11_takesSign_1 := dk_seg dksX11_takesSign_0 24 rfl rfl
theorem dX11_takesSign_0 : decode cX11_takesSign 0 = .ok (.aload_n 0, 1) := dk_42 (dk_at dksX11_takesSign_0 0 rfl rfl)
theorem dX11_takesSign_1 : decode cX11_takesSign 1 = .ok (.invokevirtual 26, 3) := dk_182 0 26 (dk_at dksX11_takesSign_0 1 rfl rfl)
theorem dX11_takesSign_4 : decode cX11_takesSign 4 = .ok (.iload_n 1, 1) := dk_27 (dk_at dksX11_takesSign_0 4 rfl rfl)
theorem dX11_takesSign_5 : decode cX11_takesSign 5 = .ok (.if_icmp .ne 7, 3) := dk_160 0 7 (dk_at dksX11_takesSign_0 5 rfl rfl)
theorem dX11_takesSign_8 : decode cX11_takesSign 8 = .ok (.iconst 1, 1) := dk_4 (dk_at dksX11_takesSign_0 8 rfl rfl)
theorem dX11_takesSign_9 : decode cX11_takesSign 9 = .ok (.goto 4, 3) := dk_167 0 4 (dk_at dksX11_takesSign_0 9 rfl rfl)
theorem dX11_takesSign_12 : decode cX11_takesSign 12 = .ok (.iconst 0, 1) := dk_3 (dk_at dksX11_takesSign_0 12 rfl rfl)
theorem dX11_takesSign_13 : decode cX11_takesSign 13 = .ok (.istore_n 2, 1) := dk_61 (dk_at dksX11_takesSign_0 13 rfl rfl)
theorem dX11_takesSign_14 : decode cX11_takesSign 14 = .ok (.iload_n 2, 1) := dk_28 (dk_at dksX11_takesSign_0 14 rfl rfl)
theorem dX11_takesSign_15 : decode cX11_takesSign 15 = .ok (.ifCond .eq 13, 3) := dk_153 0 13 (dk_at dksX11_takesSign_0 15 rfl rfl)
theorem dX11_takesSign_18 : decode cX11_takesSign 18 = .ok (.aload_n 0, 1) := dk_42 (dk_at dksX11_takesSign_0 18 rfl rfl)
theorem dX11_takesSign_19 : decode cX11_takesSign 19 = .ok (.dup, 1) := dk_89 (dk_at dksX11_takesSign_0 19 rfl rfl)
theorem dX11_takesSign_20 : decode cX11_takesSign 20 = .ok (.getfield 19, 3) := dk_180 0 19 (dk_at dksX11_takesSign_0 20 rfl rfl)
theorem dX11_takesSign_23 : decode cX11_takesSign 23 = .ok (.iconst 1, 1) := dk_4 (dk_at dksX11_takesSign_0 23 rfl rfl)
theorem dX11_takesSign_24 : decode cX11_takesSign 24 = .ok (.iadd, 1) := dk_96 (dk_at dksX11_takesSign_1 0 rfl rfl)
theorem dX11_takesSign_25 : decode cX11_takesSign 25 = .ok (.putfield 19, 3) := dk_181 0 19 (dk_at dksX11_takesSign_1 1 rfl rfl)
theorem dX11_takesSign_28 : decode cX11_takesSign 28 = .ok (.iload_n 2, 1) := dk_28 (dk_at dksX11_takesSign_1 4 rfl rfl)
theorem dX11_takesSign_29 : decode cX11_takesSign 29 = .ok (.ireturn, 1) := dk_172 (dk_at dksX11_takesSign_1 5 rfl rfl)
theorem q122 : (Jvm.Cond.initialized "CardCups$Reader") ∈ lw_all := lw_g (lw_at lw_m1 15 rfl) rfl
theorem q908 : (Jvm.Cond.instantiable "CardCups$Reader" (4 : Nat)) ∈ lw_all := lw_g (lw_at lw_m4 81 rfl) rfl
theorem q910 : (Jvm.Cond.instanceMethod ({ cls := "CardCups$Reader", name := "<init>", desc := "([BI)V" } : Jvm.MethodName)) ∈ lw_all := lw_g (lw_at lw_m4 83 rfl) rfl
theorem q911 : (Jvm.Cond.code ({ cls := "CardCups$Reader", name := "<init>", desc := "([BI)V" } : Jvm.MethodName) prog_16_method_1_code (3 : Nat) (Option.none : Option Jvm.ClassFile.FieldType)) ∈ lw_all := lw_g (lw_at lw_m4 84 rfl) rfl
theorem q912 : (Jvm.Cond.methodLink "CardCups$Reader" (3 : Nat) ({ cls := "java/lang/Object", name := "<init>", desc := "()V" } : Jvm.MethodName)) ∈ lw_all := lw_g (lw_at lw_m4 85 rfl) rfl
theorem q913 : (Jvm.Cond.fieldLink "CardCups$Reader" (9 : Nat) "CardCups$Reader" "bytes" "[B") ∈ lw_all := lw_g (lw_at lw_m4 86 rfl) rfl
theorem q914 : (Jvm.Cond.fieldLink "CardCups$Reader" (15 : Nat) "CardCups$Reader" "end" "I") ∈ lw_all := lw_g (lw_at lw_m4 87 rfl) rfl
theorem q915 : (Jvm.Cond.fieldLink "CardCups$Reader" (19 : Nat) "CardCups$Reader" "at" "I") ∈ lw_all := lw_g (lw_at lw_m4 88 rfl) rfl
theorem q916 : (Jvm.Cond.fieldLink "CardCups$Reader" (65 : Nat) "CardCups$Reader" "open" "I") ∈ lw_all := lw_g (lw_at lw_m4 89 rfl) rfl
theorem q917 : (Jvm.Cond.laysFinal "CardCups$Reader" "CardCups$Reader" "bytes" "[B") ∈ lw_all := lw_g (lw_at lw_m4 90 rfl) rfl
theorem q918 : (Jvm.Cond.soleField "CardCups$Reader" "bytes") ∈ lw_all := lw_g (lw_at lw_m4 91 rfl) rfl
theorem q919 : (Jvm.Cond.laysFinal "CardCups$Reader" "CardCups$Reader" "end" "I") ∈ lw_all := lw_g (lw_at lw_m4 92 rfl) rfl
theorem q920 : (Jvm.Cond.soleField "CardCups$Reader" "end") ∈ lw_all := lw_g (lw_at lw_m4 93 rfl) rfl
theorem q921 : (Jvm.Cond.lays "CardCups$Reader" "CardCups$Reader" "at" "I") ∈ lw_all := lw_g (lw_at lw_m4 94 rfl) rfl
theorem q922 : (Jvm.Cond.soleField "CardCups$Reader" "at") ∈ lw_all := lw_g (lw_at lw_m4 95 rfl) rfl
theorem q923 : (Jvm.Cond.lays "CardCups$Reader" "CardCups$Reader" "open" "I") ∈ lw_all := lw_g (lw_at lw_m4 96 rfl) rfl
theorem q924 : (Jvm.Cond.soleField "CardCups$Reader" "open") ∈ lw_all := lw_g (lw_at lw_m4 97 rfl) rfl
theorem q925 : (Jvm.Cond.superclass "CardCups$Reader" "java/lang/Object") ∈ lw_all := lw_g (lw_at lw_m4 98 rfl) rfl
theorem q968 : (Jvm.Cond.instanceMethod ({ cls := "CardCups$Reader", name := "now", desc := "()I" } : Jvm.MethodName)) ∈ lw_all := lw_g (lw_at lw_m4 141 rfl) rfl
theorem q969 : (Jvm.Cond.selects "CardCups$Reader" ({ cls := "CardCups$Reader", name := "now", desc := "()I" } : Jvm.MethodName) ({ cls := "CardCups$Reader", name := "now", desc := "()I" } : Jvm.MethodName)) ∈ lw_all := lw_g (lw_at lw_m4 142 rfl) rfl
theorem q970 : (Jvm.Cond.code ({ cls := "CardCups$Reader", name := "now", desc := "()I" } : Jvm.MethodName) prog_16_method_3_code (1 : Nat) (Option.some Jvm.ClassFile.FieldType.int)) ∈ lw_all := lw_g (lw_at lw_m4 143 rfl) rfl
theorem q971 : (Jvm.Cond.methodLink "CardCups$Reader" (22 : Nat) ({ cls := "CardCups$Reader", name := "byteAt", desc := "(I)I" } : Jvm.MethodName)) ∈ lw_all := lw_g (lw_at lw_m4 144 rfl) rfl
theorem q972 : (Jvm.Cond.privateMethod ({ cls := "CardCups$Reader", name := "byteAt", desc := "(I)I" } : Jvm.MethodName)) ∈ lw_tbl := lw_at lw_m4 145 rfl
theorem q973 : (Jvm.Cond.instanceMethod ({ cls := "CardCups$Reader", name := "byteAt", desc := "(I)I" } : Jvm.MethodName)) ∈ lw_all := lw_g (lw_at lw_m4 146 rfl) rfl
theorem q974 : (Jvm.Cond.code ({ cls := "CardCups$Reader", name := "byteAt", desc := "(I)I" } : Jvm.MethodName) prog_16_method_2_code (2 : Nat) (Option.some Jvm.ClassFile.FieldType.int)) ∈ lw_all := lw_g (lw_at lw_m4 147 rfl) rfl
theorem q980 : (Jvm.Cond.instanceMethod ({ cls := "CardCups$Reader", name := "place", desc := "()I" } : Jvm.MethodName)) ∈ lw_all := lw_g (lw_at lw_m4 153 rfl) rfl
theorem q981 : (Jvm.Cond.selects "CardCups$Reader" ({ cls := "CardCups$Reader", name := "place", desc := "()I" } : Jvm.MethodName) ({ cls := "CardCups$Reader", name := "place", desc := "()I" } : Jvm.MethodName)) ∈ lw_all := lw_g (lw_at lw_m4 154 rfl) rfl
theorem q982 : (Jvm.Cond.code ({ cls := "CardCups$Reader", name := "place", desc := "()I" } : Jvm.MethodName) prog_16_method_4_code (1 : Nat) (Option.some Jvm.ClassFile.FieldType.int)) ∈ lw_all := lw_g (lw_at lw_m4 155 rfl) rfl
theorem q983 : (Jvm.Cond.methodLink "CardCups$Reader" (26 : Nat) ({ cls := "CardCups$Reader", name := "now", desc := "()I" } : Jvm.MethodName)) ∈ lw_all := lw_g (lw_at lw_m4 156 rfl) rfl
theorem q985 : (Jvm.Cond.instanceMethod ({ cls := "CardCups$Reader", name := "which", desc := "([Ljava/lang/String;)I" } : Jvm.MethodName)) ∈ lw_all := lw_g (lw_at lw_m4 158 rfl) rfl
theorem q986 : (Jvm.Cond.selects "CardCups$Reader" ({ cls := "CardCups$Reader", name := "which", desc := "([Ljava/lang/String;)I" } : Jvm.MethodName) ({ cls := "CardCups$Reader", name := "which", desc := "([Ljava/lang/String;)I" } : Jvm.MethodName)) ∈ lw_all := lw_g (lw_at lw_m4 159 rfl) rfl
theorem q987 : (Jvm.Cond.code ({ cls := "CardCups$Reader", name := "which", desc := "([Ljava/lang/String;)I" } : Jvm.MethodName) prog_16_method_9_code (3 : Nat) (Option.some Jvm.ClassFile.FieldType.int)) ∈ lw_all := lw_g (lw_at lw_m4 160 rfl) rfl
theorem q988 : (Jvm.Cond.methodLink "CardCups$Reader" (46 : Nat) ({ cls := "CardCups$Reader", name := "isWord", desc := "(Ljava/lang/String;)Z" } : Jvm.MethodName)) ∈ lw_all := lw_g (lw_at lw_m4 161 rfl) rfl
theorem q989 : (Jvm.Cond.instanceMethod ({ cls := "CardCups$Reader", name := "isWord", desc := "(Ljava/lang/String;)Z" } : Jvm.MethodName)) ∈ lw_all := lw_g (lw_at lw_m4 162 rfl) rfl
theorem q990 : (Jvm.Cond.selects "CardCups$Reader" ({ cls := "CardCups$Reader", name := "isWord", desc := "(Ljava/lang/String;)Z" } : Jvm.MethodName) ({ cls := "CardCups$Reader", name := "isWord", desc := "(Ljava/lang/String;)Z" } : Jvm.MethodName)) ∈ lw_all := lw_g (lw_at lw_m4 163 rfl) rfl
theorem q991 : (Jvm.Cond.code ({ cls := "CardCups$Reader", name := "isWord", desc := "(Ljava/lang/String;)Z" } : Jvm.MethodName) prog_16_method_7_code (5 : Nat) (Option.some Jvm.ClassFile.FieldType.boolean)) ∈ lw_all := lw_g (lw_at lw_m4 164 rfl) rfl
theorem q992 : (Jvm.Cond.methodLink "CardCups$Reader" (30 : Nat) ({ cls := "CardCups$Reader", name := "place", desc := "()I" } : Jvm.MethodName)) ∈ lw_all := lw_g (lw_at lw_m4 165 rfl) rfl
theorem q993 : (Jvm.Cond.methodLink "CardCups$Reader" (33 : Nat) ({ cls := "CardCups$Reader", name := "isSmall", desc := "(I)Z" } : Jvm.MethodName)) ∈ lw_all := lw_g (lw_at lw_m4 166 rfl) rfl
theorem q994 : (Jvm.Cond.static ({ cls := "CardCups$Reader", name := "isSmall", desc := "(I)Z" } : Jvm.MethodName)) ∈ lw_all := lw_g (lw_at lw_m4 167 rfl) rfl
theorem q995 : (Jvm.Cond.code ({ cls := "CardCups$Reader", name := "isSmall", desc := "(I)Z" } : Jvm.MethodName) prog_16_method_5_code (1 : Nat) (Option.some Jvm.ClassFile.FieldType.boolean)) ∈ lw_all := lw_g (lw_at lw_m4 168 rfl) rfl
theorem q996 : (Jvm.Cond.methodLink "CardCups$Reader" (37 : Nat) ({ cls := "java/lang/String", name := "length", desc := "()I" } : Jvm.MethodName)) ∈ lw_all := lw_g (lw_at lw_m4 169 rfl) rfl
theorem q1006 : (Jvm.Cond.methodLink "CardCups$Reader" (42 : Nat) ({ cls := "java/lang/String", name := "charAt", desc := "(I)C" } : Jvm.MethodName)) ∈ lw_all := lw_g (lw_at lw_m4 179 rfl) rfl
theorem q1073 : (Jvm.Cond.instanceMethod ({ cls := "CardCups$Reader", name := "skipsWord", desc := "()V" } : Jvm.MethodName)) ∈ lw_all := lw_g (lw_at lw_m5 6 rfl) rfl
theorem q1074 : (Jvm.Cond.selects "CardCups$Reader" ({ cls := "CardCups$Reader", name := "skipsWord", desc := "()V" } : Jvm.MethodName) ({ cls := "CardCups$Reader", name := "skipsWord", desc := "()V" } : Jvm.MethodName)) ∈ lw_all := lw_g (lw_at lw_m5 7 rfl) rfl
theorem q1075 : (Jvm.Cond.code ({ cls := "CardCups$Reader", name := "skipsWord", desc := "()V" } : Jvm.MethodName) prog_16_method_10_code (1 : Nat) (Option.none : Option Jvm.ClassFile.FieldType)) ∈ lw_all := lw_g (lw_at lw_m5 8 rfl) rfl
theorem q1077 : (Jvm.Cond.instanceMethod ({ cls := "CardCups$Reader", name := "number", desc := "(II)I" } : Jvm.MethodName)) ∈ lw_all := lw_g (lw_at lw_m5 10 rfl) rfl
theorem q1078 : (Jvm.Cond.selects "CardCups$Reader" ({ cls := "CardCups$Reader", name := "number", desc := "(II)I" } : Jvm.MethodName) ({ cls := "CardCups$Reader", name := "number", desc := "(II)I" } : Jvm.MethodName)) ∈ lw_all := lw_g (lw_at lw_m5 11 rfl) rfl
theorem q1079 : (Jvm.Cond.code ({ cls := "CardCups$Reader", name := "number", desc := "(II)I" } : Jvm.MethodName) prog_16_method_11_code (5 : Nat) (Option.some Jvm.ClassFile.FieldType.int)) ∈ lw_all := lw_g (lw_at lw_m5 12 rfl) rfl
theorem q1080 : (Jvm.Cond.methodLink "CardCups$Reader" (50 : Nat) ({ cls := "CardCups$Reader", name := "isDigit", desc := "(I)Z" } : Jvm.MethodName)) ∈ lw_all := lw_g (lw_at lw_m5 13 rfl) rfl
theorem q1081 : (Jvm.Cond.static ({ cls := "CardCups$Reader", name := "isDigit", desc := "(I)Z" } : Jvm.MethodName)) ∈ lw_all := lw_g (lw_at lw_m5 14 rfl) rfl
theorem q1082 : (Jvm.Cond.code ({ cls := "CardCups$Reader", name := "isDigit", desc := "(I)Z" } : Jvm.MethodName) prog_16_method_6_code (1 : Nat) (Option.some Jvm.ClassFile.FieldType.boolean)) ∈ lw_all := lw_g (lw_at lw_m5 15 rfl) rfl
theorem q1083 : (Jvm.Cond.classLink "CardCups$Reader" (53 : Nat) "CardCups$Wrong") ∈ lw_all := lw_g (lw_at lw_m5 16 rfl) rfl
theorem q1084 : (Jvm.Cond.methodLink "CardCups$Reader" (55 : Nat) ({ cls := "CardCups$Wrong", name := "<init>", desc := "(II)V" } : Jvm.MethodName)) ∈ lw_all := lw_g (lw_at lw_m5 17 rfl) rfl
theorem q1085 : (Jvm.Cond.constant "CardCups$Reader" (58 : Nat) (1000000 : Int32)) ∈ lw_all := lw_g (lw_at lw_m5 18 rfl) rfl
theorem q1086 : (Jvm.Cond.methodLink "CardCups$Reader" (59 : Nat) ({ cls := "java/lang/Math", name := "min", desc := "(II)I" } : Jvm.MethodName)) ∈ lw_all := lw_g (lw_at lw_m5 19 rfl) rfl
theorem q1092 : (Jvm.Cond.instanceMethod ({ cls := "CardCups$Reader", name := "sign", desc := "(C)V" } : Jvm.MethodName)) ∈ lw_all := lw_g (lw_at lw_m5 25 rfl) rfl
theorem q1093 : (Jvm.Cond.selects "CardCups$Reader" ({ cls := "CardCups$Reader", name := "sign", desc := "(C)V" } : Jvm.MethodName) ({ cls := "CardCups$Reader", name := "sign", desc := "(C)V" } : Jvm.MethodName)) ∈ lw_all := lw_g (lw_at lw_m5 26 rfl) rfl
theorem q1094 : (Jvm.Cond.code ({ cls := "CardCups$Reader", name := "sign", desc := "(C)V" } : Jvm.MethodName) prog_16_method_12_code (2 : Nat) (Option.none : Option Jvm.ClassFile.FieldType)) ∈ lw_all := lw_g (lw_at lw_m5 27 rfl) rfl
theorem q1197 : (Jvm.Cond.instanceMethod ({ cls := "CardCups$Reader", name := "takes", desc := "(Ljava/lang/String;)Z" } : Jvm.MethodName)) ∈ lw_all := lw_g (lw_at lw_m5 130 rfl) rfl
theorem q1198 : (Jvm.Cond.selects "CardCups$Reader" ({ cls := "CardCups$Reader", name := "takes", desc := "(Ljava/lang/String;)Z" } : Jvm.MethodName) ({ cls := "CardCups$Reader", name := "takes", desc := "(Ljava/lang/String;)Z" } : Jvm.MethodName)) ∈ lw_all := lw_g (lw_at lw_m5 131 rfl) rfl
theorem q1199 : (Jvm.Cond.code ({ cls := "CardCups$Reader", name := "takes", desc := "(Ljava/lang/String;)Z" } : Jvm.MethodName) prog_16_method_8_code (3 : Nat) (Option.some Jvm.ClassFile.FieldType.boolean)) ∈ lw_all := lw_g (lw_at lw_m5 132 rfl) rfl
theorem q1217 : (Jvm.Cond.instanceMethod ({ cls := "CardCups$Reader", name := "opens", desc := "()V" } : Jvm.MethodName)) ∈ lw_all := lw_g (lw_at lw_m5 150 rfl) rfl
theorem q1218 : (Jvm.Cond.selects "CardCups$Reader" ({ cls := "CardCups$Reader", name := "opens", desc := "()V" } : Jvm.MethodName) ({ cls := "CardCups$Reader", name := "opens", desc := "()V" } : Jvm.MethodName)) ∈ lw_all := lw_g (lw_at lw_m5 151 rfl) rfl
theorem q1219 : (Jvm.Cond.code ({ cls := "CardCups$Reader", name := "opens", desc := "()V" } : Jvm.MethodName) prog_16_method_14_code (1 : Nat) (Option.none : Option Jvm.ClassFile.FieldType)) ∈ lw_all := lw_g (lw_at lw_m5 152 rfl) rfl
theorem q1231 : (Jvm.Cond.instanceMethod ({ cls := "CardCups$Reader", name := "closes", desc := "()V" } : Jvm.MethodName)) ∈ lw_all := lw_g (lw_at lw_m5 164 rfl) rfl
theorem q1232 : (Jvm.Cond.selects "CardCups$Reader" ({ cls := "CardCups$Reader", name := "closes", desc := "()V" } : Jvm.MethodName) ({ cls := "CardCups$Reader", name := "closes", desc := "()V" } : Jvm.MethodName)) ∈ lw_all := lw_g (lw_at lw_m5 165 rfl) rfl
theorem q1233 : (Jvm.Cond.code ({ cls := "CardCups$Reader", name := "closes", desc := "()V" } : Jvm.MethodName) prog_16_method_15_code (1 : Nat) (Option.none : Option Jvm.ClassFile.FieldType)) ∈ lw_all := lw_g (lw_at lw_m5 166 rfl) rfl
theorem q1268 : (Jvm.Cond.instanceMethod ({ cls := "CardCups$Reader", name := "takesSign", desc := "(C)Z" } : Jvm.MethodName)) ∈ lw_all := lw_g (lw_at lw_m5 201 rfl) rfl
theorem q1269 : (Jvm.Cond.selects "CardCups$Reader" ({ cls := "CardCups$Reader", name := "takesSign", desc := "(C)Z" } : Jvm.MethodName) ({ cls := "CardCups$Reader", name := "takesSign", desc := "(C)Z" } : Jvm.MethodName)) ∈ lw_all := lw_g (lw_at lw_m5 202 rfl) rfl
theorem q1270 : (Jvm.Cond.code ({ cls := "CardCups$Reader", name := "takesSign", desc := "(C)Z" } : Jvm.MethodName) prog_16_method_13_code (3 : Nat) (Option.some Jvm.ClassFile.FieldType.boolean)) ∈ lw_all := lw_g (lw_at lw_m5 203 rfl) rfl
theorem q2492 : (Jvm.Cond.castable "CardCups$Reader" "java/lang/Object") ∈ lw_tbl := lw_at lw_m10 225 rfl
theorem in_X11 : ∀ w ∈ wsX110, w ∈ lw_all := lw_in wsX110 [917, 919, 921, 923] (by decide +kernel) (by decide +kernel)
/-! CardCups$Wrong -/
set_option maxRecDepth 100000
def RX12 : String := "CardCups$Wrong"
def TX12 : u_T := fun k => match k with
  | 0 => ("java/lang/Throwable", "cause", "Ljava/lang/Throwable;", false)
  | 1 => ("java/lang/Throwable", "stackTrace", "[Ljava/lang/StackTraceElement;", false)
  | 2 => ("java/lang/Throwable", "suppressedExceptions", "Ljava/util/List;", false)
  | 3 => ("java/lang/Throwable", "detailMessage", "Ljava/lang/String;", false)
  | 4 => ("java/lang/Throwable", "backtrace", "Ljava/lang/Object;", false)
  | 5 => ("java/lang/Throwable", "depth", "I", false)
  | 6 => ("CardCups$Wrong", "why", "I", true)
  | _ => ("CardCups$Wrong", "where", "I", true)
def tyX12 : Nat → FieldType := fun k => match k with
  | 0 => .object "java/lang/Throwable"
  | 1 => .array (.object "java/lang/StackTraceElement")
  | 2 => .object "java/util/List"
  | 3 => .object "java/lang/String"
  | 4 => .object "java/lang/Object"
  | 5 => .int
  | 6 => .int
  | _ => .int
abbrev wsX120 : List Cond := u_ws RX12 TX12 8
theorem nmX12 : ∀ a, a < 8 → ∀ b, b < 8 → a ≠ b → (TX12 a).2.1 ≠ (TX12 b).2.1 := by decide +kernel
theorem tyX12_ok : ∀ k, k < 8 → parseFieldDescriptor (TX12 k).2.2.1 = some (tyX12 k) := by decide +kernel
abbrev cX12_init : ByteArray := prog_26_method_1_code
def yX12_init : MethodName := ⟨RX12, "<init>", "(II)V"⟩
def dkwX12_init_0 : List UInt8 := [42, 1, 1, 3, 3, 183, 0, 1, 42, 27, 181, 0, 7, 42, 28, 181, 0, 13, 177]
abbrev dktX12_init_0 : List UInt8 := dkwX12_init_0 ++ []
theorem dksX12_init_0 : cX12_init.data.toList.drop 0 = dktX12_init_0 := by decide +kernel
theorem dX12_init_0 : decode cX12_init 0 = .ok (.aload_n 0, 1) := dk_42 (dk_at dksX12_init_0 0 rfl rfl)
theorem dX12_init_1 : decode cX12_init 1 = .ok (.aconst_null, 1) := dk_1 (dk_at dksX12_init_0 1 rfl rfl)
theorem dX12_init_2 : decode cX12_init 2 = .ok (.aconst_null, 1) := dk_1 (dk_at dksX12_init_0 2 rfl rfl)
theorem dX12_init_3 : decode cX12_init 3 = .ok (.iconst 0, 1) := dk_3 (dk_at dksX12_init_0 3 rfl rfl)
theorem dX12_init_4 : decode cX12_init 4 = .ok (.iconst 0, 1) := dk_3 (dk_at dksX12_init_0 4 rfl rfl)
theorem dX12_init_5 : decode cX12_init 5 = .ok (.invokespecial 1, 3) := dk_183 0 1 (dk_at dksX12_init_0 5 rfl rfl)
theorem dX12_init_8 : decode cX12_init 8 = .ok (.aload_n 0, 1) := dk_42 (dk_at dksX12_init_0 8 rfl rfl)
theorem dX12_init_9 : decode cX12_init 9 = .ok (.iload_n 1, 1) := dk_27 (dk_at dksX12_init_0 9 rfl rfl)
theorem dX12_init_10 : decode cX12_init 10 = .ok (.putfield 7, 3) := dk_181 0 7 (dk_at dksX12_init_0 10 rfl rfl)
theorem dX12_init_13 : decode cX12_init 13 = .ok (.aload_n 0, 1) := dk_42 (dk_at dksX12_init_0 13 rfl rfl)
theorem dX12_init_14 : decode cX12_init 14 = .ok (.iload_n 2, 1) := dk_28 (dk_at dksX12_init_0 14 rfl rfl)
theorem dX12_init_15 : decode cX12_init 15 = .ok (.putfield 13, 3) := dk_181 0 13 (dk_at dksX12_init_0 15 rfl rfl)
theorem dX12_init_18 : decode cX12_init 18 = .ok (.return_, 1) := dk_177 (dk_at dksX12_init_0 18 rfl rfl)
theorem q127 : (Jvm.Cond.initialized "CardCups$Wrong") ∈ lw_all := lw_g (lw_at lw_m1 20 rfl) rfl
theorem q870 : (Jvm.Cond.selects "CardCups$Wrong" ({ cls := "java/lang/Throwable", name := "fillInStackTrace", desc := "()Ljava/lang/Throwable;" } : Jvm.MethodName) ({ cls := "java/lang/Throwable", name := "fillInStackTrace", desc := "()Ljava/lang/Throwable;" } : Jvm.MethodName)) ∈ lw_all := lw_g (lw_at lw_m4 43 rfl) rfl
theorem q1045 : (Jvm.Cond.instantiable "CardCups$Wrong" (8 : Nat)) ∈ lw_all := lw_g (lw_at lw_m4 218 rfl) rfl
theorem q1046 : (Jvm.Cond.castable "CardCups$Wrong" "CardCups$Wrong") ∈ lw_tbl := lw_at lw_m4 219 rfl
theorem q1047 : (Jvm.Cond.selects "CardCups$Wrong" ({ cls := "java/lang/Throwable", name := "fillInStackTrace", desc := "(I)Ljava/lang/Throwable;" } : Jvm.MethodName) ({ cls := "java/lang/Throwable", name := "fillInStackTrace", desc := "(I)Ljava/lang/Throwable;" } : Jvm.MethodName)) ∈ lw_all := lw_g (lw_at lw_m4 220 rfl) rfl
theorem q1048 : (Jvm.Cond.lays "CardCups$Wrong" "java/lang/Throwable" "cause" "Ljava/lang/Throwable;") ∈ lw_all := lw_g (lw_at lw_m4 221 rfl) rfl
theorem q1049 : (Jvm.Cond.lays "CardCups$Wrong" "java/lang/Throwable" "stackTrace" "[Ljava/lang/StackTraceElement;") ∈ lw_all := lw_g (lw_at lw_m4 222 rfl) rfl
theorem q1050 : (Jvm.Cond.lays "CardCups$Wrong" "java/lang/Throwable" "suppressedExceptions" "Ljava/util/List;") ∈ lw_all := lw_g (lw_at lw_m4 223 rfl) rfl
theorem q1051 : (Jvm.Cond.lays "CardCups$Wrong" "java/lang/Throwable" "detailMessage" "Ljava/lang/String;") ∈ lw_all := lw_g (lw_at lw_m4 224 rfl) rfl
theorem q1052 : (Jvm.Cond.lays "CardCups$Wrong" "java/lang/Throwable" "backtrace" "Ljava/lang/Object;") ∈ lw_all := lw_g (lw_at lw_m4 225 rfl) rfl
theorem q1054 : (Jvm.Cond.instanceMethod ({ cls := "CardCups$Wrong", name := "<init>", desc := "(II)V" } : Jvm.MethodName)) ∈ lw_all := lw_g (lw_at lw_m4 227 rfl) rfl
theorem q1055 : (Jvm.Cond.code ({ cls := "CardCups$Wrong", name := "<init>", desc := "(II)V" } : Jvm.MethodName) prog_26_method_1_code (3 : Nat) (Option.none : Option Jvm.ClassFile.FieldType)) ∈ lw_all := lw_g (lw_at lw_m4 228 rfl) rfl
theorem q1056 : (Jvm.Cond.methodLink "CardCups$Wrong" (1 : Nat) ({ cls := "java/lang/Exception", name := "<init>", desc := "(Ljava/lang/String;Ljava/lang/Throwable;ZZ)V" } : Jvm.MethodName)) ∈ lw_all := lw_g (lw_at lw_m4 229 rfl) rfl
theorem q1062 : (Jvm.Cond.fieldLink "CardCups$Wrong" (7 : Nat) "CardCups$Wrong" "why" "I") ∈ lw_all := lw_g (lw_at lw_m4 235 rfl) rfl
theorem q1064 : (Jvm.Cond.fieldLink "CardCups$Wrong" (13 : Nat) "CardCups$Wrong" "where" "I") ∈ lw_all := lw_g (lw_at lw_m4 237 rfl) rfl
theorem q1066 : (Jvm.Cond.laysFinal "CardCups$Wrong" "CardCups$Wrong" "why" "I") ∈ lw_all := lw_g (lw_at lw_m4 239 rfl) rfl
theorem q1067 : (Jvm.Cond.soleField "CardCups$Wrong" "why") ∈ lw_all := lw_g (lw_at lw_m5 0 rfl) rfl
theorem q1068 : (Jvm.Cond.laysFinal "CardCups$Wrong" "CardCups$Wrong" "where" "I") ∈ lw_all := lw_g (lw_at lw_m5 1 rfl) rfl
theorem q1069 : (Jvm.Cond.soleField "CardCups$Wrong" "where") ∈ lw_all := lw_g (lw_at lw_m5 2 rfl) rfl
theorem q1070 : (Jvm.Cond.lays "CardCups$Wrong" "java/lang/Throwable" "depth" "I") ∈ lw_all := lw_g (lw_at lw_m5 3 rfl) rfl
theorem q1071 : (Jvm.Cond.superclass "CardCups$Wrong" "java/lang/Exception") ∈ lw_all := lw_g (lw_at lw_m5 4 rfl) rfl
theorem q2493 : (Jvm.Cond.castable "CardCups$Wrong" "java/lang/Object") ∈ lw_tbl := lw_at lw_m10 226 rfl
theorem in_X12 : ∀ w ∈ wsX120, w ∈ lw_all := lw_in wsX120 [1048, 1049, 1050, 1051, 1052, 1070, 1066, 1068] (by decide +kernel) (by decide +kernel)
/-! CardCups$HabitReader -/
set_option maxRecDepth 100000
def RX13 : String := "CardCups$HabitReader"
def TX13 : u_T := fun k => match k with
  | 0 => ("CardCups$HabitReader", "acts", "[Ljava/lang/String;", true)
  | 1 => ("CardCups$HabitReader", "known", "[Ljava/lang/String;", true)
  | _ => ("CardCups$HabitReader", "in", "LCardCups$Reader;", true)
def tyX13 : Nat → FieldType := fun k => match k with
  | 0 => .array (.object "java/lang/String")
  | 1 => .array (.object "java/lang/String")
  | _ => .object "CardCups$Reader"
abbrev wsX130 : List Cond := u_ws RX13 TX13 3
theorem nmX13 : ∀ a, a < 3 → ∀ b, b < 3 → a ≠ b → (TX13 a).2.1 ≠ (TX13 b).2.1 := by decide +kernel
theorem tyX13_ok : ∀ k, k < 3 → parseFieldDescriptor (TX13 k).2.2.1 = some (tyX13 k) := by decide +kernel
abbrev cX13_init : ByteArray := prog_8_method_1_code
def yX13_init : MethodName := ⟨RX13, "<init>", "(LCardCups$Reader;)V"⟩
def dkwX13_init_4 : List UInt8 := [18, 45, 83, 89, 16, 7, 18, 47, 83, 181, 0, 49, 42, 43, 181, 0, 52, 177]
abbrev dktX13_init_4 : List UInt8 := dkwX13_init_4 ++ []
def dkwX13_init_3 : List UInt8 := [89, 5, 18, 37, 83, 89, 6, 18, 39, 83, 89, 7, 18, 41, 83, 89, 8, 18, 43, 83, 89, 16, 6]
abbrev dktX13_init_3 : List UInt8 := dkwX13_init_3 ++ dktX13_init_4
def dkwX13_init_2 : List UInt8 := [16, 7, 18, 25, 83, 181, 0, 27, 42, 16, 8, 189, 0, 9, 89, 3, 18, 33, 83, 89, 4, 18, 35, 83]
abbrev dktX13_init_2 : List UInt8 := dkwX13_init_2 ++ dktX13_init_3
def dkwX13_init_1 : List UInt8 := [83, 89, 6, 18, 17, 83, 89, 7, 18, 19, 83, 89, 8, 18, 21, 83, 89, 16, 6, 18, 23, 83, 89]
abbrev dktX13_init_1 : List UInt8 := dkwX13_init_1 ++ dktX13_init_2
def dkwX13_init_0 : List UInt8 := [42, 183, 0, 3, 42, 16, 8, 189, 0, 9, 89, 3, 18, 11, 83, 89, 4, 18, 13, 83, 89, 5, 18, 15]
abbrev dktX13_init_0 : List UInt8 := dkwX13_init_0 ++ dktX13_init_1
theorem dksX13_init_0 : cX13_init.data.toList.drop 0 = dktX13_init_0 := by decide +kernel
theorem dksX13_init_1 : cX13_init.data.toList.drop 24 = dktX13_init_1 := dk_seg dksX13_init_0 24 rfl rfl
theorem dksX13_init_2 : cX13_init.data.toList.drop 47 = dktX13_init_2 := dk_seg dksX13_init_1 23 rfl rfl
theorem dksX13_init_3 : cX13_init.data.toList.drop 71 = dktX13_init_3 := dk_seg dksX13_init_2 24 rfl rfl
theorem dksX13_init_4 : cX13_init.data.toList.drop 94 = dktX13_init_4 := dk_seg dksX13_init_3 23 rfl rfl
theorem dX13_init_0 : decode cX13_init 0 = .ok (.aload_n 0, 1) := dk_42 (dk_at dksX13_init_0 0 rfl rfl)
theorem dX13_init_1 : decode cX13_init 1 = .ok (.invokespecial 3, 3) := dk_183 0 3 (dk_at dksX13_init_0 1 rfl rfl)
theorem dX13_init_4 : decode cX13_init 4 = .ok (.aload_n 0, 1) := dk_42 (dk_at dksX13_init_0 4 rfl rfl)
theorem dX13_init_5 : decode cX13_init 5 = .ok (.bipush 8, 2) := dk_16 8 (dk_at dksX13_init_0 5 rfl rfl)
theorem dX13_init_7 : decode cX13_init 7 = .ok (.anewarray 9, 3) := dk_189 0 9 (dk_at dksX13_init_0 7 rfl rfl)
theorem dX13_init_10 : decode cX13_init 10 = .ok (.dup, 1) := dk_89 (dk_at dksX13_init_0 10 rfl rfl)
theorem dX13_init_11 : decode cX13_init 11 = .ok (.iconst 0, 1) := dk_3 (dk_at dksX13_init_0 11 rfl rfl)
theorem dX13_init_12 : decode cX13_init 12 = .ok (.ldc 11, 2) := dk_18 11 (dk_at dksX13_init_0 12 rfl rfl)
theorem dX13_init_14 : decode cX13_init 14 = .ok (.aastore, 1) := dk_83 (dk_at dksX13_init_0 14 rfl rfl)
theorem dX13_init_15 : decode cX13_init 15 = .ok (.dup, 1) := dk_89 (dk_at dksX13_init_0 15 rfl rfl)
theorem dX13_init_16 : decode cX13_init 16 = .ok (.iconst 1, 1) := dk_4 (dk_at dksX13_init_0 16 rfl rfl)
theorem dX13_init_17 : decode cX13_init 17 = .ok (.ldc 13, 2) := dk_18 13 (dk_at dksX13_init_0 17 rfl rfl)
theorem dX13_init_19 : decode cX13_init 19 = .ok (.aastore, 1) := dk_83 (dk_at dksX13_init_0 19 rfl rfl)
theorem dX13_init_20 : decode cX13_init 20 = .ok (.dup, 1) := dk_89 (dk_at dksX13_init_0 20 rfl rfl)
theorem dX13_init_21 : decode cX13_init 21 = .ok (.iconst 2, 1) := dk_5 (dk_at dksX13_init_0 21 rfl rfl)
theorem dX13_init_22 : decode cX13_init 22 = .ok (.ldc 15, 2) := dk_18 15 (dk_at dksX13_init_0 22 rfl rfl)
theorem dX13_init_24 : decode cX13_init 24 = .ok (.aastore, 1) := dk_83 (dk_at dksX13_init_1 0 rfl rfl)
theorem dX13_init_25 : decode cX13_init 25 = .ok (.dup, 1) := dk_89 (dk_at dksX13_init_1 1 rfl rfl)
theorem dX13_init_26 : decode cX13_init 26 = .ok (.iconst 3, 1) := dk_6 (dk_at dksX13_init_1 2 rfl rfl)
theorem dX13_init_27 : decode cX13_init 27 = .ok (.ldc 17, 2) := dk_18 17 (dk_at dksX13_init_1 3 rfl rfl)
theorem dX13_init_29 : decode cX13_init 29 = .ok (.aastore, 1) := dk_83 (dk_at dksX13_init_1 5 rfl rfl)
theorem dX13_init_30 : decode cX13_init 30 = .ok (.dup, 1) := dk_89 (dk_at dksX13_init_1 6 rfl rfl)
theorem dX13_init_31 : decode cX13_init 31 = .ok (.iconst 4, 1) := dk_7 (dk_at dksX13_init_1 7 rfl rfl)
theorem dX13_init_32 : decode cX13_init 32 = .ok (.ldc 19, 2) := dk_18 19 (dk_at dksX13_init_1 8 rfl rfl)
theorem dX13_init_34 : decode cX13_init 34 = .ok (.aastore, 1) := dk_83 (dk_at dksX13_init_1 10 rfl rfl)
theorem dX13_init_35 : decode cX13_init 35 = .ok (.dup, 1) := dk_89 (dk_at dksX13_init_1 11 rfl rfl)
theorem dX13_init_36 : decode cX13_init 36 = .ok (.iconst 5, 1) := dk_8 (dk_at dksX13_init_1 12 rfl rfl)
theorem dX13_init_37 : decode cX13_init 37 = .ok (.ldc 21, 2) := dk_18 21 (dk_at dksX13_init_1 13 rfl rfl)
theorem dX13_init_39 : decode cX13_init 39 = .ok (.aastore, 1) := dk_83 (dk_at dksX13_init_1 15 rfl rfl)
theorem dX13_init_40 : decode cX13_init 40 = .ok (.dup, 1) := dk_89 (dk_at dksX13_init_1 16 rfl rfl)
theorem dX13_init_41 : decode cX13_init 41 = .ok (.bipush 6, 2) := dk_16 6 (dk_at dksX13_init_1 17 rfl rfl)
theorem dX13_init_43 : decode cX13_init 43 = .ok (.ldc 23, 2) := dk_18 23 (dk_at dksX13_init_1 19 rfl rfl)
theorem dX13_init_45 : decode cX13_init 45 = .ok (.aastore, 1) := dk_83 (dk_at dksX13_init_1 21 rfl rfl)
theorem dX13_init_46 : decode cX13_init 46 = .ok (.dup, 1) := dk_89 (dk_at dksX13_init_1 22 rfl rfl)
theorem dX13_init_47 : decode cX13_init 47 = .ok (.bipush 7, 2) := dk_16 7 (dk_at dksX13_init_2 0 rfl rfl)
theorem dX13_init_49 : decode cX13_init 49 = .ok (.ldc 25, 2) := dk_18 25 (dk_at dksX13_init_2 2 rfl rfl)
theorem dX13_init_51 : decode cX13_init 51 = .ok (.aastore, 1) := dk_83 (dk_at dksX13_init_2 4 rfl rfl)
theorem dX13_init_52 : decode cX13_init 52 = .ok (.putfield 27, 3) := dk_181 0 27 (dk_at dksX13_init_2 5 rfl rfl)
theorem dX13_init_55 : decode cX13_init 55 = .ok (.aload_n 0, 1) := dk_42 (dk_at dksX13_init_2 8 rfl rfl)
theorem dX13_init_56 : decode cX13_init 56 = .ok (.bipush 8, 2) := dk_16 8 (dk_at dksX13_init_2 9 rfl rfl)
theorem dX13_init_58 : decode cX13_init 58 = .ok (.anewarray 9, 3) := dk_189 0 9 (dk_at dksX13_init_2 11 rfl rfl)
theorem dX13_init_61 : decode cX13_init 61 = .ok (.dup, 1) := dk_89 (dk_at dksX13_init_2 14 rfl rfl)
theorem dX13_init_62 : decode cX13_init 62 = .ok (.iconst 0, 1) := dk_3 (dk_at dksX13_init_2 15 rfl rfl)
theorem dX13_init_63 : decode cX13_init 63 = .ok (.ldc 33, 2) := dk_18 33 (dk_at dksX13_init_2 16 rfl rfl)
theorem dX13_init_65 : decode cX13_init 65 = .ok (.aastore, 1) := dk_83 (dk_at dksX13_init_2 18 rfl rfl)
theorem dX13_init_66 : decode cX13_init 66 = .ok (.dup, 1) := dk_89 (dk_at dksX13_init_2 19 rfl rfl)
theorem dX13_init_67 : decode cX13_init 67 = .ok (.iconst 1, 1) := dk_4 (dk_at dksX13_init_2 20 rfl rfl)
theorem dX13_init_68 : decode cX13_init 68 = .ok (.ldc 35, 2) := dk_18 35 (dk_at dksX13_init_2 21 rfl rfl)
theorem dX13_init_70 : decode cX13_init 70 = .ok (.aastore, 1) := dk_83 (dk_at dksX13_init_2 23 rfl rfl)
theorem dX13_init_71 : decode cX13_init 71 = .ok (.dup, 1) := dk_89 (dk_at dksX13_init_3 0 rfl rfl)
theorem dX13_init_72 : decode cX13_init 72 = .ok (.iconst 2, 1) := dk_5 (dk_at dksX13_init_3 1 rfl rfl)
theorem dX13_init_73 : decode cX13_init 73 = .ok (.ldc 37, 2) := dk_18 37 (dk_at dksX13_init_3 2 rfl rfl)
theorem dX13_init_75 : decode cX13_init 75 = .ok (.aastore, 1) := dk_83 (dk_at dksX13_init_3 4 rfl rfl)
theorem dX13_init_76 : decode cX13_init 76 = .ok (.dup, 1) := dk_89 (dk_at dksX13_init_3 5 rfl rfl)
theorem dX13_init_77 : decode cX13_init 77 = .ok (.iconst 3, 1) := dk_6 (dk_at dksX13_init_3 6 rfl rfl)
theorem dX13_init_78 : decode cX13_init 78 = .ok (.ldc 39, 2) := dk_18 39 (dk_at dksX13_init_3 7 rfl rfl)
theorem dX13_init_80 : decode cX13_init 80 = .ok (.aastore, 1) := dk_83 (dk_at dksX13_init_3 9 rfl rfl)
theorem dX13_init_81 : decode cX13_init 81 = .ok (.dup, 1) := dk_89 (dk_at dksX13_init_3 10 rfl rfl)
theorem dX13_init_82 : decode cX13_init 82 = .ok (.iconst 4, 1) := dk_7 (dk_at dksX13_init_3 11 rfl rfl)
theorem dX13_init_83 : decode cX13_init 83 = .ok (.ldc 41, 2) := dk_18 41 (dk_at dksX13_init_3 12 rfl rfl)
theorem dX13_init_85 : decode cX13_init 85 = .ok (.aastore, 1) := dk_83 (dk_at dksX13_init_3 14 rfl rfl)
theorem dX13_init_86 : decode cX13_init 86 = .ok (.dup, 1) := dk_89 (dk_at dksX13_init_3 15 rfl rfl)
theorem dX13_init_87 : decode cX13_init 87 = .ok (.iconst 5, 1) := dk_8 (dk_at dksX13_init_3 16 rfl rfl)
theorem dX13_init_88 : decode cX13_init 88 = .ok (.ldc 43, 2) := dk_18 43 (dk_at dksX13_init_3 17 rfl rfl)
theorem dX13_init_90 : decode cX13_init 90 = .ok (.aastore, 1) := dk_83 (dk_at dksX13_init_3 19 rfl rfl)
theorem dX13_init_91 : decode cX13_init 91 = .ok (.dup, 1) := dk_89 (dk_at dksX13_init_3 20 rfl rfl)
theorem dX13_init_92 : decode cX13_init 92 = .ok (.bipush 6, 2) := dk_16 6 (dk_at dksX13_init_3 21 rfl rfl)
theorem dX13_init_94 : decode cX13_init 94 = .ok (.ldc 45, 2) := dk_18 45 (dk_at dksX13_init_4 0 rfl rfl)
theorem dX13_init_96 : decode cX13_init 96 = .ok (.aastore, 1) := dk_83 (dk_at dksX13_init_4 2 rfl rfl)
theorem dX13_init_97 : decode cX13_init 97 = .ok (.dup, 1) := dk_89 (dk_at dksX13_init_4 3 rfl rfl)
theorem dX13_init_98 : decode cX13_init 98 = .ok (.bipush 7, 2) := dk_16 7 (dk_at dksX13_init_4 4 rfl rfl)
theorem dX13_init_100 : decode cX13_init 100 = .ok (.ldc 47, 2) := dk_18 47 (dk_at dksX13_init_4 6 rfl rfl)
theorem dX13_init_102 : decode cX13_init 102 = .ok (.aastore, 1) := dk_83 (dk_at dksX13_init_4 8 rfl rfl)
theorem dX13_init_103 : decode cX13_init 103 = .ok (.putfield 49, 3) := dk_181 0 49 (dk_at dksX13_init_4 9 rfl rfl)
theorem dX13_init_106 : decode cX13_init 106 = .ok (.aload_n 0, 1) := dk_42 (dk_at dksX13_init_4 12 rfl rfl)
theorem dX13_init_107 : decode cX13_init 107 = .ok (.aload_n 1, 1) := dk_43 (dk_at dksX13_init_4 13 rfl rfl)
theorem dX13_init_108 : decode cX13_init 108 = .ok (.putfield 52, 3) := dk_181 0 52 (dk_at dksX13_init_4 14 rfl rfl)
theorem dX13_init_111 : decode cX13_init 111 = .ok (.return_, 1) := dk_177 (dk_at dksX13_init_4 17 rfl rfl)
abbrev cX13_reads : ByteArray := prog_8_method_2_code
def yX13_reads : MethodName := ⟨RX13, "reads", "()LCardCups$Habit;"⟩
def dkwX13_reads_7 : List UInt8 := [167, 255, 101, 43, 176]
abbrev dktX13_reads_7 : List UInt8 := dkwX13_reads_7 ++ []
def dkwX13_reads_6 : List UInt8 := [180, 0, 103, 43, 89, 180, 0, 76, 90, 4, 96, 181, 0, 76, 29, 21, 4, 25, 5, 184, 0, 107, 83]
abbrev dktX13_reads_6 : List UInt8 := dkwX13_reads_6 ++ dktX13_reads_7
def dkwX13_reads_5 : List UInt8 := [153, 0, 10, 42, 182, 0, 95, 167, 0, 4, 1, 58, 5, 42, 180, 0, 52, 16, 59, 182, 0, 99, 43]
abbrev dktX13_reads_5 : List UInt8 := dkwX13_reads_5 ++ dktX13_reads_6
def dkwX13_reads_4 : List UInt8 := [180, 0, 52, 4, 16, 16, 182, 0, 89, 167, 0, 4, 3, 54, 4, 42, 180, 0, 52, 18, 93, 182, 0, 85]
abbrev dktX13_reads_4 : List UInt8 := dkwX13_reads_4 ++ dktX13_reads_5
def dkwX13_reads_3 : List UInt8 := [183, 0, 73, 191, 42, 180, 0, 52, 182, 0, 80, 42, 180, 0, 52, 18, 83, 182, 0, 85, 153, 0, 16, 42]
abbrev dktX13_reads_3 : List UInt8 := dkwX13_reads_3 ++ dktX13_reads_4
def dkwX13_reads_2 : List UInt8 := [89, 4, 28, 183, 0, 73, 191, 43, 180, 0, 76, 16, 8, 160, 0, 13, 187, 0, 71, 89, 6, 28]
abbrev dktX13_reads_2 : List UInt8 := dkwX13_reads_2 ++ dktX13_reads_3
def dkwX13_reads_1 : List UInt8 := [182, 0, 64, 61, 42, 180, 0, 52, 42, 180, 0, 27, 182, 0, 67, 62, 29, 2, 160, 0, 13, 187, 0, 71]
abbrev dktX13_reads_1 : List UInt8 := dkwX13_reads_1 ++ dktX13_reads_2
def dkwX13_reads_0 : List UInt8 := [187, 0, 55, 89, 183, 0, 57, 76, 42, 180, 0, 52, 182, 0, 58, 2, 159, 0, 150, 42, 180, 0, 52]
abbrev dktX13_reads_0 : List UInt8 := dkwX13_reads_0 ++ dktX13_reads_1
theorem dksX13_reads_0 : cX13_reads.data.toList.drop 0 = dktX13_reads_0 := by decide +kernel
theorem dksX13_reads_1 : cX13_reads.data.toList.drop 23 = dktX13_reads_1 := dk_seg dksX13_reads_0 23 rfl rfl
theorem dksX13_reads_2 : cX13_reads.data.toList.drop 47 = dktX13_reads_2 := dk_seg dksX13_reads_1 24 rfl rfl
theorem dksX13_reads_3 : cX13_reads.data.toList.drop 69 = dktX13_reads_3 := dk_seg dksX13_reads_2 22 rfl rfl
theorem dksX13_reads_4 : cX13_reads.data.toList.drop 93 = dktX13_reads_4 := dk_seg dksX13_reads_3 24 rfl rfl
theorem dksX13_reads_5 : cX13_reads.data.toList.drop 117 = dktX13_reads_5 := dk_seg dksX13_reads_4 24 rfl rfl
theorem dksX13_reads_6 : cX13_reads.data.toList.drop 140 = dktX13_reads_6 := dk_seg dksX13_reads_5 23 rfl rfl
theorem dksX13_reads_7 : cX13_reads.data.toList.drop 163 = dktX13_reads_7 := dk_seg dksX13_reads_6 23 rfl rfl
theorem dX13_reads_0 : decode cX13_reads 0 = .ok (.new 55, 3) := dk_187 0 55 (dk_at dksX13_reads_0 0 rfl rfl)
theorem dX13_reads_3 : decode cX13_reads 3 = .ok (.dup, 1) := dk_89 (dk_at dksX13_reads_0 3 rfl rfl)
theorem dX13_reads_4 : decode cX13_reads 4 = .ok (.invokespecial 57, 3) := dk_183 0 57 (dk_at dksX13_reads_0 4 rfl rfl)
theorem dX13_reads_7 : decode cX13_reads 7 = .ok (.astore_n 1, 1) := dk_76 (dk_at dksX13_reads_0 7 rfl rfl)
theorem dX13_reads_8 : decode cX13_reads 8 = .ok (.aload_n 0, 1) := dk_42 (dk_at dksX13_reads_0 8 rfl rfl)
theorem dX13_reads_9 : decode cX13_reads 9 = .ok (.getfield 52, 3) := dk_180 0 52 (dk_at dksX13_reads_0 9 rfl rfl)
theorem dX13_reads_12 : decode cX13_reads 12 = .ok (.invokevirtual 58, 3) := dk_182 0 58 (dk_at dksX13_reads_0 12 rfl rfl)
theorem dX13_reads_15 : decode cX13_reads 15 = .ok (.iconst (-1), 1) := dk_2 (dk_at dksX13_reads_0 15 rfl rfl)
theorem dX13_reads_16 : decode cX13_reads 16 = .ok (.if_icmp .eq 150, 3) := dk_159 0 150 (dk_at dksX13_reads_0 16 rfl rfl)
theorem dX13_reads_19 : decode cX13_reads 19 = .ok (.aload_n 0, 1) := dk_42 (dk_at dksX13_reads_0 19 rfl rfl)
theorem dX13_reads_20 : decode cX13_reads 20 = .ok (.getfield 52, 3) := dk_180 0 52 (dk_at dksX13_reads_0 20 rfl rfl)
theorem dX13_reads_23 : decode cX13_reads 23 = .ok (.invokevirtual 64, 3) := dk_182 0 64 (dk_at dksX13_reads_1 0 rfl rfl)
theorem dX13_reads_26 : decode cX13_reads 26 = .ok (.istore_n 2, 1) := dk_61 (dk_at dksX13_reads_1 3 rfl rfl)
theorem dX13_reads_27 : decode cX13_reads 27 = .ok (.aload_n 0, 1) := dk_42 (dk_at dksX13_reads_1 4 rfl rfl)
theorem dX13_reads_28 : decode cX13_reads 28 = .ok (.getfield 52, 3) := dk_180 0 52 (dk_at dksX13_reads_1 5 rfl rfl)
theorem dX13_reads_31 : decode cX13_reads 31 = .ok (.aload_n 0, 1) := dk_42 (dk_at dksX13_reads_1 8 rfl rfl)
theorem dX13_reads_32 : decode cX13_reads 32 = .ok (.getfield 27, 3) := dk_180 0 27 (dk_at dksX13_reads_1 9 rfl rfl)
theorem dX13_reads_35 : decode cX13_reads 35 = .ok (.invokevirtual 67, 3) := dk_182 0 67 (dk_at dksX13_reads_1 12 rfl rfl)
theorem dX13_reads_38 : decode cX13_reads 38 = .ok (.istore_n 3, 1) := dk_62 (dk_at dksX13_reads_1 15 rfl rfl)
theorem dX13_reads_39 : decode cX13_reads 39 = .ok (.iload_n 3, 1) := dk_29 (dk_at dksX13_reads_1 16 rfl rfl)
theorem dX13_reads_40 : decode cX13_reads 40 = .ok (.iconst (-1), 1) := dk_2 (dk_at dksX13_reads_1 17 rfl rfl)
theorem dX13_reads_41 : decode cX13_reads 41 = .ok (.if_icmp .ne 13, 3) := dk_160 0 13 (dk_at dksX13_reads_1 18 rfl rfl)
theorem dX13_reads_44 : decode cX13_reads 44 = .ok (.new 71, 3) := dk_187 0 71 (dk_at dksX13_reads_1 21 rfl rfl)
theorem dX13_reads_47 : decode cX13_reads 47 = .ok (.dup, 1) := dk_89 (dk_at dksX13_reads_2 0 rfl rfl)
theorem dX13_reads_48 : decode cX13_reads 48 = .ok (.iconst 1, 1) := dk_4 (dk_at dksX13_reads_2 1 rfl rfl)
theorem dX13_reads_49 : decode cX13_reads 49 = .ok (.iload_n 2, 1) := dk_28 (dk_at dksX13_reads_2 2 rfl rfl)
theorem dX13_reads_50 : decode cX13_reads 50 = .ok (.invokespecial 73, 3) := dk_183 0 73 (dk_at dksX13_reads_2 3 rfl rfl)
theorem dX13_reads_53 : decode cX13_reads 53 = .ok (.athrow, 1) := dk_191 (dk_at dksX13_reads_2 6 rfl rfl)
theorem dX13_reads_54 : decode cX13_reads 54 = .ok (.aload_n 1, 1) := dk_43 (dk_at dksX13_reads_2 7 rfl rfl)
theorem dX13_reads_55 : decode cX13_reads 55 = .ok (.getfield 76, 3) := dk_180 0 76 (dk_at dksX13_reads_2 8 rfl rfl)
theorem dX13_reads_58 : decode cX13_reads 58 = .ok (.bipush 8, 2) := dk_16 8 (dk_at dksX13_reads_2 11 rfl rfl)
theorem dX13_reads_60 : decode cX13_reads 60 = .ok (.if_icmp .ne 13, 3) := dk_160 0 13 (dk_at dksX13_reads_2 13 rfl rfl)
theorem dX13_reads_63 : decode cX13_reads 63 = .ok (.new 71, 3) := dk_187 0 71 (dk_at dksX13_reads_2 16 rfl rfl)
theorem dX13_reads_66 : decode cX13_reads 66 = .ok (.dup, 1) := dk_89 (dk_at dksX13_reads_2 19 rfl rfl)
theorem dX13_reads_67 : decode cX13_reads 67 = .ok (.iconst 3, 1) := dk_6 (dk_at dksX13_reads_2 20 rfl rfl)
theorem dX13_reads_68 : decode cX13_reads 68 = .ok (.iload_n 2, 1) := dk_28 (dk_at dksX13_reads_2 21 rfl rfl)
theorem dX13_reads_69 : decode cX13_reads 69 = .ok (.invokespecial 73, 3) := dk_183 0 73 (dk_at dksX13_reads_3 0 rfl rfl)
theorem dX13_reads_72 : decode cX13_reads 72 = .ok (.athrow, 1) := dk_191 (dk_at dksX13_reads_3 3 rfl rfl)
theorem dX13_reads_73 : decode cX13_reads 73 = .ok (.aload_n 0, 1) := dk_42 (dk_at dksX13_reads_3 4 rfl rfl)
theorem dX13_reads_74 : decode cX13_reads 74 = .ok (.getfield 52, 3) := dk_180 0 52 (dk_at dksX13_reads_3 5 rfl rfl)
theorem dX13_reads_77 : decode cX13_reads 77 = .ok (.invokevirtual 80, 3) := dk_182 0 80 (dk_at dksX13_reads_3 8 rfl rfl)
theorem dX13_reads_80 : decode cX13_reads 80 = .ok (.aload_n 0, 1) := dk_42 (dk_at dksX13_reads_3 11 rfl rfl)
theorem dX13_reads_81 : decode cX13_reads 81 = .ok (.getfield 52, 3) := dk_180 0 52 (dk_at dksX13_reads_3 12 rfl rfl)
theorem dX13_reads_84 : decode cX13_reads 84 = .ok (.ldc 83, 2) := dk_18 83 (dk_at dksX13_reads_3 15 rfl rfl)
theorem dX13_reads_86 : decode cX13_reads 86 = .ok (.invokevirtual 85, 3) := dk_182 0 85 (dk_at dksX13_reads_3 17 rfl rfl)
theorem dX13_reads_89 : decode cX13_reads 89 = .ok (.ifCond .eq 16, 3) := dk_153 0 16 (dk_at dksX13_reads_3 20 rfl rfl)
theorem dX13_reads_92 : decode cX13_reads 92 = .ok (.aload_n 0, 1) := dk_42 (dk_at dksX13_reads_3 23 rfl rfl)
theorem dX13_reads_93 : decode cX13_reads 93 = .ok (.getfield 52, 3) := dk_180 0 52 (dk_at dksX13_reads_4 0 rfl rfl)
theorem dX13_reads_96 : decode cX13_reads 96 = .ok (.iconst 1, 1) := dk_4 (dk_at dksX13_reads_4 3 rfl rfl)
theorem dX13_reads_97 : decode cX13_reads 97 = .ok (.bipush 16, 2) := dk_16 16 (dk_at dksX13_reads_4 4 rfl rfl)
theorem dX13_reads_99 : decode cX13_reads 99 = .ok (.invokevirtual 89, 3) := dk_182 0 89 (dk_at dksX13_reads_4 6 rfl rfl)
theorem dX13_reads_102 : decode cX13_reads 102 = .ok (.goto 4, 3) := dk_167 0 4 (dk_at dksX13_reads_4 9 rfl rfl)
theorem dX13_reads_105 : decode cX13_reads 105 = .ok (.iconst 0, 1) := dk_3 (dk_at dksX13_reads_4 12 rfl rfl)
theorem dX13_reads_106 : decode cX13_reads 106 = .ok (.istore 4, 2) := dk_54 4 (dk_at dksX13_reads_4 13 rfl rfl)
theorem dX13_reads_108 : decode cX13_reads 108 = .ok (.aload_n 0, 1) := dk_42 (dk_at dksX13_reads_4 15 rfl rfl)
theorem dX13_reads_109 : decode cX13_reads 109 = .ok (.getfield 52, 3) := dk_180 0 52 (dk_at dksX13_reads_4 16 rfl rfl)
theorem dX13_reads_112 : decode cX13_reads 112 = .ok (.ldc 93, 2) := dk_18 93 (dk_at dksX13_reads_4 19 rfl rfl)
theorem dX13_reads_114 : decode cX13_reads 114 = .ok (.invokevirtual 85, 3) := dk_182 0 85 (dk_at dksX13_reads_4 21 rfl rfl)
theorem dX13_reads_117 : decode cX13_reads 117 = .ok (.ifCond .eq 10, 3) := dk_153 0 10 (dk_at dksX13_reads_5 0 rfl rfl)
theorem dX13_reads_120 : decode cX13_reads 120 = .ok (.aload_n 0, 1) := dk_42 (dk_at dksX13_reads_5 3 rfl rfl)
theorem dX13_reads_121 : decode cX13_reads 121 = .ok (.invokevirtual 95, 3) := dk_182 0 95 (dk_at dksX13_reads_5 4 rfl rfl)
theorem dX13_reads_124 : decode cX13_reads 124 = .ok (.goto 4, 3) := dk_167 0 4 (dk_at dksX13_reads_5 7 rfl rfl)
theorem dX13_reads_127 : decode cX13_reads 127 = .ok (.aconst_null, 1) := dk_1 (dk_at dksX13_reads_5 10 rfl rfl)
theorem dX13_reads_128 : decode cX13_reads 128 = .ok (.astore 5, 2) := dk_58 5 (dk_at dksX13_reads_5 11 rfl rfl)
theorem dX13_reads_130 : decode cX13_reads 130 = .ok (.aload_n 0, 1) := dk_42 (dk_at dksX13_reads_5 13 rfl rfl)
theorem dX13_reads_131 : decode cX13_reads 131 = .ok (.getfield 52, 3) := dk_180 0 52 (dk_at dksX13_reads_5 14 rfl rfl)
theorem dX13_reads_134 : decode cX13_reads 134 = .ok (.bipush 59, 2) := dk_16 59 (dk_at dksX13_reads_5 17 rfl rfl)
theorem dX13_reads_136 : decode cX13_reads 136 = .ok (.invokevirtual 99, 3) := dk_182 0 99 (dk_at dksX13_reads_5 19 rfl rfl)
theorem dX13_reads_139 : decode cX13_reads 139 = .ok (.aload_n 1, 1) := dk_43 (dk_at dksX13_reads_5 22 rfl rfl)
theorem dX13_reads_140 : decode cX13_reads 140 = .ok (.getfield 103, 3) := dk_180 0 103 (dk_at dksX13_reads_6 0 rfl rfl)
theorem dX13_reads_143 : decode cX13_reads 143 = .ok (.aload_n 1, 1) := dk_43 (dk_at dksX13_reads_6 3 rfl rfl)
theorem dX13_reads_144 : decode cX13_reads 144 = .ok (.dup, 1) := dk_89 (dk_at dksX13_reads_6 4 rfl rfl)
theorem dX13_reads_145 : decode cX13_reads 145 = .ok (.getfield 76, 3) := dk_180 0 76 (dk_at dksX13_reads_6 5 rfl rfl)
theorem dX13_reads_148 : decode cX13_reads 148 = .ok (.dup_x1, 1) := dk_90 (dk_at dksX13_reads_6 8 rfl rfl)
theorem dX13_reads_149 : decode cX13_reads 149 = .ok (.iconst 1, 1) := dk_4 (dk_at dksX13_reads_6 9 rfl rfl)
theorem dX13_reads_150 : decode cX13_reads 150 = .ok (.iadd, 1) := dk_96 (dk_at dksX13_reads_6 10 rfl rfl)
theorem dX13_reads_151 : decode cX13_reads 151 = .ok (.putfield 76, 3) := dk_181 0 76 (dk_at dksX13_reads_6 11 rfl rfl)
theorem dX13_reads_154 : decode cX13_reads 154 = .ok (.iload_n 3, 1) := dk_29 (dk_at dksX13_reads_6 14 rfl rfl)
theorem dX13_reads_155 : decode cX13_reads 155 = .ok (.iload 4, 2) := dk_21 4 (dk_at dksX13_reads_6 15 rfl rfl)
theorem dX13_reads_157 : decode cX13_reads 157 = .ok (.aload 5, 2) := dk_25 5 (dk_at dksX13_reads_6 17 rfl rfl)
theorem dX13_reads_159 : decode cX13_reads 159 = .ok (.invokestatic 107, 3) := dk_184 0 107 (dk_at dksX13_reads_6 19 rfl rfl)
theorem dX13_reads_162 : decode cX13_reads 162 = .ok (.aastore, 1) := dk_83 (dk_at dksX13_reads_6 22 rfl rfl)
theorem dX13_reads_163 : decode cX13_reads 163 = .ok (.goto (-155), 3) := dk_167 255 101 (dk_at dksX13_reads_7 0 rfl rfl)
theorem dX13_reads_166 : decode cX13_reads 166 = .ok (.aload_n 1, 1) := dk_43 (dk_at dksX13_reads_7 3 rfl rfl)
theorem dX13_reads_167 : decode cX13_reads 167 = .ok (.areturn, 1) := dk_176 (dk_at dksX13_reads_7 4 rfl rfl)
abbrev cX13_any : ByteArray := prog_8_method_4_code
def yX13_any : MethodName := ⟨RX13, "any", "()LCardCups$Term;"⟩
def dkwX13_any_1 : List UInt8 := [42, 182, 0, 133, 183, 0, 140, 76, 167, 255, 229, 43, 176]
abbrev dktX13_any_1 : List UInt8 := dkwX13_any_1 ++ []
def dkwX13_any_0 : List UInt8 := [42, 182, 0, 133, 76, 42, 180, 0, 52, 18, 136, 182, 0, 85, 153, 0, 21, 187, 0, 138, 89, 16, 124, 43]
abbrev dktX13_any_0 : List UInt8 := dkwX13_any_0 ++ dktX13_any_1
theorem dksX13_any_0 : cX13_any.data.toList.drop 0 = dktX13_any_0 := by decide +kernel
theorem dksX13_any_1 : cX13_any.data.toList.drop 24 = dktX13_any_1 := dk_seg dksX13_any_0 24 rfl rfl
theorem dX13_any_0 : decode cX13_any 0 = .ok (.aload_n 0, 1) := dk_42 (dk_at dksX13_any_0 0 rfl rfl)
theorem dX13_any_1 : decode cX13_any 1 = .ok (.invokevirtual 133, 3) := dk_182 0 133 (dk_at dksX13_any_0 1 rfl rfl)
theorem dX13_any_4 : decode cX13_any 4 = .ok (.astore_n 1, 1) := dk_76 (dk_at dksX13_any_0 4 rfl rfl)
theorem dX13_any_5 : decode cX13_any 5 = .ok (.aload_n 0, 1) := dk_42 (dk_at dksX13_any_0 5 rfl rfl)
theorem dX13_any_6 : decode cX13_any 6 = .ok (.getfield 52, 3) := dk_180 0 52 (dk_at dksX13_any_0 6 rfl rfl)
theorem dX13_any_9 : decode cX13_any 9 = .ok (.ldc 136, 2) := dk_18 136 (dk_at dksX13_any_0 9 rfl rfl)
theorem dX13_any_11 : decode cX13_any 11 = .ok (.invokevirtual 85, 3) := dk_182 0 85 (dk_at dksX13_any_0 11 rfl rfl)
theorem dX13_any_14 : decode cX13_any 14 = .ok (.ifCond .eq 21, 3) := dk_153 0 21 (dk_at dksX13_any_0 14 rfl rfl)
theorem dX13_any_17 : decode cX13_any 17 = .ok (.new 138, 3) := dk_187 0 138 (dk_at dksX13_any_0 17 rfl rfl)
theorem dX13_any_20 : decode cX13_any 20 = .ok (.dup, 1) := dk_89 (dk_at dksX13_any_0 20 rfl rfl)
theorem dX13_any_21 : decode cX13_any 21 = .ok (.bipush 124, 2) := dk_16 124 (dk_at dksX13_any_0 21 rfl rfl)
theorem dX13_any_23 : decode cX13_any 23 = .ok (.aload_n 1, 1) := dk_43 (dk_at dksX13_any_0 23 rfl rfl)
theorem dX13_any_24 : decode cX13_any 24 = .ok (.aload_n 0, 1) := dk_42 (dk_at dksX13_any_1 0 rfl rfl)
theorem dX13_any_25 : decode cX13_any 25 = .ok (.invokevirtual 133, 3) := dk_182 0 133 (dk_at dksX13_any_1 1 rfl rfl)
theorem dX13_any_28 : decode cX13_any 28 = .ok (.invokespecial 140, 3) := dk_183 0 140 (dk_at dksX13_any_1 4 rfl rfl)
theorem dX13_any_31 : decode cX13_any 31 = .ok (.astore_n 1, 1) := dk_76 (dk_at dksX13_any_1 7 rfl rfl)
theorem dX13_any_32 : decode cX13_any 32 = .ok (.goto (-27), 3) := dk_167 255 229 (dk_at dksX13_any_1 8 rfl rfl)
theorem dX13_any_35 : decode cX13_any 35 = .ok (.aload_n 1, 1) := dk_43 (dk_at dksX13_any_1 11 rfl rfl)
theorem dX13_any_36 : decode cX13_any 36 = .ok (.areturn, 1) := dk_176 (dk_at dksX13_any_1 12 rfl rfl)
abbrev cX13_each : ByteArray := prog_8_method_5_code
def yX13_each : MethodName := ⟨RX13, "each", "()LCardCups$Term;"⟩
def dkwX13_each_1 : List UInt8 := [42, 182, 0, 143, 183, 0, 140, 76, 167, 255, 229, 43, 176]
abbrev dktX13_each_1 : List UInt8 := dkwX13_each_1 ++ []
def dkwX13_each_0 : List UInt8 := [42, 182, 0, 143, 76, 42, 180, 0, 52, 18, 146, 182, 0, 85, 153, 0, 21, 187, 0, 138, 89, 16, 38, 43]
abbrev dktX13_each_0 : List UInt8 := dkwX13_each_0 ++ dktX13_each_1
theorem dksX13_each_0 : cX13_each.data.toList.drop 0 = dktX13_each_0 := by decide +kernel
theorem dksX13_each_1 : cX13_each.data.toList.drop 24 = dktX13_each_1 := dk_seg dksX13_each_0 24 rfl rfl
theorem dX13_each_0 : decode cX13_each 0 = .ok (.aload_n 0, 1) := dk_42 (dk_at dksX13_each_0 0 rfl rfl)
theorem dX13_each_1 : decode cX13_each 1 = .ok (.invokevirtual 143, 3) := dk_182 0 143 (dk_at dksX13_each_0 1 rfl rfl)
theorem dX13_each_4 : decode cX13_each 4 = .ok (.astore_n 1, 1) := dk_76 (dk_at dksX13_each_0 4 rfl rfl)
theorem dX13_each_5 : decode cX13_each 5 = .ok (.aload_n 0, 1) := dk_42 (dk_at dksX13_each_0 5 rfl rfl)
theorem dX13_each_6 : decode cX13_each 6 = .ok (.getfield 52, 3) := dk_180 0 52 (dk_at dksX13_each_0 6 rfl rfl)
theorem dX13_each_9 : decode cX13_each 9 = .ok (.ldc 146, 2) := dk_18 146 (dk_at dksX13_each_0 9 rfl rfl)
theorem dX13_each_11 : decode cX13_each 11 = .ok (.invokevirtual 85, 3) := dk_182 0 85 (dk_at dksX13_each_0 11 rfl rfl)
theorem dX13_each_14 : decode cX13_each 14 = .ok (.ifCond .eq 21, 3) := dk_153 0 21 (dk_at dksX13_each_0 14 rfl rfl)
theorem dX13_each_17 : decode cX13_each 17 = .ok (.new 138, 3) := dk_187 0 138 (dk_at dksX13_each_0 17 rfl rfl)
theorem dX13_each_20 : decode cX13_each 20 = .ok (.dup, 1) := dk_89 (dk_at dksX13_each_0 20 rfl rfl)
theorem dX13_each_21 : decode cX13_each 21 = .ok (.bipush 38, 2) := dk_16 38 (dk_at dksX13_each_0 21 rfl rfl)
theorem dX13_each_23 : decode cX13_each 23 = .ok (.aload_n 1, 1) := dk_43 (dk_at dksX13_each_0 23 rfl rfl)
theorem dX13_each_24 : decode cX13_each 24 = .ok (.aload_n 0, 1) := dk_42 (dk_at dksX13_each_1 0 rfl rfl)
theorem dX13_each_25 : decode cX13_each 25 = .ok (.invokevirtual 143, 3) := dk_182 0 143 (dk_at dksX13_each_1 1 rfl rfl)
theorem dX13_each_28 : decode cX13_each 28 = .ok (.invokespecial 140, 3) := dk_183 0 140 (dk_at dksX13_each_1 4 rfl rfl)
theorem dX13_each_31 : decode cX13_each 31 = .ok (.astore_n 1, 1) := dk_76 (dk_at dksX13_each_1 7 rfl rfl)
theorem dX13_each_32 : decode cX13_each 32 = .ok (.goto (-27), 3) := dk_167 255 229 (dk_at dksX13_each_1 8 rfl rfl)
theorem dX13_each_35 : decode cX13_each 35 = .ok (.aload_n 1, 1) := dk_43 (dk_at dksX13_each_1 11 rfl rfl)
theorem dX13_each_36 : decode cX13_each 36 = .ok (.areturn, 1) := dk_176 (dk_at dksX13_each_1 12 rfl rfl)
abbrev cX13_one : ByteArray := prog_8_method_6_code
def yX13_one : MethodName := ⟨RX13, "one", "()LCardCups$Term;"⟩
def dkwX13_one_7 : List UInt8 := [183, 0, 140, 176]
abbrev dktX13_one_7 : List UInt8 := dkwX13_one_7 ++ []
def dkwX13_one_6 : List UInt8 := [16, 61, 160, 0, 12, 42, 180, 0, 52, 16, 61, 182, 0, 99, 187, 0, 138, 89, 28, 43, 42, 182, 0, 164]
abbrev dktX13_one_6 : List UInt8 := dkwX13_one_6 ++ dktX13_one_7
def dkwX13_one_5 : List UInt8 := [167, 0, 22, 42, 180, 0, 52, 16, 62, 182, 0, 167, 153, 0, 8, 16, 62, 167, 0, 5, 16, 61, 61, 28]
abbrev dktX13_one_5 : List UInt8 := dkwX13_one_5 ++ dktX13_one_6
def dkwX13_one_4 : List UInt8 := [182, 0, 161, 43, 176, 42, 182, 0, 164, 76, 42, 180, 0, 52, 16, 60, 182, 0, 167, 153, 0, 8, 16, 60]
abbrev dktX13_one_4 : List UInt8 := dkwX13_one_4 ++ dktX13_one_5
def dkwX13_one_3 : List UInt8 := [16, 91, 182, 0, 99, 42, 182, 0, 95, 76, 42, 180, 0, 52, 16, 93, 182, 0, 99, 42, 180, 0, 52]
abbrev dktX13_one_3 : List UInt8 := dkwX13_one_3 ++ dktX13_one_4
def dkwX13_one_2 : List UInt8 := [42, 180, 0, 52, 182, 0, 58, 16, 91, 160, 0, 42, 42, 180, 0, 52, 182, 0, 153, 42, 180, 0, 52]
abbrev dktX13_one_2 : List UInt8 := dkwX13_one_2 ++ dktX13_one_3
def dkwX13_one_1 : List UInt8 := [182, 0, 80, 187, 0, 156, 89, 42, 182, 0, 143, 183, 0, 158, 76, 42, 180, 0, 52, 182, 0, 161, 43, 176]
abbrev dktX13_one_1 : List UInt8 := dkwX13_one_1 ++ dktX13_one_2
def dkwX13_one_0 : List UInt8 := [42, 180, 0, 52, 18, 148, 182, 0, 150, 153, 0, 38, 42, 180, 0, 52, 182, 0, 153, 42, 180, 0, 52]
abbrev dktX13_one_0 : List UInt8 := dkwX13_one_0 ++ dktX13_one_1
theorem dksX13_one_0 : cX13_one.data.toList.drop 0 = dktX13_one_0 := by decide +kernel
theorem dksX13_one_1 : cX13_one.data.toList.drop 23 = dktX13_one_1 := dk_seg dksX13_one_0 23 rfl rfl
theorem dksX13_one_2 : cX13_one.data.toList.drop 47 = dktX13_one_2 := dk_seg dksX13_one_1 24 rfl rfl
theorem dksX13_one_3 : cX13_one.data.toList.drop 70 = dktX13_one_3 := dk_seg dksX13_one_2 23 rfl rfl
theorem dksX13_one_4 : cX13_one.data.toList.drop 93 = dktX13_one_4 := dk_seg dksX13_one_3 23 rfl rfl
theorem dksX13_one_5 : cX13_one.data.toList.drop 117 = dktX13_one_5 := dk_seg dksX13_one_4 24 rfl rfl
theorem dksX13_one_6 : cX13_one.data.toList.drop 141 = dktX13_one_6 := dk_seg dksX13_one_5 24 rfl rfl
theorem dksX13_one_7 : cX13_one.data.toList.drop 165 = dktX13_one_7 := dk_seg dksX13_one_6 24 rfl rfl
theorem dX13_one_0 : decode cX13_one 0 = .ok (.aload_n 0, 1) := dk_42 (dk_at dksX13_one_0 0 rfl rfl)
theorem dX13_one_1 : decode cX13_one 1 = .ok (.getfield 52, 3) := dk_180 0 52 (dk_at dksX13_one_0 1 rfl rfl)
theorem dX13_one_4 : decode cX13_one 4 = .ok (.ldc 148, 2) := dk_18 148 (dk_at dksX13_one_0 4 rfl rfl)
theorem dX13_one_6 : decode cX13_one 6 = .ok (.invokevirtual 150, 3) := dk_182 0 150 (dk_at dksX13_one_0 6 rfl rfl)
theorem dX13_one_9 : decode cX13_one 9 = .ok (.ifCond .eq 38, 3) := dk_153 0 38 (dk_at dksX13_one_0 9 rfl rfl)
theorem dX13_one_12 : decode cX13_one 12 = .ok (.aload_n 0, 1) := dk_42 (dk_at dksX13_one_0 12 rfl rfl)
theorem dX13_one_13 : decode cX13_one 13 = .ok (.getfield 52, 3) := dk_180 0 52 (dk_at dksX13_one_0 13 rfl rfl)
theorem dX13_one_16 : decode cX13_one 16 = .ok (.invokevirtual 153, 3) := dk_182 0 153 (dk_at dksX13_one_0 16 rfl rfl)
theorem dX13_one_19 : decode cX13_one 19 = .ok (.aload_n 0, 1) := dk_42 (dk_at dksX13_one_0 19 rfl rfl)
theorem dX13_one_20 : decode cX13_one 20 = .ok (.getfield 52, 3) := dk_180 0 52 (dk_at dksX13_one_0 20 rfl rfl)
theorem dX13_one_23 : decode cX13_one 23 = .ok (.invokevirtual 80, 3) := dk_182 0 80 (dk_at dksX13_one_1 0 rfl rfl)
theorem dX13_one_26 : decode cX13_one 26 = .ok (.new 156, 3) := dk_187 0 156 (dk_at dksX13_one_1 3 rfl rfl)
theorem dX13_one_29 : decode cX13_one 29 = .ok (.dup, 1) := dk_89 (dk_at dksX13_one_1 6 rfl rfl)
theorem dX13_one_30 : decode cX13_one 30 = .ok (.aload_n 0, 1) := dk_42 (dk_at dksX13_one_1 7 rfl rfl)
theorem dX13_one_31 : decode cX13_one 31 = .ok (.invokevirtual 143, 3) := dk_182 0 143 (dk_at dksX13_one_1 8 rfl rfl)
theorem dX13_one_34 : decode cX13_one 34 = .ok (.invokespecial 158, 3) := dk_183 0 158 (dk_at dksX13_one_1 11 rfl rfl)
theorem dX13_one_37 : decode cX13_one 37 = .ok (.astore_n 1, 1) := dk_76 (dk_at dksX13_one_1 14 rfl rfl)
theorem dX13_one_38 : decode cX13_one 38 = .ok (.aload_n 0, 1) := dk_42 (dk_at dksX13_one_1 15 rfl rfl)
theorem dX13_one_39 : decode cX13_one 39 = .ok (.getfield 52, 3) := dk_180 0 52 (dk_at dksX13_one_1 16 rfl rfl)
theorem dX13_one_42 : decode cX13_one 42 = .ok (.invokevirtual 161, 3) := dk_182 0 161 (dk_at dksX13_one_1 19 rfl rfl)
theorem dX13_one_45 : decode cX13_one 45 = .ok (.aload_n 1, 1) := dk_43 (dk_at dksX13_one_1 22 rfl rfl)
theorem dX13_one_46 : decode cX13_one 46 = .ok (.areturn, 1) := dk_176 (dk_at dksX13_one_1 23 rfl rfl)
theorem dX13_one_47 : decode cX13_one 47 = .ok (.aload_n 0, 1) := dk_42 (dk_at dksX13_one_2 0 rfl rfl)
theorem dX13_one_48 : decode cX13_one 48 = .ok (.getfield 52, 3) := dk_180 0 52 (dk_at dksX13_one_2 1 rfl rfl)
theorem dX13_one_51 : decode cX13_one 51 = .ok (.invokevirtual 58, 3) := dk_182 0 58 (dk_at dksX13_one_2 4 rfl rfl)
theorem dX13_one_54 : decode cX13_one 54 = .ok (.bipush 91, 2) := dk_16 91 (dk_at dksX13_one_2 7 rfl rfl)
theorem dX13_one_56 : decode cX13_one 56 = .ok (.if_icmp .ne 42, 3) := dk_160 0 42 (dk_at dksX13_one_2 9 rfl rfl)
theorem dX13_one_59 : decode cX13_one 59 = .ok (.aload_n 0, 1) := dk_42 (dk_at dksX13_one_2 12 rfl rfl)
theorem dX13_one_60 : decode cX13_one 60 = .ok (.getfield 52, 3) := dk_180 0 52 (dk_at dksX13_one_2 13 rfl rfl)
theorem dX13_one_63 : decode cX13_one 63 = .ok (.invokevirtual 153, 3) := dk_182 0 153 (dk_at dksX13_one_2 16 rfl rfl)
theorem dX13_one_66 : decode cX13_one 66 = .ok (.aload_n 0, 1) := dk_42 (dk_at dksX13_one_2 19 rfl rfl)
theorem dX13_one_67 : decode cX13_one 67 = .ok (.getfield 52, 3) := dk_180 0 52 (dk_at dksX13_one_2 20 rfl rfl)
theorem dX13_one_70 : decode cX13_one 70 = .ok (.bipush 91, 2) := dk_16 91 (dk_at dksX13_one_3 0 rfl rfl)
theorem dX13_one_72 : decode cX13_one 72 = .ok (.invokevirtual 99, 3) := dk_182 0 99 (dk_at dksX13_one_3 2 rfl rfl)
theorem dX13_one_75 : decode cX13_one 75 = .ok (.aload_n 0, 1) := dk_42 (dk_at dksX13_one_3 5 rfl rfl)
theorem dX13_one_76 : decode cX13_one 76 = .ok (.invokevirtual 95, 3) := dk_182 0 95 (dk_at dksX13_one_3 6 rfl rfl)
theorem dX13_one_79 : decode cX13_one 79 = .ok (.astore_n 1, 1) := dk_76 (dk_at dksX13_one_3 9 rfl rfl)
theorem dX13_one_80 : decode cX13_one 80 = .ok (.aload_n 0, 1) := dk_42 (dk_at dksX13_one_3 10 rfl rfl)
theorem dX13_one_81 : decode cX13_one 81 = .ok (.getfield 52, 3) := dk_180 0 52 (dk_at dksX13_one_3 11 rfl rfl)
theorem dX13_one_84 : decode cX13_one 84 = .ok (.bipush 93, 2) := dk_16 93 (dk_at dksX13_one_3 14 rfl rfl)
theorem dX13_one_86 : decode cX13_one 86 = .ok (.invokevirtual 99, 3) := dk_182 0 99 (dk_at dksX13_one_3 16 rfl rfl)
theorem dX13_one_89 : decode cX13_one 89 = .ok (.aload_n 0, 1) := dk_42 (dk_at dksX13_one_3 19 rfl rfl)
theorem dX13_one_90 : decode cX13_one 90 = .ok (.getfield 52, 3) := dk_180 0 52 (dk_at dksX13_one_3 20 rfl rfl)
theorem dX13_one_93 : decode cX13_one 93 = .ok (.invokevirtual 161, 3) := dk_182 0 161 (dk_at dksX13_one_4 0 rfl rfl)
theorem dX13_one_96 : decode cX13_one 96 = .ok (.aload_n 1, 1) := dk_43 (dk_at dksX13_one_4 3 rfl rfl)
theorem dX13_one_97 : decode cX13_one 97 = .ok (.areturn, 1) := dk_176 (dk_at dksX13_one_4 4 rfl rfl)
theorem dX13_one_98 : decode cX13_one 98 = .ok (.aload_n 0, 1) := dk_42 (dk_at dksX13_one_4 5 rfl rfl)
theorem dX13_one_99 : decode cX13_one 99 = .ok (.invokevirtual 164, 3) := dk_182 0 164 (dk_at dksX13_one_4 6 rfl rfl)
theorem dX13_one_102 : decode cX13_one 102 = .ok (.astore_n 1, 1) := dk_76 (dk_at dksX13_one_4 9 rfl rfl)
theorem dX13_one_103 : decode cX13_one 103 = .ok (.aload_n 0, 1) := dk_42 (dk_at dksX13_one_4 10 rfl rfl)
theorem dX13_one_104 : decode cX13_one 104 = .ok (.getfield 52, 3) := dk_180 0 52 (dk_at dksX13_one_4 11 rfl rfl)
theorem dX13_one_107 : decode cX13_one 107 = .ok (.bipush 60, 2) := dk_16 60 (dk_at dksX13_one_4 14 rfl rfl)
theorem dX13_one_109 : decode cX13_one 109 = .ok (.invokevirtual 167, 3) := dk_182 0 167 (dk_at dksX13_one_4 16 rfl rfl)
theorem dX13_one_112 : decode cX13_one 112 = .ok (.ifCond .eq 8, 3) := dk_153 0 8 (dk_at dksX13_one_4 19 rfl rfl)
theorem dX13_one_115 : decode cX13_one 115 = .ok (.bipush 60, 2) := dk_16 60 (dk_at dksX13_one_4 22 rfl rfl)
theorem dX13_one_117 : decode cX13_one 117 = .ok (.goto 22, 3) := dk_167 0 22 (dk_at dksX13_one_5 0 rfl rfl)
theorem dX13_one_120 : decode cX13_one 120 = .ok (.aload_n 0, 1) := dk_42 (dk_at dksX13_one_5 3 rfl rfl)
theorem dX13_one_121 : decode cX13_one 121 = .ok (.getfield 52, 3) := dk_180 0 52 (dk_at dksX13_one_5 4 rfl rfl)
theorem dX13_one_124 : decode cX13_one 124 = .ok (.bipush 62, 2) := dk_16 62 (dk_at dksX13_one_5 7 rfl rfl)
theorem dX13_one_126 : decode cX13_one 126 = .ok (.invokevirtual 167, 3) := dk_182 0 167 (dk_at dksX13_one_5 9 rfl rfl)
theorem dX13_one_129 : decode cX13_one 129 = .ok (.ifCond .eq 8, 3) := dk_153 0 8 (dk_at dksX13_one_5 12 rfl rfl)
theorem dX13_one_132 : decode cX13_one 132 = .ok (.bipush 62, 2) := dk_16 62 (dk_at dksX13_one_5 15 rfl rfl)
theorem dX13_one_134 : decode cX13_one 134 = .ok (.goto 5, 3) := dk_167 0 5 (dk_at dksX13_one_5 17 rfl rfl)
theorem dX13_one_137 : decode cX13_one 137 = .ok (.bipush 61, 2) := dk_16 61 (dk_at dksX13_one_5 20 rfl rfl)
theorem dX13_one_139 : decode cX13_one 139 = .ok (.istore_n 2, 1) := dk_61 (dk_at dksX13_one_5 22 rfl rfl)
theorem dX13_one_140 : decode cX13_one 140 = .ok (.iload_n 2, 1) := dk_28 (dk_at dksX13_one_5 23 rfl rfl)
theorem dX13_one_141 : decode cX13_one 141 = .ok (.bipush 61, 2) := dk_16 61 (dk_at dksX13_one_6 0 rfl rfl)
theorem dX13_one_143 : decode cX13_one 143 = .ok (.if_icmp .ne 12, 3) := dk_160 0 12 (dk_at dksX13_one_6 2 rfl rfl)
theorem dX13_one_146 : decode cX13_one 146 = .ok (.aload_n 0, 1) := dk_42 (dk_at dksX13_one_6 5 rfl rfl)
theorem dX13_one_147 : decode cX13_one 147 = .ok (.getfield 52, 3) := dk_180 0 52 (dk_at dksX13_one_6 6 rfl rfl)
theorem dX13_one_150 : decode cX13_one 150 = .ok (.bipush 61, 2) := dk_16 61 (dk_at dksX13_one_6 9 rfl rfl)
theorem dX13_one_152 : decode cX13_one 152 = .ok (.invokevirtual 99, 3) := dk_182 0 99 (dk_at dksX13_one_6 11 rfl rfl)
theorem dX13_one_155 : decode cX13_one 155 = .ok (.new 138, 3) := dk_187 0 138 (dk_at dksX13_one_6 14 rfl rfl)
theorem dX13_one_158 : decode cX13_one 158 = .ok (.dup, 1) := dk_89 (dk_at dksX13_one_6 17 rfl rfl)
theorem dX13_one_159 : decode cX13_one 159 = .ok (.iload_n 2, 1) := dk_28 (dk_at dksX13_one_6 18 rfl rfl)
theorem dX13_one_160 : decode cX13_one 160 = .ok (.aload_n 1, 1) := dk_43 (dk_at dksX13_one_6 19 rfl rfl)
theorem dX13_one_161 : decode cX13_one 161 = .ok (.aload_n 0, 1) := dk_42 (dk_at dksX13_one_6 20 rfl rfl)
theorem dX13_one_162 : decode cX13_one 162 = .ok (.invokevirtual 164, 3) := dk_182 0 164 (dk_at dksX13_one_6 21 rfl rfl)
theorem dX13_one_165 : decode cX13_one 165 = .ok (.invokespecial 140, 3) := dk_183 0 140 (dk_at dksX13_one_7 0 rfl rfl)
theorem dX13_one_168 : decode cX13_one 168 = .ok (.areturn, 1) := dk_176 (dk_at dksX13_one_7 3 rfl rfl)
abbrev cX13_sum : ByteArray := prog_8_method_7_code
def yX13_sum : MethodName := ⟨RX13, "sum", "()LCardCups$Term;"⟩
def dkwX13_sum_2 : List UInt8 := [187, 0, 138, 89, 16, 45, 43, 42, 182, 0, 171, 183, 0, 140, 76, 167, 255, 199, 43, 176]
abbrev dktX13_sum_2 : List UInt8 := dkwX13_sum_2 ++ []
def dkwX13_sum_1 : List UInt8 := [42, 182, 0, 171, 183, 0, 140, 76, 167, 255, 229, 42, 180, 0, 52, 16, 45, 182, 0, 167, 153, 0, 21]
abbrev dktX13_sum_1 : List UInt8 := dkwX13_sum_1 ++ dktX13_sum_2
def dkwX13_sum_0 : List UInt8 := [42, 182, 0, 171, 76, 42, 180, 0, 52, 16, 43, 182, 0, 167, 153, 0, 21, 187, 0, 138, 89, 16, 43, 43]
abbrev dktX13_sum_0 : List UInt8 := dkwX13_sum_0 ++ dktX13_sum_1
theorem dksX13_sum_0 : cX13_sum.data.toList.drop 0 = dktX13_sum_0 := by decide +kernel
theorem dksX13_sum_1 : cX13_sum.data.toList.drop 24 = dktX13_sum_1 := dk_seg dksX13_sum_0 24 rfl rfl
theorem dksX13_sum_2 : cX13_sum.data.toList.drop 47 = dktX13_sum_2 := dk_seg dksX13_sum_1 23 rfl rfl
theorem dX13_sum_0 : decode cX13_sum 0 = .ok (.aload_n 0, 1) := dk_42 (dk_at dksX13_sum_0 0 rfl rfl)
theorem dX13_sum_1 : decode cX13_sum 1 = .ok (.invokevirtual 171, 3) := dk_182 0 171 (dk_at dksX13_sum_0 1 rfl rfl)
theorem dX13_sum_4 : decode cX13_sum 4 = .ok (.astore_n 1, 1) := dk_76 (dk_at dksX13_sum_0 4 rfl rfl)
theorem dX13_sum_5 : decode cX13_sum 5 = .ok (.aload_n 0, 1) := dk_42 (dk_at dksX13_sum_0 5 rfl rfl)
theorem dX13_sum_6 : decode cX13_sum 6 = .ok (.getfield 52, 3) := dk_180 0 52 (dk_at dksX13_sum_0 6 rfl rfl)
theorem dX13_sum_9 : decode cX13_sum 9 = .ok (.bipush 43, 2) := dk_16 43 (dk_at dksX13_sum_0 9 rfl rfl)
theorem dX13_sum_11 : decode cX13_sum 11 = .ok (.invokevirtual 167, 3) := dk_182 0 167 (dk_at dksX13_sum_0 11 rfl rfl)
theorem dX13_sum_14 : decode cX13_sum 14 = .ok (.ifCond .eq 21, 3) := dk_153 0 21 (dk_at dksX13_sum_0 14 rfl rfl)
theorem dX13_sum_17 : decode cX13_sum 17 = .ok (.new 138, 3) := dk_187 0 138 (dk_at dksX13_sum_0 17 rfl rfl)
theorem dX13_sum_20 : decode cX13_sum 20 = .ok (.dup, 1) := dk_89 (dk_at dksX13_sum_0 20 rfl rfl)
theorem dX13_sum_21 : decode cX13_sum 21 = .ok (.bipush 43, 2) := dk_16 43 (dk_at dksX13_sum_0 21 rfl rfl)
theorem dX13_sum_23 : decode cX13_sum 23 = .ok (.aload_n 1, 1) := dk_43 (dk_at dksX13_sum_0 23 rfl rfl)
theorem dX13_sum_24 : decode cX13_sum 24 = .ok (.aload_n 0, 1) := dk_42 (dk_at dksX13_sum_1 0 rfl rfl)
theorem dX13_sum_25 : decode cX13_sum 25 = .ok (.invokevirtual 171, 3) := dk_182 0 171 (dk_at dksX13_sum_1 1 rfl rfl)
theorem dX13_sum_28 : decode cX13_sum 28 = .ok (.invokespecial 140, 3) := dk_183 0 140 (dk_at dksX13_sum_1 4 rfl rfl)
theorem dX13_sum_31 : decode cX13_sum 31 = .ok (.astore_n 1, 1) := dk_76 (dk_at dksX13_sum_1 7 rfl rfl)
theorem dX13_sum_32 : decode cX13_sum 32 = .ok (.goto (-27), 3) := dk_167 255 229 (dk_at dksX13_sum_1 8 rfl rfl)
theorem dX13_sum_35 : decode cX13_sum 35 = .ok (.aload_n 0, 1) := dk_42 (dk_at dksX13_sum_1 11 rfl rfl)
theorem dX13_sum_36 : decode cX13_sum 36 = .ok (.getfield 52, 3) := dk_180 0 52 (dk_at dksX13_sum_1 12 rfl rfl)
theorem dX13_sum_39 : decode cX13_sum 39 = .ok (.bipush 45, 2) := dk_16 45 (dk_at dksX13_sum_1 15 rfl rfl)
theorem dX13_sum_41 : decode cX13_sum 41 = .ok (.invokevirtual 167, 3) := dk_182 0 167 (dk_at dksX13_sum_1 17 rfl rfl)
theorem dX13_sum_44 : decode cX13_sum 44 = .ok (.ifCond .eq 21, 3) := dk_153 0 21 (dk_at dksX13_sum_1 20 rfl rfl)
theorem dX13_sum_47 : decode cX13_sum 47 = .ok (.new 138, 3) := dk_187 0 138 (dk_at dksX13_sum_2 0 rfl rfl)
theorem dX13_sum_50 : decode cX13_sum 50 = .ok (.dup, 1) := dk_89 (dk_at dksX13_sum_2 3 rfl rfl)
theorem dX13_sum_51 : decode cX13_sum 51 = .ok (.bipush 45, 2) := dk_16 45 (dk_at dksX13_sum_2 4 rfl rfl)
theorem dX13_sum_53 : decode cX13_sum 53 = .ok (.aload_n 1, 1) := dk_43 (dk_at dksX13_sum_2 6 rfl rfl)
theorem dX13_sum_54 : decode cX13_sum 54 = .ok (.aload_n 0, 1) := dk_42 (dk_at dksX13_sum_2 7 rfl rfl)
theorem dX13_sum_55 : decode cX13_sum 55 = .ok (.invokevirtual 171, 3) := dk_182 0 171 (dk_at dksX13_sum_2 8 rfl rfl)
theorem dX13_sum_58 : decode cX13_sum 58 = .ok (.invokespecial 140, 3) := dk_183 0 140 (dk_at dksX13_sum_2 11 rfl rfl)
theorem dX13_sum_61 : decode cX13_sum 61 = .ok (.astore_n 1, 1) := dk_76 (dk_at dksX13_sum_2 14 rfl rfl)
theorem dX13_sum_62 : decode cX13_sum 62 = .ok (.goto (-57), 3) := dk_167 255 199 (dk_at dksX13_sum_2 15 rfl rfl)
theorem dX13_sum_65 : decode cX13_sum 65 = .ok (.aload_n 1, 1) := dk_43 (dk_at dksX13_sum_2 18 rfl rfl)
theorem dX13_sum_66 : decode cX13_sum 66 = .ok (.areturn, 1) := dk_176 (dk_at dksX13_sum_2 19 rfl rfl)
abbrev cX13_product : ByteArray := prog_8_method_8_code
def yX13_product : MethodName := ⟨RX13, "product", "()LCardCups$Term;"⟩
def dkwX13_product_1 : List UInt8 := [42, 182, 0, 174, 183, 0, 140, 76, 167, 255, 229, 43, 176]
abbrev dktX13_product_1 : List UInt8 := dkwX13_product_1 ++ []
def dkwX13_product_0 : List UInt8 := [42, 182, 0, 174, 76, 42, 180, 0, 52, 16, 42, 182, 0, 167, 153, 0, 21, 187, 0, 138, 89, 16, 42, 43]
abbrev dktX13_product_0 : List UInt8 := dkwX13_product_0 ++ dktX13_product_1
theorem dksX13_product_0 : cX13_product.data.toList.drop 0 = dktX13_product_0 := by decide +kernel
theorem dksX13_product_1 : cX13_product.data.toList.drop 24 = dktX13_product_1 := dk_seg dksX13_product_0 24 rfl rfl
theorem dX13_product_0 : decode cX13_product 0 = .ok (.aload_n 0, 1) := dk_42 (dk_at dksX13_product_0 0 rfl rfl)
theorem dX13_product_1 : decode cX13_product 1 = .ok (.invokevirtual 174, 3) := dk_182 0 174 (dk_at dksX13_product_0 1 rfl rfl)
theorem dX13_product_4 : decode cX13_product 4 = .ok (.astore_n 1, 1) := dk_76 (dk_at dksX13_product_0 4 rfl rfl)
theorem dX13_product_5 : decode cX13_product 5 = .ok (.aload_n 0, 1) := dk_42 (dk_at dksX13_product_0 5 rfl rfl)
theorem dX13_product_6 : decode cX13_product 6 = .ok (.getfield 52, 3) := dk_180 0 52 (dk_at dksX13_product_0 6 rfl rfl)
theorem dX13_product_9 : decode cX13_product 9 = .ok (.bipush 42, 2) := dk_16 42 (dk_at dksX13_product_0 9 rfl rfl)
theorem dX13_product_11 : decode cX13_product 11 = .ok (.invokevirtual 167, 3) := dk_182 0 167 (dk_at dksX13_product_0 11 rfl rfl)
theorem dX13_product_14 : decode cX13_product 14 = .ok (.ifCond .eq 21, 3) := dk_153 0 21 (dk_at dksX13_product_0 14 rfl rfl)
theorem dX13_product_17 : decode cX13_product 17 = .ok (.new 138, 3) := dk_187 0 138 (dk_at dksX13_product_0 17 rfl rfl)
theorem dX13_product_20 : decode cX13_product 20 = .ok (.dup, 1) := dk_89 (dk_at dksX13_product_0 20 rfl rfl)
theorem dX13_product_21 : decode cX13_product 21 = .ok (.bipush 42, 2) := dk_16 42 (dk_at dksX13_product_0 21 rfl rfl)
theorem dX13_product_23 : decode cX13_product 23 = .ok (.aload_n 1, 1) := dk_43 (dk_at dksX13_product_0 23 rfl rfl)
theorem dX13_product_24 : decode cX13_product 24 = .ok (.aload_n 0, 1) := dk_42 (dk_at dksX13_product_1 0 rfl rfl)
theorem dX13_product_25 : decode cX13_product 25 = .ok (.invokevirtual 174, 3) := dk_182 0 174 (dk_at dksX13_product_1 1 rfl rfl)
theorem dX13_product_28 : decode cX13_product 28 = .ok (.invokespecial 140, 3) := dk_183 0 140 (dk_at dksX13_product_1 4 rfl rfl)
theorem dX13_product_31 : decode cX13_product 31 = .ok (.astore_n 1, 1) := dk_76 (dk_at dksX13_product_1 7 rfl rfl)
theorem dX13_product_32 : decode cX13_product 32 = .ok (.goto (-27), 3) := dk_167 255 229 (dk_at dksX13_product_1 8 rfl rfl)
theorem dX13_product_35 : decode cX13_product 35 = .ok (.aload_n 1, 1) := dk_43 (dk_at dksX13_product_1 11 rfl rfl)
theorem dX13_product_36 : decode cX13_product 36 = .ok (.areturn, 1) := dk_176 (dk_at dksX13_product_1 12 rfl rfl)
abbrev cX13_value : ByteArray := prog_8_method_9_code
def yX13_value : MethodName := ⟨RX13, "value", "()LCardCups$Term;"⟩
def dkwX13_value_4 : List UInt8 := [182, 0, 80, 187, 0, 182, 89, 27, 183, 0, 184, 176]
abbrev dktX13_value_4 : List UInt8 := dkwX13_value_4 ++ []
def dkwX13_value_3 : List UInt8 := [187, 0, 177, 89, 42, 180, 0, 52, 3, 17, 3, 231, 182, 0, 89, 183, 0, 179, 176, 42, 180, 0, 52]
abbrev dktX13_value_3 : List UInt8 := dkwX13_value_3 ++ dktX13_value_4
def dkwX13_value_2 : List UInt8 := [182, 0, 161, 43, 176, 42, 180, 0, 52, 42, 180, 0, 49, 182, 0, 67, 60, 27, 2, 160, 0, 22]
abbrev dktX13_value_2 : List UInt8 := dkwX13_value_2 ++ dktX13_value_3
def dkwX13_value_1 : List UInt8 := [16, 40, 182, 0, 99, 42, 182, 0, 164, 76, 42, 180, 0, 52, 16, 41, 182, 0, 99, 42, 180, 0, 52]
abbrev dktX13_value_1 : List UInt8 := dkwX13_value_1 ++ dktX13_value_2
def dkwX13_value_0 : List UInt8 := [42, 180, 0, 52, 182, 0, 58, 16, 40, 160, 0, 42, 42, 180, 0, 52, 182, 0, 153, 42, 180, 0, 52]
abbrev dktX13_value_0 : List UInt8 := dkwX13_value_0 ++ dktX13_value_1
theorem dksX13_value_0 : cX13_value.data.toList.drop 0 = dktX13_value_0 := by decide +kernel
theorem dksX13_value_1 : cX13_value.data.toList.drop 23 = dktX13_value_1 := dk_seg dksX13_value_0 23 rfl rfl
theorem dksX13_value_2 : cX13_value.data.toList.drop 46 = dktX13_value_2 := dk_seg dksX13_value_1 23 rfl rfl
theorem dksX13_value_3 : cX13_value.data.toList.drop 68 = dktX13_value_3 := dk_seg dksX13_value_2 22 rfl rfl
theorem dksX13_value_4 : cX13_value.data.toList.drop 91 = dktX13_value_4 := dk_seg dksX13_value_3 23 rfl rfl
theorem dX13_value_0 : decode cX13_value 0 = .ok (.aload_n 0, 1) := dk_42 (dk_at dksX13_value_0 0 rfl rfl)
theorem dX13_value_1 : decode cX13_value 1 = .ok (.getfield 52, 3) := dk_180 0 52 (dk_at dksX13_value_0 1 rfl rfl)
theorem dX13_value_4 : decode cX13_value 4 = .ok (.invokevirtual 58, 3) := dk_182 0 58 (dk_at dksX13_value_0 4 rfl rfl)
theorem dX13_value_7 : decode cX13_value 7 = .ok (.bipush 40, 2) := dk_16 40 (dk_at dksX13_value_0 7 rfl rfl)
theorem dX13_value_9 : decode cX13_value 9 = .ok (.if_icmp .ne 42, 3) := dk_160 0 42 (dk_at dksX13_value_0 9 rfl rfl)
theorem dX13_value_12 : decode cX13_value 12 = .ok (.aload_n 0, 1) := dk_42 (dk_at dksX13_value_0 12 rfl rfl)
theorem dX13_value_13 : decode cX13_value 13 = .ok (.getfield 52, 3) := dk_180 0 52 (dk_at dksX13_value_0 13 rfl rfl)
theorem dX13_value_16 : decode cX13_value 16 = .ok (.invokevirtual 153, 3) := dk_182 0 153 (dk_at dksX13_value_0 16 rfl rfl)
theorem dX13_value_19 : decode cX13_value 19 = .ok (.aload_n 0, 1) := dk_42 (dk_at dksX13_value_0 19 rfl rfl)
theorem dX13_value_20 : decode cX13_value 20 = .ok (.getfield 52, 3) := dk_180 0 52 (dk_at dksX13_value_0 20 rfl rfl)
theorem dX13_value_23 : decode cX13_value 23 = .ok (.bipush 40, 2) := dk_16 40 (dk_at dksX13_value_1 0 rfl rfl)
theorem dX13_value_25 : decode cX13_value 25 = .ok (.invokevirtual 99, 3) := dk_182 0 99 (dk_at dksX13_value_1 2 rfl rfl)
theorem dX13_value_28 : decode cX13_value 28 = .ok (.aload_n 0, 1) := dk_42 (dk_at dksX13_value_1 5 rfl rfl)
theorem dX13_value_29 : decode cX13_value 29 = .ok (.invokevirtual 164, 3) := dk_182 0 164 (dk_at dksX13_value_1 6 rfl rfl)
theorem dX13_value_32 : decode cX13_value 32 = .ok (.astore_n 1, 1) := dk_76 (dk_at dksX13_value_1 9 rfl rfl)
theorem dX13_value_33 : decode cX13_value 33 = .ok (.aload_n 0, 1) := dk_42 (dk_at dksX13_value_1 10 rfl rfl)
theorem dX13_value_34 : decode cX13_value 34 = .ok (.getfield 52, 3) := dk_180 0 52 (dk_at dksX13_value_1 11 rfl rfl)
theorem dX13_value_37 : decode cX13_value 37 = .ok (.bipush 41, 2) := dk_16 41 (dk_at dksX13_value_1 14 rfl rfl)
theorem dX13_value_39 : decode cX13_value 39 = .ok (.invokevirtual 99, 3) := dk_182 0 99 (dk_at dksX13_value_1 16 rfl rfl)
theorem dX13_value_42 : decode cX13_value 42 = .ok (.aload_n 0, 1) := dk_42 (dk_at dksX13_value_1 19 rfl rfl)
theorem dX13_value_43 : decode cX13_value 43 = .ok (.getfield 52, 3) := dk_180 0 52 (dk_at dksX13_value_1 20 rfl rfl)
theorem dX13_value_46 : decode cX13_value 46 = .ok (.invokevirtual 161, 3) := dk_182 0 161 (dk_at dksX13_value_2 0 rfl rfl)
theorem dX13_value_49 : decode cX13_value 49 = .ok (.aload_n 1, 1) := dk_43 (dk_at dksX13_value_2 3 rfl rfl)
theorem dX13_value_50 : decode cX13_value 50 = .ok (.areturn, 1) := dk_176 (dk_at dksX13_value_2 4 rfl rfl)
theorem dX13_value_51 : decode cX13_value 51 = .ok (.aload_n 0, 1) := dk_42 (dk_at dksX13_value_2 5 rfl rfl)
theorem dX13_value_52 : decode cX13_value 52 = .ok (.getfield 52, 3) := dk_180 0 52 (dk_at dksX13_value_2 6 rfl rfl)
theorem dX13_value_55 : decode cX13_value 55 = .ok (.aload_n 0, 1) := dk_42 (dk_at dksX13_value_2 9 rfl rfl)
theorem dX13_value_56 : decode cX13_value 56 = .ok (.getfield 49, 3) := dk_180 0 49 (dk_at dksX13_value_2 10 rfl rfl)
theorem dX13_value_59 : decode cX13_value 59 = .ok (.invokevirtual 67, 3) := dk_182 0 67 (dk_at dksX13_value_2 13 rfl rfl)
theorem dX13_value_62 : decode cX13_value 62 = .ok (.istore_n 1, 1) := dk_60 (dk_at dksX13_value_2 16 rfl rfl)
theorem dX13_value_63 : decode cX13_value 63 = .ok (.iload_n 1, 1) := dk_27 (dk_at dksX13_value_2 17 rfl rfl)
theorem dX13_value_64 : decode cX13_value 64 = .ok (.iconst (-1), 1) := dk_2 (dk_at dksX13_value_2 18 rfl rfl)
theorem dX13_value_65 : decode cX13_value 65 = .ok (.if_icmp .ne 22, 3) := dk_160 0 22 (dk_at dksX13_value_2 19 rfl rfl)
theorem dX13_value_68 : decode cX13_value 68 = .ok (.new 177, 3) := dk_187 0 177 (dk_at dksX13_value_3 0 rfl rfl)
theorem dX13_value_71 : decode cX13_value 71 = .ok (.dup, 1) := dk_89 (dk_at dksX13_value_3 3 rfl rfl)
theorem dX13_value_72 : decode cX13_value 72 = .ok (.aload_n 0, 1) := dk_42 (dk_at dksX13_value_3 4 rfl rfl)
theorem dX13_value_73 : decode cX13_value 73 = .ok (.getfield 52, 3) := dk_180 0 52 (dk_at dksX13_value_3 5 rfl rfl)
theorem dX13_value_76 : decode cX13_value 76 = .ok (.iconst 0, 1) := dk_3 (dk_at dksX13_value_3 8 rfl rfl)
theorem dX13_value_77 : decode cX13_value 77 = .ok (.sipush 999, 3) := dk_17 3 231 (dk_at dksX13_value_3 9 rfl rfl)
theorem dX13_value_80 : decode cX13_value 80 = .ok (.invokevirtual 89, 3) := dk_182 0 89 (dk_at dksX13_value_3 12 rfl rfl)
theorem dX13_value_83 : decode cX13_value 83 = .ok (.invokespecial 179, 3) := dk_183 0 179 (dk_at dksX13_value_3 15 rfl rfl)
theorem dX13_value_86 : decode cX13_value 86 = .ok (.areturn, 1) := dk_176 (dk_at dksX13_value_3 18 rfl rfl)
theorem dX13_value_87 : decode cX13_value 87 = .ok (.aload_n 0, 1) := dk_42 (dk_at dksX13_value_3 19 rfl rfl)
theorem dX13_value_88 : decode cX13_value 88 = .ok (.getfield 52, 3) := dk_180 0 52 (dk_at dksX13_value_3 20 rfl rfl)
theorem dX13_value_91 : decode cX13_value 91 = .ok (.invokevirtual 80, 3) := dk_182 0 80 (dk_at dksX13_value_4 0 rfl rfl)
theorem dX13_value_94 : decode cX13_value 94 = .ok (.new 182, 3) := dk_187 0 182 (dk_at dksX13_value_4 3 rfl rfl)
theorem dX13_value_97 : decode cX13_value 97 = .ok (.dup, 1) := dk_89 (dk_at dksX13_value_4 6 rfl rfl)
theorem dX13_value_98 : decode cX13_value 98 = .ok (.iload_n 1, 1) := dk_27 (dk_at dksX13_value_4 7 rfl rfl)
theorem dX13_value_99 : decode cX13_value 99 = .ok (.invokespecial 184, 3) := dk_183 0 184 (dk_at dksX13_value_4 8 rfl rfl)
theorem dX13_value_102 : decode cX13_value 102 = .ok (.areturn, 1) := dk_176 (dk_at dksX13_value_4 11 rfl rfl)
abbrev cX13_step : ByteArray := prog_8_method_3_code
def yX13_step : MethodName := ⟨RX13, "step", "(IILCardCups$Term;)LCardCups$Step;"⟩
def dkwX13_step_5 : List UInt8 := [183, 0, 130, 176, 187, 0, 128, 89, 27, 44, 5, 183, 0, 130, 176]
abbrev dktX13_step_5 : List UInt8 := dkwX13_step_5 ++ []
def dkwX13_step_4 : List UInt8 := [183, 0, 127, 176, 187, 0, 128, 89, 27, 44, 4, 183, 0, 130, 176, 187, 0, 128, 89, 27, 44, 3]
abbrev dktX13_step_4 : List UInt8 := dkwX13_step_4 ++ dktX13_step_5
def dkwX13_step_3 : List UInt8 := [27, 44, 183, 0, 121, 176, 187, 0, 122, 89, 27, 44, 183, 0, 124, 176, 187, 0, 125, 89, 27, 44]
abbrev dktX13_step_3 : List UInt8 := dkwX13_step_3 ++ dktX13_step_4
def dkwX13_step_2 : List UInt8 := [187, 0, 111, 89, 27, 44, 183, 0, 113, 176, 187, 0, 116, 89, 27, 44, 183, 0, 118, 176, 187, 0, 119, 89]
abbrev dktX13_step_2 : List UInt8 := dkwX13_step_2 ++ dktX13_step_3
def dkwX13_step_1 : List UInt8 := [170, 0, 0, 0, 0, 0, 115, 0, 0, 0, 0, 0, 0, 0, 6, 0, 0, 0, 43, 0, 0, 0, 53, 0, 0, 0, 63, 0, 0, 0, 73, 0, 0, 0, 83, 0, 0, 0, 93, 0, 0, 0, 104]
abbrev dktX13_step_1 : List UInt8 := dkwX13_step_1 ++ dktX13_step_2
def dkwX13_step_0 : List UInt8 := [26]
abbrev dktX13_step_0 : List UInt8 := dkwX13_step_0 ++ dktX13_step_1
theorem dksX13_step_0 : cX13_step.data.toList.drop 0 = dktX13_step_0 := by decide +kernel
theorem dksX13_step_1 : cX13_step.data.toList.drop 1 = dktX13_step_1 := dk_seg dksX13_step_0 1 rfl rfl
theorem dksX13_step_2 : cX13_step.data.toList.drop 44 = dktX13_step_2 := dk_seg dksX13_step_1 43 rfl rfl
theorem dksX13_step_3 : cX13_step.data.toList.drop 68 = dktX13_step_3 := dk_seg dksX13_step_2 24 rfl rfl
theorem dksX13_step_4 : cX13_step.data.toList.drop 90 = dktX13_step_4 := dk_seg dksX13_step_3 22 rfl rfl
theorem dksX13_step_5 : cX13_step.data.toList.drop 112 = dktX13_step_5 := dk_seg dksX13_step_4 22 rfl rfl
theorem dX13_step_0 : decode cX13_step 0 = .ok (.iload_n 0, 1) := dk_26 (dk_at dksX13_step_0 0 rfl rfl)
theorem dX13_step_1 : decode cX13_step 1 = .ok (.tableswitch 115 0 6 #[43, 53, 63, 73, 83, 93, 104], 43) := by decide +kernel
theorem dX13_step_44 : decode cX13_step 44 = .ok (.new 111, 3) := dk_187 0 111 (dk_at dksX13_step_2 0 rfl rfl)
theorem dX13_step_47 : decode cX13_step 47 = .ok (.dup, 1) := dk_89 (dk_at dksX13_step_2 3 rfl rfl)
theorem dX13_step_48 : decode cX13_step 48 = .ok (.iload_n 1, 1) := dk_27 (dk_at dksX13_step_2 4 rfl rfl)
theorem dX13_step_49 : decode cX13_step 49 = .ok (.aload_n 2, 1) := dk_44 (dk_at dksX13_step_2 5 rfl rfl)
theorem dX13_step_50 : decode cX13_step 50 = .ok (.invokespecial 113, 3) := dk_183 0 113 (dk_at dksX13_step_2 6 rfl rfl)
theorem dX13_step_53 : decode cX13_step 53 = .ok (.areturn, 1) := dk_176 (dk_at dksX13_step_2 9 rfl rfl)
theorem dX13_step_54 : decode cX13_step 54 = .ok (.new 116, 3) := dk_187 0 116 (dk_at dksX13_step_2 10 rfl rfl)
theorem dX13_step_57 : decode cX13_step 57 = .ok (.dup, 1) := dk_89 (dk_at dksX13_step_2 13 rfl rfl)
theorem dX13_step_58 : decode cX13_step 58 = .ok (.iload_n 1, 1) := dk_27 (dk_at dksX13_step_2 14 rfl rfl)
theorem dX13_step_59 : decode cX13_step 59 = .ok (.aload_n 2, 1) := dk_44 (dk_at dksX13_step_2 15 rfl rfl)
theorem dX13_step_60 : decode cX13_step 60 = .ok (.invokespecial 118, 3) := dk_183 0 118 (dk_at dksX13_step_2 16 rfl rfl)
theorem dX13_step_63 : decode cX13_step 63 = .ok (.areturn, 1) := dk_176 (dk_at dksX13_step_2 19 rfl rfl)
theorem dX13_step_64 : decode cX13_step 64 = .ok (.new 119, 3) := dk_187 0 119 (dk_at dksX13_step_2 20 rfl rfl)
theorem dX13_step_67 : decode cX13_step 67 = .ok (.dup, 1) := dk_89 (dk_at dksX13_step_2 23 rfl rfl)
theorem dX13_step_68 : decode cX13_step 68 = .ok (.iload_n 1, 1) := dk_27 (dk_at dksX13_step_3 0 rfl rfl)
theorem dX13_step_69 : decode cX13_step 69 = .ok (.aload_n 2, 1) := dk_44 (dk_at dksX13_step_3 1 rfl rfl)
theorem dX13_step_70 : decode cX13_step 70 = .ok (.invokespecial 121, 3) := dk_183 0 121 (dk_at dksX13_step_3 2 rfl rfl)
theorem dX13_step_73 : decode cX13_step 73 = .ok (.areturn, 1) := dk_176 (dk_at dksX13_step_3 5 rfl rfl)
theorem dX13_step_74 : decode cX13_step 74 = .ok (.new 122, 3) := dk_187 0 122 (dk_at dksX13_step_3 6 rfl rfl)
theorem dX13_step_77 : decode cX13_step 77 = .ok (.dup, 1) := dk_89 (dk_at dksX13_step_3 9 rfl rfl)
theorem dX13_step_78 : decode cX13_step 78 = .ok (.iload_n 1, 1) := dk_27 (dk_at dksX13_step_3 10 rfl rfl)
theorem dX13_step_79 : decode cX13_step 79 = .ok (.aload_n 2, 1) := dk_44 (dk_at dksX13_step_3 11 rfl rfl)
theorem dX13_step_80 : decode cX13_step 80 = .ok (.invokespecial 124, 3) := dk_183 0 124 (dk_at dksX13_step_3 12 rfl rfl)
theorem dX13_step_83 : decode cX13_step 83 = .ok (.areturn, 1) := dk_176 (dk_at dksX13_step_3 15 rfl rfl)
theorem dX13_step_84 : decode cX13_step 84 = .ok (.new 125, 3) := dk_187 0 125 (dk_at dksX13_step_3 16 rfl rfl)
theorem dX13_step_87 : decode cX13_step 87 = .ok (.dup, 1) := dk_89 (dk_at dksX13_step_3 19 rfl rfl)
theorem dX13_step_88 : decode cX13_step 88 = .ok (.iload_n 1, 1) := dk_27 (dk_at dksX13_step_3 20 rfl rfl)
theorem dX13_step_89 : decode cX13_step 89 = .ok (.aload_n 2, 1) := dk_44 (dk_at dksX13_step_3 21 rfl rfl)
theorem dX13_step_90 : decode cX13_step 90 = .ok (.invokespecial 127, 3) := dk_183 0 127 (dk_at dksX13_step_4 0 rfl rfl)
theorem dX13_step_93 : decode cX13_step 93 = .ok (.areturn, 1) := dk_176 (dk_at dksX13_step_4 3 rfl rfl)
theorem dX13_step_94 : decode cX13_step 94 = .ok (.new 128, 3) := dk_187 0 128 (dk_at dksX13_step_4 4 rfl rfl)
theorem dX13_step_97 : decode cX13_step 97 = .ok (.dup, 1) := dk_89 (dk_at dksX13_step_4 7 rfl rfl)
theorem dX13_step_98 : decode cX13_step 98 = .ok (.iload_n 1, 1) := dk_27 (dk_at dksX13_step_4 8 rfl rfl)
theorem dX13_step_99 : decode cX13_step 99 = .ok (.aload_n 2, 1) := dk_44 (dk_at dksX13_step_4 9 rfl rfl)
theorem dX13_step_100 : decode cX13_step 100 = .ok (.iconst 1, 1) := dk_4 (dk_at dksX13_step_4 10 rfl rfl)
theorem dX13_step_101 : decode cX13_step 101 = .ok (.invokespecial 130, 3) := dk_183 0 130 (dk_at dksX13_step_4 11 rfl rfl)
theorem dX13_step_104 : decode cX13_step 104 = .ok (.areturn, 1) := dk_176 (dk_at dksX13_step_4 14 rfl rfl)
theorem dX13_step_105 : decode cX13_step 105 = .ok (.new 128, 3) := dk_187 0 128 (dk_at dksX13_step_4 15 rfl rfl)
theorem dX13_step_108 : decode cX13_step 108 = .ok (.dup, 1) := dk_89 (dk_at dksX13_step_4 18 rfl rfl)
theorem dX13_step_109 : decode cX13_step 109 = .ok (.iload_n 1, 1) := dk_27 (dk_at dksX13_step_4 19 rfl rfl)
theorem dX13_step_110 : decode cX13_step 110 = .ok (.aload_n 2, 1) := dk_44 (dk_at dksX13_step_4 20 rfl rfl)
theorem dX13_step_111 : decode cX13_step 111 = .ok (.iconst 0, 1) := dk_3 (dk_at dksX13_step_4 21 rfl rfl)
theorem dX13_step_112 : decode cX13_step 112 = .ok (.invokespecial 130, 3) := dk_183 0 130 (dk_at dksX13_step_5 0 rfl rfl)
theorem dX13_step_115 : decode cX13_step 115 = .ok (.areturn, 1) := dk_176 (dk_at dksX13_step_5 3 rfl rfl)
theorem dX13_step_116 : decode cX13_step 116 = .ok (.new 128, 3) := dk_187 0 128 (dk_at dksX13_step_5 4 rfl rfl)
theorem dX13_step_119 : decode cX13_step 119 = .ok (.dup, 1) := dk_89 (dk_at dksX13_step_5 7 rfl rfl)
theorem dX13_step_120 : decode cX13_step 120 = .ok (.iload_n 1, 1) := dk_27 (dk_at dksX13_step_5 8 rfl rfl)
theorem dX13_step_121 : decode cX13_step 121 = .ok (.aload_n 2, 1) := dk_44 (dk_at dksX13_step_5 9 rfl rfl)
theorem dX13_step_122 : decode cX13_step 122 = .ok (.iconst 2, 1) := dk_5 (dk_at dksX13_step_5 10 rfl rfl)
theorem dX13_step_123 : decode cX13_step 123 = .ok (.invokespecial 130, 3) := dk_183 0 130 (dk_at dksX13_step_5 11 rfl rfl)
theorem dX13_step_126 : decode cX13_step 126 = .ok (.areturn, 1) := dk_176 (dk_at dksX13_step_5 14 rfl rfl)
theorem q131 : (Jvm.Cond.initialized "CardCups$HabitReader") ∈ lw_all := lw_g (lw_at lw_m1 24 rfl) rfl
theorem q1132 : (Jvm.Cond.instantiable "CardCups$HabitReader" (3 : Nat)) ∈ lw_all := lw_g (lw_at lw_m5 65 rfl) rfl
theorem q1134 : (Jvm.Cond.instanceMethod ({ cls := "CardCups$HabitReader", name := "<init>", desc := "(LCardCups$Reader;)V" } : Jvm.MethodName)) ∈ lw_all := lw_g (lw_at lw_m5 67 rfl) rfl
theorem q1135 : (Jvm.Cond.code ({ cls := "CardCups$HabitReader", name := "<init>", desc := "(LCardCups$Reader;)V" } : Jvm.MethodName) prog_8_method_1_code (2 : Nat) (Option.none : Option Jvm.ClassFile.FieldType)) ∈ lw_all := lw_g (lw_at lw_m5 68 rfl) rfl
theorem q1136 : (Jvm.Cond.methodLink "CardCups$HabitReader" (3 : Nat) ({ cls := "java/lang/Object", name := "<init>", desc := "()V" } : Jvm.MethodName)) ∈ lw_all := lw_g (lw_at lw_m5 69 rfl) rfl
theorem q1137 : (Jvm.Cond.classLink "CardCups$HabitReader" (9 : Nat) "java/lang/String") ∈ lw_all := lw_g (lw_at lw_m5 70 rfl) rfl
theorem q1138 : (Jvm.Cond.stringRef "CardCups$HabitReader" (11 : Nat) "put") ∈ lw_tbl := lw_at lw_m5 71 rfl
theorem q1139 : (Jvm.Cond.stringRef "CardCups$HabitReader" (13 : Nat) "take") ∈ lw_tbl := lw_at lw_m5 72 rfl
theorem q1140 : (Jvm.Cond.stringRef "CardCups$HabitReader" (15 : Nat) "look") ∈ lw_tbl := lw_at lw_m5 73 rfl
theorem q1141 : (Jvm.Cond.stringRef "CardCups$HabitReader" (17 : Nat) "start") ∈ lw_tbl := lw_at lw_m5 74 rfl
theorem q1142 : (Jvm.Cond.stringRef "CardCups$HabitReader" (19 : Nat) "empty") ∈ lw_tbl := lw_at lw_m5 75 rfl
theorem q1143 : (Jvm.Cond.stringRef "CardCups$HabitReader" (21 : Nat) "clean") ∈ lw_tbl := lw_at lw_m5 76 rfl
theorem q1144 : (Jvm.Cond.stringRef "CardCups$HabitReader" (23 : Nat) "dirty") ∈ lw_tbl := lw_at lw_m5 77 rfl
theorem q1145 : (Jvm.Cond.stringRef "CardCups$HabitReader" (25 : Nat) "turn") ∈ lw_tbl := lw_at lw_m5 78 rfl
theorem q1146 : (Jvm.Cond.stringRef "CardCups$HabitReader" (33 : Nat) "card") ∈ lw_tbl := lw_at lw_m5 79 rfl
theorem q1147 : (Jvm.Cond.stringRef "CardCups$HabitReader" (35 : Nat) "warm") ∈ lw_tbl := lw_at lw_m5 80 rfl
theorem q1148 : (Jvm.Cond.stringRef "CardCups$HabitReader" (37 : Nat) "in") ∈ lw_tbl := lw_at lw_m5 81 rfl
theorem q1149 : (Jvm.Cond.stringRef "CardCups$HabitReader" (39 : Nat) "room") ∈ lw_tbl := lw_at lw_m5 82 rfl
theorem q1150 : (Jvm.Cond.stringRef "CardCups$HabitReader" (41 : Nat) "minute") ∈ lw_tbl := lw_at lw_m5 83 rfl
theorem q1151 : (Jvm.Cond.stringRef "CardCups$HabitReader" (43 : Nat) "seen") ∈ lw_tbl := lw_at lw_m5 84 rfl
theorem q1152 : (Jvm.Cond.stringRef "CardCups$HabitReader" (45 : Nat) "last") ∈ lw_tbl := lw_at lw_m5 85 rfl
theorem q1153 : (Jvm.Cond.stringRef "CardCups$HabitReader" (47 : Nat) "visit") ∈ lw_tbl := lw_at lw_m5 86 rfl
theorem q1154 : (Jvm.Cond.fieldLink "CardCups$HabitReader" (27 : Nat) "CardCups$HabitReader" "acts" "[Ljava/lang/String;") ∈ lw_all := lw_g (lw_at lw_m5 87 rfl) rfl
theorem q1155 : (Jvm.Cond.fieldLink "CardCups$HabitReader" (49 : Nat) "CardCups$HabitReader" "known" "[Ljava/lang/String;") ∈ lw_all := lw_g (lw_at lw_m5 88 rfl) rfl
theorem q1156 : (Jvm.Cond.fieldLink "CardCups$HabitReader" (52 : Nat) "CardCups$HabitReader" "in" "LCardCups$Reader;") ∈ lw_all := lw_g (lw_at lw_m5 89 rfl) rfl
theorem q1157 : (Jvm.Cond.laysFinal "CardCups$HabitReader" "CardCups$HabitReader" "acts" "[Ljava/lang/String;") ∈ lw_all := lw_g (lw_at lw_m5 90 rfl) rfl
theorem q1158 : (Jvm.Cond.soleField "CardCups$HabitReader" "acts") ∈ lw_all := lw_g (lw_at lw_m5 91 rfl) rfl
theorem q1159 : (Jvm.Cond.laysFinal "CardCups$HabitReader" "CardCups$HabitReader" "known" "[Ljava/lang/String;") ∈ lw_all := lw_g (lw_at lw_m5 92 rfl) rfl
theorem q1160 : (Jvm.Cond.soleField "CardCups$HabitReader" "known") ∈ lw_all := lw_g (lw_at lw_m5 93 rfl) rfl
theorem q1161 : (Jvm.Cond.laysFinal "CardCups$HabitReader" "CardCups$HabitReader" "in" "LCardCups$Reader;") ∈ lw_all := lw_g (lw_at lw_m5 94 rfl) rfl
theorem q1162 : (Jvm.Cond.soleField "CardCups$HabitReader" "in") ∈ lw_all := lw_g (lw_at lw_m5 95 rfl) rfl
theorem q1163 : (Jvm.Cond.superclass "CardCups$HabitReader" "java/lang/Object") ∈ lw_all := lw_g (lw_at lw_m5 96 rfl) rfl
theorem q1165 : (Jvm.Cond.instanceMethod ({ cls := "CardCups$HabitReader", name := "reads", desc := "()LCardCups$Habit;" } : Jvm.MethodName)) ∈ lw_all := lw_g (lw_at lw_m5 98 rfl) rfl
theorem q1166 : (Jvm.Cond.selects "CardCups$HabitReader" ({ cls := "CardCups$HabitReader", name := "reads", desc := "()LCardCups$Habit;" } : Jvm.MethodName) ({ cls := "CardCups$HabitReader", name := "reads", desc := "()LCardCups$Habit;" } : Jvm.MethodName)) ∈ lw_all := lw_g (lw_at lw_m5 99 rfl) rfl
theorem q1167 : (Jvm.Cond.code ({ cls := "CardCups$HabitReader", name := "reads", desc := "()LCardCups$Habit;" } : Jvm.MethodName) prog_8_method_2_code (6 : Nat) (Option.some (Jvm.ClassFile.FieldType.object "CardCups$Habit"))) ∈ lw_all := lw_g (lw_at lw_m5 100 rfl) rfl
theorem q1168 : (Jvm.Cond.classLink "CardCups$HabitReader" (55 : Nat) "CardCups$Habit") ∈ lw_all := lw_g (lw_at lw_m5 101 rfl) rfl
theorem q1170 : (Jvm.Cond.methodLinkNest "CardCups$HabitReader" (57 : Nat) ({ cls := "CardCups$Habit", name := "<init>", desc := "()V" } : Jvm.MethodName) "CardCups") ∈ lw_tbl := lw_at lw_m5 103 rfl
theorem q1177 : (Jvm.Cond.fieldLinkNest "CardCups$HabitReader" (103 : Nat) "CardCups$Habit" "steps" "[LCardCups$Step;" "CardCups") ∈ lw_tbl := lw_at lw_m5 110 rfl
theorem q1180 : (Jvm.Cond.fieldLinkNest "CardCups$HabitReader" (76 : Nat) "CardCups$Habit" "many" "I" "CardCups") ∈ lw_tbl := lw_at lw_m5 113 rfl
theorem q1189 : (Jvm.Cond.methodLink "CardCups$HabitReader" (58 : Nat) ({ cls := "CardCups$Reader", name := "now", desc := "()I" } : Jvm.MethodName)) ∈ lw_all := lw_g (lw_at lw_m5 122 rfl) rfl
theorem q1190 : (Jvm.Cond.methodLink "CardCups$HabitReader" (64 : Nat) ({ cls := "CardCups$Reader", name := "place", desc := "()I" } : Jvm.MethodName)) ∈ lw_all := lw_g (lw_at lw_m5 123 rfl) rfl
theorem q1191 : (Jvm.Cond.methodLink "CardCups$HabitReader" (67 : Nat) ({ cls := "CardCups$Reader", name := "which", desc := "([Ljava/lang/String;)I" } : Jvm.MethodName)) ∈ lw_all := lw_g (lw_at lw_m5 124 rfl) rfl
theorem q1192 : (Jvm.Cond.classLink "CardCups$HabitReader" (71 : Nat) "CardCups$Wrong") ∈ lw_all := lw_g (lw_at lw_m5 125 rfl) rfl
theorem q1193 : (Jvm.Cond.methodLink "CardCups$HabitReader" (73 : Nat) ({ cls := "CardCups$Wrong", name := "<init>", desc := "(II)V" } : Jvm.MethodName)) ∈ lw_all := lw_g (lw_at lw_m5 126 rfl) rfl
theorem q1194 : (Jvm.Cond.methodLink "CardCups$HabitReader" (80 : Nat) ({ cls := "CardCups$Reader", name := "skipsWord", desc := "()V" } : Jvm.MethodName)) ∈ lw_all := lw_g (lw_at lw_m5 127 rfl) rfl
theorem q1195 : (Jvm.Cond.stringRef "CardCups$HabitReader" (83 : Nat) "by") ∈ lw_tbl := lw_at lw_m5 128 rfl
theorem q1196 : (Jvm.Cond.methodLink "CardCups$HabitReader" (85 : Nat) ({ cls := "CardCups$Reader", name := "takes", desc := "(Ljava/lang/String;)Z" } : Jvm.MethodName)) ∈ lw_all := lw_g (lw_at lw_m5 129 rfl) rfl
theorem q1200 : (Jvm.Cond.methodLink "CardCups$HabitReader" (89 : Nat) ({ cls := "CardCups$Reader", name := "number", desc := "(II)I" } : Jvm.MethodName)) ∈ lw_all := lw_g (lw_at lw_m5 133 rfl) rfl
theorem q1201 : (Jvm.Cond.stringRef "CardCups$HabitReader" (93 : Nat) "if") ∈ lw_tbl := lw_at lw_m5 134 rfl
theorem q1202 : (Jvm.Cond.methodLink "CardCups$HabitReader" (95 : Nat) ({ cls := "CardCups$HabitReader", name := "any", desc := "()LCardCups$Term;" } : Jvm.MethodName)) ∈ lw_all := lw_g (lw_at lw_m5 135 rfl) rfl
theorem q1203 : (Jvm.Cond.privateMethod ({ cls := "CardCups$HabitReader", name := "any", desc := "()LCardCups$Term;" } : Jvm.MethodName)) ∈ lw_tbl := lw_at lw_m5 136 rfl
theorem q1204 : (Jvm.Cond.instanceMethod ({ cls := "CardCups$HabitReader", name := "any", desc := "()LCardCups$Term;" } : Jvm.MethodName)) ∈ lw_all := lw_g (lw_at lw_m5 137 rfl) rfl
theorem q1205 : (Jvm.Cond.code ({ cls := "CardCups$HabitReader", name := "any", desc := "()LCardCups$Term;" } : Jvm.MethodName) prog_8_method_4_code (2 : Nat) (Option.some (Jvm.ClassFile.FieldType.object "CardCups$Term"))) ∈ lw_all := lw_g (lw_at lw_m5 138 rfl) rfl
theorem q1206 : (Jvm.Cond.methodLink "CardCups$HabitReader" (133 : Nat) ({ cls := "CardCups$HabitReader", name := "each", desc := "()LCardCups$Term;" } : Jvm.MethodName)) ∈ lw_all := lw_g (lw_at lw_m5 139 rfl) rfl
theorem q1207 : (Jvm.Cond.privateMethod ({ cls := "CardCups$HabitReader", name := "each", desc := "()LCardCups$Term;" } : Jvm.MethodName)) ∈ lw_tbl := lw_at lw_m5 140 rfl
theorem q1208 : (Jvm.Cond.instanceMethod ({ cls := "CardCups$HabitReader", name := "each", desc := "()LCardCups$Term;" } : Jvm.MethodName)) ∈ lw_all := lw_g (lw_at lw_m5 141 rfl) rfl
theorem q1209 : (Jvm.Cond.code ({ cls := "CardCups$HabitReader", name := "each", desc := "()LCardCups$Term;" } : Jvm.MethodName) prog_8_method_5_code (2 : Nat) (Option.some (Jvm.ClassFile.FieldType.object "CardCups$Term"))) ∈ lw_all := lw_g (lw_at lw_m5 142 rfl) rfl
theorem q1210 : (Jvm.Cond.methodLink "CardCups$HabitReader" (143 : Nat) ({ cls := "CardCups$HabitReader", name := "one", desc := "()LCardCups$Term;" } : Jvm.MethodName)) ∈ lw_all := lw_g (lw_at lw_m5 143 rfl) rfl
theorem q1211 : (Jvm.Cond.privateMethod ({ cls := "CardCups$HabitReader", name := "one", desc := "()LCardCups$Term;" } : Jvm.MethodName)) ∈ lw_tbl := lw_at lw_m5 144 rfl
theorem q1212 : (Jvm.Cond.instanceMethod ({ cls := "CardCups$HabitReader", name := "one", desc := "()LCardCups$Term;" } : Jvm.MethodName)) ∈ lw_all := lw_g (lw_at lw_m5 145 rfl) rfl
theorem q1213 : (Jvm.Cond.code ({ cls := "CardCups$HabitReader", name := "one", desc := "()LCardCups$Term;" } : Jvm.MethodName) prog_8_method_6_code (3 : Nat) (Option.some (Jvm.ClassFile.FieldType.object "CardCups$Term"))) ∈ lw_all := lw_g (lw_at lw_m5 146 rfl) rfl
theorem q1214 : (Jvm.Cond.stringRef "CardCups$HabitReader" (148 : Nat) "not") ∈ lw_tbl := lw_at lw_m5 147 rfl
theorem q1215 : (Jvm.Cond.methodLink "CardCups$HabitReader" (150 : Nat) ({ cls := "CardCups$Reader", name := "isWord", desc := "(Ljava/lang/String;)Z" } : Jvm.MethodName)) ∈ lw_all := lw_g (lw_at lw_m5 148 rfl) rfl
theorem q1216 : (Jvm.Cond.methodLink "CardCups$HabitReader" (153 : Nat) ({ cls := "CardCups$Reader", name := "opens", desc := "()V" } : Jvm.MethodName)) ∈ lw_all := lw_g (lw_at lw_m5 149 rfl) rfl
theorem q1220 : (Jvm.Cond.classLink "CardCups$HabitReader" (156 : Nat) "CardCups$Not") ∈ lw_all := lw_g (lw_at lw_m5 153 rfl) rfl
theorem q1222 : (Jvm.Cond.methodLink "CardCups$HabitReader" (158 : Nat) ({ cls := "CardCups$Not", name := "<init>", desc := "(LCardCups$Term;)V" } : Jvm.MethodName)) ∈ lw_all := lw_g (lw_at lw_m5 155 rfl) rfl
theorem q1230 : (Jvm.Cond.methodLink "CardCups$HabitReader" (161 : Nat) ({ cls := "CardCups$Reader", name := "closes", desc := "()V" } : Jvm.MethodName)) ∈ lw_all := lw_g (lw_at lw_m5 163 rfl) rfl
theorem q1234 : (Jvm.Cond.methodLink "CardCups$HabitReader" (99 : Nat) ({ cls := "CardCups$Reader", name := "sign", desc := "(C)V" } : Jvm.MethodName)) ∈ lw_all := lw_g (lw_at lw_m5 167 rfl) rfl
theorem q1235 : (Jvm.Cond.methodLink "CardCups$HabitReader" (164 : Nat) ({ cls := "CardCups$HabitReader", name := "sum", desc := "()LCardCups$Term;" } : Jvm.MethodName)) ∈ lw_all := lw_g (lw_at lw_m5 168 rfl) rfl
theorem q1236 : (Jvm.Cond.privateMethod ({ cls := "CardCups$HabitReader", name := "sum", desc := "()LCardCups$Term;" } : Jvm.MethodName)) ∈ lw_tbl := lw_at lw_m5 169 rfl
theorem q1237 : (Jvm.Cond.instanceMethod ({ cls := "CardCups$HabitReader", name := "sum", desc := "()LCardCups$Term;" } : Jvm.MethodName)) ∈ lw_all := lw_g (lw_at lw_m5 170 rfl) rfl
theorem q1238 : (Jvm.Cond.code ({ cls := "CardCups$HabitReader", name := "sum", desc := "()LCardCups$Term;" } : Jvm.MethodName) prog_8_method_7_code (2 : Nat) (Option.some (Jvm.ClassFile.FieldType.object "CardCups$Term"))) ∈ lw_all := lw_g (lw_at lw_m5 171 rfl) rfl
theorem q1239 : (Jvm.Cond.methodLink "CardCups$HabitReader" (171 : Nat) ({ cls := "CardCups$HabitReader", name := "product", desc := "()LCardCups$Term;" } : Jvm.MethodName)) ∈ lw_all := lw_g (lw_at lw_m5 172 rfl) rfl
theorem q1240 : (Jvm.Cond.privateMethod ({ cls := "CardCups$HabitReader", name := "product", desc := "()LCardCups$Term;" } : Jvm.MethodName)) ∈ lw_tbl := lw_at lw_m5 173 rfl
theorem q1241 : (Jvm.Cond.instanceMethod ({ cls := "CardCups$HabitReader", name := "product", desc := "()LCardCups$Term;" } : Jvm.MethodName)) ∈ lw_all := lw_g (lw_at lw_m5 174 rfl) rfl
theorem q1242 : (Jvm.Cond.code ({ cls := "CardCups$HabitReader", name := "product", desc := "()LCardCups$Term;" } : Jvm.MethodName) prog_8_method_8_code (2 : Nat) (Option.some (Jvm.ClassFile.FieldType.object "CardCups$Term"))) ∈ lw_all := lw_g (lw_at lw_m5 175 rfl) rfl
theorem q1243 : (Jvm.Cond.methodLink "CardCups$HabitReader" (174 : Nat) ({ cls := "CardCups$HabitReader", name := "value", desc := "()LCardCups$Term;" } : Jvm.MethodName)) ∈ lw_all := lw_g (lw_at lw_m5 176 rfl) rfl
theorem q1244 : (Jvm.Cond.privateMethod ({ cls := "CardCups$HabitReader", name := "value", desc := "()LCardCups$Term;" } : Jvm.MethodName)) ∈ lw_tbl := lw_at lw_m5 177 rfl
theorem q1245 : (Jvm.Cond.instanceMethod ({ cls := "CardCups$HabitReader", name := "value", desc := "()LCardCups$Term;" } : Jvm.MethodName)) ∈ lw_all := lw_g (lw_at lw_m5 178 rfl) rfl
theorem q1246 : (Jvm.Cond.code ({ cls := "CardCups$HabitReader", name := "value", desc := "()LCardCups$Term;" } : Jvm.MethodName) prog_8_method_9_code (2 : Nat) (Option.some (Jvm.ClassFile.FieldType.object "CardCups$Term"))) ∈ lw_all := lw_g (lw_at lw_m5 179 rfl) rfl
theorem q1247 : (Jvm.Cond.classLink "CardCups$HabitReader" (177 : Nat) "CardCups$Told") ∈ lw_all := lw_g (lw_at lw_m5 180 rfl) rfl
theorem q1249 : (Jvm.Cond.methodLink "CardCups$HabitReader" (179 : Nat) ({ cls := "CardCups$Told", name := "<init>", desc := "(I)V" } : Jvm.MethodName)) ∈ lw_all := lw_g (lw_at lw_m5 182 rfl) rfl
theorem q1257 : (Jvm.Cond.classLink "CardCups$HabitReader" (182 : Nat) "CardCups$Known") ∈ lw_all := lw_g (lw_at lw_m5 190 rfl) rfl
theorem q1259 : (Jvm.Cond.methodLink "CardCups$HabitReader" (184 : Nat) ({ cls := "CardCups$Known", name := "<init>", desc := "(I)V" } : Jvm.MethodName)) ∈ lw_all := lw_g (lw_at lw_m5 192 rfl) rfl
theorem q1267 : (Jvm.Cond.methodLink "CardCups$HabitReader" (167 : Nat) ({ cls := "CardCups$Reader", name := "takesSign", desc := "(C)Z" } : Jvm.MethodName)) ∈ lw_all := lw_g (lw_at lw_m5 200 rfl) rfl
theorem q1271 : (Jvm.Cond.classLink "CardCups$HabitReader" (138 : Nat) "CardCups$Two") ∈ lw_all := lw_g (lw_at lw_m5 204 rfl) rfl
theorem q1273 : (Jvm.Cond.methodLink "CardCups$HabitReader" (140 : Nat) ({ cls := "CardCups$Two", name := "<init>", desc := "(CLCardCups$Term;LCardCups$Term;)V" } : Jvm.MethodName)) ∈ lw_all := lw_g (lw_at lw_m5 206 rfl) rfl
theorem q1287 : (Jvm.Cond.stringRef "CardCups$HabitReader" (146 : Nat) "and") ∈ lw_tbl := lw_at lw_m5 220 rfl
theorem q1288 : (Jvm.Cond.stringRef "CardCups$HabitReader" (136 : Nat) "or") ∈ lw_tbl := lw_at lw_m5 221 rfl
theorem q1289 : (Jvm.Cond.methodLink "CardCups$HabitReader" (107 : Nat) ({ cls := "CardCups$HabitReader", name := "step", desc := "(IILCardCups$Term;)LCardCups$Step;" } : Jvm.MethodName)) ∈ lw_all := lw_g (lw_at lw_m5 222 rfl) rfl
theorem q1290 : (Jvm.Cond.static ({ cls := "CardCups$HabitReader", name := "step", desc := "(IILCardCups$Term;)LCardCups$Step;" } : Jvm.MethodName)) ∈ lw_all := lw_g (lw_at lw_m5 223 rfl) rfl
theorem q1291 : (Jvm.Cond.code ({ cls := "CardCups$HabitReader", name := "step", desc := "(IILCardCups$Term;)LCardCups$Step;" } : Jvm.MethodName) prog_8_method_3_code (3 : Nat) (Option.some (Jvm.ClassFile.FieldType.object "CardCups$Step"))) ∈ lw_all := lw_g (lw_at lw_m5 224 rfl) rfl
theorem q1292 : (Jvm.Cond.classLink "CardCups$HabitReader" (111 : Nat) "CardCups$Put") ∈ lw_all := lw_g (lw_at lw_m5 225 rfl) rfl
theorem q1294 : (Jvm.Cond.methodLink "CardCups$HabitReader" (113 : Nat) ({ cls := "CardCups$Put", name := "<init>", desc := "(ILCardCups$Term;)V" } : Jvm.MethodName)) ∈ lw_all := lw_g (lw_at lw_m5 227 rfl) rfl
theorem q1308 : (Jvm.Cond.classLink "CardCups$HabitReader" (116 : Nat) "CardCups$Take") ∈ lw_all := lw_g (lw_at lw_m6 1 rfl) rfl
theorem q1310 : (Jvm.Cond.methodLink "CardCups$HabitReader" (118 : Nat) ({ cls := "CardCups$Take", name := "<init>", desc := "(ILCardCups$Term;)V" } : Jvm.MethodName)) ∈ lw_all := lw_g (lw_at lw_m6 3 rfl) rfl
theorem q1317 : (Jvm.Cond.classLink "CardCups$HabitReader" (119 : Nat) "CardCups$Look") ∈ lw_all := lw_g (lw_at lw_m6 10 rfl) rfl
theorem q1319 : (Jvm.Cond.methodLink "CardCups$HabitReader" (121 : Nat) ({ cls := "CardCups$Look", name := "<init>", desc := "(ILCardCups$Term;)V" } : Jvm.MethodName)) ∈ lw_all := lw_g (lw_at lw_m6 12 rfl) rfl
theorem q1326 : (Jvm.Cond.classLink "CardCups$HabitReader" (122 : Nat) "CardCups$Start") ∈ lw_all := lw_g (lw_at lw_m6 19 rfl) rfl
theorem q1328 : (Jvm.Cond.methodLink "CardCups$HabitReader" (124 : Nat) ({ cls := "CardCups$Start", name := "<init>", desc := "(ILCardCups$Term;)V" } : Jvm.MethodName)) ∈ lw_all := lw_g (lw_at lw_m6 21 rfl) rfl
theorem q1335 : (Jvm.Cond.classLink "CardCups$HabitReader" (125 : Nat) "CardCups$Empty") ∈ lw_all := lw_g (lw_at lw_m6 28 rfl) rfl
theorem q1337 : (Jvm.Cond.methodLink "CardCups$HabitReader" (127 : Nat) ({ cls := "CardCups$Empty", name := "<init>", desc := "(ILCardCups$Term;)V" } : Jvm.MethodName)) ∈ lw_all := lw_g (lw_at lw_m6 30 rfl) rfl
theorem q1344 : (Jvm.Cond.classLink "CardCups$HabitReader" (128 : Nat) "CardCups$Turn") ∈ lw_all := lw_g (lw_at lw_m6 37 rfl) rfl
theorem q1345 : (Jvm.Cond.methodLink "CardCups$HabitReader" (130 : Nat) ({ cls := "CardCups$Turn", name := "<init>", desc := "(ILCardCups$Term;I)V" } : Jvm.MethodName)) ∈ lw_all := lw_g (lw_at lw_m6 38 rfl) rfl
theorem q2495 : (Jvm.Cond.castable "CardCups$HabitReader" "java/lang/Object") ∈ lw_tbl := lw_at lw_m10 228 rfl
theorem in_X13 : ∀ w ∈ wsX130, w ∈ lw_all := lw_in wsX130 [1157, 1159, 1161] (by decide +kernel) (by decide +kernel)
/-! CardCups$Habit -/
set_option maxRecDepth 100000
def RX14 : String := "CardCups$Habit"
def TX14 : u_T := fun k => match k with
  | 0 => ("CardCups$Habit", "steps", "[LCardCups$Step;", true)
  | _ => ("CardCups$Habit", "many", "I", false)
def tyX14 : Nat → FieldType := fun k => match k with
  | 0 => .array (.object "CardCups$Step")
  | _ => .int
abbrev wsX140 : List Cond := u_ws RX14 TX14 2
theorem nmX14 : ∀ a, a < 2 → ∀ b, b < 2 → a ≠ b → (TX14 a).2.1 ≠ (TX14 b).2.1 := by decide +kernel
theorem tyX14_ok : ∀ k, k < 2 → parseFieldDescriptor (TX14 k).2.2.1 = some (tyX14 k) := by decide +kernel
abbrev cX14_init : ByteArray := prog_7_method_1_code
def yX14_init : MethodName := ⟨RX14, "<init>", "()V"⟩
def dkwX14_init_0 : List UInt8 := [42, 183, 0, 3, 42, 16, 8, 189, 0, 9, 181, 0, 11, 177]
abbrev dktX14_init_0 : List UInt8 := dkwX14_init_0 ++ []
theorem dksX14_init_0 : cX14_init.data.toList.drop 0 = dktX14_init_0 := by decide +kernel
theorem dX14_init_0 : decode cX14_init 0 = .ok (.aload_n 0, 1) := dk_42 (dk_at dksX14_init_0 0 rfl rfl)
theorem dX14_init_1 : decode cX14_init 1 = .ok (.invokespecial 3, 3) := dk_183 0 3 (dk_at dksX14_init_0 1 rfl rfl)
theorem dX14_init_4 : decode cX14_init 4 = .ok (.aload_n 0, 1) := dk_42 (dk_at dksX14_init_0 4 rfl rfl)
theorem dX14_init_5 : decode cX14_init 5 = .ok (.bipush 8, 2) := dk_16 8 (dk_at dksX14_init_0 5 rfl rfl)
theorem dX14_init_7 : decode cX14_init 7 = .ok (.anewarray 9, 3) := dk_189 0 9 (dk_at dksX14_init_0 7 rfl rfl)
theorem dX14_init_10 : decode cX14_init 10 = .ok (.putfield 11, 3) := dk_181 0 11 (dk_at dksX14_init_0 10 rfl rfl)
theorem dX14_init_13 : decode cX14_init 13 = .ok (.return_, 1) := dk_177 (dk_at dksX14_init_0 13 rfl rfl)
theorem q132 : (Jvm.Cond.initialized "CardCups$Habit") ∈ lw_all := lw_g (lw_at lw_m1 25 rfl) rfl
theorem q1169 : (Jvm.Cond.instantiable "CardCups$Habit" (2 : Nat)) ∈ lw_all := lw_g (lw_at lw_m5 102 rfl) rfl
theorem q1171 : (Jvm.Cond.instanceMethod ({ cls := "CardCups$Habit", name := "<init>", desc := "()V" } : Jvm.MethodName)) ∈ lw_all := lw_g (lw_at lw_m5 104 rfl) rfl
theorem q1172 : (Jvm.Cond.code ({ cls := "CardCups$Habit", name := "<init>", desc := "()V" } : Jvm.MethodName) prog_7_method_1_code (1 : Nat) (Option.none : Option Jvm.ClassFile.FieldType)) ∈ lw_all := lw_g (lw_at lw_m5 105 rfl) rfl
theorem q1173 : (Jvm.Cond.methodLink "CardCups$Habit" (3 : Nat) ({ cls := "java/lang/Object", name := "<init>", desc := "()V" } : Jvm.MethodName)) ∈ lw_all := lw_g (lw_at lw_m5 106 rfl) rfl
theorem q1174 : (Jvm.Cond.classLink "CardCups$Habit" (9 : Nat) "CardCups$Step") ∈ lw_all := lw_g (lw_at lw_m5 107 rfl) rfl
theorem q1176 : (Jvm.Cond.fieldLink "CardCups$Habit" (11 : Nat) "CardCups$Habit" "steps" "[LCardCups$Step;") ∈ lw_all := lw_g (lw_at lw_m5 109 rfl) rfl
theorem q1184 : (Jvm.Cond.laysFinal "CardCups$Habit" "CardCups$Habit" "steps" "[LCardCups$Step;") ∈ lw_all := lw_g (lw_at lw_m5 117 rfl) rfl
theorem q1185 : (Jvm.Cond.soleField "CardCups$Habit" "steps") ∈ lw_all := lw_g (lw_at lw_m5 118 rfl) rfl
theorem q1186 : (Jvm.Cond.lays "CardCups$Habit" "CardCups$Habit" "many" "I") ∈ lw_all := lw_g (lw_at lw_m5 119 rfl) rfl
theorem q1187 : (Jvm.Cond.soleField "CardCups$Habit" "many") ∈ lw_all := lw_g (lw_at lw_m5 120 rfl) rfl
theorem q1188 : (Jvm.Cond.superclass "CardCups$Habit" "java/lang/Object") ∈ lw_all := lw_g (lw_at lw_m5 121 rfl) rfl
theorem q2496 : (Jvm.Cond.castable "CardCups$Habit" "java/lang/Object") ∈ lw_tbl := lw_at lw_m10 229 rfl
theorem in_X14 : ∀ w ∈ wsX140, w ∈ lw_all := lw_in wsX140 [1184, 1186] (by decide +kernel) (by decide +kernel)
/-! CardCups$Not -/
set_option maxRecDepth 100000
def RX15 : String := "CardCups$Not"
def TX15 : u_T := fun k => match k with
  | _ => ("CardCups$Not", "term", "LCardCups$Term;", true)
def tyX15 : Nat → FieldType := fun k => match k with
  | _ => .object "CardCups$Term"
abbrev wsX150 : List Cond := u_ws RX15 TX15 1
theorem nmX15 : ∀ a, a < 1 → ∀ b, b < 1 → a ≠ b → (TX15 a).2.1 ≠ (TX15 b).2.1 := by decide +kernel
theorem tyX15_ok : ∀ k, k < 1 → parseFieldDescriptor (TX15 k).2.2.1 = some (tyX15 k) := by decide +kernel
abbrev cX15_on : ByteArray := prog_12_method_2_code
def yX15_on : MethodName := ⟨RX15, "on", "(LCardCups$Sight;)I"⟩
def dkwX15_on_0 : List UInt8 := [4, 42, 180, 0, 7, 43, 185, 0, 13, 2, 0, 100, 172]
abbrev dktX15_on_0 : List UInt8 := dkwX15_on_0 ++ []
theorem dksX15_on_0 : cX15_on.data.toList.drop 0 = dktX15_on_0 := by decide +kernel
theorem dX15_on_0 : decode cX15_on 0 = .ok (.iconst 1, 1) := dk_4 (dk_at dksX15_on_0 0 rfl rfl)
theorem dX15_on_1 : decode cX15_on 1 = .ok (.aload_n 0, 1) := dk_42 (dk_at dksX15_on_0 1 rfl rfl)
theorem dX15_on_2 : decode cX15_on 2 = .ok (.getfield 7, 3) := dk_180 0 7 (dk_at dksX15_on_0 2 rfl rfl)
theorem dX15_on_5 : decode cX15_on 5 = .ok (.aload_n 1, 1) := dk_43 (dk_at dksX15_on_0 5 rfl rfl)
theorem dX15_on_6 : decode cX15_on 6 = .ok (.invokeinterface 13 2, 5) := by decide +kernel
theorem dX15_on_11 : decode cX15_on 11 = .ok (.isub, 1) := dk_100 (dk_at dksX15_on_0 11 rfl rfl)
theorem dX15_on_12 : decode cX15_on 12 = .ok (.ireturn, 1) := dk_172 (dk_at dksX15_on_0 12 rfl rfl)
abbrev cX15_init : ByteArray := prog_12_method_1_code
def yX15_init : MethodName := ⟨RX15, "<init>", "(LCardCups$Term;)V"⟩
def dkwX15_init_0 : List UInt8 := [42, 183, 0, 1, 42, 43, 181, 0, 7, 177]
abbrev dktX15_init_0 : List UInt8 := dkwX15_init_0 ++ []
theorem dksX15_init_0 : cX15_init.data.toList.drop 0 = dktX15_init_0 := by decide +kernel
theorem dX15_init_0 : decode cX15_init 0 = .ok (.aload_n 0, 1) := dk_42 (dk_at dksX15_init_0 0 rfl rfl)
theorem dX15_init_1 : decode cX15_init 1 = .ok (.invokespecial 1, 3) := dk_183 0 1 (dk_at dksX15_init_0 1 rfl rfl)
theorem dX15_init_4 : decode cX15_init 4 = .ok (.aload_n 0, 1) := dk_42 (dk_at dksX15_init_0 4 rfl rfl)
theorem dX15_init_5 : decode cX15_init 5 = .ok (.aload_n 1, 1) := dk_43 (dk_at dksX15_init_0 5 rfl rfl)
theorem dX15_init_6 : decode cX15_init 6 = .ok (.putfield 7, 3) := dk_181 0 7 (dk_at dksX15_init_0 6 rfl rfl)
theorem dX15_init_9 : decode cX15_init 9 = .ok (.return_, 1) := dk_177 (dk_at dksX15_init_0 9 rfl rfl)
theorem q133 : (Jvm.Cond.initialized "CardCups$Not") ∈ lw_all := lw_g (lw_at lw_m1 26 rfl) rfl
theorem q647 : (Jvm.Cond.castable "CardCups$Not" "CardCups$Term") ∈ lw_tbl := lw_at lw_m3 60 rfl
theorem q648 : (Jvm.Cond.selects "CardCups$Not" ({ cls := "CardCups$Term", name := "on", desc := "(LCardCups$Sight;)I" } : Jvm.MethodName) ({ cls := "CardCups$Not", name := "on", desc := "(LCardCups$Sight;)I" } : Jvm.MethodName)) ∈ lw_all := lw_g (lw_at lw_m3 61 rfl) rfl
theorem q649 : (Jvm.Cond.unhidden "CardCups$Not" "on" "(LCardCups$Sight;)I") ∈ lw_tbl := lw_at lw_m3 62 rfl
theorem q650 : (Jvm.Cond.instanceMethod ({ cls := "CardCups$Not", name := "on", desc := "(LCardCups$Sight;)I" } : Jvm.MethodName)) ∈ lw_all := lw_g (lw_at lw_m3 63 rfl) rfl
theorem q651 : (Jvm.Cond.publicMethod ({ cls := "CardCups$Not", name := "on", desc := "(LCardCups$Sight;)I" } : Jvm.MethodName)) ∈ lw_tbl := lw_at lw_m3 64 rfl
theorem q652 : (Jvm.Cond.code ({ cls := "CardCups$Not", name := "on", desc := "(LCardCups$Sight;)I" } : Jvm.MethodName) prog_12_method_2_code (2 : Nat) (Option.some Jvm.ClassFile.FieldType.int)) ∈ lw_all := lw_g (lw_at lw_m3 65 rfl) rfl
theorem q653 : (Jvm.Cond.interfaceEntry "CardCups$Not" (13 : Nat)) ∈ lw_tbl := lw_at lw_m3 66 rfl
theorem q654 : (Jvm.Cond.methodLink "CardCups$Not" (13 : Nat) ({ cls := "CardCups$Term", name := "on", desc := "(LCardCups$Sight;)I" } : Jvm.MethodName)) ∈ lw_all := lw_g (lw_at lw_m3 67 rfl) rfl
theorem q1221 : (Jvm.Cond.instantiable "CardCups$Not" (1 : Nat)) ∈ lw_all := lw_g (lw_at lw_m5 154 rfl) rfl
theorem q1223 : (Jvm.Cond.instanceMethod ({ cls := "CardCups$Not", name := "<init>", desc := "(LCardCups$Term;)V" } : Jvm.MethodName)) ∈ lw_all := lw_g (lw_at lw_m5 156 rfl) rfl
theorem q1224 : (Jvm.Cond.code ({ cls := "CardCups$Not", name := "<init>", desc := "(LCardCups$Term;)V" } : Jvm.MethodName) prog_12_method_1_code (2 : Nat) (Option.none : Option Jvm.ClassFile.FieldType)) ∈ lw_all := lw_g (lw_at lw_m5 157 rfl) rfl
theorem q1225 : (Jvm.Cond.methodLink "CardCups$Not" (1 : Nat) ({ cls := "java/lang/Object", name := "<init>", desc := "()V" } : Jvm.MethodName)) ∈ lw_all := lw_g (lw_at lw_m5 158 rfl) rfl
theorem q1226 : (Jvm.Cond.fieldLink "CardCups$Not" (7 : Nat) "CardCups$Not" "term" "LCardCups$Term;") ∈ lw_all := lw_g (lw_at lw_m5 159 rfl) rfl
theorem q1227 : (Jvm.Cond.laysFinal "CardCups$Not" "CardCups$Not" "term" "LCardCups$Term;") ∈ lw_all := lw_g (lw_at lw_m5 160 rfl) rfl
theorem q1228 : (Jvm.Cond.soleField "CardCups$Not" "term") ∈ lw_all := lw_g (lw_at lw_m5 161 rfl) rfl
theorem q1229 : (Jvm.Cond.superclass "CardCups$Not" "java/lang/Object") ∈ lw_all := lw_g (lw_at lw_m5 162 rfl) rfl
theorem q2497 : (Jvm.Cond.castable "CardCups$Not" "java/lang/Object") ∈ lw_tbl := lw_at lw_m10 230 rfl
theorem in_X15 : ∀ w ∈ wsX150, w ∈ lw_all := lw_in wsX150 [1227] (by decide +kernel) (by decide +kernel)
/-! CardCups$Told -/
set_option maxRecDepth 100000
def RX16 : String := "CardCups$Told"
def TX16 : u_T := fun k => match k with
  | _ => ("CardCups$Told", "number", "I", true)
def tyX16 : Nat → FieldType := fun k => match k with
  | _ => .int
abbrev wsX160 : List Cond := u_ws RX16 TX16 1
theorem nmX16 : ∀ a, a < 1 → ∀ b, b < 1 → a ≠ b → (TX16 a).2.1 ≠ (TX16 b).2.1 := by decide +kernel
theorem tyX16_ok : ∀ k, k < 1 → parseFieldDescriptor (TX16 k).2.2.1 = some (tyX16 k) := by decide +kernel
abbrev cX16_on : ByteArray := prog_23_method_2_code
def yX16_on : MethodName := ⟨RX16, "on", "(LCardCups$Sight;)I"⟩
theorem dX16_on_0 : decode cX16_on 0 = .ok (.aload_n 0, 1) := by decide +kernel
theorem dX16_on_1 : decode cX16_on 1 = .ok (.getfield 7, 3) := by decide +kernel
theorem dX16_on_4 : decode cX16_on 4 = .ok (.ireturn, 1) := by decide +kernel
abbrev cX16_init : ByteArray := prog_23_method_1_code
def yX16_init : MethodName := ⟨RX16, "<init>", "(I)V"⟩
def dkwX16_init_0 : List UInt8 := [42, 183, 0, 1, 42, 27, 181, 0, 7, 177]
abbrev dktX16_init_0 : List UInt8 := dkwX16_init_0 ++ []
theorem dksX16_init_0 : cX16_init.data.toList.drop 0 = dktX16_init_0 := by decide +kernel
theorem dX16_init_0 : decode cX16_init 0 = .ok (.aload_n 0, 1) := dk_42 (dk_at dksX16_init_0 0 rfl rfl)
theorem dX16_init_1 : decode cX16_init 1 = .ok (.invokespecial 1, 3) := dk_183 0 1 (dk_at dksX16_init_0 1 rfl rfl)
theorem dX16_init_4 : decode cX16_init 4 = .ok (.aload_n 0, 1) := dk_42 (dk_at dksX16_init_0 4 rfl rfl)
theorem dX16_init_5 : decode cX16_init 5 = .ok (.iload_n 1, 1) := dk_27 (dk_at dksX16_init_0 5 rfl rfl)
theorem dX16_init_6 : decode cX16_init 6 = .ok (.putfield 7, 3) := dk_181 0 7 (dk_at dksX16_init_0 6 rfl rfl)
theorem dX16_init_9 : decode cX16_init 9 = .ok (.return_, 1) := dk_177 (dk_at dksX16_init_0 9 rfl rfl)
theorem q134 : (Jvm.Cond.initialized "CardCups$Told") ∈ lw_all := lw_g (lw_at lw_m1 27 rfl) rfl
theorem q655 : (Jvm.Cond.castable "CardCups$Told" "CardCups$Term") ∈ lw_tbl := lw_at lw_m3 68 rfl
theorem q656 : (Jvm.Cond.selects "CardCups$Told" ({ cls := "CardCups$Term", name := "on", desc := "(LCardCups$Sight;)I" } : Jvm.MethodName) ({ cls := "CardCups$Told", name := "on", desc := "(LCardCups$Sight;)I" } : Jvm.MethodName)) ∈ lw_all := lw_g (lw_at lw_m3 69 rfl) rfl
theorem q657 : (Jvm.Cond.unhidden "CardCups$Told" "on" "(LCardCups$Sight;)I") ∈ lw_tbl := lw_at lw_m3 70 rfl
theorem q658 : (Jvm.Cond.instanceMethod ({ cls := "CardCups$Told", name := "on", desc := "(LCardCups$Sight;)I" } : Jvm.MethodName)) ∈ lw_all := lw_g (lw_at lw_m3 71 rfl) rfl
theorem q659 : (Jvm.Cond.publicMethod ({ cls := "CardCups$Told", name := "on", desc := "(LCardCups$Sight;)I" } : Jvm.MethodName)) ∈ lw_tbl := lw_at lw_m3 72 rfl
theorem q660 : (Jvm.Cond.code ({ cls := "CardCups$Told", name := "on", desc := "(LCardCups$Sight;)I" } : Jvm.MethodName) prog_23_method_2_code (2 : Nat) (Option.some Jvm.ClassFile.FieldType.int)) ∈ lw_all := lw_g (lw_at lw_m3 73 rfl) rfl
theorem q1248 : (Jvm.Cond.instantiable "CardCups$Told" (1 : Nat)) ∈ lw_all := lw_g (lw_at lw_m5 181 rfl) rfl
theorem q1250 : (Jvm.Cond.instanceMethod ({ cls := "CardCups$Told", name := "<init>", desc := "(I)V" } : Jvm.MethodName)) ∈ lw_all := lw_g (lw_at lw_m5 183 rfl) rfl
theorem q1251 : (Jvm.Cond.code ({ cls := "CardCups$Told", name := "<init>", desc := "(I)V" } : Jvm.MethodName) prog_23_method_1_code (2 : Nat) (Option.none : Option Jvm.ClassFile.FieldType)) ∈ lw_all := lw_g (lw_at lw_m5 184 rfl) rfl
theorem q1252 : (Jvm.Cond.methodLink "CardCups$Told" (1 : Nat) ({ cls := "java/lang/Object", name := "<init>", desc := "()V" } : Jvm.MethodName)) ∈ lw_all := lw_g (lw_at lw_m5 185 rfl) rfl
theorem q1253 : (Jvm.Cond.fieldLink "CardCups$Told" (7 : Nat) "CardCups$Told" "number" "I") ∈ lw_all := lw_g (lw_at lw_m5 186 rfl) rfl
theorem q1254 : (Jvm.Cond.laysFinal "CardCups$Told" "CardCups$Told" "number" "I") ∈ lw_all := lw_g (lw_at lw_m5 187 rfl) rfl
theorem q1255 : (Jvm.Cond.soleField "CardCups$Told" "number") ∈ lw_all := lw_g (lw_at lw_m5 188 rfl) rfl
theorem q1256 : (Jvm.Cond.superclass "CardCups$Told" "java/lang/Object") ∈ lw_all := lw_g (lw_at lw_m5 189 rfl) rfl
theorem q2498 : (Jvm.Cond.castable "CardCups$Told" "java/lang/Object") ∈ lw_tbl := lw_at lw_m10 231 rfl
theorem in_X16 : ∀ w ∈ wsX160, w ∈ lw_all := lw_in wsX160 [1254] (by decide +kernel) (by decide +kernel)
/-! CardCups$Known -/
set_option maxRecDepth 100000
def RX17 : String := "CardCups$Known"
def TX17 : u_T := fun k => match k with
  | _ => ("CardCups$Known", "which", "I", true)
def tyX17 : Nat → FieldType := fun k => match k with
  | _ => .int
abbrev wsX170 : List Cond := u_ws RX17 TX17 1
theorem nmX17 : ∀ a, a < 1 → ∀ b, b < 1 → a ≠ b → (TX17 a).2.1 ≠ (TX17 b).2.1 := by decide +kernel
theorem tyX17_ok : ∀ k, k < 1 → parseFieldDescriptor (TX17 k).2.2.1 = some (tyX17 k) := by decide +kernel
abbrev cX17_on : ByteArray := prog_10_method_2_code
def yX17_on : MethodName := ⟨RX17, "on", "(LCardCups$Sight;)I"⟩
def dkwX17_on_0 : List UInt8 := [43, 42, 180, 0, 7, 182, 0, 13, 172]
abbrev dktX17_on_0 : List UInt8 := dkwX17_on_0 ++ []
theorem dksX17_on_0 : cX17_on.data.toList.drop 0 = dktX17_on_0 := by decide +kernel
theorem dX17_on_0 : decode cX17_on 0 = .ok (.aload_n 1, 1) := dk_43 (dk_at dksX17_on_0 0 rfl rfl)
theorem dX17_on_1 : decode cX17_on 1 = .ok (.aload_n 0, 1) := dk_42 (dk_at dksX17_on_0 1 rfl rfl)
theorem dX17_on_2 : decode cX17_on 2 = .ok (.getfield 7, 3) := dk_180 0 7 (dk_at dksX17_on_0 2 rfl rfl)
theorem dX17_on_5 : decode cX17_on 5 = .ok (.invokevirtual 13, 3) := dk_182 0 13 (dk_at dksX17_on_0 5 rfl rfl)
theorem dX17_on_8 : decode cX17_on 8 = .ok (.ireturn, 1) := dk_172 (dk_at dksX17_on_0 8 rfl rfl)
abbrev cX17_init : ByteArray := prog_10_method_1_code
def yX17_init : MethodName := ⟨RX17, "<init>", "(I)V"⟩
def dkwX17_init_0 : List UInt8 := [42, 183, 0, 1, 42, 27, 181, 0, 7, 177]
abbrev dktX17_init_0 : List UInt8 := dkwX17_init_0 ++ []
theorem dksX17_init_0 : cX17_init.data.toList.drop 0 = dktX17_init_0 := by decide +kernel
theorem dX17_init_0 : decode cX17_init 0 = .ok (.aload_n 0, 1) := dk_42 (dk_at dksX17_init_0 0 rfl rfl)
theorem dX17_init_1 : decode cX17_init 1 = .ok (.invokespecial 1, 3) := dk_183 0 1 (dk_at dksX17_init_0 1 rfl rfl)
theorem dX17_init_4 : decode cX17_init 4 = .ok (.aload_n 0, 1) := dk_42 (dk_at dksX17_init_0 4 rfl rfl)
theorem dX17_init_5 : decode cX17_init 5 = .ok (.iload_n 1, 1) := dk_27 (dk_at dksX17_init_0 5 rfl rfl)
theorem dX17_init_6 : decode cX17_init 6 = .ok (.putfield 7, 3) := dk_181 0 7 (dk_at dksX17_init_0 6 rfl rfl)
theorem dX17_init_9 : decode cX17_init 9 = .ok (.return_, 1) := dk_177 (dk_at dksX17_init_0 9 rfl rfl)
theorem q135 : (Jvm.Cond.initialized "CardCups$Known") ∈ lw_all := lw_g (lw_at lw_m1 28 rfl) rfl
theorem q640 : (Jvm.Cond.castable "CardCups$Known" "CardCups$Term") ∈ lw_tbl := lw_at lw_m3 53 rfl
theorem q641 : (Jvm.Cond.selects "CardCups$Known" ({ cls := "CardCups$Term", name := "on", desc := "(LCardCups$Sight;)I" } : Jvm.MethodName) ({ cls := "CardCups$Known", name := "on", desc := "(LCardCups$Sight;)I" } : Jvm.MethodName)) ∈ lw_all := lw_g (lw_at lw_m3 54 rfl) rfl
theorem q642 : (Jvm.Cond.unhidden "CardCups$Known" "on" "(LCardCups$Sight;)I") ∈ lw_tbl := lw_at lw_m3 55 rfl
theorem q643 : (Jvm.Cond.instanceMethod ({ cls := "CardCups$Known", name := "on", desc := "(LCardCups$Sight;)I" } : Jvm.MethodName)) ∈ lw_all := lw_g (lw_at lw_m3 56 rfl) rfl
theorem q644 : (Jvm.Cond.publicMethod ({ cls := "CardCups$Known", name := "on", desc := "(LCardCups$Sight;)I" } : Jvm.MethodName)) ∈ lw_tbl := lw_at lw_m3 57 rfl
theorem q645 : (Jvm.Cond.code ({ cls := "CardCups$Known", name := "on", desc := "(LCardCups$Sight;)I" } : Jvm.MethodName) prog_10_method_2_code (2 : Nat) (Option.some Jvm.ClassFile.FieldType.int)) ∈ lw_all := lw_g (lw_at lw_m3 58 rfl) rfl
theorem q646 : (Jvm.Cond.methodLink "CardCups$Known" (13 : Nat) ({ cls := "CardCups$Sight", name := "known", desc := "(I)I" } : Jvm.MethodName)) ∈ lw_all := lw_g (lw_at lw_m3 59 rfl) rfl
theorem q1258 : (Jvm.Cond.instantiable "CardCups$Known" (1 : Nat)) ∈ lw_all := lw_g (lw_at lw_m5 191 rfl) rfl
theorem q1260 : (Jvm.Cond.instanceMethod ({ cls := "CardCups$Known", name := "<init>", desc := "(I)V" } : Jvm.MethodName)) ∈ lw_all := lw_g (lw_at lw_m5 193 rfl) rfl
theorem q1261 : (Jvm.Cond.code ({ cls := "CardCups$Known", name := "<init>", desc := "(I)V" } : Jvm.MethodName) prog_10_method_1_code (2 : Nat) (Option.none : Option Jvm.ClassFile.FieldType)) ∈ lw_all := lw_g (lw_at lw_m5 194 rfl) rfl
theorem q1262 : (Jvm.Cond.methodLink "CardCups$Known" (1 : Nat) ({ cls := "java/lang/Object", name := "<init>", desc := "()V" } : Jvm.MethodName)) ∈ lw_all := lw_g (lw_at lw_m5 195 rfl) rfl
theorem q1263 : (Jvm.Cond.fieldLink "CardCups$Known" (7 : Nat) "CardCups$Known" "which" "I") ∈ lw_all := lw_g (lw_at lw_m5 196 rfl) rfl
theorem q1264 : (Jvm.Cond.laysFinal "CardCups$Known" "CardCups$Known" "which" "I") ∈ lw_all := lw_g (lw_at lw_m5 197 rfl) rfl
theorem q1265 : (Jvm.Cond.soleField "CardCups$Known" "which") ∈ lw_all := lw_g (lw_at lw_m5 198 rfl) rfl
theorem q1266 : (Jvm.Cond.superclass "CardCups$Known" "java/lang/Object") ∈ lw_all := lw_g (lw_at lw_m5 199 rfl) rfl
theorem q2499 : (Jvm.Cond.castable "CardCups$Known" "java/lang/Object") ∈ lw_tbl := lw_at lw_m10 232 rfl
theorem in_X17 : ∀ w ∈ wsX170, w ∈ lw_all := lw_in wsX170 [1264] (by decide +kernel) (by decide +kernel)
/-! CardCups$Two -/
set_option maxRecDepth 100000
def RX18 : String := "CardCups$Two"
def TX18 : u_T := fun k => match k with
  | 0 => ("CardCups$Two", "sign", "C", true)
  | 1 => ("CardCups$Two", "one", "LCardCups$Term;", true)
  | _ => ("CardCups$Two", "other", "LCardCups$Term;", true)
def tyX18 : Nat → FieldType := fun k => match k with
  | 0 => .char
  | 1 => .object "CardCups$Term"
  | _ => .object "CardCups$Term"
abbrev wsX180 : List Cond := u_ws RX18 TX18 3
theorem nmX18 : ∀ a, a < 3 → ∀ b, b < 3 → a ≠ b → (TX18 a).2.1 ≠ (TX18 b).2.1 := by decide +kernel
theorem tyX18_ok : ∀ k, k < 3 → parseFieldDescriptor (TX18 k).2.2.1 = some (tyX18 k) := by decide +kernel
abbrev cX18_on : ByteArray := prog_25_method_2_code
def yX18_on : MethodName := ⟨RX18, "on", "(LCardCups$Sight;)I"⟩
def dkwX18_on_5 : List UInt8 := [172, 28, 29, 128, 172]
abbrev dktX18_on_5 : List UInt8 := dkwX18_on_5 ++ []
def dkwX18_on_4 : List UInt8 := [29, 164, 0, 7, 4, 167, 0, 4, 3, 172, 28, 29, 160, 0, 7, 4, 167, 0, 4, 3, 172, 28, 29, 126]
abbrev dktX18_on_4 : List UInt8 := dkwX18_on_4 ++ dktX18_on_5
def dkwX18_on_3 : List UInt8 := [28, 29, 96, 172, 28, 29, 100, 172, 28, 29, 104, 172, 28, 29, 162, 0, 7, 4, 167, 0, 4, 3, 172, 28]
abbrev dktX18_on_3 : List UInt8 := dkwX18_on_3 ++ dktX18_on_4
def dkwX18_on_2 : List UInt8 := [170, 0, 0, 0, 0, 163, 0, 0, 0, 38, 0, 0, 0, 62, 0, 0, 0, 159, 0, 0, 0, 163, 0, 0, 0, 163, 0, 0, 0, 163, 0, 0, 0, 122, 0, 0, 0, 114, 0, 0, 0, 163, 0, 0, 0, 118, 0, 0, 0, 163, 0, 0, 0, 163, 0, 0, 0, 163, 0, 0, 0, 163, 0, 0, 0, 163, 0, 0, 0, 163, 0, 0, 0, 163, 0, 0, 0, 163, 0, 0, 0, 163, 0, 0, 0, 163, 0, 0, 0, 163, 0, 0, 0, 163, 0, 0, 0, 163, 0, 0, 0, 163, 0, 0, 0, 126, 0, 0, 0, 148, 0, 0, 0, 137]
abbrev dktX18_on_2 : List UInt8 := dkwX18_on_2 ++ dktX18_on_3
def dkwX18_on_1 : List UInt8 := [180, 0, 7]
abbrev dktX18_on_1 : List UInt8 := dkwX18_on_1 ++ dktX18_on_2
def dkwX18_on_0 : List UInt8 := [42, 180, 0, 13, 43, 185, 0, 20, 2, 0, 61, 42, 180, 0, 17, 43, 185, 0, 20, 2, 0, 62, 42]
abbrev dktX18_on_0 : List UInt8 := dkwX18_on_0 ++ dktX18_on_1
theorem dksX18_on_0 : cX18_on.data.toList.drop 0 = dktX18_on_0 := by decide +kernel
theorem dksX18_on_1 : cX18_on.data.toList.drop 23 = dktX18_on_1 := dk_seg dksX18_on_0 23 rfl rfl
theorem dksX18_on_2 : cX18_on.data.toList.drop 26 = dktX18_on_2 := dk_seg dksX18_on_1 3 rfl rfl
theorem dksX18_on_3 : cX18_on.data.toList.drop 140 = dktX18_on_3 := dk_seg dksX18_on_2 114 rfl rfl
theorem dksX18_on_4 : cX18_on.data.toList.drop 164 = dktX18_on_4 := dk_seg dksX18_on_3 24 rfl rfl
theorem dksX18_on_5 : cX18_on.data.toList.drop 188 = dktX18_on_5 := dk_seg dksX18_on_4 24 rfl rfl
theorem dX18_on_0 : decode cX18_on 0 = .ok (.aload_n 0, 1) := dk_42 (dk_at dksX18_on_0 0 rfl rfl)
theorem dX18_on_1 : decode cX18_on 1 = .ok (.getfield 13, 3) := dk_180 0 13 (dk_at dksX18_on_0 1 rfl rfl)
theorem dX18_on_4 : decode cX18_on 4 = .ok (.aload_n 1, 1) := dk_43 (dk_at dksX18_on_0 4 rfl rfl)
theorem dX18_on_5 : decode cX18_on 5 = .ok (.invokeinterface 20 2, 5) := by decide +kernel
theorem dX18_on_10 : decode cX18_on 10 = .ok (.istore_n 2, 1) := dk_61 (dk_at dksX18_on_0 10 rfl rfl)
theorem dX18_on_11 : decode cX18_on 11 = .ok (.aload_n 0, 1) := dk_42 (dk_at dksX18_on_0 11 rfl rfl)
theorem dX18_on_12 : decode cX18_on 12 = .ok (.getfield 17, 3) := dk_180 0 17 (dk_at dksX18_on_0 12 rfl rfl)
theorem dX18_on_15 : decode cX18_on 15 = .ok (.aload_n 1, 1) := dk_43 (dk_at dksX18_on_0 15 rfl rfl)
theorem dX18_on_16 : decode cX18_on 16 = .ok (.invokeinterface 20 2, 5) := by decide +kernel
theorem dX18_on_21 : decode cX18_on 21 = .ok (.istore_n 3, 1) := dk_62 (dk_at dksX18_on_0 21 rfl rfl)
theorem dX18_on_22 : decode cX18_on 22 = .ok (.aload_n 0, 1) := dk_42 (dk_at dksX18_on_0 22 rfl rfl)
theorem dX18_on_23 : decode cX18_on 23 = .ok (.getfield 7, 3) := dk_180 0 7 (dk_at dksX18_on_1 0 rfl rfl)
theorem dX18_on_26 : decode cX18_on 26 = .ok (.tableswitch 163 38 62 #[159, 163, 163, 163, 122, 114, 163, 118, 163, 163, 163, 163, 163, 163, 163, 163, 163, 163, 163, 163, 163, 163, 126, 148, 137], 114) := by decide +kernel
theorem dX18_on_140 : decode cX18_on 140 = .ok (.iload_n 2, 1) := dk_28 (dk_at dksX18_on_3 0 rfl rfl)
theorem dX18_on_141 : decode cX18_on 141 = .ok (.iload_n 3, 1) := dk_29 (dk_at dksX18_on_3 1 rfl rfl)
theorem dX18_on_142 : decode cX18_on 142 = .ok (.iadd, 1) := dk_96 (dk_at dksX18_on_3 2 rfl rfl)
theorem dX18_on_143 : decode cX18_on 143 = .ok (.ireturn, 1) := dk_172 (dk_at dksX18_on_3 3 rfl rfl)
theorem dX18_on_144 : decode cX18_on 144 = .ok (.iload_n 2, 1) := dk_28 (dk_at dksX18_on_3 4 rfl rfl)
theorem dX18_on_145 : decode cX18_on 145 = .ok (.iload_n 3, 1) := dk_29 (dk_at dksX18_on_3 5 rfl rfl)
theorem dX18_on_146 : decode cX18_on 146 = .ok (.isub, 1) := dk_100 (dk_at dksX18_on_3 6 rfl rfl)
theorem dX18_on_147 : decode cX18_on 147 = .ok (.ireturn, 1) := dk_172 (dk_at dksX18_on_3 7 rfl rfl)
theorem dX18_on_148 : decode cX18_on 148 = .ok (.iload_n 2, 1) := dk_28 (dk_at dksX18_on_3 8 rfl rfl)
theorem dX18_on_149 : decode cX18_on 149 = .ok (.iload_n 3, 1) := dk_29 (dk_at dksX18_on_3 9 rfl rfl)
theorem dX18_on_150 : decode cX18_on 150 = .ok (.imul, 1) := dk_104 (dk_at dksX18_on_3 10 rfl rfl)
theorem dX18_on_151 : decode cX18_on 151 = .ok (.ireturn, 1) := dk_172 (dk_at dksX18_on_3 11 rfl rfl)
theorem dX18_on_152 : decode cX18_on 152 = .ok (.iload_n 2, 1) := dk_28 (dk_at dksX18_on_3 12 rfl rfl)
theorem dX18_on_153 : decode cX18_on 153 = .ok (.iload_n 3, 1) := dk_29 (dk_at dksX18_on_3 13 rfl rfl)
theorem dX18_on_154 : decode cX18_on 154 = .ok (.if_icmp .ge 7, 3) := dk_162 0 7 (dk_at dksX18_on_3 14 rfl rfl)
theorem dX18_on_157 : decode cX18_on 157 = .ok (.iconst 1, 1) := dk_4 (dk_at dksX18_on_3 17 rfl rfl)
theorem dX18_on_158 : decode cX18_on 158 = .ok (.goto 4, 3) := dk_167 0 4 (dk_at dksX18_on_3 18 rfl rfl)
theorem dX18_on_161 : decode cX18_on 161 = .ok (.iconst 0, 1) := dk_3 (dk_at dksX18_on_3 21 rfl rfl)
theorem dX18_on_162 : decode cX18_on 162 = .ok (.ireturn, 1) := dk_172 (dk_at dksX18_on_3 22 rfl rfl)
theorem dX18_on_163 : decode cX18_on 163 = .ok (.iload_n 2, 1) := dk_28 (dk_at dksX18_on_3 23 rfl rfl)
theorem dX18_on_164 : decode cX18_on 164 = .ok (.iload_n 3, 1) := dk_29 (dk_at dksX18_on_4 0 rfl rfl)
theorem dX18_on_165 : decode cX18_on 165 = .ok (.if_icmp .le 7, 3) := dk_164 0 7 (dk_at dksX18_on_4 1 rfl rfl)
theorem dX18_on_168 : decode cX18_on 168 = .ok (.iconst 1, 1) := dk_4 (dk_at dksX18_on_4 4 rfl rfl)
theorem dX18_on_169 : decode cX18_on 169 = .ok (.goto 4, 3) := dk_167 0 4 (dk_at dksX18_on_4 5 rfl rfl)
theorem dX18_on_172 : decode cX18_on 172 = .ok (.iconst 0, 1) := dk_3 (dk_at dksX18_on_4 8 rfl rfl)
theorem dX18_on_173 : decode cX18_on 173 = .ok (.ireturn, 1) := dk_172 (dk_at dksX18_on_4 9 rfl rfl)
theorem dX18_on_174 : decode cX18_on 174 = .ok (.iload_n 2, 1) := dk_28 (dk_at dksX18_on_4 10 rfl rfl)
theorem dX18_on_175 : decode cX18_on 175 = .ok (.iload_n 3, 1) := dk_29 (dk_at dksX18_on_4 11 rfl rfl)
theorem dX18_on_176 : decode cX18_on 176 = .ok (.if_icmp .ne 7, 3) := dk_160 0 7 (dk_at dksX18_on_4 12 rfl rfl)
theorem dX18_on_179 : decode cX18_on 179 = .ok (.iconst 1, 1) := dk_4 (dk_at dksX18_on_4 15 rfl rfl)
theorem dX18_on_180 : decode cX18_on 180 = .ok (.goto 4, 3) := dk_167 0 4 (dk_at dksX18_on_4 16 rfl rfl)
theorem dX18_on_183 : decode cX18_on 183 = .ok (.iconst 0, 1) := dk_3 (dk_at dksX18_on_4 19 rfl rfl)
theorem dX18_on_184 : decode cX18_on 184 = .ok (.ireturn, 1) := dk_172 (dk_at dksX18_on_4 20 rfl rfl)
theorem dX18_on_185 : decode cX18_on 185 = .ok (.iload_n 2, 1) := dk_28 (dk_at dksX18_on_4 21 rfl rfl)
theorem dX18_on_186 : decode cX18_on 186 = .ok (.iload_n 3, 1) := dk_29 (dk_at dksX18_on_4 22 rfl rfl)
theorem dX18_on_187 : decode cX18_on 187 = .ok (.iand, 1) := dk_126 (dk_at dksX18_on_4 23 rfl rfl)
theorem dX18_on_188 : decode cX18_on 188 = .ok (.ireturn, 1) := dk_172 (dk_at dksX18_on_5 0 rfl rfl)
theorem dX18_on_189 : decode cX18_on 189 = .ok (.iload_n 2, 1) := dk_28 (dk_at dksX18_on_5 1 rfl rfl)
theorem dX18_on_190 : decode cX18_on 190 = .ok (.iload_n 3, 1) := dk_29 (dk_at dksX18_on_5 2 rfl rfl)
theorem dX18_on_191 : decode cX18_on 191 = .ok (.ior, 1) := dk_128 (dk_at dksX18_on_5 3 rfl rfl)
theorem dX18_on_192 : decode cX18_on 192 = .ok (.ireturn, 1) := dk_172 (dk_at dksX18_on_5 4 rfl rfl)
abbrev cX18_init : ByteArray := prog_25_method_1_code
def yX18_init : MethodName := ⟨RX18, "<init>", "(CLCardCups$Term;LCardCups$Term;)V"⟩
def dkwX18_init_0 : List UInt8 := [42, 183, 0, 1, 42, 27, 181, 0, 7, 42, 44, 181, 0, 13, 42, 45, 181, 0, 17, 177]
abbrev dktX18_init_0 : List UInt8 := dkwX18_init_0 ++ []
theorem dksX18_init_0 : cX18_init.data.toList.drop 0 = dktX18_init_0 := by decide +kernel
theorem dX18_init_0 : decode cX18_init 0 = .ok (.aload_n 0, 1) := dk_42 (dk_at dksX18_init_0 0 rfl rfl)
theorem dX18_init_1 : decode cX18_init 1 = .ok (.invokespecial 1, 3) := dk_183 0 1 (dk_at dksX18_init_0 1 rfl rfl)
theorem dX18_init_4 : decode cX18_init 4 = .ok (.aload_n 0, 1) := dk_42 (dk_at dksX18_init_0 4 rfl rfl)
theorem dX18_init_5 : decode cX18_init 5 = .ok (.iload_n 1, 1) := dk_27 (dk_at dksX18_init_0 5 rfl rfl)
theorem dX18_init_6 : decode cX18_init 6 = .ok (.putfield 7, 3) := dk_181 0 7 (dk_at dksX18_init_0 6 rfl rfl)
theorem dX18_init_9 : decode cX18_init 9 = .ok (.aload_n 0, 1) := dk_42 (dk_at dksX18_init_0 9 rfl rfl)
theorem dX18_init_10 : decode cX18_init 10 = .ok (.aload_n 2, 1) := dk_44 (dk_at dksX18_init_0 10 rfl rfl)
theorem dX18_init_11 : decode cX18_init 11 = .ok (.putfield 13, 3) := dk_181 0 13 (dk_at dksX18_init_0 11 rfl rfl)
theorem dX18_init_14 : decode cX18_init 14 = .ok (.aload_n 0, 1) := dk_42 (dk_at dksX18_init_0 14 rfl rfl)
theorem dX18_init_15 : decode cX18_init 15 = .ok (.aload_n 3, 1) := dk_45 (dk_at dksX18_init_0 15 rfl rfl)
theorem dX18_init_16 : decode cX18_init 16 = .ok (.putfield 17, 3) := dk_181 0 17 (dk_at dksX18_init_0 16 rfl rfl)
theorem dX18_init_19 : decode cX18_init 19 = .ok (.return_, 1) := dk_177 (dk_at dksX18_init_0 19 rfl rfl)
theorem q136 : (Jvm.Cond.initialized "CardCups$Two") ∈ lw_all := lw_g (lw_at lw_m1 29 rfl) rfl
theorem q661 : (Jvm.Cond.castable "CardCups$Two" "CardCups$Term") ∈ lw_tbl := lw_at lw_m3 74 rfl
theorem q662 : (Jvm.Cond.selects "CardCups$Two" ({ cls := "CardCups$Term", name := "on", desc := "(LCardCups$Sight;)I" } : Jvm.MethodName) ({ cls := "CardCups$Two", name := "on", desc := "(LCardCups$Sight;)I" } : Jvm.MethodName)) ∈ lw_all := lw_g (lw_at lw_m3 75 rfl) rfl
theorem q663 : (Jvm.Cond.unhidden "CardCups$Two" "on" "(LCardCups$Sight;)I") ∈ lw_tbl := lw_at lw_m3 76 rfl
theorem q664 : (Jvm.Cond.instanceMethod ({ cls := "CardCups$Two", name := "on", desc := "(LCardCups$Sight;)I" } : Jvm.MethodName)) ∈ lw_all := lw_g (lw_at lw_m3 77 rfl) rfl
theorem q665 : (Jvm.Cond.publicMethod ({ cls := "CardCups$Two", name := "on", desc := "(LCardCups$Sight;)I" } : Jvm.MethodName)) ∈ lw_tbl := lw_at lw_m3 78 rfl
theorem q666 : (Jvm.Cond.code ({ cls := "CardCups$Two", name := "on", desc := "(LCardCups$Sight;)I" } : Jvm.MethodName) prog_25_method_2_code (4 : Nat) (Option.some Jvm.ClassFile.FieldType.int)) ∈ lw_all := lw_g (lw_at lw_m3 79 rfl) rfl
theorem q667 : (Jvm.Cond.interfaceEntry "CardCups$Two" (20 : Nat)) ∈ lw_tbl := lw_at lw_m3 80 rfl
theorem q668 : (Jvm.Cond.methodLink "CardCups$Two" (20 : Nat) ({ cls := "CardCups$Term", name := "on", desc := "(LCardCups$Sight;)I" } : Jvm.MethodName)) ∈ lw_all := lw_g (lw_at lw_m3 81 rfl) rfl
theorem q1272 : (Jvm.Cond.instantiable "CardCups$Two" (3 : Nat)) ∈ lw_all := lw_g (lw_at lw_m5 205 rfl) rfl
theorem q1274 : (Jvm.Cond.instanceMethod ({ cls := "CardCups$Two", name := "<init>", desc := "(CLCardCups$Term;LCardCups$Term;)V" } : Jvm.MethodName)) ∈ lw_all := lw_g (lw_at lw_m5 207 rfl) rfl
theorem q1275 : (Jvm.Cond.code ({ cls := "CardCups$Two", name := "<init>", desc := "(CLCardCups$Term;LCardCups$Term;)V" } : Jvm.MethodName) prog_25_method_1_code (4 : Nat) (Option.none : Option Jvm.ClassFile.FieldType)) ∈ lw_all := lw_g (lw_at lw_m5 208 rfl) rfl
theorem q1276 : (Jvm.Cond.methodLink "CardCups$Two" (1 : Nat) ({ cls := "java/lang/Object", name := "<init>", desc := "()V" } : Jvm.MethodName)) ∈ lw_all := lw_g (lw_at lw_m5 209 rfl) rfl
theorem q1277 : (Jvm.Cond.fieldLink "CardCups$Two" (7 : Nat) "CardCups$Two" "sign" "C") ∈ lw_all := lw_g (lw_at lw_m5 210 rfl) rfl
theorem q1278 : (Jvm.Cond.fieldLink "CardCups$Two" (13 : Nat) "CardCups$Two" "one" "LCardCups$Term;") ∈ lw_all := lw_g (lw_at lw_m5 211 rfl) rfl
theorem q1279 : (Jvm.Cond.fieldLink "CardCups$Two" (17 : Nat) "CardCups$Two" "other" "LCardCups$Term;") ∈ lw_all := lw_g (lw_at lw_m5 212 rfl) rfl
theorem q1280 : (Jvm.Cond.laysFinal "CardCups$Two" "CardCups$Two" "sign" "C") ∈ lw_all := lw_g (lw_at lw_m5 213 rfl) rfl
theorem q1281 : (Jvm.Cond.soleField "CardCups$Two" "sign") ∈ lw_all := lw_g (lw_at lw_m5 214 rfl) rfl
theorem q1282 : (Jvm.Cond.laysFinal "CardCups$Two" "CardCups$Two" "one" "LCardCups$Term;") ∈ lw_all := lw_g (lw_at lw_m5 215 rfl) rfl
theorem q1283 : (Jvm.Cond.soleField "CardCups$Two" "one") ∈ lw_all := lw_g (lw_at lw_m5 216 rfl) rfl
theorem q1284 : (Jvm.Cond.laysFinal "CardCups$Two" "CardCups$Two" "other" "LCardCups$Term;") ∈ lw_all := lw_g (lw_at lw_m5 217 rfl) rfl
theorem q1285 : (Jvm.Cond.soleField "CardCups$Two" "other") ∈ lw_all := lw_g (lw_at lw_m5 218 rfl) rfl
theorem q1286 : (Jvm.Cond.superclass "CardCups$Two" "java/lang/Object") ∈ lw_all := lw_g (lw_at lw_m5 219 rfl) rfl
theorem q2500 : (Jvm.Cond.castable "CardCups$Two" "java/lang/Object") ∈ lw_tbl := lw_at lw_m10 233 rfl
theorem in_X18 : ∀ w ∈ wsX180, w ∈ lw_all := lw_in wsX180 [1280, 1282, 1284] (by decide +kernel) (by decide +kernel)
/-! CardCups$Step -/
set_option maxRecDepth 100000
def RX19 : String := "CardCups$Step"
abbrev cX19_isSo : ByteArray := prog_20_method_2_code
def yX19_isSo : MethodName := ⟨RX19, "isSo", "(LCardCups$Sight;)Z"⟩
def dkwX19_isSo_1 : List UInt8 := [167, 0, 4, 3, 172]
abbrev dktX19_isSo_1 : List UInt8 := dkwX19_isSo_1 ++ []
def dkwX19_isSo_0 : List UInt8 := [42, 180, 0, 13, 198, 0, 17, 42, 180, 0, 13, 43, 185, 0, 17, 2, 0, 4, 160, 0, 7, 4]
abbrev dktX19_isSo_0 : List UInt8 := dkwX19_isSo_0 ++ dktX19_isSo_1
theorem dksX19_isSo_0 : cX19_isSo.data.toList.drop 0 = dktX19_isSo_0 := by decide +kernel
theorem dksX19_isSo_1 : cX19_isSo.data.toList.drop 22 = dktX19_isSo_1 := dk_seg dksX19_isSo_0 22 rfl rfl
theorem dX19_isSo_0 : decode cX19_isSo 0 = .ok (.aload_n 0, 1) := dk_42 (dk_at dksX19_isSo_0 0 rfl rfl)
theorem dX19_isSo_1 : decode cX19_isSo 1 = .ok (.getfield 13, 3) := dk_180 0 13 (dk_at dksX19_isSo_0 1 rfl rfl)
theorem dX19_isSo_4 : decode cX19_isSo 4 = .ok (.ifnull 17, 3) := dk_198 0 17 (dk_at dksX19_isSo_0 4 rfl rfl)
theorem dX19_isSo_7 : decode cX19_isSo 7 = .ok (.aload_n 0, 1) := dk_42 (dk_at dksX19_isSo_0 7 rfl rfl)
theorem dX19_isSo_8 : decode cX19_isSo 8 = .ok (.getfield 13, 3) := dk_180 0 13 (dk_at dksX19_isSo_0 8 rfl rfl)
theorem dX19_isSo_11 : decode cX19_isSo 11 = .ok (.aload_n 1, 1) := dk_43 (dk_at dksX19_isSo_0 11 rfl rfl)
theorem dX19_isSo_12 : decode cX19_isSo 12 = .ok (.invokeinterface 17 2, 5) := by decide +kernel
theorem dX19_isSo_17 : decode cX19_isSo 17 = .ok (.iconst 1, 1) := dk_4 (dk_at dksX19_isSo_0 17 rfl rfl)
theorem dX19_isSo_18 : decode cX19_isSo 18 = .ok (.if_icmp .ne 7, 3) := dk_160 0 7 (dk_at dksX19_isSo_0 18 rfl rfl)
theorem dX19_isSo_21 : decode cX19_isSo 21 = .ok (.iconst 1, 1) := dk_4 (dk_at dksX19_isSo_0 21 rfl rfl)
theorem dX19_isSo_22 : decode cX19_isSo 22 = .ok (.goto 4, 3) := dk_167 0 4 (dk_at dksX19_isSo_1 0 rfl rfl)
theorem dX19_isSo_25 : decode cX19_isSo 25 = .ok (.iconst 0, 1) := dk_3 (dk_at dksX19_isSo_1 3 rfl rfl)
theorem dX19_isSo_26 : decode cX19_isSo 26 = .ok (.ireturn, 1) := dk_172 (dk_at dksX19_isSo_1 4 rfl rfl)
abbrev cX19_doing : ByteArray := prog_20_method_3_code
def yX19_doing : MethodName := ⟨RX19, "doing", "(J)J"⟩
def dkwX19_doing_0 : List UInt8 := [42, 180, 0, 7, 154, 0, 7, 31, 167, 0, 14, 31, 42, 180, 0, 7, 133, 105, 20, 0, 23, 109, 173]
abbrev dktX19_doing_0 : List UInt8 := dkwX19_doing_0 ++ []
theorem dksX19_doing_0 : cX19_doing.data.toList.drop 0 = dktX19_doing_0 := by decide +kernel
theorem dX19_doing_0 : decode cX19_doing 0 = .ok (.aload_n 0, 1) := dk_42 (dk_at dksX19_doing_0 0 rfl rfl)
theorem dX19_doing_1 : decode cX19_doing 1 = .ok (.getfield 7, 3) := dk_180 0 7 (dk_at dksX19_doing_0 1 rfl rfl)
theorem dX19_doing_4 : decode cX19_doing 4 = .ok (.ifCond .ne 7, 3) := dk_154 0 7 (dk_at dksX19_doing_0 4 rfl rfl)
theorem dX19_doing_7 : decode cX19_doing 7 = .ok (.lload_n 1, 1) := dk_31 (dk_at dksX19_doing_0 7 rfl rfl)
theorem dX19_doing_8 : decode cX19_doing 8 = .ok (.goto 14, 3) := dk_167 0 14 (dk_at dksX19_doing_0 8 rfl rfl)
theorem dX19_doing_11 : decode cX19_doing 11 = .ok (.lload_n 1, 1) := dk_31 (dk_at dksX19_doing_0 11 rfl rfl)
theorem dX19_doing_12 : decode cX19_doing 12 = .ok (.aload_n 0, 1) := dk_42 (dk_at dksX19_doing_0 12 rfl rfl)
theorem dX19_doing_13 : decode cX19_doing 13 = .ok (.getfield 7, 3) := dk_180 0 7 (dk_at dksX19_doing_0 13 rfl rfl)
theorem dX19_doing_16 : decode cX19_doing 16 = .ok (.i2l, 1) := dk_133 (dk_at dksX19_doing_0 16 rfl rfl)
theorem dX19_doing_17 : decode cX19_doing 17 = .ok (.lmul, 1) := dk_105 (dk_at dksX19_doing_0 17 rfl rfl)
theorem dX19_doing_18 : decode cX19_doing 18 = .ok (.ldc2_w 23, 3) := dk_20 0 23 (dk_at dksX19_doing_0 18 rfl rfl)
theorem dX19_doing_21 : decode cX19_doing 21 = .ok (.ldiv, 1) := dk_109 (dk_at dksX19_doing_0 21 rfl rfl)
theorem dX19_doing_22 : decode cX19_doing 22 = .ok (.lreturn, 1) := dk_173 (dk_at dksX19_doing_0 22 rfl rfl)
abbrev cX19_init : ByteArray := prog_20_method_1_code
def yX19_init : MethodName := ⟨RX19, "<init>", "(ILCardCups$Term;)V"⟩
def dkwX19_init_0 : List UInt8 := [42, 183, 0, 1, 42, 27, 181, 0, 7, 42, 44, 181, 0, 13, 177]
abbrev dktX19_init_0 : List UInt8 := dkwX19_init_0 ++ []
theorem dksX19_init_0 : cX19_init.data.toList.drop 0 = dktX19_init_0 := by decide +kernel
theorem dX19_init_0 : decode cX19_init 0 = .ok (.aload_n 0, 1) := dk_42 (dk_at dksX19_init_0 0 rfl rfl)
theorem dX19_init_1 : decode cX19_init 1 = .ok (.invokespecial 1, 3) := dk_183 0 1 (dk_at dksX19_init_0 1 rfl rfl)
theorem dX19_init_4 : decode cX19_init 4 = .ok (.aload_n 0, 1) := dk_42 (dk_at dksX19_init_0 4 rfl rfl)
theorem dX19_init_5 : decode cX19_init 5 = .ok (.iload_n 1, 1) := dk_27 (dk_at dksX19_init_0 5 rfl rfl)
theorem dX19_init_6 : decode cX19_init 6 = .ok (.putfield 7, 3) := dk_181 0 7 (dk_at dksX19_init_0 6 rfl rfl)
theorem dX19_init_9 : decode cX19_init 9 = .ok (.aload_n 0, 1) := dk_42 (dk_at dksX19_init_0 9 rfl rfl)
theorem dX19_init_10 : decode cX19_init 10 = .ok (.aload_n 2, 1) := dk_44 (dk_at dksX19_init_0 10 rfl rfl)
theorem dX19_init_11 : decode cX19_init 11 = .ok (.putfield 13, 3) := dk_181 0 13 (dk_at dksX19_init_0 11 rfl rfl)
theorem dX19_init_14 : decode cX19_init 14 = .ok (.return_, 1) := dk_177 (dk_at dksX19_init_0 14 rfl rfl)
abbrev cX19_isDrawn : ByteArray := prog_20_method_4_code
def yX19_isDrawn : MethodName := ⟨RX19, "isDrawn", "(LCardCups$Day;)Z"⟩
def dkwX19_isDrawn_1 : List UInt8 := [3, 172]
abbrev dktX19_isDrawn_1 : List UInt8 := dkwX19_isDrawn_1 ++ []
def dkwX19_isDrawn_0 : List UInt8 := [42, 180, 0, 7, 153, 0, 16, 43, 16, 16, 182, 0, 25, 42, 180, 0, 7, 162, 0, 7, 4, 167, 0, 4]
abbrev dktX19_isDrawn_0 : List UInt8 := dkwX19_isDrawn_0 ++ dktX19_isDrawn_1
theorem dksX19_isDrawn_0 : cX19_isDrawn.data.toList.drop 0 = dktX19_isDrawn_0 := by decide +kernel
theorem dksX19_isDrawn_1 : cX19_isDrawn.data.toList.drop 24 = dktX19_isDrawn_1 := dk_seg dksX19_isDrawn_0 24 rfl rfl
theorem dX19_isDrawn_0 : decode cX19_isDrawn 0 = .ok (.aload_n 0, 1) := dk_42 (dk_at dksX19_isDrawn_0 0 rfl rfl)
theorem dX19_isDrawn_1 : decode cX19_isDrawn 1 = .ok (.getfield 7, 3) := dk_180 0 7 (dk_at dksX19_isDrawn_0 1 rfl rfl)
theorem dX19_isDrawn_4 : decode cX19_isDrawn 4 = .ok (.ifCond .eq 16, 3) := dk_153 0 16 (dk_at dksX19_isDrawn_0 4 rfl rfl)
theorem dX19_isDrawn_7 : decode cX19_isDrawn 7 = .ok (.aload_n 1, 1) := dk_43 (dk_at dksX19_isDrawn_0 7 rfl rfl)
theorem dX19_isDrawn_8 : decode cX19_isDrawn 8 = .ok (.bipush 16, 2) := dk_16 16 (dk_at dksX19_isDrawn_0 8 rfl rfl)
theorem dX19_isDrawn_10 : decode cX19_isDrawn 10 = .ok (.invokevirtual 25, 3) := dk_182 0 25 (dk_at dksX19_isDrawn_0 10 rfl rfl)
theorem dX19_isDrawn_13 : decode cX19_isDrawn 13 = .ok (.aload_n 0, 1) := dk_42 (dk_at dksX19_isDrawn_0 13 rfl rfl)
theorem dX19_isDrawn_14 : decode cX19_isDrawn 14 = .ok (.getfield 7, 3) := dk_180 0 7 (dk_at dksX19_isDrawn_0 14 rfl rfl)
theorem dX19_isDrawn_17 : decode cX19_isDrawn 17 = .ok (.if_icmp .ge 7, 3) := dk_162 0 7 (dk_at dksX19_isDrawn_0 17 rfl rfl)
theorem dX19_isDrawn_20 : decode cX19_isDrawn 20 = .ok (.iconst 1, 1) := dk_4 (dk_at dksX19_isDrawn_0 20 rfl rfl)
theorem dX19_isDrawn_21 : decode cX19_isDrawn 21 = .ok (.goto 4, 3) := dk_167 0 4 (dk_at dksX19_isDrawn_0 21 rfl rfl)
theorem dX19_isDrawn_24 : decode cX19_isDrawn 24 = .ok (.iconst 0, 1) := dk_3 (dk_at dksX19_isDrawn_1 0 rfl rfl)
theorem dX19_isDrawn_25 : decode cX19_isDrawn 25 = .ok (.ireturn, 1) := dk_172 (dk_at dksX19_isDrawn_1 1 rfl rfl)
theorem q137 : (Jvm.Cond.initialized "CardCups$Step") ∈ lw_all := lw_g (lw_at lw_m1 30 rfl) rfl
theorem q627 : (Jvm.Cond.instanceMethod ({ cls := "CardCups$Step", name := "isSo", desc := "(LCardCups$Sight;)Z" } : Jvm.MethodName)) ∈ lw_all := lw_g (lw_at lw_m3 40 rfl) rfl
theorem q628 : (Jvm.Cond.sameMethod "CardCups$Step" "CardCups$Step" "isSo" "(LCardCups$Sight;)Z") ∈ lw_all := lw_g (lw_at lw_m3 41 rfl) rfl
theorem q635 : (Jvm.Cond.code ({ cls := "CardCups$Step", name := "isSo", desc := "(LCardCups$Sight;)Z" } : Jvm.MethodName) prog_20_method_2_code (2 : Nat) (Option.some Jvm.ClassFile.FieldType.boolean)) ∈ lw_all := lw_g (lw_at lw_m3 48 rfl) rfl
theorem q636 : (Jvm.Cond.interfaceEntry "CardCups$Step" (17 : Nat)) ∈ lw_tbl := lw_at lw_m3 49 rfl
theorem q637 : (Jvm.Cond.methodLink "CardCups$Step" (17 : Nat) ({ cls := "CardCups$Term", name := "on", desc := "(LCardCups$Sight;)I" } : Jvm.MethodName)) ∈ lw_all := lw_g (lw_at lw_m3 50 rfl) rfl
theorem q670 : (Jvm.Cond.instanceMethod ({ cls := "CardCups$Step", name := "doing", desc := "(J)J" } : Jvm.MethodName)) ∈ lw_all := lw_g (lw_at lw_m3 83 rfl) rfl
theorem q671 : (Jvm.Cond.sameMethod "CardCups$Step" "CardCups$Step" "doing" "(J)J") ∈ lw_all := lw_g (lw_at lw_m3 84 rfl) rfl
theorem q678 : (Jvm.Cond.code ({ cls := "CardCups$Step", name := "doing", desc := "(J)J" } : Jvm.MethodName) prog_20_method_3_code (3 : Nat) (Option.some Jvm.ClassFile.FieldType.long)) ∈ lw_all := lw_g (lw_at lw_m3 91 rfl) rfl
theorem q679 : (Jvm.Cond.constantLong "CardCups$Step" (23 : Nat) (16 : Int64)) ∈ lw_all := lw_g (lw_at lw_m3 92 rfl) rfl
theorem q681 : (Jvm.Cond.declares ({ cls := "CardCups$Step", name := "flows", desc := "(LCardCups$Flow;LCardCups$State;J)V" } : Jvm.MethodName)) ∈ lw_tbl := lw_at lw_m3 94 rfl
theorem q682 : (Jvm.Cond.sameMethod "CardCups$Step" "CardCups$Step" "flows" "(LCardCups$Flow;LCardCups$State;J)V") ∈ lw_all := lw_g (lw_at lw_m3 95 rfl) rfl
theorem q1298 : (Jvm.Cond.instanceMethod ({ cls := "CardCups$Step", name := "<init>", desc := "(ILCardCups$Term;)V" } : Jvm.MethodName)) ∈ lw_all := lw_g (lw_at lw_m5 231 rfl) rfl
theorem q1299 : (Jvm.Cond.code ({ cls := "CardCups$Step", name := "<init>", desc := "(ILCardCups$Term;)V" } : Jvm.MethodName) prog_20_method_1_code (3 : Nat) (Option.none : Option Jvm.ClassFile.FieldType)) ∈ lw_all := lw_g (lw_at lw_m5 232 rfl) rfl
theorem q1300 : (Jvm.Cond.methodLink "CardCups$Step" (1 : Nat) ({ cls := "java/lang/Object", name := "<init>", desc := "()V" } : Jvm.MethodName)) ∈ lw_all := lw_g (lw_at lw_m5 233 rfl) rfl
theorem q1301 : (Jvm.Cond.fieldLink "CardCups$Step" (7 : Nat) "CardCups$Step" "by" "I") ∈ lw_all := lw_g (lw_at lw_m5 234 rfl) rfl
theorem q1302 : (Jvm.Cond.fieldLink "CardCups$Step" (13 : Nat) "CardCups$Step" "test" "LCardCups$Term;") ∈ lw_all := lw_g (lw_at lw_m5 235 rfl) rfl
theorem q1304 : (Jvm.Cond.soleField "CardCups$Step" "by") ∈ lw_all := lw_g (lw_at lw_m5 237 rfl) rfl
theorem q1306 : (Jvm.Cond.soleField "CardCups$Step" "test") ∈ lw_all := lw_g (lw_at lw_m5 239 rfl) rfl
theorem q1660 : (Jvm.Cond.instanceMethod ({ cls := "CardCups$Step", name := "isDrawn", desc := "(LCardCups$Day;)Z" } : Jvm.MethodName)) ∈ lw_all := lw_g (lw_at lw_m7 113 rfl) rfl
theorem q1661 : (Jvm.Cond.sameMethod "CardCups$Step" "CardCups$Step" "isDrawn" "(LCardCups$Day;)Z") ∈ lw_all := lw_g (lw_at lw_m7 114 rfl) rfl
theorem q1668 : (Jvm.Cond.code ({ cls := "CardCups$Step", name := "isDrawn", desc := "(LCardCups$Day;)Z" } : Jvm.MethodName) prog_20_method_4_code (2 : Nat) (Option.some Jvm.ClassFile.FieldType.boolean)) ∈ lw_all := lw_g (lw_at lw_m7 121 rfl) rfl
theorem q1669 : (Jvm.Cond.methodLink "CardCups$Step" (25 : Nat) ({ cls := "CardCups$Day", name := "draw", desc := "(I)I" } : Jvm.MethodName)) ∈ lw_all := lw_g (lw_at lw_m7 122 rfl) rfl
theorem q1671 : (Jvm.Cond.declares ({ cls := "CardCups$Step", name := "on", desc := "(LCardCups$Day;)V" } : Jvm.MethodName)) ∈ lw_tbl := lw_at lw_m7 124 rfl
theorem q1672 : (Jvm.Cond.sameMethod "CardCups$Step" "CardCups$Step" "on" "(LCardCups$Day;)V") ∈ lw_all := lw_g (lw_at lw_m7 125 rfl) rfl
/-! CardCups$Calendar -/
set_option maxRecDepth 100000
def RX2 : String := "CardCups$Calendar"
def TX2 : u_T := fun k => match k with
  | 0 => ("CardCups$Calendar", "who", "[I", true)
  | 1 => ("CardCups$Calendar", "minute", "[I", true)
  | _ => ("CardCups$Calendar", "many", "I", false)
def tyX2 : Nat → FieldType := fun k => match k with
  | 0 => .array .int
  | 1 => .array .int
  | _ => .int
abbrev wsX20 : List Cond := u_ws RX2 TX2 3
theorem nmX2 : ∀ a, a < 3 → ∀ b, b < 3 → a ≠ b → (TX2 a).2.1 ≠ (TX2 b).2.1 := by decide +kernel
theorem tyX2_ok : ∀ k, k < 3 → parseFieldDescriptor (TX2 k).2.2.1 = some (tyX2 k) := by decide +kernel
abbrev cX2_init : ByteArray := prog_3_method_1_code
def yX2_init : MethodName := ⟨RX2, "<init>", "()V"⟩
def dkwX2_init_0 : List UInt8 := [42, 183, 0, 3, 42, 16, 24, 188, 10, 181, 0, 9, 42, 16, 24, 188, 10, 181, 0, 15, 177]
abbrev dktX2_init_0 : List UInt8 := dkwX2_init_0 ++ []
theorem dksX2_init_0 : cX2_init.data.toList.drop 0 = dktX2_init_0 := by decide +kernel
theorem dX2_init_0 : decode cX2_init 0 = .ok (.aload_n 0, 1) := dk_42 (dk_at dksX2_init_0 0 rfl rfl)
theorem dX2_init_1 : decode cX2_init 1 = .ok (.invokespecial 3, 3) := dk_183 0 3 (dk_at dksX2_init_0 1 rfl rfl)
theorem dX2_init_4 : decode cX2_init 4 = .ok (.aload_n 0, 1) := dk_42 (dk_at dksX2_init_0 4 rfl rfl)
theorem dX2_init_5 : decode cX2_init 5 = .ok (.bipush 24, 2) := dk_16 24 (dk_at dksX2_init_0 5 rfl rfl)
theorem dX2_init_7 : decode cX2_init 7 = .ok (.newarray .int, 2) := dk_188_10 (dk_at dksX2_init_0 7 rfl rfl)
theorem dX2_init_9 : decode cX2_init 9 = .ok (.putfield 9, 3) := dk_181 0 9 (dk_at dksX2_init_0 9 rfl rfl)
theorem dX2_init_12 : decode cX2_init 12 = .ok (.aload_n 0, 1) := dk_42 (dk_at dksX2_init_0 12 rfl rfl)
theorem dX2_init_13 : decode cX2_init 13 = .ok (.bipush 24, 2) := dk_16 24 (dk_at dksX2_init_0 13 rfl rfl)
theorem dX2_init_15 : decode cX2_init 15 = .ok (.newarray .int, 2) := dk_188_10 (dk_at dksX2_init_0 15 rfl rfl)
theorem dX2_init_17 : decode cX2_init 17 = .ok (.putfield 15, 3) := dk_181 0 15 (dk_at dksX2_init_0 17 rfl rfl)
theorem dX2_init_20 : decode cX2_init 20 = .ok (.return_, 1) := dk_177 (dk_at dksX2_init_0 20 rfl rfl)
abbrev cX2_count : ByteArray := prog_3_method_5_code
def yX2_count : MethodName := ⟨RX2, "count", "(I)I"⟩
def dkwX2_count_1 : List UInt8 := [132, 2, 1, 132, 3, 1, 167, 255, 230, 28, 172]
abbrev dktX2_count_1 : List UInt8 := dkwX2_count_1 ++ []
def dkwX2_count_0 : List UInt8 := [3, 61, 3, 62, 29, 27, 163, 0, 27, 42, 180, 0, 9, 29, 46, 42, 180, 0, 9, 27, 46, 160, 0, 6]
abbrev dktX2_count_0 : List UInt8 := dkwX2_count_0 ++ dktX2_count_1
theorem dksX2_count_0 : cX2_count.data.toList.drop 0 = dktX2_count_0 := by decide +kernel
theorem dksX2_count_1 : cX2_count.data.toList.drop 24 = dktX2_count_1 := dk_seg dksX2_count_0 24 rfl rfl
theorem dX2_count_0 : decode cX2_count 0 = .ok (.iconst 0, 1) := dk_3 (dk_at dksX2_count_0 0 rfl rfl)
theorem dX2_count_1 : decode cX2_count 1 = .ok (.istore_n 2, 1) := dk_61 (dk_at dksX2_count_0 1 rfl rfl)
theorem dX2_count_2 : decode cX2_count 2 = .ok (.iconst 0, 1) := dk_3 (dk_at dksX2_count_0 2 rfl rfl)
theorem dX2_count_3 : decode cX2_count 3 = .ok (.istore_n 3, 1) := dk_62 (dk_at dksX2_count_0 3 rfl rfl)
theorem dX2_count_4 : decode cX2_count 4 = .ok (.iload_n 3, 1) := dk_29 (dk_at dksX2_count_0 4 rfl rfl)
theorem dX2_count_5 : decode cX2_count 5 = .ok (.iload_n 1, 1) := dk_27 (dk_at dksX2_count_0 5 rfl rfl)
theorem dX2_count_6 : decode cX2_count 6 = .ok (.if_icmp .gt 27, 3) := dk_163 0 27 (dk_at dksX2_count_0 6 rfl rfl)
theorem dX2_count_9 : decode cX2_count 9 = .ok (.aload_n 0, 1) := dk_42 (dk_at dksX2_count_0 9 rfl rfl)
theorem dX2_count_10 : decode cX2_count 10 = .ok (.getfield 9, 3) := dk_180 0 9 (dk_at dksX2_count_0 10 rfl rfl)
theorem dX2_count_13 : decode cX2_count 13 = .ok (.iload_n 3, 1) := dk_29 (dk_at dksX2_count_0 13 rfl rfl)
theorem dX2_count_14 : decode cX2_count 14 = .ok (.iaload, 1) := dk_46 (dk_at dksX2_count_0 14 rfl rfl)
theorem dX2_count_15 : decode cX2_count 15 = .ok (.aload_n 0, 1) := dk_42 (dk_at dksX2_count_0 15 rfl rfl)
theorem dX2_count_16 : decode cX2_count 16 = .ok (.getfield 9, 3) := dk_180 0 9 (dk_at dksX2_count_0 16 rfl rfl)
theorem dX2_count_19 : decode cX2_count 19 = .ok (.iload_n 1, 1) := dk_27 (dk_at dksX2_count_0 19 rfl rfl)
theorem dX2_count_20 : decode cX2_count 20 = .ok (.iaload, 1) := dk_46 (dk_at dksX2_count_0 20 rfl rfl)
theorem dX2_count_21 : decode cX2_count 21 = .ok (.if_icmp .ne 6, 3) := dk_160 0 6 (dk_at dksX2_count_0 21 rfl rfl)
theorem dX2_count_24 : decode cX2_count 24 = .ok (.iinc 2 1, 3) := dk_132 2 1 (dk_at dksX2_count_1 0 rfl rfl)
theorem dX2_count_27 : decode cX2_count 27 = .ok (.iinc 3 1, 3) := dk_132 3 1 (dk_at dksX2_count_1 3 rfl rfl)
theorem dX2_count_30 : decode cX2_count 30 = .ok (.goto (-26), 3) := dk_167 255 230 (dk_at dksX2_count_1 6 rfl rfl)
theorem dX2_count_33 : decode cX2_count 33 = .ok (.iload_n 2, 1) := dk_28 (dk_at dksX2_count_1 9 rfl rfl)
theorem dX2_count_34 : decode cX2_count 34 = .ok (.ireturn, 1) := dk_172 (dk_at dksX2_count_1 10 rfl rfl)
abbrev cX2_last : ByteArray := prog_3_method_6_code
def yX2_last : MethodName := ⟨RX2, "last", "(I)I"⟩
def dkwX2_last_1 : List UInt8 := [180, 0, 15, 27, 46, 42, 180, 0, 15, 28, 46, 100, 172, 132, 2, 255, 167, 255, 220, 17, 3, 231, 172]
abbrev dktX2_last_1 : List UInt8 := dkwX2_last_1 ++ []
def dkwX2_last_0 : List UInt8 := [27, 4, 100, 61, 28, 155, 0, 38, 42, 180, 0, 9, 28, 46, 42, 180, 0, 9, 27, 46, 160, 0, 17, 42]
abbrev dktX2_last_0 : List UInt8 := dkwX2_last_0 ++ dktX2_last_1
theorem dksX2_last_0 : cX2_last.data.toList.drop 0 = dktX2_last_0 := by decide +kernel
theorem dksX2_last_1 : cX2_last.data.toList.drop 24 = dktX2_last_1 := dk_seg dksX2_last_0 24 rfl rfl
theorem dX2_last_0 : decode cX2_last 0 = .ok (.iload_n 1, 1) := dk_27 (dk_at dksX2_last_0 0 rfl rfl)
theorem dX2_last_1 : decode cX2_last 1 = .ok (.iconst 1, 1) := dk_4 (dk_at dksX2_last_0 1 rfl rfl)
theorem dX2_last_2 : decode cX2_last 2 = .ok (.isub, 1) := dk_100 (dk_at dksX2_last_0 2 rfl rfl)
theorem dX2_last_3 : decode cX2_last 3 = .ok (.istore_n 2, 1) := dk_61 (dk_at dksX2_last_0 3 rfl rfl)
theorem dX2_last_4 : decode cX2_last 4 = .ok (.iload_n 2, 1) := dk_28 (dk_at dksX2_last_0 4 rfl rfl)
theorem dX2_last_5 : decode cX2_last 5 = .ok (.ifCond .lt 38, 3) := dk_155 0 38 (dk_at dksX2_last_0 5 rfl rfl)
theorem dX2_last_8 : decode cX2_last 8 = .ok (.aload_n 0, 1) := dk_42 (dk_at dksX2_last_0 8 rfl rfl)
theorem dX2_last_9 : decode cX2_last 9 = .ok (.getfield 9, 3) := dk_180 0 9 (dk_at dksX2_last_0 9 rfl rfl)
theorem dX2_last_12 : decode cX2_last 12 = .ok (.iload_n 2, 1) := dk_28 (dk_at dksX2_last_0 12 rfl rfl)
theorem dX2_last_13 : decode cX2_last 13 = .ok (.iaload, 1) := dk_46 (dk_at dksX2_last_0 13 rfl rfl)
theorem dX2_last_14 : decode cX2_last 14 = .ok (.aload_n 0, 1) := dk_42 (dk_at dksX2_last_0 14 rfl rfl)
theorem dX2_last_15 : decode cX2_last 15 = .ok (.getfield 9, 3) := dk_180 0 9 (dk_at dksX2_last_0 15 rfl rfl)
theorem dX2_last_18 : decode cX2_last 18 = .ok (.iload_n 1, 1) := dk_27 (dk_at dksX2_last_0 18 rfl rfl)
theorem dX2_last_19 : decode cX2_last 19 = .ok (.iaload, 1) := dk_46 (dk_at dksX2_last_0 19 rfl rfl)
theorem dX2_last_20 : decode cX2_last 20 = .ok (.if_icmp .ne 17, 3) := dk_160 0 17 (dk_at dksX2_last_0 20 rfl rfl)
theorem dX2_last_23 : decode cX2_last 23 = .ok (.aload_n 0, 1) := dk_42 (dk_at dksX2_last_0 23 rfl rfl)
theorem dX2_last_24 : decode cX2_last 24 = .ok (.getfield 15, 3) := dk_180 0 15 (dk_at dksX2_last_1 0 rfl rfl)
theorem dX2_last_27 : decode cX2_last 27 = .ok (.iload_n 1, 1) := dk_27 (dk_at dksX2_last_1 3 rfl rfl)
theorem dX2_last_28 : decode cX2_last 28 = .ok (.iaload, 1) := dk_46 (dk_at dksX2_last_1 4 rfl rfl)
theorem dX2_last_29 : decode cX2_last 29 = .ok (.aload_n 0, 1) := dk_42 (dk_at dksX2_last_1 5 rfl rfl)
theorem dX2_last_30 : decode cX2_last 30 = .ok (.getfield 15, 3) := dk_180 0 15 (dk_at dksX2_last_1 6 rfl rfl)
theorem dX2_last_33 : decode cX2_last 33 = .ok (.iload_n 2, 1) := dk_28 (dk_at dksX2_last_1 9 rfl rfl)
theorem dX2_last_34 : decode cX2_last 34 = .ok (.iaload, 1) := dk_46 (dk_at dksX2_last_1 10 rfl rfl)
theorem dX2_last_35 : decode cX2_last 35 = .ok (.isub, 1) := dk_100 (dk_at dksX2_last_1 11 rfl rfl)
theorem dX2_last_36 : decode cX2_last 36 = .ok (.ireturn, 1) := dk_172 (dk_at dksX2_last_1 12 rfl rfl)
theorem dX2_last_37 : decode cX2_last 37 = .ok (.iinc 2 (-1), 3) := dk_132 2 255 (dk_at dksX2_last_1 13 rfl rfl)
theorem dX2_last_40 : decode cX2_last 40 = .ok (.goto (-36), 3) := dk_167 255 220 (dk_at dksX2_last_1 16 rfl rfl)
theorem dX2_last_43 : decode cX2_last 43 = .ok (.sipush 999, 3) := dk_17 3 231 (dk_at dksX2_last_1 19 rfl rfl)
theorem dX2_last_46 : decode cX2_last 46 = .ok (.ireturn, 1) := dk_172 (dk_at dksX2_last_1 22 rfl rfl)
abbrev cX2_as : ByteArray := prog_3_method_2_code
def yX2_as : MethodName := ⟨RX2, "as", "(LCardCups$Calendar;)LCardCups$Calendar;"⟩
def dkwX2_as_1 : List UInt8 := [180, 0, 15, 3, 42, 180, 0, 15, 3, 16, 24, 184, 0, 22, 42, 176]
abbrev dktX2_as_1 : List UInt8 := dkwX2_as_1 ++ []
def dkwX2_as_0 : List UInt8 := [42, 43, 180, 0, 18, 181, 0, 18, 43, 180, 0, 9, 3, 42, 180, 0, 9, 3, 16, 24, 184, 0, 22, 43]
abbrev dktX2_as_0 : List UInt8 := dkwX2_as_0 ++ dktX2_as_1
theorem dksX2_as_0 : cX2_as.data.toList.drop 0 = dktX2_as_0 := by decide +kernel
theorem dksX2_as_1 : cX2_as.data.toList.drop 24 = dktX2_as_1 := dk_seg dksX2_as_0 24 rfl rfl
theorem dX2_as_0 : decode cX2_as 0 = .ok (.aload_n 0, 1) := dk_42 (dk_at dksX2_as_0 0 rfl rfl)
theorem dX2_as_1 : decode cX2_as 1 = .ok (.aload_n 1, 1) := dk_43 (dk_at dksX2_as_0 1 rfl rfl)
theorem dX2_as_2 : decode cX2_as 2 = .ok (.getfield 18, 3) := dk_180 0 18 (dk_at dksX2_as_0 2 rfl rfl)
theorem dX2_as_5 : decode cX2_as 5 = .ok (.putfield 18, 3) := dk_181 0 18 (dk_at dksX2_as_0 5 rfl rfl)
theorem dX2_as_8 : decode cX2_as 8 = .ok (.aload_n 1, 1) := dk_43 (dk_at dksX2_as_0 8 rfl rfl)
theorem dX2_as_9 : decode cX2_as 9 = .ok (.getfield 9, 3) := dk_180 0 9 (dk_at dksX2_as_0 9 rfl rfl)
theorem dX2_as_12 : decode cX2_as 12 = .ok (.iconst 0, 1) := dk_3 (dk_at dksX2_as_0 12 rfl rfl)
theorem dX2_as_13 : decode cX2_as 13 = .ok (.aload_n 0, 1) := dk_42 (dk_at dksX2_as_0 13 rfl rfl)
theorem dX2_as_14 : decode cX2_as 14 = .ok (.getfield 9, 3) := dk_180 0 9 (dk_at dksX2_as_0 14 rfl rfl)
theorem dX2_as_17 : decode cX2_as 17 = .ok (.iconst 0, 1) := dk_3 (dk_at dksX2_as_0 17 rfl rfl)
theorem dX2_as_18 : decode cX2_as 18 = .ok (.bipush 24, 2) := dk_16 24 (dk_at dksX2_as_0 18 rfl rfl)
theorem dX2_as_20 : decode cX2_as 20 = .ok (.invokestatic 22, 3) := dk_184 0 22 (dk_at dksX2_as_0 20 rfl rfl)
theorem dX2_as_23 : decode cX2_as 23 = .ok (.aload_n 1, 1) := dk_43 (dk_at dksX2_as_0 23 rfl rfl)
theorem dX2_as_24 : decode cX2_as 24 = .ok (.getfield 15, 3) := dk_180 0 15 (dk_at dksX2_as_1 0 rfl rfl)
theorem dX2_as_27 : decode cX2_as 27 = .ok (.iconst 0, 1) := dk_3 (dk_at dksX2_as_1 3 rfl rfl)
theorem dX2_as_28 : decode cX2_as 28 = .ok (.aload_n 0, 1) := dk_42 (dk_at dksX2_as_1 4 rfl rfl)
theorem dX2_as_29 : decode cX2_as 29 = .ok (.getfield 15, 3) := dk_180 0 15 (dk_at dksX2_as_1 5 rfl rfl)
theorem dX2_as_32 : decode cX2_as 32 = .ok (.iconst 0, 1) := dk_3 (dk_at dksX2_as_1 8 rfl rfl)
theorem dX2_as_33 : decode cX2_as 33 = .ok (.bipush 24, 2) := dk_16 24 (dk_at dksX2_as_1 9 rfl rfl)
theorem dX2_as_35 : decode cX2_as 35 = .ok (.invokestatic 22, 3) := dk_184 0 22 (dk_at dksX2_as_1 11 rfl rfl)
theorem dX2_as_38 : decode cX2_as 38 = .ok (.aload_n 0, 1) := dk_42 (dk_at dksX2_as_1 14 rfl rfl)
theorem dX2_as_39 : decode cX2_as 39 = .ok (.areturn, 1) := dk_176 (dk_at dksX2_as_1 15 rfl rfl)
abbrev cX2_comes : ByteArray := prog_3_method_3_code
def yX2_comes : MethodName := ⟨RX2, "comes", "(II)I"⟩
def dkwX2_comes_3 : List UInt8 := [180, 0, 15, 29, 28, 79, 29, 172]
abbrev dktX2_comes_3 : List UInt8 := dkwX2_comes_3 ++ []
def dkwX2_comes_2 : List UInt8 := [180, 0, 15, 29, 4, 100, 46, 79, 132, 3, 255, 167, 255, 209, 42, 180, 0, 9, 29, 27, 79, 42]
abbrev dktX2_comes_2 : List UInt8 := dkwX2_comes_2 ++ dktX2_comes_3
def dkwX2_comes_1 : List UInt8 := [28, 164, 0, 37, 42, 180, 0, 9, 29, 42, 180, 0, 9, 29, 4, 100, 46, 79, 42, 180, 0, 15, 29, 42]
abbrev dktX2_comes_1 : List UInt8 := dkwX2_comes_1 ++ dktX2_comes_2
def dkwX2_comes_0 : List UInt8 := [42, 89, 180, 0, 18, 90, 4, 96, 181, 0, 18, 62, 29, 158, 0, 49, 42, 180, 0, 15, 29, 4, 100, 46]
abbrev dktX2_comes_0 : List UInt8 := dkwX2_comes_0 ++ dktX2_comes_1
theorem dksX2_comes_0 : cX2_comes.data.toList.drop 0 = dktX2_comes_0 := by decide +kernel
theorem dksX2_comes_1 : cX2_comes.data.toList.drop 24 = dktX2_comes_1 := dk_seg dksX2_comes_0 24 rfl rfl
theorem dksX2_comes_2 : cX2_comes.data.toList.drop 48 = dktX2_comes_2 := dk_seg dksX2_comes_1 24 rfl rfl
theorem dksX2_comes_3 : cX2_comes.data.toList.drop 70 = dktX2_comes_3 := dk_seg dksX2_comes_2 22 rfl rfl
theorem dX2_comes_0 : decode cX2_comes 0 = .ok (.aload_n 0, 1) := dk_42 (dk_at dksX2_comes_0 0 rfl rfl)
theorem dX2_comes_1 : decode cX2_comes 1 = .ok (.dup, 1) := dk_89 (dk_at dksX2_comes_0 1 rfl rfl)
theorem dX2_comes_2 : decode cX2_comes 2 = .ok (.getfield 18, 3) := dk_180 0 18 (dk_at dksX2_comes_0 2 rfl rfl)
theorem dX2_comes_5 : decode cX2_comes 5 = .ok (.dup_x1, 1) := dk_90 (dk_at dksX2_comes_0 5 rfl rfl)
theorem dX2_comes_6 : decode cX2_comes 6 = .ok (.iconst 1, 1) := dk_4 (dk_at dksX2_comes_0 6 rfl rfl)
theorem dX2_comes_7 : decode cX2_comes 7 = .ok (.iadd, 1) := dk_96 (dk_at dksX2_comes_0 7 rfl rfl)
theorem dX2_comes_8 : decode cX2_comes 8 = .ok (.putfield 18, 3) := dk_181 0 18 (dk_at dksX2_comes_0 8 rfl rfl)
theorem dX2_comes_11 : decode cX2_comes 11 = .ok (.istore_n 3, 1) := dk_62 (dk_at dksX2_comes_0 11 rfl rfl)
theorem dX2_comes_12 : decode cX2_comes 12 = .ok (.iload_n 3, 1) := dk_29 (dk_at dksX2_comes_0 12 rfl rfl)
theorem dX2_comes_13 : decode cX2_comes 13 = .ok (.ifCond .le 49, 3) := dk_158 0 49 (dk_at dksX2_comes_0 13 rfl rfl)
theorem dX2_comes_16 : decode cX2_comes 16 = .ok (.aload_n 0, 1) := dk_42 (dk_at dksX2_comes_0 16 rfl rfl)
theorem dX2_comes_17 : decode cX2_comes 17 = .ok (.getfield 15, 3) := dk_180 0 15 (dk_at dksX2_comes_0 17 rfl rfl)
theorem dX2_comes_20 : decode cX2_comes 20 = .ok (.iload_n 3, 1) := dk_29 (dk_at dksX2_comes_0 20 rfl rfl)
theorem dX2_comes_21 : decode cX2_comes 21 = .ok (.iconst 1, 1) := dk_4 (dk_at dksX2_comes_0 21 rfl rfl)
theorem dX2_comes_22 : decode cX2_comes 22 = .ok (.isub, 1) := dk_100 (dk_at dksX2_comes_0 22 rfl rfl)
theorem dX2_comes_23 : decode cX2_comes 23 = .ok (.iaload, 1) := dk_46 (dk_at dksX2_comes_0 23 rfl rfl)
theorem dX2_comes_24 : decode cX2_comes 24 = .ok (.iload_n 2, 1) := dk_28 (dk_at dksX2_comes_1 0 rfl rfl)
theorem dX2_comes_25 : decode cX2_comes 25 = .ok (.if_icmp .le 37, 3) := dk_164 0 37 (dk_at dksX2_comes_1 1 rfl rfl)
theorem dX2_comes_28 : decode cX2_comes 28 = .ok (.aload_n 0, 1) := dk_42 (dk_at dksX2_comes_1 4 rfl rfl)
theorem dX2_comes_29 : decode cX2_comes 29 = .ok (.getfield 9, 3) := dk_180 0 9 (dk_at dksX2_comes_1 5 rfl rfl)
theorem dX2_comes_32 : decode cX2_comes 32 = .ok (.iload_n 3, 1) := dk_29 (dk_at dksX2_comes_1 8 rfl rfl)
theorem dX2_comes_33 : decode cX2_comes 33 = .ok (.aload_n 0, 1) := dk_42 (dk_at dksX2_comes_1 9 rfl rfl)
theorem dX2_comes_34 : decode cX2_comes 34 = .ok (.getfield 9, 3) := dk_180 0 9 (dk_at dksX2_comes_1 10 rfl rfl)
theorem dX2_comes_37 : decode cX2_comes 37 = .ok (.iload_n 3, 1) := dk_29 (dk_at dksX2_comes_1 13 rfl rfl)
theorem dX2_comes_38 : decode cX2_comes 38 = .ok (.iconst 1, 1) := dk_4 (dk_at dksX2_comes_1 14 rfl rfl)
theorem dX2_comes_39 : decode cX2_comes 39 = .ok (.isub, 1) := dk_100 (dk_at dksX2_comes_1 15 rfl rfl)
theorem dX2_comes_40 : decode cX2_comes 40 = .ok (.iaload, 1) := dk_46 (dk_at dksX2_comes_1 16 rfl rfl)
theorem dX2_comes_41 : decode cX2_comes 41 = .ok (.iastore, 1) := dk_79 (dk_at dksX2_comes_1 17 rfl rfl)
theorem dX2_comes_42 : decode cX2_comes 42 = .ok (.aload_n 0, 1) := dk_42 (dk_at dksX2_comes_1 18 rfl rfl)
theorem dX2_comes_43 : decode cX2_comes 43 = .ok (.getfield 15, 3) := dk_180 0 15 (dk_at dksX2_comes_1 19 rfl rfl)
theorem dX2_comes_46 : decode cX2_comes 46 = .ok (.iload_n 3, 1) := dk_29 (dk_at dksX2_comes_1 22 rfl rfl)
theorem dX2_comes_47 : decode cX2_comes 47 = .ok (.aload_n 0, 1) := dk_42 (dk_at dksX2_comes_1 23 rfl rfl)
theorem dX2_comes_48 : decode cX2_comes 48 = .ok (.getfield 15, 3) := dk_180 0 15 (dk_at dksX2_comes_2 0 rfl rfl)
theorem dX2_comes_51 : decode cX2_comes 51 = .ok (.iload_n 3, 1) := dk_29 (dk_at dksX2_comes_2 3 rfl rfl)
theorem dX2_comes_52 : decode cX2_comes 52 = .ok (.iconst 1, 1) := dk_4 (dk_at dksX2_comes_2 4 rfl rfl)
theorem dX2_comes_53 : decode cX2_comes 53 = .ok (.isub, 1) := dk_100 (dk_at dksX2_comes_2 5 rfl rfl)
theorem dX2_comes_54 : decode cX2_comes 54 = .ok (.iaload, 1) := dk_46 (dk_at dksX2_comes_2 6 rfl rfl)
theorem dX2_comes_55 : decode cX2_comes 55 = .ok (.iastore, 1) := dk_79 (dk_at dksX2_comes_2 7 rfl rfl)
theorem dX2_comes_56 : decode cX2_comes 56 = .ok (.iinc 3 (-1), 3) := dk_132 3 255 (dk_at dksX2_comes_2 8 rfl rfl)
theorem dX2_comes_59 : decode cX2_comes 59 = .ok (.goto (-47), 3) := dk_167 255 209 (dk_at dksX2_comes_2 11 rfl rfl)
theorem dX2_comes_62 : decode cX2_comes 62 = .ok (.aload_n 0, 1) := dk_42 (dk_at dksX2_comes_2 14 rfl rfl)
theorem dX2_comes_63 : decode cX2_comes 63 = .ok (.getfield 9, 3) := dk_180 0 9 (dk_at dksX2_comes_2 15 rfl rfl)
theorem dX2_comes_66 : decode cX2_comes 66 = .ok (.iload_n 3, 1) := dk_29 (dk_at dksX2_comes_2 18 rfl rfl)
theorem dX2_comes_67 : decode cX2_comes 67 = .ok (.iload_n 1, 1) := dk_27 (dk_at dksX2_comes_2 19 rfl rfl)
theorem dX2_comes_68 : decode cX2_comes 68 = .ok (.iastore, 1) := dk_79 (dk_at dksX2_comes_2 20 rfl rfl)
theorem dX2_comes_69 : decode cX2_comes 69 = .ok (.aload_n 0, 1) := dk_42 (dk_at dksX2_comes_2 21 rfl rfl)
theorem dX2_comes_70 : decode cX2_comes 70 = .ok (.getfield 15, 3) := dk_180 0 15 (dk_at dksX2_comes_3 0 rfl rfl)
theorem dX2_comes_73 : decode cX2_comes 73 = .ok (.iload_n 3, 1) := dk_29 (dk_at dksX2_comes_3 3 rfl rfl)
theorem dX2_comes_74 : decode cX2_comes 74 = .ok (.iload_n 2, 1) := dk_28 (dk_at dksX2_comes_3 4 rfl rfl)
theorem dX2_comes_75 : decode cX2_comes 75 = .ok (.iastore, 1) := dk_79 (dk_at dksX2_comes_3 5 rfl rfl)
theorem dX2_comes_76 : decode cX2_comes 76 = .ok (.iload_n 3, 1) := dk_29 (dk_at dksX2_comes_3 6 rfl rfl)
theorem dX2_comes_77 : decode cX2_comes 77 = .ok (.ireturn, 1) := dk_172 (dk_at dksX2_comes_3 7 rfl rfl)
abbrev cX2_of : ByteArray := prog_3_method_7_code
def yX2_of : MethodName := ⟨RX2, "of", "(I)I"⟩
def dkwX2_of_1 : List UInt8 := [132, 2, 1, 132, 3, 1, 167, 255, 232, 28, 172]
abbrev dktX2_of_1 : List UInt8 := dkwX2_of_1 ++ []
def dkwX2_of_0 : List UInt8 := [3, 61, 3, 62, 29, 42, 180, 0, 18, 162, 0, 22, 42, 180, 0, 9, 29, 46, 27, 160, 0, 6]
abbrev dktX2_of_0 : List UInt8 := dkwX2_of_0 ++ dktX2_of_1
theorem dksX2_of_0 : cX2_of.data.toList.drop 0 = dktX2_of_0 := by decide +kernel
theorem dksX2_of_1 : cX2_of.data.toList.drop 22 = dktX2_of_1 := dk_seg dksX2_of_0 22 rfl rfl
theorem dX2_of_0 : decode cX2_of 0 = .ok (.iconst 0, 1) := dk_3 (dk_at dksX2_of_0 0 rfl rfl)
theorem dX2_of_1 : decode cX2_of 1 = .ok (.istore_n 2, 1) := dk_61 (dk_at dksX2_of_0 1 rfl rfl)
theorem dX2_of_2 : decode cX2_of 2 = .ok (.iconst 0, 1) := dk_3 (dk_at dksX2_of_0 2 rfl rfl)
theorem dX2_of_3 : decode cX2_of 3 = .ok (.istore_n 3, 1) := dk_62 (dk_at dksX2_of_0 3 rfl rfl)
theorem dX2_of_4 : decode cX2_of 4 = .ok (.iload_n 3, 1) := dk_29 (dk_at dksX2_of_0 4 rfl rfl)
theorem dX2_of_5 : decode cX2_of 5 = .ok (.aload_n 0, 1) := dk_42 (dk_at dksX2_of_0 5 rfl rfl)
theorem dX2_of_6 : decode cX2_of 6 = .ok (.getfield 18, 3) := dk_180 0 18 (dk_at dksX2_of_0 6 rfl rfl)
theorem dX2_of_9 : decode cX2_of 9 = .ok (.if_icmp .ge 22, 3) := dk_162 0 22 (dk_at dksX2_of_0 9 rfl rfl)
theorem dX2_of_12 : decode cX2_of 12 = .ok (.aload_n 0, 1) := dk_42 (dk_at dksX2_of_0 12 rfl rfl)
theorem dX2_of_13 : decode cX2_of 13 = .ok (.getfield 9, 3) := dk_180 0 9 (dk_at dksX2_of_0 13 rfl rfl)
theorem dX2_of_16 : decode cX2_of 16 = .ok (.iload_n 3, 1) := dk_29 (dk_at dksX2_of_0 16 rfl rfl)
theorem dX2_of_17 : decode cX2_of 17 = .ok (.iaload, 1) := dk_46 (dk_at dksX2_of_0 17 rfl rfl)
theorem dX2_of_18 : decode cX2_of 18 = .ok (.iload_n 1, 1) := dk_27 (dk_at dksX2_of_0 18 rfl rfl)
theorem dX2_of_19 : decode cX2_of 19 = .ok (.if_icmp .ne 6, 3) := dk_160 0 6 (dk_at dksX2_of_0 19 rfl rfl)
theorem dX2_of_22 : decode cX2_of 22 = .ok (.iinc 2 1, 3) := dk_132 2 1 (dk_at dksX2_of_1 0 rfl rfl)
theorem dX2_of_25 : decode cX2_of 25 = .ok (.iinc 3 1, 3) := dk_132 3 1 (dk_at dksX2_of_1 3 rfl rfl)
theorem dX2_of_28 : decode cX2_of 28 = .ok (.goto (-24), 3) := dk_167 255 232 (dk_at dksX2_of_1 6 rfl rfl)
theorem dX2_of_31 : decode cX2_of 31 = .ok (.iload_n 2, 1) := dk_28 (dk_at dksX2_of_1 9 rfl rfl)
theorem dX2_of_32 : decode cX2_of 32 = .ok (.ireturn, 1) := dk_172 (dk_at dksX2_of_1 10 rfl rfl)
abbrev cX2_first : ByteArray := prog_3_method_8_code
def yX2_first : MethodName := ⟨RX2, "first", "(I)I"⟩
def dkwX2_first_1 : List UInt8 := [132, 2, 1, 167, 255, 233, 2, 172]
abbrev dktX2_first_1 : List UInt8 := dkwX2_first_1 ++ []
def dkwX2_first_0 : List UInt8 := [3, 61, 28, 42, 180, 0, 18, 162, 0, 21, 42, 180, 0, 9, 28, 46, 27, 160, 0, 5, 28, 172]
abbrev dktX2_first_0 : List UInt8 := dkwX2_first_0 ++ dktX2_first_1
theorem dksX2_first_0 : cX2_first.data.toList.drop 0 = dktX2_first_0 := by decide +kernel
theorem dksX2_first_1 : cX2_first.data.toList.drop 22 = dktX2_first_1 := dk_seg dksX2_first_0 22 rfl rfl
theorem dX2_first_0 : decode cX2_first 0 = .ok (.iconst 0, 1) := dk_3 (dk_at dksX2_first_0 0 rfl rfl)
theorem dX2_first_1 : decode cX2_first 1 = .ok (.istore_n 2, 1) := dk_61 (dk_at dksX2_first_0 1 rfl rfl)
theorem dX2_first_2 : decode cX2_first 2 = .ok (.iload_n 2, 1) := dk_28 (dk_at dksX2_first_0 2 rfl rfl)
theorem dX2_first_3 : decode cX2_first 3 = .ok (.aload_n 0, 1) := dk_42 (dk_at dksX2_first_0 3 rfl rfl)
theorem dX2_first_4 : decode cX2_first 4 = .ok (.getfield 18, 3) := dk_180 0 18 (dk_at dksX2_first_0 4 rfl rfl)
theorem dX2_first_7 : decode cX2_first 7 = .ok (.if_icmp .ge 21, 3) := dk_162 0 21 (dk_at dksX2_first_0 7 rfl rfl)
theorem dX2_first_10 : decode cX2_first 10 = .ok (.aload_n 0, 1) := dk_42 (dk_at dksX2_first_0 10 rfl rfl)
theorem dX2_first_11 : decode cX2_first 11 = .ok (.getfield 9, 3) := dk_180 0 9 (dk_at dksX2_first_0 11 rfl rfl)
theorem dX2_first_14 : decode cX2_first 14 = .ok (.iload_n 2, 1) := dk_28 (dk_at dksX2_first_0 14 rfl rfl)
theorem dX2_first_15 : decode cX2_first 15 = .ok (.iaload, 1) := dk_46 (dk_at dksX2_first_0 15 rfl rfl)
theorem dX2_first_16 : decode cX2_first 16 = .ok (.iload_n 1, 1) := dk_27 (dk_at dksX2_first_0 16 rfl rfl)
theorem dX2_first_17 : decode cX2_first 17 = .ok (.if_icmp .ne 5, 3) := dk_160 0 5 (dk_at dksX2_first_0 17 rfl rfl)
theorem dX2_first_20 : decode cX2_first 20 = .ok (.iload_n 2, 1) := dk_28 (dk_at dksX2_first_0 20 rfl rfl)
theorem dX2_first_21 : decode cX2_first 21 = .ok (.ireturn, 1) := dk_172 (dk_at dksX2_first_0 21 rfl rfl)
theorem dX2_first_22 : decode cX2_first 22 = .ok (.iinc 2 1, 3) := dk_132 2 1 (dk_at dksX2_first_1 0 rfl rfl)
theorem dX2_first_25 : decode cX2_first 25 = .ok (.goto (-23), 3) := dk_167 255 233 (dk_at dksX2_first_1 3 rfl rfl)
theorem dX2_first_28 : decode cX2_first 28 = .ok (.iconst (-1), 1) := dk_2 (dk_at dksX2_first_1 6 rfl rfl)
theorem dX2_first_29 : decode cX2_first 29 = .ok (.ireturn, 1) := dk_172 (dk_at dksX2_first_1 7 rfl rfl)
abbrev cX2_skips : ByteArray := prog_3_method_4_code
def yX2_skips : MethodName := ⟨RX2, "skips", "(I)V"⟩
def dkwX2_skips_2 : List UInt8 := [132, 2, 1, 167, 255, 217, 177]
abbrev dktX2_skips_2 : List UInt8 := dkwX2_skips_2 ++ []
def dkwX2_skips_1 : List UInt8 := [28, 42, 180, 0, 9, 28, 4, 96, 46, 79, 42, 180, 0, 15, 28, 42, 180, 0, 15, 28, 4, 96, 46, 79]
abbrev dktX2_skips_1 : List UInt8 := dkwX2_skips_1 ++ dktX2_skips_2
def dkwX2_skips_0 : List UInt8 := [42, 89, 180, 0, 18, 4, 100, 181, 0, 18, 27, 61, 28, 42, 180, 0, 18, 162, 0, 37, 42, 180, 0, 9]
abbrev dktX2_skips_0 : List UInt8 := dkwX2_skips_0 ++ dktX2_skips_1
theorem dksX2_skips_0 : cX2_skips.data.toList.drop 0 = dktX2_skips_0 := by decide +kernel
theorem dksX2_skips_1 : cX2_skips.data.toList.drop 24 = dktX2_skips_1 := dk_seg dksX2_skips_0 24 rfl rfl
theorem dksX2_skips_2 : cX2_skips.data.toList.drop 48 = dktX2_skips_2 := dk_seg dksX2_skips_1 24 rfl rfl
theorem dX2_skips_0 : decode cX2_skips 0 = .ok (.aload_n 0, 1) := dk_42 (dk_at dksX2_skips_0 0 rfl rfl)
theorem dX2_skips_1 : decode cX2_skips 1 = .ok (.dup, 1) := dk_89 (dk_at dksX2_skips_0 1 rfl rfl)
theorem dX2_skips_2 : decode cX2_skips 2 = .ok (.getfield 18, 3) := dk_180 0 18 (dk_at dksX2_skips_0 2 rfl rfl)
theorem dX2_skips_5 : decode cX2_skips 5 = .ok (.iconst 1, 1) := dk_4 (dk_at dksX2_skips_0 5 rfl rfl)
theorem dX2_skips_6 : decode cX2_skips 6 = .ok (.isub, 1) := dk_100 (dk_at dksX2_skips_0 6 rfl rfl)
theorem dX2_skips_7 : decode cX2_skips 7 = .ok (.putfield 18, 3) := dk_181 0 18 (dk_at dksX2_skips_0 7 rfl rfl)
theorem dX2_skips_10 : decode cX2_skips 10 = .ok (.iload_n 1, 1) := dk_27 (dk_at dksX2_skips_0 10 rfl rfl)
theorem dX2_skips_11 : decode cX2_skips 11 = .ok (.istore_n 2, 1) := dk_61 (dk_at dksX2_skips_0 11 rfl rfl)
theorem dX2_skips_12 : decode cX2_skips 12 = .ok (.iload_n 2, 1) := dk_28 (dk_at dksX2_skips_0 12 rfl rfl)
theorem dX2_skips_13 : decode cX2_skips 13 = .ok (.aload_n 0, 1) := dk_42 (dk_at dksX2_skips_0 13 rfl rfl)
theorem dX2_skips_14 : decode cX2_skips 14 = .ok (.getfield 18, 3) := dk_180 0 18 (dk_at dksX2_skips_0 14 rfl rfl)
theorem dX2_skips_17 : decode cX2_skips 17 = .ok (.if_icmp .ge 37, 3) := dk_162 0 37 (dk_at dksX2_skips_0 17 rfl rfl)
theorem dX2_skips_20 : decode cX2_skips 20 = .ok (.aload_n 0, 1) := dk_42 (dk_at dksX2_skips_0 20 rfl rfl)
theorem dX2_skips_21 : decode cX2_skips 21 = .ok (.getfield 9, 3) := dk_180 0 9 (dk_at dksX2_skips_0 21 rfl rfl)
theorem dX2_skips_24 : decode cX2_skips 24 = .ok (.iload_n 2, 1) := dk_28 (dk_at dksX2_skips_1 0 rfl rfl)
theorem dX2_skips_25 : decode cX2_skips 25 = .ok (.aload_n 0, 1) := dk_42 (dk_at dksX2_skips_1 1 rfl rfl)
theorem dX2_skips_26 : decode cX2_skips 26 = .ok (.getfield 9, 3) := dk_180 0 9 (dk_at dksX2_skips_1 2 rfl rfl)
theorem dX2_skips_29 : decode cX2_skips 29 = .ok (.iload_n 2, 1) := dk_28 (dk_at dksX2_skips_1 5 rfl rfl)
theorem dX2_skips_30 : decode cX2_skips 30 = .ok (.iconst 1, 1) := dk_4 (dk_at dksX2_skips_1 6 rfl rfl)
theorem dX2_skips_31 : decode cX2_skips 31 = .ok (.iadd, 1) := dk_96 (dk_at dksX2_skips_1 7 rfl rfl)
theorem dX2_skips_32 : decode cX2_skips 32 = .ok (.iaload, 1) := dk_46 (dk_at dksX2_skips_1 8 rfl rfl)
theorem dX2_skips_33 : decode cX2_skips 33 = .ok (.iastore, 1) := dk_79 (dk_at dksX2_skips_1 9 rfl rfl)
theorem dX2_skips_34 : decode cX2_skips 34 = .ok (.aload_n 0, 1) := dk_42 (dk_at dksX2_skips_1 10 rfl rfl)
theorem dX2_skips_35 : decode cX2_skips 35 = .ok (.getfield 15, 3) := dk_180 0 15 (dk_at dksX2_skips_1 11 rfl rfl)
theorem dX2_skips_38 : decode cX2_skips 38 = .ok (.iload_n 2, 1) := dk_28 (dk_at dksX2_skips_1 14 rfl rfl)
theorem dX2_skips_39 : decode cX2_skips 39 = .ok (.aload_n 0, 1) := dk_42 (dk_at dksX2_skips_1 15 rfl rfl)
theorem dX2_skips_40 : decode cX2_skips 40 = .ok (.getfield 15, 3) := dk_180 0 15 (dk_at dksX2_skips_1 16 rfl rfl)
theorem dX2_skips_43 : decode cX2_skips 43 = .ok (.iload_n 2, 1) := dk_28 (dk_at dksX2_skips_1 19 rfl rfl)
theorem dX2_skips_44 : decode cX2_skips 44 = .ok (.iconst 1, 1) := dk_4 (dk_at dksX2_skips_1 20 rfl rfl)
theorem dX2_skips_45 : decode cX2_skips 45 = .ok (.iadd, 1) := dk_96 (dk_at dksX2_skips_1 21 rfl rfl)
theorem dX2_skips_46 : decode cX2_skips 46 = .ok (.iaload, 1) := dk_46 (dk_at dksX2_skips_1 22 rfl rfl)
theorem dX2_skips_47 : decode cX2_skips 47 = .ok (.iastore, 1) := dk_79 (dk_at dksX2_skips_1 23 rfl rfl)
theorem dX2_skips_48 : decode cX2_skips 48 = .ok (.iinc 2 1, 3) := dk_132 2 1 (dk_at dksX2_skips_2 0 rfl rfl)
theorem dX2_skips_51 : decode cX2_skips 51 = .ok (.goto (-39), 3) := dk_167 255 217 (dk_at dksX2_skips_2 3 rfl rfl)
theorem dX2_skips_54 : decode cX2_skips 54 = .ok (.return_, 1) := dk_177 (dk_at dksX2_skips_2 6 rfl rfl)
theorem q109 : (Jvm.Cond.initialized "CardCups$Calendar") ∈ lw_all := lw_g (lw_at lw_m1 2 rfl) rfl
theorem q154 : (Jvm.Cond.instantiable "CardCups$Calendar" (3 : Nat)) ∈ lw_all := lw_g (lw_at lw_m1 47 rfl) rfl
theorem q156 : (Jvm.Cond.instanceMethod ({ cls := "CardCups$Calendar", name := "<init>", desc := "()V" } : Jvm.MethodName)) ∈ lw_all := lw_g (lw_at lw_m1 49 rfl) rfl
theorem q157 : (Jvm.Cond.code ({ cls := "CardCups$Calendar", name := "<init>", desc := "()V" } : Jvm.MethodName) prog_3_method_1_code (1 : Nat) (Option.none : Option Jvm.ClassFile.FieldType)) ∈ lw_all := lw_g (lw_at lw_m1 50 rfl) rfl
theorem q158 : (Jvm.Cond.methodLink "CardCups$Calendar" (3 : Nat) ({ cls := "java/lang/Object", name := "<init>", desc := "()V" } : Jvm.MethodName)) ∈ lw_all := lw_g (lw_at lw_m1 51 rfl) rfl
theorem q159 : (Jvm.Cond.fieldLink "CardCups$Calendar" (9 : Nat) "CardCups$Calendar" "who" "[I") ∈ lw_all := lw_g (lw_at lw_m1 52 rfl) rfl
theorem q163 : (Jvm.Cond.fieldLink "CardCups$Calendar" (15 : Nat) "CardCups$Calendar" "minute" "[I") ∈ lw_all := lw_g (lw_at lw_m1 56 rfl) rfl
theorem q166 : (Jvm.Cond.fieldLink "CardCups$Calendar" (18 : Nat) "CardCups$Calendar" "many" "I") ∈ lw_all := lw_g (lw_at lw_m1 59 rfl) rfl
theorem q169 : (Jvm.Cond.laysFinal "CardCups$Calendar" "CardCups$Calendar" "who" "[I") ∈ lw_all := lw_g (lw_at lw_m1 62 rfl) rfl
theorem q170 : (Jvm.Cond.soleField "CardCups$Calendar" "who") ∈ lw_all := lw_g (lw_at lw_m1 63 rfl) rfl
theorem q171 : (Jvm.Cond.laysFinal "CardCups$Calendar" "CardCups$Calendar" "minute" "[I") ∈ lw_all := lw_g (lw_at lw_m1 64 rfl) rfl
theorem q172 : (Jvm.Cond.soleField "CardCups$Calendar" "minute") ∈ lw_all := lw_g (lw_at lw_m1 65 rfl) rfl
theorem q173 : (Jvm.Cond.lays "CardCups$Calendar" "CardCups$Calendar" "many" "I") ∈ lw_all := lw_g (lw_at lw_m1 66 rfl) rfl
theorem q174 : (Jvm.Cond.soleField "CardCups$Calendar" "many") ∈ lw_all := lw_g (lw_at lw_m1 67 rfl) rfl
theorem q175 : (Jvm.Cond.superclass "CardCups$Calendar" "java/lang/Object") ∈ lw_all := lw_g (lw_at lw_m1 68 rfl) rfl
theorem q551 : (Jvm.Cond.instanceMethod ({ cls := "CardCups$Calendar", name := "count", desc := "(I)I" } : Jvm.MethodName)) ∈ lw_all := lw_g (lw_at lw_m2 204 rfl) rfl
theorem q552 : (Jvm.Cond.selects "CardCups$Calendar" ({ cls := "CardCups$Calendar", name := "count", desc := "(I)I" } : Jvm.MethodName) ({ cls := "CardCups$Calendar", name := "count", desc := "(I)I" } : Jvm.MethodName)) ∈ lw_all := lw_g (lw_at lw_m2 205 rfl) rfl
theorem q553 : (Jvm.Cond.code ({ cls := "CardCups$Calendar", name := "count", desc := "(I)I" } : Jvm.MethodName) prog_3_method_5_code (4 : Nat) (Option.some Jvm.ClassFile.FieldType.int)) ∈ lw_all := lw_g (lw_at lw_m2 206 rfl) rfl
theorem q555 : (Jvm.Cond.instanceMethod ({ cls := "CardCups$Calendar", name := "last", desc := "(I)I" } : Jvm.MethodName)) ∈ lw_all := lw_g (lw_at lw_m2 208 rfl) rfl
theorem q556 : (Jvm.Cond.selects "CardCups$Calendar" ({ cls := "CardCups$Calendar", name := "last", desc := "(I)I" } : Jvm.MethodName) ({ cls := "CardCups$Calendar", name := "last", desc := "(I)I" } : Jvm.MethodName)) ∈ lw_all := lw_g (lw_at lw_m2 209 rfl) rfl
theorem q557 : (Jvm.Cond.code ({ cls := "CardCups$Calendar", name := "last", desc := "(I)I" } : Jvm.MethodName) prog_3_method_6_code (3 : Nat) (Option.some Jvm.ClassFile.FieldType.int)) ∈ lw_all := lw_g (lw_at lw_m2 210 rfl) rfl
theorem q804 : (Jvm.Cond.instanceMethod ({ cls := "CardCups$Calendar", name := "as", desc := "(LCardCups$Calendar;)LCardCups$Calendar;" } : Jvm.MethodName)) ∈ lw_all := lw_g (lw_at lw_m3 217 rfl) rfl
theorem q805 : (Jvm.Cond.selects "CardCups$Calendar" ({ cls := "CardCups$Calendar", name := "as", desc := "(LCardCups$Calendar;)LCardCups$Calendar;" } : Jvm.MethodName) ({ cls := "CardCups$Calendar", name := "as", desc := "(LCardCups$Calendar;)LCardCups$Calendar;" } : Jvm.MethodName)) ∈ lw_all := lw_g (lw_at lw_m3 218 rfl) rfl
theorem q806 : (Jvm.Cond.code ({ cls := "CardCups$Calendar", name := "as", desc := "(LCardCups$Calendar;)LCardCups$Calendar;" } : Jvm.MethodName) prog_3_method_2_code (2 : Nat) (Option.some (Jvm.ClassFile.FieldType.object "CardCups$Calendar"))) ∈ lw_all := lw_g (lw_at lw_m3 219 rfl) rfl
theorem q807 : (Jvm.Cond.methodLink "CardCups$Calendar" (22 : Nat) ({ cls := "java/lang/System", name := "arraycopy", desc := "(Ljava/lang/Object;ILjava/lang/Object;II)V" } : Jvm.MethodName)) ∈ lw_all := lw_g (lw_at lw_m3 220 rfl) rfl
theorem q1088 : (Jvm.Cond.instanceMethod ({ cls := "CardCups$Calendar", name := "comes", desc := "(II)I" } : Jvm.MethodName)) ∈ lw_all := lw_g (lw_at lw_m5 21 rfl) rfl
theorem q1089 : (Jvm.Cond.selects "CardCups$Calendar" ({ cls := "CardCups$Calendar", name := "comes", desc := "(II)I" } : Jvm.MethodName) ({ cls := "CardCups$Calendar", name := "comes", desc := "(II)I" } : Jvm.MethodName)) ∈ lw_all := lw_g (lw_at lw_m5 22 rfl) rfl
theorem q1090 : (Jvm.Cond.code ({ cls := "CardCups$Calendar", name := "comes", desc := "(II)I" } : Jvm.MethodName) prog_3_method_3_code (4 : Nat) (Option.some Jvm.ClassFile.FieldType.int)) ∈ lw_all := lw_g (lw_at lw_m5 23 rfl) rfl
theorem q1410 : (Jvm.Cond.instanceMethod ({ cls := "CardCups$Calendar", name := "of", desc := "(I)I" } : Jvm.MethodName)) ∈ lw_all := lw_g (lw_at lw_m6 103 rfl) rfl
theorem q1411 : (Jvm.Cond.selects "CardCups$Calendar" ({ cls := "CardCups$Calendar", name := "of", desc := "(I)I" } : Jvm.MethodName) ({ cls := "CardCups$Calendar", name := "of", desc := "(I)I" } : Jvm.MethodName)) ∈ lw_all := lw_g (lw_at lw_m6 104 rfl) rfl
theorem q1412 : (Jvm.Cond.code ({ cls := "CardCups$Calendar", name := "of", desc := "(I)I" } : Jvm.MethodName) prog_3_method_7_code (4 : Nat) (Option.some Jvm.ClassFile.FieldType.int)) ∈ lw_all := lw_g (lw_at lw_m6 105 rfl) rfl
theorem q1414 : (Jvm.Cond.instanceMethod ({ cls := "CardCups$Calendar", name := "first", desc := "(I)I" } : Jvm.MethodName)) ∈ lw_all := lw_g (lw_at lw_m6 107 rfl) rfl
theorem q1415 : (Jvm.Cond.selects "CardCups$Calendar" ({ cls := "CardCups$Calendar", name := "first", desc := "(I)I" } : Jvm.MethodName) ({ cls := "CardCups$Calendar", name := "first", desc := "(I)I" } : Jvm.MethodName)) ∈ lw_all := lw_g (lw_at lw_m6 108 rfl) rfl
theorem q1416 : (Jvm.Cond.code ({ cls := "CardCups$Calendar", name := "first", desc := "(I)I" } : Jvm.MethodName) prog_3_method_8_code (3 : Nat) (Option.some Jvm.ClassFile.FieldType.int)) ∈ lw_all := lw_g (lw_at lw_m6 109 rfl) rfl
theorem q1724 : (Jvm.Cond.instanceMethod ({ cls := "CardCups$Calendar", name := "skips", desc := "(I)V" } : Jvm.MethodName)) ∈ lw_all := lw_g (lw_at lw_m7 177 rfl) rfl
theorem q1725 : (Jvm.Cond.selects "CardCups$Calendar" ({ cls := "CardCups$Calendar", name := "skips", desc := "(I)V" } : Jvm.MethodName) ({ cls := "CardCups$Calendar", name := "skips", desc := "(I)V" } : Jvm.MethodName)) ∈ lw_all := lw_g (lw_at lw_m7 178 rfl) rfl
theorem q1726 : (Jvm.Cond.code ({ cls := "CardCups$Calendar", name := "skips", desc := "(I)V" } : Jvm.MethodName) prog_3_method_4_code (3 : Nat) (Option.none : Option Jvm.ClassFile.FieldType)) ∈ lw_all := lw_g (lw_at lw_m7 179 rfl) rfl
theorem q2482 : (Jvm.Cond.castable "CardCups$Calendar" "java/lang/Object") ∈ lw_tbl := lw_at lw_m10 215 rfl
theorem in_X2 : ∀ w ∈ wsX20, w ∈ lw_all := lw_in wsX20 [169, 171, 173] (by decide +kernel) (by decide +kernel)
/-! CardCups$Put -/
set_option maxRecDepth 100000
def RX20 : String := "CardCups$Put"
def TX20 : u_T := fun k => match k with
  | 0 => ("CardCups$Step", "by", "I", true)
  | _ => ("CardCups$Step", "test", "LCardCups$Term;", true)
def tyX20 : Nat → FieldType := fun k => match k with
  | 0 => .int
  | _ => .object "CardCups$Term"
abbrev wsX200 : List Cond := u_ws RX20 TX20 2
theorem nmX20 : ∀ a, a < 2 → ∀ b, b < 2 → a ≠ b → (TX20 a).2.1 ≠ (TX20 b).2.1 := by decide +kernel
theorem tyX20_ok : ∀ k, k < 2 → parseFieldDescriptor (TX20 k).2.2.1 = some (tyX20 k) := by decide +kernel
abbrev cX20_flows : ByteArray := prog_15_method_3_code
def yX20_flows : MethodName := ⟨RX20, "flows", "(LCardCups$Flow;LCardCups$State;J)V"⟩
def dkwX20_flows_0 : List UInt8 := [44, 43, 180, 0, 17, 180, 0, 23, 184, 0, 28, 43, 44, 33, 182, 0, 34, 177]
abbrev dktX20_flows_0 : List UInt8 := dkwX20_flows_0 ++ []
theorem dksX20_flows_0 : cX20_flows.data.toList.drop 0 = dktX20_flows_0 := by decide +kernel
theorem dX20_flows_0 : decode cX20_flows 0 = .ok (.aload_n 2, 1) := dk_44 (dk_at dksX20_flows_0 0 rfl rfl)
theorem dX20_flows_1 : decode cX20_flows 1 = .ok (.aload_n 1, 1) := dk_43 (dk_at dksX20_flows_0 1 rfl rfl)
theorem dX20_flows_2 : decode cX20_flows 2 = .ok (.getfield 17, 3) := dk_180 0 17 (dk_at dksX20_flows_0 2 rfl rfl)
theorem dX20_flows_5 : decode cX20_flows 5 = .ok (.getfield 23, 3) := dk_180 0 23 (dk_at dksX20_flows_0 5 rfl rfl)
theorem dX20_flows_8 : decode cX20_flows 8 = .ok (.invokestatic 28, 3) := dk_184 0 28 (dk_at dksX20_flows_0 8 rfl rfl)
theorem dX20_flows_11 : decode cX20_flows 11 = .ok (.aload_n 1, 1) := dk_43 (dk_at dksX20_flows_0 11 rfl rfl)
theorem dX20_flows_12 : decode cX20_flows 12 = .ok (.aload_n 2, 1) := dk_44 (dk_at dksX20_flows_0 12 rfl rfl)
theorem dX20_flows_13 : decode cX20_flows 13 = .ok (.lload_n 3, 1) := dk_33 (dk_at dksX20_flows_0 13 rfl rfl)
theorem dX20_flows_14 : decode cX20_flows 14 = .ok (.invokevirtual 34, 3) := dk_182 0 34 (dk_at dksX20_flows_0 14 rfl rfl)
theorem dX20_flows_17 : decode cX20_flows 17 = .ok (.return_, 1) := dk_177 (dk_at dksX20_flows_0 17 rfl rfl)
abbrev cX20_puts : ByteArray := prog_15_method_2_code
def yX20_puts : MethodName := ⟨RX20, "puts", "(LCardCups$State;I)V"⟩
def dkwX20_puts_0 : List UInt8 := [42, 182, 0, 7, 27, 162, 0, 13, 42, 89, 180, 0, 13, 4, 96, 181, 0, 13, 177]
abbrev dktX20_puts_0 : List UInt8 := dkwX20_puts_0 ++ []
theorem dksX20_puts_0 : cX20_puts.data.toList.drop 0 = dktX20_puts_0 := by decide +kernel
theorem dX20_puts_0 : decode cX20_puts 0 = .ok (.aload_n 0, 1) := dk_42 (dk_at dksX20_puts_0 0 rfl rfl)
theorem dX20_puts_1 : decode cX20_puts 1 = .ok (.invokevirtual 7, 3) := dk_182 0 7 (dk_at dksX20_puts_0 1 rfl rfl)
theorem dX20_puts_4 : decode cX20_puts 4 = .ok (.iload_n 1, 1) := dk_27 (dk_at dksX20_puts_0 4 rfl rfl)
theorem dX20_puts_5 : decode cX20_puts 5 = .ok (.if_icmp .ge 13, 3) := dk_162 0 13 (dk_at dksX20_puts_0 5 rfl rfl)
theorem dX20_puts_8 : decode cX20_puts 8 = .ok (.aload_n 0, 1) := dk_42 (dk_at dksX20_puts_0 8 rfl rfl)
theorem dX20_puts_9 : decode cX20_puts 9 = .ok (.dup, 1) := dk_89 (dk_at dksX20_puts_0 9 rfl rfl)
theorem dX20_puts_10 : decode cX20_puts 10 = .ok (.getfield 13, 3) := dk_180 0 13 (dk_at dksX20_puts_0 10 rfl rfl)
theorem dX20_puts_13 : decode cX20_puts 13 = .ok (.iconst 1, 1) := dk_4 (dk_at dksX20_puts_0 13 rfl rfl)
theorem dX20_puts_14 : decode cX20_puts 14 = .ok (.iadd, 1) := dk_96 (dk_at dksX20_puts_0 14 rfl rfl)
theorem dX20_puts_15 : decode cX20_puts 15 = .ok (.putfield 13, 3) := dk_181 0 13 (dk_at dksX20_puts_0 15 rfl rfl)
theorem dX20_puts_18 : decode cX20_puts 18 = .ok (.return_, 1) := dk_177 (dk_at dksX20_puts_0 18 rfl rfl)
abbrev cX20_init : ByteArray := prog_15_method_1_code
def yX20_init : MethodName := ⟨RX20, "<init>", "(ILCardCups$Term;)V"⟩
def dkwX20_init_0 : List UInt8 := [42, 27, 44, 183, 0, 1, 177]
abbrev dktX20_init_0 : List UInt8 := dkwX20_init_0 ++ []
theorem dksX20_init_0 : cX20_init.data.toList.drop 0 = dktX20_init_0 := by decide +kernel
theorem dX20_init_0 : decode cX20_init 0 = .ok (.aload_n 0, 1) := dk_42 (dk_at dksX20_init_0 0 rfl rfl)
theorem dX20_init_1 : decode cX20_init 1 = .ok (.iload_n 1, 1) := dk_27 (dk_at dksX20_init_0 1 rfl rfl)
theorem dX20_init_2 : decode cX20_init 2 = .ok (.aload_n 2, 1) := dk_44 (dk_at dksX20_init_0 2 rfl rfl)
theorem dX20_init_3 : decode cX20_init 3 = .ok (.invokespecial 1, 3) := dk_183 0 1 (dk_at dksX20_init_0 3 rfl rfl)
theorem dX20_init_6 : decode cX20_init 6 = .ok (.return_, 1) := dk_177 (dk_at dksX20_init_0 6 rfl rfl)
abbrev cX20_on : ByteArray := prog_15_method_4_code
def yX20_on : MethodName := ⟨RX20, "on", "(LCardCups$Day;)V"⟩
def dkwX20_on_0 : List UInt8 := [43, 180, 0, 38, 43, 180, 0, 44, 180, 0, 23, 184, 0, 28, 177]
abbrev dktX20_on_0 : List UInt8 := dkwX20_on_0 ++ []
theorem dksX20_on_0 : cX20_on.data.toList.drop 0 = dktX20_on_0 := by decide +kernel
theorem dX20_on_0 : decode cX20_on 0 = .ok (.aload_n 1, 1) := dk_43 (dk_at dksX20_on_0 0 rfl rfl)
theorem dX20_on_1 : decode cX20_on 1 = .ok (.getfield 38, 3) := dk_180 0 38 (dk_at dksX20_on_0 1 rfl rfl)
theorem dX20_on_4 : decode cX20_on 4 = .ok (.aload_n 1, 1) := dk_43 (dk_at dksX20_on_0 4 rfl rfl)
theorem dX20_on_5 : decode cX20_on 5 = .ok (.getfield 44, 3) := dk_180 0 44 (dk_at dksX20_on_0 5 rfl rfl)
theorem dX20_on_8 : decode cX20_on 8 = .ok (.getfield 23, 3) := dk_180 0 23 (dk_at dksX20_on_0 8 rfl rfl)
theorem dX20_on_11 : decode cX20_on 11 = .ok (.invokestatic 28, 3) := dk_184 0 28 (dk_at dksX20_on_0 11 rfl rfl)
theorem dX20_on_14 : decode cX20_on 14 = .ok (.return_, 1) := dk_177 (dk_at dksX20_on_0 14 rfl rfl)
theorem q138 : (Jvm.Cond.initialized "CardCups$Put") ∈ lw_all := lw_g (lw_at lw_m1 31 rfl) rfl
theorem q207 : (Jvm.Cond.fieldLinkNest "CardCups$Put" (13 : Nat) "CardCups$State" "dirty" "I" "CardCups") ∈ lw_tbl := lw_at lw_m1 100 rfl
theorem q242 : (Jvm.Cond.fieldLinkNest "CardCups$Put" (17 : Nat) "CardCups$Flow" "office" "LCardCups$Office;" "CardCups") ∈ lw_tbl := lw_at lw_m1 135 rfl
theorem q292 : (Jvm.Cond.fieldLinkNest "CardCups$Put" (38 : Nat) "CardCups$Day" "state" "LCardCups$State;" "CardCups") ∈ lw_tbl := lw_at lw_m1 185 rfl
theorem q297 : (Jvm.Cond.fieldLinkNest "CardCups$Put" (44 : Nat) "CardCups$Day" "office" "LCardCups$Office;" "CardCups") ∈ lw_tbl := lw_at lw_m1 190 rfl
theorem q379 : (Jvm.Cond.fieldLinkNest "CardCups$Put" (23 : Nat) "CardCups$Office" "cups" "I" "CardCups") ∈ lw_tbl := lw_at lw_m2 32 rfl
theorem q631 : (Jvm.Cond.selects "CardCups$Put" ({ cls := "CardCups$Step", name := "isSo", desc := "(LCardCups$Sight;)Z" } : Jvm.MethodName) ({ cls := "CardCups$Step", name := "isSo", desc := "(LCardCups$Sight;)Z" } : Jvm.MethodName)) ∈ lw_all := lw_g (lw_at lw_m3 44 rfl) rfl
theorem q674 : (Jvm.Cond.selects "CardCups$Put" ({ cls := "CardCups$Step", name := "doing", desc := "(J)J" } : Jvm.MethodName) ({ cls := "CardCups$Step", name := "doing", desc := "(J)J" } : Jvm.MethodName)) ∈ lw_all := lw_g (lw_at lw_m3 87 rfl) rfl
theorem q703 : (Jvm.Cond.selects "CardCups$Put" ({ cls := "CardCups$Step", name := "flows", desc := "(LCardCups$Flow;LCardCups$State;J)V" } : Jvm.MethodName) ({ cls := "CardCups$Put", name := "flows", desc := "(LCardCups$Flow;LCardCups$State;J)V" } : Jvm.MethodName)) ∈ lw_all := lw_g (lw_at lw_m3 116 rfl) rfl
theorem q704 : (Jvm.Cond.instanceMethod ({ cls := "CardCups$Put", name := "flows", desc := "(LCardCups$Flow;LCardCups$State;J)V" } : Jvm.MethodName)) ∈ lw_all := lw_g (lw_at lw_m3 117 rfl) rfl
theorem q705 : (Jvm.Cond.code ({ cls := "CardCups$Put", name := "flows", desc := "(LCardCups$Flow;LCardCups$State;J)V" } : Jvm.MethodName) prog_15_method_3_code (5 : Nat) (Option.none : Option Jvm.ClassFile.FieldType)) ∈ lw_all := lw_g (lw_at lw_m3 118 rfl) rfl
theorem q706 : (Jvm.Cond.methodLink "CardCups$Put" (28 : Nat) ({ cls := "CardCups$Put", name := "puts", desc := "(LCardCups$State;I)V" } : Jvm.MethodName)) ∈ lw_all := lw_g (lw_at lw_m3 119 rfl) rfl
theorem q707 : (Jvm.Cond.static ({ cls := "CardCups$Put", name := "puts", desc := "(LCardCups$State;I)V" } : Jvm.MethodName)) ∈ lw_all := lw_g (lw_at lw_m3 120 rfl) rfl
theorem q708 : (Jvm.Cond.code ({ cls := "CardCups$Put", name := "puts", desc := "(LCardCups$State;I)V" } : Jvm.MethodName) prog_15_method_2_code (2 : Nat) (Option.none : Option Jvm.ClassFile.FieldType)) ∈ lw_all := lw_g (lw_at lw_m3 121 rfl) rfl
theorem q709 : (Jvm.Cond.methodLink "CardCups$Put" (7 : Nat) ({ cls := "CardCups$State", name := "in", desc := "()I" } : Jvm.MethodName)) ∈ lw_all := lw_g (lw_at lw_m3 122 rfl) rfl
theorem q710 : (Jvm.Cond.methodLink "CardCups$Put" (34 : Nat) ({ cls := "CardCups$Flow", name := "adds", desc := "(LCardCups$State;J)V" } : Jvm.MethodName)) ∈ lw_all := lw_g (lw_at lw_m3 123 rfl) rfl
theorem q1293 : (Jvm.Cond.instantiable "CardCups$Put" (2 : Nat)) ∈ lw_all := lw_g (lw_at lw_m5 226 rfl) rfl
theorem q1295 : (Jvm.Cond.instanceMethod ({ cls := "CardCups$Put", name := "<init>", desc := "(ILCardCups$Term;)V" } : Jvm.MethodName)) ∈ lw_all := lw_g (lw_at lw_m5 228 rfl) rfl
theorem q1296 : (Jvm.Cond.code ({ cls := "CardCups$Put", name := "<init>", desc := "(ILCardCups$Term;)V" } : Jvm.MethodName) prog_15_method_1_code (3 : Nat) (Option.none : Option Jvm.ClassFile.FieldType)) ∈ lw_all := lw_g (lw_at lw_m5 229 rfl) rfl
theorem q1297 : (Jvm.Cond.methodLink "CardCups$Put" (1 : Nat) ({ cls := "CardCups$Step", name := "<init>", desc := "(ILCardCups$Term;)V" } : Jvm.MethodName)) ∈ lw_all := lw_g (lw_at lw_m5 230 rfl) rfl
theorem q1303 : (Jvm.Cond.laysFinal "CardCups$Put" "CardCups$Step" "by" "I") ∈ lw_all := lw_g (lw_at lw_m5 236 rfl) rfl
theorem q1305 : (Jvm.Cond.laysFinal "CardCups$Put" "CardCups$Step" "test" "LCardCups$Term;") ∈ lw_all := lw_g (lw_at lw_m5 238 rfl) rfl
theorem q1307 : (Jvm.Cond.superclass "CardCups$Put" "CardCups$Step") ∈ lw_all := lw_g (lw_at lw_m6 0 rfl) rfl
theorem q1664 : (Jvm.Cond.selects "CardCups$Put" ({ cls := "CardCups$Step", name := "isDrawn", desc := "(LCardCups$Day;)Z" } : Jvm.MethodName) ({ cls := "CardCups$Step", name := "isDrawn", desc := "(LCardCups$Day;)Z" } : Jvm.MethodName)) ∈ lw_all := lw_g (lw_at lw_m7 117 rfl) rfl
theorem q1680 : (Jvm.Cond.selects "CardCups$Put" ({ cls := "CardCups$Step", name := "on", desc := "(LCardCups$Day;)V" } : Jvm.MethodName) ({ cls := "CardCups$Put", name := "on", desc := "(LCardCups$Day;)V" } : Jvm.MethodName)) ∈ lw_all := lw_g (lw_at lw_m7 133 rfl) rfl
theorem q1681 : (Jvm.Cond.instanceMethod ({ cls := "CardCups$Put", name := "on", desc := "(LCardCups$Day;)V" } : Jvm.MethodName)) ∈ lw_all := lw_g (lw_at lw_m7 134 rfl) rfl
theorem q1682 : (Jvm.Cond.code ({ cls := "CardCups$Put", name := "on", desc := "(LCardCups$Day;)V" } : Jvm.MethodName) prog_15_method_4_code (2 : Nat) (Option.none : Option Jvm.ClassFile.FieldType)) ∈ lw_all := lw_g (lw_at lw_m7 135 rfl) rfl
theorem q2501 : (Jvm.Cond.castable "CardCups$Put" "java/lang/Object") ∈ lw_tbl := lw_at lw_m10 234 rfl
theorem q2510 : (Jvm.Cond.castable "CardCups$Put" "CardCups$Step") ∈ lw_tbl := lw_at lw_m11 3 rfl
theorem in_X20 : ∀ w ∈ wsX200, w ∈ lw_all := lw_in wsX200 [1303, 1305] (by decide +kernel) (by decide +kernel)
/-! CardCups$Take -/
set_option maxRecDepth 100000
def RX21 : String := "CardCups$Take"
def TX21 : u_T := fun k => match k with
  | 0 => ("CardCups$Step", "by", "I", true)
  | _ => ("CardCups$Step", "test", "LCardCups$Term;", true)
def tyX21 : Nat → FieldType := fun k => match k with
  | 0 => .int
  | _ => .object "CardCups$Term"
abbrev wsX210 : List Cond := u_ws RX21 TX21 2
theorem nmX21 : ∀ a, a < 2 → ∀ b, b < 2 → a ≠ b → (TX21 a).2.1 ≠ (TX21 b).2.1 := by decide +kernel
theorem tyX21_ok : ∀ k, k < 2 → parseFieldDescriptor (TX21 k).2.2.1 = some (tyX21 k) := by decide +kernel
abbrev cX21_flows : ByteArray := prog_21_method_2_code
def yX21_flows : MethodName := ⟨RX21, "flows", "(LCardCups$Flow;LCardCups$State;J)V"⟩
def dkwX21_flows_4 : List UInt8 := [180, 0, 19, 44, 180, 0, 33, 44, 180, 0, 36, 184, 0, 39, 33, 22, 5, 101, 182, 0, 43, 177]
abbrev dktX21_flows_4 : List UInt8 := dkwX21_flows_4 ++ []
def dkwX21_flows_3 : List UInt8 := [22, 5, 182, 0, 43, 22, 5, 33, 148, 156, 0, 36, 43, 44, 180, 0, 27, 44, 180, 0, 30, 4, 100, 44]
abbrev dktX21_flows_3 : List UInt8 := dkwX21_flows_3 ++ dktX21_flows_4
def dkwX21_flows_2 : List UInt8 := [180, 0, 27, 44, 180, 0, 30, 44, 180, 0, 19, 4, 100, 44, 180, 0, 33, 44, 180, 0, 36, 184, 0, 39]
abbrev dktX21_flows_2 : List UInt8 := dkwX21_flows_2 ++ dktX21_flows_3
def dkwX21_flows_1 : List UInt8 := [182, 0, 7, 133, 109, 55, 5, 43, 22, 5, 182, 0, 23, 22, 5, 9, 148, 158, 0, 34, 43, 44]
abbrev dktX21_flows_1 : List UInt8 := dkwX21_flows_1 ++ dktX21_flows_2
def dkwX21_flows_0 : List UInt8 := [44, 182, 0, 7, 154, 0, 10, 43, 44, 33, 182, 0, 13, 177, 33, 44, 180, 0, 19, 133, 105, 44]
abbrev dktX21_flows_0 : List UInt8 := dkwX21_flows_0 ++ dktX21_flows_1
theorem dksX21_flows_0 : cX21_flows.data.toList.drop 0 = dktX21_flows_0 := by decide +kernel
theorem dksX21_flows_1 : cX21_flows.data.toList.drop 22 = dktX21_flows_1 := dk_seg dksX21_flows_0 22 rfl rfl
theorem dksX21_flows_2 : cX21_flows.data.toList.drop 44 = dktX21_flows_2 := dk_seg dksX21_flows_1 22 rfl rfl
theorem dksX21_flows_3 : cX21_flows.data.toList.drop 68 = dktX21_flows_3 := dk_seg dksX21_flows_2 24 rfl rfl
theorem dksX21_flows_4 : cX21_flows.data.toList.drop 92 = dktX21_flows_4 := dk_seg dksX21_flows_3 24 rfl rfl
theorem dX21_flows_0 : decode cX21_flows 0 = .ok (.aload_n 2, 1) := dk_44 (dk_at dksX21_flows_0 0 rfl rfl)
theorem dX21_flows_1 : decode cX21_flows 1 = .ok (.invokevirtual 7, 3) := dk_182 0 7 (dk_at dksX21_flows_0 1 rfl rfl)
theorem dX21_flows_4 : decode cX21_flows 4 = .ok (.ifCond .ne 10, 3) := dk_154 0 10 (dk_at dksX21_flows_0 4 rfl rfl)
theorem dX21_flows_7 : decode cX21_flows 7 = .ok (.aload_n 1, 1) := dk_43 (dk_at dksX21_flows_0 7 rfl rfl)
theorem dX21_flows_8 : decode cX21_flows 8 = .ok (.aload_n 2, 1) := dk_44 (dk_at dksX21_flows_0 8 rfl rfl)
theorem dX21_flows_9 : decode cX21_flows 9 = .ok (.lload_n 3, 1) := dk_33 (dk_at dksX21_flows_0 9 rfl rfl)
theorem dX21_flows_10 : decode cX21_flows 10 = .ok (.invokevirtual 13, 3) := dk_182 0 13 (dk_at dksX21_flows_0 10 rfl rfl)
theorem dX21_flows_13 : decode cX21_flows 13 = .ok (.return_, 1) := dk_177 (dk_at dksX21_flows_0 13 rfl rfl)
theorem dX21_flows_14 : decode cX21_flows 14 = .ok (.lload_n 3, 1) := dk_33 (dk_at dksX21_flows_0 14 rfl rfl)
theorem dX21_flows_15 : decode cX21_flows 15 = .ok (.aload_n 2, 1) := dk_44 (dk_at dksX21_flows_0 15 rfl rfl)
theorem dX21_flows_16 : decode cX21_flows 16 = .ok (.getfield 19, 3) := dk_180 0 19 (dk_at dksX21_flows_0 16 rfl rfl)
theorem dX21_flows_19 : decode cX21_flows 19 = .ok (.i2l, 1) := dk_133 (dk_at dksX21_flows_0 19 rfl rfl)
theorem dX21_flows_20 : decode cX21_flows 20 = .ok (.lmul, 1) := dk_105 (dk_at dksX21_flows_0 20 rfl rfl)
theorem dX21_flows_21 : decode cX21_flows 21 = .ok (.aload_n 2, 1) := dk_44 (dk_at dksX21_flows_0 21 rfl rfl)
theorem dX21_flows_22 : decode cX21_flows 22 = .ok (.invokevirtual 7, 3) := dk_182 0 7 (dk_at dksX21_flows_1 0 rfl rfl)
theorem dX21_flows_25 : decode cX21_flows 25 = .ok (.i2l, 1) := dk_133 (dk_at dksX21_flows_1 3 rfl rfl)
theorem dX21_flows_26 : decode cX21_flows 26 = .ok (.ldiv, 1) := dk_109 (dk_at dksX21_flows_1 4 rfl rfl)
theorem dX21_flows_27 : decode cX21_flows 27 = .ok (.lstore 5, 2) := dk_55 5 (dk_at dksX21_flows_1 5 rfl rfl)
theorem dX21_flows_29 : decode cX21_flows 29 = .ok (.aload_n 1, 1) := dk_43 (dk_at dksX21_flows_1 7 rfl rfl)
theorem dX21_flows_30 : decode cX21_flows 30 = .ok (.lload 5, 2) := dk_22 5 (dk_at dksX21_flows_1 8 rfl rfl)
theorem dX21_flows_32 : decode cX21_flows 32 = .ok (.invokevirtual 23, 3) := dk_182 0 23 (dk_at dksX21_flows_1 10 rfl rfl)
theorem dX21_flows_35 : decode cX21_flows 35 = .ok (.lload 5, 2) := dk_22 5 (dk_at dksX21_flows_1 13 rfl rfl)
theorem dX21_flows_37 : decode cX21_flows 37 = .ok (.lconst 0, 1) := dk_9 (dk_at dksX21_flows_1 15 rfl rfl)
theorem dX21_flows_38 : decode cX21_flows 38 = .ok (.lcmp, 1) := dk_148 (dk_at dksX21_flows_1 16 rfl rfl)
theorem dX21_flows_39 : decode cX21_flows 39 = .ok (.ifCond .le 34, 3) := dk_158 0 34 (dk_at dksX21_flows_1 17 rfl rfl)
theorem dX21_flows_42 : decode cX21_flows 42 = .ok (.aload_n 1, 1) := dk_43 (dk_at dksX21_flows_1 20 rfl rfl)
theorem dX21_flows_43 : decode cX21_flows 43 = .ok (.aload_n 2, 1) := dk_44 (dk_at dksX21_flows_1 21 rfl rfl)
theorem dX21_flows_44 : decode cX21_flows 44 = .ok (.getfield 27, 3) := dk_180 0 27 (dk_at dksX21_flows_2 0 rfl rfl)
theorem dX21_flows_47 : decode cX21_flows 47 = .ok (.aload_n 2, 1) := dk_44 (dk_at dksX21_flows_2 3 rfl rfl)
theorem dX21_flows_48 : decode cX21_flows 48 = .ok (.getfield 30, 3) := dk_180 0 30 (dk_at dksX21_flows_2 4 rfl rfl)
theorem dX21_flows_51 : decode cX21_flows 51 = .ok (.aload_n 2, 1) := dk_44 (dk_at dksX21_flows_2 7 rfl rfl)
theorem dX21_flows_52 : decode cX21_flows 52 = .ok (.getfield 19, 3) := dk_180 0 19 (dk_at dksX21_flows_2 8 rfl rfl)
theorem dX21_flows_55 : decode cX21_flows 55 = .ok (.iconst 1, 1) := dk_4 (dk_at dksX21_flows_2 11 rfl rfl)
theorem dX21_flows_56 : decode cX21_flows 56 = .ok (.isub, 1) := dk_100 (dk_at dksX21_flows_2 12 rfl rfl)
theorem dX21_flows_57 : decode cX21_flows 57 = .ok (.aload_n 2, 1) := dk_44 (dk_at dksX21_flows_2 13 rfl rfl)
theorem dX21_flows_58 : decode cX21_flows 58 = .ok (.getfield 33, 3) := dk_180 0 33 (dk_at dksX21_flows_2 14 rfl rfl)
theorem dX21_flows_61 : decode cX21_flows 61 = .ok (.aload_n 2, 1) := dk_44 (dk_at dksX21_flows_2 17 rfl rfl)
theorem dX21_flows_62 : decode cX21_flows 62 = .ok (.getfield 36, 3) := dk_180 0 36 (dk_at dksX21_flows_2 18 rfl rfl)
theorem dX21_flows_65 : decode cX21_flows 65 = .ok (.invokestatic 39, 3) := dk_184 0 39 (dk_at dksX21_flows_2 21 rfl rfl)
theorem dX21_flows_68 : decode cX21_flows 68 = .ok (.lload 5, 2) := dk_22 5 (dk_at dksX21_flows_3 0 rfl rfl)
theorem dX21_flows_70 : decode cX21_flows 70 = .ok (.invokevirtual 43, 3) := dk_182 0 43 (dk_at dksX21_flows_3 2 rfl rfl)
theorem dX21_flows_73 : decode cX21_flows 73 = .ok (.lload 5, 2) := dk_22 5 (dk_at dksX21_flows_3 5 rfl rfl)
theorem dX21_flows_75 : decode cX21_flows 75 = .ok (.lload_n 3, 1) := dk_33 (dk_at dksX21_flows_3 7 rfl rfl)
theorem dX21_flows_76 : decode cX21_flows 76 = .ok (.lcmp, 1) := dk_148 (dk_at dksX21_flows_3 8 rfl rfl)
theorem dX21_flows_77 : decode cX21_flows 77 = .ok (.ifCond .ge 36, 3) := dk_156 0 36 (dk_at dksX21_flows_3 9 rfl rfl)
theorem dX21_flows_80 : decode cX21_flows 80 = .ok (.aload_n 1, 1) := dk_43 (dk_at dksX21_flows_3 12 rfl rfl)
theorem dX21_flows_81 : decode cX21_flows 81 = .ok (.aload_n 2, 1) := dk_44 (dk_at dksX21_flows_3 13 rfl rfl)
theorem dX21_flows_82 : decode cX21_flows 82 = .ok (.getfield 27, 3) := dk_180 0 27 (dk_at dksX21_flows_3 14 rfl rfl)
theorem dX21_flows_85 : decode cX21_flows 85 = .ok (.aload_n 2, 1) := dk_44 (dk_at dksX21_flows_3 17 rfl rfl)
theorem dX21_flows_86 : decode cX21_flows 86 = .ok (.getfield 30, 3) := dk_180 0 30 (dk_at dksX21_flows_3 18 rfl rfl)
theorem dX21_flows_89 : decode cX21_flows 89 = .ok (.iconst 1, 1) := dk_4 (dk_at dksX21_flows_3 21 rfl rfl)
theorem dX21_flows_90 : decode cX21_flows 90 = .ok (.isub, 1) := dk_100 (dk_at dksX21_flows_3 22 rfl rfl)
theorem dX21_flows_91 : decode cX21_flows 91 = .ok (.aload_n 2, 1) := dk_44 (dk_at dksX21_flows_3 23 rfl rfl)
theorem dX21_flows_92 : decode cX21_flows 92 = .ok (.getfield 19, 3) := dk_180 0 19 (dk_at dksX21_flows_4 0 rfl rfl)
theorem dX21_flows_95 : decode cX21_flows 95 = .ok (.aload_n 2, 1) := dk_44 (dk_at dksX21_flows_4 3 rfl rfl)
theorem dX21_flows_96 : decode cX21_flows 96 = .ok (.getfield 33, 3) := dk_180 0 33 (dk_at dksX21_flows_4 4 rfl rfl)
theorem dX21_flows_99 : decode cX21_flows 99 = .ok (.aload_n 2, 1) := dk_44 (dk_at dksX21_flows_4 7 rfl rfl)
theorem dX21_flows_100 : decode cX21_flows 100 = .ok (.getfield 36, 3) := dk_180 0 36 (dk_at dksX21_flows_4 8 rfl rfl)
theorem dX21_flows_103 : decode cX21_flows 103 = .ok (.invokestatic 39, 3) := dk_184 0 39 (dk_at dksX21_flows_4 11 rfl rfl)
theorem dX21_flows_106 : decode cX21_flows 106 = .ok (.lload_n 3, 1) := dk_33 (dk_at dksX21_flows_4 14 rfl rfl)
theorem dX21_flows_107 : decode cX21_flows 107 = .ok (.lload 5, 2) := dk_22 5 (dk_at dksX21_flows_4 15 rfl rfl)
theorem dX21_flows_109 : decode cX21_flows 109 = .ok (.lsub, 1) := dk_101 (dk_at dksX21_flows_4 17 rfl rfl)
theorem dX21_flows_110 : decode cX21_flows 110 = .ok (.invokevirtual 43, 3) := dk_182 0 43 (dk_at dksX21_flows_4 18 rfl rfl)
theorem dX21_flows_113 : decode cX21_flows 113 = .ok (.return_, 1) := dk_177 (dk_at dksX21_flows_4 21 rfl rfl)
abbrev cX21_init : ByteArray := prog_21_method_1_code
def yX21_init : MethodName := ⟨RX21, "<init>", "(ILCardCups$Term;)V"⟩
def dkwX21_init_0 : List UInt8 := [42, 27, 44, 183, 0, 1, 177]
abbrev dktX21_init_0 : List UInt8 := dkwX21_init_0 ++ []
theorem dksX21_init_0 : cX21_init.data.toList.drop 0 = dktX21_init_0 := by decide +kernel
theorem dX21_init_0 : decode cX21_init 0 = .ok (.aload_n 0, 1) := dk_42 (dk_at dksX21_init_0 0 rfl rfl)
theorem dX21_init_1 : decode cX21_init 1 = .ok (.iload_n 1, 1) := dk_27 (dk_at dksX21_init_0 1 rfl rfl)
theorem dX21_init_2 : decode cX21_init 2 = .ok (.aload_n 2, 1) := dk_44 (dk_at dksX21_init_0 2 rfl rfl)
theorem dX21_init_3 : decode cX21_init 3 = .ok (.invokespecial 1, 3) := dk_183 0 1 (dk_at dksX21_init_0 3 rfl rfl)
theorem dX21_init_6 : decode cX21_init 6 = .ok (.return_, 1) := dk_177 (dk_at dksX21_init_0 6 rfl rfl)
abbrev cX21_on : ByteArray := prog_21_method_3_code
def yX21_on : MethodName := ⟨RX21, "on", "(LCardCups$Day;)V"⟩
def dkwX21_on_3 : List UInt8 := [177]
abbrev dktX21_on_3 : List UInt8 := dkwX21_on_3 ++ []
def dkwX21_on_2 : List UInt8 := [180, 0, 57, 4, 96, 181, 0, 57, 167, 0, 16, 43, 180, 0, 47, 89, 180, 0, 30, 4, 100, 181, 0, 30]
abbrev dktX21_on_2 : List UInt8 := dkwX21_on_2 ++ dktX21_on_3
def dkwX21_on_1 : List UInt8 := [180, 0, 47, 180, 0, 19, 162, 0, 29, 43, 180, 0, 47, 89, 180, 0, 19, 4, 100, 181, 0, 19, 43, 89]
abbrev dktX21_on_1 : List UInt8 := dkwX21_on_1 ++ dktX21_on_2
def dkwX21_on_0 : List UInt8 := [43, 180, 0, 47, 182, 0, 7, 154, 0, 4, 177, 43, 43, 180, 0, 47, 182, 0, 7, 182, 0, 53, 43]
abbrev dktX21_on_0 : List UInt8 := dkwX21_on_0 ++ dktX21_on_1
theorem dksX21_on_0 : cX21_on.data.toList.drop 0 = dktX21_on_0 := by decide +kernel
theorem dksX21_on_1 : cX21_on.data.toList.drop 23 = dktX21_on_1 := dk_seg dksX21_on_0 23 rfl rfl
theorem dksX21_on_2 : cX21_on.data.toList.drop 47 = dktX21_on_2 := dk_seg dksX21_on_1 24 rfl rfl
theorem dksX21_on_3 : cX21_on.data.toList.drop 71 = dktX21_on_3 := dk_seg dksX21_on_2 24 rfl rfl
theorem dX21_on_0 : decode cX21_on 0 = .ok (.aload_n 1, 1) := dk_43 (dk_at dksX21_on_0 0 rfl rfl)
theorem dX21_on_1 : decode cX21_on 1 = .ok (.getfield 47, 3) := dk_180 0 47 (dk_at dksX21_on_0 1 rfl rfl)
theorem dX21_on_4 : decode cX21_on 4 = .ok (.invokevirtual 7, 3) := dk_182 0 7 (dk_at dksX21_on_0 4 rfl rfl)
theorem dX21_on_7 : decode cX21_on 7 = .ok (.ifCond .ne 4, 3) := dk_154 0 4 (dk_at dksX21_on_0 7 rfl rfl)
theorem dX21_on_10 : decode cX21_on 10 = .ok (.return_, 1) := dk_177 (dk_at dksX21_on_0 10 rfl rfl)
theorem dX21_on_11 : decode cX21_on 11 = .ok (.aload_n 1, 1) := dk_43 (dk_at dksX21_on_0 11 rfl rfl)
theorem dX21_on_12 : decode cX21_on 12 = .ok (.aload_n 1, 1) := dk_43 (dk_at dksX21_on_0 12 rfl rfl)
theorem dX21_on_13 : decode cX21_on 13 = .ok (.getfield 47, 3) := dk_180 0 47 (dk_at dksX21_on_0 13 rfl rfl)
theorem dX21_on_16 : decode cX21_on 16 = .ok (.invokevirtual 7, 3) := dk_182 0 7 (dk_at dksX21_on_0 16 rfl rfl)
theorem dX21_on_19 : decode cX21_on 19 = .ok (.invokevirtual 53, 3) := dk_182 0 53 (dk_at dksX21_on_0 19 rfl rfl)
theorem dX21_on_22 : decode cX21_on 22 = .ok (.aload_n 1, 1) := dk_43 (dk_at dksX21_on_0 22 rfl rfl)
theorem dX21_on_23 : decode cX21_on 23 = .ok (.getfield 47, 3) := dk_180 0 47 (dk_at dksX21_on_1 0 rfl rfl)
theorem dX21_on_26 : decode cX21_on 26 = .ok (.getfield 19, 3) := dk_180 0 19 (dk_at dksX21_on_1 3 rfl rfl)
theorem dX21_on_29 : decode cX21_on 29 = .ok (.if_icmp .ge 29, 3) := dk_162 0 29 (dk_at dksX21_on_1 6 rfl rfl)
theorem dX21_on_32 : decode cX21_on 32 = .ok (.aload_n 1, 1) := dk_43 (dk_at dksX21_on_1 9 rfl rfl)
theorem dX21_on_33 : decode cX21_on 33 = .ok (.getfield 47, 3) := dk_180 0 47 (dk_at dksX21_on_1 10 rfl rfl)
theorem dX21_on_36 : decode cX21_on 36 = .ok (.dup, 1) := dk_89 (dk_at dksX21_on_1 13 rfl rfl)
theorem dX21_on_37 : decode cX21_on 37 = .ok (.getfield 19, 3) := dk_180 0 19 (dk_at dksX21_on_1 14 rfl rfl)
theorem dX21_on_40 : decode cX21_on 40 = .ok (.iconst 1, 1) := dk_4 (dk_at dksX21_on_1 17 rfl rfl)
theorem dX21_on_41 : decode cX21_on 41 = .ok (.isub, 1) := dk_100 (dk_at dksX21_on_1 18 rfl rfl)
theorem dX21_on_42 : decode cX21_on 42 = .ok (.putfield 19, 3) := dk_181 0 19 (dk_at dksX21_on_1 19 rfl rfl)
theorem dX21_on_45 : decode cX21_on 45 = .ok (.aload_n 1, 1) := dk_43 (dk_at dksX21_on_1 22 rfl rfl)
theorem dX21_on_46 : decode cX21_on 46 = .ok (.dup, 1) := dk_89 (dk_at dksX21_on_1 23 rfl rfl)
theorem dX21_on_47 : decode cX21_on 47 = .ok (.getfield 57, 3) := dk_180 0 57 (dk_at dksX21_on_2 0 rfl rfl)
theorem dX21_on_50 : decode cX21_on 50 = .ok (.iconst 1, 1) := dk_4 (dk_at dksX21_on_2 3 rfl rfl)
theorem dX21_on_51 : decode cX21_on 51 = .ok (.iadd, 1) := dk_96 (dk_at dksX21_on_2 4 rfl rfl)
theorem dX21_on_52 : decode cX21_on 52 = .ok (.putfield 57, 3) := dk_181 0 57 (dk_at dksX21_on_2 5 rfl rfl)
theorem dX21_on_55 : decode cX21_on 55 = .ok (.goto 16, 3) := dk_167 0 16 (dk_at dksX21_on_2 8 rfl rfl)
theorem dX21_on_58 : decode cX21_on 58 = .ok (.aload_n 1, 1) := dk_43 (dk_at dksX21_on_2 11 rfl rfl)
theorem dX21_on_59 : decode cX21_on 59 = .ok (.getfield 47, 3) := dk_180 0 47 (dk_at dksX21_on_2 12 rfl rfl)
theorem dX21_on_62 : decode cX21_on 62 = .ok (.dup, 1) := dk_89 (dk_at dksX21_on_2 15 rfl rfl)
theorem dX21_on_63 : decode cX21_on 63 = .ok (.getfield 30, 3) := dk_180 0 30 (dk_at dksX21_on_2 16 rfl rfl)
theorem dX21_on_66 : decode cX21_on 66 = .ok (.iconst 1, 1) := dk_4 (dk_at dksX21_on_2 19 rfl rfl)
theorem dX21_on_67 : decode cX21_on 67 = .ok (.isub, 1) := dk_100 (dk_at dksX21_on_2 20 rfl rfl)
theorem dX21_on_68 : decode cX21_on 68 = .ok (.putfield 30, 3) := dk_181 0 30 (dk_at dksX21_on_2 21 rfl rfl)
theorem dX21_on_71 : decode cX21_on 71 = .ok (.return_, 1) := dk_177 (dk_at dksX21_on_3 0 rfl rfl)
theorem q139 : (Jvm.Cond.initialized "CardCups$Take") ∈ lw_all := lw_g (lw_at lw_m1 32 rfl) rfl
theorem q196 : (Jvm.Cond.fieldLinkNest "CardCups$Take" (27 : Nat) "CardCups$State" "slot" "I" "CardCups") ∈ lw_tbl := lw_at lw_m1 89 rfl
theorem q201 : (Jvm.Cond.fieldLinkNest "CardCups$Take" (30 : Nat) "CardCups$State" "clean" "I" "CardCups") ∈ lw_tbl := lw_at lw_m1 94 rfl
theorem q208 : (Jvm.Cond.fieldLinkNest "CardCups$Take" (19 : Nat) "CardCups$State" "dirty" "I" "CardCups") ∈ lw_tbl := lw_at lw_m1 101 rfl
theorem q213 : (Jvm.Cond.fieldLinkNest "CardCups$Take" (33 : Nat) "CardCups$State" "card" "I" "CardCups") ∈ lw_tbl := lw_at lw_m1 106 rfl
theorem q220 : (Jvm.Cond.fieldLinkNest "CardCups$Take" (36 : Nat) "CardCups$State" "seen" "I" "CardCups") ∈ lw_tbl := lw_at lw_m1 113 rfl
theorem q288 : (Jvm.Cond.fieldLinkNest "CardCups$Take" (47 : Nat) "CardCups$Day" "state" "LCardCups$State;" "CardCups") ∈ lw_tbl := lw_at lw_m1 181 rfl
theorem q302 : (Jvm.Cond.fieldLinkNest "CardCups$Take" (57 : Nat) "CardCups$Day" "drunk" "I" "CardCups") ∈ lw_tbl := lw_at lw_m1 195 rfl
theorem q633 : (Jvm.Cond.selects "CardCups$Take" ({ cls := "CardCups$Step", name := "isSo", desc := "(LCardCups$Sight;)Z" } : Jvm.MethodName) ({ cls := "CardCups$Step", name := "isSo", desc := "(LCardCups$Sight;)Z" } : Jvm.MethodName)) ∈ lw_all := lw_g (lw_at lw_m3 46 rfl) rfl
theorem q676 : (Jvm.Cond.selects "CardCups$Take" ({ cls := "CardCups$Step", name := "doing", desc := "(J)J" } : Jvm.MethodName) ({ cls := "CardCups$Step", name := "doing", desc := "(J)J" } : Jvm.MethodName)) ∈ lw_all := lw_g (lw_at lw_m3 89 rfl) rfl
theorem q720 : (Jvm.Cond.selects "CardCups$Take" ({ cls := "CardCups$Step", name := "flows", desc := "(LCardCups$Flow;LCardCups$State;J)V" } : Jvm.MethodName) ({ cls := "CardCups$Take", name := "flows", desc := "(LCardCups$Flow;LCardCups$State;J)V" } : Jvm.MethodName)) ∈ lw_all := lw_g (lw_at lw_m3 133 rfl) rfl
theorem q721 : (Jvm.Cond.instanceMethod ({ cls := "CardCups$Take", name := "flows", desc := "(LCardCups$Flow;LCardCups$State;J)V" } : Jvm.MethodName)) ∈ lw_all := lw_g (lw_at lw_m3 134 rfl) rfl
theorem q722 : (Jvm.Cond.code ({ cls := "CardCups$Take", name := "flows", desc := "(LCardCups$Flow;LCardCups$State;J)V" } : Jvm.MethodName) prog_21_method_2_code (7 : Nat) (Option.none : Option Jvm.ClassFile.FieldType)) ∈ lw_all := lw_g (lw_at lw_m3 135 rfl) rfl
theorem q723 : (Jvm.Cond.methodLink "CardCups$Take" (7 : Nat) ({ cls := "CardCups$State", name := "in", desc := "()I" } : Jvm.MethodName)) ∈ lw_all := lw_g (lw_at lw_m3 136 rfl) rfl
theorem q724 : (Jvm.Cond.methodLink "CardCups$Take" (13 : Nat) ({ cls := "CardCups$Flow", name := "adds", desc := "(LCardCups$State;J)V" } : Jvm.MethodName)) ∈ lw_all := lw_g (lw_at lw_m3 137 rfl) rfl
theorem q725 : (Jvm.Cond.methodLink "CardCups$Take" (23 : Nat) ({ cls := "CardCups$Flow", name := "drinks", desc := "(J)V" } : Jvm.MethodName)) ∈ lw_all := lw_g (lw_at lw_m3 138 rfl) rfl
theorem q729 : (Jvm.Cond.methodLink "CardCups$Take" (39 : Nat) ({ cls := "CardCups$State", name := "codeOf", desc := "(IIIII)I" } : Jvm.MethodName)) ∈ lw_all := lw_g (lw_at lw_m3 142 rfl) rfl
theorem q730 : (Jvm.Cond.methodLink "CardCups$Take" (43 : Nat) ({ cls := "CardCups$Flow", name := "addsAt", desc := "(IJ)V" } : Jvm.MethodName)) ∈ lw_all := lw_g (lw_at lw_m3 143 rfl) rfl
theorem q1309 : (Jvm.Cond.instantiable "CardCups$Take" (2 : Nat)) ∈ lw_all := lw_g (lw_at lw_m6 2 rfl) rfl
theorem q1311 : (Jvm.Cond.instanceMethod ({ cls := "CardCups$Take", name := "<init>", desc := "(ILCardCups$Term;)V" } : Jvm.MethodName)) ∈ lw_all := lw_g (lw_at lw_m6 4 rfl) rfl
theorem q1312 : (Jvm.Cond.code ({ cls := "CardCups$Take", name := "<init>", desc := "(ILCardCups$Term;)V" } : Jvm.MethodName) prog_21_method_1_code (3 : Nat) (Option.none : Option Jvm.ClassFile.FieldType)) ∈ lw_all := lw_g (lw_at lw_m6 5 rfl) rfl
theorem q1313 : (Jvm.Cond.methodLink "CardCups$Take" (1 : Nat) ({ cls := "CardCups$Step", name := "<init>", desc := "(ILCardCups$Term;)V" } : Jvm.MethodName)) ∈ lw_all := lw_g (lw_at lw_m6 6 rfl) rfl
theorem q1314 : (Jvm.Cond.laysFinal "CardCups$Take" "CardCups$Step" "by" "I") ∈ lw_all := lw_g (lw_at lw_m6 7 rfl) rfl
theorem q1315 : (Jvm.Cond.laysFinal "CardCups$Take" "CardCups$Step" "test" "LCardCups$Term;") ∈ lw_all := lw_g (lw_at lw_m6 8 rfl) rfl
theorem q1316 : (Jvm.Cond.superclass "CardCups$Take" "CardCups$Step") ∈ lw_all := lw_g (lw_at lw_m6 9 rfl) rfl
theorem q1666 : (Jvm.Cond.selects "CardCups$Take" ({ cls := "CardCups$Step", name := "isDrawn", desc := "(LCardCups$Day;)Z" } : Jvm.MethodName) ({ cls := "CardCups$Step", name := "isDrawn", desc := "(LCardCups$Day;)Z" } : Jvm.MethodName)) ∈ lw_all := lw_g (lw_at lw_m7 119 rfl) rfl
theorem q1686 : (Jvm.Cond.selects "CardCups$Take" ({ cls := "CardCups$Step", name := "on", desc := "(LCardCups$Day;)V" } : Jvm.MethodName) ({ cls := "CardCups$Take", name := "on", desc := "(LCardCups$Day;)V" } : Jvm.MethodName)) ∈ lw_all := lw_g (lw_at lw_m7 139 rfl) rfl
theorem q1687 : (Jvm.Cond.instanceMethod ({ cls := "CardCups$Take", name := "on", desc := "(LCardCups$Day;)V" } : Jvm.MethodName)) ∈ lw_all := lw_g (lw_at lw_m7 140 rfl) rfl
theorem q1688 : (Jvm.Cond.code ({ cls := "CardCups$Take", name := "on", desc := "(LCardCups$Day;)V" } : Jvm.MethodName) prog_21_method_3_code (2 : Nat) (Option.none : Option Jvm.ClassFile.FieldType)) ∈ lw_all := lw_g (lw_at lw_m7 141 rfl) rfl
theorem q1689 : (Jvm.Cond.methodLink "CardCups$Take" (53 : Nat) ({ cls := "CardCups$Day", name := "draw", desc := "(I)I" } : Jvm.MethodName)) ∈ lw_all := lw_g (lw_at lw_m7 142 rfl) rfl
theorem q2502 : (Jvm.Cond.castable "CardCups$Take" "java/lang/Object") ∈ lw_tbl := lw_at lw_m10 235 rfl
theorem q2511 : (Jvm.Cond.castable "CardCups$Take" "CardCups$Step") ∈ lw_tbl := lw_at lw_m11 4 rfl
theorem in_X21 : ∀ w ∈ wsX210, w ∈ lw_all := lw_in wsX210 [1314, 1315] (by decide +kernel) (by decide +kernel)
/-! CardCups$Look -/
set_option maxRecDepth 100000
def RX22 : String := "CardCups$Look"
def TX22 : u_T := fun k => match k with
  | 0 => ("CardCups$Step", "by", "I", true)
  | _ => ("CardCups$Step", "test", "LCardCups$Term;", true)
def tyX22 : Nat → FieldType := fun k => match k with
  | 0 => .int
  | _ => .object "CardCups$Term"
abbrev wsX220 : List Cond := u_ws RX22 TX22 2
theorem nmX22 : ∀ a, a < 2 → ∀ b, b < 2 → a ≠ b → (TX22 a).2.1 ≠ (TX22 b).2.1 := by decide +kernel
theorem tyX22_ok : ∀ k, k < 2 → parseFieldDescriptor (TX22 k).2.2.1 = some (tyX22 k) := by decide +kernel
abbrev cX22_flows : ByteArray := prog_11_method_2_code
def yX22_flows : MethodName := ⟨RX22, "flows", "(LCardCups$Flow;LCardCups$State;J)V"⟩
def dkwX22_flows_2 : List UInt8 := [43, 44, 22, 5, 182, 0, 24, 177]
abbrev dktX22_flows_2 : List UInt8 := dkwX22_flows_2 ++ []
def dkwX22_flows_1 : List UInt8 := [43, 89, 180, 0, 20, 33, 97, 181, 0, 20, 43, 44, 33, 22, 5, 101, 182, 0, 24, 44, 4, 181, 0, 28]
abbrev dktX22_flows_1 : List UInt8 := dkwX22_flows_1 ++ dktX22_flows_2
def dkwX22_flows_0 : List UInt8 := [44, 180, 0, 7, 154, 0, 7, 9, 167, 0, 14, 33, 43, 180, 0, 13, 133, 105, 20, 0, 18, 109, 55, 5]
abbrev dktX22_flows_0 : List UInt8 := dkwX22_flows_0 ++ dktX22_flows_1
theorem dksX22_flows_0 : cX22_flows.data.toList.drop 0 = dktX22_flows_0 := by decide +kernel
theorem dksX22_flows_1 : cX22_flows.data.toList.drop 24 = dktX22_flows_1 := dk_seg dksX22_flows_0 24 rfl rfl
theorem dksX22_flows_2 : cX22_flows.data.toList.drop 48 = dktX22_flows_2 := dk_seg dksX22_flows_1 24 rfl rfl
theorem dX22_flows_0 : decode cX22_flows 0 = .ok (.aload_n 2, 1) := dk_44 (dk_at dksX22_flows_0 0 rfl rfl)
theorem dX22_flows_1 : decode cX22_flows 1 = .ok (.getfield 7, 3) := dk_180 0 7 (dk_at dksX22_flows_0 1 rfl rfl)
theorem dX22_flows_4 : decode cX22_flows 4 = .ok (.ifCond .ne 7, 3) := dk_154 0 7 (dk_at dksX22_flows_0 4 rfl rfl)
theorem dX22_flows_7 : decode cX22_flows 7 = .ok (.lconst 0, 1) := dk_9 (dk_at dksX22_flows_0 7 rfl rfl)
theorem dX22_flows_8 : decode cX22_flows 8 = .ok (.goto 14, 3) := dk_167 0 14 (dk_at dksX22_flows_0 8 rfl rfl)
theorem dX22_flows_11 : decode cX22_flows 11 = .ok (.lload_n 3, 1) := dk_33 (dk_at dksX22_flows_0 11 rfl rfl)
theorem dX22_flows_12 : decode cX22_flows 12 = .ok (.aload_n 1, 1) := dk_43 (dk_at dksX22_flows_0 12 rfl rfl)
theorem dX22_flows_13 : decode cX22_flows 13 = .ok (.getfield 13, 3) := dk_180 0 13 (dk_at dksX22_flows_0 13 rfl rfl)
theorem dX22_flows_16 : decode cX22_flows 16 = .ok (.i2l, 1) := dk_133 (dk_at dksX22_flows_0 16 rfl rfl)
theorem dX22_flows_17 : decode cX22_flows 17 = .ok (.lmul, 1) := dk_105 (dk_at dksX22_flows_0 17 rfl rfl)
theorem dX22_flows_18 : decode cX22_flows 18 = .ok (.ldc2_w 18, 3) := dk_20 0 18 (dk_at dksX22_flows_0 18 rfl rfl)
theorem dX22_flows_21 : decode cX22_flows 21 = .ok (.ldiv, 1) := dk_109 (dk_at dksX22_flows_0 21 rfl rfl)
theorem dX22_flows_22 : decode cX22_flows 22 = .ok (.lstore 5, 2) := dk_55 5 (dk_at dksX22_flows_0 22 rfl rfl)
theorem dX22_flows_24 : decode cX22_flows 24 = .ok (.aload_n 1, 1) := dk_43 (dk_at dksX22_flows_1 0 rfl rfl)
theorem dX22_flows_25 : decode cX22_flows 25 = .ok (.dup, 1) := dk_89 (dk_at dksX22_flows_1 1 rfl rfl)
theorem dX22_flows_26 : decode cX22_flows 26 = .ok (.getfield 20, 3) := dk_180 0 20 (dk_at dksX22_flows_1 2 rfl rfl)
theorem dX22_flows_29 : decode cX22_flows 29 = .ok (.lload_n 3, 1) := dk_33 (dk_at dksX22_flows_1 5 rfl rfl)
theorem dX22_flows_30 : decode cX22_flows 30 = .ok (.ladd, 1) := dk_97 (dk_at dksX22_flows_1 6 rfl rfl)
theorem dX22_flows_31 : decode cX22_flows 31 = .ok (.putfield 20, 3) := dk_181 0 20 (dk_at dksX22_flows_1 7 rfl rfl)
theorem dX22_flows_34 : decode cX22_flows 34 = .ok (.aload_n 1, 1) := dk_43 (dk_at dksX22_flows_1 10 rfl rfl)
theorem dX22_flows_35 : decode cX22_flows 35 = .ok (.aload_n 2, 1) := dk_44 (dk_at dksX22_flows_1 11 rfl rfl)
theorem dX22_flows_36 : decode cX22_flows 36 = .ok (.lload_n 3, 1) := dk_33 (dk_at dksX22_flows_1 12 rfl rfl)
theorem dX22_flows_37 : decode cX22_flows 37 = .ok (.lload 5, 2) := dk_22 5 (dk_at dksX22_flows_1 13 rfl rfl)
theorem dX22_flows_39 : decode cX22_flows 39 = .ok (.lsub, 1) := dk_101 (dk_at dksX22_flows_1 15 rfl rfl)
theorem dX22_flows_40 : decode cX22_flows 40 = .ok (.invokevirtual 24, 3) := dk_182 0 24 (dk_at dksX22_flows_1 16 rfl rfl)
theorem dX22_flows_43 : decode cX22_flows 43 = .ok (.aload_n 2, 1) := dk_44 (dk_at dksX22_flows_1 19 rfl rfl)
theorem dX22_flows_44 : decode cX22_flows 44 = .ok (.iconst 1, 1) := dk_4 (dk_at dksX22_flows_1 20 rfl rfl)
theorem dX22_flows_45 : decode cX22_flows 45 = .ok (.putfield 28, 3) := dk_181 0 28 (dk_at dksX22_flows_1 21 rfl rfl)
theorem dX22_flows_48 : decode cX22_flows 48 = .ok (.aload_n 1, 1) := dk_43 (dk_at dksX22_flows_2 0 rfl rfl)
theorem dX22_flows_49 : decode cX22_flows 49 = .ok (.aload_n 2, 1) := dk_44 (dk_at dksX22_flows_2 1 rfl rfl)
theorem dX22_flows_50 : decode cX22_flows 50 = .ok (.lload 5, 2) := dk_22 5 (dk_at dksX22_flows_2 2 rfl rfl)
theorem dX22_flows_52 : decode cX22_flows 52 = .ok (.invokevirtual 24, 3) := dk_182 0 24 (dk_at dksX22_flows_2 4 rfl rfl)
theorem dX22_flows_55 : decode cX22_flows 55 = .ok (.return_, 1) := dk_177 (dk_at dksX22_flows_2 7 rfl rfl)
abbrev cX22_init : ByteArray := prog_11_method_1_code
def yX22_init : MethodName := ⟨RX22, "<init>", "(ILCardCups$Term;)V"⟩
def dkwX22_init_0 : List UInt8 := [42, 27, 44, 183, 0, 1, 177]
abbrev dktX22_init_0 : List UInt8 := dkwX22_init_0 ++ []
theorem dksX22_init_0 : cX22_init.data.toList.drop 0 = dktX22_init_0 := by decide +kernel
theorem dX22_init_0 : decode cX22_init 0 = .ok (.aload_n 0, 1) := dk_42 (dk_at dksX22_init_0 0 rfl rfl)
theorem dX22_init_1 : decode cX22_init 1 = .ok (.iload_n 1, 1) := dk_27 (dk_at dksX22_init_0 1 rfl rfl)
theorem dX22_init_2 : decode cX22_init 2 = .ok (.aload_n 2, 1) := dk_44 (dk_at dksX22_init_0 2 rfl rfl)
theorem dX22_init_3 : decode cX22_init 3 = .ok (.invokespecial 1, 3) := dk_183 0 1 (dk_at dksX22_init_0 3 rfl rfl)
theorem dX22_init_6 : decode cX22_init 6 = .ok (.return_, 1) := dk_177 (dk_at dksX22_init_0 6 rfl rfl)
abbrev cX22_on : ByteArray := prog_11_method_3_code
def yX22_on : MethodName := ⟨RX22, "on", "(LCardCups$Day;)V"⟩
def dkwX22_on_1 : List UInt8 := [182, 0, 39, 43, 180, 0, 43, 180, 0, 47, 162, 0, 11, 43, 180, 0, 35, 4, 181, 0, 28, 177]
abbrev dktX22_on_1 : List UInt8 := dkwX22_on_1 ++ []
def dkwX22_on_0 : List UInt8 := [43, 89, 180, 0, 31, 4, 96, 181, 0, 31, 43, 180, 0, 35, 180, 0, 7, 158, 0, 27, 43, 16, 16]
abbrev dktX22_on_0 : List UInt8 := dkwX22_on_0 ++ dktX22_on_1
theorem dksX22_on_0 : cX22_on.data.toList.drop 0 = dktX22_on_0 := by decide +kernel
theorem dksX22_on_1 : cX22_on.data.toList.drop 23 = dktX22_on_1 := dk_seg dksX22_on_0 23 rfl rfl
theorem dX22_on_0 : decode cX22_on 0 = .ok (.aload_n 1, 1) := dk_43 (dk_at dksX22_on_0 0 rfl rfl)
theorem dX22_on_1 : decode cX22_on 1 = .ok (.dup, 1) := dk_89 (dk_at dksX22_on_0 1 rfl rfl)
theorem dX22_on_2 : decode cX22_on 2 = .ok (.getfield 31, 3) := dk_180 0 31 (dk_at dksX22_on_0 2 rfl rfl)
theorem dX22_on_5 : decode cX22_on 5 = .ok (.iconst 1, 1) := dk_4 (dk_at dksX22_on_0 5 rfl rfl)
theorem dX22_on_6 : decode cX22_on 6 = .ok (.iadd, 1) := dk_96 (dk_at dksX22_on_0 6 rfl rfl)
theorem dX22_on_7 : decode cX22_on 7 = .ok (.putfield 31, 3) := dk_181 0 31 (dk_at dksX22_on_0 7 rfl rfl)
theorem dX22_on_10 : decode cX22_on 10 = .ok (.aload_n 1, 1) := dk_43 (dk_at dksX22_on_0 10 rfl rfl)
theorem dX22_on_11 : decode cX22_on 11 = .ok (.getfield 35, 3) := dk_180 0 35 (dk_at dksX22_on_0 11 rfl rfl)
theorem dX22_on_14 : decode cX22_on 14 = .ok (.getfield 7, 3) := dk_180 0 7 (dk_at dksX22_on_0 14 rfl rfl)
theorem dX22_on_17 : decode cX22_on 17 = .ok (.ifCond .le 27, 3) := dk_158 0 27 (dk_at dksX22_on_0 17 rfl rfl)
theorem dX22_on_20 : decode cX22_on 20 = .ok (.aload_n 1, 1) := dk_43 (dk_at dksX22_on_0 20 rfl rfl)
theorem dX22_on_21 : decode cX22_on 21 = .ok (.bipush 16, 2) := dk_16 16 (dk_at dksX22_on_0 21 rfl rfl)
theorem dX22_on_23 : decode cX22_on 23 = .ok (.invokevirtual 39, 3) := dk_182 0 39 (dk_at dksX22_on_1 0 rfl rfl)
theorem dX22_on_26 : decode cX22_on 26 = .ok (.aload_n 1, 1) := dk_43 (dk_at dksX22_on_1 3 rfl rfl)
theorem dX22_on_27 : decode cX22_on 27 = .ok (.getfield 43, 3) := dk_180 0 43 (dk_at dksX22_on_1 4 rfl rfl)
theorem dX22_on_30 : decode cX22_on 30 = .ok (.getfield 47, 3) := dk_180 0 47 (dk_at dksX22_on_1 7 rfl rfl)
theorem dX22_on_33 : decode cX22_on 33 = .ok (.if_icmp .ge 11, 3) := dk_162 0 11 (dk_at dksX22_on_1 10 rfl rfl)
theorem dX22_on_36 : decode cX22_on 36 = .ok (.aload_n 1, 1) := dk_43 (dk_at dksX22_on_1 13 rfl rfl)
theorem dX22_on_37 : decode cX22_on 37 = .ok (.getfield 35, 3) := dk_180 0 35 (dk_at dksX22_on_1 14 rfl rfl)
theorem dX22_on_40 : decode cX22_on 40 = .ok (.iconst 1, 1) := dk_4 (dk_at dksX22_on_1 17 rfl rfl)
theorem dX22_on_41 : decode cX22_on 41 = .ok (.putfield 28, 3) := dk_181 0 28 (dk_at dksX22_on_1 18 rfl rfl)
theorem dX22_on_44 : decode cX22_on 44 = .ok (.return_, 1) := dk_177 (dk_at dksX22_on_1 21 rfl rfl)
theorem q140 : (Jvm.Cond.initialized "CardCups$Look") ∈ lw_all := lw_g (lw_at lw_m1 33 rfl) rfl
theorem q205 : (Jvm.Cond.fieldLinkNest "CardCups$Look" (7 : Nat) "CardCups$State" "dirty" "I" "CardCups") ∈ lw_tbl := lw_at lw_m1 98 rfl
theorem q219 : (Jvm.Cond.fieldLinkNest "CardCups$Look" (28 : Nat) "CardCups$State" "seen" "I" "CardCups") ∈ lw_tbl := lw_at lw_m1 112 rfl
theorem q248 : (Jvm.Cond.fieldLinkNest "CardCups$Look" (20 : Nat) "CardCups$Flow" "looks" "J" "CardCups") ∈ lw_tbl := lw_at lw_m1 141 rfl
theorem q252 : (Jvm.Cond.fieldLinkNest "CardCups$Look" (13 : Nat) "CardCups$Flow" "see" "I" "CardCups") ∈ lw_tbl := lw_at lw_m1 145 rfl
theorem q290 : (Jvm.Cond.fieldLinkNest "CardCups$Look" (35 : Nat) "CardCups$Day" "state" "LCardCups$State;" "CardCups") ∈ lw_tbl := lw_at lw_m1 183 rfl
theorem q296 : (Jvm.Cond.fieldLinkNest "CardCups$Look" (43 : Nat) "CardCups$Day" "office" "LCardCups$Office;" "CardCups") ∈ lw_tbl := lw_at lw_m1 189 rfl
theorem q307 : (Jvm.Cond.fieldLinkNest "CardCups$Look" (31 : Nat) "CardCups$Day" "looks" "I" "CardCups") ∈ lw_tbl := lw_at lw_m1 200 rfl
theorem q406 : (Jvm.Cond.fieldLinkNest "CardCups$Look" (47 : Nat) "CardCups$Office" "see" "I" "CardCups") ∈ lw_tbl := lw_at lw_m2 59 rfl
theorem q630 : (Jvm.Cond.selects "CardCups$Look" ({ cls := "CardCups$Step", name := "isSo", desc := "(LCardCups$Sight;)Z" } : Jvm.MethodName) ({ cls := "CardCups$Step", name := "isSo", desc := "(LCardCups$Sight;)Z" } : Jvm.MethodName)) ∈ lw_all := lw_g (lw_at lw_m3 43 rfl) rfl
theorem q673 : (Jvm.Cond.selects "CardCups$Look" ({ cls := "CardCups$Step", name := "doing", desc := "(J)J" } : Jvm.MethodName) ({ cls := "CardCups$Step", name := "doing", desc := "(J)J" } : Jvm.MethodName)) ∈ lw_all := lw_g (lw_at lw_m3 86 rfl) rfl
theorem q698 : (Jvm.Cond.selects "CardCups$Look" ({ cls := "CardCups$Step", name := "flows", desc := "(LCardCups$Flow;LCardCups$State;J)V" } : Jvm.MethodName) ({ cls := "CardCups$Look", name := "flows", desc := "(LCardCups$Flow;LCardCups$State;J)V" } : Jvm.MethodName)) ∈ lw_all := lw_g (lw_at lw_m3 111 rfl) rfl
theorem q699 : (Jvm.Cond.instanceMethod ({ cls := "CardCups$Look", name := "flows", desc := "(LCardCups$Flow;LCardCups$State;J)V" } : Jvm.MethodName)) ∈ lw_all := lw_g (lw_at lw_m3 112 rfl) rfl
theorem q700 : (Jvm.Cond.code ({ cls := "CardCups$Look", name := "flows", desc := "(LCardCups$Flow;LCardCups$State;J)V" } : Jvm.MethodName) prog_11_method_2_code (7 : Nat) (Option.none : Option Jvm.ClassFile.FieldType)) ∈ lw_all := lw_g (lw_at lw_m3 113 rfl) rfl
theorem q701 : (Jvm.Cond.constantLong "CardCups$Look" (18 : Nat) (16 : Int64)) ∈ lw_all := lw_g (lw_at lw_m3 114 rfl) rfl
theorem q702 : (Jvm.Cond.methodLink "CardCups$Look" (24 : Nat) ({ cls := "CardCups$Flow", name := "adds", desc := "(LCardCups$State;J)V" } : Jvm.MethodName)) ∈ lw_all := lw_g (lw_at lw_m3 115 rfl) rfl
theorem q1318 : (Jvm.Cond.instantiable "CardCups$Look" (2 : Nat)) ∈ lw_all := lw_g (lw_at lw_m6 11 rfl) rfl
theorem q1320 : (Jvm.Cond.instanceMethod ({ cls := "CardCups$Look", name := "<init>", desc := "(ILCardCups$Term;)V" } : Jvm.MethodName)) ∈ lw_all := lw_g (lw_at lw_m6 13 rfl) rfl
theorem q1321 : (Jvm.Cond.code ({ cls := "CardCups$Look", name := "<init>", desc := "(ILCardCups$Term;)V" } : Jvm.MethodName) prog_11_method_1_code (3 : Nat) (Option.none : Option Jvm.ClassFile.FieldType)) ∈ lw_all := lw_g (lw_at lw_m6 14 rfl) rfl
theorem q1322 : (Jvm.Cond.methodLink "CardCups$Look" (1 : Nat) ({ cls := "CardCups$Step", name := "<init>", desc := "(ILCardCups$Term;)V" } : Jvm.MethodName)) ∈ lw_all := lw_g (lw_at lw_m6 15 rfl) rfl
theorem q1323 : (Jvm.Cond.laysFinal "CardCups$Look" "CardCups$Step" "by" "I") ∈ lw_all := lw_g (lw_at lw_m6 16 rfl) rfl
theorem q1324 : (Jvm.Cond.laysFinal "CardCups$Look" "CardCups$Step" "test" "LCardCups$Term;") ∈ lw_all := lw_g (lw_at lw_m6 17 rfl) rfl
theorem q1325 : (Jvm.Cond.superclass "CardCups$Look" "CardCups$Step") ∈ lw_all := lw_g (lw_at lw_m6 18 rfl) rfl
theorem q1663 : (Jvm.Cond.selects "CardCups$Look" ({ cls := "CardCups$Step", name := "isDrawn", desc := "(LCardCups$Day;)Z" } : Jvm.MethodName) ({ cls := "CardCups$Step", name := "isDrawn", desc := "(LCardCups$Day;)Z" } : Jvm.MethodName)) ∈ lw_all := lw_g (lw_at lw_m7 116 rfl) rfl
theorem q1676 : (Jvm.Cond.selects "CardCups$Look" ({ cls := "CardCups$Step", name := "on", desc := "(LCardCups$Day;)V" } : Jvm.MethodName) ({ cls := "CardCups$Look", name := "on", desc := "(LCardCups$Day;)V" } : Jvm.MethodName)) ∈ lw_all := lw_g (lw_at lw_m7 129 rfl) rfl
theorem q1677 : (Jvm.Cond.instanceMethod ({ cls := "CardCups$Look", name := "on", desc := "(LCardCups$Day;)V" } : Jvm.MethodName)) ∈ lw_all := lw_g (lw_at lw_m7 130 rfl) rfl
theorem q1678 : (Jvm.Cond.code ({ cls := "CardCups$Look", name := "on", desc := "(LCardCups$Day;)V" } : Jvm.MethodName) prog_11_method_3_code (2 : Nat) (Option.none : Option Jvm.ClassFile.FieldType)) ∈ lw_all := lw_g (lw_at lw_m7 131 rfl) rfl
theorem q1679 : (Jvm.Cond.methodLink "CardCups$Look" (39 : Nat) ({ cls := "CardCups$Day", name := "draw", desc := "(I)I" } : Jvm.MethodName)) ∈ lw_all := lw_g (lw_at lw_m7 132 rfl) rfl
theorem q2503 : (Jvm.Cond.castable "CardCups$Look" "java/lang/Object") ∈ lw_tbl := lw_at lw_m10 236 rfl
theorem q2512 : (Jvm.Cond.castable "CardCups$Look" "CardCups$Step") ∈ lw_tbl := lw_at lw_m11 5 rfl
theorem in_X22 : ∀ w ∈ wsX220, w ∈ lw_all := lw_in wsX220 [1323, 1324] (by decide +kernel) (by decide +kernel)
/-! CardCups$Start -/
set_option maxRecDepth 100000
def RX23 : String := "CardCups$Start"
def TX23 : u_T := fun k => match k with
  | 0 => ("CardCups$Step", "by", "I", true)
  | _ => ("CardCups$Step", "test", "LCardCups$Term;", true)
def tyX23 : Nat → FieldType := fun k => match k with
  | 0 => .int
  | _ => .object "CardCups$Term"
abbrev wsX230 : List Cond := u_ws RX23 TX23 2
theorem nmX23 : ∀ a, a < 2 → ∀ b, b < 2 → a ≠ b → (TX23 a).2.1 ≠ (TX23 b).2.1 := by decide +kernel
theorem tyX23_ok : ∀ k, k < 2 → parseFieldDescriptor (TX23 k).2.2.1 = some (tyX23 k) := by decide +kernel
abbrev cX23_flows : ByteArray := prog_18_method_2_code
def yX23_flows : MethodName := ⟨RX23, "flows", "(LCardCups$Flow;LCardCups$State;J)V"⟩
def dkwX23_flows_1 : List UInt8 := [182, 0, 23, 177]
abbrev dktX23_flows_1 : List UInt8 := dkwX23_flows_1 ++ []
def dkwX23_flows_0 : List UInt8 := [43, 89, 180, 0, 7, 33, 44, 43, 180, 0, 13, 182, 0, 17, 133, 105, 97, 181, 0, 7, 43, 44, 33]
abbrev dktX23_flows_0 : List UInt8 := dkwX23_flows_0 ++ dktX23_flows_1
theorem dksX23_flows_0 : cX23_flows.data.toList.drop 0 = dktX23_flows_0 := by decide +kernel
theorem dksX23_flows_1 : cX23_flows.data.toList.drop 23 = dktX23_flows_1 := dk_seg dksX23_flows_0 23 rfl rfl
theorem dX23_flows_0 : decode cX23_flows 0 = .ok (.aload_n 1, 1) := dk_43 (dk_at dksX23_flows_0 0 rfl rfl)
theorem dX23_flows_1 : decode cX23_flows 1 = .ok (.dup, 1) := dk_89 (dk_at dksX23_flows_0 1 rfl rfl)
theorem dX23_flows_2 : decode cX23_flows 2 = .ok (.getfield 7, 3) := dk_180 0 7 (dk_at dksX23_flows_0 2 rfl rfl)
theorem dX23_flows_5 : decode cX23_flows 5 = .ok (.lload_n 3, 1) := dk_33 (dk_at dksX23_flows_0 5 rfl rfl)
theorem dX23_flows_6 : decode cX23_flows 6 = .ok (.aload_n 2, 1) := dk_44 (dk_at dksX23_flows_0 6 rfl rfl)
theorem dX23_flows_7 : decode cX23_flows 7 = .ok (.aload_n 1, 1) := dk_43 (dk_at dksX23_flows_0 7 rfl rfl)
theorem dX23_flows_8 : decode cX23_flows 8 = .ok (.getfield 13, 3) := dk_180 0 13 (dk_at dksX23_flows_0 8 rfl rfl)
theorem dX23_flows_11 : decode cX23_flows 11 = .ok (.invokevirtual 17, 3) := dk_182 0 17 (dk_at dksX23_flows_0 11 rfl rfl)
theorem dX23_flows_14 : decode cX23_flows 14 = .ok (.i2l, 1) := dk_133 (dk_at dksX23_flows_0 14 rfl rfl)
theorem dX23_flows_15 : decode cX23_flows 15 = .ok (.lmul, 1) := dk_105 (dk_at dksX23_flows_0 15 rfl rfl)
theorem dX23_flows_16 : decode cX23_flows 16 = .ok (.ladd, 1) := dk_97 (dk_at dksX23_flows_0 16 rfl rfl)
theorem dX23_flows_17 : decode cX23_flows 17 = .ok (.putfield 7, 3) := dk_181 0 7 (dk_at dksX23_flows_0 17 rfl rfl)
theorem dX23_flows_20 : decode cX23_flows 20 = .ok (.aload_n 1, 1) := dk_43 (dk_at dksX23_flows_0 20 rfl rfl)
theorem dX23_flows_21 : decode cX23_flows 21 = .ok (.aload_n 2, 1) := dk_44 (dk_at dksX23_flows_0 21 rfl rfl)
theorem dX23_flows_22 : decode cX23_flows 22 = .ok (.lload_n 3, 1) := dk_33 (dk_at dksX23_flows_0 22 rfl rfl)
theorem dX23_flows_23 : decode cX23_flows 23 = .ok (.invokevirtual 23, 3) := dk_182 0 23 (dk_at dksX23_flows_1 0 rfl rfl)
theorem dX23_flows_26 : decode cX23_flows 26 = .ok (.return_, 1) := dk_177 (dk_at dksX23_flows_1 3 rfl rfl)
abbrev cX23_init : ByteArray := prog_18_method_1_code
def yX23_init : MethodName := ⟨RX23, "<init>", "(ILCardCups$Term;)V"⟩
def dkwX23_init_0 : List UInt8 := [42, 27, 44, 183, 0, 1, 177]
abbrev dktX23_init_0 : List UInt8 := dkwX23_init_0 ++ []
theorem dksX23_init_0 : cX23_init.data.toList.drop 0 = dktX23_init_0 := by decide +kernel
theorem dX23_init_0 : decode cX23_init 0 = .ok (.aload_n 0, 1) := dk_42 (dk_at dksX23_init_0 0 rfl rfl)
theorem dX23_init_1 : decode cX23_init 1 = .ok (.iload_n 1, 1) := dk_27 (dk_at dksX23_init_0 1 rfl rfl)
theorem dX23_init_2 : decode cX23_init 2 = .ok (.aload_n 2, 1) := dk_44 (dk_at dksX23_init_0 2 rfl rfl)
theorem dX23_init_3 : decode cX23_init 3 = .ok (.invokespecial 1, 3) := dk_183 0 1 (dk_at dksX23_init_0 3 rfl rfl)
theorem dX23_init_6 : decode cX23_init 6 = .ok (.return_, 1) := dk_177 (dk_at dksX23_init_0 6 rfl rfl)
abbrev cX23_on : ByteArray := prog_18_method_3_code
def yX23_on : MethodName := ⟨RX23, "on", "(LCardCups$Day;)V"⟩
def dkwX23_on_0 : List UInt8 := [43, 89, 180, 0, 27, 43, 180, 0, 31, 43, 180, 0, 35, 182, 0, 17, 96, 181, 0, 27, 177]
abbrev dktX23_on_0 : List UInt8 := dkwX23_on_0 ++ []
theorem dksX23_on_0 : cX23_on.data.toList.drop 0 = dktX23_on_0 := by decide +kernel
theorem dX23_on_0 : decode cX23_on 0 = .ok (.aload_n 1, 1) := dk_43 (dk_at dksX23_on_0 0 rfl rfl)
theorem dX23_on_1 : decode cX23_on 1 = .ok (.dup, 1) := dk_89 (dk_at dksX23_on_0 1 rfl rfl)
theorem dX23_on_2 : decode cX23_on 2 = .ok (.getfield 27, 3) := dk_180 0 27 (dk_at dksX23_on_0 2 rfl rfl)
theorem dX23_on_5 : decode cX23_on 5 = .ok (.aload_n 1, 1) := dk_43 (dk_at dksX23_on_0 5 rfl rfl)
theorem dX23_on_6 : decode cX23_on 6 = .ok (.getfield 31, 3) := dk_180 0 31 (dk_at dksX23_on_0 6 rfl rfl)
theorem dX23_on_9 : decode cX23_on 9 = .ok (.aload_n 1, 1) := dk_43 (dk_at dksX23_on_0 9 rfl rfl)
theorem dX23_on_10 : decode cX23_on 10 = .ok (.getfield 35, 3) := dk_180 0 35 (dk_at dksX23_on_0 10 rfl rfl)
theorem dX23_on_13 : decode cX23_on 13 = .ok (.invokevirtual 17, 3) := dk_182 0 17 (dk_at dksX23_on_0 13 rfl rfl)
theorem dX23_on_16 : decode cX23_on 16 = .ok (.iadd, 1) := dk_96 (dk_at dksX23_on_0 16 rfl rfl)
theorem dX23_on_17 : decode cX23_on 17 = .ok (.putfield 27, 3) := dk_181 0 27 (dk_at dksX23_on_0 17 rfl rfl)
theorem dX23_on_20 : decode cX23_on 20 = .ok (.return_, 1) := dk_177 (dk_at dksX23_on_0 20 rfl rfl)
theorem q141 : (Jvm.Cond.initialized "CardCups$Start") ∈ lw_all := lw_g (lw_at lw_m1 34 rfl) rfl
theorem q244 : (Jvm.Cond.fieldLinkNest "CardCups$Start" (7 : Nat) "CardCups$Flow" "washed" "J" "CardCups") ∈ lw_tbl := lw_at lw_m1 137 rfl
theorem q250 : (Jvm.Cond.fieldLinkNest "CardCups$Start" (13 : Nat) "CardCups$Flow" "visit" "I" "CardCups") ∈ lw_tbl := lw_at lw_m1 143 rfl
theorem q289 : (Jvm.Cond.fieldLinkNest "CardCups$Start" (31 : Nat) "CardCups$Day" "state" "LCardCups$State;" "CardCups") ∈ lw_tbl := lw_at lw_m1 182 rfl
theorem q299 : (Jvm.Cond.fieldLinkNest "CardCups$Start" (35 : Nat) "CardCups$Day" "visit" "I" "CardCups") ∈ lw_tbl := lw_at lw_m1 192 rfl
theorem q304 : (Jvm.Cond.fieldLinkNest "CardCups$Start" (27 : Nat) "CardCups$Day" "washed" "I" "CardCups") ∈ lw_tbl := lw_at lw_m1 197 rfl
theorem q632 : (Jvm.Cond.selects "CardCups$Start" ({ cls := "CardCups$Step", name := "isSo", desc := "(LCardCups$Sight;)Z" } : Jvm.MethodName) ({ cls := "CardCups$Step", name := "isSo", desc := "(LCardCups$Sight;)Z" } : Jvm.MethodName)) ∈ lw_all := lw_g (lw_at lw_m3 45 rfl) rfl
theorem q675 : (Jvm.Cond.selects "CardCups$Start" ({ cls := "CardCups$Step", name := "doing", desc := "(J)J" } : Jvm.MethodName) ({ cls := "CardCups$Step", name := "doing", desc := "(J)J" } : Jvm.MethodName)) ∈ lw_all := lw_g (lw_at lw_m3 88 rfl) rfl
theorem q711 : (Jvm.Cond.selects "CardCups$Start" ({ cls := "CardCups$Step", name := "flows", desc := "(LCardCups$Flow;LCardCups$State;J)V" } : Jvm.MethodName) ({ cls := "CardCups$Start", name := "flows", desc := "(LCardCups$Flow;LCardCups$State;J)V" } : Jvm.MethodName)) ∈ lw_all := lw_g (lw_at lw_m3 124 rfl) rfl
theorem q712 : (Jvm.Cond.instanceMethod ({ cls := "CardCups$Start", name := "flows", desc := "(LCardCups$Flow;LCardCups$State;J)V" } : Jvm.MethodName)) ∈ lw_all := lw_g (lw_at lw_m3 125 rfl) rfl
theorem q713 : (Jvm.Cond.code ({ cls := "CardCups$Start", name := "flows", desc := "(LCardCups$Flow;LCardCups$State;J)V" } : Jvm.MethodName) prog_18_method_2_code (5 : Nat) (Option.none : Option Jvm.ClassFile.FieldType)) ∈ lw_all := lw_g (lw_at lw_m3 126 rfl) rfl
theorem q714 : (Jvm.Cond.methodLink "CardCups$Start" (17 : Nat) ({ cls := "CardCups$State", name := "starts", desc := "(I)I" } : Jvm.MethodName)) ∈ lw_all := lw_g (lw_at lw_m3 127 rfl) rfl
theorem q719 : (Jvm.Cond.methodLink "CardCups$Start" (23 : Nat) ({ cls := "CardCups$Flow", name := "adds", desc := "(LCardCups$State;J)V" } : Jvm.MethodName)) ∈ lw_all := lw_g (lw_at lw_m3 132 rfl) rfl
theorem q1327 : (Jvm.Cond.instantiable "CardCups$Start" (2 : Nat)) ∈ lw_all := lw_g (lw_at lw_m6 20 rfl) rfl
theorem q1329 : (Jvm.Cond.instanceMethod ({ cls := "CardCups$Start", name := "<init>", desc := "(ILCardCups$Term;)V" } : Jvm.MethodName)) ∈ lw_all := lw_g (lw_at lw_m6 22 rfl) rfl
theorem q1330 : (Jvm.Cond.code ({ cls := "CardCups$Start", name := "<init>", desc := "(ILCardCups$Term;)V" } : Jvm.MethodName) prog_18_method_1_code (3 : Nat) (Option.none : Option Jvm.ClassFile.FieldType)) ∈ lw_all := lw_g (lw_at lw_m6 23 rfl) rfl
theorem q1331 : (Jvm.Cond.methodLink "CardCups$Start" (1 : Nat) ({ cls := "CardCups$Step", name := "<init>", desc := "(ILCardCups$Term;)V" } : Jvm.MethodName)) ∈ lw_all := lw_g (lw_at lw_m6 24 rfl) rfl
theorem q1332 : (Jvm.Cond.laysFinal "CardCups$Start" "CardCups$Step" "by" "I") ∈ lw_all := lw_g (lw_at lw_m6 25 rfl) rfl
theorem q1333 : (Jvm.Cond.laysFinal "CardCups$Start" "CardCups$Step" "test" "LCardCups$Term;") ∈ lw_all := lw_g (lw_at lw_m6 26 rfl) rfl
theorem q1334 : (Jvm.Cond.superclass "CardCups$Start" "CardCups$Step") ∈ lw_all := lw_g (lw_at lw_m6 27 rfl) rfl
theorem q1665 : (Jvm.Cond.selects "CardCups$Start" ({ cls := "CardCups$Step", name := "isDrawn", desc := "(LCardCups$Day;)Z" } : Jvm.MethodName) ({ cls := "CardCups$Step", name := "isDrawn", desc := "(LCardCups$Day;)Z" } : Jvm.MethodName)) ∈ lw_all := lw_g (lw_at lw_m7 118 rfl) rfl
theorem q1683 : (Jvm.Cond.selects "CardCups$Start" ({ cls := "CardCups$Step", name := "on", desc := "(LCardCups$Day;)V" } : Jvm.MethodName) ({ cls := "CardCups$Start", name := "on", desc := "(LCardCups$Day;)V" } : Jvm.MethodName)) ∈ lw_all := lw_g (lw_at lw_m7 136 rfl) rfl
theorem q1684 : (Jvm.Cond.instanceMethod ({ cls := "CardCups$Start", name := "on", desc := "(LCardCups$Day;)V" } : Jvm.MethodName)) ∈ lw_all := lw_g (lw_at lw_m7 137 rfl) rfl
theorem q1685 : (Jvm.Cond.code ({ cls := "CardCups$Start", name := "on", desc := "(LCardCups$Day;)V" } : Jvm.MethodName) prog_18_method_3_code (2 : Nat) (Option.none : Option Jvm.ClassFile.FieldType)) ∈ lw_all := lw_g (lw_at lw_m7 138 rfl) rfl
theorem q2504 : (Jvm.Cond.castable "CardCups$Start" "java/lang/Object") ∈ lw_tbl := lw_at lw_m10 237 rfl
theorem q2513 : (Jvm.Cond.castable "CardCups$Start" "CardCups$Step") ∈ lw_tbl := lw_at lw_m11 6 rfl
theorem in_X23 : ∀ w ∈ wsX230, w ∈ lw_all := lw_in wsX230 [1332, 1333] (by decide +kernel) (by decide +kernel)
/-! CardCups$Empty -/
set_option maxRecDepth 100000
def RX24 : String := "CardCups$Empty"
def TX24 : u_T := fun k => match k with
  | 0 => ("CardCups$Step", "by", "I", true)
  | _ => ("CardCups$Step", "test", "LCardCups$Term;", true)
def tyX24 : Nat → FieldType := fun k => match k with
  | 0 => .int
  | _ => .object "CardCups$Term"
abbrev wsX240 : List Cond := u_ws RX24 TX24 2
theorem nmX24 : ∀ a, a < 2 → ∀ b, b < 2 → a ≠ b → (TX24 a).2.1 ≠ (TX24 b).2.1 := by decide +kernel
theorem tyX24_ok : ∀ k, k < 2 → parseFieldDescriptor (TX24 k).2.2.1 = some (tyX24 k) := by decide +kernel
abbrev cX24_flows : ByteArray := prog_5_method_3_code
def yX24_flows : MethodName := ⟨RX24, "flows", "(LCardCups$Flow;LCardCups$State;J)V"⟩
def dkwX24_flows_0 : List UInt8 := [44, 184, 0, 16, 43, 44, 33, 182, 0, 22, 177]
abbrev dktX24_flows_0 : List UInt8 := dkwX24_flows_0 ++ []
theorem dksX24_flows_0 : cX24_flows.data.toList.drop 0 = dktX24_flows_0 := by decide +kernel
theorem dX24_flows_0 : decode cX24_flows 0 = .ok (.aload_n 2, 1) := dk_44 (dk_at dksX24_flows_0 0 rfl rfl)
theorem dX24_flows_1 : decode cX24_flows 1 = .ok (.invokestatic 16, 3) := dk_184 0 16 (dk_at dksX24_flows_0 1 rfl rfl)
theorem dX24_flows_4 : decode cX24_flows 4 = .ok (.aload_n 1, 1) := dk_43 (dk_at dksX24_flows_0 4 rfl rfl)
theorem dX24_flows_5 : decode cX24_flows 5 = .ok (.aload_n 2, 1) := dk_44 (dk_at dksX24_flows_0 5 rfl rfl)
theorem dX24_flows_6 : decode cX24_flows 6 = .ok (.lload_n 3, 1) := dk_33 (dk_at dksX24_flows_0 6 rfl rfl)
theorem dX24_flows_7 : decode cX24_flows 7 = .ok (.invokevirtual 22, 3) := dk_182 0 22 (dk_at dksX24_flows_0 7 rfl rfl)
theorem dX24_flows_10 : decode cX24_flows 10 = .ok (.return_, 1) := dk_177 (dk_at dksX24_flows_0 10 rfl rfl)
abbrev cX24_empties : ByteArray := prog_5_method_2_code
def yX24_empties : MethodName := ⟨RX24, "empties", "(LCardCups$State;)V"⟩
def dkwX24_empties_0 : List UInt8 := [42, 3, 181, 0, 7, 42, 3, 181, 0, 13, 177]
abbrev dktX24_empties_0 : List UInt8 := dkwX24_empties_0 ++ []
theorem dksX24_empties_0 : cX24_empties.data.toList.drop 0 = dktX24_empties_0 := by decide +kernel
theorem dX24_empties_0 : decode cX24_empties 0 = .ok (.aload_n 0, 1) := dk_42 (dk_at dksX24_empties_0 0 rfl rfl)
theorem dX24_empties_1 : decode cX24_empties 1 = .ok (.iconst 0, 1) := dk_3 (dk_at dksX24_empties_0 1 rfl rfl)
theorem dX24_empties_2 : decode cX24_empties 2 = .ok (.putfield 7, 3) := dk_181 0 7 (dk_at dksX24_empties_0 2 rfl rfl)
theorem dX24_empties_5 : decode cX24_empties 5 = .ok (.aload_n 0, 1) := dk_42 (dk_at dksX24_empties_0 5 rfl rfl)
theorem dX24_empties_6 : decode cX24_empties 6 = .ok (.iconst 0, 1) := dk_3 (dk_at dksX24_empties_0 6 rfl rfl)
theorem dX24_empties_7 : decode cX24_empties 7 = .ok (.putfield 13, 3) := dk_181 0 13 (dk_at dksX24_empties_0 7 rfl rfl)
theorem dX24_empties_10 : decode cX24_empties 10 = .ok (.return_, 1) := dk_177 (dk_at dksX24_empties_0 10 rfl rfl)
abbrev cX24_init : ByteArray := prog_5_method_1_code
def yX24_init : MethodName := ⟨RX24, "<init>", "(ILCardCups$Term;)V"⟩
def dkwX24_init_0 : List UInt8 := [42, 27, 44, 183, 0, 1, 177]
abbrev dktX24_init_0 : List UInt8 := dkwX24_init_0 ++ []
theorem dksX24_init_0 : cX24_init.data.toList.drop 0 = dktX24_init_0 := by decide +kernel
theorem dX24_init_0 : decode cX24_init 0 = .ok (.aload_n 0, 1) := dk_42 (dk_at dksX24_init_0 0 rfl rfl)
theorem dX24_init_1 : decode cX24_init 1 = .ok (.iload_n 1, 1) := dk_27 (dk_at dksX24_init_0 1 rfl rfl)
theorem dX24_init_2 : decode cX24_init 2 = .ok (.aload_n 2, 1) := dk_44 (dk_at dksX24_init_0 2 rfl rfl)
theorem dX24_init_3 : decode cX24_init 3 = .ok (.invokespecial 1, 3) := dk_183 0 1 (dk_at dksX24_init_0 3 rfl rfl)
theorem dX24_init_6 : decode cX24_init 6 = .ok (.return_, 1) := dk_177 (dk_at dksX24_init_0 6 rfl rfl)
abbrev cX24_on : ByteArray := prog_5_method_4_code
def yX24_on : MethodName := ⟨RX24, "on", "(LCardCups$Day;)V"⟩
def dkwX24_on_0 : List UInt8 := [43, 180, 0, 28, 184, 0, 16, 177]
abbrev dktX24_on_0 : List UInt8 := dkwX24_on_0 ++ []
theorem dksX24_on_0 : cX24_on.data.toList.drop 0 = dktX24_on_0 := by decide +kernel
theorem dX24_on_0 : decode cX24_on 0 = .ok (.aload_n 1, 1) := dk_43 (dk_at dksX24_on_0 0 rfl rfl)
theorem dX24_on_1 : decode cX24_on 1 = .ok (.getfield 28, 3) := dk_180 0 28 (dk_at dksX24_on_0 1 rfl rfl)
theorem dX24_on_4 : decode cX24_on 4 = .ok (.invokestatic 16, 3) := dk_184 0 16 (dk_at dksX24_on_0 4 rfl rfl)
theorem dX24_on_7 : decode cX24_on 7 = .ok (.return_, 1) := dk_177 (dk_at dksX24_on_0 7 rfl rfl)
theorem q142 : (Jvm.Cond.initialized "CardCups$Empty") ∈ lw_all := lw_g (lw_at lw_m1 35 rfl) rfl
theorem q200 : (Jvm.Cond.fieldLinkNest "CardCups$Empty" (7 : Nat) "CardCups$State" "clean" "I" "CardCups") ∈ lw_tbl := lw_at lw_m1 93 rfl
theorem q206 : (Jvm.Cond.fieldLinkNest "CardCups$Empty" (13 : Nat) "CardCups$State" "dirty" "I" "CardCups") ∈ lw_tbl := lw_at lw_m1 99 rfl
theorem q291 : (Jvm.Cond.fieldLinkNest "CardCups$Empty" (28 : Nat) "CardCups$Day" "state" "LCardCups$State;" "CardCups") ∈ lw_tbl := lw_at lw_m1 184 rfl
theorem q629 : (Jvm.Cond.selects "CardCups$Empty" ({ cls := "CardCups$Step", name := "isSo", desc := "(LCardCups$Sight;)Z" } : Jvm.MethodName) ({ cls := "CardCups$Step", name := "isSo", desc := "(LCardCups$Sight;)Z" } : Jvm.MethodName)) ∈ lw_all := lw_g (lw_at lw_m3 42 rfl) rfl
theorem q672 : (Jvm.Cond.selects "CardCups$Empty" ({ cls := "CardCups$Step", name := "doing", desc := "(J)J" } : Jvm.MethodName) ({ cls := "CardCups$Step", name := "doing", desc := "(J)J" } : Jvm.MethodName)) ∈ lw_all := lw_g (lw_at lw_m3 85 rfl) rfl
theorem q683 : (Jvm.Cond.selects "CardCups$Empty" ({ cls := "CardCups$Step", name := "flows", desc := "(LCardCups$Flow;LCardCups$State;J)V" } : Jvm.MethodName) ({ cls := "CardCups$Empty", name := "flows", desc := "(LCardCups$Flow;LCardCups$State;J)V" } : Jvm.MethodName)) ∈ lw_all := lw_g (lw_at lw_m3 96 rfl) rfl
theorem q684 : (Jvm.Cond.instanceMethod ({ cls := "CardCups$Empty", name := "flows", desc := "(LCardCups$Flow;LCardCups$State;J)V" } : Jvm.MethodName)) ∈ lw_all := lw_g (lw_at lw_m3 97 rfl) rfl
theorem q685 : (Jvm.Cond.code ({ cls := "CardCups$Empty", name := "flows", desc := "(LCardCups$Flow;LCardCups$State;J)V" } : Jvm.MethodName) prog_5_method_3_code (5 : Nat) (Option.none : Option Jvm.ClassFile.FieldType)) ∈ lw_all := lw_g (lw_at lw_m3 98 rfl) rfl
theorem q686 : (Jvm.Cond.methodLink "CardCups$Empty" (16 : Nat) ({ cls := "CardCups$Empty", name := "empties", desc := "(LCardCups$State;)V" } : Jvm.MethodName)) ∈ lw_all := lw_g (lw_at lw_m3 99 rfl) rfl
theorem q687 : (Jvm.Cond.static ({ cls := "CardCups$Empty", name := "empties", desc := "(LCardCups$State;)V" } : Jvm.MethodName)) ∈ lw_all := lw_g (lw_at lw_m3 100 rfl) rfl
theorem q688 : (Jvm.Cond.code ({ cls := "CardCups$Empty", name := "empties", desc := "(LCardCups$State;)V" } : Jvm.MethodName) prog_5_method_2_code (1 : Nat) (Option.none : Option Jvm.ClassFile.FieldType)) ∈ lw_all := lw_g (lw_at lw_m3 101 rfl) rfl
theorem q689 : (Jvm.Cond.methodLink "CardCups$Empty" (22 : Nat) ({ cls := "CardCups$Flow", name := "adds", desc := "(LCardCups$State;J)V" } : Jvm.MethodName)) ∈ lw_all := lw_g (lw_at lw_m3 102 rfl) rfl
theorem q1336 : (Jvm.Cond.instantiable "CardCups$Empty" (2 : Nat)) ∈ lw_all := lw_g (lw_at lw_m6 29 rfl) rfl
theorem q1338 : (Jvm.Cond.instanceMethod ({ cls := "CardCups$Empty", name := "<init>", desc := "(ILCardCups$Term;)V" } : Jvm.MethodName)) ∈ lw_all := lw_g (lw_at lw_m6 31 rfl) rfl
theorem q1339 : (Jvm.Cond.code ({ cls := "CardCups$Empty", name := "<init>", desc := "(ILCardCups$Term;)V" } : Jvm.MethodName) prog_5_method_1_code (3 : Nat) (Option.none : Option Jvm.ClassFile.FieldType)) ∈ lw_all := lw_g (lw_at lw_m6 32 rfl) rfl
theorem q1340 : (Jvm.Cond.methodLink "CardCups$Empty" (1 : Nat) ({ cls := "CardCups$Step", name := "<init>", desc := "(ILCardCups$Term;)V" } : Jvm.MethodName)) ∈ lw_all := lw_g (lw_at lw_m6 33 rfl) rfl
theorem q1341 : (Jvm.Cond.laysFinal "CardCups$Empty" "CardCups$Step" "by" "I") ∈ lw_all := lw_g (lw_at lw_m6 34 rfl) rfl
theorem q1342 : (Jvm.Cond.laysFinal "CardCups$Empty" "CardCups$Step" "test" "LCardCups$Term;") ∈ lw_all := lw_g (lw_at lw_m6 35 rfl) rfl
theorem q1343 : (Jvm.Cond.superclass "CardCups$Empty" "CardCups$Step") ∈ lw_all := lw_g (lw_at lw_m6 36 rfl) rfl
theorem q1662 : (Jvm.Cond.selects "CardCups$Empty" ({ cls := "CardCups$Step", name := "isDrawn", desc := "(LCardCups$Day;)Z" } : Jvm.MethodName) ({ cls := "CardCups$Step", name := "isDrawn", desc := "(LCardCups$Day;)Z" } : Jvm.MethodName)) ∈ lw_all := lw_g (lw_at lw_m7 115 rfl) rfl
theorem q1673 : (Jvm.Cond.selects "CardCups$Empty" ({ cls := "CardCups$Step", name := "on", desc := "(LCardCups$Day;)V" } : Jvm.MethodName) ({ cls := "CardCups$Empty", name := "on", desc := "(LCardCups$Day;)V" } : Jvm.MethodName)) ∈ lw_all := lw_g (lw_at lw_m7 126 rfl) rfl
theorem q1674 : (Jvm.Cond.instanceMethod ({ cls := "CardCups$Empty", name := "on", desc := "(LCardCups$Day;)V" } : Jvm.MethodName)) ∈ lw_all := lw_g (lw_at lw_m7 127 rfl) rfl
theorem q1675 : (Jvm.Cond.code ({ cls := "CardCups$Empty", name := "on", desc := "(LCardCups$Day;)V" } : Jvm.MethodName) prog_5_method_4_code (2 : Nat) (Option.none : Option Jvm.ClassFile.FieldType)) ∈ lw_all := lw_g (lw_at lw_m7 128 rfl) rfl
theorem q2505 : (Jvm.Cond.castable "CardCups$Empty" "java/lang/Object") ∈ lw_tbl := lw_at lw_m10 238 rfl
theorem q2514 : (Jvm.Cond.castable "CardCups$Empty" "CardCups$Step") ∈ lw_tbl := lw_at lw_m11 7 rfl
theorem in_X24 : ∀ w ∈ wsX240, w ∈ lw_all := lw_in wsX240 [1341, 1342] (by decide +kernel) (by decide +kernel)
/-! CardCups$Turn -/
set_option maxRecDepth 100000
def RX25 : String := "CardCups$Turn"
def TX25 : u_T := fun k => match k with
  | 0 => ("CardCups$Step", "by", "I", true)
  | 1 => ("CardCups$Step", "test", "LCardCups$Term;", true)
  | _ => ("CardCups$Turn", "says", "I", true)
def tyX25 : Nat → FieldType := fun k => match k with
  | 0 => .int
  | 1 => .object "CardCups$Term"
  | _ => .int
abbrev wsX250 : List Cond := u_ws RX25 TX25 3
theorem nmX25 : ∀ a, a < 3 → ∀ b, b < 3 → a ≠ b → (TX25 a).2.1 ≠ (TX25 b).2.1 := by decide +kernel
theorem tyX25_ok : ∀ k, k < 3 → parseFieldDescriptor (TX25 k).2.2.1 = some (tyX25 k) := by decide +kernel
abbrev cX25_flows : ByteArray := prog_24_method_3_code
def yX25_flows : MethodName := ⟨RX25, "flows", "(LCardCups$Flow;LCardCups$State;J)V"⟩
def dkwX25_flows_0 : List UInt8 := [42, 44, 182, 0, 18, 43, 44, 33, 182, 0, 22, 177]
abbrev dktX25_flows_0 : List UInt8 := dkwX25_flows_0 ++ []
theorem dksX25_flows_0 : cX25_flows.data.toList.drop 0 = dktX25_flows_0 := by decide +kernel
theorem dX25_flows_0 : decode cX25_flows 0 = .ok (.aload_n 0, 1) := dk_42 (dk_at dksX25_flows_0 0 rfl rfl)
theorem dX25_flows_1 : decode cX25_flows 1 = .ok (.aload_n 2, 1) := dk_44 (dk_at dksX25_flows_0 1 rfl rfl)
theorem dX25_flows_2 : decode cX25_flows 2 = .ok (.invokevirtual 18, 3) := dk_182 0 18 (dk_at dksX25_flows_0 2 rfl rfl)
theorem dX25_flows_5 : decode cX25_flows 5 = .ok (.aload_n 1, 1) := dk_43 (dk_at dksX25_flows_0 5 rfl rfl)
theorem dX25_flows_6 : decode cX25_flows 6 = .ok (.aload_n 2, 1) := dk_44 (dk_at dksX25_flows_0 6 rfl rfl)
theorem dX25_flows_7 : decode cX25_flows 7 = .ok (.lload_n 3, 1) := dk_33 (dk_at dksX25_flows_0 7 rfl rfl)
theorem dX25_flows_8 : decode cX25_flows 8 = .ok (.invokevirtual 22, 3) := dk_182 0 22 (dk_at dksX25_flows_0 8 rfl rfl)
theorem dX25_flows_11 : decode cX25_flows 11 = .ok (.return_, 1) := dk_177 (dk_at dksX25_flows_0 11 rfl rfl)
abbrev cX25_turns : ByteArray := prog_24_method_2_code
def yX25_turns : MethodName := ⟨RX25, "turns", "(LCardCups$State;)V"⟩
def dkwX25_turns_1 : List UInt8 := [181, 0, 13, 177]
abbrev dktX25_turns_1 : List UInt8 := dkwX25_turns_1 ++ []
def dkwX25_turns_0 : List UInt8 := [43, 42, 180, 0, 7, 5, 160, 0, 12, 4, 43, 180, 0, 13, 100, 167, 0, 7, 42, 180, 0, 7]
abbrev dktX25_turns_0 : List UInt8 := dkwX25_turns_0 ++ dktX25_turns_1
theorem dksX25_turns_0 : cX25_turns.data.toList.drop 0 = dktX25_turns_0 := by decide +kernel
theorem dksX25_turns_1 : cX25_turns.data.toList.drop 22 = dktX25_turns_1 := dk_seg dksX25_turns_0 22 rfl rfl
theorem dX25_turns_0 : decode cX25_turns 0 = .ok (.aload_n 1, 1) := dk_43 (dk_at dksX25_turns_0 0 rfl rfl)
theorem dX25_turns_1 : decode cX25_turns 1 = .ok (.aload_n 0, 1) := dk_42 (dk_at dksX25_turns_0 1 rfl rfl)
theorem dX25_turns_2 : decode cX25_turns 2 = .ok (.getfield 7, 3) := dk_180 0 7 (dk_at dksX25_turns_0 2 rfl rfl)
theorem dX25_turns_5 : decode cX25_turns 5 = .ok (.iconst 2, 1) := dk_5 (dk_at dksX25_turns_0 5 rfl rfl)
theorem dX25_turns_6 : decode cX25_turns 6 = .ok (.if_icmp .ne 12, 3) := dk_160 0 12 (dk_at dksX25_turns_0 6 rfl rfl)
theorem dX25_turns_9 : decode cX25_turns 9 = .ok (.iconst 1, 1) := dk_4 (dk_at dksX25_turns_0 9 rfl rfl)
theorem dX25_turns_10 : decode cX25_turns 10 = .ok (.aload_n 1, 1) := dk_43 (dk_at dksX25_turns_0 10 rfl rfl)
theorem dX25_turns_11 : decode cX25_turns 11 = .ok (.getfield 13, 3) := dk_180 0 13 (dk_at dksX25_turns_0 11 rfl rfl)
theorem dX25_turns_14 : decode cX25_turns 14 = .ok (.isub, 1) := dk_100 (dk_at dksX25_turns_0 14 rfl rfl)
theorem dX25_turns_15 : decode cX25_turns 15 = .ok (.goto 7, 3) := dk_167 0 7 (dk_at dksX25_turns_0 15 rfl rfl)
theorem dX25_turns_18 : decode cX25_turns 18 = .ok (.aload_n 0, 1) := dk_42 (dk_at dksX25_turns_0 18 rfl rfl)
theorem dX25_turns_19 : decode cX25_turns 19 = .ok (.getfield 7, 3) := dk_180 0 7 (dk_at dksX25_turns_0 19 rfl rfl)
theorem dX25_turns_22 : decode cX25_turns 22 = .ok (.putfield 13, 3) := dk_181 0 13 (dk_at dksX25_turns_1 0 rfl rfl)
theorem dX25_turns_25 : decode cX25_turns 25 = .ok (.return_, 1) := dk_177 (dk_at dksX25_turns_1 3 rfl rfl)
abbrev cX25_init : ByteArray := prog_24_method_1_code
def yX25_init : MethodName := ⟨RX25, "<init>", "(ILCardCups$Term;I)V"⟩
def dkwX25_init_0 : List UInt8 := [42, 27, 44, 183, 0, 1, 42, 29, 181, 0, 7, 177]
abbrev dktX25_init_0 : List UInt8 := dkwX25_init_0 ++ []
theorem dksX25_init_0 : cX25_init.data.toList.drop 0 = dktX25_init_0 := by decide +kernel
theorem dX25_init_0 : decode cX25_init 0 = .ok (.aload_n 0, 1) := dk_42 (dk_at dksX25_init_0 0 rfl rfl)
theorem dX25_init_1 : decode cX25_init 1 = .ok (.iload_n 1, 1) := dk_27 (dk_at dksX25_init_0 1 rfl rfl)
theorem dX25_init_2 : decode cX25_init 2 = .ok (.aload_n 2, 1) := dk_44 (dk_at dksX25_init_0 2 rfl rfl)
theorem dX25_init_3 : decode cX25_init 3 = .ok (.invokespecial 1, 3) := dk_183 0 1 (dk_at dksX25_init_0 3 rfl rfl)
theorem dX25_init_6 : decode cX25_init 6 = .ok (.aload_n 0, 1) := dk_42 (dk_at dksX25_init_0 6 rfl rfl)
theorem dX25_init_7 : decode cX25_init 7 = .ok (.iload_n 3, 1) := dk_29 (dk_at dksX25_init_0 7 rfl rfl)
theorem dX25_init_8 : decode cX25_init 8 = .ok (.putfield 7, 3) := dk_181 0 7 (dk_at dksX25_init_0 8 rfl rfl)
theorem dX25_init_11 : decode cX25_init 11 = .ok (.return_, 1) := dk_177 (dk_at dksX25_init_0 11 rfl rfl)
abbrev cX25_on : ByteArray := prog_24_method_4_code
def yX25_on : MethodName := ⟨RX25, "on", "(LCardCups$Day;)V"⟩
def dkwX25_on_0 : List UInt8 := [42, 43, 180, 0, 28, 182, 0, 18, 177]
abbrev dktX25_on_0 : List UInt8 := dkwX25_on_0 ++ []
theorem dksX25_on_0 : cX25_on.data.toList.drop 0 = dktX25_on_0 := by decide +kernel
theorem dX25_on_0 : decode cX25_on 0 = .ok (.aload_n 0, 1) := dk_42 (dk_at dksX25_on_0 0 rfl rfl)
theorem dX25_on_1 : decode cX25_on 1 = .ok (.aload_n 1, 1) := dk_43 (dk_at dksX25_on_0 1 rfl rfl)
theorem dX25_on_2 : decode cX25_on 2 = .ok (.getfield 28, 3) := dk_180 0 28 (dk_at dksX25_on_0 2 rfl rfl)
theorem dX25_on_5 : decode cX25_on 5 = .ok (.invokevirtual 18, 3) := dk_182 0 18 (dk_at dksX25_on_0 5 rfl rfl)
theorem dX25_on_8 : decode cX25_on 8 = .ok (.return_, 1) := dk_177 (dk_at dksX25_on_0 8 rfl rfl)
theorem q143 : (Jvm.Cond.initialized "CardCups$Turn") ∈ lw_all := lw_g (lw_at lw_m1 36 rfl) rfl
theorem q212 : (Jvm.Cond.fieldLinkNest "CardCups$Turn" (13 : Nat) "CardCups$State" "card" "I" "CardCups") ∈ lw_tbl := lw_at lw_m1 105 rfl
theorem q293 : (Jvm.Cond.fieldLinkNest "CardCups$Turn" (28 : Nat) "CardCups$Day" "state" "LCardCups$State;" "CardCups") ∈ lw_tbl := lw_at lw_m1 186 rfl
theorem q634 : (Jvm.Cond.selects "CardCups$Turn" ({ cls := "CardCups$Step", name := "isSo", desc := "(LCardCups$Sight;)Z" } : Jvm.MethodName) ({ cls := "CardCups$Step", name := "isSo", desc := "(LCardCups$Sight;)Z" } : Jvm.MethodName)) ∈ lw_all := lw_g (lw_at lw_m3 47 rfl) rfl
theorem q677 : (Jvm.Cond.selects "CardCups$Turn" ({ cls := "CardCups$Step", name := "doing", desc := "(J)J" } : Jvm.MethodName) ({ cls := "CardCups$Step", name := "doing", desc := "(J)J" } : Jvm.MethodName)) ∈ lw_all := lw_g (lw_at lw_m3 90 rfl) rfl
theorem q734 : (Jvm.Cond.selects "CardCups$Turn" ({ cls := "CardCups$Step", name := "flows", desc := "(LCardCups$Flow;LCardCups$State;J)V" } : Jvm.MethodName) ({ cls := "CardCups$Turn", name := "flows", desc := "(LCardCups$Flow;LCardCups$State;J)V" } : Jvm.MethodName)) ∈ lw_all := lw_g (lw_at lw_m3 147 rfl) rfl
theorem q735 : (Jvm.Cond.instanceMethod ({ cls := "CardCups$Turn", name := "flows", desc := "(LCardCups$Flow;LCardCups$State;J)V" } : Jvm.MethodName)) ∈ lw_all := lw_g (lw_at lw_m3 148 rfl) rfl
theorem q736 : (Jvm.Cond.code ({ cls := "CardCups$Turn", name := "flows", desc := "(LCardCups$Flow;LCardCups$State;J)V" } : Jvm.MethodName) prog_24_method_3_code (5 : Nat) (Option.none : Option Jvm.ClassFile.FieldType)) ∈ lw_all := lw_g (lw_at lw_m3 149 rfl) rfl
theorem q737 : (Jvm.Cond.methodLink "CardCups$Turn" (18 : Nat) ({ cls := "CardCups$Turn", name := "turns", desc := "(LCardCups$State;)V" } : Jvm.MethodName)) ∈ lw_all := lw_g (lw_at lw_m3 150 rfl) rfl
theorem q738 : (Jvm.Cond.privateMethod ({ cls := "CardCups$Turn", name := "turns", desc := "(LCardCups$State;)V" } : Jvm.MethodName)) ∈ lw_tbl := lw_at lw_m3 151 rfl
theorem q739 : (Jvm.Cond.instanceMethod ({ cls := "CardCups$Turn", name := "turns", desc := "(LCardCups$State;)V" } : Jvm.MethodName)) ∈ lw_all := lw_g (lw_at lw_m3 152 rfl) rfl
theorem q740 : (Jvm.Cond.instantiable "CardCups$Turn" (3 : Nat)) ∈ lw_all := lw_g (lw_at lw_m3 153 rfl) rfl
theorem q741 : (Jvm.Cond.code ({ cls := "CardCups$Turn", name := "turns", desc := "(LCardCups$State;)V" } : Jvm.MethodName) prog_24_method_2_code (2 : Nat) (Option.none : Option Jvm.ClassFile.FieldType)) ∈ lw_all := lw_g (lw_at lw_m3 154 rfl) rfl
theorem q742 : (Jvm.Cond.methodLink "CardCups$Turn" (22 : Nat) ({ cls := "CardCups$Flow", name := "adds", desc := "(LCardCups$State;J)V" } : Jvm.MethodName)) ∈ lw_all := lw_g (lw_at lw_m3 155 rfl) rfl
theorem q1346 : (Jvm.Cond.instanceMethod ({ cls := "CardCups$Turn", name := "<init>", desc := "(ILCardCups$Term;I)V" } : Jvm.MethodName)) ∈ lw_all := lw_g (lw_at lw_m6 39 rfl) rfl
theorem q1347 : (Jvm.Cond.code ({ cls := "CardCups$Turn", name := "<init>", desc := "(ILCardCups$Term;I)V" } : Jvm.MethodName) prog_24_method_1_code (4 : Nat) (Option.none : Option Jvm.ClassFile.FieldType)) ∈ lw_all := lw_g (lw_at lw_m6 40 rfl) rfl
theorem q1348 : (Jvm.Cond.methodLink "CardCups$Turn" (1 : Nat) ({ cls := "CardCups$Step", name := "<init>", desc := "(ILCardCups$Term;)V" } : Jvm.MethodName)) ∈ lw_all := lw_g (lw_at lw_m6 41 rfl) rfl
theorem q1349 : (Jvm.Cond.fieldLink "CardCups$Turn" (7 : Nat) "CardCups$Turn" "says" "I") ∈ lw_all := lw_g (lw_at lw_m6 42 rfl) rfl
theorem q1350 : (Jvm.Cond.laysFinal "CardCups$Turn" "CardCups$Turn" "says" "I") ∈ lw_all := lw_g (lw_at lw_m6 43 rfl) rfl
theorem q1351 : (Jvm.Cond.soleField "CardCups$Turn" "says") ∈ lw_all := lw_g (lw_at lw_m6 44 rfl) rfl
theorem q1352 : (Jvm.Cond.laysFinal "CardCups$Turn" "CardCups$Step" "by" "I") ∈ lw_all := lw_g (lw_at lw_m6 45 rfl) rfl
theorem q1353 : (Jvm.Cond.laysFinal "CardCups$Turn" "CardCups$Step" "test" "LCardCups$Term;") ∈ lw_all := lw_g (lw_at lw_m6 46 rfl) rfl
theorem q1354 : (Jvm.Cond.superclass "CardCups$Turn" "CardCups$Step") ∈ lw_all := lw_g (lw_at lw_m6 47 rfl) rfl
theorem q1667 : (Jvm.Cond.selects "CardCups$Turn" ({ cls := "CardCups$Step", name := "isDrawn", desc := "(LCardCups$Day;)Z" } : Jvm.MethodName) ({ cls := "CardCups$Step", name := "isDrawn", desc := "(LCardCups$Day;)Z" } : Jvm.MethodName)) ∈ lw_all := lw_g (lw_at lw_m7 120 rfl) rfl
theorem q1690 : (Jvm.Cond.selects "CardCups$Turn" ({ cls := "CardCups$Step", name := "on", desc := "(LCardCups$Day;)V" } : Jvm.MethodName) ({ cls := "CardCups$Turn", name := "on", desc := "(LCardCups$Day;)V" } : Jvm.MethodName)) ∈ lw_all := lw_g (lw_at lw_m7 143 rfl) rfl
theorem q1691 : (Jvm.Cond.instanceMethod ({ cls := "CardCups$Turn", name := "on", desc := "(LCardCups$Day;)V" } : Jvm.MethodName)) ∈ lw_all := lw_g (lw_at lw_m7 144 rfl) rfl
theorem q1692 : (Jvm.Cond.code ({ cls := "CardCups$Turn", name := "on", desc := "(LCardCups$Day;)V" } : Jvm.MethodName) prog_24_method_4_code (2 : Nat) (Option.none : Option Jvm.ClassFile.FieldType)) ∈ lw_all := lw_g (lw_at lw_m7 145 rfl) rfl
theorem q2506 : (Jvm.Cond.castable "CardCups$Turn" "java/lang/Object") ∈ lw_tbl := lw_at lw_m10 239 rfl
theorem q2515 : (Jvm.Cond.castable "CardCups$Turn" "CardCups$Step") ∈ lw_tbl := lw_at lw_m11 8 rfl
theorem in_X25 : ∀ w ∈ wsX250, w ∈ lw_all := lw_in wsX250 [1352, 1353, 1350] (by decide +kernel) (by decide +kernel)
/-! CardCups$Sight -/
set_option maxRecDepth 100000
def RX26 : String := "CardCups$Sight"
def TX26 : u_T := fun k => match k with
  | 0 => ("CardCups$Sight", "office", "LCardCups$Office;", true)
  | 1 => ("CardCups$Sight", "calendar", "LCardCups$Calendar;", true)
  | 2 => ("CardCups$Sight", "visit", "I", true)
  | 3 => ("CardCups$Sight", "count", "I", true)
  | 4 => ("CardCups$Sight", "last", "I", true)
  | _ => ("CardCups$Sight", "state", "LCardCups$State;", false)
def tyX26 : Nat → FieldType := fun k => match k with
  | 0 => .object "CardCups$Office"
  | 1 => .object "CardCups$Calendar"
  | 2 => .int
  | 3 => .int
  | 4 => .int
  | _ => .object "CardCups$State"
abbrev wsX260 : List Cond := u_ws RX26 TX26 6
theorem nmX26 : ∀ a, a < 6 → ∀ b, b < 6 → a ≠ b → (TX26 a).2.1 ≠ (TX26 b).2.1 := by decide +kernel
theorem tyX26_ok : ∀ k, k < 6 → parseFieldDescriptor (TX26 k).2.2.1 = some (tyX26 k) := by decide +kernel
abbrev cX26_init : ByteArray := prog_17_method_1_code
def yX26_init : MethodName := ⟨RX26, "<init>", "(LCardCups$Office;LCardCups$Calendar;I)V"⟩
def dkwX26_init_1 : List UInt8 := [182, 0, 21, 181, 0, 27, 42, 44, 29, 182, 0, 29, 181, 0, 32, 177]
abbrev dktX26_init_1 : List UInt8 := dkwX26_init_1 ++ []
def dkwX26_init_0 : List UInt8 := [42, 183, 0, 1, 42, 43, 181, 0, 7, 42, 44, 181, 0, 13, 42, 29, 181, 0, 17, 42, 44, 29]
abbrev dktX26_init_0 : List UInt8 := dkwX26_init_0 ++ dktX26_init_1
theorem dksX26_init_0 : cX26_init.data.toList.drop 0 = dktX26_init_0 := by decide +kernel
theorem dksX26_init_1 : cX26_init.data.toList.drop 22 = dktX26_init_1 := dk_seg dksX26_init_0 22 rfl rfl
theorem dX26_init_0 : decode cX26_init 0 = .ok (.aload_n 0, 1) := dk_42 (dk_at dksX26_init_0 0 rfl rfl)
theorem dX26_init_1 : decode cX26_init 1 = .ok (.invokespecial 1, 3) := dk_183 0 1 (dk_at dksX26_init_0 1 rfl rfl)
theorem dX26_init_4 : decode cX26_init 4 = .ok (.aload_n 0, 1) := dk_42 (dk_at dksX26_init_0 4 rfl rfl)
theorem dX26_init_5 : decode cX26_init 5 = .ok (.aload_n 1, 1) := dk_43 (dk_at dksX26_init_0 5 rfl rfl)
theorem dX26_init_6 : decode cX26_init 6 = .ok (.putfield 7, 3) := dk_181 0 7 (dk_at dksX26_init_0 6 rfl rfl)
theorem dX26_init_9 : decode cX26_init 9 = .ok (.aload_n 0, 1) := dk_42 (dk_at dksX26_init_0 9 rfl rfl)
theorem dX26_init_10 : decode cX26_init 10 = .ok (.aload_n 2, 1) := dk_44 (dk_at dksX26_init_0 10 rfl rfl)
theorem dX26_init_11 : decode cX26_init 11 = .ok (.putfield 13, 3) := dk_181 0 13 (dk_at dksX26_init_0 11 rfl rfl)
theorem dX26_init_14 : decode cX26_init 14 = .ok (.aload_n 0, 1) := dk_42 (dk_at dksX26_init_0 14 rfl rfl)
theorem dX26_init_15 : decode cX26_init 15 = .ok (.iload_n 3, 1) := dk_29 (dk_at dksX26_init_0 15 rfl rfl)
theorem dX26_init_16 : decode cX26_init 16 = .ok (.putfield 17, 3) := dk_181 0 17 (dk_at dksX26_init_0 16 rfl rfl)
theorem dX26_init_19 : decode cX26_init 19 = .ok (.aload_n 0, 1) := dk_42 (dk_at dksX26_init_0 19 rfl rfl)
theorem dX26_init_20 : decode cX26_init 20 = .ok (.aload_n 2, 1) := dk_44 (dk_at dksX26_init_0 20 rfl rfl)
theorem dX26_init_21 : decode cX26_init 21 = .ok (.iload_n 3, 1) := dk_29 (dk_at dksX26_init_0 21 rfl rfl)
theorem dX26_init_22 : decode cX26_init 22 = .ok (.invokevirtual 21, 3) := dk_182 0 21 (dk_at dksX26_init_1 0 rfl rfl)
theorem dX26_init_25 : decode cX26_init 25 = .ok (.putfield 27, 3) := dk_181 0 27 (dk_at dksX26_init_1 3 rfl rfl)
theorem dX26_init_28 : decode cX26_init 28 = .ok (.aload_n 0, 1) := dk_42 (dk_at dksX26_init_1 6 rfl rfl)
theorem dX26_init_29 : decode cX26_init 29 = .ok (.aload_n 2, 1) := dk_44 (dk_at dksX26_init_1 7 rfl rfl)
theorem dX26_init_30 : decode cX26_init 30 = .ok (.iload_n 3, 1) := dk_29 (dk_at dksX26_init_1 8 rfl rfl)
theorem dX26_init_31 : decode cX26_init 31 = .ok (.invokevirtual 29, 3) := dk_182 0 29 (dk_at dksX26_init_1 9 rfl rfl)
theorem dX26_init_34 : decode cX26_init 34 = .ok (.putfield 32, 3) := dk_181 0 32 (dk_at dksX26_init_1 12 rfl rfl)
theorem dX26_init_37 : decode cX26_init 37 = .ok (.return_, 1) := dk_177 (dk_at dksX26_init_1 15 rfl rfl)
abbrev cX26_at : ByteArray := prog_17_method_2_code
def yX26_at : MethodName := ⟨RX26, "at", "(LCardCups$State;)LCardCups$Sight;"⟩
def dkwX26_at_0 : List UInt8 := [42, 43, 181, 0, 34, 42, 176]
abbrev dktX26_at_0 : List UInt8 := dkwX26_at_0 ++ []
theorem dksX26_at_0 : cX26_at.data.toList.drop 0 = dktX26_at_0 := by decide +kernel
theorem dX26_at_0 : decode cX26_at 0 = .ok (.aload_n 0, 1) := dk_42 (dk_at dksX26_at_0 0 rfl rfl)
theorem dX26_at_1 : decode cX26_at 1 = .ok (.aload_n 1, 1) := dk_43 (dk_at dksX26_at_0 1 rfl rfl)
theorem dX26_at_2 : decode cX26_at 2 = .ok (.putfield 34, 3) := dk_181 0 34 (dk_at dksX26_at_0 2 rfl rfl)
theorem dX26_at_5 : decode cX26_at 5 = .ok (.aload_n 0, 1) := dk_42 (dk_at dksX26_at_0 5 rfl rfl)
theorem dX26_at_6 : decode cX26_at 6 = .ok (.areturn, 1) := dk_176 (dk_at dksX26_at_0 6 rfl rfl)
abbrev cX26_known : ByteArray := prog_17_method_4_code
def yX26_known : MethodName := ⟨RX26, "known", "(I)I"⟩
def dkwX26_known_5 : List UInt8 := [172, 42, 180, 0, 27, 172]
abbrev dktX26_known_5 : List UInt8 := dkwX26_known_5 ++ []
def dkwX26_known_4 : List UInt8 := [180, 0, 13, 180, 0, 43, 42, 180, 0, 17, 46, 172, 42, 180, 0, 34, 180, 0, 66, 172, 42, 180, 0, 32]
abbrev dktX26_known_4 : List UInt8 := dkwX26_known_4 ++ dktX26_known_5
def dkwX26_known_3 : List UInt8 := [180, 0, 34, 182, 0, 59, 172, 42, 180, 0, 7, 180, 0, 63, 42, 180, 0, 34, 182, 0, 59, 100, 172, 42]
abbrev dktX26_known_3 : List UInt8 := dkwX26_known_3 ++ dktX26_known_4
def dkwX26_known_2 : List UInt8 := [42, 180, 0, 34, 180, 0, 52, 172, 42, 182, 0, 55, 153, 0, 7, 4, 167, 0, 4, 3, 172, 42]
abbrev dktX26_known_2 : List UInt8 := dkwX26_known_2 ++ dktX26_known_3
def dkwX26_known_1 : List UInt8 := [170, 0, 0, 0, 0, 0, 114, 0, 0, 0, 0, 0, 0, 0, 6, 0, 0, 0, 43, 0, 0, 0, 51, 0, 0, 0, 64, 0, 0, 0, 72, 0, 0, 0, 88, 0, 0, 0, 101, 0, 0, 0, 109]
abbrev dktX26_known_1 : List UInt8 := dkwX26_known_1 ++ dktX26_known_2
def dkwX26_known_0 : List UInt8 := [27]
abbrev dktX26_known_0 : List UInt8 := dkwX26_known_0 ++ dktX26_known_1
theorem dksX26_known_0 : cX26_known.data.toList.drop 0 = dktX26_known_0 := by decide +kernel
theorem dksX26_known_1 : cX26_known.data.toList.drop 1 = dktX26_known_1 := dk_seg dksX26_known_0 1 rfl rfl
theorem dksX26_known_2 : cX26_known.data.toList.drop 44 = dktX26_known_2 := dk_seg dksX26_known_1 43 rfl rfl
theorem dksX26_known_3 : cX26_known.data.toList.drop 66 = dktX26_known_3 := dk_seg dksX26_known_2 22 rfl rfl
theorem dksX26_known_4 : cX26_known.data.toList.drop 90 = dktX26_known_4 := dk_seg dksX26_known_3 24 rfl rfl
theorem dksX26_known_5 : cX26_known.data.toList.drop 114 = dktX26_known_5 := dk_seg dksX26_known_4 24 rfl rfl
theorem dX26_known_0 : decode cX26_known 0 = .ok (.iload_n 1, 1) := dk_27 (dk_at dksX26_known_0 0 rfl rfl)
theorem dX26_known_1 : decode cX26_known 1 = .ok (.tableswitch 114 0 6 #[43, 51, 64, 72, 88, 101, 109], 43) := by decide +kernel
theorem dX26_known_44 : decode cX26_known 44 = .ok (.aload_n 0, 1) := dk_42 (dk_at dksX26_known_2 0 rfl rfl)
theorem dX26_known_45 : decode cX26_known 45 = .ok (.getfield 34, 3) := dk_180 0 34 (dk_at dksX26_known_2 1 rfl rfl)
theorem dX26_known_48 : decode cX26_known 48 = .ok (.getfield 52, 3) := dk_180 0 52 (dk_at dksX26_known_2 4 rfl rfl)
theorem dX26_known_51 : decode cX26_known 51 = .ok (.ireturn, 1) := dk_172 (dk_at dksX26_known_2 7 rfl rfl)
theorem dX26_known_52 : decode cX26_known 52 = .ok (.aload_n 0, 1) := dk_42 (dk_at dksX26_known_2 8 rfl rfl)
theorem dX26_known_53 : decode cX26_known 53 = .ok (.invokevirtual 55, 3) := dk_182 0 55 (dk_at dksX26_known_2 9 rfl rfl)
theorem dX26_known_56 : decode cX26_known 56 = .ok (.ifCond .eq 7, 3) := dk_153 0 7 (dk_at dksX26_known_2 12 rfl rfl)
theorem dX26_known_59 : decode cX26_known 59 = .ok (.iconst 1, 1) := dk_4 (dk_at dksX26_known_2 15 rfl rfl)
theorem dX26_known_60 : decode cX26_known 60 = .ok (.goto 4, 3) := dk_167 0 4 (dk_at dksX26_known_2 16 rfl rfl)
theorem dX26_known_63 : decode cX26_known 63 = .ok (.iconst 0, 1) := dk_3 (dk_at dksX26_known_2 19 rfl rfl)
theorem dX26_known_64 : decode cX26_known 64 = .ok (.ireturn, 1) := dk_172 (dk_at dksX26_known_2 20 rfl rfl)
theorem dX26_known_65 : decode cX26_known 65 = .ok (.aload_n 0, 1) := dk_42 (dk_at dksX26_known_2 21 rfl rfl)
theorem dX26_known_66 : decode cX26_known 66 = .ok (.getfield 34, 3) := dk_180 0 34 (dk_at dksX26_known_3 0 rfl rfl)
theorem dX26_known_69 : decode cX26_known 69 = .ok (.invokevirtual 59, 3) := dk_182 0 59 (dk_at dksX26_known_3 3 rfl rfl)
theorem dX26_known_72 : decode cX26_known 72 = .ok (.ireturn, 1) := dk_172 (dk_at dksX26_known_3 6 rfl rfl)
theorem dX26_known_73 : decode cX26_known 73 = .ok (.aload_n 0, 1) := dk_42 (dk_at dksX26_known_3 7 rfl rfl)
theorem dX26_known_74 : decode cX26_known 74 = .ok (.getfield 7, 3) := dk_180 0 7 (dk_at dksX26_known_3 8 rfl rfl)
theorem dX26_known_77 : decode cX26_known 77 = .ok (.getfield 63, 3) := dk_180 0 63 (dk_at dksX26_known_3 11 rfl rfl)
theorem dX26_known_80 : decode cX26_known 80 = .ok (.aload_n 0, 1) := dk_42 (dk_at dksX26_known_3 14 rfl rfl)
theorem dX26_known_81 : decode cX26_known 81 = .ok (.getfield 34, 3) := dk_180 0 34 (dk_at dksX26_known_3 15 rfl rfl)
theorem dX26_known_84 : decode cX26_known 84 = .ok (.invokevirtual 59, 3) := dk_182 0 59 (dk_at dksX26_known_3 18 rfl rfl)
theorem dX26_known_87 : decode cX26_known 87 = .ok (.isub, 1) := dk_100 (dk_at dksX26_known_3 21 rfl rfl)
theorem dX26_known_88 : decode cX26_known 88 = .ok (.ireturn, 1) := dk_172 (dk_at dksX26_known_3 22 rfl rfl)
theorem dX26_known_89 : decode cX26_known 89 = .ok (.aload_n 0, 1) := dk_42 (dk_at dksX26_known_3 23 rfl rfl)
theorem dX26_known_90 : decode cX26_known 90 = .ok (.getfield 13, 3) := dk_180 0 13 (dk_at dksX26_known_4 0 rfl rfl)
theorem dX26_known_93 : decode cX26_known 93 = .ok (.getfield 43, 3) := dk_180 0 43 (dk_at dksX26_known_4 3 rfl rfl)
theorem dX26_known_96 : decode cX26_known 96 = .ok (.aload_n 0, 1) := dk_42 (dk_at dksX26_known_4 6 rfl rfl)
theorem dX26_known_97 : decode cX26_known 97 = .ok (.getfield 17, 3) := dk_180 0 17 (dk_at dksX26_known_4 7 rfl rfl)
theorem dX26_known_100 : decode cX26_known 100 = .ok (.iaload, 1) := dk_46 (dk_at dksX26_known_4 10 rfl rfl)
theorem dX26_known_101 : decode cX26_known 101 = .ok (.ireturn, 1) := dk_172 (dk_at dksX26_known_4 11 rfl rfl)
theorem dX26_known_102 : decode cX26_known 102 = .ok (.aload_n 0, 1) := dk_42 (dk_at dksX26_known_4 12 rfl rfl)
theorem dX26_known_103 : decode cX26_known 103 = .ok (.getfield 34, 3) := dk_180 0 34 (dk_at dksX26_known_4 13 rfl rfl)
theorem dX26_known_106 : decode cX26_known 106 = .ok (.getfield 66, 3) := dk_180 0 66 (dk_at dksX26_known_4 16 rfl rfl)
theorem dX26_known_109 : decode cX26_known 109 = .ok (.ireturn, 1) := dk_172 (dk_at dksX26_known_4 19 rfl rfl)
theorem dX26_known_110 : decode cX26_known 110 = .ok (.aload_n 0, 1) := dk_42 (dk_at dksX26_known_4 20 rfl rfl)
theorem dX26_known_111 : decode cX26_known 111 = .ok (.getfield 32, 3) := dk_180 0 32 (dk_at dksX26_known_4 21 rfl rfl)
theorem dX26_known_114 : decode cX26_known 114 = .ok (.ireturn, 1) := dk_172 (dk_at dksX26_known_5 0 rfl rfl)
theorem dX26_known_115 : decode cX26_known 115 = .ok (.aload_n 0, 1) := dk_42 (dk_at dksX26_known_5 1 rfl rfl)
theorem dX26_known_116 : decode cX26_known 116 = .ok (.getfield 27, 3) := dk_180 0 27 (dk_at dksX26_known_5 2 rfl rfl)
theorem dX26_known_119 : decode cX26_known 119 = .ok (.ireturn, 1) := dk_172 (dk_at dksX26_known_5 5 rfl rfl)
abbrev cX26_isWarm : ByteArray := prog_17_method_3_code
def yX26_isWarm : MethodName := ⟨RX26, "isWarm", "()Z"⟩
def dkwX26_isWarm_2 : List UInt8 := [162, 0, 7, 4, 167, 0, 4, 3, 172]
abbrev dktX26_isWarm_2 : List UInt8 := dkwX26_isWarm_2 ++ []
def dkwX26_isWarm_1 : List UInt8 := [180, 0, 13, 180, 0, 43, 42, 180, 0, 34, 180, 0, 38, 4, 100, 46, 100, 42, 180, 0, 7, 180, 0, 47]
abbrev dktX26_isWarm_1 : List UInt8 := dkwX26_isWarm_1 ++ dktX26_isWarm_2
def dkwX26_isWarm_0 : List UInt8 := [42, 180, 0, 34, 180, 0, 38, 158, 0, 47, 42, 180, 0, 13, 180, 0, 43, 42, 180, 0, 17, 46, 42]
abbrev dktX26_isWarm_0 : List UInt8 := dkwX26_isWarm_0 ++ dktX26_isWarm_1
theorem dksX26_isWarm_0 : cX26_isWarm.data.toList.drop 0 = dktX26_isWarm_0 := by decide +kernel
theorem dksX26_isWarm_1 : cX26_isWarm.data.toList.drop 23 = dktX26_isWarm_1 := dk_seg dksX26_isWarm_0 23 rfl rfl
theorem dksX26_isWarm_2 : cX26_isWarm.data.toList.drop 47 = dktX26_isWarm_2 := dk_seg dksX26_isWarm_1 24 rfl rfl
theorem dX26_isWarm_0 : decode cX26_isWarm 0 = .ok (.aload_n 0, 1) := dk_42 (dk_at dksX26_isWarm_0 0 rfl rfl)
theorem dX26_isWarm_1 : decode cX26_isWarm 1 = .ok (.getfield 34, 3) := dk_180 0 34 (dk_at dksX26_isWarm_0 1 rfl rfl)
theorem dX26_isWarm_4 : decode cX26_isWarm 4 = .ok (.getfield 38, 3) := dk_180 0 38 (dk_at dksX26_isWarm_0 4 rfl rfl)
theorem dX26_isWarm_7 : decode cX26_isWarm 7 = .ok (.ifCond .le 47, 3) := dk_158 0 47 (dk_at dksX26_isWarm_0 7 rfl rfl)
theorem dX26_isWarm_10 : decode cX26_isWarm 10 = .ok (.aload_n 0, 1) := dk_42 (dk_at dksX26_isWarm_0 10 rfl rfl)
theorem dX26_isWarm_11 : decode cX26_isWarm 11 = .ok (.getfield 13, 3) := dk_180 0 13 (dk_at dksX26_isWarm_0 11 rfl rfl)
theorem dX26_isWarm_14 : decode cX26_isWarm 14 = .ok (.getfield 43, 3) := dk_180 0 43 (dk_at dksX26_isWarm_0 14 rfl rfl)
theorem dX26_isWarm_17 : decode cX26_isWarm 17 = .ok (.aload_n 0, 1) := dk_42 (dk_at dksX26_isWarm_0 17 rfl rfl)
theorem dX26_isWarm_18 : decode cX26_isWarm 18 = .ok (.getfield 17, 3) := dk_180 0 17 (dk_at dksX26_isWarm_0 18 rfl rfl)
theorem dX26_isWarm_21 : decode cX26_isWarm 21 = .ok (.iaload, 1) := dk_46 (dk_at dksX26_isWarm_0 21 rfl rfl)
theorem dX26_isWarm_22 : decode cX26_isWarm 22 = .ok (.aload_n 0, 1) := dk_42 (dk_at dksX26_isWarm_0 22 rfl rfl)
theorem dX26_isWarm_23 : decode cX26_isWarm 23 = .ok (.getfield 13, 3) := dk_180 0 13 (dk_at dksX26_isWarm_1 0 rfl rfl)
theorem dX26_isWarm_26 : decode cX26_isWarm 26 = .ok (.getfield 43, 3) := dk_180 0 43 (dk_at dksX26_isWarm_1 3 rfl rfl)
theorem dX26_isWarm_29 : decode cX26_isWarm 29 = .ok (.aload_n 0, 1) := dk_42 (dk_at dksX26_isWarm_1 6 rfl rfl)
theorem dX26_isWarm_30 : decode cX26_isWarm 30 = .ok (.getfield 34, 3) := dk_180 0 34 (dk_at dksX26_isWarm_1 7 rfl rfl)
theorem dX26_isWarm_33 : decode cX26_isWarm 33 = .ok (.getfield 38, 3) := dk_180 0 38 (dk_at dksX26_isWarm_1 10 rfl rfl)
theorem dX26_isWarm_36 : decode cX26_isWarm 36 = .ok (.iconst 1, 1) := dk_4 (dk_at dksX26_isWarm_1 13 rfl rfl)
theorem dX26_isWarm_37 : decode cX26_isWarm 37 = .ok (.isub, 1) := dk_100 (dk_at dksX26_isWarm_1 14 rfl rfl)
theorem dX26_isWarm_38 : decode cX26_isWarm 38 = .ok (.iaload, 1) := dk_46 (dk_at dksX26_isWarm_1 15 rfl rfl)
theorem dX26_isWarm_39 : decode cX26_isWarm 39 = .ok (.isub, 1) := dk_100 (dk_at dksX26_isWarm_1 16 rfl rfl)
theorem dX26_isWarm_40 : decode cX26_isWarm 40 = .ok (.aload_n 0, 1) := dk_42 (dk_at dksX26_isWarm_1 17 rfl rfl)
theorem dX26_isWarm_41 : decode cX26_isWarm 41 = .ok (.getfield 7, 3) := dk_180 0 7 (dk_at dksX26_isWarm_1 18 rfl rfl)
theorem dX26_isWarm_44 : decode cX26_isWarm 44 = .ok (.getfield 47, 3) := dk_180 0 47 (dk_at dksX26_isWarm_1 21 rfl rfl)
theorem dX26_isWarm_47 : decode cX26_isWarm 47 = .ok (.if_icmp .ge 7, 3) := dk_162 0 7 (dk_at dksX26_isWarm_2 0 rfl rfl)
theorem dX26_isWarm_50 : decode cX26_isWarm 50 = .ok (.iconst 1, 1) := dk_4 (dk_at dksX26_isWarm_2 3 rfl rfl)
theorem dX26_isWarm_51 : decode cX26_isWarm 51 = .ok (.goto 4, 3) := dk_167 0 4 (dk_at dksX26_isWarm_2 4 rfl rfl)
theorem dX26_isWarm_54 : decode cX26_isWarm 54 = .ok (.iconst 0, 1) := dk_3 (dk_at dksX26_isWarm_2 7 rfl rfl)
theorem dX26_isWarm_55 : decode cX26_isWarm 55 = .ok (.ireturn, 1) := dk_172 (dk_at dksX26_isWarm_2 8 rfl rfl)
theorem q144 : (Jvm.Cond.initialized "CardCups$Sight") ∈ lw_all := lw_g (lw_at lw_m1 37 rfl) rfl
theorem q164 : (Jvm.Cond.fieldLinkNest "CardCups$Sight" (43 : Nat) "CardCups$Calendar" "minute" "[I" "CardCups") ∈ lw_tbl := lw_at lw_m1 57 rfl
theorem q198 : (Jvm.Cond.fieldLinkNest "CardCups$Sight" (38 : Nat) "CardCups$State" "slot" "I" "CardCups") ∈ lw_tbl := lw_at lw_m1 91 rfl
theorem q216 : (Jvm.Cond.fieldLinkNest "CardCups$Sight" (52 : Nat) "CardCups$State" "card" "I" "CardCups") ∈ lw_tbl := lw_at lw_m1 109 rfl
theorem q223 : (Jvm.Cond.fieldLinkNest "CardCups$Sight" (66 : Nat) "CardCups$State" "seen" "I" "CardCups") ∈ lw_tbl := lw_at lw_m1 116 rfl
theorem q381 : (Jvm.Cond.fieldLinkNest "CardCups$Sight" (63 : Nat) "CardCups$Office" "cups" "I" "CardCups") ∈ lw_tbl := lw_at lw_m2 34 rfl
theorem q401 : (Jvm.Cond.fieldLinkNest "CardCups$Sight" (47 : Nat) "CardCups$Office" "warm" "I" "CardCups") ∈ lw_tbl := lw_at lw_m2 54 rfl
theorem q545 : (Jvm.Cond.instantiable "CardCups$Sight" (6 : Nat)) ∈ lw_all := lw_g (lw_at lw_m2 198 rfl) rfl
theorem q547 : (Jvm.Cond.instanceMethod ({ cls := "CardCups$Sight", name := "<init>", desc := "(LCardCups$Office;LCardCups$Calendar;I)V" } : Jvm.MethodName)) ∈ lw_all := lw_g (lw_at lw_m2 200 rfl) rfl
theorem q548 : (Jvm.Cond.code ({ cls := "CardCups$Sight", name := "<init>", desc := "(LCardCups$Office;LCardCups$Calendar;I)V" } : Jvm.MethodName) prog_17_method_1_code (4 : Nat) (Option.none : Option Jvm.ClassFile.FieldType)) ∈ lw_all := lw_g (lw_at lw_m2 201 rfl) rfl
theorem q549 : (Jvm.Cond.methodLink "CardCups$Sight" (1 : Nat) ({ cls := "java/lang/Object", name := "<init>", desc := "()V" } : Jvm.MethodName)) ∈ lw_all := lw_g (lw_at lw_m2 202 rfl) rfl
theorem q550 : (Jvm.Cond.methodLink "CardCups$Sight" (21 : Nat) ({ cls := "CardCups$Calendar", name := "count", desc := "(I)I" } : Jvm.MethodName)) ∈ lw_all := lw_g (lw_at lw_m2 203 rfl) rfl
theorem q554 : (Jvm.Cond.methodLink "CardCups$Sight" (29 : Nat) ({ cls := "CardCups$Calendar", name := "last", desc := "(I)I" } : Jvm.MethodName)) ∈ lw_all := lw_g (lw_at lw_m2 207 rfl) rfl
theorem q558 : (Jvm.Cond.fieldLink "CardCups$Sight" (7 : Nat) "CardCups$Sight" "office" "LCardCups$Office;") ∈ lw_all := lw_g (lw_at lw_m2 211 rfl) rfl
theorem q559 : (Jvm.Cond.fieldLink "CardCups$Sight" (13 : Nat) "CardCups$Sight" "calendar" "LCardCups$Calendar;") ∈ lw_all := lw_g (lw_at lw_m2 212 rfl) rfl
theorem q560 : (Jvm.Cond.fieldLink "CardCups$Sight" (17 : Nat) "CardCups$Sight" "visit" "I") ∈ lw_all := lw_g (lw_at lw_m2 213 rfl) rfl
theorem q562 : (Jvm.Cond.fieldLink "CardCups$Sight" (27 : Nat) "CardCups$Sight" "count" "I") ∈ lw_all := lw_g (lw_at lw_m2 215 rfl) rfl
theorem q563 : (Jvm.Cond.fieldLink "CardCups$Sight" (32 : Nat) "CardCups$Sight" "last" "I") ∈ lw_all := lw_g (lw_at lw_m2 216 rfl) rfl
theorem q564 : (Jvm.Cond.fieldLink "CardCups$Sight" (34 : Nat) "CardCups$Sight" "state" "LCardCups$State;") ∈ lw_all := lw_g (lw_at lw_m2 217 rfl) rfl
theorem q565 : (Jvm.Cond.laysFinal "CardCups$Sight" "CardCups$Sight" "office" "LCardCups$Office;") ∈ lw_all := lw_g (lw_at lw_m2 218 rfl) rfl
theorem q566 : (Jvm.Cond.soleField "CardCups$Sight" "office") ∈ lw_all := lw_g (lw_at lw_m2 219 rfl) rfl
theorem q567 : (Jvm.Cond.laysFinal "CardCups$Sight" "CardCups$Sight" "calendar" "LCardCups$Calendar;") ∈ lw_all := lw_g (lw_at lw_m2 220 rfl) rfl
theorem q568 : (Jvm.Cond.soleField "CardCups$Sight" "calendar") ∈ lw_all := lw_g (lw_at lw_m2 221 rfl) rfl
theorem q569 : (Jvm.Cond.laysFinal "CardCups$Sight" "CardCups$Sight" "visit" "I") ∈ lw_all := lw_g (lw_at lw_m2 222 rfl) rfl
theorem q570 : (Jvm.Cond.soleField "CardCups$Sight" "visit") ∈ lw_all := lw_g (lw_at lw_m2 223 rfl) rfl
theorem q571 : (Jvm.Cond.laysFinal "CardCups$Sight" "CardCups$Sight" "count" "I") ∈ lw_all := lw_g (lw_at lw_m2 224 rfl) rfl
theorem q572 : (Jvm.Cond.soleField "CardCups$Sight" "count") ∈ lw_all := lw_g (lw_at lw_m2 225 rfl) rfl
theorem q573 : (Jvm.Cond.laysFinal "CardCups$Sight" "CardCups$Sight" "last" "I") ∈ lw_all := lw_g (lw_at lw_m2 226 rfl) rfl
theorem q574 : (Jvm.Cond.soleField "CardCups$Sight" "last") ∈ lw_all := lw_g (lw_at lw_m2 227 rfl) rfl
theorem q575 : (Jvm.Cond.lays "CardCups$Sight" "CardCups$Sight" "state" "LCardCups$State;") ∈ lw_all := lw_g (lw_at lw_m2 228 rfl) rfl
theorem q576 : (Jvm.Cond.soleField "CardCups$Sight" "state") ∈ lw_all := lw_g (lw_at lw_m2 229 rfl) rfl
theorem q577 : (Jvm.Cond.superclass "CardCups$Sight" "java/lang/Object") ∈ lw_all := lw_g (lw_at lw_m2 230 rfl) rfl
theorem q603 : (Jvm.Cond.instanceMethod ({ cls := "CardCups$Sight", name := "at", desc := "(LCardCups$State;)LCardCups$Sight;" } : Jvm.MethodName)) ∈ lw_all := lw_g (lw_at lw_m3 16 rfl) rfl
theorem q604 : (Jvm.Cond.selects "CardCups$Sight" ({ cls := "CardCups$Sight", name := "at", desc := "(LCardCups$State;)LCardCups$Sight;" } : Jvm.MethodName) ({ cls := "CardCups$Sight", name := "at", desc := "(LCardCups$State;)LCardCups$Sight;" } : Jvm.MethodName)) ∈ lw_all := lw_g (lw_at lw_m3 17 rfl) rfl
theorem q605 : (Jvm.Cond.code ({ cls := "CardCups$Sight", name := "at", desc := "(LCardCups$State;)LCardCups$Sight;" } : Jvm.MethodName) prog_17_method_2_code (2 : Nat) (Option.some (Jvm.ClassFile.FieldType.object "CardCups$Sight"))) ∈ lw_all := lw_g (lw_at lw_m3 18 rfl) rfl
theorem q611 : (Jvm.Cond.instanceMethod ({ cls := "CardCups$Sight", name := "known", desc := "(I)I" } : Jvm.MethodName)) ∈ lw_all := lw_g (lw_at lw_m3 24 rfl) rfl
theorem q612 : (Jvm.Cond.selects "CardCups$Sight" ({ cls := "CardCups$Sight", name := "known", desc := "(I)I" } : Jvm.MethodName) ({ cls := "CardCups$Sight", name := "known", desc := "(I)I" } : Jvm.MethodName)) ∈ lw_all := lw_g (lw_at lw_m3 25 rfl) rfl
theorem q613 : (Jvm.Cond.code ({ cls := "CardCups$Sight", name := "known", desc := "(I)I" } : Jvm.MethodName) prog_17_method_4_code (2 : Nat) (Option.some Jvm.ClassFile.FieldType.int)) ∈ lw_all := lw_g (lw_at lw_m3 26 rfl) rfl
theorem q614 : (Jvm.Cond.methodLink "CardCups$Sight" (55 : Nat) ({ cls := "CardCups$Sight", name := "isWarm", desc := "()Z" } : Jvm.MethodName)) ∈ lw_all := lw_g (lw_at lw_m3 27 rfl) rfl
theorem q615 : (Jvm.Cond.instanceMethod ({ cls := "CardCups$Sight", name := "isWarm", desc := "()Z" } : Jvm.MethodName)) ∈ lw_all := lw_g (lw_at lw_m3 28 rfl) rfl
theorem q616 : (Jvm.Cond.selects "CardCups$Sight" ({ cls := "CardCups$Sight", name := "isWarm", desc := "()Z" } : Jvm.MethodName) ({ cls := "CardCups$Sight", name := "isWarm", desc := "()Z" } : Jvm.MethodName)) ∈ lw_all := lw_g (lw_at lw_m3 29 rfl) rfl
theorem q617 : (Jvm.Cond.code ({ cls := "CardCups$Sight", name := "isWarm", desc := "()Z" } : Jvm.MethodName) prog_17_method_3_code (1 : Nat) (Option.some Jvm.ClassFile.FieldType.boolean)) ∈ lw_all := lw_g (lw_at lw_m3 30 rfl) rfl
theorem q618 : (Jvm.Cond.methodLink "CardCups$Sight" (59 : Nat) ({ cls := "CardCups$State", name := "in", desc := "()I" } : Jvm.MethodName)) ∈ lw_all := lw_g (lw_at lw_m3 31 rfl) rfl
theorem q2507 : (Jvm.Cond.castable "CardCups$Sight" "java/lang/Object") ∈ lw_tbl := lw_at lw_m11 0 rfl
theorem in_X26 : ∀ w ∈ wsX260, w ∈ lw_all := lw_in wsX260 [565, 567, 569, 571, 573, 575] (by decide +kernel) (by decide +kernel)
/-! CardCups$State -/
set_option maxRecDepth 100000
def RX4 : String := "CardCups$State"
def TX4 : u_T := fun k => match k with
  | 0 => ("CardCups$State", "slot", "I", false)
  | 1 => ("CardCups$State", "clean", "I", false)
  | 2 => ("CardCups$State", "dirty", "I", false)
  | 3 => ("CardCups$State", "card", "I", false)
  | _ => ("CardCups$State", "seen", "I", false)
def tyX4 : Nat → FieldType := fun k => match k with
  | 0 => .int
  | 1 => .int
  | 2 => .int
  | 3 => .int
  | _ => .int
abbrev wsX40 : List Cond := u_ws RX4 TX4 5
theorem nmX4 : ∀ a, a < 5 → ∀ b, b < 5 → a ≠ b → (TX4 a).2.1 ≠ (TX4 b).2.1 := by decide +kernel
theorem tyX4_ok : ∀ k, k < 5 → parseFieldDescriptor (TX4 k).2.2.1 = some (tyX4 k) := by decide +kernel
abbrev cX4_init : ByteArray := prog_19_method_1_code
def yX4_init : MethodName := ⟨RX4, "<init>", "()V"⟩
theorem dX4_init_0 : decode cX4_init 0 = .ok (.aload_n 0, 1) := by decide +kernel
theorem dX4_init_1 : decode cX4_init 1 = .ok (.invokespecial 5, 3) := by decide +kernel
theorem dX4_init_4 : decode cX4_init 4 = .ok (.return_, 1) := by decide +kernel
abbrev cX4_codeOf : ByteArray := prog_19_method_2_code
def yX4_codeOf : MethodName := ⟨RX4, "codeOf", "(IIIII)I"⟩
def dkwX4_codeOf_0 : List UInt8 := [26, 16, 13, 104, 27, 96, 16, 13, 104, 28, 96, 5, 104, 29, 96, 5, 104, 21, 4, 96, 172]
abbrev dktX4_codeOf_0 : List UInt8 := dkwX4_codeOf_0 ++ []
theorem dksX4_codeOf_0 : cX4_codeOf.data.toList.drop 0 = dktX4_codeOf_0 := by decide +kernel
theorem dX4_codeOf_0 : decode cX4_codeOf 0 = .ok (.iload_n 0, 1) := dk_26 (dk_at dksX4_codeOf_0 0 rfl rfl)
theorem dX4_codeOf_1 : decode cX4_codeOf 1 = .ok (.bipush 13, 2) := dk_16 13 (dk_at dksX4_codeOf_0 1 rfl rfl)
theorem dX4_codeOf_3 : decode cX4_codeOf 3 = .ok (.imul, 1) := dk_104 (dk_at dksX4_codeOf_0 3 rfl rfl)
theorem dX4_codeOf_4 : decode cX4_codeOf 4 = .ok (.iload_n 1, 1) := dk_27 (dk_at dksX4_codeOf_0 4 rfl rfl)
theorem dX4_codeOf_5 : decode cX4_codeOf 5 = .ok (.iadd, 1) := dk_96 (dk_at dksX4_codeOf_0 5 rfl rfl)
theorem dX4_codeOf_6 : decode cX4_codeOf 6 = .ok (.bipush 13, 2) := dk_16 13 (dk_at dksX4_codeOf_0 6 rfl rfl)
theorem dX4_codeOf_8 : decode cX4_codeOf 8 = .ok (.imul, 1) := dk_104 (dk_at dksX4_codeOf_0 8 rfl rfl)
theorem dX4_codeOf_9 : decode cX4_codeOf 9 = .ok (.iload_n 2, 1) := dk_28 (dk_at dksX4_codeOf_0 9 rfl rfl)
theorem dX4_codeOf_10 : decode cX4_codeOf 10 = .ok (.iadd, 1) := dk_96 (dk_at dksX4_codeOf_0 10 rfl rfl)
theorem dX4_codeOf_11 : decode cX4_codeOf 11 = .ok (.iconst 2, 1) := dk_5 (dk_at dksX4_codeOf_0 11 rfl rfl)
theorem dX4_codeOf_12 : decode cX4_codeOf 12 = .ok (.imul, 1) := dk_104 (dk_at dksX4_codeOf_0 12 rfl rfl)
theorem dX4_codeOf_13 : decode cX4_codeOf 13 = .ok (.iload_n 3, 1) := dk_29 (dk_at dksX4_codeOf_0 13 rfl rfl)
theorem dX4_codeOf_14 : decode cX4_codeOf 14 = .ok (.iadd, 1) := dk_96 (dk_at dksX4_codeOf_0 14 rfl rfl)
theorem dX4_codeOf_15 : decode cX4_codeOf 15 = .ok (.iconst 2, 1) := dk_5 (dk_at dksX4_codeOf_0 15 rfl rfl)
theorem dX4_codeOf_16 : decode cX4_codeOf 16 = .ok (.imul, 1) := dk_104 (dk_at dksX4_codeOf_0 16 rfl rfl)
theorem dX4_codeOf_17 : decode cX4_codeOf 17 = .ok (.iload 4, 2) := dk_21 4 (dk_at dksX4_codeOf_0 17 rfl rfl)
theorem dX4_codeOf_19 : decode cX4_codeOf 19 = .ok (.iadd, 1) := dk_96 (dk_at dksX4_codeOf_0 19 rfl rfl)
theorem dX4_codeOf_20 : decode cX4_codeOf 20 = .ok (.ireturn, 1) := dk_172 (dk_at dksX4_codeOf_0 20 rfl rfl)
abbrev cX4_of : ByteArray := prog_19_method_4_code
def yX4_of : MethodName := ⟨RX4, "of", "(I)LCardCups$State;"⟩
def dkwX4_of_2 : List UInt8 := [181, 0, 11, 42, 176]
abbrev dktX4_of_2 : List UInt8 := dkwX4_of_2 ++ []
def dkwX4_of_1 : List UInt8 := [112, 181, 0, 18, 42, 28, 16, 13, 108, 16, 13, 112, 181, 0, 15, 42, 28, 16, 13, 108, 16, 13, 108]
abbrev dktX4_of_1 : List UInt8 := dkwX4_of_1 ++ dktX4_of_2
def dkwX4_of_0 : List UInt8 := [42, 27, 4, 126, 181, 0, 24, 42, 27, 4, 122, 4, 126, 181, 0, 21, 27, 5, 122, 61, 42, 28, 16, 13]
abbrev dktX4_of_0 : List UInt8 := dkwX4_of_0 ++ dktX4_of_1
theorem dksX4_of_0 : cX4_of.data.toList.drop 0 = dktX4_of_0 := by decide +kernel
theorem dksX4_of_1 : cX4_of.data.toList.drop 24 = dktX4_of_1 := dk_seg dksX4_of_0 24 rfl rfl
theorem dksX4_of_2 : cX4_of.data.toList.drop 47 = dktX4_of_2 := dk_seg dksX4_of_1 23 rfl rfl
theorem dX4_of_0 : decode cX4_of 0 = .ok (.aload_n 0, 1) := dk_42 (dk_at dksX4_of_0 0 rfl rfl)
theorem dX4_of_1 : decode cX4_of 1 = .ok (.iload_n 1, 1) := dk_27 (dk_at dksX4_of_0 1 rfl rfl)
theorem dX4_of_2 : decode cX4_of 2 = .ok (.iconst 1, 1) := dk_4 (dk_at dksX4_of_0 2 rfl rfl)
theorem dX4_of_3 : decode cX4_of 3 = .ok (.iand, 1) := dk_126 (dk_at dksX4_of_0 3 rfl rfl)
theorem dX4_of_4 : decode cX4_of 4 = .ok (.putfield 24, 3) := dk_181 0 24 (dk_at dksX4_of_0 4 rfl rfl)
theorem dX4_of_7 : decode cX4_of 7 = .ok (.aload_n 0, 1) := dk_42 (dk_at dksX4_of_0 7 rfl rfl)
theorem dX4_of_8 : decode cX4_of 8 = .ok (.iload_n 1, 1) := dk_27 (dk_at dksX4_of_0 8 rfl rfl)
theorem dX4_of_9 : decode cX4_of 9 = .ok (.iconst 1, 1) := dk_4 (dk_at dksX4_of_0 9 rfl rfl)
theorem dX4_of_10 : decode cX4_of 10 = .ok (.ishr, 1) := dk_122 (dk_at dksX4_of_0 10 rfl rfl)
theorem dX4_of_11 : decode cX4_of 11 = .ok (.iconst 1, 1) := dk_4 (dk_at dksX4_of_0 11 rfl rfl)
theorem dX4_of_12 : decode cX4_of 12 = .ok (.iand, 1) := dk_126 (dk_at dksX4_of_0 12 rfl rfl)
theorem dX4_of_13 : decode cX4_of 13 = .ok (.putfield 21, 3) := dk_181 0 21 (dk_at dksX4_of_0 13 rfl rfl)
theorem dX4_of_16 : decode cX4_of 16 = .ok (.iload_n 1, 1) := dk_27 (dk_at dksX4_of_0 16 rfl rfl)
theorem dX4_of_17 : decode cX4_of 17 = .ok (.iconst 2, 1) := dk_5 (dk_at dksX4_of_0 17 rfl rfl)
theorem dX4_of_18 : decode cX4_of 18 = .ok (.ishr, 1) := dk_122 (dk_at dksX4_of_0 18 rfl rfl)
theorem dX4_of_19 : decode cX4_of 19 = .ok (.istore_n 2, 1) := dk_61 (dk_at dksX4_of_0 19 rfl rfl)
theorem dX4_of_20 : decode cX4_of 20 = .ok (.aload_n 0, 1) := dk_42 (dk_at dksX4_of_0 20 rfl rfl)
theorem dX4_of_21 : decode cX4_of 21 = .ok (.iload_n 2, 1) := dk_28 (dk_at dksX4_of_0 21 rfl rfl)
theorem dX4_of_22 : decode cX4_of 22 = .ok (.bipush 13, 2) := dk_16 13 (dk_at dksX4_of_0 22 rfl rfl)
theorem dX4_of_24 : decode cX4_of 24 = .ok (.irem, 1) := dk_112 (dk_at dksX4_of_1 0 rfl rfl)
theorem dX4_of_25 : decode cX4_of 25 = .ok (.putfield 18, 3) := dk_181 0 18 (dk_at dksX4_of_1 1 rfl rfl)
theorem dX4_of_28 : decode cX4_of 28 = .ok (.aload_n 0, 1) := dk_42 (dk_at dksX4_of_1 4 rfl rfl)
theorem dX4_of_29 : decode cX4_of 29 = .ok (.iload_n 2, 1) := dk_28 (dk_at dksX4_of_1 5 rfl rfl)
theorem dX4_of_30 : decode cX4_of 30 = .ok (.bipush 13, 2) := dk_16 13 (dk_at dksX4_of_1 6 rfl rfl)
theorem dX4_of_32 : decode cX4_of 32 = .ok (.idiv, 1) := dk_108 (dk_at dksX4_of_1 8 rfl rfl)
theorem dX4_of_33 : decode cX4_of 33 = .ok (.bipush 13, 2) := dk_16 13 (dk_at dksX4_of_1 9 rfl rfl)
theorem dX4_of_35 : decode cX4_of 35 = .ok (.irem, 1) := dk_112 (dk_at dksX4_of_1 11 rfl rfl)
theorem dX4_of_36 : decode cX4_of 36 = .ok (.putfield 15, 3) := dk_181 0 15 (dk_at dksX4_of_1 12 rfl rfl)
theorem dX4_of_39 : decode cX4_of 39 = .ok (.aload_n 0, 1) := dk_42 (dk_at dksX4_of_1 15 rfl rfl)
theorem dX4_of_40 : decode cX4_of 40 = .ok (.iload_n 2, 1) := dk_28 (dk_at dksX4_of_1 16 rfl rfl)
theorem dX4_of_41 : decode cX4_of 41 = .ok (.bipush 13, 2) := dk_16 13 (dk_at dksX4_of_1 17 rfl rfl)
theorem dX4_of_43 : decode cX4_of 43 = .ok (.idiv, 1) := dk_108 (dk_at dksX4_of_1 19 rfl rfl)
theorem dX4_of_44 : decode cX4_of 44 = .ok (.bipush 13, 2) := dk_16 13 (dk_at dksX4_of_1 20 rfl rfl)
theorem dX4_of_46 : decode cX4_of 46 = .ok (.idiv, 1) := dk_108 (dk_at dksX4_of_1 22 rfl rfl)
theorem dX4_of_47 : decode cX4_of 47 = .ok (.putfield 11, 3) := dk_181 0 11 (dk_at dksX4_of_2 0 rfl rfl)
theorem dX4_of_50 : decode cX4_of 50 = .ok (.aload_n 0, 1) := dk_42 (dk_at dksX4_of_2 3 rfl rfl)
theorem dX4_of_51 : decode cX4_of 51 = .ok (.areturn, 1) := dk_176 (dk_at dksX4_of_2 4 rfl rfl)
abbrev cX4_in : ByteArray := prog_19_method_5_code
def yX4_in : MethodName := ⟨RX4, "in", "()I"⟩
def dkwX4_in_0 : List UInt8 := [42, 180, 0, 15, 42, 180, 0, 18, 96, 172]
abbrev dktX4_in_0 : List UInt8 := dkwX4_in_0 ++ []
theorem dksX4_in_0 : cX4_in.data.toList.drop 0 = dktX4_in_0 := by decide +kernel
theorem dX4_in_0 : decode cX4_in 0 = .ok (.aload_n 0, 1) := dk_42 (dk_at dksX4_in_0 0 rfl rfl)
theorem dX4_in_1 : decode cX4_in 1 = .ok (.getfield 15, 3) := dk_180 0 15 (dk_at dksX4_in_0 1 rfl rfl)
theorem dX4_in_4 : decode cX4_in 4 = .ok (.aload_n 0, 1) := dk_42 (dk_at dksX4_in_0 4 rfl rfl)
theorem dX4_in_5 : decode cX4_in 5 = .ok (.getfield 18, 3) := dk_180 0 18 (dk_at dksX4_in_0 5 rfl rfl)
theorem dX4_in_8 : decode cX4_in 8 = .ok (.iadd, 1) := dk_96 (dk_at dksX4_in_0 8 rfl rfl)
theorem dX4_in_9 : decode cX4_in 9 = .ok (.ireturn, 1) := dk_172 (dk_at dksX4_in_0 9 rfl rfl)
abbrev cX4_code : ByteArray := prog_19_method_3_code
def yX4_code : MethodName := ⟨RX4, "code", "()I"⟩
def dkwX4_code_0 : List UInt8 := [42, 180, 0, 11, 42, 180, 0, 15, 42, 180, 0, 18, 42, 180, 0, 21, 42, 180, 0, 24, 184, 0, 27, 172]
abbrev dktX4_code_0 : List UInt8 := dkwX4_code_0 ++ []
theorem dksX4_code_0 : cX4_code.data.toList.drop 0 = dktX4_code_0 := by decide +kernel
theorem dX4_code_0 : decode cX4_code 0 = .ok (.aload_n 0, 1) := dk_42 (dk_at dksX4_code_0 0 rfl rfl)
theorem dX4_code_1 : decode cX4_code 1 = .ok (.getfield 11, 3) := dk_180 0 11 (dk_at dksX4_code_0 1 rfl rfl)
theorem dX4_code_4 : decode cX4_code 4 = .ok (.aload_n 0, 1) := dk_42 (dk_at dksX4_code_0 4 rfl rfl)
theorem dX4_code_5 : decode cX4_code 5 = .ok (.getfield 15, 3) := dk_180 0 15 (dk_at dksX4_code_0 5 rfl rfl)
theorem dX4_code_8 : decode cX4_code 8 = .ok (.aload_n 0, 1) := dk_42 (dk_at dksX4_code_0 8 rfl rfl)
theorem dX4_code_9 : decode cX4_code 9 = .ok (.getfield 18, 3) := dk_180 0 18 (dk_at dksX4_code_0 9 rfl rfl)
theorem dX4_code_12 : decode cX4_code 12 = .ok (.aload_n 0, 1) := dk_42 (dk_at dksX4_code_0 12 rfl rfl)
theorem dX4_code_13 : decode cX4_code 13 = .ok (.getfield 21, 3) := dk_180 0 21 (dk_at dksX4_code_0 13 rfl rfl)
theorem dX4_code_16 : decode cX4_code 16 = .ok (.aload_n 0, 1) := dk_42 (dk_at dksX4_code_0 16 rfl rfl)
theorem dX4_code_17 : decode cX4_code 17 = .ok (.getfield 24, 3) := dk_180 0 24 (dk_at dksX4_code_0 17 rfl rfl)
theorem dX4_code_20 : decode cX4_code 20 = .ok (.invokestatic 27, 3) := dk_184 0 27 (dk_at dksX4_code_0 20 rfl rfl)
theorem dX4_code_23 : decode cX4_code 23 = .ok (.ireturn, 1) := dk_172 (dk_at dksX4_code_0 23 rfl rfl)
abbrev cX4_starts : ByteArray := prog_19_method_7_code
def yX4_starts : MethodName := ⟨RX4, "starts", "(I)I"⟩
def dkwX4_starts_1 : List UInt8 := [181, 0, 15, 42, 3, 181, 0, 18, 42, 27, 4, 96, 181, 0, 11, 28, 172]
abbrev dktX4_starts_1 : List UInt8 := dkwX4_starts_1 ++ []
def dkwX4_starts_0 : List UInt8 := [42, 182, 0, 31, 154, 0, 5, 3, 172, 42, 180, 0, 15, 61, 42, 89, 180, 0, 15, 42, 180, 0, 18, 96]
abbrev dktX4_starts_0 : List UInt8 := dkwX4_starts_0 ++ dktX4_starts_1
theorem dksX4_starts_0 : cX4_starts.data.toList.drop 0 = dktX4_starts_0 := by decide +kernel
theorem dksX4_starts_1 : cX4_starts.data.toList.drop 24 = dktX4_starts_1 := dk_seg dksX4_starts_0 24 rfl rfl
theorem dX4_starts_0 : decode cX4_starts 0 = .ok (.aload_n 0, 1) := dk_42 (dk_at dksX4_starts_0 0 rfl rfl)
theorem dX4_starts_1 : decode cX4_starts 1 = .ok (.invokevirtual 31, 3) := dk_182 0 31 (dk_at dksX4_starts_0 1 rfl rfl)
theorem dX4_starts_4 : decode cX4_starts 4 = .ok (.ifCond .ne 5, 3) := dk_154 0 5 (dk_at dksX4_starts_0 4 rfl rfl)
theorem dX4_starts_7 : decode cX4_starts 7 = .ok (.iconst 0, 1) := dk_3 (dk_at dksX4_starts_0 7 rfl rfl)
theorem dX4_starts_8 : decode cX4_starts 8 = .ok (.ireturn, 1) := dk_172 (dk_at dksX4_starts_0 8 rfl rfl)
theorem dX4_starts_9 : decode cX4_starts 9 = .ok (.aload_n 0, 1) := dk_42 (dk_at dksX4_starts_0 9 rfl rfl)
theorem dX4_starts_10 : decode cX4_starts 10 = .ok (.getfield 15, 3) := dk_180 0 15 (dk_at dksX4_starts_0 10 rfl rfl)
theorem dX4_starts_13 : decode cX4_starts 13 = .ok (.istore_n 2, 1) := dk_61 (dk_at dksX4_starts_0 13 rfl rfl)
theorem dX4_starts_14 : decode cX4_starts 14 = .ok (.aload_n 0, 1) := dk_42 (dk_at dksX4_starts_0 14 rfl rfl)
theorem dX4_starts_15 : decode cX4_starts 15 = .ok (.dup, 1) := dk_89 (dk_at dksX4_starts_0 15 rfl rfl)
theorem dX4_starts_16 : decode cX4_starts 16 = .ok (.getfield 15, 3) := dk_180 0 15 (dk_at dksX4_starts_0 16 rfl rfl)
theorem dX4_starts_19 : decode cX4_starts 19 = .ok (.aload_n 0, 1) := dk_42 (dk_at dksX4_starts_0 19 rfl rfl)
theorem dX4_starts_20 : decode cX4_starts 20 = .ok (.getfield 18, 3) := dk_180 0 18 (dk_at dksX4_starts_0 20 rfl rfl)
theorem dX4_starts_23 : decode cX4_starts 23 = .ok (.iadd, 1) := dk_96 (dk_at dksX4_starts_0 23 rfl rfl)
theorem dX4_starts_24 : decode cX4_starts 24 = .ok (.putfield 15, 3) := dk_181 0 15 (dk_at dksX4_starts_1 0 rfl rfl)
theorem dX4_starts_27 : decode cX4_starts 27 = .ok (.aload_n 0, 1) := dk_42 (dk_at dksX4_starts_1 3 rfl rfl)
theorem dX4_starts_28 : decode cX4_starts 28 = .ok (.iconst 0, 1) := dk_3 (dk_at dksX4_starts_1 4 rfl rfl)
theorem dX4_starts_29 : decode cX4_starts 29 = .ok (.putfield 18, 3) := dk_181 0 18 (dk_at dksX4_starts_1 5 rfl rfl)
theorem dX4_starts_32 : decode cX4_starts 32 = .ok (.aload_n 0, 1) := dk_42 (dk_at dksX4_starts_1 8 rfl rfl)
theorem dX4_starts_33 : decode cX4_starts 33 = .ok (.iload_n 1, 1) := dk_27 (dk_at dksX4_starts_1 9 rfl rfl)
theorem dX4_starts_34 : decode cX4_starts 34 = .ok (.iconst 1, 1) := dk_4 (dk_at dksX4_starts_1 10 rfl rfl)
theorem dX4_starts_35 : decode cX4_starts 35 = .ok (.iadd, 1) := dk_96 (dk_at dksX4_starts_1 11 rfl rfl)
theorem dX4_starts_36 : decode cX4_starts 36 = .ok (.putfield 11, 3) := dk_181 0 11 (dk_at dksX4_starts_1 12 rfl rfl)
theorem dX4_starts_39 : decode cX4_starts 39 = .ok (.iload_n 2, 1) := dk_28 (dk_at dksX4_starts_1 15 rfl rfl)
theorem dX4_starts_40 : decode cX4_starts 40 = .ok (.ireturn, 1) := dk_172 (dk_at dksX4_starts_1 16 rfl rfl)
abbrev cX4_isTrue : ByteArray := prog_19_method_6_code
def yX4_isTrue : MethodName := ⟨RX4, "isTrue", "()Z"⟩
def dkwX4_isTrue_1 : List UInt8 := [3, 160, 0, 7, 4, 167, 0, 4, 3, 172]
abbrev dktX4_isTrue_1 : List UInt8 := dkwX4_isTrue_1 ++ []
def dkwX4_isTrue_0 : List UInt8 := [42, 180, 0, 21, 4, 160, 0, 7, 4, 167, 0, 4, 3, 42, 180, 0, 18, 154, 0, 7, 4, 167, 0, 4]
abbrev dktX4_isTrue_0 : List UInt8 := dkwX4_isTrue_0 ++ dktX4_isTrue_1
theorem dksX4_isTrue_0 : cX4_isTrue.data.toList.drop 0 = dktX4_isTrue_0 := by decide +kernel
theorem dksX4_isTrue_1 : cX4_isTrue.data.toList.drop 24 = dktX4_isTrue_1 := dk_seg dksX4_isTrue_0 24 rfl rfl
theorem dX4_isTrue_0 : decode cX4_isTrue 0 = .ok (.aload_n 0, 1) := dk_42 (dk_at dksX4_isTrue_0 0 rfl rfl)
theorem dX4_isTrue_1 : decode cX4_isTrue 1 = .ok (.getfield 21, 3) := dk_180 0 21 (dk_at dksX4_isTrue_0 1 rfl rfl)
theorem dX4_isTrue_4 : decode cX4_isTrue 4 = .ok (.iconst 1, 1) := dk_4 (dk_at dksX4_isTrue_0 4 rfl rfl)
theorem dX4_isTrue_5 : decode cX4_isTrue 5 = .ok (.if_icmp .ne 7, 3) := dk_160 0 7 (dk_at dksX4_isTrue_0 5 rfl rfl)
theorem dX4_isTrue_8 : decode cX4_isTrue 8 = .ok (.iconst 1, 1) := dk_4 (dk_at dksX4_isTrue_0 8 rfl rfl)
theorem dX4_isTrue_9 : decode cX4_isTrue 9 = .ok (.goto 4, 3) := dk_167 0 4 (dk_at dksX4_isTrue_0 9 rfl rfl)
theorem dX4_isTrue_12 : decode cX4_isTrue 12 = .ok (.iconst 0, 1) := dk_3 (dk_at dksX4_isTrue_0 12 rfl rfl)
theorem dX4_isTrue_13 : decode cX4_isTrue 13 = .ok (.aload_n 0, 1) := dk_42 (dk_at dksX4_isTrue_0 13 rfl rfl)
theorem dX4_isTrue_14 : decode cX4_isTrue 14 = .ok (.getfield 18, 3) := dk_180 0 18 (dk_at dksX4_isTrue_0 14 rfl rfl)
theorem dX4_isTrue_17 : decode cX4_isTrue 17 = .ok (.ifCond .ne 7, 3) := dk_154 0 7 (dk_at dksX4_isTrue_0 17 rfl rfl)
theorem dX4_isTrue_20 : decode cX4_isTrue 20 = .ok (.iconst 1, 1) := dk_4 (dk_at dksX4_isTrue_0 20 rfl rfl)
theorem dX4_isTrue_21 : decode cX4_isTrue 21 = .ok (.goto 4, 3) := dk_167 0 4 (dk_at dksX4_isTrue_0 21 rfl rfl)
theorem dX4_isTrue_24 : decode cX4_isTrue 24 = .ok (.iconst 0, 1) := dk_3 (dk_at dksX4_isTrue_1 0 rfl rfl)
theorem dX4_isTrue_25 : decode cX4_isTrue 25 = .ok (.if_icmp .ne 7, 3) := dk_160 0 7 (dk_at dksX4_isTrue_1 1 rfl rfl)
theorem dX4_isTrue_28 : decode cX4_isTrue 28 = .ok (.iconst 1, 1) := dk_4 (dk_at dksX4_isTrue_1 4 rfl rfl)
theorem dX4_isTrue_29 : decode cX4_isTrue 29 = .ok (.goto 4, 3) := dk_167 0 4 (dk_at dksX4_isTrue_1 5 rfl rfl)
theorem dX4_isTrue_32 : decode cX4_isTrue 32 = .ok (.iconst 0, 1) := dk_3 (dk_at dksX4_isTrue_1 8 rfl rfl)
theorem dX4_isTrue_33 : decode cX4_isTrue 33 = .ok (.ireturn, 1) := dk_172 (dk_at dksX4_isTrue_1 9 rfl rfl)
theorem q111 : (Jvm.Cond.initialized "CardCups$State") ∈ lw_all := lw_g (lw_at lw_m1 4 rfl) rfl
theorem q191 : (Jvm.Cond.instantiable "CardCups$State" (5 : Nat)) ∈ lw_all := lw_g (lw_at lw_m1 84 rfl) rfl
theorem q193 : (Jvm.Cond.instanceMethod ({ cls := "CardCups$State", name := "<init>", desc := "()V" } : Jvm.MethodName)) ∈ lw_all := lw_g (lw_at lw_m1 86 rfl) rfl
theorem q194 : (Jvm.Cond.code ({ cls := "CardCups$State", name := "<init>", desc := "()V" } : Jvm.MethodName) prog_19_method_1_code (1 : Nat) (Option.none : Option Jvm.ClassFile.FieldType)) ∈ lw_all := lw_g (lw_at lw_m1 87 rfl) rfl
theorem q195 : (Jvm.Cond.methodLink "CardCups$State" (5 : Nat) ({ cls := "java/lang/Object", name := "<init>", desc := "()V" } : Jvm.MethodName)) ∈ lw_all := lw_g (lw_at lw_m1 88 rfl) rfl
theorem q197 : (Jvm.Cond.fieldLink "CardCups$State" (11 : Nat) "CardCups$State" "slot" "I") ∈ lw_all := lw_g (lw_at lw_m1 90 rfl) rfl
theorem q202 : (Jvm.Cond.fieldLink "CardCups$State" (15 : Nat) "CardCups$State" "clean" "I") ∈ lw_all := lw_g (lw_at lw_m1 95 rfl) rfl
theorem q209 : (Jvm.Cond.fieldLink "CardCups$State" (18 : Nat) "CardCups$State" "dirty" "I") ∈ lw_all := lw_g (lw_at lw_m1 102 rfl) rfl
theorem q214 : (Jvm.Cond.fieldLink "CardCups$State" (21 : Nat) "CardCups$State" "card" "I") ∈ lw_all := lw_g (lw_at lw_m1 107 rfl) rfl
theorem q221 : (Jvm.Cond.fieldLink "CardCups$State" (24 : Nat) "CardCups$State" "seen" "I") ∈ lw_all := lw_g (lw_at lw_m1 114 rfl) rfl
theorem q225 : (Jvm.Cond.lays "CardCups$State" "CardCups$State" "slot" "I") ∈ lw_all := lw_g (lw_at lw_m1 118 rfl) rfl
theorem q226 : (Jvm.Cond.soleField "CardCups$State" "slot") ∈ lw_all := lw_g (lw_at lw_m1 119 rfl) rfl
theorem q227 : (Jvm.Cond.lays "CardCups$State" "CardCups$State" "clean" "I") ∈ lw_all := lw_g (lw_at lw_m1 120 rfl) rfl
theorem q228 : (Jvm.Cond.soleField "CardCups$State" "clean") ∈ lw_all := lw_g (lw_at lw_m1 121 rfl) rfl
theorem q229 : (Jvm.Cond.lays "CardCups$State" "CardCups$State" "dirty" "I") ∈ lw_all := lw_g (lw_at lw_m1 122 rfl) rfl
theorem q230 : (Jvm.Cond.soleField "CardCups$State" "dirty") ∈ lw_all := lw_g (lw_at lw_m1 123 rfl) rfl
theorem q231 : (Jvm.Cond.lays "CardCups$State" "CardCups$State" "card" "I") ∈ lw_all := lw_g (lw_at lw_m1 124 rfl) rfl
theorem q232 : (Jvm.Cond.soleField "CardCups$State" "card") ∈ lw_all := lw_g (lw_at lw_m1 125 rfl) rfl
theorem q233 : (Jvm.Cond.lays "CardCups$State" "CardCups$State" "seen" "I") ∈ lw_all := lw_g (lw_at lw_m1 126 rfl) rfl
theorem q234 : (Jvm.Cond.soleField "CardCups$State" "seen") ∈ lw_all := lw_g (lw_at lw_m1 127 rfl) rfl
theorem q235 : (Jvm.Cond.superclass "CardCups$State" "java/lang/Object") ∈ lw_all := lw_g (lw_at lw_m1 128 rfl) rfl
theorem q541 : (Jvm.Cond.static ({ cls := "CardCups$State", name := "codeOf", desc := "(IIIII)I" } : Jvm.MethodName)) ∈ lw_all := lw_g (lw_at lw_m2 194 rfl) rfl
theorem q542 : (Jvm.Cond.code ({ cls := "CardCups$State", name := "codeOf", desc := "(IIIII)I" } : Jvm.MethodName) prog_19_method_2_code (5 : Nat) (Option.some Jvm.ClassFile.FieldType.int)) ∈ lw_all := lw_g (lw_at lw_m2 195 rfl) rfl
theorem q599 : (Jvm.Cond.instanceMethod ({ cls := "CardCups$State", name := "of", desc := "(I)LCardCups$State;" } : Jvm.MethodName)) ∈ lw_all := lw_g (lw_at lw_m3 12 rfl) rfl
theorem q600 : (Jvm.Cond.selects "CardCups$State" ({ cls := "CardCups$State", name := "of", desc := "(I)LCardCups$State;" } : Jvm.MethodName) ({ cls := "CardCups$State", name := "of", desc := "(I)LCardCups$State;" } : Jvm.MethodName)) ∈ lw_all := lw_g (lw_at lw_m3 13 rfl) rfl
theorem q601 : (Jvm.Cond.code ({ cls := "CardCups$State", name := "of", desc := "(I)LCardCups$State;" } : Jvm.MethodName) prog_19_method_4_code (3 : Nat) (Option.some (Jvm.ClassFile.FieldType.object "CardCups$State"))) ∈ lw_all := lw_g (lw_at lw_m3 14 rfl) rfl
theorem q619 : (Jvm.Cond.instanceMethod ({ cls := "CardCups$State", name := "in", desc := "()I" } : Jvm.MethodName)) ∈ lw_all := lw_g (lw_at lw_m3 32 rfl) rfl
theorem q620 : (Jvm.Cond.selects "CardCups$State" ({ cls := "CardCups$State", name := "in", desc := "()I" } : Jvm.MethodName) ({ cls := "CardCups$State", name := "in", desc := "()I" } : Jvm.MethodName)) ∈ lw_all := lw_g (lw_at lw_m3 33 rfl) rfl
theorem q621 : (Jvm.Cond.code ({ cls := "CardCups$State", name := "in", desc := "()I" } : Jvm.MethodName) prog_19_method_5_code (1 : Nat) (Option.some Jvm.ClassFile.FieldType.int)) ∈ lw_all := lw_g (lw_at lw_m3 34 rfl) rfl
theorem q694 : (Jvm.Cond.instanceMethod ({ cls := "CardCups$State", name := "code", desc := "()I" } : Jvm.MethodName)) ∈ lw_all := lw_g (lw_at lw_m3 107 rfl) rfl
theorem q695 : (Jvm.Cond.selects "CardCups$State" ({ cls := "CardCups$State", name := "code", desc := "()I" } : Jvm.MethodName) ({ cls := "CardCups$State", name := "code", desc := "()I" } : Jvm.MethodName)) ∈ lw_all := lw_g (lw_at lw_m3 108 rfl) rfl
theorem q696 : (Jvm.Cond.code ({ cls := "CardCups$State", name := "code", desc := "()I" } : Jvm.MethodName) prog_19_method_3_code (1 : Nat) (Option.some Jvm.ClassFile.FieldType.int)) ∈ lw_all := lw_g (lw_at lw_m3 109 rfl) rfl
theorem q697 : (Jvm.Cond.methodLink "CardCups$State" (27 : Nat) ({ cls := "CardCups$State", name := "codeOf", desc := "(IIIII)I" } : Jvm.MethodName)) ∈ lw_all := lw_g (lw_at lw_m3 110 rfl) rfl
theorem q715 : (Jvm.Cond.instanceMethod ({ cls := "CardCups$State", name := "starts", desc := "(I)I" } : Jvm.MethodName)) ∈ lw_all := lw_g (lw_at lw_m3 128 rfl) rfl
theorem q716 : (Jvm.Cond.selects "CardCups$State" ({ cls := "CardCups$State", name := "starts", desc := "(I)I" } : Jvm.MethodName) ({ cls := "CardCups$State", name := "starts", desc := "(I)I" } : Jvm.MethodName)) ∈ lw_all := lw_g (lw_at lw_m3 129 rfl) rfl
theorem q717 : (Jvm.Cond.code ({ cls := "CardCups$State", name := "starts", desc := "(I)I" } : Jvm.MethodName) prog_19_method_7_code (3 : Nat) (Option.some Jvm.ClassFile.FieldType.int)) ∈ lw_all := lw_g (lw_at lw_m3 130 rfl) rfl
theorem q718 : (Jvm.Cond.methodLink "CardCups$State" (31 : Nat) ({ cls := "CardCups$State", name := "in", desc := "()I" } : Jvm.MethodName)) ∈ lw_all := lw_g (lw_at lw_m3 131 rfl) rfl
theorem q762 : (Jvm.Cond.instanceMethod ({ cls := "CardCups$State", name := "isTrue", desc := "()Z" } : Jvm.MethodName)) ∈ lw_all := lw_g (lw_at lw_m3 175 rfl) rfl
theorem q763 : (Jvm.Cond.selects "CardCups$State" ({ cls := "CardCups$State", name := "isTrue", desc := "()Z" } : Jvm.MethodName) ({ cls := "CardCups$State", name := "isTrue", desc := "()Z" } : Jvm.MethodName)) ∈ lw_all := lw_g (lw_at lw_m3 176 rfl) rfl
theorem q764 : (Jvm.Cond.code ({ cls := "CardCups$State", name := "isTrue", desc := "()Z" } : Jvm.MethodName) prog_19_method_6_code (1 : Nat) (Option.some Jvm.ClassFile.FieldType.boolean)) ∈ lw_all := lw_g (lw_at lw_m3 177 rfl) rfl
theorem q2484 : (Jvm.Cond.castable "CardCups$State" "java/lang/Object") ∈ lw_tbl := lw_at lw_m10 217 rfl
theorem in_X4 : ∀ w ∈ wsX40, w ∈ lw_all := lw_in wsX40 [225, 227, 229, 231, 233] (by decide +kernel) (by decide +kernel)
/-! CardCups$Day -/
set_option maxRecDepth 100000
def RX5 : String := "CardCups$Day"
def TX5 : u_T := fun k => match k with
  | 0 => ("CardCups$Day", "state", "LCardCups$State;", true)
  | 1 => ("CardCups$Day", "office", "LCardCups$Office;", false)
  | 2 => ("CardCups$Day", "lots", "I", false)
  | 3 => ("CardCups$Day", "visit", "I", false)
  | 4 => ("CardCups$Day", "drunk", "I", false)
  | 5 => ("CardCups$Day", "washed", "I", false)
  | _ => ("CardCups$Day", "looks", "I", false)
def tyX5 : Nat → FieldType := fun k => match k with
  | 0 => .object "CardCups$State"
  | 1 => .object "CardCups$Office"
  | 2 => .int
  | 3 => .int
  | 4 => .int
  | 5 => .int
  | _ => .int
abbrev wsX50 : List Cond := u_ws RX5 TX5 7
theorem nmX5 : ∀ a, a < 7 → ∀ b, b < 7 → a ≠ b → (TX5 a).2.1 ≠ (TX5 b).2.1 := by decide +kernel
theorem tyX5_ok : ∀ k, k < 7 → parseFieldDescriptor (TX5 k).2.2.1 = some (tyX5 k) := by decide +kernel
abbrev cX5_init : ByteArray := prog_4_method_1_code
def yX5_init : MethodName := ⟨RX5, "<init>", "()V"⟩
def dkwX5_init_0 : List UInt8 := [42, 183, 0, 1, 42, 187, 0, 7, 89, 183, 0, 9, 181, 0, 10, 177]
abbrev dktX5_init_0 : List UInt8 := dkwX5_init_0 ++ []
theorem dksX5_init_0 : cX5_init.data.toList.drop 0 = dktX5_init_0 := by decide +kernel
theorem dX5_init_0 : decode cX5_init 0 = .ok (.aload_n 0, 1) := dk_42 (dk_at dksX5_init_0 0 rfl rfl)
theorem dX5_init_1 : decode cX5_init 1 = .ok (.invokespecial 1, 3) := dk_183 0 1 (dk_at dksX5_init_0 1 rfl rfl)
theorem dX5_init_4 : decode cX5_init 4 = .ok (.aload_n 0, 1) := dk_42 (dk_at dksX5_init_0 4 rfl rfl)
theorem dX5_init_5 : decode cX5_init 5 = .ok (.new 7, 3) := dk_187 0 7 (dk_at dksX5_init_0 5 rfl rfl)
theorem dX5_init_8 : decode cX5_init 8 = .ok (.dup, 1) := dk_89 (dk_at dksX5_init_0 8 rfl rfl)
theorem dX5_init_9 : decode cX5_init 9 = .ok (.invokespecial 9, 3) := dk_183 0 9 (dk_at dksX5_init_0 9 rfl rfl)
theorem dX5_init_12 : decode cX5_init 12 = .ok (.putfield 10, 3) := dk_181 0 10 (dk_at dksX5_init_0 12 rfl rfl)
theorem dX5_init_15 : decode cX5_init 15 = .ok (.return_, 1) := dk_177 (dk_at dksX5_init_0 15 rfl rfl)
abbrev cX5_runs : ByteArray := prog_4_method_3_code
def yX5_runs : MethodName := ⟨RX5, "runs", "(LCardCups$Office;LCardCups$Calendar;[LCardCups$Habit;II)LCardCups$Day;"⟩
def dkwX5_runs_9 : List UInt8 := [181, 0, 53, 167, 255, 98, 42, 176]
abbrev dktX5_runs_9 : List UInt8 := dkwX5_runs_9 ++ []
def dkwX5_runs_8 : List UInt8 := [182, 0, 98, 132, 8, 1, 167, 255, 195, 42, 180, 0, 10, 3, 181, 0, 102, 42, 89, 180, 0, 53, 4, 96]
abbrev dktX5_runs_8 : List UInt8 := dkwX5_runs_8 ++ dktX5_runs_9
def dkwX5_runs_7 : List UInt8 := [180, 0, 84, 21, 8, 50, 42, 182, 0, 94, 153, 0, 15, 25, 7, 180, 0, 84, 21, 8, 50, 42]
abbrev dktX5_runs_7 : List UInt8 := dkwX5_runs_7 ++ dktX5_runs_8
def dkwX5_runs_6 : List UInt8 := [180, 0, 79, 162, 0, 52, 25, 7, 180, 0, 84, 21, 8, 50, 25, 6, 182, 0, 88, 153, 0, 30, 25, 7]
abbrev dktX5_runs_6 : List UInt8 := dkwX5_runs_6 ++ dktX5_runs_7
def dkwX5_runs_5 : List UInt8 := [180, 0, 73, 42, 180, 0, 53, 46, 50, 58, 7, 3, 54, 8, 25, 7, 198, 0, 62, 21, 8, 25, 7]
abbrev dktX5_runs_5 : List UInt8 := dkwX5_runs_5 ++ dktX5_runs_6
def dkwX5_runs_4 : List UInt8 := [187, 0, 64, 89, 43, 44, 42, 180, 0, 53, 183, 0, 66, 42, 180, 0, 10, 182, 0, 69, 58, 6, 45, 44]
abbrev dktX5_runs_4 : List UInt8 := dkwX5_runs_4 ++ dktX5_runs_5
def dkwX5_runs_3 : List UInt8 := [43, 180, 0, 60, 162, 0, 19, 42, 180, 0, 10, 4, 42, 180, 0, 10, 180, 0, 63, 100, 181, 0, 63]
abbrev dktX5_runs_3 : List UInt8 := dkwX5_runs_3 ++ dktX5_runs_4
def dkwX5_runs_2 : List UInt8 := [182, 0, 49, 87, 42, 3, 181, 0, 53, 42, 180, 0, 53, 21, 5, 163, 0, 155, 42, 16, 16, 182, 0, 56]
abbrev dktX5_runs_2 : List UInt8 := dkwX5_runs_2 ++ dktX5_runs_3
def dkwX5_runs_1 : List UInt8 := [181, 0, 31, 42, 180, 0, 10, 3, 43, 180, 0, 34, 43, 180, 0, 39, 43, 180, 0, 42, 3, 184, 0, 45]
abbrev dktX5_runs_1 : List UInt8 := dkwX5_runs_1 ++ dktX5_runs_2
def dkwX5_runs_0 : List UInt8 := [42, 43, 181, 0, 21, 42, 21, 4, 181, 0, 16, 42, 3, 181, 0, 25, 42, 3, 181, 0, 28, 42, 3]
abbrev dktX5_runs_0 : List UInt8 := dkwX5_runs_0 ++ dktX5_runs_1
theorem dksX5_runs_0 : cX5_runs.data.toList.drop 0 = dktX5_runs_0 := by decide +kernel
theorem dksX5_runs_1 : cX5_runs.data.toList.drop 23 = dktX5_runs_1 := dk_seg dksX5_runs_0 23 rfl rfl
theorem dksX5_runs_2 : cX5_runs.data.toList.drop 47 = dktX5_runs_2 := dk_seg dksX5_runs_1 24 rfl rfl
theorem dksX5_runs_3 : cX5_runs.data.toList.drop 71 = dktX5_runs_3 := dk_seg dksX5_runs_2 24 rfl rfl
theorem dksX5_runs_4 : cX5_runs.data.toList.drop 94 = dktX5_runs_4 := dk_seg dksX5_runs_3 23 rfl rfl
theorem dksX5_runs_5 : cX5_runs.data.toList.drop 118 = dktX5_runs_5 := dk_seg dksX5_runs_4 24 rfl rfl
theorem dksX5_runs_6 : cX5_runs.data.toList.drop 141 = dktX5_runs_6 := dk_seg dksX5_runs_5 23 rfl rfl
theorem dksX5_runs_7 : cX5_runs.data.toList.drop 165 = dktX5_runs_7 := dk_seg dksX5_runs_6 24 rfl rfl
theorem dksX5_runs_8 : cX5_runs.data.toList.drop 187 = dktX5_runs_8 := dk_seg dksX5_runs_7 22 rfl rfl
theorem dksX5_runs_9 : cX5_runs.data.toList.drop 211 = dktX5_runs_9 := dk_seg dksX5_runs_8 24 rfl rfl
theorem dX5_runs_0 : decode cX5_runs 0 = .ok (.aload_n 0, 1) := dk_42 (dk_at dksX5_runs_0 0 rfl rfl)
theorem dX5_runs_1 : decode cX5_runs 1 = .ok (.aload_n 1, 1) := dk_43 (dk_at dksX5_runs_0 1 rfl rfl)
theorem dX5_runs_2 : decode cX5_runs 2 = .ok (.putfield 21, 3) := dk_181 0 21 (dk_at dksX5_runs_0 2 rfl rfl)
theorem dX5_runs_5 : decode cX5_runs 5 = .ok (.aload_n 0, 1) := dk_42 (dk_at dksX5_runs_0 5 rfl rfl)
theorem dX5_runs_6 : decode cX5_runs 6 = .ok (.iload 4, 2) := dk_21 4 (dk_at dksX5_runs_0 6 rfl rfl)
theorem dX5_runs_8 : decode cX5_runs 8 = .ok (.putfield 16, 3) := dk_181 0 16 (dk_at dksX5_runs_0 8 rfl rfl)
theorem dX5_runs_11 : decode cX5_runs 11 = .ok (.aload_n 0, 1) := dk_42 (dk_at dksX5_runs_0 11 rfl rfl)
theorem dX5_runs_12 : decode cX5_runs 12 = .ok (.iconst 0, 1) := dk_3 (dk_at dksX5_runs_0 12 rfl rfl)
theorem dX5_runs_13 : decode cX5_runs 13 = .ok (.putfield 25, 3) := dk_181 0 25 (dk_at dksX5_runs_0 13 rfl rfl)
theorem dX5_runs_16 : decode cX5_runs 16 = .ok (.aload_n 0, 1) := dk_42 (dk_at dksX5_runs_0 16 rfl rfl)
theorem dX5_runs_17 : decode cX5_runs 17 = .ok (.iconst 0, 1) := dk_3 (dk_at dksX5_runs_0 17 rfl rfl)
theorem dX5_runs_18 : decode cX5_runs 18 = .ok (.putfield 28, 3) := dk_181 0 28 (dk_at dksX5_runs_0 18 rfl rfl)
theorem dX5_runs_21 : decode cX5_runs 21 = .ok (.aload_n 0, 1) := dk_42 (dk_at dksX5_runs_0 21 rfl rfl)
theorem dX5_runs_22 : decode cX5_runs 22 = .ok (.iconst 0, 1) := dk_3 (dk_at dksX5_runs_0 22 rfl rfl)
theorem dX5_runs_23 : decode cX5_runs 23 = .ok (.putfield 31, 3) := dk_181 0 31 (dk_at dksX5_runs_1 0 rfl rfl)
theorem dX5_runs_26 : decode cX5_runs 26 = .ok (.aload_n 0, 1) := dk_42 (dk_at dksX5_runs_1 3 rfl rfl)
theorem dX5_runs_27 : decode cX5_runs 27 = .ok (.getfield 10, 3) := dk_180 0 10 (dk_at dksX5_runs_1 4 rfl rfl)
theorem dX5_runs_30 : decode cX5_runs 30 = .ok (.iconst 0, 1) := dk_3 (dk_at dksX5_runs_1 7 rfl rfl)
theorem dX5_runs_31 : decode cX5_runs 31 = .ok (.aload_n 1, 1) := dk_43 (dk_at dksX5_runs_1 8 rfl rfl)
theorem dX5_runs_32 : decode cX5_runs 32 = .ok (.getfield 34, 3) := dk_180 0 34 (dk_at dksX5_runs_1 9 rfl rfl)
theorem dX5_runs_35 : decode cX5_runs 35 = .ok (.aload_n 1, 1) := dk_43 (dk_at dksX5_runs_1 12 rfl rfl)
theorem dX5_runs_36 : decode cX5_runs 36 = .ok (.getfield 39, 3) := dk_180 0 39 (dk_at dksX5_runs_1 13 rfl rfl)
theorem dX5_runs_39 : decode cX5_runs 39 = .ok (.aload_n 1, 1) := dk_43 (dk_at dksX5_runs_1 16 rfl rfl)
theorem dX5_runs_40 : decode cX5_runs 40 = .ok (.getfield 42, 3) := dk_180 0 42 (dk_at dksX5_runs_1 17 rfl rfl)
theorem dX5_runs_43 : decode cX5_runs 43 = .ok (.iconst 0, 1) := dk_3 (dk_at dksX5_runs_1 20 rfl rfl)
theorem dX5_runs_44 : decode cX5_runs 44 = .ok (.invokestatic 45, 3) := dk_184 0 45 (dk_at dksX5_runs_1 21 rfl rfl)
theorem dX5_runs_47 : decode cX5_runs 47 = .ok (.invokevirtual 49, 3) := dk_182 0 49 (dk_at dksX5_runs_2 0 rfl rfl)
theorem dX5_runs_50 : decode cX5_runs 50 = .ok (.pop, 1) := dk_87 (dk_at dksX5_runs_2 3 rfl rfl)
theorem dX5_runs_51 : decode cX5_runs 51 = .ok (.aload_n 0, 1) := dk_42 (dk_at dksX5_runs_2 4 rfl rfl)
theorem dX5_runs_52 : decode cX5_runs 52 = .ok (.iconst 0, 1) := dk_3 (dk_at dksX5_runs_2 5 rfl rfl)
theorem dX5_runs_53 : decode cX5_runs 53 = .ok (.putfield 53, 3) := dk_181 0 53 (dk_at dksX5_runs_2 6 rfl rfl)
theorem dX5_runs_56 : decode cX5_runs 56 = .ok (.aload_n 0, 1) := dk_42 (dk_at dksX5_runs_2 9 rfl rfl)
theorem dX5_runs_57 : decode cX5_runs 57 = .ok (.getfield 53, 3) := dk_180 0 53 (dk_at dksX5_runs_2 10 rfl rfl)
theorem dX5_runs_60 : decode cX5_runs 60 = .ok (.iload 5, 2) := dk_21 5 (dk_at dksX5_runs_2 13 rfl rfl)
theorem dX5_runs_62 : decode cX5_runs 62 = .ok (.if_icmp .gt 155, 3) := dk_163 0 155 (dk_at dksX5_runs_2 15 rfl rfl)
theorem dX5_runs_65 : decode cX5_runs 65 = .ok (.aload_n 0, 1) := dk_42 (dk_at dksX5_runs_2 18 rfl rfl)
theorem dX5_runs_66 : decode cX5_runs 66 = .ok (.bipush 16, 2) := dk_16 16 (dk_at dksX5_runs_2 19 rfl rfl)
theorem dX5_runs_68 : decode cX5_runs 68 = .ok (.invokevirtual 56, 3) := dk_182 0 56 (dk_at dksX5_runs_2 21 rfl rfl)
theorem dX5_runs_71 : decode cX5_runs 71 = .ok (.aload_n 1, 1) := dk_43 (dk_at dksX5_runs_3 0 rfl rfl)
theorem dX5_runs_72 : decode cX5_runs 72 = .ok (.getfield 60, 3) := dk_180 0 60 (dk_at dksX5_runs_3 1 rfl rfl)
theorem dX5_runs_75 : decode cX5_runs 75 = .ok (.if_icmp .ge 19, 3) := dk_162 0 19 (dk_at dksX5_runs_3 4 rfl rfl)
theorem dX5_runs_78 : decode cX5_runs 78 = .ok (.aload_n 0, 1) := dk_42 (dk_at dksX5_runs_3 7 rfl rfl)
theorem dX5_runs_79 : decode cX5_runs 79 = .ok (.getfield 10, 3) := dk_180 0 10 (dk_at dksX5_runs_3 8 rfl rfl)
theorem dX5_runs_82 : decode cX5_runs 82 = .ok (.iconst 1, 1) := dk_4 (dk_at dksX5_runs_3 11 rfl rfl)
theorem dX5_runs_83 : decode cX5_runs 83 = .ok (.aload_n 0, 1) := dk_42 (dk_at dksX5_runs_3 12 rfl rfl)
theorem dX5_runs_84 : decode cX5_runs 84 = .ok (.getfield 10, 3) := dk_180 0 10 (dk_at dksX5_runs_3 13 rfl rfl)
theorem dX5_runs_87 : decode cX5_runs 87 = .ok (.getfield 63, 3) := dk_180 0 63 (dk_at dksX5_runs_3 16 rfl rfl)
theorem dX5_runs_90 : decode cX5_runs 90 = .ok (.isub, 1) := dk_100 (dk_at dksX5_runs_3 19 rfl rfl)
theorem dX5_runs_91 : decode cX5_runs 91 = .ok (.putfield 63, 3) := dk_181 0 63 (dk_at dksX5_runs_3 20 rfl rfl)
theorem dX5_runs_94 : decode cX5_runs 94 = .ok (.new 64, 3) := dk_187 0 64 (dk_at dksX5_runs_4 0 rfl rfl)
theorem dX5_runs_97 : decode cX5_runs 97 = .ok (.dup, 1) := dk_89 (dk_at dksX5_runs_4 3 rfl rfl)
theorem dX5_runs_98 : decode cX5_runs 98 = .ok (.aload_n 1, 1) := dk_43 (dk_at dksX5_runs_4 4 rfl rfl)
theorem dX5_runs_99 : decode cX5_runs 99 = .ok (.aload_n 2, 1) := dk_44 (dk_at dksX5_runs_4 5 rfl rfl)
theorem dX5_runs_100 : decode cX5_runs 100 = .ok (.aload_n 0, 1) := dk_42 (dk_at dksX5_runs_4 6 rfl rfl)
theorem dX5_runs_101 : decode cX5_runs 101 = .ok (.getfield 53, 3) := dk_180 0 53 (dk_at dksX5_runs_4 7 rfl rfl)
theorem dX5_runs_104 : decode cX5_runs 104 = .ok (.invokespecial 66, 3) := dk_183 0 66 (dk_at dksX5_runs_4 10 rfl rfl)
theorem dX5_runs_107 : decode cX5_runs 107 = .ok (.aload_n 0, 1) := dk_42 (dk_at dksX5_runs_4 13 rfl rfl)
theorem dX5_runs_108 : decode cX5_runs 108 = .ok (.getfield 10, 3) := dk_180 0 10 (dk_at dksX5_runs_4 14 rfl rfl)
theorem dX5_runs_111 : decode cX5_runs 111 = .ok (.invokevirtual 69, 3) := dk_182 0 69 (dk_at dksX5_runs_4 17 rfl rfl)
theorem dX5_runs_114 : decode cX5_runs 114 = .ok (.astore 6, 2) := dk_58 6 (dk_at dksX5_runs_4 20 rfl rfl)
theorem dX5_runs_116 : decode cX5_runs 116 = .ok (.aload_n 3, 1) := dk_45 (dk_at dksX5_runs_4 22 rfl rfl)
theorem dX5_runs_117 : decode cX5_runs 117 = .ok (.aload_n 2, 1) := dk_44 (dk_at dksX5_runs_4 23 rfl rfl)
theorem dX5_runs_118 : decode cX5_runs 118 = .ok (.getfield 73, 3) := dk_180 0 73 (dk_at dksX5_runs_5 0 rfl rfl)
theorem dX5_runs_121 : decode cX5_runs 121 = .ok (.aload_n 0, 1) := dk_42 (dk_at dksX5_runs_5 3 rfl rfl)
theorem dX5_runs_122 : decode cX5_runs 122 = .ok (.getfield 53, 3) := dk_180 0 53 (dk_at dksX5_runs_5 4 rfl rfl)
theorem dX5_runs_125 : decode cX5_runs 125 = .ok (.iaload, 1) := dk_46 (dk_at dksX5_runs_5 7 rfl rfl)
theorem dX5_runs_126 : decode cX5_runs 126 = .ok (.aaload, 1) := dk_50 (dk_at dksX5_runs_5 8 rfl rfl)
theorem dX5_runs_127 : decode cX5_runs 127 = .ok (.astore 7, 2) := dk_58 7 (dk_at dksX5_runs_5 9 rfl rfl)
theorem dX5_runs_129 : decode cX5_runs 129 = .ok (.iconst 0, 1) := dk_3 (dk_at dksX5_runs_5 11 rfl rfl)
theorem dX5_runs_130 : decode cX5_runs 130 = .ok (.istore 8, 2) := dk_54 8 (dk_at dksX5_runs_5 12 rfl rfl)
theorem dX5_runs_132 : decode cX5_runs 132 = .ok (.aload 7, 2) := dk_25 7 (dk_at dksX5_runs_5 14 rfl rfl)
theorem dX5_runs_134 : decode cX5_runs 134 = .ok (.ifnull 62, 3) := dk_198 0 62 (dk_at dksX5_runs_5 16 rfl rfl)
theorem dX5_runs_137 : decode cX5_runs 137 = .ok (.iload 8, 2) := dk_21 8 (dk_at dksX5_runs_5 19 rfl rfl)
theorem dX5_runs_139 : decode cX5_runs 139 = .ok (.aload 7, 2) := dk_25 7 (dk_at dksX5_runs_5 21 rfl rfl)
theorem dX5_runs_141 : decode cX5_runs 141 = .ok (.getfield 79, 3) := dk_180 0 79 (dk_at dksX5_runs_6 0 rfl rfl)
theorem dX5_runs_144 : decode cX5_runs 144 = .ok (.if_icmp .ge 52, 3) := dk_162 0 52 (dk_at dksX5_runs_6 3 rfl rfl)
theorem dX5_runs_147 : decode cX5_runs 147 = .ok (.aload 7, 2) := dk_25 7 (dk_at dksX5_runs_6 6 rfl rfl)
theorem dX5_runs_149 : decode cX5_runs 149 = .ok (.getfield 84, 3) := dk_180 0 84 (dk_at dksX5_runs_6 8 rfl rfl)
theorem dX5_runs_152 : decode cX5_runs 152 = .ok (.iload 8, 2) := dk_21 8 (dk_at dksX5_runs_6 11 rfl rfl)
theorem dX5_runs_154 : decode cX5_runs 154 = .ok (.aaload, 1) := dk_50 (dk_at dksX5_runs_6 13 rfl rfl)
theorem dX5_runs_155 : decode cX5_runs 155 = .ok (.aload 6, 2) := dk_25 6 (dk_at dksX5_runs_6 14 rfl rfl)
theorem dX5_runs_157 : decode cX5_runs 157 = .ok (.invokevirtual 88, 3) := dk_182 0 88 (dk_at dksX5_runs_6 16 rfl rfl)
theorem dX5_runs_160 : decode cX5_runs 160 = .ok (.ifCond .eq 30, 3) := dk_153 0 30 (dk_at dksX5_runs_6 19 rfl rfl)
theorem dX5_runs_163 : decode cX5_runs 163 = .ok (.aload 7, 2) := dk_25 7 (dk_at dksX5_runs_6 22 rfl rfl)
theorem dX5_runs_165 : decode cX5_runs 165 = .ok (.getfield 84, 3) := dk_180 0 84 (dk_at dksX5_runs_7 0 rfl rfl)
theorem dX5_runs_168 : decode cX5_runs 168 = .ok (.iload 8, 2) := dk_21 8 (dk_at dksX5_runs_7 3 rfl rfl)
theorem dX5_runs_170 : decode cX5_runs 170 = .ok (.aaload, 1) := dk_50 (dk_at dksX5_runs_7 5 rfl rfl)
theorem dX5_runs_171 : decode cX5_runs 171 = .ok (.aload_n 0, 1) := dk_42 (dk_at dksX5_runs_7 6 rfl rfl)
theorem dX5_runs_172 : decode cX5_runs 172 = .ok (.invokevirtual 94, 3) := dk_182 0 94 (dk_at dksX5_runs_7 7 rfl rfl)
theorem dX5_runs_175 : decode cX5_runs 175 = .ok (.ifCond .eq 15, 3) := dk_153 0 15 (dk_at dksX5_runs_7 10 rfl rfl)
theorem dX5_runs_178 : decode cX5_runs 178 = .ok (.aload 7, 2) := dk_25 7 (dk_at dksX5_runs_7 13 rfl rfl)
theorem dX5_runs_180 : decode cX5_runs 180 = .ok (.getfield 84, 3) := dk_180 0 84 (dk_at dksX5_runs_7 15 rfl rfl)
theorem dX5_runs_183 : decode cX5_runs 183 = .ok (.iload 8, 2) := dk_21 8 (dk_at dksX5_runs_7 18 rfl rfl)
theorem dX5_runs_185 : decode cX5_runs 185 = .ok (.aaload, 1) := dk_50 (dk_at dksX5_runs_7 20 rfl rfl)
theorem dX5_runs_186 : decode cX5_runs 186 = .ok (.aload_n 0, 1) := dk_42 (dk_at dksX5_runs_7 21 rfl rfl)
theorem dX5_runs_187 : decode cX5_runs 187 = .ok (.invokevirtual 98, 3) := dk_182 0 98 (dk_at dksX5_runs_8 0 rfl rfl)
theorem dX5_runs_190 : decode cX5_runs 190 = .ok (.iinc 8 1, 3) := dk_132 8 1 (dk_at dksX5_runs_8 3 rfl rfl)
theorem dX5_runs_193 : decode cX5_runs 193 = .ok (.goto (-61), 3) := dk_167 255 195 (dk_at dksX5_runs_8 6 rfl rfl)
theorem dX5_runs_196 : decode cX5_runs 196 = .ok (.aload_n 0, 1) := dk_42 (dk_at dksX5_runs_8 9 rfl rfl)
theorem dX5_runs_197 : decode cX5_runs 197 = .ok (.getfield 10, 3) := dk_180 0 10 (dk_at dksX5_runs_8 10 rfl rfl)
theorem dX5_runs_200 : decode cX5_runs 200 = .ok (.iconst 0, 1) := dk_3 (dk_at dksX5_runs_8 13 rfl rfl)
theorem dX5_runs_201 : decode cX5_runs 201 = .ok (.putfield 102, 3) := dk_181 0 102 (dk_at dksX5_runs_8 14 rfl rfl)
theorem dX5_runs_204 : decode cX5_runs 204 = .ok (.aload_n 0, 1) := dk_42 (dk_at dksX5_runs_8 17 rfl rfl)
theorem dX5_runs_205 : decode cX5_runs 205 = .ok (.dup, 1) := dk_89 (dk_at dksX5_runs_8 18 rfl rfl)
theorem dX5_runs_206 : decode cX5_runs 206 = .ok (.getfield 53, 3) := dk_180 0 53 (dk_at dksX5_runs_8 19 rfl rfl)
theorem dX5_runs_209 : decode cX5_runs 209 = .ok (.iconst 1, 1) := dk_4 (dk_at dksX5_runs_8 22 rfl rfl)
theorem dX5_runs_210 : decode cX5_runs 210 = .ok (.iadd, 1) := dk_96 (dk_at dksX5_runs_8 23 rfl rfl)
theorem dX5_runs_211 : decode cX5_runs 211 = .ok (.putfield 53, 3) := dk_181 0 53 (dk_at dksX5_runs_9 0 rfl rfl)
theorem dX5_runs_214 : decode cX5_runs 214 = .ok (.goto (-158), 3) := dk_167 255 98 (dk_at dksX5_runs_9 3 rfl rfl)
theorem dX5_runs_217 : decode cX5_runs 217 = .ok (.aload_n 0, 1) := dk_42 (dk_at dksX5_runs_9 6 rfl rfl)
theorem dX5_runs_218 : decode cX5_runs 218 = .ok (.areturn, 1) := dk_176 (dk_at dksX5_runs_9 7 rfl rfl)
abbrev cX5_draw : ByteArray := prog_4_method_2_code
def yX5_draw : MethodName := ⟨RX5, "draw", "(I)I"⟩
def dkwX5_draw_1 : List UInt8 := [17, 127, 255, 126, 27, 112, 172]
abbrev dktX5_draw_1 : List UInt8 := dkwX5_draw_1 ++ []
def dkwX5_draw_0 : List UInt8 := [42, 42, 180, 0, 16, 18, 20, 104, 17, 48, 57, 96, 181, 0, 16, 42, 180, 0, 16, 16, 16, 122]
abbrev dktX5_draw_0 : List UInt8 := dkwX5_draw_0 ++ dktX5_draw_1
theorem dksX5_draw_0 : cX5_draw.data.toList.drop 0 = dktX5_draw_0 := by decide +kernel
theorem dksX5_draw_1 : cX5_draw.data.toList.drop 22 = dktX5_draw_1 := dk_seg dksX5_draw_0 22 rfl rfl
theorem dX5_draw_0 : decode cX5_draw 0 = .ok (.aload_n 0, 1) := dk_42 (dk_at dksX5_draw_0 0 rfl rfl)
theorem dX5_draw_1 : decode cX5_draw 1 = .ok (.aload_n 0, 1) := dk_42 (dk_at dksX5_draw_0 1 rfl rfl)
theorem dX5_draw_2 : decode cX5_draw 2 = .ok (.getfield 16, 3) := dk_180 0 16 (dk_at dksX5_draw_0 2 rfl rfl)
theorem dX5_draw_5 : decode cX5_draw 5 = .ok (.ldc 20, 2) := dk_18 20 (dk_at dksX5_draw_0 5 rfl rfl)
theorem dX5_draw_7 : decode cX5_draw 7 = .ok (.imul, 1) := dk_104 (dk_at dksX5_draw_0 7 rfl rfl)
theorem dX5_draw_8 : decode cX5_draw 8 = .ok (.sipush 12345, 3) := dk_17 48 57 (dk_at dksX5_draw_0 8 rfl rfl)
theorem dX5_draw_11 : decode cX5_draw 11 = .ok (.iadd, 1) := dk_96 (dk_at dksX5_draw_0 11 rfl rfl)
theorem dX5_draw_12 : decode cX5_draw 12 = .ok (.putfield 16, 3) := dk_181 0 16 (dk_at dksX5_draw_0 12 rfl rfl)
theorem dX5_draw_15 : decode cX5_draw 15 = .ok (.aload_n 0, 1) := dk_42 (dk_at dksX5_draw_0 15 rfl rfl)
theorem dX5_draw_16 : decode cX5_draw 16 = .ok (.getfield 16, 3) := dk_180 0 16 (dk_at dksX5_draw_0 16 rfl rfl)
theorem dX5_draw_19 : decode cX5_draw 19 = .ok (.bipush 16, 2) := dk_16 16 (dk_at dksX5_draw_0 19 rfl rfl)
theorem dX5_draw_21 : decode cX5_draw 21 = .ok (.ishr, 1) := dk_122 (dk_at dksX5_draw_0 21 rfl rfl)
theorem dX5_draw_22 : decode cX5_draw 22 = .ok (.sipush 32767, 3) := dk_17 127 255 (dk_at dksX5_draw_1 0 rfl rfl)
theorem dX5_draw_25 : decode cX5_draw 25 = .ok (.iand, 1) := dk_126 (dk_at dksX5_draw_1 3 rfl rfl)
theorem dX5_draw_26 : decode cX5_draw 26 = .ok (.iload_n 1, 1) := dk_27 (dk_at dksX5_draw_1 4 rfl rfl)
theorem dX5_draw_27 : decode cX5_draw 27 = .ok (.irem, 1) := dk_112 (dk_at dksX5_draw_1 5 rfl rfl)
theorem dX5_draw_28 : decode cX5_draw 28 = .ok (.ireturn, 1) := dk_172 (dk_at dksX5_draw_1 6 rfl rfl)
theorem q112 : (Jvm.Cond.initialized "CardCups$Day") ∈ lw_all := lw_g (lw_at lw_m1 5 rfl) rfl
theorem q161 : (Jvm.Cond.fieldLinkNest "CardCups$Day" (73 : Nat) "CardCups$Calendar" "who" "[I" "CardCups") ∈ lw_tbl := lw_at lw_m1 54 rfl
theorem q215 : (Jvm.Cond.fieldLinkNest "CardCups$Day" (63 : Nat) "CardCups$State" "card" "I" "CardCups") ∈ lw_tbl := lw_at lw_m1 108 rfl
theorem q222 : (Jvm.Cond.fieldLinkNest "CardCups$Day" (102 : Nat) "CardCups$State" "seen" "I" "CardCups") ∈ lw_tbl := lw_at lw_m1 115 rfl
theorem q280 : (Jvm.Cond.instantiable "CardCups$Day" (7 : Nat)) ∈ lw_all := lw_g (lw_at lw_m1 173 rfl) rfl
theorem q282 : (Jvm.Cond.instanceMethod ({ cls := "CardCups$Day", name := "<init>", desc := "()V" } : Jvm.MethodName)) ∈ lw_all := lw_g (lw_at lw_m1 175 rfl) rfl
theorem q283 : (Jvm.Cond.code ({ cls := "CardCups$Day", name := "<init>", desc := "()V" } : Jvm.MethodName) prog_4_method_1_code (1 : Nat) (Option.none : Option Jvm.ClassFile.FieldType)) ∈ lw_all := lw_g (lw_at lw_m1 176 rfl) rfl
theorem q284 : (Jvm.Cond.methodLink "CardCups$Day" (1 : Nat) ({ cls := "java/lang/Object", name := "<init>", desc := "()V" } : Jvm.MethodName)) ∈ lw_all := lw_g (lw_at lw_m1 177 rfl) rfl
theorem q285 : (Jvm.Cond.classLink "CardCups$Day" (7 : Nat) "CardCups$State") ∈ lw_all := lw_g (lw_at lw_m1 178 rfl) rfl
theorem q286 : (Jvm.Cond.methodLinkNest "CardCups$Day" (9 : Nat) ({ cls := "CardCups$State", name := "<init>", desc := "()V" } : Jvm.MethodName) "CardCups") ∈ lw_tbl := lw_at lw_m1 179 rfl
theorem q287 : (Jvm.Cond.fieldLink "CardCups$Day" (10 : Nat) "CardCups$Day" "state" "LCardCups$State;") ∈ lw_all := lw_g (lw_at lw_m1 180 rfl) rfl
theorem q295 : (Jvm.Cond.fieldLink "CardCups$Day" (21 : Nat) "CardCups$Day" "office" "LCardCups$Office;") ∈ lw_all := lw_g (lw_at lw_m1 188 rfl) rfl
theorem q298 : (Jvm.Cond.fieldLink "CardCups$Day" (16 : Nat) "CardCups$Day" "lots" "I") ∈ lw_all := lw_g (lw_at lw_m1 191 rfl) rfl
theorem q300 : (Jvm.Cond.fieldLink "CardCups$Day" (53 : Nat) "CardCups$Day" "visit" "I") ∈ lw_all := lw_g (lw_at lw_m1 193 rfl) rfl
theorem q301 : (Jvm.Cond.fieldLink "CardCups$Day" (25 : Nat) "CardCups$Day" "drunk" "I") ∈ lw_all := lw_g (lw_at lw_m1 194 rfl) rfl
theorem q305 : (Jvm.Cond.fieldLink "CardCups$Day" (28 : Nat) "CardCups$Day" "washed" "I") ∈ lw_all := lw_g (lw_at lw_m1 198 rfl) rfl
theorem q308 : (Jvm.Cond.fieldLink "CardCups$Day" (31 : Nat) "CardCups$Day" "looks" "I") ∈ lw_all := lw_g (lw_at lw_m1 201 rfl) rfl
theorem q310 : (Jvm.Cond.laysFinal "CardCups$Day" "CardCups$Day" "state" "LCardCups$State;") ∈ lw_all := lw_g (lw_at lw_m1 203 rfl) rfl
theorem q311 : (Jvm.Cond.soleField "CardCups$Day" "state") ∈ lw_all := lw_g (lw_at lw_m1 204 rfl) rfl
theorem q312 : (Jvm.Cond.lays "CardCups$Day" "CardCups$Day" "office" "LCardCups$Office;") ∈ lw_all := lw_g (lw_at lw_m1 205 rfl) rfl
theorem q313 : (Jvm.Cond.soleField "CardCups$Day" "office") ∈ lw_all := lw_g (lw_at lw_m1 206 rfl) rfl
theorem q314 : (Jvm.Cond.lays "CardCups$Day" "CardCups$Day" "lots" "I") ∈ lw_all := lw_g (lw_at lw_m1 207 rfl) rfl
theorem q315 : (Jvm.Cond.soleField "CardCups$Day" "lots") ∈ lw_all := lw_g (lw_at lw_m1 208 rfl) rfl
theorem q316 : (Jvm.Cond.lays "CardCups$Day" "CardCups$Day" "visit" "I") ∈ lw_all := lw_g (lw_at lw_m1 209 rfl) rfl
theorem q317 : (Jvm.Cond.soleField "CardCups$Day" "visit") ∈ lw_all := lw_g (lw_at lw_m1 210 rfl) rfl
theorem q318 : (Jvm.Cond.lays "CardCups$Day" "CardCups$Day" "drunk" "I") ∈ lw_all := lw_g (lw_at lw_m1 211 rfl) rfl
theorem q319 : (Jvm.Cond.soleField "CardCups$Day" "drunk") ∈ lw_all := lw_g (lw_at lw_m1 212 rfl) rfl
theorem q320 : (Jvm.Cond.lays "CardCups$Day" "CardCups$Day" "washed" "I") ∈ lw_all := lw_g (lw_at lw_m1 213 rfl) rfl
theorem q321 : (Jvm.Cond.soleField "CardCups$Day" "washed") ∈ lw_all := lw_g (lw_at lw_m1 214 rfl) rfl
theorem q322 : (Jvm.Cond.lays "CardCups$Day" "CardCups$Day" "looks" "I") ∈ lw_all := lw_g (lw_at lw_m1 215 rfl) rfl
theorem q323 : (Jvm.Cond.soleField "CardCups$Day" "looks") ∈ lw_all := lw_g (lw_at lw_m1 216 rfl) rfl
theorem q324 : (Jvm.Cond.superclass "CardCups$Day" "java/lang/Object") ∈ lw_all := lw_g (lw_at lw_m1 217 rfl) rfl
theorem q385 : (Jvm.Cond.fieldLinkNest "CardCups$Day" (34 : Nat) "CardCups$Office" "clean" "I" "CardCups") ∈ lw_tbl := lw_at lw_m2 38 rfl
theorem q389 : (Jvm.Cond.fieldLinkNest "CardCups$Day" (39 : Nat) "CardCups$Office" "dirty" "I" "CardCups") ∈ lw_tbl := lw_at lw_m2 42 rfl
theorem q393 : (Jvm.Cond.fieldLinkNest "CardCups$Day" (42 : Nat) "CardCups$Office" "card" "I" "CardCups") ∈ lw_tbl := lw_at lw_m2 46 rfl
theorem q397 : (Jvm.Cond.fieldLinkNest "CardCups$Day" (60 : Nat) "CardCups$Office" "fall" "I" "CardCups") ∈ lw_tbl := lw_at lw_m2 50 rfl
theorem q1179 : (Jvm.Cond.fieldLinkNest "CardCups$Day" (84 : Nat) "CardCups$Habit" "steps" "[LCardCups$Step;" "CardCups") ∈ lw_tbl := lw_at lw_m5 112 rfl
theorem q1182 : (Jvm.Cond.fieldLinkNest "CardCups$Day" (79 : Nat) "CardCups$Habit" "many" "I" "CardCups") ∈ lw_tbl := lw_at lw_m5 115 rfl
theorem q1645 : (Jvm.Cond.instanceMethod ({ cls := "CardCups$Day", name := "runs", desc := "(LCardCups$Office;LCardCups$Calendar;[LCardCups$Habit;II)LCardCups$Day;" } : Jvm.MethodName)) ∈ lw_all := lw_g (lw_at lw_m7 98 rfl) rfl
theorem q1646 : (Jvm.Cond.selects "CardCups$Day" ({ cls := "CardCups$Day", name := "runs", desc := "(LCardCups$Office;LCardCups$Calendar;[LCardCups$Habit;II)LCardCups$Day;" } : Jvm.MethodName) ({ cls := "CardCups$Day", name := "runs", desc := "(LCardCups$Office;LCardCups$Calendar;[LCardCups$Habit;II)LCardCups$Day;" } : Jvm.MethodName)) ∈ lw_all := lw_g (lw_at lw_m7 99 rfl) rfl
theorem q1647 : (Jvm.Cond.code ({ cls := "CardCups$Day", name := "runs", desc := "(LCardCups$Office;LCardCups$Calendar;[LCardCups$Habit;II)LCardCups$Day;" } : Jvm.MethodName) prog_4_method_3_code (9 : Nat) (Option.some (Jvm.ClassFile.FieldType.object "CardCups$Day"))) ∈ lw_all := lw_g (lw_at lw_m7 100 rfl) rfl
theorem q1648 : (Jvm.Cond.methodLink "CardCups$Day" (45 : Nat) ({ cls := "CardCups$State", name := "codeOf", desc := "(IIIII)I" } : Jvm.MethodName)) ∈ lw_all := lw_g (lw_at lw_m7 101 rfl) rfl
theorem q1649 : (Jvm.Cond.methodLink "CardCups$Day" (49 : Nat) ({ cls := "CardCups$State", name := "of", desc := "(I)LCardCups$State;" } : Jvm.MethodName)) ∈ lw_all := lw_g (lw_at lw_m7 102 rfl) rfl
theorem q1650 : (Jvm.Cond.methodLink "CardCups$Day" (56 : Nat) ({ cls := "CardCups$Day", name := "draw", desc := "(I)I" } : Jvm.MethodName)) ∈ lw_all := lw_g (lw_at lw_m7 103 rfl) rfl
theorem q1651 : (Jvm.Cond.instanceMethod ({ cls := "CardCups$Day", name := "draw", desc := "(I)I" } : Jvm.MethodName)) ∈ lw_all := lw_g (lw_at lw_m7 104 rfl) rfl
theorem q1652 : (Jvm.Cond.selects "CardCups$Day" ({ cls := "CardCups$Day", name := "draw", desc := "(I)I" } : Jvm.MethodName) ({ cls := "CardCups$Day", name := "draw", desc := "(I)I" } : Jvm.MethodName)) ∈ lw_all := lw_g (lw_at lw_m7 105 rfl) rfl
theorem q1653 : (Jvm.Cond.code ({ cls := "CardCups$Day", name := "draw", desc := "(I)I" } : Jvm.MethodName) prog_4_method_2_code (2 : Nat) (Option.some Jvm.ClassFile.FieldType.int)) ∈ lw_all := lw_g (lw_at lw_m7 106 rfl) rfl
theorem q1654 : (Jvm.Cond.constant "CardCups$Day" (20 : Nat) (1103515245 : Int32)) ∈ lw_all := lw_g (lw_at lw_m7 107 rfl) rfl
theorem q1655 : (Jvm.Cond.classLink "CardCups$Day" (64 : Nat) "CardCups$Sight") ∈ lw_all := lw_g (lw_at lw_m7 108 rfl) rfl
theorem q1656 : (Jvm.Cond.methodLink "CardCups$Day" (66 : Nat) ({ cls := "CardCups$Sight", name := "<init>", desc := "(LCardCups$Office;LCardCups$Calendar;I)V" } : Jvm.MethodName)) ∈ lw_all := lw_g (lw_at lw_m7 109 rfl) rfl
theorem q1657 : (Jvm.Cond.methodLink "CardCups$Day" (69 : Nat) ({ cls := "CardCups$Sight", name := "at", desc := "(LCardCups$State;)LCardCups$Sight;" } : Jvm.MethodName)) ∈ lw_all := lw_g (lw_at lw_m7 110 rfl) rfl
theorem q1658 : (Jvm.Cond.methodLink "CardCups$Day" (88 : Nat) ({ cls := "CardCups$Step", name := "isSo", desc := "(LCardCups$Sight;)Z" } : Jvm.MethodName)) ∈ lw_all := lw_g (lw_at lw_m7 111 rfl) rfl
theorem q1659 : (Jvm.Cond.methodLink "CardCups$Day" (94 : Nat) ({ cls := "CardCups$Step", name := "isDrawn", desc := "(LCardCups$Day;)Z" } : Jvm.MethodName)) ∈ lw_all := lw_g (lw_at lw_m7 112 rfl) rfl
theorem q1670 : (Jvm.Cond.methodLink "CardCups$Day" (98 : Nat) ({ cls := "CardCups$Step", name := "on", desc := "(LCardCups$Day;)V" } : Jvm.MethodName)) ∈ lw_all := lw_g (lw_at lw_m7 123 rfl) rfl
theorem q2485 : (Jvm.Cond.castable "CardCups$Day" "java/lang/Object") ∈ lw_tbl := lw_at lw_m10 218 rfl
theorem in_X5 : ∀ w ∈ wsX50, w ∈ lw_all := lw_in wsX50 [310, 312, 314, 316, 318, 320, 322] (by decide +kernel) (by decide +kernel)
/-! CardCups$How -/
set_option maxRecDepth 100000
def RX6 : String := "CardCups$How"
def TX6 : u_T := fun k => match k with
  | 0 => ("CardCups$How", "habits", "[LCardCups$Habit;", true)
  | 1 => ("CardCups$How", "book", "LCardCups$Book;", false)
  | 2 => ("CardCups$How", "to", "I", false)
  | 3 => ("CardCups$How", "without", "I", false)
  | 4 => ("CardCups$How", "fall", "I", false)
  | 5 => ("CardCups$How", "see", "I", false)
  | 6 => ("CardCups$How", "starter", "I", false)
  | _ => ("CardCups$How", "isBegun", "Z", false)
def tyX6 : Nat → FieldType := fun k => match k with
  | 0 => .array (.object "CardCups$Habit")
  | 1 => .object "CardCups$Book"
  | 2 => .int
  | 3 => .int
  | 4 => .int
  | 5 => .int
  | 6 => .int
  | _ => .boolean
abbrev wsX60 : List Cond := u_ws RX6 TX6 8
theorem nmX6 : ∀ a, a < 8 → ∀ b, b < 8 → a ≠ b → (TX6 a).2.1 ≠ (TX6 b).2.1 := by decide +kernel
theorem tyX6_ok : ∀ k, k < 8 → parseFieldDescriptor (TX6 k).2.2.1 = some (tyX6 k) := by decide +kernel
abbrev cX6_init : ByteArray := prog_9_method_1_code
def yX6_init : MethodName := ⟨RX6, "<init>", "()V"⟩
def dkwX6_init_0 : List UInt8 := [42, 183, 0, 3, 42, 16, 6, 189, 0, 9, 181, 0, 11, 177]
abbrev dktX6_init_0 : List UInt8 := dkwX6_init_0 ++ []
theorem dksX6_init_0 : cX6_init.data.toList.drop 0 = dktX6_init_0 := by decide +kernel
theorem dX6_init_0 : decode cX6_init 0 = .ok (.aload_n 0, 1) := dk_42 (dk_at dksX6_init_0 0 rfl rfl)
theorem dX6_init_1 : decode cX6_init 1 = .ok (.invokespecial 3, 3) := dk_183 0 3 (dk_at dksX6_init_0 1 rfl rfl)
theorem dX6_init_4 : decode cX6_init 4 = .ok (.aload_n 0, 1) := dk_42 (dk_at dksX6_init_0 4 rfl rfl)
theorem dX6_init_5 : decode cX6_init 5 = .ok (.bipush 6, 2) := dk_16 6 (dk_at dksX6_init_0 5 rfl rfl)
theorem dX6_init_7 : decode cX6_init 7 = .ok (.anewarray 9, 3) := dk_189 0 9 (dk_at dksX6_init_0 7 rfl rfl)
theorem dX6_init_10 : decode cX6_init 10 = .ok (.putfield 11, 3) := dk_181 0 11 (dk_at dksX6_init_0 10 rfl rfl)
theorem dX6_init_13 : decode cX6_init 13 = .ok (.return_, 1) := dk_177 (dk_at dksX6_init_0 13 rfl rfl)
abbrev cX6_asTold : ByteArray := prog_9_method_2_code
def yX6_asTold : MethodName := ⟨RX6, "asTold", "([LCardCups$Habit;LCardCups$Office;I)LCardCups$How;"⟩
def dkwX6_asTold_2 : List UInt8 := [181, 0, 44, 42, 3, 181, 0, 47, 42, 176]
abbrev dktX6_asTold_2 : List UInt8 := dkwX6_asTold_2 ++ []
def dkwX6_asTold_1 : List UInt8 := [42, 2, 181, 0, 31, 42, 44, 180, 0, 34, 181, 0, 39, 42, 44, 180, 0, 40, 181, 0, 43, 42, 2]
abbrev dktX6_asTold_1 : List UInt8 := dkwX6_asTold_1 ++ dktX6_asTold_2
def dkwX6_asTold_0 : List UInt8 := [43, 3, 42, 180, 0, 11, 3, 16, 6, 184, 0, 17, 42, 1, 181, 0, 23, 42, 29, 4, 100, 181, 0, 27]
abbrev dktX6_asTold_0 : List UInt8 := dkwX6_asTold_0 ++ dktX6_asTold_1
theorem dksX6_asTold_0 : cX6_asTold.data.toList.drop 0 = dktX6_asTold_0 := by decide +kernel
theorem dksX6_asTold_1 : cX6_asTold.data.toList.drop 24 = dktX6_asTold_1 := dk_seg dksX6_asTold_0 24 rfl rfl
theorem dksX6_asTold_2 : cX6_asTold.data.toList.drop 47 = dktX6_asTold_2 := dk_seg dksX6_asTold_1 23 rfl rfl
theorem dX6_asTold_0 : decode cX6_asTold 0 = .ok (.aload_n 1, 1) := dk_43 (dk_at dksX6_asTold_0 0 rfl rfl)
theorem dX6_asTold_1 : decode cX6_asTold 1 = .ok (.iconst 0, 1) := dk_3 (dk_at dksX6_asTold_0 1 rfl rfl)
theorem dX6_asTold_2 : decode cX6_asTold 2 = .ok (.aload_n 0, 1) := dk_42 (dk_at dksX6_asTold_0 2 rfl rfl)
theorem dX6_asTold_3 : decode cX6_asTold 3 = .ok (.getfield 11, 3) := dk_180 0 11 (dk_at dksX6_asTold_0 3 rfl rfl)
theorem dX6_asTold_6 : decode cX6_asTold 6 = .ok (.iconst 0, 1) := dk_3 (dk_at dksX6_asTold_0 6 rfl rfl)
theorem dX6_asTold_7 : decode cX6_asTold 7 = .ok (.bipush 6, 2) := dk_16 6 (dk_at dksX6_asTold_0 7 rfl rfl)
theorem dX6_asTold_9 : decode cX6_asTold 9 = .ok (.invokestatic 17, 3) := dk_184 0 17 (dk_at dksX6_asTold_0 9 rfl rfl)
theorem dX6_asTold_12 : decode cX6_asTold 12 = .ok (.aload_n 0, 1) := dk_42 (dk_at dksX6_asTold_0 12 rfl rfl)
theorem dX6_asTold_13 : decode cX6_asTold 13 = .ok (.aconst_null, 1) := dk_1 (dk_at dksX6_asTold_0 13 rfl rfl)
theorem dX6_asTold_14 : decode cX6_asTold 14 = .ok (.putfield 23, 3) := dk_181 0 23 (dk_at dksX6_asTold_0 14 rfl rfl)
theorem dX6_asTold_17 : decode cX6_asTold 17 = .ok (.aload_n 0, 1) := dk_42 (dk_at dksX6_asTold_0 17 rfl rfl)
theorem dX6_asTold_18 : decode cX6_asTold 18 = .ok (.iload_n 3, 1) := dk_29 (dk_at dksX6_asTold_0 18 rfl rfl)
theorem dX6_asTold_19 : decode cX6_asTold 19 = .ok (.iconst 1, 1) := dk_4 (dk_at dksX6_asTold_0 19 rfl rfl)
theorem dX6_asTold_20 : decode cX6_asTold 20 = .ok (.isub, 1) := dk_100 (dk_at dksX6_asTold_0 20 rfl rfl)
theorem dX6_asTold_21 : decode cX6_asTold 21 = .ok (.putfield 27, 3) := dk_181 0 27 (dk_at dksX6_asTold_0 21 rfl rfl)
theorem dX6_asTold_24 : decode cX6_asTold 24 = .ok (.aload_n 0, 1) := dk_42 (dk_at dksX6_asTold_1 0 rfl rfl)
theorem dX6_asTold_25 : decode cX6_asTold 25 = .ok (.iconst (-1), 1) := dk_2 (dk_at dksX6_asTold_1 1 rfl rfl)
theorem dX6_asTold_26 : decode cX6_asTold 26 = .ok (.putfield 31, 3) := dk_181 0 31 (dk_at dksX6_asTold_1 2 rfl rfl)
theorem dX6_asTold_29 : decode cX6_asTold 29 = .ok (.aload_n 0, 1) := dk_42 (dk_at dksX6_asTold_1 5 rfl rfl)
theorem dX6_asTold_30 : decode cX6_asTold 30 = .ok (.aload_n 2, 1) := dk_44 (dk_at dksX6_asTold_1 6 rfl rfl)
theorem dX6_asTold_31 : decode cX6_asTold 31 = .ok (.getfield 34, 3) := dk_180 0 34 (dk_at dksX6_asTold_1 7 rfl rfl)
theorem dX6_asTold_34 : decode cX6_asTold 34 = .ok (.putfield 39, 3) := dk_181 0 39 (dk_at dksX6_asTold_1 10 rfl rfl)
theorem dX6_asTold_37 : decode cX6_asTold 37 = .ok (.aload_n 0, 1) := dk_42 (dk_at dksX6_asTold_1 13 rfl rfl)
theorem dX6_asTold_38 : decode cX6_asTold 38 = .ok (.aload_n 2, 1) := dk_44 (dk_at dksX6_asTold_1 14 rfl rfl)
theorem dX6_asTold_39 : decode cX6_asTold 39 = .ok (.getfield 40, 3) := dk_180 0 40 (dk_at dksX6_asTold_1 15 rfl rfl)
theorem dX6_asTold_42 : decode cX6_asTold 42 = .ok (.putfield 43, 3) := dk_181 0 43 (dk_at dksX6_asTold_1 18 rfl rfl)
theorem dX6_asTold_45 : decode cX6_asTold 45 = .ok (.aload_n 0, 1) := dk_42 (dk_at dksX6_asTold_1 21 rfl rfl)
theorem dX6_asTold_46 : decode cX6_asTold 46 = .ok (.iconst (-1), 1) := dk_2 (dk_at dksX6_asTold_1 22 rfl rfl)
theorem dX6_asTold_47 : decode cX6_asTold 47 = .ok (.putfield 44, 3) := dk_181 0 44 (dk_at dksX6_asTold_2 0 rfl rfl)
theorem dX6_asTold_50 : decode cX6_asTold 50 = .ok (.aload_n 0, 1) := dk_42 (dk_at dksX6_asTold_2 3 rfl rfl)
theorem dX6_asTold_51 : decode cX6_asTold 51 = .ok (.iconst 0, 1) := dk_3 (dk_at dksX6_asTold_2 4 rfl rfl)
theorem dX6_asTold_52 : decode cX6_asTold 52 = .ok (.putfield 47, 3) := dk_181 0 47 (dk_at dksX6_asTold_2 5 rfl rfl)
theorem dX6_asTold_55 : decode cX6_asTold 55 = .ok (.aload_n 0, 1) := dk_42 (dk_at dksX6_asTold_2 8 rfl rfl)
theorem dX6_asTold_56 : decode cX6_asTold 56 = .ok (.areturn, 1) := dk_176 (dk_at dksX6_asTold_2 9 rfl rfl)
abbrev cX6_to : ByteArray := prog_9_method_3_code
def yX6_to : MethodName := ⟨RX6, "to", "(I)LCardCups$How;"⟩
def dkwX6_to_0 : List UInt8 := [42, 27, 181, 0, 27, 42, 176]
abbrev dktX6_to_0 : List UInt8 := dkwX6_to_0 ++ []
theorem dksX6_to_0 : cX6_to.data.toList.drop 0 = dktX6_to_0 := by decide +kernel
theorem dX6_to_0 : decode cX6_to 0 = .ok (.aload_n 0, 1) := dk_42 (dk_at dksX6_to_0 0 rfl rfl)
theorem dX6_to_1 : decode cX6_to 1 = .ok (.iload_n 1, 1) := dk_27 (dk_at dksX6_to_0 1 rfl rfl)
theorem dX6_to_2 : decode cX6_to 2 = .ok (.putfield 27, 3) := dk_181 0 27 (dk_at dksX6_to_0 2 rfl rfl)
theorem dX6_to_5 : decode cX6_to 5 = .ok (.aload_n 0, 1) := dk_42 (dk_at dksX6_to_0 5 rfl rfl)
theorem dX6_to_6 : decode cX6_to 6 = .ok (.areturn, 1) := dk_176 (dk_at dksX6_to_0 6 rfl rfl)
abbrev cX6_without : ByteArray := prog_9_method_6_code
def yX6_without : MethodName := ⟨RX6, "without", "(I)LCardCups$How;"⟩
def dkwX6_without_0 : List UInt8 := [42, 27, 181, 0, 31, 42, 176]
abbrev dktX6_without_0 : List UInt8 := dkwX6_without_0 ++ []
theorem dksX6_without_0 : cX6_without.data.toList.drop 0 = dktX6_without_0 := by decide +kernel
theorem dX6_without_0 : decode cX6_without 0 = .ok (.aload_n 0, 1) := dk_42 (dk_at dksX6_without_0 0 rfl rfl)
theorem dX6_without_1 : decode cX6_without 1 = .ok (.iload_n 1, 1) := dk_27 (dk_at dksX6_without_0 1 rfl rfl)
theorem dX6_without_2 : decode cX6_without 2 = .ok (.putfield 31, 3) := dk_181 0 31 (dk_at dksX6_without_0 2 rfl rfl)
theorem dX6_without_5 : decode cX6_without 5 = .ok (.aload_n 0, 1) := dk_42 (dk_at dksX6_without_0 5 rfl rfl)
theorem dX6_without_6 : decode cX6_without 6 = .ok (.areturn, 1) := dk_176 (dk_at dksX6_without_0 6 rfl rfl)
abbrev cX6_swapped : ByteArray := prog_9_method_7_code
def yX6_swapped : MethodName := ⟨RX6, "swapped", "(II)LCardCups$How;"⟩
def dkwX6_swapped_1 : List UInt8 := [45, 83, 42, 176]
abbrev dktX6_swapped_1 : List UInt8 := dkwX6_swapped_1 ++ []
def dkwX6_swapped_0 : List UInt8 := [42, 180, 0, 11, 27, 50, 78, 42, 180, 0, 11, 27, 42, 180, 0, 11, 28, 50, 83, 42, 180, 0, 11, 28]
abbrev dktX6_swapped_0 : List UInt8 := dkwX6_swapped_0 ++ dktX6_swapped_1
theorem dksX6_swapped_0 : cX6_swapped.data.toList.drop 0 = dktX6_swapped_0 := by decide +kernel
theorem dksX6_swapped_1 : cX6_swapped.data.toList.drop 24 = dktX6_swapped_1 := dk_seg dksX6_swapped_0 24 rfl rfl
theorem dX6_swapped_0 : decode cX6_swapped 0 = .ok (.aload_n 0, 1) := dk_42 (dk_at dksX6_swapped_0 0 rfl rfl)
theorem dX6_swapped_1 : decode cX6_swapped 1 = .ok (.getfield 11, 3) := dk_180 0 11 (dk_at dksX6_swapped_0 1 rfl rfl)
theorem dX6_swapped_4 : decode cX6_swapped 4 = .ok (.iload_n 1, 1) := dk_27 (dk_at dksX6_swapped_0 4 rfl rfl)
theorem dX6_swapped_5 : decode cX6_swapped 5 = .ok (.aaload, 1) := dk_50 (dk_at dksX6_swapped_0 5 rfl rfl)
theorem dX6_swapped_6 : decode cX6_swapped 6 = .ok (.astore_n 3, 1) := dk_78 (dk_at dksX6_swapped_0 6 rfl rfl)
theorem dX6_swapped_7 : decode cX6_swapped 7 = .ok (.aload_n 0, 1) := dk_42 (dk_at dksX6_swapped_0 7 rfl rfl)
theorem dX6_swapped_8 : decode cX6_swapped 8 = .ok (.getfield 11, 3) := dk_180 0 11 (dk_at dksX6_swapped_0 8 rfl rfl)
theorem dX6_swapped_11 : decode cX6_swapped 11 = .ok (.iload_n 1, 1) := dk_27 (dk_at dksX6_swapped_0 11 rfl rfl)
theorem dX6_swapped_12 : decode cX6_swapped 12 = .ok (.aload_n 0, 1) := dk_42 (dk_at dksX6_swapped_0 12 rfl rfl)
theorem dX6_swapped_13 : decode cX6_swapped 13 = .ok (.getfield 11, 3) := dk_180 0 11 (dk_at dksX6_swapped_0 13 rfl rfl)
theorem dX6_swapped_16 : decode cX6_swapped 16 = .ok (.iload_n 2, 1) := dk_28 (dk_at dksX6_swapped_0 16 rfl rfl)
theorem dX6_swapped_17 : decode cX6_swapped 17 = .ok (.aaload, 1) := dk_50 (dk_at dksX6_swapped_0 17 rfl rfl)
theorem dX6_swapped_18 : decode cX6_swapped 18 = .ok (.aastore, 1) := dk_83 (dk_at dksX6_swapped_0 18 rfl rfl)
theorem dX6_swapped_19 : decode cX6_swapped 19 = .ok (.aload_n 0, 1) := dk_42 (dk_at dksX6_swapped_0 19 rfl rfl)
theorem dX6_swapped_20 : decode cX6_swapped 20 = .ok (.getfield 11, 3) := dk_180 0 11 (dk_at dksX6_swapped_0 20 rfl rfl)
theorem dX6_swapped_23 : decode cX6_swapped 23 = .ok (.iload_n 2, 1) := dk_28 (dk_at dksX6_swapped_0 23 rfl rfl)
theorem dX6_swapped_24 : decode cX6_swapped 24 = .ok (.aload_n 3, 1) := dk_45 (dk_at dksX6_swapped_1 0 rfl rfl)
theorem dX6_swapped_25 : decode cX6_swapped 25 = .ok (.aastore, 1) := dk_83 (dk_at dksX6_swapped_1 1 rfl rfl)
theorem dX6_swapped_26 : decode cX6_swapped 26 = .ok (.aload_n 0, 1) := dk_42 (dk_at dksX6_swapped_1 2 rfl rfl)
theorem dX6_swapped_27 : decode cX6_swapped 27 = .ok (.areturn, 1) := dk_176 (dk_at dksX6_swapped_1 3 rfl rfl)
abbrev cX6_given : ByteArray := prog_9_method_4_code
def yX6_given : MethodName := ⟨RX6, "given", "(LCardCups$Book;)LCardCups$How;"⟩
def dkwX6_given_0 : List UInt8 := [42, 43, 181, 0, 23, 42, 176]
abbrev dktX6_given_0 : List UInt8 := dkwX6_given_0 ++ []
theorem dksX6_given_0 : cX6_given.data.toList.drop 0 = dktX6_given_0 := by decide +kernel
theorem dX6_given_0 : decode cX6_given 0 = .ok (.aload_n 0, 1) := dk_42 (dk_at dksX6_given_0 0 rfl rfl)
theorem dX6_given_1 : decode cX6_given 1 = .ok (.aload_n 1, 1) := dk_43 (dk_at dksX6_given_0 1 rfl rfl)
theorem dX6_given_2 : decode cX6_given 2 = .ok (.putfield 23, 3) := dk_181 0 23 (dk_at dksX6_given_0 2 rfl rfl)
theorem dX6_given_5 : decode cX6_given 5 = .ok (.aload_n 0, 1) := dk_42 (dk_at dksX6_given_0 5 rfl rfl)
theorem dX6_given_6 : decode cX6_given 6 = .ok (.areturn, 1) := dk_176 (dk_at dksX6_given_0 6 rfl rfl)
abbrev cX6_begun : ByteArray := prog_9_method_5_code
def yX6_begun : MethodName := ⟨RX6, "begun", "()LCardCups$How;"⟩
def dkwX6_begun_0 : List UInt8 := [42, 4, 181, 0, 47, 42, 176]
abbrev dktX6_begun_0 : List UInt8 := dkwX6_begun_0 ++ []
theorem dksX6_begun_0 : cX6_begun.data.toList.drop 0 = dktX6_begun_0 := by decide +kernel
theorem dX6_begun_0 : decode cX6_begun 0 = .ok (.aload_n 0, 1) := dk_42 (dk_at dksX6_begun_0 0 rfl rfl)
theorem dX6_begun_1 : decode cX6_begun 1 = .ok (.iconst 1, 1) := dk_4 (dk_at dksX6_begun_0 1 rfl rfl)
theorem dX6_begun_2 : decode cX6_begun 2 = .ok (.putfield 47, 3) := dk_181 0 47 (dk_at dksX6_begun_0 2 rfl rfl)
theorem dX6_begun_5 : decode cX6_begun 5 = .ok (.aload_n 0, 1) := dk_42 (dk_at dksX6_begun_0 5 rfl rfl)
theorem dX6_begun_6 : decode cX6_begun 6 = .ok (.areturn, 1) := dk_176 (dk_at dksX6_begun_0 6 rfl rfl)
abbrev cX6_ruled : ByteArray := prog_9_method_8_code
def yX6_ruled : MethodName := ⟨RX6, "ruled", "(LCardCups$Habit;)LCardCups$How;"⟩
def dkwX6_ruled_0 : List UInt8 := [3, 61, 28, 16, 6, 162, 0, 16, 42, 180, 0, 11, 28, 43, 83, 132, 2, 1, 167, 255, 240, 42, 176]
abbrev dktX6_ruled_0 : List UInt8 := dkwX6_ruled_0 ++ []
theorem dksX6_ruled_0 : cX6_ruled.data.toList.drop 0 = dktX6_ruled_0 := by decide +kernel
theorem dX6_ruled_0 : decode cX6_ruled 0 = .ok (.iconst 0, 1) := dk_3 (dk_at dksX6_ruled_0 0 rfl rfl)
theorem dX6_ruled_1 : decode cX6_ruled 1 = .ok (.istore_n 2, 1) := dk_61 (dk_at dksX6_ruled_0 1 rfl rfl)
theorem dX6_ruled_2 : decode cX6_ruled 2 = .ok (.iload_n 2, 1) := dk_28 (dk_at dksX6_ruled_0 2 rfl rfl)
theorem dX6_ruled_3 : decode cX6_ruled 3 = .ok (.bipush 6, 2) := dk_16 6 (dk_at dksX6_ruled_0 3 rfl rfl)
theorem dX6_ruled_5 : decode cX6_ruled 5 = .ok (.if_icmp .ge 16, 3) := dk_162 0 16 (dk_at dksX6_ruled_0 5 rfl rfl)
theorem dX6_ruled_8 : decode cX6_ruled 8 = .ok (.aload_n 0, 1) := dk_42 (dk_at dksX6_ruled_0 8 rfl rfl)
theorem dX6_ruled_9 : decode cX6_ruled 9 = .ok (.getfield 11, 3) := dk_180 0 11 (dk_at dksX6_ruled_0 9 rfl rfl)
theorem dX6_ruled_12 : decode cX6_ruled 12 = .ok (.iload_n 2, 1) := dk_28 (dk_at dksX6_ruled_0 12 rfl rfl)
theorem dX6_ruled_13 : decode cX6_ruled 13 = .ok (.aload_n 1, 1) := dk_43 (dk_at dksX6_ruled_0 13 rfl rfl)
theorem dX6_ruled_14 : decode cX6_ruled 14 = .ok (.aastore, 1) := dk_83 (dk_at dksX6_ruled_0 14 rfl rfl)
theorem dX6_ruled_15 : decode cX6_ruled 15 = .ok (.iinc 2 1, 3) := dk_132 2 1 (dk_at dksX6_ruled_0 15 rfl rfl)
theorem dX6_ruled_18 : decode cX6_ruled 18 = .ok (.goto (-16), 3) := dk_167 255 240 (dk_at dksX6_ruled_0 18 rfl rfl)
theorem dX6_ruled_21 : decode cX6_ruled 21 = .ok (.aload_n 0, 1) := dk_42 (dk_at dksX6_ruled_0 21 rfl rfl)
theorem dX6_ruled_22 : decode cX6_ruled 22 = .ok (.areturn, 1) := dk_176 (dk_at dksX6_ruled_0 22 rfl rfl)
theorem q113 : (Jvm.Cond.initialized "CardCups$How") ∈ lw_all := lw_g (lw_at lw_m1 6 rfl) rfl
theorem q326 : (Jvm.Cond.instantiable "CardCups$How" (8 : Nat)) ∈ lw_all := lw_g (lw_at lw_m1 219 rfl) rfl
theorem q328 : (Jvm.Cond.instanceMethod ({ cls := "CardCups$How", name := "<init>", desc := "()V" } : Jvm.MethodName)) ∈ lw_all := lw_g (lw_at lw_m1 221 rfl) rfl
theorem q329 : (Jvm.Cond.code ({ cls := "CardCups$How", name := "<init>", desc := "()V" } : Jvm.MethodName) prog_9_method_1_code (1 : Nat) (Option.none : Option Jvm.ClassFile.FieldType)) ∈ lw_all := lw_g (lw_at lw_m1 222 rfl) rfl
theorem q330 : (Jvm.Cond.methodLink "CardCups$How" (3 : Nat) ({ cls := "java/lang/Object", name := "<init>", desc := "()V" } : Jvm.MethodName)) ∈ lw_all := lw_g (lw_at lw_m1 223 rfl) rfl
theorem q331 : (Jvm.Cond.classLink "CardCups$How" (9 : Nat) "CardCups$Habit") ∈ lw_all := lw_g (lw_at lw_m1 224 rfl) rfl
theorem q332 : (Jvm.Cond.fieldLink "CardCups$How" (11 : Nat) "CardCups$How" "habits" "[LCardCups$Habit;") ∈ lw_all := lw_g (lw_at lw_m1 225 rfl) rfl
theorem q334 : (Jvm.Cond.fieldLink "CardCups$How" (23 : Nat) "CardCups$How" "book" "LCardCups$Book;") ∈ lw_all := lw_g (lw_at lw_m1 227 rfl) rfl
theorem q336 : (Jvm.Cond.fieldLink "CardCups$How" (27 : Nat) "CardCups$How" "to" "I") ∈ lw_all := lw_g (lw_at lw_m1 229 rfl) rfl
theorem q338 : (Jvm.Cond.fieldLink "CardCups$How" (31 : Nat) "CardCups$How" "without" "I") ∈ lw_all := lw_g (lw_at lw_m1 231 rfl) rfl
theorem q340 : (Jvm.Cond.fieldLink "CardCups$How" (39 : Nat) "CardCups$How" "fall" "I") ∈ lw_all := lw_g (lw_at lw_m1 233 rfl) rfl
theorem q344 : (Jvm.Cond.fieldLink "CardCups$How" (43 : Nat) "CardCups$How" "see" "I") ∈ lw_all := lw_g (lw_at lw_m1 237 rfl) rfl
theorem q346 : (Jvm.Cond.fieldLink "CardCups$How" (44 : Nat) "CardCups$How" "starter" "I") ∈ lw_all := lw_g (lw_at lw_m1 239 rfl) rfl
theorem q349 : (Jvm.Cond.fieldLink "CardCups$How" (47 : Nat) "CardCups$How" "isBegun" "Z") ∈ lw_all := lw_g (lw_at lw_m2 2 rfl) rfl
theorem q351 : (Jvm.Cond.laysFinal "CardCups$How" "CardCups$How" "habits" "[LCardCups$Habit;") ∈ lw_all := lw_g (lw_at lw_m2 4 rfl) rfl
theorem q352 : (Jvm.Cond.soleField "CardCups$How" "habits") ∈ lw_all := lw_g (lw_at lw_m2 5 rfl) rfl
theorem q353 : (Jvm.Cond.lays "CardCups$How" "CardCups$How" "book" "LCardCups$Book;") ∈ lw_all := lw_g (lw_at lw_m2 6 rfl) rfl
theorem q354 : (Jvm.Cond.soleField "CardCups$How" "book") ∈ lw_all := lw_g (lw_at lw_m2 7 rfl) rfl
theorem q355 : (Jvm.Cond.lays "CardCups$How" "CardCups$How" "to" "I") ∈ lw_all := lw_g (lw_at lw_m2 8 rfl) rfl
theorem q356 : (Jvm.Cond.soleField "CardCups$How" "to") ∈ lw_all := lw_g (lw_at lw_m2 9 rfl) rfl
theorem q357 : (Jvm.Cond.lays "CardCups$How" "CardCups$How" "without" "I") ∈ lw_all := lw_g (lw_at lw_m2 10 rfl) rfl
theorem q358 : (Jvm.Cond.soleField "CardCups$How" "without") ∈ lw_all := lw_g (lw_at lw_m2 11 rfl) rfl
theorem q359 : (Jvm.Cond.lays "CardCups$How" "CardCups$How" "fall" "I") ∈ lw_all := lw_g (lw_at lw_m2 12 rfl) rfl
theorem q360 : (Jvm.Cond.soleField "CardCups$How" "fall") ∈ lw_all := lw_g (lw_at lw_m2 13 rfl) rfl
theorem q361 : (Jvm.Cond.lays "CardCups$How" "CardCups$How" "see" "I") ∈ lw_all := lw_g (lw_at lw_m2 14 rfl) rfl
theorem q362 : (Jvm.Cond.soleField "CardCups$How" "see") ∈ lw_all := lw_g (lw_at lw_m2 15 rfl) rfl
theorem q363 : (Jvm.Cond.lays "CardCups$How" "CardCups$How" "starter" "I") ∈ lw_all := lw_g (lw_at lw_m2 16 rfl) rfl
theorem q364 : (Jvm.Cond.soleField "CardCups$How" "starter") ∈ lw_all := lw_g (lw_at lw_m2 17 rfl) rfl
theorem q365 : (Jvm.Cond.lays "CardCups$How" "CardCups$How" "isBegun" "Z") ∈ lw_all := lw_g (lw_at lw_m2 18 rfl) rfl
theorem q366 : (Jvm.Cond.soleField "CardCups$How" "isBegun") ∈ lw_all := lw_g (lw_at lw_m2 19 rfl) rfl
theorem q367 : (Jvm.Cond.superclass "CardCups$How" "java/lang/Object") ∈ lw_all := lw_g (lw_at lw_m2 20 rfl) rfl
theorem q396 : (Jvm.Cond.fieldLinkNest "CardCups$How" (34 : Nat) "CardCups$Office" "fall" "I" "CardCups") ∈ lw_tbl := lw_at lw_m2 49 rfl
theorem q405 : (Jvm.Cond.fieldLinkNest "CardCups$How" (40 : Nat) "CardCups$Office" "see" "I" "CardCups") ∈ lw_tbl := lw_at lw_m2 58 rfl
theorem q522 : (Jvm.Cond.instanceMethod ({ cls := "CardCups$How", name := "asTold", desc := "([LCardCups$Habit;LCardCups$Office;I)LCardCups$How;" } : Jvm.MethodName)) ∈ lw_all := lw_g (lw_at lw_m2 175 rfl) rfl
theorem q523 : (Jvm.Cond.selects "CardCups$How" ({ cls := "CardCups$How", name := "asTold", desc := "([LCardCups$Habit;LCardCups$Office;I)LCardCups$How;" } : Jvm.MethodName) ({ cls := "CardCups$How", name := "asTold", desc := "([LCardCups$Habit;LCardCups$Office;I)LCardCups$How;" } : Jvm.MethodName)) ∈ lw_all := lw_g (lw_at lw_m2 176 rfl) rfl
theorem q524 : (Jvm.Cond.code ({ cls := "CardCups$How", name := "asTold", desc := "([LCardCups$Habit;LCardCups$Office;I)LCardCups$How;" } : Jvm.MethodName) prog_9_method_2_code (4 : Nat) (Option.some (Jvm.ClassFile.FieldType.object "CardCups$How"))) ∈ lw_all := lw_g (lw_at lw_m2 177 rfl) rfl
theorem q525 : (Jvm.Cond.methodLink "CardCups$How" (17 : Nat) ({ cls := "java/lang/System", name := "arraycopy", desc := "(Ljava/lang/Object;ILjava/lang/Object;II)V" } : Jvm.MethodName)) ∈ lw_all := lw_g (lw_at lw_m2 178 rfl) rfl
theorem q529 : (Jvm.Cond.instanceMethod ({ cls := "CardCups$How", name := "to", desc := "(I)LCardCups$How;" } : Jvm.MethodName)) ∈ lw_all := lw_g (lw_at lw_m2 182 rfl) rfl
theorem q530 : (Jvm.Cond.selects "CardCups$How" ({ cls := "CardCups$How", name := "to", desc := "(I)LCardCups$How;" } : Jvm.MethodName) ({ cls := "CardCups$How", name := "to", desc := "(I)LCardCups$How;" } : Jvm.MethodName)) ∈ lw_all := lw_g (lw_at lw_m2 183 rfl) rfl
theorem q531 : (Jvm.Cond.code ({ cls := "CardCups$How", name := "to", desc := "(I)LCardCups$How;" } : Jvm.MethodName) prog_9_method_3_code (2 : Nat) (Option.some (Jvm.ClassFile.FieldType.object "CardCups$How"))) ∈ lw_all := lw_g (lw_at lw_m2 184 rfl) rfl
theorem q772 : (Jvm.Cond.instanceMethod ({ cls := "CardCups$How", name := "without", desc := "(I)LCardCups$How;" } : Jvm.MethodName)) ∈ lw_all := lw_g (lw_at lw_m3 185 rfl) rfl
theorem q773 : (Jvm.Cond.selects "CardCups$How" ({ cls := "CardCups$How", name := "without", desc := "(I)LCardCups$How;" } : Jvm.MethodName) ({ cls := "CardCups$How", name := "without", desc := "(I)LCardCups$How;" } : Jvm.MethodName)) ∈ lw_all := lw_g (lw_at lw_m3 186 rfl) rfl
theorem q774 : (Jvm.Cond.code ({ cls := "CardCups$How", name := "without", desc := "(I)LCardCups$How;" } : Jvm.MethodName) prog_9_method_6_code (2 : Nat) (Option.some (Jvm.ClassFile.FieldType.object "CardCups$How"))) ∈ lw_all := lw_g (lw_at lw_m3 187 rfl) rfl
theorem q796 : (Jvm.Cond.instanceMethod ({ cls := "CardCups$How", name := "swapped", desc := "(II)LCardCups$How;" } : Jvm.MethodName)) ∈ lw_all := lw_g (lw_at lw_m3 209 rfl) rfl
theorem q797 : (Jvm.Cond.selects "CardCups$How" ({ cls := "CardCups$How", name := "swapped", desc := "(II)LCardCups$How;" } : Jvm.MethodName) ({ cls := "CardCups$How", name := "swapped", desc := "(II)LCardCups$How;" } : Jvm.MethodName)) ∈ lw_all := lw_g (lw_at lw_m3 210 rfl) rfl
theorem q798 : (Jvm.Cond.code ({ cls := "CardCups$How", name := "swapped", desc := "(II)LCardCups$How;" } : Jvm.MethodName) prog_9_method_7_code (4 : Nat) (Option.some (Jvm.ClassFile.FieldType.object "CardCups$How"))) ∈ lw_all := lw_g (lw_at lw_m3 211 rfl) rfl
theorem q1516 : (Jvm.Cond.instanceMethod ({ cls := "CardCups$How", name := "given", desc := "(LCardCups$Book;)LCardCups$How;" } : Jvm.MethodName)) ∈ lw_all := lw_g (lw_at lw_m6 209 rfl) rfl
theorem q1517 : (Jvm.Cond.selects "CardCups$How" ({ cls := "CardCups$How", name := "given", desc := "(LCardCups$Book;)LCardCups$How;" } : Jvm.MethodName) ({ cls := "CardCups$How", name := "given", desc := "(LCardCups$Book;)LCardCups$How;" } : Jvm.MethodName)) ∈ lw_all := lw_g (lw_at lw_m6 210 rfl) rfl
theorem q1518 : (Jvm.Cond.code ({ cls := "CardCups$How", name := "given", desc := "(LCardCups$Book;)LCardCups$How;" } : Jvm.MethodName) prog_9_method_4_code (2 : Nat) (Option.some (Jvm.ClassFile.FieldType.object "CardCups$How"))) ∈ lw_all := lw_g (lw_at lw_m6 211 rfl) rfl
theorem q1535 : (Jvm.Cond.instanceMethod ({ cls := "CardCups$How", name := "begun", desc := "()LCardCups$How;" } : Jvm.MethodName)) ∈ lw_all := lw_g (lw_at lw_m6 228 rfl) rfl
theorem q1536 : (Jvm.Cond.selects "CardCups$How" ({ cls := "CardCups$How", name := "begun", desc := "()LCardCups$How;" } : Jvm.MethodName) ({ cls := "CardCups$How", name := "begun", desc := "()LCardCups$How;" } : Jvm.MethodName)) ∈ lw_all := lw_g (lw_at lw_m6 229 rfl) rfl
theorem q1537 : (Jvm.Cond.code ({ cls := "CardCups$How", name := "begun", desc := "()LCardCups$How;" } : Jvm.MethodName) prog_9_method_5_code (1 : Nat) (Option.some (Jvm.ClassFile.FieldType.object "CardCups$How"))) ∈ lw_all := lw_g (lw_at lw_m6 230 rfl) rfl
theorem q1623 : (Jvm.Cond.instanceMethod ({ cls := "CardCups$How", name := "ruled", desc := "(LCardCups$Habit;)LCardCups$How;" } : Jvm.MethodName)) ∈ lw_all := lw_g (lw_at lw_m7 76 rfl) rfl
theorem q1624 : (Jvm.Cond.selects "CardCups$How" ({ cls := "CardCups$How", name := "ruled", desc := "(LCardCups$Habit;)LCardCups$How;" } : Jvm.MethodName) ({ cls := "CardCups$How", name := "ruled", desc := "(LCardCups$Habit;)LCardCups$How;" } : Jvm.MethodName)) ∈ lw_all := lw_g (lw_at lw_m7 77 rfl) rfl
theorem q1625 : (Jvm.Cond.code ({ cls := "CardCups$How", name := "ruled", desc := "(LCardCups$Habit;)LCardCups$How;" } : Jvm.MethodName) prog_9_method_8_code (3 : Nat) (Option.some (Jvm.ClassFile.FieldType.object "CardCups$How"))) ∈ lw_all := lw_g (lw_at lw_m7 78 rfl) rfl
theorem q2486 : (Jvm.Cond.castable "CardCups$How" "java/lang/Object") ∈ lw_tbl := lw_at lw_m10 219 rfl
theorem in_X6 : ∀ w ∈ wsX60, w ∈ lw_all := lw_in wsX60 [351, 353, 355, 357, 359, 361, 363, 365] (by decide +kernel) (by decide +kernel)
/-! CardCups$Office -/
set_option maxRecDepth 100000
def RX7 : String := "CardCups$Office"
def TX7 : u_T := fun k => match k with
  | 0 => ("CardCups$Office", "price", "[I", true)
  | 1 => ("CardCups$Office", "cups", "I", false)
  | 2 => ("CardCups$Office", "clean", "I", false)
  | 3 => ("CardCups$Office", "dirty", "I", false)
  | 4 => ("CardCups$Office", "card", "I", false)
  | 5 => ("CardCups$Office", "fall", "I", false)
  | 6 => ("CardCups$Office", "warm", "I", false)
  | 7 => ("CardCups$Office", "see", "I", false)
  | _ => ("CardCups$Office", "people", "I", false)
def tyX7 : Nat → FieldType := fun k => match k with
  | 0 => .array .int
  | 1 => .int
  | 2 => .int
  | 3 => .int
  | 4 => .int
  | 5 => .int
  | 6 => .int
  | 7 => .int
  | _ => .int
abbrev wsX70 : List Cond := u_ws RX7 TX7 9
theorem nmX7 : ∀ a, a < 9 → ∀ b, b < 9 → a ≠ b → (TX7 a).2.1 ≠ (TX7 b).2.1 := by decide +kernel
theorem tyX7_ok : ∀ k, k < 9 → parseFieldDescriptor (TX7 k).2.2.1 = some (tyX7 k) := by decide +kernel
abbrev cX7_init : ByteArray := prog_13_method_1_code
def yX7_init : MethodName := ⟨RX7, "<init>", "()V"⟩
def dkwX7_init_2 : List UInt8 := [181, 0, 20, 177]
abbrev dktX7_init_2 : List UInt8 := dkwX7_init_2 ++ []
def dkwX7_init_1 : List UInt8 := [79, 89, 7, 5, 79, 181, 0, 7, 42, 16, 8, 181, 0, 13, 42, 16, 30, 181, 0, 17, 42, 16, 12]
abbrev dktX7_init_1 : List UInt8 := dkwX7_init_1 ++ dktX7_init_2
def dkwX7_init_0 : List UInt8 := [42, 183, 0, 1, 42, 8, 188, 10, 89, 3, 16, 9, 79, 89, 4, 4, 79, 89, 5, 4, 79, 89, 6, 6]
abbrev dktX7_init_0 : List UInt8 := dkwX7_init_0 ++ dktX7_init_1
theorem dksX7_init_0 : cX7_init.data.toList.drop 0 = dktX7_init_0 := by decide +kernel
theorem dksX7_init_1 : cX7_init.data.toList.drop 24 = dktX7_init_1 := dk_seg dksX7_init_0 24 rfl rfl
theorem dksX7_init_2 : cX7_init.data.toList.drop 47 = dktX7_init_2 := dk_seg dksX7_init_1 23 rfl rfl
theorem dX7_init_0 : decode cX7_init 0 = .ok (.aload_n 0, 1) := dk_42 (dk_at dksX7_init_0 0 rfl rfl)
theorem dX7_init_1 : decode cX7_init 1 = .ok (.invokespecial 1, 3) := dk_183 0 1 (dk_at dksX7_init_0 1 rfl rfl)
theorem dX7_init_4 : decode cX7_init 4 = .ok (.aload_n 0, 1) := dk_42 (dk_at dksX7_init_0 4 rfl rfl)
theorem dX7_init_5 : decode cX7_init 5 = .ok (.iconst 5, 1) := dk_8 (dk_at dksX7_init_0 5 rfl rfl)
theorem dX7_init_6 : decode cX7_init 6 = .ok (.newarray .int, 2) := dk_188_10 (dk_at dksX7_init_0 6 rfl rfl)
theorem dX7_init_8 : decode cX7_init 8 = .ok (.dup, 1) := dk_89 (dk_at dksX7_init_0 8 rfl rfl)
theorem dX7_init_9 : decode cX7_init 9 = .ok (.iconst 0, 1) := dk_3 (dk_at dksX7_init_0 9 rfl rfl)
theorem dX7_init_10 : decode cX7_init 10 = .ok (.bipush 9, 2) := dk_16 9 (dk_at dksX7_init_0 10 rfl rfl)
theorem dX7_init_12 : decode cX7_init 12 = .ok (.iastore, 1) := dk_79 (dk_at dksX7_init_0 12 rfl rfl)
theorem dX7_init_13 : decode cX7_init 13 = .ok (.dup, 1) := dk_89 (dk_at dksX7_init_0 13 rfl rfl)
theorem dX7_init_14 : decode cX7_init 14 = .ok (.iconst 1, 1) := dk_4 (dk_at dksX7_init_0 14 rfl rfl)
theorem dX7_init_15 : decode cX7_init 15 = .ok (.iconst 1, 1) := dk_4 (dk_at dksX7_init_0 15 rfl rfl)
theorem dX7_init_16 : decode cX7_init 16 = .ok (.iastore, 1) := dk_79 (dk_at dksX7_init_0 16 rfl rfl)
theorem dX7_init_17 : decode cX7_init 17 = .ok (.dup, 1) := dk_89 (dk_at dksX7_init_0 17 rfl rfl)
theorem dX7_init_18 : decode cX7_init 18 = .ok (.iconst 2, 1) := dk_5 (dk_at dksX7_init_0 18 rfl rfl)
theorem dX7_init_19 : decode cX7_init 19 = .ok (.iconst 1, 1) := dk_4 (dk_at dksX7_init_0 19 rfl rfl)
theorem dX7_init_20 : decode cX7_init 20 = .ok (.iastore, 1) := dk_79 (dk_at dksX7_init_0 20 rfl rfl)
theorem dX7_init_21 : decode cX7_init 21 = .ok (.dup, 1) := dk_89 (dk_at dksX7_init_0 21 rfl rfl)
theorem dX7_init_22 : decode cX7_init 22 = .ok (.iconst 3, 1) := dk_6 (dk_at dksX7_init_0 22 rfl rfl)
theorem dX7_init_23 : decode cX7_init 23 = .ok (.iconst 3, 1) := dk_6 (dk_at dksX7_init_0 23 rfl rfl)
theorem dX7_init_24 : decode cX7_init 24 = .ok (.iastore, 1) := dk_79 (dk_at dksX7_init_1 0 rfl rfl)
theorem dX7_init_25 : decode cX7_init 25 = .ok (.dup, 1) := dk_89 (dk_at dksX7_init_1 1 rfl rfl)
theorem dX7_init_26 : decode cX7_init 26 = .ok (.iconst 4, 1) := dk_7 (dk_at dksX7_init_1 2 rfl rfl)
theorem dX7_init_27 : decode cX7_init 27 = .ok (.iconst 2, 1) := dk_5 (dk_at dksX7_init_1 3 rfl rfl)
theorem dX7_init_28 : decode cX7_init 28 = .ok (.iastore, 1) := dk_79 (dk_at dksX7_init_1 4 rfl rfl)
theorem dX7_init_29 : decode cX7_init 29 = .ok (.putfield 7, 3) := dk_181 0 7 (dk_at dksX7_init_1 5 rfl rfl)
theorem dX7_init_32 : decode cX7_init 32 = .ok (.aload_n 0, 1) := dk_42 (dk_at dksX7_init_1 8 rfl rfl)
theorem dX7_init_33 : decode cX7_init 33 = .ok (.bipush 8, 2) := dk_16 8 (dk_at dksX7_init_1 9 rfl rfl)
theorem dX7_init_35 : decode cX7_init 35 = .ok (.putfield 13, 3) := dk_181 0 13 (dk_at dksX7_init_1 11 rfl rfl)
theorem dX7_init_38 : decode cX7_init 38 = .ok (.aload_n 0, 1) := dk_42 (dk_at dksX7_init_1 14 rfl rfl)
theorem dX7_init_39 : decode cX7_init 39 = .ok (.bipush 30, 2) := dk_16 30 (dk_at dksX7_init_1 15 rfl rfl)
theorem dX7_init_41 : decode cX7_init 41 = .ok (.putfield 17, 3) := dk_181 0 17 (dk_at dksX7_init_1 17 rfl rfl)
theorem dX7_init_44 : decode cX7_init 44 = .ok (.aload_n 0, 1) := dk_42 (dk_at dksX7_init_1 20 rfl rfl)
theorem dX7_init_45 : decode cX7_init 45 = .ok (.bipush 12, 2) := dk_16 12 (dk_at dksX7_init_1 21 rfl rfl)
theorem dX7_init_47 : decode cX7_init 47 = .ok (.putfield 20, 3) := dk_181 0 20 (dk_at dksX7_init_2 0 rfl rfl)
theorem dX7_init_50 : decode cX7_init 50 = .ok (.return_, 1) := dk_177 (dk_at dksX7_init_2 3 rfl rfl)
theorem q114 : (Jvm.Cond.initialized "CardCups$Office") ∈ lw_all := lw_g (lw_at lw_m1 7 rfl) rfl
theorem q369 : (Jvm.Cond.instantiable "CardCups$Office" (9 : Nat)) ∈ lw_all := lw_g (lw_at lw_m2 22 rfl) rfl
theorem q371 : (Jvm.Cond.instanceMethod ({ cls := "CardCups$Office", name := "<init>", desc := "()V" } : Jvm.MethodName)) ∈ lw_all := lw_g (lw_at lw_m2 24 rfl) rfl
theorem q372 : (Jvm.Cond.code ({ cls := "CardCups$Office", name := "<init>", desc := "()V" } : Jvm.MethodName) prog_13_method_1_code (1 : Nat) (Option.none : Option Jvm.ClassFile.FieldType)) ∈ lw_all := lw_g (lw_at lw_m2 25 rfl) rfl
theorem q373 : (Jvm.Cond.methodLink "CardCups$Office" (1 : Nat) ({ cls := "java/lang/Object", name := "<init>", desc := "()V" } : Jvm.MethodName)) ∈ lw_all := lw_g (lw_at lw_m2 26 rfl) rfl
theorem q374 : (Jvm.Cond.fieldLink "CardCups$Office" (7 : Nat) "CardCups$Office" "price" "[I") ∈ lw_all := lw_g (lw_at lw_m2 27 rfl) rfl
theorem q378 : (Jvm.Cond.fieldLink "CardCups$Office" (13 : Nat) "CardCups$Office" "cups" "I") ∈ lw_all := lw_g (lw_at lw_m2 31 rfl) rfl
theorem q400 : (Jvm.Cond.fieldLink "CardCups$Office" (17 : Nat) "CardCups$Office" "warm" "I") ∈ lw_all := lw_g (lw_at lw_m2 53 rfl) rfl
theorem q404 : (Jvm.Cond.fieldLink "CardCups$Office" (20 : Nat) "CardCups$Office" "see" "I") ∈ lw_all := lw_g (lw_at lw_m2 57 rfl) rfl
theorem q411 : (Jvm.Cond.laysFinal "CardCups$Office" "CardCups$Office" "price" "[I") ∈ lw_all := lw_g (lw_at lw_m2 64 rfl) rfl
theorem q412 : (Jvm.Cond.soleField "CardCups$Office" "price") ∈ lw_all := lw_g (lw_at lw_m2 65 rfl) rfl
theorem q413 : (Jvm.Cond.lays "CardCups$Office" "CardCups$Office" "cups" "I") ∈ lw_all := lw_g (lw_at lw_m2 66 rfl) rfl
theorem q414 : (Jvm.Cond.soleField "CardCups$Office" "cups") ∈ lw_all := lw_g (lw_at lw_m2 67 rfl) rfl
theorem q415 : (Jvm.Cond.lays "CardCups$Office" "CardCups$Office" "clean" "I") ∈ lw_all := lw_g (lw_at lw_m2 68 rfl) rfl
theorem q416 : (Jvm.Cond.soleField "CardCups$Office" "clean") ∈ lw_all := lw_g (lw_at lw_m2 69 rfl) rfl
theorem q417 : (Jvm.Cond.lays "CardCups$Office" "CardCups$Office" "dirty" "I") ∈ lw_all := lw_g (lw_at lw_m2 70 rfl) rfl
theorem q418 : (Jvm.Cond.soleField "CardCups$Office" "dirty") ∈ lw_all := lw_g (lw_at lw_m2 71 rfl) rfl
theorem q419 : (Jvm.Cond.lays "CardCups$Office" "CardCups$Office" "card" "I") ∈ lw_all := lw_g (lw_at lw_m2 72 rfl) rfl
theorem q420 : (Jvm.Cond.soleField "CardCups$Office" "card") ∈ lw_all := lw_g (lw_at lw_m2 73 rfl) rfl
theorem q421 : (Jvm.Cond.lays "CardCups$Office" "CardCups$Office" "fall" "I") ∈ lw_all := lw_g (lw_at lw_m2 74 rfl) rfl
theorem q422 : (Jvm.Cond.soleField "CardCups$Office" "fall") ∈ lw_all := lw_g (lw_at lw_m2 75 rfl) rfl
theorem q423 : (Jvm.Cond.lays "CardCups$Office" "CardCups$Office" "warm" "I") ∈ lw_all := lw_g (lw_at lw_m2 76 rfl) rfl
theorem q424 : (Jvm.Cond.soleField "CardCups$Office" "warm") ∈ lw_all := lw_g (lw_at lw_m2 77 rfl) rfl
theorem q425 : (Jvm.Cond.lays "CardCups$Office" "CardCups$Office" "see" "I") ∈ lw_all := lw_g (lw_at lw_m2 78 rfl) rfl
theorem q426 : (Jvm.Cond.soleField "CardCups$Office" "see") ∈ lw_all := lw_g (lw_at lw_m2 79 rfl) rfl
theorem q427 : (Jvm.Cond.lays "CardCups$Office" "CardCups$Office" "people" "I") ∈ lw_all := lw_g (lw_at lw_m2 80 rfl) rfl
theorem q428 : (Jvm.Cond.soleField "CardCups$Office" "people") ∈ lw_all := lw_g (lw_at lw_m2 81 rfl) rfl
theorem q429 : (Jvm.Cond.superclass "CardCups$Office" "java/lang/Object") ∈ lw_all := lw_g (lw_at lw_m2 82 rfl) rfl
theorem q2487 : (Jvm.Cond.castable "CardCups$Office" "java/lang/Object") ∈ lw_tbl := lw_at lw_m10 220 rfl
theorem in_X7 : ∀ w ∈ wsX70, w ∈ lw_all := lw_in wsX70 [411, 413, 415, 417, 419, 421, 423, 425, 427] (by decide +kernel) (by decide +kernel)
/-! CardCups$Book -/
set_option maxRecDepth 100000
def RX8 : String := "CardCups$Book"
def TX8 : u_T := fun k => match k with
  | 0 => ("CardCups$Book", "visit", "[I", true)
  | 1 => ("CardCups$Book", "what", "[I", true)
  | 2 => ("CardCups$Book", "much", "[I", true)
  | _ => ("CardCups$Book", "lines", "I", false)
def tyX8 : Nat → FieldType := fun k => match k with
  | 0 => .array .int
  | 1 => .array .int
  | 2 => .array .int
  | _ => .int
abbrev wsX80 : List Cond := u_ws RX8 TX8 4
theorem nmX8 : ∀ a, a < 4 → ∀ b, b < 4 → a ≠ b → (TX8 a).2.1 ≠ (TX8 b).2.1 := by decide +kernel
theorem tyX8_ok : ∀ k, k < 4 → parseFieldDescriptor (TX8 k).2.2.1 = some (tyX8 k) := by decide +kernel
abbrev cX8_init : ByteArray := prog_2_method_1_code
def yX8_init : MethodName := ⟨RX8, "<init>", "()V"⟩
def dkwX8_init_1 : List UInt8 := [188, 10, 181, 0, 18, 177]
abbrev dktX8_init_1 : List UInt8 := dkwX8_init_1 ++ []
def dkwX8_init_0 : List UInt8 := [42, 183, 0, 3, 42, 16, 10, 188, 10, 181, 0, 9, 42, 16, 10, 188, 10, 181, 0, 15, 42, 16, 10]
abbrev dktX8_init_0 : List UInt8 := dkwX8_init_0 ++ dktX8_init_1
theorem dksX8_init_0 : cX8_init.data.toList.drop 0 = dktX8_init_0 := by decide +kernel
theorem dksX8_init_1 : cX8_init.data.toList.drop 23 = dktX8_init_1 := dk_seg dksX8_init_0 23 rfl rfl
theorem dX8_init_0 : decode cX8_init 0 = .ok (.aload_n 0, 1) := dk_42 (dk_at dksX8_init_0 0 rfl rfl)
theorem dX8_init_1 : decode cX8_init 1 = .ok (.invokespecial 3, 3) := dk_183 0 3 (dk_at dksX8_init_0 1 rfl rfl)
theorem dX8_init_4 : decode cX8_init 4 = .ok (.aload_n 0, 1) := dk_42 (dk_at dksX8_init_0 4 rfl rfl)
theorem dX8_init_5 : decode cX8_init 5 = .ok (.bipush 10, 2) := dk_16 10 (dk_at dksX8_init_0 5 rfl rfl)
theorem dX8_init_7 : decode cX8_init 7 = .ok (.newarray .int, 2) := dk_188_10 (dk_at dksX8_init_0 7 rfl rfl)
theorem dX8_init_9 : decode cX8_init 9 = .ok (.putfield 9, 3) := dk_181 0 9 (dk_at dksX8_init_0 9 rfl rfl)
theorem dX8_init_12 : decode cX8_init 12 = .ok (.aload_n 0, 1) := dk_42 (dk_at dksX8_init_0 12 rfl rfl)
theorem dX8_init_13 : decode cX8_init 13 = .ok (.bipush 10, 2) := dk_16 10 (dk_at dksX8_init_0 13 rfl rfl)
theorem dX8_init_15 : decode cX8_init 15 = .ok (.newarray .int, 2) := dk_188_10 (dk_at dksX8_init_0 15 rfl rfl)
theorem dX8_init_17 : decode cX8_init 17 = .ok (.putfield 15, 3) := dk_181 0 15 (dk_at dksX8_init_0 17 rfl rfl)
theorem dX8_init_20 : decode cX8_init 20 = .ok (.aload_n 0, 1) := dk_42 (dk_at dksX8_init_0 20 rfl rfl)
theorem dX8_init_21 : decode cX8_init 21 = .ok (.bipush 10, 2) := dk_16 10 (dk_at dksX8_init_0 21 rfl rfl)
theorem dX8_init_23 : decode cX8_init 23 = .ok (.newarray .int, 2) := dk_188_10 (dk_at dksX8_init_1 0 rfl rfl)
theorem dX8_init_25 : decode cX8_init 25 = .ok (.putfield 18, 3) := dk_181 0 18 (dk_at dksX8_init_1 2 rfl rfl)
theorem dX8_init_28 : decode cX8_init 28 = .ok (.return_, 1) := dk_177 (dk_at dksX8_init_1 5 rfl rfl)
abbrev cX8_isSo : ByteArray := prog_2_method_2_code
def yX8_isSo : MethodName := ⟨RX8, "isSo", "(LCardCups$Sight;)Z"⟩
def dkwX8_isSo_2 : List UInt8 := [167, 255, 211, 4, 172]
abbrev dktX8_isSo_2 : List UInt8 := dkwX8_isSo_2 ++ []
def dkwX8_isSo_1 : List UInt8 := [42, 180, 0, 15, 28, 46, 182, 0, 29, 42, 180, 0, 18, 28, 46, 159, 0, 5, 3, 172, 132, 2, 1]
abbrev dktX8_isSo_1 : List UInt8 := dkwX8_isSo_1 ++ dktX8_isSo_2
def dkwX8_isSo_0 : List UInt8 := [3, 61, 28, 42, 180, 0, 21, 162, 0, 43, 42, 180, 0, 9, 28, 46, 43, 180, 0, 25, 160, 0, 24, 43]
abbrev dktX8_isSo_0 : List UInt8 := dkwX8_isSo_0 ++ dktX8_isSo_1
theorem dksX8_isSo_0 : cX8_isSo.data.toList.drop 0 = dktX8_isSo_0 := by decide +kernel
theorem dksX8_isSo_1 : cX8_isSo.data.toList.drop 24 = dktX8_isSo_1 := dk_seg dksX8_isSo_0 24 rfl rfl
theorem dksX8_isSo_2 : cX8_isSo.data.toList.drop 47 = dktX8_isSo_2 := dk_seg dksX8_isSo_1 23 rfl rfl
theorem dX8_isSo_0 : decode cX8_isSo 0 = .ok (.iconst 0, 1) := dk_3 (dk_at dksX8_isSo_0 0 rfl rfl)
theorem dX8_isSo_1 : decode cX8_isSo 1 = .ok (.istore_n 2, 1) := dk_61 (dk_at dksX8_isSo_0 1 rfl rfl)
theorem dX8_isSo_2 : decode cX8_isSo 2 = .ok (.iload_n 2, 1) := dk_28 (dk_at dksX8_isSo_0 2 rfl rfl)
theorem dX8_isSo_3 : decode cX8_isSo 3 = .ok (.aload_n 0, 1) := dk_42 (dk_at dksX8_isSo_0 3 rfl rfl)
theorem dX8_isSo_4 : decode cX8_isSo 4 = .ok (.getfield 21, 3) := dk_180 0 21 (dk_at dksX8_isSo_0 4 rfl rfl)
theorem dX8_isSo_7 : decode cX8_isSo 7 = .ok (.if_icmp .ge 43, 3) := dk_162 0 43 (dk_at dksX8_isSo_0 7 rfl rfl)
theorem dX8_isSo_10 : decode cX8_isSo 10 = .ok (.aload_n 0, 1) := dk_42 (dk_at dksX8_isSo_0 10 rfl rfl)
theorem dX8_isSo_11 : decode cX8_isSo 11 = .ok (.getfield 9, 3) := dk_180 0 9 (dk_at dksX8_isSo_0 11 rfl rfl)
theorem dX8_isSo_14 : decode cX8_isSo 14 = .ok (.iload_n 2, 1) := dk_28 (dk_at dksX8_isSo_0 14 rfl rfl)
theorem dX8_isSo_15 : decode cX8_isSo 15 = .ok (.iaload, 1) := dk_46 (dk_at dksX8_isSo_0 15 rfl rfl)
theorem dX8_isSo_16 : decode cX8_isSo 16 = .ok (.aload_n 1, 1) := dk_43 (dk_at dksX8_isSo_0 16 rfl rfl)
theorem dX8_isSo_17 : decode cX8_isSo 17 = .ok (.getfield 25, 3) := dk_180 0 25 (dk_at dksX8_isSo_0 17 rfl rfl)
theorem dX8_isSo_20 : decode cX8_isSo 20 = .ok (.if_icmp .ne 24, 3) := dk_160 0 24 (dk_at dksX8_isSo_0 20 rfl rfl)
theorem dX8_isSo_23 : decode cX8_isSo 23 = .ok (.aload_n 1, 1) := dk_43 (dk_at dksX8_isSo_0 23 rfl rfl)
theorem dX8_isSo_24 : decode cX8_isSo 24 = .ok (.aload_n 0, 1) := dk_42 (dk_at dksX8_isSo_1 0 rfl rfl)
theorem dX8_isSo_25 : decode cX8_isSo 25 = .ok (.getfield 15, 3) := dk_180 0 15 (dk_at dksX8_isSo_1 1 rfl rfl)
theorem dX8_isSo_28 : decode cX8_isSo 28 = .ok (.iload_n 2, 1) := dk_28 (dk_at dksX8_isSo_1 4 rfl rfl)
theorem dX8_isSo_29 : decode cX8_isSo 29 = .ok (.iaload, 1) := dk_46 (dk_at dksX8_isSo_1 5 rfl rfl)
theorem dX8_isSo_30 : decode cX8_isSo 30 = .ok (.invokevirtual 29, 3) := dk_182 0 29 (dk_at dksX8_isSo_1 6 rfl rfl)
theorem dX8_isSo_33 : decode cX8_isSo 33 = .ok (.aload_n 0, 1) := dk_42 (dk_at dksX8_isSo_1 9 rfl rfl)
theorem dX8_isSo_34 : decode cX8_isSo 34 = .ok (.getfield 18, 3) := dk_180 0 18 (dk_at dksX8_isSo_1 10 rfl rfl)
theorem dX8_isSo_37 : decode cX8_isSo 37 = .ok (.iload_n 2, 1) := dk_28 (dk_at dksX8_isSo_1 13 rfl rfl)
theorem dX8_isSo_38 : decode cX8_isSo 38 = .ok (.iaload, 1) := dk_46 (dk_at dksX8_isSo_1 14 rfl rfl)
theorem dX8_isSo_39 : decode cX8_isSo 39 = .ok (.if_icmp .eq 5, 3) := dk_159 0 5 (dk_at dksX8_isSo_1 15 rfl rfl)
theorem dX8_isSo_42 : decode cX8_isSo 42 = .ok (.iconst 0, 1) := dk_3 (dk_at dksX8_isSo_1 18 rfl rfl)
theorem dX8_isSo_43 : decode cX8_isSo 43 = .ok (.ireturn, 1) := dk_172 (dk_at dksX8_isSo_1 19 rfl rfl)
theorem dX8_isSo_44 : decode cX8_isSo 44 = .ok (.iinc 2 1, 3) := dk_132 2 1 (dk_at dksX8_isSo_1 20 rfl rfl)
theorem dX8_isSo_47 : decode cX8_isSo 47 = .ok (.goto (-45), 3) := dk_167 255 211 (dk_at dksX8_isSo_2 0 rfl rfl)
theorem dX8_isSo_50 : decode cX8_isSo 50 = .ok (.iconst 1, 1) := dk_4 (dk_at dksX8_isSo_2 3 rfl rfl)
theorem dX8_isSo_51 : decode cX8_isSo 51 = .ok (.ireturn, 1) := dk_172 (dk_at dksX8_isSo_2 4 rfl rfl)
theorem q115 : (Jvm.Cond.initialized "CardCups$Book") ∈ lw_all := lw_g (lw_at lw_m1 8 rfl) rfl
theorem q431 : (Jvm.Cond.instantiable "CardCups$Book" (4 : Nat)) ∈ lw_all := lw_g (lw_at lw_m2 84 rfl) rfl
theorem q433 : (Jvm.Cond.instanceMethod ({ cls := "CardCups$Book", name := "<init>", desc := "()V" } : Jvm.MethodName)) ∈ lw_all := lw_g (lw_at lw_m2 86 rfl) rfl
theorem q434 : (Jvm.Cond.code ({ cls := "CardCups$Book", name := "<init>", desc := "()V" } : Jvm.MethodName) prog_2_method_1_code (1 : Nat) (Option.none : Option Jvm.ClassFile.FieldType)) ∈ lw_all := lw_g (lw_at lw_m2 87 rfl) rfl
theorem q435 : (Jvm.Cond.methodLink "CardCups$Book" (3 : Nat) ({ cls := "java/lang/Object", name := "<init>", desc := "()V" } : Jvm.MethodName)) ∈ lw_all := lw_g (lw_at lw_m2 88 rfl) rfl
theorem q436 : (Jvm.Cond.fieldLink "CardCups$Book" (9 : Nat) "CardCups$Book" "visit" "[I") ∈ lw_all := lw_g (lw_at lw_m2 89 rfl) rfl
theorem q438 : (Jvm.Cond.fieldLink "CardCups$Book" (15 : Nat) "CardCups$Book" "what" "[I") ∈ lw_all := lw_g (lw_at lw_m2 91 rfl) rfl
theorem q440 : (Jvm.Cond.fieldLink "CardCups$Book" (18 : Nat) "CardCups$Book" "much" "[I") ∈ lw_all := lw_g (lw_at lw_m2 93 rfl) rfl
theorem q442 : (Jvm.Cond.fieldLink "CardCups$Book" (21 : Nat) "CardCups$Book" "lines" "I") ∈ lw_all := lw_g (lw_at lw_m2 95 rfl) rfl
theorem q444 : (Jvm.Cond.laysFinal "CardCups$Book" "CardCups$Book" "visit" "[I") ∈ lw_all := lw_g (lw_at lw_m2 97 rfl) rfl
theorem q445 : (Jvm.Cond.soleField "CardCups$Book" "visit") ∈ lw_all := lw_g (lw_at lw_m2 98 rfl) rfl
theorem q446 : (Jvm.Cond.laysFinal "CardCups$Book" "CardCups$Book" "what" "[I") ∈ lw_all := lw_g (lw_at lw_m2 99 rfl) rfl
theorem q447 : (Jvm.Cond.soleField "CardCups$Book" "what") ∈ lw_all := lw_g (lw_at lw_m2 100 rfl) rfl
theorem q448 : (Jvm.Cond.laysFinal "CardCups$Book" "CardCups$Book" "much" "[I") ∈ lw_all := lw_g (lw_at lw_m2 101 rfl) rfl
theorem q449 : (Jvm.Cond.soleField "CardCups$Book" "much") ∈ lw_all := lw_g (lw_at lw_m2 102 rfl) rfl
theorem q450 : (Jvm.Cond.lays "CardCups$Book" "CardCups$Book" "lines" "I") ∈ lw_all := lw_g (lw_at lw_m2 103 rfl) rfl
theorem q451 : (Jvm.Cond.soleField "CardCups$Book" "lines") ∈ lw_all := lw_g (lw_at lw_m2 104 rfl) rfl
theorem q452 : (Jvm.Cond.superclass "CardCups$Book" "java/lang/Object") ∈ lw_all := lw_g (lw_at lw_m2 105 rfl) rfl
theorem q561 : (Jvm.Cond.fieldLinkNest "CardCups$Book" (25 : Nat) "CardCups$Sight" "visit" "I" "CardCups") ∈ lw_tbl := lw_at lw_m2 214 rfl
theorem q607 : (Jvm.Cond.instanceMethod ({ cls := "CardCups$Book", name := "isSo", desc := "(LCardCups$Sight;)Z" } : Jvm.MethodName)) ∈ lw_all := lw_g (lw_at lw_m3 20 rfl) rfl
theorem q608 : (Jvm.Cond.selects "CardCups$Book" ({ cls := "CardCups$Book", name := "isSo", desc := "(LCardCups$Sight;)Z" } : Jvm.MethodName) ({ cls := "CardCups$Book", name := "isSo", desc := "(LCardCups$Sight;)Z" } : Jvm.MethodName)) ∈ lw_all := lw_g (lw_at lw_m3 21 rfl) rfl
theorem q609 : (Jvm.Cond.code ({ cls := "CardCups$Book", name := "isSo", desc := "(LCardCups$Sight;)Z" } : Jvm.MethodName) prog_2_method_2_code (3 : Nat) (Option.some Jvm.ClassFile.FieldType.boolean)) ∈ lw_all := lw_g (lw_at lw_m3 22 rfl) rfl
theorem q610 : (Jvm.Cond.methodLink "CardCups$Book" (29 : Nat) ({ cls := "CardCups$Sight", name := "known", desc := "(I)I" } : Jvm.MethodName)) ∈ lw_all := lw_g (lw_at lw_m3 23 rfl) rfl
theorem q2488 : (Jvm.Cond.castable "CardCups$Book" "java/lang/Object") ∈ lw_tbl := lw_at lw_m10 221 rfl
theorem in_X8 : ∀ w ∈ wsX80, w ∈ lw_all := lw_in wsX80 [444, 446, 448, 450] (by decide +kernel) (by decide +kernel)
