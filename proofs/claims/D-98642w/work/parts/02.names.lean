/-! DECODE ROWS BY BYTES: one lemma an opcode; a method's code is cut into short pieces once, and a row reads its own piece alone. -/
set_option maxRecDepth 100000
/-- the code has just these bytes from pc on -/
def DkAt (code : ByteArray) (pc : Nat) (bs : List UInt8) : Prop := ∀ (j : Nat) (b : UInt8), bs[j]? = some b → code.data.toList[pc + j]? = some b
/-- the piece W has the bytes bs from its place j on -/
def dkIn (W : List UInt8) (j : Nat) (bs : List UInt8) : Bool := decide ((W.drop j).take bs.length = bs)
theorem dk_seg {l W T : List UInt8} {o o2 : Nat} (h : l.drop o = W ++ T) (n : Nat) (hn : W.length = n) (ho : o + n = o2) : l.drop o2 = T := by
  subst ho
  rw [← List.drop_drop, h, List.drop_left' hn]
theorem dk_at {code : ByteArray} {W T bs : List UInt8} {o pc : Nat} (h : code.data.toList.drop o = W ++ T) (j : Nat) (hp : o + j = pc) (hw : dkIn W j bs = true) : DkAt code pc bs := by
  subst hp
  intro i b e
  have h1 := of_decide_eq_true hw
  have h2 : i < bs.length := (List.getElem?_eq_some_iff.mp e).1
  have h3 : W[j + i]? = some b := by
    rw [← h1, List.getElem?_take, if_pos h2, List.getElem?_drop] at e
    exact e
  have h4 : j + i < W.length := (List.getElem?_eq_some_iff.mp h3).1
  have h5 : (code.data.toList.drop o)[j + i]? = some b := by
    rw [h, List.getElem?_append_left h4]
    exact h3
  rw [List.getElem?_drop, ← Nat.add_assoc] at h5
  exact h5
theorem dk_u1 {A : ByteArray} {p : Nat} {b : UInt8} (h : A.data.toList[p]? = some b) : (Reader.u1 : Reader DecodeError Nat) A p = .ok (b.toNat, p + 1) := by
  obtain ⟨h1, h2⟩ := List.getElem?_eq_some_iff.mp h
  have h3 : p < A.size := by simpa using h1
  have h4 : A[p]'h3 = b := h2
  have e : (Reader.u1 : Reader DecodeError Nat) A p = (if h : p < A.size then .ok (A[p].toNat, p + 1) else .error (HasTruncated.truncated p)) := by
    show (do if h : p < A.size then do set (p + 1); Pure.pure A[p].toNat else MonadExcept.throw (HasTruncated.truncated p) : Reader DecodeError Nat) A p = _
    by_cases hi : p < A.size
    · rw [dif_pos hi, dif_pos hi]; rfl
    · rw [dif_neg hi, dif_neg hi]; rfl
  rw [e, dif_pos h3, h4]
theorem dk_bind {α β : Type} {r : Reader DecodeError α} {f : α → Reader DecodeError β} {A : ByteArray} {p s : Nat} {a : α} (h : r A p = .ok (a, s)) : (r >>= f) A p = f a A s := by
  show (do let (a, s) ← r A p; f a A s : Except DecodeError (β × Nat)) = _
  rw [h]
  rfl
theorem dk_map {α β : Type} {r : Reader DecodeError α} {g : α → β} {A : ByteArray} {p s : Nat} {a : α} (h : r A p = .ok (a, s)) : (g <$> r) A p = .ok (g a, s) := by
  show (do let (a, s) ← r A p; .ok (g a, s) : Except DecodeError (β × Nat)) = _
  rw [h]
  rfl
theorem dk_u2 {A : ByteArray} {p : Nat} {a b : UInt8} (h : A.data.toList[p]? = some a) (h2 : A.data.toList[p + 1]? = some b) : (Reader.u2 : Reader DecodeError Nat) A p = .ok (a.toNat * 256 + b.toNat, p + 2) := by
  show (Reader.u1 >>= fun hi => Reader.u1 >>= fun lo => Pure.pure (hi * 256 + lo) : Reader DecodeError Nat) A p = _
  rw [dk_bind (dk_u1 h), dk_bind (dk_u1 h2)]
  rfl
theorem dk_of {code : ByteArray} {pc n : Nat} {i : Instr} (h : Decoder.instr pc code pc = .ok (i, pc + n)) : decode code pc = .ok (i, n) := by
  have e : decode code pc = (match Decoder.instr pc code pc with | .error x => .error x | .ok (j, s) => .ok (j, s - pc)) := by
    show (do let (j, s) ← Decoder.instr pc code pc; Pure.pure (j, s - pc) : Except DecodeError (Instr × Nat)) = _
    cases Decoder.instr pc code pc <;> rfl
  rw [e, h]
  show Except.ok (i, pc + n - pc) = _
  rw [Nat.add_sub_cancel_left]
theorem dk_1 {code : ByteArray} {pc : Nat} (h : DkAt code pc [1]) : decode code pc = .ok (.aconst_null, 1) := dk_of ((dk_bind (dk_u1 (h 0 _ rfl))).trans rfl)
theorem dk_2 {code : ByteArray} {pc : Nat} (h : DkAt code pc [2]) : decode code pc = .ok (.iconst (-1), 1) := dk_of ((dk_bind (dk_u1 (h 0 _ rfl))).trans rfl)
theorem dk_3 {code : ByteArray} {pc : Nat} (h : DkAt code pc [3]) : decode code pc = .ok (.iconst 0, 1) := dk_of ((dk_bind (dk_u1 (h 0 _ rfl))).trans rfl)
theorem dk_4 {code : ByteArray} {pc : Nat} (h : DkAt code pc [4]) : decode code pc = .ok (.iconst 1, 1) := dk_of ((dk_bind (dk_u1 (h 0 _ rfl))).trans rfl)
theorem dk_5 {code : ByteArray} {pc : Nat} (h : DkAt code pc [5]) : decode code pc = .ok (.iconst 2, 1) := dk_of ((dk_bind (dk_u1 (h 0 _ rfl))).trans rfl)
theorem dk_6 {code : ByteArray} {pc : Nat} (h : DkAt code pc [6]) : decode code pc = .ok (.iconst 3, 1) := dk_of ((dk_bind (dk_u1 (h 0 _ rfl))).trans rfl)
theorem dk_7 {code : ByteArray} {pc : Nat} (h : DkAt code pc [7]) : decode code pc = .ok (.iconst 4, 1) := dk_of ((dk_bind (dk_u1 (h 0 _ rfl))).trans rfl)
theorem dk_8 {code : ByteArray} {pc : Nat} (h : DkAt code pc [8]) : decode code pc = .ok (.iconst 5, 1) := dk_of ((dk_bind (dk_u1 (h 0 _ rfl))).trans rfl)
theorem dk_9 {code : ByteArray} {pc : Nat} (h : DkAt code pc [9]) : decode code pc = .ok (.lconst 0, 1) := dk_of ((dk_bind (dk_u1 (h 0 _ rfl))).trans rfl)
theorem dk_10 {code : ByteArray} {pc : Nat} (h : DkAt code pc [10]) : decode code pc = .ok (.lconst 1, 1) := dk_of ((dk_bind (dk_u1 (h 0 _ rfl))).trans rfl)
theorem dk_16 {code : ByteArray} {pc : Nat} (a : UInt8) (h : DkAt code pc [16, a]) : decode code pc = .ok (.bipush (Reader.signed 8 a.toNat), 2) := dk_of ((dk_bind (dk_u1 (h 0 _ rfl))).trans ((dk_bind (dk_map (dk_u1 (h 1 _ rfl)))).trans rfl))
theorem dk_17 {code : ByteArray} {pc : Nat} (a b : UInt8) (h : DkAt code pc [17, a, b]) : decode code pc = .ok (.sipush (Reader.signed 16 (a.toNat * 256 + b.toNat)), 3) := dk_of ((dk_bind (dk_u1 (h 0 _ rfl))).trans ((dk_bind (dk_map (dk_u2 (h 1 _ rfl) (h 2 _ rfl)))).trans rfl))
theorem dk_18 {code : ByteArray} {pc : Nat} (a : UInt8) (h : DkAt code pc [18, a]) : decode code pc = .ok (.ldc a.toNat, 2) := dk_of ((dk_bind (dk_u1 (h 0 _ rfl))).trans ((dk_bind (dk_u1 (h 1 _ rfl))).trans rfl))
theorem dk_19 {code : ByteArray} {pc : Nat} (a b : UInt8) (h : DkAt code pc [19, a, b]) : decode code pc = .ok (.ldc_w (a.toNat * 256 + b.toNat), 3) := dk_of ((dk_bind (dk_u1 (h 0 _ rfl))).trans ((dk_bind (dk_u2 (h 1 _ rfl) (h 2 _ rfl))).trans rfl))
theorem dk_20 {code : ByteArray} {pc : Nat} (a b : UInt8) (h : DkAt code pc [20, a, b]) : decode code pc = .ok (.ldc2_w (a.toNat * 256 + b.toNat), 3) := dk_of ((dk_bind (dk_u1 (h 0 _ rfl))).trans ((dk_bind (dk_u2 (h 1 _ rfl) (h 2 _ rfl))).trans rfl))
theorem dk_21 {code : ByteArray} {pc : Nat} (a : UInt8) (h : DkAt code pc [21, a]) : decode code pc = .ok (.iload a.toNat, 2) := dk_of ((dk_bind (dk_u1 (h 0 _ rfl))).trans ((dk_bind (dk_u1 (h 1 _ rfl))).trans rfl))
theorem dk_22 {code : ByteArray} {pc : Nat} (a : UInt8) (h : DkAt code pc [22, a]) : decode code pc = .ok (.lload a.toNat, 2) := dk_of ((dk_bind (dk_u1 (h 0 _ rfl))).trans ((dk_bind (dk_u1 (h 1 _ rfl))).trans rfl))
theorem dk_25 {code : ByteArray} {pc : Nat} (a : UInt8) (h : DkAt code pc [25, a]) : decode code pc = .ok (.aload a.toNat, 2) := dk_of ((dk_bind (dk_u1 (h 0 _ rfl))).trans ((dk_bind (dk_u1 (h 1 _ rfl))).trans rfl))
theorem dk_26 {code : ByteArray} {pc : Nat} (h : DkAt code pc [26]) : decode code pc = .ok (.iload_n 0, 1) := dk_of ((dk_bind (dk_u1 (h 0 _ rfl))).trans rfl)
theorem dk_27 {code : ByteArray} {pc : Nat} (h : DkAt code pc [27]) : decode code pc = .ok (.iload_n 1, 1) := dk_of ((dk_bind (dk_u1 (h 0 _ rfl))).trans rfl)
theorem dk_28 {code : ByteArray} {pc : Nat} (h : DkAt code pc [28]) : decode code pc = .ok (.iload_n 2, 1) := dk_of ((dk_bind (dk_u1 (h 0 _ rfl))).trans rfl)
theorem dk_29 {code : ByteArray} {pc : Nat} (h : DkAt code pc [29]) : decode code pc = .ok (.iload_n 3, 1) := dk_of ((dk_bind (dk_u1 (h 0 _ rfl))).trans rfl)
theorem dk_30 {code : ByteArray} {pc : Nat} (h : DkAt code pc [30]) : decode code pc = .ok (.lload_n 0, 1) := dk_of ((dk_bind (dk_u1 (h 0 _ rfl))).trans rfl)
theorem dk_31 {code : ByteArray} {pc : Nat} (h : DkAt code pc [31]) : decode code pc = .ok (.lload_n 1, 1) := dk_of ((dk_bind (dk_u1 (h 0 _ rfl))).trans rfl)
theorem dk_32 {code : ByteArray} {pc : Nat} (h : DkAt code pc [32]) : decode code pc = .ok (.lload_n 2, 1) := dk_of ((dk_bind (dk_u1 (h 0 _ rfl))).trans rfl)
theorem dk_33 {code : ByteArray} {pc : Nat} (h : DkAt code pc [33]) : decode code pc = .ok (.lload_n 3, 1) := dk_of ((dk_bind (dk_u1 (h 0 _ rfl))).trans rfl)
theorem dk_42 {code : ByteArray} {pc : Nat} (h : DkAt code pc [42]) : decode code pc = .ok (.aload_n 0, 1) := dk_of ((dk_bind (dk_u1 (h 0 _ rfl))).trans rfl)
theorem dk_43 {code : ByteArray} {pc : Nat} (h : DkAt code pc [43]) : decode code pc = .ok (.aload_n 1, 1) := dk_of ((dk_bind (dk_u1 (h 0 _ rfl))).trans rfl)
theorem dk_44 {code : ByteArray} {pc : Nat} (h : DkAt code pc [44]) : decode code pc = .ok (.aload_n 2, 1) := dk_of ((dk_bind (dk_u1 (h 0 _ rfl))).trans rfl)
theorem dk_45 {code : ByteArray} {pc : Nat} (h : DkAt code pc [45]) : decode code pc = .ok (.aload_n 3, 1) := dk_of ((dk_bind (dk_u1 (h 0 _ rfl))).trans rfl)
theorem dk_46 {code : ByteArray} {pc : Nat} (h : DkAt code pc [46]) : decode code pc = .ok (.iaload, 1) := dk_of ((dk_bind (dk_u1 (h 0 _ rfl))).trans rfl)
theorem dk_47 {code : ByteArray} {pc : Nat} (h : DkAt code pc [47]) : decode code pc = .ok (.laload, 1) := dk_of ((dk_bind (dk_u1 (h 0 _ rfl))).trans rfl)
theorem dk_50 {code : ByteArray} {pc : Nat} (h : DkAt code pc [50]) : decode code pc = .ok (.aaload, 1) := dk_of ((dk_bind (dk_u1 (h 0 _ rfl))).trans rfl)
theorem dk_51 {code : ByteArray} {pc : Nat} (h : DkAt code pc [51]) : decode code pc = .ok (.baload, 1) := dk_of ((dk_bind (dk_u1 (h 0 _ rfl))).trans rfl)
theorem dk_54 {code : ByteArray} {pc : Nat} (a : UInt8) (h : DkAt code pc [54, a]) : decode code pc = .ok (.istore a.toNat, 2) := dk_of ((dk_bind (dk_u1 (h 0 _ rfl))).trans ((dk_bind (dk_u1 (h 1 _ rfl))).trans rfl))
theorem dk_55 {code : ByteArray} {pc : Nat} (a : UInt8) (h : DkAt code pc [55, a]) : decode code pc = .ok (.lstore a.toNat, 2) := dk_of ((dk_bind (dk_u1 (h 0 _ rfl))).trans ((dk_bind (dk_u1 (h 1 _ rfl))).trans rfl))
theorem dk_58 {code : ByteArray} {pc : Nat} (a : UInt8) (h : DkAt code pc [58, a]) : decode code pc = .ok (.astore a.toNat, 2) := dk_of ((dk_bind (dk_u1 (h 0 _ rfl))).trans ((dk_bind (dk_u1 (h 1 _ rfl))).trans rfl))
theorem dk_59 {code : ByteArray} {pc : Nat} (h : DkAt code pc [59]) : decode code pc = .ok (.istore_n 0, 1) := dk_of ((dk_bind (dk_u1 (h 0 _ rfl))).trans rfl)
theorem dk_60 {code : ByteArray} {pc : Nat} (h : DkAt code pc [60]) : decode code pc = .ok (.istore_n 1, 1) := dk_of ((dk_bind (dk_u1 (h 0 _ rfl))).trans rfl)
theorem dk_61 {code : ByteArray} {pc : Nat} (h : DkAt code pc [61]) : decode code pc = .ok (.istore_n 2, 1) := dk_of ((dk_bind (dk_u1 (h 0 _ rfl))).trans rfl)
theorem dk_62 {code : ByteArray} {pc : Nat} (h : DkAt code pc [62]) : decode code pc = .ok (.istore_n 3, 1) := dk_of ((dk_bind (dk_u1 (h 0 _ rfl))).trans rfl)
theorem dk_65 {code : ByteArray} {pc : Nat} (h : DkAt code pc [65]) : decode code pc = .ok (.lstore_n 2, 1) := dk_of ((dk_bind (dk_u1 (h 0 _ rfl))).trans rfl)
theorem dk_66 {code : ByteArray} {pc : Nat} (h : DkAt code pc [66]) : decode code pc = .ok (.lstore_n 3, 1) := dk_of ((dk_bind (dk_u1 (h 0 _ rfl))).trans rfl)
theorem dk_76 {code : ByteArray} {pc : Nat} (h : DkAt code pc [76]) : decode code pc = .ok (.astore_n 1, 1) := dk_of ((dk_bind (dk_u1 (h 0 _ rfl))).trans rfl)
theorem dk_77 {code : ByteArray} {pc : Nat} (h : DkAt code pc [77]) : decode code pc = .ok (.astore_n 2, 1) := dk_of ((dk_bind (dk_u1 (h 0 _ rfl))).trans rfl)
theorem dk_78 {code : ByteArray} {pc : Nat} (h : DkAt code pc [78]) : decode code pc = .ok (.astore_n 3, 1) := dk_of ((dk_bind (dk_u1 (h 0 _ rfl))).trans rfl)
theorem dk_79 {code : ByteArray} {pc : Nat} (h : DkAt code pc [79]) : decode code pc = .ok (.iastore, 1) := dk_of ((dk_bind (dk_u1 (h 0 _ rfl))).trans rfl)
theorem dk_80 {code : ByteArray} {pc : Nat} (h : DkAt code pc [80]) : decode code pc = .ok (.lastore, 1) := dk_of ((dk_bind (dk_u1 (h 0 _ rfl))).trans rfl)
theorem dk_83 {code : ByteArray} {pc : Nat} (h : DkAt code pc [83]) : decode code pc = .ok (.aastore, 1) := dk_of ((dk_bind (dk_u1 (h 0 _ rfl))).trans rfl)
theorem dk_84 {code : ByteArray} {pc : Nat} (h : DkAt code pc [84]) : decode code pc = .ok (.bastore, 1) := dk_of ((dk_bind (dk_u1 (h 0 _ rfl))).trans rfl)
theorem dk_87 {code : ByteArray} {pc : Nat} (h : DkAt code pc [87]) : decode code pc = .ok (.pop, 1) := dk_of ((dk_bind (dk_u1 (h 0 _ rfl))).trans rfl)
theorem dk_89 {code : ByteArray} {pc : Nat} (h : DkAt code pc [89]) : decode code pc = .ok (.dup, 1) := dk_of ((dk_bind (dk_u1 (h 0 _ rfl))).trans rfl)
theorem dk_90 {code : ByteArray} {pc : Nat} (h : DkAt code pc [90]) : decode code pc = .ok (.dup_x1, 1) := dk_of ((dk_bind (dk_u1 (h 0 _ rfl))).trans rfl)
theorem dk_92 {code : ByteArray} {pc : Nat} (h : DkAt code pc [92]) : decode code pc = .ok (.dup2, 1) := dk_of ((dk_bind (dk_u1 (h 0 _ rfl))).trans rfl)
theorem dk_96 {code : ByteArray} {pc : Nat} (h : DkAt code pc [96]) : decode code pc = .ok (.iadd, 1) := dk_of ((dk_bind (dk_u1 (h 0 _ rfl))).trans rfl)
theorem dk_97 {code : ByteArray} {pc : Nat} (h : DkAt code pc [97]) : decode code pc = .ok (.ladd, 1) := dk_of ((dk_bind (dk_u1 (h 0 _ rfl))).trans rfl)
theorem dk_100 {code : ByteArray} {pc : Nat} (h : DkAt code pc [100]) : decode code pc = .ok (.isub, 1) := dk_of ((dk_bind (dk_u1 (h 0 _ rfl))).trans rfl)
theorem dk_101 {code : ByteArray} {pc : Nat} (h : DkAt code pc [101]) : decode code pc = .ok (.lsub, 1) := dk_of ((dk_bind (dk_u1 (h 0 _ rfl))).trans rfl)
theorem dk_104 {code : ByteArray} {pc : Nat} (h : DkAt code pc [104]) : decode code pc = .ok (.imul, 1) := dk_of ((dk_bind (dk_u1 (h 0 _ rfl))).trans rfl)
theorem dk_105 {code : ByteArray} {pc : Nat} (h : DkAt code pc [105]) : decode code pc = .ok (.lmul, 1) := dk_of ((dk_bind (dk_u1 (h 0 _ rfl))).trans rfl)
theorem dk_108 {code : ByteArray} {pc : Nat} (h : DkAt code pc [108]) : decode code pc = .ok (.idiv, 1) := dk_of ((dk_bind (dk_u1 (h 0 _ rfl))).trans rfl)
theorem dk_109 {code : ByteArray} {pc : Nat} (h : DkAt code pc [109]) : decode code pc = .ok (.ldiv, 1) := dk_of ((dk_bind (dk_u1 (h 0 _ rfl))).trans rfl)
theorem dk_112 {code : ByteArray} {pc : Nat} (h : DkAt code pc [112]) : decode code pc = .ok (.irem, 1) := dk_of ((dk_bind (dk_u1 (h 0 _ rfl))).trans rfl)
theorem dk_113 {code : ByteArray} {pc : Nat} (h : DkAt code pc [113]) : decode code pc = .ok (.lrem, 1) := dk_of ((dk_bind (dk_u1 (h 0 _ rfl))).trans rfl)
theorem dk_117 {code : ByteArray} {pc : Nat} (h : DkAt code pc [117]) : decode code pc = .ok (.lneg, 1) := dk_of ((dk_bind (dk_u1 (h 0 _ rfl))).trans rfl)
theorem dk_120 {code : ByteArray} {pc : Nat} (h : DkAt code pc [120]) : decode code pc = .ok (.ishl, 1) := dk_of ((dk_bind (dk_u1 (h 0 _ rfl))).trans rfl)
theorem dk_122 {code : ByteArray} {pc : Nat} (h : DkAt code pc [122]) : decode code pc = .ok (.ishr, 1) := dk_of ((dk_bind (dk_u1 (h 0 _ rfl))).trans rfl)
theorem dk_124 {code : ByteArray} {pc : Nat} (h : DkAt code pc [124]) : decode code pc = .ok (.iushr, 1) := dk_of ((dk_bind (dk_u1 (h 0 _ rfl))).trans rfl)
theorem dk_126 {code : ByteArray} {pc : Nat} (h : DkAt code pc [126]) : decode code pc = .ok (.iand, 1) := dk_of ((dk_bind (dk_u1 (h 0 _ rfl))).trans rfl)
theorem dk_127 {code : ByteArray} {pc : Nat} (h : DkAt code pc [127]) : decode code pc = .ok (.land, 1) := dk_of ((dk_bind (dk_u1 (h 0 _ rfl))).trans rfl)
theorem dk_128 {code : ByteArray} {pc : Nat} (h : DkAt code pc [128]) : decode code pc = .ok (.ior, 1) := dk_of ((dk_bind (dk_u1 (h 0 _ rfl))).trans rfl)
theorem dk_130 {code : ByteArray} {pc : Nat} (h : DkAt code pc [130]) : decode code pc = .ok (.ixor, 1) := dk_of ((dk_bind (dk_u1 (h 0 _ rfl))).trans rfl)
theorem dk_132 {code : ByteArray} {pc : Nat} (a b : UInt8) (h : DkAt code pc [132, a, b]) : decode code pc = .ok (.iinc a.toNat (Reader.signed 8 b.toNat), 3) := dk_of ((dk_bind (dk_u1 (h 0 _ rfl))).trans ((dk_bind (dk_u1 (h 1 _ rfl))).trans ((dk_bind (dk_map (dk_u1 (h 2 _ rfl)))).trans rfl)))
theorem dk_133 {code : ByteArray} {pc : Nat} (h : DkAt code pc [133]) : decode code pc = .ok (.i2l, 1) := dk_of ((dk_bind (dk_u1 (h 0 _ rfl))).trans rfl)
theorem dk_136 {code : ByteArray} {pc : Nat} (h : DkAt code pc [136]) : decode code pc = .ok (.l2i, 1) := dk_of ((dk_bind (dk_u1 (h 0 _ rfl))).trans rfl)
theorem dk_145 {code : ByteArray} {pc : Nat} (h : DkAt code pc [145]) : decode code pc = .ok (.i2b, 1) := dk_of ((dk_bind (dk_u1 (h 0 _ rfl))).trans rfl)
theorem dk_146 {code : ByteArray} {pc : Nat} (h : DkAt code pc [146]) : decode code pc = .ok (.i2c, 1) := dk_of ((dk_bind (dk_u1 (h 0 _ rfl))).trans rfl)
theorem dk_148 {code : ByteArray} {pc : Nat} (h : DkAt code pc [148]) : decode code pc = .ok (.lcmp, 1) := dk_of ((dk_bind (dk_u1 (h 0 _ rfl))).trans rfl)
theorem dk_153 {code : ByteArray} {pc : Nat} (a b : UInt8) (h : DkAt code pc [153, a, b]) : decode code pc = .ok (.ifCond .eq (Reader.signed 16 (a.toNat * 256 + b.toNat)), 3) := dk_of ((dk_bind (dk_u1 (h 0 _ rfl))).trans ((dk_bind (dk_map (dk_u2 (h 1 _ rfl) (h 2 _ rfl)))).trans rfl))
theorem dk_154 {code : ByteArray} {pc : Nat} (a b : UInt8) (h : DkAt code pc [154, a, b]) : decode code pc = .ok (.ifCond .ne (Reader.signed 16 (a.toNat * 256 + b.toNat)), 3) := dk_of ((dk_bind (dk_u1 (h 0 _ rfl))).trans ((dk_bind (dk_map (dk_u2 (h 1 _ rfl) (h 2 _ rfl)))).trans rfl))
theorem dk_155 {code : ByteArray} {pc : Nat} (a b : UInt8) (h : DkAt code pc [155, a, b]) : decode code pc = .ok (.ifCond .lt (Reader.signed 16 (a.toNat * 256 + b.toNat)), 3) := dk_of ((dk_bind (dk_u1 (h 0 _ rfl))).trans ((dk_bind (dk_map (dk_u2 (h 1 _ rfl) (h 2 _ rfl)))).trans rfl))
theorem dk_156 {code : ByteArray} {pc : Nat} (a b : UInt8) (h : DkAt code pc [156, a, b]) : decode code pc = .ok (.ifCond .ge (Reader.signed 16 (a.toNat * 256 + b.toNat)), 3) := dk_of ((dk_bind (dk_u1 (h 0 _ rfl))).trans ((dk_bind (dk_map (dk_u2 (h 1 _ rfl) (h 2 _ rfl)))).trans rfl))
theorem dk_157 {code : ByteArray} {pc : Nat} (a b : UInt8) (h : DkAt code pc [157, a, b]) : decode code pc = .ok (.ifCond .gt (Reader.signed 16 (a.toNat * 256 + b.toNat)), 3) := dk_of ((dk_bind (dk_u1 (h 0 _ rfl))).trans ((dk_bind (dk_map (dk_u2 (h 1 _ rfl) (h 2 _ rfl)))).trans rfl))
theorem dk_158 {code : ByteArray} {pc : Nat} (a b : UInt8) (h : DkAt code pc [158, a, b]) : decode code pc = .ok (.ifCond .le (Reader.signed 16 (a.toNat * 256 + b.toNat)), 3) := dk_of ((dk_bind (dk_u1 (h 0 _ rfl))).trans ((dk_bind (dk_map (dk_u2 (h 1 _ rfl) (h 2 _ rfl)))).trans rfl))
theorem dk_159 {code : ByteArray} {pc : Nat} (a b : UInt8) (h : DkAt code pc [159, a, b]) : decode code pc = .ok (.if_icmp .eq (Reader.signed 16 (a.toNat * 256 + b.toNat)), 3) := dk_of ((dk_bind (dk_u1 (h 0 _ rfl))).trans ((dk_bind (dk_map (dk_u2 (h 1 _ rfl) (h 2 _ rfl)))).trans rfl))
theorem dk_160 {code : ByteArray} {pc : Nat} (a b : UInt8) (h : DkAt code pc [160, a, b]) : decode code pc = .ok (.if_icmp .ne (Reader.signed 16 (a.toNat * 256 + b.toNat)), 3) := dk_of ((dk_bind (dk_u1 (h 0 _ rfl))).trans ((dk_bind (dk_map (dk_u2 (h 1 _ rfl) (h 2 _ rfl)))).trans rfl))
theorem dk_161 {code : ByteArray} {pc : Nat} (a b : UInt8) (h : DkAt code pc [161, a, b]) : decode code pc = .ok (.if_icmp .lt (Reader.signed 16 (a.toNat * 256 + b.toNat)), 3) := dk_of ((dk_bind (dk_u1 (h 0 _ rfl))).trans ((dk_bind (dk_map (dk_u2 (h 1 _ rfl) (h 2 _ rfl)))).trans rfl))
theorem dk_162 {code : ByteArray} {pc : Nat} (a b : UInt8) (h : DkAt code pc [162, a, b]) : decode code pc = .ok (.if_icmp .ge (Reader.signed 16 (a.toNat * 256 + b.toNat)), 3) := dk_of ((dk_bind (dk_u1 (h 0 _ rfl))).trans ((dk_bind (dk_map (dk_u2 (h 1 _ rfl) (h 2 _ rfl)))).trans rfl))
theorem dk_163 {code : ByteArray} {pc : Nat} (a b : UInt8) (h : DkAt code pc [163, a, b]) : decode code pc = .ok (.if_icmp .gt (Reader.signed 16 (a.toNat * 256 + b.toNat)), 3) := dk_of ((dk_bind (dk_u1 (h 0 _ rfl))).trans ((dk_bind (dk_map (dk_u2 (h 1 _ rfl) (h 2 _ rfl)))).trans rfl))
theorem dk_164 {code : ByteArray} {pc : Nat} (a b : UInt8) (h : DkAt code pc [164, a, b]) : decode code pc = .ok (.if_icmp .le (Reader.signed 16 (a.toNat * 256 + b.toNat)), 3) := dk_of ((dk_bind (dk_u1 (h 0 _ rfl))).trans ((dk_bind (dk_map (dk_u2 (h 1 _ rfl) (h 2 _ rfl)))).trans rfl))
theorem dk_165 {code : ByteArray} {pc : Nat} (a b : UInt8) (h : DkAt code pc [165, a, b]) : decode code pc = .ok (.if_acmp .eq (Reader.signed 16 (a.toNat * 256 + b.toNat)), 3) := dk_of ((dk_bind (dk_u1 (h 0 _ rfl))).trans ((dk_bind (dk_map (dk_u2 (h 1 _ rfl) (h 2 _ rfl)))).trans rfl))
theorem dk_166 {code : ByteArray} {pc : Nat} (a b : UInt8) (h : DkAt code pc [166, a, b]) : decode code pc = .ok (.if_acmp .ne (Reader.signed 16 (a.toNat * 256 + b.toNat)), 3) := dk_of ((dk_bind (dk_u1 (h 0 _ rfl))).trans ((dk_bind (dk_map (dk_u2 (h 1 _ rfl) (h 2 _ rfl)))).trans rfl))
theorem dk_167 {code : ByteArray} {pc : Nat} (a b : UInt8) (h : DkAt code pc [167, a, b]) : decode code pc = .ok (.goto (Reader.signed 16 (a.toNat * 256 + b.toNat)), 3) := dk_of ((dk_bind (dk_u1 (h 0 _ rfl))).trans ((dk_bind (dk_map (dk_u2 (h 1 _ rfl) (h 2 _ rfl)))).trans rfl))
theorem dk_172 {code : ByteArray} {pc : Nat} (h : DkAt code pc [172]) : decode code pc = .ok (.ireturn, 1) := dk_of ((dk_bind (dk_u1 (h 0 _ rfl))).trans rfl)
theorem dk_173 {code : ByteArray} {pc : Nat} (h : DkAt code pc [173]) : decode code pc = .ok (.lreturn, 1) := dk_of ((dk_bind (dk_u1 (h 0 _ rfl))).trans rfl)
theorem dk_176 {code : ByteArray} {pc : Nat} (h : DkAt code pc [176]) : decode code pc = .ok (.areturn, 1) := dk_of ((dk_bind (dk_u1 (h 0 _ rfl))).trans rfl)
theorem dk_177 {code : ByteArray} {pc : Nat} (h : DkAt code pc [177]) : decode code pc = .ok (.return_, 1) := dk_of ((dk_bind (dk_u1 (h 0 _ rfl))).trans rfl)
theorem dk_178 {code : ByteArray} {pc : Nat} (a b : UInt8) (h : DkAt code pc [178, a, b]) : decode code pc = .ok (.getstatic (a.toNat * 256 + b.toNat), 3) := dk_of ((dk_bind (dk_u1 (h 0 _ rfl))).trans ((dk_bind (dk_u2 (h 1 _ rfl) (h 2 _ rfl))).trans rfl))
theorem dk_180 {code : ByteArray} {pc : Nat} (a b : UInt8) (h : DkAt code pc [180, a, b]) : decode code pc = .ok (.getfield (a.toNat * 256 + b.toNat), 3) := dk_of ((dk_bind (dk_u1 (h 0 _ rfl))).trans ((dk_bind (dk_u2 (h 1 _ rfl) (h 2 _ rfl))).trans rfl))
theorem dk_181 {code : ByteArray} {pc : Nat} (a b : UInt8) (h : DkAt code pc [181, a, b]) : decode code pc = .ok (.putfield (a.toNat * 256 + b.toNat), 3) := dk_of ((dk_bind (dk_u1 (h 0 _ rfl))).trans ((dk_bind (dk_u2 (h 1 _ rfl) (h 2 _ rfl))).trans rfl))
theorem dk_182 {code : ByteArray} {pc : Nat} (a b : UInt8) (h : DkAt code pc [182, a, b]) : decode code pc = .ok (.invokevirtual (a.toNat * 256 + b.toNat), 3) := dk_of ((dk_bind (dk_u1 (h 0 _ rfl))).trans ((dk_bind (dk_u2 (h 1 _ rfl) (h 2 _ rfl))).trans rfl))
theorem dk_183 {code : ByteArray} {pc : Nat} (a b : UInt8) (h : DkAt code pc [183, a, b]) : decode code pc = .ok (.invokespecial (a.toNat * 256 + b.toNat), 3) := dk_of ((dk_bind (dk_u1 (h 0 _ rfl))).trans ((dk_bind (dk_u2 (h 1 _ rfl) (h 2 _ rfl))).trans rfl))
theorem dk_184 {code : ByteArray} {pc : Nat} (a b : UInt8) (h : DkAt code pc [184, a, b]) : decode code pc = .ok (.invokestatic (a.toNat * 256 + b.toNat), 3) := dk_of ((dk_bind (dk_u1 (h 0 _ rfl))).trans ((dk_bind (dk_u2 (h 1 _ rfl) (h 2 _ rfl))).trans rfl))
theorem dk_187 {code : ByteArray} {pc : Nat} (a b : UInt8) (h : DkAt code pc [187, a, b]) : decode code pc = .ok (.new (a.toNat * 256 + b.toNat), 3) := dk_of ((dk_bind (dk_u1 (h 0 _ rfl))).trans ((dk_bind (dk_u2 (h 1 _ rfl) (h 2 _ rfl))).trans rfl))
theorem dk_188_4 {code : ByteArray} {pc : Nat} (h : DkAt code pc [188, 4]) : decode code pc = .ok (.newarray .boolean, 2) := dk_of ((dk_bind (dk_u1 (h 0 _ rfl))).trans ((dk_bind (dk_u1 (h 1 _ rfl))).trans rfl))
theorem dk_188_8 {code : ByteArray} {pc : Nat} (h : DkAt code pc [188, 8]) : decode code pc = .ok (.newarray .byte, 2) := dk_of ((dk_bind (dk_u1 (h 0 _ rfl))).trans ((dk_bind (dk_u1 (h 1 _ rfl))).trans rfl))
theorem dk_188_10 {code : ByteArray} {pc : Nat} (h : DkAt code pc [188, 10]) : decode code pc = .ok (.newarray .int, 2) := dk_of ((dk_bind (dk_u1 (h 0 _ rfl))).trans ((dk_bind (dk_u1 (h 1 _ rfl))).trans rfl))
theorem dk_188_11 {code : ByteArray} {pc : Nat} (h : DkAt code pc [188, 11]) : decode code pc = .ok (.newarray .long, 2) := dk_of ((dk_bind (dk_u1 (h 0 _ rfl))).trans ((dk_bind (dk_u1 (h 1 _ rfl))).trans rfl))
theorem dk_189 {code : ByteArray} {pc : Nat} (a b : UInt8) (h : DkAt code pc [189, a, b]) : decode code pc = .ok (.anewarray (a.toNat * 256 + b.toNat), 3) := dk_of ((dk_bind (dk_u1 (h 0 _ rfl))).trans ((dk_bind (dk_u2 (h 1 _ rfl) (h 2 _ rfl))).trans rfl))
theorem dk_190 {code : ByteArray} {pc : Nat} (h : DkAt code pc [190]) : decode code pc = .ok (.arraylength, 1) := dk_of ((dk_bind (dk_u1 (h 0 _ rfl))).trans rfl)
theorem dk_191 {code : ByteArray} {pc : Nat} (h : DkAt code pc [191]) : decode code pc = .ok (.athrow, 1) := dk_of ((dk_bind (dk_u1 (h 0 _ rfl))).trans rfl)
theorem dk_192 {code : ByteArray} {pc : Nat} (a b : UInt8) (h : DkAt code pc [192, a, b]) : decode code pc = .ok (.checkcast (a.toNat * 256 + b.toNat), 3) := dk_of ((dk_bind (dk_u1 (h 0 _ rfl))).trans ((dk_bind (dk_u2 (h 1 _ rfl) (h 2 _ rfl))).trans rfl))
theorem dk_198 {code : ByteArray} {pc : Nat} (a b : UInt8) (h : DkAt code pc [198, a, b]) : decode code pc = .ok (.ifnull (Reader.signed 16 (a.toNat * 256 + b.toNat)), 3) := dk_of ((dk_bind (dk_u1 (h 0 _ rfl))).trans ((dk_bind (dk_map (dk_u2 (h 1 _ rfl) (h 2 _ rfl)))).trans rfl))
theorem dk_199 {code : ByteArray} {pc : Nat} (a b : UInt8) (h : DkAt code pc [199, a, b]) : decode code pc = .ok (.ifnonnull (Reader.signed 16 (a.toNat * 256 + b.toNat)), 3) := dk_of ((dk_bind (dk_u1 (h 0 _ rfl))).trans ((dk_bind (dk_map (dk_u2 (h 1 _ rfl) (h 2 _ rfl)))).trans rfl))

/-! java/util/AbstractCollection -/
set_option maxRecDepth 100000
def RJ0 : String := "java/util/AbstractCollection"
abbrev cJ0_init : ByteArray := prog_44_method_1_code
def yJ0_init : MethodName := ⟨RJ0, "<init>", "()V"⟩
theorem q143 : (Jvm.Cond.initialized "java/util/AbstractCollection") ∈ lw_all := lw_g (lw_at lw_m1 4 rfl) rfl
theorem q240 : (Jvm.Cond.instanceMethod ({ cls := "java/util/AbstractCollection", name := "<init>", desc := "()V" } : Jvm.MethodName)) ∈ lw_all := lw_g (lw_at lw_m1 101 rfl) rfl
theorem q241 : (Jvm.Cond.code ({ cls := "java/util/AbstractCollection", name := "<init>", desc := "()V" } : Jvm.MethodName) prog_44_method_1_code (1 : Nat) (Option.none : Option Jvm.ClassFile.FieldType)) ∈ lw_all := lw_g (lw_at lw_m1 102 rfl) rfl
theorem q242 : (Jvm.Cond.methodLink "java/util/AbstractCollection" (1 : Nat) ({ cls := "java/lang/Object", name := "<init>", desc := "()V" } : Jvm.MethodName)) ∈ lw_all := lw_g (lw_at lw_m1 103 rfl) rfl

/-! java/util/AbstractList -/
set_option maxRecDepth 100000
def RJ1 : String := "java/util/AbstractList"
abbrev cJ1_init : ByteArray := prog_45_method_1_code
def yJ1_init : MethodName := ⟨RJ1, "<init>", "()V"⟩
theorem q144 : (Jvm.Cond.initialized "java/util/AbstractList") ∈ lw_all := lw_g (lw_at lw_m1 5 rfl) rfl
theorem q237 : (Jvm.Cond.instanceMethod ({ cls := "java/util/AbstractList", name := "<init>", desc := "()V" } : Jvm.MethodName)) ∈ lw_all := lw_g (lw_at lw_m1 98 rfl) rfl
theorem q238 : (Jvm.Cond.code ({ cls := "java/util/AbstractList", name := "<init>", desc := "()V" } : Jvm.MethodName) prog_45_method_1_code (1 : Nat) (Option.none : Option Jvm.ClassFile.FieldType)) ∈ lw_all := lw_g (lw_at lw_m1 99 rfl) rfl
theorem q239 : (Jvm.Cond.methodLink "java/util/AbstractList" (1 : Nat) ({ cls := "java/util/AbstractCollection", name := "<init>", desc := "()V" } : Jvm.MethodName)) ∈ lw_all := lw_g (lw_at lw_m1 100 rfl) rfl
theorem q249 : (Jvm.Cond.fieldLink "java/util/AbstractList" (7 : Nat) "java/util/AbstractList" "modCount" "I") ∈ lw_all := lw_g (lw_at lw_m1 110 rfl) rfl
theorem q257 : (Jvm.Cond.soleField "java/util/AbstractList" "modCount") ∈ lw_all := lw_g (lw_at lw_m1 118 rfl) rfl

/-! java/lang/Throwable -/
set_option maxRecDepth 100000
def RJ10 : String := "java/lang/Throwable"
def TJ10 : u_T := fun k => match k with
  | 0 => ("java/lang/Throwable", "cause", "Ljava/lang/Throwable;", false)
  | 1 => ("java/lang/Throwable", "stackTrace", "[Ljava/lang/StackTraceElement;", false)
  | 2 => ("java/lang/Throwable", "suppressedExceptions", "Ljava/util/List;", false)
  | 3 => ("java/lang/Throwable", "detailMessage", "Ljava/lang/String;", false)
  | _ => ("java/lang/Throwable", "backtrace", "Ljava/lang/Object;", false)
def tyJ10 : Nat → FieldType := fun k => match k with
  | 0 => .object "java/lang/Throwable"
  | 1 => .array (.object "java/lang/StackTraceElement")
  | 2 => .object "java/util/List"
  | 3 => .object "java/lang/String"
  | _ => .object "java/lang/Object"
abbrev wsJ100 : List Cond := u_ws RJ10 TJ10 5
theorem nmJ10 : ∀ a, a < 5 → ∀ b, b < 5 → a ≠ b → (TJ10 a).2.1 ≠ (TJ10 b).2.1 := by decide +kernel
theorem tyJ10_ok : ∀ k, k < 5 → parseFieldDescriptor (TJ10 k).2.2.1 = some (tyJ10 k) := by decide +kernel
abbrev cJ10_init : ByteArray := prog_41_method_1_code
def yJ10_init : MethodName := ⟨RJ10, "<init>", "()V"⟩
abbrev cJ10_init_2 : ByteArray := prog_41_method_5_code
def yJ10_init_2 : MethodName := ⟨RJ10, "<init>", "(Ljava/lang/String;Ljava/lang/Throwable;ZZ)V"⟩
abbrev cJ10_init_3 : ByteArray := prog_41_method_2_code
def yJ10_init_3 : MethodName := ⟨RJ10, "<init>", "(Ljava/lang/String;)V"⟩
theorem q160 : (Jvm.Cond.initialized "java/lang/Throwable") ∈ lw_all := lw_g (lw_at lw_m1 21 rfl) rfl
theorem q687 : (Jvm.Cond.declares ({ cls := "java/lang/Throwable", name := "<init>", desc := "()V" } : Jvm.MethodName)) ∈ lw_tbl := lw_at lw_m3 68 rfl
theorem q688 : (Jvm.Cond.declares ({ cls := "java/lang/Throwable", name := "<init>", desc := "(Ljava/lang/String;)V" } : Jvm.MethodName)) ∈ lw_tbl := lw_at lw_m3 69 rfl
theorem q692 : (Jvm.Cond.lays "java/lang/Throwable" "java/lang/Throwable" "cause" "Ljava/lang/Throwable;") ∈ lw_all := lw_g (lw_at lw_m3 73 rfl) rfl
theorem q694 : (Jvm.Cond.lays "java/lang/Throwable" "java/lang/Throwable" "stackTrace" "[Ljava/lang/StackTraceElement;") ∈ lw_all := lw_g (lw_at lw_m3 75 rfl) rfl
theorem q696 : (Jvm.Cond.lays "java/lang/Throwable" "java/lang/Throwable" "suppressedExceptions" "Ljava/util/List;") ∈ lw_all := lw_g (lw_at lw_m3 77 rfl) rfl
theorem q698 : (Jvm.Cond.lays "java/lang/Throwable" "java/lang/Throwable" "detailMessage" "Ljava/lang/String;") ∈ lw_all := lw_g (lw_at lw_m3 79 rfl) rfl
theorem q700 : (Jvm.Cond.lays "java/lang/Throwable" "java/lang/Throwable" "backtrace" "Ljava/lang/Object;") ∈ lw_all := lw_g (lw_at lw_m3 81 rfl) rfl
theorem q701 : (Jvm.Cond.fieldLink "java/lang/Throwable" (198 : Nat) "java/lang/Throwable" "backtrace" "Ljava/lang/Object;") ∈ lw_all := lw_g (lw_at lw_m3 82 rfl) rfl
theorem q702 : (Jvm.Cond.superclass "java/lang/Throwable" "java/lang/Object") ∈ lw_all := lw_g (lw_at lw_m3 83 rfl) rfl
theorem q703 : (Jvm.Cond.instanceMethod ({ cls := "java/lang/Throwable", name := "<init>", desc := "()V" } : Jvm.MethodName)) ∈ lw_all := lw_g (lw_at lw_m3 84 rfl) rfl
theorem q704 : (Jvm.Cond.code ({ cls := "java/lang/Throwable", name := "<init>", desc := "()V" } : Jvm.MethodName) prog_41_method_1_code (1 : Nat) (Option.none : Option Jvm.ClassFile.FieldType)) ∈ lw_all := lw_g (lw_at lw_m3 85 rfl) rfl
theorem q705 : (Jvm.Cond.methodLink "java/lang/Throwable" (1 : Nat) ({ cls := "java/lang/Object", name := "<init>", desc := "()V" } : Jvm.MethodName)) ∈ lw_all := lw_g (lw_at lw_m3 86 rfl) rfl
theorem q706 : (Jvm.Cond.fieldLink "java/lang/Throwable" (13 : Nat) "java/lang/Throwable" "UNASSIGNED_STACK" "[Ljava/lang/StackTraceElement;") ∈ lw_all := lw_g (lw_at lw_m3 87 rfl) rfl
theorem q707 : (Jvm.Cond.laysStatic "java/lang/Throwable" "UNASSIGNED_STACK" "[Ljava/lang/StackTraceElement;") ∈ lw_tbl := lw_at lw_m3 88 rfl
theorem q708 : (Jvm.Cond.fieldLink "java/lang/Throwable" (20 : Nat) "java/lang/Throwable" "SUPPRESSED_SENTINEL" "Ljava/util/List;") ∈ lw_all := lw_g (lw_at lw_m3 89 rfl) rfl
theorem q709 : (Jvm.Cond.laysStatic "java/lang/Throwable" "SUPPRESSED_SENTINEL" "Ljava/util/List;") ∈ lw_tbl := lw_at lw_m3 90 rfl
theorem q710 : (Jvm.Cond.methodLink "java/lang/Throwable" (27 : Nat) ({ cls := "java/lang/Throwable", name := "fillInStackTrace", desc := "()Ljava/lang/Throwable;" } : Jvm.MethodName)) ∈ lw_all := lw_g (lw_at lw_m3 91 rfl) rfl
theorem q711 : (Jvm.Cond.instanceMethod ({ cls := "java/lang/Throwable", name := "fillInStackTrace", desc := "()Ljava/lang/Throwable;" } : Jvm.MethodName)) ∈ lw_all := lw_g (lw_at lw_m3 92 rfl) rfl
theorem q712 : (Jvm.Cond.sameMethod "java/lang/Throwable" "java/lang/Throwable" "fillInStackTrace" "()Ljava/lang/Throwable;") ∈ lw_all := lw_g (lw_at lw_m3 93 rfl) rfl
theorem q717 : (Jvm.Cond.codeSync ({ cls := "java/lang/Throwable", name := "fillInStackTrace", desc := "()Ljava/lang/Throwable;" } : Jvm.MethodName) prog_41_method_18_code (1 : Nat) (Option.some (Jvm.ClassFile.FieldType.object "java/lang/Throwable"))) ∈ lw_all := lw_g (lw_at lw_m3 98 rfl) rfl
theorem q718 : (Jvm.Cond.methodLink "java/lang/Throwable" (202 : Nat) ({ cls := "java/lang/Throwable", name := "fillInStackTrace", desc := "(I)Ljava/lang/Throwable;" } : Jvm.MethodName)) ∈ lw_all := lw_g (lw_at lw_m3 99 rfl) rfl
theorem q719 : (Jvm.Cond.privateMethod ({ cls := "java/lang/Throwable", name := "fillInStackTrace", desc := "(I)Ljava/lang/Throwable;" } : Jvm.MethodName)) ∈ lw_tbl := lw_at lw_m3 100 rfl
theorem q720 : (Jvm.Cond.instanceMethod ({ cls := "java/lang/Throwable", name := "fillInStackTrace", desc := "(I)Ljava/lang/Throwable;" } : Jvm.MethodName)) ∈ lw_all := lw_g (lw_at lw_m3 101 rfl) rfl
theorem q721 : (Jvm.Cond.instantiable "java/lang/Throwable" (6 : Nat)) ∈ lw_all := lw_g (lw_at lw_m3 102 rfl) rfl
theorem q722 : (Jvm.Cond.native ({ cls := "java/lang/Throwable", name := "fillInStackTrace", desc := "(I)Ljava/lang/Throwable;" } : Jvm.MethodName)) ∈ lw_all := lw_g (lw_at lw_m3 103 rfl) rfl
theorem q730 : (Jvm.Cond.instanceMethod ({ cls := "java/lang/Throwable", name := "<init>", desc := "(Ljava/lang/String;Ljava/lang/Throwable;ZZ)V" } : Jvm.MethodName)) ∈ lw_all := lw_g (lw_at lw_m3 111 rfl) rfl
theorem q731 : (Jvm.Cond.code ({ cls := "java/lang/Throwable", name := "<init>", desc := "(Ljava/lang/String;Ljava/lang/Throwable;ZZ)V" } : Jvm.MethodName) prog_41_method_5_code (5 : Nat) (Option.none : Option Jvm.ClassFile.FieldType)) ∈ lw_all := lw_g (lw_at lw_m3 112 rfl) rfl
theorem q736 : (Jvm.Cond.fieldLink "java/lang/Throwable" (198 : Nat) "java/lang/Throwable" "backtrace" "Ljava/lang/Object;") ∈ lw_all := lw_g (lw_at lw_m3 117 rfl) rfl
theorem q737 : (Jvm.Cond.fieldLink "java/lang/Throwable" (31 : Nat) "java/lang/Throwable" "detailMessage" "Ljava/lang/String;") ∈ lw_all := lw_g (lw_at lw_m3 118 rfl) rfl
theorem q738 : (Jvm.Cond.fieldLink "java/lang/Throwable" (7 : Nat) "java/lang/Throwable" "cause" "Ljava/lang/Throwable;") ∈ lw_all := lw_g (lw_at lw_m3 119 rfl) rfl
theorem q739 : (Jvm.Cond.fieldLink "java/lang/Throwable" (17 : Nat) "java/lang/Throwable" "stackTrace" "[Ljava/lang/StackTraceElement;") ∈ lw_all := lw_g (lw_at lw_m3 120 rfl) rfl
theorem q740 : (Jvm.Cond.fieldLink "java/lang/Throwable" (24 : Nat) "java/lang/Throwable" "suppressedExceptions" "Ljava/util/List;") ∈ lw_all := lw_g (lw_at lw_m3 121 rfl) rfl
theorem q745 : (Jvm.Cond.soleField "java/lang/Throwable" "backtrace") ∈ lw_all := lw_g (lw_at lw_m3 126 rfl) rfl
theorem q746 : (Jvm.Cond.soleField "java/lang/Throwable" "detailMessage") ∈ lw_all := lw_g (lw_at lw_m3 127 rfl) rfl
theorem q747 : (Jvm.Cond.soleField "java/lang/Throwable" "cause") ∈ lw_all := lw_g (lw_at lw_m3 128 rfl) rfl
theorem q748 : (Jvm.Cond.soleField "java/lang/Throwable" "stackTrace") ∈ lw_all := lw_g (lw_at lw_m3 129 rfl) rfl
theorem q750 : (Jvm.Cond.soleField "java/lang/Throwable" "depth") ∈ lw_all := lw_g (lw_at lw_m3 131 rfl) rfl
theorem q751 : (Jvm.Cond.soleField "java/lang/Throwable" "suppressedExceptions") ∈ lw_all := lw_g (lw_at lw_m3 132 rfl) rfl
theorem q1516 : (Jvm.Cond.instanceMethod ({ cls := "java/lang/Throwable", name := "<init>", desc := "(Ljava/lang/String;)V" } : Jvm.MethodName)) ∈ lw_all := lw_g (lw_at lw_m6 177 rfl) rfl
theorem q1517 : (Jvm.Cond.code ({ cls := "java/lang/Throwable", name := "<init>", desc := "(Ljava/lang/String;)V" } : Jvm.MethodName) prog_41_method_2_code (2 : Nat) (Option.none : Option Jvm.ClassFile.FieldType)) ∈ lw_all := lw_g (lw_at lw_m6 178 rfl) rfl
theorem q2322 : (Jvm.Cond.sameMethod "java/lang/Throwable" "java/lang/Throwable" "fillInStackTrace" "(I)Ljava/lang/Throwable;") ∈ lw_all := lw_g (lw_at lw_m10 23 rfl) rfl
theorem q2358 : (Jvm.Cond.castable "java/lang/Throwable" "java/lang/Object") ∈ lw_tbl := lw_at lw_m10 59 rfl
theorem in_J10 : ∀ w ∈ wsJ100, w ∈ lw_all := lw_in wsJ100 [692, 694, 696, 698, 700] (by decide +kernel) (by decide +kernel)

/-! java/lang/Exception -/
set_option maxRecDepth 100000
def RJ11 : String := "java/lang/Exception"
abbrev cJ11_init : ByteArray := prog_31_method_5_code
def yJ11_init : MethodName := ⟨RJ11, "<init>", "(Ljava/lang/String;Ljava/lang/Throwable;ZZ)V"⟩
abbrev cJ11_init_2 : ByteArray := prog_31_method_2_code
def yJ11_init_2 : MethodName := ⟨RJ11, "<init>", "(Ljava/lang/String;)V"⟩
abbrev cJ11_init_3 : ByteArray := prog_31_method_1_code
def yJ11_init_3 : MethodName := ⟨RJ11, "<init>", "()V"⟩
theorem q161 : (Jvm.Cond.initialized "java/lang/Exception") ∈ lw_all := lw_g (lw_at lw_m1 22 rfl) rfl
theorem q685 : (Jvm.Cond.declares ({ cls := "java/lang/Exception", name := "<init>", desc := "()V" } : Jvm.MethodName)) ∈ lw_tbl := lw_at lw_m3 66 rfl
theorem q686 : (Jvm.Cond.declares ({ cls := "java/lang/Exception", name := "<init>", desc := "(Ljava/lang/String;)V" } : Jvm.MethodName)) ∈ lw_tbl := lw_at lw_m3 67 rfl
theorem q727 : (Jvm.Cond.instanceMethod ({ cls := "java/lang/Exception", name := "<init>", desc := "(Ljava/lang/String;Ljava/lang/Throwable;ZZ)V" } : Jvm.MethodName)) ∈ lw_all := lw_g (lw_at lw_m3 108 rfl) rfl
theorem q728 : (Jvm.Cond.code ({ cls := "java/lang/Exception", name := "<init>", desc := "(Ljava/lang/String;Ljava/lang/Throwable;ZZ)V" } : Jvm.MethodName) prog_31_method_5_code (5 : Nat) (Option.none : Option Jvm.ClassFile.FieldType)) ∈ lw_all := lw_g (lw_at lw_m3 109 rfl) rfl
theorem q729 : (Jvm.Cond.methodLink "java/lang/Exception" (16 : Nat) ({ cls := "java/lang/Throwable", name := "<init>", desc := "(Ljava/lang/String;Ljava/lang/Throwable;ZZ)V" } : Jvm.MethodName)) ∈ lw_all := lw_g (lw_at lw_m3 110 rfl) rfl
theorem q1513 : (Jvm.Cond.instanceMethod ({ cls := "java/lang/Exception", name := "<init>", desc := "(Ljava/lang/String;)V" } : Jvm.MethodName)) ∈ lw_all := lw_g (lw_at lw_m6 174 rfl) rfl
theorem q1514 : (Jvm.Cond.code ({ cls := "java/lang/Exception", name := "<init>", desc := "(Ljava/lang/String;)V" } : Jvm.MethodName) prog_31_method_2_code (2 : Nat) (Option.none : Option Jvm.ClassFile.FieldType)) ∈ lw_all := lw_g (lw_at lw_m6 175 rfl) rfl
theorem q1515 : (Jvm.Cond.methodLink "java/lang/Exception" (7 : Nat) ({ cls := "java/lang/Throwable", name := "<init>", desc := "(Ljava/lang/String;)V" } : Jvm.MethodName)) ∈ lw_all := lw_g (lw_at lw_m6 176 rfl) rfl
theorem q1557 : (Jvm.Cond.instanceMethod ({ cls := "java/lang/Exception", name := "<init>", desc := "()V" } : Jvm.MethodName)) ∈ lw_all := lw_g (lw_at lw_m6 218 rfl) rfl
theorem q1558 : (Jvm.Cond.code ({ cls := "java/lang/Exception", name := "<init>", desc := "()V" } : Jvm.MethodName) prog_31_method_1_code (1 : Nat) (Option.none : Option Jvm.ClassFile.FieldType)) ∈ lw_all := lw_g (lw_at lw_m6 219 rfl) rfl
theorem q1559 : (Jvm.Cond.methodLink "java/lang/Exception" (1 : Nat) ({ cls := "java/lang/Throwable", name := "<init>", desc := "()V" } : Jvm.MethodName)) ∈ lw_all := lw_g (lw_at lw_m6 220 rfl) rfl

/-! jdk/internal/util/ArraysSupport -/
set_option maxRecDepth 100000
def RJ12 : String := "jdk/internal/util/ArraysSupport"
abbrev cJ12_newLength : ByteArray := prog_54_method_27_code
def yJ12_newLength : MethodName := ⟨RJ12, "newLength", "(III)I"⟩
abbrev cJ12_hugeLength : ByteArray := prog_54_method_28_code
def yJ12_hugeLength : MethodName := ⟨RJ12, "hugeLength", "(II)I"⟩
theorem q164 : (Jvm.Cond.initialized "jdk/internal/util/ArraysSupport") ∈ lw_all := lw_g (lw_at lw_m1 25 rfl) rfl
theorem q797 : (Jvm.Cond.static ({ cls := "jdk/internal/util/ArraysSupport", name := "newLength", desc := "(III)I" } : Jvm.MethodName)) ∈ lw_all := lw_g (lw_at lw_m3 178 rfl) rfl
theorem q798 : (Jvm.Cond.code ({ cls := "jdk/internal/util/ArraysSupport", name := "newLength", desc := "(III)I" } : Jvm.MethodName) prog_54_method_27_code (4 : Nat) (Option.some Jvm.ClassFile.FieldType.int)) ∈ lw_all := lw_g (lw_at lw_m3 179 rfl) rfl
theorem q799 : (Jvm.Cond.methodLink "jdk/internal/util/ArraysSupport" (194 : Nat) ({ cls := "java/lang/Math", name := "max", desc := "(II)I" } : Jvm.MethodName)) ∈ lw_all := lw_g (lw_at lw_m3 180 rfl) rfl
theorem q800 : (Jvm.Cond.constant "jdk/internal/util/ArraysSupport" (200 : Nat) (2147483639 : Int32)) ∈ lw_all := lw_g (lw_at lw_m3 181 rfl) rfl
theorem q801 : (Jvm.Cond.methodLink "jdk/internal/util/ArraysSupport" (201 : Nat) ({ cls := "jdk/internal/util/ArraysSupport", name := "hugeLength", desc := "(II)I" } : Jvm.MethodName)) ∈ lw_all := lw_g (lw_at lw_m3 182 rfl) rfl
theorem q802 : (Jvm.Cond.static ({ cls := "jdk/internal/util/ArraysSupport", name := "hugeLength", desc := "(II)I" } : Jvm.MethodName)) ∈ lw_all := lw_g (lw_at lw_m3 183 rfl) rfl
theorem q803 : (Jvm.Cond.code ({ cls := "jdk/internal/util/ArraysSupport", name := "hugeLength", desc := "(II)I" } : Jvm.MethodName) prog_54_method_28_code (3 : Nat) (Option.some Jvm.ClassFile.FieldType.int)) ∈ lw_all := lw_g (lw_at lw_m3 184 rfl) rfl

/-! java/util/Arrays -/
set_option maxRecDepth 100000
def RJ13 : String := "java/util/Arrays"
abbrev cJ13_copyOf : ByteArray := prog_47_method_119_code
def yJ13_copyOf : MethodName := ⟨RJ13, "copyOf", "([Ljava/lang/Object;I)[Ljava/lang/Object;"⟩
abbrev cJ13_copyOf_2 : ByteArray := prog_47_method_120_code
def yJ13_copyOf_2 : MethodName := ⟨RJ13, "copyOf", "([Ljava/lang/Object;ILjava/lang/Class;)[Ljava/lang/Object;"⟩
theorem q165 : (Jvm.Cond.initialized "java/util/Arrays") ∈ lw_all := lw_g (lw_at lw_m1 26 rfl) rfl
theorem q805 : (Jvm.Cond.static ({ cls := "java/util/Arrays", name := "copyOf", desc := "([Ljava/lang/Object;I)[Ljava/lang/Object;" } : Jvm.MethodName)) ∈ lw_all := lw_g (lw_at lw_m3 186 rfl) rfl
theorem q806 : (Jvm.Cond.code ({ cls := "java/util/Arrays", name := "copyOf", desc := "([Ljava/lang/Object;I)[Ljava/lang/Object;" } : Jvm.MethodName) prog_47_method_119_code (2 : Nat) (Option.some (Jvm.ClassFile.FieldType.array (Jvm.ClassFile.FieldType.object "java/lang/Object")))) ∈ lw_all := lw_g (lw_at lw_m3 187 rfl) rfl
theorem q807 : (Jvm.Cond.methodLink "java/util/Arrays" (86 : Nat) ({ cls := "java/lang/Object", name := "getClass", desc := "()Ljava/lang/Class;" } : Jvm.MethodName)) ∈ lw_all := lw_g (lw_at lw_m3 188 rfl) rfl
theorem q835 : (Jvm.Cond.methodLink "java/util/Arrays" (300 : Nat) ({ cls := "java/util/Arrays", name := "copyOf", desc := "([Ljava/lang/Object;ILjava/lang/Class;)[Ljava/lang/Object;" } : Jvm.MethodName)) ∈ lw_all := lw_g (lw_at lw_m3 216 rfl) rfl
theorem q836 : (Jvm.Cond.static ({ cls := "java/util/Arrays", name := "copyOf", desc := "([Ljava/lang/Object;ILjava/lang/Class;)[Ljava/lang/Object;" } : Jvm.MethodName)) ∈ lw_all := lw_g (lw_at lw_m3 217 rfl) rfl
theorem q837 : (Jvm.Cond.code ({ cls := "java/util/Arrays", name := "copyOf", desc := "([Ljava/lang/Object;ILjava/lang/Class;)[Ljava/lang/Object;" } : Jvm.MethodName) prog_47_method_120_code (4 : Nat) (Option.some (Jvm.ClassFile.FieldType.array (Jvm.ClassFile.FieldType.object "java/lang/Object")))) ∈ lw_all := lw_g (lw_at lw_m3 218 rfl) rfl
theorem q838 : (Jvm.Cond.classLink "java/util/Arrays" (110 : Nat) "[Ljava/lang/Object;") ∈ lw_all := lw_g (lw_at lw_m3 219 rfl) rfl
theorem q839 : (Jvm.Cond.classLink "java/util/Arrays" (2 : Nat) "java/lang/Object") ∈ lw_all := lw_g (lw_at lw_m3 220 rfl) rfl
theorem q840 : (Jvm.Cond.methodLink "java/util/Arrays" (304 : Nat) ({ cls := "java/lang/Math", name := "min", desc := "(II)I" } : Jvm.MethodName)) ∈ lw_all := lw_g (lw_at lw_m3 221 rfl) rfl
theorem q841 : (Jvm.Cond.methodLink "java/util/Arrays" (150 : Nat) ({ cls := "java/lang/System", name := "arraycopy", desc := "(Ljava/lang/Object;ILjava/lang/Object;II)V" } : Jvm.MethodName)) ∈ lw_all := lw_g (lw_at lw_m3 222 rfl) rfl

/-! java/lang/RuntimeException -/
set_option maxRecDepth 100000
def RJ14 : String := "java/lang/RuntimeException"
abbrev cJ14_init : ByteArray := prog_36_method_2_code
def yJ14_init : MethodName := ⟨RJ14, "<init>", "(Ljava/lang/String;)V"⟩
abbrev cJ14_init_2 : ByteArray := prog_36_method_1_code
def yJ14_init_2 : MethodName := ⟨RJ14, "<init>", "()V"⟩
theorem q174 : (Jvm.Cond.initialized "java/lang/RuntimeException") ∈ lw_all := lw_g (lw_at lw_m1 35 rfl) rfl
theorem q1510 : (Jvm.Cond.instanceMethod ({ cls := "java/lang/RuntimeException", name := "<init>", desc := "(Ljava/lang/String;)V" } : Jvm.MethodName)) ∈ lw_all := lw_g (lw_at lw_m6 171 rfl) rfl
theorem q1511 : (Jvm.Cond.code ({ cls := "java/lang/RuntimeException", name := "<init>", desc := "(Ljava/lang/String;)V" } : Jvm.MethodName) prog_36_method_2_code (2 : Nat) (Option.none : Option Jvm.ClassFile.FieldType)) ∈ lw_all := lw_g (lw_at lw_m6 172 rfl) rfl
theorem q1512 : (Jvm.Cond.methodLink "java/lang/RuntimeException" (7 : Nat) ({ cls := "java/lang/Exception", name := "<init>", desc := "(Ljava/lang/String;)V" } : Jvm.MethodName)) ∈ lw_all := lw_g (lw_at lw_m6 173 rfl) rfl
theorem q1528 : (Jvm.Cond.declares ({ cls := "java/lang/RuntimeException", name := "<init>", desc := "()V" } : Jvm.MethodName)) ∈ lw_tbl := lw_at lw_m6 189 rfl
theorem q1529 : (Jvm.Cond.declares ({ cls := "java/lang/RuntimeException", name := "<init>", desc := "(Ljava/lang/String;)V" } : Jvm.MethodName)) ∈ lw_tbl := lw_at lw_m6 190 rfl
theorem q1554 : (Jvm.Cond.instanceMethod ({ cls := "java/lang/RuntimeException", name := "<init>", desc := "()V" } : Jvm.MethodName)) ∈ lw_all := lw_g (lw_at lw_m6 215 rfl) rfl
theorem q1555 : (Jvm.Cond.code ({ cls := "java/lang/RuntimeException", name := "<init>", desc := "()V" } : Jvm.MethodName) prog_36_method_1_code (1 : Nat) (Option.none : Option Jvm.ClassFile.FieldType)) ∈ lw_all := lw_g (lw_at lw_m6 216 rfl) rfl
theorem q1556 : (Jvm.Cond.methodLink "java/lang/RuntimeException" (1 : Nat) ({ cls := "java/lang/Exception", name := "<init>", desc := "()V" } : Jvm.MethodName)) ∈ lw_all := lw_g (lw_at lw_m6 217 rfl) rfl

/-! java/lang/IndexOutOfBoundsException -/
set_option maxRecDepth 100000
def RJ15 : String := "java/lang/IndexOutOfBoundsException"
def TJ15 : u_T := fun k => match k with
  | 0 => ("java/lang/Throwable", "cause", "Ljava/lang/Throwable;", false)
  | 1 => ("java/lang/Throwable", "stackTrace", "[Ljava/lang/StackTraceElement;", false)
  | 2 => ("java/lang/Throwable", "suppressedExceptions", "Ljava/util/List;", false)
  | 3 => ("java/lang/Throwable", "detailMessage", "Ljava/lang/String;", false)
  | 4 => ("java/lang/Throwable", "backtrace", "Ljava/lang/Object;", false)
  | _ => ("java/lang/Throwable", "depth", "I", false)
def tyJ15 : Nat → FieldType := fun k => match k with
  | 0 => .object "java/lang/Throwable"
  | 1 => .array (.object "java/lang/StackTraceElement")
  | 2 => .object "java/util/List"
  | 3 => .object "java/lang/String"
  | 4 => .object "java/lang/Object"
  | _ => .int
abbrev wsJ150 : List Cond := u_ws RJ15 TJ15 6
theorem nmJ15 : ∀ a, a < 6 → ∀ b, b < 6 → a ≠ b → (TJ15 a).2.1 ≠ (TJ15 b).2.1 := by decide +kernel
theorem tyJ15_ok : ∀ k, k < 6 → parseFieldDescriptor (TJ15 k).2.2.1 = some (tyJ15 k) := by decide +kernel
abbrev cJ15_init : ByteArray := prog_32_method_2_code
def yJ15_init : MethodName := ⟨RJ15, "<init>", "(Ljava/lang/String;)V"⟩
abbrev cJ15_init_2 : ByteArray := prog_32_method_1_code
def yJ15_init_2 : MethodName := ⟨RJ15, "<init>", "()V"⟩
theorem q175 : (Jvm.Cond.initialized "java/lang/IndexOutOfBoundsException") ∈ lw_all := lw_g (lw_at lw_m1 36 rfl) rfl
theorem q715 : (Jvm.Cond.selects "java/lang/IndexOutOfBoundsException" ({ cls := "java/lang/Throwable", name := "fillInStackTrace", desc := "()Ljava/lang/Throwable;" } : Jvm.MethodName) ({ cls := "java/lang/Throwable", name := "fillInStackTrace", desc := "()Ljava/lang/Throwable;" } : Jvm.MethodName)) ∈ lw_all := lw_g (lw_at lw_m3 96 rfl) rfl
theorem q831 : (Jvm.Cond.selects "java/lang/IndexOutOfBoundsException" ({ cls := "java/lang/Object", name := "getClass", desc := "()Ljava/lang/Class;" } : Jvm.MethodName) ({ cls := "java/lang/Object", name := "getClass", desc := "()Ljava/lang/Class;" } : Jvm.MethodName)) ∈ lw_all := lw_g (lw_at lw_m3 212 rfl) rfl
theorem q1507 : (Jvm.Cond.instanceMethod ({ cls := "java/lang/IndexOutOfBoundsException", name := "<init>", desc := "(Ljava/lang/String;)V" } : Jvm.MethodName)) ∈ lw_all := lw_g (lw_at lw_m6 168 rfl) rfl
theorem q1508 : (Jvm.Cond.code ({ cls := "java/lang/IndexOutOfBoundsException", name := "<init>", desc := "(Ljava/lang/String;)V" } : Jvm.MethodName) prog_32_method_2_code (2 : Nat) (Option.none : Option Jvm.ClassFile.FieldType)) ∈ lw_all := lw_g (lw_at lw_m6 169 rfl) rfl
theorem q1509 : (Jvm.Cond.methodLink "java/lang/IndexOutOfBoundsException" (7 : Nat) ({ cls := "java/lang/RuntimeException", name := "<init>", desc := "(Ljava/lang/String;)V" } : Jvm.MethodName)) ∈ lw_all := lw_g (lw_at lw_m6 170 rfl) rfl
theorem q1526 : (Jvm.Cond.declares ({ cls := "java/lang/IndexOutOfBoundsException", name := "<init>", desc := "()V" } : Jvm.MethodName)) ∈ lw_tbl := lw_at lw_m6 187 rfl
theorem q1527 : (Jvm.Cond.declares ({ cls := "java/lang/IndexOutOfBoundsException", name := "<init>", desc := "(Ljava/lang/String;)V" } : Jvm.MethodName)) ∈ lw_tbl := lw_at lw_m6 188 rfl
theorem q1542 : (Jvm.Cond.instantiable "java/lang/IndexOutOfBoundsException" (6 : Nat)) ∈ lw_all := lw_g (lw_at lw_m6 203 rfl) rfl
theorem q1543 : (Jvm.Cond.castable "java/lang/IndexOutOfBoundsException" "java/lang/IndexOutOfBoundsException") ∈ lw_tbl := lw_at lw_m6 204 rfl
theorem q1544 : (Jvm.Cond.selects "java/lang/IndexOutOfBoundsException" ({ cls := "java/lang/Throwable", name := "fillInStackTrace", desc := "(I)Ljava/lang/Throwable;" } : Jvm.MethodName) ({ cls := "java/lang/Throwable", name := "fillInStackTrace", desc := "(I)Ljava/lang/Throwable;" } : Jvm.MethodName)) ∈ lw_all := lw_g (lw_at lw_m6 205 rfl) rfl
theorem q1545 : (Jvm.Cond.lays "java/lang/IndexOutOfBoundsException" "java/lang/Throwable" "cause" "Ljava/lang/Throwable;") ∈ lw_all := lw_g (lw_at lw_m6 206 rfl) rfl
theorem q1546 : (Jvm.Cond.lays "java/lang/IndexOutOfBoundsException" "java/lang/Throwable" "stackTrace" "[Ljava/lang/StackTraceElement;") ∈ lw_all := lw_g (lw_at lw_m6 207 rfl) rfl
theorem q1547 : (Jvm.Cond.lays "java/lang/IndexOutOfBoundsException" "java/lang/Throwable" "suppressedExceptions" "Ljava/util/List;") ∈ lw_all := lw_g (lw_at lw_m6 208 rfl) rfl
theorem q1548 : (Jvm.Cond.lays "java/lang/IndexOutOfBoundsException" "java/lang/Throwable" "detailMessage" "Ljava/lang/String;") ∈ lw_all := lw_g (lw_at lw_m6 209 rfl) rfl
theorem q1549 : (Jvm.Cond.lays "java/lang/IndexOutOfBoundsException" "java/lang/Throwable" "backtrace" "Ljava/lang/Object;") ∈ lw_all := lw_g (lw_at lw_m6 210 rfl) rfl
theorem q1551 : (Jvm.Cond.instanceMethod ({ cls := "java/lang/IndexOutOfBoundsException", name := "<init>", desc := "()V" } : Jvm.MethodName)) ∈ lw_all := lw_g (lw_at lw_m6 212 rfl) rfl
theorem q1552 : (Jvm.Cond.code ({ cls := "java/lang/IndexOutOfBoundsException", name := "<init>", desc := "()V" } : Jvm.MethodName) prog_32_method_1_code (1 : Nat) (Option.none : Option Jvm.ClassFile.FieldType)) ∈ lw_all := lw_g (lw_at lw_m6 213 rfl) rfl
theorem q1553 : (Jvm.Cond.methodLink "java/lang/IndexOutOfBoundsException" (1 : Nat) ({ cls := "java/lang/RuntimeException", name := "<init>", desc := "()V" } : Jvm.MethodName)) ∈ lw_all := lw_g (lw_at lw_m6 214 rfl) rfl
theorem q1560 : (Jvm.Cond.lays "java/lang/IndexOutOfBoundsException" "java/lang/Throwable" "depth" "I") ∈ lw_all := lw_g (lw_at lw_m6 221 rfl) rfl
theorem q1561 : (Jvm.Cond.superclass "java/lang/IndexOutOfBoundsException" "java/lang/RuntimeException") ∈ lw_all := lw_g (lw_at lw_m6 222 rfl) rfl
theorem q2353 : (Jvm.Cond.castable "java/lang/IndexOutOfBoundsException" "java/lang/Object") ∈ lw_tbl := lw_at lw_m10 54 rfl
theorem in_J15 : ∀ w ∈ wsJ150, w ∈ lw_all := lw_in wsJ150 [1545, 1546, 1547, 1548, 1549, 1560] (by decide +kernel) (by decide +kernel)

/-! java/lang/ArrayIndexOutOfBoundsException -/
set_option maxRecDepth 100000
def RJ16 : String := "java/lang/ArrayIndexOutOfBoundsException"
def TJ16 : u_T := fun k => match k with
  | 0 => ("java/lang/Throwable", "backtrace", "Ljava/lang/Object;", false)
  | 1 => ("java/lang/Throwable", "detailMessage", "Ljava/lang/String;", false)
  | 2 => ("java/lang/Throwable", "cause", "Ljava/lang/Throwable;", false)
  | 3 => ("java/lang/Throwable", "stackTrace", "[Ljava/lang/StackTraceElement;", false)
  | 4 => ("java/lang/Throwable", "depth", "I", false)
  | _ => ("java/lang/Throwable", "suppressedExceptions", "Ljava/util/List;", false)
def tyJ16 : Nat → FieldType := fun k => match k with
  | 0 => .object "java/lang/Object"
  | 1 => .object "java/lang/String"
  | 2 => .object "java/lang/Throwable"
  | 3 => .array (.object "java/lang/StackTraceElement")
  | 4 => .int
  | _ => .object "java/util/List"
abbrev wsJ160 : List Cond := u_ws RJ16 TJ16 6
theorem nmJ16 : ∀ a, a < 6 → ∀ b, b < 6 → a ≠ b → (TJ16 a).2.1 ≠ (TJ16 b).2.1 := by decide +kernel
theorem tyJ16_ok : ∀ k, k < 6 → parseFieldDescriptor (TJ16 k).2.2.1 = some (tyJ16 k) := by decide +kernel
abbrev cJ16_init : ByteArray := prog_26_method_2_code
def yJ16_init : MethodName := ⟨RJ16, "<init>", "(Ljava/lang/String;)V"⟩
theorem q176 : (Jvm.Cond.initialized "java/lang/ArrayIndexOutOfBoundsException") ∈ lw_all := lw_g (lw_at lw_m1 37 rfl) rfl
theorem q714 : (Jvm.Cond.selects "java/lang/ArrayIndexOutOfBoundsException" ({ cls := "java/lang/Throwable", name := "fillInStackTrace", desc := "()Ljava/lang/Throwable;" } : Jvm.MethodName) ({ cls := "java/lang/Throwable", name := "fillInStackTrace", desc := "()Ljava/lang/Throwable;" } : Jvm.MethodName)) ∈ lw_all := lw_g (lw_at lw_m3 95 rfl) rfl
theorem q830 : (Jvm.Cond.selects "java/lang/ArrayIndexOutOfBoundsException" ({ cls := "java/lang/Object", name := "getClass", desc := "()Ljava/lang/Class;" } : Jvm.MethodName) ({ cls := "java/lang/Object", name := "getClass", desc := "()Ljava/lang/Class;" } : Jvm.MethodName)) ∈ lw_all := lw_g (lw_at lw_m3 211 rfl) rfl
theorem q1503 : (Jvm.Cond.instantiable "java/lang/ArrayIndexOutOfBoundsException" (6 : Nat)) ∈ lw_all := lw_g (lw_at lw_m6 164 rfl) rfl
theorem q1504 : (Jvm.Cond.instanceMethod ({ cls := "java/lang/ArrayIndexOutOfBoundsException", name := "<init>", desc := "(Ljava/lang/String;)V" } : Jvm.MethodName)) ∈ lw_all := lw_g (lw_at lw_m6 165 rfl) rfl
theorem q1505 : (Jvm.Cond.code ({ cls := "java/lang/ArrayIndexOutOfBoundsException", name := "<init>", desc := "(Ljava/lang/String;)V" } : Jvm.MethodName) prog_26_method_2_code (2 : Nat) (Option.none : Option Jvm.ClassFile.FieldType)) ∈ lw_all := lw_g (lw_at lw_m6 166 rfl) rfl
theorem q1506 : (Jvm.Cond.methodLink "java/lang/ArrayIndexOutOfBoundsException" (7 : Nat) ({ cls := "java/lang/IndexOutOfBoundsException", name := "<init>", desc := "(Ljava/lang/String;)V" } : Jvm.MethodName)) ∈ lw_all := lw_g (lw_at lw_m6 167 rfl) rfl
theorem q1518 : (Jvm.Cond.lays "java/lang/ArrayIndexOutOfBoundsException" "java/lang/Throwable" "backtrace" "Ljava/lang/Object;") ∈ lw_all := lw_g (lw_at lw_m6 179 rfl) rfl
theorem q1519 : (Jvm.Cond.lays "java/lang/ArrayIndexOutOfBoundsException" "java/lang/Throwable" "detailMessage" "Ljava/lang/String;") ∈ lw_all := lw_g (lw_at lw_m6 180 rfl) rfl
theorem q1520 : (Jvm.Cond.lays "java/lang/ArrayIndexOutOfBoundsException" "java/lang/Throwable" "cause" "Ljava/lang/Throwable;") ∈ lw_all := lw_g (lw_at lw_m6 181 rfl) rfl
theorem q1521 : (Jvm.Cond.lays "java/lang/ArrayIndexOutOfBoundsException" "java/lang/Throwable" "stackTrace" "[Ljava/lang/StackTraceElement;") ∈ lw_all := lw_g (lw_at lw_m6 182 rfl) rfl
theorem q1522 : (Jvm.Cond.lays "java/lang/ArrayIndexOutOfBoundsException" "java/lang/Throwable" "depth" "I") ∈ lw_all := lw_g (lw_at lw_m6 183 rfl) rfl
theorem q1523 : (Jvm.Cond.lays "java/lang/ArrayIndexOutOfBoundsException" "java/lang/Throwable" "suppressedExceptions" "Ljava/util/List;") ∈ lw_all := lw_g (lw_at lw_m6 184 rfl) rfl
theorem q1524 : (Jvm.Cond.superclass "java/lang/ArrayIndexOutOfBoundsException" "java/lang/IndexOutOfBoundsException") ∈ lw_all := lw_g (lw_at lw_m6 185 rfl) rfl
theorem q1525 : (Jvm.Cond.castable "java/lang/ArrayIndexOutOfBoundsException" "java/lang/ArrayIndexOutOfBoundsException") ∈ lw_tbl := lw_at lw_m6 186 rfl
theorem q1530 : (Jvm.Cond.selects "java/lang/ArrayIndexOutOfBoundsException" ({ cls := "java/lang/Throwable", name := "fillInStackTrace", desc := "(I)Ljava/lang/Throwable;" } : Jvm.MethodName) ({ cls := "java/lang/Throwable", name := "fillInStackTrace", desc := "(I)Ljava/lang/Throwable;" } : Jvm.MethodName)) ∈ lw_all := lw_g (lw_at lw_m6 191 rfl) rfl
theorem q2326 : (Jvm.Cond.castable "java/lang/ArrayIndexOutOfBoundsException" "java/lang/IndexOutOfBoundsException") ∈ lw_tbl := lw_at lw_m10 27 rfl
theorem q2352 : (Jvm.Cond.castable "java/lang/ArrayIndexOutOfBoundsException" "java/lang/Object") ∈ lw_tbl := lw_at lw_m10 53 rfl
theorem in_J16 : ∀ w ∈ wsJ160, w ∈ lw_all := lw_in wsJ160 [1518, 1519, 1520, 1521, 1522, 1523] (by decide +kernel) (by decide +kernel)

/-! java/util/NoSuchElementException -/
set_option maxRecDepth 100000
def RJ17 : String := "java/util/NoSuchElementException"
def TJ17 : u_T := fun k => match k with
  | 0 => ("java/lang/Throwable", "cause", "Ljava/lang/Throwable;", false)
  | 1 => ("java/lang/Throwable", "stackTrace", "[Ljava/lang/StackTraceElement;", false)
  | 2 => ("java/lang/Throwable", "suppressedExceptions", "Ljava/util/List;", false)
  | 3 => ("java/lang/Throwable", "detailMessage", "Ljava/lang/String;", false)
  | 4 => ("java/lang/Throwable", "backtrace", "Ljava/lang/Object;", false)
  | _ => ("java/lang/Throwable", "depth", "I", false)
def tyJ17 : Nat → FieldType := fun k => match k with
  | 0 => .object "java/lang/Throwable"
  | 1 => .array (.object "java/lang/StackTraceElement")
  | 2 => .object "java/util/List"
  | 3 => .object "java/lang/String"
  | 4 => .object "java/lang/Object"
  | _ => .int
abbrev wsJ170 : List Cond := u_ws RJ17 TJ17 6
theorem nmJ17 : ∀ a, a < 6 → ∀ b, b < 6 → a ≠ b → (TJ17 a).2.1 ≠ (TJ17 b).2.1 := by decide +kernel
theorem tyJ17_ok : ∀ k, k < 6 → parseFieldDescriptor (TJ17 k).2.2.1 = some (tyJ17 k) := by decide +kernel
abbrev cJ17_init : ByteArray := prog_50_method_1_code
def yJ17_init : MethodName := ⟨RJ17, "<init>", "()V"⟩
theorem q177 : (Jvm.Cond.initialized "java/util/NoSuchElementException") ∈ lw_all := lw_g (lw_at lw_m1 38 rfl) rfl
theorem q716 : (Jvm.Cond.selects "java/util/NoSuchElementException" ({ cls := "java/lang/Throwable", name := "fillInStackTrace", desc := "()Ljava/lang/Throwable;" } : Jvm.MethodName) ({ cls := "java/lang/Throwable", name := "fillInStackTrace", desc := "()Ljava/lang/Throwable;" } : Jvm.MethodName)) ∈ lw_all := lw_g (lw_at lw_m3 97 rfl) rfl
theorem q833 : (Jvm.Cond.selects "java/util/NoSuchElementException" ({ cls := "java/lang/Object", name := "getClass", desc := "()Ljava/lang/Class;" } : Jvm.MethodName) ({ cls := "java/lang/Object", name := "getClass", desc := "()Ljava/lang/Class;" } : Jvm.MethodName)) ∈ lw_all := lw_g (lw_at lw_m3 214 rfl) rfl
theorem q1564 : (Jvm.Cond.instantiable "java/util/NoSuchElementException" (6 : Nat)) ∈ lw_all := lw_g (lw_at lw_m6 225 rfl) rfl
theorem q1565 : (Jvm.Cond.castable "java/util/NoSuchElementException" "java/util/NoSuchElementException") ∈ lw_tbl := lw_at lw_m6 226 rfl
theorem q1566 : (Jvm.Cond.selects "java/util/NoSuchElementException" ({ cls := "java/lang/Throwable", name := "fillInStackTrace", desc := "(I)Ljava/lang/Throwable;" } : Jvm.MethodName) ({ cls := "java/lang/Throwable", name := "fillInStackTrace", desc := "(I)Ljava/lang/Throwable;" } : Jvm.MethodName)) ∈ lw_all := lw_g (lw_at lw_m6 227 rfl) rfl
theorem q1567 : (Jvm.Cond.lays "java/util/NoSuchElementException" "java/lang/Throwable" "cause" "Ljava/lang/Throwable;") ∈ lw_all := lw_g (lw_at lw_m6 228 rfl) rfl
theorem q1568 : (Jvm.Cond.lays "java/util/NoSuchElementException" "java/lang/Throwable" "stackTrace" "[Ljava/lang/StackTraceElement;") ∈ lw_all := lw_g (lw_at lw_m6 229 rfl) rfl
theorem q1569 : (Jvm.Cond.lays "java/util/NoSuchElementException" "java/lang/Throwable" "suppressedExceptions" "Ljava/util/List;") ∈ lw_all := lw_g (lw_at lw_m6 230 rfl) rfl
theorem q1570 : (Jvm.Cond.lays "java/util/NoSuchElementException" "java/lang/Throwable" "detailMessage" "Ljava/lang/String;") ∈ lw_all := lw_g (lw_at lw_m6 231 rfl) rfl
theorem q1571 : (Jvm.Cond.lays "java/util/NoSuchElementException" "java/lang/Throwable" "backtrace" "Ljava/lang/Object;") ∈ lw_all := lw_g (lw_at lw_m6 232 rfl) rfl
theorem q1573 : (Jvm.Cond.instanceMethod ({ cls := "java/util/NoSuchElementException", name := "<init>", desc := "()V" } : Jvm.MethodName)) ∈ lw_all := lw_g (lw_at lw_m6 234 rfl) rfl
theorem q1574 : (Jvm.Cond.code ({ cls := "java/util/NoSuchElementException", name := "<init>", desc := "()V" } : Jvm.MethodName) prog_50_method_1_code (1 : Nat) (Option.none : Option Jvm.ClassFile.FieldType)) ∈ lw_all := lw_g (lw_at lw_m6 235 rfl) rfl
theorem q1575 : (Jvm.Cond.methodLink "java/util/NoSuchElementException" (1 : Nat) ({ cls := "java/lang/RuntimeException", name := "<init>", desc := "()V" } : Jvm.MethodName)) ∈ lw_all := lw_g (lw_at lw_m6 236 rfl) rfl
theorem q1576 : (Jvm.Cond.lays "java/util/NoSuchElementException" "java/lang/Throwable" "depth" "I") ∈ lw_all := lw_g (lw_at lw_m6 237 rfl) rfl
theorem q1577 : (Jvm.Cond.superclass "java/util/NoSuchElementException" "java/lang/RuntimeException") ∈ lw_all := lw_g (lw_at lw_m6 238 rfl) rfl
theorem q2354 : (Jvm.Cond.castable "java/util/NoSuchElementException" "java/lang/Object") ∈ lw_tbl := lw_at lw_m10 55 rfl
theorem in_J17 : ∀ w ∈ wsJ170, w ∈ lw_all := lw_in wsJ170 [1567, 1568, 1569, 1570, 1571, 1576] (by decide +kernel) (by decide +kernel)

/-! java/lang/Integer -/
set_option maxRecDepth 100000
def RJ18 : String := "java/lang/Integer"
abbrev cJ18_bitCount : ByteArray := prog_33_method_49_code
def yJ18_bitCount : MethodName := ⟨RJ18, "bitCount", "(I)I"⟩
theorem q178 : (Jvm.Cond.initialized "java/lang/Integer") ∈ lw_all := lw_g (lw_at lw_m1 39 rfl) rfl
theorem q1106 : (Jvm.Cond.static ({ cls := "java/lang/Integer", name := "bitCount", desc := "(I)I" } : Jvm.MethodName)) ∈ lw_all := lw_g (lw_at lw_m5 7 rfl) rfl
theorem q1107 : (Jvm.Cond.code ({ cls := "java/lang/Integer", name := "bitCount", desc := "(I)I" } : Jvm.MethodName) prog_33_method_49_code (1 : Nat) (Option.some Jvm.ClassFile.FieldType.int)) ∈ lw_all := lw_g (lw_at lw_m5 8 rfl) rfl
theorem q1108 : (Jvm.Cond.constant "java/lang/Integer" (265 : Nat) (1431655765 : Int32)) ∈ lw_all := lw_g (lw_at lw_m5 9 rfl) rfl
theorem q1109 : (Jvm.Cond.constant "java/lang/Integer" (266 : Nat) (858993459 : Int32)) ∈ lw_all := lw_g (lw_at lw_m5 10 rfl) rfl
theorem q1110 : (Jvm.Cond.constant "java/lang/Integer" (267 : Nat) (252645135 : Int32)) ∈ lw_all := lw_g (lw_at lw_m5 11 rfl) rfl

/-! java/lang/Object -/
set_option maxRecDepth 100000
def RJ19 : String := "java/lang/Object"
abbrev cJ19_init : ByteArray := object_method_1_code
def yJ19_init : MethodName := ⟨RJ19, "<init>", "()V"⟩
theorem q188 : (Jvm.Cond.instanceMethod ({ cls := "java/lang/Object", name := "<init>", desc := "()V" } : Jvm.MethodName)) ∈ lw_all := lw_g (lw_at lw_m1 49 rfl) rfl
theorem q189 : (Jvm.Cond.code ({ cls := "java/lang/Object", name := "<init>", desc := "()V" } : Jvm.MethodName) object_method_1_code (1 : Nat) (Option.none : Option Jvm.ClassFile.FieldType)) ∈ lw_all := lw_g (lw_at lw_m1 50 rfl) rfl
theorem q808 : (Jvm.Cond.instanceMethod ({ cls := "java/lang/Object", name := "getClass", desc := "()Ljava/lang/Class;" } : Jvm.MethodName)) ∈ lw_all := lw_g (lw_at lw_m3 189 rfl) rfl
theorem q809 : (Jvm.Cond.sameMethod "java/lang/Object" "java/lang/Object" "getClass" "()Ljava/lang/Class;") ∈ lw_all := lw_g (lw_at lw_m3 190 rfl) rfl
theorem q834 : (Jvm.Cond.native ({ cls := "java/lang/Object", name := "getClass", desc := "()Ljava/lang/Class;" } : Jvm.MethodName)) ∈ lw_all := lw_g (lw_at lw_m3 215 rfl) rfl
theorem q2324 : (Jvm.Cond.initialized "java/lang/Object") ∈ lw_all := lw_g (lw_at lw_m10 25 rfl) rfl
theorem q2369 : (Jvm.Cond.declares ({ cls := "java/lang/Object", name := "getClass", desc := "()Ljava/lang/Class;" } : Jvm.MethodName)) ∈ lw_tbl := lw_at lw_m10 70 rfl

/-! java/util/ArrayList -/
set_option maxRecDepth 100000
def RJ2 : String := "java/util/ArrayList"
def TJ2 : u_T := fun k => match k with
  | 0 => ("java/util/AbstractList", "modCount", "I", false)
  | 1 => ("java/util/ArrayList", "elementData", "[Ljava/lang/Object;", false)
  | _ => ("java/util/ArrayList", "size", "I", false)
def tyJ2 : Nat → FieldType := fun k => match k with
  | 0 => .int
  | 1 => .array (.object "java/lang/Object")
  | _ => .int
abbrev wsJ20 : List Cond := u_ws RJ2 TJ2 3
theorem nmJ2 : ∀ a, a < 3 → ∀ b, b < 3 → a ≠ b → (TJ2 a).2.1 ≠ (TJ2 b).2.1 := by decide +kernel
theorem tyJ2_ok : ∀ k, k < 3 → parseFieldDescriptor (TJ2 k).2.2.1 = some (tyJ2 k) := by decide +kernel
abbrev cJ2_init : ByteArray := prog_46_method_1_code
def yJ2_init : MethodName := ⟨RJ2, "<init>", "(I)V"⟩
abbrev cJ2_size : ByteArray := prog_46_method_8_code
def yJ2_size : MethodName := ⟨RJ2, "size", "()I"⟩
abbrev cJ2_get : ByteArray := prog_46_method_20_code
def yJ2_get : MethodName := ⟨RJ2, "get", "(I)Ljava/lang/Object;"⟩
abbrev cJ2_elementData : ByteArray := prog_46_method_18_code
def yJ2_elementData : MethodName := ⟨RJ2, "elementData", "(I)Ljava/lang/Object;"⟩
abbrev cJ2_add : ByteArray := prog_46_method_25_code
def yJ2_add : MethodName := ⟨RJ2, "add", "(Ljava/lang/Object;)Z"⟩
abbrev cJ2_add_2 : ByteArray := prog_46_method_24_code
def yJ2_add_2 : MethodName := ⟨RJ2, "add", "(Ljava/lang/Object;[Ljava/lang/Object;I)V"⟩
abbrev cJ2_grow : ByteArray := prog_46_method_7_code
def yJ2_grow : MethodName := ⟨RJ2, "grow", "()[Ljava/lang/Object;"⟩
abbrev cJ2_grow_2 : ByteArray := prog_46_method_6_code
def yJ2_grow_2 : MethodName := ⟨RJ2, "grow", "(I)[Ljava/lang/Object;"⟩
abbrev cJ2_clear : ByteArray := prog_46_method_40_code
def yJ2_clear : MethodName := ⟨RJ2, "clear", "()V"⟩
theorem q145 : (Jvm.Cond.initialized "java/util/ArrayList") ∈ lw_all := lw_g (lw_at lw_m1 6 rfl) rfl
theorem q232 : (Jvm.Cond.instantiable "java/util/ArrayList" (3 : Nat)) ∈ lw_all := lw_g (lw_at lw_m1 93 rfl) rfl
theorem q234 : (Jvm.Cond.instanceMethod ({ cls := "java/util/ArrayList", name := "<init>", desc := "(I)V" } : Jvm.MethodName)) ∈ lw_all := lw_g (lw_at lw_m1 95 rfl) rfl
theorem q235 : (Jvm.Cond.code ({ cls := "java/util/ArrayList", name := "<init>", desc := "(I)V" } : Jvm.MethodName) prog_46_method_1_code (2 : Nat) (Option.none : Option Jvm.ClassFile.FieldType)) ∈ lw_all := lw_g (lw_at lw_m1 96 rfl) rfl
theorem q236 : (Jvm.Cond.methodLink "java/util/ArrayList" (1 : Nat) ({ cls := "java/util/AbstractList", name := "<init>", desc := "()V" } : Jvm.MethodName)) ∈ lw_all := lw_g (lw_at lw_m1 97 rfl) rfl
theorem q243 : (Jvm.Cond.classLink "java/util/ArrayList" (7 : Nat) "java/lang/Object") ∈ lw_all := lw_g (lw_at lw_m1 104 rfl) rfl
theorem q245 : (Jvm.Cond.fieldLink "java/util/ArrayList" (15 : Nat) "java/util/ArrayList" "EMPTY_ELEMENTDATA" "[Ljava/lang/Object;") ∈ lw_all := lw_g (lw_at lw_m1 106 rfl) rfl
theorem q246 : (Jvm.Cond.laysStatic "java/util/ArrayList" "EMPTY_ELEMENTDATA" "[Ljava/lang/Object;") ∈ lw_tbl := lw_at lw_m1 107 rfl
theorem q247 : (Jvm.Cond.fieldLink "java/util/ArrayList" (9 : Nat) "java/util/ArrayList" "elementData" "[Ljava/lang/Object;") ∈ lw_all := lw_g (lw_at lw_m1 108 rfl) rfl
theorem q248 : (Jvm.Cond.fieldLink "java/util/ArrayList" (48 : Nat) "java/util/ArrayList" "size" "I") ∈ lw_all := lw_g (lw_at lw_m1 109 rfl) rfl
theorem q250 : (Jvm.Cond.fieldLink "java/util/ArrayList" (63 : Nat) "java/util/ArrayList" "modCount" "I") ∈ lw_all := lw_g (lw_at lw_m1 111 rfl) rfl
theorem q251 : (Jvm.Cond.sameField "java/util/ArrayList" "java/util/AbstractList" "modCount" "I") ∈ lw_all := lw_g (lw_at lw_m1 112 rfl) rfl
theorem q252 : (Jvm.Cond.lays "java/util/ArrayList" "java/util/ArrayList" "elementData" "[Ljava/lang/Object;") ∈ lw_all := lw_g (lw_at lw_m1 113 rfl) rfl
theorem q253 : (Jvm.Cond.soleField "java/util/ArrayList" "elementData") ∈ lw_all := lw_g (lw_at lw_m1 114 rfl) rfl
theorem q254 : (Jvm.Cond.lays "java/util/ArrayList" "java/util/ArrayList" "size" "I") ∈ lw_all := lw_g (lw_at lw_m1 115 rfl) rfl
theorem q255 : (Jvm.Cond.soleField "java/util/ArrayList" "size") ∈ lw_all := lw_g (lw_at lw_m1 116 rfl) rfl
theorem q256 : (Jvm.Cond.lays "java/util/ArrayList" "java/util/AbstractList" "modCount" "I") ∈ lw_all := lw_g (lw_at lw_m1 117 rfl) rfl
theorem q258 : (Jvm.Cond.superclass "java/util/ArrayList" "java/util/AbstractList") ∈ lw_all := lw_g (lw_at lw_m1 119 rfl) rfl
theorem q418 : (Jvm.Cond.instanceMethod ({ cls := "java/util/ArrayList", name := "size", desc := "()I" } : Jvm.MethodName)) ∈ lw_all := lw_g (lw_at lw_m2 39 rfl) rfl
theorem q419 : (Jvm.Cond.selects "java/util/ArrayList" ({ cls := "java/util/ArrayList", name := "size", desc := "()I" } : Jvm.MethodName) ({ cls := "java/util/ArrayList", name := "size", desc := "()I" } : Jvm.MethodName)) ∈ lw_all := lw_g (lw_at lw_m2 40 rfl) rfl
theorem q420 : (Jvm.Cond.code ({ cls := "java/util/ArrayList", name := "size", desc := "()I" } : Jvm.MethodName) prog_46_method_8_code (1 : Nat) (Option.some Jvm.ClassFile.FieldType.int)) ∈ lw_all := lw_g (lw_at lw_m2 41 rfl) rfl
theorem q422 : (Jvm.Cond.instanceMethod ({ cls := "java/util/ArrayList", name := "get", desc := "(I)Ljava/lang/Object;" } : Jvm.MethodName)) ∈ lw_all := lw_g (lw_at lw_m2 43 rfl) rfl
theorem q423 : (Jvm.Cond.selects "java/util/ArrayList" ({ cls := "java/util/ArrayList", name := "get", desc := "(I)Ljava/lang/Object;" } : Jvm.MethodName) ({ cls := "java/util/ArrayList", name := "get", desc := "(I)Ljava/lang/Object;" } : Jvm.MethodName)) ∈ lw_all := lw_g (lw_at lw_m2 44 rfl) rfl
theorem q424 : (Jvm.Cond.code ({ cls := "java/util/ArrayList", name := "get", desc := "(I)Ljava/lang/Object;" } : Jvm.MethodName) prog_46_method_20_code (2 : Nat) (Option.some (Jvm.ClassFile.FieldType.object "java/lang/Object"))) ∈ lw_all := lw_g (lw_at lw_m2 45 rfl) rfl
theorem q425 : (Jvm.Cond.methodLink "java/util/ArrayList" (118 : Nat) ({ cls := "java/util/Objects", name := "checkIndex", desc := "(II)I" } : Jvm.MethodName)) ∈ lw_all := lw_g (lw_at lw_m2 46 rfl) rfl
theorem q431 : (Jvm.Cond.methodLink "java/util/ArrayList" (123 : Nat) ({ cls := "java/util/ArrayList", name := "elementData", desc := "(I)Ljava/lang/Object;" } : Jvm.MethodName)) ∈ lw_all := lw_g (lw_at lw_m2 52 rfl) rfl
theorem q432 : (Jvm.Cond.instanceMethod ({ cls := "java/util/ArrayList", name := "elementData", desc := "(I)Ljava/lang/Object;" } : Jvm.MethodName)) ∈ lw_all := lw_g (lw_at lw_m2 53 rfl) rfl
theorem q433 : (Jvm.Cond.selects "java/util/ArrayList" ({ cls := "java/util/ArrayList", name := "elementData", desc := "(I)Ljava/lang/Object;" } : Jvm.MethodName) ({ cls := "java/util/ArrayList", name := "elementData", desc := "(I)Ljava/lang/Object;" } : Jvm.MethodName)) ∈ lw_all := lw_g (lw_at lw_m2 54 rfl) rfl
theorem q434 : (Jvm.Cond.code ({ cls := "java/util/ArrayList", name := "elementData", desc := "(I)Ljava/lang/Object;" } : Jvm.MethodName) prog_46_method_18_code (2 : Nat) (Option.some (Jvm.ClassFile.FieldType.object "java/lang/Object"))) ∈ lw_all := lw_g (lw_at lw_m2 55 rfl) rfl
theorem q779 : (Jvm.Cond.instanceMethod ({ cls := "java/util/ArrayList", name := "add", desc := "(Ljava/lang/Object;)Z" } : Jvm.MethodName)) ∈ lw_all := lw_g (lw_at lw_m3 160 rfl) rfl
theorem q780 : (Jvm.Cond.selects "java/util/ArrayList" ({ cls := "java/util/ArrayList", name := "add", desc := "(Ljava/lang/Object;)Z" } : Jvm.MethodName) ({ cls := "java/util/ArrayList", name := "add", desc := "(Ljava/lang/Object;)Z" } : Jvm.MethodName)) ∈ lw_all := lw_g (lw_at lw_m3 161 rfl) rfl
theorem q781 : (Jvm.Cond.code ({ cls := "java/util/ArrayList", name := "add", desc := "(Ljava/lang/Object;)Z" } : Jvm.MethodName) prog_46_method_25_code (2 : Nat) (Option.some Jvm.ClassFile.FieldType.boolean)) ∈ lw_all := lw_g (lw_at lw_m3 162 rfl) rfl
theorem q782 : (Jvm.Cond.methodLink "java/util/ArrayList" (131 : Nat) ({ cls := "java/util/ArrayList", name := "add", desc := "(Ljava/lang/Object;[Ljava/lang/Object;I)V" } : Jvm.MethodName)) ∈ lw_all := lw_g (lw_at lw_m3 163 rfl) rfl
theorem q783 : (Jvm.Cond.privateMethod ({ cls := "java/util/ArrayList", name := "add", desc := "(Ljava/lang/Object;[Ljava/lang/Object;I)V" } : Jvm.MethodName)) ∈ lw_tbl := lw_at lw_m3 164 rfl
theorem q784 : (Jvm.Cond.instanceMethod ({ cls := "java/util/ArrayList", name := "add", desc := "(Ljava/lang/Object;[Ljava/lang/Object;I)V" } : Jvm.MethodName)) ∈ lw_all := lw_g (lw_at lw_m3 165 rfl) rfl
theorem q785 : (Jvm.Cond.code ({ cls := "java/util/ArrayList", name := "add", desc := "(Ljava/lang/Object;[Ljava/lang/Object;I)V" } : Jvm.MethodName) prog_46_method_24_code (4 : Nat) (Option.none : Option Jvm.ClassFile.FieldType)) ∈ lw_all := lw_g (lw_at lw_m3 166 rfl) rfl
theorem q786 : (Jvm.Cond.methodLink "java/util/ArrayList" (129 : Nat) ({ cls := "java/util/ArrayList", name := "grow", desc := "()[Ljava/lang/Object;" } : Jvm.MethodName)) ∈ lw_all := lw_g (lw_at lw_m3 167 rfl) rfl
theorem q787 : (Jvm.Cond.privateMethod ({ cls := "java/util/ArrayList", name := "grow", desc := "()[Ljava/lang/Object;" } : Jvm.MethodName)) ∈ lw_tbl := lw_at lw_m3 168 rfl
theorem q788 : (Jvm.Cond.instanceMethod ({ cls := "java/util/ArrayList", name := "grow", desc := "()[Ljava/lang/Object;" } : Jvm.MethodName)) ∈ lw_all := lw_g (lw_at lw_m3 169 rfl) rfl
theorem q789 : (Jvm.Cond.code ({ cls := "java/util/ArrayList", name := "grow", desc := "()[Ljava/lang/Object;" } : Jvm.MethodName) prog_46_method_7_code (1 : Nat) (Option.some (Jvm.ClassFile.FieldType.array (Jvm.ClassFile.FieldType.object "java/lang/Object")))) ∈ lw_all := lw_g (lw_at lw_m3 170 rfl) rfl
theorem q790 : (Jvm.Cond.methodLink "java/util/ArrayList" (69 : Nat) ({ cls := "java/util/ArrayList", name := "grow", desc := "(I)[Ljava/lang/Object;" } : Jvm.MethodName)) ∈ lw_all := lw_g (lw_at lw_m3 171 rfl) rfl
theorem q791 : (Jvm.Cond.privateMethod ({ cls := "java/util/ArrayList", name := "grow", desc := "(I)[Ljava/lang/Object;" } : Jvm.MethodName)) ∈ lw_tbl := lw_at lw_m3 172 rfl
theorem q792 : (Jvm.Cond.instanceMethod ({ cls := "java/util/ArrayList", name := "grow", desc := "(I)[Ljava/lang/Object;" } : Jvm.MethodName)) ∈ lw_all := lw_g (lw_at lw_m3 173 rfl) rfl
theorem q793 : (Jvm.Cond.code ({ cls := "java/util/ArrayList", name := "grow", desc := "(I)[Ljava/lang/Object;" } : Jvm.MethodName) prog_46_method_6_code (4 : Nat) (Option.some (Jvm.ClassFile.FieldType.array (Jvm.ClassFile.FieldType.object "java/lang/Object")))) ∈ lw_all := lw_g (lw_at lw_m3 174 rfl) rfl
theorem q794 : (Jvm.Cond.fieldLink "java/util/ArrayList" (39 : Nat) "java/util/ArrayList" "DEFAULTCAPACITY_EMPTY_ELEMENTDATA" "[Ljava/lang/Object;") ∈ lw_all := lw_g (lw_at lw_m3 175 rfl) rfl
theorem q795 : (Jvm.Cond.laysStatic "java/util/ArrayList" "DEFAULTCAPACITY_EMPTY_ELEMENTDATA" "[Ljava/lang/Object;") ∈ lw_tbl := lw_at lw_m3 176 rfl
theorem q796 : (Jvm.Cond.methodLink "java/util/ArrayList" (73 : Nat) ({ cls := "jdk/internal/util/ArraysSupport", name := "newLength", desc := "(III)I" } : Jvm.MethodName)) ∈ lw_all := lw_g (lw_at lw_m3 177 rfl) rfl
theorem q804 : (Jvm.Cond.methodLink "java/util/ArrayList" (66 : Nat) ({ cls := "java/util/Arrays", name := "copyOf", desc := "([Ljava/lang/Object;I)[Ljava/lang/Object;" } : Jvm.MethodName)) ∈ lw_all := lw_g (lw_at lw_m3 185 rfl) rfl
theorem q832 : (Jvm.Cond.selects "java/util/ArrayList" ({ cls := "java/lang/Object", name := "getClass", desc := "()Ljava/lang/Class;" } : Jvm.MethodName) ({ cls := "java/lang/Object", name := "getClass", desc := "()Ljava/lang/Class;" } : Jvm.MethodName)) ∈ lw_all := lw_g (lw_at lw_m3 213 rfl) rfl
theorem q844 : (Jvm.Cond.methodLink "java/util/ArrayList" (79 : Nat) ({ cls := "java/lang/Math", name := "max", desc := "(II)I" } : Jvm.MethodName)) ∈ lw_all := lw_g (lw_at lw_m3 225 rfl) rfl
theorem q1022 : (Jvm.Cond.instanceMethod ({ cls := "java/util/ArrayList", name := "clear", desc := "()V" } : Jvm.MethodName)) ∈ lw_all := lw_g (lw_at lw_m4 163 rfl) rfl
theorem q1023 : (Jvm.Cond.selects "java/util/ArrayList" ({ cls := "java/util/ArrayList", name := "clear", desc := "()V" } : Jvm.MethodName) ({ cls := "java/util/ArrayList", name := "clear", desc := "()V" } : Jvm.MethodName)) ∈ lw_all := lw_g (lw_at lw_m4 164 rfl) rfl
theorem q1024 : (Jvm.Cond.code ({ cls := "java/util/ArrayList", name := "clear", desc := "()V" } : Jvm.MethodName) prog_46_method_40_code (4 : Nat) (Option.none : Option Jvm.ClassFile.FieldType)) ∈ lw_all := lw_g (lw_at lw_m4 165 rfl) rfl
theorem q2338 : (Jvm.Cond.castable "java/util/ArrayList" "java/lang/Object") ∈ lw_tbl := lw_at lw_m10 39 rfl
theorem in_J2 : ∀ w ∈ wsJ20, w ∈ lw_all := lw_in wsJ20 [256, 252, 254] (by decide +kernel) (by decide +kernel)

/-! java/util/Objects -/
set_option maxRecDepth 100000
def RJ3 : String := "java/util/Objects"
abbrev cJ3_checkIndex : ByteArray := prog_51_method_17_code
def yJ3_checkIndex : MethodName := ⟨RJ3, "checkIndex", "(II)I"⟩
theorem q152 : (Jvm.Cond.initialized "java/util/Objects") ∈ lw_all := lw_g (lw_at lw_m1 13 rfl) rfl
theorem q426 : (Jvm.Cond.static ({ cls := "java/util/Objects", name := "checkIndex", desc := "(II)I" } : Jvm.MethodName)) ∈ lw_all := lw_g (lw_at lw_m2 47 rfl) rfl
theorem q427 : (Jvm.Cond.code ({ cls := "java/util/Objects", name := "checkIndex", desc := "(II)I" } : Jvm.MethodName) prog_51_method_17_code (2 : Nat) (Option.some Jvm.ClassFile.FieldType.int)) ∈ lw_all := lw_g (lw_at lw_m2 48 rfl) rfl
theorem q428 : (Jvm.Cond.methodLink "java/util/Objects" (105 : Nat) ({ cls := "jdk/internal/util/Preconditions", name := "checkIndex", desc := "(IILjava/util/function/BiFunction;)I" } : Jvm.MethodName)) ∈ lw_all := lw_g (lw_at lw_m2 49 rfl) rfl

/-! jdk/internal/util/Preconditions -/
set_option maxRecDepth 100000
def RJ4 : String := "jdk/internal/util/Preconditions"
abbrev cJ4_checkIndex : ByteArray := prog_55_method_11_code
def yJ4_checkIndex : MethodName := ⟨RJ4, "checkIndex", "(IILjava/util/function/BiFunction;)I"⟩
abbrev cJ4_checkFromToIndex : ByteArray := prog_55_method_12_code
def yJ4_checkFromToIndex : MethodName := ⟨RJ4, "checkFromToIndex", "(IIILjava/util/function/BiFunction;)I"⟩
theorem q153 : (Jvm.Cond.initialized "jdk/internal/util/Preconditions") ∈ lw_all := lw_g (lw_at lw_m1 14 rfl) rfl
theorem q429 : (Jvm.Cond.static ({ cls := "jdk/internal/util/Preconditions", name := "checkIndex", desc := "(IILjava/util/function/BiFunction;)I" } : Jvm.MethodName)) ∈ lw_all := lw_g (lw_at lw_m2 50 rfl) rfl
theorem q430 : (Jvm.Cond.code ({ cls := "jdk/internal/util/Preconditions", name := "checkIndex", desc := "(IILjava/util/function/BiFunction;)I" } : Jvm.MethodName) prog_55_method_11_code (3 : Nat) (Option.some Jvm.ClassFile.FieldType.int)) ∈ lw_all := lw_g (lw_at lw_m2 51 rfl) rfl
theorem q578 : (Jvm.Cond.laysStatic "jdk/internal/util/Preconditions" "SIOOBE_FORMATTER" "Ljava/util/function/BiFunction;") ∈ lw_tbl := lw_at lw_m2 199 rfl
theorem q651 : (Jvm.Cond.static ({ cls := "jdk/internal/util/Preconditions", name := "checkFromToIndex", desc := "(IIILjava/util/function/BiFunction;)I" } : Jvm.MethodName)) ∈ lw_all := lw_g (lw_at lw_m3 32 rfl) rfl
theorem q652 : (Jvm.Cond.code ({ cls := "jdk/internal/util/Preconditions", name := "checkFromToIndex", desc := "(IIILjava/util/function/BiFunction;)I" } : Jvm.MethodName) prog_55_method_12_code (4 : Nat) (Option.some Jvm.ClassFile.FieldType.int)) ∈ lw_all := lw_g (lw_at lw_m3 33 rfl) rfl

/-! java/lang/String -/
set_option maxRecDepth 100000
def RJ5 : String := "java/lang/String"
def TJ5 : u_T := fun k => match k with
  | 0 => ("java/lang/String", "value", "[B", true)
  | _ => ("java/lang/String", "coder", "B", true)
def tyJ5 : Nat → FieldType := fun k => match k with
  | 0 => .array .byte
  | _ => .byte
abbrev wsJ50 : List Cond := u_ws RJ5 TJ5 2
theorem nmJ5 : ∀ a, a < 2 → ∀ b, b < 2 → a ≠ b → (TJ5 a).2.1 ≠ (TJ5 b).2.1 := by decide +kernel
theorem tyJ5_ok : ∀ k, k < 2 → parseFieldDescriptor (TJ5 k).2.2.1 = some (tyJ5 k) := by decide +kernel
abbrev cJ5_length : ByteArray := prog_37_method_54_code
def yJ5_length : MethodName := ⟨RJ5, "length", "()I"⟩
abbrev cJ5_coder : ByteArray := prog_37_method_152_code
def yJ5_coder : MethodName := ⟨RJ5, "coder", "()B"⟩
abbrev cJ5_charAt : ByteArray := prog_37_method_56_code
def yJ5_charAt : MethodName := ⟨RJ5, "charAt", "(I)C"⟩
abbrev cJ5_isLatin1 : ByteArray := prog_37_method_154_code
def yJ5_isLatin1 : MethodName := ⟨RJ5, "isLatin1", "()Z"⟩
abbrev cJ5_checkIndex : ByteArray := prog_37_method_155_code
def yJ5_checkIndex : MethodName := ⟨RJ5, "checkIndex", "(II)V"⟩
abbrev cJ5_indexOf : ByteArray := prog_37_method_79_code
def yJ5_indexOf : MethodName := ⟨RJ5, "indexOf", "(I)I"⟩
abbrev cJ5_indexOf_2 : ByteArray := prog_37_method_80_code
def yJ5_indexOf_2 : MethodName := ⟨RJ5, "indexOf", "(II)I"⟩
abbrev cJ5_checkBoundsBeginEnd : ByteArray := prog_37_method_158_code
def yJ5_checkBoundsBeginEnd : MethodName := ⟨RJ5, "checkBoundsBeginEnd", "(III)V"⟩
theorem q155 : (Jvm.Cond.initialized "java/lang/String") ∈ lw_all := lw_g (lw_at lw_m1 16 rfl) rfl
theorem q554 : (Jvm.Cond.instanceMethod ({ cls := "java/lang/String", name := "length", desc := "()I" } : Jvm.MethodName)) ∈ lw_all := lw_g (lw_at lw_m2 175 rfl) rfl
theorem q555 : (Jvm.Cond.selects "java/lang/String" ({ cls := "java/lang/String", name := "length", desc := "()I" } : Jvm.MethodName) ({ cls := "java/lang/String", name := "length", desc := "()I" } : Jvm.MethodName)) ∈ lw_all := lw_g (lw_at lw_m2 176 rfl) rfl
theorem q556 : (Jvm.Cond.code ({ cls := "java/lang/String", name := "length", desc := "()I" } : Jvm.MethodName) prog_37_method_54_code (1 : Nat) (Option.some Jvm.ClassFile.FieldType.int)) ∈ lw_all := lw_g (lw_at lw_m2 177 rfl) rfl
theorem q557 : (Jvm.Cond.methodLink "java/lang/String" (335 : Nat) ({ cls := "java/lang/String", name := "coder", desc := "()B" } : Jvm.MethodName)) ∈ lw_all := lw_g (lw_at lw_m2 178 rfl) rfl
theorem q558 : (Jvm.Cond.instanceMethod ({ cls := "java/lang/String", name := "coder", desc := "()B" } : Jvm.MethodName)) ∈ lw_all := lw_g (lw_at lw_m2 179 rfl) rfl
theorem q559 : (Jvm.Cond.selects "java/lang/String" ({ cls := "java/lang/String", name := "coder", desc := "()B" } : Jvm.MethodName) ({ cls := "java/lang/String", name := "coder", desc := "()B" } : Jvm.MethodName)) ∈ lw_all := lw_g (lw_at lw_m2 180 rfl) rfl
theorem q560 : (Jvm.Cond.code ({ cls := "java/lang/String", name := "coder", desc := "()B" } : Jvm.MethodName) prog_37_method_152_code (1 : Nat) (Option.some Jvm.ClassFile.FieldType.byte)) ∈ lw_all := lw_g (lw_at lw_m2 181 rfl) rfl
theorem q561 : (Jvm.Cond.fieldLink "java/lang/String" (38 : Nat) "java/lang/String" "COMPACT_STRINGS" "Z") ∈ lw_all := lw_g (lw_at lw_m2 182 rfl) rfl
theorem q562 : (Jvm.Cond.laysStatic "java/lang/String" "COMPACT_STRINGS" "Z") ∈ lw_tbl := lw_at lw_m2 183 rfl
theorem q564 : (Jvm.Cond.instanceMethod ({ cls := "java/lang/String", name := "charAt", desc := "(I)C" } : Jvm.MethodName)) ∈ lw_all := lw_g (lw_at lw_m2 185 rfl) rfl
theorem q565 : (Jvm.Cond.selects "java/lang/String" ({ cls := "java/lang/String", name := "charAt", desc := "(I)C" } : Jvm.MethodName) ({ cls := "java/lang/String", name := "charAt", desc := "(I)C" } : Jvm.MethodName)) ∈ lw_all := lw_g (lw_at lw_m2 186 rfl) rfl
theorem q566 : (Jvm.Cond.code ({ cls := "java/lang/String", name := "charAt", desc := "(I)C" } : Jvm.MethodName) prog_37_method_56_code (2 : Nat) (Option.some Jvm.ClassFile.FieldType.char)) ∈ lw_all := lw_g (lw_at lw_m2 187 rfl) rfl
theorem q567 : (Jvm.Cond.methodLink "java/lang/String" (492 : Nat) ({ cls := "java/lang/String", name := "isLatin1", desc := "()Z" } : Jvm.MethodName)) ∈ lw_all := lw_g (lw_at lw_m2 188 rfl) rfl
theorem q568 : (Jvm.Cond.instanceMethod ({ cls := "java/lang/String", name := "isLatin1", desc := "()Z" } : Jvm.MethodName)) ∈ lw_all := lw_g (lw_at lw_m2 189 rfl) rfl
theorem q569 : (Jvm.Cond.selects "java/lang/String" ({ cls := "java/lang/String", name := "isLatin1", desc := "()Z" } : Jvm.MethodName) ({ cls := "java/lang/String", name := "isLatin1", desc := "()Z" } : Jvm.MethodName)) ∈ lw_all := lw_g (lw_at lw_m2 190 rfl) rfl
theorem q570 : (Jvm.Cond.code ({ cls := "java/lang/String", name := "isLatin1", desc := "()Z" } : Jvm.MethodName) prog_37_method_154_code (1 : Nat) (Option.some Jvm.ClassFile.FieldType.boolean)) ∈ lw_all := lw_g (lw_at lw_m2 191 rfl) rfl
theorem q571 : (Jvm.Cond.methodLink "java/lang/String" (495 : Nat) ({ cls := "java/lang/StringLatin1", name := "charAt", desc := "([BI)C" } : Jvm.MethodName)) ∈ lw_all := lw_g (lw_at lw_m2 192 rfl) rfl
theorem q575 : (Jvm.Cond.static ({ cls := "java/lang/String", name := "checkIndex", desc := "(II)V" } : Jvm.MethodName)) ∈ lw_all := lw_g (lw_at lw_m2 196 rfl) rfl
theorem q576 : (Jvm.Cond.code ({ cls := "java/lang/String", name := "checkIndex", desc := "(II)V" } : Jvm.MethodName) prog_37_method_155_code (2 : Nat) (Option.none : Option Jvm.ClassFile.FieldType)) ∈ lw_all := lw_g (lw_at lw_m2 197 rfl) rfl
theorem q577 : (Jvm.Cond.fieldLink "java/lang/String" (1053 : Nat) "jdk/internal/util/Preconditions" "SIOOBE_FORMATTER" "Ljava/util/function/BiFunction;") ∈ lw_all := lw_g (lw_at lw_m2 198 rfl) rfl
theorem q579 : (Jvm.Cond.methodLink "java/lang/String" (1059 : Nat) ({ cls := "jdk/internal/util/Preconditions", name := "checkIndex", desc := "(IILjava/util/function/BiFunction;)I" } : Jvm.MethodName)) ∈ lw_all := lw_g (lw_at lw_m2 200 rfl) rfl
theorem q580 : (Jvm.Cond.methodLink "java/lang/String" (498 : Nat) ({ cls := "java/lang/StringUTF16", name := "charAt", desc := "([BI)C" } : Jvm.MethodName)) ∈ lw_all := lw_g (lw_at lw_m2 201 rfl) rfl
theorem q612 : (Jvm.Cond.instanceMethod ({ cls := "java/lang/String", name := "indexOf", desc := "(I)I" } : Jvm.MethodName)) ∈ lw_all := lw_g (lw_at lw_m2 233 rfl) rfl
theorem q613 : (Jvm.Cond.selects "java/lang/String" ({ cls := "java/lang/String", name := "indexOf", desc := "(I)I" } : Jvm.MethodName) ({ cls := "java/lang/String", name := "indexOf", desc := "(I)I" } : Jvm.MethodName)) ∈ lw_all := lw_g (lw_at lw_m2 234 rfl) rfl
theorem q614 : (Jvm.Cond.code ({ cls := "java/lang/String", name := "indexOf", desc := "(I)I" } : Jvm.MethodName) prog_37_method_79_code (2 : Nat) (Option.some Jvm.ClassFile.FieldType.int)) ∈ lw_all := lw_g (lw_at lw_m2 235 rfl) rfl
theorem q615 : (Jvm.Cond.methodLink "java/lang/String" (633 : Nat) ({ cls := "java/lang/String", name := "indexOf", desc := "(II)I" } : Jvm.MethodName)) ∈ lw_all := lw_g (lw_at lw_m2 236 rfl) rfl
theorem q616 : (Jvm.Cond.instanceMethod ({ cls := "java/lang/String", name := "indexOf", desc := "(II)I" } : Jvm.MethodName)) ∈ lw_all := lw_g (lw_at lw_m2 237 rfl) rfl
theorem q617 : (Jvm.Cond.selects "java/lang/String" ({ cls := "java/lang/String", name := "indexOf", desc := "(II)I" } : Jvm.MethodName) ({ cls := "java/lang/String", name := "indexOf", desc := "(II)I" } : Jvm.MethodName)) ∈ lw_all := lw_g (lw_at lw_m2 238 rfl) rfl
theorem q618 : (Jvm.Cond.code ({ cls := "java/lang/String", name := "indexOf", desc := "(II)I" } : Jvm.MethodName) prog_37_method_80_code (3 : Nat) (Option.some Jvm.ClassFile.FieldType.int)) ∈ lw_all := lw_g (lw_at lw_m2 239 rfl) rfl
theorem q619 : (Jvm.Cond.methodLink "java/lang/String" (505 : Nat) ({ cls := "java/lang/String", name := "length", desc := "()I" } : Jvm.MethodName)) ∈ lw_all := lw_g (lw_at lw_m3 0 rfl) rfl
theorem q620 : (Jvm.Cond.methodLink "java/lang/String" (637 : Nat) ({ cls := "java/lang/StringLatin1", name := "indexOf", desc := "([BIII)I" } : Jvm.MethodName)) ∈ lw_all := lw_g (lw_at lw_m3 1 rfl) rfl
theorem q635 : (Jvm.Cond.methodLink "java/lang/String" (640 : Nat) ({ cls := "java/lang/StringUTF16", name := "indexOf", desc := "([BIII)I" } : Jvm.MethodName)) ∈ lw_all := lw_g (lw_at lw_m3 16 rfl) rfl
theorem q648 : (Jvm.Cond.static ({ cls := "java/lang/String", name := "checkBoundsBeginEnd", desc := "(III)V" } : Jvm.MethodName)) ∈ lw_all := lw_g (lw_at lw_m3 29 rfl) rfl
theorem q649 : (Jvm.Cond.code ({ cls := "java/lang/String", name := "checkBoundsBeginEnd", desc := "(III)V" } : Jvm.MethodName) prog_37_method_158_code (3 : Nat) (Option.none : Option Jvm.ClassFile.FieldType)) ∈ lw_all := lw_g (lw_at lw_m3 30 rfl) rfl
theorem q650 : (Jvm.Cond.methodLink "java/lang/String" (1062 : Nat) ({ cls := "jdk/internal/util/Preconditions", name := "checkFromToIndex", desc := "(IIILjava/util/function/BiFunction;)I" } : Jvm.MethodName)) ∈ lw_all := lw_g (lw_at lw_m3 31 rfl) rfl
theorem q1531 : (Jvm.Cond.instantiable "java/lang/String" (4 : Nat)) ∈ lw_all := lw_g (lw_at lw_m6 192 rfl) rfl
theorem q1532 : (Jvm.Cond.laysFinal "java/lang/String" "java/lang/String" "value" "[B") ∈ lw_all := lw_g (lw_at lw_m6 193 rfl) rfl
theorem q1533 : (Jvm.Cond.soleField "java/lang/String" "value") ∈ lw_all := lw_g (lw_at lw_m6 194 rfl) rfl
theorem q1534 : (Jvm.Cond.laysFinal "java/lang/String" "java/lang/String" "coder" "B") ∈ lw_all := lw_g (lw_at lw_m6 195 rfl) rfl
theorem q1535 : (Jvm.Cond.soleField "java/lang/String" "coder") ∈ lw_all := lw_g (lw_at lw_m6 196 rfl) rfl
theorem q2334 : (Jvm.Cond.castable "java/lang/String" "java/lang/Object") ∈ lw_tbl := lw_at lw_m10 35 rfl
theorem q2379 : (Jvm.Cond.fieldLink "java/lang/String" (9 : Nat) "java/lang/String" "value" "[B") ∈ lw_all := lw_g (lw_at lw_m10 80 rfl) rfl
theorem q2380 : (Jvm.Cond.fieldLink "java/lang/String" (15 : Nat) "java/lang/String" "coder" "B") ∈ lw_all := lw_g (lw_at lw_m10 81 rfl) rfl
theorem in_J5 : ∀ w ∈ wsJ50, w ∈ lw_all := lw_in wsJ50 [1532, 1534] (by decide +kernel) (by decide +kernel)

/-! java/lang/StringLatin1 -/
set_option maxRecDepth 100000
def RJ6 : String := "java/lang/StringLatin1"
abbrev cJ6_charAt : ByteArray := prog_38_method_2_code
def yJ6_charAt : MethodName := ⟨RJ6, "charAt", "([BI)C"⟩
abbrev cJ6_indexOf : ByteArray := prog_38_method_22_code
def yJ6_indexOf : MethodName := ⟨RJ6, "indexOf", "([BIII)I"⟩
abbrev cJ6_canEncode : ByteArray := prog_38_method_4_code
def yJ6_canEncode : MethodName := ⟨RJ6, "canEncode", "(I)Z"⟩
abbrev cJ6_indexOfChar : ByteArray := prog_38_method_23_code
def yJ6_indexOfChar : MethodName := ⟨RJ6, "indexOfChar", "([BIII)I"⟩
theorem q156 : (Jvm.Cond.initialized "java/lang/StringLatin1") ∈ lw_all := lw_g (lw_at lw_m1 17 rfl) rfl
theorem q572 : (Jvm.Cond.static ({ cls := "java/lang/StringLatin1", name := "charAt", desc := "([BI)C" } : Jvm.MethodName)) ∈ lw_all := lw_g (lw_at lw_m2 193 rfl) rfl
theorem q573 : (Jvm.Cond.code ({ cls := "java/lang/StringLatin1", name := "charAt", desc := "([BI)C" } : Jvm.MethodName) prog_38_method_2_code (2 : Nat) (Option.some Jvm.ClassFile.FieldType.char)) ∈ lw_all := lw_g (lw_at lw_m2 194 rfl) rfl
theorem q574 : (Jvm.Cond.methodLink "java/lang/StringLatin1" (9 : Nat) ({ cls := "java/lang/String", name := "checkIndex", desc := "(II)V" } : Jvm.MethodName)) ∈ lw_all := lw_g (lw_at lw_m2 195 rfl) rfl
theorem q621 : (Jvm.Cond.static ({ cls := "java/lang/StringLatin1", name := "indexOf", desc := "([BIII)I" } : Jvm.MethodName)) ∈ lw_all := lw_g (lw_at lw_m3 2 rfl) rfl
theorem q622 : (Jvm.Cond.code ({ cls := "java/lang/StringLatin1", name := "indexOf", desc := "([BIII)I" } : Jvm.MethodName) prog_38_method_22_code (4 : Nat) (Option.some Jvm.ClassFile.FieldType.int)) ∈ lw_all := lw_g (lw_at lw_m3 3 rfl) rfl
theorem q623 : (Jvm.Cond.methodLink "java/lang/StringLatin1" (88 : Nat) ({ cls := "java/lang/StringLatin1", name := "canEncode", desc := "(I)Z" } : Jvm.MethodName)) ∈ lw_all := lw_g (lw_at lw_m3 4 rfl) rfl
theorem q624 : (Jvm.Cond.static ({ cls := "java/lang/StringLatin1", name := "canEncode", desc := "(I)Z" } : Jvm.MethodName)) ∈ lw_all := lw_g (lw_at lw_m3 5 rfl) rfl
theorem q625 : (Jvm.Cond.code ({ cls := "java/lang/StringLatin1", name := "canEncode", desc := "(I)Z" } : Jvm.MethodName) prog_38_method_4_code (1 : Nat) (Option.some Jvm.ClassFile.FieldType.boolean)) ∈ lw_all := lw_g (lw_at lw_m3 6 rfl) rfl
theorem q626 : (Jvm.Cond.methodLink "java/lang/StringLatin1" (92 : Nat) ({ cls := "java/lang/Math", name := "max", desc := "(II)I" } : Jvm.MethodName)) ∈ lw_all := lw_g (lw_at lw_m3 7 rfl) rfl
theorem q629 : (Jvm.Cond.methodLink "java/lang/StringLatin1" (38 : Nat) ({ cls := "java/lang/Math", name := "min", desc := "(II)I" } : Jvm.MethodName)) ∈ lw_all := lw_g (lw_at lw_m3 10 rfl) rfl
theorem q632 : (Jvm.Cond.methodLink "java/lang/StringLatin1" (95 : Nat) ({ cls := "java/lang/StringLatin1", name := "indexOfChar", desc := "([BIII)I" } : Jvm.MethodName)) ∈ lw_all := lw_g (lw_at lw_m3 13 rfl) rfl
theorem q633 : (Jvm.Cond.static ({ cls := "java/lang/StringLatin1", name := "indexOfChar", desc := "([BIII)I" } : Jvm.MethodName)) ∈ lw_all := lw_g (lw_at lw_m3 14 rfl) rfl
theorem q634 : (Jvm.Cond.code ({ cls := "java/lang/StringLatin1", name := "indexOfChar", desc := "([BIII)I" } : Jvm.MethodName) prog_38_method_23_code (6 : Nat) (Option.some Jvm.ClassFile.FieldType.int)) ∈ lw_all := lw_g (lw_at lw_m3 15 rfl) rfl

/-! java/lang/StringUTF16 -/
set_option maxRecDepth 100000
def RJ7 : String := "java/lang/StringUTF16"
abbrev cJ7_charAt : ByteArray := prog_39_method_83_code
def yJ7_charAt : MethodName := ⟨RJ7, "charAt", "([BI)C"⟩
abbrev cJ7_checkIndex : ByteArray := prog_39_method_91_code
def yJ7_checkIndex : MethodName := ⟨RJ7, "checkIndex", "(I[B)V"⟩
abbrev cJ7_length : ByteArray := prog_39_method_6_code
def yJ7_length : MethodName := ⟨RJ7, "length", "([B)I"⟩
abbrev cJ7_getChar : ByteArray := prog_39_method_5_code
def yJ7_getChar : MethodName := ⟨RJ7, "getChar", "([BI)C"⟩
abbrev cJ7_indexOf : ByteArray := prog_39_method_40_code
def yJ7_indexOf : MethodName := ⟨RJ7, "indexOf", "([BIII)I"⟩
abbrev cJ7_indexOfChar : ByteArray := prog_39_method_47_code
def yJ7_indexOfChar : MethodName := ⟨RJ7, "indexOfChar", "([BIII)I"⟩
abbrev cJ7_checkBoundsBeginEnd : ByteArray := prog_39_method_93_code
def yJ7_checkBoundsBeginEnd : MethodName := ⟨RJ7, "checkBoundsBeginEnd", "(II[B)V"⟩
abbrev cJ7_indexOfCharUnsafe : ByteArray := prog_39_method_48_code
def yJ7_indexOfCharUnsafe : MethodName := ⟨RJ7, "indexOfCharUnsafe", "([BIII)I"⟩
abbrev cJ7_indexOfSupplementary : ByteArray := prog_39_method_49_code
def yJ7_indexOfSupplementary : MethodName := ⟨RJ7, "indexOfSupplementary", "([BIII)I"⟩
theorem q157 : (Jvm.Cond.initialized "java/lang/StringUTF16") ∈ lw_all := lw_g (lw_at lw_m1 18 rfl) rfl
theorem q581 : (Jvm.Cond.static ({ cls := "java/lang/StringUTF16", name := "charAt", desc := "([BI)C" } : Jvm.MethodName)) ∈ lw_all := lw_g (lw_at lw_m2 202 rfl) rfl
theorem q582 : (Jvm.Cond.code ({ cls := "java/lang/StringUTF16", name := "charAt", desc := "([BI)C" } : Jvm.MethodName) prog_39_method_83_code (2 : Nat) (Option.some Jvm.ClassFile.FieldType.char)) ∈ lw_all := lw_g (lw_at lw_m2 203 rfl) rfl
theorem q583 : (Jvm.Cond.methodLink "java/lang/StringUTF16" (67 : Nat) ({ cls := "java/lang/StringUTF16", name := "checkIndex", desc := "(I[B)V" } : Jvm.MethodName)) ∈ lw_all := lw_g (lw_at lw_m2 204 rfl) rfl
theorem q584 : (Jvm.Cond.static ({ cls := "java/lang/StringUTF16", name := "checkIndex", desc := "(I[B)V" } : Jvm.MethodName)) ∈ lw_all := lw_g (lw_at lw_m2 205 rfl) rfl
theorem q585 : (Jvm.Cond.code ({ cls := "java/lang/StringUTF16", name := "checkIndex", desc := "(I[B)V" } : Jvm.MethodName) prog_39_method_91_code (2 : Nat) (Option.none : Option Jvm.ClassFile.FieldType)) ∈ lw_all := lw_g (lw_at lw_m2 206 rfl) rfl
theorem q586 : (Jvm.Cond.methodLink "java/lang/StringUTF16" (48 : Nat) ({ cls := "java/lang/StringUTF16", name := "length", desc := "([B)I" } : Jvm.MethodName)) ∈ lw_all := lw_g (lw_at lw_m2 207 rfl) rfl
theorem q587 : (Jvm.Cond.static ({ cls := "java/lang/StringUTF16", name := "length", desc := "([B)I" } : Jvm.MethodName)) ∈ lw_all := lw_g (lw_at lw_m2 208 rfl) rfl
theorem q588 : (Jvm.Cond.code ({ cls := "java/lang/StringUTF16", name := "length", desc := "([B)I" } : Jvm.MethodName) prog_39_method_6_code (1 : Nat) (Option.some Jvm.ClassFile.FieldType.int)) ∈ lw_all := lw_g (lw_at lw_m2 209 rfl) rfl
theorem q589 : (Jvm.Cond.methodLink "java/lang/StringUTF16" (414 : Nat) ({ cls := "java/lang/String", name := "checkIndex", desc := "(II)V" } : Jvm.MethodName)) ∈ lw_all := lw_g (lw_at lw_m2 210 rfl) rfl
theorem q590 : (Jvm.Cond.methodLink "java/lang/StringUTF16" (71 : Nat) ({ cls := "java/lang/StringUTF16", name := "getChar", desc := "([BI)C" } : Jvm.MethodName)) ∈ lw_all := lw_g (lw_at lw_m2 211 rfl) rfl
theorem q591 : (Jvm.Cond.static ({ cls := "java/lang/StringUTF16", name := "getChar", desc := "([BI)C" } : Jvm.MethodName)) ∈ lw_all := lw_g (lw_at lw_m2 212 rfl) rfl
theorem q592 : (Jvm.Cond.code ({ cls := "java/lang/StringUTF16", name := "getChar", desc := "([BI)C" } : Jvm.MethodName) prog_39_method_5_code (2 : Nat) (Option.some Jvm.ClassFile.FieldType.char)) ∈ lw_all := lw_g (lw_at lw_m2 213 rfl) rfl
theorem q593 : (Jvm.Cond.fieldLink "java/lang/StringUTF16" (44 : Nat) "java/lang/StringUTF16" "$assertionsDisabled" "Z") ∈ lw_all := lw_g (lw_at lw_m2 214 rfl) rfl
theorem q594 : (Jvm.Cond.laysStatic "java/lang/StringUTF16" "$assertionsDisabled" "Z") ∈ lw_tbl := lw_at lw_m2 215 rfl
theorem q595 : (Jvm.Cond.fieldLink "java/lang/StringUTF16" (59 : Nat) "java/lang/StringUTF16" "HI_BYTE_SHIFT" "I") ∈ lw_all := lw_g (lw_at lw_m2 216 rfl) rfl
theorem q596 : (Jvm.Cond.laysStatic "java/lang/StringUTF16" "HI_BYTE_SHIFT" "I") ∈ lw_tbl := lw_at lw_m2 217 rfl
theorem q597 : (Jvm.Cond.fieldLink "java/lang/StringUTF16" (63 : Nat) "java/lang/StringUTF16" "LO_BYTE_SHIFT" "I") ∈ lw_all := lw_g (lw_at lw_m2 218 rfl) rfl
theorem q598 : (Jvm.Cond.laysStatic "java/lang/StringUTF16" "LO_BYTE_SHIFT" "I") ∈ lw_tbl := lw_at lw_m2 219 rfl
theorem q636 : (Jvm.Cond.static ({ cls := "java/lang/StringUTF16", name := "indexOf", desc := "([BIII)I" } : Jvm.MethodName)) ∈ lw_all := lw_g (lw_at lw_m3 17 rfl) rfl
theorem q637 : (Jvm.Cond.code ({ cls := "java/lang/StringUTF16", name := "indexOf", desc := "([BIII)I" } : Jvm.MethodName) prog_39_method_40_code (4 : Nat) (Option.some Jvm.ClassFile.FieldType.int)) ∈ lw_all := lw_g (lw_at lw_m3 18 rfl) rfl
theorem q638 : (Jvm.Cond.methodLink "java/lang/StringUTF16" (224 : Nat) ({ cls := "java/lang/Math", name := "max", desc := "(II)I" } : Jvm.MethodName)) ∈ lw_all := lw_g (lw_at lw_m3 19 rfl) rfl
theorem q639 : (Jvm.Cond.methodLink "java/lang/StringUTF16" (183 : Nat) ({ cls := "java/lang/Math", name := "min", desc := "(II)I" } : Jvm.MethodName)) ∈ lw_all := lw_g (lw_at lw_m3 20 rfl) rfl
theorem q640 : (Jvm.Cond.constant "java/lang/StringUTF16" (227 : Nat) (65536 : Int32)) ∈ lw_all := lw_g (lw_at lw_m3 21 rfl) rfl
theorem q641 : (Jvm.Cond.methodLink "java/lang/StringUTF16" (228 : Nat) ({ cls := "java/lang/StringUTF16", name := "indexOfChar", desc := "([BIII)I" } : Jvm.MethodName)) ∈ lw_all := lw_g (lw_at lw_m3 22 rfl) rfl
theorem q642 : (Jvm.Cond.static ({ cls := "java/lang/StringUTF16", name := "indexOfChar", desc := "([BIII)I" } : Jvm.MethodName)) ∈ lw_all := lw_g (lw_at lw_m3 23 rfl) rfl
theorem q643 : (Jvm.Cond.code ({ cls := "java/lang/StringUTF16", name := "indexOfChar", desc := "([BIII)I" } : Jvm.MethodName) prog_39_method_47_code (4 : Nat) (Option.some Jvm.ClassFile.FieldType.int)) ∈ lw_all := lw_g (lw_at lw_m3 24 rfl) rfl
theorem q644 : (Jvm.Cond.methodLink "java/lang/StringUTF16" (96 : Nat) ({ cls := "java/lang/StringUTF16", name := "checkBoundsBeginEnd", desc := "(II[B)V" } : Jvm.MethodName)) ∈ lw_all := lw_g (lw_at lw_m3 25 rfl) rfl
theorem q645 : (Jvm.Cond.static ({ cls := "java/lang/StringUTF16", name := "checkBoundsBeginEnd", desc := "(II[B)V" } : Jvm.MethodName)) ∈ lw_all := lw_g (lw_at lw_m3 26 rfl) rfl
theorem q646 : (Jvm.Cond.code ({ cls := "java/lang/StringUTF16", name := "checkBoundsBeginEnd", desc := "(II[B)V" } : Jvm.MethodName) prog_39_method_93_code (3 : Nat) (Option.none : Option Jvm.ClassFile.FieldType)) ∈ lw_all := lw_g (lw_at lw_m3 27 rfl) rfl
theorem q647 : (Jvm.Cond.methodLink "java/lang/StringUTF16" (241 : Nat) ({ cls := "java/lang/String", name := "checkBoundsBeginEnd", desc := "(III)V" } : Jvm.MethodName)) ∈ lw_all := lw_g (lw_at lw_m3 28 rfl) rfl
theorem q653 : (Jvm.Cond.methodLink "java/lang/StringUTF16" (244 : Nat) ({ cls := "java/lang/StringUTF16", name := "indexOfCharUnsafe", desc := "([BIII)I" } : Jvm.MethodName)) ∈ lw_all := lw_g (lw_at lw_m3 34 rfl) rfl
theorem q654 : (Jvm.Cond.static ({ cls := "java/lang/StringUTF16", name := "indexOfCharUnsafe", desc := "([BIII)I" } : Jvm.MethodName)) ∈ lw_all := lw_g (lw_at lw_m3 35 rfl) rfl
theorem q655 : (Jvm.Cond.code ({ cls := "java/lang/StringUTF16", name := "indexOfCharUnsafe", desc := "([BIII)I" } : Jvm.MethodName) prog_39_method_48_code (5 : Nat) (Option.some Jvm.ClassFile.FieldType.int)) ∈ lw_all := lw_g (lw_at lw_m3 36 rfl) rfl
theorem q656 : (Jvm.Cond.methodLink "java/lang/StringUTF16" (232 : Nat) ({ cls := "java/lang/StringUTF16", name := "indexOfSupplementary", desc := "([BIII)I" } : Jvm.MethodName)) ∈ lw_all := lw_g (lw_at lw_m3 37 rfl) rfl
theorem q657 : (Jvm.Cond.static ({ cls := "java/lang/StringUTF16", name := "indexOfSupplementary", desc := "([BIII)I" } : Jvm.MethodName)) ∈ lw_all := lw_g (lw_at lw_m3 38 rfl) rfl
theorem q658 : (Jvm.Cond.code ({ cls := "java/lang/StringUTF16", name := "indexOfSupplementary", desc := "([BIII)I" } : Jvm.MethodName) prog_39_method_49_code (7 : Nat) (Option.some Jvm.ClassFile.FieldType.int)) ∈ lw_all := lw_g (lw_at lw_m3 39 rfl) rfl
theorem q659 : (Jvm.Cond.methodLink "java/lang/StringUTF16" (164 : Nat) ({ cls := "java/lang/Character", name := "isValidCodePoint", desc := "(I)Z" } : Jvm.MethodName)) ∈ lw_all := lw_g (lw_at lw_m3 40 rfl) rfl
theorem q662 : (Jvm.Cond.methodLink "java/lang/StringUTF16" (157 : Nat) ({ cls := "java/lang/Character", name := "highSurrogate", desc := "(I)C" } : Jvm.MethodName)) ∈ lw_all := lw_g (lw_at lw_m3 43 rfl) rfl
theorem q666 : (Jvm.Cond.methodLink "java/lang/StringUTF16" (161 : Nat) ({ cls := "java/lang/Character", name := "lowSurrogate", desc := "(I)C" } : Jvm.MethodName)) ∈ lw_all := lw_g (lw_at lw_m3 47 rfl) rfl

/-! java/lang/Math -/
set_option maxRecDepth 100000
def RJ8 : String := "java/lang/Math"
abbrev cJ8_max : ByteArray := prog_35_method_65_code
def yJ8_max : MethodName := ⟨RJ8, "max", "(II)I"⟩
abbrev cJ8_min : ByteArray := prog_35_method_69_code
def yJ8_min : MethodName := ⟨RJ8, "min", "(II)I"⟩
abbrev cJ8_abs : ByteArray := prog_35_method_61_code
def yJ8_abs : MethodName := ⟨RJ8, "abs", "(J)J"⟩
abbrev cJ8_min_2 : ByteArray := prog_35_method_70_code
def yJ8_min_2 : MethodName := ⟨RJ8, "min", "(JJ)J"⟩
abbrev cJ8_max_2 : ByteArray := prog_35_method_66_code
def yJ8_max_2 : MethodName := ⟨RJ8, "max", "(JJ)J"⟩
theorem q158 : (Jvm.Cond.initialized "java/lang/Math") ∈ lw_all := lw_g (lw_at lw_m1 19 rfl) rfl
theorem q627 : (Jvm.Cond.static ({ cls := "java/lang/Math", name := "max", desc := "(II)I" } : Jvm.MethodName)) ∈ lw_all := lw_g (lw_at lw_m3 8 rfl) rfl
theorem q628 : (Jvm.Cond.code ({ cls := "java/lang/Math", name := "max", desc := "(II)I" } : Jvm.MethodName) prog_35_method_65_code (2 : Nat) (Option.some Jvm.ClassFile.FieldType.int)) ∈ lw_all := lw_g (lw_at lw_m3 9 rfl) rfl
theorem q630 : (Jvm.Cond.static ({ cls := "java/lang/Math", name := "min", desc := "(II)I" } : Jvm.MethodName)) ∈ lw_all := lw_g (lw_at lw_m3 11 rfl) rfl
theorem q631 : (Jvm.Cond.code ({ cls := "java/lang/Math", name := "min", desc := "(II)I" } : Jvm.MethodName) prog_35_method_69_code (2 : Nat) (Option.some Jvm.ClassFile.FieldType.int)) ∈ lw_all := lw_g (lw_at lw_m3 12 rfl) rfl
theorem q1142 : (Jvm.Cond.static ({ cls := "java/lang/Math", name := "abs", desc := "(J)J" } : Jvm.MethodName)) ∈ lw_all := lw_g (lw_at lw_m5 43 rfl) rfl
theorem q1143 : (Jvm.Cond.code ({ cls := "java/lang/Math", name := "abs", desc := "(J)J" } : Jvm.MethodName) prog_35_method_61_code (2 : Nat) (Option.some Jvm.ClassFile.FieldType.long)) ∈ lw_all := lw_g (lw_at lw_m5 44 rfl) rfl
theorem q1203 : (Jvm.Cond.static ({ cls := "java/lang/Math", name := "min", desc := "(JJ)J" } : Jvm.MethodName)) ∈ lw_all := lw_g (lw_at lw_m5 104 rfl) rfl
theorem q1204 : (Jvm.Cond.code ({ cls := "java/lang/Math", name := "min", desc := "(JJ)J" } : Jvm.MethodName) prog_35_method_70_code (4 : Nat) (Option.some Jvm.ClassFile.FieldType.long)) ∈ lw_all := lw_g (lw_at lw_m5 105 rfl) rfl
theorem q1206 : (Jvm.Cond.static ({ cls := "java/lang/Math", name := "max", desc := "(JJ)J" } : Jvm.MethodName)) ∈ lw_all := lw_g (lw_at lw_m5 107 rfl) rfl
theorem q1207 : (Jvm.Cond.code ({ cls := "java/lang/Math", name := "max", desc := "(JJ)J" } : Jvm.MethodName) prog_35_method_66_code (4 : Nat) (Option.some Jvm.ClassFile.FieldType.long)) ∈ lw_all := lw_g (lw_at lw_m5 108 rfl) rfl

/-! java/lang/Character -/
set_option maxRecDepth 100000
def RJ9 : String := "java/lang/Character"
abbrev cJ9_isValidCodePoint : ByteArray := prog_28_method_11_code
def yJ9_isValidCodePoint : MethodName := ⟨RJ9, "isValidCodePoint", "(I)Z"⟩
abbrev cJ9_highSurrogate : ByteArray := prog_28_method_28_code
def yJ9_highSurrogate : MethodName := ⟨RJ9, "highSurrogate", "(I)C"⟩
abbrev cJ9_lowSurrogate : ByteArray := prog_28_method_29_code
def yJ9_lowSurrogate : MethodName := ⟨RJ9, "lowSurrogate", "(I)C"⟩
theorem q159 : (Jvm.Cond.initialized "java/lang/Character") ∈ lw_all := lw_g (lw_at lw_m1 20 rfl) rfl
theorem q660 : (Jvm.Cond.static ({ cls := "java/lang/Character", name := "isValidCodePoint", desc := "(I)Z" } : Jvm.MethodName)) ∈ lw_all := lw_g (lw_at lw_m3 41 rfl) rfl
theorem q661 : (Jvm.Cond.code ({ cls := "java/lang/Character", name := "isValidCodePoint", desc := "(I)Z" } : Jvm.MethodName) prog_28_method_11_code (2 : Nat) (Option.some Jvm.ClassFile.FieldType.boolean)) ∈ lw_all := lw_g (lw_at lw_m3 42 rfl) rfl
theorem q663 : (Jvm.Cond.static ({ cls := "java/lang/Character", name := "highSurrogate", desc := "(I)C" } : Jvm.MethodName)) ∈ lw_all := lw_g (lw_at lw_m3 44 rfl) rfl
theorem q664 : (Jvm.Cond.code ({ cls := "java/lang/Character", name := "highSurrogate", desc := "(I)C" } : Jvm.MethodName) prog_28_method_28_code (1 : Nat) (Option.some Jvm.ClassFile.FieldType.char)) ∈ lw_all := lw_g (lw_at lw_m3 45 rfl) rfl
theorem q665 : (Jvm.Cond.constant "java/lang/Character" (110 : Nat) (55232 : Int32)) ∈ lw_all := lw_g (lw_at lw_m3 46 rfl) rfl
theorem q667 : (Jvm.Cond.static ({ cls := "java/lang/Character", name := "lowSurrogate", desc := "(I)C" } : Jvm.MethodName)) ∈ lw_all := lw_g (lw_at lw_m3 48 rfl) rfl
theorem q668 : (Jvm.Cond.code ({ cls := "java/lang/Character", name := "lowSurrogate", desc := "(I)C" } : Jvm.MethodName) prog_28_method_29_code (1 : Nat) (Option.some Jvm.ClassFile.FieldType.char)) ∈ lw_all := lw_g (lw_at lw_m3 49 rfl) rfl
theorem q669 : (Jvm.Cond.constant "java/lang/Character" (76 : Nat) (56320 : Int32)) ∈ lw_all := lw_g (lw_at lw_m3 50 rfl) rfl

/-! AskedCourtLaw -/
set_option maxRecDepth 100000
def RX0 : String := "AskedCourtLaw"
abbrev cX0_person : ByteArray := method_3_code
def yX0_person : MethodName := ⟨RX0, "person", "(LAskedCourt;II[J)I"⟩
theorem q139 : (Jvm.Cond.initialized "AskedCourtLaw") ∈ lw_all := lw_g (lw_at lw_m1 0 rfl) rfl
theorem q182 : (Jvm.Cond.classLink "AskedCourtLaw" (8 : Nat) "AskedCourt") ∈ lw_all := lw_g (lw_at lw_m1 43 rfl) rfl
theorem q184 : (Jvm.Cond.methodLink "AskedCourtLaw" (17 : Nat) ({ cls := "AskedCourt", name := "<init>", desc := "()V" } : Jvm.MethodName)) ∈ lw_all := lw_g (lw_at lw_m1 45 rfl) rfl
theorem q514 : (Jvm.Cond.methodLink "AskedCourtLaw" (21 : Nat) ({ cls := "AskedCourt", name := "feed", desc := "(IIIII)I" } : Jvm.MethodName)) ∈ lw_all := lw_g (lw_at lw_m2 135 rfl) rfl
theorem q522 : (Jvm.Cond.methodLink "AskedCourtLaw" (26 : Nat) ({ cls := "AskedCourt", name := "text", desc := "(I)I" } : Jvm.MethodName)) ∈ lw_all := lw_g (lw_at lw_m2 143 rfl) rfl
theorem q1025 : (Jvm.Cond.methodLink "AskedCourtLaw" (31 : Nat) ({ cls := "AskedCourt", name := "fault", desc := "(I)I" } : Jvm.MethodName)) ∈ lw_all := lw_g (lw_at lw_m4 166 rfl) rfl
theorem q1029 : (Jvm.Cond.methodLink "AskedCourtLaw" (35 : Nat) ({ cls := "AskedCourt", name := "named", desc := "(II)I" } : Jvm.MethodName)) ∈ lw_all := lw_g (lw_at lw_m4 170 rfl) rfl
theorem q1034 : (Jvm.Cond.methodLink "AskedCourtLaw" (49 : Nat) ({ cls := "AskedCourt", name := "question", desc := "(II)I" } : Jvm.MethodName)) ∈ lw_all := lw_g (lw_at lw_m4 175 rfl) rfl
theorem q1048 : (Jvm.Cond.methodLink "AskedCourtLaw" (53 : Nat) ({ cls := "AskedCourt", name := "can", desc := "(III)I" } : Jvm.MethodName)) ∈ lw_all := lw_g (lw_at lw_m4 189 rfl) rfl
theorem q1092 : (Jvm.Cond.methodLink "AskedCourtLaw" (58 : Nat) ({ cls := "AskedCourt", name := "law", desc := "(III)J" } : Jvm.MethodName)) ∈ lw_all := lw_g (lw_at lw_m4 233 rfl) rfl
theorem q1151 : (Jvm.Cond.methodLink "AskedCourtLaw" (63 : Nat) ({ cls := "AskedCourt", name := "ask", desc := "(III)I" } : Jvm.MethodName)) ∈ lw_all := lw_g (lw_at lw_m5 52 rfl) rfl
theorem q1214 : (Jvm.Cond.methodLink "AskedCourtLaw" (67 : Nat) ({ cls := "AskedCourt", name := "tell", desc := "(II)Z" } : Jvm.MethodName)) ∈ lw_all := lw_g (lw_at lw_m5 115 rfl) rfl
theorem q1222 : (Jvm.Cond.methodLink "AskedCourtLaw" (72 : Nat) ({ cls := "AskedCourt", name := "send", desc := "(II)Z" } : Jvm.MethodName)) ∈ lw_all := lw_g (lw_at lw_m5 123 rfl) rfl
theorem q1227 : (Jvm.Cond.methodLink "AskedCourtLaw" (76 : Nat) ({ cls := "AskedCourt", name := "end", desc := "()I" } : Jvm.MethodName)) ∈ lw_all := lw_g (lw_at lw_m5 128 rfl) rfl
theorem q1231 : (Jvm.Cond.methodLink "AskedCourtLaw" (80 : Nat) ({ cls := "AskedCourt", name := "all", desc := "(I)I" } : Jvm.MethodName)) ∈ lw_all := lw_g (lw_at lw_m5 132 rfl) rfl
theorem q1250 : (Jvm.Cond.methodLink "AskedCourtLaw" (84 : Nat) ({ cls := "AskedCourt", name := "never", desc := "(II)I" } : Jvm.MethodName)) ∈ lw_all := lw_g (lw_at lw_m5 151 rfl) rfl
theorem q1258 : (Jvm.Cond.methodLink "AskedCourtLaw" (88 : Nat) ({ cls := "AskedCourt", name := "away", desc := "(II)I" } : Jvm.MethodName)) ∈ lw_all := lw_g (lw_at lw_m5 159 rfl) rfl
theorem q1263 : (Jvm.Cond.methodLink "AskedCourtLaw" (92 : Nat) ({ cls := "AskedCourt", name := "spread", desc := "(I)I" } : Jvm.MethodName)) ∈ lw_all := lw_g (lw_at lw_m5 164 rfl) rfl
theorem q1267 : (Jvm.Cond.methodLink "AskedCourtLaw" (96 : Nat) ({ cls := "AskedCourt", name := "hint", desc := "(III)I" } : Jvm.MethodName)) ∈ lw_all := lw_g (lw_at lw_m5 168 rfl) rfl
theorem q1275 : (Jvm.Cond.methodLink "AskedCourtLaw" (100 : Nat) ({ cls := "AskedCourt", name := "unasked", desc := "(I)I" } : Jvm.MethodName)) ∈ lw_all := lw_g (lw_at lw_m5 176 rfl) rfl
theorem q1283 : (Jvm.Cond.methodLink "AskedCourtLaw" (104 : Nat) ({ cls := "AskedCourt", name := "inRoom", desc := "(II)I" } : Jvm.MethodName)) ∈ lw_all := lw_g (lw_at lw_m5 184 rfl) rfl
theorem q1292 : (Jvm.Cond.methodLink "AskedCourtLaw" (108 : Nat) ({ cls := "AskedCourt", name := "bestRoom", desc := "(I)I" } : Jvm.MethodName)) ∈ lw_all := lw_g (lw_at lw_m5 193 rfl) rfl
theorem q1296 : (Jvm.Cond.methodLink "AskedCourtLaw" (112 : Nat) ({ cls := "AskedCourt", name := "way", desc := "(IIII)I" } : Jvm.MethodName)) ∈ lw_all := lw_g (lw_at lw_m5 197 rfl) rfl
theorem q1317 : (Jvm.Cond.methodLink "AskedCourtLaw" (117 : Nat) ({ cls := "AskedCourt", name := "step", desc := "(IIIII)I" } : Jvm.MethodName)) ∈ lw_all := lw_g (lw_at lw_m5 218 rfl) rfl
theorem q1321 : (Jvm.Cond.methodLink "AskedCourtLaw" (121 : Nat) ({ cls := "AskedCourt", name := "care", desc := "(I)I" } : Jvm.MethodName)) ∈ lw_all := lw_g (lw_at lw_m5 222 rfl) rfl
theorem q1331 : (Jvm.Cond.methodLink "AskedCourtLaw" (125 : Nat) ({ cls := "AskedCourt", name := "best", desc := "(III)I" } : Jvm.MethodName)) ∈ lw_all := lw_g (lw_at lw_m5 232 rfl) rfl
theorem q1339 : (Jvm.Cond.methodLink "AskedCourtLaw" (129 : Nat) ({ cls := "AskedCourt", name := "rests", desc := "(II)I" } : Jvm.MethodName)) ∈ lw_all := lw_g (lw_at lw_m6 0 rfl) rfl
theorem q1363 : (Jvm.Cond.methodLink "AskedCourtLaw" (133 : Nat) ({ cls := "AskedCourt", name := "rest", desc := "(III)I" } : Jvm.MethodName)) ∈ lw_all := lw_g (lw_at lw_m6 24 rfl) rfl
theorem q1367 : (Jvm.Cond.methodLink "AskedCourtLaw" (137 : Nat) ({ cls := "AskedCourt", name := "slipped", desc := "(I)I" } : Jvm.MethodName)) ∈ lw_all := lw_g (lw_at lw_m6 28 rfl) rfl
theorem q1379 : (Jvm.Cond.methodLink "AskedCourtLaw" (141 : Nat) ({ cls := "AskedCourt", name := "behind", desc := "(II)I" } : Jvm.MethodName)) ∈ lw_all := lw_g (lw_at lw_m6 40 rfl) rfl
theorem q1383 : (Jvm.Cond.methodLink "AskedCourtLaw" (145 : Nat) ({ cls := "AskedCourt", name := "note", desc := "(IIIZ)I" } : Jvm.MethodName)) ∈ lw_all := lw_g (lw_at lw_m6 44 rfl) rfl
theorem q1414 : (Jvm.Cond.methodLink "AskedCourtLaw" (150 : Nat) ({ cls := "AskedCourt", name := "strike", desc := "(I)I" } : Jvm.MethodName)) ∈ lw_all := lw_g (lw_at lw_m6 75 rfl) rfl
theorem q1428 : (Jvm.Cond.methodLink "AskedCourtLaw" (154 : Nat) ({ cls := "AskedCourt", name := "known", desc := "(I)Z" } : Jvm.MethodName)) ∈ lw_all := lw_g (lw_at lw_m6 89 rfl) rfl
theorem q1433 : (Jvm.Cond.methodLink "AskedCourtLaw" (159 : Nat) ({ cls := "AskedCourt", name := "knew", desc := "(I)I" } : Jvm.MethodName)) ∈ lw_all := lw_g (lw_at lw_m6 94 rfl) rfl
theorem q1474 : (Jvm.Cond.methodLink "AskedCourtLaw" (163 : Nat) ({ cls := "AskedCourt", name := "chance", desc := "(III)I" } : Jvm.MethodName)) ∈ lw_all := lw_g (lw_at lw_m6 135 rfl) rfl
theorem q1478 : (Jvm.Cond.methodLink "AskedCourtLaw" (167 : Nat) ({ cls := "AskedCourt", name := "tried", desc := "(II)I" } : Jvm.MethodName)) ∈ lw_all := lw_g (lw_at lw_m6 139 rfl) rfl
theorem q1483 : (Jvm.Cond.methodLink "AskedCourtLaw" (171 : Nat) ({ cls := "AskedCourt", name := "undo", desc := "()I" } : Jvm.MethodName)) ∈ lw_all := lw_g (lw_at lw_m6 144 rfl) rfl
theorem q1487 : (Jvm.Cond.methodLink "AskedCourtLaw" (175 : Nat) ({ cls := "AskedCourt", name := "keep", desc := "()I" } : Jvm.MethodName)) ∈ lw_all := lw_g (lw_at lw_m6 148 rfl) rfl
theorem q1491 : (Jvm.Cond.methodLink "AskedCourtLaw" (179 : Nat) ({ cls := "AskedCourt", name := "back", desc := "()I" } : Jvm.MethodName)) ∈ lw_all := lw_g (lw_at lw_m6 152 rfl) rfl
theorem q1495 : (Jvm.Cond.methodLink "AskedCourtLaw" (183 : Nat) ({ cls := "AskedCourt", name := "count", desc := "(I)I" } : Jvm.MethodName)) ∈ lw_all := lw_g (lw_at lw_m6 156 rfl) rfl
theorem q1499 : (Jvm.Cond.methodLink "AskedCourtLaw" (39 : Nat) ({ cls := "AskedCourtLaw", name := "person", desc := "(LAskedCourt;II[J)I" } : Jvm.MethodName)) ∈ lw_all := lw_g (lw_at lw_m6 160 rfl) rfl
theorem q1500 : (Jvm.Cond.static ({ cls := "AskedCourtLaw", name := "person", desc := "(LAskedCourt;II[J)I" } : Jvm.MethodName)) ∈ lw_all := lw_g (lw_at lw_m6 161 rfl) rfl
theorem q1501 : (Jvm.Cond.codeWith ({ cls := "AskedCourtLaw", name := "person", desc := "(LAskedCourt;II[J)I" } : Jvm.MethodName) method_3_code (5 : Nat) (Option.some Jvm.ClassFile.FieldType.int) [((0 : Nat), (10 : Nat), (13 : Nat), (13 : Nat)), ((0 : Nat), (10 : Nat), (17 : Nat), (15 : Nat))]) ∈ lw_all := lw_g (lw_at lw_m6 162 rfl) rfl
theorem q1502 : (Jvm.Cond.classLink "AskedCourtLaw" (13 : Nat) "java/lang/IndexOutOfBoundsException") ∈ lw_all := lw_g (lw_at lw_m6 163 rfl) rfl
theorem q1536 : (Jvm.Cond.classLink "AskedCourtLaw" (15 : Nat) "java/util/NoSuchElementException") ∈ lw_all := lw_g (lw_at lw_m6 197 rfl) rfl
theorem q1537 : (Jvm.Cond.methodLink "AskedCourtLaw" (7 : Nat) ({ cls := "AskedCourt", name := "person", desc := "(II)I" } : Jvm.MethodName)) ∈ lw_all := lw_g (lw_at lw_m6 198 rfl) rfl
theorem q1578 : (Jvm.Cond.classLink "AskedCourtLaw" (18 : Nat) "AskedCourtModel") ∈ lw_all := lw_g (lw_at lw_m6 239 rfl) rfl
theorem q1580 : (Jvm.Cond.methodLink "AskedCourtLaw" (20 : Nat) ({ cls := "AskedCourtModel", name := "<init>", desc := "()V" } : Jvm.MethodName)) ∈ lw_all := lw_g (lw_at lw_m7 1 rfl) rfl
theorem q1851 : (Jvm.Cond.methodLink "AskedCourtLaw" (45 : Nat) ({ cls := "AskedCourtModel", name := "thrown", desc := "()I" } : Jvm.MethodName)) ∈ lw_all := lw_g (lw_at lw_m8 32 rfl) rfl
theorem q1855 : (Jvm.Cond.methodLink "AskedCourtLaw" (25 : Nat) ({ cls := "AskedCourtModel", name := "feed", desc := "(IIIII)I" } : Jvm.MethodName)) ∈ lw_all := lw_g (lw_at lw_m8 36 rfl) rfl
theorem q1859 : (Jvm.Cond.methodLink "AskedCourtLaw" (30 : Nat) ({ cls := "AskedCourtModel", name := "text", desc := "(I)I" } : Jvm.MethodName)) ∈ lw_all := lw_g (lw_at lw_m8 40 rfl) rfl
theorem q1992 : (Jvm.Cond.methodLink "AskedCourtLaw" (34 : Nat) ({ cls := "AskedCourtModel", name := "fault", desc := "(I)I" } : Jvm.MethodName)) ∈ lw_all := lw_g (lw_at lw_m8 173 rfl) rfl
theorem q1996 : (Jvm.Cond.methodLink "AskedCourtLaw" (38 : Nat) ({ cls := "AskedCourtModel", name := "named", desc := "(II)I" } : Jvm.MethodName)) ∈ lw_all := lw_g (lw_at lw_m8 177 rfl) rfl
theorem q2000 : (Jvm.Cond.methodLink "AskedCourtLaw" (44 : Nat) ({ cls := "AskedCourtModel", name := "person", desc := "(II)I" } : Jvm.MethodName)) ∈ lw_all := lw_g (lw_at lw_m8 181 rfl) rfl
theorem q2012 : (Jvm.Cond.methodLink "AskedCourtLaw" (52 : Nat) ({ cls := "AskedCourtModel", name := "question", desc := "(II)I" } : Jvm.MethodName)) ∈ lw_all := lw_g (lw_at lw_m8 193 rfl) rfl
theorem q2020 : (Jvm.Cond.methodLink "AskedCourtLaw" (57 : Nat) ({ cls := "AskedCourtModel", name := "can", desc := "(III)I" } : Jvm.MethodName)) ∈ lw_all := lw_g (lw_at lw_m8 201 rfl) rfl
theorem q2032 : (Jvm.Cond.methodLink "AskedCourtLaw" (62 : Nat) ({ cls := "AskedCourtModel", name := "law", desc := "(III)J" } : Jvm.MethodName)) ∈ lw_all := lw_g (lw_at lw_m8 213 rfl) rfl
theorem q2069 : (Jvm.Cond.methodLink "AskedCourtLaw" (66 : Nat) ({ cls := "AskedCourtModel", name := "ask", desc := "(III)I" } : Jvm.MethodName)) ∈ lw_all := lw_g (lw_at lw_m9 10 rfl) rfl
theorem q2106 : (Jvm.Cond.methodLink "AskedCourtLaw" (71 : Nat) ({ cls := "AskedCourtModel", name := "tell", desc := "(II)Z" } : Jvm.MethodName)) ∈ lw_all := lw_g (lw_at lw_m9 47 rfl) rfl
theorem q2114 : (Jvm.Cond.methodLink "AskedCourtLaw" (75 : Nat) ({ cls := "AskedCourtModel", name := "send", desc := "(II)Z" } : Jvm.MethodName)) ∈ lw_all := lw_g (lw_at lw_m9 55 rfl) rfl
theorem q2118 : (Jvm.Cond.methodLink "AskedCourtLaw" (79 : Nat) ({ cls := "AskedCourtModel", name := "end", desc := "()I" } : Jvm.MethodName)) ∈ lw_all := lw_g (lw_at lw_m9 59 rfl) rfl
theorem q2122 : (Jvm.Cond.methodLink "AskedCourtLaw" (83 : Nat) ({ cls := "AskedCourtModel", name := "all", desc := "(I)I" } : Jvm.MethodName)) ∈ lw_all := lw_g (lw_at lw_m9 63 rfl) rfl
theorem q2138 : (Jvm.Cond.methodLink "AskedCourtLaw" (87 : Nat) ({ cls := "AskedCourtModel", name := "never", desc := "(II)I" } : Jvm.MethodName)) ∈ lw_all := lw_g (lw_at lw_m9 79 rfl) rfl
theorem q2146 : (Jvm.Cond.methodLink "AskedCourtLaw" (91 : Nat) ({ cls := "AskedCourtModel", name := "away", desc := "(II)I" } : Jvm.MethodName)) ∈ lw_all := lw_g (lw_at lw_m9 87 rfl) rfl
theorem q2150 : (Jvm.Cond.methodLink "AskedCourtLaw" (95 : Nat) ({ cls := "AskedCourtModel", name := "spread", desc := "(I)I" } : Jvm.MethodName)) ∈ lw_all := lw_g (lw_at lw_m9 91 rfl) rfl
theorem q2154 : (Jvm.Cond.methodLink "AskedCourtLaw" (99 : Nat) ({ cls := "AskedCourtModel", name := "hint", desc := "(III)I" } : Jvm.MethodName)) ∈ lw_all := lw_g (lw_at lw_m9 95 rfl) rfl
theorem q2158 : (Jvm.Cond.methodLink "AskedCourtLaw" (103 : Nat) ({ cls := "AskedCourtModel", name := "unasked", desc := "(I)I" } : Jvm.MethodName)) ∈ lw_all := lw_g (lw_at lw_m9 99 rfl) rfl
theorem q2162 : (Jvm.Cond.methodLink "AskedCourtLaw" (107 : Nat) ({ cls := "AskedCourtModel", name := "inRoom", desc := "(II)I" } : Jvm.MethodName)) ∈ lw_all := lw_g (lw_at lw_m9 103 rfl) rfl
theorem q2170 : (Jvm.Cond.methodLink "AskedCourtLaw" (111 : Nat) ({ cls := "AskedCourtModel", name := "bestRoom", desc := "(I)I" } : Jvm.MethodName)) ∈ lw_all := lw_g (lw_at lw_m9 111 rfl) rfl
theorem q2174 : (Jvm.Cond.methodLink "AskedCourtLaw" (116 : Nat) ({ cls := "AskedCourtModel", name := "way", desc := "(IIII)I" } : Jvm.MethodName)) ∈ lw_all := lw_g (lw_at lw_m9 115 rfl) rfl
theorem q2210 : (Jvm.Cond.methodLink "AskedCourtLaw" (120 : Nat) ({ cls := "AskedCourtModel", name := "step", desc := "(IIIII)I" } : Jvm.MethodName)) ∈ lw_all := lw_g (lw_at lw_m9 151 rfl) rfl
theorem q2214 : (Jvm.Cond.methodLink "AskedCourtLaw" (124 : Nat) ({ cls := "AskedCourtModel", name := "care", desc := "(I)I" } : Jvm.MethodName)) ∈ lw_all := lw_g (lw_at lw_m9 155 rfl) rfl
theorem q2222 : (Jvm.Cond.methodLink "AskedCourtLaw" (128 : Nat) ({ cls := "AskedCourtModel", name := "best", desc := "(III)I" } : Jvm.MethodName)) ∈ lw_all := lw_g (lw_at lw_m9 163 rfl) rfl
theorem q2226 : (Jvm.Cond.methodLink "AskedCourtLaw" (132 : Nat) ({ cls := "AskedCourtModel", name := "rests", desc := "(II)I" } : Jvm.MethodName)) ∈ lw_all := lw_g (lw_at lw_m9 167 rfl) rfl
theorem q2242 : (Jvm.Cond.methodLink "AskedCourtLaw" (136 : Nat) ({ cls := "AskedCourtModel", name := "rest", desc := "(III)I" } : Jvm.MethodName)) ∈ lw_all := lw_g (lw_at lw_m9 183 rfl) rfl
theorem q2246 : (Jvm.Cond.methodLink "AskedCourtLaw" (140 : Nat) ({ cls := "AskedCourtModel", name := "slipped", desc := "(I)I" } : Jvm.MethodName)) ∈ lw_all := lw_g (lw_at lw_m9 187 rfl) rfl
theorem q2258 : (Jvm.Cond.methodLink "AskedCourtLaw" (144 : Nat) ({ cls := "AskedCourtModel", name := "behind", desc := "(II)I" } : Jvm.MethodName)) ∈ lw_all := lw_g (lw_at lw_m9 199 rfl) rfl
theorem q2262 : (Jvm.Cond.methodLink "AskedCourtLaw" (149 : Nat) ({ cls := "AskedCourtModel", name := "note", desc := "(IIIZ)I" } : Jvm.MethodName)) ∈ lw_all := lw_g (lw_at lw_m9 203 rfl) rfl
theorem q2270 : (Jvm.Cond.methodLink "AskedCourtLaw" (153 : Nat) ({ cls := "AskedCourtModel", name := "strike", desc := "(I)I" } : Jvm.MethodName)) ∈ lw_all := lw_g (lw_at lw_m9 211 rfl) rfl
theorem q2274 : (Jvm.Cond.methodLink "AskedCourtLaw" (158 : Nat) ({ cls := "AskedCourtModel", name := "known", desc := "(I)Z" } : Jvm.MethodName)) ∈ lw_all := lw_g (lw_at lw_m9 215 rfl) rfl
theorem q2278 : (Jvm.Cond.methodLink "AskedCourtLaw" (162 : Nat) ({ cls := "AskedCourtModel", name := "knew", desc := "(I)I" } : Jvm.MethodName)) ∈ lw_all := lw_g (lw_at lw_m9 219 rfl) rfl
theorem q2294 : (Jvm.Cond.methodLink "AskedCourtLaw" (166 : Nat) ({ cls := "AskedCourtModel", name := "chance", desc := "(III)I" } : Jvm.MethodName)) ∈ lw_all := lw_g (lw_at lw_m9 235 rfl) rfl
theorem q2298 : (Jvm.Cond.methodLink "AskedCourtLaw" (170 : Nat) ({ cls := "AskedCourtModel", name := "tried", desc := "(II)I" } : Jvm.MethodName)) ∈ lw_all := lw_g (lw_at lw_m9 239 rfl) rfl
theorem q2302 : (Jvm.Cond.methodLink "AskedCourtLaw" (174 : Nat) ({ cls := "AskedCourtModel", name := "undo", desc := "()I" } : Jvm.MethodName)) ∈ lw_all := lw_g (lw_at lw_m10 3 rfl) rfl
theorem q2310 : (Jvm.Cond.methodLink "AskedCourtLaw" (178 : Nat) ({ cls := "AskedCourtModel", name := "keep", desc := "()I" } : Jvm.MethodName)) ∈ lw_all := lw_g (lw_at lw_m10 11 rfl) rfl
theorem q2314 : (Jvm.Cond.methodLink "AskedCourtLaw" (182 : Nat) ({ cls := "AskedCourtModel", name := "back", desc := "()I" } : Jvm.MethodName)) ∈ lw_all := lw_g (lw_at lw_m10 15 rfl) rfl
theorem q2318 : (Jvm.Cond.methodLink "AskedCourtLaw" (186 : Nat) ({ cls := "AskedCourtModel", name := "count", desc := "(I)I" } : Jvm.MethodName)) ∈ lw_all := lw_g (lw_at lw_m10 19 rfl) rfl

/-! AskedCourt -/
set_option maxRecDepth 100000
def RX1 : String := "AskedCourt"
def TX1 : u_T := fun k => match k with
  | 0 => ("AskedCourt", "tape", "[B", true)
  | 1 => ("AskedCourt", "taped", "I", false)
  | 2 => ("AskedCourt", "faultKind", "I", false)
  | 3 => ("AskedCourt", "faultPlace", "I", false)
  | 4 => ("AskedCourt", "keptMany", "I", false)
  | 5 => ("AskedCourt", "reader", "LAskedCourt$Reader;", true)
  | 6 => ("AskedCourt", "court", "LAskedCourt$Court;", false)
  | 7 => ("AskedCourt", "names", "[J", true)
  | 8 => ("AskedCourt", "kinds", "[LAskedCourt$Kind;", true)
  | 9 => ("AskedCourt", "now", "LAskedCourt$State;", true)
  | 10 => ("AskedCourt", "other", "LAskedCourt$State;", true)
  | 11 => ("AskedCourt", "image", "LAskedCourt$State;", true)
  | 12 => ("AskedCourt", "kept", "[LAskedCourt$State;", true)
  | 13 => ("AskedCourt", "ahead", "[LAskedCourt$State;", true)
  | 14 => ("AskedCourt", "hasImage", "Z", false)
  | 15 => ("AskedCourt", "steps", "[I", true)
  | 16 => ("AskedCourt", "bestSteps", "[I", true)
  | 17 => ("AskedCourt", "wayMany", "I", false)
  | 18 => ("AskedCourt", "bestSum", "I", false)
  | 19 => ("AskedCourt", "hasOne", "[I", true)
  | 20 => ("AskedCourt", "hasTwo", "[I", true)
  | 21 => ("AskedCourt", "seen", "Ljava/util/ArrayList;", true)
  | 22 => ("AskedCourt", "isStruck", "[Z", true)
  | _ => ("AskedCourt", "known", "I", false)
def tyX1 : Nat → FieldType := fun k => match k with
  | 0 => .array .byte
  | 1 => .int
  | 2 => .int
  | 3 => .int
  | 4 => .int
  | 5 => .object "AskedCourt$Reader"
  | 6 => .object "AskedCourt$Court"
  | 7 => .array .long
  | 8 => .array (.object "AskedCourt$Kind")
  | 9 => .object "AskedCourt$State"
  | 10 => .object "AskedCourt$State"
  | 11 => .object "AskedCourt$State"
  | 12 => .array (.object "AskedCourt$State")
  | 13 => .array (.object "AskedCourt$State")
  | 14 => .boolean
  | 15 => .array .int
  | 16 => .array .int
  | 17 => .int
  | 18 => .int
  | 19 => .array .int
  | 20 => .array .int
  | 21 => .object "java/util/ArrayList"
  | 22 => .array .boolean
  | _ => .int
abbrev wsX10 : List Cond := u_ws RX1 TX1 24
set_option maxRecDepth 100000 in
theorem nmX1 : ∀ a, a < 24 → ∀ b, b < 24 → a ≠ b → (TX1 a).2.1 ≠ (TX1 b).2.1 := by decide +kernel
set_option maxRecDepth 100000 in
theorem tyX1_ok : ∀ k, k < 24 → parseFieldDescriptor (TX1 k).2.2.1 = some (tyX1 k) := by decide +kernel
abbrev cX1_init : ByteArray := prog_1_method_6_code
def yX1_init : MethodName := ⟨RX1, "<init>", "()V"⟩
abbrev cX1_persons : ByteArray := prog_1_method_3_code
def yX1_persons : MethodName := ⟨RX1, "persons", "()I"⟩
abbrev cX1_feed : ByteArray := prog_1_method_7_code
def yX1_feed : MethodName := ⟨RX1, "feed", "(IIIII)I"⟩
abbrev cX1_put : ByteArray := prog_1_method_8_code
def yX1_put : MethodName := ⟨RX1, "put", "(I)V"⟩
abbrev cX1_text : ByteArray := prog_1_method_9_code
def yX1_text : MethodName := ⟨RX1, "text", "(I)I"⟩
abbrev cX1_in : ByteArray := prog_1_method_1_code
def yX1_in : MethodName := ⟨RX1, "in", "(JJJ)Z"⟩
abbrev cX1_fault : ByteArray := prog_1_method_10_code
def yX1_fault : MethodName := ⟨RX1, "fault", "(I)I"⟩
abbrev cX1_named : ByteArray := prog_1_method_11_code
def yX1_named : MethodName := ⟨RX1, "named", "(II)I"⟩
abbrev cX1_question : ByteArray := prog_1_method_17_code
def yX1_question : MethodName := ⟨RX1, "question", "(II)I"⟩
abbrev cX1_isQuestion : ByteArray := prog_1_method_14_code
def yX1_isQuestion : MethodName := ⟨RX1, "isQuestion", "(I)Z"⟩
abbrev cX1_questions : ByteArray := prog_1_method_4_code
def yX1_questions : MethodName := ⟨RX1, "questions", "()I"⟩
abbrev cX1_can : ByteArray := prog_1_method_18_code
def yX1_can : MethodName := ⟨RX1, "can", "(III)I"⟩
abbrev cX1_areTwo : ByteArray := prog_1_method_15_code
def yX1_areTwo : MethodName := ⟨RX1, "areTwo", "(II)Z"⟩
abbrev cX1_isPerson : ByteArray := prog_1_method_13_code
def yX1_isPerson : MethodName := ⟨RX1, "isPerson", "(I)Z"⟩
abbrev cX1_law : ByteArray := prog_1_method_19_code
def yX1_law : MethodName := ⟨RX1, "law", "(III)J"⟩
abbrev cX1_work : ByteArray := prog_1_method_5_code
def yX1_work : MethodName := ⟨RX1, "work", "(I)J"⟩
abbrev cX1_sure : ByteArray := prog_1_method_2_code
def yX1_sure : MethodName := ⟨RX1, "sure", "(J)J"⟩
abbrev cX1_ask : ByteArray := prog_1_method_21_code
def yX1_ask : MethodName := ⟨RX1, "ask", "(III)I"⟩
abbrev cX1_keepNow : ByteArray := prog_1_method_20_code
def yX1_keepNow : MethodName := ⟨RX1, "keepNow", "()V"⟩
abbrev cX1_tell : ByteArray := prog_1_method_22_code
def yX1_tell : MethodName := ⟨RX1, "tell", "(II)Z"⟩
abbrev cX1_isFact : ByteArray := prog_1_method_12_code
def yX1_isFact : MethodName := ⟨RX1, "isFact", "(I)Z"⟩
abbrev cX1_send : ByteArray := prog_1_method_23_code
def yX1_send : MethodName := ⟨RX1, "send", "(II)Z"⟩
abbrev cX1_end : ByteArray := prog_1_method_24_code
def yX1_end : MethodName := ⟨RX1, "end", "()I"⟩
abbrev cX1_all : ByteArray := prog_1_method_26_code
def yX1_all : MethodName := ⟨RX1, "all", "(I)I"⟩
abbrev cX1_askAllWithout : ByteArray := prog_1_method_25_code
def yX1_askAllWithout : MethodName := ⟨RX1, "askAllWithout", "(I)V"⟩
abbrev cX1_never : ByteArray := prog_1_method_28_code
def yX1_never : MethodName := ⟨RX1, "never", "(II)I"⟩
abbrev cX1_learns : ByteArray := prog_1_method_27_code
def yX1_learns : MethodName := ⟨RX1, "learns", "(III)Z"⟩
abbrev cX1_away : ByteArray := prog_1_method_29_code
def yX1_away : MethodName := ⟨RX1, "away", "(II)I"⟩
abbrev cX1_spread : ByteArray := prog_1_method_30_code
def yX1_spread : MethodName := ⟨RX1, "spread", "(I)I"⟩
abbrev cX1_hint : ByteArray := prog_1_method_32_code
def yX1_hint : MethodName := ⟨RX1, "hint", "(III)I"⟩
abbrev cX1_learnsIf : ByteArray := prog_1_method_31_code
def yX1_learnsIf : MethodName := ⟨RX1, "learnsIf", "(IIII)Z"⟩
abbrev cX1_unasked : ByteArray := prog_1_method_34_code
def yX1_unasked : MethodName := ⟨RX1, "unasked", "(I)I"⟩
abbrev cX1_isAskable : ByteArray := prog_1_method_33_code
def yX1_isAskable : MethodName := ⟨RX1, "isAskable", "(II)Z"⟩
abbrev cX1_inRoom : ByteArray := prog_1_method_36_code
def yX1_inRoom : MethodName := ⟨RX1, "inRoom", "(II)I"⟩
abbrev cX1_sumIn : ByteArray := prog_1_method_35_code
def yX1_sumIn : MethodName := ⟨RX1, "sumIn", "(II)I"⟩
abbrev cX1_bestRoom : ByteArray := prog_1_method_37_code
def yX1_bestRoom : MethodName := ⟨RX1, "bestRoom", "(I)I"⟩
abbrev cX1_way : ByteArray := prog_1_method_42_code
def yX1_way : MethodName := ⟨RX1, "way", "(IIII)I"⟩
abbrev cX1_isAsked : ByteArray := prog_1_method_40_code
def yX1_isAsked : MethodName := ⟨RX1, "isAsked", "(IIII)Z"⟩
abbrev cX1_layWay : ByteArray := prog_1_method_41_code
def yX1_layWay : MethodName := ⟨RX1, "layWay", "(IIII)V"⟩
abbrev cX1_ways : ByteArray := prog_1_method_39_code
def yX1_ways : MethodName := ⟨RX1, "ways", "(LAskedCourt$State;IIIII)Z"⟩
abbrev cX1_isWay : ByteArray := prog_1_method_38_code
def yX1_isWay : MethodName := ⟨RX1, "isWay", "(LAskedCourt$State;III)Z"⟩
abbrev cX1_step : ByteArray := prog_1_method_43_code
def yX1_step : MethodName := ⟨RX1, "step", "(IIIII)I"⟩
abbrev cX1_care : ByteArray := prog_1_method_45_code
def yX1_care : MethodName := ⟨RX1, "care", "(I)I"⟩
abbrev cX1_isTrap : ByteArray := prog_1_method_44_code
def yX1_isTrap : MethodName := ⟨RX1, "isTrap", "(III)Z"⟩
abbrev cX1_best : ByteArray := prog_1_method_47_code
def yX1_best : MethodName := ⟨RX1, "best", "(III)I"⟩
abbrev cX1_asks : ByteArray := prog_1_method_46_code
def yX1_asks : MethodName := ⟨RX1, "asks", "(LAskedCourt$State;III)V"⟩
abbrev cX1_rests : ByteArray := prog_1_method_53_code
def yX1_rests : MethodName := ⟨RX1, "rests", "(II)I"⟩
abbrev cX1_isDuel : ByteArray := prog_1_method_52_code
def yX1_isDuel : MethodName := ⟨RX1, "isDuel", "(II)Z"⟩
abbrev cX1_layDuel : ByteArray := prog_1_method_49_code
def yX1_layDuel : MethodName := ⟨RX1, "layDuel", "(II)V"⟩
abbrev cX1_ends : ByteArray := prog_1_method_48_code
def yX1_ends : MethodName := ⟨RX1, "ends", "(I)I"⟩
abbrev cX1_restOf : ByteArray := prog_1_method_51_code
def yX1_restOf : MethodName := ⟨RX1, "restOf", "(I)I"⟩
abbrev cX1_isRest : ByteArray := prog_1_method_50_code
def yX1_isRest : MethodName := ⟨RX1, "isRest", "(II)Z"⟩
abbrev cX1_rest : ByteArray := prog_1_method_54_code
def yX1_rest : MethodName := ⟨RX1, "rest", "(III)I"⟩
abbrev cX1_slipped : ByteArray := prog_1_method_56_code
def yX1_slipped : MethodName := ⟨RX1, "slipped", "(I)I"⟩
abbrev cX1_layTalk : ByteArray := prog_1_method_55_code
def yX1_layTalk : MethodName := ⟨RX1, "layTalk", "(I)V"⟩
abbrev cX1_behind : ByteArray := prog_1_method_57_code
def yX1_behind : MethodName := ⟨RX1, "behind", "(II)I"⟩
abbrev cX1_note : ByteArray := prog_1_method_59_code
def yX1_note : MethodName := ⟨RX1, "note", "(IIIZ)I"⟩
abbrev cX1_add : ByteArray := prog_1_method_58_code
def yX1_add : MethodName := ⟨RX1, "add", "(LAskedCourt$Leaf;)I"⟩
abbrev cX1_strike : ByteArray := prog_1_method_60_code
def yX1_strike : MethodName := ⟨RX1, "strike", "(I)I"⟩
abbrev cX1_known : ByteArray := prog_1_method_61_code
def yX1_known : MethodName := ⟨RX1, "known", "(I)Z"⟩
abbrev cX1_knew : ByteArray := prog_1_method_65_code
def yX1_knew : MethodName := ⟨RX1, "knew", "(I)I"⟩
abbrev cX1_knownMany : ByteArray := prog_1_method_62_code
def yX1_knownMany : MethodName := ⟨RX1, "knownMany", "()I"⟩
abbrev cX1_isKnew : ByteArray := prog_1_method_64_code
def yX1_isKnew : MethodName := ⟨RX1, "isKnew", "(II)Z"⟩
abbrev cX1_areSo : ByteArray := prog_1_method_63_code
def yX1_areSo : MethodName := ⟨RX1, "areSo", "(I)Z"⟩
abbrev cX1_chance : ByteArray := prog_1_method_66_code
def yX1_chance : MethodName := ⟨RX1, "chance", "(III)I"⟩
abbrev cX1_tried : ByteArray := prog_1_method_67_code
def yX1_tried : MethodName := ⟨RX1, "tried", "(II)I"⟩
abbrev cX1_undo : ByteArray := prog_1_method_68_code
def yX1_undo : MethodName := ⟨RX1, "undo", "()I"⟩
abbrev cX1_keep : ByteArray := prog_1_method_69_code
def yX1_keep : MethodName := ⟨RX1, "keep", "()I"⟩
abbrev cX1_back : ByteArray := prog_1_method_70_code
def yX1_back : MethodName := ⟨RX1, "back", "()I"⟩
abbrev cX1_count : ByteArray := prog_1_method_71_code
def yX1_count : MethodName := ⟨RX1, "count", "(I)I"⟩
abbrev cX1_person : ByteArray := prog_1_method_16_code
def yX1_person : MethodName := ⟨RX1, "person", "(II)I"⟩
theorem q140 : (Jvm.Cond.initialized "AskedCourt") ∈ lw_all := lw_g (lw_at lw_m1 1 rfl) rfl
theorem q183 : (Jvm.Cond.instantiable "AskedCourt" (24 : Nat)) ∈ lw_all := lw_g (lw_at lw_m1 44 rfl) rfl
theorem q185 : (Jvm.Cond.instanceMethod ({ cls := "AskedCourt", name := "<init>", desc := "()V" } : Jvm.MethodName)) ∈ lw_all := lw_g (lw_at lw_m1 46 rfl) rfl
theorem q186 : (Jvm.Cond.code ({ cls := "AskedCourt", name := "<init>", desc := "()V" } : Jvm.MethodName) prog_1_method_6_code (2 : Nat) (Option.none : Option Jvm.ClassFile.FieldType)) ∈ lw_all := lw_g (lw_at lw_m1 47 rfl) rfl
theorem q187 : (Jvm.Cond.methodLink "AskedCourt" (50 : Nat) ({ cls := "java/lang/Object", name := "<init>", desc := "()V" } : Jvm.MethodName)) ∈ lw_all := lw_g (lw_at lw_m1 48 rfl) rfl
theorem q190 : (Jvm.Cond.classLink "AskedCourt" (64 : Nat) "AskedCourt$Reader") ∈ lw_all := lw_g (lw_at lw_m1 51 rfl) rfl
theorem q192 : (Jvm.Cond.methodLinkNest "AskedCourt" (66 : Nat) ({ cls := "AskedCourt$Reader", name := "<init>", desc := "(LAskedCourt;)V" } : Jvm.MethodName) "AskedCourt") ∈ lw_tbl := lw_at lw_m1 53 rfl
theorem q225 : (Jvm.Cond.classLink "AskedCourt" (18 : Nat) "AskedCourt$Court") ∈ lw_all := lw_g (lw_at lw_m1 86 rfl) rfl
theorem q227 : (Jvm.Cond.methodLinkNest "AskedCourt" (73 : Nat) ({ cls := "AskedCourt$Court", name := "<init>", desc := "()V" } : Jvm.MethodName) "AskedCourt") ∈ lw_tbl := lw_at lw_m1 88 rfl
theorem q262 : (Jvm.Cond.fieldLinkNest "AskedCourt" (179 : Nat) "AskedCourt$Court" "facts" "Ljava/util/ArrayList;" "AskedCourt") ∈ lw_tbl := lw_at lw_m1 123 rfl
theorem q266 : (Jvm.Cond.fieldLinkNest "AskedCourt" (17 : Nat) "AskedCourt$Court" "persons" "Ljava/util/ArrayList;" "AskedCourt") ∈ lw_tbl := lw_at lw_m1 127 rfl
theorem q269 : (Jvm.Cond.fieldLinkNest "AskedCourt" (29 : Nat) "AskedCourt$Court" "questions" "Ljava/util/ArrayList;" "AskedCourt") ∈ lw_tbl := lw_at lw_m1 130 rfl
theorem q282 : (Jvm.Cond.fieldLinkNest "AskedCourt" (32 : Nat) "AskedCourt$Court" "laws" "[LAskedCourt$Part;" "AskedCourt") ∈ lw_tbl := lw_at lw_m1 143 rfl
theorem q285 : (Jvm.Cond.fieldLinkNest "AskedCourt" (362 : Nat) "AskedCourt$Court" "talk" "I" "AskedCourt") ∈ lw_tbl := lw_at lw_m1 146 rfl
theorem q292 : (Jvm.Cond.fieldLinkNest "AskedCourt" (416 : Nat) "AskedCourt$Court" "knots" "I" "AskedCourt") ∈ lw_tbl := lw_at lw_m1 153 rfl
theorem q293 : (Jvm.Cond.fieldLinkNest "AskedCourt" (176 : Nat) "AskedCourt$Court" "lines" "I" "AskedCourt") ∈ lw_tbl := lw_at lw_m1 154 rfl
theorem q321 : (Jvm.Cond.classLink "AskedCourt" (74 : Nat) "AskedCourt$Kind") ∈ lw_all := lw_g (lw_at lw_m1 182 rfl) rfl
theorem q323 : (Jvm.Cond.classLink "AskedCourt" (76 : Nat) "AskedCourt$Plain") ∈ lw_all := lw_g (lw_at lw_m1 184 rfl) rfl
theorem q325 : (Jvm.Cond.methodLinkNest "AskedCourt" (78 : Nat) ({ cls := "AskedCourt$Plain", name := "<init>", desc := "()V" } : Jvm.MethodName) "AskedCourt") ∈ lw_tbl := lw_at lw_m1 186 rfl
theorem q334 : (Jvm.Cond.classLink "AskedCourt" (79 : Nat) "AskedCourt$Twofold") ∈ lw_all := lw_g (lw_at lw_m1 195 rfl) rfl
theorem q336 : (Jvm.Cond.methodLinkNest "AskedCourt" (81 : Nat) ({ cls := "AskedCourt$Twofold", name := "<init>", desc := "()V" } : Jvm.MethodName) "AskedCourt") ∈ lw_tbl := lw_at lw_m1 197 rfl
theorem q341 : (Jvm.Cond.classLink "AskedCourt" (82 : Nat) "AskedCourt$Back") ∈ lw_all := lw_g (lw_at lw_m1 202 rfl) rfl
theorem q343 : (Jvm.Cond.methodLinkNest "AskedCourt" (84 : Nat) ({ cls := "AskedCourt$Back", name := "<init>", desc := "()V" } : Jvm.MethodName) "AskedCourt") ∈ lw_tbl := lw_at lw_m1 204 rfl
theorem q348 : (Jvm.Cond.classLink "AskedCourt" (85 : Nat) "AskedCourt$Idle") ∈ lw_all := lw_g (lw_at lw_m1 209 rfl) rfl
theorem q350 : (Jvm.Cond.methodLinkNest "AskedCourt" (87 : Nat) ({ cls := "AskedCourt$Idle", name := "<init>", desc := "()V" } : Jvm.MethodName) "AskedCourt") ∈ lw_tbl := lw_at lw_m1 211 rfl
theorem q355 : (Jvm.Cond.classLink "AskedCourt" (92 : Nat) "AskedCourt$State") ∈ lw_all := lw_g (lw_at lw_m1 216 rfl) rfl
theorem q357 : (Jvm.Cond.methodLinkNest "AskedCourt" (94 : Nat) ({ cls := "AskedCourt$State", name := "<init>", desc := "(LAskedCourt;)V" } : Jvm.MethodName) "AskedCourt") ∈ lw_tbl := lw_at lw_m1 218 rfl
theorem q363 : (Jvm.Cond.fieldLinkNest "AskedCourt" (214 : Nat) "AskedCourt$State" "knows" "[I" "AskedCourt") ∈ lw_tbl := lw_at lw_m1 224 rfl
theorem q365 : (Jvm.Cond.fieldLinkNest "AskedCourt" (211 : Nat) "AskedCourt$State" "room" "[I" "AskedCourt") ∈ lw_tbl := lw_at lw_m1 226 rfl
theorem q367 : (Jvm.Cond.fieldLinkNest "AskedCourt" (217 : Nat) "AskedCourt$State" "lost" "[I" "AskedCourt") ∈ lw_tbl := lw_at lw_m1 228 rfl
theorem q369 : (Jvm.Cond.fieldLinkNest "AskedCourt" (220 : Nat) "AskedCourt$State" "asked" "[I" "AskedCourt") ∈ lw_tbl := lw_at lw_m1 230 rfl
theorem q371 : (Jvm.Cond.fieldLinkNest "AskedCourt" (272 : Nat) "AskedCourt$State" "day" "I" "AskedCourt") ∈ lw_tbl := lw_at lw_m1 232 rfl
theorem q373 : (Jvm.Cond.fieldLinkNest "AskedCourt" (419 : Nat) "AskedCourt$State" "all" "I" "AskedCourt") ∈ lw_tbl := lw_at lw_m1 234 rfl
theorem q375 : (Jvm.Cond.fieldLinkNest "AskedCourt" (405 : Nat) "AskedCourt$State" "number" "I" "AskedCourt") ∈ lw_tbl := lw_at lw_m1 236 rfl
theorem q377 : (Jvm.Cond.fieldLinkNest "AskedCourt" (410 : Nat) "AskedCourt$State" "what" "I" "AskedCourt") ∈ lw_tbl := lw_at lw_m1 238 rfl
theorem q379 : (Jvm.Cond.fieldLinkNest "AskedCourt" (413 : Nat) "AskedCourt$State" "which" "I" "AskedCourt") ∈ lw_tbl := lw_at lw_m2 0 rfl
theorem q381 : (Jvm.Cond.fieldLinkNest "AskedCourt" (275 : Nat) "AskedCourt$State" "gone" "I" "AskedCourt") ∈ lw_tbl := lw_at lw_m2 2 rfl
theorem q407 : (Jvm.Cond.classLink "AskedCourt" (24 : Nat) "java/util/ArrayList") ∈ lw_all := lw_g (lw_at lw_m2 28 rfl) rfl
theorem q408 : (Jvm.Cond.methodLink "AskedCourt" (125 : Nat) ({ cls := "java/util/ArrayList", name := "<init>", desc := "(I)V" } : Jvm.MethodName)) ∈ lw_all := lw_g (lw_at lw_m2 29 rfl) rfl
theorem q409 : (Jvm.Cond.methodLink "AskedCourt" (138 : Nat) ({ cls := "AskedCourt$State", name := "begin", desc := "()V" } : Jvm.MethodName)) ∈ lw_all := lw_g (lw_at lw_m2 30 rfl) rfl
theorem q414 : (Jvm.Cond.privateMethod ({ cls := "AskedCourt", name := "persons", desc := "()I" } : Jvm.MethodName)) ∈ lw_tbl := lw_at lw_m2 35 rfl
theorem q415 : (Jvm.Cond.instanceMethod ({ cls := "AskedCourt", name := "persons", desc := "()I" } : Jvm.MethodName)) ∈ lw_all := lw_g (lw_at lw_m2 36 rfl) rfl
theorem q416 : (Jvm.Cond.code ({ cls := "AskedCourt", name := "persons", desc := "()I" } : Jvm.MethodName) prog_1_method_3_code (1 : Nat) (Option.some Jvm.ClassFile.FieldType.int)) ∈ lw_all := lw_g (lw_at lw_m2 37 rfl) rfl
theorem q417 : (Jvm.Cond.methodLink "AskedCourt" (23 : Nat) ({ cls := "java/util/ArrayList", name := "size", desc := "()I" } : Jvm.MethodName)) ∈ lw_all := lw_g (lw_at lw_m2 38 rfl) rfl
theorem q437 : (Jvm.Cond.fieldLink "AskedCourt" (56 : Nat) "AskedCourt" "tape" "[B") ∈ lw_all := lw_g (lw_at lw_m2 58 rfl) rfl
theorem q438 : (Jvm.Cond.fieldLink "AskedCourt" (141 : Nat) "AskedCourt" "taped" "I") ∈ lw_all := lw_g (lw_at lw_m2 59 rfl) rfl
theorem q439 : (Jvm.Cond.fieldLink "AskedCourt" (151 : Nat) "AskedCourt" "faultKind" "I") ∈ lw_all := lw_g (lw_at lw_m2 60 rfl) rfl
theorem q440 : (Jvm.Cond.fieldLink "AskedCourt" (60 : Nat) "AskedCourt" "faultPlace" "I") ∈ lw_all := lw_g (lw_at lw_m2 61 rfl) rfl
theorem q441 : (Jvm.Cond.fieldLink "AskedCourt" (166 : Nat) "AskedCourt" "keptMany" "I") ∈ lw_all := lw_g (lw_at lw_m2 62 rfl) rfl
theorem q442 : (Jvm.Cond.fieldLink "AskedCourt" (69 : Nat) "AskedCourt" "reader" "LAskedCourt$Reader;") ∈ lw_all := lw_g (lw_at lw_m2 63 rfl) rfl
theorem q444 : (Jvm.Cond.fieldLink "AskedCourt" (13 : Nat) "AskedCourt" "court" "LAskedCourt$Court;") ∈ lw_all := lw_g (lw_at lw_m2 65 rfl) rfl
theorem q445 : (Jvm.Cond.fieldLink "AskedCourt" (38 : Nat) "AskedCourt" "names" "[J") ∈ lw_all := lw_g (lw_at lw_m2 66 rfl) rfl
theorem q447 : (Jvm.Cond.fieldLink "AskedCourt" (88 : Nat) "AskedCourt" "kinds" "[LAskedCourt$Kind;") ∈ lw_all := lw_g (lw_at lw_m2 68 rfl) rfl
theorem q449 : (Jvm.Cond.fieldLink "AskedCourt" (95 : Nat) "AskedCourt" "now" "LAskedCourt$State;") ∈ lw_all := lw_g (lw_at lw_m2 70 rfl) rfl
theorem q450 : (Jvm.Cond.fieldLink "AskedCourt" (99 : Nat) "AskedCourt" "other" "LAskedCourt$State;") ∈ lw_all := lw_g (lw_at lw_m2 71 rfl) rfl
theorem q451 : (Jvm.Cond.fieldLink "AskedCourt" (102 : Nat) "AskedCourt" "image" "LAskedCourt$State;") ∈ lw_all := lw_g (lw_at lw_m2 72 rfl) rfl
theorem q452 : (Jvm.Cond.fieldLink "AskedCourt" (105 : Nat) "AskedCourt" "kept" "[LAskedCourt$State;") ∈ lw_all := lw_g (lw_at lw_m2 73 rfl) rfl
theorem q453 : (Jvm.Cond.fieldLink "AskedCourt" (109 : Nat) "AskedCourt" "ahead" "[LAskedCourt$State;") ∈ lw_all := lw_g (lw_at lw_m2 74 rfl) rfl
theorem q454 : (Jvm.Cond.fieldLink "AskedCourt" (169 : Nat) "AskedCourt" "hasImage" "Z") ∈ lw_all := lw_g (lw_at lw_m2 75 rfl) rfl
theorem q455 : (Jvm.Cond.fieldLink "AskedCourt" (112 : Nat) "AskedCourt" "steps" "[I") ∈ lw_all := lw_g (lw_at lw_m2 76 rfl) rfl
theorem q456 : (Jvm.Cond.fieldLink "AskedCourt" (116 : Nat) "AskedCourt" "bestSteps" "[I") ∈ lw_all := lw_g (lw_at lw_m2 77 rfl) rfl
theorem q457 : (Jvm.Cond.fieldLink "AskedCourt" (318 : Nat) "AskedCourt" "wayMany" "I") ∈ lw_all := lw_g (lw_at lw_m2 78 rfl) rfl
theorem q458 : (Jvm.Cond.fieldLink "AskedCourt" (337 : Nat) "AskedCourt" "bestSum" "I") ∈ lw_all := lw_g (lw_at lw_m2 79 rfl) rfl
theorem q459 : (Jvm.Cond.fieldLink "AskedCourt" (119 : Nat) "AskedCourt" "hasOne" "[I") ∈ lw_all := lw_g (lw_at lw_m2 80 rfl) rfl
theorem q460 : (Jvm.Cond.fieldLink "AskedCourt" (122 : Nat) "AskedCourt" "hasTwo" "[I") ∈ lw_all := lw_g (lw_at lw_m2 81 rfl) rfl
theorem q461 : (Jvm.Cond.fieldLink "AskedCourt" (128 : Nat) "AskedCourt" "seen" "Ljava/util/ArrayList;") ∈ lw_all := lw_g (lw_at lw_m2 82 rfl) rfl
theorem q462 : (Jvm.Cond.fieldLink "AskedCourt" (131 : Nat) "AskedCourt" "isStruck" "[Z") ∈ lw_all := lw_g (lw_at lw_m2 83 rfl) rfl
theorem q463 : (Jvm.Cond.fieldLink "AskedCourt" (135 : Nat) "AskedCourt" "known" "I") ∈ lw_all := lw_g (lw_at lw_m2 84 rfl) rfl
theorem q464 : (Jvm.Cond.laysFinal "AskedCourt" "AskedCourt" "tape" "[B") ∈ lw_all := lw_g (lw_at lw_m2 85 rfl) rfl
theorem q465 : (Jvm.Cond.soleField "AskedCourt" "tape") ∈ lw_all := lw_g (lw_at lw_m2 86 rfl) rfl
theorem q466 : (Jvm.Cond.lays "AskedCourt" "AskedCourt" "taped" "I") ∈ lw_all := lw_g (lw_at lw_m2 87 rfl) rfl
theorem q467 : (Jvm.Cond.soleField "AskedCourt" "taped") ∈ lw_all := lw_g (lw_at lw_m2 88 rfl) rfl
theorem q468 : (Jvm.Cond.lays "AskedCourt" "AskedCourt" "faultKind" "I") ∈ lw_all := lw_g (lw_at lw_m2 89 rfl) rfl
theorem q469 : (Jvm.Cond.soleField "AskedCourt" "faultKind") ∈ lw_all := lw_g (lw_at lw_m2 90 rfl) rfl
theorem q470 : (Jvm.Cond.lays "AskedCourt" "AskedCourt" "faultPlace" "I") ∈ lw_all := lw_g (lw_at lw_m2 91 rfl) rfl
theorem q471 : (Jvm.Cond.soleField "AskedCourt" "faultPlace") ∈ lw_all := lw_g (lw_at lw_m2 92 rfl) rfl
theorem q472 : (Jvm.Cond.lays "AskedCourt" "AskedCourt" "keptMany" "I") ∈ lw_all := lw_g (lw_at lw_m2 93 rfl) rfl
theorem q473 : (Jvm.Cond.soleField "AskedCourt" "keptMany") ∈ lw_all := lw_g (lw_at lw_m2 94 rfl) rfl
theorem q474 : (Jvm.Cond.laysFinal "AskedCourt" "AskedCourt" "reader" "LAskedCourt$Reader;") ∈ lw_all := lw_g (lw_at lw_m2 95 rfl) rfl
theorem q475 : (Jvm.Cond.soleField "AskedCourt" "reader") ∈ lw_all := lw_g (lw_at lw_m2 96 rfl) rfl
theorem q476 : (Jvm.Cond.lays "AskedCourt" "AskedCourt" "court" "LAskedCourt$Court;") ∈ lw_all := lw_g (lw_at lw_m2 97 rfl) rfl
theorem q477 : (Jvm.Cond.soleField "AskedCourt" "court") ∈ lw_all := lw_g (lw_at lw_m2 98 rfl) rfl
theorem q478 : (Jvm.Cond.laysFinal "AskedCourt" "AskedCourt" "names" "[J") ∈ lw_all := lw_g (lw_at lw_m2 99 rfl) rfl
theorem q479 : (Jvm.Cond.soleField "AskedCourt" "names") ∈ lw_all := lw_g (lw_at lw_m2 100 rfl) rfl
theorem q480 : (Jvm.Cond.laysFinal "AskedCourt" "AskedCourt" "kinds" "[LAskedCourt$Kind;") ∈ lw_all := lw_g (lw_at lw_m2 101 rfl) rfl
theorem q481 : (Jvm.Cond.soleField "AskedCourt" "kinds") ∈ lw_all := lw_g (lw_at lw_m2 102 rfl) rfl
theorem q482 : (Jvm.Cond.laysFinal "AskedCourt" "AskedCourt" "now" "LAskedCourt$State;") ∈ lw_all := lw_g (lw_at lw_m2 103 rfl) rfl
theorem q483 : (Jvm.Cond.soleField "AskedCourt" "now") ∈ lw_all := lw_g (lw_at lw_m2 104 rfl) rfl
theorem q484 : (Jvm.Cond.laysFinal "AskedCourt" "AskedCourt" "other" "LAskedCourt$State;") ∈ lw_all := lw_g (lw_at lw_m2 105 rfl) rfl
theorem q485 : (Jvm.Cond.soleField "AskedCourt" "other") ∈ lw_all := lw_g (lw_at lw_m2 106 rfl) rfl
theorem q486 : (Jvm.Cond.laysFinal "AskedCourt" "AskedCourt" "image" "LAskedCourt$State;") ∈ lw_all := lw_g (lw_at lw_m2 107 rfl) rfl
theorem q487 : (Jvm.Cond.soleField "AskedCourt" "image") ∈ lw_all := lw_g (lw_at lw_m2 108 rfl) rfl
theorem q488 : (Jvm.Cond.laysFinal "AskedCourt" "AskedCourt" "kept" "[LAskedCourt$State;") ∈ lw_all := lw_g (lw_at lw_m2 109 rfl) rfl
theorem q489 : (Jvm.Cond.soleField "AskedCourt" "kept") ∈ lw_all := lw_g (lw_at lw_m2 110 rfl) rfl
theorem q490 : (Jvm.Cond.laysFinal "AskedCourt" "AskedCourt" "ahead" "[LAskedCourt$State;") ∈ lw_all := lw_g (lw_at lw_m2 111 rfl) rfl
theorem q491 : (Jvm.Cond.soleField "AskedCourt" "ahead") ∈ lw_all := lw_g (lw_at lw_m2 112 rfl) rfl
theorem q492 : (Jvm.Cond.lays "AskedCourt" "AskedCourt" "hasImage" "Z") ∈ lw_all := lw_g (lw_at lw_m2 113 rfl) rfl
theorem q493 : (Jvm.Cond.soleField "AskedCourt" "hasImage") ∈ lw_all := lw_g (lw_at lw_m2 114 rfl) rfl
theorem q494 : (Jvm.Cond.laysFinal "AskedCourt" "AskedCourt" "steps" "[I") ∈ lw_all := lw_g (lw_at lw_m2 115 rfl) rfl
theorem q495 : (Jvm.Cond.soleField "AskedCourt" "steps") ∈ lw_all := lw_g (lw_at lw_m2 116 rfl) rfl
theorem q496 : (Jvm.Cond.laysFinal "AskedCourt" "AskedCourt" "bestSteps" "[I") ∈ lw_all := lw_g (lw_at lw_m2 117 rfl) rfl
theorem q497 : (Jvm.Cond.soleField "AskedCourt" "bestSteps") ∈ lw_all := lw_g (lw_at lw_m2 118 rfl) rfl
theorem q498 : (Jvm.Cond.lays "AskedCourt" "AskedCourt" "wayMany" "I") ∈ lw_all := lw_g (lw_at lw_m2 119 rfl) rfl
theorem q499 : (Jvm.Cond.soleField "AskedCourt" "wayMany") ∈ lw_all := lw_g (lw_at lw_m2 120 rfl) rfl
theorem q500 : (Jvm.Cond.lays "AskedCourt" "AskedCourt" "bestSum" "I") ∈ lw_all := lw_g (lw_at lw_m2 121 rfl) rfl
theorem q501 : (Jvm.Cond.soleField "AskedCourt" "bestSum") ∈ lw_all := lw_g (lw_at lw_m2 122 rfl) rfl
theorem q502 : (Jvm.Cond.laysFinal "AskedCourt" "AskedCourt" "hasOne" "[I") ∈ lw_all := lw_g (lw_at lw_m2 123 rfl) rfl
theorem q503 : (Jvm.Cond.soleField "AskedCourt" "hasOne") ∈ lw_all := lw_g (lw_at lw_m2 124 rfl) rfl
theorem q504 : (Jvm.Cond.laysFinal "AskedCourt" "AskedCourt" "hasTwo" "[I") ∈ lw_all := lw_g (lw_at lw_m2 125 rfl) rfl
theorem q505 : (Jvm.Cond.soleField "AskedCourt" "hasTwo") ∈ lw_all := lw_g (lw_at lw_m2 126 rfl) rfl
theorem q506 : (Jvm.Cond.laysFinal "AskedCourt" "AskedCourt" "seen" "Ljava/util/ArrayList;") ∈ lw_all := lw_g (lw_at lw_m2 127 rfl) rfl
theorem q507 : (Jvm.Cond.soleField "AskedCourt" "seen") ∈ lw_all := lw_g (lw_at lw_m2 128 rfl) rfl
theorem q508 : (Jvm.Cond.laysFinal "AskedCourt" "AskedCourt" "isStruck" "[Z") ∈ lw_all := lw_g (lw_at lw_m2 129 rfl) rfl
theorem q509 : (Jvm.Cond.soleField "AskedCourt" "isStruck") ∈ lw_all := lw_g (lw_at lw_m2 130 rfl) rfl
theorem q510 : (Jvm.Cond.lays "AskedCourt" "AskedCourt" "known" "I") ∈ lw_all := lw_g (lw_at lw_m2 131 rfl) rfl
theorem q511 : (Jvm.Cond.soleField "AskedCourt" "known") ∈ lw_all := lw_g (lw_at lw_m2 132 rfl) rfl
theorem q512 : (Jvm.Cond.superclass "AskedCourt" "java/lang/Object") ∈ lw_all := lw_g (lw_at lw_m2 133 rfl) rfl
theorem q515 : (Jvm.Cond.instanceMethod ({ cls := "AskedCourt", name := "feed", desc := "(IIIII)I" } : Jvm.MethodName)) ∈ lw_all := lw_g (lw_at lw_m2 136 rfl) rfl
theorem q516 : (Jvm.Cond.selects "AskedCourt" ({ cls := "AskedCourt", name := "feed", desc := "(IIIII)I" } : Jvm.MethodName) ({ cls := "AskedCourt", name := "feed", desc := "(IIIII)I" } : Jvm.MethodName)) ∈ lw_all := lw_g (lw_at lw_m2 137 rfl) rfl
theorem q517 : (Jvm.Cond.code ({ cls := "AskedCourt", name := "feed", desc := "(IIIII)I" } : Jvm.MethodName) prog_1_method_7_code (6 : Nat) (Option.some Jvm.ClassFile.FieldType.int)) ∈ lw_all := lw_g (lw_at lw_m2 138 rfl) rfl
theorem q518 : (Jvm.Cond.methodLink "AskedCourt" (144 : Nat) ({ cls := "AskedCourt", name := "put", desc := "(I)V" } : Jvm.MethodName)) ∈ lw_all := lw_g (lw_at lw_m2 139 rfl) rfl
theorem q519 : (Jvm.Cond.privateMethod ({ cls := "AskedCourt", name := "put", desc := "(I)V" } : Jvm.MethodName)) ∈ lw_tbl := lw_at lw_m2 140 rfl
theorem q520 : (Jvm.Cond.instanceMethod ({ cls := "AskedCourt", name := "put", desc := "(I)V" } : Jvm.MethodName)) ∈ lw_all := lw_g (lw_at lw_m2 141 rfl) rfl
theorem q521 : (Jvm.Cond.code ({ cls := "AskedCourt", name := "put", desc := "(I)V" } : Jvm.MethodName) prog_1_method_8_code (3 : Nat) (Option.none : Option Jvm.ClassFile.FieldType)) ∈ lw_all := lw_g (lw_at lw_m2 142 rfl) rfl
theorem q523 : (Jvm.Cond.instanceMethod ({ cls := "AskedCourt", name := "text", desc := "(I)I" } : Jvm.MethodName)) ∈ lw_all := lw_g (lw_at lw_m2 144 rfl) rfl
theorem q524 : (Jvm.Cond.selects "AskedCourt" ({ cls := "AskedCourt", name := "text", desc := "(I)I" } : Jvm.MethodName) ({ cls := "AskedCourt", name := "text", desc := "(I)I" } : Jvm.MethodName)) ∈ lw_all := lw_g (lw_at lw_m2 145 rfl) rfl
theorem q525 : (Jvm.Cond.codeWith ({ cls := "AskedCourt", name := "text", desc := "(I)I" } : Jvm.MethodName) prog_1_method_9_code (3 : Nat) (Option.some Jvm.ClassFile.FieldType.int) [((32 : Nat), (44 : Nat), (47 : Nat), (158 : Nat))]) ∈ lw_all := lw_g (lw_at lw_m2 146 rfl) rfl
theorem q526 : (Jvm.Cond.classLink "AskedCourt" (158 : Nat) "AskedCourt$Fault") ∈ lw_all := lw_g (lw_at lw_m2 147 rfl) rfl
theorem q527 : (Jvm.Cond.methodLink "AskedCourt" (147 : Nat) ({ cls := "AskedCourt", name := "in", desc := "(JJJ)Z" } : Jvm.MethodName)) ∈ lw_all := lw_g (lw_at lw_m2 148 rfl) rfl
theorem q528 : (Jvm.Cond.static ({ cls := "AskedCourt", name := "in", desc := "(JJJ)Z" } : Jvm.MethodName)) ∈ lw_all := lw_g (lw_at lw_m2 149 rfl) rfl
theorem q529 : (Jvm.Cond.code ({ cls := "AskedCourt", name := "in", desc := "(JJJ)Z" } : Jvm.MethodName) prog_1_method_1_code (6 : Nat) (Option.some Jvm.ClassFile.FieldType.boolean)) ∈ lw_all := lw_g (lw_at lw_m2 150 rfl) rfl
theorem q530 : (Jvm.Cond.methodLink "AskedCourt" (154 : Nat) ({ cls := "AskedCourt$Reader", name := "read", desc := "(I)LAskedCourt$Court;" } : Jvm.MethodName)) ∈ lw_all := lw_g (lw_at lw_m2 151 rfl) rfl
theorem q552 : (Jvm.Cond.laysStatic "AskedCourt" "NAMES" "[Ljava/lang/String;") ∈ lw_tbl := lw_at lw_m2 173 rfl
theorem q733 : (Jvm.Cond.fieldLinkNest "AskedCourt" (160 : Nat) "AskedCourt$Fault" "kind" "I" "AskedCourt") ∈ lw_tbl := lw_at lw_m3 114 rfl
theorem q735 : (Jvm.Cond.fieldLinkNest "AskedCourt" (163 : Nat) "AskedCourt$Fault" "place" "I" "AskedCourt") ∈ lw_tbl := lw_at lw_m3 116 rfl
theorem q810 : (Jvm.Cond.selects "AskedCourt" ({ cls := "java/lang/Object", name := "getClass", desc := "()Ljava/lang/Class;" } : Jvm.MethodName) ({ cls := "java/lang/Object", name := "getClass", desc := "()Ljava/lang/Class;" } : Jvm.MethodName)) ∈ lw_all := lw_g (lw_at lw_m3 191 rfl) rfl
theorem q856 : (Jvm.Cond.fieldLinkNest "AskedCourt" (205 : Nat) "AskedCourt$Person" "lips" "I" "AskedCourt") ∈ lw_tbl := lw_at lw_m3 237 rfl
theorem q859 : (Jvm.Cond.fieldLinkNest "AskedCourt" (208 : Nat) "AskedCourt$Person" "wit" "I" "AskedCourt") ∈ lw_tbl := lw_at lw_m4 0 rfl
theorem q907 : (Jvm.Cond.fieldLinkNest "AskedCourt" (231 : Nat) "AskedCourt$Question" "kind" "I" "AskedCourt") ∈ lw_tbl := lw_at lw_m4 48 rfl
theorem q910 : (Jvm.Cond.fieldLinkNest "AskedCourt" (232 : Nat) "AskedCourt$Question" "supposes" "I" "AskedCourt") ∈ lw_tbl := lw_at lw_m4 51 rfl
theorem q913 : (Jvm.Cond.fieldLinkNest "AskedCourt" (235 : Nat) "AskedCourt$Question" "also" "I" "AskedCourt") ∈ lw_tbl := lw_at lw_m4 54 rfl
theorem q916 : (Jvm.Cond.fieldLinkNest "AskedCourt" (238 : Nat) "AskedCourt$Question" "asks" "I" "AskedCourt") ∈ lw_tbl := lw_at lw_m4 57 rfl
theorem q1021 : (Jvm.Cond.methodLink "AskedCourt" (173 : Nat) ({ cls := "java/util/ArrayList", name := "clear", desc := "()V" } : Jvm.MethodName)) ∈ lw_all := lw_g (lw_at lw_m4 162 rfl) rfl
theorem q1026 : (Jvm.Cond.instanceMethod ({ cls := "AskedCourt", name := "fault", desc := "(I)I" } : Jvm.MethodName)) ∈ lw_all := lw_g (lw_at lw_m4 167 rfl) rfl
theorem q1027 : (Jvm.Cond.selects "AskedCourt" ({ cls := "AskedCourt", name := "fault", desc := "(I)I" } : Jvm.MethodName) ({ cls := "AskedCourt", name := "fault", desc := "(I)I" } : Jvm.MethodName)) ∈ lw_all := lw_g (lw_at lw_m4 168 rfl) rfl
theorem q1028 : (Jvm.Cond.code ({ cls := "AskedCourt", name := "fault", desc := "(I)I" } : Jvm.MethodName) prog_1_method_10_code (2 : Nat) (Option.some Jvm.ClassFile.FieldType.int)) ∈ lw_all := lw_g (lw_at lw_m4 169 rfl) rfl
theorem q1030 : (Jvm.Cond.instanceMethod ({ cls := "AskedCourt", name := "named", desc := "(II)I" } : Jvm.MethodName)) ∈ lw_all := lw_g (lw_at lw_m4 171 rfl) rfl
theorem q1031 : (Jvm.Cond.selects "AskedCourt" ({ cls := "AskedCourt", name := "named", desc := "(II)I" } : Jvm.MethodName) ({ cls := "AskedCourt", name := "named", desc := "(II)I" } : Jvm.MethodName)) ∈ lw_all := lw_g (lw_at lw_m4 172 rfl) rfl
theorem q1032 : (Jvm.Cond.code ({ cls := "AskedCourt", name := "named", desc := "(II)I" } : Jvm.MethodName) prog_1_method_11_code (3 : Nat) (Option.some Jvm.ClassFile.FieldType.int)) ∈ lw_all := lw_g (lw_at lw_m4 173 rfl) rfl
theorem q1033 : (Jvm.Cond.methodLink "AskedCourt" (182 : Nat) ({ cls := "AskedCourt$Named", name := "find", desc := "(Ljava/util/ArrayList;I)I" } : Jvm.MethodName)) ∈ lw_all := lw_g (lw_at lw_m4 174 rfl) rfl
theorem q1035 : (Jvm.Cond.instanceMethod ({ cls := "AskedCourt", name := "question", desc := "(II)I" } : Jvm.MethodName)) ∈ lw_all := lw_g (lw_at lw_m4 176 rfl) rfl
theorem q1036 : (Jvm.Cond.selects "AskedCourt" ({ cls := "AskedCourt", name := "question", desc := "(II)I" } : Jvm.MethodName) ({ cls := "AskedCourt", name := "question", desc := "(II)I" } : Jvm.MethodName)) ∈ lw_all := lw_g (lw_at lw_m4 177 rfl) rfl
theorem q1037 : (Jvm.Cond.code ({ cls := "AskedCourt", name := "question", desc := "(II)I" } : Jvm.MethodName) prog_1_method_17_code (4 : Nat) (Option.some Jvm.ClassFile.FieldType.int)) ∈ lw_all := lw_g (lw_at lw_m4 178 rfl) rfl
theorem q1038 : (Jvm.Cond.methodLink "AskedCourt" (226 : Nat) ({ cls := "AskedCourt", name := "isQuestion", desc := "(I)Z" } : Jvm.MethodName)) ∈ lw_all := lw_g (lw_at lw_m4 179 rfl) rfl
theorem q1039 : (Jvm.Cond.privateMethod ({ cls := "AskedCourt", name := "isQuestion", desc := "(I)Z" } : Jvm.MethodName)) ∈ lw_tbl := lw_at lw_m4 180 rfl
theorem q1040 : (Jvm.Cond.instanceMethod ({ cls := "AskedCourt", name := "isQuestion", desc := "(I)Z" } : Jvm.MethodName)) ∈ lw_all := lw_g (lw_at lw_m4 181 rfl) rfl
theorem q1041 : (Jvm.Cond.code ({ cls := "AskedCourt", name := "isQuestion", desc := "(I)Z" } : Jvm.MethodName) prog_1_method_14_code (2 : Nat) (Option.some Jvm.ClassFile.FieldType.boolean)) ∈ lw_all := lw_g (lw_at lw_m4 182 rfl) rfl
theorem q1042 : (Jvm.Cond.methodLink "AskedCourt" (190 : Nat) ({ cls := "AskedCourt", name := "questions", desc := "()I" } : Jvm.MethodName)) ∈ lw_all := lw_g (lw_at lw_m4 183 rfl) rfl
theorem q1043 : (Jvm.Cond.privateMethod ({ cls := "AskedCourt", name := "questions", desc := "()I" } : Jvm.MethodName)) ∈ lw_tbl := lw_at lw_m4 184 rfl
theorem q1044 : (Jvm.Cond.instanceMethod ({ cls := "AskedCourt", name := "questions", desc := "()I" } : Jvm.MethodName)) ∈ lw_all := lw_g (lw_at lw_m4 185 rfl) rfl
theorem q1045 : (Jvm.Cond.code ({ cls := "AskedCourt", name := "questions", desc := "()I" } : Jvm.MethodName) prog_1_method_4_code (1 : Nat) (Option.some Jvm.ClassFile.FieldType.int)) ∈ lw_all := lw_g (lw_at lw_m4 186 rfl) rfl
theorem q1046 : (Jvm.Cond.methodLink "AskedCourt" (199 : Nat) ({ cls := "java/util/ArrayList", name := "get", desc := "(I)Ljava/lang/Object;" } : Jvm.MethodName)) ∈ lw_all := lw_g (lw_at lw_m4 187 rfl) rfl
theorem q1047 : (Jvm.Cond.classLink "AskedCourt" (229 : Nat) "AskedCourt$Question") ∈ lw_all := lw_g (lw_at lw_m4 188 rfl) rfl
theorem q1049 : (Jvm.Cond.instanceMethod ({ cls := "AskedCourt", name := "can", desc := "(III)I" } : Jvm.MethodName)) ∈ lw_all := lw_g (lw_at lw_m4 190 rfl) rfl
theorem q1050 : (Jvm.Cond.selects "AskedCourt" ({ cls := "AskedCourt", name := "can", desc := "(III)I" } : Jvm.MethodName) ({ cls := "AskedCourt", name := "can", desc := "(III)I" } : Jvm.MethodName)) ∈ lw_all := lw_g (lw_at lw_m4 191 rfl) rfl
theorem q1051 : (Jvm.Cond.code ({ cls := "AskedCourt", name := "can", desc := "(III)I" } : Jvm.MethodName) prog_1_method_18_code (4 : Nat) (Option.some Jvm.ClassFile.FieldType.int)) ∈ lw_all := lw_g (lw_at lw_m4 192 rfl) rfl
theorem q1052 : (Jvm.Cond.methodLink "AskedCourt" (241 : Nat) ({ cls := "AskedCourt", name := "areTwo", desc := "(II)Z" } : Jvm.MethodName)) ∈ lw_all := lw_g (lw_at lw_m4 193 rfl) rfl
theorem q1053 : (Jvm.Cond.privateMethod ({ cls := "AskedCourt", name := "areTwo", desc := "(II)Z" } : Jvm.MethodName)) ∈ lw_tbl := lw_at lw_m4 194 rfl
theorem q1054 : (Jvm.Cond.instanceMethod ({ cls := "AskedCourt", name := "areTwo", desc := "(II)Z" } : Jvm.MethodName)) ∈ lw_all := lw_g (lw_at lw_m4 195 rfl) rfl
theorem q1055 : (Jvm.Cond.code ({ cls := "AskedCourt", name := "areTwo", desc := "(II)Z" } : Jvm.MethodName) prog_1_method_15_code (3 : Nat) (Option.some Jvm.ClassFile.FieldType.boolean)) ∈ lw_all := lw_g (lw_at lw_m4 196 rfl) rfl
theorem q1056 : (Jvm.Cond.methodLink "AskedCourt" (192 : Nat) ({ cls := "AskedCourt", name := "isPerson", desc := "(I)Z" } : Jvm.MethodName)) ∈ lw_all := lw_g (lw_at lw_m4 197 rfl) rfl
theorem q1057 : (Jvm.Cond.privateMethod ({ cls := "AskedCourt", name := "isPerson", desc := "(I)Z" } : Jvm.MethodName)) ∈ lw_tbl := lw_at lw_m4 198 rfl
theorem q1058 : (Jvm.Cond.instanceMethod ({ cls := "AskedCourt", name := "isPerson", desc := "(I)Z" } : Jvm.MethodName)) ∈ lw_all := lw_g (lw_at lw_m4 199 rfl) rfl
theorem q1059 : (Jvm.Cond.code ({ cls := "AskedCourt", name := "isPerson", desc := "(I)Z" } : Jvm.MethodName) prog_1_method_13_code (2 : Nat) (Option.some Jvm.ClassFile.FieldType.boolean)) ∈ lw_all := lw_g (lw_at lw_m4 200 rfl) rfl
theorem q1060 : (Jvm.Cond.methodLink "AskedCourt" (188 : Nat) ({ cls := "AskedCourt", name := "persons", desc := "()I" } : Jvm.MethodName)) ∈ lw_all := lw_g (lw_at lw_m4 201 rfl) rfl
theorem q1061 : (Jvm.Cond.methodLink "AskedCourt" (245 : Nat) ({ cls := "AskedCourt$State", name := "can", desc := "(IIIZ)Z" } : Jvm.MethodName)) ∈ lw_all := lw_g (lw_at lw_m4 202 rfl) rfl
theorem q1093 : (Jvm.Cond.instanceMethod ({ cls := "AskedCourt", name := "law", desc := "(III)J" } : Jvm.MethodName)) ∈ lw_all := lw_g (lw_at lw_m4 234 rfl) rfl
theorem q1094 : (Jvm.Cond.selects "AskedCourt" ({ cls := "AskedCourt", name := "law", desc := "(III)J" } : Jvm.MethodName) ({ cls := "AskedCourt", name := "law", desc := "(III)J" } : Jvm.MethodName)) ∈ lw_all := lw_g (lw_at lw_m4 235 rfl) rfl
theorem q1095 : (Jvm.Cond.code ({ cls := "AskedCourt", name := "law", desc := "(III)J" } : Jvm.MethodName) prog_1_method_19_code (4 : Nat) (Option.some Jvm.ClassFile.FieldType.long)) ∈ lw_all := lw_g (lw_at lw_m4 236 rfl) rfl
theorem q1096 : (Jvm.Cond.constantLong "AskedCourt" (36 : Nat) (-9223372036854775808 : Int64)) ∈ lw_all := lw_g (lw_at lw_m4 237 rfl) rfl
theorem q1097 : (Jvm.Cond.methodLink "AskedCourt" (249 : Nat) ({ cls := "AskedCourt$State", name := "name", desc := "(II)V" } : Jvm.MethodName)) ∈ lw_all := lw_g (lw_at lw_m4 238 rfl) rfl
theorem q1111 : (Jvm.Cond.methodLink "AskedCourt" (253 : Nat) ({ cls := "AskedCourt", name := "work", desc := "(I)J" } : Jvm.MethodName)) ∈ lw_all := lw_g (lw_at lw_m5 12 rfl) rfl
theorem q1112 : (Jvm.Cond.privateMethod ({ cls := "AskedCourt", name := "work", desc := "(I)J" } : Jvm.MethodName)) ∈ lw_tbl := lw_at lw_m5 13 rfl
theorem q1113 : (Jvm.Cond.instanceMethod ({ cls := "AskedCourt", name := "work", desc := "(I)J" } : Jvm.MethodName)) ∈ lw_all := lw_g (lw_at lw_m5 14 rfl) rfl
theorem q1114 : (Jvm.Cond.codeWith ({ cls := "AskedCourt", name := "work", desc := "(I)J" } : Jvm.MethodName) prog_1_method_5_code (3 : Nat) (Option.some Jvm.ClassFile.FieldType.long) [((16 : Nat), (32 : Nat), (33 : Nat), (48 : Nat))]) ∈ lw_all := lw_g (lw_at lw_m5 15 rfl) rfl
theorem q1115 : (Jvm.Cond.classLink "AskedCourt" (48 : Nat) "AskedCourt$Trouble") ∈ lw_all := lw_g (lw_at lw_m5 16 rfl) rfl
theorem q1116 : (Jvm.Cond.methodLink "AskedCourt" (42 : Nat) ({ cls := "AskedCourt$Part", name := "of", desc := "([J)J" } : Jvm.MethodName)) ∈ lw_all := lw_g (lw_at lw_m5 17 rfl) rfl
theorem q1132 : (Jvm.Cond.static ({ cls := "AskedCourt", name := "sure", desc := "(J)J" } : Jvm.MethodName)) ∈ lw_all := lw_g (lw_at lw_m5 33 rfl) rfl
theorem q1133 : (Jvm.Cond.code ({ cls := "AskedCourt", name := "sure", desc := "(J)J" } : Jvm.MethodName) prog_1_method_2_code (2 : Nat) (Option.some Jvm.ClassFile.FieldType.long)) ∈ lw_all := lw_g (lw_at lw_m5 34 rfl) rfl
theorem q1134 : (Jvm.Cond.constantLong "AskedCourt" (5 : Nat) (1000000000000 : Int64)) ∈ lw_all := lw_g (lw_at lw_m5 35 rfl) rfl
theorem q1135 : (Jvm.Cond.constantLong "AskedCourt" (7 : Nat) (-1000000000000 : Int64)) ∈ lw_all := lw_g (lw_at lw_m5 36 rfl) rfl
theorem q1136 : (Jvm.Cond.fieldLink "AskedCourt" (9 : Nat) "AskedCourt" "TROUBLE" "LAskedCourt$Trouble;") ∈ lw_all := lw_g (lw_at lw_m5 37 rfl) rfl
theorem q1137 : (Jvm.Cond.laysStatic "AskedCourt" "TROUBLE" "LAskedCourt$Trouble;") ∈ lw_tbl := lw_at lw_m5 38 rfl
theorem q1152 : (Jvm.Cond.instanceMethod ({ cls := "AskedCourt", name := "ask", desc := "(III)I" } : Jvm.MethodName)) ∈ lw_all := lw_g (lw_at lw_m5 53 rfl) rfl
theorem q1153 : (Jvm.Cond.selects "AskedCourt" ({ cls := "AskedCourt", name := "ask", desc := "(III)I" } : Jvm.MethodName) ({ cls := "AskedCourt", name := "ask", desc := "(III)I" } : Jvm.MethodName)) ∈ lw_all := lw_g (lw_at lw_m5 54 rfl) rfl
theorem q1154 : (Jvm.Cond.code ({ cls := "AskedCourt", name := "ask", desc := "(III)I" } : Jvm.MethodName) prog_1_method_21_code (4 : Nat) (Option.some Jvm.ClassFile.FieldType.int)) ∈ lw_all := lw_g (lw_at lw_m5 55 rfl) rfl
theorem q1155 : (Jvm.Cond.methodLink "AskedCourt" (261 : Nat) ({ cls := "AskedCourt", name := "keepNow", desc := "()V" } : Jvm.MethodName)) ∈ lw_all := lw_g (lw_at lw_m5 56 rfl) rfl
theorem q1156 : (Jvm.Cond.privateMethod ({ cls := "AskedCourt", name := "keepNow", desc := "()V" } : Jvm.MethodName)) ∈ lw_tbl := lw_at lw_m5 57 rfl
theorem q1157 : (Jvm.Cond.instanceMethod ({ cls := "AskedCourt", name := "keepNow", desc := "()V" } : Jvm.MethodName)) ∈ lw_all := lw_g (lw_at lw_m5 58 rfl) rfl
theorem q1158 : (Jvm.Cond.code ({ cls := "AskedCourt", name := "keepNow", desc := "()V" } : Jvm.MethodName) prog_1_method_20_code (3 : Nat) (Option.none : Option Jvm.ClassFile.FieldType)) ∈ lw_all := lw_g (lw_at lw_m5 59 rfl) rfl
theorem q1159 : (Jvm.Cond.methodLink "AskedCourt" (257 : Nat) ({ cls := "AskedCourt$State", name := "become", desc := "(LAskedCourt$State;)V" } : Jvm.MethodName)) ∈ lw_all := lw_g (lw_at lw_m5 60 rfl) rfl
theorem q1163 : (Jvm.Cond.methodLink "AskedCourt" (264 : Nat) ({ cls := "AskedCourt$State", name := "ask", desc := "(IIIZ)Z" } : Jvm.MethodName)) ∈ lw_all := lw_g (lw_at lw_m5 64 rfl) rfl
theorem q1215 : (Jvm.Cond.instanceMethod ({ cls := "AskedCourt", name := "tell", desc := "(II)Z" } : Jvm.MethodName)) ∈ lw_all := lw_g (lw_at lw_m5 116 rfl) rfl
theorem q1216 : (Jvm.Cond.selects "AskedCourt" ({ cls := "AskedCourt", name := "tell", desc := "(II)Z" } : Jvm.MethodName) ({ cls := "AskedCourt", name := "tell", desc := "(II)Z" } : Jvm.MethodName)) ∈ lw_all := lw_g (lw_at lw_m5 117 rfl) rfl
theorem q1217 : (Jvm.Cond.code ({ cls := "AskedCourt", name := "tell", desc := "(II)Z" } : Jvm.MethodName) prog_1_method_22_code (3 : Nat) (Option.some Jvm.ClassFile.FieldType.boolean)) ∈ lw_all := lw_g (lw_at lw_m5 118 rfl) rfl
theorem q1218 : (Jvm.Cond.methodLink "AskedCourt" (267 : Nat) ({ cls := "AskedCourt", name := "isFact", desc := "(I)Z" } : Jvm.MethodName)) ∈ lw_all := lw_g (lw_at lw_m5 119 rfl) rfl
theorem q1219 : (Jvm.Cond.privateMethod ({ cls := "AskedCourt", name := "isFact", desc := "(I)Z" } : Jvm.MethodName)) ∈ lw_tbl := lw_at lw_m5 120 rfl
theorem q1220 : (Jvm.Cond.instanceMethod ({ cls := "AskedCourt", name := "isFact", desc := "(I)Z" } : Jvm.MethodName)) ∈ lw_all := lw_g (lw_at lw_m5 121 rfl) rfl
theorem q1221 : (Jvm.Cond.code ({ cls := "AskedCourt", name := "isFact", desc := "(I)Z" } : Jvm.MethodName) prog_1_method_12_code (2 : Nat) (Option.some Jvm.ClassFile.FieldType.boolean)) ∈ lw_all := lw_g (lw_at lw_m5 122 rfl) rfl
theorem q1223 : (Jvm.Cond.instanceMethod ({ cls := "AskedCourt", name := "send", desc := "(II)Z" } : Jvm.MethodName)) ∈ lw_all := lw_g (lw_at lw_m5 124 rfl) rfl
theorem q1224 : (Jvm.Cond.selects "AskedCourt" ({ cls := "AskedCourt", name := "send", desc := "(II)Z" } : Jvm.MethodName) ({ cls := "AskedCourt", name := "send", desc := "(II)Z" } : Jvm.MethodName)) ∈ lw_all := lw_g (lw_at lw_m5 125 rfl) rfl
theorem q1225 : (Jvm.Cond.code ({ cls := "AskedCourt", name := "send", desc := "(II)Z" } : Jvm.MethodName) prog_1_method_23_code (3 : Nat) (Option.some Jvm.ClassFile.FieldType.boolean)) ∈ lw_all := lw_g (lw_at lw_m5 126 rfl) rfl
theorem q1226 : (Jvm.Cond.constantLong "AskedCourt" (270 : Nat) (3 : Int64)) ∈ lw_all := lw_g (lw_at lw_m5 127 rfl) rfl
theorem q1228 : (Jvm.Cond.instanceMethod ({ cls := "AskedCourt", name := "end", desc := "()I" } : Jvm.MethodName)) ∈ lw_all := lw_g (lw_at lw_m5 129 rfl) rfl
theorem q1229 : (Jvm.Cond.selects "AskedCourt" ({ cls := "AskedCourt", name := "end", desc := "()I" } : Jvm.MethodName) ({ cls := "AskedCourt", name := "end", desc := "()I" } : Jvm.MethodName)) ∈ lw_all := lw_g (lw_at lw_m5 130 rfl) rfl
theorem q1230 : (Jvm.Cond.code ({ cls := "AskedCourt", name := "end", desc := "()I" } : Jvm.MethodName) prog_1_method_24_code (2 : Nat) (Option.some Jvm.ClassFile.FieldType.int)) ∈ lw_all := lw_g (lw_at lw_m5 131 rfl) rfl
theorem q1232 : (Jvm.Cond.instanceMethod ({ cls := "AskedCourt", name := "all", desc := "(I)I" } : Jvm.MethodName)) ∈ lw_all := lw_g (lw_at lw_m5 133 rfl) rfl
theorem q1233 : (Jvm.Cond.selects "AskedCourt" ({ cls := "AskedCourt", name := "all", desc := "(I)I" } : Jvm.MethodName) ({ cls := "AskedCourt", name := "all", desc := "(I)I" } : Jvm.MethodName)) ∈ lw_all := lw_g (lw_at lw_m5 134 rfl) rfl
theorem q1234 : (Jvm.Cond.code ({ cls := "AskedCourt", name := "all", desc := "(I)I" } : Jvm.MethodName) prog_1_method_26_code (2 : Nat) (Option.some Jvm.ClassFile.FieldType.int)) ∈ lw_all := lw_g (lw_at lw_m5 135 rfl) rfl
theorem q1235 : (Jvm.Cond.methodLink "AskedCourt" (281 : Nat) ({ cls := "AskedCourt", name := "askAllWithout", desc := "(I)V" } : Jvm.MethodName)) ∈ lw_all := lw_g (lw_at lw_m5 136 rfl) rfl
theorem q1236 : (Jvm.Cond.privateMethod ({ cls := "AskedCourt", name := "askAllWithout", desc := "(I)V" } : Jvm.MethodName)) ∈ lw_tbl := lw_at lw_m5 137 rfl
theorem q1237 : (Jvm.Cond.instanceMethod ({ cls := "AskedCourt", name := "askAllWithout", desc := "(I)V" } : Jvm.MethodName)) ∈ lw_all := lw_g (lw_at lw_m5 138 rfl) rfl
theorem q1238 : (Jvm.Cond.code ({ cls := "AskedCourt", name := "askAllWithout", desc := "(I)V" } : Jvm.MethodName) prog_1_method_25_code (2 : Nat) (Option.none : Option Jvm.ClassFile.FieldType)) ∈ lw_all := lw_g (lw_at lw_m5 139 rfl) rfl
theorem q1239 : (Jvm.Cond.methodLink "AskedCourt" (278 : Nat) ({ cls := "AskedCourt$State", name := "askAll", desc := "()V" } : Jvm.MethodName)) ∈ lw_all := lw_g (lw_at lw_m5 140 rfl) rfl
theorem q1251 : (Jvm.Cond.instanceMethod ({ cls := "AskedCourt", name := "never", desc := "(II)I" } : Jvm.MethodName)) ∈ lw_all := lw_g (lw_at lw_m5 152 rfl) rfl
theorem q1252 : (Jvm.Cond.selects "AskedCourt" ({ cls := "AskedCourt", name := "never", desc := "(II)I" } : Jvm.MethodName) ({ cls := "AskedCourt", name := "never", desc := "(II)I" } : Jvm.MethodName)) ∈ lw_all := lw_g (lw_at lw_m5 153 rfl) rfl
theorem q1253 : (Jvm.Cond.code ({ cls := "AskedCourt", name := "never", desc := "(II)I" } : Jvm.MethodName) prog_1_method_28_code (3 : Nat) (Option.some Jvm.ClassFile.FieldType.int)) ∈ lw_all := lw_g (lw_at lw_m5 154 rfl) rfl
theorem q1254 : (Jvm.Cond.methodLink "AskedCourt" (284 : Nat) ({ cls := "AskedCourt", name := "learns", desc := "(III)Z" } : Jvm.MethodName)) ∈ lw_all := lw_g (lw_at lw_m5 155 rfl) rfl
theorem q1255 : (Jvm.Cond.privateMethod ({ cls := "AskedCourt", name := "learns", desc := "(III)Z" } : Jvm.MethodName)) ∈ lw_tbl := lw_at lw_m5 156 rfl
theorem q1256 : (Jvm.Cond.instanceMethod ({ cls := "AskedCourt", name := "learns", desc := "(III)Z" } : Jvm.MethodName)) ∈ lw_all := lw_g (lw_at lw_m5 157 rfl) rfl
theorem q1257 : (Jvm.Cond.code ({ cls := "AskedCourt", name := "learns", desc := "(III)Z" } : Jvm.MethodName) prog_1_method_27_code (4 : Nat) (Option.some Jvm.ClassFile.FieldType.boolean)) ∈ lw_all := lw_g (lw_at lw_m5 158 rfl) rfl
theorem q1259 : (Jvm.Cond.instanceMethod ({ cls := "AskedCourt", name := "away", desc := "(II)I" } : Jvm.MethodName)) ∈ lw_all := lw_g (lw_at lw_m5 160 rfl) rfl
theorem q1260 : (Jvm.Cond.selects "AskedCourt" ({ cls := "AskedCourt", name := "away", desc := "(II)I" } : Jvm.MethodName) ({ cls := "AskedCourt", name := "away", desc := "(II)I" } : Jvm.MethodName)) ∈ lw_all := lw_g (lw_at lw_m5 161 rfl) rfl
theorem q1261 : (Jvm.Cond.code ({ cls := "AskedCourt", name := "away", desc := "(II)I" } : Jvm.MethodName) prog_1_method_29_code (5 : Nat) (Option.some Jvm.ClassFile.FieldType.int)) ∈ lw_all := lw_g (lw_at lw_m5 162 rfl) rfl
theorem q1262 : (Jvm.Cond.methodLink "AskedCourt" (288 : Nat) ({ cls := "java/lang/Integer", name := "bitCount", desc := "(I)I" } : Jvm.MethodName)) ∈ lw_all := lw_g (lw_at lw_m5 163 rfl) rfl
theorem q1264 : (Jvm.Cond.instanceMethod ({ cls := "AskedCourt", name := "spread", desc := "(I)I" } : Jvm.MethodName)) ∈ lw_all := lw_g (lw_at lw_m5 165 rfl) rfl
theorem q1265 : (Jvm.Cond.selects "AskedCourt" ({ cls := "AskedCourt", name := "spread", desc := "(I)I" } : Jvm.MethodName) ({ cls := "AskedCourt", name := "spread", desc := "(I)I" } : Jvm.MethodName)) ∈ lw_all := lw_g (lw_at lw_m5 166 rfl) rfl
theorem q1266 : (Jvm.Cond.code ({ cls := "AskedCourt", name := "spread", desc := "(I)I" } : Jvm.MethodName) prog_1_method_30_code (4 : Nat) (Option.some Jvm.ClassFile.FieldType.int)) ∈ lw_all := lw_g (lw_at lw_m5 167 rfl) rfl
theorem q1268 : (Jvm.Cond.instanceMethod ({ cls := "AskedCourt", name := "hint", desc := "(III)I" } : Jvm.MethodName)) ∈ lw_all := lw_g (lw_at lw_m5 169 rfl) rfl
theorem q1269 : (Jvm.Cond.selects "AskedCourt" ({ cls := "AskedCourt", name := "hint", desc := "(III)I" } : Jvm.MethodName) ({ cls := "AskedCourt", name := "hint", desc := "(III)I" } : Jvm.MethodName)) ∈ lw_all := lw_g (lw_at lw_m5 170 rfl) rfl
theorem q1270 : (Jvm.Cond.code ({ cls := "AskedCourt", name := "hint", desc := "(III)I" } : Jvm.MethodName) prog_1_method_32_code (7 : Nat) (Option.some Jvm.ClassFile.FieldType.int)) ∈ lw_all := lw_g (lw_at lw_m5 171 rfl) rfl
theorem q1271 : (Jvm.Cond.methodLink "AskedCourt" (294 : Nat) ({ cls := "AskedCourt", name := "learnsIf", desc := "(IIII)Z" } : Jvm.MethodName)) ∈ lw_all := lw_g (lw_at lw_m5 172 rfl) rfl
theorem q1272 : (Jvm.Cond.privateMethod ({ cls := "AskedCourt", name := "learnsIf", desc := "(IIII)Z" } : Jvm.MethodName)) ∈ lw_tbl := lw_at lw_m5 173 rfl
theorem q1273 : (Jvm.Cond.instanceMethod ({ cls := "AskedCourt", name := "learnsIf", desc := "(IIII)Z" } : Jvm.MethodName)) ∈ lw_all := lw_g (lw_at lw_m5 174 rfl) rfl
theorem q1274 : (Jvm.Cond.code ({ cls := "AskedCourt", name := "learnsIf", desc := "(IIII)Z" } : Jvm.MethodName) prog_1_method_31_code (5 : Nat) (Option.some Jvm.ClassFile.FieldType.boolean)) ∈ lw_all := lw_g (lw_at lw_m5 175 rfl) rfl
theorem q1276 : (Jvm.Cond.instanceMethod ({ cls := "AskedCourt", name := "unasked", desc := "(I)I" } : Jvm.MethodName)) ∈ lw_all := lw_g (lw_at lw_m5 177 rfl) rfl
theorem q1277 : (Jvm.Cond.selects "AskedCourt" ({ cls := "AskedCourt", name := "unasked", desc := "(I)I" } : Jvm.MethodName) ({ cls := "AskedCourt", name := "unasked", desc := "(I)I" } : Jvm.MethodName)) ∈ lw_all := lw_g (lw_at lw_m5 178 rfl) rfl
theorem q1278 : (Jvm.Cond.code ({ cls := "AskedCourt", name := "unasked", desc := "(I)I" } : Jvm.MethodName) prog_1_method_34_code (4 : Nat) (Option.some Jvm.ClassFile.FieldType.int)) ∈ lw_all := lw_g (lw_at lw_m5 179 rfl) rfl
theorem q1279 : (Jvm.Cond.methodLink "AskedCourt" (298 : Nat) ({ cls := "AskedCourt", name := "isAskable", desc := "(II)Z" } : Jvm.MethodName)) ∈ lw_all := lw_g (lw_at lw_m5 180 rfl) rfl
theorem q1280 : (Jvm.Cond.privateMethod ({ cls := "AskedCourt", name := "isAskable", desc := "(II)Z" } : Jvm.MethodName)) ∈ lw_tbl := lw_at lw_m5 181 rfl
theorem q1281 : (Jvm.Cond.instanceMethod ({ cls := "AskedCourt", name := "isAskable", desc := "(II)Z" } : Jvm.MethodName)) ∈ lw_all := lw_g (lw_at lw_m5 182 rfl) rfl
theorem q1282 : (Jvm.Cond.code ({ cls := "AskedCourt", name := "isAskable", desc := "(II)Z" } : Jvm.MethodName) prog_1_method_33_code (4 : Nat) (Option.some Jvm.ClassFile.FieldType.boolean)) ∈ lw_all := lw_g (lw_at lw_m5 183 rfl) rfl
theorem q1284 : (Jvm.Cond.instanceMethod ({ cls := "AskedCourt", name := "inRoom", desc := "(II)I" } : Jvm.MethodName)) ∈ lw_all := lw_g (lw_at lw_m5 185 rfl) rfl
theorem q1285 : (Jvm.Cond.selects "AskedCourt" ({ cls := "AskedCourt", name := "inRoom", desc := "(II)I" } : Jvm.MethodName) ({ cls := "AskedCourt", name := "inRoom", desc := "(II)I" } : Jvm.MethodName)) ∈ lw_all := lw_g (lw_at lw_m5 186 rfl) rfl
theorem q1286 : (Jvm.Cond.code ({ cls := "AskedCourt", name := "inRoom", desc := "(II)I" } : Jvm.MethodName) prog_1_method_36_code (3 : Nat) (Option.some Jvm.ClassFile.FieldType.int)) ∈ lw_all := lw_g (lw_at lw_m5 187 rfl) rfl
theorem q1287 : (Jvm.Cond.methodLink "AskedCourt" (304 : Nat) ({ cls := "AskedCourt", name := "sumIn", desc := "(II)I" } : Jvm.MethodName)) ∈ lw_all := lw_g (lw_at lw_m5 188 rfl) rfl
theorem q1288 : (Jvm.Cond.privateMethod ({ cls := "AskedCourt", name := "sumIn", desc := "(II)I" } : Jvm.MethodName)) ∈ lw_tbl := lw_at lw_m5 189 rfl
theorem q1289 : (Jvm.Cond.instanceMethod ({ cls := "AskedCourt", name := "sumIn", desc := "(II)I" } : Jvm.MethodName)) ∈ lw_all := lw_g (lw_at lw_m5 190 rfl) rfl
theorem q1290 : (Jvm.Cond.code ({ cls := "AskedCourt", name := "sumIn", desc := "(II)I" } : Jvm.MethodName) prog_1_method_35_code (3 : Nat) (Option.some Jvm.ClassFile.FieldType.int)) ∈ lw_all := lw_g (lw_at lw_m5 191 rfl) rfl
theorem q1291 : (Jvm.Cond.methodLink "AskedCourt" (301 : Nat) ({ cls := "AskedCourt$State", name := "sum", desc := "()I" } : Jvm.MethodName)) ∈ lw_all := lw_g (lw_at lw_m5 192 rfl) rfl
theorem q1293 : (Jvm.Cond.instanceMethod ({ cls := "AskedCourt", name := "bestRoom", desc := "(I)I" } : Jvm.MethodName)) ∈ lw_all := lw_g (lw_at lw_m5 194 rfl) rfl
theorem q1294 : (Jvm.Cond.selects "AskedCourt" ({ cls := "AskedCourt", name := "bestRoom", desc := "(I)I" } : Jvm.MethodName) ({ cls := "AskedCourt", name := "bestRoom", desc := "(I)I" } : Jvm.MethodName)) ∈ lw_all := lw_g (lw_at lw_m5 195 rfl) rfl
theorem q1295 : (Jvm.Cond.code ({ cls := "AskedCourt", name := "bestRoom", desc := "(I)I" } : Jvm.MethodName) prog_1_method_37_code (4 : Nat) (Option.some Jvm.ClassFile.FieldType.int)) ∈ lw_all := lw_g (lw_at lw_m5 196 rfl) rfl
theorem q1297 : (Jvm.Cond.instanceMethod ({ cls := "AskedCourt", name := "way", desc := "(IIII)I" } : Jvm.MethodName)) ∈ lw_all := lw_g (lw_at lw_m5 198 rfl) rfl
theorem q1298 : (Jvm.Cond.selects "AskedCourt" ({ cls := "AskedCourt", name := "way", desc := "(IIII)I" } : Jvm.MethodName) ({ cls := "AskedCourt", name := "way", desc := "(IIII)I" } : Jvm.MethodName)) ∈ lw_all := lw_g (lw_at lw_m5 199 rfl) rfl
theorem q1299 : (Jvm.Cond.code ({ cls := "AskedCourt", name := "way", desc := "(IIII)I" } : Jvm.MethodName) prog_1_method_42_code (5 : Nat) (Option.some Jvm.ClassFile.FieldType.int)) ∈ lw_all := lw_g (lw_at lw_m5 200 rfl) rfl
theorem q1300 : (Jvm.Cond.methodLink "AskedCourt" (321 : Nat) ({ cls := "AskedCourt", name := "isAsked", desc := "(IIII)Z" } : Jvm.MethodName)) ∈ lw_all := lw_g (lw_at lw_m5 201 rfl) rfl
theorem q1301 : (Jvm.Cond.privateMethod ({ cls := "AskedCourt", name := "isAsked", desc := "(IIII)Z" } : Jvm.MethodName)) ∈ lw_tbl := lw_at lw_m5 202 rfl
theorem q1302 : (Jvm.Cond.instanceMethod ({ cls := "AskedCourt", name := "isAsked", desc := "(IIII)Z" } : Jvm.MethodName)) ∈ lw_all := lw_g (lw_at lw_m5 203 rfl) rfl
theorem q1303 : (Jvm.Cond.code ({ cls := "AskedCourt", name := "isAsked", desc := "(IIII)Z" } : Jvm.MethodName) prog_1_method_40_code (5 : Nat) (Option.some Jvm.ClassFile.FieldType.boolean)) ∈ lw_all := lw_g (lw_at lw_m5 204 rfl) rfl
theorem q1304 : (Jvm.Cond.constantLong "AskedCourt" (316 : Nat) (2 : Int64)) ∈ lw_all := lw_g (lw_at lw_m5 205 rfl) rfl
theorem q1305 : (Jvm.Cond.methodLink "AskedCourt" (324 : Nat) ({ cls := "AskedCourt", name := "layWay", desc := "(IIII)V" } : Jvm.MethodName)) ∈ lw_all := lw_g (lw_at lw_m5 206 rfl) rfl
theorem q1306 : (Jvm.Cond.privateMethod ({ cls := "AskedCourt", name := "layWay", desc := "(IIII)V" } : Jvm.MethodName)) ∈ lw_tbl := lw_at lw_m5 207 rfl
theorem q1307 : (Jvm.Cond.instanceMethod ({ cls := "AskedCourt", name := "layWay", desc := "(IIII)V" } : Jvm.MethodName)) ∈ lw_all := lw_g (lw_at lw_m5 208 rfl) rfl
theorem q1308 : (Jvm.Cond.code ({ cls := "AskedCourt", name := "layWay", desc := "(IIII)V" } : Jvm.MethodName) prog_1_method_41_code (6 : Nat) (Option.none : Option Jvm.ClassFile.FieldType)) ∈ lw_all := lw_g (lw_at lw_m5 209 rfl) rfl
theorem q1309 : (Jvm.Cond.methodLink "AskedCourt" (312 : Nat) ({ cls := "AskedCourt", name := "ways", desc := "(LAskedCourt$State;IIIII)Z" } : Jvm.MethodName)) ∈ lw_all := lw_g (lw_at lw_m5 210 rfl) rfl
theorem q1310 : (Jvm.Cond.privateMethod ({ cls := "AskedCourt", name := "ways", desc := "(LAskedCourt$State;IIIII)Z" } : Jvm.MethodName)) ∈ lw_tbl := lw_at lw_m5 211 rfl
theorem q1311 : (Jvm.Cond.instanceMethod ({ cls := "AskedCourt", name := "ways", desc := "(LAskedCourt$State;IIIII)Z" } : Jvm.MethodName)) ∈ lw_all := lw_g (lw_at lw_m5 212 rfl) rfl
theorem q1312 : (Jvm.Cond.code ({ cls := "AskedCourt", name := "ways", desc := "(LAskedCourt$State;IIIII)Z" } : Jvm.MethodName) prog_1_method_39_code (11 : Nat) (Option.some Jvm.ClassFile.FieldType.boolean)) ∈ lw_all := lw_g (lw_at lw_m5 213 rfl) rfl
theorem q1313 : (Jvm.Cond.methodLink "AskedCourt" (308 : Nat) ({ cls := "AskedCourt", name := "isWay", desc := "(LAskedCourt$State;III)Z" } : Jvm.MethodName)) ∈ lw_all := lw_g (lw_at lw_m5 214 rfl) rfl
theorem q1314 : (Jvm.Cond.privateMethod ({ cls := "AskedCourt", name := "isWay", desc := "(LAskedCourt$State;III)Z" } : Jvm.MethodName)) ∈ lw_tbl := lw_at lw_m5 215 rfl
theorem q1315 : (Jvm.Cond.instanceMethod ({ cls := "AskedCourt", name := "isWay", desc := "(LAskedCourt$State;III)Z" } : Jvm.MethodName)) ∈ lw_all := lw_g (lw_at lw_m5 216 rfl) rfl
theorem q1316 : (Jvm.Cond.code ({ cls := "AskedCourt", name := "isWay", desc := "(LAskedCourt$State;III)Z" } : Jvm.MethodName) prog_1_method_38_code (6 : Nat) (Option.some Jvm.ClassFile.FieldType.boolean)) ∈ lw_all := lw_g (lw_at lw_m5 217 rfl) rfl
theorem q1318 : (Jvm.Cond.instanceMethod ({ cls := "AskedCourt", name := "step", desc := "(IIIII)I" } : Jvm.MethodName)) ∈ lw_all := lw_g (lw_at lw_m5 219 rfl) rfl
theorem q1319 : (Jvm.Cond.selects "AskedCourt" ({ cls := "AskedCourt", name := "step", desc := "(IIIII)I" } : Jvm.MethodName) ({ cls := "AskedCourt", name := "step", desc := "(IIIII)I" } : Jvm.MethodName)) ∈ lw_all := lw_g (lw_at lw_m5 220 rfl) rfl
theorem q1320 : (Jvm.Cond.code ({ cls := "AskedCourt", name := "step", desc := "(IIIII)I" } : Jvm.MethodName) prog_1_method_43_code (6 : Nat) (Option.some Jvm.ClassFile.FieldType.int)) ∈ lw_all := lw_g (lw_at lw_m5 221 rfl) rfl
theorem q1322 : (Jvm.Cond.instanceMethod ({ cls := "AskedCourt", name := "care", desc := "(I)I" } : Jvm.MethodName)) ∈ lw_all := lw_g (lw_at lw_m5 223 rfl) rfl
theorem q1323 : (Jvm.Cond.selects "AskedCourt" ({ cls := "AskedCourt", name := "care", desc := "(I)I" } : Jvm.MethodName) ({ cls := "AskedCourt", name := "care", desc := "(I)I" } : Jvm.MethodName)) ∈ lw_all := lw_g (lw_at lw_m5 224 rfl) rfl
theorem q1324 : (Jvm.Cond.code ({ cls := "AskedCourt", name := "care", desc := "(I)I" } : Jvm.MethodName) prog_1_method_45_code (5 : Nat) (Option.some Jvm.ClassFile.FieldType.int)) ∈ lw_all := lw_g (lw_at lw_m5 225 rfl) rfl
theorem q1325 : (Jvm.Cond.methodLink "AskedCourt" (334 : Nat) ({ cls := "AskedCourt", name := "isTrap", desc := "(III)Z" } : Jvm.MethodName)) ∈ lw_all := lw_g (lw_at lw_m5 226 rfl) rfl
theorem q1326 : (Jvm.Cond.privateMethod ({ cls := "AskedCourt", name := "isTrap", desc := "(III)Z" } : Jvm.MethodName)) ∈ lw_tbl := lw_at lw_m5 227 rfl
theorem q1327 : (Jvm.Cond.instanceMethod ({ cls := "AskedCourt", name := "isTrap", desc := "(III)Z" } : Jvm.MethodName)) ∈ lw_all := lw_g (lw_at lw_m5 228 rfl) rfl
theorem q1328 : (Jvm.Cond.code ({ cls := "AskedCourt", name := "isTrap", desc := "(III)Z" } : Jvm.MethodName) prog_1_method_44_code (6 : Nat) (Option.some Jvm.ClassFile.FieldType.boolean)) ∈ lw_all := lw_g (lw_at lw_m5 229 rfl) rfl
theorem q1329 : (Jvm.Cond.methodLink "AskedCourt" (328 : Nat) ({ cls := "AskedCourt$Kind", name := "asks", desc := "(LAskedCourt$Question;)I" } : Jvm.MethodName)) ∈ lw_all := lw_g (lw_at lw_m5 230 rfl) rfl
theorem q1330 : (Jvm.Cond.methodLink "AskedCourt" (331 : Nat) ({ cls := "AskedCourt$State", name := "areTogether", desc := "(II)Z" } : Jvm.MethodName)) ∈ lw_all := lw_g (lw_at lw_m5 231 rfl) rfl
theorem q1332 : (Jvm.Cond.instanceMethod ({ cls := "AskedCourt", name := "best", desc := "(III)I" } : Jvm.MethodName)) ∈ lw_all := lw_g (lw_at lw_m5 233 rfl) rfl
theorem q1333 : (Jvm.Cond.selects "AskedCourt" ({ cls := "AskedCourt", name := "best", desc := "(III)I" } : Jvm.MethodName) ({ cls := "AskedCourt", name := "best", desc := "(III)I" } : Jvm.MethodName)) ∈ lw_all := lw_g (lw_at lw_m5 234 rfl) rfl
theorem q1334 : (Jvm.Cond.code ({ cls := "AskedCourt", name := "best", desc := "(III)I" } : Jvm.MethodName) prog_1_method_47_code (4 : Nat) (Option.some Jvm.ClassFile.FieldType.int)) ∈ lw_all := lw_g (lw_at lw_m5 235 rfl) rfl
theorem q1335 : (Jvm.Cond.methodLink "AskedCourt" (340 : Nat) ({ cls := "AskedCourt", name := "asks", desc := "(LAskedCourt$State;III)V" } : Jvm.MethodName)) ∈ lw_all := lw_g (lw_at lw_m5 236 rfl) rfl
theorem q1336 : (Jvm.Cond.privateMethod ({ cls := "AskedCourt", name := "asks", desc := "(LAskedCourt$State;III)V" } : Jvm.MethodName)) ∈ lw_tbl := lw_at lw_m5 237 rfl
theorem q1337 : (Jvm.Cond.instanceMethod ({ cls := "AskedCourt", name := "asks", desc := "(LAskedCourt$State;III)V" } : Jvm.MethodName)) ∈ lw_all := lw_g (lw_at lw_m5 238 rfl) rfl
theorem q1338 : (Jvm.Cond.code ({ cls := "AskedCourt", name := "asks", desc := "(LAskedCourt$State;III)V" } : Jvm.MethodName) prog_1_method_46_code (8 : Nat) (Option.none : Option Jvm.ClassFile.FieldType)) ∈ lw_all := lw_g (lw_at lw_m5 239 rfl) rfl
theorem q1340 : (Jvm.Cond.instanceMethod ({ cls := "AskedCourt", name := "rests", desc := "(II)I" } : Jvm.MethodName)) ∈ lw_all := lw_g (lw_at lw_m6 1 rfl) rfl
theorem q1341 : (Jvm.Cond.selects "AskedCourt" ({ cls := "AskedCourt", name := "rests", desc := "(II)I" } : Jvm.MethodName) ({ cls := "AskedCourt", name := "rests", desc := "(II)I" } : Jvm.MethodName)) ∈ lw_all := lw_g (lw_at lw_m6 2 rfl) rfl
theorem q1342 : (Jvm.Cond.code ({ cls := "AskedCourt", name := "rests", desc := "(II)I" } : Jvm.MethodName) prog_1_method_53_code (3 : Nat) (Option.some Jvm.ClassFile.FieldType.int)) ∈ lw_all := lw_g (lw_at lw_m6 3 rfl) rfl
theorem q1343 : (Jvm.Cond.methodLink "AskedCourt" (349 : Nat) ({ cls := "AskedCourt", name := "isDuel", desc := "(II)Z" } : Jvm.MethodName)) ∈ lw_all := lw_g (lw_at lw_m6 4 rfl) rfl
theorem q1344 : (Jvm.Cond.privateMethod ({ cls := "AskedCourt", name := "isDuel", desc := "(II)Z" } : Jvm.MethodName)) ∈ lw_tbl := lw_at lw_m6 5 rfl
theorem q1345 : (Jvm.Cond.instanceMethod ({ cls := "AskedCourt", name := "isDuel", desc := "(II)Z" } : Jvm.MethodName)) ∈ lw_all := lw_g (lw_at lw_m6 6 rfl) rfl
theorem q1346 : (Jvm.Cond.code ({ cls := "AskedCourt", name := "isDuel", desc := "(II)Z" } : Jvm.MethodName) prog_1_method_52_code (3 : Nat) (Option.some Jvm.ClassFile.FieldType.boolean)) ∈ lw_all := lw_g (lw_at lw_m6 7 rfl) rfl
theorem q1347 : (Jvm.Cond.methodLink "AskedCourt" (352 : Nat) ({ cls := "AskedCourt", name := "layDuel", desc := "(II)V" } : Jvm.MethodName)) ∈ lw_all := lw_g (lw_at lw_m6 8 rfl) rfl
theorem q1348 : (Jvm.Cond.privateMethod ({ cls := "AskedCourt", name := "layDuel", desc := "(II)V" } : Jvm.MethodName)) ∈ lw_tbl := lw_at lw_m6 9 rfl
theorem q1349 : (Jvm.Cond.instanceMethod ({ cls := "AskedCourt", name := "layDuel", desc := "(II)V" } : Jvm.MethodName)) ∈ lw_all := lw_g (lw_at lw_m6 10 rfl) rfl
theorem q1350 : (Jvm.Cond.code ({ cls := "AskedCourt", name := "layDuel", desc := "(II)V" } : Jvm.MethodName) prog_1_method_49_code (6 : Nat) (Option.none : Option Jvm.ClassFile.FieldType)) ∈ lw_all := lw_g (lw_at lw_m6 11 rfl) rfl
theorem q1351 : (Jvm.Cond.methodLink "AskedCourt" (343 : Nat) ({ cls := "AskedCourt", name := "ends", desc := "(I)I" } : Jvm.MethodName)) ∈ lw_all := lw_g (lw_at lw_m6 12 rfl) rfl
theorem q1352 : (Jvm.Cond.privateMethod ({ cls := "AskedCourt", name := "ends", desc := "(I)I" } : Jvm.MethodName)) ∈ lw_tbl := lw_at lw_m6 13 rfl
theorem q1353 : (Jvm.Cond.instanceMethod ({ cls := "AskedCourt", name := "ends", desc := "(I)I" } : Jvm.MethodName)) ∈ lw_all := lw_g (lw_at lw_m6 14 rfl) rfl
theorem q1354 : (Jvm.Cond.code ({ cls := "AskedCourt", name := "ends", desc := "(I)I" } : Jvm.MethodName) prog_1_method_48_code (2 : Nat) (Option.some Jvm.ClassFile.FieldType.int)) ∈ lw_all := lw_g (lw_at lw_m6 15 rfl) rfl
theorem q1355 : (Jvm.Cond.methodLink "AskedCourt" (355 : Nat) ({ cls := "AskedCourt", name := "restOf", desc := "(I)I" } : Jvm.MethodName)) ∈ lw_all := lw_g (lw_at lw_m6 16 rfl) rfl
theorem q1356 : (Jvm.Cond.privateMethod ({ cls := "AskedCourt", name := "restOf", desc := "(I)I" } : Jvm.MethodName)) ∈ lw_tbl := lw_at lw_m6 17 rfl
theorem q1357 : (Jvm.Cond.instanceMethod ({ cls := "AskedCourt", name := "restOf", desc := "(I)I" } : Jvm.MethodName)) ∈ lw_all := lw_g (lw_at lw_m6 18 rfl) rfl
theorem q1358 : (Jvm.Cond.code ({ cls := "AskedCourt", name := "restOf", desc := "(I)I" } : Jvm.MethodName) prog_1_method_51_code (5 : Nat) (Option.some Jvm.ClassFile.FieldType.int)) ∈ lw_all := lw_g (lw_at lw_m6 19 rfl) rfl
theorem q1359 : (Jvm.Cond.methodLink "AskedCourt" (346 : Nat) ({ cls := "AskedCourt", name := "isRest", desc := "(II)Z" } : Jvm.MethodName)) ∈ lw_all := lw_g (lw_at lw_m6 20 rfl) rfl
theorem q1360 : (Jvm.Cond.privateMethod ({ cls := "AskedCourt", name := "isRest", desc := "(II)Z" } : Jvm.MethodName)) ∈ lw_tbl := lw_at lw_m6 21 rfl
theorem q1361 : (Jvm.Cond.instanceMethod ({ cls := "AskedCourt", name := "isRest", desc := "(II)Z" } : Jvm.MethodName)) ∈ lw_all := lw_g (lw_at lw_m6 22 rfl) rfl
theorem q1362 : (Jvm.Cond.code ({ cls := "AskedCourt", name := "isRest", desc := "(II)Z" } : Jvm.MethodName) prog_1_method_50_code (5 : Nat) (Option.some Jvm.ClassFile.FieldType.boolean)) ∈ lw_all := lw_g (lw_at lw_m6 23 rfl) rfl
theorem q1364 : (Jvm.Cond.instanceMethod ({ cls := "AskedCourt", name := "rest", desc := "(III)I" } : Jvm.MethodName)) ∈ lw_all := lw_g (lw_at lw_m6 25 rfl) rfl
theorem q1365 : (Jvm.Cond.selects "AskedCourt" ({ cls := "AskedCourt", name := "rest", desc := "(III)I" } : Jvm.MethodName) ({ cls := "AskedCourt", name := "rest", desc := "(III)I" } : Jvm.MethodName)) ∈ lw_all := lw_g (lw_at lw_m6 26 rfl) rfl
theorem q1366 : (Jvm.Cond.code ({ cls := "AskedCourt", name := "rest", desc := "(III)I" } : Jvm.MethodName) prog_1_method_54_code (4 : Nat) (Option.some Jvm.ClassFile.FieldType.int)) ∈ lw_all := lw_g (lw_at lw_m6 27 rfl) rfl
theorem q1368 : (Jvm.Cond.instanceMethod ({ cls := "AskedCourt", name := "slipped", desc := "(I)I" } : Jvm.MethodName)) ∈ lw_all := lw_g (lw_at lw_m6 29 rfl) rfl
theorem q1369 : (Jvm.Cond.selects "AskedCourt" ({ cls := "AskedCourt", name := "slipped", desc := "(I)I" } : Jvm.MethodName) ({ cls := "AskedCourt", name := "slipped", desc := "(I)I" } : Jvm.MethodName)) ∈ lw_all := lw_g (lw_at lw_m6 30 rfl) rfl
theorem q1370 : (Jvm.Cond.code ({ cls := "AskedCourt", name := "slipped", desc := "(I)I" } : Jvm.MethodName) prog_1_method_56_code (2 : Nat) (Option.some Jvm.ClassFile.FieldType.int)) ∈ lw_all := lw_g (lw_at lw_m6 31 rfl) rfl
theorem q1371 : (Jvm.Cond.methodLink "AskedCourt" (364 : Nat) ({ cls := "AskedCourt", name := "layTalk", desc := "(I)V" } : Jvm.MethodName)) ∈ lw_all := lw_g (lw_at lw_m6 32 rfl) rfl
theorem q1372 : (Jvm.Cond.privateMethod ({ cls := "AskedCourt", name := "layTalk", desc := "(I)V" } : Jvm.MethodName)) ∈ lw_tbl := lw_at lw_m6 33 rfl
theorem q1373 : (Jvm.Cond.instanceMethod ({ cls := "AskedCourt", name := "layTalk", desc := "(I)V" } : Jvm.MethodName)) ∈ lw_all := lw_g (lw_at lw_m6 34 rfl) rfl
theorem q1374 : (Jvm.Cond.code ({ cls := "AskedCourt", name := "layTalk", desc := "(I)V" } : Jvm.MethodName) prog_1_method_55_code (3 : Nat) (Option.none : Option Jvm.ClassFile.FieldType)) ∈ lw_all := lw_g (lw_at lw_m6 35 rfl) rfl
theorem q1375 : (Jvm.Cond.methodLink "AskedCourt" (358 : Nat) ({ cls := "AskedCourt$State", name := "talk", desc := "(IZ)V" } : Jvm.MethodName)) ∈ lw_all := lw_g (lw_at lw_m6 36 rfl) rfl
theorem q1380 : (Jvm.Cond.instanceMethod ({ cls := "AskedCourt", name := "behind", desc := "(II)I" } : Jvm.MethodName)) ∈ lw_all := lw_g (lw_at lw_m6 41 rfl) rfl
theorem q1381 : (Jvm.Cond.selects "AskedCourt" ({ cls := "AskedCourt", name := "behind", desc := "(II)I" } : Jvm.MethodName) ({ cls := "AskedCourt", name := "behind", desc := "(II)I" } : Jvm.MethodName)) ∈ lw_all := lw_g (lw_at lw_m6 42 rfl) rfl
theorem q1382 : (Jvm.Cond.code ({ cls := "AskedCourt", name := "behind", desc := "(II)I" } : Jvm.MethodName) prog_1_method_57_code (3 : Nat) (Option.some Jvm.ClassFile.FieldType.int)) ∈ lw_all := lw_g (lw_at lw_m6 43 rfl) rfl
theorem q1384 : (Jvm.Cond.instanceMethod ({ cls := "AskedCourt", name := "note", desc := "(IIIZ)I" } : Jvm.MethodName)) ∈ lw_all := lw_g (lw_at lw_m6 45 rfl) rfl
theorem q1385 : (Jvm.Cond.selects "AskedCourt" ({ cls := "AskedCourt", name := "note", desc := "(IIIZ)I" } : Jvm.MethodName) ({ cls := "AskedCourt", name := "note", desc := "(IIIZ)I" } : Jvm.MethodName)) ∈ lw_all := lw_g (lw_at lw_m6 46 rfl) rfl
theorem q1386 : (Jvm.Cond.code ({ cls := "AskedCourt", name := "note", desc := "(IIIZ)I" } : Jvm.MethodName) prog_1_method_59_code (5 : Nat) (Option.some Jvm.ClassFile.FieldType.int)) ∈ lw_all := lw_g (lw_at lw_m6 47 rfl) rfl
theorem q1387 : (Jvm.Cond.classLink "AskedCourt" (371 : Nat) "AskedCourt$Note") ∈ lw_all := lw_g (lw_at lw_m6 48 rfl) rfl
theorem q1389 : (Jvm.Cond.methodLink "AskedCourt" (373 : Nat) ({ cls := "AskedCourt$Note", name := "<init>", desc := "(IIIZ)V" } : Jvm.MethodName)) ∈ lw_all := lw_g (lw_at lw_m6 50 rfl) rfl
theorem q1409 : (Jvm.Cond.methodLink "AskedCourt" (376 : Nat) ({ cls := "AskedCourt", name := "add", desc := "(LAskedCourt$Leaf;)I" } : Jvm.MethodName)) ∈ lw_all := lw_g (lw_at lw_m6 70 rfl) rfl
theorem q1410 : (Jvm.Cond.privateMethod ({ cls := "AskedCourt", name := "add", desc := "(LAskedCourt$Leaf;)I" } : Jvm.MethodName)) ∈ lw_tbl := lw_at lw_m6 71 rfl
theorem q1411 : (Jvm.Cond.instanceMethod ({ cls := "AskedCourt", name := "add", desc := "(LAskedCourt$Leaf;)I" } : Jvm.MethodName)) ∈ lw_all := lw_g (lw_at lw_m6 72 rfl) rfl
theorem q1412 : (Jvm.Cond.code ({ cls := "AskedCourt", name := "add", desc := "(LAskedCourt$Leaf;)I" } : Jvm.MethodName) prog_1_method_58_code (2 : Nat) (Option.some Jvm.ClassFile.FieldType.int)) ∈ lw_all := lw_g (lw_at lw_m6 73 rfl) rfl
theorem q1413 : (Jvm.Cond.methodLink "AskedCourt" (367 : Nat) ({ cls := "java/util/ArrayList", name := "add", desc := "(Ljava/lang/Object;)Z" } : Jvm.MethodName)) ∈ lw_all := lw_g (lw_at lw_m6 74 rfl) rfl
theorem q1415 : (Jvm.Cond.instanceMethod ({ cls := "AskedCourt", name := "strike", desc := "(I)I" } : Jvm.MethodName)) ∈ lw_all := lw_g (lw_at lw_m6 76 rfl) rfl
theorem q1416 : (Jvm.Cond.selects "AskedCourt" ({ cls := "AskedCourt", name := "strike", desc := "(I)I" } : Jvm.MethodName) ({ cls := "AskedCourt", name := "strike", desc := "(I)I" } : Jvm.MethodName)) ∈ lw_all := lw_g (lw_at lw_m6 77 rfl) rfl
theorem q1417 : (Jvm.Cond.code ({ cls := "AskedCourt", name := "strike", desc := "(I)I" } : Jvm.MethodName) prog_1_method_60_code (2 : Nat) (Option.some Jvm.ClassFile.FieldType.int)) ∈ lw_all := lw_g (lw_at lw_m6 78 rfl) rfl
theorem q1418 : (Jvm.Cond.classLink "AskedCourt" (379 : Nat) "AskedCourt$Strike") ∈ lw_all := lw_g (lw_at lw_m6 79 rfl) rfl
theorem q1420 : (Jvm.Cond.methodLink "AskedCourt" (381 : Nat) ({ cls := "AskedCourt$Strike", name := "<init>", desc := "(I)V" } : Jvm.MethodName)) ∈ lw_all := lw_g (lw_at lw_m6 81 rfl) rfl
theorem q1429 : (Jvm.Cond.instanceMethod ({ cls := "AskedCourt", name := "known", desc := "(I)Z" } : Jvm.MethodName)) ∈ lw_all := lw_g (lw_at lw_m6 90 rfl) rfl
theorem q1430 : (Jvm.Cond.selects "AskedCourt" ({ cls := "AskedCourt", name := "known", desc := "(I)Z" } : Jvm.MethodName) ({ cls := "AskedCourt", name := "known", desc := "(I)Z" } : Jvm.MethodName)) ∈ lw_all := lw_g (lw_at lw_m6 91 rfl) rfl
theorem q1431 : (Jvm.Cond.code ({ cls := "AskedCourt", name := "known", desc := "(I)Z" } : Jvm.MethodName) prog_1_method_61_code (2 : Nat) (Option.some Jvm.ClassFile.FieldType.boolean)) ∈ lw_all := lw_g (lw_at lw_m6 92 rfl) rfl
theorem q1432 : (Jvm.Cond.constantLong "AskedCourt" (382 : Nat) (-1 : Int64)) ∈ lw_all := lw_g (lw_at lw_m6 93 rfl) rfl
theorem q1434 : (Jvm.Cond.instanceMethod ({ cls := "AskedCourt", name := "knew", desc := "(I)I" } : Jvm.MethodName)) ∈ lw_all := lw_g (lw_at lw_m6 95 rfl) rfl
theorem q1435 : (Jvm.Cond.selects "AskedCourt" ({ cls := "AskedCourt", name := "knew", desc := "(I)I" } : Jvm.MethodName) ({ cls := "AskedCourt", name := "knew", desc := "(I)I" } : Jvm.MethodName)) ∈ lw_all := lw_g (lw_at lw_m6 96 rfl) rfl
theorem q1436 : (Jvm.Cond.code ({ cls := "AskedCourt", name := "knew", desc := "(I)I" } : Jvm.MethodName) prog_1_method_65_code (5 : Nat) (Option.some Jvm.ClassFile.FieldType.int)) ∈ lw_all := lw_g (lw_at lw_m6 97 rfl) rfl
theorem q1437 : (Jvm.Cond.methodLink "AskedCourt" (384 : Nat) ({ cls := "AskedCourt", name := "knownMany", desc := "()I" } : Jvm.MethodName)) ∈ lw_all := lw_g (lw_at lw_m6 98 rfl) rfl
theorem q1438 : (Jvm.Cond.privateMethod ({ cls := "AskedCourt", name := "knownMany", desc := "()I" } : Jvm.MethodName)) ∈ lw_tbl := lw_at lw_m6 99 rfl
theorem q1439 : (Jvm.Cond.instanceMethod ({ cls := "AskedCourt", name := "knownMany", desc := "()I" } : Jvm.MethodName)) ∈ lw_all := lw_g (lw_at lw_m6 100 rfl) rfl
theorem q1440 : (Jvm.Cond.code ({ cls := "AskedCourt", name := "knownMany", desc := "()I" } : Jvm.MethodName) prog_1_method_62_code (1 : Nat) (Option.some Jvm.ClassFile.FieldType.int)) ∈ lw_all := lw_g (lw_at lw_m6 101 rfl) rfl
theorem q1441 : (Jvm.Cond.classLink "AskedCourt" (387 : Nat) "AskedCourt$Leaf") ∈ lw_all := lw_g (lw_at lw_m6 102 rfl) rfl
theorem q1442 : (Jvm.Cond.methodLink "AskedCourt" (399 : Nat) ({ cls := "AskedCourt$Leaf", name := "struck", desc := "()I" } : Jvm.MethodName)) ∈ lw_all := lw_g (lw_at lw_m6 103 rfl) rfl
theorem q1450 : (Jvm.Cond.methodLink "AskedCourt" (402 : Nat) ({ cls := "AskedCourt", name := "isKnew", desc := "(II)Z" } : Jvm.MethodName)) ∈ lw_all := lw_g (lw_at lw_m6 111 rfl) rfl
theorem q1451 : (Jvm.Cond.privateMethod ({ cls := "AskedCourt", name := "isKnew", desc := "(II)Z" } : Jvm.MethodName)) ∈ lw_tbl := lw_at lw_m6 112 rfl
theorem q1452 : (Jvm.Cond.instanceMethod ({ cls := "AskedCourt", name := "isKnew", desc := "(II)Z" } : Jvm.MethodName)) ∈ lw_all := lw_g (lw_at lw_m6 113 rfl) rfl
theorem q1453 : (Jvm.Cond.code ({ cls := "AskedCourt", name := "isKnew", desc := "(II)Z" } : Jvm.MethodName) prog_1_method_64_code (4 : Nat) (Option.some Jvm.ClassFile.FieldType.boolean)) ∈ lw_all := lw_g (lw_at lw_m6 114 rfl) rfl
theorem q1454 : (Jvm.Cond.methodLink "AskedCourt" (396 : Nat) ({ cls := "AskedCourt", name := "areSo", desc := "(I)Z" } : Jvm.MethodName)) ∈ lw_all := lw_g (lw_at lw_m6 115 rfl) rfl
theorem q1455 : (Jvm.Cond.privateMethod ({ cls := "AskedCourt", name := "areSo", desc := "(I)Z" } : Jvm.MethodName)) ∈ lw_tbl := lw_at lw_m6 116 rfl
theorem q1456 : (Jvm.Cond.instanceMethod ({ cls := "AskedCourt", name := "areSo", desc := "(I)Z" } : Jvm.MethodName)) ∈ lw_all := lw_g (lw_at lw_m6 117 rfl) rfl
theorem q1457 : (Jvm.Cond.code ({ cls := "AskedCourt", name := "areSo", desc := "(I)Z" } : Jvm.MethodName) prog_1_method_63_code (3 : Nat) (Option.some Jvm.ClassFile.FieldType.boolean)) ∈ lw_all := lw_g (lw_at lw_m6 118 rfl) rfl
theorem q1458 : (Jvm.Cond.methodLink "AskedCourt" (389 : Nat) ({ cls := "AskedCourt$Leaf", name := "behind", desc := "()I" } : Jvm.MethodName)) ∈ lw_all := lw_g (lw_at lw_m6 119 rfl) rfl
theorem q1466 : (Jvm.Cond.methodLink "AskedCourt" (392 : Nat) ({ cls := "AskedCourt$Leaf", name := "isSo", desc := "(LAskedCourt$State;)Z" } : Jvm.MethodName)) ∈ lw_all := lw_g (lw_at lw_m6 127 rfl) rfl
theorem q1475 : (Jvm.Cond.instanceMethod ({ cls := "AskedCourt", name := "chance", desc := "(III)I" } : Jvm.MethodName)) ∈ lw_all := lw_g (lw_at lw_m6 136 rfl) rfl
theorem q1476 : (Jvm.Cond.selects "AskedCourt" ({ cls := "AskedCourt", name := "chance", desc := "(III)I" } : Jvm.MethodName) ({ cls := "AskedCourt", name := "chance", desc := "(III)I" } : Jvm.MethodName)) ∈ lw_all := lw_g (lw_at lw_m6 137 rfl) rfl
theorem q1477 : (Jvm.Cond.code ({ cls := "AskedCourt", name := "chance", desc := "(III)I" } : Jvm.MethodName) prog_1_method_66_code (8 : Nat) (Option.some Jvm.ClassFile.FieldType.int)) ∈ lw_all := lw_g (lw_at lw_m6 138 rfl) rfl
theorem q1479 : (Jvm.Cond.instanceMethod ({ cls := "AskedCourt", name := "tried", desc := "(II)I" } : Jvm.MethodName)) ∈ lw_all := lw_g (lw_at lw_m6 140 rfl) rfl
theorem q1480 : (Jvm.Cond.selects "AskedCourt" ({ cls := "AskedCourt", name := "tried", desc := "(II)I" } : Jvm.MethodName) ({ cls := "AskedCourt", name := "tried", desc := "(II)I" } : Jvm.MethodName)) ∈ lw_all := lw_g (lw_at lw_m6 141 rfl) rfl
theorem q1481 : (Jvm.Cond.code ({ cls := "AskedCourt", name := "tried", desc := "(II)I" } : Jvm.MethodName) prog_1_method_67_code (4 : Nat) (Option.some Jvm.ClassFile.FieldType.int)) ∈ lw_all := lw_g (lw_at lw_m6 142 rfl) rfl
theorem q1482 : (Jvm.Cond.constantLong "AskedCourt" (408 : Nat) (4 : Int64)) ∈ lw_all := lw_g (lw_at lw_m6 143 rfl) rfl
theorem q1484 : (Jvm.Cond.instanceMethod ({ cls := "AskedCourt", name := "undo", desc := "()I" } : Jvm.MethodName)) ∈ lw_all := lw_g (lw_at lw_m6 145 rfl) rfl
theorem q1485 : (Jvm.Cond.selects "AskedCourt" ({ cls := "AskedCourt", name := "undo", desc := "()I" } : Jvm.MethodName) ({ cls := "AskedCourt", name := "undo", desc := "()I" } : Jvm.MethodName)) ∈ lw_all := lw_g (lw_at lw_m6 146 rfl) rfl
theorem q1486 : (Jvm.Cond.code ({ cls := "AskedCourt", name := "undo", desc := "()I" } : Jvm.MethodName) prog_1_method_68_code (1 : Nat) (Option.some Jvm.ClassFile.FieldType.int)) ∈ lw_all := lw_g (lw_at lw_m6 147 rfl) rfl
theorem q1488 : (Jvm.Cond.instanceMethod ({ cls := "AskedCourt", name := "keep", desc := "()I" } : Jvm.MethodName)) ∈ lw_all := lw_g (lw_at lw_m6 149 rfl) rfl
theorem q1489 : (Jvm.Cond.selects "AskedCourt" ({ cls := "AskedCourt", name := "keep", desc := "()I" } : Jvm.MethodName) ({ cls := "AskedCourt", name := "keep", desc := "()I" } : Jvm.MethodName)) ∈ lw_all := lw_g (lw_at lw_m6 150 rfl) rfl
theorem q1490 : (Jvm.Cond.code ({ cls := "AskedCourt", name := "keep", desc := "()I" } : Jvm.MethodName) prog_1_method_69_code (1 : Nat) (Option.some Jvm.ClassFile.FieldType.int)) ∈ lw_all := lw_g (lw_at lw_m6 151 rfl) rfl
theorem q1492 : (Jvm.Cond.instanceMethod ({ cls := "AskedCourt", name := "back", desc := "()I" } : Jvm.MethodName)) ∈ lw_all := lw_g (lw_at lw_m6 153 rfl) rfl
theorem q1493 : (Jvm.Cond.selects "AskedCourt" ({ cls := "AskedCourt", name := "back", desc := "()I" } : Jvm.MethodName) ({ cls := "AskedCourt", name := "back", desc := "()I" } : Jvm.MethodName)) ∈ lw_all := lw_g (lw_at lw_m6 154 rfl) rfl
theorem q1494 : (Jvm.Cond.code ({ cls := "AskedCourt", name := "back", desc := "()I" } : Jvm.MethodName) prog_1_method_70_code (1 : Nat) (Option.some Jvm.ClassFile.FieldType.int)) ∈ lw_all := lw_g (lw_at lw_m6 155 rfl) rfl
theorem q1496 : (Jvm.Cond.instanceMethod ({ cls := "AskedCourt", name := "count", desc := "(I)I" } : Jvm.MethodName)) ∈ lw_all := lw_g (lw_at lw_m6 157 rfl) rfl
theorem q1497 : (Jvm.Cond.selects "AskedCourt" ({ cls := "AskedCourt", name := "count", desc := "(I)I" } : Jvm.MethodName) ({ cls := "AskedCourt", name := "count", desc := "(I)I" } : Jvm.MethodName)) ∈ lw_all := lw_g (lw_at lw_m6 158 rfl) rfl
theorem q1498 : (Jvm.Cond.code ({ cls := "AskedCourt", name := "count", desc := "(I)I" } : Jvm.MethodName) prog_1_method_71_code (4 : Nat) (Option.some Jvm.ClassFile.FieldType.int)) ∈ lw_all := lw_g (lw_at lw_m6 159 rfl) rfl
theorem q1538 : (Jvm.Cond.instanceMethod ({ cls := "AskedCourt", name := "person", desc := "(II)I" } : Jvm.MethodName)) ∈ lw_all := lw_g (lw_at lw_m6 199 rfl) rfl
theorem q1539 : (Jvm.Cond.selects "AskedCourt" ({ cls := "AskedCourt", name := "person", desc := "(II)I" } : Jvm.MethodName) ({ cls := "AskedCourt", name := "person", desc := "(II)I" } : Jvm.MethodName)) ∈ lw_all := lw_g (lw_at lw_m6 200 rfl) rfl
theorem q1540 : (Jvm.Cond.code ({ cls := "AskedCourt", name := "person", desc := "(II)I" } : Jvm.MethodName) prog_1_method_16_code (3 : Nat) (Option.some Jvm.ClassFile.FieldType.int)) ∈ lw_all := lw_g (lw_at lw_m6 201 rfl) rfl
theorem q1541 : (Jvm.Cond.classLink "AskedCourt" (196 : Nat) "java/lang/IndexOutOfBoundsException") ∈ lw_all := lw_g (lw_at lw_m6 202 rfl) rfl
theorem q1550 : (Jvm.Cond.methodLink "AskedCourt" (198 : Nat) ({ cls := "java/lang/IndexOutOfBoundsException", name := "<init>", desc := "()V" } : Jvm.MethodName)) ∈ lw_all := lw_g (lw_at lw_m6 211 rfl) rfl
theorem q1562 : (Jvm.Cond.classLink "AskedCourt" (203 : Nat) "AskedCourt$Person") ∈ lw_all := lw_g (lw_at lw_m6 223 rfl) rfl
theorem q1563 : (Jvm.Cond.classLink "AskedCourt" (223 : Nat) "java/util/NoSuchElementException") ∈ lw_all := lw_g (lw_at lw_m6 224 rfl) rfl
theorem q1572 : (Jvm.Cond.methodLink "AskedCourt" (225 : Nat) ({ cls := "java/util/NoSuchElementException", name := "<init>", desc := "()V" } : Jvm.MethodName)) ∈ lw_all := lw_g (lw_at lw_m6 233 rfl) rfl
theorem q2335 : (Jvm.Cond.castable "AskedCourt" "java/lang/Object") ∈ lw_tbl := lw_at lw_m10 36 rfl
theorem q2381 : (Jvm.Cond.stringRef "AskedCourt" (425 : Nat) "fact") ∈ lw_tbl := lw_at lw_m10 82 rfl
theorem q2382 : (Jvm.Cond.stringRef "AskedCourt" (427 : Nat) "person") ∈ lw_tbl := lw_at lw_m10 83 rfl
theorem q2383 : (Jvm.Cond.stringRef "AskedCourt" (429 : Nat) "knows") ∈ lw_tbl := lw_at lw_m10 84 rfl
theorem q2384 : (Jvm.Cond.stringRef "AskedCourt" (430 : Nat) "ask") ∈ lw_tbl := lw_at lw_m10 85 rfl
theorem q2385 : (Jvm.Cond.stringRef "AskedCourt" (431 : Nat) "talk") ∈ lw_tbl := lw_at lw_m10 86 rfl
theorem q2386 : (Jvm.Cond.stringRef "AskedCourt" (432 : Nat) "nine") ∈ lw_tbl := lw_at lw_m10 87 rfl
theorem q2387 : (Jvm.Cond.stringRef "AskedCourt" (434 : Nat) "seed") ∈ lw_tbl := lw_at lw_m10 88 rfl
theorem q2388 : (Jvm.Cond.stringRef "AskedCourt" (436 : Nat) "law") ∈ lw_tbl := lw_at lw_m10 89 rfl
theorem q2389 : (Jvm.Cond.stringRef "AskedCourt" (438 : Nat) "plain") ∈ lw_tbl := lw_at lw_m10 90 rfl
theorem q2390 : (Jvm.Cond.stringRef "AskedCourt" (440 : Nat) "double") ∈ lw_tbl := lw_at lw_m10 91 rfl
theorem q2391 : (Jvm.Cond.stringRef "AskedCourt" (442 : Nat) "back") ∈ lw_tbl := lw_at lw_m10 92 rfl
theorem q2392 : (Jvm.Cond.stringRef "AskedCourt" (444 : Nat) "idle") ∈ lw_tbl := lw_at lw_m10 93 rfl
theorem q2393 : (Jvm.Cond.stringRef "AskedCourt" (446 : Nat) "none") ∈ lw_tbl := lw_at lw_m10 94 rfl
theorem q2394 : (Jvm.Cond.stringRef "AskedCourt" (448 : Nat) "slip") ∈ lw_tbl := lw_at lw_m10 95 rfl
theorem q2395 : (Jvm.Cond.stringRef "AskedCourt" (450 : Nat) "hear") ∈ lw_tbl := lw_at lw_m10 96 rfl
theorem q2396 : (Jvm.Cond.stringRef "AskedCourt" (452 : Nat) "or") ∈ lw_tbl := lw_at lw_m10 97 rfl
theorem q2397 : (Jvm.Cond.stringRef "AskedCourt" (454 : Nat) "and") ∈ lw_tbl := lw_at lw_m10 98 rfl
theorem q2398 : (Jvm.Cond.stringRef "AskedCourt" (456 : Nat) "not") ∈ lw_tbl := lw_at lw_m10 99 rfl
theorem q2399 : (Jvm.Cond.stringRef "AskedCourt" (458 : Nat) "lips") ∈ lw_tbl := lw_at lw_m10 100 rfl
theorem q2400 : (Jvm.Cond.stringRef "AskedCourt" (459 : Nat) "wit") ∈ lw_tbl := lw_at lw_m10 101 rfl
theorem q2401 : (Jvm.Cond.stringRef "AskedCourt" (460 : Nat) "lost") ∈ lw_tbl := lw_at lw_m10 102 rfl
theorem q2402 : (Jvm.Cond.stringRef "AskedCourt" (461 : Nat) "heard") ∈ lw_tbl := lw_at lw_m10 103 rfl
theorem q2403 : (Jvm.Cond.stringRef "AskedCourt" (463 : Nat) "room") ∈ lw_tbl := lw_at lw_m10 104 rfl
theorem q2404 : (Jvm.Cond.stringRef "AskedCourt" (464 : Nat) "kind") ∈ lw_tbl := lw_at lw_m10 105 rfl
theorem q2405 : (Jvm.Cond.stringRef "AskedCourt" (465 : Nat) "day") ∈ lw_tbl := lw_at lw_m10 106 rfl
theorem in_X1 : ∀ w ∈ wsX10, w ∈ lw_all := lw_in wsX10 [464, 466, 468, 470, 472, 474, 476, 478, 480, 482, 484, 486, 488, 490, 492, 494, 496, 498, 500, 502, 504, 506, 508, 510] (by decide +kernel) (by decide +kernel)

/-! AskedCourtModel -/
set_option maxRecDepth 100000
def RX10 : String := "AskedCourtModel"
def TX10 : u_T := fun k => match k with
  | 0 => ("AskedCourtModel", "tape", "[I", true)
  | 1 => ("AskedCourtModel", "tapeSize", "I", false)
  | 2 => ("AskedCourtModel", "thrown", "I", false)
  | 3 => ("AskedCourtModel", "words", "[I", true)
  | 4 => ("AskedCourtModel", "fault", "I", false)
  | 5 => ("AskedCourtModel", "faultPlace", "I", false)
  | 6 => ("AskedCourtModel", "stop", "I", false)
  | 7 => ("AskedCourtModel", "next", "I", false)
  | 8 => ("AskedCourtModel", "kind", "I", false)
  | 9 => ("AskedCourtModel", "which", "I", false)
  | 10 => ("AskedCourtModel", "at", "I", false)
  | 11 => ("AskedCourtModel", "got", "I", false)
  | 12 => ("AskedCourtModel", "facts", "I", false)
  | 13 => ("AskedCourtModel", "persons", "I", false)
  | 14 => ("AskedCourtModel", "questions", "I", false)
  | 15 => ("AskedCourtModel", "talks", "I", false)
  | 16 => ("AskedCourtModel", "knots", "I", false)
  | 17 => ("AskedCourtModel", "factsRead", "I", false)
  | 18 => ("AskedCourtModel", "personsRead", "I", false)
  | 19 => ("AskedCourtModel", "questionsRead", "I", false)
  | 20 => ("AskedCourtModel", "talksRead", "I", false)
  | 21 => ("AskedCourtModel", "knotsRead", "I", false)
  | 22 => ("AskedCourtModel", "onceTold", "[Z", true)
  | 23 => ("AskedCourtModel", "once", "[I", true)
  | 24 => ("AskedCourtModel", "factName", "[I", true)
  | 25 => ("AskedCourtModel", "personName", "[I", true)
  | 26 => ("AskedCourtModel", "personLips", "[I", true)
  | 27 => ("AskedCourtModel", "personWit", "[I", true)
  | 28 => ("AskedCourtModel", "personRoom", "[I", true)
  | 29 => ("AskedCourtModel", "personKnows", "[I", true)
  | 30 => ("AskedCourtModel", "questionName", "[I", true)
  | 31 => ("AskedCourtModel", "questionKind", "[I", true)
  | 32 => ("AskedCourtModel", "questionSays", "[I", true)
  | 33 => ("AskedCourtModel", "questionAlso", "[I", true)
  | 34 => ("AskedCourtModel", "questionAsks", "[I", true)
  | 35 => ("AskedCourtModel", "talkWho", "[I", true)
  | 36 => ("AskedCourtModel", "talkWhom", "[I", true)
  | 37 => ("AskedCourtModel", "talkWhat", "[I", true)
  | 38 => ("AskedCourtModel", "lawTold", "[Z", true)
  | 39 => ("AskedCourtModel", "first", "[I", true)
  | 40 => ("AskedCourtModel", "last", "[I", true)
  | 41 => ("AskedCourtModel", "knot", "[I", true)
  | 42 => ("AskedCourtModel", "part", "[I", true)
  | 43 => ("AskedCourtModel", "other", "[I", true)
  | 44 => ("AskedCourtModel", "wait", "[I", true)
  | 45 => ("AskedCourtModel", "held", "[I", true)
  | 46 => ("AskedCourtModel", "waits", "I", false)
  | 47 => ("AskedCourtModel", "helds", "I", false)
  | 48 => ("AskedCourtModel", "brackets", "I", false)
  | 49 => ("AskedCourtModel", "counted", "I", false)
  | 50 => ("AskedCourtModel", "wants", "Z", false)
  | 51 => ("AskedCourtModel", "mayNot", "Z", false)
  | 52 => ("AskedCourtModel", "names", "[J", true)
  | 53 => ("AskedCourtModel", "value", "[J", true)
  | 54 => ("AskedCourtModel", "isError", "Z", false)
  | 55 => ("AskedCourtModel", "knows", "[I", true)
  | 56 => ("AskedCourtModel", "lost", "[I", true)
  | 57 => ("AskedCourtModel", "room", "[I", true)
  | 58 => ("AskedCourtModel", "asked", "[I", true)
  | 59 => ("AskedCourtModel", "day", "[I", true)
  | 60 => ("AskedCourtModel", "askedAll", "I", false)
  | 61 => ("AskedCourtModel", "drawn", "J", false)
  | 62 => ("AskedCourtModel", "draws", "Z", false)
  | 63 => ("AskedCourtModel", "noNine", "Z", false)
  | 64 => ("AskedCourtModel", "noSlip", "Z", false)
  | 65 => ("AskedCourtModel", "allWit", "Z", false)
  | 66 => ("AskedCourtModel", "gone", "I", false)
  | 67 => ("AskedCourtModel", "without", "I", false)
  | 68 => ("AskedCourtModel", "row", "[I", true)
  | 69 => ("AskedCourtModel", "hasOne", "[I", true)
  | 70 => ("AskedCourtModel", "hasTwo", "[I", true)
  | 71 => ("AskedCourtModel", "notesMany", "I", false)
  | 72 => ("AskedCourtModel", "knownTold", "I", false)
  | 73 => ("AskedCourtModel", "notes", "[I", true)
  | 74 => ("AskedCourtModel", "counts", "[Z", true)
  | 75 => ("AskedCourtModel", "undos", "I", false)
  | 76 => ("AskedCourtModel", "undo", "[I", true)
  | 77 => ("AskedCourtModel", "undoDrawn", "[J", true)
  | 78 => ("AskedCourtModel", "hasImage", "Z", false)
  | 79 => ("AskedCourtModel", "image", "[I", true)
  | _ => ("AskedCourtModel", "imageDrawn", "J", false)
def tyX10 : Nat → FieldType := fun k => match k with
  | 0 => .array .int
  | 1 => .int
  | 2 => .int
  | 3 => .array .int
  | 4 => .int
  | 5 => .int
  | 6 => .int
  | 7 => .int
  | 8 => .int
  | 9 => .int
  | 10 => .int
  | 11 => .int
  | 12 => .int
  | 13 => .int
  | 14 => .int
  | 15 => .int
  | 16 => .int
  | 17 => .int
  | 18 => .int
  | 19 => .int
  | 20 => .int
  | 21 => .int
  | 22 => .array .boolean
  | 23 => .array .int
  | 24 => .array .int
  | 25 => .array .int
  | 26 => .array .int
  | 27 => .array .int
  | 28 => .array .int
  | 29 => .array .int
  | 30 => .array .int
  | 31 => .array .int
  | 32 => .array .int
  | 33 => .array .int
  | 34 => .array .int
  | 35 => .array .int
  | 36 => .array .int
  | 37 => .array .int
  | 38 => .array .boolean
  | 39 => .array .int
  | 40 => .array .int
  | 41 => .array .int
  | 42 => .array .int
  | 43 => .array .int
  | 44 => .array .int
  | 45 => .array .int
  | 46 => .int
  | 47 => .int
  | 48 => .int
  | 49 => .int
  | 50 => .boolean
  | 51 => .boolean
  | 52 => .array .long
  | 53 => .array .long
  | 54 => .boolean
  | 55 => .array .int
  | 56 => .array .int
  | 57 => .array .int
  | 58 => .array .int
  | 59 => .array .int
  | 60 => .int
  | 61 => .long
  | 62 => .boolean
  | 63 => .boolean
  | 64 => .boolean
  | 65 => .boolean
  | 66 => .int
  | 67 => .int
  | 68 => .array .int
  | 69 => .array .int
  | 70 => .array .int
  | 71 => .int
  | 72 => .int
  | 73 => .array .int
  | 74 => .array .boolean
  | 75 => .int
  | 76 => .array .int
  | 77 => .array .long
  | 78 => .boolean
  | 79 => .array .int
  | _ => .long
abbrev wsX100 : List Cond := u_ws RX10 TX10 81
set_option maxRecDepth 100000 in
theorem nmX10 : ∀ a, a < 81 → ∀ b, b < 81 → a ≠ b → (TX10 a).2.1 ≠ (TX10 b).2.1 := by decide +kernel
set_option maxRecDepth 100000 in
theorem tyX10_ok : ∀ k, k < 81 → parseFieldDescriptor (TX10 k).2.2.1 = some (tyX10 k) := by decide +kernel
abbrev cX10_init : ByteArray := prog_24_method_1_code
def yX10_init : MethodName := ⟨RX10, "<init>", "()V"⟩
abbrev cX10_plain : ByteArray := prog_24_method_17_code
def yX10_plain : MethodName := ⟨RX10, "plain", "()V"⟩
abbrev cX10_keepText : ByteArray := prog_24_method_19_code
def yX10_keepText : MethodName := ⟨RX10, "keepText", "()V"⟩
abbrev cX10_copies : ByteArray := prog_24_method_18_code
def yX10_copies : MethodName := ⟨RX10, "copies", "([II)V"⟩
abbrev cX10_begin : ByteArray := prog_24_method_48_code
def yX10_begin : MethodName := ⟨RX10, "begin", "()V"⟩
abbrev cX10_atFirst : ByteArray := prog_24_method_49_code
def yX10_atFirst : MethodName := ⟨RX10, "atFirst", "(I)V"⟩
abbrev cX10_plainTried : ByteArray := prog_24_method_50_code
def yX10_plainTried : MethodName := ⟨RX10, "plainTried", "()V"⟩
abbrev cX10_thrown : ByteArray := prog_24_method_2_code
def yX10_thrown : MethodName := ⟨RX10, "thrown", "()I"⟩
abbrev cX10_feed : ByteArray := prog_24_method_3_code
def yX10_feed : MethodName := ⟨RX10, "feed", "(IIIII)I"⟩
abbrev cX10_text : ByteArray := prog_24_method_31_code
def yX10_text : MethodName := ⟨RX10, "text", "(I)I"⟩
abbrev cX10_token : ByteArray := prog_24_method_10_code
def yX10_token : MethodName := ⟨RX10, "token", "()V"⟩
abbrev cX10_isSmall : ByteArray := prog_24_method_8_code
def yX10_isSmall : MethodName := ⟨RX10, "isSmall", "(I)Z"⟩
abbrev cX10_wordAt : ByteArray := prog_24_method_7_code
def yX10_wordAt : MethodName := ⟨RX10, "wordAt", "(II)I"⟩
abbrev cX10_packed : ByteArray := prog_24_method_12_code
def yX10_packed : MethodName := ⟨RX10, "packed", "(II)I"⟩
abbrev cX10_isDigit : ByteArray := prog_24_method_9_code
def yX10_isDigit : MethodName := ⟨RX10, "isDigit", "(I)Z"⟩
abbrev cX10_signToken : ByteArray := prog_24_method_11_code
def yX10_signToken : MethodName := ⟨RX10, "signToken", "()V"⟩
abbrev cX10_lineRead : ByteArray := prog_24_method_30_code
def yX10_lineRead : MethodName := ⟨RX10, "lineRead", "()Z"⟩
abbrev cX10_wrong : ByteArray := prog_24_method_6_code
def yX10_wrong : MethodName := ⟨RX10, "wrong", "(I)Z"⟩
abbrev cX10_factLine : ByteArray := prog_24_method_24_code
def yX10_factLine : MethodName := ⟨RX10, "factLine", "()Z"⟩
abbrev cX10_newName : ByteArray := prog_24_method_21_code
def yX10_newName : MethodName := ⟨RX10, "newName", "([III)Z"⟩
abbrev cX10_find : ByteArray := prog_24_method_20_code
def yX10_find : MethodName := ⟨RX10, "find", "([IIII)I"⟩
abbrev cX10_personLine : ByteArray := prog_24_method_25_code
def yX10_personLine : MethodName := ⟨RX10, "personLine", "()Z"⟩
abbrev cX10_number : ByteArray := prog_24_method_15_code
def yX10_number : MethodName := ⟨RX10, "number", "(II)Z"⟩
abbrev cX10_isIn : ByteArray := prog_24_method_4_code
def yX10_isIn : MethodName := ⟨RX10, "isIn", "(III)Z"⟩
abbrev cX10_knowsLine : ByteArray := prog_24_method_26_code
def yX10_knowsLine : MethodName := ⟨RX10, "knowsLine", "()Z"⟩
abbrev cX10_there : ByteArray := prog_24_method_22_code
def yX10_there : MethodName := ⟨RX10, "there", "([III)Z"⟩
abbrev cX10_isOf : ByteArray := prog_24_method_5_code
def yX10_isOf : MethodName := ⟨RX10, "isOf", "(II)Z"⟩
abbrev cX10_askLine : ByteArray := prog_24_method_27_code
def yX10_askLine : MethodName := ⟨RX10, "askLine", "()Z"⟩
abbrev cX10_some : ByteArray := prog_24_method_23_code
def yX10_some : MethodName := ⟨RX10, "some", "()Z"⟩
abbrev cX10_isKey : ByteArray := prog_24_method_13_code
def yX10_isKey : MethodName := ⟨RX10, "isKey", "(I)Z"⟩
abbrev cX10_talkLine : ByteArray := prog_24_method_28_code
def yX10_talkLine : MethodName := ⟨RX10, "talkLine", "()Z"⟩
abbrev cX10_onceLine : ByteArray := prog_24_method_29_code
def yX10_onceLine : MethodName := ⟨RX10, "onceLine", "(II)Z"⟩
abbrev cX10_sumRead : ByteArray := prog_24_method_43_code
def yX10_sumRead : MethodName := ⟨RX10, "sumRead", "()Z"⟩
abbrev cX10_isSign : ByteArray := prog_24_method_14_code
def yX10_isSign : MethodName := ⟨RX10, "isSign", "(I)Z"⟩
abbrev cX10_leafRead : ByteArray := prog_24_method_41_code
def yX10_leafRead : MethodName := ⟨RX10, "leafRead", "()Z"⟩
abbrev cX10_waitsFor : ByteArray := prog_24_method_39_code
def yX10_waitsFor : MethodName := ⟨RX10, "waitsFor", "(I)V"⟩
abbrev cX10_isCounted : ByteArray := prog_24_method_38_code
def yX10_isCounted : MethodName := ⟨RX10, "isCounted", "()Z"⟩
abbrev cX10_nameMet : ByteArray := prog_24_method_40_code
def yX10_nameMet : MethodName := ⟨RX10, "nameMet", "()I"⟩
abbrev cX10_grown : ByteArray := prog_24_method_35_code
def yX10_grown : MethodName := ⟨RX10, "grown", "(III)V"⟩
abbrev cX10_signs : ByteArray := prog_24_method_42_code
def yX10_signs : MethodName := ⟨RX10, "signs", "()Z"⟩
abbrev cX10_bind : ByteArray := prog_24_method_37_code
def yX10_bind : MethodName := ⟨RX10, "bind", "(I)V"⟩
abbrev cX10_rank : ByteArray := prog_24_method_34_code
def yX10_rank : MethodName := ⟨RX10, "rank", "(I)I"⟩
abbrev cX10_dropHeld : ByteArray := prog_24_method_36_code
def yX10_dropHeld : MethodName := ⟨RX10, "dropHeld", "()I"⟩
abbrev cX10_fault : ByteArray := prog_24_method_32_code
def yX10_fault : MethodName := ⟨RX10, "fault", "(I)I"⟩
abbrev cX10_named : ByteArray := prog_24_method_33_code
def yX10_named : MethodName := ⟨RX10, "named", "(II)I"⟩
abbrev cX10_person : ByteArray := prog_24_method_68_code
def yX10_person : MethodName := ⟨RX10, "person", "(II)I"⟩
abbrev cX10_isPerson : ByteArray := prog_24_method_52_code
def yX10_isPerson : MethodName := ⟨RX10, "isPerson", "(I)Z"⟩
abbrev cX10_fails : ByteArray := prog_24_method_67_code
def yX10_fails : MethodName := ⟨RX10, "fails", "(I)I"⟩
abbrev cX10_question : ByteArray := prog_24_method_69_code
def yX10_question : MethodName := ⟨RX10, "question", "(II)I"⟩
abbrev cX10_isQuestion : ByteArray := prog_24_method_54_code
def yX10_isQuestion : MethodName := ⟨RX10, "isQuestion", "(I)Z"⟩
abbrev cX10_can : ByteArray := prog_24_method_70_code
def yX10_can : MethodName := ⟨RX10, "can", "(III)I"⟩
abbrev cX10_canAsk : ByteArray := prog_24_method_57_code
def yX10_canAsk : MethodName := ⟨RX10, "canAsk", "(IIII)Z"⟩
abbrev cX10_supposed : ByteArray := prog_24_method_56_code
def yX10_supposed : MethodName := ⟨RX10, "supposed", "(I)I"⟩
abbrev cX10_law : ByteArray := prog_24_method_71_code
def yX10_law : MethodName := ⟨RX10, "law", "(III)J"⟩
abbrev cX10_layNames : ByteArray := prog_24_method_59_code
def yX10_layNames : MethodName := ⟨RX10, "layNames", "(III)V"⟩
abbrev cX10_witOf : ByteArray := prog_24_method_58_code
def yX10_witOf : MethodName := ⟨RX10, "witOf", "(I)I"⟩
abbrev cX10_manyOf : ByteArray := prog_24_method_55_code
def yX10_manyOf : MethodName := ⟨RX10, "manyOf", "(I)I"⟩
abbrev cX10_lawOf : ByteArray := prog_24_method_60_code
def yX10_lawOf : MethodName := ⟨RX10, "lawOf", "(I)J"⟩
abbrev cX10_valueOf : ByteArray := prog_24_method_47_code
def yX10_valueOf : MethodName := ⟨RX10, "valueOf", "(I)J"⟩
abbrev cX10_bounded : ByteArray := prog_24_method_44_code
def yX10_bounded : MethodName := ⟨RX10, "bounded", "(J)J"⟩
abbrev cX10_times : ByteArray := prog_24_method_46_code
def yX10_times : MethodName := ⟨RX10, "times", "(JJ)J"⟩
abbrev cX10_compares : ByteArray := prog_24_method_45_code
def yX10_compares : MethodName := ⟨RX10, "compares", "(IJJ)Z"⟩
abbrev cX10_ask : ByteArray := prog_24_method_72_code
def yX10_ask : MethodName := ⟨RX10, "ask", "(III)I"⟩
abbrev cX10_remember : ByteArray := prog_24_method_121_code
def yX10_remember : MethodName := ⟨RX10, "remember", "()V"⟩
abbrev cX10_put : ByteArray := prog_24_method_119_code
def yX10_put : MethodName := ⟨RX10, "put", "([II)V"⟩
abbrev cX10_asks : ByteArray := prog_24_method_65_code
def yX10_asks : MethodName := ⟨RX10, "asks", "(IIII)Z"⟩
abbrev cX10_hears : ByteArray := prog_24_method_61_code
def yX10_hears : MethodName := ⟨RX10, "hears", "(III)Z"⟩
abbrev cX10_isSlip : ByteArray := prog_24_method_64_code
def yX10_isSlip : MethodName := ⟨RX10, "isSlip", "(III)Z"⟩
abbrev cX10_slipOf : ByteArray := prog_24_method_62_code
def yX10_slipOf : MethodName := ⟨RX10, "slipOf", "(III)I"⟩
abbrev cX10_number1 : ByteArray := prog_24_method_63_code
def yX10_number1 : MethodName := ⟨RX10, "number1", "(I)I"⟩
abbrev cX10_tell : ByteArray := prog_24_method_73_code
def yX10_tell : MethodName := ⟨RX10, "tell", "(II)Z"⟩
abbrev cX10_isFact : ByteArray := prog_24_method_53_code
def yX10_isFact : MethodName := ⟨RX10, "isFact", "(I)Z"⟩
abbrev cX10_send : ByteArray := prog_24_method_74_code
def yX10_send : MethodName := ⟨RX10, "send", "(II)Z"⟩
abbrev cX10_end : ByteArray := prog_24_method_75_code
def yX10_end : MethodName := ⟨RX10, "end", "()I"⟩
abbrev cX10_all : ByteArray := prog_24_method_77_code
def yX10_all : MethodName := ⟨RX10, "all", "(I)I"⟩
abbrev cX10_layTried : ByteArray := prog_24_method_51_code
def yX10_layTried : MethodName := ⟨RX10, "layTried", "()V"⟩
abbrev cX10_askAll : ByteArray := prog_24_method_76_code
def yX10_askAll : MethodName := ⟨RX10, "askAll", "()V"⟩
abbrev cX10_sumIn : ByteArray := prog_24_method_66_code
def yX10_sumIn : MethodName := ⟨RX10, "sumIn", "(I)I"⟩
abbrev cX10_never : ByteArray := prog_24_method_79_code
def yX10_never : MethodName := ⟨RX10, "never", "(II)I"⟩
abbrev cX10_learns : ByteArray := prog_24_method_78_code
def yX10_learns : MethodName := ⟨RX10, "learns", "(III)Z"⟩
abbrev cX10_away : ByteArray := prog_24_method_80_code
def yX10_away : MethodName := ⟨RX10, "away", "(II)I"⟩
abbrev cX10_spread : ByteArray := prog_24_method_81_code
def yX10_spread : MethodName := ⟨RX10, "spread", "(I)I"⟩
abbrev cX10_hint : ByteArray := prog_24_method_82_code
def yX10_hint : MethodName := ⟨RX10, "hint", "(III)I"⟩
abbrev cX10_unasked : ByteArray := prog_24_method_83_code
def yX10_unasked : MethodName := ⟨RX10, "unasked", "(I)I"⟩
abbrev cX10_inRoom : ByteArray := prog_24_method_85_code
def yX10_inRoom : MethodName := ⟨RX10, "inRoom", "(II)I"⟩
abbrev cX10_sumInRoom : ByteArray := prog_24_method_84_code
def yX10_sumInRoom : MethodName := ⟨RX10, "sumInRoom", "(II)I"⟩
abbrev cX10_bestRoom : ByteArray := prog_24_method_86_code
def yX10_bestRoom : MethodName := ⟨RX10, "bestRoom", "(I)I"⟩
abbrev cX10_way : ByteArray := prog_24_method_95_code
def yX10_way : MethodName := ⟨RX10, "way", "(IIII)I"⟩
abbrev cX10_isAsked : ByteArray := prog_24_method_94_code
def yX10_isAsked : MethodName := ⟨RX10, "isAsked", "(IIII)Z"⟩
abbrev cX10_wayOf : ByteArray := prog_24_method_93_code
def yX10_wayOf : MethodName := ⟨RX10, "wayOf", "(IIII)I"⟩
abbrev cX10_steps : ByteArray := prog_24_method_87_code
def yX10_steps : MethodName := ⟨RX10, "steps", "()I"⟩
abbrev cX10_does : ByteArray := prog_24_method_91_code
def yX10_does : MethodName := ⟨RX10, "does", "(I)Z"⟩
abbrev cX10_whoOf : ByteArray := prog_24_method_88_code
def yX10_whoOf : MethodName := ⟨RX10, "whoOf", "(I)I"⟩
abbrev cX10_whomOf : ByteArray := prog_24_method_89_code
def yX10_whomOf : MethodName := ⟨RX10, "whomOf", "(I)I"⟩
abbrev cX10_whatOf : ByteArray := prog_24_method_90_code
def yX10_whatOf : MethodName := ⟨RX10, "whatOf", "(I)I"⟩
abbrev cX10_isWay : ByteArray := prog_24_method_92_code
def yX10_isWay : MethodName := ⟨RX10, "isWay", "(III)Z"⟩
abbrev cX10_step : ByteArray := prog_24_method_96_code
def yX10_step : MethodName := ⟨RX10, "step", "(IIIII)I"⟩
abbrev cX10_care : ByteArray := prog_24_method_98_code
def yX10_care : MethodName := ⟨RX10, "care", "(I)I"⟩
abbrev cX10_isCare : ByteArray := prog_24_method_97_code
def yX10_isCare : MethodName := ⟨RX10, "isCare", "(II)Z"⟩
abbrev cX10_best : ByteArray := prog_24_method_99_code
def yX10_best : MethodName := ⟨RX10, "best", "(III)I"⟩
abbrev cX10_rests : ByteArray := prog_24_method_103_code
def yX10_rests : MethodName := ⟨RX10, "rests", "(II)I"⟩
abbrev cX10_areTwo : ByteArray := prog_24_method_102_code
def yX10_areTwo : MethodName := ⟨RX10, "areTwo", "(II)Z"⟩
abbrev cX10_restAt : ByteArray := prog_24_method_101_code
def yX10_restAt : MethodName := ⟨RX10, "restAt", "(III)I"⟩
abbrev cX10_gainOf : ByteArray := prog_24_method_100_code
def yX10_gainOf : MethodName := ⟨RX10, "gainOf", "(I)I"⟩
abbrev cX10_rest : ByteArray := prog_24_method_104_code
def yX10_rest : MethodName := ⟨RX10, "rest", "(III)I"⟩
abbrev cX10_slipped : ByteArray := prog_24_method_107_code
def yX10_slipped : MethodName := ⟨RX10, "slipped", "(I)I"⟩
abbrev cX10_layTextTried : ByteArray := prog_24_method_105_code
def yX10_layTextTried : MethodName := ⟨RX10, "layTextTried", "()V"⟩
abbrev cX10_talkOf : ByteArray := prog_24_method_106_code
def yX10_talkOf : MethodName := ⟨RX10, "talkOf", "(I)V"⟩
abbrev cX10_behind : ByteArray := prog_24_method_108_code
def yX10_behind : MethodName := ⟨RX10, "behind", "(II)I"⟩
abbrev cX10_note : ByteArray := prog_24_method_110_code
def yX10_note : MethodName := ⟨RX10, "note", "(IIIZ)I"⟩
abbrev cX10_noted : ByteArray := prog_24_method_109_code
def yX10_noted : MethodName := ⟨RX10, "noted", "(IIII)I"⟩
abbrev cX10_strike : ByteArray := prog_24_method_111_code
def yX10_strike : MethodName := ⟨RX10, "strike", "(I)I"⟩
abbrev cX10_known : ByteArray := prog_24_method_112_code
def yX10_known : MethodName := ⟨RX10, "known", "(I)Z"⟩
abbrev cX10_knew : ByteArray := prog_24_method_116_code
def yX10_knew : MethodName := ⟨RX10, "knew", "(I)I"⟩
abbrev cX10_knownBy : ByteArray := prog_24_method_113_code
def yX10_knownBy : MethodName := ⟨RX10, "knownBy", "()I"⟩
abbrev cX10_fits : ByteArray := prog_24_method_115_code
def yX10_fits : MethodName := ⟨RX10, "fits", "(II)Z"⟩
abbrev cX10_isSo : ByteArray := prog_24_method_114_code
def yX10_isSo : MethodName := ⟨RX10, "isSo", "(I)Z"⟩
abbrev cX10_chance : ByteArray := prog_24_method_117_code
def yX10_chance : MethodName := ⟨RX10, "chance", "(III)I"⟩
abbrev cX10_tried : ByteArray := prog_24_method_118_code
def yX10_tried : MethodName := ⟨RX10, "tried", "(II)I"⟩
abbrev cX10_undo : ByteArray := prog_24_method_122_code
def yX10_undo : MethodName := ⟨RX10, "undo", "()I"⟩
abbrev cX10_take : ByteArray := prog_24_method_120_code
def yX10_take : MethodName := ⟨RX10, "take", "([II)V"⟩
abbrev cX10_keep : ByteArray := prog_24_method_123_code
def yX10_keep : MethodName := ⟨RX10, "keep", "()I"⟩
abbrev cX10_back : ByteArray := prog_24_method_124_code
def yX10_back : MethodName := ⟨RX10, "back", "()I"⟩
abbrev cX10_count : ByteArray := prog_24_method_125_code
def yX10_count : MethodName := ⟨RX10, "count", "(I)I"⟩
theorem q154 : (Jvm.Cond.initialized "AskedCourtModel") ∈ lw_all := lw_g (lw_at lw_m1 15 rfl) rfl
theorem q829 : (Jvm.Cond.selects "AskedCourtModel" ({ cls := "java/lang/Object", name := "getClass", desc := "()Ljava/lang/Class;" } : Jvm.MethodName) ({ cls := "java/lang/Object", name := "getClass", desc := "()Ljava/lang/Class;" } : Jvm.MethodName)) ∈ lw_all := lw_g (lw_at lw_m3 210 rfl) rfl
theorem q1579 : (Jvm.Cond.instantiable "AskedCourtModel" (81 : Nat)) ∈ lw_all := lw_g (lw_at lw_m7 0 rfl) rfl
theorem q1581 : (Jvm.Cond.instanceMethod ({ cls := "AskedCourtModel", name := "<init>", desc := "()V" } : Jvm.MethodName)) ∈ lw_all := lw_g (lw_at lw_m7 2 rfl) rfl
theorem q1582 : (Jvm.Cond.code ({ cls := "AskedCourtModel", name := "<init>", desc := "()V" } : Jvm.MethodName) prog_24_method_1_code (1 : Nat) (Option.none : Option Jvm.ClassFile.FieldType)) ∈ lw_all := lw_g (lw_at lw_m7 3 rfl) rfl
theorem q1583 : (Jvm.Cond.methodLink "AskedCourtModel" (1 : Nat) ({ cls := "java/lang/Object", name := "<init>", desc := "()V" } : Jvm.MethodName)) ∈ lw_all := lw_g (lw_at lw_m7 4 rfl) rfl
theorem q1584 : (Jvm.Cond.methodLink "AskedCourtModel" (142 : Nat) ({ cls := "AskedCourtModel", name := "plain", desc := "()V" } : Jvm.MethodName)) ∈ lw_all := lw_g (lw_at lw_m7 5 rfl) rfl
theorem q1585 : (Jvm.Cond.privateMethod ({ cls := "AskedCourtModel", name := "plain", desc := "()V" } : Jvm.MethodName)) ∈ lw_tbl := lw_at lw_m7 6 rfl
theorem q1586 : (Jvm.Cond.instanceMethod ({ cls := "AskedCourtModel", name := "plain", desc := "()V" } : Jvm.MethodName)) ∈ lw_all := lw_g (lw_at lw_m7 7 rfl) rfl
theorem q1587 : (Jvm.Cond.code ({ cls := "AskedCourtModel", name := "plain", desc := "()V" } : Jvm.MethodName) prog_24_method_17_code (2 : Nat) (Option.none : Option Jvm.ClassFile.FieldType)) ∈ lw_all := lw_g (lw_at lw_m7 8 rfl) rfl
theorem q1588 : (Jvm.Cond.methodLink "AskedCourtModel" (145 : Nat) ({ cls := "AskedCourtModel", name := "keepText", desc := "()V" } : Jvm.MethodName)) ∈ lw_all := lw_g (lw_at lw_m7 9 rfl) rfl
theorem q1589 : (Jvm.Cond.privateMethod ({ cls := "AskedCourtModel", name := "keepText", desc := "()V" } : Jvm.MethodName)) ∈ lw_tbl := lw_at lw_m7 10 rfl
theorem q1590 : (Jvm.Cond.instanceMethod ({ cls := "AskedCourtModel", name := "keepText", desc := "()V" } : Jvm.MethodName)) ∈ lw_all := lw_g (lw_at lw_m7 11 rfl) rfl
theorem q1591 : (Jvm.Cond.code ({ cls := "AskedCourtModel", name := "keepText", desc := "()V" } : Jvm.MethodName) prog_24_method_19_code (2 : Nat) (Option.none : Option Jvm.ClassFile.FieldType)) ∈ lw_all := lw_g (lw_at lw_m7 12 rfl) rfl
theorem q1592 : (Jvm.Cond.methodLink "AskedCourtModel" (243 : Nat) ({ cls := "AskedCourtModel", name := "copies", desc := "([II)V" } : Jvm.MethodName)) ∈ lw_all := lw_g (lw_at lw_m7 13 rfl) rfl
theorem q1593 : (Jvm.Cond.static ({ cls := "AskedCourtModel", name := "copies", desc := "([II)V" } : Jvm.MethodName)) ∈ lw_all := lw_g (lw_at lw_m7 14 rfl) rfl
theorem q1594 : (Jvm.Cond.code ({ cls := "AskedCourtModel", name := "copies", desc := "([II)V" } : Jvm.MethodName) prog_24_method_18_code (3 : Nat) (Option.none : Option Jvm.ClassFile.FieldType)) ∈ lw_all := lw_g (lw_at lw_m7 15 rfl) rfl
theorem q1595 : (Jvm.Cond.methodLink "AskedCourtModel" (247 : Nat) ({ cls := "AskedCourtModel", name := "begin", desc := "()V" } : Jvm.MethodName)) ∈ lw_all := lw_g (lw_at lw_m7 16 rfl) rfl
theorem q1596 : (Jvm.Cond.privateMethod ({ cls := "AskedCourtModel", name := "begin", desc := "()V" } : Jvm.MethodName)) ∈ lw_tbl := lw_at lw_m7 17 rfl
theorem q1597 : (Jvm.Cond.instanceMethod ({ cls := "AskedCourtModel", name := "begin", desc := "()V" } : Jvm.MethodName)) ∈ lw_all := lw_g (lw_at lw_m7 18 rfl) rfl
theorem q1598 : (Jvm.Cond.code ({ cls := "AskedCourtModel", name := "begin", desc := "()V" } : Jvm.MethodName) prog_24_method_48_code (1 : Nat) (Option.none : Option Jvm.ClassFile.FieldType)) ∈ lw_all := lw_g (lw_at lw_m7 19 rfl) rfl
theorem q1599 : (Jvm.Cond.methodLink "AskedCourtModel" (361 : Nat) ({ cls := "AskedCourtModel", name := "atFirst", desc := "(I)V" } : Jvm.MethodName)) ∈ lw_all := lw_g (lw_at lw_m7 20 rfl) rfl
theorem q1600 : (Jvm.Cond.privateMethod ({ cls := "AskedCourtModel", name := "atFirst", desc := "(I)V" } : Jvm.MethodName)) ∈ lw_tbl := lw_at lw_m7 21 rfl
theorem q1601 : (Jvm.Cond.instanceMethod ({ cls := "AskedCourtModel", name := "atFirst", desc := "(I)V" } : Jvm.MethodName)) ∈ lw_all := lw_g (lw_at lw_m7 22 rfl) rfl
theorem q1602 : (Jvm.Cond.code ({ cls := "AskedCourtModel", name := "atFirst", desc := "(I)V" } : Jvm.MethodName) prog_24_method_49_code (3 : Nat) (Option.none : Option Jvm.ClassFile.FieldType)) ∈ lw_all := lw_g (lw_at lw_m7 23 rfl) rfl
theorem q1603 : (Jvm.Cond.methodLink "AskedCourtModel" (371 : Nat) ({ cls := "AskedCourtModel", name := "plainTried", desc := "()V" } : Jvm.MethodName)) ∈ lw_all := lw_g (lw_at lw_m7 24 rfl) rfl
theorem q1604 : (Jvm.Cond.privateMethod ({ cls := "AskedCourtModel", name := "plainTried", desc := "()V" } : Jvm.MethodName)) ∈ lw_tbl := lw_at lw_m7 25 rfl
theorem q1605 : (Jvm.Cond.instanceMethod ({ cls := "AskedCourtModel", name := "plainTried", desc := "()V" } : Jvm.MethodName)) ∈ lw_all := lw_g (lw_at lw_m7 26 rfl) rfl
theorem q1606 : (Jvm.Cond.code ({ cls := "AskedCourtModel", name := "plainTried", desc := "()V" } : Jvm.MethodName) prog_24_method_50_code (1 : Nat) (Option.none : Option Jvm.ClassFile.FieldType)) ∈ lw_all := lw_g (lw_at lw_m7 27 rfl) rfl
theorem q1607 : (Jvm.Cond.fieldLink "AskedCourtModel" (7 : Nat) "AskedCourtModel" "tape" "[I") ∈ lw_all := lw_g (lw_at lw_m7 28 rfl) rfl
theorem q1608 : (Jvm.Cond.fieldLink "AskedCourtModel" (151 : Nat) "AskedCourtModel" "tapeSize" "I") ∈ lw_all := lw_g (lw_at lw_m7 29 rfl) rfl
theorem q1609 : (Jvm.Cond.fieldLink "AskedCourtModel" (148 : Nat) "AskedCourtModel" "thrown" "I") ∈ lw_all := lw_g (lw_at lw_m7 30 rfl) rfl
theorem q1610 : (Jvm.Cond.fieldLink "AskedCourtModel" (13 : Nat) "AskedCourtModel" "words" "[I") ∈ lw_all := lw_g (lw_at lw_m7 31 rfl) rfl
theorem q1611 : (Jvm.Cond.fieldLink "AskedCourtModel" (154 : Nat) "AskedCourtModel" "fault" "I") ∈ lw_all := lw_g (lw_at lw_m7 32 rfl) rfl
theorem q1612 : (Jvm.Cond.fieldLink "AskedCourtModel" (16 : Nat) "AskedCourtModel" "faultPlace" "I") ∈ lw_all := lw_g (lw_at lw_m7 33 rfl) rfl
theorem q1613 : (Jvm.Cond.fieldLink "AskedCourtModel" (160 : Nat) "AskedCourtModel" "stop" "I") ∈ lw_all := lw_g (lw_at lw_m7 34 rfl) rfl
theorem q1614 : (Jvm.Cond.fieldLink "AskedCourtModel" (163 : Nat) "AskedCourtModel" "next" "I") ∈ lw_all := lw_g (lw_at lw_m7 35 rfl) rfl
theorem q1615 : (Jvm.Cond.fieldLink "AskedCourtModel" (166 : Nat) "AskedCourtModel" "kind" "I") ∈ lw_all := lw_g (lw_at lw_m7 36 rfl) rfl
theorem q1616 : (Jvm.Cond.fieldLink "AskedCourtModel" (177 : Nat) "AskedCourtModel" "which" "I") ∈ lw_all := lw_g (lw_at lw_m7 37 rfl) rfl
theorem q1617 : (Jvm.Cond.fieldLink "AskedCourtModel" (157 : Nat) "AskedCourtModel" "at" "I") ∈ lw_all := lw_g (lw_at lw_m7 38 rfl) rfl
theorem q1618 : (Jvm.Cond.fieldLink "AskedCourtModel" (197 : Nat) "AskedCourtModel" "got" "I") ∈ lw_all := lw_g (lw_at lw_m7 39 rfl) rfl
theorem q1619 : (Jvm.Cond.fieldLink "AskedCourtModel" (228 : Nat) "AskedCourtModel" "facts" "I") ∈ lw_all := lw_g (lw_at lw_m7 40 rfl) rfl
theorem q1620 : (Jvm.Cond.fieldLink "AskedCourtModel" (231 : Nat) "AskedCourtModel" "persons" "I") ∈ lw_all := lw_g (lw_at lw_m7 41 rfl) rfl
theorem q1621 : (Jvm.Cond.fieldLink "AskedCourtModel" (234 : Nat) "AskedCourtModel" "questions" "I") ∈ lw_all := lw_g (lw_at lw_m7 42 rfl) rfl
theorem q1622 : (Jvm.Cond.fieldLink "AskedCourtModel" (237 : Nat) "AskedCourtModel" "talks" "I") ∈ lw_all := lw_g (lw_at lw_m7 43 rfl) rfl
theorem q1623 : (Jvm.Cond.fieldLink "AskedCourtModel" (240 : Nat) "AskedCourtModel" "knots" "I") ∈ lw_all := lw_g (lw_at lw_m7 44 rfl) rfl
theorem q1624 : (Jvm.Cond.fieldLink "AskedCourtModel" (210 : Nat) "AskedCourtModel" "factsRead" "I") ∈ lw_all := lw_g (lw_at lw_m7 45 rfl) rfl
theorem q1625 : (Jvm.Cond.fieldLink "AskedCourtModel" (213 : Nat) "AskedCourtModel" "personsRead" "I") ∈ lw_all := lw_g (lw_at lw_m7 46 rfl) rfl
theorem q1626 : (Jvm.Cond.fieldLink "AskedCourtModel" (216 : Nat) "AskedCourtModel" "questionsRead" "I") ∈ lw_all := lw_g (lw_at lw_m7 47 rfl) rfl
theorem q1627 : (Jvm.Cond.fieldLink "AskedCourtModel" (219 : Nat) "AskedCourtModel" "talksRead" "I") ∈ lw_all := lw_g (lw_at lw_m7 48 rfl) rfl
theorem q1628 : (Jvm.Cond.fieldLink "AskedCourtModel" (222 : Nat) "AskedCourtModel" "knotsRead" "I") ∈ lw_all := lw_g (lw_at lw_m7 49 rfl) rfl
theorem q1629 : (Jvm.Cond.fieldLink "AskedCourtModel" (20 : Nat) "AskedCourtModel" "onceTold" "[Z") ∈ lw_all := lw_g (lw_at lw_m7 50 rfl) rfl
theorem q1630 : (Jvm.Cond.fieldLink "AskedCourtModel" (24 : Nat) "AskedCourtModel" "once" "[I") ∈ lw_all := lw_g (lw_at lw_m7 51 rfl) rfl
theorem q1631 : (Jvm.Cond.fieldLink "AskedCourtModel" (27 : Nat) "AskedCourtModel" "factName" "[I") ∈ lw_all := lw_g (lw_at lw_m7 52 rfl) rfl
theorem q1632 : (Jvm.Cond.fieldLink "AskedCourtModel" (30 : Nat) "AskedCourtModel" "personName" "[I") ∈ lw_all := lw_g (lw_at lw_m7 53 rfl) rfl
theorem q1633 : (Jvm.Cond.fieldLink "AskedCourtModel" (33 : Nat) "AskedCourtModel" "personLips" "[I") ∈ lw_all := lw_g (lw_at lw_m7 54 rfl) rfl
theorem q1634 : (Jvm.Cond.fieldLink "AskedCourtModel" (36 : Nat) "AskedCourtModel" "personWit" "[I") ∈ lw_all := lw_g (lw_at lw_m7 55 rfl) rfl
theorem q1635 : (Jvm.Cond.fieldLink "AskedCourtModel" (39 : Nat) "AskedCourtModel" "personRoom" "[I") ∈ lw_all := lw_g (lw_at lw_m7 56 rfl) rfl
theorem q1636 : (Jvm.Cond.fieldLink "AskedCourtModel" (42 : Nat) "AskedCourtModel" "personKnows" "[I") ∈ lw_all := lw_g (lw_at lw_m7 57 rfl) rfl
theorem q1637 : (Jvm.Cond.fieldLink "AskedCourtModel" (45 : Nat) "AskedCourtModel" "questionName" "[I") ∈ lw_all := lw_g (lw_at lw_m7 58 rfl) rfl
theorem q1638 : (Jvm.Cond.fieldLink "AskedCourtModel" (48 : Nat) "AskedCourtModel" "questionKind" "[I") ∈ lw_all := lw_g (lw_at lw_m7 59 rfl) rfl
theorem q1639 : (Jvm.Cond.fieldLink "AskedCourtModel" (51 : Nat) "AskedCourtModel" "questionSays" "[I") ∈ lw_all := lw_g (lw_at lw_m7 60 rfl) rfl
theorem q1640 : (Jvm.Cond.fieldLink "AskedCourtModel" (54 : Nat) "AskedCourtModel" "questionAlso" "[I") ∈ lw_all := lw_g (lw_at lw_m7 61 rfl) rfl
theorem q1641 : (Jvm.Cond.fieldLink "AskedCourtModel" (57 : Nat) "AskedCourtModel" "questionAsks" "[I") ∈ lw_all := lw_g (lw_at lw_m7 62 rfl) rfl
theorem q1642 : (Jvm.Cond.fieldLink "AskedCourtModel" (60 : Nat) "AskedCourtModel" "talkWho" "[I") ∈ lw_all := lw_g (lw_at lw_m7 63 rfl) rfl
theorem q1643 : (Jvm.Cond.fieldLink "AskedCourtModel" (63 : Nat) "AskedCourtModel" "talkWhom" "[I") ∈ lw_all := lw_g (lw_at lw_m7 64 rfl) rfl
theorem q1644 : (Jvm.Cond.fieldLink "AskedCourtModel" (66 : Nat) "AskedCourtModel" "talkWhat" "[I") ∈ lw_all := lw_g (lw_at lw_m7 65 rfl) rfl
theorem q1645 : (Jvm.Cond.fieldLink "AskedCourtModel" (69 : Nat) "AskedCourtModel" "lawTold" "[Z") ∈ lw_all := lw_g (lw_at lw_m7 66 rfl) rfl
theorem q1646 : (Jvm.Cond.fieldLink "AskedCourtModel" (72 : Nat) "AskedCourtModel" "first" "[I") ∈ lw_all := lw_g (lw_at lw_m7 67 rfl) rfl
theorem q1647 : (Jvm.Cond.fieldLink "AskedCourtModel" (75 : Nat) "AskedCourtModel" "last" "[I") ∈ lw_all := lw_g (lw_at lw_m7 68 rfl) rfl
theorem q1648 : (Jvm.Cond.fieldLink "AskedCourtModel" (78 : Nat) "AskedCourtModel" "knot" "[I") ∈ lw_all := lw_g (lw_at lw_m7 69 rfl) rfl
theorem q1649 : (Jvm.Cond.fieldLink "AskedCourtModel" (81 : Nat) "AskedCourtModel" "part" "[I") ∈ lw_all := lw_g (lw_at lw_m7 70 rfl) rfl
theorem q1650 : (Jvm.Cond.fieldLink "AskedCourtModel" (84 : Nat) "AskedCourtModel" "other" "[I") ∈ lw_all := lw_g (lw_at lw_m7 71 rfl) rfl
theorem q1651 : (Jvm.Cond.fieldLink "AskedCourtModel" (87 : Nat) "AskedCourtModel" "wait" "[I") ∈ lw_all := lw_g (lw_at lw_m7 72 rfl) rfl
theorem q1652 : (Jvm.Cond.fieldLink "AskedCourtModel" (90 : Nat) "AskedCourtModel" "held" "[I") ∈ lw_all := lw_g (lw_at lw_m7 73 rfl) rfl
theorem q1653 : (Jvm.Cond.fieldLink "AskedCourtModel" (298 : Nat) "AskedCourtModel" "waits" "I") ∈ lw_all := lw_g (lw_at lw_m7 74 rfl) rfl
theorem q1654 : (Jvm.Cond.fieldLink "AskedCourtModel" (295 : Nat) "AskedCourtModel" "helds" "I") ∈ lw_all := lw_g (lw_at lw_m7 75 rfl) rfl
theorem q1655 : (Jvm.Cond.fieldLink "AskedCourtModel" (313 : Nat) "AskedCourtModel" "brackets" "I") ∈ lw_all := lw_g (lw_at lw_m7 76 rfl) rfl
theorem q1656 : (Jvm.Cond.fieldLink "AskedCourtModel" (225 : Nat) "AskedCourtModel" "counted" "I") ∈ lw_all := lw_g (lw_at lw_m7 77 rfl) rfl
theorem q1657 : (Jvm.Cond.fieldLink "AskedCourtModel" (330 : Nat) "AskedCourtModel" "wants" "Z") ∈ lw_all := lw_g (lw_at lw_m7 78 rfl) rfl
theorem q1658 : (Jvm.Cond.fieldLink "AskedCourtModel" (320 : Nat) "AskedCourtModel" "mayNot" "Z") ∈ lw_all := lw_g (lw_at lw_m7 79 rfl) rfl
theorem q1659 : (Jvm.Cond.fieldLink "AskedCourtModel" (93 : Nat) "AskedCourtModel" "names" "[J") ∈ lw_all := lw_g (lw_at lw_m7 80 rfl) rfl
theorem q1660 : (Jvm.Cond.fieldLink "AskedCourtModel" (97 : Nat) "AskedCourtModel" "value" "[J") ∈ lw_all := lw_g (lw_at lw_m7 81 rfl) rfl
theorem q1661 : (Jvm.Cond.fieldLink "AskedCourtModel" (342 : Nat) "AskedCourtModel" "isError" "Z") ∈ lw_all := lw_g (lw_at lw_m7 82 rfl) rfl
theorem q1662 : (Jvm.Cond.fieldLink "AskedCourtModel" (100 : Nat) "AskedCourtModel" "knows" "[I") ∈ lw_all := lw_g (lw_at lw_m7 83 rfl) rfl
theorem q1663 : (Jvm.Cond.fieldLink "AskedCourtModel" (103 : Nat) "AskedCourtModel" "lost" "[I") ∈ lw_all := lw_g (lw_at lw_m7 84 rfl) rfl
theorem q1664 : (Jvm.Cond.fieldLink "AskedCourtModel" (106 : Nat) "AskedCourtModel" "room" "[I") ∈ lw_all := lw_g (lw_at lw_m7 85 rfl) rfl
theorem q1665 : (Jvm.Cond.fieldLink "AskedCourtModel" (109 : Nat) "AskedCourtModel" "asked" "[I") ∈ lw_all := lw_g (lw_at lw_m7 86 rfl) rfl
theorem q1666 : (Jvm.Cond.fieldLink "AskedCourtModel" (112 : Nat) "AskedCourtModel" "day" "[I") ∈ lw_all := lw_g (lw_at lw_m7 87 rfl) rfl
theorem q1667 : (Jvm.Cond.fieldLink "AskedCourtModel" (364 : Nat) "AskedCourtModel" "askedAll" "I") ∈ lw_all := lw_g (lw_at lw_m7 88 rfl) rfl
theorem q1668 : (Jvm.Cond.fieldLink "AskedCourtModel" (367 : Nat) "AskedCourtModel" "drawn" "J") ∈ lw_all := lw_g (lw_at lw_m7 89 rfl) rfl
theorem q1669 : (Jvm.Cond.fieldLink "AskedCourtModel" (383 : Nat) "AskedCourtModel" "draws" "Z") ∈ lw_all := lw_g (lw_at lw_m7 90 rfl) rfl
theorem q1670 : (Jvm.Cond.fieldLink "AskedCourtModel" (386 : Nat) "AskedCourtModel" "noNine" "Z") ∈ lw_all := lw_g (lw_at lw_m7 91 rfl) rfl
theorem q1671 : (Jvm.Cond.fieldLink "AskedCourtModel" (389 : Nat) "AskedCourtModel" "noSlip" "Z") ∈ lw_all := lw_g (lw_at lw_m7 92 rfl) rfl
theorem q1672 : (Jvm.Cond.fieldLink "AskedCourtModel" (392 : Nat) "AskedCourtModel" "allWit" "Z") ∈ lw_all := lw_g (lw_at lw_m7 93 rfl) rfl
theorem q1673 : (Jvm.Cond.fieldLink "AskedCourtModel" (395 : Nat) "AskedCourtModel" "gone" "I") ∈ lw_all := lw_g (lw_at lw_m7 94 rfl) rfl
theorem q1674 : (Jvm.Cond.fieldLink "AskedCourtModel" (398 : Nat) "AskedCourtModel" "without" "I") ∈ lw_all := lw_g (lw_at lw_m7 95 rfl) rfl
theorem q1675 : (Jvm.Cond.fieldLink "AskedCourtModel" (115 : Nat) "AskedCourtModel" "row" "[I") ∈ lw_all := lw_g (lw_at lw_m7 96 rfl) rfl
theorem q1676 : (Jvm.Cond.fieldLink "AskedCourtModel" (118 : Nat) "AskedCourtModel" "hasOne" "[I") ∈ lw_all := lw_g (lw_at lw_m7 97 rfl) rfl
theorem q1677 : (Jvm.Cond.fieldLink "AskedCourtModel" (121 : Nat) "AskedCourtModel" "hasTwo" "[I") ∈ lw_all := lw_g (lw_at lw_m7 98 rfl) rfl
theorem q1678 : (Jvm.Cond.fieldLink "AskedCourtModel" (374 : Nat) "AskedCourtModel" "notesMany" "I") ∈ lw_all := lw_g (lw_at lw_m7 99 rfl) rfl
theorem q1679 : (Jvm.Cond.fieldLink "AskedCourtModel" (124 : Nat) "AskedCourtModel" "knownTold" "I") ∈ lw_all := lw_g (lw_at lw_m7 100 rfl) rfl
theorem q1680 : (Jvm.Cond.fieldLink "AskedCourtModel" (127 : Nat) "AskedCourtModel" "notes" "[I") ∈ lw_all := lw_g (lw_at lw_m7 101 rfl) rfl
theorem q1681 : (Jvm.Cond.fieldLink "AskedCourtModel" (130 : Nat) "AskedCourtModel" "counts" "[Z") ∈ lw_all := lw_g (lw_at lw_m7 102 rfl) rfl
theorem q1682 : (Jvm.Cond.fieldLink "AskedCourtModel" (377 : Nat) "AskedCourtModel" "undos" "I") ∈ lw_all := lw_g (lw_at lw_m7 103 rfl) rfl
theorem q1683 : (Jvm.Cond.fieldLink "AskedCourtModel" (133 : Nat) "AskedCourtModel" "undo" "[I") ∈ lw_all := lw_g (lw_at lw_m7 104 rfl) rfl
theorem q1684 : (Jvm.Cond.fieldLink "AskedCourtModel" (136 : Nat) "AskedCourtModel" "undoDrawn" "[J") ∈ lw_all := lw_g (lw_at lw_m7 105 rfl) rfl
theorem q1685 : (Jvm.Cond.fieldLink "AskedCourtModel" (380 : Nat) "AskedCourtModel" "hasImage" "Z") ∈ lw_all := lw_g (lw_at lw_m7 106 rfl) rfl
theorem q1686 : (Jvm.Cond.fieldLink "AskedCourtModel" (139 : Nat) "AskedCourtModel" "image" "[I") ∈ lw_all := lw_g (lw_at lw_m7 107 rfl) rfl
theorem q1687 : (Jvm.Cond.fieldLink "AskedCourtModel" (543 : Nat) "AskedCourtModel" "imageDrawn" "J") ∈ lw_all := lw_g (lw_at lw_m7 108 rfl) rfl
theorem q1688 : (Jvm.Cond.laysFinal "AskedCourtModel" "AskedCourtModel" "tape" "[I") ∈ lw_all := lw_g (lw_at lw_m7 109 rfl) rfl
theorem q1689 : (Jvm.Cond.soleField "AskedCourtModel" "tape") ∈ lw_all := lw_g (lw_at lw_m7 110 rfl) rfl
theorem q1690 : (Jvm.Cond.lays "AskedCourtModel" "AskedCourtModel" "tapeSize" "I") ∈ lw_all := lw_g (lw_at lw_m7 111 rfl) rfl
theorem q1691 : (Jvm.Cond.soleField "AskedCourtModel" "tapeSize") ∈ lw_all := lw_g (lw_at lw_m7 112 rfl) rfl
theorem q1692 : (Jvm.Cond.lays "AskedCourtModel" "AskedCourtModel" "thrown" "I") ∈ lw_all := lw_g (lw_at lw_m7 113 rfl) rfl
theorem q1693 : (Jvm.Cond.soleField "AskedCourtModel" "thrown") ∈ lw_all := lw_g (lw_at lw_m7 114 rfl) rfl
theorem q1694 : (Jvm.Cond.laysFinal "AskedCourtModel" "AskedCourtModel" "words" "[I") ∈ lw_all := lw_g (lw_at lw_m7 115 rfl) rfl
theorem q1695 : (Jvm.Cond.soleField "AskedCourtModel" "words") ∈ lw_all := lw_g (lw_at lw_m7 116 rfl) rfl
theorem q1696 : (Jvm.Cond.lays "AskedCourtModel" "AskedCourtModel" "fault" "I") ∈ lw_all := lw_g (lw_at lw_m7 117 rfl) rfl
theorem q1697 : (Jvm.Cond.soleField "AskedCourtModel" "fault") ∈ lw_all := lw_g (lw_at lw_m7 118 rfl) rfl
theorem q1698 : (Jvm.Cond.lays "AskedCourtModel" "AskedCourtModel" "faultPlace" "I") ∈ lw_all := lw_g (lw_at lw_m7 119 rfl) rfl
theorem q1699 : (Jvm.Cond.soleField "AskedCourtModel" "faultPlace") ∈ lw_all := lw_g (lw_at lw_m7 120 rfl) rfl
theorem q1700 : (Jvm.Cond.lays "AskedCourtModel" "AskedCourtModel" "stop" "I") ∈ lw_all := lw_g (lw_at lw_m7 121 rfl) rfl
theorem q1701 : (Jvm.Cond.soleField "AskedCourtModel" "stop") ∈ lw_all := lw_g (lw_at lw_m7 122 rfl) rfl
theorem q1702 : (Jvm.Cond.lays "AskedCourtModel" "AskedCourtModel" "next" "I") ∈ lw_all := lw_g (lw_at lw_m7 123 rfl) rfl
theorem q1703 : (Jvm.Cond.soleField "AskedCourtModel" "next") ∈ lw_all := lw_g (lw_at lw_m7 124 rfl) rfl
theorem q1704 : (Jvm.Cond.lays "AskedCourtModel" "AskedCourtModel" "kind" "I") ∈ lw_all := lw_g (lw_at lw_m7 125 rfl) rfl
theorem q1705 : (Jvm.Cond.soleField "AskedCourtModel" "kind") ∈ lw_all := lw_g (lw_at lw_m7 126 rfl) rfl
theorem q1706 : (Jvm.Cond.lays "AskedCourtModel" "AskedCourtModel" "which" "I") ∈ lw_all := lw_g (lw_at lw_m7 127 rfl) rfl
theorem q1707 : (Jvm.Cond.soleField "AskedCourtModel" "which") ∈ lw_all := lw_g (lw_at lw_m7 128 rfl) rfl
theorem q1708 : (Jvm.Cond.lays "AskedCourtModel" "AskedCourtModel" "at" "I") ∈ lw_all := lw_g (lw_at lw_m7 129 rfl) rfl
theorem q1709 : (Jvm.Cond.soleField "AskedCourtModel" "at") ∈ lw_all := lw_g (lw_at lw_m7 130 rfl) rfl
theorem q1710 : (Jvm.Cond.lays "AskedCourtModel" "AskedCourtModel" "got" "I") ∈ lw_all := lw_g (lw_at lw_m7 131 rfl) rfl
theorem q1711 : (Jvm.Cond.soleField "AskedCourtModel" "got") ∈ lw_all := lw_g (lw_at lw_m7 132 rfl) rfl
theorem q1712 : (Jvm.Cond.lays "AskedCourtModel" "AskedCourtModel" "facts" "I") ∈ lw_all := lw_g (lw_at lw_m7 133 rfl) rfl
theorem q1713 : (Jvm.Cond.soleField "AskedCourtModel" "facts") ∈ lw_all := lw_g (lw_at lw_m7 134 rfl) rfl
theorem q1714 : (Jvm.Cond.lays "AskedCourtModel" "AskedCourtModel" "persons" "I") ∈ lw_all := lw_g (lw_at lw_m7 135 rfl) rfl
theorem q1715 : (Jvm.Cond.soleField "AskedCourtModel" "persons") ∈ lw_all := lw_g (lw_at lw_m7 136 rfl) rfl
theorem q1716 : (Jvm.Cond.lays "AskedCourtModel" "AskedCourtModel" "questions" "I") ∈ lw_all := lw_g (lw_at lw_m7 137 rfl) rfl
theorem q1717 : (Jvm.Cond.soleField "AskedCourtModel" "questions") ∈ lw_all := lw_g (lw_at lw_m7 138 rfl) rfl
theorem q1718 : (Jvm.Cond.lays "AskedCourtModel" "AskedCourtModel" "talks" "I") ∈ lw_all := lw_g (lw_at lw_m7 139 rfl) rfl
theorem q1719 : (Jvm.Cond.soleField "AskedCourtModel" "talks") ∈ lw_all := lw_g (lw_at lw_m7 140 rfl) rfl
theorem q1720 : (Jvm.Cond.lays "AskedCourtModel" "AskedCourtModel" "knots" "I") ∈ lw_all := lw_g (lw_at lw_m7 141 rfl) rfl
theorem q1721 : (Jvm.Cond.soleField "AskedCourtModel" "knots") ∈ lw_all := lw_g (lw_at lw_m7 142 rfl) rfl
theorem q1722 : (Jvm.Cond.lays "AskedCourtModel" "AskedCourtModel" "factsRead" "I") ∈ lw_all := lw_g (lw_at lw_m7 143 rfl) rfl
theorem q1723 : (Jvm.Cond.soleField "AskedCourtModel" "factsRead") ∈ lw_all := lw_g (lw_at lw_m7 144 rfl) rfl
theorem q1724 : (Jvm.Cond.lays "AskedCourtModel" "AskedCourtModel" "personsRead" "I") ∈ lw_all := lw_g (lw_at lw_m7 145 rfl) rfl
theorem q1725 : (Jvm.Cond.soleField "AskedCourtModel" "personsRead") ∈ lw_all := lw_g (lw_at lw_m7 146 rfl) rfl
theorem q1726 : (Jvm.Cond.lays "AskedCourtModel" "AskedCourtModel" "questionsRead" "I") ∈ lw_all := lw_g (lw_at lw_m7 147 rfl) rfl
theorem q1727 : (Jvm.Cond.soleField "AskedCourtModel" "questionsRead") ∈ lw_all := lw_g (lw_at lw_m7 148 rfl) rfl
theorem q1728 : (Jvm.Cond.lays "AskedCourtModel" "AskedCourtModel" "talksRead" "I") ∈ lw_all := lw_g (lw_at lw_m7 149 rfl) rfl
theorem q1729 : (Jvm.Cond.soleField "AskedCourtModel" "talksRead") ∈ lw_all := lw_g (lw_at lw_m7 150 rfl) rfl
theorem q1730 : (Jvm.Cond.lays "AskedCourtModel" "AskedCourtModel" "knotsRead" "I") ∈ lw_all := lw_g (lw_at lw_m7 151 rfl) rfl
theorem q1731 : (Jvm.Cond.soleField "AskedCourtModel" "knotsRead") ∈ lw_all := lw_g (lw_at lw_m7 152 rfl) rfl
theorem q1732 : (Jvm.Cond.laysFinal "AskedCourtModel" "AskedCourtModel" "onceTold" "[Z") ∈ lw_all := lw_g (lw_at lw_m7 153 rfl) rfl
theorem q1733 : (Jvm.Cond.soleField "AskedCourtModel" "onceTold") ∈ lw_all := lw_g (lw_at lw_m7 154 rfl) rfl
theorem q1734 : (Jvm.Cond.laysFinal "AskedCourtModel" "AskedCourtModel" "once" "[I") ∈ lw_all := lw_g (lw_at lw_m7 155 rfl) rfl
theorem q1735 : (Jvm.Cond.soleField "AskedCourtModel" "once") ∈ lw_all := lw_g (lw_at lw_m7 156 rfl) rfl
theorem q1736 : (Jvm.Cond.laysFinal "AskedCourtModel" "AskedCourtModel" "factName" "[I") ∈ lw_all := lw_g (lw_at lw_m7 157 rfl) rfl
theorem q1737 : (Jvm.Cond.soleField "AskedCourtModel" "factName") ∈ lw_all := lw_g (lw_at lw_m7 158 rfl) rfl
theorem q1738 : (Jvm.Cond.laysFinal "AskedCourtModel" "AskedCourtModel" "personName" "[I") ∈ lw_all := lw_g (lw_at lw_m7 159 rfl) rfl
theorem q1739 : (Jvm.Cond.soleField "AskedCourtModel" "personName") ∈ lw_all := lw_g (lw_at lw_m7 160 rfl) rfl
theorem q1740 : (Jvm.Cond.laysFinal "AskedCourtModel" "AskedCourtModel" "personLips" "[I") ∈ lw_all := lw_g (lw_at lw_m7 161 rfl) rfl
theorem q1741 : (Jvm.Cond.soleField "AskedCourtModel" "personLips") ∈ lw_all := lw_g (lw_at lw_m7 162 rfl) rfl
theorem q1742 : (Jvm.Cond.laysFinal "AskedCourtModel" "AskedCourtModel" "personWit" "[I") ∈ lw_all := lw_g (lw_at lw_m7 163 rfl) rfl
theorem q1743 : (Jvm.Cond.soleField "AskedCourtModel" "personWit") ∈ lw_all := lw_g (lw_at lw_m7 164 rfl) rfl
theorem q1744 : (Jvm.Cond.laysFinal "AskedCourtModel" "AskedCourtModel" "personRoom" "[I") ∈ lw_all := lw_g (lw_at lw_m7 165 rfl) rfl
theorem q1745 : (Jvm.Cond.soleField "AskedCourtModel" "personRoom") ∈ lw_all := lw_g (lw_at lw_m7 166 rfl) rfl
theorem q1746 : (Jvm.Cond.laysFinal "AskedCourtModel" "AskedCourtModel" "personKnows" "[I") ∈ lw_all := lw_g (lw_at lw_m7 167 rfl) rfl
theorem q1747 : (Jvm.Cond.soleField "AskedCourtModel" "personKnows") ∈ lw_all := lw_g (lw_at lw_m7 168 rfl) rfl
theorem q1748 : (Jvm.Cond.laysFinal "AskedCourtModel" "AskedCourtModel" "questionName" "[I") ∈ lw_all := lw_g (lw_at lw_m7 169 rfl) rfl
theorem q1749 : (Jvm.Cond.soleField "AskedCourtModel" "questionName") ∈ lw_all := lw_g (lw_at lw_m7 170 rfl) rfl
theorem q1750 : (Jvm.Cond.laysFinal "AskedCourtModel" "AskedCourtModel" "questionKind" "[I") ∈ lw_all := lw_g (lw_at lw_m7 171 rfl) rfl
theorem q1751 : (Jvm.Cond.soleField "AskedCourtModel" "questionKind") ∈ lw_all := lw_g (lw_at lw_m7 172 rfl) rfl
theorem q1752 : (Jvm.Cond.laysFinal "AskedCourtModel" "AskedCourtModel" "questionSays" "[I") ∈ lw_all := lw_g (lw_at lw_m7 173 rfl) rfl
theorem q1753 : (Jvm.Cond.soleField "AskedCourtModel" "questionSays") ∈ lw_all := lw_g (lw_at lw_m7 174 rfl) rfl
theorem q1754 : (Jvm.Cond.laysFinal "AskedCourtModel" "AskedCourtModel" "questionAlso" "[I") ∈ lw_all := lw_g (lw_at lw_m7 175 rfl) rfl
theorem q1755 : (Jvm.Cond.soleField "AskedCourtModel" "questionAlso") ∈ lw_all := lw_g (lw_at lw_m7 176 rfl) rfl
theorem q1756 : (Jvm.Cond.laysFinal "AskedCourtModel" "AskedCourtModel" "questionAsks" "[I") ∈ lw_all := lw_g (lw_at lw_m7 177 rfl) rfl
theorem q1757 : (Jvm.Cond.soleField "AskedCourtModel" "questionAsks") ∈ lw_all := lw_g (lw_at lw_m7 178 rfl) rfl
theorem q1758 : (Jvm.Cond.laysFinal "AskedCourtModel" "AskedCourtModel" "talkWho" "[I") ∈ lw_all := lw_g (lw_at lw_m7 179 rfl) rfl
theorem q1759 : (Jvm.Cond.soleField "AskedCourtModel" "talkWho") ∈ lw_all := lw_g (lw_at lw_m7 180 rfl) rfl
theorem q1760 : (Jvm.Cond.laysFinal "AskedCourtModel" "AskedCourtModel" "talkWhom" "[I") ∈ lw_all := lw_g (lw_at lw_m7 181 rfl) rfl
theorem q1761 : (Jvm.Cond.soleField "AskedCourtModel" "talkWhom") ∈ lw_all := lw_g (lw_at lw_m7 182 rfl) rfl
theorem q1762 : (Jvm.Cond.laysFinal "AskedCourtModel" "AskedCourtModel" "talkWhat" "[I") ∈ lw_all := lw_g (lw_at lw_m7 183 rfl) rfl
theorem q1763 : (Jvm.Cond.soleField "AskedCourtModel" "talkWhat") ∈ lw_all := lw_g (lw_at lw_m7 184 rfl) rfl
theorem q1764 : (Jvm.Cond.laysFinal "AskedCourtModel" "AskedCourtModel" "lawTold" "[Z") ∈ lw_all := lw_g (lw_at lw_m7 185 rfl) rfl
theorem q1765 : (Jvm.Cond.soleField "AskedCourtModel" "lawTold") ∈ lw_all := lw_g (lw_at lw_m7 186 rfl) rfl
theorem q1766 : (Jvm.Cond.laysFinal "AskedCourtModel" "AskedCourtModel" "first" "[I") ∈ lw_all := lw_g (lw_at lw_m7 187 rfl) rfl
theorem q1767 : (Jvm.Cond.soleField "AskedCourtModel" "first") ∈ lw_all := lw_g (lw_at lw_m7 188 rfl) rfl
theorem q1768 : (Jvm.Cond.laysFinal "AskedCourtModel" "AskedCourtModel" "last" "[I") ∈ lw_all := lw_g (lw_at lw_m7 189 rfl) rfl
theorem q1769 : (Jvm.Cond.soleField "AskedCourtModel" "last") ∈ lw_all := lw_g (lw_at lw_m7 190 rfl) rfl
theorem q1770 : (Jvm.Cond.laysFinal "AskedCourtModel" "AskedCourtModel" "knot" "[I") ∈ lw_all := lw_g (lw_at lw_m7 191 rfl) rfl
theorem q1771 : (Jvm.Cond.soleField "AskedCourtModel" "knot") ∈ lw_all := lw_g (lw_at lw_m7 192 rfl) rfl
theorem q1772 : (Jvm.Cond.laysFinal "AskedCourtModel" "AskedCourtModel" "part" "[I") ∈ lw_all := lw_g (lw_at lw_m7 193 rfl) rfl
theorem q1773 : (Jvm.Cond.soleField "AskedCourtModel" "part") ∈ lw_all := lw_g (lw_at lw_m7 194 rfl) rfl
theorem q1774 : (Jvm.Cond.laysFinal "AskedCourtModel" "AskedCourtModel" "other" "[I") ∈ lw_all := lw_g (lw_at lw_m7 195 rfl) rfl
theorem q1775 : (Jvm.Cond.soleField "AskedCourtModel" "other") ∈ lw_all := lw_g (lw_at lw_m7 196 rfl) rfl
theorem q1776 : (Jvm.Cond.laysFinal "AskedCourtModel" "AskedCourtModel" "wait" "[I") ∈ lw_all := lw_g (lw_at lw_m7 197 rfl) rfl
theorem q1777 : (Jvm.Cond.soleField "AskedCourtModel" "wait") ∈ lw_all := lw_g (lw_at lw_m7 198 rfl) rfl
theorem q1778 : (Jvm.Cond.laysFinal "AskedCourtModel" "AskedCourtModel" "held" "[I") ∈ lw_all := lw_g (lw_at lw_m7 199 rfl) rfl
theorem q1779 : (Jvm.Cond.soleField "AskedCourtModel" "held") ∈ lw_all := lw_g (lw_at lw_m7 200 rfl) rfl
theorem q1780 : (Jvm.Cond.lays "AskedCourtModel" "AskedCourtModel" "waits" "I") ∈ lw_all := lw_g (lw_at lw_m7 201 rfl) rfl
theorem q1781 : (Jvm.Cond.soleField "AskedCourtModel" "waits") ∈ lw_all := lw_g (lw_at lw_m7 202 rfl) rfl
theorem q1782 : (Jvm.Cond.lays "AskedCourtModel" "AskedCourtModel" "helds" "I") ∈ lw_all := lw_g (lw_at lw_m7 203 rfl) rfl
theorem q1783 : (Jvm.Cond.soleField "AskedCourtModel" "helds") ∈ lw_all := lw_g (lw_at lw_m7 204 rfl) rfl
theorem q1784 : (Jvm.Cond.lays "AskedCourtModel" "AskedCourtModel" "brackets" "I") ∈ lw_all := lw_g (lw_at lw_m7 205 rfl) rfl
theorem q1785 : (Jvm.Cond.soleField "AskedCourtModel" "brackets") ∈ lw_all := lw_g (lw_at lw_m7 206 rfl) rfl
theorem q1786 : (Jvm.Cond.lays "AskedCourtModel" "AskedCourtModel" "counted" "I") ∈ lw_all := lw_g (lw_at lw_m7 207 rfl) rfl
theorem q1787 : (Jvm.Cond.soleField "AskedCourtModel" "counted") ∈ lw_all := lw_g (lw_at lw_m7 208 rfl) rfl
theorem q1788 : (Jvm.Cond.lays "AskedCourtModel" "AskedCourtModel" "wants" "Z") ∈ lw_all := lw_g (lw_at lw_m7 209 rfl) rfl
theorem q1789 : (Jvm.Cond.soleField "AskedCourtModel" "wants") ∈ lw_all := lw_g (lw_at lw_m7 210 rfl) rfl
theorem q1790 : (Jvm.Cond.lays "AskedCourtModel" "AskedCourtModel" "mayNot" "Z") ∈ lw_all := lw_g (lw_at lw_m7 211 rfl) rfl
theorem q1791 : (Jvm.Cond.soleField "AskedCourtModel" "mayNot") ∈ lw_all := lw_g (lw_at lw_m7 212 rfl) rfl
theorem q1792 : (Jvm.Cond.laysFinal "AskedCourtModel" "AskedCourtModel" "names" "[J") ∈ lw_all := lw_g (lw_at lw_m7 213 rfl) rfl
theorem q1793 : (Jvm.Cond.soleField "AskedCourtModel" "names") ∈ lw_all := lw_g (lw_at lw_m7 214 rfl) rfl
theorem q1794 : (Jvm.Cond.laysFinal "AskedCourtModel" "AskedCourtModel" "value" "[J") ∈ lw_all := lw_g (lw_at lw_m7 215 rfl) rfl
theorem q1795 : (Jvm.Cond.soleField "AskedCourtModel" "value") ∈ lw_all := lw_g (lw_at lw_m7 216 rfl) rfl
theorem q1796 : (Jvm.Cond.lays "AskedCourtModel" "AskedCourtModel" "isError" "Z") ∈ lw_all := lw_g (lw_at lw_m7 217 rfl) rfl
theorem q1797 : (Jvm.Cond.soleField "AskedCourtModel" "isError") ∈ lw_all := lw_g (lw_at lw_m7 218 rfl) rfl
theorem q1798 : (Jvm.Cond.laysFinal "AskedCourtModel" "AskedCourtModel" "knows" "[I") ∈ lw_all := lw_g (lw_at lw_m7 219 rfl) rfl
theorem q1799 : (Jvm.Cond.soleField "AskedCourtModel" "knows") ∈ lw_all := lw_g (lw_at lw_m7 220 rfl) rfl
theorem q1800 : (Jvm.Cond.laysFinal "AskedCourtModel" "AskedCourtModel" "lost" "[I") ∈ lw_all := lw_g (lw_at lw_m7 221 rfl) rfl
theorem q1801 : (Jvm.Cond.soleField "AskedCourtModel" "lost") ∈ lw_all := lw_g (lw_at lw_m7 222 rfl) rfl
theorem q1802 : (Jvm.Cond.laysFinal "AskedCourtModel" "AskedCourtModel" "room" "[I") ∈ lw_all := lw_g (lw_at lw_m7 223 rfl) rfl
theorem q1803 : (Jvm.Cond.soleField "AskedCourtModel" "room") ∈ lw_all := lw_g (lw_at lw_m7 224 rfl) rfl
theorem q1804 : (Jvm.Cond.laysFinal "AskedCourtModel" "AskedCourtModel" "asked" "[I") ∈ lw_all := lw_g (lw_at lw_m7 225 rfl) rfl
theorem q1805 : (Jvm.Cond.soleField "AskedCourtModel" "asked") ∈ lw_all := lw_g (lw_at lw_m7 226 rfl) rfl
theorem q1806 : (Jvm.Cond.laysFinal "AskedCourtModel" "AskedCourtModel" "day" "[I") ∈ lw_all := lw_g (lw_at lw_m7 227 rfl) rfl
theorem q1807 : (Jvm.Cond.soleField "AskedCourtModel" "day") ∈ lw_all := lw_g (lw_at lw_m7 228 rfl) rfl
theorem q1808 : (Jvm.Cond.lays "AskedCourtModel" "AskedCourtModel" "askedAll" "I") ∈ lw_all := lw_g (lw_at lw_m7 229 rfl) rfl
theorem q1809 : (Jvm.Cond.soleField "AskedCourtModel" "askedAll") ∈ lw_all := lw_g (lw_at lw_m7 230 rfl) rfl
theorem q1810 : (Jvm.Cond.lays "AskedCourtModel" "AskedCourtModel" "drawn" "J") ∈ lw_all := lw_g (lw_at lw_m7 231 rfl) rfl
theorem q1811 : (Jvm.Cond.soleField "AskedCourtModel" "drawn") ∈ lw_all := lw_g (lw_at lw_m7 232 rfl) rfl
theorem q1812 : (Jvm.Cond.lays "AskedCourtModel" "AskedCourtModel" "draws" "Z") ∈ lw_all := lw_g (lw_at lw_m7 233 rfl) rfl
theorem q1813 : (Jvm.Cond.soleField "AskedCourtModel" "draws") ∈ lw_all := lw_g (lw_at lw_m7 234 rfl) rfl
theorem q1814 : (Jvm.Cond.lays "AskedCourtModel" "AskedCourtModel" "noNine" "Z") ∈ lw_all := lw_g (lw_at lw_m7 235 rfl) rfl
theorem q1815 : (Jvm.Cond.soleField "AskedCourtModel" "noNine") ∈ lw_all := lw_g (lw_at lw_m7 236 rfl) rfl
theorem q1816 : (Jvm.Cond.lays "AskedCourtModel" "AskedCourtModel" "noSlip" "Z") ∈ lw_all := lw_g (lw_at lw_m7 237 rfl) rfl
theorem q1817 : (Jvm.Cond.soleField "AskedCourtModel" "noSlip") ∈ lw_all := lw_g (lw_at lw_m7 238 rfl) rfl
theorem q1818 : (Jvm.Cond.lays "AskedCourtModel" "AskedCourtModel" "allWit" "Z") ∈ lw_all := lw_g (lw_at lw_m7 239 rfl) rfl
theorem q1819 : (Jvm.Cond.soleField "AskedCourtModel" "allWit") ∈ lw_all := lw_g (lw_at lw_m8 0 rfl) rfl
theorem q1820 : (Jvm.Cond.lays "AskedCourtModel" "AskedCourtModel" "gone" "I") ∈ lw_all := lw_g (lw_at lw_m8 1 rfl) rfl
theorem q1821 : (Jvm.Cond.soleField "AskedCourtModel" "gone") ∈ lw_all := lw_g (lw_at lw_m8 2 rfl) rfl
theorem q1822 : (Jvm.Cond.lays "AskedCourtModel" "AskedCourtModel" "without" "I") ∈ lw_all := lw_g (lw_at lw_m8 3 rfl) rfl
theorem q1823 : (Jvm.Cond.soleField "AskedCourtModel" "without") ∈ lw_all := lw_g (lw_at lw_m8 4 rfl) rfl
theorem q1824 : (Jvm.Cond.laysFinal "AskedCourtModel" "AskedCourtModel" "row" "[I") ∈ lw_all := lw_g (lw_at lw_m8 5 rfl) rfl
theorem q1825 : (Jvm.Cond.soleField "AskedCourtModel" "row") ∈ lw_all := lw_g (lw_at lw_m8 6 rfl) rfl
theorem q1826 : (Jvm.Cond.laysFinal "AskedCourtModel" "AskedCourtModel" "hasOne" "[I") ∈ lw_all := lw_g (lw_at lw_m8 7 rfl) rfl
theorem q1827 : (Jvm.Cond.soleField "AskedCourtModel" "hasOne") ∈ lw_all := lw_g (lw_at lw_m8 8 rfl) rfl
theorem q1828 : (Jvm.Cond.laysFinal "AskedCourtModel" "AskedCourtModel" "hasTwo" "[I") ∈ lw_all := lw_g (lw_at lw_m8 9 rfl) rfl
theorem q1829 : (Jvm.Cond.soleField "AskedCourtModel" "hasTwo") ∈ lw_all := lw_g (lw_at lw_m8 10 rfl) rfl
theorem q1830 : (Jvm.Cond.lays "AskedCourtModel" "AskedCourtModel" "notesMany" "I") ∈ lw_all := lw_g (lw_at lw_m8 11 rfl) rfl
theorem q1831 : (Jvm.Cond.soleField "AskedCourtModel" "notesMany") ∈ lw_all := lw_g (lw_at lw_m8 12 rfl) rfl
theorem q1832 : (Jvm.Cond.lays "AskedCourtModel" "AskedCourtModel" "knownTold" "I") ∈ lw_all := lw_g (lw_at lw_m8 13 rfl) rfl
theorem q1833 : (Jvm.Cond.soleField "AskedCourtModel" "knownTold") ∈ lw_all := lw_g (lw_at lw_m8 14 rfl) rfl
theorem q1834 : (Jvm.Cond.laysFinal "AskedCourtModel" "AskedCourtModel" "notes" "[I") ∈ lw_all := lw_g (lw_at lw_m8 15 rfl) rfl
theorem q1835 : (Jvm.Cond.soleField "AskedCourtModel" "notes") ∈ lw_all := lw_g (lw_at lw_m8 16 rfl) rfl
theorem q1836 : (Jvm.Cond.laysFinal "AskedCourtModel" "AskedCourtModel" "counts" "[Z") ∈ lw_all := lw_g (lw_at lw_m8 17 rfl) rfl
theorem q1837 : (Jvm.Cond.soleField "AskedCourtModel" "counts") ∈ lw_all := lw_g (lw_at lw_m8 18 rfl) rfl
theorem q1838 : (Jvm.Cond.lays "AskedCourtModel" "AskedCourtModel" "undos" "I") ∈ lw_all := lw_g (lw_at lw_m8 19 rfl) rfl
theorem q1839 : (Jvm.Cond.soleField "AskedCourtModel" "undos") ∈ lw_all := lw_g (lw_at lw_m8 20 rfl) rfl
theorem q1840 : (Jvm.Cond.laysFinal "AskedCourtModel" "AskedCourtModel" "undo" "[I") ∈ lw_all := lw_g (lw_at lw_m8 21 rfl) rfl
theorem q1841 : (Jvm.Cond.soleField "AskedCourtModel" "undo") ∈ lw_all := lw_g (lw_at lw_m8 22 rfl) rfl
theorem q1842 : (Jvm.Cond.laysFinal "AskedCourtModel" "AskedCourtModel" "undoDrawn" "[J") ∈ lw_all := lw_g (lw_at lw_m8 23 rfl) rfl
theorem q1843 : (Jvm.Cond.soleField "AskedCourtModel" "undoDrawn") ∈ lw_all := lw_g (lw_at lw_m8 24 rfl) rfl
theorem q1844 : (Jvm.Cond.lays "AskedCourtModel" "AskedCourtModel" "hasImage" "Z") ∈ lw_all := lw_g (lw_at lw_m8 25 rfl) rfl
theorem q1845 : (Jvm.Cond.soleField "AskedCourtModel" "hasImage") ∈ lw_all := lw_g (lw_at lw_m8 26 rfl) rfl
theorem q1846 : (Jvm.Cond.laysFinal "AskedCourtModel" "AskedCourtModel" "image" "[I") ∈ lw_all := lw_g (lw_at lw_m8 27 rfl) rfl
theorem q1847 : (Jvm.Cond.soleField "AskedCourtModel" "image") ∈ lw_all := lw_g (lw_at lw_m8 28 rfl) rfl
theorem q1848 : (Jvm.Cond.lays "AskedCourtModel" "AskedCourtModel" "imageDrawn" "J") ∈ lw_all := lw_g (lw_at lw_m8 29 rfl) rfl
theorem q1849 : (Jvm.Cond.soleField "AskedCourtModel" "imageDrawn") ∈ lw_all := lw_g (lw_at lw_m8 30 rfl) rfl
theorem q1850 : (Jvm.Cond.superclass "AskedCourtModel" "java/lang/Object") ∈ lw_all := lw_g (lw_at lw_m8 31 rfl) rfl
theorem q1852 : (Jvm.Cond.instanceMethod ({ cls := "AskedCourtModel", name := "thrown", desc := "()I" } : Jvm.MethodName)) ∈ lw_all := lw_g (lw_at lw_m8 33 rfl) rfl
theorem q1853 : (Jvm.Cond.selects "AskedCourtModel" ({ cls := "AskedCourtModel", name := "thrown", desc := "()I" } : Jvm.MethodName) ({ cls := "AskedCourtModel", name := "thrown", desc := "()I" } : Jvm.MethodName)) ∈ lw_all := lw_g (lw_at lw_m8 34 rfl) rfl
theorem q1854 : (Jvm.Cond.code ({ cls := "AskedCourtModel", name := "thrown", desc := "()I" } : Jvm.MethodName) prog_24_method_2_code (1 : Nat) (Option.some Jvm.ClassFile.FieldType.int)) ∈ lw_all := lw_g (lw_at lw_m8 35 rfl) rfl
theorem q1856 : (Jvm.Cond.instanceMethod ({ cls := "AskedCourtModel", name := "feed", desc := "(IIIII)I" } : Jvm.MethodName)) ∈ lw_all := lw_g (lw_at lw_m8 37 rfl) rfl
theorem q1857 : (Jvm.Cond.selects "AskedCourtModel" ({ cls := "AskedCourtModel", name := "feed", desc := "(IIIII)I" } : Jvm.MethodName) ({ cls := "AskedCourtModel", name := "feed", desc := "(IIIII)I" } : Jvm.MethodName)) ∈ lw_all := lw_g (lw_at lw_m8 38 rfl) rfl
theorem q1858 : (Jvm.Cond.code ({ cls := "AskedCourtModel", name := "feed", desc := "(IIIII)I" } : Jvm.MethodName) prog_24_method_3_code (8 : Nat) (Option.some Jvm.ClassFile.FieldType.int)) ∈ lw_all := lw_g (lw_at lw_m8 39 rfl) rfl
theorem q1860 : (Jvm.Cond.instanceMethod ({ cls := "AskedCourtModel", name := "text", desc := "(I)I" } : Jvm.MethodName)) ∈ lw_all := lw_g (lw_at lw_m8 41 rfl) rfl
theorem q1861 : (Jvm.Cond.selects "AskedCourtModel" ({ cls := "AskedCourtModel", name := "text", desc := "(I)I" } : Jvm.MethodName) ({ cls := "AskedCourtModel", name := "text", desc := "(I)I" } : Jvm.MethodName)) ∈ lw_all := lw_g (lw_at lw_m8 42 rfl) rfl
theorem q1862 : (Jvm.Cond.code ({ cls := "AskedCourtModel", name := "text", desc := "(I)I" } : Jvm.MethodName) prog_24_method_31_code (3 : Nat) (Option.some Jvm.ClassFile.FieldType.int)) ∈ lw_all := lw_g (lw_at lw_m8 43 rfl) rfl
theorem q1863 : (Jvm.Cond.methodLink "AskedCourtModel" (200 : Nat) ({ cls := "AskedCourtModel", name := "token", desc := "()V" } : Jvm.MethodName)) ∈ lw_all := lw_g (lw_at lw_m8 44 rfl) rfl
theorem q1864 : (Jvm.Cond.privateMethod ({ cls := "AskedCourtModel", name := "token", desc := "()V" } : Jvm.MethodName)) ∈ lw_tbl := lw_at lw_m8 45 rfl
theorem q1865 : (Jvm.Cond.instanceMethod ({ cls := "AskedCourtModel", name := "token", desc := "()V" } : Jvm.MethodName)) ∈ lw_all := lw_g (lw_at lw_m8 46 rfl) rfl
theorem q1866 : (Jvm.Cond.code ({ cls := "AskedCourtModel", name := "token", desc := "()V" } : Jvm.MethodName) prog_24_method_10_code (1 : Nat) (Option.none : Option Jvm.ClassFile.FieldType)) ∈ lw_all := lw_g (lw_at lw_m8 47 rfl) rfl
theorem q1867 : (Jvm.Cond.methodLink "AskedCourtModel" (169 : Nat) ({ cls := "AskedCourtModel", name := "isSmall", desc := "(I)Z" } : Jvm.MethodName)) ∈ lw_all := lw_g (lw_at lw_m8 48 rfl) rfl
theorem q1868 : (Jvm.Cond.privateMethod ({ cls := "AskedCourtModel", name := "isSmall", desc := "(I)Z" } : Jvm.MethodName)) ∈ lw_tbl := lw_at lw_m8 49 rfl
theorem q1869 : (Jvm.Cond.instanceMethod ({ cls := "AskedCourtModel", name := "isSmall", desc := "(I)Z" } : Jvm.MethodName)) ∈ lw_all := lw_g (lw_at lw_m8 50 rfl) rfl
theorem q1870 : (Jvm.Cond.code ({ cls := "AskedCourtModel", name := "isSmall", desc := "(I)Z" } : Jvm.MethodName) prog_24_method_8_code (2 : Nat) (Option.some Jvm.ClassFile.FieldType.boolean)) ∈ lw_all := lw_g (lw_at lw_m8 51 rfl) rfl
theorem q1871 : (Jvm.Cond.methodLink "AskedCourtModel" (173 : Nat) ({ cls := "AskedCourtModel", name := "wordAt", desc := "(II)I" } : Jvm.MethodName)) ∈ lw_all := lw_g (lw_at lw_m8 52 rfl) rfl
theorem q1872 : (Jvm.Cond.privateMethod ({ cls := "AskedCourtModel", name := "wordAt", desc := "(II)I" } : Jvm.MethodName)) ∈ lw_tbl := lw_at lw_m8 53 rfl
theorem q1873 : (Jvm.Cond.instanceMethod ({ cls := "AskedCourtModel", name := "wordAt", desc := "(II)I" } : Jvm.MethodName)) ∈ lw_all := lw_g (lw_at lw_m8 54 rfl) rfl
theorem q1874 : (Jvm.Cond.code ({ cls := "AskedCourtModel", name := "wordAt", desc := "(II)I" } : Jvm.MethodName) prog_24_method_7_code (8 : Nat) (Option.some Jvm.ClassFile.FieldType.int)) ∈ lw_all := lw_g (lw_at lw_m8 55 rfl) rfl
theorem q1875 : (Jvm.Cond.methodLink "AskedCourtModel" (180 : Nat) ({ cls := "AskedCourtModel", name := "packed", desc := "(II)I" } : Jvm.MethodName)) ∈ lw_all := lw_g (lw_at lw_m8 56 rfl) rfl
theorem q1876 : (Jvm.Cond.privateMethod ({ cls := "AskedCourtModel", name := "packed", desc := "(II)I" } : Jvm.MethodName)) ∈ lw_tbl := lw_at lw_m8 57 rfl
theorem q1877 : (Jvm.Cond.instanceMethod ({ cls := "AskedCourtModel", name := "packed", desc := "(II)I" } : Jvm.MethodName)) ∈ lw_all := lw_g (lw_at lw_m8 58 rfl) rfl
theorem q1878 : (Jvm.Cond.code ({ cls := "AskedCourtModel", name := "packed", desc := "(II)I" } : Jvm.MethodName) prog_24_method_12_code (5 : Nat) (Option.some Jvm.ClassFile.FieldType.int)) ∈ lw_all := lw_g (lw_at lw_m8 59 rfl) rfl
theorem q1879 : (Jvm.Cond.methodLink "AskedCourtModel" (183 : Nat) ({ cls := "AskedCourtModel", name := "isDigit", desc := "(I)Z" } : Jvm.MethodName)) ∈ lw_all := lw_g (lw_at lw_m8 60 rfl) rfl
theorem q1880 : (Jvm.Cond.privateMethod ({ cls := "AskedCourtModel", name := "isDigit", desc := "(I)Z" } : Jvm.MethodName)) ∈ lw_tbl := lw_at lw_m8 61 rfl
theorem q1881 : (Jvm.Cond.instanceMethod ({ cls := "AskedCourtModel", name := "isDigit", desc := "(I)Z" } : Jvm.MethodName)) ∈ lw_all := lw_g (lw_at lw_m8 62 rfl) rfl
theorem q1882 : (Jvm.Cond.code ({ cls := "AskedCourtModel", name := "isDigit", desc := "(I)Z" } : Jvm.MethodName) prog_24_method_9_code (2 : Nat) (Option.some Jvm.ClassFile.FieldType.boolean)) ∈ lw_all := lw_g (lw_at lw_m8 63 rfl) rfl
theorem q1883 : (Jvm.Cond.constant "AskedCourtModel" (186 : Nat) (99999 : Int32)) ∈ lw_all := lw_g (lw_at lw_m8 64 rfl) rfl
theorem q1884 : (Jvm.Cond.methodLink "AskedCourtModel" (187 : Nat) ({ cls := "AskedCourtModel", name := "signToken", desc := "()V" } : Jvm.MethodName)) ∈ lw_all := lw_g (lw_at lw_m8 65 rfl) rfl
theorem q1885 : (Jvm.Cond.privateMethod ({ cls := "AskedCourtModel", name := "signToken", desc := "()V" } : Jvm.MethodName)) ∈ lw_tbl := lw_at lw_m8 66 rfl
theorem q1886 : (Jvm.Cond.instanceMethod ({ cls := "AskedCourtModel", name := "signToken", desc := "()V" } : Jvm.MethodName)) ∈ lw_all := lw_g (lw_at lw_m8 67 rfl) rfl
theorem q1887 : (Jvm.Cond.code ({ cls := "AskedCourtModel", name := "signToken", desc := "()V" } : Jvm.MethodName) prog_24_method_11_code (4 : Nat) (Option.none : Option Jvm.ClassFile.FieldType)) ∈ lw_all := lw_g (lw_at lw_m8 68 rfl) rfl
theorem q1888 : (Jvm.Cond.methodLink "AskedCourtModel" (292 : Nat) ({ cls := "AskedCourtModel", name := "lineRead", desc := "()Z" } : Jvm.MethodName)) ∈ lw_all := lw_g (lw_at lw_m8 69 rfl) rfl
theorem q1889 : (Jvm.Cond.privateMethod ({ cls := "AskedCourtModel", name := "lineRead", desc := "()Z" } : Jvm.MethodName)) ∈ lw_tbl := lw_at lw_m8 70 rfl
theorem q1890 : (Jvm.Cond.instanceMethod ({ cls := "AskedCourtModel", name := "lineRead", desc := "()Z" } : Jvm.MethodName)) ∈ lw_all := lw_g (lw_at lw_m8 71 rfl) rfl
theorem q1891 : (Jvm.Cond.code ({ cls := "AskedCourtModel", name := "lineRead", desc := "()Z" } : Jvm.MethodName) prog_24_method_30_code (3 : Nat) (Option.some Jvm.ClassFile.FieldType.boolean)) ∈ lw_all := lw_g (lw_at lw_m8 72 rfl) rfl
theorem q1892 : (Jvm.Cond.methodLink "AskedCourtModel" (190 : Nat) ({ cls := "AskedCourtModel", name := "wrong", desc := "(I)Z" } : Jvm.MethodName)) ∈ lw_all := lw_g (lw_at lw_m8 73 rfl) rfl
theorem q1893 : (Jvm.Cond.privateMethod ({ cls := "AskedCourtModel", name := "wrong", desc := "(I)Z" } : Jvm.MethodName)) ∈ lw_tbl := lw_at lw_m8 74 rfl
theorem q1894 : (Jvm.Cond.instanceMethod ({ cls := "AskedCourtModel", name := "wrong", desc := "(I)Z" } : Jvm.MethodName)) ∈ lw_all := lw_g (lw_at lw_m8 75 rfl) rfl
theorem q1895 : (Jvm.Cond.code ({ cls := "AskedCourtModel", name := "wrong", desc := "(I)Z" } : Jvm.MethodName) prog_24_method_6_code (2 : Nat) (Option.some Jvm.ClassFile.FieldType.boolean)) ∈ lw_all := lw_g (lw_at lw_m8 76 rfl) rfl
theorem q1896 : (Jvm.Cond.methodLink "AskedCourtModel" (271 : Nat) ({ cls := "AskedCourtModel", name := "factLine", desc := "()Z" } : Jvm.MethodName)) ∈ lw_all := lw_g (lw_at lw_m8 77 rfl) rfl
theorem q1897 : (Jvm.Cond.privateMethod ({ cls := "AskedCourtModel", name := "factLine", desc := "()Z" } : Jvm.MethodName)) ∈ lw_tbl := lw_at lw_m8 78 rfl
theorem q1898 : (Jvm.Cond.instanceMethod ({ cls := "AskedCourtModel", name := "factLine", desc := "()Z" } : Jvm.MethodName)) ∈ lw_all := lw_g (lw_at lw_m8 79 rfl) rfl
theorem q1899 : (Jvm.Cond.code ({ cls := "AskedCourtModel", name := "factLine", desc := "()Z" } : Jvm.MethodName) prog_24_method_24_code (1 : Nat) (Option.some Jvm.ClassFile.FieldType.boolean)) ∈ lw_all := lw_g (lw_at lw_m8 80 rfl) rfl
theorem q1900 : (Jvm.Cond.methodLink "AskedCourtModel" (261 : Nat) ({ cls := "AskedCourtModel", name := "newName", desc := "([III)Z" } : Jvm.MethodName)) ∈ lw_all := lw_g (lw_at lw_m8 81 rfl) rfl
theorem q1901 : (Jvm.Cond.privateMethod ({ cls := "AskedCourtModel", name := "newName", desc := "([III)Z" } : Jvm.MethodName)) ∈ lw_tbl := lw_at lw_m8 82 rfl
theorem q1902 : (Jvm.Cond.instanceMethod ({ cls := "AskedCourtModel", name := "newName", desc := "([III)Z" } : Jvm.MethodName)) ∈ lw_all := lw_g (lw_at lw_m8 83 rfl) rfl
theorem q1903 : (Jvm.Cond.code ({ cls := "AskedCourtModel", name := "newName", desc := "([III)Z" } : Jvm.MethodName) prog_24_method_21_code (4 : Nat) (Option.some Jvm.ClassFile.FieldType.boolean)) ∈ lw_all := lw_g (lw_at lw_m8 84 rfl) rfl
theorem q1904 : (Jvm.Cond.methodLink "AskedCourtModel" (250 : Nat) ({ cls := "AskedCourtModel", name := "find", desc := "([IIII)I" } : Jvm.MethodName)) ∈ lw_all := lw_g (lw_at lw_m8 85 rfl) rfl
theorem q1905 : (Jvm.Cond.static ({ cls := "AskedCourtModel", name := "find", desc := "([IIII)I" } : Jvm.MethodName)) ∈ lw_all := lw_g (lw_at lw_m8 86 rfl) rfl
theorem q1906 : (Jvm.Cond.code ({ cls := "AskedCourtModel", name := "find", desc := "([IIII)I" } : Jvm.MethodName) prog_24_method_20_code (5 : Nat) (Option.some Jvm.ClassFile.FieldType.int)) ∈ lw_all := lw_g (lw_at lw_m8 87 rfl) rfl
theorem q1907 : (Jvm.Cond.methodLink "AskedCourtModel" (274 : Nat) ({ cls := "AskedCourtModel", name := "personLine", desc := "()Z" } : Jvm.MethodName)) ∈ lw_all := lw_g (lw_at lw_m8 88 rfl) rfl
theorem q1908 : (Jvm.Cond.privateMethod ({ cls := "AskedCourtModel", name := "personLine", desc := "()Z" } : Jvm.MethodName)) ∈ lw_tbl := lw_at lw_m8 89 rfl
theorem q1909 : (Jvm.Cond.instanceMethod ({ cls := "AskedCourtModel", name := "personLine", desc := "()Z" } : Jvm.MethodName)) ∈ lw_all := lw_g (lw_at lw_m8 90 rfl) rfl
theorem q1910 : (Jvm.Cond.code ({ cls := "AskedCourtModel", name := "personLine", desc := "()Z" } : Jvm.MethodName) prog_24_method_25_code (2 : Nat) (Option.some Jvm.ClassFile.FieldType.boolean)) ∈ lw_all := lw_g (lw_at lw_m8 91 rfl) rfl
theorem q1911 : (Jvm.Cond.methodLink "AskedCourtModel" (206 : Nat) ({ cls := "AskedCourtModel", name := "number", desc := "(II)Z" } : Jvm.MethodName)) ∈ lw_all := lw_g (lw_at lw_m8 92 rfl) rfl
theorem q1912 : (Jvm.Cond.privateMethod ({ cls := "AskedCourtModel", name := "number", desc := "(II)Z" } : Jvm.MethodName)) ∈ lw_tbl := lw_at lw_m8 93 rfl
theorem q1913 : (Jvm.Cond.instanceMethod ({ cls := "AskedCourtModel", name := "number", desc := "(II)Z" } : Jvm.MethodName)) ∈ lw_all := lw_g (lw_at lw_m8 94 rfl) rfl
theorem q1914 : (Jvm.Cond.code ({ cls := "AskedCourtModel", name := "number", desc := "(II)Z" } : Jvm.MethodName) prog_24_method_15_code (3 : Nat) (Option.some Jvm.ClassFile.FieldType.boolean)) ∈ lw_all := lw_g (lw_at lw_m8 95 rfl) rfl
theorem q1915 : (Jvm.Cond.methodLink "AskedCourtModel" (193 : Nat) ({ cls := "AskedCourtModel", name := "isIn", desc := "(III)Z" } : Jvm.MethodName)) ∈ lw_all := lw_g (lw_at lw_m8 96 rfl) rfl
theorem q1916 : (Jvm.Cond.static ({ cls := "AskedCourtModel", name := "isIn", desc := "(III)Z" } : Jvm.MethodName)) ∈ lw_all := lw_g (lw_at lw_m8 97 rfl) rfl
theorem q1917 : (Jvm.Cond.code ({ cls := "AskedCourtModel", name := "isIn", desc := "(III)Z" } : Jvm.MethodName) prog_24_method_4_code (3 : Nat) (Option.some Jvm.ClassFile.FieldType.boolean)) ∈ lw_all := lw_g (lw_at lw_m8 98 rfl) rfl
theorem q1918 : (Jvm.Cond.methodLink "AskedCourtModel" (277 : Nat) ({ cls := "AskedCourtModel", name := "knowsLine", desc := "()Z" } : Jvm.MethodName)) ∈ lw_all := lw_g (lw_at lw_m8 99 rfl) rfl
theorem q1919 : (Jvm.Cond.privateMethod ({ cls := "AskedCourtModel", name := "knowsLine", desc := "()Z" } : Jvm.MethodName)) ∈ lw_tbl := lw_at lw_m8 100 rfl
theorem q1920 : (Jvm.Cond.instanceMethod ({ cls := "AskedCourtModel", name := "knowsLine", desc := "()Z" } : Jvm.MethodName)) ∈ lw_all := lw_g (lw_at lw_m8 101 rfl) rfl
theorem q1921 : (Jvm.Cond.code ({ cls := "AskedCourtModel", name := "knowsLine", desc := "()Z" } : Jvm.MethodName) prog_24_method_26_code (3 : Nat) (Option.some Jvm.ClassFile.FieldType.boolean)) ∈ lw_all := lw_g (lw_at lw_m8 102 rfl) rfl
theorem q1922 : (Jvm.Cond.methodLink "AskedCourtModel" (257 : Nat) ({ cls := "AskedCourtModel", name := "there", desc := "([III)Z" } : Jvm.MethodName)) ∈ lw_all := lw_g (lw_at lw_m8 103 rfl) rfl
theorem q1923 : (Jvm.Cond.privateMethod ({ cls := "AskedCourtModel", name := "there", desc := "([III)Z" } : Jvm.MethodName)) ∈ lw_tbl := lw_at lw_m8 104 rfl
theorem q1924 : (Jvm.Cond.instanceMethod ({ cls := "AskedCourtModel", name := "there", desc := "([III)Z" } : Jvm.MethodName)) ∈ lw_all := lw_g (lw_at lw_m8 105 rfl) rfl
theorem q1925 : (Jvm.Cond.code ({ cls := "AskedCourtModel", name := "there", desc := "([III)Z" } : Jvm.MethodName) prog_24_method_22_code (5 : Nat) (Option.some Jvm.ClassFile.FieldType.boolean)) ∈ lw_all := lw_g (lw_at lw_m8 106 rfl) rfl
theorem q1926 : (Jvm.Cond.methodLink "AskedCourtModel" (264 : Nat) ({ cls := "AskedCourtModel", name := "isOf", desc := "(II)Z" } : Jvm.MethodName)) ∈ lw_all := lw_g (lw_at lw_m8 107 rfl) rfl
theorem q1927 : (Jvm.Cond.static ({ cls := "AskedCourtModel", name := "isOf", desc := "(II)Z" } : Jvm.MethodName)) ∈ lw_all := lw_g (lw_at lw_m8 108 rfl) rfl
theorem q1928 : (Jvm.Cond.code ({ cls := "AskedCourtModel", name := "isOf", desc := "(II)Z" } : Jvm.MethodName) prog_24_method_5_code (2 : Nat) (Option.some Jvm.ClassFile.FieldType.boolean)) ∈ lw_all := lw_g (lw_at lw_m8 109 rfl) rfl
theorem q1929 : (Jvm.Cond.methodLink "AskedCourtModel" (280 : Nat) ({ cls := "AskedCourtModel", name := "askLine", desc := "()Z" } : Jvm.MethodName)) ∈ lw_all := lw_g (lw_at lw_m8 110 rfl) rfl
theorem q1930 : (Jvm.Cond.privateMethod ({ cls := "AskedCourtModel", name := "askLine", desc := "()Z" } : Jvm.MethodName)) ∈ lw_tbl := lw_at lw_m8 111 rfl
theorem q1931 : (Jvm.Cond.instanceMethod ({ cls := "AskedCourtModel", name := "askLine", desc := "()Z" } : Jvm.MethodName)) ∈ lw_all := lw_g (lw_at lw_m8 112 rfl) rfl
theorem q1932 : (Jvm.Cond.code ({ cls := "AskedCourtModel", name := "askLine", desc := "()Z" } : Jvm.MethodName) prog_24_method_27_code (2 : Nat) (Option.some Jvm.ClassFile.FieldType.boolean)) ∈ lw_all := lw_g (lw_at lw_m8 113 rfl) rfl
theorem q1933 : (Jvm.Cond.methodLink "AskedCourtModel" (267 : Nat) ({ cls := "AskedCourtModel", name := "some", desc := "()Z" } : Jvm.MethodName)) ∈ lw_all := lw_g (lw_at lw_m8 114 rfl) rfl
theorem q1934 : (Jvm.Cond.privateMethod ({ cls := "AskedCourtModel", name := "some", desc := "()Z" } : Jvm.MethodName)) ∈ lw_tbl := lw_at lw_m8 115 rfl
theorem q1935 : (Jvm.Cond.instanceMethod ({ cls := "AskedCourtModel", name := "some", desc := "()Z" } : Jvm.MethodName)) ∈ lw_all := lw_g (lw_at lw_m8 116 rfl) rfl
theorem q1936 : (Jvm.Cond.code ({ cls := "AskedCourtModel", name := "some", desc := "()Z" } : Jvm.MethodName) prog_24_method_23_code (1 : Nat) (Option.some Jvm.ClassFile.FieldType.boolean)) ∈ lw_all := lw_g (lw_at lw_m8 117 rfl) rfl
theorem q1937 : (Jvm.Cond.methodLink "AskedCourtModel" (254 : Nat) ({ cls := "AskedCourtModel", name := "isKey", desc := "(I)Z" } : Jvm.MethodName)) ∈ lw_all := lw_g (lw_at lw_m8 118 rfl) rfl
theorem q1938 : (Jvm.Cond.privateMethod ({ cls := "AskedCourtModel", name := "isKey", desc := "(I)Z" } : Jvm.MethodName)) ∈ lw_tbl := lw_at lw_m8 119 rfl
theorem q1939 : (Jvm.Cond.instanceMethod ({ cls := "AskedCourtModel", name := "isKey", desc := "(I)Z" } : Jvm.MethodName)) ∈ lw_all := lw_g (lw_at lw_m8 120 rfl) rfl
theorem q1940 : (Jvm.Cond.code ({ cls := "AskedCourtModel", name := "isKey", desc := "(I)Z" } : Jvm.MethodName) prog_24_method_13_code (2 : Nat) (Option.some Jvm.ClassFile.FieldType.boolean)) ∈ lw_all := lw_g (lw_at lw_m8 121 rfl) rfl
theorem q1941 : (Jvm.Cond.methodLink "AskedCourtModel" (283 : Nat) ({ cls := "AskedCourtModel", name := "talkLine", desc := "()Z" } : Jvm.MethodName)) ∈ lw_all := lw_g (lw_at lw_m8 122 rfl) rfl
theorem q1942 : (Jvm.Cond.privateMethod ({ cls := "AskedCourtModel", name := "talkLine", desc := "()Z" } : Jvm.MethodName)) ∈ lw_tbl := lw_at lw_m8 123 rfl
theorem q1943 : (Jvm.Cond.instanceMethod ({ cls := "AskedCourtModel", name := "talkLine", desc := "()Z" } : Jvm.MethodName)) ∈ lw_all := lw_g (lw_at lw_m8 124 rfl) rfl
theorem q1944 : (Jvm.Cond.code ({ cls := "AskedCourtModel", name := "talkLine", desc := "()Z" } : Jvm.MethodName) prog_24_method_28_code (3 : Nat) (Option.some Jvm.ClassFile.FieldType.boolean)) ∈ lw_all := lw_g (lw_at lw_m8 125 rfl) rfl
theorem q1945 : (Jvm.Cond.methodLink "AskedCourtModel" (286 : Nat) ({ cls := "AskedCourtModel", name := "onceLine", desc := "(II)Z" } : Jvm.MethodName)) ∈ lw_all := lw_g (lw_at lw_m8 126 rfl) rfl
theorem q1946 : (Jvm.Cond.privateMethod ({ cls := "AskedCourtModel", name := "onceLine", desc := "(II)Z" } : Jvm.MethodName)) ∈ lw_tbl := lw_at lw_m8 127 rfl
theorem q1947 : (Jvm.Cond.instanceMethod ({ cls := "AskedCourtModel", name := "onceLine", desc := "(II)Z" } : Jvm.MethodName)) ∈ lw_all := lw_g (lw_at lw_m8 128 rfl) rfl
theorem q1948 : (Jvm.Cond.code ({ cls := "AskedCourtModel", name := "onceLine", desc := "(II)Z" } : Jvm.MethodName) prog_24_method_29_code (3 : Nat) (Option.some Jvm.ClassFile.FieldType.boolean)) ∈ lw_all := lw_g (lw_at lw_m8 129 rfl) rfl
theorem q1949 : (Jvm.Cond.methodLink "AskedCourtModel" (289 : Nat) ({ cls := "AskedCourtModel", name := "sumRead", desc := "()Z" } : Jvm.MethodName)) ∈ lw_all := lw_g (lw_at lw_m8 130 rfl) rfl
theorem q1950 : (Jvm.Cond.privateMethod ({ cls := "AskedCourtModel", name := "sumRead", desc := "()Z" } : Jvm.MethodName)) ∈ lw_tbl := lw_at lw_m8 131 rfl
theorem q1951 : (Jvm.Cond.instanceMethod ({ cls := "AskedCourtModel", name := "sumRead", desc := "()Z" } : Jvm.MethodName)) ∈ lw_all := lw_g (lw_at lw_m8 132 rfl) rfl
theorem q1952 : (Jvm.Cond.code ({ cls := "AskedCourtModel", name := "sumRead", desc := "()Z" } : Jvm.MethodName) prog_24_method_43_code (1 : Nat) (Option.some Jvm.ClassFile.FieldType.boolean)) ∈ lw_all := lw_g (lw_at lw_m8 133 rfl) rfl
theorem q1953 : (Jvm.Cond.methodLink "AskedCourtModel" (203 : Nat) ({ cls := "AskedCourtModel", name := "isSign", desc := "(I)Z" } : Jvm.MethodName)) ∈ lw_all := lw_g (lw_at lw_m8 134 rfl) rfl
theorem q1954 : (Jvm.Cond.privateMethod ({ cls := "AskedCourtModel", name := "isSign", desc := "(I)Z" } : Jvm.MethodName)) ∈ lw_tbl := lw_at lw_m8 135 rfl
theorem q1955 : (Jvm.Cond.instanceMethod ({ cls := "AskedCourtModel", name := "isSign", desc := "(I)Z" } : Jvm.MethodName)) ∈ lw_all := lw_g (lw_at lw_m8 136 rfl) rfl
theorem q1956 : (Jvm.Cond.code ({ cls := "AskedCourtModel", name := "isSign", desc := "(I)Z" } : Jvm.MethodName) prog_24_method_14_code (2 : Nat) (Option.some Jvm.ClassFile.FieldType.boolean)) ∈ lw_all := lw_g (lw_at lw_m8 137 rfl) rfl
theorem q1957 : (Jvm.Cond.methodLink "AskedCourtModel" (336 : Nat) ({ cls := "AskedCourtModel", name := "leafRead", desc := "()Z" } : Jvm.MethodName)) ∈ lw_all := lw_g (lw_at lw_m8 138 rfl) rfl
theorem q1958 : (Jvm.Cond.privateMethod ({ cls := "AskedCourtModel", name := "leafRead", desc := "()Z" } : Jvm.MethodName)) ∈ lw_tbl := lw_at lw_m8 139 rfl
theorem q1959 : (Jvm.Cond.instanceMethod ({ cls := "AskedCourtModel", name := "leafRead", desc := "()Z" } : Jvm.MethodName)) ∈ lw_all := lw_g (lw_at lw_m8 140 rfl) rfl
theorem q1960 : (Jvm.Cond.code ({ cls := "AskedCourtModel", name := "leafRead", desc := "()Z" } : Jvm.MethodName) prog_24_method_41_code (2 : Nat) (Option.some Jvm.ClassFile.FieldType.boolean)) ∈ lw_all := lw_g (lw_at lw_m8 141 rfl) rfl
theorem q1961 : (Jvm.Cond.methodLink "AskedCourtModel" (316 : Nat) ({ cls := "AskedCourtModel", name := "waitsFor", desc := "(I)V" } : Jvm.MethodName)) ∈ lw_all := lw_g (lw_at lw_m8 142 rfl) rfl
theorem q1962 : (Jvm.Cond.privateMethod ({ cls := "AskedCourtModel", name := "waitsFor", desc := "(I)V" } : Jvm.MethodName)) ∈ lw_tbl := lw_at lw_m8 143 rfl
theorem q1963 : (Jvm.Cond.instanceMethod ({ cls := "AskedCourtModel", name := "waitsFor", desc := "(I)V" } : Jvm.MethodName)) ∈ lw_all := lw_g (lw_at lw_m8 144 rfl) rfl
theorem q1964 : (Jvm.Cond.code ({ cls := "AskedCourtModel", name := "waitsFor", desc := "(I)V" } : Jvm.MethodName) prog_24_method_39_code (2 : Nat) (Option.none : Option Jvm.ClassFile.FieldType)) ∈ lw_all := lw_g (lw_at lw_m8 145 rfl) rfl
theorem q1965 : (Jvm.Cond.methodLink "AskedCourtModel" (324 : Nat) ({ cls := "AskedCourtModel", name := "isCounted", desc := "()Z" } : Jvm.MethodName)) ∈ lw_all := lw_g (lw_at lw_m8 146 rfl) rfl
theorem q1966 : (Jvm.Cond.privateMethod ({ cls := "AskedCourtModel", name := "isCounted", desc := "()Z" } : Jvm.MethodName)) ∈ lw_tbl := lw_at lw_m8 147 rfl
theorem q1967 : (Jvm.Cond.instanceMethod ({ cls := "AskedCourtModel", name := "isCounted", desc := "()Z" } : Jvm.MethodName)) ∈ lw_all := lw_g (lw_at lw_m8 148 rfl) rfl
theorem q1968 : (Jvm.Cond.code ({ cls := "AskedCourtModel", name := "isCounted", desc := "()Z" } : Jvm.MethodName) prog_24_method_38_code (1 : Nat) (Option.some Jvm.ClassFile.FieldType.boolean)) ∈ lw_all := lw_g (lw_at lw_m8 149 rfl) rfl
theorem q1969 : (Jvm.Cond.methodLink "AskedCourtModel" (327 : Nat) ({ cls := "AskedCourtModel", name := "nameMet", desc := "()I" } : Jvm.MethodName)) ∈ lw_all := lw_g (lw_at lw_m8 150 rfl) rfl
theorem q1970 : (Jvm.Cond.privateMethod ({ cls := "AskedCourtModel", name := "nameMet", desc := "()I" } : Jvm.MethodName)) ∈ lw_tbl := lw_at lw_m8 151 rfl
theorem q1971 : (Jvm.Cond.instanceMethod ({ cls := "AskedCourtModel", name := "nameMet", desc := "()I" } : Jvm.MethodName)) ∈ lw_all := lw_g (lw_at lw_m8 152 rfl) rfl
theorem q1972 : (Jvm.Cond.code ({ cls := "AskedCourtModel", name := "nameMet", desc := "()I" } : Jvm.MethodName) prog_24_method_40_code (1 : Nat) (Option.some Jvm.ClassFile.FieldType.int)) ∈ lw_all := lw_g (lw_at lw_m8 153 rfl) rfl
theorem q1973 : (Jvm.Cond.methodLink "AskedCourtModel" (309 : Nat) ({ cls := "AskedCourtModel", name := "grown", desc := "(III)V" } : Jvm.MethodName)) ∈ lw_all := lw_g (lw_at lw_m8 154 rfl) rfl
theorem q1974 : (Jvm.Cond.privateMethod ({ cls := "AskedCourtModel", name := "grown", desc := "(III)V" } : Jvm.MethodName)) ∈ lw_tbl := lw_at lw_m8 155 rfl
theorem q1975 : (Jvm.Cond.instanceMethod ({ cls := "AskedCourtModel", name := "grown", desc := "(III)V" } : Jvm.MethodName)) ∈ lw_all := lw_g (lw_at lw_m8 156 rfl) rfl
theorem q1976 : (Jvm.Cond.code ({ cls := "AskedCourtModel", name := "grown", desc := "(III)V" } : Jvm.MethodName) prog_24_method_35_code (4 : Nat) (Option.none : Option Jvm.ClassFile.FieldType)) ∈ lw_all := lw_g (lw_at lw_m8 157 rfl) rfl
theorem q1977 : (Jvm.Cond.methodLink "AskedCourtModel" (339 : Nat) ({ cls := "AskedCourtModel", name := "signs", desc := "()Z" } : Jvm.MethodName)) ∈ lw_all := lw_g (lw_at lw_m8 158 rfl) rfl
theorem q1978 : (Jvm.Cond.privateMethod ({ cls := "AskedCourtModel", name := "signs", desc := "()Z" } : Jvm.MethodName)) ∈ lw_tbl := lw_at lw_m8 159 rfl
theorem q1979 : (Jvm.Cond.instanceMethod ({ cls := "AskedCourtModel", name := "signs", desc := "()Z" } : Jvm.MethodName)) ∈ lw_all := lw_g (lw_at lw_m8 160 rfl) rfl
theorem q1980 : (Jvm.Cond.code ({ cls := "AskedCourtModel", name := "signs", desc := "()Z" } : Jvm.MethodName) prog_24_method_42_code (2 : Nat) (Option.some Jvm.ClassFile.FieldType.boolean)) ∈ lw_all := lw_g (lw_at lw_m8 161 rfl) rfl
theorem q1981 : (Jvm.Cond.methodLink "AskedCourtModel" (333 : Nat) ({ cls := "AskedCourtModel", name := "bind", desc := "(I)V" } : Jvm.MethodName)) ∈ lw_all := lw_g (lw_at lw_m8 162 rfl) rfl
theorem q1982 : (Jvm.Cond.privateMethod ({ cls := "AskedCourtModel", name := "bind", desc := "(I)V" } : Jvm.MethodName)) ∈ lw_tbl := lw_at lw_m8 163 rfl
theorem q1983 : (Jvm.Cond.instanceMethod ({ cls := "AskedCourtModel", name := "bind", desc := "(I)V" } : Jvm.MethodName)) ∈ lw_all := lw_g (lw_at lw_m8 164 rfl) rfl
theorem q1984 : (Jvm.Cond.code ({ cls := "AskedCourtModel", name := "bind", desc := "(I)V" } : Jvm.MethodName) prog_24_method_37_code (5 : Nat) (Option.none : Option Jvm.ClassFile.FieldType)) ∈ lw_all := lw_g (lw_at lw_m8 165 rfl) rfl
theorem q1985 : (Jvm.Cond.methodLink "AskedCourtModel" (301 : Nat) ({ cls := "AskedCourtModel", name := "rank", desc := "(I)I" } : Jvm.MethodName)) ∈ lw_all := lw_g (lw_at lw_m8 166 rfl) rfl
theorem q1986 : (Jvm.Cond.static ({ cls := "AskedCourtModel", name := "rank", desc := "(I)I" } : Jvm.MethodName)) ∈ lw_all := lw_g (lw_at lw_m8 167 rfl) rfl
theorem q1987 : (Jvm.Cond.code ({ cls := "AskedCourtModel", name := "rank", desc := "(I)I" } : Jvm.MethodName) prog_24_method_34_code (1 : Nat) (Option.some Jvm.ClassFile.FieldType.int)) ∈ lw_all := lw_g (lw_at lw_m8 168 rfl) rfl
theorem q1988 : (Jvm.Cond.methodLink "AskedCourtModel" (305 : Nat) ({ cls := "AskedCourtModel", name := "dropHeld", desc := "()I" } : Jvm.MethodName)) ∈ lw_all := lw_g (lw_at lw_m8 169 rfl) rfl
theorem q1989 : (Jvm.Cond.privateMethod ({ cls := "AskedCourtModel", name := "dropHeld", desc := "()I" } : Jvm.MethodName)) ∈ lw_tbl := lw_at lw_m8 170 rfl
theorem q1990 : (Jvm.Cond.instanceMethod ({ cls := "AskedCourtModel", name := "dropHeld", desc := "()I" } : Jvm.MethodName)) ∈ lw_all := lw_g (lw_at lw_m8 171 rfl) rfl
theorem q1991 : (Jvm.Cond.code ({ cls := "AskedCourtModel", name := "dropHeld", desc := "()I" } : Jvm.MethodName) prog_24_method_36_code (1 : Nat) (Option.some Jvm.ClassFile.FieldType.int)) ∈ lw_all := lw_g (lw_at lw_m8 172 rfl) rfl
theorem q1993 : (Jvm.Cond.instanceMethod ({ cls := "AskedCourtModel", name := "fault", desc := "(I)I" } : Jvm.MethodName)) ∈ lw_all := lw_g (lw_at lw_m8 174 rfl) rfl
theorem q1994 : (Jvm.Cond.selects "AskedCourtModel" ({ cls := "AskedCourtModel", name := "fault", desc := "(I)I" } : Jvm.MethodName) ({ cls := "AskedCourtModel", name := "fault", desc := "(I)I" } : Jvm.MethodName)) ∈ lw_all := lw_g (lw_at lw_m8 175 rfl) rfl
theorem q1995 : (Jvm.Cond.code ({ cls := "AskedCourtModel", name := "fault", desc := "(I)I" } : Jvm.MethodName) prog_24_method_32_code (2 : Nat) (Option.some Jvm.ClassFile.FieldType.int)) ∈ lw_all := lw_g (lw_at lw_m8 176 rfl) rfl
theorem q1997 : (Jvm.Cond.instanceMethod ({ cls := "AskedCourtModel", name := "named", desc := "(II)I" } : Jvm.MethodName)) ∈ lw_all := lw_g (lw_at lw_m8 178 rfl) rfl
theorem q1998 : (Jvm.Cond.selects "AskedCourtModel" ({ cls := "AskedCourtModel", name := "named", desc := "(II)I" } : Jvm.MethodName) ({ cls := "AskedCourtModel", name := "named", desc := "(II)I" } : Jvm.MethodName)) ∈ lw_all := lw_g (lw_at lw_m8 179 rfl) rfl
theorem q1999 : (Jvm.Cond.code ({ cls := "AskedCourtModel", name := "named", desc := "(II)I" } : Jvm.MethodName) prog_24_method_33_code (3 : Nat) (Option.some Jvm.ClassFile.FieldType.int)) ∈ lw_all := lw_g (lw_at lw_m8 180 rfl) rfl
theorem q2001 : (Jvm.Cond.instanceMethod ({ cls := "AskedCourtModel", name := "person", desc := "(II)I" } : Jvm.MethodName)) ∈ lw_all := lw_g (lw_at lw_m8 182 rfl) rfl
theorem q2002 : (Jvm.Cond.selects "AskedCourtModel" ({ cls := "AskedCourtModel", name := "person", desc := "(II)I" } : Jvm.MethodName) ({ cls := "AskedCourtModel", name := "person", desc := "(II)I" } : Jvm.MethodName)) ∈ lw_all := lw_g (lw_at lw_m8 183 rfl) rfl
theorem q2003 : (Jvm.Cond.code ({ cls := "AskedCourtModel", name := "person", desc := "(II)I" } : Jvm.MethodName) prog_24_method_68_code (3 : Nat) (Option.some Jvm.ClassFile.FieldType.int)) ∈ lw_all := lw_g (lw_at lw_m8 184 rfl) rfl
theorem q2004 : (Jvm.Cond.methodLink "AskedCourtModel" (443 : Nat) ({ cls := "AskedCourtModel", name := "isPerson", desc := "(I)Z" } : Jvm.MethodName)) ∈ lw_all := lw_g (lw_at lw_m8 185 rfl) rfl
theorem q2005 : (Jvm.Cond.privateMethod ({ cls := "AskedCourtModel", name := "isPerson", desc := "(I)Z" } : Jvm.MethodName)) ∈ lw_tbl := lw_at lw_m8 186 rfl
theorem q2006 : (Jvm.Cond.instanceMethod ({ cls := "AskedCourtModel", name := "isPerson", desc := "(I)Z" } : Jvm.MethodName)) ∈ lw_all := lw_g (lw_at lw_m8 187 rfl) rfl
theorem q2007 : (Jvm.Cond.code ({ cls := "AskedCourtModel", name := "isPerson", desc := "(I)Z" } : Jvm.MethodName) prog_24_method_52_code (2 : Nat) (Option.some Jvm.ClassFile.FieldType.boolean)) ∈ lw_all := lw_g (lw_at lw_m8 188 rfl) rfl
theorem q2008 : (Jvm.Cond.methodLink "AskedCourtModel" (446 : Nat) ({ cls := "AskedCourtModel", name := "fails", desc := "(I)I" } : Jvm.MethodName)) ∈ lw_all := lw_g (lw_at lw_m8 189 rfl) rfl
theorem q2009 : (Jvm.Cond.privateMethod ({ cls := "AskedCourtModel", name := "fails", desc := "(I)I" } : Jvm.MethodName)) ∈ lw_tbl := lw_at lw_m8 190 rfl
theorem q2010 : (Jvm.Cond.instanceMethod ({ cls := "AskedCourtModel", name := "fails", desc := "(I)I" } : Jvm.MethodName)) ∈ lw_all := lw_g (lw_at lw_m8 191 rfl) rfl
theorem q2011 : (Jvm.Cond.code ({ cls := "AskedCourtModel", name := "fails", desc := "(I)I" } : Jvm.MethodName) prog_24_method_67_code (2 : Nat) (Option.some Jvm.ClassFile.FieldType.int)) ∈ lw_all := lw_g (lw_at lw_m8 192 rfl) rfl
theorem q2013 : (Jvm.Cond.instanceMethod ({ cls := "AskedCourtModel", name := "question", desc := "(II)I" } : Jvm.MethodName)) ∈ lw_all := lw_g (lw_at lw_m8 194 rfl) rfl
theorem q2014 : (Jvm.Cond.selects "AskedCourtModel" ({ cls := "AskedCourtModel", name := "question", desc := "(II)I" } : Jvm.MethodName) ({ cls := "AskedCourtModel", name := "question", desc := "(II)I" } : Jvm.MethodName)) ∈ lw_all := lw_g (lw_at lw_m8 195 rfl) rfl
theorem q2015 : (Jvm.Cond.code ({ cls := "AskedCourtModel", name := "question", desc := "(II)I" } : Jvm.MethodName) prog_24_method_69_code (3 : Nat) (Option.some Jvm.ClassFile.FieldType.int)) ∈ lw_all := lw_g (lw_at lw_m8 196 rfl) rfl
theorem q2016 : (Jvm.Cond.methodLink "AskedCourtModel" (449 : Nat) ({ cls := "AskedCourtModel", name := "isQuestion", desc := "(I)Z" } : Jvm.MethodName)) ∈ lw_all := lw_g (lw_at lw_m8 197 rfl) rfl
theorem q2017 : (Jvm.Cond.privateMethod ({ cls := "AskedCourtModel", name := "isQuestion", desc := "(I)Z" } : Jvm.MethodName)) ∈ lw_tbl := lw_at lw_m8 198 rfl
theorem q2018 : (Jvm.Cond.instanceMethod ({ cls := "AskedCourtModel", name := "isQuestion", desc := "(I)Z" } : Jvm.MethodName)) ∈ lw_all := lw_g (lw_at lw_m8 199 rfl) rfl
theorem q2019 : (Jvm.Cond.code ({ cls := "AskedCourtModel", name := "isQuestion", desc := "(I)Z" } : Jvm.MethodName) prog_24_method_54_code (2 : Nat) (Option.some Jvm.ClassFile.FieldType.boolean)) ∈ lw_all := lw_g (lw_at lw_m8 200 rfl) rfl
theorem q2021 : (Jvm.Cond.instanceMethod ({ cls := "AskedCourtModel", name := "can", desc := "(III)I" } : Jvm.MethodName)) ∈ lw_all := lw_g (lw_at lw_m8 202 rfl) rfl
theorem q2022 : (Jvm.Cond.selects "AskedCourtModel" ({ cls := "AskedCourtModel", name := "can", desc := "(III)I" } : Jvm.MethodName) ({ cls := "AskedCourtModel", name := "can", desc := "(III)I" } : Jvm.MethodName)) ∈ lw_all := lw_g (lw_at lw_m8 203 rfl) rfl
theorem q2023 : (Jvm.Cond.code ({ cls := "AskedCourtModel", name := "can", desc := "(III)I" } : Jvm.MethodName) prog_24_method_70_code (4 : Nat) (Option.some Jvm.ClassFile.FieldType.int)) ∈ lw_all := lw_g (lw_at lw_m8 204 rfl) rfl
theorem q2024 : (Jvm.Cond.methodLink "AskedCourtModel" (452 : Nat) ({ cls := "AskedCourtModel", name := "canAsk", desc := "(IIII)Z" } : Jvm.MethodName)) ∈ lw_all := lw_g (lw_at lw_m8 205 rfl) rfl
theorem q2025 : (Jvm.Cond.privateMethod ({ cls := "AskedCourtModel", name := "canAsk", desc := "(IIII)Z" } : Jvm.MethodName)) ∈ lw_tbl := lw_at lw_m8 206 rfl
theorem q2026 : (Jvm.Cond.instanceMethod ({ cls := "AskedCourtModel", name := "canAsk", desc := "(IIII)Z" } : Jvm.MethodName)) ∈ lw_all := lw_g (lw_at lw_m8 207 rfl) rfl
theorem q2027 : (Jvm.Cond.code ({ cls := "AskedCourtModel", name := "canAsk", desc := "(IIII)Z" } : Jvm.MethodName) prog_24_method_57_code (5 : Nat) (Option.some Jvm.ClassFile.FieldType.boolean)) ∈ lw_all := lw_g (lw_at lw_m8 208 rfl) rfl
theorem q2028 : (Jvm.Cond.methodLink "AskedCourtModel" (401 : Nat) ({ cls := "AskedCourtModel", name := "supposed", desc := "(I)I" } : Jvm.MethodName)) ∈ lw_all := lw_g (lw_at lw_m8 209 rfl) rfl
theorem q2029 : (Jvm.Cond.privateMethod ({ cls := "AskedCourtModel", name := "supposed", desc := "(I)I" } : Jvm.MethodName)) ∈ lw_tbl := lw_at lw_m8 210 rfl
theorem q2030 : (Jvm.Cond.instanceMethod ({ cls := "AskedCourtModel", name := "supposed", desc := "(I)I" } : Jvm.MethodName)) ∈ lw_all := lw_g (lw_at lw_m8 211 rfl) rfl
theorem q2031 : (Jvm.Cond.code ({ cls := "AskedCourtModel", name := "supposed", desc := "(I)I" } : Jvm.MethodName) prog_24_method_56_code (3 : Nat) (Option.some Jvm.ClassFile.FieldType.int)) ∈ lw_all := lw_g (lw_at lw_m8 212 rfl) rfl
theorem q2033 : (Jvm.Cond.instanceMethod ({ cls := "AskedCourtModel", name := "law", desc := "(III)J" } : Jvm.MethodName)) ∈ lw_all := lw_g (lw_at lw_m8 214 rfl) rfl
theorem q2034 : (Jvm.Cond.selects "AskedCourtModel" ({ cls := "AskedCourtModel", name := "law", desc := "(III)J" } : Jvm.MethodName) ({ cls := "AskedCourtModel", name := "law", desc := "(III)J" } : Jvm.MethodName)) ∈ lw_all := lw_g (lw_at lw_m8 215 rfl) rfl
theorem q2035 : (Jvm.Cond.code ({ cls := "AskedCourtModel", name := "law", desc := "(III)J" } : Jvm.MethodName) prog_24_method_71_code (6 : Nat) (Option.some Jvm.ClassFile.FieldType.long)) ∈ lw_all := lw_g (lw_at lw_m8 216 rfl) rfl
theorem q2036 : (Jvm.Cond.constantLong "AskedCourtModel" (456 : Nat) (-9223372036854775808 : Int64)) ∈ lw_all := lw_g (lw_at lw_m8 217 rfl) rfl
theorem q2037 : (Jvm.Cond.methodLink "AskedCourtModel" (414 : Nat) ({ cls := "AskedCourtModel", name := "layNames", desc := "(III)V" } : Jvm.MethodName)) ∈ lw_all := lw_g (lw_at lw_m8 218 rfl) rfl
theorem q2038 : (Jvm.Cond.privateMethod ({ cls := "AskedCourtModel", name := "layNames", desc := "(III)V" } : Jvm.MethodName)) ∈ lw_tbl := lw_at lw_m8 219 rfl
theorem q2039 : (Jvm.Cond.instanceMethod ({ cls := "AskedCourtModel", name := "layNames", desc := "(III)V" } : Jvm.MethodName)) ∈ lw_all := lw_g (lw_at lw_m8 220 rfl) rfl
theorem q2040 : (Jvm.Cond.code ({ cls := "AskedCourtModel", name := "layNames", desc := "(III)V" } : Jvm.MethodName) prog_24_method_59_code (4 : Nat) (Option.none : Option Jvm.ClassFile.FieldType)) ∈ lw_all := lw_g (lw_at lw_m8 221 rfl) rfl
theorem q2041 : (Jvm.Cond.methodLink "AskedCourtModel" (404 : Nat) ({ cls := "AskedCourtModel", name := "witOf", desc := "(I)I" } : Jvm.MethodName)) ∈ lw_all := lw_g (lw_at lw_m8 222 rfl) rfl
theorem q2042 : (Jvm.Cond.privateMethod ({ cls := "AskedCourtModel", name := "witOf", desc := "(I)I" } : Jvm.MethodName)) ∈ lw_tbl := lw_at lw_m8 223 rfl
theorem q2043 : (Jvm.Cond.instanceMethod ({ cls := "AskedCourtModel", name := "witOf", desc := "(I)I" } : Jvm.MethodName)) ∈ lw_all := lw_g (lw_at lw_m8 224 rfl) rfl
theorem q2044 : (Jvm.Cond.code ({ cls := "AskedCourtModel", name := "witOf", desc := "(I)I" } : Jvm.MethodName) prog_24_method_58_code (2 : Nat) (Option.some Jvm.ClassFile.FieldType.int)) ∈ lw_all := lw_g (lw_at lw_m8 225 rfl) rfl
theorem q2045 : (Jvm.Cond.methodLink "AskedCourtModel" (407 : Nat) ({ cls := "AskedCourtModel", name := "manyOf", desc := "(I)I" } : Jvm.MethodName)) ∈ lw_all := lw_g (lw_at lw_m8 226 rfl) rfl
theorem q2046 : (Jvm.Cond.static ({ cls := "AskedCourtModel", name := "manyOf", desc := "(I)I" } : Jvm.MethodName)) ∈ lw_all := lw_g (lw_at lw_m8 227 rfl) rfl
theorem q2047 : (Jvm.Cond.code ({ cls := "AskedCourtModel", name := "manyOf", desc := "(I)I" } : Jvm.MethodName) prog_24_method_55_code (3 : Nat) (Option.some Jvm.ClassFile.FieldType.int)) ∈ lw_all := lw_g (lw_at lw_m8 228 rfl) rfl
theorem q2048 : (Jvm.Cond.methodLink "AskedCourtModel" (417 : Nat) ({ cls := "AskedCourtModel", name := "lawOf", desc := "(I)J" } : Jvm.MethodName)) ∈ lw_all := lw_g (lw_at lw_m8 229 rfl) rfl
theorem q2049 : (Jvm.Cond.privateMethod ({ cls := "AskedCourtModel", name := "lawOf", desc := "(I)J" } : Jvm.MethodName)) ∈ lw_tbl := lw_at lw_m8 230 rfl
theorem q2050 : (Jvm.Cond.instanceMethod ({ cls := "AskedCourtModel", name := "lawOf", desc := "(I)J" } : Jvm.MethodName)) ∈ lw_all := lw_g (lw_at lw_m8 231 rfl) rfl
theorem q2051 : (Jvm.Cond.code ({ cls := "AskedCourtModel", name := "lawOf", desc := "(I)J" } : Jvm.MethodName) prog_24_method_60_code (3 : Nat) (Option.some Jvm.ClassFile.FieldType.long)) ∈ lw_all := lw_g (lw_at lw_m8 232 rfl) rfl
theorem q2052 : (Jvm.Cond.methodLink "AskedCourtModel" (410 : Nat) ({ cls := "AskedCourtModel", name := "valueOf", desc := "(I)J" } : Jvm.MethodName)) ∈ lw_all := lw_g (lw_at lw_m8 233 rfl) rfl
theorem q2053 : (Jvm.Cond.privateMethod ({ cls := "AskedCourtModel", name := "valueOf", desc := "(I)J" } : Jvm.MethodName)) ∈ lw_tbl := lw_at lw_m8 234 rfl
theorem q2054 : (Jvm.Cond.instanceMethod ({ cls := "AskedCourtModel", name := "valueOf", desc := "(I)J" } : Jvm.MethodName)) ∈ lw_all := lw_g (lw_at lw_m8 235 rfl) rfl
theorem q2055 : (Jvm.Cond.code ({ cls := "AskedCourtModel", name := "valueOf", desc := "(I)J" } : Jvm.MethodName) prog_24_method_47_code (6 : Nat) (Option.some Jvm.ClassFile.FieldType.long)) ∈ lw_all := lw_g (lw_at lw_m8 236 rfl) rfl
theorem q2056 : (Jvm.Cond.methodLink "AskedCourtModel" (349 : Nat) ({ cls := "AskedCourtModel", name := "bounded", desc := "(J)J" } : Jvm.MethodName)) ∈ lw_all := lw_g (lw_at lw_m8 237 rfl) rfl
theorem q2057 : (Jvm.Cond.privateMethod ({ cls := "AskedCourtModel", name := "bounded", desc := "(J)J" } : Jvm.MethodName)) ∈ lw_tbl := lw_at lw_m8 238 rfl
theorem q2058 : (Jvm.Cond.instanceMethod ({ cls := "AskedCourtModel", name := "bounded", desc := "(J)J" } : Jvm.MethodName)) ∈ lw_all := lw_g (lw_at lw_m8 239 rfl) rfl
theorem q2059 : (Jvm.Cond.code ({ cls := "AskedCourtModel", name := "bounded", desc := "(J)J" } : Jvm.MethodName) prog_24_method_44_code (3 : Nat) (Option.some Jvm.ClassFile.FieldType.long)) ∈ lw_all := lw_g (lw_at lw_m9 0 rfl) rfl
theorem q2060 : (Jvm.Cond.constantLong "AskedCourtModel" (345 : Nat) (1000000000000 : Int64)) ∈ lw_all := lw_g (lw_at lw_m9 1 rfl) rfl
theorem q2061 : (Jvm.Cond.constantLong "AskedCourtModel" (347 : Nat) (-1000000000000 : Int64)) ∈ lw_all := lw_g (lw_at lw_m9 2 rfl) rfl
theorem q2062 : (Jvm.Cond.methodLink "AskedCourtModel" (353 : Nat) ({ cls := "AskedCourtModel", name := "times", desc := "(JJ)J" } : Jvm.MethodName)) ∈ lw_all := lw_g (lw_at lw_m9 3 rfl) rfl
theorem q2063 : (Jvm.Cond.privateMethod ({ cls := "AskedCourtModel", name := "times", desc := "(JJ)J" } : Jvm.MethodName)) ∈ lw_tbl := lw_at lw_m9 4 rfl
theorem q2064 : (Jvm.Cond.instanceMethod ({ cls := "AskedCourtModel", name := "times", desc := "(JJ)J" } : Jvm.MethodName)) ∈ lw_all := lw_g (lw_at lw_m9 5 rfl) rfl
theorem q2065 : (Jvm.Cond.code ({ cls := "AskedCourtModel", name := "times", desc := "(JJ)J" } : Jvm.MethodName) prog_24_method_46_code (6 : Nat) (Option.some Jvm.ClassFile.FieldType.long)) ∈ lw_all := lw_g (lw_at lw_m9 6 rfl) rfl
theorem q2066 : (Jvm.Cond.methodLink "AskedCourtModel" (357 : Nat) ({ cls := "AskedCourtModel", name := "compares", desc := "(IJJ)Z" } : Jvm.MethodName)) ∈ lw_all := lw_g (lw_at lw_m9 7 rfl) rfl
theorem q2067 : (Jvm.Cond.static ({ cls := "AskedCourtModel", name := "compares", desc := "(IJJ)Z" } : Jvm.MethodName)) ∈ lw_all := lw_g (lw_at lw_m9 8 rfl) rfl
theorem q2068 : (Jvm.Cond.code ({ cls := "AskedCourtModel", name := "compares", desc := "(IJJ)Z" } : Jvm.MethodName) prog_24_method_45_code (5 : Nat) (Option.some Jvm.ClassFile.FieldType.boolean)) ∈ lw_all := lw_g (lw_at lw_m9 9 rfl) rfl
theorem q2070 : (Jvm.Cond.instanceMethod ({ cls := "AskedCourtModel", name := "ask", desc := "(III)I" } : Jvm.MethodName)) ∈ lw_all := lw_g (lw_at lw_m9 11 rfl) rfl
theorem q2071 : (Jvm.Cond.selects "AskedCourtModel" ({ cls := "AskedCourtModel", name := "ask", desc := "(III)I" } : Jvm.MethodName) ({ cls := "AskedCourtModel", name := "ask", desc := "(III)I" } : Jvm.MethodName)) ∈ lw_all := lw_g (lw_at lw_m9 12 rfl) rfl
theorem q2072 : (Jvm.Cond.code ({ cls := "AskedCourtModel", name := "ask", desc := "(III)I" } : Jvm.MethodName) prog_24_method_72_code (5 : Nat) (Option.some Jvm.ClassFile.FieldType.int)) ∈ lw_all := lw_g (lw_at lw_m9 13 rfl) rfl
theorem q2073 : (Jvm.Cond.methodLink "AskedCourtModel" (458 : Nat) ({ cls := "AskedCourtModel", name := "remember", desc := "()V" } : Jvm.MethodName)) ∈ lw_all := lw_g (lw_at lw_m9 14 rfl) rfl
theorem q2074 : (Jvm.Cond.privateMethod ({ cls := "AskedCourtModel", name := "remember", desc := "()V" } : Jvm.MethodName)) ∈ lw_tbl := lw_at lw_m9 15 rfl
theorem q2075 : (Jvm.Cond.instanceMethod ({ cls := "AskedCourtModel", name := "remember", desc := "()V" } : Jvm.MethodName)) ∈ lw_all := lw_g (lw_at lw_m9 16 rfl) rfl
theorem q2076 : (Jvm.Cond.code ({ cls := "AskedCourtModel", name := "remember", desc := "()V" } : Jvm.MethodName) prog_24_method_121_code (2 : Nat) (Option.none : Option Jvm.ClassFile.FieldType)) ∈ lw_all := lw_g (lw_at lw_m9 17 rfl) rfl
theorem q2077 : (Jvm.Cond.methodLink "AskedCourtModel" (537 : Nat) ({ cls := "AskedCourtModel", name := "put", desc := "([II)V" } : Jvm.MethodName)) ∈ lw_all := lw_g (lw_at lw_m9 18 rfl) rfl
theorem q2078 : (Jvm.Cond.privateMethod ({ cls := "AskedCourtModel", name := "put", desc := "([II)V" } : Jvm.MethodName)) ∈ lw_tbl := lw_at lw_m9 19 rfl
theorem q2079 : (Jvm.Cond.instanceMethod ({ cls := "AskedCourtModel", name := "put", desc := "([II)V" } : Jvm.MethodName)) ∈ lw_all := lw_g (lw_at lw_m9 20 rfl) rfl
theorem q2080 : (Jvm.Cond.code ({ cls := "AskedCourtModel", name := "put", desc := "([II)V" } : Jvm.MethodName) prog_24_method_119_code (4 : Nat) (Option.none : Option Jvm.ClassFile.FieldType)) ∈ lw_all := lw_g (lw_at lw_m9 21 rfl) rfl
theorem q2081 : (Jvm.Cond.methodLink "AskedCourtModel" (461 : Nat) ({ cls := "AskedCourtModel", name := "asks", desc := "(IIII)Z" } : Jvm.MethodName)) ∈ lw_all := lw_g (lw_at lw_m9 22 rfl) rfl
theorem q2082 : (Jvm.Cond.privateMethod ({ cls := "AskedCourtModel", name := "asks", desc := "(IIII)Z" } : Jvm.MethodName)) ∈ lw_tbl := lw_at lw_m9 23 rfl
theorem q2083 : (Jvm.Cond.instanceMethod ({ cls := "AskedCourtModel", name := "asks", desc := "(IIII)Z" } : Jvm.MethodName)) ∈ lw_all := lw_g (lw_at lw_m9 24 rfl) rfl
theorem q2084 : (Jvm.Cond.code ({ cls := "AskedCourtModel", name := "asks", desc := "(IIII)Z" } : Jvm.MethodName) prog_24_method_65_code (6 : Nat) (Option.some Jvm.ClassFile.FieldType.boolean)) ∈ lw_all := lw_g (lw_at lw_m9 25 rfl) rfl
theorem q2085 : (Jvm.Cond.methodLink "AskedCourtModel" (437 : Nat) ({ cls := "AskedCourtModel", name := "hears", desc := "(III)Z" } : Jvm.MethodName)) ∈ lw_all := lw_g (lw_at lw_m9 26 rfl) rfl
theorem q2086 : (Jvm.Cond.privateMethod ({ cls := "AskedCourtModel", name := "hears", desc := "(III)Z" } : Jvm.MethodName)) ∈ lw_tbl := lw_at lw_m9 27 rfl
theorem q2087 : (Jvm.Cond.instanceMethod ({ cls := "AskedCourtModel", name := "hears", desc := "(III)Z" } : Jvm.MethodName)) ∈ lw_all := lw_g (lw_at lw_m9 28 rfl) rfl
theorem q2088 : (Jvm.Cond.code ({ cls := "AskedCourtModel", name := "hears", desc := "(III)Z" } : Jvm.MethodName) prog_24_method_61_code (7 : Nat) (Option.some Jvm.ClassFile.FieldType.boolean)) ∈ lw_all := lw_g (lw_at lw_m9 29 rfl) rfl
theorem q2089 : (Jvm.Cond.methodLink "AskedCourtModel" (440 : Nat) ({ cls := "AskedCourtModel", name := "isSlip", desc := "(III)Z" } : Jvm.MethodName)) ∈ lw_all := lw_g (lw_at lw_m9 30 rfl) rfl
theorem q2090 : (Jvm.Cond.privateMethod ({ cls := "AskedCourtModel", name := "isSlip", desc := "(III)Z" } : Jvm.MethodName)) ∈ lw_tbl := lw_at lw_m9 31 rfl
theorem q2091 : (Jvm.Cond.instanceMethod ({ cls := "AskedCourtModel", name := "isSlip", desc := "(III)Z" } : Jvm.MethodName)) ∈ lw_all := lw_g (lw_at lw_m9 32 rfl) rfl
theorem q2092 : (Jvm.Cond.code ({ cls := "AskedCourtModel", name := "isSlip", desc := "(III)Z" } : Jvm.MethodName) prog_24_method_64_code (6 : Nat) (Option.some Jvm.ClassFile.FieldType.boolean)) ∈ lw_all := lw_g (lw_at lw_m9 33 rfl) rfl
theorem q2093 : (Jvm.Cond.methodLink "AskedCourtModel" (430 : Nat) ({ cls := "AskedCourtModel", name := "slipOf", desc := "(III)I" } : Jvm.MethodName)) ∈ lw_all := lw_g (lw_at lw_m9 34 rfl) rfl
theorem q2094 : (Jvm.Cond.privateMethod ({ cls := "AskedCourtModel", name := "slipOf", desc := "(III)I" } : Jvm.MethodName)) ∈ lw_tbl := lw_at lw_m9 35 rfl
theorem q2095 : (Jvm.Cond.instanceMethod ({ cls := "AskedCourtModel", name := "slipOf", desc := "(III)I" } : Jvm.MethodName)) ∈ lw_all := lw_g (lw_at lw_m9 36 rfl) rfl
theorem q2096 : (Jvm.Cond.code ({ cls := "AskedCourtModel", name := "slipOf", desc := "(III)I" } : Jvm.MethodName) prog_24_method_62_code (7 : Nat) (Option.some Jvm.ClassFile.FieldType.int)) ∈ lw_all := lw_g (lw_at lw_m9 37 rfl) rfl
theorem q2097 : (Jvm.Cond.constantLong "AskedCourtModel" (420 : Nat) (100 : Int64)) ∈ lw_all := lw_g (lw_at lw_m9 38 rfl) rfl
theorem q2098 : (Jvm.Cond.methodLink "AskedCourtModel" (434 : Nat) ({ cls := "AskedCourtModel", name := "number1", desc := "(I)I" } : Jvm.MethodName)) ∈ lw_all := lw_g (lw_at lw_m9 39 rfl) rfl
theorem q2099 : (Jvm.Cond.privateMethod ({ cls := "AskedCourtModel", name := "number1", desc := "(I)I" } : Jvm.MethodName)) ∈ lw_tbl := lw_at lw_m9 40 rfl
theorem q2100 : (Jvm.Cond.instanceMethod ({ cls := "AskedCourtModel", name := "number1", desc := "(I)I" } : Jvm.MethodName)) ∈ lw_all := lw_g (lw_at lw_m9 41 rfl) rfl
theorem q2101 : (Jvm.Cond.code ({ cls := "AskedCourtModel", name := "number1", desc := "(I)I" } : Jvm.MethodName) prog_24_method_63_code (2 : Nat) (Option.some Jvm.ClassFile.FieldType.int)) ∈ lw_all := lw_g (lw_at lw_m9 42 rfl) rfl
theorem q2102 : (Jvm.Cond.constantLong "AskedCourtModel" (422 : Nat) (1103515245 : Int64)) ∈ lw_all := lw_g (lw_at lw_m9 43 rfl) rfl
theorem q2103 : (Jvm.Cond.constantLong "AskedCourtModel" (424 : Nat) (12345 : Int64)) ∈ lw_all := lw_g (lw_at lw_m9 44 rfl) rfl
theorem q2104 : (Jvm.Cond.constantLong "AskedCourtModel" (426 : Nat) (2147483647 : Int64)) ∈ lw_all := lw_g (lw_at lw_m9 45 rfl) rfl
theorem q2105 : (Jvm.Cond.constantLong "AskedCourtModel" (428 : Nat) (65536 : Int64)) ∈ lw_all := lw_g (lw_at lw_m9 46 rfl) rfl
theorem q2107 : (Jvm.Cond.instanceMethod ({ cls := "AskedCourtModel", name := "tell", desc := "(II)Z" } : Jvm.MethodName)) ∈ lw_all := lw_g (lw_at lw_m9 48 rfl) rfl
theorem q2108 : (Jvm.Cond.selects "AskedCourtModel" ({ cls := "AskedCourtModel", name := "tell", desc := "(II)Z" } : Jvm.MethodName) ({ cls := "AskedCourtModel", name := "tell", desc := "(II)Z" } : Jvm.MethodName)) ∈ lw_all := lw_g (lw_at lw_m9 49 rfl) rfl
theorem q2109 : (Jvm.Cond.code ({ cls := "AskedCourtModel", name := "tell", desc := "(II)Z" } : Jvm.MethodName) prog_24_method_73_code (3 : Nat) (Option.some Jvm.ClassFile.FieldType.boolean)) ∈ lw_all := lw_g (lw_at lw_m9 50 rfl) rfl
theorem q2110 : (Jvm.Cond.methodLink "AskedCourtModel" (464 : Nat) ({ cls := "AskedCourtModel", name := "isFact", desc := "(I)Z" } : Jvm.MethodName)) ∈ lw_all := lw_g (lw_at lw_m9 51 rfl) rfl
theorem q2111 : (Jvm.Cond.privateMethod ({ cls := "AskedCourtModel", name := "isFact", desc := "(I)Z" } : Jvm.MethodName)) ∈ lw_tbl := lw_at lw_m9 52 rfl
theorem q2112 : (Jvm.Cond.instanceMethod ({ cls := "AskedCourtModel", name := "isFact", desc := "(I)Z" } : Jvm.MethodName)) ∈ lw_all := lw_g (lw_at lw_m9 53 rfl) rfl
theorem q2113 : (Jvm.Cond.code ({ cls := "AskedCourtModel", name := "isFact", desc := "(I)Z" } : Jvm.MethodName) prog_24_method_53_code (2 : Nat) (Option.some Jvm.ClassFile.FieldType.boolean)) ∈ lw_all := lw_g (lw_at lw_m9 54 rfl) rfl
theorem q2115 : (Jvm.Cond.instanceMethod ({ cls := "AskedCourtModel", name := "send", desc := "(II)Z" } : Jvm.MethodName)) ∈ lw_all := lw_g (lw_at lw_m9 56 rfl) rfl
theorem q2116 : (Jvm.Cond.selects "AskedCourtModel" ({ cls := "AskedCourtModel", name := "send", desc := "(II)Z" } : Jvm.MethodName) ({ cls := "AskedCourtModel", name := "send", desc := "(II)Z" } : Jvm.MethodName)) ∈ lw_all := lw_g (lw_at lw_m9 57 rfl) rfl
theorem q2117 : (Jvm.Cond.code ({ cls := "AskedCourtModel", name := "send", desc := "(II)Z" } : Jvm.MethodName) prog_24_method_74_code (3 : Nat) (Option.some Jvm.ClassFile.FieldType.boolean)) ∈ lw_all := lw_g (lw_at lw_m9 58 rfl) rfl
theorem q2119 : (Jvm.Cond.instanceMethod ({ cls := "AskedCourtModel", name := "end", desc := "()I" } : Jvm.MethodName)) ∈ lw_all := lw_g (lw_at lw_m9 60 rfl) rfl
theorem q2120 : (Jvm.Cond.selects "AskedCourtModel" ({ cls := "AskedCourtModel", name := "end", desc := "()I" } : Jvm.MethodName) ({ cls := "AskedCourtModel", name := "end", desc := "()I" } : Jvm.MethodName)) ∈ lw_all := lw_g (lw_at lw_m9 61 rfl) rfl
theorem q2121 : (Jvm.Cond.code ({ cls := "AskedCourtModel", name := "end", desc := "()I" } : Jvm.MethodName) prog_24_method_75_code (2 : Nat) (Option.some Jvm.ClassFile.FieldType.int)) ∈ lw_all := lw_g (lw_at lw_m9 62 rfl) rfl
theorem q2123 : (Jvm.Cond.instanceMethod ({ cls := "AskedCourtModel", name := "all", desc := "(I)I" } : Jvm.MethodName)) ∈ lw_all := lw_g (lw_at lw_m9 64 rfl) rfl
theorem q2124 : (Jvm.Cond.selects "AskedCourtModel" ({ cls := "AskedCourtModel", name := "all", desc := "(I)I" } : Jvm.MethodName) ({ cls := "AskedCourtModel", name := "all", desc := "(I)I" } : Jvm.MethodName)) ∈ lw_all := lw_g (lw_at lw_m9 65 rfl) rfl
theorem q2125 : (Jvm.Cond.code ({ cls := "AskedCourtModel", name := "all", desc := "(I)I" } : Jvm.MethodName) prog_24_method_77_code (2 : Nat) (Option.some Jvm.ClassFile.FieldType.int)) ∈ lw_all := lw_g (lw_at lw_m9 66 rfl) rfl
theorem q2126 : (Jvm.Cond.methodLink "AskedCourtModel" (470 : Nat) ({ cls := "AskedCourtModel", name := "layTried", desc := "()V" } : Jvm.MethodName)) ∈ lw_all := lw_g (lw_at lw_m9 67 rfl) rfl
theorem q2127 : (Jvm.Cond.privateMethod ({ cls := "AskedCourtModel", name := "layTried", desc := "()V" } : Jvm.MethodName)) ∈ lw_tbl := lw_at lw_m9 68 rfl
theorem q2128 : (Jvm.Cond.instanceMethod ({ cls := "AskedCourtModel", name := "layTried", desc := "()V" } : Jvm.MethodName)) ∈ lw_all := lw_g (lw_at lw_m9 69 rfl) rfl
theorem q2129 : (Jvm.Cond.code ({ cls := "AskedCourtModel", name := "layTried", desc := "()V" } : Jvm.MethodName) prog_24_method_51_code (2 : Nat) (Option.none : Option Jvm.ClassFile.FieldType)) ∈ lw_all := lw_g (lw_at lw_m9 70 rfl) rfl
theorem q2130 : (Jvm.Cond.methodLink "AskedCourtModel" (473 : Nat) ({ cls := "AskedCourtModel", name := "askAll", desc := "()V" } : Jvm.MethodName)) ∈ lw_all := lw_g (lw_at lw_m9 71 rfl) rfl
theorem q2131 : (Jvm.Cond.privateMethod ({ cls := "AskedCourtModel", name := "askAll", desc := "()V" } : Jvm.MethodName)) ∈ lw_tbl := lw_at lw_m9 72 rfl
theorem q2132 : (Jvm.Cond.instanceMethod ({ cls := "AskedCourtModel", name := "askAll", desc := "()V" } : Jvm.MethodName)) ∈ lw_all := lw_g (lw_at lw_m9 73 rfl) rfl
theorem q2133 : (Jvm.Cond.code ({ cls := "AskedCourtModel", name := "askAll", desc := "()V" } : Jvm.MethodName) prog_24_method_76_code (7 : Nat) (Option.none : Option Jvm.ClassFile.FieldType)) ∈ lw_all := lw_g (lw_at lw_m9 74 rfl) rfl
theorem q2134 : (Jvm.Cond.methodLink "AskedCourtModel" (467 : Nat) ({ cls := "AskedCourtModel", name := "sumIn", desc := "(I)I" } : Jvm.MethodName)) ∈ lw_all := lw_g (lw_at lw_m9 75 rfl) rfl
theorem q2135 : (Jvm.Cond.privateMethod ({ cls := "AskedCourtModel", name := "sumIn", desc := "(I)I" } : Jvm.MethodName)) ∈ lw_tbl := lw_at lw_m9 76 rfl
theorem q2136 : (Jvm.Cond.instanceMethod ({ cls := "AskedCourtModel", name := "sumIn", desc := "(I)I" } : Jvm.MethodName)) ∈ lw_all := lw_g (lw_at lw_m9 77 rfl) rfl
theorem q2137 : (Jvm.Cond.code ({ cls := "AskedCourtModel", name := "sumIn", desc := "(I)I" } : Jvm.MethodName) prog_24_method_66_code (4 : Nat) (Option.some Jvm.ClassFile.FieldType.int)) ∈ lw_all := lw_g (lw_at lw_m9 78 rfl) rfl
theorem q2139 : (Jvm.Cond.instanceMethod ({ cls := "AskedCourtModel", name := "never", desc := "(II)I" } : Jvm.MethodName)) ∈ lw_all := lw_g (lw_at lw_m9 80 rfl) rfl
theorem q2140 : (Jvm.Cond.selects "AskedCourtModel" ({ cls := "AskedCourtModel", name := "never", desc := "(II)I" } : Jvm.MethodName) ({ cls := "AskedCourtModel", name := "never", desc := "(II)I" } : Jvm.MethodName)) ∈ lw_all := lw_g (lw_at lw_m9 81 rfl) rfl
theorem q2141 : (Jvm.Cond.code ({ cls := "AskedCourtModel", name := "never", desc := "(II)I" } : Jvm.MethodName) prog_24_method_79_code (3 : Nat) (Option.some Jvm.ClassFile.FieldType.int)) ∈ lw_all := lw_g (lw_at lw_m9 82 rfl) rfl
theorem q2142 : (Jvm.Cond.methodLink "AskedCourtModel" (476 : Nat) ({ cls := "AskedCourtModel", name := "learns", desc := "(III)Z" } : Jvm.MethodName)) ∈ lw_all := lw_g (lw_at lw_m9 83 rfl) rfl
theorem q2143 : (Jvm.Cond.privateMethod ({ cls := "AskedCourtModel", name := "learns", desc := "(III)Z" } : Jvm.MethodName)) ∈ lw_tbl := lw_at lw_m9 84 rfl
theorem q2144 : (Jvm.Cond.instanceMethod ({ cls := "AskedCourtModel", name := "learns", desc := "(III)Z" } : Jvm.MethodName)) ∈ lw_all := lw_g (lw_at lw_m9 85 rfl) rfl
theorem q2145 : (Jvm.Cond.code ({ cls := "AskedCourtModel", name := "learns", desc := "(III)Z" } : Jvm.MethodName) prog_24_method_78_code (5 : Nat) (Option.some Jvm.ClassFile.FieldType.boolean)) ∈ lw_all := lw_g (lw_at lw_m9 86 rfl) rfl
theorem q2147 : (Jvm.Cond.instanceMethod ({ cls := "AskedCourtModel", name := "away", desc := "(II)I" } : Jvm.MethodName)) ∈ lw_all := lw_g (lw_at lw_m9 88 rfl) rfl
theorem q2148 : (Jvm.Cond.selects "AskedCourtModel" ({ cls := "AskedCourtModel", name := "away", desc := "(II)I" } : Jvm.MethodName) ({ cls := "AskedCourtModel", name := "away", desc := "(II)I" } : Jvm.MethodName)) ∈ lw_all := lw_g (lw_at lw_m9 89 rfl) rfl
theorem q2149 : (Jvm.Cond.code ({ cls := "AskedCourtModel", name := "away", desc := "(II)I" } : Jvm.MethodName) prog_24_method_80_code (5 : Nat) (Option.some Jvm.ClassFile.FieldType.int)) ∈ lw_all := lw_g (lw_at lw_m9 90 rfl) rfl
theorem q2151 : (Jvm.Cond.instanceMethod ({ cls := "AskedCourtModel", name := "spread", desc := "(I)I" } : Jvm.MethodName)) ∈ lw_all := lw_g (lw_at lw_m9 92 rfl) rfl
theorem q2152 : (Jvm.Cond.selects "AskedCourtModel" ({ cls := "AskedCourtModel", name := "spread", desc := "(I)I" } : Jvm.MethodName) ({ cls := "AskedCourtModel", name := "spread", desc := "(I)I" } : Jvm.MethodName)) ∈ lw_all := lw_g (lw_at lw_m9 93 rfl) rfl
theorem q2153 : (Jvm.Cond.code ({ cls := "AskedCourtModel", name := "spread", desc := "(I)I" } : Jvm.MethodName) prog_24_method_81_code (4 : Nat) (Option.some Jvm.ClassFile.FieldType.int)) ∈ lw_all := lw_g (lw_at lw_m9 94 rfl) rfl
theorem q2155 : (Jvm.Cond.instanceMethod ({ cls := "AskedCourtModel", name := "hint", desc := "(III)I" } : Jvm.MethodName)) ∈ lw_all := lw_g (lw_at lw_m9 96 rfl) rfl
theorem q2156 : (Jvm.Cond.selects "AskedCourtModel" ({ cls := "AskedCourtModel", name := "hint", desc := "(III)I" } : Jvm.MethodName) ({ cls := "AskedCourtModel", name := "hint", desc := "(III)I" } : Jvm.MethodName)) ∈ lw_all := lw_g (lw_at lw_m9 97 rfl) rfl
theorem q2157 : (Jvm.Cond.code ({ cls := "AskedCourtModel", name := "hint", desc := "(III)I" } : Jvm.MethodName) prog_24_method_82_code (7 : Nat) (Option.some Jvm.ClassFile.FieldType.int)) ∈ lw_all := lw_g (lw_at lw_m9 98 rfl) rfl
theorem q2159 : (Jvm.Cond.instanceMethod ({ cls := "AskedCourtModel", name := "unasked", desc := "(I)I" } : Jvm.MethodName)) ∈ lw_all := lw_g (lw_at lw_m9 100 rfl) rfl
theorem q2160 : (Jvm.Cond.selects "AskedCourtModel" ({ cls := "AskedCourtModel", name := "unasked", desc := "(I)I" } : Jvm.MethodName) ({ cls := "AskedCourtModel", name := "unasked", desc := "(I)I" } : Jvm.MethodName)) ∈ lw_all := lw_g (lw_at lw_m9 101 rfl) rfl
theorem q2161 : (Jvm.Cond.code ({ cls := "AskedCourtModel", name := "unasked", desc := "(I)I" } : Jvm.MethodName) prog_24_method_83_code (5 : Nat) (Option.some Jvm.ClassFile.FieldType.int)) ∈ lw_all := lw_g (lw_at lw_m9 102 rfl) rfl
theorem q2163 : (Jvm.Cond.instanceMethod ({ cls := "AskedCourtModel", name := "inRoom", desc := "(II)I" } : Jvm.MethodName)) ∈ lw_all := lw_g (lw_at lw_m9 104 rfl) rfl
theorem q2164 : (Jvm.Cond.selects "AskedCourtModel" ({ cls := "AskedCourtModel", name := "inRoom", desc := "(II)I" } : Jvm.MethodName) ({ cls := "AskedCourtModel", name := "inRoom", desc := "(II)I" } : Jvm.MethodName)) ∈ lw_all := lw_g (lw_at lw_m9 105 rfl) rfl
theorem q2165 : (Jvm.Cond.code ({ cls := "AskedCourtModel", name := "inRoom", desc := "(II)I" } : Jvm.MethodName) prog_24_method_85_code (3 : Nat) (Option.some Jvm.ClassFile.FieldType.int)) ∈ lw_all := lw_g (lw_at lw_m9 106 rfl) rfl
theorem q2166 : (Jvm.Cond.methodLink "AskedCourtModel" (479 : Nat) ({ cls := "AskedCourtModel", name := "sumInRoom", desc := "(II)I" } : Jvm.MethodName)) ∈ lw_all := lw_g (lw_at lw_m9 107 rfl) rfl
theorem q2167 : (Jvm.Cond.privateMethod ({ cls := "AskedCourtModel", name := "sumInRoom", desc := "(II)I" } : Jvm.MethodName)) ∈ lw_tbl := lw_at lw_m9 108 rfl
theorem q2168 : (Jvm.Cond.instanceMethod ({ cls := "AskedCourtModel", name := "sumInRoom", desc := "(II)I" } : Jvm.MethodName)) ∈ lw_all := lw_g (lw_at lw_m9 109 rfl) rfl
theorem q2169 : (Jvm.Cond.code ({ cls := "AskedCourtModel", name := "sumInRoom", desc := "(II)I" } : Jvm.MethodName) prog_24_method_84_code (3 : Nat) (Option.some Jvm.ClassFile.FieldType.int)) ∈ lw_all := lw_g (lw_at lw_m9 110 rfl) rfl
theorem q2171 : (Jvm.Cond.instanceMethod ({ cls := "AskedCourtModel", name := "bestRoom", desc := "(I)I" } : Jvm.MethodName)) ∈ lw_all := lw_g (lw_at lw_m9 112 rfl) rfl
theorem q2172 : (Jvm.Cond.selects "AskedCourtModel" ({ cls := "AskedCourtModel", name := "bestRoom", desc := "(I)I" } : Jvm.MethodName) ({ cls := "AskedCourtModel", name := "bestRoom", desc := "(I)I" } : Jvm.MethodName)) ∈ lw_all := lw_g (lw_at lw_m9 113 rfl) rfl
theorem q2173 : (Jvm.Cond.code ({ cls := "AskedCourtModel", name := "bestRoom", desc := "(I)I" } : Jvm.MethodName) prog_24_method_86_code (4 : Nat) (Option.some Jvm.ClassFile.FieldType.int)) ∈ lw_all := lw_g (lw_at lw_m9 114 rfl) rfl
theorem q2175 : (Jvm.Cond.instanceMethod ({ cls := "AskedCourtModel", name := "way", desc := "(IIII)I" } : Jvm.MethodName)) ∈ lw_all := lw_g (lw_at lw_m9 116 rfl) rfl
theorem q2176 : (Jvm.Cond.selects "AskedCourtModel" ({ cls := "AskedCourtModel", name := "way", desc := "(IIII)I" } : Jvm.MethodName) ({ cls := "AskedCourtModel", name := "way", desc := "(IIII)I" } : Jvm.MethodName)) ∈ lw_all := lw_g (lw_at lw_m9 117 rfl) rfl
theorem q2177 : (Jvm.Cond.code ({ cls := "AskedCourtModel", name := "way", desc := "(IIII)I" } : Jvm.MethodName) prog_24_method_95_code (5 : Nat) (Option.some Jvm.ClassFile.FieldType.int)) ∈ lw_all := lw_g (lw_at lw_m9 118 rfl) rfl
theorem q2178 : (Jvm.Cond.methodLink "AskedCourtModel" (500 : Nat) ({ cls := "AskedCourtModel", name := "isAsked", desc := "(IIII)Z" } : Jvm.MethodName)) ∈ lw_all := lw_g (lw_at lw_m9 119 rfl) rfl
theorem q2179 : (Jvm.Cond.privateMethod ({ cls := "AskedCourtModel", name := "isAsked", desc := "(IIII)Z" } : Jvm.MethodName)) ∈ lw_tbl := lw_at lw_m9 120 rfl
theorem q2180 : (Jvm.Cond.instanceMethod ({ cls := "AskedCourtModel", name := "isAsked", desc := "(IIII)Z" } : Jvm.MethodName)) ∈ lw_all := lw_g (lw_at lw_m9 121 rfl) rfl
theorem q2181 : (Jvm.Cond.code ({ cls := "AskedCourtModel", name := "isAsked", desc := "(IIII)Z" } : Jvm.MethodName) prog_24_method_94_code (5 : Nat) (Option.some Jvm.ClassFile.FieldType.boolean)) ∈ lw_all := lw_g (lw_at lw_m9 122 rfl) rfl
theorem q2182 : (Jvm.Cond.methodLink "AskedCourtModel" (503 : Nat) ({ cls := "AskedCourtModel", name := "wayOf", desc := "(IIII)I" } : Jvm.MethodName)) ∈ lw_all := lw_g (lw_at lw_m9 123 rfl) rfl
theorem q2183 : (Jvm.Cond.privateMethod ({ cls := "AskedCourtModel", name := "wayOf", desc := "(IIII)I" } : Jvm.MethodName)) ∈ lw_tbl := lw_at lw_m9 124 rfl
theorem q2184 : (Jvm.Cond.instanceMethod ({ cls := "AskedCourtModel", name := "wayOf", desc := "(IIII)I" } : Jvm.MethodName)) ∈ lw_all := lw_g (lw_at lw_m9 125 rfl) rfl
theorem q2185 : (Jvm.Cond.code ({ cls := "AskedCourtModel", name := "wayOf", desc := "(IIII)I" } : Jvm.MethodName) prog_24_method_93_code (8 : Nat) (Option.some Jvm.ClassFile.FieldType.int)) ∈ lw_all := lw_g (lw_at lw_m9 126 rfl) rfl
theorem q2186 : (Jvm.Cond.methodLink "AskedCourtModel" (491 : Nat) ({ cls := "AskedCourtModel", name := "steps", desc := "()I" } : Jvm.MethodName)) ∈ lw_all := lw_g (lw_at lw_m9 127 rfl) rfl
theorem q2187 : (Jvm.Cond.privateMethod ({ cls := "AskedCourtModel", name := "steps", desc := "()I" } : Jvm.MethodName)) ∈ lw_tbl := lw_at lw_m9 128 rfl
theorem q2188 : (Jvm.Cond.instanceMethod ({ cls := "AskedCourtModel", name := "steps", desc := "()I" } : Jvm.MethodName)) ∈ lw_all := lw_g (lw_at lw_m9 129 rfl) rfl
theorem q2189 : (Jvm.Cond.code ({ cls := "AskedCourtModel", name := "steps", desc := "()I" } : Jvm.MethodName) prog_24_method_87_code (1 : Nat) (Option.some Jvm.ClassFile.FieldType.int)) ∈ lw_all := lw_g (lw_at lw_m9 130 rfl) rfl
theorem q2190 : (Jvm.Cond.methodLink "AskedCourtModel" (494 : Nat) ({ cls := "AskedCourtModel", name := "does", desc := "(I)Z" } : Jvm.MethodName)) ∈ lw_all := lw_g (lw_at lw_m9 131 rfl) rfl
theorem q2191 : (Jvm.Cond.privateMethod ({ cls := "AskedCourtModel", name := "does", desc := "(I)Z" } : Jvm.MethodName)) ∈ lw_tbl := lw_at lw_m9 132 rfl
theorem q2192 : (Jvm.Cond.instanceMethod ({ cls := "AskedCourtModel", name := "does", desc := "(I)Z" } : Jvm.MethodName)) ∈ lw_all := lw_g (lw_at lw_m9 133 rfl) rfl
theorem q2193 : (Jvm.Cond.code ({ cls := "AskedCourtModel", name := "does", desc := "(I)Z" } : Jvm.MethodName) prog_24_method_91_code (6 : Nat) (Option.some Jvm.ClassFile.FieldType.boolean)) ∈ lw_all := lw_g (lw_at lw_m9 134 rfl) rfl
theorem q2194 : (Jvm.Cond.methodLink "AskedCourtModel" (482 : Nat) ({ cls := "AskedCourtModel", name := "whoOf", desc := "(I)I" } : Jvm.MethodName)) ∈ lw_all := lw_g (lw_at lw_m9 135 rfl) rfl
theorem q2195 : (Jvm.Cond.privateMethod ({ cls := "AskedCourtModel", name := "whoOf", desc := "(I)I" } : Jvm.MethodName)) ∈ lw_tbl := lw_at lw_m9 136 rfl
theorem q2196 : (Jvm.Cond.instanceMethod ({ cls := "AskedCourtModel", name := "whoOf", desc := "(I)I" } : Jvm.MethodName)) ∈ lw_all := lw_g (lw_at lw_m9 137 rfl) rfl
theorem q2197 : (Jvm.Cond.code ({ cls := "AskedCourtModel", name := "whoOf", desc := "(I)I" } : Jvm.MethodName) prog_24_method_88_code (2 : Nat) (Option.some Jvm.ClassFile.FieldType.int)) ∈ lw_all := lw_g (lw_at lw_m9 138 rfl) rfl
theorem q2198 : (Jvm.Cond.methodLink "AskedCourtModel" (485 : Nat) ({ cls := "AskedCourtModel", name := "whomOf", desc := "(I)I" } : Jvm.MethodName)) ∈ lw_all := lw_g (lw_at lw_m9 139 rfl) rfl
theorem q2199 : (Jvm.Cond.privateMethod ({ cls := "AskedCourtModel", name := "whomOf", desc := "(I)I" } : Jvm.MethodName)) ∈ lw_tbl := lw_at lw_m9 140 rfl
theorem q2200 : (Jvm.Cond.instanceMethod ({ cls := "AskedCourtModel", name := "whomOf", desc := "(I)I" } : Jvm.MethodName)) ∈ lw_all := lw_g (lw_at lw_m9 141 rfl) rfl
theorem q2201 : (Jvm.Cond.code ({ cls := "AskedCourtModel", name := "whomOf", desc := "(I)I" } : Jvm.MethodName) prog_24_method_89_code (2 : Nat) (Option.some Jvm.ClassFile.FieldType.int)) ∈ lw_all := lw_g (lw_at lw_m9 142 rfl) rfl
theorem q2202 : (Jvm.Cond.methodLink "AskedCourtModel" (488 : Nat) ({ cls := "AskedCourtModel", name := "whatOf", desc := "(I)I" } : Jvm.MethodName)) ∈ lw_all := lw_g (lw_at lw_m9 143 rfl) rfl
theorem q2203 : (Jvm.Cond.privateMethod ({ cls := "AskedCourtModel", name := "whatOf", desc := "(I)I" } : Jvm.MethodName)) ∈ lw_tbl := lw_at lw_m9 144 rfl
theorem q2204 : (Jvm.Cond.instanceMethod ({ cls := "AskedCourtModel", name := "whatOf", desc := "(I)I" } : Jvm.MethodName)) ∈ lw_all := lw_g (lw_at lw_m9 145 rfl) rfl
theorem q2205 : (Jvm.Cond.code ({ cls := "AskedCourtModel", name := "whatOf", desc := "(I)I" } : Jvm.MethodName) prog_24_method_90_code (2 : Nat) (Option.some Jvm.ClassFile.FieldType.int)) ∈ lw_all := lw_g (lw_at lw_m9 146 rfl) rfl
theorem q2206 : (Jvm.Cond.methodLink "AskedCourtModel" (497 : Nat) ({ cls := "AskedCourtModel", name := "isWay", desc := "(III)Z" } : Jvm.MethodName)) ∈ lw_all := lw_g (lw_at lw_m9 147 rfl) rfl
theorem q2207 : (Jvm.Cond.privateMethod ({ cls := "AskedCourtModel", name := "isWay", desc := "(III)Z" } : Jvm.MethodName)) ∈ lw_tbl := lw_at lw_m9 148 rfl
theorem q2208 : (Jvm.Cond.instanceMethod ({ cls := "AskedCourtModel", name := "isWay", desc := "(III)Z" } : Jvm.MethodName)) ∈ lw_all := lw_g (lw_at lw_m9 149 rfl) rfl
theorem q2209 : (Jvm.Cond.code ({ cls := "AskedCourtModel", name := "isWay", desc := "(III)Z" } : Jvm.MethodName) prog_24_method_92_code (5 : Nat) (Option.some Jvm.ClassFile.FieldType.boolean)) ∈ lw_all := lw_g (lw_at lw_m9 150 rfl) rfl
theorem q2211 : (Jvm.Cond.instanceMethod ({ cls := "AskedCourtModel", name := "step", desc := "(IIIII)I" } : Jvm.MethodName)) ∈ lw_all := lw_g (lw_at lw_m9 152 rfl) rfl
theorem q2212 : (Jvm.Cond.selects "AskedCourtModel" ({ cls := "AskedCourtModel", name := "step", desc := "(IIIII)I" } : Jvm.MethodName) ({ cls := "AskedCourtModel", name := "step", desc := "(IIIII)I" } : Jvm.MethodName)) ∈ lw_all := lw_g (lw_at lw_m9 153 rfl) rfl
theorem q2213 : (Jvm.Cond.code ({ cls := "AskedCourtModel", name := "step", desc := "(IIIII)I" } : Jvm.MethodName) prog_24_method_96_code (7 : Nat) (Option.some Jvm.ClassFile.FieldType.int)) ∈ lw_all := lw_g (lw_at lw_m9 154 rfl) rfl
theorem q2215 : (Jvm.Cond.instanceMethod ({ cls := "AskedCourtModel", name := "care", desc := "(I)I" } : Jvm.MethodName)) ∈ lw_all := lw_g (lw_at lw_m9 156 rfl) rfl
theorem q2216 : (Jvm.Cond.selects "AskedCourtModel" ({ cls := "AskedCourtModel", name := "care", desc := "(I)I" } : Jvm.MethodName) ({ cls := "AskedCourtModel", name := "care", desc := "(I)I" } : Jvm.MethodName)) ∈ lw_all := lw_g (lw_at lw_m9 157 rfl) rfl
theorem q2217 : (Jvm.Cond.code ({ cls := "AskedCourtModel", name := "care", desc := "(I)I" } : Jvm.MethodName) prog_24_method_98_code (4 : Nat) (Option.some Jvm.ClassFile.FieldType.int)) ∈ lw_all := lw_g (lw_at lw_m9 158 rfl) rfl
theorem q2218 : (Jvm.Cond.methodLink "AskedCourtModel" (507 : Nat) ({ cls := "AskedCourtModel", name := "isCare", desc := "(II)Z" } : Jvm.MethodName)) ∈ lw_all := lw_g (lw_at lw_m9 159 rfl) rfl
theorem q2219 : (Jvm.Cond.privateMethod ({ cls := "AskedCourtModel", name := "isCare", desc := "(II)Z" } : Jvm.MethodName)) ∈ lw_tbl := lw_at lw_m9 160 rfl
theorem q2220 : (Jvm.Cond.instanceMethod ({ cls := "AskedCourtModel", name := "isCare", desc := "(II)Z" } : Jvm.MethodName)) ∈ lw_all := lw_g (lw_at lw_m9 161 rfl) rfl
theorem q2221 : (Jvm.Cond.code ({ cls := "AskedCourtModel", name := "isCare", desc := "(II)Z" } : Jvm.MethodName) prog_24_method_97_code (5 : Nat) (Option.some Jvm.ClassFile.FieldType.boolean)) ∈ lw_all := lw_g (lw_at lw_m9 162 rfl) rfl
theorem q2223 : (Jvm.Cond.instanceMethod ({ cls := "AskedCourtModel", name := "best", desc := "(III)I" } : Jvm.MethodName)) ∈ lw_all := lw_g (lw_at lw_m9 164 rfl) rfl
theorem q2224 : (Jvm.Cond.selects "AskedCourtModel" ({ cls := "AskedCourtModel", name := "best", desc := "(III)I" } : Jvm.MethodName) ({ cls := "AskedCourtModel", name := "best", desc := "(III)I" } : Jvm.MethodName)) ∈ lw_all := lw_g (lw_at lw_m9 165 rfl) rfl
theorem q2225 : (Jvm.Cond.code ({ cls := "AskedCourtModel", name := "best", desc := "(III)I" } : Jvm.MethodName) prog_24_method_99_code (10 : Nat) (Option.some Jvm.ClassFile.FieldType.int)) ∈ lw_all := lw_g (lw_at lw_m9 166 rfl) rfl
theorem q2227 : (Jvm.Cond.instanceMethod ({ cls := "AskedCourtModel", name := "rests", desc := "(II)I" } : Jvm.MethodName)) ∈ lw_all := lw_g (lw_at lw_m9 168 rfl) rfl
theorem q2228 : (Jvm.Cond.selects "AskedCourtModel" ({ cls := "AskedCourtModel", name := "rests", desc := "(II)I" } : Jvm.MethodName) ({ cls := "AskedCourtModel", name := "rests", desc := "(II)I" } : Jvm.MethodName)) ∈ lw_all := lw_g (lw_at lw_m9 169 rfl) rfl
theorem q2229 : (Jvm.Cond.code ({ cls := "AskedCourtModel", name := "rests", desc := "(II)I" } : Jvm.MethodName) prog_24_method_103_code (3 : Nat) (Option.some Jvm.ClassFile.FieldType.int)) ∈ lw_all := lw_g (lw_at lw_m9 170 rfl) rfl
theorem q2230 : (Jvm.Cond.methodLink "AskedCourtModel" (513 : Nat) ({ cls := "AskedCourtModel", name := "areTwo", desc := "(II)Z" } : Jvm.MethodName)) ∈ lw_all := lw_g (lw_at lw_m9 171 rfl) rfl
theorem q2231 : (Jvm.Cond.privateMethod ({ cls := "AskedCourtModel", name := "areTwo", desc := "(II)Z" } : Jvm.MethodName)) ∈ lw_tbl := lw_at lw_m9 172 rfl
theorem q2232 : (Jvm.Cond.instanceMethod ({ cls := "AskedCourtModel", name := "areTwo", desc := "(II)Z" } : Jvm.MethodName)) ∈ lw_all := lw_g (lw_at lw_m9 173 rfl) rfl
theorem q2233 : (Jvm.Cond.code ({ cls := "AskedCourtModel", name := "areTwo", desc := "(II)Z" } : Jvm.MethodName) prog_24_method_102_code (3 : Nat) (Option.some Jvm.ClassFile.FieldType.boolean)) ∈ lw_all := lw_g (lw_at lw_m9 174 rfl) rfl
theorem q2234 : (Jvm.Cond.methodLink "AskedCourtModel" (516 : Nat) ({ cls := "AskedCourtModel", name := "restAt", desc := "(III)I" } : Jvm.MethodName)) ∈ lw_all := lw_g (lw_at lw_m9 175 rfl) rfl
theorem q2235 : (Jvm.Cond.privateMethod ({ cls := "AskedCourtModel", name := "restAt", desc := "(III)I" } : Jvm.MethodName)) ∈ lw_tbl := lw_at lw_m9 176 rfl
theorem q2236 : (Jvm.Cond.instanceMethod ({ cls := "AskedCourtModel", name := "restAt", desc := "(III)I" } : Jvm.MethodName)) ∈ lw_all := lw_g (lw_at lw_m9 177 rfl) rfl
theorem q2237 : (Jvm.Cond.code ({ cls := "AskedCourtModel", name := "restAt", desc := "(III)I" } : Jvm.MethodName) prog_24_method_101_code (9 : Nat) (Option.some Jvm.ClassFile.FieldType.int)) ∈ lw_all := lw_g (lw_at lw_m9 178 rfl) rfl
theorem q2238 : (Jvm.Cond.methodLink "AskedCourtModel" (510 : Nat) ({ cls := "AskedCourtModel", name := "gainOf", desc := "(I)I" } : Jvm.MethodName)) ∈ lw_all := lw_g (lw_at lw_m9 179 rfl) rfl
theorem q2239 : (Jvm.Cond.privateMethod ({ cls := "AskedCourtModel", name := "gainOf", desc := "(I)I" } : Jvm.MethodName)) ∈ lw_tbl := lw_at lw_m9 180 rfl
theorem q2240 : (Jvm.Cond.instanceMethod ({ cls := "AskedCourtModel", name := "gainOf", desc := "(I)I" } : Jvm.MethodName)) ∈ lw_all := lw_g (lw_at lw_m9 181 rfl) rfl
theorem q2241 : (Jvm.Cond.code ({ cls := "AskedCourtModel", name := "gainOf", desc := "(I)I" } : Jvm.MethodName) prog_24_method_100_code (2 : Nat) (Option.some Jvm.ClassFile.FieldType.int)) ∈ lw_all := lw_g (lw_at lw_m9 182 rfl) rfl
theorem q2243 : (Jvm.Cond.instanceMethod ({ cls := "AskedCourtModel", name := "rest", desc := "(III)I" } : Jvm.MethodName)) ∈ lw_all := lw_g (lw_at lw_m9 184 rfl) rfl
theorem q2244 : (Jvm.Cond.selects "AskedCourtModel" ({ cls := "AskedCourtModel", name := "rest", desc := "(III)I" } : Jvm.MethodName) ({ cls := "AskedCourtModel", name := "rest", desc := "(III)I" } : Jvm.MethodName)) ∈ lw_all := lw_g (lw_at lw_m9 185 rfl) rfl
theorem q2245 : (Jvm.Cond.code ({ cls := "AskedCourtModel", name := "rest", desc := "(III)I" } : Jvm.MethodName) prog_24_method_104_code (4 : Nat) (Option.some Jvm.ClassFile.FieldType.int)) ∈ lw_all := lw_g (lw_at lw_m9 186 rfl) rfl
theorem q2247 : (Jvm.Cond.instanceMethod ({ cls := "AskedCourtModel", name := "slipped", desc := "(I)I" } : Jvm.MethodName)) ∈ lw_all := lw_g (lw_at lw_m9 188 rfl) rfl
theorem q2248 : (Jvm.Cond.selects "AskedCourtModel" ({ cls := "AskedCourtModel", name := "slipped", desc := "(I)I" } : Jvm.MethodName) ({ cls := "AskedCourtModel", name := "slipped", desc := "(I)I" } : Jvm.MethodName)) ∈ lw_all := lw_g (lw_at lw_m9 189 rfl) rfl
theorem q2249 : (Jvm.Cond.code ({ cls := "AskedCourtModel", name := "slipped", desc := "(I)I" } : Jvm.MethodName) prog_24_method_107_code (3 : Nat) (Option.some Jvm.ClassFile.FieldType.int)) ∈ lw_all := lw_g (lw_at lw_m9 190 rfl) rfl
theorem q2250 : (Jvm.Cond.methodLink "AskedCourtModel" (519 : Nat) ({ cls := "AskedCourtModel", name := "layTextTried", desc := "()V" } : Jvm.MethodName)) ∈ lw_all := lw_g (lw_at lw_m9 191 rfl) rfl
theorem q2251 : (Jvm.Cond.privateMethod ({ cls := "AskedCourtModel", name := "layTextTried", desc := "()V" } : Jvm.MethodName)) ∈ lw_tbl := lw_at lw_m9 192 rfl
theorem q2252 : (Jvm.Cond.instanceMethod ({ cls := "AskedCourtModel", name := "layTextTried", desc := "()V" } : Jvm.MethodName)) ∈ lw_all := lw_g (lw_at lw_m9 193 rfl) rfl
theorem q2253 : (Jvm.Cond.code ({ cls := "AskedCourtModel", name := "layTextTried", desc := "()V" } : Jvm.MethodName) prog_24_method_105_code (1 : Nat) (Option.none : Option Jvm.ClassFile.FieldType)) ∈ lw_all := lw_g (lw_at lw_m9 194 rfl) rfl
theorem q2254 : (Jvm.Cond.methodLink "AskedCourtModel" (522 : Nat) ({ cls := "AskedCourtModel", name := "talkOf", desc := "(I)V" } : Jvm.MethodName)) ∈ lw_all := lw_g (lw_at lw_m9 195 rfl) rfl
theorem q2255 : (Jvm.Cond.privateMethod ({ cls := "AskedCourtModel", name := "talkOf", desc := "(I)V" } : Jvm.MethodName)) ∈ lw_tbl := lw_at lw_m9 196 rfl
theorem q2256 : (Jvm.Cond.instanceMethod ({ cls := "AskedCourtModel", name := "talkOf", desc := "(I)V" } : Jvm.MethodName)) ∈ lw_all := lw_g (lw_at lw_m9 197 rfl) rfl
theorem q2257 : (Jvm.Cond.code ({ cls := "AskedCourtModel", name := "talkOf", desc := "(I)V" } : Jvm.MethodName) prog_24_method_106_code (3 : Nat) (Option.none : Option Jvm.ClassFile.FieldType)) ∈ lw_all := lw_g (lw_at lw_m9 198 rfl) rfl
theorem q2259 : (Jvm.Cond.instanceMethod ({ cls := "AskedCourtModel", name := "behind", desc := "(II)I" } : Jvm.MethodName)) ∈ lw_all := lw_g (lw_at lw_m9 200 rfl) rfl
theorem q2260 : (Jvm.Cond.selects "AskedCourtModel" ({ cls := "AskedCourtModel", name := "behind", desc := "(II)I" } : Jvm.MethodName) ({ cls := "AskedCourtModel", name := "behind", desc := "(II)I" } : Jvm.MethodName)) ∈ lw_all := lw_g (lw_at lw_m9 201 rfl) rfl
theorem q2261 : (Jvm.Cond.code ({ cls := "AskedCourtModel", name := "behind", desc := "(II)I" } : Jvm.MethodName) prog_24_method_108_code (4 : Nat) (Option.some Jvm.ClassFile.FieldType.int)) ∈ lw_all := lw_g (lw_at lw_m9 202 rfl) rfl
theorem q2263 : (Jvm.Cond.instanceMethod ({ cls := "AskedCourtModel", name := "note", desc := "(IIIZ)I" } : Jvm.MethodName)) ∈ lw_all := lw_g (lw_at lw_m9 204 rfl) rfl
theorem q2264 : (Jvm.Cond.selects "AskedCourtModel" ({ cls := "AskedCourtModel", name := "note", desc := "(IIIZ)I" } : Jvm.MethodName) ({ cls := "AskedCourtModel", name := "note", desc := "(IIIZ)I" } : Jvm.MethodName)) ∈ lw_all := lw_g (lw_at lw_m9 205 rfl) rfl
theorem q2265 : (Jvm.Cond.code ({ cls := "AskedCourtModel", name := "note", desc := "(IIIZ)I" } : Jvm.MethodName) prog_24_method_110_code (5 : Nat) (Option.some Jvm.ClassFile.FieldType.int)) ∈ lw_all := lw_g (lw_at lw_m9 206 rfl) rfl
theorem q2266 : (Jvm.Cond.methodLink "AskedCourtModel" (525 : Nat) ({ cls := "AskedCourtModel", name := "noted", desc := "(IIII)I" } : Jvm.MethodName)) ∈ lw_all := lw_g (lw_at lw_m9 207 rfl) rfl
theorem q2267 : (Jvm.Cond.privateMethod ({ cls := "AskedCourtModel", name := "noted", desc := "(IIII)I" } : Jvm.MethodName)) ∈ lw_tbl := lw_at lw_m9 208 rfl
theorem q2268 : (Jvm.Cond.instanceMethod ({ cls := "AskedCourtModel", name := "noted", desc := "(IIII)I" } : Jvm.MethodName)) ∈ lw_all := lw_g (lw_at lw_m9 209 rfl) rfl
theorem q2269 : (Jvm.Cond.code ({ cls := "AskedCourtModel", name := "noted", desc := "(IIII)I" } : Jvm.MethodName) prog_24_method_109_code (5 : Nat) (Option.some Jvm.ClassFile.FieldType.int)) ∈ lw_all := lw_g (lw_at lw_m9 210 rfl) rfl
theorem q2271 : (Jvm.Cond.instanceMethod ({ cls := "AskedCourtModel", name := "strike", desc := "(I)I" } : Jvm.MethodName)) ∈ lw_all := lw_g (lw_at lw_m9 212 rfl) rfl
theorem q2272 : (Jvm.Cond.selects "AskedCourtModel" ({ cls := "AskedCourtModel", name := "strike", desc := "(I)I" } : Jvm.MethodName) ({ cls := "AskedCourtModel", name := "strike", desc := "(I)I" } : Jvm.MethodName)) ∈ lw_all := lw_g (lw_at lw_m9 213 rfl) rfl
theorem q2273 : (Jvm.Cond.code ({ cls := "AskedCourtModel", name := "strike", desc := "(I)I" } : Jvm.MethodName) prog_24_method_111_code (2 : Nat) (Option.some Jvm.ClassFile.FieldType.int)) ∈ lw_all := lw_g (lw_at lw_m9 214 rfl) rfl
theorem q2275 : (Jvm.Cond.instanceMethod ({ cls := "AskedCourtModel", name := "known", desc := "(I)Z" } : Jvm.MethodName)) ∈ lw_all := lw_g (lw_at lw_m9 216 rfl) rfl
theorem q2276 : (Jvm.Cond.selects "AskedCourtModel" ({ cls := "AskedCourtModel", name := "known", desc := "(I)Z" } : Jvm.MethodName) ({ cls := "AskedCourtModel", name := "known", desc := "(I)Z" } : Jvm.MethodName)) ∈ lw_all := lw_g (lw_at lw_m9 217 rfl) rfl
theorem q2277 : (Jvm.Cond.code ({ cls := "AskedCourtModel", name := "known", desc := "(I)Z" } : Jvm.MethodName) prog_24_method_112_code (2 : Nat) (Option.some Jvm.ClassFile.FieldType.boolean)) ∈ lw_all := lw_g (lw_at lw_m9 218 rfl) rfl
theorem q2279 : (Jvm.Cond.instanceMethod ({ cls := "AskedCourtModel", name := "knew", desc := "(I)I" } : Jvm.MethodName)) ∈ lw_all := lw_g (lw_at lw_m9 220 rfl) rfl
theorem q2280 : (Jvm.Cond.selects "AskedCourtModel" ({ cls := "AskedCourtModel", name := "knew", desc := "(I)I" } : Jvm.MethodName) ({ cls := "AskedCourtModel", name := "knew", desc := "(I)I" } : Jvm.MethodName)) ∈ lw_all := lw_g (lw_at lw_m9 221 rfl) rfl
theorem q2281 : (Jvm.Cond.code ({ cls := "AskedCourtModel", name := "knew", desc := "(I)I" } : Jvm.MethodName) prog_24_method_116_code (4 : Nat) (Option.some Jvm.ClassFile.FieldType.int)) ∈ lw_all := lw_g (lw_at lw_m9 222 rfl) rfl
theorem q2282 : (Jvm.Cond.methodLink "AskedCourtModel" (528 : Nat) ({ cls := "AskedCourtModel", name := "knownBy", desc := "()I" } : Jvm.MethodName)) ∈ lw_all := lw_g (lw_at lw_m9 223 rfl) rfl
theorem q2283 : (Jvm.Cond.privateMethod ({ cls := "AskedCourtModel", name := "knownBy", desc := "()I" } : Jvm.MethodName)) ∈ lw_tbl := lw_at lw_m9 224 rfl
theorem q2284 : (Jvm.Cond.instanceMethod ({ cls := "AskedCourtModel", name := "knownBy", desc := "()I" } : Jvm.MethodName)) ∈ lw_all := lw_g (lw_at lw_m9 225 rfl) rfl
theorem q2285 : (Jvm.Cond.code ({ cls := "AskedCourtModel", name := "knownBy", desc := "()I" } : Jvm.MethodName) prog_24_method_113_code (1 : Nat) (Option.some Jvm.ClassFile.FieldType.int)) ∈ lw_all := lw_g (lw_at lw_m9 226 rfl) rfl
theorem q2286 : (Jvm.Cond.methodLink "AskedCourtModel" (534 : Nat) ({ cls := "AskedCourtModel", name := "fits", desc := "(II)Z" } : Jvm.MethodName)) ∈ lw_all := lw_g (lw_at lw_m9 227 rfl) rfl
theorem q2287 : (Jvm.Cond.privateMethod ({ cls := "AskedCourtModel", name := "fits", desc := "(II)Z" } : Jvm.MethodName)) ∈ lw_tbl := lw_at lw_m9 228 rfl
theorem q2288 : (Jvm.Cond.instanceMethod ({ cls := "AskedCourtModel", name := "fits", desc := "(II)Z" } : Jvm.MethodName)) ∈ lw_all := lw_g (lw_at lw_m9 229 rfl) rfl
theorem q2289 : (Jvm.Cond.code ({ cls := "AskedCourtModel", name := "fits", desc := "(II)Z" } : Jvm.MethodName) prog_24_method_115_code (5 : Nat) (Option.some Jvm.ClassFile.FieldType.boolean)) ∈ lw_all := lw_g (lw_at lw_m9 230 rfl) rfl
theorem q2290 : (Jvm.Cond.methodLink "AskedCourtModel" (531 : Nat) ({ cls := "AskedCourtModel", name := "isSo", desc := "(I)Z" } : Jvm.MethodName)) ∈ lw_all := lw_g (lw_at lw_m9 231 rfl) rfl
theorem q2291 : (Jvm.Cond.privateMethod ({ cls := "AskedCourtModel", name := "isSo", desc := "(I)Z" } : Jvm.MethodName)) ∈ lw_tbl := lw_at lw_m9 232 rfl
theorem q2292 : (Jvm.Cond.instanceMethod ({ cls := "AskedCourtModel", name := "isSo", desc := "(I)Z" } : Jvm.MethodName)) ∈ lw_all := lw_g (lw_at lw_m9 233 rfl) rfl
theorem q2293 : (Jvm.Cond.code ({ cls := "AskedCourtModel", name := "isSo", desc := "(I)Z" } : Jvm.MethodName) prog_24_method_114_code (3 : Nat) (Option.some Jvm.ClassFile.FieldType.boolean)) ∈ lw_all := lw_g (lw_at lw_m9 234 rfl) rfl
theorem q2295 : (Jvm.Cond.instanceMethod ({ cls := "AskedCourtModel", name := "chance", desc := "(III)I" } : Jvm.MethodName)) ∈ lw_all := lw_g (lw_at lw_m9 236 rfl) rfl
theorem q2296 : (Jvm.Cond.selects "AskedCourtModel" ({ cls := "AskedCourtModel", name := "chance", desc := "(III)I" } : Jvm.MethodName) ({ cls := "AskedCourtModel", name := "chance", desc := "(III)I" } : Jvm.MethodName)) ∈ lw_all := lw_g (lw_at lw_m9 237 rfl) rfl
theorem q2297 : (Jvm.Cond.code ({ cls := "AskedCourtModel", name := "chance", desc := "(III)I" } : Jvm.MethodName) prog_24_method_117_code (9 : Nat) (Option.some Jvm.ClassFile.FieldType.int)) ∈ lw_all := lw_g (lw_at lw_m9 238 rfl) rfl
theorem q2299 : (Jvm.Cond.instanceMethod ({ cls := "AskedCourtModel", name := "tried", desc := "(II)I" } : Jvm.MethodName)) ∈ lw_all := lw_g (lw_at lw_m10 0 rfl) rfl
theorem q2300 : (Jvm.Cond.selects "AskedCourtModel" ({ cls := "AskedCourtModel", name := "tried", desc := "(II)I" } : Jvm.MethodName) ({ cls := "AskedCourtModel", name := "tried", desc := "(II)I" } : Jvm.MethodName)) ∈ lw_all := lw_g (lw_at lw_m10 1 rfl) rfl
theorem q2301 : (Jvm.Cond.code ({ cls := "AskedCourtModel", name := "tried", desc := "(II)I" } : Jvm.MethodName) prog_24_method_118_code (4 : Nat) (Option.some Jvm.ClassFile.FieldType.int)) ∈ lw_all := lw_g (lw_at lw_m10 2 rfl) rfl
theorem q2303 : (Jvm.Cond.instanceMethod ({ cls := "AskedCourtModel", name := "undo", desc := "()I" } : Jvm.MethodName)) ∈ lw_all := lw_g (lw_at lw_m10 4 rfl) rfl
theorem q2304 : (Jvm.Cond.selects "AskedCourtModel" ({ cls := "AskedCourtModel", name := "undo", desc := "()I" } : Jvm.MethodName) ({ cls := "AskedCourtModel", name := "undo", desc := "()I" } : Jvm.MethodName)) ∈ lw_all := lw_g (lw_at lw_m10 5 rfl) rfl
theorem q2305 : (Jvm.Cond.code ({ cls := "AskedCourtModel", name := "undo", desc := "()I" } : Jvm.MethodName) prog_24_method_122_code (1 : Nat) (Option.some Jvm.ClassFile.FieldType.int)) ∈ lw_all := lw_g (lw_at lw_m10 6 rfl) rfl
theorem q2306 : (Jvm.Cond.methodLink "AskedCourtModel" (540 : Nat) ({ cls := "AskedCourtModel", name := "take", desc := "([II)V" } : Jvm.MethodName)) ∈ lw_all := lw_g (lw_at lw_m10 7 rfl) rfl
theorem q2307 : (Jvm.Cond.privateMethod ({ cls := "AskedCourtModel", name := "take", desc := "([II)V" } : Jvm.MethodName)) ∈ lw_tbl := lw_at lw_m10 8 rfl
theorem q2308 : (Jvm.Cond.instanceMethod ({ cls := "AskedCourtModel", name := "take", desc := "([II)V" } : Jvm.MethodName)) ∈ lw_all := lw_g (lw_at lw_m10 9 rfl) rfl
theorem q2309 : (Jvm.Cond.code ({ cls := "AskedCourtModel", name := "take", desc := "([II)V" } : Jvm.MethodName) prog_24_method_120_code (4 : Nat) (Option.none : Option Jvm.ClassFile.FieldType)) ∈ lw_all := lw_g (lw_at lw_m10 10 rfl) rfl
theorem q2311 : (Jvm.Cond.instanceMethod ({ cls := "AskedCourtModel", name := "keep", desc := "()I" } : Jvm.MethodName)) ∈ lw_all := lw_g (lw_at lw_m10 12 rfl) rfl
theorem q2312 : (Jvm.Cond.selects "AskedCourtModel" ({ cls := "AskedCourtModel", name := "keep", desc := "()I" } : Jvm.MethodName) ({ cls := "AskedCourtModel", name := "keep", desc := "()I" } : Jvm.MethodName)) ∈ lw_all := lw_g (lw_at lw_m10 13 rfl) rfl
theorem q2313 : (Jvm.Cond.code ({ cls := "AskedCourtModel", name := "keep", desc := "()I" } : Jvm.MethodName) prog_24_method_123_code (1 : Nat) (Option.some Jvm.ClassFile.FieldType.int)) ∈ lw_all := lw_g (lw_at lw_m10 14 rfl) rfl
theorem q2315 : (Jvm.Cond.instanceMethod ({ cls := "AskedCourtModel", name := "back", desc := "()I" } : Jvm.MethodName)) ∈ lw_all := lw_g (lw_at lw_m10 16 rfl) rfl
theorem q2316 : (Jvm.Cond.selects "AskedCourtModel" ({ cls := "AskedCourtModel", name := "back", desc := "()I" } : Jvm.MethodName) ({ cls := "AskedCourtModel", name := "back", desc := "()I" } : Jvm.MethodName)) ∈ lw_all := lw_g (lw_at lw_m10 17 rfl) rfl
theorem q2317 : (Jvm.Cond.code ({ cls := "AskedCourtModel", name := "back", desc := "()I" } : Jvm.MethodName) prog_24_method_124_code (1 : Nat) (Option.some Jvm.ClassFile.FieldType.int)) ∈ lw_all := lw_g (lw_at lw_m10 18 rfl) rfl
theorem q2319 : (Jvm.Cond.instanceMethod ({ cls := "AskedCourtModel", name := "count", desc := "(I)I" } : Jvm.MethodName)) ∈ lw_all := lw_g (lw_at lw_m10 20 rfl) rfl
theorem q2320 : (Jvm.Cond.selects "AskedCourtModel" ({ cls := "AskedCourtModel", name := "count", desc := "(I)I" } : Jvm.MethodName) ({ cls := "AskedCourtModel", name := "count", desc := "(I)I" } : Jvm.MethodName)) ∈ lw_all := lw_g (lw_at lw_m10 21 rfl) rfl
theorem q2321 : (Jvm.Cond.code ({ cls := "AskedCourtModel", name := "count", desc := "(I)I" } : Jvm.MethodName) prog_24_method_125_code (4 : Nat) (Option.some Jvm.ClassFile.FieldType.int)) ∈ lw_all := lw_g (lw_at lw_m10 22 rfl) rfl
theorem q2343 : (Jvm.Cond.castable "AskedCourtModel" "java/lang/Object") ∈ lw_tbl := lw_at lw_m10 44 rfl
theorem in_X10 : ∀ w ∈ wsX100, w ∈ lw_all := lw_in wsX100 [1688, 1690, 1692, 1694, 1696, 1698, 1700, 1702, 1704, 1706, 1708, 1710, 1712, 1714, 1716, 1718, 1720, 1722, 1724, 1726, 1728, 1730, 1732, 1734, 1736, 1738, 1740, 1742, 1744, 1746, 1748, 1750, 1752, 1754, 1756, 1758, 1760, 1762, 1764, 1766, 1768, 1770, 1772, 1774, 1776, 1778, 1780, 1782, 1784, 1786, 1788, 1790, 1792, 1794, 1796, 1798, 1800, 1802, 1804, 1806, 1808, 1810, 1812, 1814, 1816, 1818, 1820, 1822, 1824, 1826, 1828, 1830, 1832, 1834, 1836, 1838, 1840, 1842, 1844, 1846, 1848] (by decide +kernel) (by decide +kernel)

/-! AskedCourt$Fault -/
set_option maxRecDepth 100000
def RX11 : String := "AskedCourt$Fault"
def TX11 : u_T := fun k => match k with
  | 0 => ("java/lang/Throwable", "cause", "Ljava/lang/Throwable;", false)
  | 1 => ("java/lang/Throwable", "stackTrace", "[Ljava/lang/StackTraceElement;", false)
  | 2 => ("java/lang/Throwable", "suppressedExceptions", "Ljava/util/List;", false)
  | 3 => ("java/lang/Throwable", "detailMessage", "Ljava/lang/String;", false)
  | 4 => ("java/lang/Throwable", "backtrace", "Ljava/lang/Object;", false)
  | 5 => ("java/lang/Throwable", "depth", "I", false)
  | 6 => ("AskedCourt$Fault", "kind", "I", true)
  | _ => ("AskedCourt$Fault", "place", "I", true)
def tyX11 : Nat → FieldType := fun k => match k with
  | 0 => .object "java/lang/Throwable"
  | 1 => .array (.object "java/lang/StackTraceElement")
  | 2 => .object "java/util/List"
  | 3 => .object "java/lang/String"
  | 4 => .object "java/lang/Object"
  | 5 => .int
  | 6 => .int
  | _ => .int
abbrev wsX110 : List Cond := u_ws RX11 TX11 8
theorem nmX11 : ∀ a, a < 8 → ∀ b, b < 8 → a ≠ b → (TX11 a).2.1 ≠ (TX11 b).2.1 := by decide +kernel
theorem tyX11_ok : ∀ k, k < 8 → parseFieldDescriptor (TX11 k).2.2.1 = some (tyX11 k) := by decide +kernel
abbrev cX11_init : ByteArray := prog_4_method_1_code
def yX11_init : MethodName := ⟨RX11, "<init>", "(II)V"⟩
theorem q162 : (Jvm.Cond.initialized "AskedCourt$Fault") ∈ lw_all := lw_g (lw_at lw_m1 23 rfl) rfl
theorem q683 : (Jvm.Cond.instantiable "AskedCourt$Fault" (8 : Nat)) ∈ lw_all := lw_g (lw_at lw_m3 64 rfl) rfl
theorem q684 : (Jvm.Cond.castable "AskedCourt$Fault" "AskedCourt$Fault") ∈ lw_tbl := lw_at lw_m3 65 rfl
theorem q689 : (Jvm.Cond.selects "AskedCourt$Fault" ({ cls := "java/lang/Throwable", name := "fillInStackTrace", desc := "(I)Ljava/lang/Throwable;" } : Jvm.MethodName) ({ cls := "java/lang/Throwable", name := "fillInStackTrace", desc := "(I)Ljava/lang/Throwable;" } : Jvm.MethodName)) ∈ lw_all := lw_g (lw_at lw_m3 70 rfl) rfl
theorem q690 : (Jvm.Cond.selects "AskedCourt$Fault" ({ cls := "java/lang/Throwable", name := "fillInStackTrace", desc := "()Ljava/lang/Throwable;" } : Jvm.MethodName) ({ cls := "java/lang/Throwable", name := "fillInStackTrace", desc := "()Ljava/lang/Throwable;" } : Jvm.MethodName)) ∈ lw_all := lw_g (lw_at lw_m3 71 rfl) rfl
theorem q691 : (Jvm.Cond.lays "AskedCourt$Fault" "java/lang/Throwable" "cause" "Ljava/lang/Throwable;") ∈ lw_all := lw_g (lw_at lw_m3 72 rfl) rfl
theorem q693 : (Jvm.Cond.lays "AskedCourt$Fault" "java/lang/Throwable" "stackTrace" "[Ljava/lang/StackTraceElement;") ∈ lw_all := lw_g (lw_at lw_m3 74 rfl) rfl
theorem q695 : (Jvm.Cond.lays "AskedCourt$Fault" "java/lang/Throwable" "suppressedExceptions" "Ljava/util/List;") ∈ lw_all := lw_g (lw_at lw_m3 76 rfl) rfl
theorem q697 : (Jvm.Cond.lays "AskedCourt$Fault" "java/lang/Throwable" "detailMessage" "Ljava/lang/String;") ∈ lw_all := lw_g (lw_at lw_m3 78 rfl) rfl
theorem q699 : (Jvm.Cond.lays "AskedCourt$Fault" "java/lang/Throwable" "backtrace" "Ljava/lang/Object;") ∈ lw_all := lw_g (lw_at lw_m3 80 rfl) rfl
theorem q724 : (Jvm.Cond.instanceMethod ({ cls := "AskedCourt$Fault", name := "<init>", desc := "(II)V" } : Jvm.MethodName)) ∈ lw_all := lw_g (lw_at lw_m3 105 rfl) rfl
theorem q725 : (Jvm.Cond.code ({ cls := "AskedCourt$Fault", name := "<init>", desc := "(II)V" } : Jvm.MethodName) prog_4_method_1_code (3 : Nat) (Option.none : Option Jvm.ClassFile.FieldType)) ∈ lw_all := lw_g (lw_at lw_m3 106 rfl) rfl
theorem q726 : (Jvm.Cond.methodLink "AskedCourt$Fault" (1 : Nat) ({ cls := "java/lang/Exception", name := "<init>", desc := "(Ljava/lang/String;Ljava/lang/Throwable;ZZ)V" } : Jvm.MethodName)) ∈ lw_all := lw_g (lw_at lw_m3 107 rfl) rfl
theorem q732 : (Jvm.Cond.fieldLink "AskedCourt$Fault" (7 : Nat) "AskedCourt$Fault" "kind" "I") ∈ lw_all := lw_g (lw_at lw_m3 113 rfl) rfl
theorem q734 : (Jvm.Cond.fieldLink "AskedCourt$Fault" (13 : Nat) "AskedCourt$Fault" "place" "I") ∈ lw_all := lw_g (lw_at lw_m3 115 rfl) rfl
theorem q741 : (Jvm.Cond.laysFinal "AskedCourt$Fault" "AskedCourt$Fault" "kind" "I") ∈ lw_all := lw_g (lw_at lw_m3 122 rfl) rfl
theorem q742 : (Jvm.Cond.soleField "AskedCourt$Fault" "kind") ∈ lw_all := lw_g (lw_at lw_m3 123 rfl) rfl
theorem q743 : (Jvm.Cond.laysFinal "AskedCourt$Fault" "AskedCourt$Fault" "place" "I") ∈ lw_all := lw_g (lw_at lw_m3 124 rfl) rfl
theorem q744 : (Jvm.Cond.soleField "AskedCourt$Fault" "place") ∈ lw_all := lw_g (lw_at lw_m3 125 rfl) rfl
theorem q749 : (Jvm.Cond.lays "AskedCourt$Fault" "java/lang/Throwable" "depth" "I") ∈ lw_all := lw_g (lw_at lw_m3 130 rfl) rfl
theorem q752 : (Jvm.Cond.superclass "AskedCourt$Fault" "java/lang/Exception") ∈ lw_all := lw_g (lw_at lw_m3 133 rfl) rfl
theorem q813 : (Jvm.Cond.selects "AskedCourt$Fault" ({ cls := "java/lang/Object", name := "getClass", desc := "()Ljava/lang/Class;" } : Jvm.MethodName) ({ cls := "java/lang/Object", name := "getClass", desc := "()Ljava/lang/Class;" } : Jvm.MethodName)) ∈ lw_all := lw_g (lw_at lw_m3 194 rfl) rfl
theorem q2344 : (Jvm.Cond.castable "AskedCourt$Fault" "java/lang/Object") ∈ lw_tbl := lw_at lw_m10 45 rfl
theorem in_X11 : ∀ w ∈ wsX110, w ∈ lw_all := lw_in wsX110 [691, 693, 695, 697, 699, 749, 741, 743] (by decide +kernel) (by decide +kernel)

/-! AskedCourt$Named -/
set_option maxRecDepth 100000
def RX12 : String := "AskedCourt$Named"
def TX12 : u_T := fun k => match k with
  | _ => ("AskedCourt$Named", "name", "I", true)
def tyX12 : Nat → FieldType := fun k => match k with
  | _ => .int
abbrev wsX120 : List Cond := u_ws RX12 TX12 1
theorem nmX12 : ∀ a, a < 1 → ∀ b, b < 1 → a ≠ b → (TX12 a).2.1 ≠ (TX12 b).2.1 := by decide +kernel
theorem tyX12_ok : ∀ k, k < 1 → parseFieldDescriptor (TX12 k).2.2.1 = some (tyX12 k) := by decide +kernel
abbrev cX12_find : ByteArray := prog_9_method_2_code
def yX12_find : MethodName := ⟨RX12, "find", "(Ljava/util/ArrayList;I)I"⟩
abbrev cX12_init : ByteArray := prog_9_method_1_code
def yX12_init : MethodName := ⟨RX12, "<init>", "(I)V"⟩
theorem q163 : (Jvm.Cond.initialized "AskedCourt$Named") ∈ lw_all := lw_g (lw_at lw_m1 24 rfl) rfl
theorem q759 : (Jvm.Cond.instantiable "AskedCourt$Named" (1 : Nat)) ∈ lw_all := lw_g (lw_at lw_m3 140 rfl) rfl
theorem q765 : (Jvm.Cond.static ({ cls := "AskedCourt$Named", name := "find", desc := "(Ljava/util/ArrayList;I)I" } : Jvm.MethodName)) ∈ lw_all := lw_g (lw_at lw_m3 146 rfl) rfl
theorem q766 : (Jvm.Cond.code ({ cls := "AskedCourt$Named", name := "find", desc := "(Ljava/util/ArrayList;I)I" } : Jvm.MethodName) prog_9_method_2_code (3 : Nat) (Option.some Jvm.ClassFile.FieldType.int)) ∈ lw_all := lw_g (lw_at lw_m3 147 rfl) rfl
theorem q767 : (Jvm.Cond.methodLink "AskedCourt$Named" (15 : Nat) ({ cls := "java/util/ArrayList", name := "size", desc := "()I" } : Jvm.MethodName)) ∈ lw_all := lw_g (lw_at lw_m3 148 rfl) rfl
theorem q768 : (Jvm.Cond.methodLink "AskedCourt$Named" (21 : Nat) ({ cls := "java/util/ArrayList", name := "get", desc := "(I)Ljava/lang/Object;" } : Jvm.MethodName)) ∈ lw_all := lw_g (lw_at lw_m3 149 rfl) rfl
theorem q769 : (Jvm.Cond.classLink "AskedCourt$Named" (10 : Nat) "AskedCourt$Named") ∈ lw_all := lw_g (lw_at lw_m3 150 rfl) rfl
theorem q771 : (Jvm.Cond.instanceMethod ({ cls := "AskedCourt$Named", name := "<init>", desc := "(I)V" } : Jvm.MethodName)) ∈ lw_all := lw_g (lw_at lw_m3 152 rfl) rfl
theorem q772 : (Jvm.Cond.code ({ cls := "AskedCourt$Named", name := "<init>", desc := "(I)V" } : Jvm.MethodName) prog_9_method_1_code (2 : Nat) (Option.none : Option Jvm.ClassFile.FieldType)) ∈ lw_all := lw_g (lw_at lw_m3 153 rfl) rfl
theorem q773 : (Jvm.Cond.methodLink "AskedCourt$Named" (3 : Nat) ({ cls := "java/lang/Object", name := "<init>", desc := "()V" } : Jvm.MethodName)) ∈ lw_all := lw_g (lw_at lw_m3 154 rfl) rfl
theorem q774 : (Jvm.Cond.fieldLink "AskedCourt$Named" (9 : Nat) "AskedCourt$Named" "name" "I") ∈ lw_all := lw_g (lw_at lw_m3 155 rfl) rfl
theorem q775 : (Jvm.Cond.laysFinal "AskedCourt$Named" "AskedCourt$Named" "name" "I") ∈ lw_all := lw_g (lw_at lw_m3 156 rfl) rfl
theorem q776 : (Jvm.Cond.soleField "AskedCourt$Named" "name") ∈ lw_all := lw_g (lw_at lw_m3 157 rfl) rfl
theorem q777 : (Jvm.Cond.superclass "AskedCourt$Named" "java/lang/Object") ∈ lw_all := lw_g (lw_at lw_m3 158 rfl) rfl
theorem q816 : (Jvm.Cond.selects "AskedCourt$Named" ({ cls := "java/lang/Object", name := "getClass", desc := "()Ljava/lang/Class;" } : Jvm.MethodName) ({ cls := "java/lang/Object", name := "getClass", desc := "()Ljava/lang/Class;" } : Jvm.MethodName)) ∈ lw_all := lw_g (lw_at lw_m3 197 rfl) rfl
theorem q2345 : (Jvm.Cond.castable "AskedCourt$Named" "java/lang/Object") ∈ lw_tbl := lw_at lw_m10 46 rfl
theorem in_X12 : ∀ w ∈ wsX120, w ∈ lw_all := lw_in wsX120 [775] (by decide +kernel) (by decide +kernel)

/-! AskedCourt$Person -/
set_option maxRecDepth 100000
def RX13 : String := "AskedCourt$Person"
def TX13 : u_T := fun k => match k with
  | 0 => ("AskedCourt$Named", "name", "I", true)
  | 1 => ("AskedCourt$Person", "lips", "I", false)
  | 2 => ("AskedCourt$Person", "wit", "I", false)
  | 3 => ("AskedCourt$Person", "room", "I", false)
  | _ => ("AskedCourt$Person", "knows", "I", false)
def tyX13 : Nat → FieldType := fun k => match k with
  | 0 => .int
  | 1 => .int
  | 2 => .int
  | 3 => .int
  | _ => .int
abbrev wsX130 : List Cond := u_ws RX13 TX13 5
theorem nmX13 : ∀ a, a < 5 → ∀ b, b < 5 → a ≠ b → (TX13 a).2.1 ≠ (TX13 b).2.1 := by decide +kernel
theorem tyX13_ok : ∀ k, k < 5 → parseFieldDescriptor (TX13 k).2.2.1 = some (tyX13 k) := by decide +kernel
abbrev cX13_init : ByteArray := prog_14_method_1_code
def yX13_init : MethodName := ⟨RX13, "<init>", "(I)V"⟩
theorem q167 : (Jvm.Cond.initialized "AskedCourt$Person") ∈ lw_all := lw_g (lw_at lw_m1 28 rfl) rfl
theorem q820 : (Jvm.Cond.selects "AskedCourt$Person" ({ cls := "java/lang/Object", name := "getClass", desc := "()Ljava/lang/Class;" } : Jvm.MethodName) ({ cls := "java/lang/Object", name := "getClass", desc := "()Ljava/lang/Class;" } : Jvm.MethodName)) ∈ lw_all := lw_g (lw_at lw_m3 201 rfl) rfl
theorem q850 : (Jvm.Cond.instantiable "AskedCourt$Person" (5 : Nat)) ∈ lw_all := lw_g (lw_at lw_m3 231 rfl) rfl
theorem q852 : (Jvm.Cond.instanceMethod ({ cls := "AskedCourt$Person", name := "<init>", desc := "(I)V" } : Jvm.MethodName)) ∈ lw_all := lw_g (lw_at lw_m3 233 rfl) rfl
theorem q853 : (Jvm.Cond.code ({ cls := "AskedCourt$Person", name := "<init>", desc := "(I)V" } : Jvm.MethodName) prog_14_method_1_code (2 : Nat) (Option.none : Option Jvm.ClassFile.FieldType)) ∈ lw_all := lw_g (lw_at lw_m3 234 rfl) rfl
theorem q854 : (Jvm.Cond.methodLink "AskedCourt$Person" (1 : Nat) ({ cls := "AskedCourt$Named", name := "<init>", desc := "(I)V" } : Jvm.MethodName)) ∈ lw_all := lw_g (lw_at lw_m3 235 rfl) rfl
theorem q865 : (Jvm.Cond.lays "AskedCourt$Person" "AskedCourt$Person" "lips" "I") ∈ lw_all := lw_g (lw_at lw_m4 6 rfl) rfl
theorem q866 : (Jvm.Cond.soleField "AskedCourt$Person" "lips") ∈ lw_all := lw_g (lw_at lw_m4 7 rfl) rfl
theorem q867 : (Jvm.Cond.lays "AskedCourt$Person" "AskedCourt$Person" "wit" "I") ∈ lw_all := lw_g (lw_at lw_m4 8 rfl) rfl
theorem q868 : (Jvm.Cond.soleField "AskedCourt$Person" "wit") ∈ lw_all := lw_g (lw_at lw_m4 9 rfl) rfl
theorem q869 : (Jvm.Cond.lays "AskedCourt$Person" "AskedCourt$Person" "room" "I") ∈ lw_all := lw_g (lw_at lw_m4 10 rfl) rfl
theorem q870 : (Jvm.Cond.soleField "AskedCourt$Person" "room") ∈ lw_all := lw_g (lw_at lw_m4 11 rfl) rfl
theorem q871 : (Jvm.Cond.lays "AskedCourt$Person" "AskedCourt$Person" "knows" "I") ∈ lw_all := lw_g (lw_at lw_m4 12 rfl) rfl
theorem q872 : (Jvm.Cond.soleField "AskedCourt$Person" "knows") ∈ lw_all := lw_g (lw_at lw_m4 13 rfl) rfl
theorem q873 : (Jvm.Cond.laysFinal "AskedCourt$Person" "AskedCourt$Named" "name" "I") ∈ lw_all := lw_g (lw_at lw_m4 14 rfl) rfl
theorem q874 : (Jvm.Cond.superclass "AskedCourt$Person" "AskedCourt$Named") ∈ lw_all := lw_g (lw_at lw_m4 15 rfl) rfl
theorem q2327 : (Jvm.Cond.castable "AskedCourt$Person" "AskedCourt$Named") ∈ lw_tbl := lw_at lw_m10 28 rfl
theorem q2346 : (Jvm.Cond.castable "AskedCourt$Person" "java/lang/Object") ∈ lw_tbl := lw_at lw_m10 47 rfl
theorem in_X13 : ∀ w ∈ wsX130, w ∈ lw_all := lw_in wsX130 [873, 865, 867, 869, 871] (by decide +kernel) (by decide +kernel)

/-! AskedCourt$Question -/
set_option maxRecDepth 100000
def RX14 : String := "AskedCourt$Question"
def TX14 : u_T := fun k => match k with
  | 0 => ("AskedCourt$Named", "name", "I", true)
  | 1 => ("AskedCourt$Question", "kind", "I", false)
  | 2 => ("AskedCourt$Question", "supposes", "I", false)
  | 3 => ("AskedCourt$Question", "also", "I", false)
  | _ => ("AskedCourt$Question", "asks", "I", false)
def tyX14 : Nat → FieldType := fun k => match k with
  | 0 => .int
  | 1 => .int
  | 2 => .int
  | 3 => .int
  | _ => .int
abbrev wsX140 : List Cond := u_ws RX14 TX14 5
theorem nmX14 : ∀ a, a < 5 → ∀ b, b < 5 → a ≠ b → (TX14 a).2.1 ≠ (TX14 b).2.1 := by decide +kernel
theorem tyX14_ok : ∀ k, k < 5 → parseFieldDescriptor (TX14 k).2.2.1 = some (tyX14 k) := by decide +kernel
abbrev cX14_init : ByteArray := prog_16_method_1_code
def yX14_init : MethodName := ⟨RX14, "<init>", "(I)V"⟩
theorem q168 : (Jvm.Cond.initialized "AskedCourt$Question") ∈ lw_all := lw_g (lw_at lw_m1 29 rfl) rfl
theorem q822 : (Jvm.Cond.selects "AskedCourt$Question" ({ cls := "java/lang/Object", name := "getClass", desc := "()Ljava/lang/Class;" } : Jvm.MethodName) ({ cls := "java/lang/Object", name := "getClass", desc := "()Ljava/lang/Class;" } : Jvm.MethodName)) ∈ lw_all := lw_g (lw_at lw_m3 203 rfl) rfl
theorem q901 : (Jvm.Cond.instantiable "AskedCourt$Question" (5 : Nat)) ∈ lw_all := lw_g (lw_at lw_m4 42 rfl) rfl
theorem q903 : (Jvm.Cond.instanceMethod ({ cls := "AskedCourt$Question", name := "<init>", desc := "(I)V" } : Jvm.MethodName)) ∈ lw_all := lw_g (lw_at lw_m4 44 rfl) rfl
theorem q904 : (Jvm.Cond.code ({ cls := "AskedCourt$Question", name := "<init>", desc := "(I)V" } : Jvm.MethodName) prog_16_method_1_code (2 : Nat) (Option.none : Option Jvm.ClassFile.FieldType)) ∈ lw_all := lw_g (lw_at lw_m4 45 rfl) rfl
theorem q905 : (Jvm.Cond.methodLink "AskedCourt$Question" (1 : Nat) ({ cls := "AskedCourt$Named", name := "<init>", desc := "(I)V" } : Jvm.MethodName)) ∈ lw_all := lw_g (lw_at lw_m4 46 rfl) rfl
theorem q918 : (Jvm.Cond.lays "AskedCourt$Question" "AskedCourt$Question" "kind" "I") ∈ lw_all := lw_g (lw_at lw_m4 59 rfl) rfl
theorem q919 : (Jvm.Cond.soleField "AskedCourt$Question" "kind") ∈ lw_all := lw_g (lw_at lw_m4 60 rfl) rfl
theorem q920 : (Jvm.Cond.lays "AskedCourt$Question" "AskedCourt$Question" "supposes" "I") ∈ lw_all := lw_g (lw_at lw_m4 61 rfl) rfl
theorem q921 : (Jvm.Cond.soleField "AskedCourt$Question" "supposes") ∈ lw_all := lw_g (lw_at lw_m4 62 rfl) rfl
theorem q922 : (Jvm.Cond.lays "AskedCourt$Question" "AskedCourt$Question" "also" "I") ∈ lw_all := lw_g (lw_at lw_m4 63 rfl) rfl
theorem q923 : (Jvm.Cond.soleField "AskedCourt$Question" "also") ∈ lw_all := lw_g (lw_at lw_m4 64 rfl) rfl
theorem q924 : (Jvm.Cond.lays "AskedCourt$Question" "AskedCourt$Question" "asks" "I") ∈ lw_all := lw_g (lw_at lw_m4 65 rfl) rfl
theorem q925 : (Jvm.Cond.soleField "AskedCourt$Question" "asks") ∈ lw_all := lw_g (lw_at lw_m4 66 rfl) rfl
theorem q926 : (Jvm.Cond.laysFinal "AskedCourt$Question" "AskedCourt$Named" "name" "I") ∈ lw_all := lw_g (lw_at lw_m4 67 rfl) rfl
theorem q927 : (Jvm.Cond.superclass "AskedCourt$Question" "AskedCourt$Named") ∈ lw_all := lw_g (lw_at lw_m4 68 rfl) rfl
theorem q2328 : (Jvm.Cond.castable "AskedCourt$Question" "AskedCourt$Named") ∈ lw_tbl := lw_at lw_m10 29 rfl
theorem q2347 : (Jvm.Cond.castable "AskedCourt$Question" "java/lang/Object") ∈ lw_tbl := lw_at lw_m10 48 rfl
theorem in_X14 : ∀ w ∈ wsX140, w ∈ lw_all := lw_in wsX140 [926, 918, 920, 922, 924] (by decide +kernel) (by decide +kernel)

/-! AskedCourt$Part -/
set_option maxRecDepth 100000
def RX15 : String := "AskedCourt$Part"
abbrev cX15_init : ByteArray := prog_13_method_1_code
def yX15_init : MethodName := ⟨RX15, "<init>", "()V"⟩
theorem q169 : (Jvm.Cond.initialized "AskedCourt$Part") ∈ lw_all := lw_g (lw_at lw_m1 30 rfl) rfl
theorem q978 : (Jvm.Cond.instanceMethod ({ cls := "AskedCourt$Part", name := "<init>", desc := "()V" } : Jvm.MethodName)) ∈ lw_all := lw_g (lw_at lw_m4 119 rfl) rfl
theorem q979 : (Jvm.Cond.code ({ cls := "AskedCourt$Part", name := "<init>", desc := "()V" } : Jvm.MethodName) prog_13_method_1_code (1 : Nat) (Option.none : Option Jvm.ClassFile.FieldType)) ∈ lw_all := lw_g (lw_at lw_m4 120 rfl) rfl
theorem q980 : (Jvm.Cond.methodLink "AskedCourt$Part" (1 : Nat) ({ cls := "java/lang/Object", name := "<init>", desc := "()V" } : Jvm.MethodName)) ∈ lw_all := lw_g (lw_at lw_m4 121 rfl) rfl
theorem q1117 : (Jvm.Cond.declares ({ cls := "AskedCourt$Part", name := "of", desc := "([J)J" } : Jvm.MethodName)) ∈ lw_tbl := lw_at lw_m5 18 rfl
theorem q1118 : (Jvm.Cond.sameMethod "AskedCourt$Part" "AskedCourt$Part" "of" "([J)J") ∈ lw_all := lw_g (lw_at lw_m5 19 rfl) rfl
theorem q2331 : (Jvm.Cond.castable "AskedCourt$Part" "java/lang/Object") ∈ lw_tbl := lw_at lw_m10 32 rfl

/-! AskedCourt$Number -/
set_option maxRecDepth 100000
def RX16 : String := "AskedCourt$Number"
def TX16 : u_T := fun k => match k with
  | _ => ("AskedCourt$Number", "n", "I", true)
def tyX16 : Nat → FieldType := fun k => match k with
  | _ => .int
abbrev wsX160 : List Cond := u_ws RX16 TX16 1
theorem nmX16 : ∀ a, a < 1 → ∀ b, b < 1 → a ≠ b → (TX16 a).2.1 ≠ (TX16 b).2.1 := by decide +kernel
theorem tyX16_ok : ∀ k, k < 1 → parseFieldDescriptor (TX16 k).2.2.1 = some (tyX16 k) := by decide +kernel
abbrev cX16_init : ByteArray := prog_12_method_1_code
def yX16_init : MethodName := ⟨RX16, "<init>", "(I)V"⟩
abbrev cX16_of : ByteArray := prog_12_method_2_code
def yX16_of : MethodName := ⟨RX16, "of", "([J)J"⟩
theorem q170 : (Jvm.Cond.initialized "AskedCourt$Number") ∈ lw_all := lw_g (lw_at lw_m1 31 rfl) rfl
theorem q819 : (Jvm.Cond.selects "AskedCourt$Number" ({ cls := "java/lang/Object", name := "getClass", desc := "()Ljava/lang/Class;" } : Jvm.MethodName) ({ cls := "java/lang/Object", name := "getClass", desc := "()Ljava/lang/Class;" } : Jvm.MethodName)) ∈ lw_all := lw_g (lw_at lw_m3 200 rfl) rfl
theorem q969 : (Jvm.Cond.instantiable "AskedCourt$Number" (1 : Nat)) ∈ lw_all := lw_g (lw_at lw_m4 110 rfl) rfl
theorem q975 : (Jvm.Cond.instanceMethod ({ cls := "AskedCourt$Number", name := "<init>", desc := "(I)V" } : Jvm.MethodName)) ∈ lw_all := lw_g (lw_at lw_m4 116 rfl) rfl
theorem q976 : (Jvm.Cond.code ({ cls := "AskedCourt$Number", name := "<init>", desc := "(I)V" } : Jvm.MethodName) prog_12_method_1_code (2 : Nat) (Option.none : Option Jvm.ClassFile.FieldType)) ∈ lw_all := lw_g (lw_at lw_m4 117 rfl) rfl
theorem q977 : (Jvm.Cond.methodLinkNest "AskedCourt$Number" (1 : Nat) ({ cls := "AskedCourt$Part", name := "<init>", desc := "()V" } : Jvm.MethodName) "AskedCourt") ∈ lw_tbl := lw_at lw_m4 118 rfl
theorem q981 : (Jvm.Cond.fieldLink "AskedCourt$Number" (7 : Nat) "AskedCourt$Number" "n" "I") ∈ lw_all := lw_g (lw_at lw_m4 122 rfl) rfl
theorem q982 : (Jvm.Cond.laysFinal "AskedCourt$Number" "AskedCourt$Number" "n" "I") ∈ lw_all := lw_g (lw_at lw_m4 123 rfl) rfl
theorem q983 : (Jvm.Cond.soleField "AskedCourt$Number" "n") ∈ lw_all := lw_g (lw_at lw_m4 124 rfl) rfl
theorem q984 : (Jvm.Cond.superclass "AskedCourt$Number" "AskedCourt$Part") ∈ lw_all := lw_g (lw_at lw_m4 125 rfl) rfl
theorem q1126 : (Jvm.Cond.instanceMethod ({ cls := "AskedCourt$Number", name := "of", desc := "([J)J" } : Jvm.MethodName)) ∈ lw_all := lw_g (lw_at lw_m5 27 rfl) rfl
theorem q1127 : (Jvm.Cond.code ({ cls := "AskedCourt$Number", name := "of", desc := "([J)J" } : Jvm.MethodName) prog_12_method_2_code (2 : Nat) (Option.some Jvm.ClassFile.FieldType.long)) ∈ lw_all := lw_g (lw_at lw_m5 28 rfl) rfl
theorem q1149 : (Jvm.Cond.selects "AskedCourt$Number" ({ cls := "AskedCourt$Part", name := "of", desc := "([J)J" } : Jvm.MethodName) ({ cls := "AskedCourt$Number", name := "of", desc := "([J)J" } : Jvm.MethodName)) ∈ lw_all := lw_g (lw_at lw_m5 50 rfl) rfl
theorem q2348 : (Jvm.Cond.castable "AskedCourt$Number" "java/lang/Object") ∈ lw_tbl := lw_at lw_m10 49 rfl
theorem q2359 : (Jvm.Cond.castable "AskedCourt$Number" "AskedCourt$Part") ∈ lw_tbl := lw_at lw_m10 60 rfl
theorem in_X16 : ∀ w ∈ wsX160, w ∈ lw_all := lw_in wsX160 [982] (by decide +kernel) (by decide +kernel)

/-! AskedCourt$Name -/
set_option maxRecDepth 100000
def RX17 : String := "AskedCourt$Name"
def TX17 : u_T := fun k => match k with
  | _ => ("AskedCourt$Name", "which", "I", true)
def tyX17 : Nat → FieldType := fun k => match k with
  | _ => .int
abbrev wsX170 : List Cond := u_ws RX17 TX17 1
theorem nmX17 : ∀ a, a < 1 → ∀ b, b < 1 → a ≠ b → (TX17 a).2.1 ≠ (TX17 b).2.1 := by decide +kernel
theorem tyX17_ok : ∀ k, k < 1 → parseFieldDescriptor (TX17 k).2.2.1 = some (tyX17 k) := by decide +kernel
abbrev cX17_init : ByteArray := prog_8_method_1_code
def yX17_init : MethodName := ⟨RX17, "<init>", "(I)V"⟩
abbrev cX17_of : ByteArray := prog_8_method_2_code
def yX17_of : MethodName := ⟨RX17, "of", "([J)J"⟩
theorem q171 : (Jvm.Cond.initialized "AskedCourt$Name") ∈ lw_all := lw_g (lw_at lw_m1 32 rfl) rfl
theorem q815 : (Jvm.Cond.selects "AskedCourt$Name" ({ cls := "java/lang/Object", name := "getClass", desc := "()Ljava/lang/Class;" } : Jvm.MethodName) ({ cls := "java/lang/Object", name := "getClass", desc := "()Ljava/lang/Class;" } : Jvm.MethodName)) ∈ lw_all := lw_g (lw_at lw_m3 196 rfl) rfl
theorem q986 : (Jvm.Cond.instantiable "AskedCourt$Name" (1 : Nat)) ∈ lw_all := lw_g (lw_at lw_m4 127 rfl) rfl
theorem q988 : (Jvm.Cond.instanceMethod ({ cls := "AskedCourt$Name", name := "<init>", desc := "(I)V" } : Jvm.MethodName)) ∈ lw_all := lw_g (lw_at lw_m4 129 rfl) rfl
theorem q989 : (Jvm.Cond.code ({ cls := "AskedCourt$Name", name := "<init>", desc := "(I)V" } : Jvm.MethodName) prog_8_method_1_code (2 : Nat) (Option.none : Option Jvm.ClassFile.FieldType)) ∈ lw_all := lw_g (lw_at lw_m4 130 rfl) rfl
theorem q990 : (Jvm.Cond.methodLinkNest "AskedCourt$Name" (1 : Nat) ({ cls := "AskedCourt$Part", name := "<init>", desc := "()V" } : Jvm.MethodName) "AskedCourt") ∈ lw_tbl := lw_at lw_m4 131 rfl
theorem q991 : (Jvm.Cond.fieldLink "AskedCourt$Name" (7 : Nat) "AskedCourt$Name" "which" "I") ∈ lw_all := lw_g (lw_at lw_m4 132 rfl) rfl
theorem q992 : (Jvm.Cond.laysFinal "AskedCourt$Name" "AskedCourt$Name" "which" "I") ∈ lw_all := lw_g (lw_at lw_m4 133 rfl) rfl
theorem q993 : (Jvm.Cond.soleField "AskedCourt$Name" "which") ∈ lw_all := lw_g (lw_at lw_m4 134 rfl) rfl
theorem q994 : (Jvm.Cond.superclass "AskedCourt$Name" "AskedCourt$Part") ∈ lw_all := lw_g (lw_at lw_m4 135 rfl) rfl
theorem q1119 : (Jvm.Cond.selects "AskedCourt$Name" ({ cls := "AskedCourt$Part", name := "of", desc := "([J)J" } : Jvm.MethodName) ({ cls := "AskedCourt$Name", name := "of", desc := "([J)J" } : Jvm.MethodName)) ∈ lw_all := lw_g (lw_at lw_m5 20 rfl) rfl
theorem q1120 : (Jvm.Cond.instanceMethod ({ cls := "AskedCourt$Name", name := "of", desc := "([J)J" } : Jvm.MethodName)) ∈ lw_all := lw_g (lw_at lw_m5 21 rfl) rfl
theorem q1121 : (Jvm.Cond.code ({ cls := "AskedCourt$Name", name := "of", desc := "([J)J" } : Jvm.MethodName) prog_8_method_2_code (2 : Nat) (Option.some Jvm.ClassFile.FieldType.long)) ∈ lw_all := lw_g (lw_at lw_m5 22 rfl) rfl
theorem q2349 : (Jvm.Cond.castable "AskedCourt$Name" "java/lang/Object") ∈ lw_tbl := lw_at lw_m10 50 rfl
theorem q2360 : (Jvm.Cond.castable "AskedCourt$Name" "AskedCourt$Part") ∈ lw_tbl := lw_at lw_m10 61 rfl
theorem in_X17 : ∀ w ∈ wsX170, w ∈ lw_all := lw_in wsX170 [992] (by decide +kernel) (by decide +kernel)

/-! AskedCourt$Not -/
set_option maxRecDepth 100000
def RX18 : String := "AskedCourt$Not"
def TX18 : u_T := fun k => match k with
  | _ => ("AskedCourt$Not", "a", "LAskedCourt$Part;", true)
def tyX18 : Nat → FieldType := fun k => match k with
  | _ => .object "AskedCourt$Part"
abbrev wsX180 : List Cond := u_ws RX18 TX18 1
theorem nmX18 : ∀ a, a < 1 → ∀ b, b < 1 → a ≠ b → (TX18 a).2.1 ≠ (TX18 b).2.1 := by decide +kernel
theorem tyX18_ok : ∀ k, k < 1 → parseFieldDescriptor (TX18 k).2.2.1 = some (tyX18 k) := by decide +kernel
abbrev cX18_init : ByteArray := prog_10_method_1_code
def yX18_init : MethodName := ⟨RX18, "<init>", "(LAskedCourt$Part;)V"⟩
abbrev cX18_of : ByteArray := prog_10_method_2_code
def yX18_of : MethodName := ⟨RX18, "of", "([J)J"⟩
theorem q172 : (Jvm.Cond.initialized "AskedCourt$Not") ∈ lw_all := lw_g (lw_at lw_m1 33 rfl) rfl
theorem q817 : (Jvm.Cond.selects "AskedCourt$Not" ({ cls := "java/lang/Object", name := "getClass", desc := "()Ljava/lang/Class;" } : Jvm.MethodName) ({ cls := "java/lang/Object", name := "getClass", desc := "()Ljava/lang/Class;" } : Jvm.MethodName)) ∈ lw_all := lw_g (lw_at lw_m3 198 rfl) rfl
theorem q1001 : (Jvm.Cond.instanceMethod ({ cls := "AskedCourt$Not", name := "<init>", desc := "(LAskedCourt$Part;)V" } : Jvm.MethodName)) ∈ lw_all := lw_g (lw_at lw_m4 142 rfl) rfl
theorem q1002 : (Jvm.Cond.code ({ cls := "AskedCourt$Not", name := "<init>", desc := "(LAskedCourt$Part;)V" } : Jvm.MethodName) prog_10_method_1_code (2 : Nat) (Option.none : Option Jvm.ClassFile.FieldType)) ∈ lw_all := lw_g (lw_at lw_m4 143 rfl) rfl
theorem q1003 : (Jvm.Cond.methodLinkNest "AskedCourt$Not" (1 : Nat) ({ cls := "AskedCourt$Part", name := "<init>", desc := "()V" } : Jvm.MethodName) "AskedCourt") ∈ lw_tbl := lw_at lw_m4 144 rfl
theorem q1006 : (Jvm.Cond.fieldLink "AskedCourt$Not" (7 : Nat) "AskedCourt$Not" "a" "LAskedCourt$Part;") ∈ lw_all := lw_g (lw_at lw_m4 147 rfl) rfl
theorem q1014 : (Jvm.Cond.soleField "AskedCourt$Not" "a") ∈ lw_all := lw_g (lw_at lw_m4 155 rfl) rfl
theorem q1017 : (Jvm.Cond.instantiable "AskedCourt$Not" (1 : Nat)) ∈ lw_all := lw_g (lw_at lw_m4 158 rfl) rfl
theorem q1019 : (Jvm.Cond.laysFinal "AskedCourt$Not" "AskedCourt$Not" "a" "LAskedCourt$Part;") ∈ lw_all := lw_g (lw_at lw_m4 160 rfl) rfl
theorem q1020 : (Jvm.Cond.superclass "AskedCourt$Not" "AskedCourt$Part") ∈ lw_all := lw_g (lw_at lw_m4 161 rfl) rfl
theorem q1122 : (Jvm.Cond.selects "AskedCourt$Not" ({ cls := "AskedCourt$Part", name := "of", desc := "([J)J" } : Jvm.MethodName) ({ cls := "AskedCourt$Not", name := "of", desc := "([J)J" } : Jvm.MethodName)) ∈ lw_all := lw_g (lw_at lw_m5 23 rfl) rfl
theorem q1123 : (Jvm.Cond.instanceMethod ({ cls := "AskedCourt$Not", name := "of", desc := "([J)J" } : Jvm.MethodName)) ∈ lw_all := lw_g (lw_at lw_m5 24 rfl) rfl
theorem q1124 : (Jvm.Cond.code ({ cls := "AskedCourt$Not", name := "of", desc := "([J)J" } : Jvm.MethodName) prog_10_method_2_code (2 : Nat) (Option.some Jvm.ClassFile.FieldType.long)) ∈ lw_all := lw_g (lw_at lw_m5 25 rfl) rfl
theorem q1125 : (Jvm.Cond.methodLink "AskedCourt$Not" (13 : Nat) ({ cls := "AskedCourt$Part", name := "of", desc := "([J)J" } : Jvm.MethodName)) ∈ lw_all := lw_g (lw_at lw_m5 26 rfl) rfl
theorem q2351 : (Jvm.Cond.castable "AskedCourt$Not" "java/lang/Object") ∈ lw_tbl := lw_at lw_m10 52 rfl
theorem q2362 : (Jvm.Cond.castable "AskedCourt$Not" "AskedCourt$Part") ∈ lw_tbl := lw_at lw_m10 63 rfl
theorem in_X18 : ∀ w ∈ wsX180, w ∈ lw_all := lw_in wsX180 [1019] (by decide +kernel) (by decide +kernel)

/-! AskedCourt$Two -/
set_option maxRecDepth 100000
def RX19 : String := "AskedCourt$Two"
def TX19 : u_T := fun k => match k with
  | 0 => ("AskedCourt$Not", "a", "LAskedCourt$Part;", true)
  | 1 => ("AskedCourt$Two", "sign", "I", true)
  | _ => ("AskedCourt$Two", "b", "LAskedCourt$Part;", true)
def tyX19 : Nat → FieldType := fun k => match k with
  | 0 => .object "AskedCourt$Part"
  | 1 => .int
  | _ => .object "AskedCourt$Part"
abbrev wsX190 : List Cond := u_ws RX19 TX19 3
theorem nmX19 : ∀ a, a < 3 → ∀ b, b < 3 → a ≠ b → (TX19 a).2.1 ≠ (TX19 b).2.1 := by decide +kernel
theorem tyX19_ok : ∀ k, k < 3 → parseFieldDescriptor (TX19 k).2.2.1 = some (tyX19 k) := by decide +kernel
abbrev cX19_init : ByteArray := prog_21_method_1_code
def yX19_init : MethodName := ⟨RX19, "<init>", "(ILAskedCourt$Part;LAskedCourt$Part;)V"⟩
abbrev cX19_of : ByteArray := prog_21_method_3_code
def yX19_of : MethodName := ⟨RX19, "of", "([J)J"⟩
abbrev cX19_times : ByteArray := prog_21_method_4_code
def yX19_times : MethodName := ⟨RX19, "times", "(JJ)J"⟩
abbrev cX19_is : ByteArray := prog_21_method_2_code
def yX19_is : MethodName := ⟨RX19, "is", "(Z)J"⟩
theorem q173 : (Jvm.Cond.initialized "AskedCourt$Two") ∈ lw_all := lw_g (lw_at lw_m1 34 rfl) rfl
theorem q827 : (Jvm.Cond.selects "AskedCourt$Two" ({ cls := "java/lang/Object", name := "getClass", desc := "()Ljava/lang/Class;" } : Jvm.MethodName) ({ cls := "java/lang/Object", name := "getClass", desc := "()Ljava/lang/Class;" } : Jvm.MethodName)) ∈ lw_all := lw_g (lw_at lw_m3 208 rfl) rfl
theorem q996 : (Jvm.Cond.instantiable "AskedCourt$Two" (3 : Nat)) ∈ lw_all := lw_g (lw_at lw_m4 137 rfl) rfl
theorem q998 : (Jvm.Cond.instanceMethod ({ cls := "AskedCourt$Two", name := "<init>", desc := "(ILAskedCourt$Part;LAskedCourt$Part;)V" } : Jvm.MethodName)) ∈ lw_all := lw_g (lw_at lw_m4 139 rfl) rfl
theorem q999 : (Jvm.Cond.code ({ cls := "AskedCourt$Two", name := "<init>", desc := "(ILAskedCourt$Part;LAskedCourt$Part;)V" } : Jvm.MethodName) prog_21_method_1_code (4 : Nat) (Option.none : Option Jvm.ClassFile.FieldType)) ∈ lw_all := lw_g (lw_at lw_m4 140 rfl) rfl
theorem q1000 : (Jvm.Cond.methodLink "AskedCourt$Two" (3 : Nat) ({ cls := "AskedCourt$Not", name := "<init>", desc := "(LAskedCourt$Part;)V" } : Jvm.MethodName)) ∈ lw_all := lw_g (lw_at lw_m4 141 rfl) rfl
theorem q1004 : (Jvm.Cond.fieldLink "AskedCourt$Two" (9 : Nat) "AskedCourt$Two" "sign" "I") ∈ lw_all := lw_g (lw_at lw_m4 145 rfl) rfl
theorem q1005 : (Jvm.Cond.fieldLink "AskedCourt$Two" (15 : Nat) "AskedCourt$Two" "b" "LAskedCourt$Part;") ∈ lw_all := lw_g (lw_at lw_m4 146 rfl) rfl
theorem q1007 : (Jvm.Cond.fieldLink "AskedCourt$Two" (19 : Nat) "AskedCourt$Two" "a" "LAskedCourt$Part;") ∈ lw_all := lw_g (lw_at lw_m4 148 rfl) rfl
theorem q1008 : (Jvm.Cond.sameField "AskedCourt$Two" "AskedCourt$Not" "a" "LAskedCourt$Part;") ∈ lw_all := lw_g (lw_at lw_m4 149 rfl) rfl
theorem q1009 : (Jvm.Cond.laysFinal "AskedCourt$Two" "AskedCourt$Two" "sign" "I") ∈ lw_all := lw_g (lw_at lw_m4 150 rfl) rfl
theorem q1010 : (Jvm.Cond.soleField "AskedCourt$Two" "sign") ∈ lw_all := lw_g (lw_at lw_m4 151 rfl) rfl
theorem q1011 : (Jvm.Cond.laysFinal "AskedCourt$Two" "AskedCourt$Two" "b" "LAskedCourt$Part;") ∈ lw_all := lw_g (lw_at lw_m4 152 rfl) rfl
theorem q1012 : (Jvm.Cond.soleField "AskedCourt$Two" "b") ∈ lw_all := lw_g (lw_at lw_m4 153 rfl) rfl
theorem q1013 : (Jvm.Cond.laysFinal "AskedCourt$Two" "AskedCourt$Not" "a" "LAskedCourt$Part;") ∈ lw_all := lw_g (lw_at lw_m4 154 rfl) rfl
theorem q1015 : (Jvm.Cond.superclass "AskedCourt$Two" "AskedCourt$Not") ∈ lw_all := lw_g (lw_at lw_m4 156 rfl) rfl
theorem q1128 : (Jvm.Cond.instanceMethod ({ cls := "AskedCourt$Two", name := "of", desc := "([J)J" } : Jvm.MethodName)) ∈ lw_all := lw_g (lw_at lw_m5 29 rfl) rfl
theorem q1129 : (Jvm.Cond.code ({ cls := "AskedCourt$Two", name := "of", desc := "([J)J" } : Jvm.MethodName) prog_21_method_3_code (6 : Nat) (Option.some Jvm.ClassFile.FieldType.long)) ∈ lw_all := lw_g (lw_at lw_m5 30 rfl) rfl
theorem q1130 : (Jvm.Cond.methodLink "AskedCourt$Two" (22 : Nat) ({ cls := "AskedCourt$Part", name := "of", desc := "([J)J" } : Jvm.MethodName)) ∈ lw_all := lw_g (lw_at lw_m5 31 rfl) rfl
theorem q1131 : (Jvm.Cond.methodLinkNest "AskedCourt$Two" (28 : Nat) ({ cls := "AskedCourt", name := "sure", desc := "(J)J" } : Jvm.MethodName) "AskedCourt") ∈ lw_tbl := lw_at lw_m5 32 rfl
theorem q1138 : (Jvm.Cond.methodLink "AskedCourt$Two" (32 : Nat) ({ cls := "AskedCourt$Two", name := "times", desc := "(JJ)J" } : Jvm.MethodName)) ∈ lw_all := lw_g (lw_at lw_m5 39 rfl) rfl
theorem q1139 : (Jvm.Cond.static ({ cls := "AskedCourt$Two", name := "times", desc := "(JJ)J" } : Jvm.MethodName)) ∈ lw_all := lw_g (lw_at lw_m5 40 rfl) rfl
theorem q1140 : (Jvm.Cond.code ({ cls := "AskedCourt$Two", name := "times", desc := "(JJ)J" } : Jvm.MethodName) prog_21_method_4_code (4 : Nat) (Option.some Jvm.ClassFile.FieldType.long)) ∈ lw_all := lw_g (lw_at lw_m5 41 rfl) rfl
theorem q1141 : (Jvm.Cond.methodLink "AskedCourt$Two" (44 : Nat) ({ cls := "java/lang/Math", name := "abs", desc := "(J)J" } : Jvm.MethodName)) ∈ lw_all := lw_g (lw_at lw_m5 42 rfl) rfl
theorem q1144 : (Jvm.Cond.constantLong "AskedCourt$Two" (49 : Nat) (1000000000000 : Int64)) ∈ lw_all := lw_g (lw_at lw_m5 45 rfl) rfl
theorem q1145 : (Jvm.Cond.fieldLinkNest "AskedCourt$Two" (36 : Nat) "AskedCourt" "TROUBLE" "LAskedCourt$Trouble;" "AskedCourt") ∈ lw_tbl := lw_at lw_m5 46 rfl
theorem q1146 : (Jvm.Cond.methodLink "AskedCourt$Two" (40 : Nat) ({ cls := "AskedCourt$Two", name := "is", desc := "(Z)J" } : Jvm.MethodName)) ∈ lw_all := lw_g (lw_at lw_m5 47 rfl) rfl
theorem q1147 : (Jvm.Cond.static ({ cls := "AskedCourt$Two", name := "is", desc := "(Z)J" } : Jvm.MethodName)) ∈ lw_all := lw_g (lw_at lw_m5 48 rfl) rfl
theorem q1148 : (Jvm.Cond.code ({ cls := "AskedCourt$Two", name := "is", desc := "(Z)J" } : Jvm.MethodName) prog_21_method_2_code (1 : Nat) (Option.some Jvm.ClassFile.FieldType.long)) ∈ lw_all := lw_g (lw_at lw_m5 49 rfl) rfl
theorem q1150 : (Jvm.Cond.selects "AskedCourt$Two" ({ cls := "AskedCourt$Part", name := "of", desc := "([J)J" } : Jvm.MethodName) ({ cls := "AskedCourt$Two", name := "of", desc := "([J)J" } : Jvm.MethodName)) ∈ lw_all := lw_g (lw_at lw_m5 51 rfl) rfl
theorem q2350 : (Jvm.Cond.castable "AskedCourt$Two" "java/lang/Object") ∈ lw_tbl := lw_at lw_m10 51 rfl
theorem q2361 : (Jvm.Cond.castable "AskedCourt$Two" "AskedCourt$Part") ∈ lw_tbl := lw_at lw_m10 62 rfl
theorem in_X19 : ∀ w ∈ wsX190, w ∈ lw_all := lw_in wsX190 [1013, 1009, 1011] (by decide +kernel) (by decide +kernel)

/-! AskedCourt$Reader -/
set_option maxRecDepth 100000
def RX2 : String := "AskedCourt$Reader"
def TX2 : u_T := fun k => match k with
  | 0 => ("AskedCourt$Reader", "at", "I", false)
  | 1 => ("AskedCourt$Reader", "size", "I", false)
  | 2 => ("AskedCourt$Reader", "place", "I", false)
  | 3 => ("AskedCourt$Reader", "sort", "I", false)
  | 4 => ("AskedCourt$Reader", "value", "I", false)
  | 5 => ("AskedCourt$Reader", "open", "I", false)
  | 6 => ("AskedCourt$Reader", "told", "I", false)
  | 7 => ("AskedCourt$Reader", "made", "LAskedCourt$Court;", false)
  | _ => ("AskedCourt$Reader", "this$0", "LAskedCourt;", true)
def tyX2 : Nat → FieldType := fun k => match k with
  | 0 => .int
  | 1 => .int
  | 2 => .int
  | 3 => .int
  | 4 => .int
  | 5 => .int
  | 6 => .int
  | 7 => .object "AskedCourt$Court"
  | _ => .object "AskedCourt"
abbrev wsX20 : List Cond := u_ws RX2 TX2 9
theorem nmX2 : ∀ a, a < 9 → ∀ b, b < 9 → a ≠ b → (TX2 a).2.1 ≠ (TX2 b).2.1 := by decide +kernel
theorem tyX2_ok : ∀ k, k < 9 → parseFieldDescriptor (TX2 k).2.2.1 = some (tyX2 k) := by decide +kernel
abbrev cX2_init : ByteArray := prog_17_method_1_code
def yX2_init : MethodName := ⟨RX2, "<init>", "(LAskedCourt;)V"⟩
abbrev cX2_read : ByteArray := prog_17_method_13_code
def yX2_read : MethodName := ⟨RX2, "read", "(I)LAskedCourt$Court;"⟩
abbrev cX2_next : ByteArray := prog_17_method_3_code
def yX2_next : MethodName := ⟨RX2, "next", "()V"⟩
abbrev cX2_here : ByteArray := prog_17_method_2_code
def yX2_here : MethodName := ⟨RX2, "here", "()I"⟩
abbrev cX2_word : ByteArray := prog_17_method_5_code
def yX2_word : MethodName := ⟨RX2, "word", "()I"⟩
abbrev cX2_name : ByteArray := prog_17_method_6_code
def yX2_name : MethodName := ⟨RX2, "name", "()V"⟩
abbrev cX2_sign : ByteArray := prog_17_method_4_code
def yX2_sign : MethodName := ⟨RX2, "sign", "()V"⟩
abbrev cX2_line : ByteArray := prog_17_method_15_code
def yX2_line : MethodName := ⟨RX2, "line", "()V"⟩
abbrev cX2_isWord : ByteArray := prog_17_method_8_code
def yX2_isWord : MethodName := ⟨RX2, "isWord", "(II)Z"⟩
abbrev cX2_wrong : ByteArray := prog_17_method_7_code
def yX2_wrong : MethodName := ⟨RX2, "wrong", "(I)LAskedCourt$Fault;"⟩
abbrev cX2_isFull : ByteArray := prog_17_method_14_code
def yX2_isFull : MethodName := ⟨RX2, "isFull", "(I)Z"⟩
abbrev cX2_fresh : ByteArray := prog_17_method_12_code
def yX2_fresh : MethodName := ⟨RX2, "fresh", "(Ljava/util/ArrayList;)I"⟩
abbrev cX2_person : ByteArray := prog_17_method_18_code
def yX2_person : MethodName := ⟨RX2, "person", "()V"⟩
abbrev cX2_number : ByteArray := prog_17_method_11_code
def yX2_number : MethodName := ⟨RX2, "number", "(II)I"⟩
abbrev cX2_numberAtHand : ByteArray := prog_17_method_10_code
def yX2_numberAtHand : MethodName := ⟨RX2, "numberAtHand", "(II)I"⟩
abbrev cX2_knows : ByteArray := prog_17_method_19_code
def yX2_knows : MethodName := ⟨RX2, "knows", "()V"⟩
abbrev cX2_ahead : ByteArray := prog_17_method_17_code
def yX2_ahead : MethodName := ⟨RX2, "ahead", "(Ljava/util/ArrayList;)I"⟩
abbrev cX2_atHand : ByteArray := prog_17_method_16_code
def yX2_atHand : MethodName := ⟨RX2, "atHand", "(Ljava/util/ArrayList;)I"⟩
abbrev cX2_question : ByteArray := prog_17_method_21_code
def yX2_question : MethodName := ⟨RX2, "question", "()V"⟩
abbrev cX2_some : ByteArray := prog_17_method_20_code
def yX2_some : MethodName := ⟨RX2, "some", "()I"⟩
abbrev cX2_talk : ByteArray := prog_17_method_22_code
def yX2_talk : MethodName := ⟨RX2, "talk", "()V"⟩
abbrev cX2_or : ByteArray := prog_17_method_24_code
def yX2_or : MethodName := ⟨RX2, "or", "()LAskedCourt$Part;"⟩
abbrev cX2_and : ByteArray := prog_17_method_25_code
def yX2_and : MethodName := ⟨RX2, "and", "()LAskedCourt$Part;"⟩
abbrev cX2_not : ByteArray := prog_17_method_26_code
def yX2_not : MethodName := ⟨RX2, "not", "()LAskedCourt$Part;"⟩
abbrev cX2_compare : ByteArray := prog_17_method_27_code
def yX2_compare : MethodName := ⟨RX2, "compare", "()LAskedCourt$Part;"⟩
abbrev cX2_sum : ByteArray := prog_17_method_28_code
def yX2_sum : MethodName := ⟨RX2, "sum", "()LAskedCourt$Part;"⟩
abbrev cX2_product : ByteArray := prog_17_method_29_code
def yX2_product : MethodName := ⟨RX2, "product", "()LAskedCourt$Part;"⟩
abbrev cX2_one : ByteArray := prog_17_method_30_code
def yX2_one : MethodName := ⟨RX2, "one", "()LAskedCourt$Part;"⟩
abbrev cX2_isSign : ByteArray := prog_17_method_9_code
def yX2_isSign : MethodName := ⟨RX2, "isSign", "(I)Z"⟩
abbrev cX2_knot : ByteArray := prog_17_method_23_code
def yX2_knot : MethodName := ⟨RX2, "knot", "()I"⟩
theorem q141 : (Jvm.Cond.initialized "AskedCourt$Reader") ∈ lw_all := lw_g (lw_at lw_m1 2 rfl) rfl
theorem q191 : (Jvm.Cond.instantiable "AskedCourt$Reader" (9 : Nat)) ∈ lw_all := lw_g (lw_at lw_m1 52 rfl) rfl
theorem q193 : (Jvm.Cond.instanceMethod ({ cls := "AskedCourt$Reader", name := "<init>", desc := "(LAskedCourt;)V" } : Jvm.MethodName)) ∈ lw_all := lw_g (lw_at lw_m1 54 rfl) rfl
theorem q194 : (Jvm.Cond.code ({ cls := "AskedCourt$Reader", name := "<init>", desc := "(LAskedCourt;)V" } : Jvm.MethodName) prog_17_method_1_code (2 : Nat) (Option.none : Option Jvm.ClassFile.FieldType)) ∈ lw_all := lw_g (lw_at lw_m1 55 rfl) rfl
theorem q195 : (Jvm.Cond.methodLink "AskedCourt$Reader" (9 : Nat) ({ cls := "java/lang/Object", name := "<init>", desc := "()V" } : Jvm.MethodName)) ∈ lw_all := lw_g (lw_at lw_m1 56 rfl) rfl
theorem q196 : (Jvm.Cond.fieldLink "AskedCourt$Reader" (15 : Nat) "AskedCourt$Reader" "at" "I") ∈ lw_all := lw_g (lw_at lw_m1 57 rfl) rfl
theorem q197 : (Jvm.Cond.fieldLink "AskedCourt$Reader" (19 : Nat) "AskedCourt$Reader" "size" "I") ∈ lw_all := lw_g (lw_at lw_m1 58 rfl) rfl
theorem q198 : (Jvm.Cond.fieldLink "AskedCourt$Reader" (30 : Nat) "AskedCourt$Reader" "place" "I") ∈ lw_all := lw_g (lw_at lw_m1 59 rfl) rfl
theorem q199 : (Jvm.Cond.fieldLink "AskedCourt$Reader" (33 : Nat) "AskedCourt$Reader" "sort" "I") ∈ lw_all := lw_g (lw_at lw_m1 60 rfl) rfl
theorem q200 : (Jvm.Cond.fieldLink "AskedCourt$Reader" (47 : Nat) "AskedCourt$Reader" "value" "I") ∈ lw_all := lw_g (lw_at lw_m1 61 rfl) rfl
theorem q201 : (Jvm.Cond.fieldLink "AskedCourt$Reader" (102 : Nat) "AskedCourt$Reader" "open" "I") ∈ lw_all := lw_g (lw_at lw_m1 62 rfl) rfl
theorem q202 : (Jvm.Cond.fieldLink "AskedCourt$Reader" (105 : Nat) "AskedCourt$Reader" "told" "I") ∈ lw_all := lw_g (lw_at lw_m1 63 rfl) rfl
theorem q203 : (Jvm.Cond.fieldLink "AskedCourt$Reader" (111 : Nat) "AskedCourt$Reader" "made" "LAskedCourt$Court;") ∈ lw_all := lw_g (lw_at lw_m1 64 rfl) rfl
theorem q204 : (Jvm.Cond.fieldLink "AskedCourt$Reader" (3 : Nat) "AskedCourt$Reader" "this$0" "LAskedCourt;") ∈ lw_all := lw_g (lw_at lw_m1 65 rfl) rfl
theorem q205 : (Jvm.Cond.lays "AskedCourt$Reader" "AskedCourt$Reader" "at" "I") ∈ lw_all := lw_g (lw_at lw_m1 66 rfl) rfl
theorem q206 : (Jvm.Cond.soleField "AskedCourt$Reader" "at") ∈ lw_all := lw_g (lw_at lw_m1 67 rfl) rfl
theorem q207 : (Jvm.Cond.lays "AskedCourt$Reader" "AskedCourt$Reader" "size" "I") ∈ lw_all := lw_g (lw_at lw_m1 68 rfl) rfl
theorem q208 : (Jvm.Cond.soleField "AskedCourt$Reader" "size") ∈ lw_all := lw_g (lw_at lw_m1 69 rfl) rfl
theorem q209 : (Jvm.Cond.lays "AskedCourt$Reader" "AskedCourt$Reader" "place" "I") ∈ lw_all := lw_g (lw_at lw_m1 70 rfl) rfl
theorem q210 : (Jvm.Cond.soleField "AskedCourt$Reader" "place") ∈ lw_all := lw_g (lw_at lw_m1 71 rfl) rfl
theorem q211 : (Jvm.Cond.lays "AskedCourt$Reader" "AskedCourt$Reader" "sort" "I") ∈ lw_all := lw_g (lw_at lw_m1 72 rfl) rfl
theorem q212 : (Jvm.Cond.soleField "AskedCourt$Reader" "sort") ∈ lw_all := lw_g (lw_at lw_m1 73 rfl) rfl
theorem q213 : (Jvm.Cond.lays "AskedCourt$Reader" "AskedCourt$Reader" "value" "I") ∈ lw_all := lw_g (lw_at lw_m1 74 rfl) rfl
theorem q214 : (Jvm.Cond.soleField "AskedCourt$Reader" "value") ∈ lw_all := lw_g (lw_at lw_m1 75 rfl) rfl
theorem q215 : (Jvm.Cond.lays "AskedCourt$Reader" "AskedCourt$Reader" "open" "I") ∈ lw_all := lw_g (lw_at lw_m1 76 rfl) rfl
theorem q216 : (Jvm.Cond.soleField "AskedCourt$Reader" "open") ∈ lw_all := lw_g (lw_at lw_m1 77 rfl) rfl
theorem q217 : (Jvm.Cond.lays "AskedCourt$Reader" "AskedCourt$Reader" "told" "I") ∈ lw_all := lw_g (lw_at lw_m1 78 rfl) rfl
theorem q218 : (Jvm.Cond.soleField "AskedCourt$Reader" "told") ∈ lw_all := lw_g (lw_at lw_m1 79 rfl) rfl
theorem q219 : (Jvm.Cond.lays "AskedCourt$Reader" "AskedCourt$Reader" "made" "LAskedCourt$Court;") ∈ lw_all := lw_g (lw_at lw_m1 80 rfl) rfl
theorem q220 : (Jvm.Cond.soleField "AskedCourt$Reader" "made") ∈ lw_all := lw_g (lw_at lw_m1 81 rfl) rfl
theorem q221 : (Jvm.Cond.laysFinal "AskedCourt$Reader" "AskedCourt$Reader" "this$0" "LAskedCourt;") ∈ lw_all := lw_g (lw_at lw_m1 82 rfl) rfl
theorem q222 : (Jvm.Cond.soleField "AskedCourt$Reader" "this$0") ∈ lw_all := lw_g (lw_at lw_m1 83 rfl) rfl
theorem q223 : (Jvm.Cond.superclass "AskedCourt$Reader" "java/lang/Object") ∈ lw_all := lw_g (lw_at lw_m1 84 rfl) rfl
theorem q263 : (Jvm.Cond.fieldLinkNest "AskedCourt$Reader" (118 : Nat) "AskedCourt$Court" "facts" "Ljava/util/ArrayList;" "AskedCourt") ∈ lw_tbl := lw_at lw_m1 124 rfl
theorem q267 : (Jvm.Cond.fieldLinkNest "AskedCourt$Reader" (126 : Nat) "AskedCourt$Court" "persons" "Ljava/util/ArrayList;" "AskedCourt") ∈ lw_tbl := lw_at lw_m1 128 rfl
theorem q271 : (Jvm.Cond.fieldLinkNest "AskedCourt$Reader" (129 : Nat) "AskedCourt$Court" "questions" "Ljava/util/ArrayList;" "AskedCourt") ∈ lw_tbl := lw_at lw_m1 132 rfl
theorem q274 : (Jvm.Cond.fieldLinkNest "AskedCourt$Reader" (230 : Nat) "AskedCourt$Court" "who" "[I" "AskedCourt") ∈ lw_tbl := lw_at lw_m1 135 rfl
theorem q277 : (Jvm.Cond.fieldLinkNest "AskedCourt$Reader" (234 : Nat) "AskedCourt$Court" "whom" "[I" "AskedCourt") ∈ lw_tbl := lw_at lw_m1 138 rfl
theorem q280 : (Jvm.Cond.fieldLinkNest "AskedCourt$Reader" (237 : Nat) "AskedCourt$Court" "which" "[I" "AskedCourt") ∈ lw_tbl := lw_at lw_m1 141 rfl
theorem q283 : (Jvm.Cond.fieldLinkNest "AskedCourt$Reader" (174 : Nat) "AskedCourt$Court" "laws" "[LAskedCourt$Part;" "AskedCourt") ∈ lw_tbl := lw_at lw_m1 144 rfl
theorem q284 : (Jvm.Cond.fieldLinkNest "AskedCourt$Reader" (132 : Nat) "AskedCourt$Court" "talk" "I" "AskedCourt") ∈ lw_tbl := lw_at lw_m1 145 rfl
theorem q288 : (Jvm.Cond.fieldLinkNest "AskedCourt$Reader" (168 : Nat) "AskedCourt$Court" "nine" "I" "AskedCourt") ∈ lw_tbl := lw_at lw_m1 149 rfl
theorem q290 : (Jvm.Cond.fieldLinkNest "AskedCourt$Reader" (171 : Nat) "AskedCourt$Court" "seed" "I" "AskedCourt") ∈ lw_tbl := lw_at lw_m1 151 rfl
theorem q291 : (Jvm.Cond.fieldLinkNest "AskedCourt$Reader" (240 : Nat) "AskedCourt$Court" "knots" "I" "AskedCourt") ∈ lw_tbl := lw_at lw_m1 152 rfl
theorem q294 : (Jvm.Cond.fieldLinkNest "AskedCourt$Reader" (185 : Nat) "AskedCourt$Court" "lines" "I" "AskedCourt") ∈ lw_tbl := lw_at lw_m1 155 rfl
theorem q436 : (Jvm.Cond.fieldLinkNest "AskedCourt$Reader" (22 : Nat) "AskedCourt" "tape" "[B" "AskedCourt") ∈ lw_tbl := lw_at lw_m2 57 rfl
theorem q531 : (Jvm.Cond.instanceMethod ({ cls := "AskedCourt$Reader", name := "read", desc := "(I)LAskedCourt$Court;" } : Jvm.MethodName)) ∈ lw_all := lw_g (lw_at lw_m2 152 rfl) rfl
theorem q532 : (Jvm.Cond.selects "AskedCourt$Reader" ({ cls := "AskedCourt$Reader", name := "read", desc := "(I)LAskedCourt$Court;" } : Jvm.MethodName) ({ cls := "AskedCourt$Reader", name := "read", desc := "(I)LAskedCourt$Court;" } : Jvm.MethodName)) ∈ lw_all := lw_g (lw_at lw_m2 153 rfl) rfl
theorem q533 : (Jvm.Cond.code ({ cls := "AskedCourt$Reader", name := "read", desc := "(I)LAskedCourt$Court;" } : Jvm.MethodName) prog_17_method_13_code (2 : Nat) (Option.some (Jvm.ClassFile.FieldType.object "AskedCourt$Court"))) ∈ lw_all := lw_g (lw_at lw_m2 154 rfl) rfl
theorem q534 : (Jvm.Cond.classLink "AskedCourt$Reader" (108 : Nat) "AskedCourt$Court") ∈ lw_all := lw_g (lw_at lw_m2 155 rfl) rfl
theorem q535 : (Jvm.Cond.methodLinkNest "AskedCourt$Reader" (110 : Nat) ({ cls := "AskedCourt$Court", name := "<init>", desc := "()V" } : Jvm.MethodName) "AskedCourt") ∈ lw_tbl := lw_at lw_m2 156 rfl
theorem q536 : (Jvm.Cond.methodLink "AskedCourt$Reader" (93 : Nat) ({ cls := "AskedCourt$Reader", name := "next", desc := "()V" } : Jvm.MethodName)) ∈ lw_all := lw_g (lw_at lw_m2 157 rfl) rfl
theorem q537 : (Jvm.Cond.privateMethod ({ cls := "AskedCourt$Reader", name := "next", desc := "()V" } : Jvm.MethodName)) ∈ lw_tbl := lw_at lw_m2 158 rfl
theorem q538 : (Jvm.Cond.instanceMethod ({ cls := "AskedCourt$Reader", name := "next", desc := "()V" } : Jvm.MethodName)) ∈ lw_all := lw_g (lw_at lw_m2 159 rfl) rfl
theorem q539 : (Jvm.Cond.code ({ cls := "AskedCourt$Reader", name := "next", desc := "()V" } : Jvm.MethodName) prog_17_method_3_code (1 : Nat) (Option.none : Option Jvm.ClassFile.FieldType)) ∈ lw_all := lw_g (lw_at lw_m2 160 rfl) rfl
theorem q540 : (Jvm.Cond.methodLink "AskedCourt$Reader" (26 : Nat) ({ cls := "AskedCourt$Reader", name := "here", desc := "()I" } : Jvm.MethodName)) ∈ lw_all := lw_g (lw_at lw_m2 161 rfl) rfl
theorem q541 : (Jvm.Cond.privateMethod ({ cls := "AskedCourt$Reader", name := "here", desc := "()I" } : Jvm.MethodName)) ∈ lw_tbl := lw_at lw_m2 162 rfl
theorem q542 : (Jvm.Cond.instanceMethod ({ cls := "AskedCourt$Reader", name := "here", desc := "()I" } : Jvm.MethodName)) ∈ lw_all := lw_g (lw_at lw_m2 163 rfl) rfl
theorem q543 : (Jvm.Cond.code ({ cls := "AskedCourt$Reader", name := "here", desc := "()I" } : Jvm.MethodName) prog_17_method_2_code (1 : Nat) (Option.some Jvm.ClassFile.FieldType.int)) ∈ lw_all := lw_g (lw_at lw_m2 164 rfl) rfl
theorem q544 : (Jvm.Cond.constantLong "AskedCourt$Reader" (36 : Nat) (97 : Int64)) ∈ lw_all := lw_g (lw_at lw_m2 165 rfl) rfl
theorem q545 : (Jvm.Cond.constantLong "AskedCourt$Reader" (38 : Nat) (122 : Int64)) ∈ lw_all := lw_g (lw_at lw_m2 166 rfl) rfl
theorem q546 : (Jvm.Cond.methodLinkNest "AskedCourt$Reader" (40 : Nat) ({ cls := "AskedCourt", name := "in", desc := "(JJJ)Z" } : Jvm.MethodName) "AskedCourt") ∈ lw_tbl := lw_at lw_m2 167 rfl
theorem q547 : (Jvm.Cond.methodLink "AskedCourt$Reader" (44 : Nat) ({ cls := "AskedCourt$Reader", name := "word", desc := "()I" } : Jvm.MethodName)) ∈ lw_all := lw_g (lw_at lw_m2 168 rfl) rfl
theorem q548 : (Jvm.Cond.privateMethod ({ cls := "AskedCourt$Reader", name := "word", desc := "()I" } : Jvm.MethodName)) ∈ lw_tbl := lw_at lw_m2 169 rfl
theorem q549 : (Jvm.Cond.instanceMethod ({ cls := "AskedCourt$Reader", name := "word", desc := "()I" } : Jvm.MethodName)) ∈ lw_all := lw_g (lw_at lw_m2 170 rfl) rfl
theorem q550 : (Jvm.Cond.code ({ cls := "AskedCourt$Reader", name := "word", desc := "()I" } : Jvm.MethodName) prog_17_method_5_code (3 : Nat) (Option.some Jvm.ClassFile.FieldType.int)) ∈ lw_all := lw_g (lw_at lw_m2 171 rfl) rfl
theorem q551 : (Jvm.Cond.fieldLinkNest "AskedCourt$Reader" (69 : Nat) "AskedCourt" "NAMES" "[Ljava/lang/String;" "AskedCourt") ∈ lw_tbl := lw_at lw_m2 172 rfl
theorem q553 : (Jvm.Cond.methodLink "AskedCourt$Reader" (73 : Nat) ({ cls := "java/lang/String", name := "length", desc := "()I" } : Jvm.MethodName)) ∈ lw_all := lw_g (lw_at lw_m2 174 rfl) rfl
theorem q563 : (Jvm.Cond.methodLink "AskedCourt$Reader" (76 : Nat) ({ cls := "java/lang/String", name := "charAt", desc := "(I)C" } : Jvm.MethodName)) ∈ lw_all := lw_g (lw_at lw_m2 184 rfl) rfl
theorem q599 : (Jvm.Cond.methodLink "AskedCourt$Reader" (50 : Nat) ({ cls := "AskedCourt$Reader", name := "name", desc := "()V" } : Jvm.MethodName)) ∈ lw_all := lw_g (lw_at lw_m2 220 rfl) rfl
theorem q600 : (Jvm.Cond.privateMethod ({ cls := "AskedCourt$Reader", name := "name", desc := "()V" } : Jvm.MethodName)) ∈ lw_tbl := lw_at lw_m2 221 rfl
theorem q601 : (Jvm.Cond.instanceMethod ({ cls := "AskedCourt$Reader", name := "name", desc := "()V" } : Jvm.MethodName)) ∈ lw_all := lw_g (lw_at lw_m2 222 rfl) rfl
theorem q602 : (Jvm.Cond.code ({ cls := "AskedCourt$Reader", name := "name", desc := "()V" } : Jvm.MethodName) prog_17_method_6_code (2 : Nat) (Option.none : Option Jvm.ClassFile.FieldType)) ∈ lw_all := lw_g (lw_at lw_m2 223 rfl) rfl
theorem q603 : (Jvm.Cond.constantLong "AskedCourt$Reader" (53 : Nat) (48 : Int64)) ∈ lw_all := lw_g (lw_at lw_m2 224 rfl) rfl
theorem q604 : (Jvm.Cond.constantLong "AskedCourt$Reader" (55 : Nat) (57 : Int64)) ∈ lw_all := lw_g (lw_at lw_m2 225 rfl) rfl
theorem q605 : (Jvm.Cond.constant "AskedCourt$Reader" (57 : Nat) (99999 : Int32)) ∈ lw_all := lw_g (lw_at lw_m2 226 rfl) rfl
theorem q606 : (Jvm.Cond.methodLink "AskedCourt$Reader" (58 : Nat) ({ cls := "AskedCourt$Reader", name := "sign", desc := "()V" } : Jvm.MethodName)) ∈ lw_all := lw_g (lw_at lw_m2 227 rfl) rfl
theorem q607 : (Jvm.Cond.privateMethod ({ cls := "AskedCourt$Reader", name := "sign", desc := "()V" } : Jvm.MethodName)) ∈ lw_tbl := lw_at lw_m2 228 rfl
theorem q608 : (Jvm.Cond.instanceMethod ({ cls := "AskedCourt$Reader", name := "sign", desc := "()V" } : Jvm.MethodName)) ∈ lw_all := lw_g (lw_at lw_m2 229 rfl) rfl
theorem q609 : (Jvm.Cond.code ({ cls := "AskedCourt$Reader", name := "sign", desc := "()V" } : Jvm.MethodName) prog_17_method_4_code (2 : Nat) (Option.none : Option Jvm.ClassFile.FieldType)) ∈ lw_all := lw_g (lw_at lw_m2 230 rfl) rfl
theorem q610 : (Jvm.Cond.stringRef "AskedCourt$Reader" (61 : Nat) ";()+-*/<=>") ∈ lw_tbl := lw_at lw_m2 231 rfl
theorem q611 : (Jvm.Cond.methodLink "AskedCourt$Reader" (63 : Nat) ({ cls := "java/lang/String", name := "indexOf", desc := "(I)I" } : Jvm.MethodName)) ∈ lw_all := lw_g (lw_at lw_m2 232 rfl) rfl
theorem q670 : (Jvm.Cond.methodLink "AskedCourt$Reader" (115 : Nat) ({ cls := "AskedCourt$Reader", name := "line", desc := "()V" } : Jvm.MethodName)) ∈ lw_all := lw_g (lw_at lw_m3 51 rfl) rfl
theorem q671 : (Jvm.Cond.privateMethod ({ cls := "AskedCourt$Reader", name := "line", desc := "()V" } : Jvm.MethodName)) ∈ lw_tbl := lw_at lw_m3 52 rfl
theorem q672 : (Jvm.Cond.instanceMethod ({ cls := "AskedCourt$Reader", name := "line", desc := "()V" } : Jvm.MethodName)) ∈ lw_all := lw_g (lw_at lw_m3 53 rfl) rfl
theorem q673 : (Jvm.Cond.code ({ cls := "AskedCourt$Reader", name := "line", desc := "()V" } : Jvm.MethodName) prog_17_method_15_code (3 : Nat) (Option.none : Option Jvm.ClassFile.FieldType)) ∈ lw_all := lw_g (lw_at lw_m3 54 rfl) rfl
theorem q674 : (Jvm.Cond.methodLink "AskedCourt$Reader" (135 : Nat) ({ cls := "AskedCourt$Reader", name := "isWord", desc := "(II)Z" } : Jvm.MethodName)) ∈ lw_all := lw_g (lw_at lw_m3 55 rfl) rfl
theorem q675 : (Jvm.Cond.privateMethod ({ cls := "AskedCourt$Reader", name := "isWord", desc := "(II)Z" } : Jvm.MethodName)) ∈ lw_tbl := lw_at lw_m3 56 rfl
theorem q676 : (Jvm.Cond.instanceMethod ({ cls := "AskedCourt$Reader", name := "isWord", desc := "(II)Z" } : Jvm.MethodName)) ∈ lw_all := lw_g (lw_at lw_m3 57 rfl) rfl
theorem q677 : (Jvm.Cond.code ({ cls := "AskedCourt$Reader", name := "isWord", desc := "(II)Z" } : Jvm.MethodName) prog_17_method_8_code (3 : Nat) (Option.some Jvm.ClassFile.FieldType.boolean)) ∈ lw_all := lw_g (lw_at lw_m3 58 rfl) rfl
theorem q678 : (Jvm.Cond.methodLink "AskedCourt$Reader" (85 : Nat) ({ cls := "AskedCourt$Reader", name := "wrong", desc := "(I)LAskedCourt$Fault;" } : Jvm.MethodName)) ∈ lw_all := lw_g (lw_at lw_m3 59 rfl) rfl
theorem q679 : (Jvm.Cond.privateMethod ({ cls := "AskedCourt$Reader", name := "wrong", desc := "(I)LAskedCourt$Fault;" } : Jvm.MethodName)) ∈ lw_tbl := lw_at lw_m3 60 rfl
theorem q680 : (Jvm.Cond.instanceMethod ({ cls := "AskedCourt$Reader", name := "wrong", desc := "(I)LAskedCourt$Fault;" } : Jvm.MethodName)) ∈ lw_all := lw_g (lw_at lw_m3 61 rfl) rfl
theorem q681 : (Jvm.Cond.code ({ cls := "AskedCourt$Reader", name := "wrong", desc := "(I)LAskedCourt$Fault;" } : Jvm.MethodName) prog_17_method_7_code (2 : Nat) (Option.some (Jvm.ClassFile.FieldType.object "AskedCourt$Fault"))) ∈ lw_all := lw_g (lw_at lw_m3 62 rfl) rfl
theorem q682 : (Jvm.Cond.classLink "AskedCourt$Reader" (80 : Nat) "AskedCourt$Fault") ∈ lw_all := lw_g (lw_at lw_m3 63 rfl) rfl
theorem q723 : (Jvm.Cond.methodLink "AskedCourt$Reader" (82 : Nat) ({ cls := "AskedCourt$Fault", name := "<init>", desc := "(II)V" } : Jvm.MethodName)) ∈ lw_all := lw_g (lw_at lw_m3 104 rfl) rfl
theorem q753 : (Jvm.Cond.methodLink "AskedCourt$Reader" (139 : Nat) ({ cls := "AskedCourt$Reader", name := "isFull", desc := "(I)Z" } : Jvm.MethodName)) ∈ lw_all := lw_g (lw_at lw_m3 134 rfl) rfl
theorem q754 : (Jvm.Cond.privateMethod ({ cls := "AskedCourt$Reader", name := "isFull", desc := "(I)Z" } : Jvm.MethodName)) ∈ lw_tbl := lw_at lw_m3 135 rfl
theorem q755 : (Jvm.Cond.instanceMethod ({ cls := "AskedCourt$Reader", name := "isFull", desc := "(I)Z" } : Jvm.MethodName)) ∈ lw_all := lw_g (lw_at lw_m3 136 rfl) rfl
theorem q756 : (Jvm.Cond.code ({ cls := "AskedCourt$Reader", name := "isFull", desc := "(I)Z" } : Jvm.MethodName) prog_17_method_14_code (2 : Nat) (Option.some Jvm.ClassFile.FieldType.boolean)) ∈ lw_all := lw_g (lw_at lw_m3 137 rfl) rfl
theorem q757 : (Jvm.Cond.methodLink "AskedCourt$Reader" (122 : Nat) ({ cls := "java/util/ArrayList", name := "size", desc := "()I" } : Jvm.MethodName)) ∈ lw_all := lw_g (lw_at lw_m3 138 rfl) rfl
theorem q758 : (Jvm.Cond.classLink "AskedCourt$Reader" (97 : Nat) "AskedCourt$Named") ∈ lw_all := lw_g (lw_at lw_m3 139 rfl) rfl
theorem q760 : (Jvm.Cond.methodLink "AskedCourt$Reader" (143 : Nat) ({ cls := "AskedCourt$Reader", name := "fresh", desc := "(Ljava/util/ArrayList;)I" } : Jvm.MethodName)) ∈ lw_all := lw_g (lw_at lw_m3 141 rfl) rfl
theorem q761 : (Jvm.Cond.privateMethod ({ cls := "AskedCourt$Reader", name := "fresh", desc := "(Ljava/util/ArrayList;)I" } : Jvm.MethodName)) ∈ lw_tbl := lw_at lw_m3 142 rfl
theorem q762 : (Jvm.Cond.instanceMethod ({ cls := "AskedCourt$Reader", name := "fresh", desc := "(Ljava/util/ArrayList;)I" } : Jvm.MethodName)) ∈ lw_all := lw_g (lw_at lw_m3 143 rfl) rfl
theorem q763 : (Jvm.Cond.code ({ cls := "AskedCourt$Reader", name := "fresh", desc := "(Ljava/util/ArrayList;)I" } : Jvm.MethodName) prog_17_method_12_code (3 : Nat) (Option.some Jvm.ClassFile.FieldType.int)) ∈ lw_all := lw_g (lw_at lw_m3 144 rfl) rfl
theorem q764 : (Jvm.Cond.methodLink "AskedCourt$Reader" (96 : Nat) ({ cls := "AskedCourt$Named", name := "find", desc := "(Ljava/util/ArrayList;I)I" } : Jvm.MethodName)) ∈ lw_all := lw_g (lw_at lw_m3 145 rfl) rfl
theorem q770 : (Jvm.Cond.methodLink "AskedCourt$Reader" (147 : Nat) ({ cls := "AskedCourt$Named", name := "<init>", desc := "(I)V" } : Jvm.MethodName)) ∈ lw_all := lw_g (lw_at lw_m3 151 rfl) rfl
theorem q778 : (Jvm.Cond.methodLink "AskedCourt$Reader" (150 : Nat) ({ cls := "java/util/ArrayList", name := "add", desc := "(Ljava/lang/Object;)Z" } : Jvm.MethodName)) ∈ lw_all := lw_g (lw_at lw_m3 159 rfl) rfl
theorem q823 : (Jvm.Cond.selects "AskedCourt$Reader" ({ cls := "java/lang/Object", name := "getClass", desc := "()Ljava/lang/Class;" } : Jvm.MethodName) ({ cls := "java/lang/Object", name := "getClass", desc := "()Ljava/lang/Class;" } : Jvm.MethodName)) ∈ lw_all := lw_g (lw_at lw_m3 204 rfl) rfl
theorem q845 : (Jvm.Cond.methodLink "AskedCourt$Reader" (154 : Nat) ({ cls := "AskedCourt$Reader", name := "person", desc := "()V" } : Jvm.MethodName)) ∈ lw_all := lw_g (lw_at lw_m3 226 rfl) rfl
theorem q846 : (Jvm.Cond.privateMethod ({ cls := "AskedCourt$Reader", name := "person", desc := "()V" } : Jvm.MethodName)) ∈ lw_tbl := lw_at lw_m3 227 rfl
theorem q847 : (Jvm.Cond.instanceMethod ({ cls := "AskedCourt$Reader", name := "person", desc := "()V" } : Jvm.MethodName)) ∈ lw_all := lw_g (lw_at lw_m3 228 rfl) rfl
theorem q848 : (Jvm.Cond.code ({ cls := "AskedCourt$Reader", name := "person", desc := "()V" } : Jvm.MethodName) prog_17_method_18_code (2 : Nat) (Option.none : Option Jvm.ClassFile.FieldType)) ∈ lw_all := lw_g (lw_at lw_m3 229 rfl) rfl
theorem q849 : (Jvm.Cond.classLink "AskedCourt$Reader" (191 : Nat) "AskedCourt$Person") ∈ lw_all := lw_g (lw_at lw_m3 230 rfl) rfl
theorem q851 : (Jvm.Cond.methodLink "AskedCourt$Reader" (193 : Nat) ({ cls := "AskedCourt$Person", name := "<init>", desc := "(I)V" } : Jvm.MethodName)) ∈ lw_all := lw_g (lw_at lw_m3 232 rfl) rfl
theorem q857 : (Jvm.Cond.fieldLinkNest "AskedCourt$Reader" (194 : Nat) "AskedCourt$Person" "lips" "I" "AskedCourt") ∈ lw_tbl := lw_at lw_m3 238 rfl
theorem q860 : (Jvm.Cond.fieldLinkNest "AskedCourt$Reader" (197 : Nat) "AskedCourt$Person" "wit" "I" "AskedCourt") ∈ lw_tbl := lw_at lw_m4 1 rfl
theorem q862 : (Jvm.Cond.fieldLinkNest "AskedCourt$Reader" (200 : Nat) "AskedCourt$Person" "room" "I" "AskedCourt") ∈ lw_tbl := lw_at lw_m4 3 rfl
theorem q864 : (Jvm.Cond.fieldLinkNest "AskedCourt$Reader" (210 : Nat) "AskedCourt$Person" "knows" "I" "AskedCourt") ∈ lw_tbl := lw_at lw_m4 5 rfl
theorem q875 : (Jvm.Cond.methodLink "AskedCourt$Reader" (165 : Nat) ({ cls := "AskedCourt$Reader", name := "number", desc := "(II)I" } : Jvm.MethodName)) ∈ lw_all := lw_g (lw_at lw_m4 16 rfl) rfl
theorem q876 : (Jvm.Cond.privateMethod ({ cls := "AskedCourt$Reader", name := "number", desc := "(II)I" } : Jvm.MethodName)) ∈ lw_tbl := lw_at lw_m4 17 rfl
theorem q877 : (Jvm.Cond.instanceMethod ({ cls := "AskedCourt$Reader", name := "number", desc := "(II)I" } : Jvm.MethodName)) ∈ lw_all := lw_g (lw_at lw_m4 18 rfl) rfl
theorem q878 : (Jvm.Cond.code ({ cls := "AskedCourt$Reader", name := "number", desc := "(II)I" } : Jvm.MethodName) prog_17_method_11_code (4 : Nat) (Option.some Jvm.ClassFile.FieldType.int)) ∈ lw_all := lw_g (lw_at lw_m4 19 rfl) rfl
theorem q879 : (Jvm.Cond.methodLink "AskedCourt$Reader" (89 : Nat) ({ cls := "AskedCourt$Reader", name := "numberAtHand", desc := "(II)I" } : Jvm.MethodName)) ∈ lw_all := lw_g (lw_at lw_m4 20 rfl) rfl
theorem q880 : (Jvm.Cond.privateMethod ({ cls := "AskedCourt$Reader", name := "numberAtHand", desc := "(II)I" } : Jvm.MethodName)) ∈ lw_tbl := lw_at lw_m4 21 rfl
theorem q881 : (Jvm.Cond.instanceMethod ({ cls := "AskedCourt$Reader", name := "numberAtHand", desc := "(II)I" } : Jvm.MethodName)) ∈ lw_all := lw_g (lw_at lw_m4 22 rfl) rfl
theorem q882 : (Jvm.Cond.code ({ cls := "AskedCourt$Reader", name := "numberAtHand", desc := "(II)I" } : Jvm.MethodName) prog_17_method_10_code (3 : Nat) (Option.some Jvm.ClassFile.FieldType.int)) ∈ lw_all := lw_g (lw_at lw_m4 23 rfl) rfl
theorem q883 : (Jvm.Cond.methodLink "AskedCourt$Reader" (157 : Nat) ({ cls := "AskedCourt$Reader", name := "knows", desc := "()V" } : Jvm.MethodName)) ∈ lw_all := lw_g (lw_at lw_m4 24 rfl) rfl
theorem q884 : (Jvm.Cond.privateMethod ({ cls := "AskedCourt$Reader", name := "knows", desc := "()V" } : Jvm.MethodName)) ∈ lw_tbl := lw_at lw_m4 25 rfl
theorem q885 : (Jvm.Cond.instanceMethod ({ cls := "AskedCourt$Reader", name := "knows", desc := "()V" } : Jvm.MethodName)) ∈ lw_all := lw_g (lw_at lw_m4 26 rfl) rfl
theorem q886 : (Jvm.Cond.code ({ cls := "AskedCourt$Reader", name := "knows", desc := "()V" } : Jvm.MethodName) prog_17_method_19_code (3 : Nat) (Option.none : Option Jvm.ClassFile.FieldType)) ∈ lw_all := lw_g (lw_at lw_m4 27 rfl) rfl
theorem q887 : (Jvm.Cond.methodLink "AskedCourt$Reader" (203 : Nat) ({ cls := "AskedCourt$Reader", name := "ahead", desc := "(Ljava/util/ArrayList;)I" } : Jvm.MethodName)) ∈ lw_all := lw_g (lw_at lw_m4 28 rfl) rfl
theorem q888 : (Jvm.Cond.privateMethod ({ cls := "AskedCourt$Reader", name := "ahead", desc := "(Ljava/util/ArrayList;)I" } : Jvm.MethodName)) ∈ lw_tbl := lw_at lw_m4 29 rfl
theorem q889 : (Jvm.Cond.instanceMethod ({ cls := "AskedCourt$Reader", name := "ahead", desc := "(Ljava/util/ArrayList;)I" } : Jvm.MethodName)) ∈ lw_all := lw_g (lw_at lw_m4 30 rfl) rfl
theorem q890 : (Jvm.Cond.code ({ cls := "AskedCourt$Reader", name := "ahead", desc := "(Ljava/util/ArrayList;)I" } : Jvm.MethodName) prog_17_method_17_code (3 : Nat) (Option.some Jvm.ClassFile.FieldType.int)) ∈ lw_all := lw_g (lw_at lw_m4 31 rfl) rfl
theorem q891 : (Jvm.Cond.methodLink "AskedCourt$Reader" (188 : Nat) ({ cls := "AskedCourt$Reader", name := "atHand", desc := "(Ljava/util/ArrayList;)I" } : Jvm.MethodName)) ∈ lw_all := lw_g (lw_at lw_m4 32 rfl) rfl
theorem q892 : (Jvm.Cond.privateMethod ({ cls := "AskedCourt$Reader", name := "atHand", desc := "(Ljava/util/ArrayList;)I" } : Jvm.MethodName)) ∈ lw_tbl := lw_at lw_m4 33 rfl
theorem q893 : (Jvm.Cond.instanceMethod ({ cls := "AskedCourt$Reader", name := "atHand", desc := "(Ljava/util/ArrayList;)I" } : Jvm.MethodName)) ∈ lw_all := lw_g (lw_at lw_m4 34 rfl) rfl
theorem q894 : (Jvm.Cond.code ({ cls := "AskedCourt$Reader", name := "atHand", desc := "(Ljava/util/ArrayList;)I" } : Jvm.MethodName) prog_17_method_16_code (3 : Nat) (Option.some Jvm.ClassFile.FieldType.int)) ∈ lw_all := lw_g (lw_at lw_m4 35 rfl) rfl
theorem q895 : (Jvm.Cond.methodLink "AskedCourt$Reader" (206 : Nat) ({ cls := "java/util/ArrayList", name := "get", desc := "(I)Ljava/lang/Object;" } : Jvm.MethodName)) ∈ lw_all := lw_g (lw_at lw_m4 36 rfl) rfl
theorem q896 : (Jvm.Cond.methodLink "AskedCourt$Reader" (160 : Nat) ({ cls := "AskedCourt$Reader", name := "question", desc := "()V" } : Jvm.MethodName)) ∈ lw_all := lw_g (lw_at lw_m4 37 rfl) rfl
theorem q897 : (Jvm.Cond.privateMethod ({ cls := "AskedCourt$Reader", name := "question", desc := "()V" } : Jvm.MethodName)) ∈ lw_tbl := lw_at lw_m4 38 rfl
theorem q898 : (Jvm.Cond.instanceMethod ({ cls := "AskedCourt$Reader", name := "question", desc := "()V" } : Jvm.MethodName)) ∈ lw_all := lw_g (lw_at lw_m4 39 rfl) rfl
theorem q899 : (Jvm.Cond.code ({ cls := "AskedCourt$Reader", name := "question", desc := "()V" } : Jvm.MethodName) prog_17_method_21_code (2 : Nat) (Option.none : Option Jvm.ClassFile.FieldType)) ∈ lw_all := lw_g (lw_at lw_m4 40 rfl) rfl
theorem q900 : (Jvm.Cond.classLink "AskedCourt$Reader" (212 : Nat) "AskedCourt$Question") ∈ lw_all := lw_g (lw_at lw_m4 41 rfl) rfl
theorem q902 : (Jvm.Cond.methodLink "AskedCourt$Reader" (214 : Nat) ({ cls := "AskedCourt$Question", name := "<init>", desc := "(I)V" } : Jvm.MethodName)) ∈ lw_all := lw_g (lw_at lw_m4 43 rfl) rfl
theorem q908 : (Jvm.Cond.fieldLinkNest "AskedCourt$Reader" (215 : Nat) "AskedCourt$Question" "kind" "I" "AskedCourt") ∈ lw_tbl := lw_at lw_m4 49 rfl
theorem q911 : (Jvm.Cond.fieldLinkNest "AskedCourt$Reader" (221 : Nat) "AskedCourt$Question" "supposes" "I" "AskedCourt") ∈ lw_tbl := lw_at lw_m4 52 rfl
theorem q914 : (Jvm.Cond.fieldLinkNest "AskedCourt$Reader" (224 : Nat) "AskedCourt$Question" "also" "I" "AskedCourt") ∈ lw_tbl := lw_at lw_m4 55 rfl
theorem q917 : (Jvm.Cond.fieldLinkNest "AskedCourt$Reader" (227 : Nat) "AskedCourt$Question" "asks" "I" "AskedCourt") ∈ lw_tbl := lw_at lw_m4 58 rfl
theorem q928 : (Jvm.Cond.methodLink "AskedCourt$Reader" (218 : Nat) ({ cls := "AskedCourt$Reader", name := "some", desc := "()I" } : Jvm.MethodName)) ∈ lw_all := lw_g (lw_at lw_m4 69 rfl) rfl
theorem q929 : (Jvm.Cond.privateMethod ({ cls := "AskedCourt$Reader", name := "some", desc := "()I" } : Jvm.MethodName)) ∈ lw_tbl := lw_at lw_m4 70 rfl
theorem q930 : (Jvm.Cond.instanceMethod ({ cls := "AskedCourt$Reader", name := "some", desc := "()I" } : Jvm.MethodName)) ∈ lw_all := lw_g (lw_at lw_m4 71 rfl) rfl
theorem q931 : (Jvm.Cond.code ({ cls := "AskedCourt$Reader", name := "some", desc := "()I" } : Jvm.MethodName) prog_17_method_20_code (1 : Nat) (Option.some Jvm.ClassFile.FieldType.int)) ∈ lw_all := lw_g (lw_at lw_m4 72 rfl) rfl
theorem q932 : (Jvm.Cond.methodLink "AskedCourt$Reader" (163 : Nat) ({ cls := "AskedCourt$Reader", name := "talk", desc := "()V" } : Jvm.MethodName)) ∈ lw_all := lw_g (lw_at lw_m4 73 rfl) rfl
theorem q933 : (Jvm.Cond.privateMethod ({ cls := "AskedCourt$Reader", name := "talk", desc := "()V" } : Jvm.MethodName)) ∈ lw_tbl := lw_at lw_m4 74 rfl
theorem q934 : (Jvm.Cond.instanceMethod ({ cls := "AskedCourt$Reader", name := "talk", desc := "()V" } : Jvm.MethodName)) ∈ lw_all := lw_g (lw_at lw_m4 75 rfl) rfl
theorem q935 : (Jvm.Cond.code ({ cls := "AskedCourt$Reader", name := "talk", desc := "()V" } : Jvm.MethodName) prog_17_method_22_code (4 : Nat) (Option.none : Option Jvm.ClassFile.FieldType)) ∈ lw_all := lw_g (lw_at lw_m4 76 rfl) rfl
theorem q936 : (Jvm.Cond.methodLink "AskedCourt$Reader" (178 : Nat) ({ cls := "AskedCourt$Reader", name := "or", desc := "()LAskedCourt$Part;" } : Jvm.MethodName)) ∈ lw_all := lw_g (lw_at lw_m4 77 rfl) rfl
theorem q937 : (Jvm.Cond.privateMethod ({ cls := "AskedCourt$Reader", name := "or", desc := "()LAskedCourt$Part;" } : Jvm.MethodName)) ∈ lw_tbl := lw_at lw_m4 78 rfl
theorem q938 : (Jvm.Cond.instanceMethod ({ cls := "AskedCourt$Reader", name := "or", desc := "()LAskedCourt$Part;" } : Jvm.MethodName)) ∈ lw_all := lw_g (lw_at lw_m4 79 rfl) rfl
theorem q939 : (Jvm.Cond.code ({ cls := "AskedCourt$Reader", name := "or", desc := "()LAskedCourt$Part;" } : Jvm.MethodName) prog_17_method_24_code (3 : Nat) (Option.some (Jvm.ClassFile.FieldType.object "AskedCourt$Part"))) ∈ lw_all := lw_g (lw_at lw_m4 80 rfl) rfl
theorem q940 : (Jvm.Cond.methodLink "AskedCourt$Reader" (243 : Nat) ({ cls := "AskedCourt$Reader", name := "and", desc := "()LAskedCourt$Part;" } : Jvm.MethodName)) ∈ lw_all := lw_g (lw_at lw_m4 81 rfl) rfl
theorem q941 : (Jvm.Cond.privateMethod ({ cls := "AskedCourt$Reader", name := "and", desc := "()LAskedCourt$Part;" } : Jvm.MethodName)) ∈ lw_tbl := lw_at lw_m4 82 rfl
theorem q942 : (Jvm.Cond.instanceMethod ({ cls := "AskedCourt$Reader", name := "and", desc := "()LAskedCourt$Part;" } : Jvm.MethodName)) ∈ lw_all := lw_g (lw_at lw_m4 83 rfl) rfl
theorem q943 : (Jvm.Cond.code ({ cls := "AskedCourt$Reader", name := "and", desc := "()LAskedCourt$Part;" } : Jvm.MethodName) prog_17_method_25_code (3 : Nat) (Option.some (Jvm.ClassFile.FieldType.object "AskedCourt$Part"))) ∈ lw_all := lw_g (lw_at lw_m4 84 rfl) rfl
theorem q944 : (Jvm.Cond.methodLink "AskedCourt$Reader" (254 : Nat) ({ cls := "AskedCourt$Reader", name := "not", desc := "()LAskedCourt$Part;" } : Jvm.MethodName)) ∈ lw_all := lw_g (lw_at lw_m4 85 rfl) rfl
theorem q945 : (Jvm.Cond.privateMethod ({ cls := "AskedCourt$Reader", name := "not", desc := "()LAskedCourt$Part;" } : Jvm.MethodName)) ∈ lw_tbl := lw_at lw_m4 86 rfl
theorem q946 : (Jvm.Cond.instanceMethod ({ cls := "AskedCourt$Reader", name := "not", desc := "()LAskedCourt$Part;" } : Jvm.MethodName)) ∈ lw_all := lw_g (lw_at lw_m4 87 rfl) rfl
theorem q947 : (Jvm.Cond.code ({ cls := "AskedCourt$Reader", name := "not", desc := "()LAskedCourt$Part;" } : Jvm.MethodName) prog_17_method_26_code (1 : Nat) (Option.some (Jvm.ClassFile.FieldType.object "AskedCourt$Part"))) ∈ lw_all := lw_g (lw_at lw_m4 88 rfl) rfl
theorem q948 : (Jvm.Cond.methodLink "AskedCourt$Reader" (257 : Nat) ({ cls := "AskedCourt$Reader", name := "compare", desc := "()LAskedCourt$Part;" } : Jvm.MethodName)) ∈ lw_all := lw_g (lw_at lw_m4 89 rfl) rfl
theorem q949 : (Jvm.Cond.privateMethod ({ cls := "AskedCourt$Reader", name := "compare", desc := "()LAskedCourt$Part;" } : Jvm.MethodName)) ∈ lw_tbl := lw_at lw_m4 90 rfl
theorem q950 : (Jvm.Cond.instanceMethod ({ cls := "AskedCourt$Reader", name := "compare", desc := "()LAskedCourt$Part;" } : Jvm.MethodName)) ∈ lw_all := lw_g (lw_at lw_m4 91 rfl) rfl
theorem q951 : (Jvm.Cond.code ({ cls := "AskedCourt$Reader", name := "compare", desc := "()LAskedCourt$Part;" } : Jvm.MethodName) prog_17_method_27_code (3 : Nat) (Option.some (Jvm.ClassFile.FieldType.object "AskedCourt$Part"))) ∈ lw_all := lw_g (lw_at lw_m4 92 rfl) rfl
theorem q952 : (Jvm.Cond.methodLink "AskedCourt$Reader" (265 : Nat) ({ cls := "AskedCourt$Reader", name := "sum", desc := "()LAskedCourt$Part;" } : Jvm.MethodName)) ∈ lw_all := lw_g (lw_at lw_m4 93 rfl) rfl
theorem q953 : (Jvm.Cond.privateMethod ({ cls := "AskedCourt$Reader", name := "sum", desc := "()LAskedCourt$Part;" } : Jvm.MethodName)) ∈ lw_tbl := lw_at lw_m4 94 rfl
theorem q954 : (Jvm.Cond.instanceMethod ({ cls := "AskedCourt$Reader", name := "sum", desc := "()LAskedCourt$Part;" } : Jvm.MethodName)) ∈ lw_all := lw_g (lw_at lw_m4 95 rfl) rfl
theorem q955 : (Jvm.Cond.code ({ cls := "AskedCourt$Reader", name := "sum", desc := "()LAskedCourt$Part;" } : Jvm.MethodName) prog_17_method_28_code (3 : Nat) (Option.some (Jvm.ClassFile.FieldType.object "AskedCourt$Part"))) ∈ lw_all := lw_g (lw_at lw_m4 96 rfl) rfl
theorem q956 : (Jvm.Cond.methodLink "AskedCourt$Reader" (268 : Nat) ({ cls := "AskedCourt$Reader", name := "product", desc := "()LAskedCourt$Part;" } : Jvm.MethodName)) ∈ lw_all := lw_g (lw_at lw_m4 97 rfl) rfl
theorem q957 : (Jvm.Cond.privateMethod ({ cls := "AskedCourt$Reader", name := "product", desc := "()LAskedCourt$Part;" } : Jvm.MethodName)) ∈ lw_tbl := lw_at lw_m4 98 rfl
theorem q958 : (Jvm.Cond.instanceMethod ({ cls := "AskedCourt$Reader", name := "product", desc := "()LAskedCourt$Part;" } : Jvm.MethodName)) ∈ lw_all := lw_g (lw_at lw_m4 99 rfl) rfl
theorem q959 : (Jvm.Cond.code ({ cls := "AskedCourt$Reader", name := "product", desc := "()LAskedCourt$Part;" } : Jvm.MethodName) prog_17_method_29_code (3 : Nat) (Option.some (Jvm.ClassFile.FieldType.object "AskedCourt$Part"))) ∈ lw_all := lw_g (lw_at lw_m4 100 rfl) rfl
theorem q960 : (Jvm.Cond.methodLink "AskedCourt$Reader" (271 : Nat) ({ cls := "AskedCourt$Reader", name := "one", desc := "()LAskedCourt$Part;" } : Jvm.MethodName)) ∈ lw_all := lw_g (lw_at lw_m4 101 rfl) rfl
theorem q961 : (Jvm.Cond.privateMethod ({ cls := "AskedCourt$Reader", name := "one", desc := "()LAskedCourt$Part;" } : Jvm.MethodName)) ∈ lw_tbl := lw_at lw_m4 102 rfl
theorem q962 : (Jvm.Cond.instanceMethod ({ cls := "AskedCourt$Reader", name := "one", desc := "()LAskedCourt$Part;" } : Jvm.MethodName)) ∈ lw_all := lw_g (lw_at lw_m4 103 rfl) rfl
theorem q963 : (Jvm.Cond.code ({ cls := "AskedCourt$Reader", name := "one", desc := "()LAskedCourt$Part;" } : Jvm.MethodName) prog_17_method_30_code (2 : Nat) (Option.some (Jvm.ClassFile.FieldType.object "AskedCourt$Part"))) ∈ lw_all := lw_g (lw_at lw_m4 104 rfl) rfl
theorem q964 : (Jvm.Cond.methodLink "AskedCourt$Reader" (182 : Nat) ({ cls := "AskedCourt$Reader", name := "isSign", desc := "(I)Z" } : Jvm.MethodName)) ∈ lw_all := lw_g (lw_at lw_m4 105 rfl) rfl
theorem q965 : (Jvm.Cond.privateMethod ({ cls := "AskedCourt$Reader", name := "isSign", desc := "(I)Z" } : Jvm.MethodName)) ∈ lw_tbl := lw_at lw_m4 106 rfl
theorem q966 : (Jvm.Cond.instanceMethod ({ cls := "AskedCourt$Reader", name := "isSign", desc := "(I)Z" } : Jvm.MethodName)) ∈ lw_all := lw_g (lw_at lw_m4 107 rfl) rfl
theorem q967 : (Jvm.Cond.code ({ cls := "AskedCourt$Reader", name := "isSign", desc := "(I)Z" } : Jvm.MethodName) prog_17_method_9_code (2 : Nat) (Option.some Jvm.ClassFile.FieldType.boolean)) ∈ lw_all := lw_g (lw_at lw_m4 108 rfl) rfl
theorem q968 : (Jvm.Cond.classLink "AskedCourt$Reader" (274 : Nat) "AskedCourt$Number") ∈ lw_all := lw_g (lw_at lw_m4 109 rfl) rfl
theorem q970 : (Jvm.Cond.methodLink "AskedCourt$Reader" (246 : Nat) ({ cls := "AskedCourt$Reader", name := "knot", desc := "()I" } : Jvm.MethodName)) ∈ lw_all := lw_g (lw_at lw_m4 111 rfl) rfl
theorem q971 : (Jvm.Cond.privateMethod ({ cls := "AskedCourt$Reader", name := "knot", desc := "()I" } : Jvm.MethodName)) ∈ lw_tbl := lw_at lw_m4 112 rfl
theorem q972 : (Jvm.Cond.instanceMethod ({ cls := "AskedCourt$Reader", name := "knot", desc := "()I" } : Jvm.MethodName)) ∈ lw_all := lw_g (lw_at lw_m4 113 rfl) rfl
theorem q973 : (Jvm.Cond.code ({ cls := "AskedCourt$Reader", name := "knot", desc := "()I" } : Jvm.MethodName) prog_17_method_23_code (2 : Nat) (Option.some Jvm.ClassFile.FieldType.int)) ∈ lw_all := lw_g (lw_at lw_m4 114 rfl) rfl
theorem q974 : (Jvm.Cond.methodLink "AskedCourt$Reader" (276 : Nat) ({ cls := "AskedCourt$Number", name := "<init>", desc := "(I)V" } : Jvm.MethodName)) ∈ lw_all := lw_g (lw_at lw_m4 115 rfl) rfl
theorem q985 : (Jvm.Cond.classLink "AskedCourt$Reader" (277 : Nat) "AskedCourt$Name") ∈ lw_all := lw_g (lw_at lw_m4 126 rfl) rfl
theorem q987 : (Jvm.Cond.methodLink "AskedCourt$Reader" (279 : Nat) ({ cls := "AskedCourt$Name", name := "<init>", desc := "(I)V" } : Jvm.MethodName)) ∈ lw_all := lw_g (lw_at lw_m4 128 rfl) rfl
theorem q995 : (Jvm.Cond.classLink "AskedCourt$Reader" (249 : Nat) "AskedCourt$Two") ∈ lw_all := lw_g (lw_at lw_m4 136 rfl) rfl
theorem q997 : (Jvm.Cond.methodLink "AskedCourt$Reader" (251 : Nat) ({ cls := "AskedCourt$Two", name := "<init>", desc := "(ILAskedCourt$Part;LAskedCourt$Part;)V" } : Jvm.MethodName)) ∈ lw_all := lw_g (lw_at lw_m4 138 rfl) rfl
theorem q1016 : (Jvm.Cond.classLink "AskedCourt$Reader" (260 : Nat) "AskedCourt$Not") ∈ lw_all := lw_g (lw_at lw_m4 157 rfl) rfl
theorem q1018 : (Jvm.Cond.methodLink "AskedCourt$Reader" (262 : Nat) ({ cls := "AskedCourt$Not", name := "<init>", desc := "(LAskedCourt$Part;)V" } : Jvm.MethodName)) ∈ lw_all := lw_g (lw_at lw_m4 159 rfl) rfl
theorem q2336 : (Jvm.Cond.castable "AskedCourt$Reader" "java/lang/Object") ∈ lw_tbl := lw_at lw_m10 37 rfl
theorem in_X2 : ∀ w ∈ wsX20, w ∈ lw_all := lw_in wsX20 [205, 207, 209, 211, 213, 215, 217, 219, 221] (by decide +kernel) (by decide +kernel)

/-! AskedCourt$Leaf -/
set_option maxRecDepth 100000
def RX20 : String := "AskedCourt$Leaf"
abbrev cX20_init : ByteArray := prog_7_method_1_code
def yX20_init : MethodName := ⟨RX20, "<init>", "()V"⟩
abbrev cX20_struck : ByteArray := prog_7_method_2_code
def yX20_struck : MethodName := ⟨RX20, "struck", "()I"⟩
abbrev cX20_behind : ByteArray := prog_7_method_3_code
def yX20_behind : MethodName := ⟨RX20, "behind", "()I"⟩
abbrev cX20_isSo : ByteArray := prog_7_method_4_code
def yX20_isSo : MethodName := ⟨RX20, "isSo", "(LAskedCourt$State;)Z"⟩
theorem q179 : (Jvm.Cond.initialized "AskedCourt$Leaf") ∈ lw_all := lw_g (lw_at lw_m1 40 rfl) rfl
theorem q1393 : (Jvm.Cond.instanceMethod ({ cls := "AskedCourt$Leaf", name := "<init>", desc := "()V" } : Jvm.MethodName)) ∈ lw_all := lw_g (lw_at lw_m6 54 rfl) rfl
theorem q1394 : (Jvm.Cond.code ({ cls := "AskedCourt$Leaf", name := "<init>", desc := "()V" } : Jvm.MethodName) prog_7_method_1_code (1 : Nat) (Option.none : Option Jvm.ClassFile.FieldType)) ∈ lw_all := lw_g (lw_at lw_m6 55 rfl) rfl
theorem q1395 : (Jvm.Cond.methodLink "AskedCourt$Leaf" (3 : Nat) ({ cls := "java/lang/Object", name := "<init>", desc := "()V" } : Jvm.MethodName)) ∈ lw_all := lw_g (lw_at lw_m6 56 rfl) rfl
theorem q1443 : (Jvm.Cond.instanceMethod ({ cls := "AskedCourt$Leaf", name := "struck", desc := "()I" } : Jvm.MethodName)) ∈ lw_all := lw_g (lw_at lw_m6 104 rfl) rfl
theorem q1444 : (Jvm.Cond.sameMethod "AskedCourt$Leaf" "AskedCourt$Leaf" "struck" "()I") ∈ lw_all := lw_g (lw_at lw_m6 105 rfl) rfl
theorem q1449 : (Jvm.Cond.code ({ cls := "AskedCourt$Leaf", name := "struck", desc := "()I" } : Jvm.MethodName) prog_7_method_2_code (1 : Nat) (Option.some Jvm.ClassFile.FieldType.int)) ∈ lw_all := lw_g (lw_at lw_m6 110 rfl) rfl
theorem q1459 : (Jvm.Cond.instanceMethod ({ cls := "AskedCourt$Leaf", name := "behind", desc := "()I" } : Jvm.MethodName)) ∈ lw_all := lw_g (lw_at lw_m6 120 rfl) rfl
theorem q1460 : (Jvm.Cond.sameMethod "AskedCourt$Leaf" "AskedCourt$Leaf" "behind" "()I") ∈ lw_all := lw_g (lw_at lw_m6 121 rfl) rfl
theorem q1465 : (Jvm.Cond.code ({ cls := "AskedCourt$Leaf", name := "behind", desc := "()I" } : Jvm.MethodName) prog_7_method_3_code (1 : Nat) (Option.some Jvm.ClassFile.FieldType.int)) ∈ lw_all := lw_g (lw_at lw_m6 126 rfl) rfl
theorem q1467 : (Jvm.Cond.instanceMethod ({ cls := "AskedCourt$Leaf", name := "isSo", desc := "(LAskedCourt$State;)Z" } : Jvm.MethodName)) ∈ lw_all := lw_g (lw_at lw_m6 128 rfl) rfl
theorem q1468 : (Jvm.Cond.sameMethod "AskedCourt$Leaf" "AskedCourt$Leaf" "isSo" "(LAskedCourt$State;)Z") ∈ lw_all := lw_g (lw_at lw_m6 129 rfl) rfl
theorem q1473 : (Jvm.Cond.code ({ cls := "AskedCourt$Leaf", name := "isSo", desc := "(LAskedCourt$State;)Z" } : Jvm.MethodName) prog_7_method_4_code (2 : Nat) (Option.some Jvm.ClassFile.FieldType.boolean)) ∈ lw_all := lw_g (lw_at lw_m6 134 rfl) rfl

/-! AskedCourt$Note -/
set_option maxRecDepth 100000
def RX21 : String := "AskedCourt$Note"
def TX21 : u_T := fun k => match k with
  | 0 => ("AskedCourt$Note", "behind", "I", true)
  | 1 => ("AskedCourt$Note", "person", "I", true)
  | 2 => ("AskedCourt$Note", "fact", "I", true)
  | _ => ("AskedCourt$Note", "is", "Z", true)
def tyX21 : Nat → FieldType := fun k => match k with
  | 0 => .int
  | 1 => .int
  | 2 => .int
  | _ => .boolean
abbrev wsX210 : List Cond := u_ws RX21 TX21 4
theorem nmX21 : ∀ a, a < 4 → ∀ b, b < 4 → a ≠ b → (TX21 a).2.1 ≠ (TX21 b).2.1 := by decide +kernel
theorem tyX21_ok : ∀ k, k < 4 → parseFieldDescriptor (TX21 k).2.2.1 = some (tyX21 k) := by decide +kernel
abbrev cX21_init : ByteArray := prog_11_method_1_code
def yX21_init : MethodName := ⟨RX21, "<init>", "(IIIZ)V"⟩
abbrev cX21_behind : ByteArray := prog_11_method_2_code
def yX21_behind : MethodName := ⟨RX21, "behind", "()I"⟩
abbrev cX21_isSo : ByteArray := prog_11_method_3_code
def yX21_isSo : MethodName := ⟨RX21, "isSo", "(LAskedCourt$State;)Z"⟩
theorem q180 : (Jvm.Cond.initialized "AskedCourt$Note") ∈ lw_all := lw_g (lw_at lw_m1 41 rfl) rfl
theorem q362 : (Jvm.Cond.fieldLinkNest "AskedCourt$Note" (23 : Nat) "AskedCourt$State" "knows" "[I" "AskedCourt") ∈ lw_tbl := lw_at lw_m1 223 rfl
theorem q818 : (Jvm.Cond.selects "AskedCourt$Note" ({ cls := "java/lang/Object", name := "getClass", desc := "()Ljava/lang/Class;" } : Jvm.MethodName) ({ cls := "java/lang/Object", name := "getClass", desc := "()Ljava/lang/Class;" } : Jvm.MethodName)) ∈ lw_all := lw_g (lw_at lw_m3 199 rfl) rfl
theorem q1388 : (Jvm.Cond.instantiable "AskedCourt$Note" (4 : Nat)) ∈ lw_all := lw_g (lw_at lw_m6 49 rfl) rfl
theorem q1390 : (Jvm.Cond.instanceMethod ({ cls := "AskedCourt$Note", name := "<init>", desc := "(IIIZ)V" } : Jvm.MethodName)) ∈ lw_all := lw_g (lw_at lw_m6 51 rfl) rfl
theorem q1391 : (Jvm.Cond.code ({ cls := "AskedCourt$Note", name := "<init>", desc := "(IIIZ)V" } : Jvm.MethodName) prog_11_method_1_code (5 : Nat) (Option.none : Option Jvm.ClassFile.FieldType)) ∈ lw_all := lw_g (lw_at lw_m6 52 rfl) rfl
theorem q1392 : (Jvm.Cond.methodLinkNest "AskedCourt$Note" (1 : Nat) ({ cls := "AskedCourt$Leaf", name := "<init>", desc := "()V" } : Jvm.MethodName) "AskedCourt") ∈ lw_tbl := lw_at lw_m6 53 rfl
theorem q1396 : (Jvm.Cond.fieldLink "AskedCourt$Note" (7 : Nat) "AskedCourt$Note" "behind" "I") ∈ lw_all := lw_g (lw_at lw_m6 57 rfl) rfl
theorem q1397 : (Jvm.Cond.fieldLink "AskedCourt$Note" (13 : Nat) "AskedCourt$Note" "person" "I") ∈ lw_all := lw_g (lw_at lw_m6 58 rfl) rfl
theorem q1398 : (Jvm.Cond.fieldLink "AskedCourt$Note" (16 : Nat) "AskedCourt$Note" "fact" "I") ∈ lw_all := lw_g (lw_at lw_m6 59 rfl) rfl
theorem q1399 : (Jvm.Cond.fieldLink "AskedCourt$Note" (19 : Nat) "AskedCourt$Note" "is" "Z") ∈ lw_all := lw_g (lw_at lw_m6 60 rfl) rfl
theorem q1400 : (Jvm.Cond.laysFinal "AskedCourt$Note" "AskedCourt$Note" "behind" "I") ∈ lw_all := lw_g (lw_at lw_m6 61 rfl) rfl
theorem q1401 : (Jvm.Cond.soleField "AskedCourt$Note" "behind") ∈ lw_all := lw_g (lw_at lw_m6 62 rfl) rfl
theorem q1402 : (Jvm.Cond.laysFinal "AskedCourt$Note" "AskedCourt$Note" "person" "I") ∈ lw_all := lw_g (lw_at lw_m6 63 rfl) rfl
theorem q1403 : (Jvm.Cond.soleField "AskedCourt$Note" "person") ∈ lw_all := lw_g (lw_at lw_m6 64 rfl) rfl
theorem q1404 : (Jvm.Cond.laysFinal "AskedCourt$Note" "AskedCourt$Note" "fact" "I") ∈ lw_all := lw_g (lw_at lw_m6 65 rfl) rfl
theorem q1405 : (Jvm.Cond.soleField "AskedCourt$Note" "fact") ∈ lw_all := lw_g (lw_at lw_m6 66 rfl) rfl
theorem q1406 : (Jvm.Cond.laysFinal "AskedCourt$Note" "AskedCourt$Note" "is" "Z") ∈ lw_all := lw_g (lw_at lw_m6 67 rfl) rfl
theorem q1407 : (Jvm.Cond.soleField "AskedCourt$Note" "is") ∈ lw_all := lw_g (lw_at lw_m6 68 rfl) rfl
theorem q1408 : (Jvm.Cond.superclass "AskedCourt$Note" "AskedCourt$Leaf") ∈ lw_all := lw_g (lw_at lw_m6 69 rfl) rfl
theorem q1445 : (Jvm.Cond.selects "AskedCourt$Note" ({ cls := "AskedCourt$Leaf", name := "struck", desc := "()I" } : Jvm.MethodName) ({ cls := "AskedCourt$Leaf", name := "struck", desc := "()I" } : Jvm.MethodName)) ∈ lw_all := lw_g (lw_at lw_m6 106 rfl) rfl
theorem q1461 : (Jvm.Cond.selects "AskedCourt$Note" ({ cls := "AskedCourt$Leaf", name := "behind", desc := "()I" } : Jvm.MethodName) ({ cls := "AskedCourt$Note", name := "behind", desc := "()I" } : Jvm.MethodName)) ∈ lw_all := lw_g (lw_at lw_m6 122 rfl) rfl
theorem q1462 : (Jvm.Cond.instanceMethod ({ cls := "AskedCourt$Note", name := "behind", desc := "()I" } : Jvm.MethodName)) ∈ lw_all := lw_g (lw_at lw_m6 123 rfl) rfl
theorem q1463 : (Jvm.Cond.code ({ cls := "AskedCourt$Note", name := "behind", desc := "()I" } : Jvm.MethodName) prog_11_method_2_code (1 : Nat) (Option.some Jvm.ClassFile.FieldType.int)) ∈ lw_all := lw_g (lw_at lw_m6 124 rfl) rfl
theorem q1469 : (Jvm.Cond.selects "AskedCourt$Note" ({ cls := "AskedCourt$Leaf", name := "isSo", desc := "(LAskedCourt$State;)Z" } : Jvm.MethodName) ({ cls := "AskedCourt$Note", name := "isSo", desc := "(LAskedCourt$State;)Z" } : Jvm.MethodName)) ∈ lw_all := lw_g (lw_at lw_m6 130 rfl) rfl
theorem q1470 : (Jvm.Cond.instanceMethod ({ cls := "AskedCourt$Note", name := "isSo", desc := "(LAskedCourt$State;)Z" } : Jvm.MethodName)) ∈ lw_all := lw_g (lw_at lw_m6 131 rfl) rfl
theorem q1471 : (Jvm.Cond.code ({ cls := "AskedCourt$Note", name := "isSo", desc := "(LAskedCourt$State;)Z" } : Jvm.MethodName) prog_11_method_3_code (2 : Nat) (Option.some Jvm.ClassFile.FieldType.boolean)) ∈ lw_all := lw_g (lw_at lw_m6 132 rfl) rfl
theorem q2329 : (Jvm.Cond.castable "AskedCourt$Note" "AskedCourt$Leaf") ∈ lw_tbl := lw_at lw_m10 30 rfl
theorem q2356 : (Jvm.Cond.castable "AskedCourt$Note" "java/lang/Object") ∈ lw_tbl := lw_at lw_m10 57 rfl
theorem in_X21 : ∀ w ∈ wsX210, w ∈ lw_all := lw_in wsX210 [1400, 1402, 1404, 1406] (by decide +kernel) (by decide +kernel)

/-! AskedCourt$Strike -/
set_option maxRecDepth 100000
def RX22 : String := "AskedCourt$Strike"
def TX22 : u_T := fun k => match k with
  | _ => ("AskedCourt$Strike", "its", "I", true)
def tyX22 : Nat → FieldType := fun k => match k with
  | _ => .int
abbrev wsX220 : List Cond := u_ws RX22 TX22 1
theorem nmX22 : ∀ a, a < 1 → ∀ b, b < 1 → a ≠ b → (TX22 a).2.1 ≠ (TX22 b).2.1 := by decide +kernel
theorem tyX22_ok : ∀ k, k < 1 → parseFieldDescriptor (TX22 k).2.2.1 = some (tyX22 k) := by decide +kernel
abbrev cX22_init : ByteArray := prog_19_method_1_code
def yX22_init : MethodName := ⟨RX22, "<init>", "(I)V"⟩
abbrev cX22_struck : ByteArray := prog_19_method_2_code
def yX22_struck : MethodName := ⟨RX22, "struck", "()I"⟩
theorem q181 : (Jvm.Cond.initialized "AskedCourt$Strike") ∈ lw_all := lw_g (lw_at lw_m1 42 rfl) rfl
theorem q825 : (Jvm.Cond.selects "AskedCourt$Strike" ({ cls := "java/lang/Object", name := "getClass", desc := "()Ljava/lang/Class;" } : Jvm.MethodName) ({ cls := "java/lang/Object", name := "getClass", desc := "()Ljava/lang/Class;" } : Jvm.MethodName)) ∈ lw_all := lw_g (lw_at lw_m3 206 rfl) rfl
theorem q1419 : (Jvm.Cond.instantiable "AskedCourt$Strike" (1 : Nat)) ∈ lw_all := lw_g (lw_at lw_m6 80 rfl) rfl
theorem q1421 : (Jvm.Cond.instanceMethod ({ cls := "AskedCourt$Strike", name := "<init>", desc := "(I)V" } : Jvm.MethodName)) ∈ lw_all := lw_g (lw_at lw_m6 82 rfl) rfl
theorem q1422 : (Jvm.Cond.code ({ cls := "AskedCourt$Strike", name := "<init>", desc := "(I)V" } : Jvm.MethodName) prog_19_method_1_code (2 : Nat) (Option.none : Option Jvm.ClassFile.FieldType)) ∈ lw_all := lw_g (lw_at lw_m6 83 rfl) rfl
theorem q1423 : (Jvm.Cond.methodLinkNest "AskedCourt$Strike" (1 : Nat) ({ cls := "AskedCourt$Leaf", name := "<init>", desc := "()V" } : Jvm.MethodName) "AskedCourt") ∈ lw_tbl := lw_at lw_m6 84 rfl
theorem q1424 : (Jvm.Cond.fieldLink "AskedCourt$Strike" (7 : Nat) "AskedCourt$Strike" "its" "I") ∈ lw_all := lw_g (lw_at lw_m6 85 rfl) rfl
theorem q1425 : (Jvm.Cond.laysFinal "AskedCourt$Strike" "AskedCourt$Strike" "its" "I") ∈ lw_all := lw_g (lw_at lw_m6 86 rfl) rfl
theorem q1426 : (Jvm.Cond.soleField "AskedCourt$Strike" "its") ∈ lw_all := lw_g (lw_at lw_m6 87 rfl) rfl
theorem q1427 : (Jvm.Cond.superclass "AskedCourt$Strike" "AskedCourt$Leaf") ∈ lw_all := lw_g (lw_at lw_m6 88 rfl) rfl
theorem q1446 : (Jvm.Cond.selects "AskedCourt$Strike" ({ cls := "AskedCourt$Leaf", name := "struck", desc := "()I" } : Jvm.MethodName) ({ cls := "AskedCourt$Strike", name := "struck", desc := "()I" } : Jvm.MethodName)) ∈ lw_all := lw_g (lw_at lw_m6 107 rfl) rfl
theorem q1447 : (Jvm.Cond.instanceMethod ({ cls := "AskedCourt$Strike", name := "struck", desc := "()I" } : Jvm.MethodName)) ∈ lw_all := lw_g (lw_at lw_m6 108 rfl) rfl
theorem q1448 : (Jvm.Cond.code ({ cls := "AskedCourt$Strike", name := "struck", desc := "()I" } : Jvm.MethodName) prog_19_method_2_code (1 : Nat) (Option.some Jvm.ClassFile.FieldType.int)) ∈ lw_all := lw_g (lw_at lw_m6 109 rfl) rfl
theorem q1464 : (Jvm.Cond.selects "AskedCourt$Strike" ({ cls := "AskedCourt$Leaf", name := "behind", desc := "()I" } : Jvm.MethodName) ({ cls := "AskedCourt$Leaf", name := "behind", desc := "()I" } : Jvm.MethodName)) ∈ lw_all := lw_g (lw_at lw_m6 125 rfl) rfl
theorem q1472 : (Jvm.Cond.selects "AskedCourt$Strike" ({ cls := "AskedCourt$Leaf", name := "isSo", desc := "(LAskedCourt$State;)Z" } : Jvm.MethodName) ({ cls := "AskedCourt$Leaf", name := "isSo", desc := "(LAskedCourt$State;)Z" } : Jvm.MethodName)) ∈ lw_all := lw_g (lw_at lw_m6 133 rfl) rfl
theorem q2330 : (Jvm.Cond.castable "AskedCourt$Strike" "AskedCourt$Leaf") ∈ lw_tbl := lw_at lw_m10 31 rfl
theorem q2357 : (Jvm.Cond.castable "AskedCourt$Strike" "java/lang/Object") ∈ lw_tbl := lw_at lw_m10 58 rfl
theorem in_X22 : ∀ w ∈ wsX220, w ∈ lw_all := lw_in wsX220 [1425] (by decide +kernel) (by decide +kernel)

/-! AskedCourt$Court -/
set_option maxRecDepth 100000
def RX3 : String := "AskedCourt$Court"
def TX3 : u_T := fun k => match k with
  | 0 => ("AskedCourt$Court", "facts", "Ljava/util/ArrayList;", true)
  | 1 => ("AskedCourt$Court", "persons", "Ljava/util/ArrayList;", true)
  | 2 => ("AskedCourt$Court", "questions", "Ljava/util/ArrayList;", true)
  | 3 => ("AskedCourt$Court", "who", "[I", true)
  | 4 => ("AskedCourt$Court", "whom", "[I", true)
  | 5 => ("AskedCourt$Court", "which", "[I", true)
  | 6 => ("AskedCourt$Court", "laws", "[LAskedCourt$Part;", true)
  | 7 => ("AskedCourt$Court", "talk", "I", false)
  | 8 => ("AskedCourt$Court", "nine", "I", false)
  | 9 => ("AskedCourt$Court", "seed", "I", false)
  | 10 => ("AskedCourt$Court", "knots", "I", false)
  | _ => ("AskedCourt$Court", "lines", "I", false)
def tyX3 : Nat → FieldType := fun k => match k with
  | 0 => .object "java/util/ArrayList"
  | 1 => .object "java/util/ArrayList"
  | 2 => .object "java/util/ArrayList"
  | 3 => .array .int
  | 4 => .array .int
  | 5 => .array .int
  | 6 => .array (.object "AskedCourt$Part")
  | 7 => .int
  | 8 => .int
  | 9 => .int
  | 10 => .int
  | _ => .int
abbrev wsX30 : List Cond := u_ws RX3 TX3 12
theorem nmX3 : ∀ a, a < 12 → ∀ b, b < 12 → a ≠ b → (TX3 a).2.1 ≠ (TX3 b).2.1 := by decide +kernel
theorem tyX3_ok : ∀ k, k < 12 → parseFieldDescriptor (TX3 k).2.2.1 = some (tyX3 k) := by decide +kernel
abbrev cX3_init : ByteArray := prog_3_method_1_code
def yX3_init : MethodName := ⟨RX3, "<init>", "()V"⟩
theorem q142 : (Jvm.Cond.initialized "AskedCourt$Court") ∈ lw_all := lw_g (lw_at lw_m1 3 rfl) rfl
theorem q226 : (Jvm.Cond.instantiable "AskedCourt$Court" (12 : Nat)) ∈ lw_all := lw_g (lw_at lw_m1 87 rfl) rfl
theorem q228 : (Jvm.Cond.instanceMethod ({ cls := "AskedCourt$Court", name := "<init>", desc := "()V" } : Jvm.MethodName)) ∈ lw_all := lw_g (lw_at lw_m1 89 rfl) rfl
theorem q229 : (Jvm.Cond.code ({ cls := "AskedCourt$Court", name := "<init>", desc := "()V" } : Jvm.MethodName) prog_3_method_1_code (1 : Nat) (Option.none : Option Jvm.ClassFile.FieldType)) ∈ lw_all := lw_g (lw_at lw_m1 90 rfl) rfl
theorem q230 : (Jvm.Cond.methodLink "AskedCourt$Court" (3 : Nat) ({ cls := "java/lang/Object", name := "<init>", desc := "()V" } : Jvm.MethodName)) ∈ lw_all := lw_g (lw_at lw_m1 91 rfl) rfl
theorem q231 : (Jvm.Cond.classLink "AskedCourt$Court" (9 : Nat) "java/util/ArrayList") ∈ lw_all := lw_g (lw_at lw_m1 92 rfl) rfl
theorem q233 : (Jvm.Cond.methodLink "AskedCourt$Court" (11 : Nat) ({ cls := "java/util/ArrayList", name := "<init>", desc := "(I)V" } : Jvm.MethodName)) ∈ lw_all := lw_g (lw_at lw_m1 94 rfl) rfl
theorem q259 : (Jvm.Cond.classLink "AskedCourt$Court" (36 : Nat) "AskedCourt$Part") ∈ lw_all := lw_g (lw_at lw_m1 120 rfl) rfl
theorem q261 : (Jvm.Cond.fieldLink "AskedCourt$Court" (14 : Nat) "AskedCourt$Court" "facts" "Ljava/util/ArrayList;") ∈ lw_all := lw_g (lw_at lw_m1 122 rfl) rfl
theorem q264 : (Jvm.Cond.fieldLink "AskedCourt$Court" (20 : Nat) "AskedCourt$Court" "persons" "Ljava/util/ArrayList;") ∈ lw_all := lw_g (lw_at lw_m1 125 rfl) rfl
theorem q268 : (Jvm.Cond.fieldLink "AskedCourt$Court" (23 : Nat) "AskedCourt$Court" "questions" "Ljava/util/ArrayList;") ∈ lw_all := lw_g (lw_at lw_m1 129 rfl) rfl
theorem q272 : (Jvm.Cond.fieldLink "AskedCourt$Court" (26 : Nat) "AskedCourt$Court" "who" "[I") ∈ lw_all := lw_g (lw_at lw_m1 133 rfl) rfl
theorem q275 : (Jvm.Cond.fieldLink "AskedCourt$Court" (30 : Nat) "AskedCourt$Court" "whom" "[I") ∈ lw_all := lw_g (lw_at lw_m1 136 rfl) rfl
theorem q278 : (Jvm.Cond.fieldLink "AskedCourt$Court" (33 : Nat) "AskedCourt$Court" "which" "[I") ∈ lw_all := lw_g (lw_at lw_m1 139 rfl) rfl
theorem q281 : (Jvm.Cond.fieldLink "AskedCourt$Court" (38 : Nat) "AskedCourt$Court" "laws" "[LAskedCourt$Part;") ∈ lw_all := lw_g (lw_at lw_m1 142 rfl) rfl
theorem q286 : (Jvm.Cond.fieldLink "AskedCourt$Court" (42 : Nat) "AskedCourt$Court" "nine" "I") ∈ lw_all := lw_g (lw_at lw_m1 147 rfl) rfl
theorem q295 : (Jvm.Cond.laysFinal "AskedCourt$Court" "AskedCourt$Court" "facts" "Ljava/util/ArrayList;") ∈ lw_all := lw_g (lw_at lw_m1 156 rfl) rfl
theorem q296 : (Jvm.Cond.soleField "AskedCourt$Court" "facts") ∈ lw_all := lw_g (lw_at lw_m1 157 rfl) rfl
theorem q297 : (Jvm.Cond.laysFinal "AskedCourt$Court" "AskedCourt$Court" "persons" "Ljava/util/ArrayList;") ∈ lw_all := lw_g (lw_at lw_m1 158 rfl) rfl
theorem q298 : (Jvm.Cond.soleField "AskedCourt$Court" "persons") ∈ lw_all := lw_g (lw_at lw_m1 159 rfl) rfl
theorem q299 : (Jvm.Cond.laysFinal "AskedCourt$Court" "AskedCourt$Court" "questions" "Ljava/util/ArrayList;") ∈ lw_all := lw_g (lw_at lw_m1 160 rfl) rfl
theorem q300 : (Jvm.Cond.soleField "AskedCourt$Court" "questions") ∈ lw_all := lw_g (lw_at lw_m1 161 rfl) rfl
theorem q301 : (Jvm.Cond.laysFinal "AskedCourt$Court" "AskedCourt$Court" "who" "[I") ∈ lw_all := lw_g (lw_at lw_m1 162 rfl) rfl
theorem q302 : (Jvm.Cond.soleField "AskedCourt$Court" "who") ∈ lw_all := lw_g (lw_at lw_m1 163 rfl) rfl
theorem q303 : (Jvm.Cond.laysFinal "AskedCourt$Court" "AskedCourt$Court" "whom" "[I") ∈ lw_all := lw_g (lw_at lw_m1 164 rfl) rfl
theorem q304 : (Jvm.Cond.soleField "AskedCourt$Court" "whom") ∈ lw_all := lw_g (lw_at lw_m1 165 rfl) rfl
theorem q305 : (Jvm.Cond.laysFinal "AskedCourt$Court" "AskedCourt$Court" "which" "[I") ∈ lw_all := lw_g (lw_at lw_m1 166 rfl) rfl
theorem q306 : (Jvm.Cond.soleField "AskedCourt$Court" "which") ∈ lw_all := lw_g (lw_at lw_m1 167 rfl) rfl
theorem q307 : (Jvm.Cond.laysFinal "AskedCourt$Court" "AskedCourt$Court" "laws" "[LAskedCourt$Part;") ∈ lw_all := lw_g (lw_at lw_m1 168 rfl) rfl
theorem q308 : (Jvm.Cond.soleField "AskedCourt$Court" "laws") ∈ lw_all := lw_g (lw_at lw_m1 169 rfl) rfl
theorem q309 : (Jvm.Cond.lays "AskedCourt$Court" "AskedCourt$Court" "talk" "I") ∈ lw_all := lw_g (lw_at lw_m1 170 rfl) rfl
theorem q310 : (Jvm.Cond.soleField "AskedCourt$Court" "talk") ∈ lw_all := lw_g (lw_at lw_m1 171 rfl) rfl
theorem q311 : (Jvm.Cond.lays "AskedCourt$Court" "AskedCourt$Court" "nine" "I") ∈ lw_all := lw_g (lw_at lw_m1 172 rfl) rfl
theorem q312 : (Jvm.Cond.soleField "AskedCourt$Court" "nine") ∈ lw_all := lw_g (lw_at lw_m1 173 rfl) rfl
theorem q313 : (Jvm.Cond.lays "AskedCourt$Court" "AskedCourt$Court" "seed" "I") ∈ lw_all := lw_g (lw_at lw_m1 174 rfl) rfl
theorem q314 : (Jvm.Cond.soleField "AskedCourt$Court" "seed") ∈ lw_all := lw_g (lw_at lw_m1 175 rfl) rfl
theorem q315 : (Jvm.Cond.lays "AskedCourt$Court" "AskedCourt$Court" "knots" "I") ∈ lw_all := lw_g (lw_at lw_m1 176 rfl) rfl
theorem q316 : (Jvm.Cond.soleField "AskedCourt$Court" "knots") ∈ lw_all := lw_g (lw_at lw_m1 177 rfl) rfl
theorem q317 : (Jvm.Cond.lays "AskedCourt$Court" "AskedCourt$Court" "lines" "I") ∈ lw_all := lw_g (lw_at lw_m1 178 rfl) rfl
theorem q318 : (Jvm.Cond.soleField "AskedCourt$Court" "lines") ∈ lw_all := lw_g (lw_at lw_m1 179 rfl) rfl
theorem q319 : (Jvm.Cond.superclass "AskedCourt$Court" "java/lang/Object") ∈ lw_all := lw_g (lw_at lw_m1 180 rfl) rfl
theorem q812 : (Jvm.Cond.selects "AskedCourt$Court" ({ cls := "java/lang/Object", name := "getClass", desc := "()Ljava/lang/Class;" } : Jvm.MethodName) ({ cls := "java/lang/Object", name := "getClass", desc := "()Ljava/lang/Class;" } : Jvm.MethodName)) ∈ lw_all := lw_g (lw_at lw_m3 193 rfl) rfl
theorem q2337 : (Jvm.Cond.castable "AskedCourt$Court" "java/lang/Object") ∈ lw_tbl := lw_at lw_m10 38 rfl
theorem in_X3 : ∀ w ∈ wsX30, w ∈ lw_all := lw_in wsX30 [295, 297, 299, 301, 303, 305, 307, 309, 311, 313, 315, 317] (by decide +kernel) (by decide +kernel)

/-! AskedCourt$Kind -/
set_option maxRecDepth 100000
def RX4 : String := "AskedCourt$Kind"
abbrev cX4_init : ByteArray := prog_6_method_1_code
def yX4_init : MethodName := ⟨RX4, "<init>", "()V"⟩
abbrev cX4_bit : ByteArray := prog_6_method_5_code
def yX4_bit : MethodName := ⟨RX4, "bit", "(I)I"⟩
abbrev cX4_asks : ByteArray := prog_6_method_4_code
def yX4_asks : MethodName := ⟨RX4, "asks", "(LAskedCourt$Question;)I"⟩
abbrev cX4_isHeard : ByteArray := prog_6_method_3_code
def yX4_isHeard : MethodName := ⟨RX4, "isHeard", "(I)Z"⟩
theorem q146 : (Jvm.Cond.initialized "AskedCourt$Kind") ∈ lw_all := lw_g (lw_at lw_m1 7 rfl) rfl
theorem q329 : (Jvm.Cond.instanceMethod ({ cls := "AskedCourt$Kind", name := "<init>", desc := "()V" } : Jvm.MethodName)) ∈ lw_all := lw_g (lw_at lw_m1 190 rfl) rfl
theorem q330 : (Jvm.Cond.code ({ cls := "AskedCourt$Kind", name := "<init>", desc := "()V" } : Jvm.MethodName) prog_6_method_1_code (1 : Nat) (Option.none : Option Jvm.ClassFile.FieldType)) ∈ lw_all := lw_g (lw_at lw_m1 191 rfl) rfl
theorem q331 : (Jvm.Cond.methodLink "AskedCourt$Kind" (3 : Nat) ({ cls := "java/lang/Object", name := "<init>", desc := "()V" } : Jvm.MethodName)) ∈ lw_all := lw_g (lw_at lw_m1 192 rfl) rfl
theorem q915 : (Jvm.Cond.fieldLinkNest "AskedCourt$Kind" (9 : Nat) "AskedCourt$Question" "asks" "I" "AskedCourt") ∈ lw_tbl := lw_at lw_m4 56 rfl
theorem q1075 : (Jvm.Cond.declares ({ cls := "AskedCourt$Kind", name := "supposes", desc := "(LAskedCourt$Question;)I" } : Jvm.MethodName)) ∈ lw_tbl := lw_at lw_m4 216 rfl
theorem q1076 : (Jvm.Cond.sameMethod "AskedCourt$Kind" "AskedCourt$Kind" "supposes" "(LAskedCourt$Question;)I") ∈ lw_all := lw_g (lw_at lw_m4 217 rfl) rfl
theorem q1082 : (Jvm.Cond.static ({ cls := "AskedCourt$Kind", name := "bit", desc := "(I)I" } : Jvm.MethodName)) ∈ lw_all := lw_g (lw_at lw_m4 223 rfl) rfl
theorem q1083 : (Jvm.Cond.code ({ cls := "AskedCourt$Kind", name := "bit", desc := "(I)I" } : Jvm.MethodName) prog_6_method_5_code (1 : Nat) (Option.some Jvm.ClassFile.FieldType.int)) ∈ lw_all := lw_g (lw_at lw_m4 224 rfl) rfl
theorem q1168 : (Jvm.Cond.instanceMethod ({ cls := "AskedCourt$Kind", name := "asks", desc := "(LAskedCourt$Question;)I" } : Jvm.MethodName)) ∈ lw_all := lw_g (lw_at lw_m5 69 rfl) rfl
theorem q1169 : (Jvm.Cond.sameMethod "AskedCourt$Kind" "AskedCourt$Kind" "asks" "(LAskedCourt$Question;)I") ∈ lw_all := lw_g (lw_at lw_m5 70 rfl) rfl
theorem q1176 : (Jvm.Cond.code ({ cls := "AskedCourt$Kind", name := "asks", desc := "(LAskedCourt$Question;)I" } : Jvm.MethodName) prog_6_method_4_code (2 : Nat) (Option.some Jvm.ClassFile.FieldType.int)) ∈ lw_all := lw_g (lw_at lw_m5 77 rfl) rfl
theorem q1185 : (Jvm.Cond.instanceMethod ({ cls := "AskedCourt$Kind", name := "isHeard", desc := "(I)Z" } : Jvm.MethodName)) ∈ lw_all := lw_g (lw_at lw_m5 86 rfl) rfl
theorem q1186 : (Jvm.Cond.sameMethod "AskedCourt$Kind" "AskedCourt$Kind" "isHeard" "(I)Z") ∈ lw_all := lw_g (lw_at lw_m5 87 rfl) rfl
theorem q1192 : (Jvm.Cond.declares ({ cls := "AskedCourt$Kind", name := "isHeard", desc := "(I)Z" } : Jvm.MethodName)) ∈ lw_tbl := lw_at lw_m5 93 rfl
theorem q1196 : (Jvm.Cond.code ({ cls := "AskedCourt$Kind", name := "isHeard", desc := "(I)Z" } : Jvm.MethodName) prog_6_method_3_code (2 : Nat) (Option.some Jvm.ClassFile.FieldType.boolean)) ∈ lw_all := lw_g (lw_at lw_m5 97 rfl) rfl
theorem q2332 : (Jvm.Cond.castable "AskedCourt$Kind" "java/lang/Object") ∈ lw_tbl := lw_at lw_m10 33 rfl

/-! AskedCourt$Plain -/
set_option maxRecDepth 100000
def RX5 : String := "AskedCourt$Plain"
abbrev cX5_init : ByteArray := prog_15_method_1_code
def yX5_init : MethodName := ⟨RX5, "<init>", "()V"⟩
abbrev cX5_supposes : ByteArray := prog_15_method_2_code
def yX5_supposes : MethodName := ⟨RX5, "supposes", "(LAskedCourt$Question;)I"⟩
theorem q147 : (Jvm.Cond.initialized "AskedCourt$Plain") ∈ lw_all := lw_g (lw_at lw_m1 8 rfl) rfl
theorem q324 : (Jvm.Cond.instantiable "AskedCourt$Plain" (0 : Nat)) ∈ lw_all := lw_g (lw_at lw_m1 185 rfl) rfl
theorem q326 : (Jvm.Cond.instanceMethod ({ cls := "AskedCourt$Plain", name := "<init>", desc := "()V" } : Jvm.MethodName)) ∈ lw_all := lw_g (lw_at lw_m1 187 rfl) rfl
theorem q327 : (Jvm.Cond.code ({ cls := "AskedCourt$Plain", name := "<init>", desc := "()V" } : Jvm.MethodName) prog_15_method_1_code (1 : Nat) (Option.none : Option Jvm.ClassFile.FieldType)) ∈ lw_all := lw_g (lw_at lw_m1 188 rfl) rfl
theorem q328 : (Jvm.Cond.methodLinkNest "AskedCourt$Plain" (1 : Nat) ({ cls := "AskedCourt$Kind", name := "<init>", desc := "()V" } : Jvm.MethodName) "AskedCourt") ∈ lw_tbl := lw_at lw_m1 189 rfl
theorem q332 : (Jvm.Cond.superclass "AskedCourt$Plain" "AskedCourt$Kind") ∈ lw_all := lw_g (lw_at lw_m1 193 rfl) rfl
theorem q821 : (Jvm.Cond.selects "AskedCourt$Plain" ({ cls := "java/lang/Object", name := "getClass", desc := "()Ljava/lang/Class;" } : Jvm.MethodName) ({ cls := "java/lang/Object", name := "getClass", desc := "()Ljava/lang/Class;" } : Jvm.MethodName)) ∈ lw_all := lw_g (lw_at lw_m3 202 rfl) rfl
theorem q909 : (Jvm.Cond.fieldLinkNest "AskedCourt$Plain" (7 : Nat) "AskedCourt$Question" "supposes" "I" "AskedCourt") ∈ lw_tbl := lw_at lw_m4 50 rfl
theorem q1078 : (Jvm.Cond.instanceMethod ({ cls := "AskedCourt$Plain", name := "supposes", desc := "(LAskedCourt$Question;)I" } : Jvm.MethodName)) ∈ lw_all := lw_g (lw_at lw_m4 219 rfl) rfl
theorem q1079 : (Jvm.Cond.code ({ cls := "AskedCourt$Plain", name := "supposes", desc := "(LAskedCourt$Question;)I" } : Jvm.MethodName) prog_15_method_2_code (2 : Nat) (Option.some Jvm.ClassFile.FieldType.int)) ∈ lw_all := lw_g (lw_at lw_m4 220 rfl) rfl
theorem q1080 : (Jvm.Cond.methodLink "AskedCourt$Plain" (13 : Nat) ({ cls := "AskedCourt$Plain", name := "bit", desc := "(I)I" } : Jvm.MethodName)) ∈ lw_all := lw_g (lw_at lw_m4 221 rfl) rfl
theorem q1081 : (Jvm.Cond.sameMethod "AskedCourt$Plain" "AskedCourt$Kind" "bit" "(I)I") ∈ lw_all := lw_g (lw_at lw_m4 222 rfl) rfl
theorem q1085 : (Jvm.Cond.selects "AskedCourt$Plain" ({ cls := "AskedCourt$Kind", name := "supposes", desc := "(LAskedCourt$Question;)I" } : Jvm.MethodName) ({ cls := "AskedCourt$Plain", name := "supposes", desc := "(LAskedCourt$Question;)I" } : Jvm.MethodName)) ∈ lw_all := lw_g (lw_at lw_m4 226 rfl) rfl
theorem q1174 : (Jvm.Cond.selects "AskedCourt$Plain" ({ cls := "AskedCourt$Kind", name := "asks", desc := "(LAskedCourt$Question;)I" } : Jvm.MethodName) ({ cls := "AskedCourt$Kind", name := "asks", desc := "(LAskedCourt$Question;)I" } : Jvm.MethodName)) ∈ lw_all := lw_g (lw_at lw_m5 75 rfl) rfl
theorem q1191 : (Jvm.Cond.sameMethod "AskedCourt$Plain" "AskedCourt$Kind" "isHeard" "(I)Z") ∈ lw_all := lw_g (lw_at lw_m5 92 rfl) rfl
theorem q1194 : (Jvm.Cond.selects "AskedCourt$Plain" ({ cls := "AskedCourt$Kind", name := "isHeard", desc := "(I)Z" } : Jvm.MethodName) ({ cls := "AskedCourt$Kind", name := "isHeard", desc := "(I)Z" } : Jvm.MethodName)) ∈ lw_all := lw_g (lw_at lw_m5 95 rfl) rfl
theorem q2323 : (Jvm.Cond.sameMethod "AskedCourt$Plain" "AskedCourt$Plain" "supposes" "(LAskedCourt$Question;)I") ∈ lw_all := lw_g (lw_at lw_m10 24 rfl) rfl
theorem q2339 : (Jvm.Cond.castable "AskedCourt$Plain" "java/lang/Object") ∈ lw_tbl := lw_at lw_m10 40 rfl
theorem q2363 : (Jvm.Cond.castable "AskedCourt$Plain" "AskedCourt$Kind") ∈ lw_tbl := lw_at lw_m10 64 rfl

/-! AskedCourt$Twofold -/
set_option maxRecDepth 100000
def RX6 : String := "AskedCourt$Twofold"
abbrev cX6_init : ByteArray := prog_22_method_1_code
def yX6_init : MethodName := ⟨RX6, "<init>", "()V"⟩
abbrev cX6_supposes : ByteArray := prog_22_method_2_code
def yX6_supposes : MethodName := ⟨RX6, "supposes", "(LAskedCourt$Question;)I"⟩
theorem q148 : (Jvm.Cond.initialized "AskedCourt$Twofold") ∈ lw_all := lw_g (lw_at lw_m1 9 rfl) rfl
theorem q335 : (Jvm.Cond.instantiable "AskedCourt$Twofold" (0 : Nat)) ∈ lw_all := lw_g (lw_at lw_m1 196 rfl) rfl
theorem q337 : (Jvm.Cond.instanceMethod ({ cls := "AskedCourt$Twofold", name := "<init>", desc := "()V" } : Jvm.MethodName)) ∈ lw_all := lw_g (lw_at lw_m1 198 rfl) rfl
theorem q338 : (Jvm.Cond.code ({ cls := "AskedCourt$Twofold", name := "<init>", desc := "()V" } : Jvm.MethodName) prog_22_method_1_code (1 : Nat) (Option.none : Option Jvm.ClassFile.FieldType)) ∈ lw_all := lw_g (lw_at lw_m1 199 rfl) rfl
theorem q339 : (Jvm.Cond.methodLinkNest "AskedCourt$Twofold" (1 : Nat) ({ cls := "AskedCourt$Plain", name := "<init>", desc := "()V" } : Jvm.MethodName) "AskedCourt") ∈ lw_tbl := lw_at lw_m1 200 rfl
theorem q340 : (Jvm.Cond.superclass "AskedCourt$Twofold" "AskedCourt$Plain") ∈ lw_all := lw_g (lw_at lw_m1 201 rfl) rfl
theorem q828 : (Jvm.Cond.selects "AskedCourt$Twofold" ({ cls := "java/lang/Object", name := "getClass", desc := "()Ljava/lang/Class;" } : Jvm.MethodName) ({ cls := "java/lang/Object", name := "getClass", desc := "()Ljava/lang/Class;" } : Jvm.MethodName)) ∈ lw_all := lw_g (lw_at lw_m3 209 rfl) rfl
theorem q912 : (Jvm.Cond.fieldLinkNest "AskedCourt$Twofold" (11 : Nat) "AskedCourt$Question" "also" "I" "AskedCourt") ∈ lw_tbl := lw_at lw_m4 53 rfl
theorem q1086 : (Jvm.Cond.selects "AskedCourt$Twofold" ({ cls := "AskedCourt$Kind", name := "supposes", desc := "(LAskedCourt$Question;)I" } : Jvm.MethodName) ({ cls := "AskedCourt$Twofold", name := "supposes", desc := "(LAskedCourt$Question;)I" } : Jvm.MethodName)) ∈ lw_all := lw_g (lw_at lw_m4 227 rfl) rfl
theorem q1087 : (Jvm.Cond.instanceMethod ({ cls := "AskedCourt$Twofold", name := "supposes", desc := "(LAskedCourt$Question;)I" } : Jvm.MethodName)) ∈ lw_all := lw_g (lw_at lw_m4 228 rfl) rfl
theorem q1088 : (Jvm.Cond.code ({ cls := "AskedCourt$Twofold", name := "supposes", desc := "(LAskedCourt$Question;)I" } : Jvm.MethodName) prog_22_method_2_code (2 : Nat) (Option.some Jvm.ClassFile.FieldType.int)) ∈ lw_all := lw_g (lw_at lw_m4 229 rfl) rfl
theorem q1089 : (Jvm.Cond.methodLink "AskedCourt$Twofold" (7 : Nat) ({ cls := "AskedCourt$Plain", name := "supposes", desc := "(LAskedCourt$Question;)I" } : Jvm.MethodName)) ∈ lw_all := lw_g (lw_at lw_m4 230 rfl) rfl
theorem q1090 : (Jvm.Cond.methodLink "AskedCourt$Twofold" (17 : Nat) ({ cls := "AskedCourt$Twofold", name := "bit", desc := "(I)I" } : Jvm.MethodName)) ∈ lw_all := lw_g (lw_at lw_m4 231 rfl) rfl
theorem q1091 : (Jvm.Cond.sameMethod "AskedCourt$Twofold" "AskedCourt$Kind" "bit" "(I)I") ∈ lw_all := lw_g (lw_at lw_m4 232 rfl) rfl
theorem q1175 : (Jvm.Cond.selects "AskedCourt$Twofold" ({ cls := "AskedCourt$Kind", name := "asks", desc := "(LAskedCourt$Question;)I" } : Jvm.MethodName) ({ cls := "AskedCourt$Kind", name := "asks", desc := "(LAskedCourt$Question;)I" } : Jvm.MethodName)) ∈ lw_all := lw_g (lw_at lw_m5 76 rfl) rfl
theorem q1195 : (Jvm.Cond.selects "AskedCourt$Twofold" ({ cls := "AskedCourt$Kind", name := "isHeard", desc := "(I)Z" } : Jvm.MethodName) ({ cls := "AskedCourt$Kind", name := "isHeard", desc := "(I)Z" } : Jvm.MethodName)) ∈ lw_all := lw_g (lw_at lw_m5 96 rfl) rfl
theorem q2340 : (Jvm.Cond.castable "AskedCourt$Twofold" "java/lang/Object") ∈ lw_tbl := lw_at lw_m10 41 rfl
theorem q2364 : (Jvm.Cond.castable "AskedCourt$Twofold" "AskedCourt$Kind") ∈ lw_tbl := lw_at lw_m10 65 rfl

/-! AskedCourt$Back -/
set_option maxRecDepth 100000
def RX7 : String := "AskedCourt$Back"
abbrev cX7_init : ByteArray := prog_2_method_1_code
def yX7_init : MethodName := ⟨RX7, "<init>", "()V"⟩
abbrev cX7_isHeard : ByteArray := prog_2_method_2_code
def yX7_isHeard : MethodName := ⟨RX7, "isHeard", "(I)Z"⟩
theorem q149 : (Jvm.Cond.initialized "AskedCourt$Back") ∈ lw_all := lw_g (lw_at lw_m1 10 rfl) rfl
theorem q342 : (Jvm.Cond.instantiable "AskedCourt$Back" (0 : Nat)) ∈ lw_all := lw_g (lw_at lw_m1 203 rfl) rfl
theorem q344 : (Jvm.Cond.instanceMethod ({ cls := "AskedCourt$Back", name := "<init>", desc := "()V" } : Jvm.MethodName)) ∈ lw_all := lw_g (lw_at lw_m1 205 rfl) rfl
theorem q345 : (Jvm.Cond.code ({ cls := "AskedCourt$Back", name := "<init>", desc := "()V" } : Jvm.MethodName) prog_2_method_1_code (1 : Nat) (Option.none : Option Jvm.ClassFile.FieldType)) ∈ lw_all := lw_g (lw_at lw_m1 206 rfl) rfl
theorem q346 : (Jvm.Cond.methodLinkNest "AskedCourt$Back" (3 : Nat) ({ cls := "AskedCourt$Plain", name := "<init>", desc := "()V" } : Jvm.MethodName) "AskedCourt") ∈ lw_tbl := lw_at lw_m1 207 rfl
theorem q347 : (Jvm.Cond.superclass "AskedCourt$Back" "AskedCourt$Plain") ∈ lw_all := lw_g (lw_at lw_m1 208 rfl) rfl
theorem q811 : (Jvm.Cond.selects "AskedCourt$Back" ({ cls := "java/lang/Object", name := "getClass", desc := "()Ljava/lang/Class;" } : Jvm.MethodName) ({ cls := "java/lang/Object", name := "getClass", desc := "()Ljava/lang/Class;" } : Jvm.MethodName)) ∈ lw_all := lw_g (lw_at lw_m3 192 rfl) rfl
theorem q1077 : (Jvm.Cond.selects "AskedCourt$Back" ({ cls := "AskedCourt$Kind", name := "supposes", desc := "(LAskedCourt$Question;)I" } : Jvm.MethodName) ({ cls := "AskedCourt$Plain", name := "supposes", desc := "(LAskedCourt$Question;)I" } : Jvm.MethodName)) ∈ lw_all := lw_g (lw_at lw_m4 218 rfl) rfl
theorem q1170 : (Jvm.Cond.selects "AskedCourt$Back" ({ cls := "AskedCourt$Kind", name := "asks", desc := "(LAskedCourt$Question;)I" } : Jvm.MethodName) ({ cls := "AskedCourt$Kind", name := "asks", desc := "(LAskedCourt$Question;)I" } : Jvm.MethodName)) ∈ lw_all := lw_g (lw_at lw_m5 71 rfl) rfl
theorem q1187 : (Jvm.Cond.selects "AskedCourt$Back" ({ cls := "AskedCourt$Kind", name := "isHeard", desc := "(I)Z" } : Jvm.MethodName) ({ cls := "AskedCourt$Back", name := "isHeard", desc := "(I)Z" } : Jvm.MethodName)) ∈ lw_all := lw_g (lw_at lw_m5 88 rfl) rfl
theorem q1188 : (Jvm.Cond.instanceMethod ({ cls := "AskedCourt$Back", name := "isHeard", desc := "(I)Z" } : Jvm.MethodName)) ∈ lw_all := lw_g (lw_at lw_m5 89 rfl) rfl
theorem q1189 : (Jvm.Cond.code ({ cls := "AskedCourt$Back", name := "isHeard", desc := "(I)Z" } : Jvm.MethodName) prog_2_method_2_code (2 : Nat) (Option.some Jvm.ClassFile.FieldType.boolean)) ∈ lw_all := lw_g (lw_at lw_m5 90 rfl) rfl
theorem q1190 : (Jvm.Cond.methodLink "AskedCourt$Back" (9 : Nat) ({ cls := "AskedCourt$Plain", name := "isHeard", desc := "(I)Z" } : Jvm.MethodName)) ∈ lw_all := lw_g (lw_at lw_m5 91 rfl) rfl
theorem q2341 : (Jvm.Cond.castable "AskedCourt$Back" "java/lang/Object") ∈ lw_tbl := lw_at lw_m10 42 rfl
theorem q2365 : (Jvm.Cond.castable "AskedCourt$Back" "AskedCourt$Kind") ∈ lw_tbl := lw_at lw_m10 66 rfl

/-! AskedCourt$Idle -/
set_option maxRecDepth 100000
def RX8 : String := "AskedCourt$Idle"
abbrev cX8_init : ByteArray := prog_5_method_1_code
def yX8_init : MethodName := ⟨RX8, "<init>", "()V"⟩
abbrev cX8_asks : ByteArray := prog_5_method_2_code
def yX8_asks : MethodName := ⟨RX8, "asks", "(LAskedCourt$Question;)I"⟩
theorem q150 : (Jvm.Cond.initialized "AskedCourt$Idle") ∈ lw_all := lw_g (lw_at lw_m1 11 rfl) rfl
theorem q349 : (Jvm.Cond.instantiable "AskedCourt$Idle" (0 : Nat)) ∈ lw_all := lw_g (lw_at lw_m1 210 rfl) rfl
theorem q351 : (Jvm.Cond.instanceMethod ({ cls := "AskedCourt$Idle", name := "<init>", desc := "()V" } : Jvm.MethodName)) ∈ lw_all := lw_g (lw_at lw_m1 212 rfl) rfl
theorem q352 : (Jvm.Cond.code ({ cls := "AskedCourt$Idle", name := "<init>", desc := "()V" } : Jvm.MethodName) prog_5_method_1_code (1 : Nat) (Option.none : Option Jvm.ClassFile.FieldType)) ∈ lw_all := lw_g (lw_at lw_m1 213 rfl) rfl
theorem q353 : (Jvm.Cond.methodLinkNest "AskedCourt$Idle" (3 : Nat) ({ cls := "AskedCourt$Plain", name := "<init>", desc := "()V" } : Jvm.MethodName) "AskedCourt") ∈ lw_tbl := lw_at lw_m1 214 rfl
theorem q354 : (Jvm.Cond.superclass "AskedCourt$Idle" "AskedCourt$Plain") ∈ lw_all := lw_g (lw_at lw_m1 215 rfl) rfl
theorem q814 : (Jvm.Cond.selects "AskedCourt$Idle" ({ cls := "java/lang/Object", name := "getClass", desc := "()Ljava/lang/Class;" } : Jvm.MethodName) ({ cls := "java/lang/Object", name := "getClass", desc := "()Ljava/lang/Class;" } : Jvm.MethodName)) ∈ lw_all := lw_g (lw_at lw_m3 195 rfl) rfl
theorem q1084 : (Jvm.Cond.selects "AskedCourt$Idle" ({ cls := "AskedCourt$Kind", name := "supposes", desc := "(LAskedCourt$Question;)I" } : Jvm.MethodName) ({ cls := "AskedCourt$Plain", name := "supposes", desc := "(LAskedCourt$Question;)I" } : Jvm.MethodName)) ∈ lw_all := lw_g (lw_at lw_m4 225 rfl) rfl
theorem q1171 : (Jvm.Cond.selects "AskedCourt$Idle" ({ cls := "AskedCourt$Kind", name := "asks", desc := "(LAskedCourt$Question;)I" } : Jvm.MethodName) ({ cls := "AskedCourt$Idle", name := "asks", desc := "(LAskedCourt$Question;)I" } : Jvm.MethodName)) ∈ lw_all := lw_g (lw_at lw_m5 72 rfl) rfl
theorem q1172 : (Jvm.Cond.instanceMethod ({ cls := "AskedCourt$Idle", name := "asks", desc := "(LAskedCourt$Question;)I" } : Jvm.MethodName)) ∈ lw_all := lw_g (lw_at lw_m5 73 rfl) rfl
theorem q1173 : (Jvm.Cond.code ({ cls := "AskedCourt$Idle", name := "asks", desc := "(LAskedCourt$Question;)I" } : Jvm.MethodName) prog_5_method_2_code (2 : Nat) (Option.some Jvm.ClassFile.FieldType.int)) ∈ lw_all := lw_g (lw_at lw_m5 74 rfl) rfl
theorem q1193 : (Jvm.Cond.selects "AskedCourt$Idle" ({ cls := "AskedCourt$Kind", name := "isHeard", desc := "(I)Z" } : Jvm.MethodName) ({ cls := "AskedCourt$Kind", name := "isHeard", desc := "(I)Z" } : Jvm.MethodName)) ∈ lw_all := lw_g (lw_at lw_m5 94 rfl) rfl
theorem q2342 : (Jvm.Cond.castable "AskedCourt$Idle" "java/lang/Object") ∈ lw_tbl := lw_at lw_m10 43 rfl
theorem q2366 : (Jvm.Cond.castable "AskedCourt$Idle" "AskedCourt$Kind") ∈ lw_tbl := lw_at lw_m10 67 rfl

/-! AskedCourt$State -/
set_option maxRecDepth 100000
def RX9 : String := "AskedCourt$State"
def TX9 : u_T := fun k => match k with
  | 0 => ("AskedCourt$State", "knows", "[I", true)
  | 1 => ("AskedCourt$State", "room", "[I", true)
  | 2 => ("AskedCourt$State", "lost", "[I", true)
  | 3 => ("AskedCourt$State", "asked", "[I", true)
  | 4 => ("AskedCourt$State", "day", "I", false)
  | 5 => ("AskedCourt$State", "all", "I", false)
  | 6 => ("AskedCourt$State", "number", "I", false)
  | 7 => ("AskedCourt$State", "what", "I", false)
  | 8 => ("AskedCourt$State", "which", "I", false)
  | 9 => ("AskedCourt$State", "gone", "I", false)
  | _ => ("AskedCourt$State", "this$0", "LAskedCourt;", true)
def tyX9 : Nat → FieldType := fun k => match k with
  | 0 => .array .int
  | 1 => .array .int
  | 2 => .array .int
  | 3 => .array .int
  | 4 => .int
  | 5 => .int
  | 6 => .int
  | 7 => .int
  | 8 => .int
  | 9 => .int
  | _ => .object "AskedCourt"
abbrev wsX90 : List Cond := u_ws RX9 TX9 11
theorem nmX9 : ∀ a, a < 11 → ∀ b, b < 11 → a ≠ b → (TX9 a).2.1 ≠ (TX9 b).2.1 := by decide +kernel
theorem tyX9_ok : ∀ k, k < 11 → parseFieldDescriptor (TX9 k).2.2.1 = some (tyX9 k) := by decide +kernel
abbrev cX9_init : ByteArray := prog_18_method_1_code
def yX9_init : MethodName := ⟨RX9, "<init>", "(LAskedCourt;)V"⟩
abbrev cX9_begin : ByteArray := prog_18_method_2_code
def yX9_begin : MethodName := ⟨RX9, "begin", "()V"⟩
abbrev cX9_can : ByteArray := prog_18_method_12_code
def yX9_can : MethodName := ⟨RX9, "can", "(IIIZ)Z"⟩
abbrev cX9_areTogether : ByteArray := prog_18_method_11_code
def yX9_areTogether : MethodName := ⟨RX9, "areTogether", "(II)Z"⟩
abbrev cX9_isThere : ByteArray := prog_18_method_10_code
def yX9_isThere : MethodName := ⟨RX9, "isThere", "(I)Z"⟩
abbrev cX9_name : ByteArray := prog_18_method_7_code
def yX9_name : MethodName := ⟨RX9, "name", "(II)V"⟩
abbrev cX9_wit : ByteArray := prog_18_method_6_code
def yX9_wit : MethodName := ⟨RX9, "wit", "(I)I"⟩
abbrev cX9_become : ByteArray := prog_18_method_3_code
def yX9_become : MethodName := ⟨RX9, "become", "(LAskedCourt$State;)V"⟩
abbrev cX9_ask : ByteArray := prog_18_method_13_code
def yX9_ask : MethodName := ⟨RX9, "ask", "(IIIZ)Z"⟩
abbrev cX9_hears : ByteArray := prog_18_method_8_code
def yX9_hears : MethodName := ⟨RX9, "hears", "(ILAskedCourt$Question;)Z"⟩
abbrev cX9_odds : ByteArray := prog_18_method_9_code
def yX9_odds : MethodName := ⟨RX9, "odds", "(ILAskedCourt$Question;)I"⟩
abbrev cX9_draw : ByteArray := prog_18_method_5_code
def yX9_draw : MethodName := ⟨RX9, "draw", "(I)I"⟩
abbrev cX9_askAll : ByteArray := prog_18_method_14_code
def yX9_askAll : MethodName := ⟨RX9, "askAll", "()V"⟩
abbrev cX9_sum : ByteArray := prog_18_method_4_code
def yX9_sum : MethodName := ⟨RX9, "sum", "()I"⟩
abbrev cX9_talk : ByteArray := prog_18_method_15_code
def yX9_talk : MethodName := ⟨RX9, "talk", "(IZ)V"⟩
theorem q151 : (Jvm.Cond.initialized "AskedCourt$State") ∈ lw_all := lw_g (lw_at lw_m1 12 rfl) rfl
theorem q265 : (Jvm.Cond.fieldLinkNest "AskedCourt$State" (36 : Nat) "AskedCourt$Court" "persons" "Ljava/util/ArrayList;" "AskedCourt") ∈ lw_tbl := lw_at lw_m1 126 rfl
theorem q270 : (Jvm.Cond.fieldLinkNest "AskedCourt$State" (134 : Nat) "AskedCourt$Court" "questions" "Ljava/util/ArrayList;" "AskedCourt") ∈ lw_tbl := lw_at lw_m1 131 rfl
theorem q273 : (Jvm.Cond.fieldLinkNest "AskedCourt$State" (174 : Nat) "AskedCourt$Court" "who" "[I" "AskedCourt") ∈ lw_tbl := lw_at lw_m1 134 rfl
theorem q276 : (Jvm.Cond.fieldLinkNest "AskedCourt$State" (177 : Nat) "AskedCourt$Court" "whom" "[I" "AskedCourt") ∈ lw_tbl := lw_at lw_m1 137 rfl
theorem q279 : (Jvm.Cond.fieldLinkNest "AskedCourt$State" (180 : Nat) "AskedCourt$Court" "which" "[I" "AskedCourt") ∈ lw_tbl := lw_at lw_m1 140 rfl
theorem q287 : (Jvm.Cond.fieldLinkNest "AskedCourt$State" (141 : Nat) "AskedCourt$Court" "nine" "I" "AskedCourt") ∈ lw_tbl := lw_at lw_m1 148 rfl
theorem q289 : (Jvm.Cond.fieldLinkNest "AskedCourt$State" (60 : Nat) "AskedCourt$Court" "seed" "I" "AskedCourt") ∈ lw_tbl := lw_at lw_m1 150 rfl
theorem q356 : (Jvm.Cond.instantiable "AskedCourt$State" (11 : Nat)) ∈ lw_all := lw_g (lw_at lw_m1 217 rfl) rfl
theorem q358 : (Jvm.Cond.instanceMethod ({ cls := "AskedCourt$State", name := "<init>", desc := "(LAskedCourt;)V" } : Jvm.MethodName)) ∈ lw_all := lw_g (lw_at lw_m1 219 rfl) rfl
theorem q359 : (Jvm.Cond.code ({ cls := "AskedCourt$State", name := "<init>", desc := "(LAskedCourt;)V" } : Jvm.MethodName) prog_18_method_1_code (2 : Nat) (Option.none : Option Jvm.ClassFile.FieldType)) ∈ lw_all := lw_g (lw_at lw_m1 220 rfl) rfl
theorem q360 : (Jvm.Cond.methodLink "AskedCourt$State" (9 : Nat) ({ cls := "java/lang/Object", name := "<init>", desc := "()V" } : Jvm.MethodName)) ∈ lw_all := lw_g (lw_at lw_m1 221 rfl) rfl
theorem q361 : (Jvm.Cond.fieldLink "AskedCourt$State" (15 : Nat) "AskedCourt$State" "knows" "[I") ∈ lw_all := lw_g (lw_at lw_m1 222 rfl) rfl
theorem q364 : (Jvm.Cond.fieldLink "AskedCourt$State" (19 : Nat) "AskedCourt$State" "room" "[I") ∈ lw_all := lw_g (lw_at lw_m1 225 rfl) rfl
theorem q366 : (Jvm.Cond.fieldLink "AskedCourt$State" (22 : Nat) "AskedCourt$State" "lost" "[I") ∈ lw_all := lw_g (lw_at lw_m1 227 rfl) rfl
theorem q368 : (Jvm.Cond.fieldLink "AskedCourt$State" (25 : Nat) "AskedCourt$State" "asked" "[I") ∈ lw_all := lw_g (lw_at lw_m1 229 rfl) rfl
theorem q370 : (Jvm.Cond.fieldLink "AskedCourt$State" (54 : Nat) "AskedCourt$State" "day" "I") ∈ lw_all := lw_g (lw_at lw_m1 231 rfl) rfl
theorem q372 : (Jvm.Cond.fieldLink "AskedCourt$State" (57 : Nat) "AskedCourt$State" "all" "I") ∈ lw_all := lw_g (lw_at lw_m1 233 rfl) rfl
theorem q374 : (Jvm.Cond.fieldLink "AskedCourt$State" (63 : Nat) "AskedCourt$State" "number" "I") ∈ lw_all := lw_g (lw_at lw_m1 235 rfl) rfl
theorem q376 : (Jvm.Cond.fieldLink "AskedCourt$State" (66 : Nat) "AskedCourt$State" "what" "I") ∈ lw_all := lw_g (lw_at lw_m1 237 rfl) rfl
theorem q378 : (Jvm.Cond.fieldLink "AskedCourt$State" (72 : Nat) "AskedCourt$State" "which" "I") ∈ lw_all := lw_g (lw_at lw_m1 239 rfl) rfl
theorem q380 : (Jvm.Cond.fieldLink "AskedCourt$State" (69 : Nat) "AskedCourt$State" "gone" "I") ∈ lw_all := lw_g (lw_at lw_m2 1 rfl) rfl
theorem q382 : (Jvm.Cond.fieldLink "AskedCourt$State" (3 : Nat) "AskedCourt$State" "this$0" "LAskedCourt;") ∈ lw_all := lw_g (lw_at lw_m2 3 rfl) rfl
theorem q383 : (Jvm.Cond.laysFinal "AskedCourt$State" "AskedCourt$State" "knows" "[I") ∈ lw_all := lw_g (lw_at lw_m2 4 rfl) rfl
theorem q384 : (Jvm.Cond.soleField "AskedCourt$State" "knows") ∈ lw_all := lw_g (lw_at lw_m2 5 rfl) rfl
theorem q385 : (Jvm.Cond.laysFinal "AskedCourt$State" "AskedCourt$State" "room" "[I") ∈ lw_all := lw_g (lw_at lw_m2 6 rfl) rfl
theorem q386 : (Jvm.Cond.soleField "AskedCourt$State" "room") ∈ lw_all := lw_g (lw_at lw_m2 7 rfl) rfl
theorem q387 : (Jvm.Cond.laysFinal "AskedCourt$State" "AskedCourt$State" "lost" "[I") ∈ lw_all := lw_g (lw_at lw_m2 8 rfl) rfl
theorem q388 : (Jvm.Cond.soleField "AskedCourt$State" "lost") ∈ lw_all := lw_g (lw_at lw_m2 9 rfl) rfl
theorem q389 : (Jvm.Cond.laysFinal "AskedCourt$State" "AskedCourt$State" "asked" "[I") ∈ lw_all := lw_g (lw_at lw_m2 10 rfl) rfl
theorem q390 : (Jvm.Cond.soleField "AskedCourt$State" "asked") ∈ lw_all := lw_g (lw_at lw_m2 11 rfl) rfl
theorem q391 : (Jvm.Cond.lays "AskedCourt$State" "AskedCourt$State" "day" "I") ∈ lw_all := lw_g (lw_at lw_m2 12 rfl) rfl
theorem q392 : (Jvm.Cond.soleField "AskedCourt$State" "day") ∈ lw_all := lw_g (lw_at lw_m2 13 rfl) rfl
theorem q393 : (Jvm.Cond.lays "AskedCourt$State" "AskedCourt$State" "all" "I") ∈ lw_all := lw_g (lw_at lw_m2 14 rfl) rfl
theorem q394 : (Jvm.Cond.soleField "AskedCourt$State" "all") ∈ lw_all := lw_g (lw_at lw_m2 15 rfl) rfl
theorem q395 : (Jvm.Cond.lays "AskedCourt$State" "AskedCourt$State" "number" "I") ∈ lw_all := lw_g (lw_at lw_m2 16 rfl) rfl
theorem q396 : (Jvm.Cond.soleField "AskedCourt$State" "number") ∈ lw_all := lw_g (lw_at lw_m2 17 rfl) rfl
theorem q397 : (Jvm.Cond.lays "AskedCourt$State" "AskedCourt$State" "what" "I") ∈ lw_all := lw_g (lw_at lw_m2 18 rfl) rfl
theorem q398 : (Jvm.Cond.soleField "AskedCourt$State" "what") ∈ lw_all := lw_g (lw_at lw_m2 19 rfl) rfl
theorem q399 : (Jvm.Cond.lays "AskedCourt$State" "AskedCourt$State" "which" "I") ∈ lw_all := lw_g (lw_at lw_m2 20 rfl) rfl
theorem q400 : (Jvm.Cond.soleField "AskedCourt$State" "which") ∈ lw_all := lw_g (lw_at lw_m2 21 rfl) rfl
theorem q401 : (Jvm.Cond.lays "AskedCourt$State" "AskedCourt$State" "gone" "I") ∈ lw_all := lw_g (lw_at lw_m2 22 rfl) rfl
theorem q402 : (Jvm.Cond.soleField "AskedCourt$State" "gone") ∈ lw_all := lw_g (lw_at lw_m2 23 rfl) rfl
theorem q403 : (Jvm.Cond.laysFinal "AskedCourt$State" "AskedCourt$State" "this$0" "LAskedCourt;") ∈ lw_all := lw_g (lw_at lw_m2 24 rfl) rfl
theorem q404 : (Jvm.Cond.soleField "AskedCourt$State" "this$0") ∈ lw_all := lw_g (lw_at lw_m2 25 rfl) rfl
theorem q405 : (Jvm.Cond.superclass "AskedCourt$State" "java/lang/Object") ∈ lw_all := lw_g (lw_at lw_m2 26 rfl) rfl
theorem q410 : (Jvm.Cond.instanceMethod ({ cls := "AskedCourt$State", name := "begin", desc := "()V" } : Jvm.MethodName)) ∈ lw_all := lw_g (lw_at lw_m2 31 rfl) rfl
theorem q411 : (Jvm.Cond.selects "AskedCourt$State" ({ cls := "AskedCourt$State", name := "begin", desc := "()V" } : Jvm.MethodName) ({ cls := "AskedCourt$State", name := "begin", desc := "()V" } : Jvm.MethodName)) ∈ lw_all := lw_g (lw_at lw_m2 32 rfl) rfl
theorem q412 : (Jvm.Cond.code ({ cls := "AskedCourt$State", name := "begin", desc := "()V" } : Jvm.MethodName) prog_18_method_2_code (2 : Nat) (Option.none : Option Jvm.ClassFile.FieldType)) ∈ lw_all := lw_g (lw_at lw_m2 33 rfl) rfl
theorem q413 : (Jvm.Cond.methodLinkNest "AskedCourt$State" (28 : Nat) ({ cls := "AskedCourt", name := "persons", desc := "()I" } : Jvm.MethodName) "AskedCourt") ∈ lw_tbl := lw_at lw_m2 34 rfl
theorem q421 : (Jvm.Cond.methodLink "AskedCourt$State" (41 : Nat) ({ cls := "java/util/ArrayList", name := "get", desc := "(I)Ljava/lang/Object;" } : Jvm.MethodName)) ∈ lw_all := lw_g (lw_at lw_m2 42 rfl) rfl
theorem q435 : (Jvm.Cond.classLink "AskedCourt$State" (47 : Nat) "AskedCourt$Person") ∈ lw_all := lw_g (lw_at lw_m2 56 rfl) rfl
theorem q443 : (Jvm.Cond.fieldLinkNest "AskedCourt$State" (32 : Nat) "AskedCourt" "court" "LAskedCourt$Court;" "AskedCourt") ∈ lw_tbl := lw_at lw_m2 64 rfl
theorem q446 : (Jvm.Cond.fieldLinkNest "AskedCourt$State" (86 : Nat) "AskedCourt" "names" "[J" "AskedCourt") ∈ lw_tbl := lw_at lw_m2 67 rfl
theorem q448 : (Jvm.Cond.fieldLinkNest "AskedCourt$State" (110 : Nat) "AskedCourt" "kinds" "[LAskedCourt$Kind;" "AskedCourt") ∈ lw_tbl := lw_at lw_m2 69 rfl
theorem q824 : (Jvm.Cond.selects "AskedCourt$State" ({ cls := "java/lang/Object", name := "getClass", desc := "()Ljava/lang/Class;" } : Jvm.MethodName) ({ cls := "java/lang/Object", name := "getClass", desc := "()Ljava/lang/Class;" } : Jvm.MethodName)) ∈ lw_all := lw_g (lw_at lw_m3 205 rfl) rfl
theorem q855 : (Jvm.Cond.fieldLinkNest "AskedCourt$State" (90 : Nat) "AskedCourt$Person" "lips" "I" "AskedCourt") ∈ lw_tbl := lw_at lw_m3 236 rfl
theorem q858 : (Jvm.Cond.fieldLinkNest "AskedCourt$State" (83 : Nat) "AskedCourt$Person" "wit" "I" "AskedCourt") ∈ lw_tbl := lw_at lw_m3 239 rfl
theorem q861 : (Jvm.Cond.fieldLinkNest "AskedCourt$State" (52 : Nat) "AskedCourt$Person" "room" "I" "AskedCourt") ∈ lw_tbl := lw_at lw_m4 2 rfl
theorem q863 : (Jvm.Cond.fieldLinkNest "AskedCourt$State" (49 : Nat) "AskedCourt$Person" "knows" "I" "AskedCourt") ∈ lw_tbl := lw_at lw_m4 4 rfl
theorem q906 : (Jvm.Cond.fieldLinkNest "AskedCourt$State" (95 : Nat) "AskedCourt$Question" "kind" "I" "AskedCourt") ∈ lw_tbl := lw_at lw_m4 47 rfl
theorem q1062 : (Jvm.Cond.instanceMethod ({ cls := "AskedCourt$State", name := "can", desc := "(IIIZ)Z" } : Jvm.MethodName)) ∈ lw_all := lw_g (lw_at lw_m4 203 rfl) rfl
theorem q1063 : (Jvm.Cond.selects "AskedCourt$State" ({ cls := "AskedCourt$State", name := "can", desc := "(IIIZ)Z" } : Jvm.MethodName) ({ cls := "AskedCourt$State", name := "can", desc := "(IIIZ)Z" } : Jvm.MethodName)) ∈ lw_all := lw_g (lw_at lw_m4 204 rfl) rfl
theorem q1064 : (Jvm.Cond.code ({ cls := "AskedCourt$State", name := "can", desc := "(IIIZ)Z" } : Jvm.MethodName) prog_18_method_12_code (6 : Nat) (Option.some Jvm.ClassFile.FieldType.boolean)) ∈ lw_all := lw_g (lw_at lw_m4 205 rfl) rfl
theorem q1065 : (Jvm.Cond.classLink "AskedCourt$State" (96 : Nat) "AskedCourt$Question") ∈ lw_all := lw_g (lw_at lw_m4 206 rfl) rfl
theorem q1066 : (Jvm.Cond.methodLink "AskedCourt$State" (137 : Nat) ({ cls := "AskedCourt$State", name := "areTogether", desc := "(II)Z" } : Jvm.MethodName)) ∈ lw_all := lw_g (lw_at lw_m4 207 rfl) rfl
theorem q1067 : (Jvm.Cond.instanceMethod ({ cls := "AskedCourt$State", name := "areTogether", desc := "(II)Z" } : Jvm.MethodName)) ∈ lw_all := lw_g (lw_at lw_m4 208 rfl) rfl
theorem q1068 : (Jvm.Cond.selects "AskedCourt$State" ({ cls := "AskedCourt$State", name := "areTogether", desc := "(II)Z" } : Jvm.MethodName) ({ cls := "AskedCourt$State", name := "areTogether", desc := "(II)Z" } : Jvm.MethodName)) ∈ lw_all := lw_g (lw_at lw_m4 209 rfl) rfl
theorem q1069 : (Jvm.Cond.code ({ cls := "AskedCourt$State", name := "areTogether", desc := "(II)Z" } : Jvm.MethodName) prog_18_method_11_code (3 : Nat) (Option.some Jvm.ClassFile.FieldType.boolean)) ∈ lw_all := lw_g (lw_at lw_m4 210 rfl) rfl
theorem q1070 : (Jvm.Cond.methodLink "AskedCourt$State" (131 : Nat) ({ cls := "AskedCourt$State", name := "isThere", desc := "(I)Z" } : Jvm.MethodName)) ∈ lw_all := lw_g (lw_at lw_m4 211 rfl) rfl
theorem q1071 : (Jvm.Cond.instanceMethod ({ cls := "AskedCourt$State", name := "isThere", desc := "(I)Z" } : Jvm.MethodName)) ∈ lw_all := lw_g (lw_at lw_m4 212 rfl) rfl
theorem q1072 : (Jvm.Cond.selects "AskedCourt$State" ({ cls := "AskedCourt$State", name := "isThere", desc := "(I)Z" } : Jvm.MethodName) ({ cls := "AskedCourt$State", name := "isThere", desc := "(I)Z" } : Jvm.MethodName)) ∈ lw_all := lw_g (lw_at lw_m4 213 rfl) rfl
theorem q1073 : (Jvm.Cond.code ({ cls := "AskedCourt$State", name := "isThere", desc := "(I)Z" } : Jvm.MethodName) prog_18_method_10_code (2 : Nat) (Option.some Jvm.ClassFile.FieldType.boolean)) ∈ lw_all := lw_g (lw_at lw_m4 214 rfl) rfl
theorem q1074 : (Jvm.Cond.methodLink "AskedCourt$State" (144 : Nat) ({ cls := "AskedCourt$Kind", name := "supposes", desc := "(LAskedCourt$Question;)I" } : Jvm.MethodName)) ∈ lw_all := lw_g (lw_at lw_m4 215 rfl) rfl
theorem q1098 : (Jvm.Cond.instanceMethod ({ cls := "AskedCourt$State", name := "name", desc := "(II)V" } : Jvm.MethodName)) ∈ lw_all := lw_g (lw_at lw_m4 239 rfl) rfl
theorem q1099 : (Jvm.Cond.selects "AskedCourt$State" ({ cls := "AskedCourt$State", name := "name", desc := "(II)V" } : Jvm.MethodName) ({ cls := "AskedCourt$State", name := "name", desc := "(II)V" } : Jvm.MethodName)) ∈ lw_all := lw_g (lw_at lw_m5 0 rfl) rfl
theorem q1100 : (Jvm.Cond.code ({ cls := "AskedCourt$State", name := "name", desc := "(II)V" } : Jvm.MethodName) prog_18_method_7_code (3 : Nat) (Option.none : Option Jvm.ClassFile.FieldType)) ∈ lw_all := lw_g (lw_at lw_m5 1 rfl) rfl
theorem q1101 : (Jvm.Cond.methodLink "AskedCourt$State" (93 : Nat) ({ cls := "AskedCourt$State", name := "wit", desc := "(I)I" } : Jvm.MethodName)) ∈ lw_all := lw_g (lw_at lw_m5 2 rfl) rfl
theorem q1102 : (Jvm.Cond.instanceMethod ({ cls := "AskedCourt$State", name := "wit", desc := "(I)I" } : Jvm.MethodName)) ∈ lw_all := lw_g (lw_at lw_m5 3 rfl) rfl
theorem q1103 : (Jvm.Cond.selects "AskedCourt$State" ({ cls := "AskedCourt$State", name := "wit", desc := "(I)I" } : Jvm.MethodName) ({ cls := "AskedCourt$State", name := "wit", desc := "(I)I" } : Jvm.MethodName)) ∈ lw_all := lw_g (lw_at lw_m5 4 rfl) rfl
theorem q1104 : (Jvm.Cond.code ({ cls := "AskedCourt$State", name := "wit", desc := "(I)I" } : Jvm.MethodName) prog_18_method_6_code (2 : Nat) (Option.some Jvm.ClassFile.FieldType.int)) ∈ lw_all := lw_g (lw_at lw_m5 5 rfl) rfl
theorem q1105 : (Jvm.Cond.methodLink "AskedCourt$State" (75 : Nat) ({ cls := "java/lang/Integer", name := "bitCount", desc := "(I)I" } : Jvm.MethodName)) ∈ lw_all := lw_g (lw_at lw_m5 6 rfl) rfl
theorem q1160 : (Jvm.Cond.instanceMethod ({ cls := "AskedCourt$State", name := "become", desc := "(LAskedCourt$State;)V" } : Jvm.MethodName)) ∈ lw_all := lw_g (lw_at lw_m5 61 rfl) rfl
theorem q1161 : (Jvm.Cond.selects "AskedCourt$State" ({ cls := "AskedCourt$State", name := "become", desc := "(LAskedCourt$State;)V" } : Jvm.MethodName) ({ cls := "AskedCourt$State", name := "become", desc := "(LAskedCourt$State;)V" } : Jvm.MethodName)) ∈ lw_all := lw_g (lw_at lw_m5 62 rfl) rfl
theorem q1162 : (Jvm.Cond.code ({ cls := "AskedCourt$State", name := "become", desc := "(LAskedCourt$State;)V" } : Jvm.MethodName) prog_18_method_3_code (3 : Nat) (Option.none : Option Jvm.ClassFile.FieldType)) ∈ lw_all := lw_g (lw_at lw_m5 63 rfl) rfl
theorem q1164 : (Jvm.Cond.instanceMethod ({ cls := "AskedCourt$State", name := "ask", desc := "(IIIZ)Z" } : Jvm.MethodName)) ∈ lw_all := lw_g (lw_at lw_m5 65 rfl) rfl
theorem q1165 : (Jvm.Cond.selects "AskedCourt$State" ({ cls := "AskedCourt$State", name := "ask", desc := "(IIIZ)Z" } : Jvm.MethodName) ({ cls := "AskedCourt$State", name := "ask", desc := "(IIIZ)Z" } : Jvm.MethodName)) ∈ lw_all := lw_g (lw_at lw_m5 66 rfl) rfl
theorem q1166 : (Jvm.Cond.code ({ cls := "AskedCourt$State", name := "ask", desc := "(IIIZ)Z" } : Jvm.MethodName) prog_18_method_13_code (12 : Nat) (Option.some Jvm.ClassFile.FieldType.boolean)) ∈ lw_all := lw_g (lw_at lw_m5 67 rfl) rfl
theorem q1167 : (Jvm.Cond.methodLink "AskedCourt$State" (148 : Nat) ({ cls := "AskedCourt$Kind", name := "asks", desc := "(LAskedCourt$Question;)I" } : Jvm.MethodName)) ∈ lw_all := lw_g (lw_at lw_m5 68 rfl) rfl
theorem q1177 : (Jvm.Cond.methodLink "AskedCourt$State" (151 : Nat) ({ cls := "AskedCourt$State", name := "hears", desc := "(ILAskedCourt$Question;)Z" } : Jvm.MethodName)) ∈ lw_all := lw_g (lw_at lw_m5 78 rfl) rfl
theorem q1178 : (Jvm.Cond.instanceMethod ({ cls := "AskedCourt$State", name := "hears", desc := "(ILAskedCourt$Question;)Z" } : Jvm.MethodName)) ∈ lw_all := lw_g (lw_at lw_m5 79 rfl) rfl
theorem q1179 : (Jvm.Cond.selects "AskedCourt$State" ({ cls := "AskedCourt$State", name := "hears", desc := "(ILAskedCourt$Question;)Z" } : Jvm.MethodName) ({ cls := "AskedCourt$State", name := "hears", desc := "(ILAskedCourt$Question;)Z" } : Jvm.MethodName)) ∈ lw_all := lw_g (lw_at lw_m5 80 rfl) rfl
theorem q1180 : (Jvm.Cond.code ({ cls := "AskedCourt$State", name := "hears", desc := "(ILAskedCourt$Question;)Z" } : Jvm.MethodName) prog_18_method_8_code (5 : Nat) (Option.some Jvm.ClassFile.FieldType.boolean)) ∈ lw_all := lw_g (lw_at lw_m5 81 rfl) rfl
theorem q1181 : (Jvm.Cond.methodLink "AskedCourt$State" (100 : Nat) ({ cls := "AskedCourt$State", name := "name", desc := "(II)V" } : Jvm.MethodName)) ∈ lw_all := lw_g (lw_at lw_m5 82 rfl) rfl
theorem q1182 : (Jvm.Cond.methodLinkNest "AskedCourt$State" (104 : Nat) ({ cls := "AskedCourt", name := "work", desc := "(I)J" } : Jvm.MethodName) "AskedCourt") ∈ lw_tbl := lw_at lw_m5 83 rfl
theorem q1183 : (Jvm.Cond.constantLong "AskedCourt$State" (108 : Nat) (-9223372036854775808 : Int64)) ∈ lw_all := lw_g (lw_at lw_m5 84 rfl) rfl
theorem q1184 : (Jvm.Cond.methodLink "AskedCourt$State" (114 : Nat) ({ cls := "AskedCourt$Kind", name := "isHeard", desc := "(I)Z" } : Jvm.MethodName)) ∈ lw_all := lw_g (lw_at lw_m5 85 rfl) rfl
theorem q1197 : (Jvm.Cond.methodLink "AskedCourt$State" (155 : Nat) ({ cls := "AskedCourt$State", name := "odds", desc := "(ILAskedCourt$Question;)I" } : Jvm.MethodName)) ∈ lw_all := lw_g (lw_at lw_m5 98 rfl) rfl
theorem q1198 : (Jvm.Cond.instanceMethod ({ cls := "AskedCourt$State", name := "odds", desc := "(ILAskedCourt$Question;)I" } : Jvm.MethodName)) ∈ lw_all := lw_g (lw_at lw_m5 99 rfl) rfl
theorem q1199 : (Jvm.Cond.selects "AskedCourt$State" ({ cls := "AskedCourt$State", name := "odds", desc := "(ILAskedCourt$Question;)I" } : Jvm.MethodName) ({ cls := "AskedCourt$State", name := "odds", desc := "(ILAskedCourt$Question;)I" } : Jvm.MethodName)) ∈ lw_all := lw_g (lw_at lw_m5 100 rfl) rfl
theorem q1200 : (Jvm.Cond.code ({ cls := "AskedCourt$State", name := "odds", desc := "(ILAskedCourt$Question;)I" } : Jvm.MethodName) prog_18_method_9_code (5 : Nat) (Option.some Jvm.ClassFile.FieldType.int)) ∈ lw_all := lw_g (lw_at lw_m5 101 rfl) rfl
theorem q1201 : (Jvm.Cond.constantLong "AskedCourt$State" (120 : Nat) (100 : Int64)) ∈ lw_all := lw_g (lw_at lw_m5 102 rfl) rfl
theorem q1202 : (Jvm.Cond.methodLink "AskedCourt$State" (122 : Nat) ({ cls := "java/lang/Math", name := "min", desc := "(JJ)J" } : Jvm.MethodName)) ∈ lw_all := lw_g (lw_at lw_m5 103 rfl) rfl
theorem q1205 : (Jvm.Cond.methodLink "AskedCourt$State" (128 : Nat) ({ cls := "java/lang/Math", name := "max", desc := "(JJ)J" } : Jvm.MethodName)) ∈ lw_all := lw_g (lw_at lw_m5 106 rfl) rfl
theorem q1208 : (Jvm.Cond.methodLink "AskedCourt$State" (159 : Nat) ({ cls := "AskedCourt$State", name := "draw", desc := "(I)I" } : Jvm.MethodName)) ∈ lw_all := lw_g (lw_at lw_m5 109 rfl) rfl
theorem q1209 : (Jvm.Cond.instanceMethod ({ cls := "AskedCourt$State", name := "draw", desc := "(I)I" } : Jvm.MethodName)) ∈ lw_all := lw_g (lw_at lw_m5 110 rfl) rfl
theorem q1210 : (Jvm.Cond.selects "AskedCourt$State" ({ cls := "AskedCourt$State", name := "draw", desc := "(I)I" } : Jvm.MethodName) ({ cls := "AskedCourt$State", name := "draw", desc := "(I)I" } : Jvm.MethodName)) ∈ lw_all := lw_g (lw_at lw_m5 111 rfl) rfl
theorem q1211 : (Jvm.Cond.code ({ cls := "AskedCourt$State", name := "draw", desc := "(I)I" } : Jvm.MethodName) prog_18_method_5_code (2 : Nat) (Option.some Jvm.ClassFile.FieldType.int)) ∈ lw_all := lw_g (lw_at lw_m5 112 rfl) rfl
theorem q1212 : (Jvm.Cond.constant "AskedCourt$State" (81 : Nat) (1103515245 : Int32)) ∈ lw_all := lw_g (lw_at lw_m5 113 rfl) rfl
theorem q1213 : (Jvm.Cond.constant "AskedCourt$State" (82 : Nat) (2147483647 : Int32)) ∈ lw_all := lw_g (lw_at lw_m5 114 rfl) rfl
theorem q1240 : (Jvm.Cond.instanceMethod ({ cls := "AskedCourt$State", name := "askAll", desc := "()V" } : Jvm.MethodName)) ∈ lw_all := lw_g (lw_at lw_m5 141 rfl) rfl
theorem q1241 : (Jvm.Cond.selects "AskedCourt$State" ({ cls := "AskedCourt$State", name := "askAll", desc := "()V" } : Jvm.MethodName) ({ cls := "AskedCourt$State", name := "askAll", desc := "()V" } : Jvm.MethodName)) ∈ lw_all := lw_g (lw_at lw_m5 142 rfl) rfl
theorem q1242 : (Jvm.Cond.code ({ cls := "AskedCourt$State", name := "askAll", desc := "()V" } : Jvm.MethodName) prog_18_method_14_code (6 : Nat) (Option.none : Option Jvm.ClassFile.FieldType)) ∈ lw_all := lw_g (lw_at lw_m5 143 rfl) rfl
theorem q1243 : (Jvm.Cond.methodLink "AskedCourt$State" (162 : Nat) ({ cls := "AskedCourt$State", name := "sum", desc := "()I" } : Jvm.MethodName)) ∈ lw_all := lw_g (lw_at lw_m5 144 rfl) rfl
theorem q1244 : (Jvm.Cond.instanceMethod ({ cls := "AskedCourt$State", name := "sum", desc := "()I" } : Jvm.MethodName)) ∈ lw_all := lw_g (lw_at lw_m5 145 rfl) rfl
theorem q1245 : (Jvm.Cond.selects "AskedCourt$State" ({ cls := "AskedCourt$State", name := "sum", desc := "()I" } : Jvm.MethodName) ({ cls := "AskedCourt$State", name := "sum", desc := "()I" } : Jvm.MethodName)) ∈ lw_all := lw_g (lw_at lw_m5 146 rfl) rfl
theorem q1246 : (Jvm.Cond.code ({ cls := "AskedCourt$State", name := "sum", desc := "()I" } : Jvm.MethodName) prog_18_method_4_code (3 : Nat) (Option.some Jvm.ClassFile.FieldType.int)) ∈ lw_all := lw_g (lw_at lw_m5 147 rfl) rfl
theorem q1247 : (Jvm.Cond.methodLinkNest "AskedCourt$State" (165 : Nat) ({ cls := "AskedCourt", name := "questions", desc := "()I" } : Jvm.MethodName) "AskedCourt") ∈ lw_tbl := lw_at lw_m5 148 rfl
theorem q1248 : (Jvm.Cond.methodLink "AskedCourt$State" (167 : Nat) ({ cls := "AskedCourt$State", name := "can", desc := "(IIIZ)Z" } : Jvm.MethodName)) ∈ lw_all := lw_g (lw_at lw_m5 149 rfl) rfl
theorem q1249 : (Jvm.Cond.methodLink "AskedCourt$State" (171 : Nat) ({ cls := "AskedCourt$State", name := "ask", desc := "(IIIZ)Z" } : Jvm.MethodName)) ∈ lw_all := lw_g (lw_at lw_m5 150 rfl) rfl
theorem q1376 : (Jvm.Cond.instanceMethod ({ cls := "AskedCourt$State", name := "talk", desc := "(IZ)V" } : Jvm.MethodName)) ∈ lw_all := lw_g (lw_at lw_m6 37 rfl) rfl
theorem q1377 : (Jvm.Cond.selects "AskedCourt$State" ({ cls := "AskedCourt$State", name := "talk", desc := "(IZ)V" } : Jvm.MethodName) ({ cls := "AskedCourt$State", name := "talk", desc := "(IZ)V" } : Jvm.MethodName)) ∈ lw_all := lw_g (lw_at lw_m6 38 rfl) rfl
theorem q1378 : (Jvm.Cond.code ({ cls := "AskedCourt$State", name := "talk", desc := "(IZ)V" } : Jvm.MethodName) prog_18_method_15_code (3 : Nat) (Option.none : Option Jvm.ClassFile.FieldType)) ∈ lw_all := lw_g (lw_at lw_m6 39 rfl) rfl
theorem q2333 : (Jvm.Cond.castable "AskedCourt$State" "java/lang/Object") ∈ lw_tbl := lw_at lw_m10 34 rfl
theorem in_X9 : ∀ w ∈ wsX90, w ∈ lw_all := lw_in wsX90 [383, 385, 387, 389, 391, 393, 395, 397, 399, 401, 403] (by decide +kernel) (by decide +kernel)

theorem q713 : (Jvm.Cond.selects "AskedCourt$Trouble" ({ cls := "java/lang/Throwable", name := "fillInStackTrace", desc := "()Ljava/lang/Throwable;" } : Jvm.MethodName) ({ cls := "java/lang/Throwable", name := "fillInStackTrace", desc := "()Ljava/lang/Throwable;" } : Jvm.MethodName)) ∈ lw_all := lw_g (lw_at lw_m3 94 rfl) rfl
set_option maxRecDepth 100000
theorem q826 : (Jvm.Cond.selects "AskedCourt$Trouble" ({ cls := "java/lang/Object", name := "getClass", desc := "()Ljava/lang/Class;" } : Jvm.MethodName) ({ cls := "java/lang/Object", name := "getClass", desc := "()Ljava/lang/Class;" } : Jvm.MethodName)) ∈ lw_all := lw_g (lw_at lw_m3 207 rfl) rfl
theorem q2325 : (Jvm.Cond.castable "AskedCourt$Trouble" "AskedCourt$Trouble") ∈ lw_tbl := lw_at lw_m10 26 rfl
theorem q2355 : (Jvm.Cond.castable "AskedCourt$Trouble" "java/lang/Object") ∈ lw_tbl := lw_at lw_m10 56 rfl

theorem q2370 : (Jvm.Cond.castable "[B" "java/lang/Object") ∈ lw_tbl := lw_at lw_m10 71 rfl
set_option maxRecDepth 100000

theorem q2373 : (Jvm.Cond.castable "[I" "java/lang/Object") ∈ lw_tbl := lw_at lw_m10 74 rfl
set_option maxRecDepth 100000

theorem q2375 : (Jvm.Cond.castable "[J" "java/lang/Object") ∈ lw_tbl := lw_at lw_m10 76 rfl
set_option maxRecDepth 100000

theorem q2374 : (Jvm.Cond.castable "[LAskedCourt$Kind;" "java/lang/Object") ∈ lw_tbl := lw_at lw_m10 75 rfl
set_option maxRecDepth 100000

theorem q2372 : (Jvm.Cond.castable "[LAskedCourt$Part;" "java/lang/Object") ∈ lw_tbl := lw_at lw_m10 73 rfl
set_option maxRecDepth 100000

theorem q2376 : (Jvm.Cond.castable "[LAskedCourt$State;" "java/lang/Object") ∈ lw_tbl := lw_at lw_m10 77 rfl
set_option maxRecDepth 100000

theorem q2367 : (Jvm.Cond.sameMethod "[Ljava/lang/Object;" "java/lang/Object" "getClass" "()Ljava/lang/Class;") ∈ lw_all := lw_g (lw_at lw_m10 68 rfl) rfl
set_option maxRecDepth 100000
theorem q2368 : (Jvm.Cond.selects "[Ljava/lang/Object;" ({ cls := "java/lang/Object", name := "getClass", desc := "()Ljava/lang/Class;" } : Jvm.MethodName) ({ cls := "java/lang/Object", name := "getClass", desc := "()Ljava/lang/Class;" } : Jvm.MethodName)) ∈ lw_all := lw_g (lw_at lw_m10 69 rfl) rfl
theorem q2371 : (Jvm.Cond.castable "[Ljava/lang/Object;" "java/lang/Object") ∈ lw_tbl := lw_at lw_m10 72 rfl

theorem q2378 : (Jvm.Cond.castable "[Ljava/lang/String;" "java/lang/Object") ∈ lw_tbl := lw_at lw_m10 79 rfl
set_option maxRecDepth 100000

theorem q2377 : (Jvm.Cond.castable "[Z" "java/lang/Object") ∈ lw_tbl := lw_at lw_m10 78 rfl
set_option maxRecDepth 100000

theorem q166 : (Jvm.Cond.initialized "java/lang/System") ∈ lw_all := lw_g (lw_at lw_m1 27 rfl) rfl
set_option maxRecDepth 100000
theorem q842 : (Jvm.Cond.static ({ cls := "java/lang/System", name := "arraycopy", desc := "(Ljava/lang/Object;ILjava/lang/Object;II)V" } : Jvm.MethodName)) ∈ lw_all := lw_g (lw_at lw_m3 223 rfl) rfl
theorem q843 : (Jvm.Cond.native ({ cls := "java/lang/System", name := "arraycopy", desc := "(Ljava/lang/Object;ILjava/lang/Object;II)V" } : Jvm.MethodName)) ∈ lw_all := lw_g (lw_at lw_m3 224 rfl) rfl

theorem q224 : (Jvm.Cond.arrayClass Jvm.ClassFile.FieldType.byte) ∈ lw_all := lw_g (lw_at lw_m1 85 rfl) rfl
set_option maxRecDepth 100000
theorem q244 : (Jvm.Cond.arrayOver (Jvm.ClassFile.FieldType.object "java/lang/Object")) ∈ lw_tbl := lw_at lw_m1 105 rfl
theorem q260 : (Jvm.Cond.arrayOver (Jvm.ClassFile.FieldType.object "AskedCourt$Part")) ∈ lw_tbl := lw_at lw_m1 121 rfl
theorem q320 : (Jvm.Cond.arrayClass Jvm.ClassFile.FieldType.int) ∈ lw_all := lw_g (lw_at lw_m1 181 rfl) rfl
theorem q322 : (Jvm.Cond.arrayOver (Jvm.ClassFile.FieldType.object "AskedCourt$Kind")) ∈ lw_tbl := lw_at lw_m1 183 rfl
theorem q333 : (Jvm.Cond.arrayClass Jvm.ClassFile.FieldType.long) ∈ lw_all := lw_g (lw_at lw_m1 194 rfl) rfl
theorem q406 : (Jvm.Cond.arrayOver (Jvm.ClassFile.FieldType.object "AskedCourt$State")) ∈ lw_tbl := lw_at lw_m2 27 rfl
theorem q513 : (Jvm.Cond.arrayClass Jvm.ClassFile.FieldType.boolean) ∈ lw_all := lw_g (lw_at lw_m2 134 rfl) rfl
theorem q2406 : (Jvm.Cond.arrayOver (Jvm.ClassFile.FieldType.object "java/lang/String")) ∈ lw_tbl := lw_at lw_m10 107 rfl

