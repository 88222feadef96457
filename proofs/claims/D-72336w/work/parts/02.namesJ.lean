/-! DECODE ROWS BY BYTES: one lemma an opcode; a method's code is cut into short pieces once, and a row reads its own piece alone. -/
set_option maxRecDepth 100000
/-- the code has just these bytes from pc on -/
def DkAt (code : ByteArray) (pc : Nat) (bs : List UInt8) : Prop := ∀ (j : Nat) (b : UInt8), bs[j]? = some b → code.data.toList[pc + j]? = some b
/-- the piece W has the bytes bs from its place j on -/
def dkIn (W : List UInt8) (j : Nat) (bs : List UInt8) : Bool := decide ((W.drop j).take bs.length = bs)
theorem dk_seg {l W T : List UInt8} {o o2 : Nat} (h : l.drop o = W ++ T) (n : Nat) (hn : W.length = n) (ho : o + n = o2) : l.drop o2 = T := by
  subst ho
  rw [← List.drop_drop, h, List.drop_left' hn]
theorem dk_at {code : ByteArray} {W T bs : List UInt8} {o pc : Nat} (h : code.data.toList.drop o = W ++ T) (j : Nat) (hp : o + j = pc) (hw : dkIn W j bs = true) : DkAt code pc bs := by
  subst hp
  intro i b e
  have h1 := of_decide_eq_true hw
  have h2 : i < bs.length := (List.getElem?_eq_some_iff.mp e).1
  have h3 : W[j + i]? = some b := by
    rw [← h1, List.getElem?_take, if_pos h2, List.getElem?_drop] at e
    exact e
  have h4 : j + i < W.length := (List.getElem?_eq_some_iff.mp h3).1
  have h5 : (code.data.toList.drop o)[j + i]? = some b := by
    rw [h, List.getElem?_append_left h4]
    exact h3
  rw [List.getElem?_drop, ← Nat.add_assoc] at h5
  exact h5
theorem dk_u1 {A : ByteArray} {p : Nat} {b : UInt8} (h : A.data.toList[p]? = some b) : (Reader.u1 : Reader DecodeError Nat) A p = .ok (b.toNat, p + 1) := by
  obtain ⟨h1, h2⟩ := List.getElem?_eq_some_iff.mp h
  have h3 : p < A.size := by simpa using h1
  have h4 : A[p]'h3 = b := h2
  have e : (Reader.u1 : Reader DecodeError Nat) A p = (if h : p < A.size then .ok (A[p].toNat, p + 1) else .error (HasTruncated.truncated p)) := by
    show (do if h : p < A.size then do set (p + 1); Pure.pure A[p].toNat else MonadExcept.throw (HasTruncated.truncated p) : Reader DecodeError Nat) A p = _
    by_cases hi : p < A.size
    · rw [dif_pos hi, dif_pos hi]; rfl
    · rw [dif_neg hi, dif_neg hi]; rfl
  rw [e, dif_pos h3, h4]
theorem dk_bind {α β : Type} {r : Reader DecodeError α} {f : α → Reader DecodeError β} {A : ByteArray} {p s : Nat} {a : α} (h : r A p = .ok (a, s)) : (r >>= f) A p = f a A s := by
  show (do let (a, s) ← r A p; f a A s : Except DecodeError (β × Nat)) = _
  rw [h]
  rfl
theorem dk_map {α β : Type} {r : Reader DecodeError α} {g : α → β} {A : ByteArray} {p s : Nat} {a : α} (h : r A p = .ok (a, s)) : (g <$> r) A p = .ok (g a, s) := by
  show (do let (a, s) ← r A p; .ok (g a, s) : Except DecodeError (β × Nat)) = _
  rw [h]
  rfl
theorem dk_u2 {A : ByteArray} {p : Nat} {a b : UInt8} (h : A.data.toList[p]? = some a) (h2 : A.data.toList[p + 1]? = some b) : (Reader.u2 : Reader DecodeError Nat) A p = .ok (a.toNat * 256 + b.toNat, p + 2) := by
  show (Reader.u1 >>= fun hi => Reader.u1 >>= fun lo => Pure.pure (hi * 256 + lo) : Reader DecodeError Nat) A p = _
  rw [dk_bind (dk_u1 h), dk_bind (dk_u1 h2)]
  rfl
theorem dk_of {code : ByteArray} {pc n : Nat} {i : Instr} (h : Decoder.instr pc code pc = .ok (i, pc + n)) : decode code pc = .ok (i, n) := by
  have e : decode code pc = (match Decoder.instr pc code pc with | .error x => .error x | .ok (j, s) => .ok (j, s - pc)) := by
    show (do let (j, s) ← Decoder.instr pc code pc; Pure.pure (j, s - pc) : Except DecodeError (Instr × Nat)) = _
    cases Decoder.instr pc code pc <;> rfl
  rw [e, h]
  show Except.ok (i, pc + n - pc) = _
  rw [Nat.add_sub_cancel_left]
theorem dk_1 {code : ByteArray} {pc : Nat} (h : DkAt code pc [1]) : decode code pc = .ok (.aconst_null, 1) := dk_of ((dk_bind (dk_u1 (h 0 _ rfl))).trans rfl)
theorem dk_2 {code : ByteArray} {pc : Nat} (h : DkAt code pc [2]) : decode code pc = .ok (.iconst (-1), 1) := dk_of ((dk_bind (dk_u1 (h 0 _ rfl))).trans rfl)
theorem dk_3 {code : ByteArray} {pc : Nat} (h : DkAt code pc [3]) : decode code pc = .ok (.iconst 0, 1) := dk_of ((dk_bind (dk_u1 (h 0 _ rfl))).trans rfl)
theorem dk_4 {code : ByteArray} {pc : Nat} (h : DkAt code pc [4]) : decode code pc = .ok (.iconst 1, 1) := dk_of ((dk_bind (dk_u1 (h 0 _ rfl))).trans rfl)
theorem dk_5 {code : ByteArray} {pc : Nat} (h : DkAt code pc [5]) : decode code pc = .ok (.iconst 2, 1) := dk_of ((dk_bind (dk_u1 (h 0 _ rfl))).trans rfl)
theorem dk_6 {code : ByteArray} {pc : Nat} (h : DkAt code pc [6]) : decode code pc = .ok (.iconst 3, 1) := dk_of ((dk_bind (dk_u1 (h 0 _ rfl))).trans rfl)
theorem dk_7 {code : ByteArray} {pc : Nat} (h : DkAt code pc [7]) : decode code pc = .ok (.iconst 4, 1) := dk_of ((dk_bind (dk_u1 (h 0 _ rfl))).trans rfl)
theorem dk_8 {code : ByteArray} {pc : Nat} (h : DkAt code pc [8]) : decode code pc = .ok (.iconst 5, 1) := dk_of ((dk_bind (dk_u1 (h 0 _ rfl))).trans rfl)
theorem dk_9 {code : ByteArray} {pc : Nat} (h : DkAt code pc [9]) : decode code pc = .ok (.lconst 0, 1) := dk_of ((dk_bind (dk_u1 (h 0 _ rfl))).trans rfl)
theorem dk_10 {code : ByteArray} {pc : Nat} (h : DkAt code pc [10]) : decode code pc = .ok (.lconst 1, 1) := dk_of ((dk_bind (dk_u1 (h 0 _ rfl))).trans rfl)
theorem dk_16 {code : ByteArray} {pc : Nat} (a : UInt8) (h : DkAt code pc [16, a]) : decode code pc = .ok (.bipush (Reader.signed 8 a.toNat), 2) := dk_of ((dk_bind (dk_u1 (h 0 _ rfl))).trans ((dk_bind (dk_map (dk_u1 (h 1 _ rfl)))).trans rfl))
theorem dk_17 {code : ByteArray} {pc : Nat} (a b : UInt8) (h : DkAt code pc [17, a, b]) : decode code pc = .ok (.sipush (Reader.signed 16 (a.toNat * 256 + b.toNat)), 3) := dk_of ((dk_bind (dk_u1 (h 0 _ rfl))).trans ((dk_bind (dk_map (dk_u2 (h 1 _ rfl) (h 2 _ rfl)))).trans rfl))
theorem dk_18 {code : ByteArray} {pc : Nat} (a : UInt8) (h : DkAt code pc [18, a]) : decode code pc = .ok (.ldc a.toNat, 2) := dk_of ((dk_bind (dk_u1 (h 0 _ rfl))).trans ((dk_bind (dk_u1 (h 1 _ rfl))).trans rfl))
theorem dk_19 {code : ByteArray} {pc : Nat} (a b : UInt8) (h : DkAt code pc [19, a, b]) : decode code pc = .ok (.ldc_w (a.toNat * 256 + b.toNat), 3) := dk_of ((dk_bind (dk_u1 (h 0 _ rfl))).trans ((dk_bind (dk_u2 (h 1 _ rfl) (h 2 _ rfl))).trans rfl))
theorem dk_20 {code : ByteArray} {pc : Nat} (a b : UInt8) (h : DkAt code pc [20, a, b]) : decode code pc = .ok (.ldc2_w (a.toNat * 256 + b.toNat), 3) := dk_of ((dk_bind (dk_u1 (h 0 _ rfl))).trans ((dk_bind (dk_u2 (h 1 _ rfl) (h 2 _ rfl))).trans rfl))
theorem dk_21 {code : ByteArray} {pc : Nat} (a : UInt8) (h : DkAt code pc [21, a]) : decode code pc = .ok (.iload a.toNat, 2) := dk_of ((dk_bind (dk_u1 (h 0 _ rfl))).trans ((dk_bind (dk_u1 (h 1 _ rfl))).trans rfl))
theorem dk_22 {code : ByteArray} {pc : Nat} (a : UInt8) (h : DkAt code pc [22, a]) : decode code pc = .ok (.lload a.toNat, 2) := dk_of ((dk_bind (dk_u1 (h 0 _ rfl))).trans ((dk_bind (dk_u1 (h 1 _ rfl))).trans rfl))
theorem dk_25 {code : ByteArray} {pc : Nat} (a : UInt8) (h : DkAt code pc [25, a]) : decode code pc = .ok (.aload a.toNat, 2) := dk_of ((dk_bind (dk_u1 (h 0 _ rfl))).trans ((dk_bind (dk_u1 (h 1 _ rfl))).trans rfl))
theorem dk_26 {code : ByteArray} {pc : Nat} (h : DkAt code pc [26]) : decode code pc = .ok (.iload_n 0, 1) := dk_of ((dk_bind (dk_u1 (h 0 _ rfl))).trans rfl)
theorem dk_27 {code : ByteArray} {pc : Nat} (h : DkAt code pc [27]) : decode code pc = .ok (.iload_n 1, 1) := dk_of ((dk_bind (dk_u1 (h 0 _ rfl))).trans rfl)
theorem dk_28 {code : ByteArray} {pc : Nat} (h : DkAt code pc [28]) : decode code pc = .ok (.iload_n 2, 1) := dk_of ((dk_bind (dk_u1 (h 0 _ rfl))).trans rfl)
theorem dk_29 {code : ByteArray} {pc : Nat} (h : DkAt code pc [29]) : decode code pc = .ok (.iload_n 3, 1) := dk_of ((dk_bind (dk_u1 (h 0 _ rfl))).trans rfl)
theorem dk_30 {code : ByteArray} {pc : Nat} (h : DkAt code pc [30]) : decode code pc = .ok (.lload_n 0, 1) := dk_of ((dk_bind (dk_u1 (h 0 _ rfl))).trans rfl)
theorem dk_31 {code : ByteArray} {pc : Nat} (h : DkAt code pc [31]) : decode code pc = .ok (.lload_n 1, 1) := dk_of ((dk_bind (dk_u1 (h 0 _ rfl))).trans rfl)
theorem dk_32 {code : ByteArray} {pc : Nat} (h : DkAt code pc [32]) : decode code pc = .ok (.lload_n 2, 1) := dk_of ((dk_bind (dk_u1 (h 0 _ rfl))).trans rfl)
theorem dk_33 {code : ByteArray} {pc : Nat} (h : DkAt code pc [33]) : decode code pc = .ok (.lload_n 3, 1) := dk_of ((dk_bind (dk_u1 (h 0 _ rfl))).trans rfl)
theorem dk_42 {code : ByteArray} {pc : Nat} (h : DkAt code pc [42]) : decode code pc = .ok (.aload_n 0, 1) := dk_of ((dk_bind (dk_u1 (h 0 _ rfl))).trans rfl)
theorem dk_43 {code : ByteArray} {pc : Nat} (h : DkAt code pc [43]) : decode code pc = .ok (.aload_n 1, 1) := dk_of ((dk_bind (dk_u1 (h 0 _ rfl))).trans rfl)
theorem dk_44 {code : ByteArray} {pc : Nat} (h : DkAt code pc [44]) : decode code pc = .ok (.aload_n 2, 1) := dk_of ((dk_bind (dk_u1 (h 0 _ rfl))).trans rfl)
theorem dk_45 {code : ByteArray} {pc : Nat} (h : DkAt code pc [45]) : decode code pc = .ok (.aload_n 3, 1) := dk_of ((dk_bind (dk_u1 (h 0 _ rfl))).trans rfl)
theorem dk_46 {code : ByteArray} {pc : Nat} (h : DkAt code pc [46]) : decode code pc = .ok (.iaload, 1) := dk_of ((dk_bind (dk_u1 (h 0 _ rfl))).trans rfl)
theorem dk_50 {code : ByteArray} {pc : Nat} (h : DkAt code pc [50]) : decode code pc = .ok (.aaload, 1) := dk_of ((dk_bind (dk_u1 (h 0 _ rfl))).trans rfl)
theorem dk_51 {code : ByteArray} {pc : Nat} (h : DkAt code pc [51]) : decode code pc = .ok (.baload, 1) := dk_of ((dk_bind (dk_u1 (h 0 _ rfl))).trans rfl)
theorem dk_54 {code : ByteArray} {pc : Nat} (a : UInt8) (h : DkAt code pc [54, a]) : decode code pc = .ok (.istore a.toNat, 2) := dk_of ((dk_bind (dk_u1 (h 0 _ rfl))).trans ((dk_bind (dk_u1 (h 1 _ rfl))).trans rfl))
theorem dk_55 {code : ByteArray} {pc : Nat} (a : UInt8) (h : DkAt code pc [55, a]) : decode code pc = .ok (.lstore a.toNat, 2) := dk_of ((dk_bind (dk_u1 (h 0 _ rfl))).trans ((dk_bind (dk_u1 (h 1 _ rfl))).trans rfl))
theorem dk_58 {code : ByteArray} {pc : Nat} (a : UInt8) (h : DkAt code pc [58, a]) : decode code pc = .ok (.astore a.toNat, 2) := dk_of ((dk_bind (dk_u1 (h 0 _ rfl))).trans ((dk_bind (dk_u1 (h 1 _ rfl))).trans rfl))
theorem dk_59 {code : ByteArray} {pc : Nat} (h : DkAt code pc [59]) : decode code pc = .ok (.istore_n 0, 1) := dk_of ((dk_bind (dk_u1 (h 0 _ rfl))).trans rfl)
theorem dk_60 {code : ByteArray} {pc : Nat} (h : DkAt code pc [60]) : decode code pc = .ok (.istore_n 1, 1) := dk_of ((dk_bind (dk_u1 (h 0 _ rfl))).trans rfl)
theorem dk_61 {code : ByteArray} {pc : Nat} (h : DkAt code pc [61]) : decode code pc = .ok (.istore_n 2, 1) := dk_of ((dk_bind (dk_u1 (h 0 _ rfl))).trans rfl)
theorem dk_62 {code : ByteArray} {pc : Nat} (h : DkAt code pc [62]) : decode code pc = .ok (.istore_n 3, 1) := dk_of ((dk_bind (dk_u1 (h 0 _ rfl))).trans rfl)
theorem dk_64 {code : ByteArray} {pc : Nat} (h : DkAt code pc [64]) : decode code pc = .ok (.lstore_n 1, 1) := dk_of ((dk_bind (dk_u1 (h 0 _ rfl))).trans rfl)
theorem dk_65 {code : ByteArray} {pc : Nat} (h : DkAt code pc [65]) : decode code pc = .ok (.lstore_n 2, 1) := dk_of ((dk_bind (dk_u1 (h 0 _ rfl))).trans rfl)
theorem dk_66 {code : ByteArray} {pc : Nat} (h : DkAt code pc [66]) : decode code pc = .ok (.lstore_n 3, 1) := dk_of ((dk_bind (dk_u1 (h 0 _ rfl))).trans rfl)
theorem dk_76 {code : ByteArray} {pc : Nat} (h : DkAt code pc [76]) : decode code pc = .ok (.astore_n 1, 1) := dk_of ((dk_bind (dk_u1 (h 0 _ rfl))).trans rfl)
theorem dk_77 {code : ByteArray} {pc : Nat} (h : DkAt code pc [77]) : decode code pc = .ok (.astore_n 2, 1) := dk_of ((dk_bind (dk_u1 (h 0 _ rfl))).trans rfl)
theorem dk_78 {code : ByteArray} {pc : Nat} (h : DkAt code pc [78]) : decode code pc = .ok (.astore_n 3, 1) := dk_of ((dk_bind (dk_u1 (h 0 _ rfl))).trans rfl)
theorem dk_79 {code : ByteArray} {pc : Nat} (h : DkAt code pc [79]) : decode code pc = .ok (.iastore, 1) := dk_of ((dk_bind (dk_u1 (h 0 _ rfl))).trans rfl)
theorem dk_83 {code : ByteArray} {pc : Nat} (h : DkAt code pc [83]) : decode code pc = .ok (.aastore, 1) := dk_of ((dk_bind (dk_u1 (h 0 _ rfl))).trans rfl)
theorem dk_84 {code : ByteArray} {pc : Nat} (h : DkAt code pc [84]) : decode code pc = .ok (.bastore, 1) := dk_of ((dk_bind (dk_u1 (h 0 _ rfl))).trans rfl)
theorem dk_87 {code : ByteArray} {pc : Nat} (h : DkAt code pc [87]) : decode code pc = .ok (.pop, 1) := dk_of ((dk_bind (dk_u1 (h 0 _ rfl))).trans rfl)
theorem dk_89 {code : ByteArray} {pc : Nat} (h : DkAt code pc [89]) : decode code pc = .ok (.dup, 1) := dk_of ((dk_bind (dk_u1 (h 0 _ rfl))).trans rfl)
theorem dk_90 {code : ByteArray} {pc : Nat} (h : DkAt code pc [90]) : decode code pc = .ok (.dup_x1, 1) := dk_of ((dk_bind (dk_u1 (h 0 _ rfl))).trans rfl)
theorem dk_92 {code : ByteArray} {pc : Nat} (h : DkAt code pc [92]) : decode code pc = .ok (.dup2, 1) := dk_of ((dk_bind (dk_u1 (h 0 _ rfl))).trans rfl)
theorem dk_96 {code : ByteArray} {pc : Nat} (h : DkAt code pc [96]) : decode code pc = .ok (.iadd, 1) := dk_of ((dk_bind (dk_u1 (h 0 _ rfl))).trans rfl)
theorem dk_97 {code : ByteArray} {pc : Nat} (h : DkAt code pc [97]) : decode code pc = .ok (.ladd, 1) := dk_of ((dk_bind (dk_u1 (h 0 _ rfl))).trans rfl)
theorem dk_100 {code : ByteArray} {pc : Nat} (h : DkAt code pc [100]) : decode code pc = .ok (.isub, 1) := dk_of ((dk_bind (dk_u1 (h 0 _ rfl))).trans rfl)
theorem dk_101 {code : ByteArray} {pc : Nat} (h : DkAt code pc [101]) : decode code pc = .ok (.lsub, 1) := dk_of ((dk_bind (dk_u1 (h 0 _ rfl))).trans rfl)
theorem dk_104 {code : ByteArray} {pc : Nat} (h : DkAt code pc [104]) : decode code pc = .ok (.imul, 1) := dk_of ((dk_bind (dk_u1 (h 0 _ rfl))).trans rfl)
theorem dk_105 {code : ByteArray} {pc : Nat} (h : DkAt code pc [105]) : decode code pc = .ok (.lmul, 1) := dk_of ((dk_bind (dk_u1 (h 0 _ rfl))).trans rfl)
theorem dk_108 {code : ByteArray} {pc : Nat} (h : DkAt code pc [108]) : decode code pc = .ok (.idiv, 1) := dk_of ((dk_bind (dk_u1 (h 0 _ rfl))).trans rfl)
theorem dk_109 {code : ByteArray} {pc : Nat} (h : DkAt code pc [109]) : decode code pc = .ok (.ldiv, 1) := dk_of ((dk_bind (dk_u1 (h 0 _ rfl))).trans rfl)
theorem dk_112 {code : ByteArray} {pc : Nat} (h : DkAt code pc [112]) : decode code pc = .ok (.irem, 1) := dk_of ((dk_bind (dk_u1 (h 0 _ rfl))).trans rfl)
theorem dk_113 {code : ByteArray} {pc : Nat} (h : DkAt code pc [113]) : decode code pc = .ok (.lrem, 1) := dk_of ((dk_bind (dk_u1 (h 0 _ rfl))).trans rfl)
theorem dk_116 {code : ByteArray} {pc : Nat} (h : DkAt code pc [116]) : decode code pc = .ok (.ineg, 1) := dk_of ((dk_bind (dk_u1 (h 0 _ rfl))).trans rfl)
theorem dk_117 {code : ByteArray} {pc : Nat} (h : DkAt code pc [117]) : decode code pc = .ok (.lneg, 1) := dk_of ((dk_bind (dk_u1 (h 0 _ rfl))).trans rfl)
theorem dk_120 {code : ByteArray} {pc : Nat} (h : DkAt code pc [120]) : decode code pc = .ok (.ishl, 1) := dk_of ((dk_bind (dk_u1 (h 0 _ rfl))).trans rfl)
theorem dk_122 {code : ByteArray} {pc : Nat} (h : DkAt code pc [122]) : decode code pc = .ok (.ishr, 1) := dk_of ((dk_bind (dk_u1 (h 0 _ rfl))).trans rfl)
theorem dk_124 {code : ByteArray} {pc : Nat} (h : DkAt code pc [124]) : decode code pc = .ok (.iushr, 1) := dk_of ((dk_bind (dk_u1 (h 0 _ rfl))).trans rfl)
theorem dk_126 {code : ByteArray} {pc : Nat} (h : DkAt code pc [126]) : decode code pc = .ok (.iand, 1) := dk_of ((dk_bind (dk_u1 (h 0 _ rfl))).trans rfl)
theorem dk_128 {code : ByteArray} {pc : Nat} (h : DkAt code pc [128]) : decode code pc = .ok (.ior, 1) := dk_of ((dk_bind (dk_u1 (h 0 _ rfl))).trans rfl)
theorem dk_130 {code : ByteArray} {pc : Nat} (h : DkAt code pc [130]) : decode code pc = .ok (.ixor, 1) := dk_of ((dk_bind (dk_u1 (h 0 _ rfl))).trans rfl)
theorem dk_131 {code : ByteArray} {pc : Nat} (h : DkAt code pc [131]) : decode code pc = .ok (.lxor, 1) := dk_of ((dk_bind (dk_u1 (h 0 _ rfl))).trans rfl)
theorem dk_132 {code : ByteArray} {pc : Nat} (a b : UInt8) (h : DkAt code pc [132, a, b]) : decode code pc = .ok (.iinc a.toNat (Reader.signed 8 b.toNat), 3) := dk_of ((dk_bind (dk_u1 (h 0 _ rfl))).trans ((dk_bind (dk_u1 (h 1 _ rfl))).trans ((dk_bind (dk_map (dk_u1 (h 2 _ rfl)))).trans rfl)))
theorem dk_133 {code : ByteArray} {pc : Nat} (h : DkAt code pc [133]) : decode code pc = .ok (.i2l, 1) := dk_of ((dk_bind (dk_u1 (h 0 _ rfl))).trans rfl)
theorem dk_136 {code : ByteArray} {pc : Nat} (h : DkAt code pc [136]) : decode code pc = .ok (.l2i, 1) := dk_of ((dk_bind (dk_u1 (h 0 _ rfl))).trans rfl)
theorem dk_145 {code : ByteArray} {pc : Nat} (h : DkAt code pc [145]) : decode code pc = .ok (.i2b, 1) := dk_of ((dk_bind (dk_u1 (h 0 _ rfl))).trans rfl)
theorem dk_148 {code : ByteArray} {pc : Nat} (h : DkAt code pc [148]) : decode code pc = .ok (.lcmp, 1) := dk_of ((dk_bind (dk_u1 (h 0 _ rfl))).trans rfl)
theorem dk_153 {code : ByteArray} {pc : Nat} (a b : UInt8) (h : DkAt code pc [153, a, b]) : decode code pc = .ok (.ifCond .eq (Reader.signed 16 (a.toNat * 256 + b.toNat)), 3) := dk_of ((dk_bind (dk_u1 (h 0 _ rfl))).trans ((dk_bind (dk_map (dk_u2 (h 1 _ rfl) (h 2 _ rfl)))).trans rfl))
theorem dk_154 {code : ByteArray} {pc : Nat} (a b : UInt8) (h : DkAt code pc [154, a, b]) : decode code pc = .ok (.ifCond .ne (Reader.signed 16 (a.toNat * 256 + b.toNat)), 3) := dk_of ((dk_bind (dk_u1 (h 0 _ rfl))).trans ((dk_bind (dk_map (dk_u2 (h 1 _ rfl) (h 2 _ rfl)))).trans rfl))
theorem dk_155 {code : ByteArray} {pc : Nat} (a b : UInt8) (h : DkAt code pc [155, a, b]) : decode code pc = .ok (.ifCond .lt (Reader.signed 16 (a.toNat * 256 + b.toNat)), 3) := dk_of ((dk_bind (dk_u1 (h 0 _ rfl))).trans ((dk_bind (dk_map (dk_u2 (h 1 _ rfl) (h 2 _ rfl)))).trans rfl))
theorem dk_156 {code : ByteArray} {pc : Nat} (a b : UInt8) (h : DkAt code pc [156, a, b]) : decode code pc = .ok (.ifCond .ge (Reader.signed 16 (a.toNat * 256 + b.toNat)), 3) := dk_of ((dk_bind (dk_u1 (h 0 _ rfl))).trans ((dk_bind (dk_map (dk_u2 (h 1 _ rfl) (h 2 _ rfl)))).trans rfl))
theorem dk_157 {code : ByteArray} {pc : Nat} (a b : UInt8) (h : DkAt code pc [157, a, b]) : decode code pc = .ok (.ifCond .gt (Reader.signed 16 (a.toNat * 256 + b.toNat)), 3) := dk_of ((dk_bind (dk_u1 (h 0 _ rfl))).trans ((dk_bind (dk_map (dk_u2 (h 1 _ rfl) (h 2 _ rfl)))).trans rfl))
theorem dk_158 {code : ByteArray} {pc : Nat} (a b : UInt8) (h : DkAt code pc [158, a, b]) : decode code pc = .ok (.ifCond .le (Reader.signed 16 (a.toNat * 256 + b.toNat)), 3) := dk_of ((dk_bind (dk_u1 (h 0 _ rfl))).trans ((dk_bind (dk_map (dk_u2 (h 1 _ rfl) (h 2 _ rfl)))).trans rfl))
theorem dk_159 {code : ByteArray} {pc : Nat} (a b : UInt8) (h : DkAt code pc [159, a, b]) : decode code pc = .ok (.if_icmp .eq (Reader.signed 16 (a.toNat * 256 + b.toNat)), 3) := dk_of ((dk_bind (dk_u1 (h 0 _ rfl))).trans ((dk_bind (dk_map (dk_u2 (h 1 _ rfl) (h 2 _ rfl)))).trans rfl))
theorem dk_160 {code : ByteArray} {pc : Nat} (a b : UInt8) (h : DkAt code pc [160, a, b]) : decode code pc = .ok (.if_icmp .ne (Reader.signed 16 (a.toNat * 256 + b.toNat)), 3) := dk_of ((dk_bind (dk_u1 (h 0 _ rfl))).trans ((dk_bind (dk_map (dk_u2 (h 1 _ rfl) (h 2 _ rfl)))).trans rfl))
theorem dk_161 {code : ByteArray} {pc : Nat} (a b : UInt8) (h : DkAt code pc [161, a, b]) : decode code pc = .ok (.if_icmp .lt (Reader.signed 16 (a.toNat * 256 + b.toNat)), 3) := dk_of ((dk_bind (dk_u1 (h 0 _ rfl))).trans ((dk_bind (dk_map (dk_u2 (h 1 _ rfl) (h 2 _ rfl)))).trans rfl))
theorem dk_162 {code : ByteArray} {pc : Nat} (a b : UInt8) (h : DkAt code pc [162, a, b]) : decode code pc = .ok (.if_icmp .ge (Reader.signed 16 (a.toNat * 256 + b.toNat)), 3) := dk_of ((dk_bind (dk_u1 (h 0 _ rfl))).trans ((dk_bind (dk_map (dk_u2 (h 1 _ rfl) (h 2 _ rfl)))).trans rfl))
theorem dk_163 {code : ByteArray} {pc : Nat} (a b : UInt8) (h : DkAt code pc [163, a, b]) : decode code pc = .ok (.if_icmp .gt (Reader.signed 16 (a.toNat * 256 + b.toNat)), 3) := dk_of ((dk_bind (dk_u1 (h 0 _ rfl))).trans ((dk_bind (dk_map (dk_u2 (h 1 _ rfl) (h 2 _ rfl)))).trans rfl))
theorem dk_164 {code : ByteArray} {pc : Nat} (a b : UInt8) (h : DkAt code pc [164, a, b]) : decode code pc = .ok (.if_icmp .le (Reader.signed 16 (a.toNat * 256 + b.toNat)), 3) := dk_of ((dk_bind (dk_u1 (h 0 _ rfl))).trans ((dk_bind (dk_map (dk_u2 (h 1 _ rfl) (h 2 _ rfl)))).trans rfl))
theorem dk_165 {code : ByteArray} {pc : Nat} (a b : UInt8) (h : DkAt code pc [165, a, b]) : decode code pc = .ok (.if_acmp .eq (Reader.signed 16 (a.toNat * 256 + b.toNat)), 3) := dk_of ((dk_bind (dk_u1 (h 0 _ rfl))).trans ((dk_bind (dk_map (dk_u2 (h 1 _ rfl) (h 2 _ rfl)))).trans rfl))
theorem dk_166 {code : ByteArray} {pc : Nat} (a b : UInt8) (h : DkAt code pc [166, a, b]) : decode code pc = .ok (.if_acmp .ne (Reader.signed 16 (a.toNat * 256 + b.toNat)), 3) := dk_of ((dk_bind (dk_u1 (h 0 _ rfl))).trans ((dk_bind (dk_map (dk_u2 (h 1 _ rfl) (h 2 _ rfl)))).trans rfl))
theorem dk_167 {code : ByteArray} {pc : Nat} (a b : UInt8) (h : DkAt code pc [167, a, b]) : decode code pc = .ok (.goto (Reader.signed 16 (a.toNat * 256 + b.toNat)), 3) := dk_of ((dk_bind (dk_u1 (h 0 _ rfl))).trans ((dk_bind (dk_map (dk_u2 (h 1 _ rfl) (h 2 _ rfl)))).trans rfl))
theorem dk_172 {code : ByteArray} {pc : Nat} (h : DkAt code pc [172]) : decode code pc = .ok (.ireturn, 1) := dk_of ((dk_bind (dk_u1 (h 0 _ rfl))).trans rfl)
theorem dk_173 {code : ByteArray} {pc : Nat} (h : DkAt code pc [173]) : decode code pc = .ok (.lreturn, 1) := dk_of ((dk_bind (dk_u1 (h 0 _ rfl))).trans rfl)
theorem dk_176 {code : ByteArray} {pc : Nat} (h : DkAt code pc [176]) : decode code pc = .ok (.areturn, 1) := dk_of ((dk_bind (dk_u1 (h 0 _ rfl))).trans rfl)
theorem dk_177 {code : ByteArray} {pc : Nat} (h : DkAt code pc [177]) : decode code pc = .ok (.return_, 1) := dk_of ((dk_bind (dk_u1 (h 0 _ rfl))).trans rfl)
theorem dk_178 {code : ByteArray} {pc : Nat} (a b : UInt8) (h : DkAt code pc [178, a, b]) : decode code pc = .ok (.getstatic (a.toNat * 256 + b.toNat), 3) := dk_of ((dk_bind (dk_u1 (h 0 _ rfl))).trans ((dk_bind (dk_u2 (h 1 _ rfl) (h 2 _ rfl))).trans rfl))
theorem dk_180 {code : ByteArray} {pc : Nat} (a b : UInt8) (h : DkAt code pc [180, a, b]) : decode code pc = .ok (.getfield (a.toNat * 256 + b.toNat), 3) := dk_of ((dk_bind (dk_u1 (h 0 _ rfl))).trans ((dk_bind (dk_u2 (h 1 _ rfl) (h 2 _ rfl))).trans rfl))
theorem dk_181 {code : ByteArray} {pc : Nat} (a b : UInt8) (h : DkAt code pc [181, a, b]) : decode code pc = .ok (.putfield (a.toNat * 256 + b.toNat), 3) := dk_of ((dk_bind (dk_u1 (h 0 _ rfl))).trans ((dk_bind (dk_u2 (h 1 _ rfl) (h 2 _ rfl))).trans rfl))
theorem dk_182 {code : ByteArray} {pc : Nat} (a b : UInt8) (h : DkAt code pc [182, a, b]) : decode code pc = .ok (.invokevirtual (a.toNat * 256 + b.toNat), 3) := dk_of ((dk_bind (dk_u1 (h 0 _ rfl))).trans ((dk_bind (dk_u2 (h 1 _ rfl) (h 2 _ rfl))).trans rfl))
theorem dk_183 {code : ByteArray} {pc : Nat} (a b : UInt8) (h : DkAt code pc [183, a, b]) : decode code pc = .ok (.invokespecial (a.toNat * 256 + b.toNat), 3) := dk_of ((dk_bind (dk_u1 (h 0 _ rfl))).trans ((dk_bind (dk_u2 (h 1 _ rfl) (h 2 _ rfl))).trans rfl))
theorem dk_184 {code : ByteArray} {pc : Nat} (a b : UInt8) (h : DkAt code pc [184, a, b]) : decode code pc = .ok (.invokestatic (a.toNat * 256 + b.toNat), 3) := dk_of ((dk_bind (dk_u1 (h 0 _ rfl))).trans ((dk_bind (dk_u2 (h 1 _ rfl) (h 2 _ rfl))).trans rfl))
theorem dk_187 {code : ByteArray} {pc : Nat} (a b : UInt8) (h : DkAt code pc [187, a, b]) : decode code pc = .ok (.new (a.toNat * 256 + b.toNat), 3) := dk_of ((dk_bind (dk_u1 (h 0 _ rfl))).trans ((dk_bind (dk_u2 (h 1 _ rfl) (h 2 _ rfl))).trans rfl))
theorem dk_188_8 {code : ByteArray} {pc : Nat} (h : DkAt code pc [188, 8]) : decode code pc = .ok (.newarray .byte, 2) := dk_of ((dk_bind (dk_u1 (h 0 _ rfl))).trans ((dk_bind (dk_u1 (h 1 _ rfl))).trans rfl))
theorem dk_188_10 {code : ByteArray} {pc : Nat} (h : DkAt code pc [188, 10]) : decode code pc = .ok (.newarray .int, 2) := dk_of ((dk_bind (dk_u1 (h 0 _ rfl))).trans ((dk_bind (dk_u1 (h 1 _ rfl))).trans rfl))
theorem dk_189 {code : ByteArray} {pc : Nat} (a b : UInt8) (h : DkAt code pc [189, a, b]) : decode code pc = .ok (.anewarray (a.toNat * 256 + b.toNat), 3) := dk_of ((dk_bind (dk_u1 (h 0 _ rfl))).trans ((dk_bind (dk_u2 (h 1 _ rfl) (h 2 _ rfl))).trans rfl))
theorem dk_190 {code : ByteArray} {pc : Nat} (h : DkAt code pc [190]) : decode code pc = .ok (.arraylength, 1) := dk_of ((dk_bind (dk_u1 (h 0 _ rfl))).trans rfl)
theorem dk_191 {code : ByteArray} {pc : Nat} (h : DkAt code pc [191]) : decode code pc = .ok (.athrow, 1) := dk_of ((dk_bind (dk_u1 (h 0 _ rfl))).trans rfl)
theorem dk_192 {code : ByteArray} {pc : Nat} (a b : UInt8) (h : DkAt code pc [192, a, b]) : decode code pc = .ok (.checkcast (a.toNat * 256 + b.toNat), 3) := dk_of ((dk_bind (dk_u1 (h 0 _ rfl))).trans ((dk_bind (dk_u2 (h 1 _ rfl) (h 2 _ rfl))).trans rfl))
theorem dk_193 {code : ByteArray} {pc : Nat} (a b : UInt8) (h : DkAt code pc [193, a, b]) : decode code pc = .ok (.instanceof (a.toNat * 256 + b.toNat), 3) := dk_of ((dk_bind (dk_u1 (h 0 _ rfl))).trans ((dk_bind (dk_u2 (h 1 _ rfl) (h 2 _ rfl))).trans rfl))
theorem dk_198 {code : ByteArray} {pc : Nat} (a b : UInt8) (h : DkAt code pc [198, a, b]) : decode code pc = .ok (.ifnull (Reader.signed 16 (a.toNat * 256 + b.toNat)), 3) := dk_of ((dk_bind (dk_u1 (h 0 _ rfl))).trans ((dk_bind (dk_map (dk_u2 (h 1 _ rfl) (h 2 _ rfl)))).trans rfl))
theorem dk_199 {code : ByteArray} {pc : Nat} (a b : UInt8) (h : DkAt code pc [199, a, b]) : decode code pc = .ok (.ifnonnull (Reader.signed 16 (a.toNat * 256 + b.toNat)), 3) := dk_of ((dk_bind (dk_u1 (h 0 _ rfl))).trans ((dk_bind (dk_map (dk_u2 (h 1 _ rfl) (h 2 _ rfl)))).trans rfl))
theorem q108 : (Jvm.Cond.initialized "PictureRingLaw") ∈ lw_all := lw_g (lw_at lw_m1 0 rfl) rfl
set_option maxRecDepth 100000
theorem q147 : (Jvm.Cond.classLink "PictureRingLaw" (7 : Nat) "PictureRing") ∈ lw_all := lw_g (lw_at lw_m1 39 rfl) rfl
theorem q149 : (Jvm.Cond.methodLink "PictureRingLaw" (9 : Nat) ({ cls := "PictureRing", name := "<init>", desc := "()V" } : Jvm.MethodName)) ∈ lw_all := lw_g (lw_at lw_m1 41 rfl) rfl
theorem q457 : (Jvm.Cond.methodLink "PictureRingLaw" (13 : Nat) ({ cls := "PictureRing", name := "world", desc := "(II)I" } : Jvm.MethodName)) ∈ lw_all := lw_g (lw_at lw_m2 109 rfl) rfl
theorem q500 : (Jvm.Cond.methodLink "PictureRingLaw" (18 : Nat) ({ cls := "PictureRing", name := "dots", desc := "(III)I" } : Jvm.MethodName)) ∈ lw_all := lw_g (lw_at lw_m2 152 rfl) rfl
theorem q521 : (Jvm.Cond.methodLink "PictureRingLaw" (23 : Nat) ({ cls := "PictureRing", name := "shot", desc := "(III)I" } : Jvm.MethodName)) ∈ lw_all := lw_g (lw_at lw_m2 173 rfl) rfl
theorem q564 : (Jvm.Cond.methodLink "PictureRingLaw" (27 : Nat) ({ cls := "PictureRing", name := "paint", desc := "(IIII)I" } : Jvm.MethodName)) ∈ lw_all := lw_g (lw_at lw_m2 216 rfl) rfl
theorem q589 : (Jvm.Cond.methodLink "PictureRingLaw" (32 : Nat) ({ cls := "PictureRing", name := "drops", desc := "(I)I" } : Jvm.MethodName)) ∈ lw_all := lw_g (lw_at lw_m3 1 rfl) rfl
theorem q597 : (Jvm.Cond.methodLink "PictureRingLaw" (37 : Nat) ({ cls := "PictureRing", name := "sets", desc := "(II)I" } : Jvm.MethodName)) ∈ lw_all := lw_g (lw_at lw_m3 9 rfl) rfl
theorem q606 : (Jvm.Cond.methodLink "PictureRingLaw" (41 : Nat) ({ cls := "PictureRing", name := "value", desc := "(III)I" } : Jvm.MethodName)) ∈ lw_all := lw_g (lw_at lw_m3 18 rfl) rfl
theorem q610 : (Jvm.Cond.methodLink "PictureRingLaw" (45 : Nat) ({ cls := "PictureRing", name := "change", desc := "(III)I" } : Jvm.MethodName)) ∈ lw_all := lw_g (lw_at lw_m3 22 rfl) rfl
theorem q630 : (Jvm.Cond.methodLink "PictureRingLaw" (49 : Nat) ({ cls := "PictureRing", name := "corners", desc := "(I)I" } : Jvm.MethodName)) ∈ lw_all := lw_g (lw_at lw_m3 42 rfl) rfl
theorem q648 : (Jvm.Cond.methodLink "PictureRingLaw" (53 : Nat) ({ cls := "PictureRing", name := "votes", desc := "(IIII)I" } : Jvm.MethodName)) ∈ lw_all := lw_g (lw_at lw_m3 60 rfl) rfl
theorem q1334 : (Jvm.Cond.methodLink "PictureRingLaw" (57 : Nat) ({ cls := "PictureRing", name := "link", desc := "(III)I" } : Jvm.MethodName)) ∈ lw_all := lw_g (lw_at lw_m6 26 rfl) rfl
theorem q1339 : (Jvm.Cond.methodLink "PictureRingLaw" (61 : Nat) ({ cls := "PictureRing", name := "chain", desc := "(II)I" } : Jvm.MethodName)) ∈ lw_all := lw_g (lw_at lw_m6 31 rfl) rfl
theorem q1347 : (Jvm.Cond.methodLink "PictureRingLaw" (65 : Nat) ({ cls := "PictureRing", name := "all", desc := "(I)I" } : Jvm.MethodName)) ∈ lw_all := lw_g (lw_at lw_m6 39 rfl) rfl
theorem q1369 : (Jvm.Cond.methodLink "PictureRingLaw" (69 : Nat) ({ cls := "PictureRing", name := "place", desc := "(II)I" } : Jvm.MethodName)) ∈ lw_all := lw_g (lw_at lw_m6 61 rfl) rfl
theorem q1384 : (Jvm.Cond.methodLink "PictureRingLaw" (73 : Nat) ({ cls := "PictureRing", name := "overlap", desc := "(II)I" } : Jvm.MethodName)) ∈ lw_all := lw_g (lw_at lw_m6 76 rfl) rfl
theorem q1395 : (Jvm.Cond.methodLink "PictureRingLaw" (77 : Nat) ({ cls := "PictureRing", name := "seam", desc := "(II)I" } : Jvm.MethodName)) ∈ lw_all := lw_g (lw_at lw_m6 87 rfl) rfl
theorem q1401 : (Jvm.Cond.methodLink "PictureRingLaw" (81 : Nat) ({ cls := "PictureRing", name := "level", desc := "(II)J" } : Jvm.MethodName)) ∈ lw_all := lw_g (lw_at lw_m6 93 rfl) rfl
theorem q1409 : (Jvm.Cond.methodLink "PictureRingLaw" (86 : Nat) ({ cls := "PictureRing", name := "rest", desc := "(I)J" } : Jvm.MethodName)) ∈ lw_all := lw_g (lw_at lw_m6 101 rfl) rfl
theorem q1413 : (Jvm.Cond.methodLink "PictureRingLaw" (91 : Nat) ({ cls := "PictureRing", name := "shows", desc := "(II)I" } : Jvm.MethodName)) ∈ lw_all := lw_g (lw_at lw_m6 105 rfl) rfl
theorem q1424 : (Jvm.Cond.methodLink "PictureRingLaw" (95 : Nat) ({ cls := "PictureRing", name := "seen", desc := "(III)I" } : Jvm.MethodName)) ∈ lw_all := lw_g (lw_at lw_m6 116 rfl) rfl
theorem q1435 : (Jvm.Cond.methodLink "PictureRingLaw" (99 : Nat) ({ cls := "PictureRing", name := "type", desc := "(I)I" } : Jvm.MethodName)) ∈ lw_all := lw_g (lw_at lw_m6 127 rfl) rfl
theorem q1440 : (Jvm.Cond.methodLink "PictureRingLaw" (103 : Nat) ({ cls := "PictureRing", name := "clea\x72", desc := "()I" } : Jvm.MethodName)) ∈ lw_all := lw_g (lw_at lw_m6 132 rfl) rfl
theorem q1444 : (Jvm.Cond.methodLink "PictureRingLaw" (108 : Nat) ({ cls := "PictureRing", name := "reads", desc := "()I" } : Jvm.MethodName)) ∈ lw_all := lw_g (lw_at lw_m6 136 rfl) rfl
theorem q1589 : (Jvm.Cond.methodLink "PictureRingLaw" (112 : Nat) ({ cls := "PictureRing", name := "why", desc := "(I)I" } : Jvm.MethodName)) ∈ lw_all := lw_g (lw_at lw_m7 41 rfl) rfl
theorem q1593 : (Jvm.Cond.methodLink "PictureRingLaw" (116 : Nat) ({ cls := "PictureRing", name := "back", desc := "()I" } : Jvm.MethodName)) ∈ lw_all := lw_g (lw_at lw_m7 45 rfl) rfl
theorem q1597 : (Jvm.Cond.methodLink "PictureRingLaw" (120 : Nat) ({ cls := "PictureRing", name := "told", desc := "(I)I" } : Jvm.MethodName)) ∈ lw_all := lw_g (lw_at lw_m7 49 rfl) rfl
theorem q1606 : (Jvm.Cond.methodLink "PictureRingLaw" (124 : Nat) ({ cls := "PictureRing", name := "digest", desc := "()J" } : Jvm.MethodName)) ∈ lw_all := lw_g (lw_at lw_m7 58 rfl) rfl
theorem q1612 : (Jvm.Cond.classLink "PictureRingLaw" (10 : Nat) "PictureRingModel") ∈ lw_all := lw_g (lw_at lw_m7 64 rfl) rfl
theorem q1614 : (Jvm.Cond.methodLink "PictureRingLaw" (12 : Nat) ({ cls := "PictureRingModel", name := "<init>", desc := "()V" } : Jvm.MethodName)) ∈ lw_all := lw_g (lw_at lw_m7 66 rfl) rfl
theorem q1688 : (Jvm.Cond.methodLink "PictureRingLaw" (17 : Nat) ({ cls := "PictureRingModel", name := "world", desc := "(II)I" } : Jvm.MethodName)) ∈ lw_all := lw_g (lw_at lw_m7 140 rfl) rfl
theorem q1718 : (Jvm.Cond.methodLink "PictureRingLaw" (22 : Nat) ({ cls := "PictureRingModel", name := "dots", desc := "(III)I" } : Jvm.MethodName)) ∈ lw_all := lw_g (lw_at lw_m7 170 rfl) rfl
theorem q1732 : (Jvm.Cond.methodLink "PictureRingLaw" (26 : Nat) ({ cls := "PictureRingModel", name := "shot", desc := "(III)I" } : Jvm.MethodName)) ∈ lw_all := lw_g (lw_at lw_m7 184 rfl) rfl
theorem q1754 : (Jvm.Cond.methodLink "PictureRingLaw" (31 : Nat) ({ cls := "PictureRingModel", name := "paint", desc := "(IIII)I" } : Jvm.MethodName)) ∈ lw_all := lw_g (lw_at lw_m7 206 rfl) rfl
theorem q1767 : (Jvm.Cond.methodLink "PictureRingLaw" (36 : Nat) ({ cls := "PictureRingModel", name := "drops", desc := "(I)I" } : Jvm.MethodName)) ∈ lw_all := lw_g (lw_at lw_m7 219 rfl) rfl
theorem q1775 : (Jvm.Cond.methodLink "PictureRingLaw" (40 : Nat) ({ cls := "PictureRingModel", name := "sets", desc := "(II)I" } : Jvm.MethodName)) ∈ lw_all := lw_g (lw_at lw_m7 227 rfl) rfl
theorem q1783 : (Jvm.Cond.methodLink "PictureRingLaw" (44 : Nat) ({ cls := "PictureRingModel", name := "value", desc := "(III)I" } : Jvm.MethodName)) ∈ lw_all := lw_g (lw_at lw_m7 235 rfl) rfl
theorem q1791 : (Jvm.Cond.methodLink "PictureRingLaw" (48 : Nat) ({ cls := "PictureRingModel", name := "change", desc := "(III)I" } : Jvm.MethodName)) ∈ lw_all := lw_g (lw_at lw_m8 3 rfl) rfl
theorem q1810 : (Jvm.Cond.methodLink "PictureRingLaw" (52 : Nat) ({ cls := "PictureRingModel", name := "corners", desc := "(I)I" } : Jvm.MethodName)) ∈ lw_all := lw_g (lw_at lw_m8 22 rfl) rfl
theorem q1822 : (Jvm.Cond.methodLink "PictureRingLaw" (56 : Nat) ({ cls := "PictureRingModel", name := "votes", desc := "(IIII)I" } : Jvm.MethodName)) ∈ lw_all := lw_g (lw_at lw_m8 34 rfl) rfl
theorem q1843 : (Jvm.Cond.methodLink "PictureRingLaw" (60 : Nat) ({ cls := "PictureRingModel", name := "link", desc := "(III)I" } : Jvm.MethodName)) ∈ lw_all := lw_g (lw_at lw_m8 55 rfl) rfl
theorem q1851 : (Jvm.Cond.methodLink "PictureRingLaw" (64 : Nat) ({ cls := "PictureRingModel", name := "chain", desc := "(II)I" } : Jvm.MethodName)) ∈ lw_all := lw_g (lw_at lw_m8 63 rfl) rfl
theorem q1871 : (Jvm.Cond.methodLink "PictureRingLaw" (68 : Nat) ({ cls := "PictureRingModel", name := "all", desc := "(I)I" } : Jvm.MethodName)) ∈ lw_all := lw_g (lw_at lw_m8 83 rfl) rfl
theorem q1907 : (Jvm.Cond.methodLink "PictureRingLaw" (72 : Nat) ({ cls := "PictureRingModel", name := "place", desc := "(II)I" } : Jvm.MethodName)) ∈ lw_all := lw_g (lw_at lw_m8 119 rfl) rfl
theorem q1914 : (Jvm.Cond.methodLink "PictureRingLaw" (76 : Nat) ({ cls := "PictureRingModel", name := "overlap", desc := "(II)I" } : Jvm.MethodName)) ∈ lw_all := lw_g (lw_at lw_m8 126 rfl) rfl
theorem q1945 : (Jvm.Cond.methodLink "PictureRingLaw" (80 : Nat) ({ cls := "PictureRingModel", name := "seam", desc := "(II)I" } : Jvm.MethodName)) ∈ lw_all := lw_g (lw_at lw_m8 157 rfl) rfl
theorem q1949 : (Jvm.Cond.methodLink "PictureRingLaw" (85 : Nat) ({ cls := "PictureRingModel", name := "level", desc := "(II)J" } : Jvm.MethodName)) ∈ lw_all := lw_g (lw_at lw_m8 161 rfl) rfl
theorem q1975 : (Jvm.Cond.methodLink "PictureRingLaw" (90 : Nat) ({ cls := "PictureRingModel", name := "rest", desc := "(I)J" } : Jvm.MethodName)) ∈ lw_all := lw_g (lw_at lw_m8 187 rfl) rfl
theorem q1979 : (Jvm.Cond.methodLink "PictureRingLaw" (94 : Nat) ({ cls := "PictureRingModel", name := "shows", desc := "(II)I" } : Jvm.MethodName)) ∈ lw_all := lw_g (lw_at lw_m8 191 rfl) rfl
theorem q1983 : (Jvm.Cond.methodLink "PictureRingLaw" (98 : Nat) ({ cls := "PictureRingModel", name := "seen", desc := "(III)I" } : Jvm.MethodName)) ∈ lw_all := lw_g (lw_at lw_m8 195 rfl) rfl
theorem q1987 : (Jvm.Cond.methodLink "PictureRingLaw" (102 : Nat) ({ cls := "PictureRingModel", name := "type", desc := "(I)I" } : Jvm.MethodName)) ∈ lw_all := lw_g (lw_at lw_m8 199 rfl) rfl
theorem q1992 : (Jvm.Cond.methodLink "PictureRingLaw" (107 : Nat) ({ cls := "PictureRingModel", name := "clea\x72", desc := "()I" } : Jvm.MethodName)) ∈ lw_all := lw_g (lw_at lw_m8 204 rfl) rfl
theorem q1996 : (Jvm.Cond.methodLink "PictureRingLaw" (111 : Nat) ({ cls := "PictureRingModel", name := "reads", desc := "()I" } : Jvm.MethodName)) ∈ lw_all := lw_g (lw_at lw_m8 208 rfl) rfl
theorem q2037 : (Jvm.Cond.methodLink "PictureRingLaw" (115 : Nat) ({ cls := "PictureRingModel", name := "why", desc := "(I)I" } : Jvm.MethodName)) ∈ lw_all := lw_g (lw_at lw_m9 9 rfl) rfl
theorem q2041 : (Jvm.Cond.methodLink "PictureRingLaw" (119 : Nat) ({ cls := "PictureRingModel", name := "back", desc := "()I" } : Jvm.MethodName)) ∈ lw_all := lw_g (lw_at lw_m9 13 rfl) rfl
theorem q2045 : (Jvm.Cond.methodLink "PictureRingLaw" (123 : Nat) ({ cls := "PictureRingModel", name := "told", desc := "(I)I" } : Jvm.MethodName)) ∈ lw_all := lw_g (lw_at lw_m9 17 rfl) rfl
theorem q2054 : (Jvm.Cond.methodLink "PictureRingLaw" (128 : Nat) ({ cls := "PictureRingModel", name := "digest", desc := "()J" } : Jvm.MethodName)) ∈ lw_all := lw_g (lw_at lw_m9 26 rfl) rfl
theorem q1540 : (Jvm.Cond.interfaceMethod "PictureRing$Deed" "PictureRing$Deed" "does" "()I") ∈ lw_tbl := lw_at lw_m6 232 rfl
set_option maxRecDepth 100000
theorem q1541 : (Jvm.Cond.declares ({ cls := "PictureRing$Deed", name := "does", desc := "()I" } : Jvm.MethodName)) ∈ lw_tbl := lw_at lw_m6 233 rfl
theorem q646 : (Jvm.Cond.interfaceMethod "PictureRing$Test" "PictureRing$Test" "is" "(I)Z") ∈ lw_tbl := lw_at lw_m3 58 rfl
set_option maxRecDepth 100000
theorem q647 : (Jvm.Cond.declares ({ cls := "PictureRing$Test", name := "is", desc := "(I)Z" } : Jvm.MethodName)) ∈ lw_tbl := lw_at lw_m3 59 rfl
theorem q1308 : (Jvm.Cond.interfaceMethod "PictureRing$Visit" "PictureRing$Visit" "meets" "(II)V") ∈ lw_tbl := lw_at lw_m6 0 rfl
set_option maxRecDepth 100000
theorem q1309 : (Jvm.Cond.declares ({ cls := "PictureRing$Visit", name := "meets", desc := "(II)V" } : Jvm.MethodName)) ∈ lw_tbl := lw_at lw_m6 1 rfl
theorem q625 : (Jvm.Cond.interfaceMethod "PictureRing$Way" "PictureRing$Way" "across" "(LPictureRing$Picture;II)I") ∈ lw_tbl := lw_at lw_m3 37 rfl
set_option maxRecDepth 100000
theorem q626 : (Jvm.Cond.declares ({ cls := "PictureRing$Way", name := "across", desc := "(LPictureRing$Picture;II)I" } : Jvm.MethodName)) ∈ lw_tbl := lw_at lw_m3 38 rfl
theorem q2066 : (Jvm.Cond.castable "PictureRing$Way" "java/lang/Object") ∈ lw_tbl := lw_at lw_m9 38 rfl
theorem q2101 : (Jvm.Cond.castable "[B" "java/lang/Object") ∈ lw_tbl := lw_at lw_m9 73 rfl
set_option maxRecDepth 100000
theorem q515 : (Jvm.Cond.sameMethod "[I" "java/lang/Object" "clone" "()Ljava/lang/Object;") ∈ lw_all := lw_g (lw_at lw_m2 167 rfl) rfl
set_option maxRecDepth 100000
theorem q518 : (Jvm.Cond.selects "[I" ({ cls := "[I", name := "clone", desc := "()Ljava/lang/Object;" } : Jvm.MethodName) ({ cls := "java/lang/Object", name := "clone", desc := "()Ljava/lang/Object;" } : Jvm.MethodName)) ∈ lw_all := lw_g (lw_at lw_m2 170 rfl) rfl
theorem q519 : (Jvm.Cond.castable "[I" "java/lang/Cloneable") ∈ lw_tbl := lw_at lw_m2 171 rfl
theorem q2093 : (Jvm.Cond.castable "[I" "java/lang/Object") ∈ lw_tbl := lw_at lw_m9 65 rfl
theorem q2096 : (Jvm.Cond.castable "[LPictureRing$Corners;" "java/lang/Object") ∈ lw_tbl := lw_at lw_m9 68 rfl
set_option maxRecDepth 100000
theorem q2100 : (Jvm.Cond.castable "[LPictureRing$Fraction;" "java/lang/Object") ∈ lw_tbl := lw_at lw_m9 72 rfl
set_option maxRecDepth 100000
theorem q2098 : (Jvm.Cond.castable "[LPictureRing$Link;" "java/lang/Object") ∈ lw_tbl := lw_at lw_m9 70 rfl
set_option maxRecDepth 100000
theorem q2092 : (Jvm.Cond.castable "[LPictureRing$Picture;" "java/lang/Object") ∈ lw_tbl := lw_at lw_m9 64 rfl
set_option maxRecDepth 100000
theorem q2094 : (Jvm.Cond.castable "[LPictureRing$State;" "java/lang/Object") ∈ lw_tbl := lw_at lw_m9 66 rfl
set_option maxRecDepth 100000
theorem q2095 : (Jvm.Cond.castable "[LPictureRing$Way;" "java/lang/Object") ∈ lw_tbl := lw_at lw_m9 67 rfl
set_option maxRecDepth 100000
theorem q2089 : (Jvm.Cond.sameMethod "[Ljava/lang/Object;" "java/lang/Object" "getClass" "()Ljava/lang/Class;") ∈ lw_all := lw_g (lw_at lw_m9 61 rfl) rfl
set_option maxRecDepth 100000
theorem q2090 : (Jvm.Cond.selects "[Ljava/lang/Object;" ({ cls := "java/lang/Object", name := "getClass", desc := "()Ljava/lang/Class;" } : Jvm.MethodName) ({ cls := "java/lang/Object", name := "getClass", desc := "()Ljava/lang/Class;" } : Jvm.MethodName)) ∈ lw_all := lw_g (lw_at lw_m9 62 rfl) rfl
theorem q2097 : (Jvm.Cond.castable "[Ljava/lang/Object;" "java/lang/Object") ∈ lw_tbl := lw_at lw_m9 69 rfl
theorem q2099 : (Jvm.Cond.castable "[[I" "java/lang/Object") ∈ lw_tbl := lw_at lw_m9 71 rfl
set_option maxRecDepth 100000
theorem q728 : (Jvm.Cond.interfaceMethod "java/lang/Comparable" "java/lang/Comparable" "compareTo" "(Ljava/lang/Object;)I") ∈ lw_tbl := lw_at lw_m3 140 rfl
set_option maxRecDepth 100000
theorem q729 : (Jvm.Cond.declares ({ cls := "java/lang/Comparable", name := "compareTo", desc := "(Ljava/lang/Object;)I" } : Jvm.MethodName)) ∈ lw_tbl := lw_at lw_m3 141 rfl
theorem q140 : (Jvm.Cond.initialized "java/lang/Integer$IntegerCache") ∈ lw_all := lw_g (lw_at lw_m1 32 rfl) rfl
set_option maxRecDepth 100000
theorem q1071 : (Jvm.Cond.laysStatic "java/lang/Integer$IntegerCache" "high" "I") ∈ lw_tbl := lw_at lw_m5 3 rfl
theorem q1073 : (Jvm.Cond.laysStatic "java/lang/Integer$IntegerCache" "cache" "[Ljava/lang/Integer;") ∈ lw_tbl := lw_at lw_m5 5 rfl
theorem q125 : (Jvm.Cond.initialized "java/lang/System") ∈ lw_all := lw_g (lw_at lw_m1 17 rfl) rfl
set_option maxRecDepth 100000
theorem q476 : (Jvm.Cond.static ({ cls := "java/lang/System", name := "arraycopy", desc := "(Ljava/lang/Object;ILjava/lang/Object;II)V" } : Jvm.MethodName)) ∈ lw_all := lw_g (lw_at lw_m2 128 rfl) rfl
theorem q477 : (Jvm.Cond.native ({ cls := "java/lang/System", name := "arraycopy", desc := "(Ljava/lang/Object;ILjava/lang/Object;II)V" } : Jvm.MethodName)) ∈ lw_all := lw_g (lw_at lw_m2 129 rfl) rfl
theorem q769 : (Jvm.Cond.interfaceMethod "java/util/Comparato\x72" "java/util/Comparato\x72" "compare" "(Ljava/lang/Object;Ljava/lang/Object;)I") ∈ lw_tbl := lw_at lw_m3 181 rfl
set_option maxRecDepth 100000
theorem q770 : (Jvm.Cond.declares ({ cls := "java/util/Comparato\x72", name := "compare", desc := "(Ljava/lang/Object;Ljava/lang/Object;)I" } : Jvm.MethodName)) ∈ lw_tbl := lw_at lw_m3 182 rfl
theorem q1020 : (Jvm.Cond.interfaceMethod "java/util/Iterato\x72" "java/util/Iterato\x72" "hasNext" "()Z") ∈ lw_tbl := lw_at lw_m4 192 rfl
set_option maxRecDepth 100000
theorem q1021 : (Jvm.Cond.declares ({ cls := "java/util/Iterato\x72", name := "hasNext", desc := "()Z" } : Jvm.MethodName)) ∈ lw_tbl := lw_at lw_m4 193 rfl
theorem q1030 : (Jvm.Cond.interfaceMethod "java/util/Iterato\x72" "java/util/Iterato\x72" "next" "()Ljava/lang/Object;") ∈ lw_tbl := lw_at lw_m4 202 rfl
theorem q1031 : (Jvm.Cond.declares ({ cls := "java/util/Iterato\x72", name := "next", desc := "()Ljava/lang/Object;" } : Jvm.MethodName)) ∈ lw_tbl := lw_at lw_m4 203 rfl
theorem q670 : (Jvm.Cond.publicMethod ({ cls := "java/util/Map", name := "clea\x72", desc := "()V" } : Jvm.MethodName)) ∈ lw_tbl := lw_at lw_m3 82 rfl
set_option maxRecDepth 100000
theorem q671 : (Jvm.Cond.declares ({ cls := "java/util/Map", name := "clea\x72", desc := "()V" } : Jvm.MethodName)) ∈ lw_tbl := lw_at lw_m3 83 rfl
theorem q706 : (Jvm.Cond.publicMethod ({ cls := "java/util/Map", name := "put", desc := "(Ljava/lang/Object;Ljava/lang/Object;)Ljava/lang/Object;" } : Jvm.MethodName)) ∈ lw_tbl := lw_at lw_m3 118 rfl
theorem q707 : (Jvm.Cond.declares ({ cls := "java/util/Map", name := "put", desc := "(Ljava/lang/Object;Ljava/lang/Object;)Ljava/lang/Object;" } : Jvm.MethodName)) ∈ lw_tbl := lw_at lw_m3 119 rfl
theorem q1237 : (Jvm.Cond.publicMethod ({ cls := "java/util/Map", name := "size", desc := "()I" } : Jvm.MethodName)) ∈ lw_tbl := lw_at lw_m5 169 rfl
theorem q1238 : (Jvm.Cond.declares ({ cls := "java/util/Map", name := "size", desc := "()I" } : Jvm.MethodName)) ∈ lw_tbl := lw_at lw_m5 170 rfl
theorem q952 : (Jvm.Cond.interfaceMethod "java/util/NavigableMap" "java/util/NavigableMap" "navigableKeySet" "()Ljava/util/NavigableSet;") ∈ lw_tbl := lw_at lw_m4 124 rfl
set_option maxRecDepth 100000
theorem q953 : (Jvm.Cond.declares ({ cls := "java/util/NavigableMap", name := "navigableKeySet", desc := "()Ljava/util/NavigableSet;" } : Jvm.MethodName)) ∈ lw_tbl := lw_at lw_m4 125 rfl
theorem q971 : (Jvm.Cond.interfaceMethod "java/util/NavigableSet" "java/util/NavigableSet" "iterato\x72" "()Ljava/util/Iterator;") ∈ lw_tbl := lw_at lw_m4 143 rfl
set_option maxRecDepth 100000
theorem q972 : (Jvm.Cond.declares ({ cls := "java/util/NavigableSet", name := "iterato\x72", desc := "()Ljava/util/Iterator;" } : Jvm.MethodName)) ∈ lw_tbl := lw_at lw_m4 144 rfl
theorem q1094 : (Jvm.Cond.interfaceMethod "java/util/Set" "java/util/Set" "iterato\x72" "()Ljava/util/Iterator;") ∈ lw_tbl := lw_at lw_m5 26 rfl
set_option maxRecDepth 100000
theorem q1095 : (Jvm.Cond.declares ({ cls := "java/util/Set", name := "iterato\x72", desc := "()Ljava/util/Iterator;" } : Jvm.MethodName)) ∈ lw_tbl := lw_at lw_m5 27 rfl
theorem q1012 : (Jvm.Cond.declares ({ cls := "java/util/TreeMap$NavigableSubMap", name := "keyIterato\x72", desc := "()Ljava/util/Iterator;" } : Jvm.MethodName)) ∈ lw_tbl := lw_at lw_m4 184 rfl
set_option maxRecDepth 100000
theorem q1013 : (Jvm.Cond.selects "java/util/TreeMap$NavigableSubMap" ({ cls := "java/util/TreeMap$NavigableSubMap", name := "keyIterato\x72", desc := "()Ljava/util/Iterator;" } : Jvm.MethodName) ({ cls := "java/util/TreeMap$NavigableSubMap", name := "keyIterato\x72", desc := "()Ljava/util/Iterator;" } : Jvm.MethodName)) ∈ lw_all := lw_g (lw_at lw_m4 185 rfl) rfl
theorem q162 : (Jvm.Cond.arrayOver (Jvm.ClassFile.FieldType.object "PictureRing$Picture")) ∈ lw_tbl := lw_at lw_m1 54 rfl
set_option maxRecDepth 100000
theorem q187 : (Jvm.Cond.arrayClass Jvm.ClassFile.FieldType.int) ∈ lw_all := lw_g (lw_at lw_m1 79 rfl) rfl
theorem q191 : (Jvm.Cond.arrayOver (Jvm.ClassFile.FieldType.object "PictureRing$State")) ∈ lw_tbl := lw_at lw_m1 83 rfl
theorem q193 : (Jvm.Cond.arrayOver (Jvm.ClassFile.FieldType.object "PictureRing$Way")) ∈ lw_tbl := lw_at lw_m1 85 rfl
theorem q216 : (Jvm.Cond.arrayOver (Jvm.ClassFile.FieldType.object "PictureRing$Corners")) ∈ lw_tbl := lw_at lw_m1 108 rfl
theorem q297 : (Jvm.Cond.arrayOver (Jvm.ClassFile.FieldType.object "java/lang/Object")) ∈ lw_tbl := lw_at lw_m1 189 rfl
theorem q312 : (Jvm.Cond.arrayOver (Jvm.ClassFile.FieldType.object "PictureRing$Link")) ∈ lw_tbl := lw_at lw_m1 204 rfl
theorem q314 : (Jvm.Cond.arrayOver (Jvm.ClassFile.FieldType.array Jvm.ClassFile.FieldType.int)) ∈ lw_tbl := lw_at lw_m1 206 rfl
theorem q316 : (Jvm.Cond.arrayOver (Jvm.ClassFile.FieldType.object "PictureRing$Fraction")) ∈ lw_tbl := lw_at lw_m1 208 rfl
theorem q415 : (Jvm.Cond.arrayClass Jvm.ClassFile.FieldType.byte) ∈ lw_all := lw_g (lw_at lw_m2 67 rfl) rfl
/-! java/lang/Math -/
set_option maxRecDepth 100000
def RJ0 : String := "java/lang/Math"
abbrev cJ0_abs : ByteArray := prog_28_method_59_code
def yJ0_abs : MethodName := ⟨RJ0, "abs", "(I)I"⟩
def dkwJ0_abs_0 : List UInt8 := [26, 156, 0, 8, 26, 116, 167, 0, 4, 26, 172]
abbrev dktJ0_abs_0 : List UInt8 := dkwJ0_abs_0 ++ []
theorem dksJ0_abs_0 : cJ0_abs.data.toList.drop 0 = dktJ0_abs_0 := by decide +kernel
theorem dJ0_abs_0 : decode cJ0_abs 0 = .ok (.iload_n 0, 1) := dk_26 (dk_at dksJ0_abs_0 0 rfl rfl)
theorem dJ0_abs_1 : decode cJ0_abs 1 = .ok (.ifCond .ge 8, 3) := dk_156 0 8 (dk_at dksJ0_abs_0 1 rfl rfl)
theorem dJ0_abs_4 : decode cJ0_abs 4 = .ok (.iload_n 0, 1) := dk_26 (dk_at dksJ0_abs_0 4 rfl rfl)
theorem dJ0_abs_5 : decode cJ0_abs 5 = .ok (.ineg, 1) := dk_116 (dk_at dksJ0_abs_0 5 rfl rfl)
theorem dJ0_abs_6 : decode cJ0_abs 6 = .ok (.goto 4, 3) := dk_167 0 4 (dk_at dksJ0_abs_0 6 rfl rfl)
theorem dJ0_abs_9 : decode cJ0_abs 9 = .ok (.iload_n 0, 1) := dk_26 (dk_at dksJ0_abs_0 9 rfl rfl)
theorem dJ0_abs_10 : decode cJ0_abs 10 = .ok (.ireturn, 1) := dk_172 (dk_at dksJ0_abs_0 10 rfl rfl)
abbrev cJ0_abs_2 : ByteArray := prog_28_method_61_code
def yJ0_abs_2 : MethodName := ⟨RJ0, "abs", "(J)J"⟩
def dkwJ0_abs_2_0 : List UInt8 := [30, 9, 148, 156, 0, 8, 30, 117, 167, 0, 4, 30, 173]
abbrev dktJ0_abs_2_0 : List UInt8 := dkwJ0_abs_2_0 ++ []
theorem dksJ0_abs_2_0 : cJ0_abs_2.data.toList.drop 0 = dktJ0_abs_2_0 := by decide +kernel
theorem dJ0_abs_2_0 : decode cJ0_abs_2 0 = .ok (.lload_n 0, 1) := dk_30 (dk_at dksJ0_abs_2_0 0 rfl rfl)
theorem dJ0_abs_2_1 : decode cJ0_abs_2 1 = .ok (.lconst 0, 1) := dk_9 (dk_at dksJ0_abs_2_0 1 rfl rfl)
theorem dJ0_abs_2_2 : decode cJ0_abs_2 2 = .ok (.lcmp, 1) := dk_148 (dk_at dksJ0_abs_2_0 2 rfl rfl)
theorem dJ0_abs_2_3 : decode cJ0_abs_2 3 = .ok (.ifCond .ge 8, 3) := dk_156 0 8 (dk_at dksJ0_abs_2_0 3 rfl rfl)
theorem dJ0_abs_2_6 : decode cJ0_abs_2 6 = .ok (.lload_n 0, 1) := dk_30 (dk_at dksJ0_abs_2_0 6 rfl rfl)
theorem dJ0_abs_2_7 : decode cJ0_abs_2 7 = .ok (.lneg, 1) := dk_117 (dk_at dksJ0_abs_2_0 7 rfl rfl)
theorem dJ0_abs_2_8 : decode cJ0_abs_2 8 = .ok (.goto 4, 3) := dk_167 0 4 (dk_at dksJ0_abs_2_0 8 rfl rfl)
theorem dJ0_abs_2_11 : decode cJ0_abs_2 11 = .ok (.lload_n 0, 1) := dk_30 (dk_at dksJ0_abs_2_0 11 rfl rfl)
theorem dJ0_abs_2_12 : decode cJ0_abs_2 12 = .ok (.lreturn, 1) := dk_173 (dk_at dksJ0_abs_2_0 12 rfl rfl)
abbrev cJ0_min : ByteArray := prog_28_method_70_code
def yJ0_min : MethodName := ⟨RJ0, "min", "(JJ)J"⟩
def dkwJ0_min_0 : List UInt8 := [30, 32, 148, 157, 0, 7, 30, 167, 0, 4, 32, 173]
abbrev dktJ0_min_0 : List UInt8 := dkwJ0_min_0 ++ []
theorem dksJ0_min_0 : cJ0_min.data.toList.drop 0 = dktJ0_min_0 := by decide +kernel
theorem dJ0_min_0 : decode cJ0_min 0 = .ok (.lload_n 0, 1) := dk_30 (dk_at dksJ0_min_0 0 rfl rfl)
theorem dJ0_min_1 : decode cJ0_min 1 = .ok (.lload_n 2, 1) := dk_32 (dk_at dksJ0_min_0 1 rfl rfl)
theorem dJ0_min_2 : decode cJ0_min 2 = .ok (.lcmp, 1) := dk_148 (dk_at dksJ0_min_0 2 rfl rfl)
theorem dJ0_min_3 : decode cJ0_min 3 = .ok (.ifCond .gt 7, 3) := dk_157 0 7 (dk_at dksJ0_min_0 3 rfl rfl)
theorem dJ0_min_6 : decode cJ0_min 6 = .ok (.lload_n 0, 1) := dk_30 (dk_at dksJ0_min_0 6 rfl rfl)
theorem dJ0_min_7 : decode cJ0_min 7 = .ok (.goto 4, 3) := dk_167 0 4 (dk_at dksJ0_min_0 7 rfl rfl)
theorem dJ0_min_10 : decode cJ0_min 10 = .ok (.lload_n 2, 1) := dk_32 (dk_at dksJ0_min_0 10 rfl rfl)
theorem dJ0_min_11 : decode cJ0_min 11 = .ok (.lreturn, 1) := dk_173 (dk_at dksJ0_min_0 11 rfl rfl)
abbrev cJ0_max : ByteArray := prog_28_method_66_code
def yJ0_max : MethodName := ⟨RJ0, "max", "(JJ)J"⟩
def dkwJ0_max_0 : List UInt8 := [30, 32, 148, 155, 0, 7, 30, 167, 0, 4, 32, 173]
abbrev dktJ0_max_0 : List UInt8 := dkwJ0_max_0 ++ []
theorem dksJ0_max_0 : cJ0_max.data.toList.drop 0 = dktJ0_max_0 := by decide +kernel
theorem dJ0_max_0 : decode cJ0_max 0 = .ok (.lload_n 0, 1) := dk_30 (dk_at dksJ0_max_0 0 rfl rfl)
theorem dJ0_max_1 : decode cJ0_max 1 = .ok (.lload_n 2, 1) := dk_32 (dk_at dksJ0_max_0 1 rfl rfl)
theorem dJ0_max_2 : decode cJ0_max 2 = .ok (.lcmp, 1) := dk_148 (dk_at dksJ0_max_0 2 rfl rfl)
theorem dJ0_max_3 : decode cJ0_max 3 = .ok (.ifCond .lt 7, 3) := dk_155 0 7 (dk_at dksJ0_max_0 3 rfl rfl)
theorem dJ0_max_6 : decode cJ0_max 6 = .ok (.lload_n 0, 1) := dk_30 (dk_at dksJ0_max_0 6 rfl rfl)
theorem dJ0_max_7 : decode cJ0_max 7 = .ok (.goto 4, 3) := dk_167 0 4 (dk_at dksJ0_max_0 7 rfl rfl)
theorem dJ0_max_10 : decode cJ0_max 10 = .ok (.lload_n 2, 1) := dk_32 (dk_at dksJ0_max_0 10 rfl rfl)
theorem dJ0_max_11 : decode cJ0_max 11 = .ok (.lreturn, 1) := dk_173 (dk_at dksJ0_max_0 11 rfl rfl)
abbrev cJ0_min_2 : ByteArray := prog_28_method_69_code
def yJ0_min_2 : MethodName := ⟨RJ0, "min", "(II)I"⟩
def dkwJ0_min_2_0 : List UInt8 := [26, 27, 163, 0, 7, 26, 167, 0, 4, 27, 172]
abbrev dktJ0_min_2_0 : List UInt8 := dkwJ0_min_2_0 ++ []
theorem dksJ0_min_2_0 : cJ0_min_2.data.toList.drop 0 = dktJ0_min_2_0 := by decide +kernel
theorem dJ0_min_2_0 : decode cJ0_min_2 0 = .ok (.iload_n 0, 1) := dk_26 (dk_at dksJ0_min_2_0 0 rfl rfl)
theorem dJ0_min_2_1 : decode cJ0_min_2 1 = .ok (.iload_n 1, 1) := dk_27 (dk_at dksJ0_min_2_0 1 rfl rfl)
theorem dJ0_min_2_2 : decode cJ0_min_2 2 = .ok (.if_icmp .gt 7, 3) := dk_163 0 7 (dk_at dksJ0_min_2_0 2 rfl rfl)
theorem dJ0_min_2_5 : decode cJ0_min_2 5 = .ok (.iload_n 0, 1) := dk_26 (dk_at dksJ0_min_2_0 5 rfl rfl)
theorem dJ0_min_2_6 : decode cJ0_min_2 6 = .ok (.goto 4, 3) := dk_167 0 4 (dk_at dksJ0_min_2_0 6 rfl rfl)
theorem dJ0_min_2_9 : decode cJ0_min_2 9 = .ok (.iload_n 1, 1) := dk_27 (dk_at dksJ0_min_2_0 9 rfl rfl)
theorem dJ0_min_2_10 : decode cJ0_min_2 10 = .ok (.ireturn, 1) := dk_172 (dk_at dksJ0_min_2_0 10 rfl rfl)
abbrev cJ0_max_2 : ByteArray := prog_28_method_65_code
def yJ0_max_2 : MethodName := ⟨RJ0, "max", "(II)I"⟩
def dkwJ0_max_2_0 : List UInt8 := [26, 27, 161, 0, 7, 26, 167, 0, 4, 27, 172]
abbrev dktJ0_max_2_0 : List UInt8 := dkwJ0_max_2_0 ++ []
theorem dksJ0_max_2_0 : cJ0_max_2.data.toList.drop 0 = dktJ0_max_2_0 := by decide +kernel
theorem dJ0_max_2_0 : decode cJ0_max_2 0 = .ok (.iload_n 0, 1) := dk_26 (dk_at dksJ0_max_2_0 0 rfl rfl)
theorem dJ0_max_2_1 : decode cJ0_max_2 1 = .ok (.iload_n 1, 1) := dk_27 (dk_at dksJ0_max_2_0 1 rfl rfl)
theorem dJ0_max_2_2 : decode cJ0_max_2 2 = .ok (.if_icmp .lt 7, 3) := dk_161 0 7 (dk_at dksJ0_max_2_0 2 rfl rfl)
theorem dJ0_max_2_5 : decode cJ0_max_2 5 = .ok (.iload_n 0, 1) := dk_26 (dk_at dksJ0_max_2_0 5 rfl rfl)
theorem dJ0_max_2_6 : decode cJ0_max_2 6 = .ok (.goto 4, 3) := dk_167 0 4 (dk_at dksJ0_max_2_0 6 rfl rfl)
theorem dJ0_max_2_9 : decode cJ0_max_2 9 = .ok (.iload_n 1, 1) := dk_27 (dk_at dksJ0_max_2_0 9 rfl rfl)
theorem dJ0_max_2_10 : decode cJ0_max_2 10 = .ok (.ireturn, 1) := dk_172 (dk_at dksJ0_max_2_0 10 rfl rfl)
abbrev cJ0_floorDiv : ByteArray := prog_28_method_47_code
def yJ0_floorDiv : MethodName := ⟨RJ0, "floorDiv", "(II)I"⟩
def dkwJ0_floorDiv_0 : List UInt8 := [26, 27, 108, 61, 26, 27, 130, 156, 0, 14, 28, 27, 104, 26, 159, 0, 7, 28, 4, 100, 172, 28, 172]
abbrev dktJ0_floorDiv_0 : List UInt8 := dkwJ0_floorDiv_0 ++ []
theorem dksJ0_floorDiv_0 : cJ0_floorDiv.data.toList.drop 0 = dktJ0_floorDiv_0 := by decide +kernel
theorem dJ0_floorDiv_0 : decode cJ0_floorDiv 0 = .ok (.iload_n 0, 1) := dk_26 (dk_at dksJ0_floorDiv_0 0 rfl rfl)
theorem dJ0_floorDiv_1 : decode cJ0_floorDiv 1 = .ok (.iload_n 1, 1) := dk_27 (dk_at dksJ0_floorDiv_0 1 rfl rfl)
theorem dJ0_floorDiv_2 : decode cJ0_floorDiv 2 = .ok (.idiv, 1) := dk_108 (dk_at dksJ0_floorDiv_0 2 rfl rfl)
theorem dJ0_floorDiv_3 : decode cJ0_floorDiv 3 = .ok (.istore_n 2, 1) := dk_61 (dk_at dksJ0_floorDiv_0 3 rfl rfl)
theorem dJ0_floorDiv_4 : decode cJ0_floorDiv 4 = .ok (.iload_n 0, 1) := dk_26 (dk_at dksJ0_floorDiv_0 4 rfl rfl)
theorem dJ0_floorDiv_5 : decode cJ0_floorDiv 5 = .ok (.iload_n 1, 1) := dk_27 (dk_at dksJ0_floorDiv_0 5 rfl rfl)
theorem dJ0_floorDiv_6 : decode cJ0_floorDiv 6 = .ok (.ixor, 1) := dk_130 (dk_at dksJ0_floorDiv_0 6 rfl rfl)
theorem dJ0_floorDiv_7 : decode cJ0_floorDiv 7 = .ok (.ifCond .ge 14, 3) := dk_156 0 14 (dk_at dksJ0_floorDiv_0 7 rfl rfl)
theorem dJ0_floorDiv_10 : decode cJ0_floorDiv 10 = .ok (.iload_n 2, 1) := dk_28 (dk_at dksJ0_floorDiv_0 10 rfl rfl)
theorem dJ0_floorDiv_11 : decode cJ0_floorDiv 11 = .ok (.iload_n 1, 1) := dk_27 (dk_at dksJ0_floorDiv_0 11 rfl rfl)
theorem dJ0_floorDiv_12 : decode cJ0_floorDiv 12 = .ok (.imul, 1) := dk_104 (dk_at dksJ0_floorDiv_0 12 rfl rfl)
theorem dJ0_floorDiv_13 : decode cJ0_floorDiv 13 = .ok (.iload_n 0, 1) := dk_26 (dk_at dksJ0_floorDiv_0 13 rfl rfl)
theorem dJ0_floorDiv_14 : decode cJ0_floorDiv 14 = .ok (.if_icmp .eq 7, 3) := dk_159 0 7 (dk_at dksJ0_floorDiv_0 14 rfl rfl)
theorem dJ0_floorDiv_17 : decode cJ0_floorDiv 17 = .ok (.iload_n 2, 1) := dk_28 (dk_at dksJ0_floorDiv_0 17 rfl rfl)
theorem dJ0_floorDiv_18 : decode cJ0_floorDiv 18 = .ok (.iconst 1, 1) := dk_4 (dk_at dksJ0_floorDiv_0 18 rfl rfl)
theorem dJ0_floorDiv_19 : decode cJ0_floorDiv 19 = .ok (.isub, 1) := dk_100 (dk_at dksJ0_floorDiv_0 19 rfl rfl)
theorem dJ0_floorDiv_20 : decode cJ0_floorDiv 20 = .ok (.ireturn, 1) := dk_172 (dk_at dksJ0_floorDiv_0 20 rfl rfl)
theorem dJ0_floorDiv_21 : decode cJ0_floorDiv 21 = .ok (.iload_n 2, 1) := dk_28 (dk_at dksJ0_floorDiv_0 21 rfl rfl)
theorem dJ0_floorDiv_22 : decode cJ0_floorDiv 22 = .ok (.ireturn, 1) := dk_172 (dk_at dksJ0_floorDiv_0 22 rfl rfl)
abbrev cJ0_floorDiv_2 : ByteArray := prog_28_method_49_code
def yJ0_floorDiv_2 : MethodName := ⟨RJ0, "floorDiv", "(JJ)J"⟩
def dkwJ0_floorDiv_2_1 : List UInt8 := [10, 101, 173, 22, 4, 173]
abbrev dktJ0_floorDiv_2_1 : List UInt8 := dkwJ0_floorDiv_2_1 ++ []
def dkwJ0_floorDiv_2_0 : List UInt8 := [30, 32, 109, 55, 4, 30, 32, 131, 9, 148, 156, 0, 17, 22, 4, 32, 105, 30, 148, 153, 0, 8, 22, 4]
abbrev dktJ0_floorDiv_2_0 : List UInt8 := dkwJ0_floorDiv_2_0 ++ dktJ0_floorDiv_2_1
theorem dksJ0_floorDiv_2_0 : cJ0_floorDiv_2.data.toList.drop 0 = dktJ0_floorDiv_2_0 := by decide +kernel
theorem dksJ0_floorDiv_2_1 : cJ0_floorDiv_2.data.toList.drop 24 = dktJ0_floorDiv_2_1 := dk_seg dksJ0_floorDiv_2_0 24 rfl rfl
theorem dJ0_floorDiv_2_0 : decode cJ0_floorDiv_2 0 = .ok (.lload_n 0, 1) := dk_30 (dk_at dksJ0_floorDiv_2_0 0 rfl rfl)
theorem dJ0_floorDiv_2_1 : decode cJ0_floorDiv_2 1 = .ok (.lload_n 2, 1) := dk_32 (dk_at dksJ0_floorDiv_2_0 1 rfl rfl)
theorem dJ0_floorDiv_2_2 : decode cJ0_floorDiv_2 2 = .ok (.ldiv, 1) := dk_109 (dk_at dksJ0_floorDiv_2_0 2 rfl rfl)
theorem dJ0_floorDiv_2_3 : decode cJ0_floorDiv_2 3 = .ok (.lstore 4, 2) := dk_55 4 (dk_at dksJ0_floorDiv_2_0 3 rfl rfl)
theorem dJ0_floorDiv_2_5 : decode cJ0_floorDiv_2 5 = .ok (.lload_n 0, 1) := dk_30 (dk_at dksJ0_floorDiv_2_0 5 rfl rfl)
theorem dJ0_floorDiv_2_6 : decode cJ0_floorDiv_2 6 = .ok (.lload_n 2, 1) := dk_32 (dk_at dksJ0_floorDiv_2_0 6 rfl rfl)
theorem dJ0_floorDiv_2_7 : decode cJ0_floorDiv_2 7 = .ok (.lxor, 1) := dk_131 (dk_at dksJ0_floorDiv_2_0 7 rfl rfl)
theorem dJ0_floorDiv_2_8 : decode cJ0_floorDiv_2 8 = .ok (.lconst 0, 1) := dk_9 (dk_at dksJ0_floorDiv_2_0 8 rfl rfl)
theorem dJ0_floorDiv_2_9 : decode cJ0_floorDiv_2 9 = .ok (.lcmp, 1) := dk_148 (dk_at dksJ0_floorDiv_2_0 9 rfl rfl)
theorem dJ0_floorDiv_2_10 : decode cJ0_floorDiv_2 10 = .ok (.ifCond .ge 17, 3) := dk_156 0 17 (dk_at dksJ0_floorDiv_2_0 10 rfl rfl)
theorem dJ0_floorDiv_2_13 : decode cJ0_floorDiv_2 13 = .ok (.lload 4, 2) := dk_22 4 (dk_at dksJ0_floorDiv_2_0 13 rfl rfl)
theorem dJ0_floorDiv_2_15 : decode cJ0_floorDiv_2 15 = .ok (.lload_n 2, 1) := dk_32 (dk_at dksJ0_floorDiv_2_0 15 rfl rfl)
theorem dJ0_floorDiv_2_16 : decode cJ0_floorDiv_2 16 = .ok (.lmul, 1) := dk_105 (dk_at dksJ0_floorDiv_2_0 16 rfl rfl)
theorem dJ0_floorDiv_2_17 : decode cJ0_floorDiv_2 17 = .ok (.lload_n 0, 1) := dk_30 (dk_at dksJ0_floorDiv_2_0 17 rfl rfl)
theorem dJ0_floorDiv_2_18 : decode cJ0_floorDiv_2 18 = .ok (.lcmp, 1) := dk_148 (dk_at dksJ0_floorDiv_2_0 18 rfl rfl)
theorem dJ0_floorDiv_2_19 : decode cJ0_floorDiv_2 19 = .ok (.ifCond .eq 8, 3) := dk_153 0 8 (dk_at dksJ0_floorDiv_2_0 19 rfl rfl)
theorem dJ0_floorDiv_2_22 : decode cJ0_floorDiv_2 22 = .ok (.lload 4, 2) := dk_22 4 (dk_at dksJ0_floorDiv_2_0 22 rfl rfl)
theorem dJ0_floorDiv_2_24 : decode cJ0_floorDiv_2 24 = .ok (.lconst 1, 1) := dk_10 (dk_at dksJ0_floorDiv_2_1 0 rfl rfl)
theorem dJ0_floorDiv_2_25 : decode cJ0_floorDiv_2 25 = .ok (.lsub, 1) := dk_101 (dk_at dksJ0_floorDiv_2_1 1 rfl rfl)
theorem dJ0_floorDiv_2_26 : decode cJ0_floorDiv_2 26 = .ok (.lreturn, 1) := dk_173 (dk_at dksJ0_floorDiv_2_1 2 rfl rfl)
theorem dJ0_floorDiv_2_27 : decode cJ0_floorDiv_2 27 = .ok (.lload 4, 2) := dk_22 4 (dk_at dksJ0_floorDiv_2_1 3 rfl rfl)
theorem dJ0_floorDiv_2_29 : decode cJ0_floorDiv_2 29 = .ok (.lreturn, 1) := dk_173 (dk_at dksJ0_floorDiv_2_1 5 rfl rfl)
theorem q111 : (Jvm.Cond.initialized "java/lang/Math") ∈ lw_all := lw_g (lw_at lw_m1 3 rfl) rfl
theorem q204 : (Jvm.Cond.static ({ cls := "java/lang/Math", name := "abs", desc := "(I)I" } : Jvm.MethodName)) ∈ lw_all := lw_g (lw_at lw_m1 96 rfl) rfl
theorem q205 : (Jvm.Cond.code ({ cls := "java/lang/Math", name := "abs", desc := "(I)I" } : Jvm.MethodName) prog_28_method_59_code (1 : Nat) (Option.some Jvm.ClassFile.FieldType.int)) ∈ lw_all := lw_g (lw_at lw_m1 97 rfl) rfl
theorem q329 : (Jvm.Cond.static ({ cls := "java/lang/Math", name := "abs", desc := "(J)J" } : Jvm.MethodName)) ∈ lw_all := lw_g (lw_at lw_m1 221 rfl) rfl
theorem q330 : (Jvm.Cond.code ({ cls := "java/lang/Math", name := "abs", desc := "(J)J" } : Jvm.MethodName) prog_28_method_61_code (2 : Nat) (Option.some Jvm.ClassFile.FieldType.long)) ∈ lw_all := lw_g (lw_at lw_m1 222 rfl) rfl
theorem q536 : (Jvm.Cond.static ({ cls := "java/lang/Math", name := "min", desc := "(JJ)J" } : Jvm.MethodName)) ∈ lw_all := lw_g (lw_at lw_m2 188 rfl) rfl
theorem q537 : (Jvm.Cond.code ({ cls := "java/lang/Math", name := "min", desc := "(JJ)J" } : Jvm.MethodName) prog_28_method_70_code (4 : Nat) (Option.some Jvm.ClassFile.FieldType.long)) ∈ lw_all := lw_g (lw_at lw_m2 189 rfl) rfl
theorem q539 : (Jvm.Cond.static ({ cls := "java/lang/Math", name := "max", desc := "(JJ)J" } : Jvm.MethodName)) ∈ lw_all := lw_g (lw_at lw_m2 191 rfl) rfl
theorem q540 : (Jvm.Cond.code ({ cls := "java/lang/Math", name := "max", desc := "(JJ)J" } : Jvm.MethodName) prog_28_method_66_code (4 : Nat) (Option.some Jvm.ClassFile.FieldType.long)) ∈ lw_all := lw_g (lw_at lw_m2 192 rfl) rfl
theorem q628 : (Jvm.Cond.static ({ cls := "java/lang/Math", name := "min", desc := "(II)I" } : Jvm.MethodName)) ∈ lw_all := lw_g (lw_at lw_m3 40 rfl) rfl
theorem q629 : (Jvm.Cond.code ({ cls := "java/lang/Math", name := "min", desc := "(II)I" } : Jvm.MethodName) prog_28_method_69_code (2 : Nat) (Option.some Jvm.ClassFile.FieldType.int)) ∈ lw_all := lw_g (lw_at lw_m3 41 rfl) rfl
theorem q1163 : (Jvm.Cond.static ({ cls := "java/lang/Math", name := "max", desc := "(II)I" } : Jvm.MethodName)) ∈ lw_all := lw_g (lw_at lw_m5 95 rfl) rfl
theorem q1164 : (Jvm.Cond.code ({ cls := "java/lang/Math", name := "max", desc := "(II)I" } : Jvm.MethodName) prog_28_method_65_code (2 : Nat) (Option.some Jvm.ClassFile.FieldType.int)) ∈ lw_all := lw_g (lw_at lw_m5 96 rfl) rfl
theorem q1378 : (Jvm.Cond.static ({ cls := "java/lang/Math", name := "floorDiv", desc := "(II)I" } : Jvm.MethodName)) ∈ lw_all := lw_g (lw_at lw_m6 70 rfl) rfl
theorem q1379 : (Jvm.Cond.code ({ cls := "java/lang/Math", name := "floorDiv", desc := "(II)I" } : Jvm.MethodName) prog_28_method_47_code (3 : Nat) (Option.some Jvm.ClassFile.FieldType.int)) ∈ lw_all := lw_g (lw_at lw_m6 71 rfl) rfl
theorem q1433 : (Jvm.Cond.static ({ cls := "java/lang/Math", name := "floorDiv", desc := "(JJ)J" } : Jvm.MethodName)) ∈ lw_all := lw_g (lw_at lw_m6 125 rfl) rfl
theorem q1434 : (Jvm.Cond.code ({ cls := "java/lang/Math", name := "floorDiv", desc := "(JJ)J" } : Jvm.MethodName) prog_28_method_49_code (6 : Nat) (Option.some Jvm.ClassFile.FieldType.long)) ∈ lw_all := lw_g (lw_at lw_m6 126 rfl) rfl
/-! java/util/AbstractCollection -/
set_option maxRecDepth 100000
def RJ1 : String := "java/util/AbstractCollection"
abbrev cJ1_init : ByteArray := prog_36_method_1_code
def yJ1_init : MethodName := ⟨RJ1, "<init>", "()V"⟩
theorem dJ1_init_0 : decode cJ1_init 0 = .ok (.aload_n 0, 1) := by decide +kernel
theorem dJ1_init_1 : decode cJ1_init 1 = .ok (.invokespecial 1, 3) := by decide +kernel
theorem dJ1_init_4 : decode cJ1_init 4 = .ok (.return_, 1) := by decide +kernel
abbrev cJ1_isEmpty : ByteArray := prog_36_method_4_code
def yJ1_isEmpty : MethodName := ⟨RJ1, "isEmpty", "()Z"⟩
def dkwJ1_isEmpty_0 : List UInt8 := [42, 182, 0, 7, 154, 0, 7, 4, 167, 0, 4, 3, 172]
abbrev dktJ1_isEmpty_0 : List UInt8 := dkwJ1_isEmpty_0 ++ []
theorem dksJ1_isEmpty_0 : cJ1_isEmpty.data.toList.drop 0 = dktJ1_isEmpty_0 := by decide +kernel
theorem dJ1_isEmpty_0 : decode cJ1_isEmpty 0 = .ok (.aload_n 0, 1) := dk_42 (dk_at dksJ1_isEmpty_0 0 rfl rfl)
theorem dJ1_isEmpty_1 : decode cJ1_isEmpty 1 = .ok (.invokevirtual 7, 3) := dk_182 0 7 (dk_at dksJ1_isEmpty_0 1 rfl rfl)
theorem dJ1_isEmpty_4 : decode cJ1_isEmpty 4 = .ok (.ifCond .ne 7, 3) := dk_154 0 7 (dk_at dksJ1_isEmpty_0 4 rfl rfl)
theorem dJ1_isEmpty_7 : decode cJ1_isEmpty 7 = .ok (.iconst 1, 1) := dk_4 (dk_at dksJ1_isEmpty_0 7 rfl rfl)
theorem dJ1_isEmpty_8 : decode cJ1_isEmpty 8 = .ok (.goto 4, 3) := dk_167 0 4 (dk_at dksJ1_isEmpty_0 8 rfl rfl)
theorem dJ1_isEmpty_11 : decode cJ1_isEmpty 11 = .ok (.iconst 0, 1) := dk_3 (dk_at dksJ1_isEmpty_0 11 rfl rfl)
theorem dJ1_isEmpty_12 : decode cJ1_isEmpty 12 = .ok (.ireturn, 1) := dk_172 (dk_at dksJ1_isEmpty_0 12 rfl rfl)
theorem q114 : (Jvm.Cond.initialized "java/util/AbstractCollection") ∈ lw_all := lw_g (lw_at lw_m1 6 rfl) rfl
theorem q268 : (Jvm.Cond.instanceMethod ({ cls := "java/util/AbstractCollection", name := "<init>", desc := "()V" } : Jvm.MethodName)) ∈ lw_all := lw_g (lw_at lw_m1 160 rfl) rfl
theorem q269 : (Jvm.Cond.code ({ cls := "java/util/AbstractCollection", name := "<init>", desc := "()V" } : Jvm.MethodName) prog_36_method_1_code (1 : Nat) (Option.none : Option Jvm.ClassFile.FieldType)) ∈ lw_all := lw_g (lw_at lw_m1 161 rfl) rfl
theorem q270 : (Jvm.Cond.methodLink "java/util/AbstractCollection" (1 : Nat) ({ cls := "java/lang/Object", name := "<init>", desc := "()V" } : Jvm.MethodName)) ∈ lw_all := lw_g (lw_at lw_m1 162 rfl) rfl
theorem q1223 : (Jvm.Cond.declares ({ cls := "java/util/AbstractCollection", name := "isEmpty", desc := "()Z" } : Jvm.MethodName)) ∈ lw_tbl := lw_at lw_m5 155 rfl
theorem q1225 : (Jvm.Cond.instanceMethod ({ cls := "java/util/AbstractCollection", name := "isEmpty", desc := "()Z" } : Jvm.MethodName)) ∈ lw_all := lw_g (lw_at lw_m5 157 rfl) rfl
theorem q1226 : (Jvm.Cond.code ({ cls := "java/util/AbstractCollection", name := "isEmpty", desc := "()Z" } : Jvm.MethodName) prog_36_method_4_code (1 : Nat) (Option.some Jvm.ClassFile.FieldType.boolean)) ∈ lw_all := lw_g (lw_at lw_m5 158 rfl) rfl
theorem q1227 : (Jvm.Cond.methodLink "java/util/AbstractCollection" (7 : Nat) ({ cls := "java/util/AbstractCollection", name := "size", desc := "()I" } : Jvm.MethodName)) ∈ lw_all := lw_g (lw_at lw_m5 159 rfl) rfl
theorem q1228 : (Jvm.Cond.declares ({ cls := "java/util/AbstractCollection", name := "size", desc := "()I" } : Jvm.MethodName)) ∈ lw_tbl := lw_at lw_m5 160 rfl
theorem q1229 : (Jvm.Cond.sameMethod "java/util/AbstractCollection" "java/util/AbstractCollection" "size" "()I") ∈ lw_all := lw_g (lw_at lw_m5 161 rfl) rfl
/-! java/util/TreeMap$Entry -/
set_option maxRecDepth 100000
def RJ10 : String := "java/util/TreeMap$Entry"
def TJ10 : u_T := fun k => match k with
  | 0 => ("java/util/TreeMap$Entry", "key", "Ljava/lang/Object;", false)
  | 1 => ("java/util/TreeMap$Entry", "value", "Ljava/lang/Object;", false)
  | 2 => ("java/util/TreeMap$Entry", "left", "Ljava/util/TreeMap$Entry;", false)
  | 3 => ("java/util/TreeMap$Entry", "right", "Ljava/util/TreeMap$Entry;", false)
  | 4 => ("java/util/TreeMap$Entry", "parent", "Ljava/util/TreeMap$Entry;", false)
  | _ => ("java/util/TreeMap$Entry", "colo\x72", "Z", false)
def tyJ10 : Nat → FieldType := fun k => match k with
  | 0 => .object "java/lang/Object"
  | 1 => .object "java/lang/Object"
  | 2 => .object "java/util/TreeMap$Entry"
  | 3 => .object "java/util/TreeMap$Entry"
  | 4 => .object "java/util/TreeMap$Entry"
  | _ => .boolean
abbrev wsJ100 : List Cond := u_ws RJ10 TJ10 6
theorem nmJ10 : ∀ a, a < 6 → ∀ b, b < 6 → a ≠ b → (TJ10 a).2.1 ≠ (TJ10 b).2.1 := by decide +kernel
theorem tyJ10_ok : ∀ k, k < 6 → parseFieldDescriptor (TJ10 k).2.2.1 = some (tyJ10 k) := by decide +kernel
abbrev cJ10_init : ByteArray := prog_62_method_1_code
def yJ10_init : MethodName := ⟨RJ10, "<init>", "(Ljava/lang/Object;Ljava/lang/Object;Ljava/util/TreeMap$Entry;)V"⟩
def dkwJ10_init_1 : List UInt8 := [177]
abbrev dktJ10_init_1 : List UInt8 := dkwJ10_init_1 ++ []
def dkwJ10_init_0 : List UInt8 := [42, 183, 0, 3, 42, 4, 181, 0, 9, 42, 43, 181, 0, 15, 42, 44, 181, 0, 19, 42, 45, 181, 0, 22]
abbrev dktJ10_init_0 : List UInt8 := dkwJ10_init_0 ++ dktJ10_init_1
theorem dksJ10_init_0 : cJ10_init.data.toList.drop 0 = dktJ10_init_0 := by decide +kernel
theorem dksJ10_init_1 : cJ10_init.data.toList.drop 24 = dktJ10_init_1 := dk_seg dksJ10_init_0 24 rfl rfl
theorem dJ10_init_0 : decode cJ10_init 0 = .ok (.aload_n 0, 1) := dk_42 (dk_at dksJ10_init_0 0 rfl rfl)
theorem dJ10_init_1 : decode cJ10_init 1 = .ok (.invokespecial 3, 3) := dk_183 0 3 (dk_at dksJ10_init_0 1 rfl rfl)
theorem dJ10_init_4 : decode cJ10_init 4 = .ok (.aload_n 0, 1) := dk_42 (dk_at dksJ10_init_0 4 rfl rfl)
theorem dJ10_init_5 : decode cJ10_init 5 = .ok (.iconst 1, 1) := dk_4 (dk_at dksJ10_init_0 5 rfl rfl)
theorem dJ10_init_6 : decode cJ10_init 6 = .ok (.putfield 9, 3) := dk_181 0 9 (dk_at dksJ10_init_0 6 rfl rfl)
theorem dJ10_init_9 : decode cJ10_init 9 = .ok (.aload_n 0, 1) := dk_42 (dk_at dksJ10_init_0 9 rfl rfl)
theorem dJ10_init_10 : decode cJ10_init 10 = .ok (.aload_n 1, 1) := dk_43 (dk_at dksJ10_init_0 10 rfl rfl)
theorem dJ10_init_11 : decode cJ10_init 11 = .ok (.putfield 15, 3) := dk_181 0 15 (dk_at dksJ10_init_0 11 rfl rfl)
theorem dJ10_init_14 : decode cJ10_init 14 = .ok (.aload_n 0, 1) := dk_42 (dk_at dksJ10_init_0 14 rfl rfl)
theorem dJ10_init_15 : decode cJ10_init 15 = .ok (.aload_n 2, 1) := dk_44 (dk_at dksJ10_init_0 15 rfl rfl)
theorem dJ10_init_16 : decode cJ10_init 16 = .ok (.putfield 19, 3) := dk_181 0 19 (dk_at dksJ10_init_0 16 rfl rfl)
theorem dJ10_init_19 : decode cJ10_init 19 = .ok (.aload_n 0, 1) := dk_42 (dk_at dksJ10_init_0 19 rfl rfl)
theorem dJ10_init_20 : decode cJ10_init 20 = .ok (.aload_n 3, 1) := dk_45 (dk_at dksJ10_init_0 20 rfl rfl)
theorem dJ10_init_21 : decode cJ10_init 21 = .ok (.putfield 22, 3) := dk_181 0 22 (dk_at dksJ10_init_0 21 rfl rfl)
theorem dJ10_init_24 : decode cJ10_init 24 = .ok (.return_, 1) := dk_177 (dk_at dksJ10_init_1 0 rfl rfl)
theorem q130 : (Jvm.Cond.initialized "java/util/TreeMap$Entry") ∈ lw_all := lw_g (lw_at lw_m1 22 rfl) rfl
theorem q783 : (Jvm.Cond.instantiable "java/util/TreeMap$Entry" (6 : Nat)) ∈ lw_all := lw_g (lw_at lw_m3 195 rfl) rfl
theorem q785 : (Jvm.Cond.instanceMethod ({ cls := "java/util/TreeMap$Entry", name := "<init>", desc := "(Ljava/lang/Object;Ljava/lang/Object;Ljava/util/TreeMap$Entry;)V" } : Jvm.MethodName)) ∈ lw_all := lw_g (lw_at lw_m3 197 rfl) rfl
theorem q786 : (Jvm.Cond.code ({ cls := "java/util/TreeMap$Entry", name := "<init>", desc := "(Ljava/lang/Object;Ljava/lang/Object;Ljava/util/TreeMap$Entry;)V" } : Jvm.MethodName) prog_62_method_1_code (4 : Nat) (Option.none : Option Jvm.ClassFile.FieldType)) ∈ lw_all := lw_g (lw_at lw_m3 198 rfl) rfl
theorem q787 : (Jvm.Cond.methodLink "java/util/TreeMap$Entry" (3 : Nat) ({ cls := "java/lang/Object", name := "<init>", desc := "()V" } : Jvm.MethodName)) ∈ lw_all := lw_g (lw_at lw_m3 199 rfl) rfl
theorem q788 : (Jvm.Cond.fieldLink "java/util/TreeMap$Entry" (15 : Nat) "java/util/TreeMap$Entry" "key" "Ljava/lang/Object;") ∈ lw_all := lw_g (lw_at lw_m3 200 rfl) rfl
theorem q791 : (Jvm.Cond.fieldLink "java/util/TreeMap$Entry" (19 : Nat) "java/util/TreeMap$Entry" "value" "Ljava/lang/Object;") ∈ lw_all := lw_g (lw_at lw_m3 203 rfl) rfl
theorem q795 : (Jvm.Cond.fieldLink "java/util/TreeMap$Entry" (22 : Nat) "java/util/TreeMap$Entry" "parent" "Ljava/util/TreeMap$Entry;") ∈ lw_all := lw_g (lw_at lw_m3 207 rfl) rfl
theorem q797 : (Jvm.Cond.fieldLink "java/util/TreeMap$Entry" (9 : Nat) "java/util/TreeMap$Entry" "colo\x72" "Z") ∈ lw_all := lw_g (lw_at lw_m3 209 rfl) rfl
theorem q799 : (Jvm.Cond.lays "java/util/TreeMap$Entry" "java/util/TreeMap$Entry" "key" "Ljava/lang/Object;") ∈ lw_all := lw_g (lw_at lw_m3 211 rfl) rfl
theorem q800 : (Jvm.Cond.soleField "java/util/TreeMap$Entry" "key") ∈ lw_all := lw_g (lw_at lw_m3 212 rfl) rfl
theorem q801 : (Jvm.Cond.lays "java/util/TreeMap$Entry" "java/util/TreeMap$Entry" "value" "Ljava/lang/Object;") ∈ lw_all := lw_g (lw_at lw_m3 213 rfl) rfl
theorem q802 : (Jvm.Cond.soleField "java/util/TreeMap$Entry" "value") ∈ lw_all := lw_g (lw_at lw_m3 214 rfl) rfl
theorem q803 : (Jvm.Cond.lays "java/util/TreeMap$Entry" "java/util/TreeMap$Entry" "left" "Ljava/util/TreeMap$Entry;") ∈ lw_all := lw_g (lw_at lw_m3 215 rfl) rfl
theorem q804 : (Jvm.Cond.soleField "java/util/TreeMap$Entry" "left") ∈ lw_all := lw_g (lw_at lw_m3 216 rfl) rfl
theorem q805 : (Jvm.Cond.lays "java/util/TreeMap$Entry" "java/util/TreeMap$Entry" "right" "Ljava/util/TreeMap$Entry;") ∈ lw_all := lw_g (lw_at lw_m3 217 rfl) rfl
theorem q806 : (Jvm.Cond.soleField "java/util/TreeMap$Entry" "right") ∈ lw_all := lw_g (lw_at lw_m3 218 rfl) rfl
theorem q807 : (Jvm.Cond.lays "java/util/TreeMap$Entry" "java/util/TreeMap$Entry" "parent" "Ljava/util/TreeMap$Entry;") ∈ lw_all := lw_g (lw_at lw_m3 219 rfl) rfl
theorem q808 : (Jvm.Cond.soleField "java/util/TreeMap$Entry" "parent") ∈ lw_all := lw_g (lw_at lw_m3 220 rfl) rfl
theorem q809 : (Jvm.Cond.lays "java/util/TreeMap$Entry" "java/util/TreeMap$Entry" "colo\x72" "Z") ∈ lw_all := lw_g (lw_at lw_m3 221 rfl) rfl
theorem q810 : (Jvm.Cond.soleField "java/util/TreeMap$Entry" "colo\x72") ∈ lw_all := lw_g (lw_at lw_m3 222 rfl) rfl
theorem q811 : (Jvm.Cond.superclass "java/util/TreeMap$Entry" "java/lang/Object") ∈ lw_all := lw_g (lw_at lw_m3 223 rfl) rfl
theorem q1194 : (Jvm.Cond.selects "java/util/TreeMap$Entry" ({ cls := "java/lang/Object", name := "getClass", desc := "()Ljava/lang/Class;" } : Jvm.MethodName) ({ cls := "java/lang/Object", name := "getClass", desc := "()Ljava/lang/Class;" } : Jvm.MethodName)) ∈ lw_all := lw_g (lw_at lw_m5 126 rfl) rfl
theorem q2079 : (Jvm.Cond.castable "java/util/TreeMap$Entry" "java/lang/Object") ∈ lw_tbl := lw_at lw_m9 51 rfl
theorem in_J10 : ∀ w ∈ wsJ100, w ∈ lw_all := lw_in wsJ100 [799, 801, 803, 805, 807, 809] (by decide +kernel) (by decide +kernel)
/-! java/util/Objects -/
set_option maxRecDepth 100000
def RJ11 : String := "java/util/Objects"
abbrev cJ11_requireNonNull : ByteArray := prog_51_method_10_code
def yJ11_requireNonNull : MethodName := ⟨RJ11, "requireNonNull", "(Ljava/lang/Object;)Ljava/lang/Object;"⟩
def dkwJ11_requireNonNull_0 : List UInt8 := [42, 199, 0, 11, 187, 0, 84, 89, 183, 0, 86, 191, 42, 176]
abbrev dktJ11_requireNonNull_0 : List UInt8 := dkwJ11_requireNonNull_0 ++ []
theorem dksJ11_requireNonNull_0 : cJ11_requireNonNull.data.toList.drop 0 = dktJ11_requireNonNull_0 := by decide +kernel
theorem dJ11_requireNonNull_0 : decode cJ11_requireNonNull 0 = .ok (.aload_n 0, 1) := dk_42 (dk_at dksJ11_requireNonNull_0 0 rfl rfl)
theorem dJ11_requireNonNull_1 : decode cJ11_requireNonNull 1 = .ok (.ifnonnull 11, 3) := dk_199 0 11 (dk_at dksJ11_requireNonNull_0 1 rfl rfl)
theorem dJ11_requireNonNull_4 : decode cJ11_requireNonNull 4 = .ok (.new 84, 3) := dk_187 0 84 (dk_at dksJ11_requireNonNull_0 4 rfl rfl)
theorem dJ11_requireNonNull_7 : decode cJ11_requireNonNull 7 = .ok (.dup, 1) := dk_89 (dk_at dksJ11_requireNonNull_0 7 rfl rfl)
theorem dJ11_requireNonNull_8 : decode cJ11_requireNonNull 8 = .ok (.invokespecial 86, 3) := dk_183 0 86 (dk_at dksJ11_requireNonNull_0 8 rfl rfl)
theorem dJ11_requireNonNull_11 : decode cJ11_requireNonNull 11 = .ok (.athrow, 1) := dk_191 (dk_at dksJ11_requireNonNull_0 11 rfl rfl)
theorem dJ11_requireNonNull_12 : decode cJ11_requireNonNull 12 = .ok (.aload_n 0, 1) := dk_42 (dk_at dksJ11_requireNonNull_0 12 rfl rfl)
theorem dJ11_requireNonNull_13 : decode cJ11_requireNonNull 13 = .ok (.areturn, 1) := dk_176 (dk_at dksJ11_requireNonNull_0 13 rfl rfl)
theorem q131 : (Jvm.Cond.initialized "java/util/Objects") ∈ lw_all := lw_g (lw_at lw_m1 23 rfl) rfl
theorem q813 : (Jvm.Cond.static ({ cls := "java/util/Objects", name := "requireNonNull", desc := "(Ljava/lang/Object;)Ljava/lang/Object;" } : Jvm.MethodName)) ∈ lw_all := lw_g (lw_at lw_m3 225 rfl) rfl
theorem q814 : (Jvm.Cond.code ({ cls := "java/util/Objects", name := "requireNonNull", desc := "(Ljava/lang/Object;)Ljava/lang/Object;" } : Jvm.MethodName) prog_51_method_10_code (1 : Nat) (Option.some (Jvm.ClassFile.FieldType.object "java/lang/Object"))) ∈ lw_all := lw_g (lw_at lw_m3 226 rfl) rfl
theorem q815 : (Jvm.Cond.classLink "java/util/Objects" (84 : Nat) "java/lang/NullPointerException") ∈ lw_all := lw_g (lw_at lw_m3 227 rfl) rfl
theorem q869 : (Jvm.Cond.methodLink "java/util/Objects" (86 : Nat) ({ cls := "java/lang/NullPointerException", name := "<init>", desc := "()V" } : Jvm.MethodName)) ∈ lw_all := lw_g (lw_at lw_m4 41 rfl) rfl
/-! java/lang/Throwable -/
set_option maxRecDepth 100000
def RJ12 : String := "java/lang/Throwable"
def TJ12 : u_T := fun k => match k with
  | 0 => ("java/lang/Throwable", "cause", "Ljava/lang/Throwable;", false)
  | 1 => ("java/lang/Throwable", "stackTrace", "[Ljava/lang/StackTraceElement;", false)
  | 2 => ("java/lang/Throwable", "suppressedExceptions", "Ljava/util/List;", false)
  | 3 => ("java/lang/Throwable", "detailMessage", "Ljava/lang/String;", false)
  | _ => ("java/lang/Throwable", "backtrace", "Ljava/lang/Object;", false)
def tyJ12 : Nat → FieldType := fun k => match k with
  | 0 => .object "java/lang/Throwable"
  | 1 => .array (.object "java/lang/StackTraceElement")
  | 2 => .object "java/util/List"
  | 3 => .object "java/lang/String"
  | _ => .object "java/lang/Object"
abbrev wsJ120 : List Cond := u_ws RJ12 TJ12 5
theorem nmJ12 : ∀ a, a < 5 → ∀ b, b < 5 → a ≠ b → (TJ12 a).2.1 ≠ (TJ12 b).2.1 := by decide +kernel
theorem tyJ12_ok : ∀ k, k < 5 → parseFieldDescriptor (TJ12 k).2.2.1 = some (tyJ12 k) := by decide +kernel
abbrev cJ12_init : ByteArray := prog_33_method_1_code
def yJ12_init : MethodName := ⟨RJ12, "<init>", "()V"⟩
def dkwJ12_init_1 : List UInt8 := [182, 0, 27, 87, 177]
abbrev dktJ12_init_1 : List UInt8 := dkwJ12_init_1 ++ []
def dkwJ12_init_0 : List UInt8 := [42, 183, 0, 1, 42, 42, 181, 0, 7, 42, 178, 0, 13, 181, 0, 17, 42, 178, 0, 20, 181, 0, 24, 42]
abbrev dktJ12_init_0 : List UInt8 := dkwJ12_init_0 ++ dktJ12_init_1
theorem dksJ12_init_0 : cJ12_init.data.toList.drop 0 = dktJ12_init_0 := by decide +kernel
theorem dksJ12_init_1 : cJ12_init.data.toList.drop 24 = dktJ12_init_1 := dk_seg dksJ12_init_0 24 rfl rfl
theorem dJ12_init_0 : decode cJ12_init 0 = .ok (.aload_n 0, 1) := dk_42 (dk_at dksJ12_init_0 0 rfl rfl)
theorem dJ12_init_1 : decode cJ12_init 1 = .ok (.invokespecial 1, 3) := dk_183 0 1 (dk_at dksJ12_init_0 1 rfl rfl)
theorem dJ12_init_4 : decode cJ12_init 4 = .ok (.aload_n 0, 1) := dk_42 (dk_at dksJ12_init_0 4 rfl rfl)
theorem dJ12_init_5 : decode cJ12_init 5 = .ok (.aload_n 0, 1) := dk_42 (dk_at dksJ12_init_0 5 rfl rfl)
theorem dJ12_init_6 : decode cJ12_init 6 = .ok (.putfield 7, 3) := dk_181 0 7 (dk_at dksJ12_init_0 6 rfl rfl)
theorem dJ12_init_9 : decode cJ12_init 9 = .ok (.aload_n 0, 1) := dk_42 (dk_at dksJ12_init_0 9 rfl rfl)
theorem dJ12_init_10 : decode cJ12_init 10 = .ok (.getstatic 13, 3) := dk_178 0 13 (dk_at dksJ12_init_0 10 rfl rfl)
theorem dJ12_init_13 : decode cJ12_init 13 = .ok (.putfield 17, 3) := dk_181 0 17 (dk_at dksJ12_init_0 13 rfl rfl)
theorem dJ12_init_16 : decode cJ12_init 16 = .ok (.aload_n 0, 1) := dk_42 (dk_at dksJ12_init_0 16 rfl rfl)
theorem dJ12_init_17 : decode cJ12_init 17 = .ok (.getstatic 20, 3) := dk_178 0 20 (dk_at dksJ12_init_0 17 rfl rfl)
theorem dJ12_init_20 : decode cJ12_init 20 = .ok (.putfield 24, 3) := dk_181 0 24 (dk_at dksJ12_init_0 20 rfl rfl)
theorem dJ12_init_23 : decode cJ12_init 23 = .ok (.aload_n 0, 1) := dk_42 (dk_at dksJ12_init_0 23 rfl rfl)
theorem dJ12_init_24 : decode cJ12_init 24 = .ok (.invokevirtual 27, 3) := dk_182 0 27 (dk_at dksJ12_init_1 0 rfl rfl)
theorem dJ12_init_27 : decode cJ12_init 27 = .ok (.pop, 1) := dk_87 (dk_at dksJ12_init_1 3 rfl rfl)
theorem dJ12_init_28 : decode cJ12_init 28 = .ok (.return_, 1) := dk_177 (dk_at dksJ12_init_1 4 rfl rfl)
abbrev cJ12_init_2 : ByteArray := prog_33_method_5_code
def yJ12_init_2 : MethodName := ⟨RJ12, "<init>", "(Ljava/lang/String;Ljava/lang/Throwable;ZZ)V"⟩
def dkwJ12_init_2_2 : List UInt8 := [44, 181, 0, 7, 29, 154, 0, 8, 42, 1, 181, 0, 24, 177]
abbrev dktJ12_init_2_2 : List UInt8 := dkwJ12_init_2_2 ++ []
def dkwJ12_init_2_1 : List UInt8 := [21, 4, 153, 0, 11, 42, 182, 0, 27, 87, 167, 0, 8, 42, 1, 181, 0, 17, 42, 43, 181, 0, 31, 42]
abbrev dktJ12_init_2_1 : List UInt8 := dkwJ12_init_2_1 ++ dktJ12_init_2_2
def dkwJ12_init_2_0 : List UInt8 := [42, 183, 0, 1, 42, 42, 181, 0, 7, 42, 178, 0, 13, 181, 0, 17, 42, 178, 0, 20, 181, 0, 24]
abbrev dktJ12_init_2_0 : List UInt8 := dkwJ12_init_2_0 ++ dktJ12_init_2_1
theorem dksJ12_init_2_0 : cJ12_init_2.data.toList.drop 0 = dktJ12_init_2_0 := by decide +kernel
theorem dksJ12_init_2_1 : cJ12_init_2.data.toList.drop 23 = dktJ12_init_2_1 := dk_seg dksJ12_init_2_0 23 rfl rfl
theorem dksJ12_init_2_2 : cJ12_init_2.data.toList.drop 47 = dktJ12_init_2_2 := dk_seg dksJ12_init_2_1 24 rfl rfl
theorem dJ12_init_2_0 : decode cJ12_init_2 0 = .ok (.aload_n 0, 1) := dk_42 (dk_at dksJ12_init_2_0 0 rfl rfl)
theorem dJ12_init_2_1 : decode cJ12_init_2 1 = .ok (.invokespecial 1, 3) := dk_183 0 1 (dk_at dksJ12_init_2_0 1 rfl rfl)
theorem dJ12_init_2_4 : decode cJ12_init_2 4 = .ok (.aload_n 0, 1) := dk_42 (dk_at dksJ12_init_2_0 4 rfl rfl)
theorem dJ12_init_2_5 : decode cJ12_init_2 5 = .ok (.aload_n 0, 1) := dk_42 (dk_at dksJ12_init_2_0 5 rfl rfl)
theorem dJ12_init_2_6 : decode cJ12_init_2 6 = .ok (.putfield 7, 3) := dk_181 0 7 (dk_at dksJ12_init_2_0 6 rfl rfl)
theorem dJ12_init_2_9 : decode cJ12_init_2 9 = .ok (.aload_n 0, 1) := dk_42 (dk_at dksJ12_init_2_0 9 rfl rfl)
theorem dJ12_init_2_10 : decode cJ12_init_2 10 = .ok (.getstatic 13, 3) := dk_178 0 13 (dk_at dksJ12_init_2_0 10 rfl rfl)
theorem dJ12_init_2_13 : decode cJ12_init_2 13 = .ok (.putfield 17, 3) := dk_181 0 17 (dk_at dksJ12_init_2_0 13 rfl rfl)
theorem dJ12_init_2_16 : decode cJ12_init_2 16 = .ok (.aload_n 0, 1) := dk_42 (dk_at dksJ12_init_2_0 16 rfl rfl)
theorem dJ12_init_2_17 : decode cJ12_init_2 17 = .ok (.getstatic 20, 3) := dk_178 0 20 (dk_at dksJ12_init_2_0 17 rfl rfl)
theorem dJ12_init_2_20 : decode cJ12_init_2 20 = .ok (.putfield 24, 3) := dk_181 0 24 (dk_at dksJ12_init_2_0 20 rfl rfl)
theorem dJ12_init_2_23 : decode cJ12_init_2 23 = .ok (.iload 4, 2) := dk_21 4 (dk_at dksJ12_init_2_1 0 rfl rfl)
theorem dJ12_init_2_25 : decode cJ12_init_2 25 = .ok (.ifCond .eq 11, 3) := dk_153 0 11 (dk_at dksJ12_init_2_1 2 rfl rfl)
theorem dJ12_init_2_28 : decode cJ12_init_2 28 = .ok (.aload_n 0, 1) := dk_42 (dk_at dksJ12_init_2_1 5 rfl rfl)
theorem dJ12_init_2_29 : decode cJ12_init_2 29 = .ok (.invokevirtual 27, 3) := dk_182 0 27 (dk_at dksJ12_init_2_1 6 rfl rfl)
theorem dJ12_init_2_32 : decode cJ12_init_2 32 = .ok (.pop, 1) := dk_87 (dk_at dksJ12_init_2_1 9 rfl rfl)
theorem dJ12_init_2_33 : decode cJ12_init_2 33 = .ok (.goto 8, 3) := dk_167 0 8 (dk_at dksJ12_init_2_1 10 rfl rfl)
theorem dJ12_init_2_36 : decode cJ12_init_2 36 = .ok (.aload_n 0, 1) := dk_42 (dk_at dksJ12_init_2_1 13 rfl rfl)
theorem dJ12_init_2_37 : decode cJ12_init_2 37 = .ok (.aconst_null, 1) := dk_1 (dk_at dksJ12_init_2_1 14 rfl rfl)
theorem dJ12_init_2_38 : decode cJ12_init_2 38 = .ok (.putfield 17, 3) := dk_181 0 17 (dk_at dksJ12_init_2_1 15 rfl rfl)
theorem dJ12_init_2_41 : decode cJ12_init_2 41 = .ok (.aload_n 0, 1) := dk_42 (dk_at dksJ12_init_2_1 18 rfl rfl)
theorem dJ12_init_2_42 : decode cJ12_init_2 42 = .ok (.aload_n 1, 1) := dk_43 (dk_at dksJ12_init_2_1 19 rfl rfl)
theorem dJ12_init_2_43 : decode cJ12_init_2 43 = .ok (.putfield 31, 3) := dk_181 0 31 (dk_at dksJ12_init_2_1 20 rfl rfl)
theorem dJ12_init_2_46 : decode cJ12_init_2 46 = .ok (.aload_n 0, 1) := dk_42 (dk_at dksJ12_init_2_1 23 rfl rfl)
theorem dJ12_init_2_47 : decode cJ12_init_2 47 = .ok (.aload_n 2, 1) := dk_44 (dk_at dksJ12_init_2_2 0 rfl rfl)
theorem dJ12_init_2_48 : decode cJ12_init_2 48 = .ok (.putfield 7, 3) := dk_181 0 7 (dk_at dksJ12_init_2_2 1 rfl rfl)
theorem dJ12_init_2_51 : decode cJ12_init_2 51 = .ok (.iload_n 3, 1) := dk_29 (dk_at dksJ12_init_2_2 4 rfl rfl)
theorem dJ12_init_2_52 : decode cJ12_init_2 52 = .ok (.ifCond .ne 8, 3) := dk_154 0 8 (dk_at dksJ12_init_2_2 5 rfl rfl)
theorem dJ12_init_2_55 : decode cJ12_init_2 55 = .ok (.aload_n 0, 1) := dk_42 (dk_at dksJ12_init_2_2 8 rfl rfl)
theorem dJ12_init_2_56 : decode cJ12_init_2 56 = .ok (.aconst_null, 1) := dk_1 (dk_at dksJ12_init_2_2 9 rfl rfl)
theorem dJ12_init_2_57 : decode cJ12_init_2 57 = .ok (.putfield 24, 3) := dk_181 0 24 (dk_at dksJ12_init_2_2 10 rfl rfl)
theorem dJ12_init_2_60 : decode cJ12_init_2 60 = .ok (.return_, 1) := dk_177 (dk_at dksJ12_init_2_2 13 rfl rfl)
theorem q132 : (Jvm.Cond.initialized "java/lang/Throwable") ∈ lw_all := lw_g (lw_at lw_m1 24 rfl) rfl
theorem q822 : (Jvm.Cond.declares ({ cls := "java/lang/Throwable", name := "<init>", desc := "()V" } : Jvm.MethodName)) ∈ lw_tbl := lw_at lw_m3 234 rfl
theorem q823 : (Jvm.Cond.declares ({ cls := "java/lang/Throwable", name := "<init>", desc := "(Ljava/lang/String;)V" } : Jvm.MethodName)) ∈ lw_tbl := lw_at lw_m3 235 rfl
theorem q826 : (Jvm.Cond.lays "java/lang/Throwable" "java/lang/Throwable" "cause" "Ljava/lang/Throwable;") ∈ lw_all := lw_g (lw_at lw_m3 238 rfl) rfl
theorem q828 : (Jvm.Cond.lays "java/lang/Throwable" "java/lang/Throwable" "stackTrace" "[Ljava/lang/StackTraceElement;") ∈ lw_all := lw_g (lw_at lw_m4 0 rfl) rfl
theorem q830 : (Jvm.Cond.lays "java/lang/Throwable" "java/lang/Throwable" "suppressedExceptions" "Ljava/util/List;") ∈ lw_all := lw_g (lw_at lw_m4 2 rfl) rfl
theorem q832 : (Jvm.Cond.lays "java/lang/Throwable" "java/lang/Throwable" "detailMessage" "Ljava/lang/String;") ∈ lw_all := lw_g (lw_at lw_m4 4 rfl) rfl
theorem q834 : (Jvm.Cond.lays "java/lang/Throwable" "java/lang/Throwable" "backtrace" "Ljava/lang/Object;") ∈ lw_all := lw_g (lw_at lw_m4 6 rfl) rfl
theorem q835 : (Jvm.Cond.fieldLink "java/lang/Throwable" (198 : Nat) "java/lang/Throwable" "backtrace" "Ljava/lang/Object;") ∈ lw_all := lw_g (lw_at lw_m4 7 rfl) rfl
theorem q836 : (Jvm.Cond.superclass "java/lang/Throwable" "java/lang/Object") ∈ lw_all := lw_g (lw_at lw_m4 8 rfl) rfl
theorem q837 : (Jvm.Cond.instanceMethod ({ cls := "java/lang/Throwable", name := "<init>", desc := "()V" } : Jvm.MethodName)) ∈ lw_all := lw_g (lw_at lw_m4 9 rfl) rfl
theorem q838 : (Jvm.Cond.code ({ cls := "java/lang/Throwable", name := "<init>", desc := "()V" } : Jvm.MethodName) prog_33_method_1_code (1 : Nat) (Option.none : Option Jvm.ClassFile.FieldType)) ∈ lw_all := lw_g (lw_at lw_m4 10 rfl) rfl
theorem q839 : (Jvm.Cond.methodLink "java/lang/Throwable" (1 : Nat) ({ cls := "java/lang/Object", name := "<init>", desc := "()V" } : Jvm.MethodName)) ∈ lw_all := lw_g (lw_at lw_m4 11 rfl) rfl
theorem q840 : (Jvm.Cond.fieldLink "java/lang/Throwable" (13 : Nat) "java/lang/Throwable" "UNASSIGNED_STACK" "[Ljava/lang/StackTraceElement;") ∈ lw_all := lw_g (lw_at lw_m4 12 rfl) rfl
theorem q841 : (Jvm.Cond.laysStatic "java/lang/Throwable" "UNASSIGNED_STACK" "[Ljava/lang/StackTraceElement;") ∈ lw_tbl := lw_at lw_m4 13 rfl
theorem q842 : (Jvm.Cond.fieldLink "java/lang/Throwable" (20 : Nat) "java/lang/Throwable" "SUPPRESSED_SENTINEL" "Ljava/util/List;") ∈ lw_all := lw_g (lw_at lw_m4 14 rfl) rfl
theorem q843 : (Jvm.Cond.laysStatic "java/lang/Throwable" "SUPPRESSED_SENTINEL" "Ljava/util/List;") ∈ lw_tbl := lw_at lw_m4 15 rfl
theorem q844 : (Jvm.Cond.methodLink "java/lang/Throwable" (27 : Nat) ({ cls := "java/lang/Throwable", name := "fillInStackTrace", desc := "()Ljava/lang/Throwable;" } : Jvm.MethodName)) ∈ lw_all := lw_g (lw_at lw_m4 16 rfl) rfl
theorem q845 : (Jvm.Cond.instanceMethod ({ cls := "java/lang/Throwable", name := "fillInStackTrace", desc := "()Ljava/lang/Throwable;" } : Jvm.MethodName)) ∈ lw_all := lw_g (lw_at lw_m4 17 rfl) rfl
theorem q846 : (Jvm.Cond.sameMethod "java/lang/Throwable" "java/lang/Throwable" "fillInStackTrace" "()Ljava/lang/Throwable;") ∈ lw_all := lw_g (lw_at lw_m4 18 rfl) rfl
theorem q859 : (Jvm.Cond.declares ({ cls := "java/lang/Throwable", name := "fillInStackTrace", desc := "()Ljava/lang/Throwable;" } : Jvm.MethodName)) ∈ lw_tbl := lw_at lw_m4 31 rfl
theorem q863 : (Jvm.Cond.codeSync ({ cls := "java/lang/Throwable", name := "fillInStackTrace", desc := "()Ljava/lang/Throwable;" } : Jvm.MethodName) prog_33_method_18_code (1 : Nat) (Option.some (Jvm.ClassFile.FieldType.object "java/lang/Throwable"))) ∈ lw_all := lw_g (lw_at lw_m4 35 rfl) rfl
theorem q864 : (Jvm.Cond.methodLink "java/lang/Throwable" (202 : Nat) ({ cls := "java/lang/Throwable", name := "fillInStackTrace", desc := "(I)Ljava/lang/Throwable;" } : Jvm.MethodName)) ∈ lw_all := lw_g (lw_at lw_m4 36 rfl) rfl
theorem q865 : (Jvm.Cond.privateMethod ({ cls := "java/lang/Throwable", name := "fillInStackTrace", desc := "(I)Ljava/lang/Throwable;" } : Jvm.MethodName)) ∈ lw_tbl := lw_at lw_m4 37 rfl
theorem q866 : (Jvm.Cond.instanceMethod ({ cls := "java/lang/Throwable", name := "fillInStackTrace", desc := "(I)Ljava/lang/Throwable;" } : Jvm.MethodName)) ∈ lw_all := lw_g (lw_at lw_m4 38 rfl) rfl
theorem q867 : (Jvm.Cond.instantiable "java/lang/Throwable" (6 : Nat)) ∈ lw_all := lw_g (lw_at lw_m4 39 rfl) rfl
theorem q868 : (Jvm.Cond.native ({ cls := "java/lang/Throwable", name := "fillInStackTrace", desc := "(I)Ljava/lang/Throwable;" } : Jvm.MethodName)) ∈ lw_all := lw_g (lw_at lw_m4 40 rfl) rfl
theorem q881 : (Jvm.Cond.fieldLink "java/lang/Throwable" (198 : Nat) "java/lang/Throwable" "backtrace" "Ljava/lang/Object;") ∈ lw_all := lw_g (lw_at lw_m4 53 rfl) rfl
theorem q882 : (Jvm.Cond.fieldLink "java/lang/Throwable" (31 : Nat) "java/lang/Throwable" "detailMessage" "Ljava/lang/String;") ∈ lw_all := lw_g (lw_at lw_m4 54 rfl) rfl
theorem q883 : (Jvm.Cond.fieldLink "java/lang/Throwable" (7 : Nat) "java/lang/Throwable" "cause" "Ljava/lang/Throwable;") ∈ lw_all := lw_g (lw_at lw_m4 55 rfl) rfl
theorem q884 : (Jvm.Cond.fieldLink "java/lang/Throwable" (17 : Nat) "java/lang/Throwable" "stackTrace" "[Ljava/lang/StackTraceElement;") ∈ lw_all := lw_g (lw_at lw_m4 56 rfl) rfl
theorem q885 : (Jvm.Cond.fieldLink "java/lang/Throwable" (24 : Nat) "java/lang/Throwable" "suppressedExceptions" "Ljava/util/List;") ∈ lw_all := lw_g (lw_at lw_m4 57 rfl) rfl
theorem q890 : (Jvm.Cond.soleField "java/lang/Throwable" "backtrace") ∈ lw_all := lw_g (lw_at lw_m4 62 rfl) rfl
theorem q891 : (Jvm.Cond.soleField "java/lang/Throwable" "detailMessage") ∈ lw_all := lw_g (lw_at lw_m4 63 rfl) rfl
theorem q892 : (Jvm.Cond.soleField "java/lang/Throwable" "cause") ∈ lw_all := lw_g (lw_at lw_m4 64 rfl) rfl
theorem q893 : (Jvm.Cond.soleField "java/lang/Throwable" "stackTrace") ∈ lw_all := lw_g (lw_at lw_m4 65 rfl) rfl
theorem q895 : (Jvm.Cond.soleField "java/lang/Throwable" "depth") ∈ lw_all := lw_g (lw_at lw_m4 67 rfl) rfl
theorem q896 : (Jvm.Cond.soleField "java/lang/Throwable" "suppressedExceptions") ∈ lw_all := lw_g (lw_at lw_m4 68 rfl) rfl
theorem q1483 : (Jvm.Cond.instanceMethod ({ cls := "java/lang/Throwable", name := "<init>", desc := "(Ljava/lang/String;Ljava/lang/Throwable;ZZ)V" } : Jvm.MethodName)) ∈ lw_all := lw_g (lw_at lw_m6 175 rfl) rfl
theorem q1484 : (Jvm.Cond.code ({ cls := "java/lang/Throwable", name := "<init>", desc := "(Ljava/lang/String;Ljava/lang/Throwable;ZZ)V" } : Jvm.MethodName) prog_33_method_5_code (5 : Nat) (Option.none : Option Jvm.ClassFile.FieldType)) ∈ lw_all := lw_g (lw_at lw_m6 176 rfl) rfl
theorem q1585 : (Jvm.Cond.declares ({ cls := "java/lang/Throwable", name := "getCause", desc := "()Ljava/lang/Throwable;" } : Jvm.MethodName)) ∈ lw_tbl := lw_at lw_m7 37 rfl
theorem q1587 : (Jvm.Cond.instanceMethod ({ cls := "java/lang/Throwable", name := "getCause", desc := "()Ljava/lang/Throwable;" } : Jvm.MethodName)) ∈ lw_all := lw_g (lw_at lw_m7 39 rfl) rfl
theorem q1588 : (Jvm.Cond.codeSync ({ cls := "java/lang/Throwable", name := "getCause", desc := "()Ljava/lang/Throwable;" } : Jvm.MethodName) prog_33_method_8_code (1 : Nat) (Option.some (Jvm.ClassFile.FieldType.object "java/lang/Throwable"))) ∈ lw_all := lw_g (lw_at lw_m7 40 rfl) rfl
theorem q2060 : (Jvm.Cond.sameMethod "java/lang/Throwable" "java/lang/Throwable" "fillInStackTrace" "(I)Ljava/lang/Throwable;") ∈ lw_all := lw_g (lw_at lw_m9 32 rfl) rfl
theorem q2088 : (Jvm.Cond.castable "java/lang/Throwable" "java/lang/Object") ∈ lw_tbl := lw_at lw_m9 60 rfl
theorem in_J12 : ∀ w ∈ wsJ120, w ∈ lw_all := lw_in wsJ120 [826, 828, 830, 832, 834] (by decide +kernel) (by decide +kernel)
/-! java/lang/Exception -/
set_option maxRecDepth 100000
def RJ13 : String := "java/lang/Exception"
abbrev cJ13_init : ByteArray := prog_24_method_1_code
def yJ13_init : MethodName := ⟨RJ13, "<init>", "()V"⟩
theorem dJ13_init_0 : decode cJ13_init 0 = .ok (.aload_n 0, 1) := by decide +kernel
theorem dJ13_init_1 : decode cJ13_init 1 = .ok (.invokespecial 1, 3) := by decide +kernel
theorem dJ13_init_4 : decode cJ13_init 4 = .ok (.return_, 1) := by decide +kernel
abbrev cJ13_init_2 : ByteArray := prog_24_method_5_code
def yJ13_init_2 : MethodName := ⟨RJ13, "<init>", "(Ljava/lang/String;Ljava/lang/Throwable;ZZ)V"⟩
def dkwJ13_init_2_0 : List UInt8 := [42, 43, 44, 29, 21, 4, 183, 0, 16, 177]
abbrev dktJ13_init_2_0 : List UInt8 := dkwJ13_init_2_0 ++ []
theorem dksJ13_init_2_0 : cJ13_init_2.data.toList.drop 0 = dktJ13_init_2_0 := by decide +kernel
theorem dJ13_init_2_0 : decode cJ13_init_2 0 = .ok (.aload_n 0, 1) := dk_42 (dk_at dksJ13_init_2_0 0 rfl rfl)
theorem dJ13_init_2_1 : decode cJ13_init_2 1 = .ok (.aload_n 1, 1) := dk_43 (dk_at dksJ13_init_2_0 1 rfl rfl)
theorem dJ13_init_2_2 : decode cJ13_init_2 2 = .ok (.aload_n 2, 1) := dk_44 (dk_at dksJ13_init_2_0 2 rfl rfl)
theorem dJ13_init_2_3 : decode cJ13_init_2 3 = .ok (.iload_n 3, 1) := dk_29 (dk_at dksJ13_init_2_0 3 rfl rfl)
theorem dJ13_init_2_4 : decode cJ13_init_2 4 = .ok (.iload 4, 2) := dk_21 4 (dk_at dksJ13_init_2_0 4 rfl rfl)
theorem dJ13_init_2_6 : decode cJ13_init_2 6 = .ok (.invokespecial 16, 3) := dk_183 0 16 (dk_at dksJ13_init_2_0 6 rfl rfl)
theorem dJ13_init_2_9 : decode cJ13_init_2 9 = .ok (.return_, 1) := dk_177 (dk_at dksJ13_init_2_0 9 rfl rfl)
theorem q133 : (Jvm.Cond.initialized "java/lang/Exception") ∈ lw_all := lw_g (lw_at lw_m1 25 rfl) rfl
theorem q820 : (Jvm.Cond.declares ({ cls := "java/lang/Exception", name := "<init>", desc := "()V" } : Jvm.MethodName)) ∈ lw_tbl := lw_at lw_m3 232 rfl
theorem q821 : (Jvm.Cond.declares ({ cls := "java/lang/Exception", name := "<init>", desc := "(Ljava/lang/String;)V" } : Jvm.MethodName)) ∈ lw_tbl := lw_at lw_m3 233 rfl
theorem q862 : (Jvm.Cond.superclass "java/lang/Exception" "java/lang/Throwable") ∈ lw_all := lw_g (lw_at lw_m4 34 rfl) rfl
theorem q876 : (Jvm.Cond.instanceMethod ({ cls := "java/lang/Exception", name := "<init>", desc := "()V" } : Jvm.MethodName)) ∈ lw_all := lw_g (lw_at lw_m4 48 rfl) rfl
theorem q877 : (Jvm.Cond.code ({ cls := "java/lang/Exception", name := "<init>", desc := "()V" } : Jvm.MethodName) prog_24_method_1_code (1 : Nat) (Option.none : Option Jvm.ClassFile.FieldType)) ∈ lw_all := lw_g (lw_at lw_m4 49 rfl) rfl
theorem q878 : (Jvm.Cond.methodLink "java/lang/Exception" (1 : Nat) ({ cls := "java/lang/Throwable", name := "<init>", desc := "()V" } : Jvm.MethodName)) ∈ lw_all := lw_g (lw_at lw_m4 50 rfl) rfl
theorem q1480 : (Jvm.Cond.instanceMethod ({ cls := "java/lang/Exception", name := "<init>", desc := "(Ljava/lang/String;Ljava/lang/Throwable;ZZ)V" } : Jvm.MethodName)) ∈ lw_all := lw_g (lw_at lw_m6 172 rfl) rfl
theorem q1481 : (Jvm.Cond.code ({ cls := "java/lang/Exception", name := "<init>", desc := "(Ljava/lang/String;Ljava/lang/Throwable;ZZ)V" } : Jvm.MethodName) prog_24_method_5_code (5 : Nat) (Option.none : Option Jvm.ClassFile.FieldType)) ∈ lw_all := lw_g (lw_at lw_m6 173 rfl) rfl
theorem q1482 : (Jvm.Cond.methodLink "java/lang/Exception" (16 : Nat) ({ cls := "java/lang/Throwable", name := "<init>", desc := "(Ljava/lang/String;Ljava/lang/Throwable;ZZ)V" } : Jvm.MethodName)) ∈ lw_all := lw_g (lw_at lw_m6 174 rfl) rfl
/-! java/lang/RuntimeException -/
set_option maxRecDepth 100000
def RJ14 : String := "java/lang/RuntimeException"
abbrev cJ14_init : ByteArray := prog_31_method_1_code
def yJ14_init : MethodName := ⟨RJ14, "<init>", "()V"⟩
theorem dJ14_init_0 : decode cJ14_init 0 = .ok (.aload_n 0, 1) := by decide +kernel
theorem dJ14_init_1 : decode cJ14_init 1 = .ok (.invokespecial 1, 3) := by decide +kernel
theorem dJ14_init_4 : decode cJ14_init 4 = .ok (.return_, 1) := by decide +kernel
theorem q134 : (Jvm.Cond.initialized "java/lang/RuntimeException") ∈ lw_all := lw_g (lw_at lw_m1 26 rfl) rfl
theorem q818 : (Jvm.Cond.declares ({ cls := "java/lang/RuntimeException", name := "<init>", desc := "()V" } : Jvm.MethodName)) ∈ lw_tbl := lw_at lw_m3 230 rfl
theorem q819 : (Jvm.Cond.declares ({ cls := "java/lang/RuntimeException", name := "<init>", desc := "(Ljava/lang/String;)V" } : Jvm.MethodName)) ∈ lw_tbl := lw_at lw_m3 231 rfl
theorem q858 : (Jvm.Cond.sameMethod "java/lang/RuntimeException" "java/lang/Throwable" "fillInStackTrace" "()Ljava/lang/Throwable;") ∈ lw_all := lw_g (lw_at lw_m4 30 rfl) rfl
theorem q861 : (Jvm.Cond.superclass "java/lang/RuntimeException" "java/lang/Exception") ∈ lw_all := lw_g (lw_at lw_m4 33 rfl) rfl
theorem q873 : (Jvm.Cond.instanceMethod ({ cls := "java/lang/RuntimeException", name := "<init>", desc := "()V" } : Jvm.MethodName)) ∈ lw_all := lw_g (lw_at lw_m4 45 rfl) rfl
theorem q874 : (Jvm.Cond.code ({ cls := "java/lang/RuntimeException", name := "<init>", desc := "()V" } : Jvm.MethodName) prog_31_method_1_code (1 : Nat) (Option.none : Option Jvm.ClassFile.FieldType)) ∈ lw_all := lw_g (lw_at lw_m4 46 rfl) rfl
theorem q875 : (Jvm.Cond.methodLink "java/lang/RuntimeException" (1 : Nat) ({ cls := "java/lang/Exception", name := "<init>", desc := "()V" } : Jvm.MethodName)) ∈ lw_all := lw_g (lw_at lw_m4 47 rfl) rfl
theorem q1400 : (Jvm.Cond.castable "java/lang/RuntimeException" "java/lang/Throwable") ∈ lw_tbl := lw_at lw_m6 92 rfl
/-! java/lang/NullPointerException -/
set_option maxRecDepth 100000
def RJ15 : String := "java/lang/NullPointerException"
def TJ15 : u_T := fun k => match k with
  | 0 => ("java/lang/Throwable", "cause", "Ljava/lang/Throwable;", false)
  | 1 => ("java/lang/Throwable", "stackTrace", "[Ljava/lang/StackTraceElement;", false)
  | 2 => ("java/lang/Throwable", "suppressedExceptions", "Ljava/util/List;", false)
  | 3 => ("java/lang/Throwable", "detailMessage", "Ljava/lang/String;", false)
  | 4 => ("java/lang/Throwable", "backtrace", "Ljava/lang/Object;", false)
  | 5 => ("java/lang/Throwable", "depth", "I", false)
  | 6 => ("java/lang/NullPointerException", "extendedMessageState", "I", false)
  | _ => ("java/lang/NullPointerException", "extendedMessage", "Ljava/lang/String;", false)
def tyJ15 : Nat → FieldType := fun k => match k with
  | 0 => .object "java/lang/Throwable"
  | 1 => .array (.object "java/lang/StackTraceElement")
  | 2 => .object "java/util/List"
  | 3 => .object "java/lang/String"
  | 4 => .object "java/lang/Object"
  | 5 => .int
  | 6 => .int
  | _ => .object "java/lang/String"
abbrev wsJ150 : List Cond := u_ws RJ15 TJ15 8
theorem nmJ15 : ∀ a, a < 8 → ∀ b, b < 8 → a ≠ b → (TJ15 a).2.1 ≠ (TJ15 b).2.1 := by decide +kernel
theorem tyJ15_ok : ∀ k, k < 8 → parseFieldDescriptor (TJ15 k).2.2.1 = some (tyJ15 k) := by decide +kernel
abbrev cJ15_init : ByteArray := prog_29_method_1_code
def yJ15_init : MethodName := ⟨RJ15, "<init>", "()V"⟩
theorem dJ15_init_0 : decode cJ15_init 0 = .ok (.aload_n 0, 1) := by decide +kernel
theorem dJ15_init_1 : decode cJ15_init 1 = .ok (.invokespecial 1, 3) := by decide +kernel
theorem dJ15_init_4 : decode cJ15_init 4 = .ok (.return_, 1) := by decide +kernel
theorem q135 : (Jvm.Cond.initialized "java/lang/NullPointerException") ∈ lw_all := lw_g (lw_at lw_m1 27 rfl) rfl
theorem q816 : (Jvm.Cond.instantiable "java/lang/NullPointerException" (8 : Nat)) ∈ lw_all := lw_g (lw_at lw_m3 228 rfl) rfl
theorem q817 : (Jvm.Cond.castable "java/lang/NullPointerException" "java/lang/NullPointerException") ∈ lw_tbl := lw_at lw_m3 229 rfl
theorem q824 : (Jvm.Cond.selects "java/lang/NullPointerException" ({ cls := "java/lang/Throwable", name := "fillInStackTrace", desc := "(I)Ljava/lang/Throwable;" } : Jvm.MethodName) ({ cls := "java/lang/Throwable", name := "fillInStackTrace", desc := "(I)Ljava/lang/Throwable;" } : Jvm.MethodName)) ∈ lw_all := lw_g (lw_at lw_m3 236 rfl) rfl
theorem q825 : (Jvm.Cond.lays "java/lang/NullPointerException" "java/lang/Throwable" "cause" "Ljava/lang/Throwable;") ∈ lw_all := lw_g (lw_at lw_m3 237 rfl) rfl
theorem q827 : (Jvm.Cond.lays "java/lang/NullPointerException" "java/lang/Throwable" "stackTrace" "[Ljava/lang/StackTraceElement;") ∈ lw_all := lw_g (lw_at lw_m3 239 rfl) rfl
theorem q829 : (Jvm.Cond.lays "java/lang/NullPointerException" "java/lang/Throwable" "suppressedExceptions" "Ljava/util/List;") ∈ lw_all := lw_g (lw_at lw_m4 1 rfl) rfl
theorem q831 : (Jvm.Cond.lays "java/lang/NullPointerException" "java/lang/Throwable" "detailMessage" "Ljava/lang/String;") ∈ lw_all := lw_g (lw_at lw_m4 3 rfl) rfl
theorem q833 : (Jvm.Cond.lays "java/lang/NullPointerException" "java/lang/Throwable" "backtrace" "Ljava/lang/Object;") ∈ lw_all := lw_g (lw_at lw_m4 5 rfl) rfl
theorem q850 : (Jvm.Cond.selects "java/lang/NullPointerException" ({ cls := "java/lang/Throwable", name := "fillInStackTrace", desc := "()Ljava/lang/Throwable;" } : Jvm.MethodName) ({ cls := "java/lang/NullPointerException", name := "fillInStackTrace", desc := "()Ljava/lang/Throwable;" } : Jvm.MethodName)) ∈ lw_all := lw_g (lw_at lw_m4 22 rfl) rfl
theorem q851 : (Jvm.Cond.instanceMethod ({ cls := "java/lang/NullPointerException", name := "fillInStackTrace", desc := "()Ljava/lang/Throwable;" } : Jvm.MethodName)) ∈ lw_all := lw_g (lw_at lw_m4 23 rfl) rfl
theorem q852 : (Jvm.Cond.codeSync ({ cls := "java/lang/NullPointerException", name := "fillInStackTrace", desc := "()Ljava/lang/Throwable;" } : Jvm.MethodName) prog_29_method_3_code (1 : Nat) (Option.some (Jvm.ClassFile.FieldType.object "java/lang/Throwable"))) ∈ lw_all := lw_g (lw_at lw_m4 24 rfl) rfl
theorem q853 : (Jvm.Cond.methodLink "java/lang/NullPointerException" (16 : Nat) ({ cls := "java/lang/NullPointerException", name := "getExtendedNPEMessage", desc := "()Ljava/lang/String;" } : Jvm.MethodName)) ∈ lw_all := lw_g (lw_at lw_m4 25 rfl) rfl
theorem q854 : (Jvm.Cond.privateMethod ({ cls := "java/lang/NullPointerException", name := "getExtendedNPEMessage", desc := "()Ljava/lang/String;" } : Jvm.MethodName)) ∈ lw_tbl := lw_at lw_m4 26 rfl
theorem q855 : (Jvm.Cond.instanceMethod ({ cls := "java/lang/NullPointerException", name := "getExtendedNPEMessage", desc := "()Ljava/lang/String;" } : Jvm.MethodName)) ∈ lw_all := lw_g (lw_at lw_m4 27 rfl) rfl
theorem q856 : (Jvm.Cond.native ({ cls := "java/lang/NullPointerException", name := "getExtendedNPEMessage", desc := "()Ljava/lang/String;" } : Jvm.MethodName)) ∈ lw_all := lw_g (lw_at lw_m4 28 rfl) rfl
theorem q857 : (Jvm.Cond.methodLink "java/lang/NullPointerException" (24 : Nat) ({ cls := "java/lang/RuntimeException", name := "fillInStackTrace", desc := "()Ljava/lang/Throwable;" } : Jvm.MethodName)) ∈ lw_all := lw_g (lw_at lw_m4 29 rfl) rfl
theorem q860 : (Jvm.Cond.superclass "java/lang/NullPointerException" "java/lang/RuntimeException") ∈ lw_all := lw_g (lw_at lw_m4 32 rfl) rfl
theorem q870 : (Jvm.Cond.instanceMethod ({ cls := "java/lang/NullPointerException", name := "<init>", desc := "()V" } : Jvm.MethodName)) ∈ lw_all := lw_g (lw_at lw_m4 42 rfl) rfl
theorem q871 : (Jvm.Cond.code ({ cls := "java/lang/NullPointerException", name := "<init>", desc := "()V" } : Jvm.MethodName) prog_29_method_1_code (1 : Nat) (Option.none : Option Jvm.ClassFile.FieldType)) ∈ lw_all := lw_g (lw_at lw_m4 43 rfl) rfl
theorem q872 : (Jvm.Cond.methodLink "java/lang/NullPointerException" (1 : Nat) ({ cls := "java/lang/RuntimeException", name := "<init>", desc := "()V" } : Jvm.MethodName)) ∈ lw_all := lw_g (lw_at lw_m4 44 rfl) rfl
theorem q879 : (Jvm.Cond.fieldLink "java/lang/NullPointerException" (10 : Nat) "java/lang/NullPointerException" "extendedMessageState" "I") ∈ lw_all := lw_g (lw_at lw_m4 51 rfl) rfl
theorem q880 : (Jvm.Cond.fieldLink "java/lang/NullPointerException" (20 : Nat) "java/lang/NullPointerException" "extendedMessage" "Ljava/lang/String;") ∈ lw_all := lw_g (lw_at lw_m4 52 rfl) rfl
theorem q886 : (Jvm.Cond.lays "java/lang/NullPointerException" "java/lang/NullPointerException" "extendedMessageState" "I") ∈ lw_all := lw_g (lw_at lw_m4 58 rfl) rfl
theorem q887 : (Jvm.Cond.soleField "java/lang/NullPointerException" "extendedMessageState") ∈ lw_all := lw_g (lw_at lw_m4 59 rfl) rfl
theorem q888 : (Jvm.Cond.lays "java/lang/NullPointerException" "java/lang/NullPointerException" "extendedMessage" "Ljava/lang/String;") ∈ lw_all := lw_g (lw_at lw_m4 60 rfl) rfl
theorem q889 : (Jvm.Cond.soleField "java/lang/NullPointerException" "extendedMessage") ∈ lw_all := lw_g (lw_at lw_m4 61 rfl) rfl
theorem q894 : (Jvm.Cond.lays "java/lang/NullPointerException" "java/lang/Throwable" "depth" "I") ∈ lw_all := lw_g (lw_at lw_m4 66 rfl) rfl
theorem q1191 : (Jvm.Cond.selects "java/lang/NullPointerException" ({ cls := "java/lang/Object", name := "getClass", desc := "()Ljava/lang/Class;" } : Jvm.MethodName) ({ cls := "java/lang/Object", name := "getClass", desc := "()Ljava/lang/Class;" } : Jvm.MethodName)) ∈ lw_all := lw_g (lw_at lw_m5 123 rfl) rfl
theorem q2080 : (Jvm.Cond.castable "java/lang/NullPointerException" "java/lang/Object") ∈ lw_tbl := lw_at lw_m9 52 rfl
theorem in_J15 : ∀ w ∈ wsJ150, w ∈ lw_all := lw_in wsJ150 [825, 827, 829, 831, 833, 894, 886, 888] (by decide +kernel) (by decide +kernel)
/-! java/util/TreeMap$KeySet -/
set_option maxRecDepth 100000
def RJ16 : String := "java/util/TreeMap$KeySet"
def TJ16 : u_T := fun k => match k with
  | _ => ("java/util/TreeMap$KeySet", "m", "Ljava/util/NavigableMap;", true)
def tyJ16 : Nat → FieldType := fun k => match k with
  | _ => .object "java/util/NavigableMap"
abbrev wsJ160 : List Cond := u_ws RJ16 TJ16 1
theorem nmJ16 : ∀ a, a < 1 → ∀ b, b < 1 → a ≠ b → (TJ16 a).2.1 ≠ (TJ16 b).2.1 := by decide +kernel
theorem tyJ16_ok : ∀ k, k < 1 → parseFieldDescriptor (TJ16 k).2.2.1 = some (tyJ16 k) := by decide +kernel
abbrev cJ16_init : ByteArray := prog_64_method_1_code
def yJ16_init : MethodName := ⟨RJ16, "<init>", "(Ljava/util/NavigableMap;)V"⟩
def dkwJ16_init_0 : List UInt8 := [42, 183, 0, 1, 42, 43, 181, 0, 7, 177]
abbrev dktJ16_init_0 : List UInt8 := dkwJ16_init_0 ++ []
theorem dksJ16_init_0 : cJ16_init.data.toList.drop 0 = dktJ16_init_0 := by decide +kernel
theorem dJ16_init_0 : decode cJ16_init 0 = .ok (.aload_n 0, 1) := dk_42 (dk_at dksJ16_init_0 0 rfl rfl)
theorem dJ16_init_1 : decode cJ16_init 1 = .ok (.invokespecial 1, 3) := dk_183 0 1 (dk_at dksJ16_init_0 1 rfl rfl)
theorem dJ16_init_4 : decode cJ16_init 4 = .ok (.aload_n 0, 1) := dk_42 (dk_at dksJ16_init_0 4 rfl rfl)
theorem dJ16_init_5 : decode cJ16_init 5 = .ok (.aload_n 1, 1) := dk_43 (dk_at dksJ16_init_0 5 rfl rfl)
theorem dJ16_init_6 : decode cJ16_init 6 = .ok (.putfield 7, 3) := dk_181 0 7 (dk_at dksJ16_init_0 6 rfl rfl)
theorem dJ16_init_9 : decode cJ16_init 9 = .ok (.return_, 1) := dk_177 (dk_at dksJ16_init_0 9 rfl rfl)
abbrev cJ16_iterator : ByteArray := prog_64_method_2_code
def yJ16_iterator : MethodName := ⟨RJ16, "iterato\x72", "()Ljava/util/Iterator;"⟩
def dkwJ16_iterator_1 : List UInt8 := [180, 0, 7, 192, 0, 19, 182, 0, 21, 176]
abbrev dktJ16_iterator_1 : List UInt8 := dkwJ16_iterator_1 ++ []
def dkwJ16_iterator_0 : List UInt8 := [42, 180, 0, 7, 193, 0, 13, 153, 0, 14, 42, 180, 0, 7, 192, 0, 13, 182, 0, 15, 176, 42]
abbrev dktJ16_iterator_0 : List UInt8 := dkwJ16_iterator_0 ++ dktJ16_iterator_1
theorem dksJ16_iterator_0 : cJ16_iterator.data.toList.drop 0 = dktJ16_iterator_0 := by decide +kernel
theorem dksJ16_iterator_1 : cJ16_iterator.data.toList.drop 22 = dktJ16_iterator_1 := dk_seg dksJ16_iterator_0 22 rfl rfl
theorem dJ16_iterator_0 : decode cJ16_iterator 0 = .ok (.aload_n 0, 1) := dk_42 (dk_at dksJ16_iterator_0 0 rfl rfl)
theorem dJ16_iterator_1 : decode cJ16_iterator 1 = .ok (.getfield 7, 3) := dk_180 0 7 (dk_at dksJ16_iterator_0 1 rfl rfl)
theorem dJ16_iterator_4 : decode cJ16_iterator 4 = .ok (.instanceof 13, 3) := dk_193 0 13 (dk_at dksJ16_iterator_0 4 rfl rfl)
theorem dJ16_iterator_7 : decode cJ16_iterator 7 = .ok (.ifCond .eq 14, 3) := dk_153 0 14 (dk_at dksJ16_iterator_0 7 rfl rfl)
theorem dJ16_iterator_10 : decode cJ16_iterator 10 = .ok (.aload_n 0, 1) := dk_42 (dk_at dksJ16_iterator_0 10 rfl rfl)
theorem dJ16_iterator_11 : decode cJ16_iterator 11 = .ok (.getfield 7, 3) := dk_180 0 7 (dk_at dksJ16_iterator_0 11 rfl rfl)
theorem dJ16_iterator_14 : decode cJ16_iterator 14 = .ok (.checkcast 13, 3) := dk_192 0 13 (dk_at dksJ16_iterator_0 14 rfl rfl)
theorem dJ16_iterator_17 : decode cJ16_iterator 17 = .ok (.invokevirtual 15, 3) := dk_182 0 15 (dk_at dksJ16_iterator_0 17 rfl rfl)
theorem dJ16_iterator_20 : decode cJ16_iterator 20 = .ok (.areturn, 1) := dk_176 (dk_at dksJ16_iterator_0 20 rfl rfl)
theorem dJ16_iterator_21 : decode cJ16_iterator 21 = .ok (.aload_n 0, 1) := dk_42 (dk_at dksJ16_iterator_0 21 rfl rfl)
theorem dJ16_iterator_22 : decode cJ16_iterator 22 = .ok (.getfield 7, 3) := dk_180 0 7 (dk_at dksJ16_iterator_1 0 rfl rfl)
theorem dJ16_iterator_25 : decode cJ16_iterator 25 = .ok (.checkcast 19, 3) := dk_192 0 19 (dk_at dksJ16_iterator_1 3 rfl rfl)
theorem dJ16_iterator_28 : decode cJ16_iterator 28 = .ok (.invokevirtual 21, 3) := dk_182 0 21 (dk_at dksJ16_iterator_1 6 rfl rfl)
theorem dJ16_iterator_31 : decode cJ16_iterator 31 = .ok (.areturn, 1) := dk_176 (dk_at dksJ16_iterator_1 9 rfl rfl)
abbrev cJ16_size : ByteArray := prog_64_method_4_code
def yJ16_size : MethodName := ⟨RJ16, "size", "()I"⟩
def dkwJ16_size_0 : List UInt8 := [42, 180, 0, 7, 185, 0, 26, 1, 0, 172]
abbrev dktJ16_size_0 : List UInt8 := dkwJ16_size_0 ++ []
theorem dksJ16_size_0 : cJ16_size.data.toList.drop 0 = dktJ16_size_0 := by decide +kernel
theorem dJ16_size_0 : decode cJ16_size 0 = .ok (.aload_n 0, 1) := dk_42 (dk_at dksJ16_size_0 0 rfl rfl)
theorem dJ16_size_1 : decode cJ16_size 1 = .ok (.getfield 7, 3) := dk_180 0 7 (dk_at dksJ16_size_0 1 rfl rfl)
theorem dJ16_size_4 : decode cJ16_size 4 = .ok (.invokeinterface 26 1, 5) := by decide +kernel
theorem dJ16_size_9 : decode cJ16_size 9 = .ok (.ireturn, 1) := dk_172 (dk_at dksJ16_size_0 9 rfl rfl)
theorem q136 : (Jvm.Cond.initialized "java/util/TreeMap$KeySet") ∈ lw_all := lw_g (lw_at lw_m1 28 rfl) rfl
theorem q960 : (Jvm.Cond.instantiable "java/util/TreeMap$KeySet" (1 : Nat)) ∈ lw_all := lw_g (lw_at lw_m4 132 rfl) rfl
theorem q962 : (Jvm.Cond.instanceMethod ({ cls := "java/util/TreeMap$KeySet", name := "<init>", desc := "(Ljava/util/NavigableMap;)V" } : Jvm.MethodName)) ∈ lw_all := lw_g (lw_at lw_m4 134 rfl) rfl
theorem q963 : (Jvm.Cond.code ({ cls := "java/util/TreeMap$KeySet", name := "<init>", desc := "(Ljava/util/NavigableMap;)V" } : Jvm.MethodName) prog_64_method_1_code (2 : Nat) (Option.none : Option Jvm.ClassFile.FieldType)) ∈ lw_all := lw_g (lw_at lw_m4 135 rfl) rfl
theorem q964 : (Jvm.Cond.methodLink "java/util/TreeMap$KeySet" (1 : Nat) ({ cls := "java/util/AbstractSet", name := "<init>", desc := "()V" } : Jvm.MethodName)) ∈ lw_all := lw_g (lw_at lw_m4 136 rfl) rfl
theorem q965 : (Jvm.Cond.fieldLink "java/util/TreeMap$KeySet" (7 : Nat) "java/util/TreeMap$KeySet" "m" "Ljava/util/NavigableMap;") ∈ lw_all := lw_g (lw_at lw_m4 137 rfl) rfl
theorem q966 : (Jvm.Cond.laysFinal "java/util/TreeMap$KeySet" "java/util/TreeMap$KeySet" "m" "Ljava/util/NavigableMap;") ∈ lw_all := lw_g (lw_at lw_m4 138 rfl) rfl
theorem q967 : (Jvm.Cond.soleField "java/util/TreeMap$KeySet" "m") ∈ lw_all := lw_g (lw_at lw_m4 139 rfl) rfl
theorem q968 : (Jvm.Cond.superclass "java/util/TreeMap$KeySet" "java/util/AbstractSet") ∈ lw_all := lw_g (lw_at lw_m4 140 rfl) rfl
theorem q973 : (Jvm.Cond.castable "java/util/TreeMap$KeySet" "java/util/NavigableSet") ∈ lw_tbl := lw_at lw_m4 145 rfl
theorem q974 : (Jvm.Cond.selects "java/util/TreeMap$KeySet" ({ cls := "java/util/NavigableSet", name := "iterato\x72", desc := "()Ljava/util/Iterator;" } : Jvm.MethodName) ({ cls := "java/util/TreeMap$KeySet", name := "iterato\x72", desc := "()Ljava/util/Iterator;" } : Jvm.MethodName)) ∈ lw_all := lw_g (lw_at lw_m4 146 rfl) rfl
theorem q975 : (Jvm.Cond.unhidden "java/util/TreeMap$KeySet" "iterato\x72" "()Ljava/util/Iterator;") ∈ lw_tbl := lw_at lw_m4 147 rfl
theorem q976 : (Jvm.Cond.instanceMethod ({ cls := "java/util/TreeMap$KeySet", name := "iterato\x72", desc := "()Ljava/util/Iterator;" } : Jvm.MethodName)) ∈ lw_all := lw_g (lw_at lw_m4 148 rfl) rfl
theorem q977 : (Jvm.Cond.publicMethod ({ cls := "java/util/TreeMap$KeySet", name := "iterato\x72", desc := "()Ljava/util/Iterator;" } : Jvm.MethodName)) ∈ lw_tbl := lw_at lw_m4 149 rfl
theorem q978 : (Jvm.Cond.code ({ cls := "java/util/TreeMap$KeySet", name := "iterato\x72", desc := "()Ljava/util/Iterator;" } : Jvm.MethodName) prog_64_method_2_code (1 : Nat) (Option.some (Jvm.ClassFile.FieldType.object "java/util/Iterato\x72"))) ∈ lw_all := lw_g (lw_at lw_m4 150 rfl) rfl
theorem q979 : (Jvm.Cond.classLink "java/util/TreeMap$KeySet" (13 : Nat) "java/util/TreeMap") ∈ lw_all := lw_g (lw_at lw_m4 151 rfl) rfl
theorem q980 : (Jvm.Cond.methodLink "java/util/TreeMap$KeySet" (15 : Nat) ({ cls := "java/util/TreeMap", name := "keyIterato\x72", desc := "()Ljava/util/Iterator;" } : Jvm.MethodName)) ∈ lw_all := lw_g (lw_at lw_m4 152 rfl) rfl
theorem q1010 : (Jvm.Cond.classLink "java/util/TreeMap$KeySet" (19 : Nat) "java/util/TreeMap$NavigableSubMap") ∈ lw_all := lw_g (lw_at lw_m4 182 rfl) rfl
theorem q1011 : (Jvm.Cond.methodLink "java/util/TreeMap$KeySet" (21 : Nat) ({ cls := "java/util/TreeMap$NavigableSubMap", name := "keyIterato\x72", desc := "()Ljava/util/Iterator;" } : Jvm.MethodName)) ∈ lw_all := lw_g (lw_at lw_m4 183 rfl) rfl
theorem q1096 : (Jvm.Cond.castable "java/util/TreeMap$KeySet" "java/util/Set") ∈ lw_tbl := lw_at lw_m5 28 rfl
theorem q1097 : (Jvm.Cond.selects "java/util/TreeMap$KeySet" ({ cls := "java/util/Set", name := "iterato\x72", desc := "()Ljava/util/Iterator;" } : Jvm.MethodName) ({ cls := "java/util/TreeMap$KeySet", name := "iterato\x72", desc := "()Ljava/util/Iterator;" } : Jvm.MethodName)) ∈ lw_all := lw_g (lw_at lw_m5 29 rfl) rfl
theorem q1196 : (Jvm.Cond.selects "java/util/TreeMap$KeySet" ({ cls := "java/lang/Object", name := "getClass", desc := "()Ljava/lang/Class;" } : Jvm.MethodName) ({ cls := "java/lang/Object", name := "getClass", desc := "()Ljava/lang/Class;" } : Jvm.MethodName)) ∈ lw_all := lw_g (lw_at lw_m5 128 rfl) rfl
theorem q1233 : (Jvm.Cond.selects "java/util/TreeMap$KeySet" ({ cls := "java/util/AbstractCollection", name := "size", desc := "()I" } : Jvm.MethodName) ({ cls := "java/util/TreeMap$KeySet", name := "size", desc := "()I" } : Jvm.MethodName)) ∈ lw_all := lw_g (lw_at lw_m5 165 rfl) rfl
theorem q1234 : (Jvm.Cond.instanceMethod ({ cls := "java/util/TreeMap$KeySet", name := "size", desc := "()I" } : Jvm.MethodName)) ∈ lw_all := lw_g (lw_at lw_m5 166 rfl) rfl
theorem q1235 : (Jvm.Cond.code ({ cls := "java/util/TreeMap$KeySet", name := "size", desc := "()I" } : Jvm.MethodName) prog_64_method_4_code (1 : Nat) (Option.some Jvm.ClassFile.FieldType.int)) ∈ lw_all := lw_g (lw_at lw_m5 167 rfl) rfl
theorem q1236 : (Jvm.Cond.interfaceEntry "java/util/TreeMap$KeySet" (26 : Nat)) ∈ lw_tbl := lw_at lw_m5 168 rfl
theorem q2081 : (Jvm.Cond.castable "java/util/TreeMap$KeySet" "java/lang/Object") ∈ lw_tbl := lw_at lw_m9 53 rfl
theorem in_J16 : ∀ w ∈ wsJ160, w ∈ lw_all := lw_in wsJ160 [966] (by decide +kernel) (by decide +kernel)
/-! java/util/TreeMap$PrivateEntryIterator -/
set_option maxRecDepth 100000
def RJ17 : String := "java/util/TreeMap$PrivateEntryIterato\x72"
abbrev cJ17_init : ByteArray := prog_66_method_1_code
def yJ17_init : MethodName := ⟨RJ17, "<init>", "(Ljava/util/TreeMap;Ljava/util/TreeMap$Entry;)V"⟩
def dkwJ17_init_1 : List UInt8 := [181, 0, 26, 177]
abbrev dktJ17_init_1 : List UInt8 := dkwJ17_init_1 ++ []
def dkwJ17_init_0 : List UInt8 := [42, 43, 181, 0, 1, 42, 183, 0, 7, 42, 43, 180, 0, 13, 181, 0, 19, 42, 1, 181, 0, 22, 42, 44]
abbrev dktJ17_init_0 : List UInt8 := dkwJ17_init_0 ++ dktJ17_init_1
theorem dksJ17_init_0 : cJ17_init.data.toList.drop 0 = dktJ17_init_0 := by decide +kernel
theorem dksJ17_init_1 : cJ17_init.data.toList.drop 24 = dktJ17_init_1 := dk_seg dksJ17_init_0 24 rfl rfl
theorem dJ17_init_0 : decode cJ17_init 0 = .ok (.aload_n 0, 1) := dk_42 (dk_at dksJ17_init_0 0 rfl rfl)
theorem dJ17_init_1 : decode cJ17_init 1 = .ok (.aload_n 1, 1) := dk_43 (dk_at dksJ17_init_0 1 rfl rfl)
theorem dJ17_init_2 : decode cJ17_init 2 = .ok (.putfield 1, 3) := dk_181 0 1 (dk_at dksJ17_init_0 2 rfl rfl)
theorem dJ17_init_5 : decode cJ17_init 5 = .ok (.aload_n 0, 1) := dk_42 (dk_at dksJ17_init_0 5 rfl rfl)
theorem dJ17_init_6 : decode cJ17_init 6 = .ok (.invokespecial 7, 3) := dk_183 0 7 (dk_at dksJ17_init_0 6 rfl rfl)
theorem dJ17_init_9 : decode cJ17_init 9 = .ok (.aload_n 0, 1) := dk_42 (dk_at dksJ17_init_0 9 rfl rfl)
theorem dJ17_init_10 : decode cJ17_init 10 = .ok (.aload_n 1, 1) := dk_43 (dk_at dksJ17_init_0 10 rfl rfl)
theorem dJ17_init_11 : decode cJ17_init 11 = .ok (.getfield 13, 3) := dk_180 0 13 (dk_at dksJ17_init_0 11 rfl rfl)
theorem dJ17_init_14 : decode cJ17_init 14 = .ok (.putfield 19, 3) := dk_181 0 19 (dk_at dksJ17_init_0 14 rfl rfl)
theorem dJ17_init_17 : decode cJ17_init 17 = .ok (.aload_n 0, 1) := dk_42 (dk_at dksJ17_init_0 17 rfl rfl)
theorem dJ17_init_18 : decode cJ17_init 18 = .ok (.aconst_null, 1) := dk_1 (dk_at dksJ17_init_0 18 rfl rfl)
theorem dJ17_init_19 : decode cJ17_init 19 = .ok (.putfield 22, 3) := dk_181 0 22 (dk_at dksJ17_init_0 19 rfl rfl)
theorem dJ17_init_22 : decode cJ17_init 22 = .ok (.aload_n 0, 1) := dk_42 (dk_at dksJ17_init_0 22 rfl rfl)
theorem dJ17_init_23 : decode cJ17_init 23 = .ok (.aload_n 2, 1) := dk_44 (dk_at dksJ17_init_0 23 rfl rfl)
theorem dJ17_init_24 : decode cJ17_init 24 = .ok (.putfield 26, 3) := dk_181 0 26 (dk_at dksJ17_init_1 0 rfl rfl)
theorem dJ17_init_27 : decode cJ17_init 27 = .ok (.return_, 1) := dk_177 (dk_at dksJ17_init_1 3 rfl rfl)
abbrev cJ17_hasNext : ByteArray := prog_66_method_2_code
def yJ17_hasNext : MethodName := ⟨RJ17, "hasNext", "()Z"⟩
def dkwJ17_hasNext_0 : List UInt8 := [42, 180, 0, 26, 198, 0, 7, 4, 167, 0, 4, 3, 172]
abbrev dktJ17_hasNext_0 : List UInt8 := dkwJ17_hasNext_0 ++ []
theorem dksJ17_hasNext_0 : cJ17_hasNext.data.toList.drop 0 = dktJ17_hasNext_0 := by decide +kernel
theorem dJ17_hasNext_0 : decode cJ17_hasNext 0 = .ok (.aload_n 0, 1) := dk_42 (dk_at dksJ17_hasNext_0 0 rfl rfl)
theorem dJ17_hasNext_1 : decode cJ17_hasNext 1 = .ok (.getfield 26, 3) := dk_180 0 26 (dk_at dksJ17_hasNext_0 1 rfl rfl)
theorem dJ17_hasNext_4 : decode cJ17_hasNext 4 = .ok (.ifnull 7, 3) := dk_198 0 7 (dk_at dksJ17_hasNext_0 4 rfl rfl)
theorem dJ17_hasNext_7 : decode cJ17_hasNext 7 = .ok (.iconst 1, 1) := dk_4 (dk_at dksJ17_hasNext_0 7 rfl rfl)
theorem dJ17_hasNext_8 : decode cJ17_hasNext 8 = .ok (.goto 4, 3) := dk_167 0 4 (dk_at dksJ17_hasNext_0 8 rfl rfl)
theorem dJ17_hasNext_11 : decode cJ17_hasNext 11 = .ok (.iconst 0, 1) := dk_3 (dk_at dksJ17_hasNext_0 11 rfl rfl)
theorem dJ17_hasNext_12 : decode cJ17_hasNext 12 = .ok (.ireturn, 1) := dk_172 (dk_at dksJ17_hasNext_0 12 rfl rfl)
abbrev cJ17_nextEntry : ByteArray := prog_66_method_3_code
def yJ17_nextEntry : MethodName := ⟨RJ17, "nextEntry", "()Ljava/util/TreeMap$Entry;"⟩
def dkwJ17_nextEntry_2 : List UInt8 := [43, 181, 0, 22, 43, 176]
abbrev dktJ17_nextEntry_2 : List UInt8 := dkwJ17_nextEntry_2 ++ []
def dkwJ17_nextEntry_1 : List UInt8 := [42, 180, 0, 19, 159, 0, 11, 187, 0, 32, 89, 183, 0, 34, 191, 42, 43, 184, 0, 35, 181, 0, 26, 42]
abbrev dktJ17_nextEntry_1 : List UInt8 := dkwJ17_nextEntry_1 ++ dktJ17_nextEntry_2
def dkwJ17_nextEntry_0 : List UInt8 := [42, 180, 0, 26, 76, 43, 199, 0, 11, 187, 0, 29, 89, 183, 0, 31, 191, 42, 180, 0, 1, 180, 0, 13]
abbrev dktJ17_nextEntry_0 : List UInt8 := dkwJ17_nextEntry_0 ++ dktJ17_nextEntry_1
theorem dksJ17_nextEntry_0 : cJ17_nextEntry.data.toList.drop 0 = dktJ17_nextEntry_0 := by decide +kernel
theorem dksJ17_nextEntry_1 : cJ17_nextEntry.data.toList.drop 24 = dktJ17_nextEntry_1 := dk_seg dksJ17_nextEntry_0 24 rfl rfl
theorem dksJ17_nextEntry_2 : cJ17_nextEntry.data.toList.drop 48 = dktJ17_nextEntry_2 := dk_seg dksJ17_nextEntry_1 24 rfl rfl
theorem dJ17_nextEntry_0 : decode cJ17_nextEntry 0 = .ok (.aload_n 0, 1) := dk_42 (dk_at dksJ17_nextEntry_0 0 rfl rfl)
theorem dJ17_nextEntry_1 : decode cJ17_nextEntry 1 = .ok (.getfield 26, 3) := dk_180 0 26 (dk_at dksJ17_nextEntry_0 1 rfl rfl)
theorem dJ17_nextEntry_4 : decode cJ17_nextEntry 4 = .ok (.astore_n 1, 1) := dk_76 (dk_at dksJ17_nextEntry_0 4 rfl rfl)
theorem dJ17_nextEntry_5 : decode cJ17_nextEntry 5 = .ok (.aload_n 1, 1) := dk_43 (dk_at dksJ17_nextEntry_0 5 rfl rfl)
theorem dJ17_nextEntry_6 : decode cJ17_nextEntry 6 = .ok (.ifnonnull 11, 3) := dk_199 0 11 (dk_at dksJ17_nextEntry_0 6 rfl rfl)
theorem dJ17_nextEntry_9 : decode cJ17_nextEntry 9 = .ok (.new 29, 3) := dk_187 0 29 (dk_at dksJ17_nextEntry_0 9 rfl rfl)
theorem dJ17_nextEntry_12 : decode cJ17_nextEntry 12 = .ok (.dup, 1) := dk_89 (dk_at dksJ17_nextEntry_0 12 rfl rfl)
theorem dJ17_nextEntry_13 : decode cJ17_nextEntry 13 = .ok (.invokespecial 31, 3) := dk_183 0 31 (dk_at dksJ17_nextEntry_0 13 rfl rfl)
theorem dJ17_nextEntry_16 : decode cJ17_nextEntry 16 = .ok (.athrow, 1) := dk_191 (dk_at dksJ17_nextEntry_0 16 rfl rfl)
theorem dJ17_nextEntry_17 : decode cJ17_nextEntry 17 = .ok (.aload_n 0, 1) := dk_42 (dk_at dksJ17_nextEntry_0 17 rfl rfl)
theorem dJ17_nextEntry_18 : decode cJ17_nextEntry 18 = .ok (.getfield 1, 3) := dk_180 0 1 (dk_at dksJ17_nextEntry_0 18 rfl rfl)
theorem dJ17_nextEntry_21 : decode cJ17_nextEntry 21 = .ok (.getfield 13, 3) := dk_180 0 13 (dk_at dksJ17_nextEntry_0 21 rfl rfl)
theorem dJ17_nextEntry_24 : decode cJ17_nextEntry 24 = .ok (.aload_n 0, 1) := dk_42 (dk_at dksJ17_nextEntry_1 0 rfl rfl)
theorem dJ17_nextEntry_25 : decode cJ17_nextEntry 25 = .ok (.getfield 19, 3) := dk_180 0 19 (dk_at dksJ17_nextEntry_1 1 rfl rfl)
theorem dJ17_nextEntry_28 : decode cJ17_nextEntry 28 = .ok (.if_icmp .eq 11, 3) := dk_159 0 11 (dk_at dksJ17_nextEntry_1 4 rfl rfl)
theorem dJ17_nextEntry_31 : decode cJ17_nextEntry 31 = .ok (.new 32, 3) := dk_187 0 32 (dk_at dksJ17_nextEntry_1 7 rfl rfl)
theorem dJ17_nextEntry_34 : decode cJ17_nextEntry 34 = .ok (.dup, 1) := dk_89 (dk_at dksJ17_nextEntry_1 10 rfl rfl)
theorem dJ17_nextEntry_35 : decode cJ17_nextEntry 35 = .ok (.invokespecial 34, 3) := dk_183 0 34 (dk_at dksJ17_nextEntry_1 11 rfl rfl)
theorem dJ17_nextEntry_38 : decode cJ17_nextEntry 38 = .ok (.athrow, 1) := dk_191 (dk_at dksJ17_nextEntry_1 14 rfl rfl)
theorem dJ17_nextEntry_39 : decode cJ17_nextEntry 39 = .ok (.aload_n 0, 1) := dk_42 (dk_at dksJ17_nextEntry_1 15 rfl rfl)
theorem dJ17_nextEntry_40 : decode cJ17_nextEntry 40 = .ok (.aload_n 1, 1) := dk_43 (dk_at dksJ17_nextEntry_1 16 rfl rfl)
theorem dJ17_nextEntry_41 : decode cJ17_nextEntry 41 = .ok (.invokestatic 35, 3) := dk_184 0 35 (dk_at dksJ17_nextEntry_1 17 rfl rfl)
theorem dJ17_nextEntry_44 : decode cJ17_nextEntry 44 = .ok (.putfield 26, 3) := dk_181 0 26 (dk_at dksJ17_nextEntry_1 20 rfl rfl)
theorem dJ17_nextEntry_47 : decode cJ17_nextEntry 47 = .ok (.aload_n 0, 1) := dk_42 (dk_at dksJ17_nextEntry_1 23 rfl rfl)
theorem dJ17_nextEntry_48 : decode cJ17_nextEntry 48 = .ok (.aload_n 1, 1) := dk_43 (dk_at dksJ17_nextEntry_2 0 rfl rfl)
theorem dJ17_nextEntry_49 : decode cJ17_nextEntry 49 = .ok (.putfield 22, 3) := dk_181 0 22 (dk_at dksJ17_nextEntry_2 1 rfl rfl)
theorem dJ17_nextEntry_52 : decode cJ17_nextEntry 52 = .ok (.aload_n 1, 1) := dk_43 (dk_at dksJ17_nextEntry_2 4 rfl rfl)
theorem dJ17_nextEntry_53 : decode cJ17_nextEntry 53 = .ok (.areturn, 1) := dk_176 (dk_at dksJ17_nextEntry_2 5 rfl rfl)
theorem q137 : (Jvm.Cond.initialized "java/util/TreeMap$PrivateEntryIterato\x72") ∈ lw_all := lw_g (lw_at lw_m1 29 rfl) rfl
theorem q240 : (Jvm.Cond.fieldLinkNest "java/util/TreeMap$PrivateEntryIterato\x72" (13 : Nat) "java/util/TreeMap" "modCount" "I" "java/util/TreeMap") ∈ lw_tbl := lw_at lw_m1 132 rfl
theorem q994 : (Jvm.Cond.instanceMethod ({ cls := "java/util/TreeMap$PrivateEntryIterato\x72", name := "<init>", desc := "(Ljava/util/TreeMap;Ljava/util/TreeMap$Entry;)V" } : Jvm.MethodName)) ∈ lw_all := lw_g (lw_at lw_m4 166 rfl) rfl
theorem q995 : (Jvm.Cond.code ({ cls := "java/util/TreeMap$PrivateEntryIterato\x72", name := "<init>", desc := "(Ljava/util/TreeMap;Ljava/util/TreeMap$Entry;)V" } : Jvm.MethodName) prog_66_method_1_code (3 : Nat) (Option.none : Option Jvm.ClassFile.FieldType)) ∈ lw_all := lw_g (lw_at lw_m4 167 rfl) rfl
theorem q996 : (Jvm.Cond.methodLink "java/util/TreeMap$PrivateEntryIterato\x72" (7 : Nat) ({ cls := "java/lang/Object", name := "<init>", desc := "()V" } : Jvm.MethodName)) ∈ lw_all := lw_g (lw_at lw_m4 168 rfl) rfl
theorem q997 : (Jvm.Cond.fieldLink "java/util/TreeMap$PrivateEntryIterato\x72" (26 : Nat) "java/util/TreeMap$PrivateEntryIterato\x72" "next" "Ljava/util/TreeMap$Entry;") ∈ lw_all := lw_g (lw_at lw_m4 169 rfl) rfl
theorem q998 : (Jvm.Cond.fieldLink "java/util/TreeMap$PrivateEntryIterato\x72" (22 : Nat) "java/util/TreeMap$PrivateEntryIterato\x72" "lastReturned" "Ljava/util/TreeMap$Entry;") ∈ lw_all := lw_g (lw_at lw_m4 170 rfl) rfl
theorem q999 : (Jvm.Cond.fieldLink "java/util/TreeMap$PrivateEntryIterato\x72" (19 : Nat) "java/util/TreeMap$PrivateEntryIterato\x72" "expectedModCount" "I") ∈ lw_all := lw_g (lw_at lw_m4 171 rfl) rfl
theorem q1000 : (Jvm.Cond.fieldLink "java/util/TreeMap$PrivateEntryIterato\x72" (1 : Nat) "java/util/TreeMap$PrivateEntryIterato\x72" "this$0" "Ljava/util/TreeMap;") ∈ lw_all := lw_g (lw_at lw_m4 172 rfl) rfl
theorem q1002 : (Jvm.Cond.soleField "java/util/TreeMap$PrivateEntryIterato\x72" "next") ∈ lw_all := lw_g (lw_at lw_m4 174 rfl) rfl
theorem q1004 : (Jvm.Cond.soleField "java/util/TreeMap$PrivateEntryIterato\x72" "lastReturned") ∈ lw_all := lw_g (lw_at lw_m4 176 rfl) rfl
theorem q1006 : (Jvm.Cond.soleField "java/util/TreeMap$PrivateEntryIterato\x72" "expectedModCount") ∈ lw_all := lw_g (lw_at lw_m4 178 rfl) rfl
theorem q1008 : (Jvm.Cond.soleField "java/util/TreeMap$PrivateEntryIterato\x72" "this$0") ∈ lw_all := lw_g (lw_at lw_m4 180 rfl) rfl
theorem q1025 : (Jvm.Cond.instanceMethod ({ cls := "java/util/TreeMap$PrivateEntryIterato\x72", name := "hasNext", desc := "()Z" } : Jvm.MethodName)) ∈ lw_all := lw_g (lw_at lw_m4 197 rfl) rfl
theorem q1026 : (Jvm.Cond.publicMethod ({ cls := "java/util/TreeMap$PrivateEntryIterato\x72", name := "hasNext", desc := "()Z" } : Jvm.MethodName)) ∈ lw_tbl := lw_at lw_m4 198 rfl
theorem q1027 : (Jvm.Cond.code ({ cls := "java/util/TreeMap$PrivateEntryIterato\x72", name := "hasNext", desc := "()Z" } : Jvm.MethodName) prog_66_method_2_code (1 : Nat) (Option.some Jvm.ClassFile.FieldType.boolean)) ∈ lw_all := lw_g (lw_at lw_m4 199 rfl) rfl
theorem q1039 : (Jvm.Cond.declares ({ cls := "java/util/TreeMap$PrivateEntryIterato\x72", name := "nextEntry", desc := "()Ljava/util/TreeMap$Entry;" } : Jvm.MethodName)) ∈ lw_tbl := lw_at lw_m4 211 rfl
theorem q1041 : (Jvm.Cond.instanceMethod ({ cls := "java/util/TreeMap$PrivateEntryIterato\x72", name := "nextEntry", desc := "()Ljava/util/TreeMap$Entry;" } : Jvm.MethodName)) ∈ lw_all := lw_g (lw_at lw_m4 213 rfl) rfl
theorem q1042 : (Jvm.Cond.code ({ cls := "java/util/TreeMap$PrivateEntryIterato\x72", name := "nextEntry", desc := "()Ljava/util/TreeMap$Entry;" } : Jvm.MethodName) prog_66_method_3_code (2 : Nat) (Option.some (Jvm.ClassFile.FieldType.object "java/util/TreeMap$Entry"))) ∈ lw_all := lw_g (lw_at lw_m4 214 rfl) rfl
theorem q1043 : (Jvm.Cond.methodLink "java/util/TreeMap$PrivateEntryIterato\x72" (35 : Nat) ({ cls := "java/util/TreeMap", name := "successo\x72", desc := "(Ljava/util/TreeMap$Entry;)Ljava/util/TreeMap$Entry;" } : Jvm.MethodName)) ∈ lw_all := lw_g (lw_at lw_m4 215 rfl) rfl
/-! java/util/TreeMap$KeyIterator -/
set_option maxRecDepth 100000
def RJ18 : String := "java/util/TreeMap$KeyIterato\x72"
def TJ18 : u_T := fun k => match k with
  | 0 => ("java/util/TreeMap$PrivateEntryIterato\x72", "next", "Ljava/util/TreeMap$Entry;", false)
  | 1 => ("java/util/TreeMap$PrivateEntryIterato\x72", "lastReturned", "Ljava/util/TreeMap$Entry;", false)
  | 2 => ("java/util/TreeMap$PrivateEntryIterato\x72", "expectedModCount", "I", false)
  | _ => ("java/util/TreeMap$PrivateEntryIterato\x72", "this$0", "Ljava/util/TreeMap;", true)
def tyJ18 : Nat → FieldType := fun k => match k with
  | 0 => .object "java/util/TreeMap$Entry"
  | 1 => .object "java/util/TreeMap$Entry"
  | 2 => .int
  | _ => .object "java/util/TreeMap"
abbrev wsJ180 : List Cond := u_ws RJ18 TJ18 4
theorem nmJ18 : ∀ a, a < 4 → ∀ b, b < 4 → a ≠ b → (TJ18 a).2.1 ≠ (TJ18 b).2.1 := by decide +kernel
theorem tyJ18_ok : ∀ k, k < 4 → parseFieldDescriptor (TJ18 k).2.2.1 = some (tyJ18 k) := by decide +kernel
abbrev cJ18_init : ByteArray := prog_63_method_1_code
def yJ18_init : MethodName := ⟨RJ18, "<init>", "(Ljava/util/TreeMap;Ljava/util/TreeMap$Entry;)V"⟩
def dkwJ18_init_0 : List UInt8 := [42, 43, 44, 183, 0, 1, 177]
abbrev dktJ18_init_0 : List UInt8 := dkwJ18_init_0 ++ []
theorem dksJ18_init_0 : cJ18_init.data.toList.drop 0 = dktJ18_init_0 := by decide +kernel
theorem dJ18_init_0 : decode cJ18_init 0 = .ok (.aload_n 0, 1) := dk_42 (dk_at dksJ18_init_0 0 rfl rfl)
theorem dJ18_init_1 : decode cJ18_init 1 = .ok (.aload_n 1, 1) := dk_43 (dk_at dksJ18_init_0 1 rfl rfl)
theorem dJ18_init_2 : decode cJ18_init 2 = .ok (.aload_n 2, 1) := dk_44 (dk_at dksJ18_init_0 2 rfl rfl)
theorem dJ18_init_3 : decode cJ18_init 3 = .ok (.invokespecial 1, 3) := dk_183 0 1 (dk_at dksJ18_init_0 3 rfl rfl)
theorem dJ18_init_6 : decode cJ18_init 6 = .ok (.return_, 1) := dk_177 (dk_at dksJ18_init_0 6 rfl rfl)
abbrev cJ18_next : ByteArray := prog_63_method_2_code
def yJ18_next : MethodName := ⟨RJ18, "next", "()Ljava/lang/Object;"⟩
def dkwJ18_next_0 : List UInt8 := [42, 182, 0, 7, 180, 0, 13, 176]
abbrev dktJ18_next_0 : List UInt8 := dkwJ18_next_0 ++ []
theorem dksJ18_next_0 : cJ18_next.data.toList.drop 0 = dktJ18_next_0 := by decide +kernel
theorem dJ18_next_0 : decode cJ18_next 0 = .ok (.aload_n 0, 1) := dk_42 (dk_at dksJ18_next_0 0 rfl rfl)
theorem dJ18_next_1 : decode cJ18_next 1 = .ok (.invokevirtual 7, 3) := dk_182 0 7 (dk_at dksJ18_next_0 1 rfl rfl)
theorem dJ18_next_4 : decode cJ18_next 4 = .ok (.getfield 13, 3) := dk_180 0 13 (dk_at dksJ18_next_0 4 rfl rfl)
theorem dJ18_next_7 : decode cJ18_next 7 = .ok (.areturn, 1) := dk_176 (dk_at dksJ18_next_0 7 rfl rfl)
theorem q138 : (Jvm.Cond.initialized "java/util/TreeMap$KeyIterato\x72") ∈ lw_all := lw_g (lw_at lw_m1 30 rfl) rfl
theorem q789 : (Jvm.Cond.fieldLink "java/util/TreeMap$KeyIterato\x72" (13 : Nat) "java/util/TreeMap$Entry" "key" "Ljava/lang/Object;") ∈ lw_all := lw_g (lw_at lw_m3 201 rfl) rfl
theorem q985 : (Jvm.Cond.instantiable "java/util/TreeMap$KeyIterato\x72" (4 : Nat)) ∈ lw_all := lw_g (lw_at lw_m4 157 rfl) rfl
theorem q991 : (Jvm.Cond.instanceMethod ({ cls := "java/util/TreeMap$KeyIterato\x72", name := "<init>", desc := "(Ljava/util/TreeMap;Ljava/util/TreeMap$Entry;)V" } : Jvm.MethodName)) ∈ lw_all := lw_g (lw_at lw_m4 163 rfl) rfl
theorem q992 : (Jvm.Cond.code ({ cls := "java/util/TreeMap$KeyIterato\x72", name := "<init>", desc := "(Ljava/util/TreeMap;Ljava/util/TreeMap$Entry;)V" } : Jvm.MethodName) prog_63_method_1_code (3 : Nat) (Option.none : Option Jvm.ClassFile.FieldType)) ∈ lw_all := lw_g (lw_at lw_m4 164 rfl) rfl
theorem q993 : (Jvm.Cond.methodLink "java/util/TreeMap$KeyIterato\x72" (1 : Nat) ({ cls := "java/util/TreeMap$PrivateEntryIterato\x72", name := "<init>", desc := "(Ljava/util/TreeMap;Ljava/util/TreeMap$Entry;)V" } : Jvm.MethodName)) ∈ lw_all := lw_g (lw_at lw_m4 165 rfl) rfl
theorem q1001 : (Jvm.Cond.lays "java/util/TreeMap$KeyIterato\x72" "java/util/TreeMap$PrivateEntryIterato\x72" "next" "Ljava/util/TreeMap$Entry;") ∈ lw_all := lw_g (lw_at lw_m4 173 rfl) rfl
theorem q1003 : (Jvm.Cond.lays "java/util/TreeMap$KeyIterato\x72" "java/util/TreeMap$PrivateEntryIterato\x72" "lastReturned" "Ljava/util/TreeMap$Entry;") ∈ lw_all := lw_g (lw_at lw_m4 175 rfl) rfl
theorem q1005 : (Jvm.Cond.lays "java/util/TreeMap$KeyIterato\x72" "java/util/TreeMap$PrivateEntryIterato\x72" "expectedModCount" "I") ∈ lw_all := lw_g (lw_at lw_m4 177 rfl) rfl
theorem q1007 : (Jvm.Cond.laysFinal "java/util/TreeMap$KeyIterato\x72" "java/util/TreeMap$PrivateEntryIterato\x72" "this$0" "Ljava/util/TreeMap;") ∈ lw_all := lw_g (lw_at lw_m4 179 rfl) rfl
theorem q1009 : (Jvm.Cond.superclass "java/util/TreeMap$KeyIterato\x72" "java/util/TreeMap$PrivateEntryIterato\x72") ∈ lw_all := lw_g (lw_at lw_m4 181 rfl) rfl
theorem q1022 : (Jvm.Cond.castable "java/util/TreeMap$KeyIterato\x72" "java/util/Iterato\x72") ∈ lw_tbl := lw_at lw_m4 194 rfl
theorem q1023 : (Jvm.Cond.selects "java/util/TreeMap$KeyIterato\x72" ({ cls := "java/util/Iterato\x72", name := "hasNext", desc := "()Z" } : Jvm.MethodName) ({ cls := "java/util/TreeMap$PrivateEntryIterato\x72", name := "hasNext", desc := "()Z" } : Jvm.MethodName)) ∈ lw_all := lw_g (lw_at lw_m4 195 rfl) rfl
theorem q1024 : (Jvm.Cond.unhidden "java/util/TreeMap$KeyIterato\x72" "hasNext" "()Z") ∈ lw_tbl := lw_at lw_m4 196 rfl
theorem q1032 : (Jvm.Cond.selects "java/util/TreeMap$KeyIterato\x72" ({ cls := "java/util/Iterato\x72", name := "next", desc := "()Ljava/lang/Object;" } : Jvm.MethodName) ({ cls := "java/util/TreeMap$KeyIterato\x72", name := "next", desc := "()Ljava/lang/Object;" } : Jvm.MethodName)) ∈ lw_all := lw_g (lw_at lw_m4 204 rfl) rfl
theorem q1033 : (Jvm.Cond.unhidden "java/util/TreeMap$KeyIterato\x72" "next" "()Ljava/lang/Object;") ∈ lw_tbl := lw_at lw_m4 205 rfl
theorem q1034 : (Jvm.Cond.instanceMethod ({ cls := "java/util/TreeMap$KeyIterato\x72", name := "next", desc := "()Ljava/lang/Object;" } : Jvm.MethodName)) ∈ lw_all := lw_g (lw_at lw_m4 206 rfl) rfl
theorem q1035 : (Jvm.Cond.publicMethod ({ cls := "java/util/TreeMap$KeyIterato\x72", name := "next", desc := "()Ljava/lang/Object;" } : Jvm.MethodName)) ∈ lw_tbl := lw_at lw_m4 207 rfl
theorem q1036 : (Jvm.Cond.code ({ cls := "java/util/TreeMap$KeyIterato\x72", name := "next", desc := "()Ljava/lang/Object;" } : Jvm.MethodName) prog_63_method_2_code (1 : Nat) (Option.some (Jvm.ClassFile.FieldType.object "java/lang/Object"))) ∈ lw_all := lw_g (lw_at lw_m4 208 rfl) rfl
theorem q1037 : (Jvm.Cond.methodLink "java/util/TreeMap$KeyIterato\x72" (7 : Nat) ({ cls := "java/util/TreeMap$KeyIterato\x72", name := "nextEntry", desc := "()Ljava/util/TreeMap$Entry;" } : Jvm.MethodName)) ∈ lw_all := lw_g (lw_at lw_m4 209 rfl) rfl
theorem q1038 : (Jvm.Cond.sameMethod "java/util/TreeMap$KeyIterato\x72" "java/util/TreeMap$PrivateEntryIterato\x72" "nextEntry" "()Ljava/util/TreeMap$Entry;") ∈ lw_all := lw_g (lw_at lw_m4 210 rfl) rfl
theorem q1040 : (Jvm.Cond.selects "java/util/TreeMap$KeyIterato\x72" ({ cls := "java/util/TreeMap$KeyIterato\x72", name := "nextEntry", desc := "()Ljava/util/TreeMap$Entry;" } : Jvm.MethodName) ({ cls := "java/util/TreeMap$PrivateEntryIterato\x72", name := "nextEntry", desc := "()Ljava/util/TreeMap$Entry;" } : Jvm.MethodName)) ∈ lw_all := lw_g (lw_at lw_m4 212 rfl) rfl
theorem q1195 : (Jvm.Cond.selects "java/util/TreeMap$KeyIterato\x72" ({ cls := "java/lang/Object", name := "getClass", desc := "()Ljava/lang/Class;" } : Jvm.MethodName) ({ cls := "java/lang/Object", name := "getClass", desc := "()Ljava/lang/Class;" } : Jvm.MethodName)) ∈ lw_all := lw_g (lw_at lw_m5 127 rfl) rfl
theorem q2082 : (Jvm.Cond.castable "java/util/TreeMap$KeyIterato\x72" "java/lang/Object") ∈ lw_tbl := lw_at lw_m9 54 rfl
theorem in_J18 : ∀ w ∈ wsJ180, w ∈ lw_all := lw_in wsJ180 [1001, 1003, 1005, 1007] (by decide +kernel) (by decide +kernel)
/-! jdk/internal/util/ArraysSupport -/
set_option maxRecDepth 100000
def RJ19 : String := "jdk/internal/util/ArraysSupport"
abbrev cJ19_newLength : ByteArray := prog_68_method_27_code
def yJ19_newLength : MethodName := ⟨RJ19, "newLength", "(III)I"⟩
def dkwJ19_newLength_1 : List UInt8 := [184, 0, 201, 172]
abbrev dktJ19_newLength_1 : List UInt8 := dkwJ19_newLength_1 ++ []
def dkwJ19_newLength_0 : List UInt8 := [26, 27, 28, 184, 0, 194, 96, 62, 3, 29, 162, 0, 11, 29, 18, 200, 163, 0, 5, 29, 172, 26, 27]
abbrev dktJ19_newLength_0 : List UInt8 := dkwJ19_newLength_0 ++ dktJ19_newLength_1
theorem dksJ19_newLength_0 : cJ19_newLength.data.toList.drop 0 = dktJ19_newLength_0 := by decide +kernel
theorem dksJ19_newLength_1 : cJ19_newLength.data.toList.drop 23 = dktJ19_newLength_1 := dk_seg dksJ19_newLength_0 23 rfl rfl
theorem dJ19_newLength_0 : decode cJ19_newLength 0 = .ok (.iload_n 0, 1) := dk_26 (dk_at dksJ19_newLength_0 0 rfl rfl)
theorem dJ19_newLength_1 : decode cJ19_newLength 1 = .ok (.iload_n 1, 1) := dk_27 (dk_at dksJ19_newLength_0 1 rfl rfl)
theorem dJ19_newLength_2 : decode cJ19_newLength 2 = .ok (.iload_n 2, 1) := dk_28 (dk_at dksJ19_newLength_0 2 rfl rfl)
theorem dJ19_newLength_3 : decode cJ19_newLength 3 = .ok (.invokestatic 194, 3) := dk_184 0 194 (dk_at dksJ19_newLength_0 3 rfl rfl)
theorem dJ19_newLength_6 : decode cJ19_newLength 6 = .ok (.iadd, 1) := dk_96 (dk_at dksJ19_newLength_0 6 rfl rfl)
theorem dJ19_newLength_7 : decode cJ19_newLength 7 = .ok (.istore_n 3, 1) := dk_62 (dk_at dksJ19_newLength_0 7 rfl rfl)
theorem dJ19_newLength_8 : decode cJ19_newLength 8 = .ok (.iconst 0, 1) := dk_3 (dk_at dksJ19_newLength_0 8 rfl rfl)
theorem dJ19_newLength_9 : decode cJ19_newLength 9 = .ok (.iload_n 3, 1) := dk_29 (dk_at dksJ19_newLength_0 9 rfl rfl)
theorem dJ19_newLength_10 : decode cJ19_newLength 10 = .ok (.if_icmp .ge 11, 3) := dk_162 0 11 (dk_at dksJ19_newLength_0 10 rfl rfl)
theorem dJ19_newLength_13 : decode cJ19_newLength 13 = .ok (.iload_n 3, 1) := dk_29 (dk_at dksJ19_newLength_0 13 rfl rfl)
theorem dJ19_newLength_14 : decode cJ19_newLength 14 = .ok (.ldc 200, 2) := dk_18 200 (dk_at dksJ19_newLength_0 14 rfl rfl)
theorem dJ19_newLength_16 : decode cJ19_newLength 16 = .ok (.if_icmp .gt 5, 3) := dk_163 0 5 (dk_at dksJ19_newLength_0 16 rfl rfl)
theorem dJ19_newLength_19 : decode cJ19_newLength 19 = .ok (.iload_n 3, 1) := dk_29 (dk_at dksJ19_newLength_0 19 rfl rfl)
theorem dJ19_newLength_20 : decode cJ19_newLength 20 = .ok (.ireturn, 1) := dk_172 (dk_at dksJ19_newLength_0 20 rfl rfl)
theorem dJ19_newLength_21 : decode cJ19_newLength 21 = .ok (.iload_n 0, 1) := dk_26 (dk_at dksJ19_newLength_0 21 rfl rfl)
theorem dJ19_newLength_22 : decode cJ19_newLength 22 = .ok (.iload_n 1, 1) := dk_27 (dk_at dksJ19_newLength_0 22 rfl rfl)
theorem dJ19_newLength_23 : decode cJ19_newLength 23 = .ok (.invokestatic 201, 3) := dk_184 0 201 (dk_at dksJ19_newLength_1 0 rfl rfl)
theorem dJ19_newLength_26 : decode cJ19_newLength 26 = .ok (.ireturn, 1) := dk_172 (dk_at dksJ19_newLength_1 3 rfl rfl)
abbrev cJ19_hugeLength : ByteArray := prog_68_method_28_code
def yJ19_hugeLength : MethodName := ⟨RJ19, "hugeLength", "(II)I"⟩
def dkwJ19_hugeLength_2 : List UInt8 := [191, 28, 18, 200, 163, 0, 6, 18, 200, 172, 28, 172]
abbrev dktJ19_hugeLength_2 : List UInt8 := dkwJ19_hugeLength_2 ++ []
def dkwJ19_hugeLength_1 : List UInt8 := [26, 182, 0, 98, 18, 208, 182, 0, 94, 27, 182, 0, 98, 18, 210, 182, 0, 94, 182, 0, 101, 183, 0, 212]
abbrev dktJ19_hugeLength_1 : List UInt8 := dkwJ19_hugeLength_1 ++ dktJ19_hugeLength_2
def dkwJ19_hugeLength_0 : List UInt8 := [26, 27, 96, 61, 28, 156, 0, 44, 187, 0, 204, 89, 187, 0, 89, 89, 183, 0, 91, 18, 206, 182, 0, 94]
abbrev dktJ19_hugeLength_0 : List UInt8 := dkwJ19_hugeLength_0 ++ dktJ19_hugeLength_1
theorem dksJ19_hugeLength_0 : cJ19_hugeLength.data.toList.drop 0 = dktJ19_hugeLength_0 := by decide +kernel
theorem dksJ19_hugeLength_1 : cJ19_hugeLength.data.toList.drop 24 = dktJ19_hugeLength_1 := dk_seg dksJ19_hugeLength_0 24 rfl rfl
theorem dksJ19_hugeLength_2 : cJ19_hugeLength.data.toList.drop 48 = dktJ19_hugeLength_2 := dk_seg dksJ19_hugeLength_1 24 rfl rfl
theorem dJ19_hugeLength_0 : decode cJ19_hugeLength 0 = .ok (.iload_n 0, 1) := dk_26 (dk_at dksJ19_hugeLength_0 0 rfl rfl)
theorem dJ19_hugeLength_1 : decode cJ19_hugeLength 1 = .ok (.iload_n 1, 1) := dk_27 (dk_at dksJ19_hugeLength_0 1 rfl rfl)
theorem dJ19_hugeLength_2 : decode cJ19_hugeLength 2 = .ok (.iadd, 1) := dk_96 (dk_at dksJ19_hugeLength_0 2 rfl rfl)
theorem dJ19_hugeLength_3 : decode cJ19_hugeLength 3 = .ok (.istore_n 2, 1) := dk_61 (dk_at dksJ19_hugeLength_0 3 rfl rfl)
theorem dJ19_hugeLength_4 : decode cJ19_hugeLength 4 = .ok (.iload_n 2, 1) := dk_28 (dk_at dksJ19_hugeLength_0 4 rfl rfl)
theorem dJ19_hugeLength_5 : decode cJ19_hugeLength 5 = .ok (.ifCond .ge 44, 3) := dk_156 0 44 (dk_at dksJ19_hugeLength_0 5 rfl rfl)
theorem dJ19_hugeLength_8 : decode cJ19_hugeLength 8 = .ok (.new 204, 3) := dk_187 0 204 (dk_at dksJ19_hugeLength_0 8 rfl rfl)
theorem dJ19_hugeLength_11 : decode cJ19_hugeLength 11 = .ok (.dup, 1) := dk_89 (dk_at dksJ19_hugeLength_0 11 rfl rfl)
theorem dJ19_hugeLength_12 : decode cJ19_hugeLength 12 = .ok (.new 89, 3) := dk_187 0 89 (dk_at dksJ19_hugeLength_0 12 rfl rfl)
theorem dJ19_hugeLength_15 : decode cJ19_hugeLength 15 = .ok (.dup, 1) := dk_89 (dk_at dksJ19_hugeLength_0 15 rfl rfl)
theorem dJ19_hugeLength_16 : decode cJ19_hugeLength 16 = .ok (.invokespecial 91, 3) := dk_183 0 91 (dk_at dksJ19_hugeLength_0 16 rfl rfl)
theorem dJ19_hugeLength_19 : decode cJ19_hugeLength 19 = .ok (.ldc 206, 2) := dk_18 206 (dk_at dksJ19_hugeLength_0 19 rfl rfl)
theorem dJ19_hugeLength_21 : decode cJ19_hugeLength 21 = .ok (.invokevirtual 94, 3) := dk_182 0 94 (dk_at dksJ19_hugeLength_0 21 rfl rfl)
theorem dJ19_hugeLength_24 : decode cJ19_hugeLength 24 = .ok (.iload_n 0, 1) := dk_26 (dk_at dksJ19_hugeLength_1 0 rfl rfl)
theorem dJ19_hugeLength_25 : decode cJ19_hugeLength 25 = .ok (.invokevirtual 98, 3) := dk_182 0 98 (dk_at dksJ19_hugeLength_1 1 rfl rfl)
theorem dJ19_hugeLength_28 : decode cJ19_hugeLength 28 = .ok (.ldc 208, 2) := dk_18 208 (dk_at dksJ19_hugeLength_1 4 rfl rfl)
theorem dJ19_hugeLength_30 : decode cJ19_hugeLength 30 = .ok (.invokevirtual 94, 3) := dk_182 0 94 (dk_at dksJ19_hugeLength_1 6 rfl rfl)
theorem dJ19_hugeLength_33 : decode cJ19_hugeLength 33 = .ok (.iload_n 1, 1) := dk_27 (dk_at dksJ19_hugeLength_1 9 rfl rfl)
theorem dJ19_hugeLength_34 : decode cJ19_hugeLength 34 = .ok (.invokevirtual 98, 3) := dk_182 0 98 (dk_at dksJ19_hugeLength_1 10 rfl rfl)
theorem dJ19_hugeLength_37 : decode cJ19_hugeLength 37 = .ok (.ldc 210, 2) := dk_18 210 (dk_at dksJ19_hugeLength_1 13 rfl rfl)
theorem dJ19_hugeLength_39 : decode cJ19_hugeLength 39 = .ok (.invokevirtual 94, 3) := dk_182 0 94 (dk_at dksJ19_hugeLength_1 15 rfl rfl)
theorem dJ19_hugeLength_42 : decode cJ19_hugeLength 42 = .ok (.invokevirtual 101, 3) := dk_182 0 101 (dk_at dksJ19_hugeLength_1 18 rfl rfl)
theorem dJ19_hugeLength_45 : decode cJ19_hugeLength 45 = .ok (.invokespecial 212, 3) := dk_183 0 212 (dk_at dksJ19_hugeLength_1 21 rfl rfl)
theorem dJ19_hugeLength_48 : decode cJ19_hugeLength 48 = .ok (.athrow, 1) := dk_191 (dk_at dksJ19_hugeLength_2 0 rfl rfl)
theorem dJ19_hugeLength_49 : decode cJ19_hugeLength 49 = .ok (.iload_n 2, 1) := dk_28 (dk_at dksJ19_hugeLength_2 1 rfl rfl)
theorem dJ19_hugeLength_50 : decode cJ19_hugeLength 50 = .ok (.ldc 200, 2) := dk_18 200 (dk_at dksJ19_hugeLength_2 2 rfl rfl)
theorem dJ19_hugeLength_52 : decode cJ19_hugeLength 52 = .ok (.if_icmp .gt 6, 3) := dk_163 0 6 (dk_at dksJ19_hugeLength_2 4 rfl rfl)
theorem dJ19_hugeLength_55 : decode cJ19_hugeLength 55 = .ok (.ldc 200, 2) := dk_18 200 (dk_at dksJ19_hugeLength_2 7 rfl rfl)
theorem dJ19_hugeLength_57 : decode cJ19_hugeLength 57 = .ok (.ireturn, 1) := dk_172 (dk_at dksJ19_hugeLength_2 9 rfl rfl)
theorem dJ19_hugeLength_58 : decode cJ19_hugeLength 58 = .ok (.iload_n 2, 1) := dk_28 (dk_at dksJ19_hugeLength_2 10 rfl rfl)
theorem dJ19_hugeLength_59 : decode cJ19_hugeLength 59 = .ok (.ireturn, 1) := dk_172 (dk_at dksJ19_hugeLength_2 11 rfl rfl)
theorem q142 : (Jvm.Cond.initialized "jdk/internal/util/ArraysSupport") ∈ lw_all := lw_g (lw_at lw_m1 34 rfl) rfl
theorem q1160 : (Jvm.Cond.static ({ cls := "jdk/internal/util/ArraysSupport", name := "newLength", desc := "(III)I" } : Jvm.MethodName)) ∈ lw_all := lw_g (lw_at lw_m5 92 rfl) rfl
theorem q1161 : (Jvm.Cond.code ({ cls := "jdk/internal/util/ArraysSupport", name := "newLength", desc := "(III)I" } : Jvm.MethodName) prog_68_method_27_code (4 : Nat) (Option.some Jvm.ClassFile.FieldType.int)) ∈ lw_all := lw_g (lw_at lw_m5 93 rfl) rfl
theorem q1162 : (Jvm.Cond.methodLink "jdk/internal/util/ArraysSupport" (194 : Nat) ({ cls := "java/lang/Math", name := "max", desc := "(II)I" } : Jvm.MethodName)) ∈ lw_all := lw_g (lw_at lw_m5 94 rfl) rfl
theorem q1165 : (Jvm.Cond.constant "jdk/internal/util/ArraysSupport" (200 : Nat) (2147483639 : Int32)) ∈ lw_all := lw_g (lw_at lw_m5 97 rfl) rfl
theorem q1166 : (Jvm.Cond.methodLink "jdk/internal/util/ArraysSupport" (201 : Nat) ({ cls := "jdk/internal/util/ArraysSupport", name := "hugeLength", desc := "(II)I" } : Jvm.MethodName)) ∈ lw_all := lw_g (lw_at lw_m5 98 rfl) rfl
theorem q1167 : (Jvm.Cond.static ({ cls := "jdk/internal/util/ArraysSupport", name := "hugeLength", desc := "(II)I" } : Jvm.MethodName)) ∈ lw_all := lw_g (lw_at lw_m5 99 rfl) rfl
theorem q1168 : (Jvm.Cond.code ({ cls := "jdk/internal/util/ArraysSupport", name := "hugeLength", desc := "(II)I" } : Jvm.MethodName) prog_68_method_28_code (3 : Nat) (Option.some Jvm.ClassFile.FieldType.int)) ∈ lw_all := lw_g (lw_at lw_m5 100 rfl) rfl
/-! java/util/AbstractSet -/
set_option maxRecDepth 100000
def RJ2 : String := "java/util/AbstractSet"
abbrev cJ2_init : ByteArray := prog_40_method_1_code
def yJ2_init : MethodName := ⟨RJ2, "<init>", "()V"⟩
theorem dJ2_init_0 : decode cJ2_init 0 = .ok (.aload_n 0, 1) := by decide +kernel
theorem dJ2_init_1 : decode cJ2_init 1 = .ok (.invokespecial 1, 3) := by decide +kernel
theorem dJ2_init_4 : decode cJ2_init 4 = .ok (.return_, 1) := by decide +kernel
theorem q115 : (Jvm.Cond.initialized "java/util/AbstractSet") ∈ lw_all := lw_g (lw_at lw_m1 7 rfl) rfl
theorem q265 : (Jvm.Cond.instanceMethod ({ cls := "java/util/AbstractSet", name := "<init>", desc := "()V" } : Jvm.MethodName)) ∈ lw_all := lw_g (lw_at lw_m1 157 rfl) rfl
theorem q266 : (Jvm.Cond.code ({ cls := "java/util/AbstractSet", name := "<init>", desc := "()V" } : Jvm.MethodName) prog_40_method_1_code (1 : Nat) (Option.none : Option Jvm.ClassFile.FieldType)) ∈ lw_all := lw_g (lw_at lw_m1 158 rfl) rfl
theorem q267 : (Jvm.Cond.methodLink "java/util/AbstractSet" (1 : Nat) ({ cls := "java/util/AbstractCollection", name := "<init>", desc := "()V" } : Jvm.MethodName)) ∈ lw_all := lw_g (lw_at lw_m1 159 rfl) rfl
/-! java/util/Arrays -/
set_option maxRecDepth 100000
def RJ20 : String := "java/util/Arrays"
abbrev cJ20_copyOf : ByteArray := prog_42_method_119_code
def yJ20_copyOf : MethodName := ⟨RJ20, "copyOf", "([Ljava/lang/Object;I)[Ljava/lang/Object;"⟩
def dkwJ20_copyOf_0 : List UInt8 := [42, 27, 42, 182, 0, 86, 184, 1, 44, 176]
abbrev dktJ20_copyOf_0 : List UInt8 := dkwJ20_copyOf_0 ++ []
theorem dksJ20_copyOf_0 : cJ20_copyOf.data.toList.drop 0 = dktJ20_copyOf_0 := by decide +kernel
theorem dJ20_copyOf_0 : decode cJ20_copyOf 0 = .ok (.aload_n 0, 1) := dk_42 (dk_at dksJ20_copyOf_0 0 rfl rfl)
theorem dJ20_copyOf_1 : decode cJ20_copyOf 1 = .ok (.iload_n 1, 1) := dk_27 (dk_at dksJ20_copyOf_0 1 rfl rfl)
theorem dJ20_copyOf_2 : decode cJ20_copyOf 2 = .ok (.aload_n 0, 1) := dk_42 (dk_at dksJ20_copyOf_0 2 rfl rfl)
theorem dJ20_copyOf_3 : decode cJ20_copyOf 3 = .ok (.invokevirtual 86, 3) := dk_182 0 86 (dk_at dksJ20_copyOf_0 3 rfl rfl)
theorem dJ20_copyOf_6 : decode cJ20_copyOf 6 = .ok (.invokestatic 300, 3) := dk_184 1 44 (dk_at dksJ20_copyOf_0 6 rfl rfl)
theorem dJ20_copyOf_9 : decode cJ20_copyOf 9 = .ok (.areturn, 1) := dk_176 (dk_at dksJ20_copyOf_0 9 rfl rfl)
abbrev cJ20_copyOf_2 : ByteArray := prog_42_method_120_code
def yJ20_copyOf_2 : MethodName := ⟨RJ20, "copyOf", "([Ljava/lang/Object;ILjava/lang/Class;)[Ljava/lang/Object;"⟩
def dkwJ20_copyOf_2_1 : List UInt8 := [78, 42, 3, 45, 3, 42, 190, 27, 184, 1, 48, 184, 0, 150, 45, 176]
abbrev dktJ20_copyOf_2_1 : List UInt8 := dkwJ20_copyOf_2_1 ++ []
def dkwJ20_copyOf_2_0 : List UInt8 := [44, 18, 110, 166, 0, 10, 27, 189, 0, 2, 167, 0, 14, 44, 182, 0, 90, 27, 184, 0, 95, 192, 0, 110]
abbrev dktJ20_copyOf_2_0 : List UInt8 := dkwJ20_copyOf_2_0 ++ dktJ20_copyOf_2_1
theorem dksJ20_copyOf_2_0 : cJ20_copyOf_2.data.toList.drop 0 = dktJ20_copyOf_2_0 := by decide +kernel
theorem dksJ20_copyOf_2_1 : cJ20_copyOf_2.data.toList.drop 24 = dktJ20_copyOf_2_1 := dk_seg dksJ20_copyOf_2_0 24 rfl rfl
theorem dJ20_copyOf_2_0 : decode cJ20_copyOf_2 0 = .ok (.aload_n 2, 1) := dk_44 (dk_at dksJ20_copyOf_2_0 0 rfl rfl)
theorem dJ20_copyOf_2_1 : decode cJ20_copyOf_2 1 = .ok (.ldc 110, 2) := dk_18 110 (dk_at dksJ20_copyOf_2_0 1 rfl rfl)
theorem dJ20_copyOf_2_3 : decode cJ20_copyOf_2 3 = .ok (.if_acmp .ne 10, 3) := dk_166 0 10 (dk_at dksJ20_copyOf_2_0 3 rfl rfl)
theorem dJ20_copyOf_2_6 : decode cJ20_copyOf_2 6 = .ok (.iload_n 1, 1) := dk_27 (dk_at dksJ20_copyOf_2_0 6 rfl rfl)
theorem dJ20_copyOf_2_7 : decode cJ20_copyOf_2 7 = .ok (.anewarray 2, 3) := dk_189 0 2 (dk_at dksJ20_copyOf_2_0 7 rfl rfl)
theorem dJ20_copyOf_2_10 : decode cJ20_copyOf_2 10 = .ok (.goto 14, 3) := dk_167 0 14 (dk_at dksJ20_copyOf_2_0 10 rfl rfl)
theorem dJ20_copyOf_2_13 : decode cJ20_copyOf_2 13 = .ok (.aload_n 2, 1) := dk_44 (dk_at dksJ20_copyOf_2_0 13 rfl rfl)
theorem dJ20_copyOf_2_14 : decode cJ20_copyOf_2 14 = .ok (.invokevirtual 90, 3) := dk_182 0 90 (dk_at dksJ20_copyOf_2_0 14 rfl rfl)
theorem dJ20_copyOf_2_17 : decode cJ20_copyOf_2 17 = .ok (.iload_n 1, 1) := dk_27 (dk_at dksJ20_copyOf_2_0 17 rfl rfl)
theorem dJ20_copyOf_2_18 : decode cJ20_copyOf_2 18 = .ok (.invokestatic 95, 3) := dk_184 0 95 (dk_at dksJ20_copyOf_2_0 18 rfl rfl)
theorem dJ20_copyOf_2_21 : decode cJ20_copyOf_2 21 = .ok (.checkcast 110, 3) := dk_192 0 110 (dk_at dksJ20_copyOf_2_0 21 rfl rfl)
theorem dJ20_copyOf_2_24 : decode cJ20_copyOf_2 24 = .ok (.astore_n 3, 1) := dk_78 (dk_at dksJ20_copyOf_2_1 0 rfl rfl)
theorem dJ20_copyOf_2_25 : decode cJ20_copyOf_2 25 = .ok (.aload_n 0, 1) := dk_42 (dk_at dksJ20_copyOf_2_1 1 rfl rfl)
theorem dJ20_copyOf_2_26 : decode cJ20_copyOf_2 26 = .ok (.iconst 0, 1) := dk_3 (dk_at dksJ20_copyOf_2_1 2 rfl rfl)
theorem dJ20_copyOf_2_27 : decode cJ20_copyOf_2 27 = .ok (.aload_n 3, 1) := dk_45 (dk_at dksJ20_copyOf_2_1 3 rfl rfl)
theorem dJ20_copyOf_2_28 : decode cJ20_copyOf_2 28 = .ok (.iconst 0, 1) := dk_3 (dk_at dksJ20_copyOf_2_1 4 rfl rfl)
theorem dJ20_copyOf_2_29 : decode cJ20_copyOf_2 29 = .ok (.aload_n 0, 1) := dk_42 (dk_at dksJ20_copyOf_2_1 5 rfl rfl)
theorem dJ20_copyOf_2_30 : decode cJ20_copyOf_2 30 = .ok (.arraylength, 1) := dk_190 (dk_at dksJ20_copyOf_2_1 6 rfl rfl)
theorem dJ20_copyOf_2_31 : decode cJ20_copyOf_2 31 = .ok (.iload_n 1, 1) := dk_27 (dk_at dksJ20_copyOf_2_1 7 rfl rfl)
theorem dJ20_copyOf_2_32 : decode cJ20_copyOf_2 32 = .ok (.invokestatic 304, 3) := dk_184 1 48 (dk_at dksJ20_copyOf_2_1 8 rfl rfl)
theorem dJ20_copyOf_2_35 : decode cJ20_copyOf_2 35 = .ok (.invokestatic 150, 3) := dk_184 0 150 (dk_at dksJ20_copyOf_2_1 11 rfl rfl)
theorem dJ20_copyOf_2_38 : decode cJ20_copyOf_2 38 = .ok (.aload_n 3, 1) := dk_45 (dk_at dksJ20_copyOf_2_1 14 rfl rfl)
theorem dJ20_copyOf_2_39 : decode cJ20_copyOf_2 39 = .ok (.areturn, 1) := dk_176 (dk_at dksJ20_copyOf_2_1 15 rfl rfl)
theorem q143 : (Jvm.Cond.initialized "java/util/Arrays") ∈ lw_all := lw_g (lw_at lw_m1 35 rfl) rfl
theorem q1170 : (Jvm.Cond.static ({ cls := "java/util/Arrays", name := "copyOf", desc := "([Ljava/lang/Object;I)[Ljava/lang/Object;" } : Jvm.MethodName)) ∈ lw_all := lw_g (lw_at lw_m5 102 rfl) rfl
theorem q1171 : (Jvm.Cond.code ({ cls := "java/util/Arrays", name := "copyOf", desc := "([Ljava/lang/Object;I)[Ljava/lang/Object;" } : Jvm.MethodName) prog_42_method_119_code (2 : Nat) (Option.some (Jvm.ClassFile.FieldType.array (Jvm.ClassFile.FieldType.object "java/lang/Object")))) ∈ lw_all := lw_g (lw_at lw_m5 103 rfl) rfl
theorem q1172 : (Jvm.Cond.methodLink "java/util/Arrays" (86 : Nat) ({ cls := "java/lang/Object", name := "getClass", desc := "()Ljava/lang/Class;" } : Jvm.MethodName)) ∈ lw_all := lw_g (lw_at lw_m5 104 rfl) rfl
theorem q1199 : (Jvm.Cond.methodLink "java/util/Arrays" (300 : Nat) ({ cls := "java/util/Arrays", name := "copyOf", desc := "([Ljava/lang/Object;ILjava/lang/Class;)[Ljava/lang/Object;" } : Jvm.MethodName)) ∈ lw_all := lw_g (lw_at lw_m5 131 rfl) rfl
theorem q1200 : (Jvm.Cond.static ({ cls := "java/util/Arrays", name := "copyOf", desc := "([Ljava/lang/Object;ILjava/lang/Class;)[Ljava/lang/Object;" } : Jvm.MethodName)) ∈ lw_all := lw_g (lw_at lw_m5 132 rfl) rfl
theorem q1201 : (Jvm.Cond.code ({ cls := "java/util/Arrays", name := "copyOf", desc := "([Ljava/lang/Object;ILjava/lang/Class;)[Ljava/lang/Object;" } : Jvm.MethodName) prog_42_method_120_code (4 : Nat) (Option.some (Jvm.ClassFile.FieldType.array (Jvm.ClassFile.FieldType.object "java/lang/Object")))) ∈ lw_all := lw_g (lw_at lw_m5 133 rfl) rfl
theorem q1202 : (Jvm.Cond.classLink "java/util/Arrays" (110 : Nat) "[Ljava/lang/Object;") ∈ lw_all := lw_g (lw_at lw_m5 134 rfl) rfl
theorem q1203 : (Jvm.Cond.classLink "java/util/Arrays" (2 : Nat) "java/lang/Object") ∈ lw_all := lw_g (lw_at lw_m5 135 rfl) rfl
theorem q1204 : (Jvm.Cond.methodLink "java/util/Arrays" (304 : Nat) ({ cls := "java/lang/Math", name := "min", desc := "(II)I" } : Jvm.MethodName)) ∈ lw_all := lw_g (lw_at lw_m5 136 rfl) rfl
theorem q1205 : (Jvm.Cond.methodLink "java/util/Arrays" (150 : Nat) ({ cls := "java/lang/System", name := "arraycopy", desc := "(Ljava/lang/Object;ILjava/lang/Object;II)V" } : Jvm.MethodName)) ∈ lw_all := lw_g (lw_at lw_m5 137 rfl) rfl
/-! java/lang/Object -/
set_option maxRecDepth 100000
def RJ21 : String := "java/lang/Object"
abbrev cJ21_init : ByteArray := object_method_1_code
def yJ21_init : MethodName := ⟨RJ21, "<init>", "()V"⟩
theorem dJ21_init_0 : decode cJ21_init 0 = .ok (.return_, 1) := by decide +kernel
theorem q153 : (Jvm.Cond.instanceMethod ({ cls := "java/lang/Object", name := "<init>", desc := "()V" } : Jvm.MethodName)) ∈ lw_all := lw_g (lw_at lw_m1 45 rfl) rfl
theorem q154 : (Jvm.Cond.code ({ cls := "java/lang/Object", name := "<init>", desc := "()V" } : Jvm.MethodName) object_method_1_code (1 : Nat) (Option.none : Option Jvm.ClassFile.FieldType)) ∈ lw_all := lw_g (lw_at lw_m1 46 rfl) rfl
theorem q516 : (Jvm.Cond.native ({ cls := "java/lang/Object", name := "clone", desc := "()Ljava/lang/Object;" } : Jvm.MethodName)) ∈ lw_all := lw_g (lw_at lw_m2 168 rfl) rfl
theorem q517 : (Jvm.Cond.instanceMethod ({ cls := "java/lang/Object", name := "clone", desc := "()Ljava/lang/Object;" } : Jvm.MethodName)) ∈ lw_all := lw_g (lw_at lw_m2 169 rfl) rfl
theorem q1173 : (Jvm.Cond.instanceMethod ({ cls := "java/lang/Object", name := "getClass", desc := "()Ljava/lang/Class;" } : Jvm.MethodName)) ∈ lw_all := lw_g (lw_at lw_m5 105 rfl) rfl
theorem q1174 : (Jvm.Cond.sameMethod "java/lang/Object" "java/lang/Object" "getClass" "()Ljava/lang/Class;") ∈ lw_all := lw_g (lw_at lw_m5 106 rfl) rfl
theorem q1198 : (Jvm.Cond.native ({ cls := "java/lang/Object", name := "getClass", desc := "()Ljava/lang/Class;" } : Jvm.MethodName)) ∈ lw_all := lw_g (lw_at lw_m5 130 rfl) rfl
theorem q2063 : (Jvm.Cond.initialized "java/lang/Object") ∈ lw_all := lw_g (lw_at lw_m9 35 rfl) rfl
theorem q2091 : (Jvm.Cond.declares ({ cls := "java/lang/Object", name := "getClass", desc := "()Ljava/lang/Class;" } : Jvm.MethodName)) ∈ lw_tbl := lw_at lw_m9 63 rfl
theorem q2102 : (Jvm.Cond.instantiable "java/lang/Object" (0 : Nat)) ∈ lw_all := lw_g (lw_at lw_m9 74 rfl) rfl
/-! java/util/TreeSet -/
set_option maxRecDepth 100000
def RJ3 : String := "java/util/TreeSet"
def TJ3 : u_T := fun k => match k with
  | _ => ("java/util/TreeSet", "m", "Ljava/util/NavigableMap;", false)
def tyJ3 : Nat → FieldType := fun k => match k with
  | _ => .object "java/util/NavigableMap"
abbrev wsJ30 : List Cond := u_ws RJ3 TJ3 1
theorem nmJ3 : ∀ a, a < 1 → ∀ b, b < 1 → a ≠ b → (TJ3 a).2.1 ≠ (TJ3 b).2.1 := by decide +kernel
theorem tyJ3_ok : ∀ k, k < 1 → parseFieldDescriptor (TJ3 k).2.2.1 = some (tyJ3 k) := by decide +kernel
abbrev cJ3_init : ByteArray := prog_67_method_2_code
def yJ3_init : MethodName := ⟨RJ3, "<init>", "()V"⟩
def dkwJ3_init_0 : List UInt8 := [42, 187, 0, 13, 89, 183, 0, 15, 183, 0, 16, 177]
abbrev dktJ3_init_0 : List UInt8 := dkwJ3_init_0 ++ []
theorem dksJ3_init_0 : cJ3_init.data.toList.drop 0 = dktJ3_init_0 := by decide +kernel
theorem dJ3_init_0 : decode cJ3_init 0 = .ok (.aload_n 0, 1) := dk_42 (dk_at dksJ3_init_0 0 rfl rfl)
theorem dJ3_init_1 : decode cJ3_init 1 = .ok (.new 13, 3) := dk_187 0 13 (dk_at dksJ3_init_0 1 rfl rfl)
theorem dJ3_init_4 : decode cJ3_init 4 = .ok (.dup, 1) := dk_89 (dk_at dksJ3_init_0 4 rfl rfl)
theorem dJ3_init_5 : decode cJ3_init 5 = .ok (.invokespecial 15, 3) := dk_183 0 15 (dk_at dksJ3_init_0 5 rfl rfl)
theorem dJ3_init_8 : decode cJ3_init 8 = .ok (.invokespecial 16, 3) := dk_183 0 16 (dk_at dksJ3_init_0 8 rfl rfl)
theorem dJ3_init_11 : decode cJ3_init 11 = .ok (.return_, 1) := dk_177 (dk_at dksJ3_init_0 11 rfl rfl)
abbrev cJ3_init_2 : ByteArray := prog_67_method_1_code
def yJ3_init_2 : MethodName := ⟨RJ3, "<init>", "(Ljava/util/NavigableMap;)V"⟩
def dkwJ3_init_2_0 : List UInt8 := [42, 183, 0, 1, 42, 43, 181, 0, 7, 177]
abbrev dktJ3_init_2_0 : List UInt8 := dkwJ3_init_2_0 ++ []
theorem dksJ3_init_2_0 : cJ3_init_2.data.toList.drop 0 = dktJ3_init_2_0 := by decide +kernel
theorem dJ3_init_2_0 : decode cJ3_init_2 0 = .ok (.aload_n 0, 1) := dk_42 (dk_at dksJ3_init_2_0 0 rfl rfl)
theorem dJ3_init_2_1 : decode cJ3_init_2 1 = .ok (.invokespecial 1, 3) := dk_183 0 1 (dk_at dksJ3_init_2_0 1 rfl rfl)
theorem dJ3_init_2_4 : decode cJ3_init_2 4 = .ok (.aload_n 0, 1) := dk_42 (dk_at dksJ3_init_2_0 4 rfl rfl)
theorem dJ3_init_2_5 : decode cJ3_init_2 5 = .ok (.aload_n 1, 1) := dk_43 (dk_at dksJ3_init_2_0 5 rfl rfl)
theorem dJ3_init_2_6 : decode cJ3_init_2 6 = .ok (.putfield 7, 3) := dk_181 0 7 (dk_at dksJ3_init_2_0 6 rfl rfl)
theorem dJ3_init_2_9 : decode cJ3_init_2 9 = .ok (.return_, 1) := dk_177 (dk_at dksJ3_init_2_0 9 rfl rfl)
abbrev cJ3_clear : ByteArray := prog_67_method_14_code
def yJ3_clear : MethodName := ⟨RJ3, "clea\x72", "()V"⟩
def dkwJ3_clear_0 : List UInt8 := [42, 180, 0, 7, 185, 0, 77, 1, 0, 177]
abbrev dktJ3_clear_0 : List UInt8 := dkwJ3_clear_0 ++ []
theorem dksJ3_clear_0 : cJ3_clear.data.toList.drop 0 = dktJ3_clear_0 := by decide +kernel
theorem dJ3_clear_0 : decode cJ3_clear 0 = .ok (.aload_n 0, 1) := dk_42 (dk_at dksJ3_clear_0 0 rfl rfl)
theorem dJ3_clear_1 : decode cJ3_clear 1 = .ok (.getfield 7, 3) := dk_180 0 7 (dk_at dksJ3_clear_0 1 rfl rfl)
theorem dJ3_clear_4 : decode cJ3_clear 4 = .ok (.invokeinterface 77 1, 5) := by decide +kernel
theorem dJ3_clear_9 : decode cJ3_clear 9 = .ok (.return_, 1) := dk_177 (dk_at dksJ3_clear_0 9 rfl rfl)
abbrev cJ3_add : ByteArray := prog_67_method_12_code
def yJ3_add : MethodName := ⟨RJ3, "add", "(Ljava/lang/Object;)Z"⟩
def dkwJ3_add_0 : List UInt8 := [42, 180, 0, 7, 43, 178, 0, 65, 185, 0, 69, 3, 0, 199, 0, 7, 4, 167, 0, 4, 3, 172]
abbrev dktJ3_add_0 : List UInt8 := dkwJ3_add_0 ++ []
theorem dksJ3_add_0 : cJ3_add.data.toList.drop 0 = dktJ3_add_0 := by decide +kernel
theorem dJ3_add_0 : decode cJ3_add 0 = .ok (.aload_n 0, 1) := dk_42 (dk_at dksJ3_add_0 0 rfl rfl)
theorem dJ3_add_1 : decode cJ3_add 1 = .ok (.getfield 7, 3) := dk_180 0 7 (dk_at dksJ3_add_0 1 rfl rfl)
theorem dJ3_add_4 : decode cJ3_add 4 = .ok (.aload_n 1, 1) := dk_43 (dk_at dksJ3_add_0 4 rfl rfl)
theorem dJ3_add_5 : decode cJ3_add 5 = .ok (.getstatic 65, 3) := dk_178 0 65 (dk_at dksJ3_add_0 5 rfl rfl)
theorem dJ3_add_8 : decode cJ3_add 8 = .ok (.invokeinterface 69 3, 5) := by decide +kernel
theorem dJ3_add_13 : decode cJ3_add 13 = .ok (.ifnonnull 7, 3) := dk_199 0 7 (dk_at dksJ3_add_0 13 rfl rfl)
theorem dJ3_add_16 : decode cJ3_add 16 = .ok (.iconst 1, 1) := dk_4 (dk_at dksJ3_add_0 16 rfl rfl)
theorem dJ3_add_17 : decode cJ3_add 17 = .ok (.goto 4, 3) := dk_167 0 4 (dk_at dksJ3_add_0 17 rfl rfl)
theorem dJ3_add_20 : decode cJ3_add 20 = .ok (.iconst 0, 1) := dk_3 (dk_at dksJ3_add_0 20 rfl rfl)
theorem dJ3_add_21 : decode cJ3_add 21 = .ok (.ireturn, 1) := dk_172 (dk_at dksJ3_add_0 21 rfl rfl)
abbrev cJ3_iterator : ByteArray := prog_67_method_6_code
def yJ3_iterator : MethodName := ⟨RJ3, "iterato\x72", "()Ljava/util/Iterator;"⟩
def dkwJ3_iterator_0 : List UInt8 := [42, 180, 0, 7, 185, 0, 34, 1, 0, 185, 0, 40, 1, 0, 176]
abbrev dktJ3_iterator_0 : List UInt8 := dkwJ3_iterator_0 ++ []
theorem dksJ3_iterator_0 : cJ3_iterator.data.toList.drop 0 = dktJ3_iterator_0 := by decide +kernel
theorem dJ3_iterator_0 : decode cJ3_iterator 0 = .ok (.aload_n 0, 1) := dk_42 (dk_at dksJ3_iterator_0 0 rfl rfl)
theorem dJ3_iterator_1 : decode cJ3_iterator 1 = .ok (.getfield 7, 3) := dk_180 0 7 (dk_at dksJ3_iterator_0 1 rfl rfl)
theorem dJ3_iterator_4 : decode cJ3_iterator 4 = .ok (.invokeinterface 34 1, 5) := by decide +kernel
theorem dJ3_iterator_9 : decode cJ3_iterator 9 = .ok (.invokeinterface 40 1, 5) := by decide +kernel
theorem dJ3_iterator_14 : decode cJ3_iterator 14 = .ok (.areturn, 1) := dk_176 (dk_at dksJ3_iterator_0 14 rfl rfl)
abbrev cJ3_size : ByteArray := prog_67_method_9_code
def yJ3_size : MethodName := ⟨RJ3, "size", "()I"⟩
def dkwJ3_size_0 : List UInt8 := [42, 180, 0, 7, 185, 0, 53, 1, 0, 172]
abbrev dktJ3_size_0 : List UInt8 := dkwJ3_size_0 ++ []
theorem dksJ3_size_0 : cJ3_size.data.toList.drop 0 = dktJ3_size_0 := by decide +kernel
theorem dJ3_size_0 : decode cJ3_size 0 = .ok (.aload_n 0, 1) := dk_42 (dk_at dksJ3_size_0 0 rfl rfl)
theorem dJ3_size_1 : decode cJ3_size 1 = .ok (.getfield 7, 3) := dk_180 0 7 (dk_at dksJ3_size_0 1 rfl rfl)
theorem dJ3_size_4 : decode cJ3_size 4 = .ok (.invokeinterface 53 1, 5) := by decide +kernel
theorem dJ3_size_9 : decode cJ3_size 9 = .ok (.ireturn, 1) := dk_172 (dk_at dksJ3_size_0 9 rfl rfl)
theorem q116 : (Jvm.Cond.initialized "java/util/TreeSet") ∈ lw_all := lw_g (lw_at lw_m1 8 rfl) rfl
theorem q223 : (Jvm.Cond.instantiable "java/util/TreeSet" (1 : Nat)) ∈ lw_all := lw_g (lw_at lw_m1 115 rfl) rfl
theorem q225 : (Jvm.Cond.instanceMethod ({ cls := "java/util/TreeSet", name := "<init>", desc := "()V" } : Jvm.MethodName)) ∈ lw_all := lw_g (lw_at lw_m1 117 rfl) rfl
theorem q226 : (Jvm.Cond.code ({ cls := "java/util/TreeSet", name := "<init>", desc := "()V" } : Jvm.MethodName) prog_67_method_2_code (1 : Nat) (Option.none : Option Jvm.ClassFile.FieldType)) ∈ lw_all := lw_g (lw_at lw_m1 118 rfl) rfl
theorem q227 : (Jvm.Cond.classLink "java/util/TreeSet" (13 : Nat) "java/util/TreeMap") ∈ lw_all := lw_g (lw_at lw_m1 119 rfl) rfl
theorem q229 : (Jvm.Cond.methodLink "java/util/TreeSet" (15 : Nat) ({ cls := "java/util/TreeMap", name := "<init>", desc := "()V" } : Jvm.MethodName)) ∈ lw_all := lw_g (lw_at lw_m1 121 rfl) rfl
theorem q261 : (Jvm.Cond.methodLink "java/util/TreeSet" (16 : Nat) ({ cls := "java/util/TreeSet", name := "<init>", desc := "(Ljava/util/NavigableMap;)V" } : Jvm.MethodName)) ∈ lw_all := lw_g (lw_at lw_m1 153 rfl) rfl
theorem q262 : (Jvm.Cond.instanceMethod ({ cls := "java/util/TreeSet", name := "<init>", desc := "(Ljava/util/NavigableMap;)V" } : Jvm.MethodName)) ∈ lw_all := lw_g (lw_at lw_m1 154 rfl) rfl
theorem q263 : (Jvm.Cond.code ({ cls := "java/util/TreeSet", name := "<init>", desc := "(Ljava/util/NavigableMap;)V" } : Jvm.MethodName) prog_67_method_1_code (2 : Nat) (Option.none : Option Jvm.ClassFile.FieldType)) ∈ lw_all := lw_g (lw_at lw_m1 155 rfl) rfl
theorem q264 : (Jvm.Cond.methodLink "java/util/TreeSet" (1 : Nat) ({ cls := "java/util/AbstractSet", name := "<init>", desc := "()V" } : Jvm.MethodName)) ∈ lw_all := lw_g (lw_at lw_m1 156 rfl) rfl
theorem q271 : (Jvm.Cond.fieldLink "java/util/TreeSet" (7 : Nat) "java/util/TreeSet" "m" "Ljava/util/NavigableMap;") ∈ lw_all := lw_g (lw_at lw_m1 163 rfl) rfl
theorem q272 : (Jvm.Cond.lays "java/util/TreeSet" "java/util/TreeSet" "m" "Ljava/util/NavigableMap;") ∈ lw_all := lw_g (lw_at lw_m1 164 rfl) rfl
theorem q273 : (Jvm.Cond.soleField "java/util/TreeSet" "m") ∈ lw_all := lw_g (lw_at lw_m1 165 rfl) rfl
theorem q274 : (Jvm.Cond.superclass "java/util/TreeSet" "java/util/AbstractSet") ∈ lw_all := lw_g (lw_at lw_m1 166 rfl) rfl
theorem q666 : (Jvm.Cond.instanceMethod ({ cls := "java/util/TreeSet", name := "clea\x72", desc := "()V" } : Jvm.MethodName)) ∈ lw_all := lw_g (lw_at lw_m3 78 rfl) rfl
theorem q667 : (Jvm.Cond.selects "java/util/TreeSet" ({ cls := "java/util/TreeSet", name := "clea\x72", desc := "()V" } : Jvm.MethodName) ({ cls := "java/util/TreeSet", name := "clea\x72", desc := "()V" } : Jvm.MethodName)) ∈ lw_all := lw_g (lw_at lw_m3 79 rfl) rfl
theorem q668 : (Jvm.Cond.code ({ cls := "java/util/TreeSet", name := "clea\x72", desc := "()V" } : Jvm.MethodName) prog_67_method_14_code (1 : Nat) (Option.none : Option Jvm.ClassFile.FieldType)) ∈ lw_all := lw_g (lw_at lw_m3 80 rfl) rfl
theorem q669 : (Jvm.Cond.interfaceEntry "java/util/TreeSet" (77 : Nat)) ∈ lw_tbl := lw_at lw_m3 81 rfl
theorem q700 : (Jvm.Cond.instanceMethod ({ cls := "java/util/TreeSet", name := "add", desc := "(Ljava/lang/Object;)Z" } : Jvm.MethodName)) ∈ lw_all := lw_g (lw_at lw_m3 112 rfl) rfl
theorem q701 : (Jvm.Cond.selects "java/util/TreeSet" ({ cls := "java/util/TreeSet", name := "add", desc := "(Ljava/lang/Object;)Z" } : Jvm.MethodName) ({ cls := "java/util/TreeSet", name := "add", desc := "(Ljava/lang/Object;)Z" } : Jvm.MethodName)) ∈ lw_all := lw_g (lw_at lw_m3 113 rfl) rfl
theorem q702 : (Jvm.Cond.code ({ cls := "java/util/TreeSet", name := "add", desc := "(Ljava/lang/Object;)Z" } : Jvm.MethodName) prog_67_method_12_code (2 : Nat) (Option.some Jvm.ClassFile.FieldType.boolean)) ∈ lw_all := lw_g (lw_at lw_m3 114 rfl) rfl
theorem q703 : (Jvm.Cond.fieldLink "java/util/TreeSet" (65 : Nat) "java/util/TreeSet" "PRESENT" "Ljava/lang/Object;") ∈ lw_all := lw_g (lw_at lw_m3 115 rfl) rfl
theorem q704 : (Jvm.Cond.laysStatic "java/util/TreeSet" "PRESENT" "Ljava/lang/Object;") ∈ lw_tbl := lw_at lw_m3 116 rfl
theorem q705 : (Jvm.Cond.interfaceEntry "java/util/TreeSet" (69 : Nat)) ∈ lw_tbl := lw_at lw_m3 117 rfl
theorem q947 : (Jvm.Cond.instanceMethod ({ cls := "java/util/TreeSet", name := "iterato\x72", desc := "()Ljava/util/Iterator;" } : Jvm.MethodName)) ∈ lw_all := lw_g (lw_at lw_m4 119 rfl) rfl
theorem q948 : (Jvm.Cond.selects "java/util/TreeSet" ({ cls := "java/util/TreeSet", name := "iterato\x72", desc := "()Ljava/util/Iterator;" } : Jvm.MethodName) ({ cls := "java/util/TreeSet", name := "iterato\x72", desc := "()Ljava/util/Iterator;" } : Jvm.MethodName)) ∈ lw_all := lw_g (lw_at lw_m4 120 rfl) rfl
theorem q949 : (Jvm.Cond.code ({ cls := "java/util/TreeSet", name := "iterato\x72", desc := "()Ljava/util/Iterator;" } : Jvm.MethodName) prog_67_method_6_code (1 : Nat) (Option.some (Jvm.ClassFile.FieldType.object "java/util/Iterato\x72"))) ∈ lw_all := lw_g (lw_at lw_m4 121 rfl) rfl
theorem q950 : (Jvm.Cond.interfaceEntry "java/util/TreeSet" (34 : Nat)) ∈ lw_tbl := lw_at lw_m4 122 rfl
theorem q951 : (Jvm.Cond.methodLink "java/util/TreeSet" (34 : Nat) ({ cls := "java/util/NavigableMap", name := "navigableKeySet", desc := "()Ljava/util/NavigableSet;" } : Jvm.MethodName)) ∈ lw_all := lw_g (lw_at lw_m4 123 rfl) rfl
theorem q969 : (Jvm.Cond.interfaceEntry "java/util/TreeSet" (40 : Nat)) ∈ lw_tbl := lw_at lw_m4 141 rfl
theorem q970 : (Jvm.Cond.methodLink "java/util/TreeSet" (40 : Nat) ({ cls := "java/util/NavigableSet", name := "iterato\x72", desc := "()Ljava/util/Iterator;" } : Jvm.MethodName)) ∈ lw_all := lw_g (lw_at lw_m4 142 rfl) rfl
theorem q1014 : (Jvm.Cond.castable "java/util/TreeSet" "java/util/NavigableSet") ∈ lw_tbl := lw_at lw_m4 186 rfl
theorem q1015 : (Jvm.Cond.selects "java/util/TreeSet" ({ cls := "java/util/NavigableSet", name := "iterato\x72", desc := "()Ljava/util/Iterator;" } : Jvm.MethodName) ({ cls := "java/util/TreeSet", name := "iterato\x72", desc := "()Ljava/util/Iterator;" } : Jvm.MethodName)) ∈ lw_all := lw_g (lw_at lw_m4 187 rfl) rfl
theorem q1016 : (Jvm.Cond.unhidden "java/util/TreeSet" "iterato\x72" "()Ljava/util/Iterator;") ∈ lw_tbl := lw_at lw_m4 188 rfl
theorem q1017 : (Jvm.Cond.publicMethod ({ cls := "java/util/TreeSet", name := "iterato\x72", desc := "()Ljava/util/Iterator;" } : Jvm.MethodName)) ∈ lw_tbl := lw_at lw_m4 189 rfl
theorem q1098 : (Jvm.Cond.castable "java/util/TreeSet" "java/util/Set") ∈ lw_tbl := lw_at lw_m5 30 rfl
theorem q1099 : (Jvm.Cond.selects "java/util/TreeSet" ({ cls := "java/util/Set", name := "iterato\x72", desc := "()Ljava/util/Iterator;" } : Jvm.MethodName) ({ cls := "java/util/TreeSet", name := "iterato\x72", desc := "()Ljava/util/Iterator;" } : Jvm.MethodName)) ∈ lw_all := lw_g (lw_at lw_m5 31 rfl) rfl
theorem q1197 : (Jvm.Cond.selects "java/util/TreeSet" ({ cls := "java/lang/Object", name := "getClass", desc := "()Ljava/lang/Class;" } : Jvm.MethodName) ({ cls := "java/lang/Object", name := "getClass", desc := "()Ljava/lang/Class;" } : Jvm.MethodName)) ∈ lw_all := lw_g (lw_at lw_m5 129 rfl) rfl
theorem q1244 : (Jvm.Cond.selects "java/util/TreeSet" ({ cls := "java/util/AbstractCollection", name := "size", desc := "()I" } : Jvm.MethodName) ({ cls := "java/util/TreeSet", name := "size", desc := "()I" } : Jvm.MethodName)) ∈ lw_all := lw_g (lw_at lw_m5 176 rfl) rfl
theorem q1245 : (Jvm.Cond.instanceMethod ({ cls := "java/util/TreeSet", name := "size", desc := "()I" } : Jvm.MethodName)) ∈ lw_all := lw_g (lw_at lw_m5 177 rfl) rfl
theorem q1246 : (Jvm.Cond.code ({ cls := "java/util/TreeSet", name := "size", desc := "()I" } : Jvm.MethodName) prog_67_method_9_code (1 : Nat) (Option.some Jvm.ClassFile.FieldType.int)) ∈ lw_all := lw_g (lw_at lw_m5 178 rfl) rfl
theorem q1247 : (Jvm.Cond.interfaceEntry "java/util/TreeSet" (53 : Nat)) ∈ lw_tbl := lw_at lw_m5 179 rfl
theorem q2072 : (Jvm.Cond.castable "java/util/TreeSet" "java/lang/Object") ∈ lw_tbl := lw_at lw_m9 44 rfl
theorem in_J3 : ∀ w ∈ wsJ30, w ∈ lw_all := lw_in wsJ30 [272] (by decide +kernel) (by decide +kernel)
/-! java/util/AbstractMap -/
set_option maxRecDepth 100000
def RJ4 : String := "java/util/AbstractMap"
abbrev cJ4_init : ByteArray := prog_38_method_1_code
def yJ4_init : MethodName := ⟨RJ4, "<init>", "()V"⟩
theorem dJ4_init_0 : decode cJ4_init 0 = .ok (.aload_n 0, 1) := by decide +kernel
theorem dJ4_init_1 : decode cJ4_init 1 = .ok (.invokespecial 1, 3) := by decide +kernel
theorem dJ4_init_4 : decode cJ4_init 4 = .ok (.return_, 1) := by decide +kernel
theorem q117 : (Jvm.Cond.initialized "java/util/AbstractMap") ∈ lw_all := lw_g (lw_at lw_m1 9 rfl) rfl
theorem q233 : (Jvm.Cond.instanceMethod ({ cls := "java/util/AbstractMap", name := "<init>", desc := "()V" } : Jvm.MethodName)) ∈ lw_all := lw_g (lw_at lw_m1 125 rfl) rfl
theorem q234 : (Jvm.Cond.code ({ cls := "java/util/AbstractMap", name := "<init>", desc := "()V" } : Jvm.MethodName) prog_38_method_1_code (1 : Nat) (Option.none : Option Jvm.ClassFile.FieldType)) ∈ lw_all := lw_g (lw_at lw_m1 126 rfl) rfl
theorem q235 : (Jvm.Cond.methodLink "java/util/AbstractMap" (1 : Nat) ({ cls := "java/lang/Object", name := "<init>", desc := "()V" } : Jvm.MethodName)) ∈ lw_all := lw_g (lw_at lw_m1 127 rfl) rfl
theorem q257 : (Jvm.Cond.soleField "java/util/AbstractMap" "keySet") ∈ lw_all := lw_g (lw_at lw_m1 149 rfl) rfl
theorem q259 : (Jvm.Cond.soleField "java/util/AbstractMap" "values") ∈ lw_all := lw_g (lw_at lw_m1 151 rfl) rfl
/-! java/util/TreeMap -/
set_option maxRecDepth 100000
def RJ5 : String := "java/util/TreeMap"
def TJ5 : u_T := fun k => match k with
  | 0 => ("java/util/AbstractMap", "keySet", "Ljava/util/Set;", false)
  | 1 => ("java/util/AbstractMap", "values", "Ljava/util/Collection;", false)
  | 2 => ("java/util/TreeMap", "comparato\x72", "Ljava/util/Comparator;", true)
  | 3 => ("java/util/TreeMap", "root", "Ljava/util/TreeMap$Entry;", false)
  | 4 => ("java/util/TreeMap", "size", "I", false)
  | 5 => ("java/util/TreeMap", "modCount", "I", false)
  | 6 => ("java/util/TreeMap", "entrySet", "Ljava/util/TreeMap$EntrySet;", false)
  | 7 => ("java/util/TreeMap", "navigableKeySet", "Ljava/util/TreeMap$KeySet;", false)
  | _ => ("java/util/TreeMap", "descendingMap", "Ljava/util/NavigableMap;", false)
def tyJ5 : Nat → FieldType := fun k => match k with
  | 0 => .object "java/util/Set"
  | 1 => .object "java/util/Collection"
  | 2 => .object "java/util/Comparato\x72"
  | 3 => .object "java/util/TreeMap$Entry"
  | 4 => .int
  | 5 => .int
  | 6 => .object "java/util/TreeMap$EntrySet"
  | 7 => .object "java/util/TreeMap$KeySet"
  | _ => .object "java/util/NavigableMap"
abbrev wsJ50 : List Cond := u_ws RJ5 TJ5 9
theorem nmJ5 : ∀ a, a < 9 → ∀ b, b < 9 → a ≠ b → (TJ5 a).2.1 ≠ (TJ5 b).2.1 := by decide +kernel
theorem tyJ5_ok : ∀ k, k < 9 → parseFieldDescriptor (TJ5 k).2.2.1 = some (tyJ5 k) := by decide +kernel
abbrev cJ5_init : ByteArray := prog_61_method_1_code
def yJ5_init : MethodName := ⟨RJ5, "<init>", "()V"⟩
def dkwJ5_init_0 : List UInt8 := [42, 183, 0, 1, 42, 3, 181, 0, 7, 42, 3, 181, 0, 13, 42, 1, 181, 0, 16, 177]
abbrev dktJ5_init_0 : List UInt8 := dkwJ5_init_0 ++ []
theorem dksJ5_init_0 : cJ5_init.data.toList.drop 0 = dktJ5_init_0 := by decide +kernel
theorem dJ5_init_0 : decode cJ5_init 0 = .ok (.aload_n 0, 1) := dk_42 (dk_at dksJ5_init_0 0 rfl rfl)
theorem dJ5_init_1 : decode cJ5_init 1 = .ok (.invokespecial 1, 3) := dk_183 0 1 (dk_at dksJ5_init_0 1 rfl rfl)
theorem dJ5_init_4 : decode cJ5_init 4 = .ok (.aload_n 0, 1) := dk_42 (dk_at dksJ5_init_0 4 rfl rfl)
theorem dJ5_init_5 : decode cJ5_init 5 = .ok (.iconst 0, 1) := dk_3 (dk_at dksJ5_init_0 5 rfl rfl)
theorem dJ5_init_6 : decode cJ5_init 6 = .ok (.putfield 7, 3) := dk_181 0 7 (dk_at dksJ5_init_0 6 rfl rfl)
theorem dJ5_init_9 : decode cJ5_init 9 = .ok (.aload_n 0, 1) := dk_42 (dk_at dksJ5_init_0 9 rfl rfl)
theorem dJ5_init_10 : decode cJ5_init 10 = .ok (.iconst 0, 1) := dk_3 (dk_at dksJ5_init_0 10 rfl rfl)
theorem dJ5_init_11 : decode cJ5_init 11 = .ok (.putfield 13, 3) := dk_181 0 13 (dk_at dksJ5_init_0 11 rfl rfl)
theorem dJ5_init_14 : decode cJ5_init 14 = .ok (.aload_n 0, 1) := dk_42 (dk_at dksJ5_init_0 14 rfl rfl)
theorem dJ5_init_15 : decode cJ5_init 15 = .ok (.aconst_null, 1) := dk_1 (dk_at dksJ5_init_0 15 rfl rfl)
theorem dJ5_init_16 : decode cJ5_init 16 = .ok (.putfield 16, 3) := dk_181 0 16 (dk_at dksJ5_init_0 16 rfl rfl)
theorem dJ5_init_19 : decode cJ5_init 19 = .ok (.return_, 1) := dk_177 (dk_at dksJ5_init_0 19 rfl rfl)
abbrev cJ5_clear : ByteArray := prog_61_method_35_code
def yJ5_clear : MethodName := ⟨RJ5, "clea\x72", "()V"⟩
def dkwJ5_clear_0 : List UInt8 := [42, 89, 180, 0, 13, 4, 96, 181, 0, 13, 42, 3, 181, 0, 7, 42, 1, 181, 0, 101, 177]
abbrev dktJ5_clear_0 : List UInt8 := dkwJ5_clear_0 ++ []
theorem dksJ5_clear_0 : cJ5_clear.data.toList.drop 0 = dktJ5_clear_0 := by decide +kernel
theorem dJ5_clear_0 : decode cJ5_clear 0 = .ok (.aload_n 0, 1) := dk_42 (dk_at dksJ5_clear_0 0 rfl rfl)
theorem dJ5_clear_1 : decode cJ5_clear 1 = .ok (.dup, 1) := dk_89 (dk_at dksJ5_clear_0 1 rfl rfl)
theorem dJ5_clear_2 : decode cJ5_clear 2 = .ok (.getfield 13, 3) := dk_180 0 13 (dk_at dksJ5_clear_0 2 rfl rfl)
theorem dJ5_clear_5 : decode cJ5_clear 5 = .ok (.iconst 1, 1) := dk_4 (dk_at dksJ5_clear_0 5 rfl rfl)
theorem dJ5_clear_6 : decode cJ5_clear 6 = .ok (.iadd, 1) := dk_96 (dk_at dksJ5_clear_0 6 rfl rfl)
theorem dJ5_clear_7 : decode cJ5_clear 7 = .ok (.putfield 13, 3) := dk_181 0 13 (dk_at dksJ5_clear_0 7 rfl rfl)
theorem dJ5_clear_10 : decode cJ5_clear 10 = .ok (.aload_n 0, 1) := dk_42 (dk_at dksJ5_clear_0 10 rfl rfl)
theorem dJ5_clear_11 : decode cJ5_clear 11 = .ok (.iconst 0, 1) := dk_3 (dk_at dksJ5_clear_0 11 rfl rfl)
theorem dJ5_clear_12 : decode cJ5_clear 12 = .ok (.putfield 7, 3) := dk_181 0 7 (dk_at dksJ5_clear_0 12 rfl rfl)
theorem dJ5_clear_15 : decode cJ5_clear 15 = .ok (.aload_n 0, 1) := dk_42 (dk_at dksJ5_clear_0 15 rfl rfl)
theorem dJ5_clear_16 : decode cJ5_clear 16 = .ok (.aconst_null, 1) := dk_1 (dk_at dksJ5_clear_0 16 rfl rfl)
theorem dJ5_clear_17 : decode cJ5_clear 17 = .ok (.putfield 101, 3) := dk_181 0 101 (dk_at dksJ5_clear_0 17 rfl rfl)
theorem dJ5_clear_20 : decode cJ5_clear 20 = .ok (.return_, 1) := dk_177 (dk_at dksJ5_clear_0 20 rfl rfl)
abbrev cJ5_put : ByteArray := prog_61_method_21_code
def yJ5_put : MethodName := ⟨RJ5, "put", "(Ljava/lang/Object;Ljava/lang/Object;)Ljava/lang/Object;"⟩
def dkwJ5_put_0 : List UInt8 := [42, 43, 44, 4, 182, 0, 127, 176]
abbrev dktJ5_put_0 : List UInt8 := dkwJ5_put_0 ++ []
theorem dksJ5_put_0 : cJ5_put.data.toList.drop 0 = dktJ5_put_0 := by decide +kernel
theorem dJ5_put_0 : decode cJ5_put 0 = .ok (.aload_n 0, 1) := dk_42 (dk_at dksJ5_put_0 0 rfl rfl)
theorem dJ5_put_1 : decode cJ5_put 1 = .ok (.aload_n 1, 1) := dk_43 (dk_at dksJ5_put_0 1 rfl rfl)
theorem dJ5_put_2 : decode cJ5_put 2 = .ok (.aload_n 2, 1) := dk_44 (dk_at dksJ5_put_0 2 rfl rfl)
theorem dJ5_put_3 : decode cJ5_put 3 = .ok (.iconst 1, 1) := dk_4 (dk_at dksJ5_put_0 3 rfl rfl)
theorem dJ5_put_4 : decode cJ5_put 4 = .ok (.invokevirtual 127, 3) := dk_182 0 127 (dk_at dksJ5_put_0 4 rfl rfl)
theorem dJ5_put_7 : decode cJ5_put 7 = .ok (.areturn, 1) := dk_176 (dk_at dksJ5_put_0 7 rfl rfl)
abbrev cJ5_put_2 : ByteArray := prog_61_method_31_code
def yJ5_put_2 : MethodName := ⟨RJ5, "put", "(Ljava/lang/Object;Ljava/lang/Object;Z)Ljava/lang/Object;"⟩
def dkwJ5_put_2_9 : List UInt8 := [4, 167, 0, 4, 3, 182, 0, 139, 1, 176]
abbrev dktJ5_put_2_9 : List UInt8 := dkwJ5_put_2_9 ++ []
def dkwJ5_put_2_8 : List UInt8 := [25, 4, 44, 181, 0, 58, 25, 9, 176, 25, 4, 199, 255, 181, 42, 43, 44, 25, 6, 21, 5, 156, 0, 7]
abbrev dktJ5_put_2_8 : List UInt8 := dkwJ5_put_2_8 ++ dktJ5_put_2_9
def dkwJ5_put_2_7 : List UInt8 := [180, 0, 114, 58, 4, 167, 0, 28, 25, 4, 180, 0, 58, 58, 9, 29, 154, 0, 8, 25, 9, 199, 0, 9]
abbrev dktJ5_put_2_7 : List UInt8 := dkwJ5_put_2_7 ++ dktJ5_put_2_8
def dkwJ5_put_2_6 : List UInt8 := [21, 5, 156, 0, 13, 25, 4, 180, 0, 111, 58, 4, 167, 0, 43, 21, 5, 158, 0, 13, 25, 4]
abbrev dktJ5_put_2_6 : List UInt8 := dkwJ5_put_2_6 ++ dktJ5_put_2_7
def dkwJ5_put_2_5 : List UInt8 := [192, 0, 99, 58, 8, 25, 4, 58, 6, 25, 8, 25, 4, 180, 0, 105, 185, 0, 107, 2, 0, 54, 5]
abbrev dktJ5_put_2_5 : List UInt8 := dkwJ5_put_2_5 ++ dktJ5_put_2_6
def dkwJ5_put_2_4 : List UInt8 := [25, 4, 44, 181, 0, 58, 25, 8, 176, 25, 4, 199, 255, 180, 167, 0, 92, 43, 184, 0, 95, 87, 43]
abbrev dktJ5_put_2_4 : List UInt8 := dkwJ5_put_2_4 ++ dktJ5_put_2_5
def dkwJ5_put_2_3 : List UInt8 := [180, 0, 114, 58, 4, 167, 0, 28, 25, 4, 180, 0, 58, 58, 8, 29, 154, 0, 8, 25, 8, 199, 0, 9]
abbrev dktJ5_put_2_3 : List UInt8 := dkwJ5_put_2_3 ++ dktJ5_put_2_4
def dkwJ5_put_2_2 : List UInt8 := [54, 5, 21, 5, 156, 0, 13, 25, 4, 180, 0, 111, 58, 4, 167, 0, 43, 21, 5, 158, 0, 13, 25, 4]
abbrev dktJ5_put_2_2 : List UInt8 := dkwJ5_put_2_2 ++ dktJ5_put_2_3
def dkwJ5_put_2_1 : List UInt8 := [58, 7, 25, 7, 198, 0, 85, 25, 4, 58, 6, 25, 7, 43, 25, 4, 180, 0, 105, 185, 0, 117, 3, 0]
abbrev dktJ5_put_2_1 : List UInt8 := dkwJ5_put_2_1 ++ dktJ5_put_2_2
def dkwJ5_put_2_0 : List UInt8 := [42, 180, 0, 101, 58, 4, 25, 4, 199, 0, 11, 42, 43, 44, 182, 0, 135, 1, 176, 42, 180, 0, 16]
abbrev dktJ5_put_2_0 : List UInt8 := dkwJ5_put_2_0 ++ dktJ5_put_2_1
theorem dksJ5_put_2_0 : cJ5_put_2.data.toList.drop 0 = dktJ5_put_2_0 := by decide +kernel
theorem dksJ5_put_2_1 : cJ5_put_2.data.toList.drop 23 = dktJ5_put_2_1 := dk_seg dksJ5_put_2_0 23 rfl rfl
theorem dksJ5_put_2_2 : cJ5_put_2.data.toList.drop 47 = dktJ5_put_2_2 := dk_seg dksJ5_put_2_1 24 rfl rfl
theorem dksJ5_put_2_3 : cJ5_put_2.data.toList.drop 71 = dktJ5_put_2_3 := dk_seg dksJ5_put_2_2 24 rfl rfl
theorem dksJ5_put_2_4 : cJ5_put_2.data.toList.drop 95 = dktJ5_put_2_4 := dk_seg dksJ5_put_2_3 24 rfl rfl
theorem dksJ5_put_2_5 : cJ5_put_2.data.toList.drop 118 = dktJ5_put_2_5 := dk_seg dksJ5_put_2_4 23 rfl rfl
theorem dksJ5_put_2_6 : cJ5_put_2.data.toList.drop 141 = dktJ5_put_2_6 := dk_seg dksJ5_put_2_5 23 rfl rfl
theorem dksJ5_put_2_7 : cJ5_put_2.data.toList.drop 163 = dktJ5_put_2_7 := dk_seg dksJ5_put_2_6 22 rfl rfl
theorem dksJ5_put_2_8 : cJ5_put_2.data.toList.drop 187 = dktJ5_put_2_8 := dk_seg dksJ5_put_2_7 24 rfl rfl
theorem dksJ5_put_2_9 : cJ5_put_2.data.toList.drop 211 = dktJ5_put_2_9 := dk_seg dksJ5_put_2_8 24 rfl rfl
theorem dJ5_put_2_0 : decode cJ5_put_2 0 = .ok (.aload_n 0, 1) := dk_42 (dk_at dksJ5_put_2_0 0 rfl rfl)
theorem dJ5_put_2_1 : decode cJ5_put_2 1 = .ok (.getfield 101, 3) := dk_180 0 101 (dk_at dksJ5_put_2_0 1 rfl rfl)
theorem dJ5_put_2_4 : decode cJ5_put_2 4 = .ok (.astore 4, 2) := dk_58 4 (dk_at dksJ5_put_2_0 4 rfl rfl)
theorem dJ5_put_2_6 : decode cJ5_put_2 6 = .ok (.aload 4, 2) := dk_25 4 (dk_at dksJ5_put_2_0 6 rfl rfl)
theorem dJ5_put_2_8 : decode cJ5_put_2 8 = .ok (.ifnonnull 11, 3) := dk_199 0 11 (dk_at dksJ5_put_2_0 8 rfl rfl)
theorem dJ5_put_2_11 : decode cJ5_put_2 11 = .ok (.aload_n 0, 1) := dk_42 (dk_at dksJ5_put_2_0 11 rfl rfl)
theorem dJ5_put_2_12 : decode cJ5_put_2 12 = .ok (.aload_n 1, 1) := dk_43 (dk_at dksJ5_put_2_0 12 rfl rfl)
theorem dJ5_put_2_13 : decode cJ5_put_2 13 = .ok (.aload_n 2, 1) := dk_44 (dk_at dksJ5_put_2_0 13 rfl rfl)
theorem dJ5_put_2_14 : decode cJ5_put_2 14 = .ok (.invokevirtual 135, 3) := dk_182 0 135 (dk_at dksJ5_put_2_0 14 rfl rfl)
theorem dJ5_put_2_17 : decode cJ5_put_2 17 = .ok (.aconst_null, 1) := dk_1 (dk_at dksJ5_put_2_0 17 rfl rfl)
theorem dJ5_put_2_18 : decode cJ5_put_2 18 = .ok (.areturn, 1) := dk_176 (dk_at dksJ5_put_2_0 18 rfl rfl)
theorem dJ5_put_2_19 : decode cJ5_put_2 19 = .ok (.aload_n 0, 1) := dk_42 (dk_at dksJ5_put_2_0 19 rfl rfl)
theorem dJ5_put_2_20 : decode cJ5_put_2 20 = .ok (.getfield 16, 3) := dk_180 0 16 (dk_at dksJ5_put_2_0 20 rfl rfl)
theorem dJ5_put_2_23 : decode cJ5_put_2 23 = .ok (.astore 7, 2) := dk_58 7 (dk_at dksJ5_put_2_1 0 rfl rfl)
theorem dJ5_put_2_25 : decode cJ5_put_2 25 = .ok (.aload 7, 2) := dk_25 7 (dk_at dksJ5_put_2_1 2 rfl rfl)
theorem dJ5_put_2_27 : decode cJ5_put_2 27 = .ok (.ifnull 85, 3) := dk_198 0 85 (dk_at dksJ5_put_2_1 4 rfl rfl)
theorem dJ5_put_2_30 : decode cJ5_put_2 30 = .ok (.aload 4, 2) := dk_25 4 (dk_at dksJ5_put_2_1 7 rfl rfl)
theorem dJ5_put_2_32 : decode cJ5_put_2 32 = .ok (.astore 6, 2) := dk_58 6 (dk_at dksJ5_put_2_1 9 rfl rfl)
theorem dJ5_put_2_34 : decode cJ5_put_2 34 = .ok (.aload 7, 2) := dk_25 7 (dk_at dksJ5_put_2_1 11 rfl rfl)
theorem dJ5_put_2_36 : decode cJ5_put_2 36 = .ok (.aload_n 1, 1) := dk_43 (dk_at dksJ5_put_2_1 13 rfl rfl)
theorem dJ5_put_2_37 : decode cJ5_put_2 37 = .ok (.aload 4, 2) := dk_25 4 (dk_at dksJ5_put_2_1 14 rfl rfl)
theorem dJ5_put_2_39 : decode cJ5_put_2 39 = .ok (.getfield 105, 3) := dk_180 0 105 (dk_at dksJ5_put_2_1 16 rfl rfl)
theorem dJ5_put_2_42 : decode cJ5_put_2 42 = .ok (.invokeinterface 117 3, 5) := by decide +kernel
theorem dJ5_put_2_47 : decode cJ5_put_2 47 = .ok (.istore 5, 2) := dk_54 5 (dk_at dksJ5_put_2_2 0 rfl rfl)
theorem dJ5_put_2_49 : decode cJ5_put_2 49 = .ok (.iload 5, 2) := dk_21 5 (dk_at dksJ5_put_2_2 2 rfl rfl)
theorem dJ5_put_2_51 : decode cJ5_put_2 51 = .ok (.ifCond .ge 13, 3) := dk_156 0 13 (dk_at dksJ5_put_2_2 4 rfl rfl)
theorem dJ5_put_2_54 : decode cJ5_put_2 54 = .ok (.aload 4, 2) := dk_25 4 (dk_at dksJ5_put_2_2 7 rfl rfl)
theorem dJ5_put_2_56 : decode cJ5_put_2 56 = .ok (.getfield 111, 3) := dk_180 0 111 (dk_at dksJ5_put_2_2 9 rfl rfl)
theorem dJ5_put_2_59 : decode cJ5_put_2 59 = .ok (.astore 4, 2) := dk_58 4 (dk_at dksJ5_put_2_2 12 rfl rfl)
theorem dJ5_put_2_61 : decode cJ5_put_2 61 = .ok (.goto 43, 3) := dk_167 0 43 (dk_at dksJ5_put_2_2 14 rfl rfl)
theorem dJ5_put_2_64 : decode cJ5_put_2 64 = .ok (.iload 5, 2) := dk_21 5 (dk_at dksJ5_put_2_2 17 rfl rfl)
theorem dJ5_put_2_66 : decode cJ5_put_2 66 = .ok (.ifCond .le 13, 3) := dk_158 0 13 (dk_at dksJ5_put_2_2 19 rfl rfl)
theorem dJ5_put_2_69 : decode cJ5_put_2 69 = .ok (.aload 4, 2) := dk_25 4 (dk_at dksJ5_put_2_2 22 rfl rfl)
theorem dJ5_put_2_71 : decode cJ5_put_2 71 = .ok (.getfield 114, 3) := dk_180 0 114 (dk_at dksJ5_put_2_3 0 rfl rfl)
theorem dJ5_put_2_74 : decode cJ5_put_2 74 = .ok (.astore 4, 2) := dk_58 4 (dk_at dksJ5_put_2_3 3 rfl rfl)
theorem dJ5_put_2_76 : decode cJ5_put_2 76 = .ok (.goto 28, 3) := dk_167 0 28 (dk_at dksJ5_put_2_3 5 rfl rfl)
theorem dJ5_put_2_79 : decode cJ5_put_2 79 = .ok (.aload 4, 2) := dk_25 4 (dk_at dksJ5_put_2_3 8 rfl rfl)
theorem dJ5_put_2_81 : decode cJ5_put_2 81 = .ok (.getfield 58, 3) := dk_180 0 58 (dk_at dksJ5_put_2_3 10 rfl rfl)
theorem dJ5_put_2_84 : decode cJ5_put_2 84 = .ok (.astore 8, 2) := dk_58 8 (dk_at dksJ5_put_2_3 13 rfl rfl)
theorem dJ5_put_2_86 : decode cJ5_put_2 86 = .ok (.iload_n 3, 1) := dk_29 (dk_at dksJ5_put_2_3 15 rfl rfl)
theorem dJ5_put_2_87 : decode cJ5_put_2 87 = .ok (.ifCond .ne 8, 3) := dk_154 0 8 (dk_at dksJ5_put_2_3 16 rfl rfl)
theorem dJ5_put_2_90 : decode cJ5_put_2 90 = .ok (.aload 8, 2) := dk_25 8 (dk_at dksJ5_put_2_3 19 rfl rfl)
theorem dJ5_put_2_92 : decode cJ5_put_2 92 = .ok (.ifnonnull 9, 3) := dk_199 0 9 (dk_at dksJ5_put_2_3 21 rfl rfl)
theorem dJ5_put_2_95 : decode cJ5_put_2 95 = .ok (.aload 4, 2) := dk_25 4 (dk_at dksJ5_put_2_4 0 rfl rfl)
theorem dJ5_put_2_97 : decode cJ5_put_2 97 = .ok (.aload_n 2, 1) := dk_44 (dk_at dksJ5_put_2_4 2 rfl rfl)
theorem dJ5_put_2_98 : decode cJ5_put_2 98 = .ok (.putfield 58, 3) := dk_181 0 58 (dk_at dksJ5_put_2_4 3 rfl rfl)
theorem dJ5_put_2_101 : decode cJ5_put_2 101 = .ok (.aload 8, 2) := dk_25 8 (dk_at dksJ5_put_2_4 6 rfl rfl)
theorem dJ5_put_2_103 : decode cJ5_put_2 103 = .ok (.areturn, 1) := dk_176 (dk_at dksJ5_put_2_4 8 rfl rfl)
theorem dJ5_put_2_104 : decode cJ5_put_2 104 = .ok (.aload 4, 2) := dk_25 4 (dk_at dksJ5_put_2_4 9 rfl rfl)
theorem dJ5_put_2_106 : decode cJ5_put_2 106 = .ok (.ifnonnull (-76), 3) := dk_199 255 180 (dk_at dksJ5_put_2_4 11 rfl rfl)
theorem dJ5_put_2_109 : decode cJ5_put_2 109 = .ok (.goto 92, 3) := dk_167 0 92 (dk_at dksJ5_put_2_4 14 rfl rfl)
theorem dJ5_put_2_112 : decode cJ5_put_2 112 = .ok (.aload_n 1, 1) := dk_43 (dk_at dksJ5_put_2_4 17 rfl rfl)
theorem dJ5_put_2_113 : decode cJ5_put_2 113 = .ok (.invokestatic 95, 3) := dk_184 0 95 (dk_at dksJ5_put_2_4 18 rfl rfl)
theorem dJ5_put_2_116 : decode cJ5_put_2 116 = .ok (.pop, 1) := dk_87 (dk_at dksJ5_put_2_4 21 rfl rfl)
theorem dJ5_put_2_117 : decode cJ5_put_2 117 = .ok (.aload_n 1, 1) := dk_43 (dk_at dksJ5_put_2_4 22 rfl rfl)
theorem dJ5_put_2_118 : decode cJ5_put_2 118 = .ok (.checkcast 99, 3) := dk_192 0 99 (dk_at dksJ5_put_2_5 0 rfl rfl)
theorem dJ5_put_2_121 : decode cJ5_put_2 121 = .ok (.astore 8, 2) := dk_58 8 (dk_at dksJ5_put_2_5 3 rfl rfl)
theorem dJ5_put_2_123 : decode cJ5_put_2 123 = .ok (.aload 4, 2) := dk_25 4 (dk_at dksJ5_put_2_5 5 rfl rfl)
theorem dJ5_put_2_125 : decode cJ5_put_2 125 = .ok (.astore 6, 2) := dk_58 6 (dk_at dksJ5_put_2_5 7 rfl rfl)
theorem dJ5_put_2_127 : decode cJ5_put_2 127 = .ok (.aload 8, 2) := dk_25 8 (dk_at dksJ5_put_2_5 9 rfl rfl)
theorem dJ5_put_2_129 : decode cJ5_put_2 129 = .ok (.aload 4, 2) := dk_25 4 (dk_at dksJ5_put_2_5 11 rfl rfl)
theorem dJ5_put_2_131 : decode cJ5_put_2 131 = .ok (.getfield 105, 3) := dk_180 0 105 (dk_at dksJ5_put_2_5 13 rfl rfl)
theorem dJ5_put_2_134 : decode cJ5_put_2 134 = .ok (.invokeinterface 107 2, 5) := by decide +kernel
theorem dJ5_put_2_139 : decode cJ5_put_2 139 = .ok (.istore 5, 2) := dk_54 5 (dk_at dksJ5_put_2_5 21 rfl rfl)
theorem dJ5_put_2_141 : decode cJ5_put_2 141 = .ok (.iload 5, 2) := dk_21 5 (dk_at dksJ5_put_2_6 0 rfl rfl)
theorem dJ5_put_2_143 : decode cJ5_put_2 143 = .ok (.ifCond .ge 13, 3) := dk_156 0 13 (dk_at dksJ5_put_2_6 2 rfl rfl)
theorem dJ5_put_2_146 : decode cJ5_put_2 146 = .ok (.aload 4, 2) := dk_25 4 (dk_at dksJ5_put_2_6 5 rfl rfl)
theorem dJ5_put_2_148 : decode cJ5_put_2 148 = .ok (.getfield 111, 3) := dk_180 0 111 (dk_at dksJ5_put_2_6 7 rfl rfl)
theorem dJ5_put_2_151 : decode cJ5_put_2 151 = .ok (.astore 4, 2) := dk_58 4 (dk_at dksJ5_put_2_6 10 rfl rfl)
theorem dJ5_put_2_153 : decode cJ5_put_2 153 = .ok (.goto 43, 3) := dk_167 0 43 (dk_at dksJ5_put_2_6 12 rfl rfl)
theorem dJ5_put_2_156 : decode cJ5_put_2 156 = .ok (.iload 5, 2) := dk_21 5 (dk_at dksJ5_put_2_6 15 rfl rfl)
theorem dJ5_put_2_158 : decode cJ5_put_2 158 = .ok (.ifCond .le 13, 3) := dk_158 0 13 (dk_at dksJ5_put_2_6 17 rfl rfl)
theorem dJ5_put_2_161 : decode cJ5_put_2 161 = .ok (.aload 4, 2) := dk_25 4 (dk_at dksJ5_put_2_6 20 rfl rfl)
theorem dJ5_put_2_163 : decode cJ5_put_2 163 = .ok (.getfield 114, 3) := dk_180 0 114 (dk_at dksJ5_put_2_7 0 rfl rfl)
theorem dJ5_put_2_166 : decode cJ5_put_2 166 = .ok (.astore 4, 2) := dk_58 4 (dk_at dksJ5_put_2_7 3 rfl rfl)
theorem dJ5_put_2_168 : decode cJ5_put_2 168 = .ok (.goto 28, 3) := dk_167 0 28 (dk_at dksJ5_put_2_7 5 rfl rfl)
theorem dJ5_put_2_171 : decode cJ5_put_2 171 = .ok (.aload 4, 2) := dk_25 4 (dk_at dksJ5_put_2_7 8 rfl rfl)
theorem dJ5_put_2_173 : decode cJ5_put_2 173 = .ok (.getfield 58, 3) := dk_180 0 58 (dk_at dksJ5_put_2_7 10 rfl rfl)
theorem dJ5_put_2_176 : decode cJ5_put_2 176 = .ok (.astore 9, 2) := dk_58 9 (dk_at dksJ5_put_2_7 13 rfl rfl)
theorem dJ5_put_2_178 : decode cJ5_put_2 178 = .ok (.iload_n 3, 1) := dk_29 (dk_at dksJ5_put_2_7 15 rfl rfl)
theorem dJ5_put_2_179 : decode cJ5_put_2 179 = .ok (.ifCond .ne 8, 3) := dk_154 0 8 (dk_at dksJ5_put_2_7 16 rfl rfl)
theorem dJ5_put_2_182 : decode cJ5_put_2 182 = .ok (.aload 9, 2) := dk_25 9 (dk_at dksJ5_put_2_7 19 rfl rfl)
theorem dJ5_put_2_184 : decode cJ5_put_2 184 = .ok (.ifnonnull 9, 3) := dk_199 0 9 (dk_at dksJ5_put_2_7 21 rfl rfl)
theorem dJ5_put_2_187 : decode cJ5_put_2 187 = .ok (.aload 4, 2) := dk_25 4 (dk_at dksJ5_put_2_8 0 rfl rfl)
theorem dJ5_put_2_189 : decode cJ5_put_2 189 = .ok (.aload_n 2, 1) := dk_44 (dk_at dksJ5_put_2_8 2 rfl rfl)
theorem dJ5_put_2_190 : decode cJ5_put_2 190 = .ok (.putfield 58, 3) := dk_181 0 58 (dk_at dksJ5_put_2_8 3 rfl rfl)
theorem dJ5_put_2_193 : decode cJ5_put_2 193 = .ok (.aload 9, 2) := dk_25 9 (dk_at dksJ5_put_2_8 6 rfl rfl)
theorem dJ5_put_2_195 : decode cJ5_put_2 195 = .ok (.areturn, 1) := dk_176 (dk_at dksJ5_put_2_8 8 rfl rfl)
theorem dJ5_put_2_196 : decode cJ5_put_2 196 = .ok (.aload 4, 2) := dk_25 4 (dk_at dksJ5_put_2_8 9 rfl rfl)
theorem dJ5_put_2_198 : decode cJ5_put_2 198 = .ok (.ifnonnull (-75), 3) := dk_199 255 181 (dk_at dksJ5_put_2_8 11 rfl rfl)
theorem dJ5_put_2_201 : decode cJ5_put_2 201 = .ok (.aload_n 0, 1) := dk_42 (dk_at dksJ5_put_2_8 14 rfl rfl)
theorem dJ5_put_2_202 : decode cJ5_put_2 202 = .ok (.aload_n 1, 1) := dk_43 (dk_at dksJ5_put_2_8 15 rfl rfl)
theorem dJ5_put_2_203 : decode cJ5_put_2 203 = .ok (.aload_n 2, 1) := dk_44 (dk_at dksJ5_put_2_8 16 rfl rfl)
theorem dJ5_put_2_204 : decode cJ5_put_2 204 = .ok (.aload 6, 2) := dk_25 6 (dk_at dksJ5_put_2_8 17 rfl rfl)
theorem dJ5_put_2_206 : decode cJ5_put_2 206 = .ok (.iload 5, 2) := dk_21 5 (dk_at dksJ5_put_2_8 19 rfl rfl)
theorem dJ5_put_2_208 : decode cJ5_put_2 208 = .ok (.ifCond .ge 7, 3) := dk_156 0 7 (dk_at dksJ5_put_2_8 21 rfl rfl)
theorem dJ5_put_2_211 : decode cJ5_put_2 211 = .ok (.iconst 1, 1) := dk_4 (dk_at dksJ5_put_2_9 0 rfl rfl)
theorem dJ5_put_2_212 : decode cJ5_put_2 212 = .ok (.goto 4, 3) := dk_167 0 4 (dk_at dksJ5_put_2_9 1 rfl rfl)
theorem dJ5_put_2_215 : decode cJ5_put_2 215 = .ok (.iconst 0, 1) := dk_3 (dk_at dksJ5_put_2_9 4 rfl rfl)
theorem dJ5_put_2_216 : decode cJ5_put_2 216 = .ok (.invokevirtual 139, 3) := dk_182 0 139 (dk_at dksJ5_put_2_9 5 rfl rfl)
theorem dJ5_put_2_219 : decode cJ5_put_2 219 = .ok (.aconst_null, 1) := dk_1 (dk_at dksJ5_put_2_9 8 rfl rfl)
theorem dJ5_put_2_220 : decode cJ5_put_2 220 = .ok (.areturn, 1) := dk_176 (dk_at dksJ5_put_2_9 9 rfl rfl)
abbrev cJ5_addEntryToEmptyMap : ByteArray := prog_61_method_30_code
def yJ5_addEntryToEmptyMap : MethodName := ⟨RJ5, "addEntryToEmptyMap", "(Ljava/lang/Object;Ljava/lang/Object;)V"⟩
def dkwJ5_addEntryToEmptyMap_1 : List UInt8 := [181, 0, 7, 42, 89, 180, 0, 13, 4, 96, 181, 0, 13, 177]
abbrev dktJ5_addEntryToEmptyMap_1 : List UInt8 := dkwJ5_addEntryToEmptyMap_1 ++ []
def dkwJ5_addEntryToEmptyMap_0 : List UInt8 := [42, 43, 43, 182, 0, 123, 87, 42, 187, 0, 59, 89, 43, 44, 1, 183, 0, 167, 181, 0, 101, 42, 4]
abbrev dktJ5_addEntryToEmptyMap_0 : List UInt8 := dkwJ5_addEntryToEmptyMap_0 ++ dktJ5_addEntryToEmptyMap_1
theorem dksJ5_addEntryToEmptyMap_0 : cJ5_addEntryToEmptyMap.data.toList.drop 0 = dktJ5_addEntryToEmptyMap_0 := by decide +kernel
theorem dksJ5_addEntryToEmptyMap_1 : cJ5_addEntryToEmptyMap.data.toList.drop 23 = dktJ5_addEntryToEmptyMap_1 := dk_seg dksJ5_addEntryToEmptyMap_0 23 rfl rfl
theorem dJ5_addEntryToEmptyMap_0 : decode cJ5_addEntryToEmptyMap 0 = .ok (.aload_n 0, 1) := dk_42 (dk_at dksJ5_addEntryToEmptyMap_0 0 rfl rfl)
theorem dJ5_addEntryToEmptyMap_1 : decode cJ5_addEntryToEmptyMap 1 = .ok (.aload_n 1, 1) := dk_43 (dk_at dksJ5_addEntryToEmptyMap_0 1 rfl rfl)
theorem dJ5_addEntryToEmptyMap_2 : decode cJ5_addEntryToEmptyMap 2 = .ok (.aload_n 1, 1) := dk_43 (dk_at dksJ5_addEntryToEmptyMap_0 2 rfl rfl)
theorem dJ5_addEntryToEmptyMap_3 : decode cJ5_addEntryToEmptyMap 3 = .ok (.invokevirtual 123, 3) := dk_182 0 123 (dk_at dksJ5_addEntryToEmptyMap_0 3 rfl rfl)
theorem dJ5_addEntryToEmptyMap_6 : decode cJ5_addEntryToEmptyMap 6 = .ok (.pop, 1) := dk_87 (dk_at dksJ5_addEntryToEmptyMap_0 6 rfl rfl)
theorem dJ5_addEntryToEmptyMap_7 : decode cJ5_addEntryToEmptyMap 7 = .ok (.aload_n 0, 1) := dk_42 (dk_at dksJ5_addEntryToEmptyMap_0 7 rfl rfl)
theorem dJ5_addEntryToEmptyMap_8 : decode cJ5_addEntryToEmptyMap 8 = .ok (.new 59, 3) := dk_187 0 59 (dk_at dksJ5_addEntryToEmptyMap_0 8 rfl rfl)
theorem dJ5_addEntryToEmptyMap_11 : decode cJ5_addEntryToEmptyMap 11 = .ok (.dup, 1) := dk_89 (dk_at dksJ5_addEntryToEmptyMap_0 11 rfl rfl)
theorem dJ5_addEntryToEmptyMap_12 : decode cJ5_addEntryToEmptyMap 12 = .ok (.aload_n 1, 1) := dk_43 (dk_at dksJ5_addEntryToEmptyMap_0 12 rfl rfl)
theorem dJ5_addEntryToEmptyMap_13 : decode cJ5_addEntryToEmptyMap 13 = .ok (.aload_n 2, 1) := dk_44 (dk_at dksJ5_addEntryToEmptyMap_0 13 rfl rfl)
theorem dJ5_addEntryToEmptyMap_14 : decode cJ5_addEntryToEmptyMap 14 = .ok (.aconst_null, 1) := dk_1 (dk_at dksJ5_addEntryToEmptyMap_0 14 rfl rfl)
theorem dJ5_addEntryToEmptyMap_15 : decode cJ5_addEntryToEmptyMap 15 = .ok (.invokespecial 167, 3) := dk_183 0 167 (dk_at dksJ5_addEntryToEmptyMap_0 15 rfl rfl)
theorem dJ5_addEntryToEmptyMap_18 : decode cJ5_addEntryToEmptyMap 18 = .ok (.putfield 101, 3) := dk_181 0 101 (dk_at dksJ5_addEntryToEmptyMap_0 18 rfl rfl)
theorem dJ5_addEntryToEmptyMap_21 : decode cJ5_addEntryToEmptyMap 21 = .ok (.aload_n 0, 1) := dk_42 (dk_at dksJ5_addEntryToEmptyMap_0 21 rfl rfl)
theorem dJ5_addEntryToEmptyMap_22 : decode cJ5_addEntryToEmptyMap 22 = .ok (.iconst 1, 1) := dk_4 (dk_at dksJ5_addEntryToEmptyMap_0 22 rfl rfl)
theorem dJ5_addEntryToEmptyMap_23 : decode cJ5_addEntryToEmptyMap 23 = .ok (.putfield 7, 3) := dk_181 0 7 (dk_at dksJ5_addEntryToEmptyMap_1 0 rfl rfl)
theorem dJ5_addEntryToEmptyMap_26 : decode cJ5_addEntryToEmptyMap 26 = .ok (.aload_n 0, 1) := dk_42 (dk_at dksJ5_addEntryToEmptyMap_1 3 rfl rfl)
theorem dJ5_addEntryToEmptyMap_27 : decode cJ5_addEntryToEmptyMap 27 = .ok (.dup, 1) := dk_89 (dk_at dksJ5_addEntryToEmptyMap_1 4 rfl rfl)
theorem dJ5_addEntryToEmptyMap_28 : decode cJ5_addEntryToEmptyMap 28 = .ok (.getfield 13, 3) := dk_180 0 13 (dk_at dksJ5_addEntryToEmptyMap_1 5 rfl rfl)
theorem dJ5_addEntryToEmptyMap_31 : decode cJ5_addEntryToEmptyMap 31 = .ok (.iconst 1, 1) := dk_4 (dk_at dksJ5_addEntryToEmptyMap_1 8 rfl rfl)
theorem dJ5_addEntryToEmptyMap_32 : decode cJ5_addEntryToEmptyMap 32 = .ok (.iadd, 1) := dk_96 (dk_at dksJ5_addEntryToEmptyMap_1 9 rfl rfl)
theorem dJ5_addEntryToEmptyMap_33 : decode cJ5_addEntryToEmptyMap 33 = .ok (.putfield 13, 3) := dk_181 0 13 (dk_at dksJ5_addEntryToEmptyMap_1 10 rfl rfl)
theorem dJ5_addEntryToEmptyMap_36 : decode cJ5_addEntryToEmptyMap 36 = .ok (.return_, 1) := dk_177 (dk_at dksJ5_addEntryToEmptyMap_1 13 rfl rfl)
abbrev cJ5_compare : ByteArray := prog_61_method_67_code
def yJ5_compare : MethodName := ⟨RJ5, "compare", "(Ljava/lang/Object;Ljava/lang/Object;)I"⟩
def dkwJ5_compare_1 : List UInt8 := [43, 44, 185, 0, 117, 3, 0, 172]
abbrev dktJ5_compare_1 : List UInt8 := dkwJ5_compare_1 ++ []
def dkwJ5_compare_0 : List UInt8 := [42, 180, 0, 16, 199, 0, 16, 43, 192, 0, 99, 44, 185, 0, 107, 2, 0, 167, 0, 14, 42, 180, 0, 16]
abbrev dktJ5_compare_0 : List UInt8 := dkwJ5_compare_0 ++ dktJ5_compare_1
theorem dksJ5_compare_0 : cJ5_compare.data.toList.drop 0 = dktJ5_compare_0 := by decide +kernel
theorem dksJ5_compare_1 : cJ5_compare.data.toList.drop 24 = dktJ5_compare_1 := dk_seg dksJ5_compare_0 24 rfl rfl
theorem dJ5_compare_0 : decode cJ5_compare 0 = .ok (.aload_n 0, 1) := dk_42 (dk_at dksJ5_compare_0 0 rfl rfl)
theorem dJ5_compare_1 : decode cJ5_compare 1 = .ok (.getfield 16, 3) := dk_180 0 16 (dk_at dksJ5_compare_0 1 rfl rfl)
theorem dJ5_compare_4 : decode cJ5_compare 4 = .ok (.ifnonnull 16, 3) := dk_199 0 16 (dk_at dksJ5_compare_0 4 rfl rfl)
theorem dJ5_compare_7 : decode cJ5_compare 7 = .ok (.aload_n 1, 1) := dk_43 (dk_at dksJ5_compare_0 7 rfl rfl)
theorem dJ5_compare_8 : decode cJ5_compare 8 = .ok (.checkcast 99, 3) := dk_192 0 99 (dk_at dksJ5_compare_0 8 rfl rfl)
theorem dJ5_compare_11 : decode cJ5_compare 11 = .ok (.aload_n 2, 1) := dk_44 (dk_at dksJ5_compare_0 11 rfl rfl)
theorem dJ5_compare_12 : decode cJ5_compare 12 = .ok (.invokeinterface 107 2, 5) := by decide +kernel
theorem dJ5_compare_17 : decode cJ5_compare 17 = .ok (.goto 14, 3) := dk_167 0 14 (dk_at dksJ5_compare_0 17 rfl rfl)
theorem dJ5_compare_20 : decode cJ5_compare 20 = .ok (.aload_n 0, 1) := dk_42 (dk_at dksJ5_compare_0 20 rfl rfl)
theorem dJ5_compare_21 : decode cJ5_compare 21 = .ok (.getfield 16, 3) := dk_180 0 16 (dk_at dksJ5_compare_0 21 rfl rfl)
theorem dJ5_compare_24 : decode cJ5_compare 24 = .ok (.aload_n 1, 1) := dk_43 (dk_at dksJ5_compare_1 0 rfl rfl)
theorem dJ5_compare_25 : decode cJ5_compare 25 = .ok (.aload_n 2, 1) := dk_44 (dk_at dksJ5_compare_1 1 rfl rfl)
theorem dJ5_compare_26 : decode cJ5_compare 26 = .ok (.invokeinterface 117 3, 5) := by decide +kernel
theorem dJ5_compare_31 : decode cJ5_compare 31 = .ok (.ireturn, 1) := dk_172 (dk_at dksJ5_compare_1 7 rfl rfl)
abbrev cJ5_addEntry : ByteArray := prog_61_method_29_code
def yJ5_addEntry : MethodName := ⟨RJ5, "addEntry", "(Ljava/lang/Object;Ljava/lang/Object;Ljava/util/TreeMap$Entry;Z)V"⟩
def dkwJ5_addEntry_2 : List UInt8 := [181, 0, 7, 42, 89, 180, 0, 13, 4, 96, 181, 0, 13, 177]
abbrev dktJ5_addEntry_2 : List UInt8 := dkwJ5_addEntry_2 ++ []
def dkwJ5_addEntry_1 : List UInt8 := [167, 0, 9, 45, 25, 5, 181, 0, 114, 42, 25, 5, 182, 0, 170, 42, 89, 180, 0, 7, 4, 96]
abbrev dktJ5_addEntry_1 : List UInt8 := dkwJ5_addEntry_1 ++ dktJ5_addEntry_2
def dkwJ5_addEntry_0 : List UInt8 := [187, 0, 59, 89, 43, 44, 45, 183, 0, 167, 58, 5, 21, 4, 153, 0, 12, 45, 25, 5, 181, 0, 111]
abbrev dktJ5_addEntry_0 : List UInt8 := dkwJ5_addEntry_0 ++ dktJ5_addEntry_1
theorem dksJ5_addEntry_0 : cJ5_addEntry.data.toList.drop 0 = dktJ5_addEntry_0 := by decide +kernel
theorem dksJ5_addEntry_1 : cJ5_addEntry.data.toList.drop 23 = dktJ5_addEntry_1 := dk_seg dksJ5_addEntry_0 23 rfl rfl
theorem dksJ5_addEntry_2 : cJ5_addEntry.data.toList.drop 45 = dktJ5_addEntry_2 := dk_seg dksJ5_addEntry_1 22 rfl rfl
theorem dJ5_addEntry_0 : decode cJ5_addEntry 0 = .ok (.new 59, 3) := dk_187 0 59 (dk_at dksJ5_addEntry_0 0 rfl rfl)
theorem dJ5_addEntry_3 : decode cJ5_addEntry 3 = .ok (.dup, 1) := dk_89 (dk_at dksJ5_addEntry_0 3 rfl rfl)
theorem dJ5_addEntry_4 : decode cJ5_addEntry 4 = .ok (.aload_n 1, 1) := dk_43 (dk_at dksJ5_addEntry_0 4 rfl rfl)
theorem dJ5_addEntry_5 : decode cJ5_addEntry 5 = .ok (.aload_n 2, 1) := dk_44 (dk_at dksJ5_addEntry_0 5 rfl rfl)
theorem dJ5_addEntry_6 : decode cJ5_addEntry 6 = .ok (.aload_n 3, 1) := dk_45 (dk_at dksJ5_addEntry_0 6 rfl rfl)
theorem dJ5_addEntry_7 : decode cJ5_addEntry 7 = .ok (.invokespecial 167, 3) := dk_183 0 167 (dk_at dksJ5_addEntry_0 7 rfl rfl)
theorem dJ5_addEntry_10 : decode cJ5_addEntry 10 = .ok (.astore 5, 2) := dk_58 5 (dk_at dksJ5_addEntry_0 10 rfl rfl)
theorem dJ5_addEntry_12 : decode cJ5_addEntry 12 = .ok (.iload 4, 2) := dk_21 4 (dk_at dksJ5_addEntry_0 12 rfl rfl)
theorem dJ5_addEntry_14 : decode cJ5_addEntry 14 = .ok (.ifCond .eq 12, 3) := dk_153 0 12 (dk_at dksJ5_addEntry_0 14 rfl rfl)
theorem dJ5_addEntry_17 : decode cJ5_addEntry 17 = .ok (.aload_n 3, 1) := dk_45 (dk_at dksJ5_addEntry_0 17 rfl rfl)
theorem dJ5_addEntry_18 : decode cJ5_addEntry 18 = .ok (.aload 5, 2) := dk_25 5 (dk_at dksJ5_addEntry_0 18 rfl rfl)
theorem dJ5_addEntry_20 : decode cJ5_addEntry 20 = .ok (.putfield 111, 3) := dk_181 0 111 (dk_at dksJ5_addEntry_0 20 rfl rfl)
theorem dJ5_addEntry_23 : decode cJ5_addEntry 23 = .ok (.goto 9, 3) := dk_167 0 9 (dk_at dksJ5_addEntry_1 0 rfl rfl)
theorem dJ5_addEntry_26 : decode cJ5_addEntry 26 = .ok (.aload_n 3, 1) := dk_45 (dk_at dksJ5_addEntry_1 3 rfl rfl)
theorem dJ5_addEntry_27 : decode cJ5_addEntry 27 = .ok (.aload 5, 2) := dk_25 5 (dk_at dksJ5_addEntry_1 4 rfl rfl)
theorem dJ5_addEntry_29 : decode cJ5_addEntry 29 = .ok (.putfield 114, 3) := dk_181 0 114 (dk_at dksJ5_addEntry_1 6 rfl rfl)
theorem dJ5_addEntry_32 : decode cJ5_addEntry 32 = .ok (.aload_n 0, 1) := dk_42 (dk_at dksJ5_addEntry_1 9 rfl rfl)
theorem dJ5_addEntry_33 : decode cJ5_addEntry 33 = .ok (.aload 5, 2) := dk_25 5 (dk_at dksJ5_addEntry_1 10 rfl rfl)
theorem dJ5_addEntry_35 : decode cJ5_addEntry 35 = .ok (.invokevirtual 170, 3) := dk_182 0 170 (dk_at dksJ5_addEntry_1 12 rfl rfl)
theorem dJ5_addEntry_38 : decode cJ5_addEntry 38 = .ok (.aload_n 0, 1) := dk_42 (dk_at dksJ5_addEntry_1 15 rfl rfl)
theorem dJ5_addEntry_39 : decode cJ5_addEntry 39 = .ok (.dup, 1) := dk_89 (dk_at dksJ5_addEntry_1 16 rfl rfl)
theorem dJ5_addEntry_40 : decode cJ5_addEntry 40 = .ok (.getfield 7, 3) := dk_180 0 7 (dk_at dksJ5_addEntry_1 17 rfl rfl)
theorem dJ5_addEntry_43 : decode cJ5_addEntry 43 = .ok (.iconst 1, 1) := dk_4 (dk_at dksJ5_addEntry_1 20 rfl rfl)
theorem dJ5_addEntry_44 : decode cJ5_addEntry 44 = .ok (.iadd, 1) := dk_96 (dk_at dksJ5_addEntry_1 21 rfl rfl)
theorem dJ5_addEntry_45 : decode cJ5_addEntry 45 = .ok (.putfield 7, 3) := dk_181 0 7 (dk_at dksJ5_addEntry_2 0 rfl rfl)
theorem dJ5_addEntry_48 : decode cJ5_addEntry 48 = .ok (.aload_n 0, 1) := dk_42 (dk_at dksJ5_addEntry_2 3 rfl rfl)
theorem dJ5_addEntry_49 : decode cJ5_addEntry 49 = .ok (.dup, 1) := dk_89 (dk_at dksJ5_addEntry_2 4 rfl rfl)
theorem dJ5_addEntry_50 : decode cJ5_addEntry 50 = .ok (.getfield 13, 3) := dk_180 0 13 (dk_at dksJ5_addEntry_2 5 rfl rfl)
theorem dJ5_addEntry_53 : decode cJ5_addEntry 53 = .ok (.iconst 1, 1) := dk_4 (dk_at dksJ5_addEntry_2 8 rfl rfl)
theorem dJ5_addEntry_54 : decode cJ5_addEntry 54 = .ok (.iadd, 1) := dk_96 (dk_at dksJ5_addEntry_2 9 rfl rfl)
theorem dJ5_addEntry_55 : decode cJ5_addEntry 55 = .ok (.putfield 13, 3) := dk_181 0 13 (dk_at dksJ5_addEntry_2 10 rfl rfl)
theorem dJ5_addEntry_58 : decode cJ5_addEntry 58 = .ok (.return_, 1) := dk_177 (dk_at dksJ5_addEntry_2 13 rfl rfl)
abbrev cJ5_fixAfterInsertion : ByteArray := prog_61_method_83_code
def yJ5_fixAfterInsertion : MethodName := ⟨RJ5, "fixAfterInsertion", "(Ljava/util/TreeMap$Entry;)V"⟩
def dkwJ5_fixAfterInsertion_11 : List UInt8 := [42, 180, 0, 101, 4, 181, 1, 34, 177]
abbrev dktJ5_fixAfterInsertion_11 : List UInt8 := dkwJ5_fixAfterInsertion_11 ++ []
def dkwJ5_fixAfterInsertion_10 : List UInt8 := [184, 1, 38, 184, 1, 38, 3, 184, 1, 51, 42, 43, 184, 1, 38, 184, 1, 38, 182, 1, 55, 167, 255, 6]
abbrev dktJ5_fixAfterInsertion_10 : List UInt8 := dkwJ5_fixAfterInsertion_10 ++ dktJ5_fixAfterInsertion_11
def dkwJ5_fixAfterInsertion_9 : List UInt8 := [166, 0, 13, 43, 184, 1, 38, 76, 42, 43, 182, 1, 58, 43, 184, 1, 38, 4, 184, 1, 51, 43]
abbrev dktJ5_fixAfterInsertion_9 : List UInt8 := dkwJ5_fixAfterInsertion_9 ++ dktJ5_fixAfterInsertion_10
def dkwJ5_fixAfterInsertion_8 : List UInt8 := [184, 1, 51, 43, 184, 1, 38, 184, 1, 38, 76, 167, 0, 54, 43, 43, 184, 1, 38, 184, 1, 41]
abbrev dktJ5_fixAfterInsertion_8 : List UInt8 := dkwJ5_fixAfterInsertion_8 ++ dktJ5_fixAfterInsertion_9
def dkwJ5_fixAfterInsertion_7 : List UInt8 := [154, 0, 38, 43, 184, 1, 38, 4, 184, 1, 51, 44, 4, 184, 1, 51, 43, 184, 1, 38, 184, 1, 38, 3]
abbrev dktJ5_fixAfterInsertion_7 : List UInt8 := dkwJ5_fixAfterInsertion_7 ++ dktJ5_fixAfterInsertion_8
def dkwJ5_fixAfterInsertion_6 : List UInt8 := [184, 1, 38, 182, 1, 58, 167, 255, 113, 43, 184, 1, 38, 184, 1, 38, 184, 1, 41, 77, 44, 184, 1, 47]
abbrev dktJ5_fixAfterInsertion_6 : List UInt8 := dkwJ5_fixAfterInsertion_6 ++ dktJ5_fixAfterInsertion_7
def dkwJ5_fixAfterInsertion_5 : List UInt8 := [43, 184, 1, 38, 4, 184, 1, 51, 43, 184, 1, 38, 184, 1, 38, 3, 184, 1, 51, 42, 43, 184, 1, 38]
abbrev dktJ5_fixAfterInsertion_5 : List UInt8 := dkwJ5_fixAfterInsertion_5 ++ dktJ5_fixAfterInsertion_6
def dkwJ5_fixAfterInsertion_4 : List UInt8 := [167, 0, 54, 43, 43, 184, 1, 38, 184, 1, 44, 166, 0, 13, 43, 184, 1, 38, 76, 42, 43, 182, 1, 55]
abbrev dktJ5_fixAfterInsertion_4 : List UInt8 := dkwJ5_fixAfterInsertion_4 ++ dktJ5_fixAfterInsertion_5
def dkwJ5_fixAfterInsertion_3 : List UInt8 := [184, 1, 51, 43, 184, 1, 38, 184, 1, 38, 3, 184, 1, 51, 43, 184, 1, 38, 184, 1, 38, 76]
abbrev dktJ5_fixAfterInsertion_3 : List UInt8 := dkwJ5_fixAfterInsertion_3 ++ dktJ5_fixAfterInsertion_4
def dkwJ5_fixAfterInsertion_2 : List UInt8 := [184, 1, 38, 184, 1, 44, 77, 44, 184, 1, 47, 154, 0, 38, 43, 184, 1, 38, 4, 184, 1, 51, 44, 4]
abbrev dktJ5_fixAfterInsertion_2 : List UInt8 := dkwJ5_fixAfterInsertion_2 ++ dktJ5_fixAfterInsertion_3
def dkwJ5_fixAfterInsertion_1 : List UInt8 := [154, 0, 234, 43, 184, 1, 38, 43, 184, 1, 38, 184, 1, 38, 184, 1, 41, 166, 0, 110, 43, 184, 1, 38]
abbrev dktJ5_fixAfterInsertion_1 : List UInt8 := dkwJ5_fixAfterInsertion_1 ++ dktJ5_fixAfterInsertion_2
def dkwJ5_fixAfterInsertion_0 : List UInt8 := [43, 3, 181, 1, 34, 43, 198, 0, 252, 43, 42, 180, 0, 101, 165, 0, 244, 43, 180, 0, 124, 180, 1, 34]
abbrev dktJ5_fixAfterInsertion_0 : List UInt8 := dkwJ5_fixAfterInsertion_0 ++ dktJ5_fixAfterInsertion_1
theorem dksJ5_fixAfterInsertion_0 : cJ5_fixAfterInsertion.data.toList.drop 0 = dktJ5_fixAfterInsertion_0 := by decide +kernel
theorem dksJ5_fixAfterInsertion_1 : cJ5_fixAfterInsertion.data.toList.drop 24 = dktJ5_fixAfterInsertion_1 := dk_seg dksJ5_fixAfterInsertion_0 24 rfl rfl
theorem dksJ5_fixAfterInsertion_2 : cJ5_fixAfterInsertion.data.toList.drop 48 = dktJ5_fixAfterInsertion_2 := dk_seg dksJ5_fixAfterInsertion_1 24 rfl rfl
theorem dksJ5_fixAfterInsertion_3 : cJ5_fixAfterInsertion.data.toList.drop 72 = dktJ5_fixAfterInsertion_3 := dk_seg dksJ5_fixAfterInsertion_2 24 rfl rfl
theorem dksJ5_fixAfterInsertion_4 : cJ5_fixAfterInsertion.data.toList.drop 94 = dktJ5_fixAfterInsertion_4 := dk_seg dksJ5_fixAfterInsertion_3 22 rfl rfl
theorem dksJ5_fixAfterInsertion_5 : cJ5_fixAfterInsertion.data.toList.drop 118 = dktJ5_fixAfterInsertion_5 := dk_seg dksJ5_fixAfterInsertion_4 24 rfl rfl
theorem dksJ5_fixAfterInsertion_6 : cJ5_fixAfterInsertion.data.toList.drop 142 = dktJ5_fixAfterInsertion_6 := dk_seg dksJ5_fixAfterInsertion_5 24 rfl rfl
theorem dksJ5_fixAfterInsertion_7 : cJ5_fixAfterInsertion.data.toList.drop 166 = dktJ5_fixAfterInsertion_7 := dk_seg dksJ5_fixAfterInsertion_6 24 rfl rfl
theorem dksJ5_fixAfterInsertion_8 : cJ5_fixAfterInsertion.data.toList.drop 190 = dktJ5_fixAfterInsertion_8 := dk_seg dksJ5_fixAfterInsertion_7 24 rfl rfl
theorem dksJ5_fixAfterInsertion_9 : cJ5_fixAfterInsertion.data.toList.drop 212 = dktJ5_fixAfterInsertion_9 := dk_seg dksJ5_fixAfterInsertion_8 22 rfl rfl
theorem dksJ5_fixAfterInsertion_10 : cJ5_fixAfterInsertion.data.toList.drop 234 = dktJ5_fixAfterInsertion_10 := dk_seg dksJ5_fixAfterInsertion_9 22 rfl rfl
theorem dksJ5_fixAfterInsertion_11 : cJ5_fixAfterInsertion.data.toList.drop 258 = dktJ5_fixAfterInsertion_11 := dk_seg dksJ5_fixAfterInsertion_10 24 rfl rfl
theorem dJ5_fixAfterInsertion_0 : decode cJ5_fixAfterInsertion 0 = .ok (.aload_n 1, 1) := dk_43 (dk_at dksJ5_fixAfterInsertion_0 0 rfl rfl)
theorem dJ5_fixAfterInsertion_1 : decode cJ5_fixAfterInsertion 1 = .ok (.iconst 0, 1) := dk_3 (dk_at dksJ5_fixAfterInsertion_0 1 rfl rfl)
theorem dJ5_fixAfterInsertion_2 : decode cJ5_fixAfterInsertion 2 = .ok (.putfield 290, 3) := dk_181 1 34 (dk_at dksJ5_fixAfterInsertion_0 2 rfl rfl)
theorem dJ5_fixAfterInsertion_5 : decode cJ5_fixAfterInsertion 5 = .ok (.aload_n 1, 1) := dk_43 (dk_at dksJ5_fixAfterInsertion_0 5 rfl rfl)
theorem dJ5_fixAfterInsertion_6 : decode cJ5_fixAfterInsertion 6 = .ok (.ifnull 252, 3) := dk_198 0 252 (dk_at dksJ5_fixAfterInsertion_0 6 rfl rfl)
theorem dJ5_fixAfterInsertion_9 : decode cJ5_fixAfterInsertion 9 = .ok (.aload_n 1, 1) := dk_43 (dk_at dksJ5_fixAfterInsertion_0 9 rfl rfl)
theorem dJ5_fixAfterInsertion_10 : decode cJ5_fixAfterInsertion 10 = .ok (.aload_n 0, 1) := dk_42 (dk_at dksJ5_fixAfterInsertion_0 10 rfl rfl)
theorem dJ5_fixAfterInsertion_11 : decode cJ5_fixAfterInsertion 11 = .ok (.getfield 101, 3) := dk_180 0 101 (dk_at dksJ5_fixAfterInsertion_0 11 rfl rfl)
theorem dJ5_fixAfterInsertion_14 : decode cJ5_fixAfterInsertion 14 = .ok (.if_acmp .eq 244, 3) := dk_165 0 244 (dk_at dksJ5_fixAfterInsertion_0 14 rfl rfl)
theorem dJ5_fixAfterInsertion_17 : decode cJ5_fixAfterInsertion 17 = .ok (.aload_n 1, 1) := dk_43 (dk_at dksJ5_fixAfterInsertion_0 17 rfl rfl)
theorem dJ5_fixAfterInsertion_18 : decode cJ5_fixAfterInsertion 18 = .ok (.getfield 124, 3) := dk_180 0 124 (dk_at dksJ5_fixAfterInsertion_0 18 rfl rfl)
theorem dJ5_fixAfterInsertion_21 : decode cJ5_fixAfterInsertion 21 = .ok (.getfield 290, 3) := dk_180 1 34 (dk_at dksJ5_fixAfterInsertion_0 21 rfl rfl)
theorem dJ5_fixAfterInsertion_24 : decode cJ5_fixAfterInsertion 24 = .ok (.ifCond .ne 234, 3) := dk_154 0 234 (dk_at dksJ5_fixAfterInsertion_1 0 rfl rfl)
theorem dJ5_fixAfterInsertion_27 : decode cJ5_fixAfterInsertion 27 = .ok (.aload_n 1, 1) := dk_43 (dk_at dksJ5_fixAfterInsertion_1 3 rfl rfl)
theorem dJ5_fixAfterInsertion_28 : decode cJ5_fixAfterInsertion 28 = .ok (.invokestatic 294, 3) := dk_184 1 38 (dk_at dksJ5_fixAfterInsertion_1 4 rfl rfl)
theorem dJ5_fixAfterInsertion_31 : decode cJ5_fixAfterInsertion 31 = .ok (.aload_n 1, 1) := dk_43 (dk_at dksJ5_fixAfterInsertion_1 7 rfl rfl)
theorem dJ5_fixAfterInsertion_32 : decode cJ5_fixAfterInsertion 32 = .ok (.invokestatic 294, 3) := dk_184 1 38 (dk_at dksJ5_fixAfterInsertion_1 8 rfl rfl)
theorem dJ5_fixAfterInsertion_35 : decode cJ5_fixAfterInsertion 35 = .ok (.invokestatic 294, 3) := dk_184 1 38 (dk_at dksJ5_fixAfterInsertion_1 11 rfl rfl)
theorem dJ5_fixAfterInsertion_38 : decode cJ5_fixAfterInsertion 38 = .ok (.invokestatic 297, 3) := dk_184 1 41 (dk_at dksJ5_fixAfterInsertion_1 14 rfl rfl)
theorem dJ5_fixAfterInsertion_41 : decode cJ5_fixAfterInsertion 41 = .ok (.if_acmp .ne 110, 3) := dk_166 0 110 (dk_at dksJ5_fixAfterInsertion_1 17 rfl rfl)
theorem dJ5_fixAfterInsertion_44 : decode cJ5_fixAfterInsertion 44 = .ok (.aload_n 1, 1) := dk_43 (dk_at dksJ5_fixAfterInsertion_1 20 rfl rfl)
theorem dJ5_fixAfterInsertion_45 : decode cJ5_fixAfterInsertion 45 = .ok (.invokestatic 294, 3) := dk_184 1 38 (dk_at dksJ5_fixAfterInsertion_1 21 rfl rfl)
theorem dJ5_fixAfterInsertion_48 : decode cJ5_fixAfterInsertion 48 = .ok (.invokestatic 294, 3) := dk_184 1 38 (dk_at dksJ5_fixAfterInsertion_2 0 rfl rfl)
theorem dJ5_fixAfterInsertion_51 : decode cJ5_fixAfterInsertion 51 = .ok (.invokestatic 300, 3) := dk_184 1 44 (dk_at dksJ5_fixAfterInsertion_2 3 rfl rfl)
theorem dJ5_fixAfterInsertion_54 : decode cJ5_fixAfterInsertion 54 = .ok (.astore_n 2, 1) := dk_77 (dk_at dksJ5_fixAfterInsertion_2 6 rfl rfl)
theorem dJ5_fixAfterInsertion_55 : decode cJ5_fixAfterInsertion 55 = .ok (.aload_n 2, 1) := dk_44 (dk_at dksJ5_fixAfterInsertion_2 7 rfl rfl)
theorem dJ5_fixAfterInsertion_56 : decode cJ5_fixAfterInsertion 56 = .ok (.invokestatic 303, 3) := dk_184 1 47 (dk_at dksJ5_fixAfterInsertion_2 8 rfl rfl)
theorem dJ5_fixAfterInsertion_59 : decode cJ5_fixAfterInsertion 59 = .ok (.ifCond .ne 38, 3) := dk_154 0 38 (dk_at dksJ5_fixAfterInsertion_2 11 rfl rfl)
theorem dJ5_fixAfterInsertion_62 : decode cJ5_fixAfterInsertion 62 = .ok (.aload_n 1, 1) := dk_43 (dk_at dksJ5_fixAfterInsertion_2 14 rfl rfl)
theorem dJ5_fixAfterInsertion_63 : decode cJ5_fixAfterInsertion 63 = .ok (.invokestatic 294, 3) := dk_184 1 38 (dk_at dksJ5_fixAfterInsertion_2 15 rfl rfl)
theorem dJ5_fixAfterInsertion_66 : decode cJ5_fixAfterInsertion 66 = .ok (.iconst 1, 1) := dk_4 (dk_at dksJ5_fixAfterInsertion_2 18 rfl rfl)
theorem dJ5_fixAfterInsertion_67 : decode cJ5_fixAfterInsertion 67 = .ok (.invokestatic 307, 3) := dk_184 1 51 (dk_at dksJ5_fixAfterInsertion_2 19 rfl rfl)
theorem dJ5_fixAfterInsertion_70 : decode cJ5_fixAfterInsertion 70 = .ok (.aload_n 2, 1) := dk_44 (dk_at dksJ5_fixAfterInsertion_2 22 rfl rfl)
theorem dJ5_fixAfterInsertion_71 : decode cJ5_fixAfterInsertion 71 = .ok (.iconst 1, 1) := dk_4 (dk_at dksJ5_fixAfterInsertion_2 23 rfl rfl)
theorem dJ5_fixAfterInsertion_72 : decode cJ5_fixAfterInsertion 72 = .ok (.invokestatic 307, 3) := dk_184 1 51 (dk_at dksJ5_fixAfterInsertion_3 0 rfl rfl)
theorem dJ5_fixAfterInsertion_75 : decode cJ5_fixAfterInsertion 75 = .ok (.aload_n 1, 1) := dk_43 (dk_at dksJ5_fixAfterInsertion_3 3 rfl rfl)
theorem dJ5_fixAfterInsertion_76 : decode cJ5_fixAfterInsertion 76 = .ok (.invokestatic 294, 3) := dk_184 1 38 (dk_at dksJ5_fixAfterInsertion_3 4 rfl rfl)
theorem dJ5_fixAfterInsertion_79 : decode cJ5_fixAfterInsertion 79 = .ok (.invokestatic 294, 3) := dk_184 1 38 (dk_at dksJ5_fixAfterInsertion_3 7 rfl rfl)
theorem dJ5_fixAfterInsertion_82 : decode cJ5_fixAfterInsertion 82 = .ok (.iconst 0, 1) := dk_3 (dk_at dksJ5_fixAfterInsertion_3 10 rfl rfl)
theorem dJ5_fixAfterInsertion_83 : decode cJ5_fixAfterInsertion 83 = .ok (.invokestatic 307, 3) := dk_184 1 51 (dk_at dksJ5_fixAfterInsertion_3 11 rfl rfl)
theorem dJ5_fixAfterInsertion_86 : decode cJ5_fixAfterInsertion 86 = .ok (.aload_n 1, 1) := dk_43 (dk_at dksJ5_fixAfterInsertion_3 14 rfl rfl)
theorem dJ5_fixAfterInsertion_87 : decode cJ5_fixAfterInsertion 87 = .ok (.invokestatic 294, 3) := dk_184 1 38 (dk_at dksJ5_fixAfterInsertion_3 15 rfl rfl)
theorem dJ5_fixAfterInsertion_90 : decode cJ5_fixAfterInsertion 90 = .ok (.invokestatic 294, 3) := dk_184 1 38 (dk_at dksJ5_fixAfterInsertion_3 18 rfl rfl)
theorem dJ5_fixAfterInsertion_93 : decode cJ5_fixAfterInsertion 93 = .ok (.astore_n 1, 1) := dk_76 (dk_at dksJ5_fixAfterInsertion_3 21 rfl rfl)
theorem dJ5_fixAfterInsertion_94 : decode cJ5_fixAfterInsertion 94 = .ok (.goto 54, 3) := dk_167 0 54 (dk_at dksJ5_fixAfterInsertion_4 0 rfl rfl)
theorem dJ5_fixAfterInsertion_97 : decode cJ5_fixAfterInsertion 97 = .ok (.aload_n 1, 1) := dk_43 (dk_at dksJ5_fixAfterInsertion_4 3 rfl rfl)
theorem dJ5_fixAfterInsertion_98 : decode cJ5_fixAfterInsertion 98 = .ok (.aload_n 1, 1) := dk_43 (dk_at dksJ5_fixAfterInsertion_4 4 rfl rfl)
theorem dJ5_fixAfterInsertion_99 : decode cJ5_fixAfterInsertion 99 = .ok (.invokestatic 294, 3) := dk_184 1 38 (dk_at dksJ5_fixAfterInsertion_4 5 rfl rfl)
theorem dJ5_fixAfterInsertion_102 : decode cJ5_fixAfterInsertion 102 = .ok (.invokestatic 300, 3) := dk_184 1 44 (dk_at dksJ5_fixAfterInsertion_4 8 rfl rfl)
theorem dJ5_fixAfterInsertion_105 : decode cJ5_fixAfterInsertion 105 = .ok (.if_acmp .ne 13, 3) := dk_166 0 13 (dk_at dksJ5_fixAfterInsertion_4 11 rfl rfl)
theorem dJ5_fixAfterInsertion_108 : decode cJ5_fixAfterInsertion 108 = .ok (.aload_n 1, 1) := dk_43 (dk_at dksJ5_fixAfterInsertion_4 14 rfl rfl)
theorem dJ5_fixAfterInsertion_109 : decode cJ5_fixAfterInsertion 109 = .ok (.invokestatic 294, 3) := dk_184 1 38 (dk_at dksJ5_fixAfterInsertion_4 15 rfl rfl)
theorem dJ5_fixAfterInsertion_112 : decode cJ5_fixAfterInsertion 112 = .ok (.astore_n 1, 1) := dk_76 (dk_at dksJ5_fixAfterInsertion_4 18 rfl rfl)
theorem dJ5_fixAfterInsertion_113 : decode cJ5_fixAfterInsertion 113 = .ok (.aload_n 0, 1) := dk_42 (dk_at dksJ5_fixAfterInsertion_4 19 rfl rfl)
theorem dJ5_fixAfterInsertion_114 : decode cJ5_fixAfterInsertion 114 = .ok (.aload_n 1, 1) := dk_43 (dk_at dksJ5_fixAfterInsertion_4 20 rfl rfl)
theorem dJ5_fixAfterInsertion_115 : decode cJ5_fixAfterInsertion 115 = .ok (.invokevirtual 311, 3) := dk_182 1 55 (dk_at dksJ5_fixAfterInsertion_4 21 rfl rfl)
theorem dJ5_fixAfterInsertion_118 : decode cJ5_fixAfterInsertion 118 = .ok (.aload_n 1, 1) := dk_43 (dk_at dksJ5_fixAfterInsertion_5 0 rfl rfl)
theorem dJ5_fixAfterInsertion_119 : decode cJ5_fixAfterInsertion 119 = .ok (.invokestatic 294, 3) := dk_184 1 38 (dk_at dksJ5_fixAfterInsertion_5 1 rfl rfl)
theorem dJ5_fixAfterInsertion_122 : decode cJ5_fixAfterInsertion 122 = .ok (.iconst 1, 1) := dk_4 (dk_at dksJ5_fixAfterInsertion_5 4 rfl rfl)
theorem dJ5_fixAfterInsertion_123 : decode cJ5_fixAfterInsertion 123 = .ok (.invokestatic 307, 3) := dk_184 1 51 (dk_at dksJ5_fixAfterInsertion_5 5 rfl rfl)
theorem dJ5_fixAfterInsertion_126 : decode cJ5_fixAfterInsertion 126 = .ok (.aload_n 1, 1) := dk_43 (dk_at dksJ5_fixAfterInsertion_5 8 rfl rfl)
theorem dJ5_fixAfterInsertion_127 : decode cJ5_fixAfterInsertion 127 = .ok (.invokestatic 294, 3) := dk_184 1 38 (dk_at dksJ5_fixAfterInsertion_5 9 rfl rfl)
theorem dJ5_fixAfterInsertion_130 : decode cJ5_fixAfterInsertion 130 = .ok (.invokestatic 294, 3) := dk_184 1 38 (dk_at dksJ5_fixAfterInsertion_5 12 rfl rfl)
theorem dJ5_fixAfterInsertion_133 : decode cJ5_fixAfterInsertion 133 = .ok (.iconst 0, 1) := dk_3 (dk_at dksJ5_fixAfterInsertion_5 15 rfl rfl)
theorem dJ5_fixAfterInsertion_134 : decode cJ5_fixAfterInsertion 134 = .ok (.invokestatic 307, 3) := dk_184 1 51 (dk_at dksJ5_fixAfterInsertion_5 16 rfl rfl)
theorem dJ5_fixAfterInsertion_137 : decode cJ5_fixAfterInsertion 137 = .ok (.aload_n 0, 1) := dk_42 (dk_at dksJ5_fixAfterInsertion_5 19 rfl rfl)
theorem dJ5_fixAfterInsertion_138 : decode cJ5_fixAfterInsertion 138 = .ok (.aload_n 1, 1) := dk_43 (dk_at dksJ5_fixAfterInsertion_5 20 rfl rfl)
theorem dJ5_fixAfterInsertion_139 : decode cJ5_fixAfterInsertion 139 = .ok (.invokestatic 294, 3) := dk_184 1 38 (dk_at dksJ5_fixAfterInsertion_5 21 rfl rfl)
theorem dJ5_fixAfterInsertion_142 : decode cJ5_fixAfterInsertion 142 = .ok (.invokestatic 294, 3) := dk_184 1 38 (dk_at dksJ5_fixAfterInsertion_6 0 rfl rfl)
theorem dJ5_fixAfterInsertion_145 : decode cJ5_fixAfterInsertion 145 = .ok (.invokevirtual 314, 3) := dk_182 1 58 (dk_at dksJ5_fixAfterInsertion_6 3 rfl rfl)
theorem dJ5_fixAfterInsertion_148 : decode cJ5_fixAfterInsertion 148 = .ok (.goto (-143), 3) := dk_167 255 113 (dk_at dksJ5_fixAfterInsertion_6 6 rfl rfl)
theorem dJ5_fixAfterInsertion_151 : decode cJ5_fixAfterInsertion 151 = .ok (.aload_n 1, 1) := dk_43 (dk_at dksJ5_fixAfterInsertion_6 9 rfl rfl)
theorem dJ5_fixAfterInsertion_152 : decode cJ5_fixAfterInsertion 152 = .ok (.invokestatic 294, 3) := dk_184 1 38 (dk_at dksJ5_fixAfterInsertion_6 10 rfl rfl)
theorem dJ5_fixAfterInsertion_155 : decode cJ5_fixAfterInsertion 155 = .ok (.invokestatic 294, 3) := dk_184 1 38 (dk_at dksJ5_fixAfterInsertion_6 13 rfl rfl)
theorem dJ5_fixAfterInsertion_158 : decode cJ5_fixAfterInsertion 158 = .ok (.invokestatic 297, 3) := dk_184 1 41 (dk_at dksJ5_fixAfterInsertion_6 16 rfl rfl)
theorem dJ5_fixAfterInsertion_161 : decode cJ5_fixAfterInsertion 161 = .ok (.astore_n 2, 1) := dk_77 (dk_at dksJ5_fixAfterInsertion_6 19 rfl rfl)
theorem dJ5_fixAfterInsertion_162 : decode cJ5_fixAfterInsertion 162 = .ok (.aload_n 2, 1) := dk_44 (dk_at dksJ5_fixAfterInsertion_6 20 rfl rfl)
theorem dJ5_fixAfterInsertion_163 : decode cJ5_fixAfterInsertion 163 = .ok (.invokestatic 303, 3) := dk_184 1 47 (dk_at dksJ5_fixAfterInsertion_6 21 rfl rfl)
theorem dJ5_fixAfterInsertion_166 : decode cJ5_fixAfterInsertion 166 = .ok (.ifCond .ne 38, 3) := dk_154 0 38 (dk_at dksJ5_fixAfterInsertion_7 0 rfl rfl)
theorem dJ5_fixAfterInsertion_169 : decode cJ5_fixAfterInsertion 169 = .ok (.aload_n 1, 1) := dk_43 (dk_at dksJ5_fixAfterInsertion_7 3 rfl rfl)
theorem dJ5_fixAfterInsertion_170 : decode cJ5_fixAfterInsertion 170 = .ok (.invokestatic 294, 3) := dk_184 1 38 (dk_at dksJ5_fixAfterInsertion_7 4 rfl rfl)
theorem dJ5_fixAfterInsertion_173 : decode cJ5_fixAfterInsertion 173 = .ok (.iconst 1, 1) := dk_4 (dk_at dksJ5_fixAfterInsertion_7 7 rfl rfl)
theorem dJ5_fixAfterInsertion_174 : decode cJ5_fixAfterInsertion 174 = .ok (.invokestatic 307, 3) := dk_184 1 51 (dk_at dksJ5_fixAfterInsertion_7 8 rfl rfl)
theorem dJ5_fixAfterInsertion_177 : decode cJ5_fixAfterInsertion 177 = .ok (.aload_n 2, 1) := dk_44 (dk_at dksJ5_fixAfterInsertion_7 11 rfl rfl)
theorem dJ5_fixAfterInsertion_178 : decode cJ5_fixAfterInsertion 178 = .ok (.iconst 1, 1) := dk_4 (dk_at dksJ5_fixAfterInsertion_7 12 rfl rfl)
theorem dJ5_fixAfterInsertion_179 : decode cJ5_fixAfterInsertion 179 = .ok (.invokestatic 307, 3) := dk_184 1 51 (dk_at dksJ5_fixAfterInsertion_7 13 rfl rfl)
theorem dJ5_fixAfterInsertion_182 : decode cJ5_fixAfterInsertion 182 = .ok (.aload_n 1, 1) := dk_43 (dk_at dksJ5_fixAfterInsertion_7 16 rfl rfl)
theorem dJ5_fixAfterInsertion_183 : decode cJ5_fixAfterInsertion 183 = .ok (.invokestatic 294, 3) := dk_184 1 38 (dk_at dksJ5_fixAfterInsertion_7 17 rfl rfl)
theorem dJ5_fixAfterInsertion_186 : decode cJ5_fixAfterInsertion 186 = .ok (.invokestatic 294, 3) := dk_184 1 38 (dk_at dksJ5_fixAfterInsertion_7 20 rfl rfl)
theorem dJ5_fixAfterInsertion_189 : decode cJ5_fixAfterInsertion 189 = .ok (.iconst 0, 1) := dk_3 (dk_at dksJ5_fixAfterInsertion_7 23 rfl rfl)
theorem dJ5_fixAfterInsertion_190 : decode cJ5_fixAfterInsertion 190 = .ok (.invokestatic 307, 3) := dk_184 1 51 (dk_at dksJ5_fixAfterInsertion_8 0 rfl rfl)
theorem dJ5_fixAfterInsertion_193 : decode cJ5_fixAfterInsertion 193 = .ok (.aload_n 1, 1) := dk_43 (dk_at dksJ5_fixAfterInsertion_8 3 rfl rfl)
theorem dJ5_fixAfterInsertion_194 : decode cJ5_fixAfterInsertion 194 = .ok (.invokestatic 294, 3) := dk_184 1 38 (dk_at dksJ5_fixAfterInsertion_8 4 rfl rfl)
theorem dJ5_fixAfterInsertion_197 : decode cJ5_fixAfterInsertion 197 = .ok (.invokestatic 294, 3) := dk_184 1 38 (dk_at dksJ5_fixAfterInsertion_8 7 rfl rfl)
theorem dJ5_fixAfterInsertion_200 : decode cJ5_fixAfterInsertion 200 = .ok (.astore_n 1, 1) := dk_76 (dk_at dksJ5_fixAfterInsertion_8 10 rfl rfl)
theorem dJ5_fixAfterInsertion_201 : decode cJ5_fixAfterInsertion 201 = .ok (.goto 54, 3) := dk_167 0 54 (dk_at dksJ5_fixAfterInsertion_8 11 rfl rfl)
theorem dJ5_fixAfterInsertion_204 : decode cJ5_fixAfterInsertion 204 = .ok (.aload_n 1, 1) := dk_43 (dk_at dksJ5_fixAfterInsertion_8 14 rfl rfl)
theorem dJ5_fixAfterInsertion_205 : decode cJ5_fixAfterInsertion 205 = .ok (.aload_n 1, 1) := dk_43 (dk_at dksJ5_fixAfterInsertion_8 15 rfl rfl)
theorem dJ5_fixAfterInsertion_206 : decode cJ5_fixAfterInsertion 206 = .ok (.invokestatic 294, 3) := dk_184 1 38 (dk_at dksJ5_fixAfterInsertion_8 16 rfl rfl)
theorem dJ5_fixAfterInsertion_209 : decode cJ5_fixAfterInsertion 209 = .ok (.invokestatic 297, 3) := dk_184 1 41 (dk_at dksJ5_fixAfterInsertion_8 19 rfl rfl)
theorem dJ5_fixAfterInsertion_212 : decode cJ5_fixAfterInsertion 212 = .ok (.if_acmp .ne 13, 3) := dk_166 0 13 (dk_at dksJ5_fixAfterInsertion_9 0 rfl rfl)
theorem dJ5_fixAfterInsertion_215 : decode cJ5_fixAfterInsertion 215 = .ok (.aload_n 1, 1) := dk_43 (dk_at dksJ5_fixAfterInsertion_9 3 rfl rfl)
theorem dJ5_fixAfterInsertion_216 : decode cJ5_fixAfterInsertion 216 = .ok (.invokestatic 294, 3) := dk_184 1 38 (dk_at dksJ5_fixAfterInsertion_9 4 rfl rfl)
theorem dJ5_fixAfterInsertion_219 : decode cJ5_fixAfterInsertion 219 = .ok (.astore_n 1, 1) := dk_76 (dk_at dksJ5_fixAfterInsertion_9 7 rfl rfl)
theorem dJ5_fixAfterInsertion_220 : decode cJ5_fixAfterInsertion 220 = .ok (.aload_n 0, 1) := dk_42 (dk_at dksJ5_fixAfterInsertion_9 8 rfl rfl)
theorem dJ5_fixAfterInsertion_221 : decode cJ5_fixAfterInsertion 221 = .ok (.aload_n 1, 1) := dk_43 (dk_at dksJ5_fixAfterInsertion_9 9 rfl rfl)
theorem dJ5_fixAfterInsertion_222 : decode cJ5_fixAfterInsertion 222 = .ok (.invokevirtual 314, 3) := dk_182 1 58 (dk_at dksJ5_fixAfterInsertion_9 10 rfl rfl)
theorem dJ5_fixAfterInsertion_225 : decode cJ5_fixAfterInsertion 225 = .ok (.aload_n 1, 1) := dk_43 (dk_at dksJ5_fixAfterInsertion_9 13 rfl rfl)
theorem dJ5_fixAfterInsertion_226 : decode cJ5_fixAfterInsertion 226 = .ok (.invokestatic 294, 3) := dk_184 1 38 (dk_at dksJ5_fixAfterInsertion_9 14 rfl rfl)
theorem dJ5_fixAfterInsertion_229 : decode cJ5_fixAfterInsertion 229 = .ok (.iconst 1, 1) := dk_4 (dk_at dksJ5_fixAfterInsertion_9 17 rfl rfl)
theorem dJ5_fixAfterInsertion_230 : decode cJ5_fixAfterInsertion 230 = .ok (.invokestatic 307, 3) := dk_184 1 51 (dk_at dksJ5_fixAfterInsertion_9 18 rfl rfl)
theorem dJ5_fixAfterInsertion_233 : decode cJ5_fixAfterInsertion 233 = .ok (.aload_n 1, 1) := dk_43 (dk_at dksJ5_fixAfterInsertion_9 21 rfl rfl)
theorem dJ5_fixAfterInsertion_234 : decode cJ5_fixAfterInsertion 234 = .ok (.invokestatic 294, 3) := dk_184 1 38 (dk_at dksJ5_fixAfterInsertion_10 0 rfl rfl)
theorem dJ5_fixAfterInsertion_237 : decode cJ5_fixAfterInsertion 237 = .ok (.invokestatic 294, 3) := dk_184 1 38 (dk_at dksJ5_fixAfterInsertion_10 3 rfl rfl)
theorem dJ5_fixAfterInsertion_240 : decode cJ5_fixAfterInsertion 240 = .ok (.iconst 0, 1) := dk_3 (dk_at dksJ5_fixAfterInsertion_10 6 rfl rfl)
theorem dJ5_fixAfterInsertion_241 : decode cJ5_fixAfterInsertion 241 = .ok (.invokestatic 307, 3) := dk_184 1 51 (dk_at dksJ5_fixAfterInsertion_10 7 rfl rfl)
theorem dJ5_fixAfterInsertion_244 : decode cJ5_fixAfterInsertion 244 = .ok (.aload_n 0, 1) := dk_42 (dk_at dksJ5_fixAfterInsertion_10 10 rfl rfl)
theorem dJ5_fixAfterInsertion_245 : decode cJ5_fixAfterInsertion 245 = .ok (.aload_n 1, 1) := dk_43 (dk_at dksJ5_fixAfterInsertion_10 11 rfl rfl)
theorem dJ5_fixAfterInsertion_246 : decode cJ5_fixAfterInsertion 246 = .ok (.invokestatic 294, 3) := dk_184 1 38 (dk_at dksJ5_fixAfterInsertion_10 12 rfl rfl)
theorem dJ5_fixAfterInsertion_249 : decode cJ5_fixAfterInsertion 249 = .ok (.invokestatic 294, 3) := dk_184 1 38 (dk_at dksJ5_fixAfterInsertion_10 15 rfl rfl)
theorem dJ5_fixAfterInsertion_252 : decode cJ5_fixAfterInsertion 252 = .ok (.invokevirtual 311, 3) := dk_182 1 55 (dk_at dksJ5_fixAfterInsertion_10 18 rfl rfl)
theorem dJ5_fixAfterInsertion_255 : decode cJ5_fixAfterInsertion 255 = .ok (.goto (-250), 3) := dk_167 255 6 (dk_at dksJ5_fixAfterInsertion_10 21 rfl rfl)
theorem dJ5_fixAfterInsertion_258 : decode cJ5_fixAfterInsertion 258 = .ok (.aload_n 0, 1) := dk_42 (dk_at dksJ5_fixAfterInsertion_11 0 rfl rfl)
theorem dJ5_fixAfterInsertion_259 : decode cJ5_fixAfterInsertion 259 = .ok (.getfield 101, 3) := dk_180 0 101 (dk_at dksJ5_fixAfterInsertion_11 1 rfl rfl)
theorem dJ5_fixAfterInsertion_262 : decode cJ5_fixAfterInsertion 262 = .ok (.iconst 1, 1) := dk_4 (dk_at dksJ5_fixAfterInsertion_11 4 rfl rfl)
theorem dJ5_fixAfterInsertion_263 : decode cJ5_fixAfterInsertion 263 = .ok (.putfield 290, 3) := dk_181 1 34 (dk_at dksJ5_fixAfterInsertion_11 5 rfl rfl)
theorem dJ5_fixAfterInsertion_266 : decode cJ5_fixAfterInsertion 266 = .ok (.return_, 1) := dk_177 (dk_at dksJ5_fixAfterInsertion_11 8 rfl rfl)
abbrev cJ5_parentOf : ByteArray := prog_61_method_77_code
def yJ5_parentOf : MethodName := ⟨RJ5, "parentOf", "(Ljava/util/TreeMap$Entry;)Ljava/util/TreeMap$Entry;"⟩
def dkwJ5_parentOf_0 : List UInt8 := [42, 199, 0, 7, 1, 167, 0, 7, 42, 180, 0, 124, 176]
abbrev dktJ5_parentOf_0 : List UInt8 := dkwJ5_parentOf_0 ++ []
theorem dksJ5_parentOf_0 : cJ5_parentOf.data.toList.drop 0 = dktJ5_parentOf_0 := by decide +kernel
theorem dJ5_parentOf_0 : decode cJ5_parentOf 0 = .ok (.aload_n 0, 1) := dk_42 (dk_at dksJ5_parentOf_0 0 rfl rfl)
theorem dJ5_parentOf_1 : decode cJ5_parentOf 1 = .ok (.ifnonnull 7, 3) := dk_199 0 7 (dk_at dksJ5_parentOf_0 1 rfl rfl)
theorem dJ5_parentOf_4 : decode cJ5_parentOf 4 = .ok (.aconst_null, 1) := dk_1 (dk_at dksJ5_parentOf_0 4 rfl rfl)
theorem dJ5_parentOf_5 : decode cJ5_parentOf 5 = .ok (.goto 7, 3) := dk_167 0 7 (dk_at dksJ5_parentOf_0 5 rfl rfl)
theorem dJ5_parentOf_8 : decode cJ5_parentOf 8 = .ok (.aload_n 0, 1) := dk_42 (dk_at dksJ5_parentOf_0 8 rfl rfl)
theorem dJ5_parentOf_9 : decode cJ5_parentOf 9 = .ok (.getfield 124, 3) := dk_180 0 124 (dk_at dksJ5_parentOf_0 9 rfl rfl)
theorem dJ5_parentOf_12 : decode cJ5_parentOf 12 = .ok (.areturn, 1) := dk_176 (dk_at dksJ5_parentOf_0 12 rfl rfl)
abbrev cJ5_leftOf : ByteArray := prog_61_method_79_code
def yJ5_leftOf : MethodName := ⟨RJ5, "leftOf", "(Ljava/util/TreeMap$Entry;)Ljava/util/TreeMap$Entry;"⟩
def dkwJ5_leftOf_0 : List UInt8 := [42, 199, 0, 7, 1, 167, 0, 7, 42, 180, 0, 111, 176]
abbrev dktJ5_leftOf_0 : List UInt8 := dkwJ5_leftOf_0 ++ []
theorem dksJ5_leftOf_0 : cJ5_leftOf.data.toList.drop 0 = dktJ5_leftOf_0 := by decide +kernel
theorem dJ5_leftOf_0 : decode cJ5_leftOf 0 = .ok (.aload_n 0, 1) := dk_42 (dk_at dksJ5_leftOf_0 0 rfl rfl)
theorem dJ5_leftOf_1 : decode cJ5_leftOf 1 = .ok (.ifnonnull 7, 3) := dk_199 0 7 (dk_at dksJ5_leftOf_0 1 rfl rfl)
theorem dJ5_leftOf_4 : decode cJ5_leftOf 4 = .ok (.aconst_null, 1) := dk_1 (dk_at dksJ5_leftOf_0 4 rfl rfl)
theorem dJ5_leftOf_5 : decode cJ5_leftOf 5 = .ok (.goto 7, 3) := dk_167 0 7 (dk_at dksJ5_leftOf_0 5 rfl rfl)
theorem dJ5_leftOf_8 : decode cJ5_leftOf 8 = .ok (.aload_n 0, 1) := dk_42 (dk_at dksJ5_leftOf_0 8 rfl rfl)
theorem dJ5_leftOf_9 : decode cJ5_leftOf 9 = .ok (.getfield 111, 3) := dk_180 0 111 (dk_at dksJ5_leftOf_0 9 rfl rfl)
theorem dJ5_leftOf_12 : decode cJ5_leftOf 12 = .ok (.areturn, 1) := dk_176 (dk_at dksJ5_leftOf_0 12 rfl rfl)
abbrev cJ5_rightOf : ByteArray := prog_61_method_80_code
def yJ5_rightOf : MethodName := ⟨RJ5, "rightOf", "(Ljava/util/TreeMap$Entry;)Ljava/util/TreeMap$Entry;"⟩
def dkwJ5_rightOf_0 : List UInt8 := [42, 199, 0, 7, 1, 167, 0, 7, 42, 180, 0, 114, 176]
abbrev dktJ5_rightOf_0 : List UInt8 := dkwJ5_rightOf_0 ++ []
theorem dksJ5_rightOf_0 : cJ5_rightOf.data.toList.drop 0 = dktJ5_rightOf_0 := by decide +kernel
theorem dJ5_rightOf_0 : decode cJ5_rightOf 0 = .ok (.aload_n 0, 1) := dk_42 (dk_at dksJ5_rightOf_0 0 rfl rfl)
theorem dJ5_rightOf_1 : decode cJ5_rightOf 1 = .ok (.ifnonnull 7, 3) := dk_199 0 7 (dk_at dksJ5_rightOf_0 1 rfl rfl)
theorem dJ5_rightOf_4 : decode cJ5_rightOf 4 = .ok (.aconst_null, 1) := dk_1 (dk_at dksJ5_rightOf_0 4 rfl rfl)
theorem dJ5_rightOf_5 : decode cJ5_rightOf 5 = .ok (.goto 7, 3) := dk_167 0 7 (dk_at dksJ5_rightOf_0 5 rfl rfl)
theorem dJ5_rightOf_8 : decode cJ5_rightOf 8 = .ok (.aload_n 0, 1) := dk_42 (dk_at dksJ5_rightOf_0 8 rfl rfl)
theorem dJ5_rightOf_9 : decode cJ5_rightOf 9 = .ok (.getfield 114, 3) := dk_180 0 114 (dk_at dksJ5_rightOf_0 9 rfl rfl)
theorem dJ5_rightOf_12 : decode cJ5_rightOf 12 = .ok (.areturn, 1) := dk_176 (dk_at dksJ5_rightOf_0 12 rfl rfl)
abbrev cJ5_colorOf : ByteArray := prog_61_method_76_code
def yJ5_colorOf : MethodName := ⟨RJ5, "colorOf", "(Ljava/util/TreeMap$Entry;)Z"⟩
def dkwJ5_colorOf_0 : List UInt8 := [42, 199, 0, 7, 4, 167, 0, 7, 42, 180, 1, 34, 172]
abbrev dktJ5_colorOf_0 : List UInt8 := dkwJ5_colorOf_0 ++ []
theorem dksJ5_colorOf_0 : cJ5_colorOf.data.toList.drop 0 = dktJ5_colorOf_0 := by decide +kernel
theorem dJ5_colorOf_0 : decode cJ5_colorOf 0 = .ok (.aload_n 0, 1) := dk_42 (dk_at dksJ5_colorOf_0 0 rfl rfl)
theorem dJ5_colorOf_1 : decode cJ5_colorOf 1 = .ok (.ifnonnull 7, 3) := dk_199 0 7 (dk_at dksJ5_colorOf_0 1 rfl rfl)
theorem dJ5_colorOf_4 : decode cJ5_colorOf 4 = .ok (.iconst 1, 1) := dk_4 (dk_at dksJ5_colorOf_0 4 rfl rfl)
theorem dJ5_colorOf_5 : decode cJ5_colorOf 5 = .ok (.goto 7, 3) := dk_167 0 7 (dk_at dksJ5_colorOf_0 5 rfl rfl)
theorem dJ5_colorOf_8 : decode cJ5_colorOf 8 = .ok (.aload_n 0, 1) := dk_42 (dk_at dksJ5_colorOf_0 8 rfl rfl)
theorem dJ5_colorOf_9 : decode cJ5_colorOf 9 = .ok (.getfield 290, 3) := dk_180 1 34 (dk_at dksJ5_colorOf_0 9 rfl rfl)
theorem dJ5_colorOf_12 : decode cJ5_colorOf 12 = .ok (.ireturn, 1) := dk_172 (dk_at dksJ5_colorOf_0 12 rfl rfl)
abbrev cJ5_setColor : ByteArray := prog_61_method_78_code
def yJ5_setColor : MethodName := ⟨RJ5, "setColo\x72", "(Ljava/util/TreeMap$Entry;Z)V"⟩
def dkwJ5_setColor_0 : List UInt8 := [42, 198, 0, 8, 42, 27, 181, 1, 34, 177]
abbrev dktJ5_setColor_0 : List UInt8 := dkwJ5_setColor_0 ++ []
theorem dksJ5_setColor_0 : cJ5_setColor.data.toList.drop 0 = dktJ5_setColor_0 := by decide +kernel
theorem dJ5_setColor_0 : decode cJ5_setColor 0 = .ok (.aload_n 0, 1) := dk_42 (dk_at dksJ5_setColor_0 0 rfl rfl)
theorem dJ5_setColor_1 : decode cJ5_setColor 1 = .ok (.ifnull 8, 3) := dk_198 0 8 (dk_at dksJ5_setColor_0 1 rfl rfl)
theorem dJ5_setColor_4 : decode cJ5_setColor 4 = .ok (.aload_n 0, 1) := dk_42 (dk_at dksJ5_setColor_0 4 rfl rfl)
theorem dJ5_setColor_5 : decode cJ5_setColor 5 = .ok (.iload_n 1, 1) := dk_27 (dk_at dksJ5_setColor_0 5 rfl rfl)
theorem dJ5_setColor_6 : decode cJ5_setColor 6 = .ok (.putfield 290, 3) := dk_181 1 34 (dk_at dksJ5_setColor_0 6 rfl rfl)
theorem dJ5_setColor_9 : decode cJ5_setColor 9 = .ok (.return_, 1) := dk_177 (dk_at dksJ5_setColor_0 9 rfl rfl)
abbrev cJ5_rotateLeft : ByteArray := prog_61_method_81_code
def yJ5_rotateLeft : MethodName := ⟨RJ5, "rotateLeft", "(Ljava/util/TreeMap$Entry;)V"⟩
def dkwJ5_rotateLeft_4 : List UInt8 := [177]
abbrev dktJ5_rotateLeft_4 : List UInt8 := dkwJ5_rotateLeft_4 ++ []
def dkwJ5_rotateLeft_3 : List UInt8 := [181, 0, 111, 167, 0, 11, 43, 180, 0, 124, 44, 181, 0, 114, 44, 43, 181, 0, 111, 43, 44, 181, 0, 124]
abbrev dktJ5_rotateLeft_3 : List UInt8 := dkwJ5_rotateLeft_3 ++ dktJ5_rotateLeft_4
def dkwJ5_rotateLeft_2 : List UInt8 := [44, 181, 0, 101, 167, 0, 33, 43, 180, 0, 124, 180, 0, 111, 43, 166, 0, 14, 43, 180, 0, 124, 44]
abbrev dktJ5_rotateLeft_2 : List UInt8 := dkwJ5_rotateLeft_2 ++ dktJ5_rotateLeft_3
def dkwJ5_rotateLeft_1 : List UInt8 := [44, 180, 0, 111, 43, 181, 0, 124, 44, 43, 180, 0, 124, 181, 0, 124, 43, 180, 0, 124, 199, 0, 11, 42]
abbrev dktJ5_rotateLeft_1 : List UInt8 := dkwJ5_rotateLeft_1 ++ dktJ5_rotateLeft_2
def dkwJ5_rotateLeft_0 : List UInt8 := [43, 198, 0, 94, 43, 180, 0, 114, 77, 43, 44, 180, 0, 111, 181, 0, 114, 44, 180, 0, 111, 198, 0, 11]
abbrev dktJ5_rotateLeft_0 : List UInt8 := dkwJ5_rotateLeft_0 ++ dktJ5_rotateLeft_1
theorem dksJ5_rotateLeft_0 : cJ5_rotateLeft.data.toList.drop 0 = dktJ5_rotateLeft_0 := by decide +kernel
theorem dksJ5_rotateLeft_1 : cJ5_rotateLeft.data.toList.drop 24 = dktJ5_rotateLeft_1 := dk_seg dksJ5_rotateLeft_0 24 rfl rfl
theorem dksJ5_rotateLeft_2 : cJ5_rotateLeft.data.toList.drop 48 = dktJ5_rotateLeft_2 := dk_seg dksJ5_rotateLeft_1 24 rfl rfl
theorem dksJ5_rotateLeft_3 : cJ5_rotateLeft.data.toList.drop 71 = dktJ5_rotateLeft_3 := dk_seg dksJ5_rotateLeft_2 23 rfl rfl
theorem dksJ5_rotateLeft_4 : cJ5_rotateLeft.data.toList.drop 95 = dktJ5_rotateLeft_4 := dk_seg dksJ5_rotateLeft_3 24 rfl rfl
theorem dJ5_rotateLeft_0 : decode cJ5_rotateLeft 0 = .ok (.aload_n 1, 1) := dk_43 (dk_at dksJ5_rotateLeft_0 0 rfl rfl)
theorem dJ5_rotateLeft_1 : decode cJ5_rotateLeft 1 = .ok (.ifnull 94, 3) := dk_198 0 94 (dk_at dksJ5_rotateLeft_0 1 rfl rfl)
theorem dJ5_rotateLeft_4 : decode cJ5_rotateLeft 4 = .ok (.aload_n 1, 1) := dk_43 (dk_at dksJ5_rotateLeft_0 4 rfl rfl)
theorem dJ5_rotateLeft_5 : decode cJ5_rotateLeft 5 = .ok (.getfield 114, 3) := dk_180 0 114 (dk_at dksJ5_rotateLeft_0 5 rfl rfl)
theorem dJ5_rotateLeft_8 : decode cJ5_rotateLeft 8 = .ok (.astore_n 2, 1) := dk_77 (dk_at dksJ5_rotateLeft_0 8 rfl rfl)
theorem dJ5_rotateLeft_9 : decode cJ5_rotateLeft 9 = .ok (.aload_n 1, 1) := dk_43 (dk_at dksJ5_rotateLeft_0 9 rfl rfl)
theorem dJ5_rotateLeft_10 : decode cJ5_rotateLeft 10 = .ok (.aload_n 2, 1) := dk_44 (dk_at dksJ5_rotateLeft_0 10 rfl rfl)
theorem dJ5_rotateLeft_11 : decode cJ5_rotateLeft 11 = .ok (.getfield 111, 3) := dk_180 0 111 (dk_at dksJ5_rotateLeft_0 11 rfl rfl)
theorem dJ5_rotateLeft_14 : decode cJ5_rotateLeft 14 = .ok (.putfield 114, 3) := dk_181 0 114 (dk_at dksJ5_rotateLeft_0 14 rfl rfl)
theorem dJ5_rotateLeft_17 : decode cJ5_rotateLeft 17 = .ok (.aload_n 2, 1) := dk_44 (dk_at dksJ5_rotateLeft_0 17 rfl rfl)
theorem dJ5_rotateLeft_18 : decode cJ5_rotateLeft 18 = .ok (.getfield 111, 3) := dk_180 0 111 (dk_at dksJ5_rotateLeft_0 18 rfl rfl)
theorem dJ5_rotateLeft_21 : decode cJ5_rotateLeft 21 = .ok (.ifnull 11, 3) := dk_198 0 11 (dk_at dksJ5_rotateLeft_0 21 rfl rfl)
theorem dJ5_rotateLeft_24 : decode cJ5_rotateLeft 24 = .ok (.aload_n 2, 1) := dk_44 (dk_at dksJ5_rotateLeft_1 0 rfl rfl)
theorem dJ5_rotateLeft_25 : decode cJ5_rotateLeft 25 = .ok (.getfield 111, 3) := dk_180 0 111 (dk_at dksJ5_rotateLeft_1 1 rfl rfl)
theorem dJ5_rotateLeft_28 : decode cJ5_rotateLeft 28 = .ok (.aload_n 1, 1) := dk_43 (dk_at dksJ5_rotateLeft_1 4 rfl rfl)
theorem dJ5_rotateLeft_29 : decode cJ5_rotateLeft 29 = .ok (.putfield 124, 3) := dk_181 0 124 (dk_at dksJ5_rotateLeft_1 5 rfl rfl)
theorem dJ5_rotateLeft_32 : decode cJ5_rotateLeft 32 = .ok (.aload_n 2, 1) := dk_44 (dk_at dksJ5_rotateLeft_1 8 rfl rfl)
theorem dJ5_rotateLeft_33 : decode cJ5_rotateLeft 33 = .ok (.aload_n 1, 1) := dk_43 (dk_at dksJ5_rotateLeft_1 9 rfl rfl)
theorem dJ5_rotateLeft_34 : decode cJ5_rotateLeft 34 = .ok (.getfield 124, 3) := dk_180 0 124 (dk_at dksJ5_rotateLeft_1 10 rfl rfl)
theorem dJ5_rotateLeft_37 : decode cJ5_rotateLeft 37 = .ok (.putfield 124, 3) := dk_181 0 124 (dk_at dksJ5_rotateLeft_1 13 rfl rfl)
theorem dJ5_rotateLeft_40 : decode cJ5_rotateLeft 40 = .ok (.aload_n 1, 1) := dk_43 (dk_at dksJ5_rotateLeft_1 16 rfl rfl)
theorem dJ5_rotateLeft_41 : decode cJ5_rotateLeft 41 = .ok (.getfield 124, 3) := dk_180 0 124 (dk_at dksJ5_rotateLeft_1 17 rfl rfl)
theorem dJ5_rotateLeft_44 : decode cJ5_rotateLeft 44 = .ok (.ifnonnull 11, 3) := dk_199 0 11 (dk_at dksJ5_rotateLeft_1 20 rfl rfl)
theorem dJ5_rotateLeft_47 : decode cJ5_rotateLeft 47 = .ok (.aload_n 0, 1) := dk_42 (dk_at dksJ5_rotateLeft_1 23 rfl rfl)
theorem dJ5_rotateLeft_48 : decode cJ5_rotateLeft 48 = .ok (.aload_n 2, 1) := dk_44 (dk_at dksJ5_rotateLeft_2 0 rfl rfl)
theorem dJ5_rotateLeft_49 : decode cJ5_rotateLeft 49 = .ok (.putfield 101, 3) := dk_181 0 101 (dk_at dksJ5_rotateLeft_2 1 rfl rfl)
theorem dJ5_rotateLeft_52 : decode cJ5_rotateLeft 52 = .ok (.goto 33, 3) := dk_167 0 33 (dk_at dksJ5_rotateLeft_2 4 rfl rfl)
theorem dJ5_rotateLeft_55 : decode cJ5_rotateLeft 55 = .ok (.aload_n 1, 1) := dk_43 (dk_at dksJ5_rotateLeft_2 7 rfl rfl)
theorem dJ5_rotateLeft_56 : decode cJ5_rotateLeft 56 = .ok (.getfield 124, 3) := dk_180 0 124 (dk_at dksJ5_rotateLeft_2 8 rfl rfl)
theorem dJ5_rotateLeft_59 : decode cJ5_rotateLeft 59 = .ok (.getfield 111, 3) := dk_180 0 111 (dk_at dksJ5_rotateLeft_2 11 rfl rfl)
theorem dJ5_rotateLeft_62 : decode cJ5_rotateLeft 62 = .ok (.aload_n 1, 1) := dk_43 (dk_at dksJ5_rotateLeft_2 14 rfl rfl)
theorem dJ5_rotateLeft_63 : decode cJ5_rotateLeft 63 = .ok (.if_acmp .ne 14, 3) := dk_166 0 14 (dk_at dksJ5_rotateLeft_2 15 rfl rfl)
theorem dJ5_rotateLeft_66 : decode cJ5_rotateLeft 66 = .ok (.aload_n 1, 1) := dk_43 (dk_at dksJ5_rotateLeft_2 18 rfl rfl)
theorem dJ5_rotateLeft_67 : decode cJ5_rotateLeft 67 = .ok (.getfield 124, 3) := dk_180 0 124 (dk_at dksJ5_rotateLeft_2 19 rfl rfl)
theorem dJ5_rotateLeft_70 : decode cJ5_rotateLeft 70 = .ok (.aload_n 2, 1) := dk_44 (dk_at dksJ5_rotateLeft_2 22 rfl rfl)
theorem dJ5_rotateLeft_71 : decode cJ5_rotateLeft 71 = .ok (.putfield 111, 3) := dk_181 0 111 (dk_at dksJ5_rotateLeft_3 0 rfl rfl)
theorem dJ5_rotateLeft_74 : decode cJ5_rotateLeft 74 = .ok (.goto 11, 3) := dk_167 0 11 (dk_at dksJ5_rotateLeft_3 3 rfl rfl)
theorem dJ5_rotateLeft_77 : decode cJ5_rotateLeft 77 = .ok (.aload_n 1, 1) := dk_43 (dk_at dksJ5_rotateLeft_3 6 rfl rfl)
theorem dJ5_rotateLeft_78 : decode cJ5_rotateLeft 78 = .ok (.getfield 124, 3) := dk_180 0 124 (dk_at dksJ5_rotateLeft_3 7 rfl rfl)
theorem dJ5_rotateLeft_81 : decode cJ5_rotateLeft 81 = .ok (.aload_n 2, 1) := dk_44 (dk_at dksJ5_rotateLeft_3 10 rfl rfl)
theorem dJ5_rotateLeft_82 : decode cJ5_rotateLeft 82 = .ok (.putfield 114, 3) := dk_181 0 114 (dk_at dksJ5_rotateLeft_3 11 rfl rfl)
theorem dJ5_rotateLeft_85 : decode cJ5_rotateLeft 85 = .ok (.aload_n 2, 1) := dk_44 (dk_at dksJ5_rotateLeft_3 14 rfl rfl)
theorem dJ5_rotateLeft_86 : decode cJ5_rotateLeft 86 = .ok (.aload_n 1, 1) := dk_43 (dk_at dksJ5_rotateLeft_3 15 rfl rfl)
theorem dJ5_rotateLeft_87 : decode cJ5_rotateLeft 87 = .ok (.putfield 111, 3) := dk_181 0 111 (dk_at dksJ5_rotateLeft_3 16 rfl rfl)
theorem dJ5_rotateLeft_90 : decode cJ5_rotateLeft 90 = .ok (.aload_n 1, 1) := dk_43 (dk_at dksJ5_rotateLeft_3 19 rfl rfl)
theorem dJ5_rotateLeft_91 : decode cJ5_rotateLeft 91 = .ok (.aload_n 2, 1) := dk_44 (dk_at dksJ5_rotateLeft_3 20 rfl rfl)
theorem dJ5_rotateLeft_92 : decode cJ5_rotateLeft 92 = .ok (.putfield 124, 3) := dk_181 0 124 (dk_at dksJ5_rotateLeft_3 21 rfl rfl)
theorem dJ5_rotateLeft_95 : decode cJ5_rotateLeft 95 = .ok (.return_, 1) := dk_177 (dk_at dksJ5_rotateLeft_4 0 rfl rfl)
abbrev cJ5_rotateRight : ByteArray := prog_61_method_82_code
def yJ5_rotateRight : MethodName := ⟨RJ5, "rotateRight", "(Ljava/util/TreeMap$Entry;)V"⟩
def dkwJ5_rotateRight_4 : List UInt8 := [177]
abbrev dktJ5_rotateRight_4 : List UInt8 := dkwJ5_rotateRight_4 ++ []
def dkwJ5_rotateRight_3 : List UInt8 := [181, 0, 114, 167, 0, 11, 43, 180, 0, 124, 44, 181, 0, 111, 44, 43, 181, 0, 114, 43, 44, 181, 0, 124]
abbrev dktJ5_rotateRight_3 : List UInt8 := dkwJ5_rotateRight_3 ++ dktJ5_rotateRight_4
def dkwJ5_rotateRight_2 : List UInt8 := [44, 181, 0, 101, 167, 0, 33, 43, 180, 0, 124, 180, 0, 114, 43, 166, 0, 14, 43, 180, 0, 124, 44]
abbrev dktJ5_rotateRight_2 : List UInt8 := dkwJ5_rotateRight_2 ++ dktJ5_rotateRight_3
def dkwJ5_rotateRight_1 : List UInt8 := [44, 180, 0, 114, 43, 181, 0, 124, 44, 43, 180, 0, 124, 181, 0, 124, 43, 180, 0, 124, 199, 0, 11, 42]
abbrev dktJ5_rotateRight_1 : List UInt8 := dkwJ5_rotateRight_1 ++ dktJ5_rotateRight_2
def dkwJ5_rotateRight_0 : List UInt8 := [43, 198, 0, 94, 43, 180, 0, 111, 77, 43, 44, 180, 0, 114, 181, 0, 111, 44, 180, 0, 114, 198, 0, 11]
abbrev dktJ5_rotateRight_0 : List UInt8 := dkwJ5_rotateRight_0 ++ dktJ5_rotateRight_1
theorem dksJ5_rotateRight_0 : cJ5_rotateRight.data.toList.drop 0 = dktJ5_rotateRight_0 := by decide +kernel
theorem dksJ5_rotateRight_1 : cJ5_rotateRight.data.toList.drop 24 = dktJ5_rotateRight_1 := dk_seg dksJ5_rotateRight_0 24 rfl rfl
theorem dksJ5_rotateRight_2 : cJ5_rotateRight.data.toList.drop 48 = dktJ5_rotateRight_2 := dk_seg dksJ5_rotateRight_1 24 rfl rfl
theorem dksJ5_rotateRight_3 : cJ5_rotateRight.data.toList.drop 71 = dktJ5_rotateRight_3 := dk_seg dksJ5_rotateRight_2 23 rfl rfl
theorem dksJ5_rotateRight_4 : cJ5_rotateRight.data.toList.drop 95 = dktJ5_rotateRight_4 := dk_seg dksJ5_rotateRight_3 24 rfl rfl
theorem dJ5_rotateRight_0 : decode cJ5_rotateRight 0 = .ok (.aload_n 1, 1) := dk_43 (dk_at dksJ5_rotateRight_0 0 rfl rfl)
theorem dJ5_rotateRight_1 : decode cJ5_rotateRight 1 = .ok (.ifnull 94, 3) := dk_198 0 94 (dk_at dksJ5_rotateRight_0 1 rfl rfl)
theorem dJ5_rotateRight_4 : decode cJ5_rotateRight 4 = .ok (.aload_n 1, 1) := dk_43 (dk_at dksJ5_rotateRight_0 4 rfl rfl)
theorem dJ5_rotateRight_5 : decode cJ5_rotateRight 5 = .ok (.getfield 111, 3) := dk_180 0 111 (dk_at dksJ5_rotateRight_0 5 rfl rfl)
theorem dJ5_rotateRight_8 : decode cJ5_rotateRight 8 = .ok (.astore_n 2, 1) := dk_77 (dk_at dksJ5_rotateRight_0 8 rfl rfl)
theorem dJ5_rotateRight_9 : decode cJ5_rotateRight 9 = .ok (.aload_n 1, 1) := dk_43 (dk_at dksJ5_rotateRight_0 9 rfl rfl)
theorem dJ5_rotateRight_10 : decode cJ5_rotateRight 10 = .ok (.aload_n 2, 1) := dk_44 (dk_at dksJ5_rotateRight_0 10 rfl rfl)
theorem dJ5_rotateRight_11 : decode cJ5_rotateRight 11 = .ok (.getfield 114, 3) := dk_180 0 114 (dk_at dksJ5_rotateRight_0 11 rfl rfl)
theorem dJ5_rotateRight_14 : decode cJ5_rotateRight 14 = .ok (.putfield 111, 3) := dk_181 0 111 (dk_at dksJ5_rotateRight_0 14 rfl rfl)
theorem dJ5_rotateRight_17 : decode cJ5_rotateRight 17 = .ok (.aload_n 2, 1) := dk_44 (dk_at dksJ5_rotateRight_0 17 rfl rfl)
theorem dJ5_rotateRight_18 : decode cJ5_rotateRight 18 = .ok (.getfield 114, 3) := dk_180 0 114 (dk_at dksJ5_rotateRight_0 18 rfl rfl)
theorem dJ5_rotateRight_21 : decode cJ5_rotateRight 21 = .ok (.ifnull 11, 3) := dk_198 0 11 (dk_at dksJ5_rotateRight_0 21 rfl rfl)
theorem dJ5_rotateRight_24 : decode cJ5_rotateRight 24 = .ok (.aload_n 2, 1) := dk_44 (dk_at dksJ5_rotateRight_1 0 rfl rfl)
theorem dJ5_rotateRight_25 : decode cJ5_rotateRight 25 = .ok (.getfield 114, 3) := dk_180 0 114 (dk_at dksJ5_rotateRight_1 1 rfl rfl)
theorem dJ5_rotateRight_28 : decode cJ5_rotateRight 28 = .ok (.aload_n 1, 1) := dk_43 (dk_at dksJ5_rotateRight_1 4 rfl rfl)
theorem dJ5_rotateRight_29 : decode cJ5_rotateRight 29 = .ok (.putfield 124, 3) := dk_181 0 124 (dk_at dksJ5_rotateRight_1 5 rfl rfl)
theorem dJ5_rotateRight_32 : decode cJ5_rotateRight 32 = .ok (.aload_n 2, 1) := dk_44 (dk_at dksJ5_rotateRight_1 8 rfl rfl)
theorem dJ5_rotateRight_33 : decode cJ5_rotateRight 33 = .ok (.aload_n 1, 1) := dk_43 (dk_at dksJ5_rotateRight_1 9 rfl rfl)
theorem dJ5_rotateRight_34 : decode cJ5_rotateRight 34 = .ok (.getfield 124, 3) := dk_180 0 124 (dk_at dksJ5_rotateRight_1 10 rfl rfl)
theorem dJ5_rotateRight_37 : decode cJ5_rotateRight 37 = .ok (.putfield 124, 3) := dk_181 0 124 (dk_at dksJ5_rotateRight_1 13 rfl rfl)
theorem dJ5_rotateRight_40 : decode cJ5_rotateRight 40 = .ok (.aload_n 1, 1) := dk_43 (dk_at dksJ5_rotateRight_1 16 rfl rfl)
theorem dJ5_rotateRight_41 : decode cJ5_rotateRight 41 = .ok (.getfield 124, 3) := dk_180 0 124 (dk_at dksJ5_rotateRight_1 17 rfl rfl)
theorem dJ5_rotateRight_44 : decode cJ5_rotateRight 44 = .ok (.ifnonnull 11, 3) := dk_199 0 11 (dk_at dksJ5_rotateRight_1 20 rfl rfl)
theorem dJ5_rotateRight_47 : decode cJ5_rotateRight 47 = .ok (.aload_n 0, 1) := dk_42 (dk_at dksJ5_rotateRight_1 23 rfl rfl)
theorem dJ5_rotateRight_48 : decode cJ5_rotateRight 48 = .ok (.aload_n 2, 1) := dk_44 (dk_at dksJ5_rotateRight_2 0 rfl rfl)
theorem dJ5_rotateRight_49 : decode cJ5_rotateRight 49 = .ok (.putfield 101, 3) := dk_181 0 101 (dk_at dksJ5_rotateRight_2 1 rfl rfl)
theorem dJ5_rotateRight_52 : decode cJ5_rotateRight 52 = .ok (.goto 33, 3) := dk_167 0 33 (dk_at dksJ5_rotateRight_2 4 rfl rfl)
theorem dJ5_rotateRight_55 : decode cJ5_rotateRight 55 = .ok (.aload_n 1, 1) := dk_43 (dk_at dksJ5_rotateRight_2 7 rfl rfl)
theorem dJ5_rotateRight_56 : decode cJ5_rotateRight 56 = .ok (.getfield 124, 3) := dk_180 0 124 (dk_at dksJ5_rotateRight_2 8 rfl rfl)
theorem dJ5_rotateRight_59 : decode cJ5_rotateRight 59 = .ok (.getfield 114, 3) := dk_180 0 114 (dk_at dksJ5_rotateRight_2 11 rfl rfl)
theorem dJ5_rotateRight_62 : decode cJ5_rotateRight 62 = .ok (.aload_n 1, 1) := dk_43 (dk_at dksJ5_rotateRight_2 14 rfl rfl)
theorem dJ5_rotateRight_63 : decode cJ5_rotateRight 63 = .ok (.if_acmp .ne 14, 3) := dk_166 0 14 (dk_at dksJ5_rotateRight_2 15 rfl rfl)
theorem dJ5_rotateRight_66 : decode cJ5_rotateRight 66 = .ok (.aload_n 1, 1) := dk_43 (dk_at dksJ5_rotateRight_2 18 rfl rfl)
theorem dJ5_rotateRight_67 : decode cJ5_rotateRight 67 = .ok (.getfield 124, 3) := dk_180 0 124 (dk_at dksJ5_rotateRight_2 19 rfl rfl)
theorem dJ5_rotateRight_70 : decode cJ5_rotateRight 70 = .ok (.aload_n 2, 1) := dk_44 (dk_at dksJ5_rotateRight_2 22 rfl rfl)
theorem dJ5_rotateRight_71 : decode cJ5_rotateRight 71 = .ok (.putfield 114, 3) := dk_181 0 114 (dk_at dksJ5_rotateRight_3 0 rfl rfl)
theorem dJ5_rotateRight_74 : decode cJ5_rotateRight 74 = .ok (.goto 11, 3) := dk_167 0 11 (dk_at dksJ5_rotateRight_3 3 rfl rfl)
theorem dJ5_rotateRight_77 : decode cJ5_rotateRight 77 = .ok (.aload_n 1, 1) := dk_43 (dk_at dksJ5_rotateRight_3 6 rfl rfl)
theorem dJ5_rotateRight_78 : decode cJ5_rotateRight 78 = .ok (.getfield 124, 3) := dk_180 0 124 (dk_at dksJ5_rotateRight_3 7 rfl rfl)
theorem dJ5_rotateRight_81 : decode cJ5_rotateRight 81 = .ok (.aload_n 2, 1) := dk_44 (dk_at dksJ5_rotateRight_3 10 rfl rfl)
theorem dJ5_rotateRight_82 : decode cJ5_rotateRight 82 = .ok (.putfield 111, 3) := dk_181 0 111 (dk_at dksJ5_rotateRight_3 11 rfl rfl)
theorem dJ5_rotateRight_85 : decode cJ5_rotateRight 85 = .ok (.aload_n 2, 1) := dk_44 (dk_at dksJ5_rotateRight_3 14 rfl rfl)
theorem dJ5_rotateRight_86 : decode cJ5_rotateRight 86 = .ok (.aload_n 1, 1) := dk_43 (dk_at dksJ5_rotateRight_3 15 rfl rfl)
theorem dJ5_rotateRight_87 : decode cJ5_rotateRight 87 = .ok (.putfield 114, 3) := dk_181 0 114 (dk_at dksJ5_rotateRight_3 16 rfl rfl)
theorem dJ5_rotateRight_90 : decode cJ5_rotateRight 90 = .ok (.aload_n 1, 1) := dk_43 (dk_at dksJ5_rotateRight_3 19 rfl rfl)
theorem dJ5_rotateRight_91 : decode cJ5_rotateRight 91 = .ok (.aload_n 2, 1) := dk_44 (dk_at dksJ5_rotateRight_3 20 rfl rfl)
theorem dJ5_rotateRight_92 : decode cJ5_rotateRight 92 = .ok (.putfield 124, 3) := dk_181 0 124 (dk_at dksJ5_rotateRight_3 21 rfl rfl)
theorem dJ5_rotateRight_95 : decode cJ5_rotateRight 95 = .ok (.return_, 1) := dk_177 (dk_at dksJ5_rotateRight_4 0 rfl rfl)
abbrev cJ5_navigableKeySet : ByteArray := prog_61_method_50_code
def yJ5_navigableKeySet : MethodName := ⟨RJ5, "navigableKeySet", "()Ljava/util/NavigableSet;"⟩
def dkwJ5_navigableKeySet_1 : List UInt8 := [181, 0, 191, 176]
abbrev dktJ5_navigableKeySet_1 : List UInt8 := dkwJ5_navigableKeySet_1 ++ []
def dkwJ5_navigableKeySet_0 : List UInt8 := [42, 180, 0, 191, 76, 43, 198, 0, 7, 43, 167, 0, 16, 42, 187, 0, 222, 89, 42, 183, 0, 224, 90]
abbrev dktJ5_navigableKeySet_0 : List UInt8 := dkwJ5_navigableKeySet_0 ++ dktJ5_navigableKeySet_1
theorem dksJ5_navigableKeySet_0 : cJ5_navigableKeySet.data.toList.drop 0 = dktJ5_navigableKeySet_0 := by decide +kernel
theorem dksJ5_navigableKeySet_1 : cJ5_navigableKeySet.data.toList.drop 23 = dktJ5_navigableKeySet_1 := dk_seg dksJ5_navigableKeySet_0 23 rfl rfl
theorem dJ5_navigableKeySet_0 : decode cJ5_navigableKeySet 0 = .ok (.aload_n 0, 1) := dk_42 (dk_at dksJ5_navigableKeySet_0 0 rfl rfl)
theorem dJ5_navigableKeySet_1 : decode cJ5_navigableKeySet 1 = .ok (.getfield 191, 3) := dk_180 0 191 (dk_at dksJ5_navigableKeySet_0 1 rfl rfl)
theorem dJ5_navigableKeySet_4 : decode cJ5_navigableKeySet 4 = .ok (.astore_n 1, 1) := dk_76 (dk_at dksJ5_navigableKeySet_0 4 rfl rfl)
theorem dJ5_navigableKeySet_5 : decode cJ5_navigableKeySet 5 = .ok (.aload_n 1, 1) := dk_43 (dk_at dksJ5_navigableKeySet_0 5 rfl rfl)
theorem dJ5_navigableKeySet_6 : decode cJ5_navigableKeySet 6 = .ok (.ifnull 7, 3) := dk_198 0 7 (dk_at dksJ5_navigableKeySet_0 6 rfl rfl)
theorem dJ5_navigableKeySet_9 : decode cJ5_navigableKeySet 9 = .ok (.aload_n 1, 1) := dk_43 (dk_at dksJ5_navigableKeySet_0 9 rfl rfl)
theorem dJ5_navigableKeySet_10 : decode cJ5_navigableKeySet 10 = .ok (.goto 16, 3) := dk_167 0 16 (dk_at dksJ5_navigableKeySet_0 10 rfl rfl)
theorem dJ5_navigableKeySet_13 : decode cJ5_navigableKeySet 13 = .ok (.aload_n 0, 1) := dk_42 (dk_at dksJ5_navigableKeySet_0 13 rfl rfl)
theorem dJ5_navigableKeySet_14 : decode cJ5_navigableKeySet 14 = .ok (.new 222, 3) := dk_187 0 222 (dk_at dksJ5_navigableKeySet_0 14 rfl rfl)
theorem dJ5_navigableKeySet_17 : decode cJ5_navigableKeySet 17 = .ok (.dup, 1) := dk_89 (dk_at dksJ5_navigableKeySet_0 17 rfl rfl)
theorem dJ5_navigableKeySet_18 : decode cJ5_navigableKeySet 18 = .ok (.aload_n 0, 1) := dk_42 (dk_at dksJ5_navigableKeySet_0 18 rfl rfl)
theorem dJ5_navigableKeySet_19 : decode cJ5_navigableKeySet 19 = .ok (.invokespecial 224, 3) := dk_183 0 224 (dk_at dksJ5_navigableKeySet_0 19 rfl rfl)
theorem dJ5_navigableKeySet_22 : decode cJ5_navigableKeySet 22 = .ok (.dup_x1, 1) := dk_90 (dk_at dksJ5_navigableKeySet_0 22 rfl rfl)
theorem dJ5_navigableKeySet_23 : decode cJ5_navigableKeySet 23 = .ok (.putfield 191, 3) := dk_181 0 191 (dk_at dksJ5_navigableKeySet_1 0 rfl rfl)
theorem dJ5_navigableKeySet_26 : decode cJ5_navigableKeySet 26 = .ok (.areturn, 1) := dk_176 (dk_at dksJ5_navigableKeySet_1 3 rfl rfl)
abbrev cJ5_keyIterator : ByteArray := prog_61_method_65_code
def yJ5_keyIterator : MethodName := ⟨RJ5, "keyIterato\x72", "()Ljava/util/Iterator;"⟩
def dkwJ5_keyIterator_0 : List UInt8 := [187, 1, 13, 89, 42, 42, 182, 0, 54, 183, 1, 15, 176]
abbrev dktJ5_keyIterator_0 : List UInt8 := dkwJ5_keyIterator_0 ++ []
theorem dksJ5_keyIterator_0 : cJ5_keyIterator.data.toList.drop 0 = dktJ5_keyIterator_0 := by decide +kernel
theorem dJ5_keyIterator_0 : decode cJ5_keyIterator 0 = .ok (.new 269, 3) := dk_187 1 13 (dk_at dksJ5_keyIterator_0 0 rfl rfl)
theorem dJ5_keyIterator_3 : decode cJ5_keyIterator 3 = .ok (.dup, 1) := dk_89 (dk_at dksJ5_keyIterator_0 3 rfl rfl)
theorem dJ5_keyIterator_4 : decode cJ5_keyIterator 4 = .ok (.aload_n 0, 1) := dk_42 (dk_at dksJ5_keyIterator_0 4 rfl rfl)
theorem dJ5_keyIterator_5 : decode cJ5_keyIterator 5 = .ok (.aload_n 0, 1) := dk_42 (dk_at dksJ5_keyIterator_0 5 rfl rfl)
theorem dJ5_keyIterator_6 : decode cJ5_keyIterator 6 = .ok (.invokevirtual 54, 3) := dk_182 0 54 (dk_at dksJ5_keyIterator_0 6 rfl rfl)
theorem dJ5_keyIterator_9 : decode cJ5_keyIterator 9 = .ok (.invokespecial 271, 3) := dk_183 1 15 (dk_at dksJ5_keyIterator_0 9 rfl rfl)
theorem dJ5_keyIterator_12 : decode cJ5_keyIterator 12 = .ok (.areturn, 1) := dk_176 (dk_at dksJ5_keyIterator_0 12 rfl rfl)
abbrev cJ5_getFirstEntry : ByteArray := prog_61_method_72_code
def yJ5_getFirstEntry : MethodName := ⟨RJ5, "getFirstEntry", "()Ljava/util/TreeMap$Entry;"⟩
def dkwJ5_getFirstEntry_1 : List UInt8 := [43, 176]
abbrev dktJ5_getFirstEntry_1 : List UInt8 := dkwJ5_getFirstEntry_1 ++ []
def dkwJ5_getFirstEntry_0 : List UInt8 := [42, 180, 0, 101, 76, 43, 198, 0, 18, 43, 180, 0, 111, 198, 0, 11, 43, 180, 0, 111, 76, 167, 255, 244]
abbrev dktJ5_getFirstEntry_0 : List UInt8 := dkwJ5_getFirstEntry_0 ++ dktJ5_getFirstEntry_1
theorem dksJ5_getFirstEntry_0 : cJ5_getFirstEntry.data.toList.drop 0 = dktJ5_getFirstEntry_0 := by decide +kernel
theorem dksJ5_getFirstEntry_1 : cJ5_getFirstEntry.data.toList.drop 24 = dktJ5_getFirstEntry_1 := dk_seg dksJ5_getFirstEntry_0 24 rfl rfl
theorem dJ5_getFirstEntry_0 : decode cJ5_getFirstEntry 0 = .ok (.aload_n 0, 1) := dk_42 (dk_at dksJ5_getFirstEntry_0 0 rfl rfl)
theorem dJ5_getFirstEntry_1 : decode cJ5_getFirstEntry 1 = .ok (.getfield 101, 3) := dk_180 0 101 (dk_at dksJ5_getFirstEntry_0 1 rfl rfl)
theorem dJ5_getFirstEntry_4 : decode cJ5_getFirstEntry 4 = .ok (.astore_n 1, 1) := dk_76 (dk_at dksJ5_getFirstEntry_0 4 rfl rfl)
theorem dJ5_getFirstEntry_5 : decode cJ5_getFirstEntry 5 = .ok (.aload_n 1, 1) := dk_43 (dk_at dksJ5_getFirstEntry_0 5 rfl rfl)
theorem dJ5_getFirstEntry_6 : decode cJ5_getFirstEntry 6 = .ok (.ifnull 18, 3) := dk_198 0 18 (dk_at dksJ5_getFirstEntry_0 6 rfl rfl)
theorem dJ5_getFirstEntry_9 : decode cJ5_getFirstEntry 9 = .ok (.aload_n 1, 1) := dk_43 (dk_at dksJ5_getFirstEntry_0 9 rfl rfl)
theorem dJ5_getFirstEntry_10 : decode cJ5_getFirstEntry 10 = .ok (.getfield 111, 3) := dk_180 0 111 (dk_at dksJ5_getFirstEntry_0 10 rfl rfl)
theorem dJ5_getFirstEntry_13 : decode cJ5_getFirstEntry 13 = .ok (.ifnull 11, 3) := dk_198 0 11 (dk_at dksJ5_getFirstEntry_0 13 rfl rfl)
theorem dJ5_getFirstEntry_16 : decode cJ5_getFirstEntry 16 = .ok (.aload_n 1, 1) := dk_43 (dk_at dksJ5_getFirstEntry_0 16 rfl rfl)
theorem dJ5_getFirstEntry_17 : decode cJ5_getFirstEntry 17 = .ok (.getfield 111, 3) := dk_180 0 111 (dk_at dksJ5_getFirstEntry_0 17 rfl rfl)
theorem dJ5_getFirstEntry_20 : decode cJ5_getFirstEntry 20 = .ok (.astore_n 1, 1) := dk_76 (dk_at dksJ5_getFirstEntry_0 20 rfl rfl)
theorem dJ5_getFirstEntry_21 : decode cJ5_getFirstEntry 21 = .ok (.goto (-12), 3) := dk_167 255 244 (dk_at dksJ5_getFirstEntry_0 21 rfl rfl)
theorem dJ5_getFirstEntry_24 : decode cJ5_getFirstEntry 24 = .ok (.aload_n 1, 1) := dk_43 (dk_at dksJ5_getFirstEntry_1 0 rfl rfl)
theorem dJ5_getFirstEntry_25 : decode cJ5_getFirstEntry 25 = .ok (.areturn, 1) := dk_176 (dk_at dksJ5_getFirstEntry_1 1 rfl rfl)
abbrev cJ5_successor : ByteArray := prog_61_method_74_code
def yJ5_successor : MethodName := ⟨RJ5, "successo\x72", "(Ljava/util/TreeMap$Entry;)Ljava/util/TreeMap$Entry;"⟩
def dkwJ5_successor_2 : List UInt8 := [44, 43, 180, 0, 114, 166, 0, 13, 43, 77, 43, 180, 0, 124, 76, 167, 255, 237, 43, 176]
abbrev dktJ5_successor_2 : List UInt8 := dkwJ5_successor_2 ++ []
def dkwJ5_successor_1 : List UInt8 := [198, 0, 11, 43, 180, 0, 111, 76, 167, 255, 244, 43, 176, 42, 180, 0, 124, 76, 42, 77, 43, 198, 0, 21]
abbrev dktJ5_successor_1 : List UInt8 := dkwJ5_successor_1 ++ dktJ5_successor_2
def dkwJ5_successor_0 : List UInt8 := [42, 199, 0, 5, 1, 176, 42, 180, 0, 114, 198, 0, 25, 42, 180, 0, 114, 76, 43, 180, 0, 111]
abbrev dktJ5_successor_0 : List UInt8 := dkwJ5_successor_0 ++ dktJ5_successor_1
theorem dksJ5_successor_0 : cJ5_successor.data.toList.drop 0 = dktJ5_successor_0 := by decide +kernel
theorem dksJ5_successor_1 : cJ5_successor.data.toList.drop 22 = dktJ5_successor_1 := dk_seg dksJ5_successor_0 22 rfl rfl
theorem dksJ5_successor_2 : cJ5_successor.data.toList.drop 46 = dktJ5_successor_2 := dk_seg dksJ5_successor_1 24 rfl rfl
theorem dJ5_successor_0 : decode cJ5_successor 0 = .ok (.aload_n 0, 1) := dk_42 (dk_at dksJ5_successor_0 0 rfl rfl)
theorem dJ5_successor_1 : decode cJ5_successor 1 = .ok (.ifnonnull 5, 3) := dk_199 0 5 (dk_at dksJ5_successor_0 1 rfl rfl)
theorem dJ5_successor_4 : decode cJ5_successor 4 = .ok (.aconst_null, 1) := dk_1 (dk_at dksJ5_successor_0 4 rfl rfl)
theorem dJ5_successor_5 : decode cJ5_successor 5 = .ok (.areturn, 1) := dk_176 (dk_at dksJ5_successor_0 5 rfl rfl)
theorem dJ5_successor_6 : decode cJ5_successor 6 = .ok (.aload_n 0, 1) := dk_42 (dk_at dksJ5_successor_0 6 rfl rfl)
theorem dJ5_successor_7 : decode cJ5_successor 7 = .ok (.getfield 114, 3) := dk_180 0 114 (dk_at dksJ5_successor_0 7 rfl rfl)
theorem dJ5_successor_10 : decode cJ5_successor 10 = .ok (.ifnull 25, 3) := dk_198 0 25 (dk_at dksJ5_successor_0 10 rfl rfl)
theorem dJ5_successor_13 : decode cJ5_successor 13 = .ok (.aload_n 0, 1) := dk_42 (dk_at dksJ5_successor_0 13 rfl rfl)
theorem dJ5_successor_14 : decode cJ5_successor 14 = .ok (.getfield 114, 3) := dk_180 0 114 (dk_at dksJ5_successor_0 14 rfl rfl)
theorem dJ5_successor_17 : decode cJ5_successor 17 = .ok (.astore_n 1, 1) := dk_76 (dk_at dksJ5_successor_0 17 rfl rfl)
theorem dJ5_successor_18 : decode cJ5_successor 18 = .ok (.aload_n 1, 1) := dk_43 (dk_at dksJ5_successor_0 18 rfl rfl)
theorem dJ5_successor_19 : decode cJ5_successor 19 = .ok (.getfield 111, 3) := dk_180 0 111 (dk_at dksJ5_successor_0 19 rfl rfl)
theorem dJ5_successor_22 : decode cJ5_successor 22 = .ok (.ifnull 11, 3) := dk_198 0 11 (dk_at dksJ5_successor_1 0 rfl rfl)
theorem dJ5_successor_25 : decode cJ5_successor 25 = .ok (.aload_n 1, 1) := dk_43 (dk_at dksJ5_successor_1 3 rfl rfl)
theorem dJ5_successor_26 : decode cJ5_successor 26 = .ok (.getfield 111, 3) := dk_180 0 111 (dk_at dksJ5_successor_1 4 rfl rfl)
theorem dJ5_successor_29 : decode cJ5_successor 29 = .ok (.astore_n 1, 1) := dk_76 (dk_at dksJ5_successor_1 7 rfl rfl)
theorem dJ5_successor_30 : decode cJ5_successor 30 = .ok (.goto (-12), 3) := dk_167 255 244 (dk_at dksJ5_successor_1 8 rfl rfl)
theorem dJ5_successor_33 : decode cJ5_successor 33 = .ok (.aload_n 1, 1) := dk_43 (dk_at dksJ5_successor_1 11 rfl rfl)
theorem dJ5_successor_34 : decode cJ5_successor 34 = .ok (.areturn, 1) := dk_176 (dk_at dksJ5_successor_1 12 rfl rfl)
theorem dJ5_successor_35 : decode cJ5_successor 35 = .ok (.aload_n 0, 1) := dk_42 (dk_at dksJ5_successor_1 13 rfl rfl)
theorem dJ5_successor_36 : decode cJ5_successor 36 = .ok (.getfield 124, 3) := dk_180 0 124 (dk_at dksJ5_successor_1 14 rfl rfl)
theorem dJ5_successor_39 : decode cJ5_successor 39 = .ok (.astore_n 1, 1) := dk_76 (dk_at dksJ5_successor_1 17 rfl rfl)
theorem dJ5_successor_40 : decode cJ5_successor 40 = .ok (.aload_n 0, 1) := dk_42 (dk_at dksJ5_successor_1 18 rfl rfl)
theorem dJ5_successor_41 : decode cJ5_successor 41 = .ok (.astore_n 2, 1) := dk_77 (dk_at dksJ5_successor_1 19 rfl rfl)
theorem dJ5_successor_42 : decode cJ5_successor 42 = .ok (.aload_n 1, 1) := dk_43 (dk_at dksJ5_successor_1 20 rfl rfl)
theorem dJ5_successor_43 : decode cJ5_successor 43 = .ok (.ifnull 21, 3) := dk_198 0 21 (dk_at dksJ5_successor_1 21 rfl rfl)
theorem dJ5_successor_46 : decode cJ5_successor 46 = .ok (.aload_n 2, 1) := dk_44 (dk_at dksJ5_successor_2 0 rfl rfl)
theorem dJ5_successor_47 : decode cJ5_successor 47 = .ok (.aload_n 1, 1) := dk_43 (dk_at dksJ5_successor_2 1 rfl rfl)
theorem dJ5_successor_48 : decode cJ5_successor 48 = .ok (.getfield 114, 3) := dk_180 0 114 (dk_at dksJ5_successor_2 2 rfl rfl)
theorem dJ5_successor_51 : decode cJ5_successor 51 = .ok (.if_acmp .ne 13, 3) := dk_166 0 13 (dk_at dksJ5_successor_2 5 rfl rfl)
theorem dJ5_successor_54 : decode cJ5_successor 54 = .ok (.aload_n 1, 1) := dk_43 (dk_at dksJ5_successor_2 8 rfl rfl)
theorem dJ5_successor_55 : decode cJ5_successor 55 = .ok (.astore_n 2, 1) := dk_77 (dk_at dksJ5_successor_2 9 rfl rfl)
theorem dJ5_successor_56 : decode cJ5_successor 56 = .ok (.aload_n 1, 1) := dk_43 (dk_at dksJ5_successor_2 10 rfl rfl)
theorem dJ5_successor_57 : decode cJ5_successor 57 = .ok (.getfield 124, 3) := dk_180 0 124 (dk_at dksJ5_successor_2 11 rfl rfl)
theorem dJ5_successor_60 : decode cJ5_successor 60 = .ok (.astore_n 1, 1) := dk_76 (dk_at dksJ5_successor_2 14 rfl rfl)
theorem dJ5_successor_61 : decode cJ5_successor 61 = .ok (.goto (-19), 3) := dk_167 255 237 (dk_at dksJ5_successor_2 15 rfl rfl)
theorem dJ5_successor_64 : decode cJ5_successor 64 = .ok (.aload_n 1, 1) := dk_43 (dk_at dksJ5_successor_2 18 rfl rfl)
theorem dJ5_successor_65 : decode cJ5_successor 65 = .ok (.areturn, 1) := dk_176 (dk_at dksJ5_successor_2 19 rfl rfl)
abbrev cJ5_keySet : ByteArray := prog_61_method_49_code
def yJ5_keySet : MethodName := ⟨RJ5, "keySet", "()Ljava/util/Set;"⟩
theorem dJ5_keySet_0 : decode cJ5_keySet 0 = .ok (.aload_n 0, 1) := by decide +kernel
theorem dJ5_keySet_1 : decode cJ5_keySet 1 = .ok (.invokevirtual 219, 3) := by decide +kernel
theorem dJ5_keySet_4 : decode cJ5_keySet 4 = .ok (.areturn, 1) := by decide +kernel
abbrev cJ5_get : ByteArray := prog_61_method_8_code
def yJ5_get : MethodName := ⟨RJ5, "get", "(Ljava/lang/Object;)Ljava/lang/Object;"⟩
def dkwJ5_get_0 : List UInt8 := [42, 43, 182, 0, 50, 77, 44, 199, 0, 7, 1, 167, 0, 7, 44, 180, 0, 58, 176]
abbrev dktJ5_get_0 : List UInt8 := dkwJ5_get_0 ++ []
theorem dksJ5_get_0 : cJ5_get.data.toList.drop 0 = dktJ5_get_0 := by decide +kernel
theorem dJ5_get_0 : decode cJ5_get 0 = .ok (.aload_n 0, 1) := dk_42 (dk_at dksJ5_get_0 0 rfl rfl)
theorem dJ5_get_1 : decode cJ5_get 1 = .ok (.aload_n 1, 1) := dk_43 (dk_at dksJ5_get_0 1 rfl rfl)
theorem dJ5_get_2 : decode cJ5_get 2 = .ok (.invokevirtual 50, 3) := dk_182 0 50 (dk_at dksJ5_get_0 2 rfl rfl)
theorem dJ5_get_5 : decode cJ5_get 5 = .ok (.astore_n 2, 1) := dk_77 (dk_at dksJ5_get_0 5 rfl rfl)
theorem dJ5_get_6 : decode cJ5_get 6 = .ok (.aload_n 2, 1) := dk_44 (dk_at dksJ5_get_0 6 rfl rfl)
theorem dJ5_get_7 : decode cJ5_get 7 = .ok (.ifnonnull 7, 3) := dk_199 0 7 (dk_at dksJ5_get_0 7 rfl rfl)
theorem dJ5_get_10 : decode cJ5_get 10 = .ok (.aconst_null, 1) := dk_1 (dk_at dksJ5_get_0 10 rfl rfl)
theorem dJ5_get_11 : decode cJ5_get 11 = .ok (.goto 7, 3) := dk_167 0 7 (dk_at dksJ5_get_0 11 rfl rfl)
theorem dJ5_get_14 : decode cJ5_get 14 = .ok (.aload_n 2, 1) := dk_44 (dk_at dksJ5_get_0 14 rfl rfl)
theorem dJ5_get_15 : decode cJ5_get 15 = .ok (.getfield 58, 3) := dk_180 0 58 (dk_at dksJ5_get_0 15 rfl rfl)
theorem dJ5_get_18 : decode cJ5_get 18 = .ok (.areturn, 1) := dk_176 (dk_at dksJ5_get_0 18 rfl rfl)
abbrev cJ5_getEntry : ByteArray := prog_61_method_15_code
def yJ5_getEntry : MethodName := ⟨RJ5, "getEntry", "(Ljava/lang/Object;)Ljava/util/TreeMap$Entry;"⟩
def dkwJ5_getEntry_3 : List UInt8 := [45, 176, 167, 255, 212, 1, 176]
abbrev dktJ5_getEntry_3 : List UInt8 := dkwJ5_getEntry_3 ++ []
def dkwJ5_getEntry_2 : List UInt8 := [156, 0, 11, 45, 180, 0, 111, 78, 167, 0, 18, 21, 4, 158, 0, 11, 45, 180, 0, 114, 78, 167, 0, 5]
abbrev dktJ5_getEntry_2 : List UInt8 := dkwJ5_getEntry_2 ++ dktJ5_getEntry_3
def dkwJ5_getEntry_1 : List UInt8 := [180, 0, 101, 78, 45, 198, 0, 46, 44, 45, 180, 0, 105, 185, 0, 107, 2, 0, 54, 4, 21, 4]
abbrev dktJ5_getEntry_1 : List UInt8 := dkwJ5_getEntry_1 ++ dktJ5_getEntry_2
def dkwJ5_getEntry_0 : List UInt8 := [42, 180, 0, 16, 198, 0, 9, 42, 43, 182, 0, 92, 176, 43, 184, 0, 95, 87, 43, 192, 0, 99, 77, 42]
abbrev dktJ5_getEntry_0 : List UInt8 := dkwJ5_getEntry_0 ++ dktJ5_getEntry_1
theorem dksJ5_getEntry_0 : cJ5_getEntry.data.toList.drop 0 = dktJ5_getEntry_0 := by decide +kernel
theorem dksJ5_getEntry_1 : cJ5_getEntry.data.toList.drop 24 = dktJ5_getEntry_1 := dk_seg dksJ5_getEntry_0 24 rfl rfl
theorem dksJ5_getEntry_2 : cJ5_getEntry.data.toList.drop 46 = dktJ5_getEntry_2 := dk_seg dksJ5_getEntry_1 22 rfl rfl
theorem dksJ5_getEntry_3 : cJ5_getEntry.data.toList.drop 70 = dktJ5_getEntry_3 := dk_seg dksJ5_getEntry_2 24 rfl rfl
theorem dJ5_getEntry_0 : decode cJ5_getEntry 0 = .ok (.aload_n 0, 1) := dk_42 (dk_at dksJ5_getEntry_0 0 rfl rfl)
theorem dJ5_getEntry_1 : decode cJ5_getEntry 1 = .ok (.getfield 16, 3) := dk_180 0 16 (dk_at dksJ5_getEntry_0 1 rfl rfl)
theorem dJ5_getEntry_4 : decode cJ5_getEntry 4 = .ok (.ifnull 9, 3) := dk_198 0 9 (dk_at dksJ5_getEntry_0 4 rfl rfl)
theorem dJ5_getEntry_7 : decode cJ5_getEntry 7 = .ok (.aload_n 0, 1) := dk_42 (dk_at dksJ5_getEntry_0 7 rfl rfl)
theorem dJ5_getEntry_8 : decode cJ5_getEntry 8 = .ok (.aload_n 1, 1) := dk_43 (dk_at dksJ5_getEntry_0 8 rfl rfl)
theorem dJ5_getEntry_9 : decode cJ5_getEntry 9 = .ok (.invokevirtual 92, 3) := dk_182 0 92 (dk_at dksJ5_getEntry_0 9 rfl rfl)
theorem dJ5_getEntry_12 : decode cJ5_getEntry 12 = .ok (.areturn, 1) := dk_176 (dk_at dksJ5_getEntry_0 12 rfl rfl)
theorem dJ5_getEntry_13 : decode cJ5_getEntry 13 = .ok (.aload_n 1, 1) := dk_43 (dk_at dksJ5_getEntry_0 13 rfl rfl)
theorem dJ5_getEntry_14 : decode cJ5_getEntry 14 = .ok (.invokestatic 95, 3) := dk_184 0 95 (dk_at dksJ5_getEntry_0 14 rfl rfl)
theorem dJ5_getEntry_17 : decode cJ5_getEntry 17 = .ok (.pop, 1) := dk_87 (dk_at dksJ5_getEntry_0 17 rfl rfl)
theorem dJ5_getEntry_18 : decode cJ5_getEntry 18 = .ok (.aload_n 1, 1) := dk_43 (dk_at dksJ5_getEntry_0 18 rfl rfl)
theorem dJ5_getEntry_19 : decode cJ5_getEntry 19 = .ok (.checkcast 99, 3) := dk_192 0 99 (dk_at dksJ5_getEntry_0 19 rfl rfl)
theorem dJ5_getEntry_22 : decode cJ5_getEntry 22 = .ok (.astore_n 2, 1) := dk_77 (dk_at dksJ5_getEntry_0 22 rfl rfl)
theorem dJ5_getEntry_23 : decode cJ5_getEntry 23 = .ok (.aload_n 0, 1) := dk_42 (dk_at dksJ5_getEntry_0 23 rfl rfl)
theorem dJ5_getEntry_24 : decode cJ5_getEntry 24 = .ok (.getfield 101, 3) := dk_180 0 101 (dk_at dksJ5_getEntry_1 0 rfl rfl)
theorem dJ5_getEntry_27 : decode cJ5_getEntry 27 = .ok (.astore_n 3, 1) := dk_78 (dk_at dksJ5_getEntry_1 3 rfl rfl)
theorem dJ5_getEntry_28 : decode cJ5_getEntry 28 = .ok (.aload_n 3, 1) := dk_45 (dk_at dksJ5_getEntry_1 4 rfl rfl)
theorem dJ5_getEntry_29 : decode cJ5_getEntry 29 = .ok (.ifnull 46, 3) := dk_198 0 46 (dk_at dksJ5_getEntry_1 5 rfl rfl)
theorem dJ5_getEntry_32 : decode cJ5_getEntry 32 = .ok (.aload_n 2, 1) := dk_44 (dk_at dksJ5_getEntry_1 8 rfl rfl)
theorem dJ5_getEntry_33 : decode cJ5_getEntry 33 = .ok (.aload_n 3, 1) := dk_45 (dk_at dksJ5_getEntry_1 9 rfl rfl)
theorem dJ5_getEntry_34 : decode cJ5_getEntry 34 = .ok (.getfield 105, 3) := dk_180 0 105 (dk_at dksJ5_getEntry_1 10 rfl rfl)
theorem dJ5_getEntry_37 : decode cJ5_getEntry 37 = .ok (.invokeinterface 107 2, 5) := by decide +kernel
theorem dJ5_getEntry_42 : decode cJ5_getEntry 42 = .ok (.istore 4, 2) := dk_54 4 (dk_at dksJ5_getEntry_1 18 rfl rfl)
theorem dJ5_getEntry_44 : decode cJ5_getEntry 44 = .ok (.iload 4, 2) := dk_21 4 (dk_at dksJ5_getEntry_1 20 rfl rfl)
theorem dJ5_getEntry_46 : decode cJ5_getEntry 46 = .ok (.ifCond .ge 11, 3) := dk_156 0 11 (dk_at dksJ5_getEntry_2 0 rfl rfl)
theorem dJ5_getEntry_49 : decode cJ5_getEntry 49 = .ok (.aload_n 3, 1) := dk_45 (dk_at dksJ5_getEntry_2 3 rfl rfl)
theorem dJ5_getEntry_50 : decode cJ5_getEntry 50 = .ok (.getfield 111, 3) := dk_180 0 111 (dk_at dksJ5_getEntry_2 4 rfl rfl)
theorem dJ5_getEntry_53 : decode cJ5_getEntry 53 = .ok (.astore_n 3, 1) := dk_78 (dk_at dksJ5_getEntry_2 7 rfl rfl)
theorem dJ5_getEntry_54 : decode cJ5_getEntry 54 = .ok (.goto 18, 3) := dk_167 0 18 (dk_at dksJ5_getEntry_2 8 rfl rfl)
theorem dJ5_getEntry_57 : decode cJ5_getEntry 57 = .ok (.iload 4, 2) := dk_21 4 (dk_at dksJ5_getEntry_2 11 rfl rfl)
theorem dJ5_getEntry_59 : decode cJ5_getEntry 59 = .ok (.ifCond .le 11, 3) := dk_158 0 11 (dk_at dksJ5_getEntry_2 13 rfl rfl)
theorem dJ5_getEntry_62 : decode cJ5_getEntry 62 = .ok (.aload_n 3, 1) := dk_45 (dk_at dksJ5_getEntry_2 16 rfl rfl)
theorem dJ5_getEntry_63 : decode cJ5_getEntry 63 = .ok (.getfield 114, 3) := dk_180 0 114 (dk_at dksJ5_getEntry_2 17 rfl rfl)
theorem dJ5_getEntry_66 : decode cJ5_getEntry 66 = .ok (.astore_n 3, 1) := dk_78 (dk_at dksJ5_getEntry_2 20 rfl rfl)
theorem dJ5_getEntry_67 : decode cJ5_getEntry 67 = .ok (.goto 5, 3) := dk_167 0 5 (dk_at dksJ5_getEntry_2 21 rfl rfl)
theorem dJ5_getEntry_70 : decode cJ5_getEntry 70 = .ok (.aload_n 3, 1) := dk_45 (dk_at dksJ5_getEntry_3 0 rfl rfl)
theorem dJ5_getEntry_71 : decode cJ5_getEntry 71 = .ok (.areturn, 1) := dk_176 (dk_at dksJ5_getEntry_3 1 rfl rfl)
theorem dJ5_getEntry_72 : decode cJ5_getEntry 72 = .ok (.goto (-44), 3) := dk_167 255 212 (dk_at dksJ5_getEntry_3 2 rfl rfl)
theorem dJ5_getEntry_75 : decode cJ5_getEntry 75 = .ok (.aconst_null, 1) := dk_1 (dk_at dksJ5_getEntry_3 5 rfl rfl)
theorem dJ5_getEntry_76 : decode cJ5_getEntry 76 = .ok (.areturn, 1) := dk_176 (dk_at dksJ5_getEntry_3 6 rfl rfl)
abbrev cJ5_getEntryUsingComparator : ByteArray := prog_61_method_16_code
def yJ5_getEntryUsingComparator : MethodName := ⟨RJ5, "getEntryUsingComparato\x72", "(Ljava/lang/Object;)Ljava/util/TreeMap$Entry;"⟩
def dkwJ5_getEntryUsingComparator_3 : List UInt8 := [1, 176]
abbrev dktJ5_getEntryUsingComparator_3 : List UInt8 := dkwJ5_getEntryUsingComparator_3 ++ []
def dkwJ5_getEntryUsingComparator_2 : List UInt8 := [167, 0, 21, 21, 5, 158, 0, 13, 25, 4, 180, 0, 114, 58, 4, 167, 0, 6, 25, 4, 176, 167, 255, 204]
abbrev dktJ5_getEntryUsingComparator_2 : List UInt8 := dkwJ5_getEntryUsingComparator_2 ++ dktJ5_getEntryUsingComparator_3
def dkwJ5_getEntryUsingComparator_1 : List UInt8 := [25, 4, 180, 0, 105, 185, 0, 117, 3, 0, 54, 5, 21, 5, 156, 0, 13, 25, 4, 180, 0, 111, 58, 4]
abbrev dktJ5_getEntryUsingComparator_1 : List UInt8 := dkwJ5_getEntryUsingComparator_1 ++ dktJ5_getEntryUsingComparator_2
def dkwJ5_getEntryUsingComparator_0 : List UInt8 := [43, 77, 42, 180, 0, 16, 78, 45, 198, 0, 64, 42, 180, 0, 101, 58, 4, 25, 4, 198, 0, 53, 45, 44]
abbrev dktJ5_getEntryUsingComparator_0 : List UInt8 := dkwJ5_getEntryUsingComparator_0 ++ dktJ5_getEntryUsingComparator_1
theorem dksJ5_getEntryUsingComparator_0 : cJ5_getEntryUsingComparator.data.toList.drop 0 = dktJ5_getEntryUsingComparator_0 := by decide +kernel
theorem dksJ5_getEntryUsingComparator_1 : cJ5_getEntryUsingComparator.data.toList.drop 24 = dktJ5_getEntryUsingComparator_1 := dk_seg dksJ5_getEntryUsingComparator_0 24 rfl rfl
theorem dksJ5_getEntryUsingComparator_2 : cJ5_getEntryUsingComparator.data.toList.drop 48 = dktJ5_getEntryUsingComparator_2 := dk_seg dksJ5_getEntryUsingComparator_1 24 rfl rfl
theorem dksJ5_getEntryUsingComparator_3 : cJ5_getEntryUsingComparator.data.toList.drop 72 = dktJ5_getEntryUsingComparator_3 := dk_seg dksJ5_getEntryUsingComparator_2 24 rfl rfl
theorem dJ5_getEntryUsingComparator_0 : decode cJ5_getEntryUsingComparator 0 = .ok (.aload_n 1, 1) := dk_43 (dk_at dksJ5_getEntryUsingComparator_0 0 rfl rfl)
theorem dJ5_getEntryUsingComparator_1 : decode cJ5_getEntryUsingComparator 1 = .ok (.astore_n 2, 1) := dk_77 (dk_at dksJ5_getEntryUsingComparator_0 1 rfl rfl)
theorem dJ5_getEntryUsingComparator_2 : decode cJ5_getEntryUsingComparator 2 = .ok (.aload_n 0, 1) := dk_42 (dk_at dksJ5_getEntryUsingComparator_0 2 rfl rfl)
theorem dJ5_getEntryUsingComparator_3 : decode cJ5_getEntryUsingComparator 3 = .ok (.getfield 16, 3) := dk_180 0 16 (dk_at dksJ5_getEntryUsingComparator_0 3 rfl rfl)
theorem dJ5_getEntryUsingComparator_6 : decode cJ5_getEntryUsingComparator 6 = .ok (.astore_n 3, 1) := dk_78 (dk_at dksJ5_getEntryUsingComparator_0 6 rfl rfl)
theorem dJ5_getEntryUsingComparator_7 : decode cJ5_getEntryUsingComparator 7 = .ok (.aload_n 3, 1) := dk_45 (dk_at dksJ5_getEntryUsingComparator_0 7 rfl rfl)
theorem dJ5_getEntryUsingComparator_8 : decode cJ5_getEntryUsingComparator 8 = .ok (.ifnull 64, 3) := dk_198 0 64 (dk_at dksJ5_getEntryUsingComparator_0 8 rfl rfl)
theorem dJ5_getEntryUsingComparator_11 : decode cJ5_getEntryUsingComparator 11 = .ok (.aload_n 0, 1) := dk_42 (dk_at dksJ5_getEntryUsingComparator_0 11 rfl rfl)
theorem dJ5_getEntryUsingComparator_12 : decode cJ5_getEntryUsingComparator 12 = .ok (.getfield 101, 3) := dk_180 0 101 (dk_at dksJ5_getEntryUsingComparator_0 12 rfl rfl)
theorem dJ5_getEntryUsingComparator_15 : decode cJ5_getEntryUsingComparator 15 = .ok (.astore 4, 2) := dk_58 4 (dk_at dksJ5_getEntryUsingComparator_0 15 rfl rfl)
theorem dJ5_getEntryUsingComparator_17 : decode cJ5_getEntryUsingComparator 17 = .ok (.aload 4, 2) := dk_25 4 (dk_at dksJ5_getEntryUsingComparator_0 17 rfl rfl)
theorem dJ5_getEntryUsingComparator_19 : decode cJ5_getEntryUsingComparator 19 = .ok (.ifnull 53, 3) := dk_198 0 53 (dk_at dksJ5_getEntryUsingComparator_0 19 rfl rfl)
theorem dJ5_getEntryUsingComparator_22 : decode cJ5_getEntryUsingComparator 22 = .ok (.aload_n 3, 1) := dk_45 (dk_at dksJ5_getEntryUsingComparator_0 22 rfl rfl)
theorem dJ5_getEntryUsingComparator_23 : decode cJ5_getEntryUsingComparator 23 = .ok (.aload_n 2, 1) := dk_44 (dk_at dksJ5_getEntryUsingComparator_0 23 rfl rfl)
theorem dJ5_getEntryUsingComparator_24 : decode cJ5_getEntryUsingComparator 24 = .ok (.aload 4, 2) := dk_25 4 (dk_at dksJ5_getEntryUsingComparator_1 0 rfl rfl)
theorem dJ5_getEntryUsingComparator_26 : decode cJ5_getEntryUsingComparator 26 = .ok (.getfield 105, 3) := dk_180 0 105 (dk_at dksJ5_getEntryUsingComparator_1 2 rfl rfl)
theorem dJ5_getEntryUsingComparator_29 : decode cJ5_getEntryUsingComparator 29 = .ok (.invokeinterface 117 3, 5) := by decide +kernel
theorem dJ5_getEntryUsingComparator_34 : decode cJ5_getEntryUsingComparator 34 = .ok (.istore 5, 2) := dk_54 5 (dk_at dksJ5_getEntryUsingComparator_1 10 rfl rfl)
theorem dJ5_getEntryUsingComparator_36 : decode cJ5_getEntryUsingComparator 36 = .ok (.iload 5, 2) := dk_21 5 (dk_at dksJ5_getEntryUsingComparator_1 12 rfl rfl)
theorem dJ5_getEntryUsingComparator_38 : decode cJ5_getEntryUsingComparator 38 = .ok (.ifCond .ge 13, 3) := dk_156 0 13 (dk_at dksJ5_getEntryUsingComparator_1 14 rfl rfl)
theorem dJ5_getEntryUsingComparator_41 : decode cJ5_getEntryUsingComparator 41 = .ok (.aload 4, 2) := dk_25 4 (dk_at dksJ5_getEntryUsingComparator_1 17 rfl rfl)
theorem dJ5_getEntryUsingComparator_43 : decode cJ5_getEntryUsingComparator 43 = .ok (.getfield 111, 3) := dk_180 0 111 (dk_at dksJ5_getEntryUsingComparator_1 19 rfl rfl)
theorem dJ5_getEntryUsingComparator_46 : decode cJ5_getEntryUsingComparator 46 = .ok (.astore 4, 2) := dk_58 4 (dk_at dksJ5_getEntryUsingComparator_1 22 rfl rfl)
theorem dJ5_getEntryUsingComparator_48 : decode cJ5_getEntryUsingComparator 48 = .ok (.goto 21, 3) := dk_167 0 21 (dk_at dksJ5_getEntryUsingComparator_2 0 rfl rfl)
theorem dJ5_getEntryUsingComparator_51 : decode cJ5_getEntryUsingComparator 51 = .ok (.iload 5, 2) := dk_21 5 (dk_at dksJ5_getEntryUsingComparator_2 3 rfl rfl)
theorem dJ5_getEntryUsingComparator_53 : decode cJ5_getEntryUsingComparator 53 = .ok (.ifCond .le 13, 3) := dk_158 0 13 (dk_at dksJ5_getEntryUsingComparator_2 5 rfl rfl)
theorem dJ5_getEntryUsingComparator_56 : decode cJ5_getEntryUsingComparator 56 = .ok (.aload 4, 2) := dk_25 4 (dk_at dksJ5_getEntryUsingComparator_2 8 rfl rfl)
theorem dJ5_getEntryUsingComparator_58 : decode cJ5_getEntryUsingComparator 58 = .ok (.getfield 114, 3) := dk_180 0 114 (dk_at dksJ5_getEntryUsingComparator_2 10 rfl rfl)
theorem dJ5_getEntryUsingComparator_61 : decode cJ5_getEntryUsingComparator 61 = .ok (.astore 4, 2) := dk_58 4 (dk_at dksJ5_getEntryUsingComparator_2 13 rfl rfl)
theorem dJ5_getEntryUsingComparator_63 : decode cJ5_getEntryUsingComparator 63 = .ok (.goto 6, 3) := dk_167 0 6 (dk_at dksJ5_getEntryUsingComparator_2 15 rfl rfl)
theorem dJ5_getEntryUsingComparator_66 : decode cJ5_getEntryUsingComparator 66 = .ok (.aload 4, 2) := dk_25 4 (dk_at dksJ5_getEntryUsingComparator_2 18 rfl rfl)
theorem dJ5_getEntryUsingComparator_68 : decode cJ5_getEntryUsingComparator 68 = .ok (.areturn, 1) := dk_176 (dk_at dksJ5_getEntryUsingComparator_2 20 rfl rfl)
theorem dJ5_getEntryUsingComparator_69 : decode cJ5_getEntryUsingComparator 69 = .ok (.goto (-52), 3) := dk_167 255 204 (dk_at dksJ5_getEntryUsingComparator_2 21 rfl rfl)
theorem dJ5_getEntryUsingComparator_72 : decode cJ5_getEntryUsingComparator 72 = .ok (.aconst_null, 1) := dk_1 (dk_at dksJ5_getEntryUsingComparator_3 0 rfl rfl)
theorem dJ5_getEntryUsingComparator_73 : decode cJ5_getEntryUsingComparator 73 = .ok (.areturn, 1) := dk_176 (dk_at dksJ5_getEntryUsingComparator_3 1 rfl rfl)
abbrev cJ5_size : ByteArray := prog_61_method_5_code
def yJ5_size : MethodName := ⟨RJ5, "size", "()I"⟩
theorem dJ5_size_0 : decode cJ5_size 0 = .ok (.aload_n 0, 1) := by decide +kernel
theorem dJ5_size_1 : decode cJ5_size 1 = .ok (.getfield 7, 3) := by decide +kernel
theorem dJ5_size_4 : decode cJ5_size 4 = .ok (.ireturn, 1) := by decide +kernel
theorem q118 : (Jvm.Cond.initialized "java/util/TreeMap") ∈ lw_all := lw_g (lw_at lw_m1 10 rfl) rfl
theorem q228 : (Jvm.Cond.instantiable "java/util/TreeMap" (9 : Nat)) ∈ lw_all := lw_g (lw_at lw_m1 120 rfl) rfl
theorem q230 : (Jvm.Cond.instanceMethod ({ cls := "java/util/TreeMap", name := "<init>", desc := "()V" } : Jvm.MethodName)) ∈ lw_all := lw_g (lw_at lw_m1 122 rfl) rfl
theorem q231 : (Jvm.Cond.code ({ cls := "java/util/TreeMap", name := "<init>", desc := "()V" } : Jvm.MethodName) prog_61_method_1_code (1 : Nat) (Option.none : Option Jvm.ClassFile.FieldType)) ∈ lw_all := lw_g (lw_at lw_m1 123 rfl) rfl
theorem q232 : (Jvm.Cond.methodLink "java/util/TreeMap" (1 : Nat) ({ cls := "java/util/AbstractMap", name := "<init>", desc := "()V" } : Jvm.MethodName)) ∈ lw_all := lw_g (lw_at lw_m1 124 rfl) rfl
theorem q236 : (Jvm.Cond.fieldLink "java/util/TreeMap" (16 : Nat) "java/util/TreeMap" "comparato\x72" "Ljava/util/Comparator;") ∈ lw_all := lw_g (lw_at lw_m1 128 rfl) rfl
theorem q237 : (Jvm.Cond.fieldLink "java/util/TreeMap" (101 : Nat) "java/util/TreeMap" "root" "Ljava/util/TreeMap$Entry;") ∈ lw_all := lw_g (lw_at lw_m1 129 rfl) rfl
theorem q238 : (Jvm.Cond.fieldLink "java/util/TreeMap" (7 : Nat) "java/util/TreeMap" "size" "I") ∈ lw_all := lw_g (lw_at lw_m1 130 rfl) rfl
theorem q239 : (Jvm.Cond.fieldLink "java/util/TreeMap" (13 : Nat) "java/util/TreeMap" "modCount" "I") ∈ lw_all := lw_g (lw_at lw_m1 131 rfl) rfl
theorem q241 : (Jvm.Cond.fieldLink "java/util/TreeMap" (191 : Nat) "java/util/TreeMap" "navigableKeySet" "Ljava/util/TreeMap$KeySet;") ∈ lw_all := lw_g (lw_at lw_m1 133 rfl) rfl
theorem q242 : (Jvm.Cond.laysFinal "java/util/TreeMap" "java/util/TreeMap" "comparato\x72" "Ljava/util/Comparator;") ∈ lw_all := lw_g (lw_at lw_m1 134 rfl) rfl
theorem q243 : (Jvm.Cond.soleField "java/util/TreeMap" "comparato\x72") ∈ lw_all := lw_g (lw_at lw_m1 135 rfl) rfl
theorem q244 : (Jvm.Cond.lays "java/util/TreeMap" "java/util/TreeMap" "root" "Ljava/util/TreeMap$Entry;") ∈ lw_all := lw_g (lw_at lw_m1 136 rfl) rfl
theorem q245 : (Jvm.Cond.soleField "java/util/TreeMap" "root") ∈ lw_all := lw_g (lw_at lw_m1 137 rfl) rfl
theorem q246 : (Jvm.Cond.lays "java/util/TreeMap" "java/util/TreeMap" "size" "I") ∈ lw_all := lw_g (lw_at lw_m1 138 rfl) rfl
theorem q247 : (Jvm.Cond.soleField "java/util/TreeMap" "size") ∈ lw_all := lw_g (lw_at lw_m1 139 rfl) rfl
theorem q248 : (Jvm.Cond.lays "java/util/TreeMap" "java/util/TreeMap" "modCount" "I") ∈ lw_all := lw_g (lw_at lw_m1 140 rfl) rfl
theorem q249 : (Jvm.Cond.soleField "java/util/TreeMap" "modCount") ∈ lw_all := lw_g (lw_at lw_m1 141 rfl) rfl
theorem q250 : (Jvm.Cond.lays "java/util/TreeMap" "java/util/TreeMap" "entrySet" "Ljava/util/TreeMap$EntrySet;") ∈ lw_all := lw_g (lw_at lw_m1 142 rfl) rfl
theorem q251 : (Jvm.Cond.soleField "java/util/TreeMap" "entrySet") ∈ lw_all := lw_g (lw_at lw_m1 143 rfl) rfl
theorem q252 : (Jvm.Cond.lays "java/util/TreeMap" "java/util/TreeMap" "navigableKeySet" "Ljava/util/TreeMap$KeySet;") ∈ lw_all := lw_g (lw_at lw_m1 144 rfl) rfl
theorem q253 : (Jvm.Cond.soleField "java/util/TreeMap" "navigableKeySet") ∈ lw_all := lw_g (lw_at lw_m1 145 rfl) rfl
theorem q254 : (Jvm.Cond.lays "java/util/TreeMap" "java/util/TreeMap" "descendingMap" "Ljava/util/NavigableMap;") ∈ lw_all := lw_g (lw_at lw_m1 146 rfl) rfl
theorem q255 : (Jvm.Cond.soleField "java/util/TreeMap" "descendingMap") ∈ lw_all := lw_g (lw_at lw_m1 147 rfl) rfl
theorem q256 : (Jvm.Cond.lays "java/util/TreeMap" "java/util/AbstractMap" "keySet" "Ljava/util/Set;") ∈ lw_all := lw_g (lw_at lw_m1 148 rfl) rfl
theorem q258 : (Jvm.Cond.lays "java/util/TreeMap" "java/util/AbstractMap" "values" "Ljava/util/Collection;") ∈ lw_all := lw_g (lw_at lw_m1 150 rfl) rfl
theorem q260 : (Jvm.Cond.superclass "java/util/TreeMap" "java/util/AbstractMap") ∈ lw_all := lw_g (lw_at lw_m1 152 rfl) rfl
theorem q672 : (Jvm.Cond.castable "java/util/TreeMap" "java/util/NavigableMap") ∈ lw_tbl := lw_at lw_m3 84 rfl
theorem q673 : (Jvm.Cond.selects "java/util/TreeMap" ({ cls := "java/util/Map", name := "clea\x72", desc := "()V" } : Jvm.MethodName) ({ cls := "java/util/TreeMap", name := "clea\x72", desc := "()V" } : Jvm.MethodName)) ∈ lw_all := lw_g (lw_at lw_m3 85 rfl) rfl
theorem q674 : (Jvm.Cond.unhidden "java/util/TreeMap" "clea\x72" "()V") ∈ lw_tbl := lw_at lw_m3 86 rfl
theorem q675 : (Jvm.Cond.instanceMethod ({ cls := "java/util/TreeMap", name := "clea\x72", desc := "()V" } : Jvm.MethodName)) ∈ lw_all := lw_g (lw_at lw_m3 87 rfl) rfl
theorem q676 : (Jvm.Cond.publicMethod ({ cls := "java/util/TreeMap", name := "clea\x72", desc := "()V" } : Jvm.MethodName)) ∈ lw_tbl := lw_at lw_m3 88 rfl
theorem q677 : (Jvm.Cond.code ({ cls := "java/util/TreeMap", name := "clea\x72", desc := "()V" } : Jvm.MethodName) prog_61_method_35_code (1 : Nat) (Option.none : Option Jvm.ClassFile.FieldType)) ∈ lw_all := lw_g (lw_at lw_m3 89 rfl) rfl
theorem q708 : (Jvm.Cond.selects "java/util/TreeMap" ({ cls := "java/util/Map", name := "put", desc := "(Ljava/lang/Object;Ljava/lang/Object;)Ljava/lang/Object;" } : Jvm.MethodName) ({ cls := "java/util/TreeMap", name := "put", desc := "(Ljava/lang/Object;Ljava/lang/Object;)Ljava/lang/Object;" } : Jvm.MethodName)) ∈ lw_all := lw_g (lw_at lw_m3 120 rfl) rfl
theorem q709 : (Jvm.Cond.unhidden "java/util/TreeMap" "put" "(Ljava/lang/Object;Ljava/lang/Object;)Ljava/lang/Object;") ∈ lw_tbl := lw_at lw_m3 121 rfl
theorem q710 : (Jvm.Cond.instanceMethod ({ cls := "java/util/TreeMap", name := "put", desc := "(Ljava/lang/Object;Ljava/lang/Object;)Ljava/lang/Object;" } : Jvm.MethodName)) ∈ lw_all := lw_g (lw_at lw_m3 122 rfl) rfl
theorem q711 : (Jvm.Cond.publicMethod ({ cls := "java/util/TreeMap", name := "put", desc := "(Ljava/lang/Object;Ljava/lang/Object;)Ljava/lang/Object;" } : Jvm.MethodName)) ∈ lw_tbl := lw_at lw_m3 123 rfl
theorem q712 : (Jvm.Cond.code ({ cls := "java/util/TreeMap", name := "put", desc := "(Ljava/lang/Object;Ljava/lang/Object;)Ljava/lang/Object;" } : Jvm.MethodName) prog_61_method_21_code (3 : Nat) (Option.some (Jvm.ClassFile.FieldType.object "java/lang/Object"))) ∈ lw_all := lw_g (lw_at lw_m3 124 rfl) rfl
theorem q713 : (Jvm.Cond.methodLink "java/util/TreeMap" (127 : Nat) ({ cls := "java/util/TreeMap", name := "put", desc := "(Ljava/lang/Object;Ljava/lang/Object;Z)Ljava/lang/Object;" } : Jvm.MethodName)) ∈ lw_all := lw_g (lw_at lw_m3 125 rfl) rfl
theorem q714 : (Jvm.Cond.privateMethod ({ cls := "java/util/TreeMap", name := "put", desc := "(Ljava/lang/Object;Ljava/lang/Object;Z)Ljava/lang/Object;" } : Jvm.MethodName)) ∈ lw_tbl := lw_at lw_m3 126 rfl
theorem q715 : (Jvm.Cond.instanceMethod ({ cls := "java/util/TreeMap", name := "put", desc := "(Ljava/lang/Object;Ljava/lang/Object;Z)Ljava/lang/Object;" } : Jvm.MethodName)) ∈ lw_all := lw_g (lw_at lw_m3 127 rfl) rfl
theorem q716 : (Jvm.Cond.code ({ cls := "java/util/TreeMap", name := "put", desc := "(Ljava/lang/Object;Ljava/lang/Object;Z)Ljava/lang/Object;" } : Jvm.MethodName) prog_61_method_31_code (10 : Nat) (Option.some (Jvm.ClassFile.FieldType.object "java/lang/Object"))) ∈ lw_all := lw_g (lw_at lw_m3 128 rfl) rfl
theorem q717 : (Jvm.Cond.methodLink "java/util/TreeMap" (135 : Nat) ({ cls := "java/util/TreeMap", name := "addEntryToEmptyMap", desc := "(Ljava/lang/Object;Ljava/lang/Object;)V" } : Jvm.MethodName)) ∈ lw_all := lw_g (lw_at lw_m3 129 rfl) rfl
theorem q718 : (Jvm.Cond.privateMethod ({ cls := "java/util/TreeMap", name := "addEntryToEmptyMap", desc := "(Ljava/lang/Object;Ljava/lang/Object;)V" } : Jvm.MethodName)) ∈ lw_tbl := lw_at lw_m3 130 rfl
theorem q719 : (Jvm.Cond.instanceMethod ({ cls := "java/util/TreeMap", name := "addEntryToEmptyMap", desc := "(Ljava/lang/Object;Ljava/lang/Object;)V" } : Jvm.MethodName)) ∈ lw_all := lw_g (lw_at lw_m3 131 rfl) rfl
theorem q720 : (Jvm.Cond.code ({ cls := "java/util/TreeMap", name := "addEntryToEmptyMap", desc := "(Ljava/lang/Object;Ljava/lang/Object;)V" } : Jvm.MethodName) prog_61_method_30_code (3 : Nat) (Option.none : Option Jvm.ClassFile.FieldType)) ∈ lw_all := lw_g (lw_at lw_m3 132 rfl) rfl
theorem q721 : (Jvm.Cond.methodLink "java/util/TreeMap" (123 : Nat) ({ cls := "java/util/TreeMap", name := "compare", desc := "(Ljava/lang/Object;Ljava/lang/Object;)I" } : Jvm.MethodName)) ∈ lw_all := lw_g (lw_at lw_m3 133 rfl) rfl
theorem q722 : (Jvm.Cond.instanceMethod ({ cls := "java/util/TreeMap", name := "compare", desc := "(Ljava/lang/Object;Ljava/lang/Object;)I" } : Jvm.MethodName)) ∈ lw_all := lw_g (lw_at lw_m3 134 rfl) rfl
theorem q723 : (Jvm.Cond.selects "java/util/TreeMap" ({ cls := "java/util/TreeMap", name := "compare", desc := "(Ljava/lang/Object;Ljava/lang/Object;)I" } : Jvm.MethodName) ({ cls := "java/util/TreeMap", name := "compare", desc := "(Ljava/lang/Object;Ljava/lang/Object;)I" } : Jvm.MethodName)) ∈ lw_all := lw_g (lw_at lw_m3 135 rfl) rfl
theorem q724 : (Jvm.Cond.code ({ cls := "java/util/TreeMap", name := "compare", desc := "(Ljava/lang/Object;Ljava/lang/Object;)I" } : Jvm.MethodName) prog_61_method_67_code (3 : Nat) (Option.some Jvm.ClassFile.FieldType.int)) ∈ lw_all := lw_g (lw_at lw_m3 136 rfl) rfl
theorem q725 : (Jvm.Cond.classLink "java/util/TreeMap" (99 : Nat) "java/lang/Comparable") ∈ lw_all := lw_g (lw_at lw_m3 137 rfl) rfl
theorem q726 : (Jvm.Cond.interfaceEntry "java/util/TreeMap" (107 : Nat)) ∈ lw_tbl := lw_at lw_m3 138 rfl
theorem q727 : (Jvm.Cond.methodLink "java/util/TreeMap" (107 : Nat) ({ cls := "java/lang/Comparable", name := "compareTo", desc := "(Ljava/lang/Object;)I" } : Jvm.MethodName)) ∈ lw_all := lw_g (lw_at lw_m3 139 rfl) rfl
theorem q767 : (Jvm.Cond.interfaceEntry "java/util/TreeMap" (117 : Nat)) ∈ lw_tbl := lw_at lw_m3 179 rfl
theorem q768 : (Jvm.Cond.methodLink "java/util/TreeMap" (117 : Nat) ({ cls := "java/util/Comparato\x72", name := "compare", desc := "(Ljava/lang/Object;Ljava/lang/Object;)I" } : Jvm.MethodName)) ∈ lw_all := lw_g (lw_at lw_m3 180 rfl) rfl
theorem q782 : (Jvm.Cond.classLink "java/util/TreeMap" (59 : Nat) "java/util/TreeMap$Entry") ∈ lw_all := lw_g (lw_at lw_m3 194 rfl) rfl
theorem q784 : (Jvm.Cond.methodLink "java/util/TreeMap" (167 : Nat) ({ cls := "java/util/TreeMap$Entry", name := "<init>", desc := "(Ljava/lang/Object;Ljava/lang/Object;Ljava/util/TreeMap$Entry;)V" } : Jvm.MethodName)) ∈ lw_all := lw_g (lw_at lw_m3 196 rfl) rfl
theorem q790 : (Jvm.Cond.fieldLink "java/util/TreeMap" (105 : Nat) "java/util/TreeMap$Entry" "key" "Ljava/lang/Object;") ∈ lw_all := lw_g (lw_at lw_m3 202 rfl) rfl
theorem q792 : (Jvm.Cond.fieldLink "java/util/TreeMap" (58 : Nat) "java/util/TreeMap$Entry" "value" "Ljava/lang/Object;") ∈ lw_all := lw_g (lw_at lw_m3 204 rfl) rfl
theorem q793 : (Jvm.Cond.fieldLink "java/util/TreeMap" (111 : Nat) "java/util/TreeMap$Entry" "left" "Ljava/util/TreeMap$Entry;") ∈ lw_all := lw_g (lw_at lw_m3 205 rfl) rfl
theorem q794 : (Jvm.Cond.fieldLink "java/util/TreeMap" (114 : Nat) "java/util/TreeMap$Entry" "right" "Ljava/util/TreeMap$Entry;") ∈ lw_all := lw_g (lw_at lw_m3 206 rfl) rfl
theorem q796 : (Jvm.Cond.fieldLink "java/util/TreeMap" (124 : Nat) "java/util/TreeMap$Entry" "parent" "Ljava/util/TreeMap$Entry;") ∈ lw_all := lw_g (lw_at lw_m3 208 rfl) rfl
theorem q798 : (Jvm.Cond.fieldLink "java/util/TreeMap" (290 : Nat) "java/util/TreeMap$Entry" "colo\x72" "Z") ∈ lw_all := lw_g (lw_at lw_m3 210 rfl) rfl
theorem q812 : (Jvm.Cond.methodLink "java/util/TreeMap" (95 : Nat) ({ cls := "java/util/Objects", name := "requireNonNull", desc := "(Ljava/lang/Object;)Ljava/lang/Object;" } : Jvm.MethodName)) ∈ lw_all := lw_g (lw_at lw_m3 224 rfl) rfl
theorem q897 : (Jvm.Cond.methodLink "java/util/TreeMap" (139 : Nat) ({ cls := "java/util/TreeMap", name := "addEntry", desc := "(Ljava/lang/Object;Ljava/lang/Object;Ljava/util/TreeMap$Entry;Z)V" } : Jvm.MethodName)) ∈ lw_all := lw_g (lw_at lw_m4 69 rfl) rfl
theorem q898 : (Jvm.Cond.privateMethod ({ cls := "java/util/TreeMap", name := "addEntry", desc := "(Ljava/lang/Object;Ljava/lang/Object;Ljava/util/TreeMap$Entry;Z)V" } : Jvm.MethodName)) ∈ lw_tbl := lw_at lw_m4 70 rfl
theorem q899 : (Jvm.Cond.instanceMethod ({ cls := "java/util/TreeMap", name := "addEntry", desc := "(Ljava/lang/Object;Ljava/lang/Object;Ljava/util/TreeMap$Entry;Z)V" } : Jvm.MethodName)) ∈ lw_all := lw_g (lw_at lw_m4 71 rfl) rfl
theorem q900 : (Jvm.Cond.code ({ cls := "java/util/TreeMap", name := "addEntry", desc := "(Ljava/lang/Object;Ljava/lang/Object;Ljava/util/TreeMap$Entry;Z)V" } : Jvm.MethodName) prog_61_method_29_code (6 : Nat) (Option.none : Option Jvm.ClassFile.FieldType)) ∈ lw_all := lw_g (lw_at lw_m4 72 rfl) rfl
theorem q901 : (Jvm.Cond.methodLink "java/util/TreeMap" (170 : Nat) ({ cls := "java/util/TreeMap", name := "fixAfterInsertion", desc := "(Ljava/util/TreeMap$Entry;)V" } : Jvm.MethodName)) ∈ lw_all := lw_g (lw_at lw_m4 73 rfl) rfl
theorem q902 : (Jvm.Cond.privateMethod ({ cls := "java/util/TreeMap", name := "fixAfterInsertion", desc := "(Ljava/util/TreeMap$Entry;)V" } : Jvm.MethodName)) ∈ lw_tbl := lw_at lw_m4 74 rfl
theorem q903 : (Jvm.Cond.instanceMethod ({ cls := "java/util/TreeMap", name := "fixAfterInsertion", desc := "(Ljava/util/TreeMap$Entry;)V" } : Jvm.MethodName)) ∈ lw_all := lw_g (lw_at lw_m4 75 rfl) rfl
theorem q904 : (Jvm.Cond.code ({ cls := "java/util/TreeMap", name := "fixAfterInsertion", desc := "(Ljava/util/TreeMap$Entry;)V" } : Jvm.MethodName) prog_61_method_83_code (3 : Nat) (Option.none : Option Jvm.ClassFile.FieldType)) ∈ lw_all := lw_g (lw_at lw_m4 76 rfl) rfl
theorem q905 : (Jvm.Cond.methodLink "java/util/TreeMap" (294 : Nat) ({ cls := "java/util/TreeMap", name := "parentOf", desc := "(Ljava/util/TreeMap$Entry;)Ljava/util/TreeMap$Entry;" } : Jvm.MethodName)) ∈ lw_all := lw_g (lw_at lw_m4 77 rfl) rfl
theorem q906 : (Jvm.Cond.static ({ cls := "java/util/TreeMap", name := "parentOf", desc := "(Ljava/util/TreeMap$Entry;)Ljava/util/TreeMap$Entry;" } : Jvm.MethodName)) ∈ lw_all := lw_g (lw_at lw_m4 78 rfl) rfl
theorem q907 : (Jvm.Cond.code ({ cls := "java/util/TreeMap", name := "parentOf", desc := "(Ljava/util/TreeMap$Entry;)Ljava/util/TreeMap$Entry;" } : Jvm.MethodName) prog_61_method_77_code (1 : Nat) (Option.some (Jvm.ClassFile.FieldType.object "java/util/TreeMap$Entry"))) ∈ lw_all := lw_g (lw_at lw_m4 79 rfl) rfl
theorem q908 : (Jvm.Cond.methodLink "java/util/TreeMap" (297 : Nat) ({ cls := "java/util/TreeMap", name := "leftOf", desc := "(Ljava/util/TreeMap$Entry;)Ljava/util/TreeMap$Entry;" } : Jvm.MethodName)) ∈ lw_all := lw_g (lw_at lw_m4 80 rfl) rfl
theorem q909 : (Jvm.Cond.static ({ cls := "java/util/TreeMap", name := "leftOf", desc := "(Ljava/util/TreeMap$Entry;)Ljava/util/TreeMap$Entry;" } : Jvm.MethodName)) ∈ lw_all := lw_g (lw_at lw_m4 81 rfl) rfl
theorem q910 : (Jvm.Cond.code ({ cls := "java/util/TreeMap", name := "leftOf", desc := "(Ljava/util/TreeMap$Entry;)Ljava/util/TreeMap$Entry;" } : Jvm.MethodName) prog_61_method_79_code (1 : Nat) (Option.some (Jvm.ClassFile.FieldType.object "java/util/TreeMap$Entry"))) ∈ lw_all := lw_g (lw_at lw_m4 82 rfl) rfl
theorem q911 : (Jvm.Cond.methodLink "java/util/TreeMap" (300 : Nat) ({ cls := "java/util/TreeMap", name := "rightOf", desc := "(Ljava/util/TreeMap$Entry;)Ljava/util/TreeMap$Entry;" } : Jvm.MethodName)) ∈ lw_all := lw_g (lw_at lw_m4 83 rfl) rfl
theorem q912 : (Jvm.Cond.static ({ cls := "java/util/TreeMap", name := "rightOf", desc := "(Ljava/util/TreeMap$Entry;)Ljava/util/TreeMap$Entry;" } : Jvm.MethodName)) ∈ lw_all := lw_g (lw_at lw_m4 84 rfl) rfl
theorem q913 : (Jvm.Cond.code ({ cls := "java/util/TreeMap", name := "rightOf", desc := "(Ljava/util/TreeMap$Entry;)Ljava/util/TreeMap$Entry;" } : Jvm.MethodName) prog_61_method_80_code (1 : Nat) (Option.some (Jvm.ClassFile.FieldType.object "java/util/TreeMap$Entry"))) ∈ lw_all := lw_g (lw_at lw_m4 85 rfl) rfl
theorem q914 : (Jvm.Cond.methodLink "java/util/TreeMap" (303 : Nat) ({ cls := "java/util/TreeMap", name := "colorOf", desc := "(Ljava/util/TreeMap$Entry;)Z" } : Jvm.MethodName)) ∈ lw_all := lw_g (lw_at lw_m4 86 rfl) rfl
theorem q915 : (Jvm.Cond.static ({ cls := "java/util/TreeMap", name := "colorOf", desc := "(Ljava/util/TreeMap$Entry;)Z" } : Jvm.MethodName)) ∈ lw_all := lw_g (lw_at lw_m4 87 rfl) rfl
theorem q916 : (Jvm.Cond.code ({ cls := "java/util/TreeMap", name := "colorOf", desc := "(Ljava/util/TreeMap$Entry;)Z" } : Jvm.MethodName) prog_61_method_76_code (1 : Nat) (Option.some Jvm.ClassFile.FieldType.boolean)) ∈ lw_all := lw_g (lw_at lw_m4 88 rfl) rfl
theorem q917 : (Jvm.Cond.methodLink "java/util/TreeMap" (307 : Nat) ({ cls := "java/util/TreeMap", name := "setColo\x72", desc := "(Ljava/util/TreeMap$Entry;Z)V" } : Jvm.MethodName)) ∈ lw_all := lw_g (lw_at lw_m4 89 rfl) rfl
theorem q918 : (Jvm.Cond.static ({ cls := "java/util/TreeMap", name := "setColo\x72", desc := "(Ljava/util/TreeMap$Entry;Z)V" } : Jvm.MethodName)) ∈ lw_all := lw_g (lw_at lw_m4 90 rfl) rfl
theorem q919 : (Jvm.Cond.code ({ cls := "java/util/TreeMap", name := "setColo\x72", desc := "(Ljava/util/TreeMap$Entry;Z)V" } : Jvm.MethodName) prog_61_method_78_code (2 : Nat) (Option.none : Option Jvm.ClassFile.FieldType)) ∈ lw_all := lw_g (lw_at lw_m4 91 rfl) rfl
theorem q920 : (Jvm.Cond.methodLink "java/util/TreeMap" (311 : Nat) ({ cls := "java/util/TreeMap", name := "rotateLeft", desc := "(Ljava/util/TreeMap$Entry;)V" } : Jvm.MethodName)) ∈ lw_all := lw_g (lw_at lw_m4 92 rfl) rfl
theorem q921 : (Jvm.Cond.privateMethod ({ cls := "java/util/TreeMap", name := "rotateLeft", desc := "(Ljava/util/TreeMap$Entry;)V" } : Jvm.MethodName)) ∈ lw_tbl := lw_at lw_m4 93 rfl
theorem q922 : (Jvm.Cond.instanceMethod ({ cls := "java/util/TreeMap", name := "rotateLeft", desc := "(Ljava/util/TreeMap$Entry;)V" } : Jvm.MethodName)) ∈ lw_all := lw_g (lw_at lw_m4 94 rfl) rfl
theorem q923 : (Jvm.Cond.code ({ cls := "java/util/TreeMap", name := "rotateLeft", desc := "(Ljava/util/TreeMap$Entry;)V" } : Jvm.MethodName) prog_61_method_81_code (3 : Nat) (Option.none : Option Jvm.ClassFile.FieldType)) ∈ lw_all := lw_g (lw_at lw_m4 95 rfl) rfl
theorem q924 : (Jvm.Cond.methodLink "java/util/TreeMap" (314 : Nat) ({ cls := "java/util/TreeMap", name := "rotateRight", desc := "(Ljava/util/TreeMap$Entry;)V" } : Jvm.MethodName)) ∈ lw_all := lw_g (lw_at lw_m4 96 rfl) rfl
theorem q925 : (Jvm.Cond.privateMethod ({ cls := "java/util/TreeMap", name := "rotateRight", desc := "(Ljava/util/TreeMap$Entry;)V" } : Jvm.MethodName)) ∈ lw_tbl := lw_at lw_m4 97 rfl
theorem q926 : (Jvm.Cond.instanceMethod ({ cls := "java/util/TreeMap", name := "rotateRight", desc := "(Ljava/util/TreeMap$Entry;)V" } : Jvm.MethodName)) ∈ lw_all := lw_g (lw_at lw_m4 98 rfl) rfl
theorem q927 : (Jvm.Cond.code ({ cls := "java/util/TreeMap", name := "rotateRight", desc := "(Ljava/util/TreeMap$Entry;)V" } : Jvm.MethodName) prog_61_method_82_code (3 : Nat) (Option.none : Option Jvm.ClassFile.FieldType)) ∈ lw_all := lw_g (lw_at lw_m4 99 rfl) rfl
theorem q954 : (Jvm.Cond.selects "java/util/TreeMap" ({ cls := "java/util/NavigableMap", name := "navigableKeySet", desc := "()Ljava/util/NavigableSet;" } : Jvm.MethodName) ({ cls := "java/util/TreeMap", name := "navigableKeySet", desc := "()Ljava/util/NavigableSet;" } : Jvm.MethodName)) ∈ lw_all := lw_g (lw_at lw_m4 126 rfl) rfl
theorem q955 : (Jvm.Cond.unhidden "java/util/TreeMap" "navigableKeySet" "()Ljava/util/NavigableSet;") ∈ lw_tbl := lw_at lw_m4 127 rfl
theorem q956 : (Jvm.Cond.instanceMethod ({ cls := "java/util/TreeMap", name := "navigableKeySet", desc := "()Ljava/util/NavigableSet;" } : Jvm.MethodName)) ∈ lw_all := lw_g (lw_at lw_m4 128 rfl) rfl
theorem q957 : (Jvm.Cond.publicMethod ({ cls := "java/util/TreeMap", name := "navigableKeySet", desc := "()Ljava/util/NavigableSet;" } : Jvm.MethodName)) ∈ lw_tbl := lw_at lw_m4 129 rfl
theorem q958 : (Jvm.Cond.code ({ cls := "java/util/TreeMap", name := "navigableKeySet", desc := "()Ljava/util/NavigableSet;" } : Jvm.MethodName) prog_61_method_50_code (2 : Nat) (Option.some (Jvm.ClassFile.FieldType.object "java/util/NavigableSet"))) ∈ lw_all := lw_g (lw_at lw_m4 130 rfl) rfl
theorem q959 : (Jvm.Cond.classLink "java/util/TreeMap" (222 : Nat) "java/util/TreeMap$KeySet") ∈ lw_all := lw_g (lw_at lw_m4 131 rfl) rfl
theorem q961 : (Jvm.Cond.methodLink "java/util/TreeMap" (224 : Nat) ({ cls := "java/util/TreeMap$KeySet", name := "<init>", desc := "(Ljava/util/NavigableMap;)V" } : Jvm.MethodName)) ∈ lw_all := lw_g (lw_at lw_m4 133 rfl) rfl
theorem q981 : (Jvm.Cond.instanceMethod ({ cls := "java/util/TreeMap", name := "keyIterato\x72", desc := "()Ljava/util/Iterator;" } : Jvm.MethodName)) ∈ lw_all := lw_g (lw_at lw_m4 153 rfl) rfl
theorem q982 : (Jvm.Cond.selects "java/util/TreeMap" ({ cls := "java/util/TreeMap", name := "keyIterato\x72", desc := "()Ljava/util/Iterator;" } : Jvm.MethodName) ({ cls := "java/util/TreeMap", name := "keyIterato\x72", desc := "()Ljava/util/Iterator;" } : Jvm.MethodName)) ∈ lw_all := lw_g (lw_at lw_m4 154 rfl) rfl
theorem q983 : (Jvm.Cond.code ({ cls := "java/util/TreeMap", name := "keyIterato\x72", desc := "()Ljava/util/Iterator;" } : Jvm.MethodName) prog_61_method_65_code (1 : Nat) (Option.some (Jvm.ClassFile.FieldType.object "java/util/Iterato\x72"))) ∈ lw_all := lw_g (lw_at lw_m4 155 rfl) rfl
theorem q984 : (Jvm.Cond.classLink "java/util/TreeMap" (269 : Nat) "java/util/TreeMap$KeyIterato\x72") ∈ lw_all := lw_g (lw_at lw_m4 156 rfl) rfl
theorem q986 : (Jvm.Cond.methodLink "java/util/TreeMap" (54 : Nat) ({ cls := "java/util/TreeMap", name := "getFirstEntry", desc := "()Ljava/util/TreeMap$Entry;" } : Jvm.MethodName)) ∈ lw_all := lw_g (lw_at lw_m4 158 rfl) rfl
theorem q987 : (Jvm.Cond.instanceMethod ({ cls := "java/util/TreeMap", name := "getFirstEntry", desc := "()Ljava/util/TreeMap$Entry;" } : Jvm.MethodName)) ∈ lw_all := lw_g (lw_at lw_m4 159 rfl) rfl
theorem q988 : (Jvm.Cond.selects "java/util/TreeMap" ({ cls := "java/util/TreeMap", name := "getFirstEntry", desc := "()Ljava/util/TreeMap$Entry;" } : Jvm.MethodName) ({ cls := "java/util/TreeMap", name := "getFirstEntry", desc := "()Ljava/util/TreeMap$Entry;" } : Jvm.MethodName)) ∈ lw_all := lw_g (lw_at lw_m4 160 rfl) rfl
theorem q989 : (Jvm.Cond.code ({ cls := "java/util/TreeMap", name := "getFirstEntry", desc := "()Ljava/util/TreeMap$Entry;" } : Jvm.MethodName) prog_61_method_72_code (2 : Nat) (Option.some (Jvm.ClassFile.FieldType.object "java/util/TreeMap$Entry"))) ∈ lw_all := lw_g (lw_at lw_m4 161 rfl) rfl
theorem q990 : (Jvm.Cond.methodLink "java/util/TreeMap" (271 : Nat) ({ cls := "java/util/TreeMap$KeyIterato\x72", name := "<init>", desc := "(Ljava/util/TreeMap;Ljava/util/TreeMap$Entry;)V" } : Jvm.MethodName)) ∈ lw_all := lw_g (lw_at lw_m4 162 rfl) rfl
theorem q1044 : (Jvm.Cond.static ({ cls := "java/util/TreeMap", name := "successo\x72", desc := "(Ljava/util/TreeMap$Entry;)Ljava/util/TreeMap$Entry;" } : Jvm.MethodName)) ∈ lw_all := lw_g (lw_at lw_m4 216 rfl) rfl
theorem q1045 : (Jvm.Cond.code ({ cls := "java/util/TreeMap", name := "successo\x72", desc := "(Ljava/util/TreeMap$Entry;)Ljava/util/TreeMap$Entry;" } : Jvm.MethodName) prog_61_method_74_code (3 : Nat) (Option.some (Jvm.ClassFile.FieldType.object "java/util/TreeMap$Entry"))) ∈ lw_all := lw_g (lw_at lw_m4 217 rfl) rfl
theorem q1088 : (Jvm.Cond.instanceMethod ({ cls := "java/util/TreeMap", name := "keySet", desc := "()Ljava/util/Set;" } : Jvm.MethodName)) ∈ lw_all := lw_g (lw_at lw_m5 20 rfl) rfl
theorem q1089 : (Jvm.Cond.selects "java/util/TreeMap" ({ cls := "java/util/TreeMap", name := "keySet", desc := "()Ljava/util/Set;" } : Jvm.MethodName) ({ cls := "java/util/TreeMap", name := "keySet", desc := "()Ljava/util/Set;" } : Jvm.MethodName)) ∈ lw_all := lw_g (lw_at lw_m5 21 rfl) rfl
theorem q1090 : (Jvm.Cond.code ({ cls := "java/util/TreeMap", name := "keySet", desc := "()Ljava/util/Set;" } : Jvm.MethodName) prog_61_method_49_code (1 : Nat) (Option.some (Jvm.ClassFile.FieldType.object "java/util/Set"))) ∈ lw_all := lw_g (lw_at lw_m5 22 rfl) rfl
theorem q1091 : (Jvm.Cond.methodLink "java/util/TreeMap" (219 : Nat) ({ cls := "java/util/TreeMap", name := "navigableKeySet", desc := "()Ljava/util/NavigableSet;" } : Jvm.MethodName)) ∈ lw_all := lw_g (lw_at lw_m5 23 rfl) rfl
theorem q1101 : (Jvm.Cond.instanceMethod ({ cls := "java/util/TreeMap", name := "get", desc := "(Ljava/lang/Object;)Ljava/lang/Object;" } : Jvm.MethodName)) ∈ lw_all := lw_g (lw_at lw_m5 33 rfl) rfl
theorem q1102 : (Jvm.Cond.selects "java/util/TreeMap" ({ cls := "java/util/TreeMap", name := "get", desc := "(Ljava/lang/Object;)Ljava/lang/Object;" } : Jvm.MethodName) ({ cls := "java/util/TreeMap", name := "get", desc := "(Ljava/lang/Object;)Ljava/lang/Object;" } : Jvm.MethodName)) ∈ lw_all := lw_g (lw_at lw_m5 34 rfl) rfl
theorem q1103 : (Jvm.Cond.code ({ cls := "java/util/TreeMap", name := "get", desc := "(Ljava/lang/Object;)Ljava/lang/Object;" } : Jvm.MethodName) prog_61_method_8_code (3 : Nat) (Option.some (Jvm.ClassFile.FieldType.object "java/lang/Object"))) ∈ lw_all := lw_g (lw_at lw_m5 35 rfl) rfl
theorem q1104 : (Jvm.Cond.methodLink "java/util/TreeMap" (50 : Nat) ({ cls := "java/util/TreeMap", name := "getEntry", desc := "(Ljava/lang/Object;)Ljava/util/TreeMap$Entry;" } : Jvm.MethodName)) ∈ lw_all := lw_g (lw_at lw_m5 36 rfl) rfl
theorem q1105 : (Jvm.Cond.instanceMethod ({ cls := "java/util/TreeMap", name := "getEntry", desc := "(Ljava/lang/Object;)Ljava/util/TreeMap$Entry;" } : Jvm.MethodName)) ∈ lw_all := lw_g (lw_at lw_m5 37 rfl) rfl
theorem q1106 : (Jvm.Cond.selects "java/util/TreeMap" ({ cls := "java/util/TreeMap", name := "getEntry", desc := "(Ljava/lang/Object;)Ljava/util/TreeMap$Entry;" } : Jvm.MethodName) ({ cls := "java/util/TreeMap", name := "getEntry", desc := "(Ljava/lang/Object;)Ljava/util/TreeMap$Entry;" } : Jvm.MethodName)) ∈ lw_all := lw_g (lw_at lw_m5 38 rfl) rfl
theorem q1107 : (Jvm.Cond.code ({ cls := "java/util/TreeMap", name := "getEntry", desc := "(Ljava/lang/Object;)Ljava/util/TreeMap$Entry;" } : Jvm.MethodName) prog_61_method_15_code (5 : Nat) (Option.some (Jvm.ClassFile.FieldType.object "java/util/TreeMap$Entry"))) ∈ lw_all := lw_g (lw_at lw_m5 39 rfl) rfl
theorem q1108 : (Jvm.Cond.methodLink "java/util/TreeMap" (92 : Nat) ({ cls := "java/util/TreeMap", name := "getEntryUsingComparato\x72", desc := "(Ljava/lang/Object;)Ljava/util/TreeMap$Entry;" } : Jvm.MethodName)) ∈ lw_all := lw_g (lw_at lw_m5 40 rfl) rfl
theorem q1109 : (Jvm.Cond.instanceMethod ({ cls := "java/util/TreeMap", name := "getEntryUsingComparato\x72", desc := "(Ljava/lang/Object;)Ljava/util/TreeMap$Entry;" } : Jvm.MethodName)) ∈ lw_all := lw_g (lw_at lw_m5 41 rfl) rfl
theorem q1110 : (Jvm.Cond.selects "java/util/TreeMap" ({ cls := "java/util/TreeMap", name := "getEntryUsingComparato\x72", desc := "(Ljava/lang/Object;)Ljava/util/TreeMap$Entry;" } : Jvm.MethodName) ({ cls := "java/util/TreeMap", name := "getEntryUsingComparato\x72", desc := "(Ljava/lang/Object;)Ljava/util/TreeMap$Entry;" } : Jvm.MethodName)) ∈ lw_all := lw_g (lw_at lw_m5 42 rfl) rfl
theorem q1111 : (Jvm.Cond.code ({ cls := "java/util/TreeMap", name := "getEntryUsingComparato\x72", desc := "(Ljava/lang/Object;)Ljava/util/TreeMap$Entry;" } : Jvm.MethodName) prog_61_method_16_code (6 : Nat) (Option.some (Jvm.ClassFile.FieldType.object "java/util/TreeMap$Entry"))) ∈ lw_all := lw_g (lw_at lw_m5 43 rfl) rfl
theorem q1193 : (Jvm.Cond.selects "java/util/TreeMap" ({ cls := "java/lang/Object", name := "getClass", desc := "()Ljava/lang/Class;" } : Jvm.MethodName) ({ cls := "java/lang/Object", name := "getClass", desc := "()Ljava/lang/Class;" } : Jvm.MethodName)) ∈ lw_all := lw_g (lw_at lw_m5 125 rfl) rfl
theorem q1239 : (Jvm.Cond.selects "java/util/TreeMap" ({ cls := "java/util/Map", name := "size", desc := "()I" } : Jvm.MethodName) ({ cls := "java/util/TreeMap", name := "size", desc := "()I" } : Jvm.MethodName)) ∈ lw_all := lw_g (lw_at lw_m5 171 rfl) rfl
theorem q1240 : (Jvm.Cond.unhidden "java/util/TreeMap" "size" "()I") ∈ lw_tbl := lw_at lw_m5 172 rfl
theorem q1241 : (Jvm.Cond.instanceMethod ({ cls := "java/util/TreeMap", name := "size", desc := "()I" } : Jvm.MethodName)) ∈ lw_all := lw_g (lw_at lw_m5 173 rfl) rfl
theorem q1242 : (Jvm.Cond.publicMethod ({ cls := "java/util/TreeMap", name := "size", desc := "()I" } : Jvm.MethodName)) ∈ lw_tbl := lw_at lw_m5 174 rfl
theorem q1243 : (Jvm.Cond.code ({ cls := "java/util/TreeMap", name := "size", desc := "()I" } : Jvm.MethodName) prog_61_method_5_code (1 : Nat) (Option.some Jvm.ClassFile.FieldType.int)) ∈ lw_all := lw_g (lw_at lw_m5 175 rfl) rfl
theorem q2061 : (Jvm.Cond.selects "java/util/TreeMap" ({ cls := "java/util/TreeMap", name := "put", desc := "(Ljava/lang/Object;Ljava/lang/Object;)Ljava/lang/Object;" } : Jvm.MethodName) ({ cls := "java/util/TreeMap", name := "put", desc := "(Ljava/lang/Object;Ljava/lang/Object;)Ljava/lang/Object;" } : Jvm.MethodName)) ∈ lw_all := lw_g (lw_at lw_m9 33 rfl) rfl
theorem q2062 : (Jvm.Cond.selects "java/util/TreeMap" ({ cls := "java/util/TreeMap", name := "navigableKeySet", desc := "()Ljava/util/NavigableSet;" } : Jvm.MethodName) ({ cls := "java/util/TreeMap", name := "navigableKeySet", desc := "()Ljava/util/NavigableSet;" } : Jvm.MethodName)) ∈ lw_all := lw_g (lw_at lw_m9 34 rfl) rfl
theorem q2073 : (Jvm.Cond.castable "java/util/TreeMap" "java/lang/Object") ∈ lw_tbl := lw_at lw_m9 45 rfl
theorem in_J5 : ∀ w ∈ wsJ50, w ∈ lw_all := lw_in wsJ50 [256, 258, 242, 244, 246, 248, 250, 252, 254] (by decide +kernel) (by decide +kernel)
/-! java/util/AbstractQueue -/
set_option maxRecDepth 100000
def RJ6 : String := "java/util/AbstractQueue"
abbrev cJ6_init : ByteArray := prog_39_method_1_code
def yJ6_init : MethodName := ⟨RJ6, "<init>", "()V"⟩
theorem dJ6_init_0 : decode cJ6_init 0 = .ok (.aload_n 0, 1) := by decide +kernel
theorem dJ6_init_1 : decode cJ6_init 1 = .ok (.invokespecial 1, 3) := by decide +kernel
theorem dJ6_init_4 : decode cJ6_init 4 = .ok (.return_, 1) := by decide +kernel
theorem q119 : (Jvm.Cond.initialized "java/util/AbstractQueue") ∈ lw_all := lw_g (lw_at lw_m1 11 rfl) rfl
theorem q293 : (Jvm.Cond.instanceMethod ({ cls := "java/util/AbstractQueue", name := "<init>", desc := "()V" } : Jvm.MethodName)) ∈ lw_all := lw_g (lw_at lw_m1 185 rfl) rfl
theorem q294 : (Jvm.Cond.code ({ cls := "java/util/AbstractQueue", name := "<init>", desc := "()V" } : Jvm.MethodName) prog_39_method_1_code (1 : Nat) (Option.none : Option Jvm.ClassFile.FieldType)) ∈ lw_all := lw_g (lw_at lw_m1 186 rfl) rfl
theorem q295 : (Jvm.Cond.methodLink "java/util/AbstractQueue" (1 : Nat) ({ cls := "java/util/AbstractCollection", name := "<init>", desc := "()V" } : Jvm.MethodName)) ∈ lw_all := lw_g (lw_at lw_m1 187 rfl) rfl
/-! java/util/PriorityQueue -/
set_option maxRecDepth 100000
def RJ7 : String := "java/util/PriorityQueue"
def TJ7 : u_T := fun k => match k with
  | 0 => ("java/util/PriorityQueue", "queue", "[Ljava/lang/Object;", false)
  | 1 => ("java/util/PriorityQueue", "size", "I", false)
  | 2 => ("java/util/PriorityQueue", "comparato\x72", "Ljava/util/Comparator;", true)
  | _ => ("java/util/PriorityQueue", "modCount", "I", false)
def tyJ7 : Nat → FieldType := fun k => match k with
  | 0 => .array (.object "java/lang/Object")
  | 1 => .int
  | 2 => .object "java/util/Comparato\x72"
  | _ => .int
abbrev wsJ70 : List Cond := u_ws RJ7 TJ7 4
theorem nmJ7 : ∀ a, a < 4 → ∀ b, b < 4 → a ≠ b → (TJ7 a).2.1 ≠ (TJ7 b).2.1 := by decide +kernel
theorem tyJ7_ok : ∀ k, k < 4 → parseFieldDescriptor (TJ7 k).2.2.1 = some (tyJ7 k) := by decide +kernel
abbrev cJ7_init : ByteArray := prog_52_method_4_code
def yJ7_init : MethodName := ⟨RJ7, "<init>", "(ILjava/util/Comparator;)V"⟩
def dkwJ7_init_1 : List UInt8 := [181, 0, 17, 42, 44, 181, 0, 21, 177]
abbrev dktJ7_init_1 : List UInt8 := dkwJ7_init_1 ++ []
def dkwJ7_init_0 : List UInt8 := [42, 183, 0, 7, 27, 4, 162, 0, 11, 187, 0, 12, 89, 183, 0, 14, 191, 42, 27, 189, 0, 15]
abbrev dktJ7_init_0 : List UInt8 := dkwJ7_init_0 ++ dktJ7_init_1
theorem dksJ7_init_0 : cJ7_init.data.toList.drop 0 = dktJ7_init_0 := by decide +kernel
theorem dksJ7_init_1 : cJ7_init.data.toList.drop 22 = dktJ7_init_1 := dk_seg dksJ7_init_0 22 rfl rfl
theorem dJ7_init_0 : decode cJ7_init 0 = .ok (.aload_n 0, 1) := dk_42 (dk_at dksJ7_init_0 0 rfl rfl)
theorem dJ7_init_1 : decode cJ7_init 1 = .ok (.invokespecial 7, 3) := dk_183 0 7 (dk_at dksJ7_init_0 1 rfl rfl)
theorem dJ7_init_4 : decode cJ7_init 4 = .ok (.iload_n 1, 1) := dk_27 (dk_at dksJ7_init_0 4 rfl rfl)
theorem dJ7_init_5 : decode cJ7_init 5 = .ok (.iconst 1, 1) := dk_4 (dk_at dksJ7_init_0 5 rfl rfl)
theorem dJ7_init_6 : decode cJ7_init 6 = .ok (.if_icmp .ge 11, 3) := dk_162 0 11 (dk_at dksJ7_init_0 6 rfl rfl)
theorem dJ7_init_9 : decode cJ7_init 9 = .ok (.new 12, 3) := dk_187 0 12 (dk_at dksJ7_init_0 9 rfl rfl)
theorem dJ7_init_12 : decode cJ7_init 12 = .ok (.dup, 1) := dk_89 (dk_at dksJ7_init_0 12 rfl rfl)
theorem dJ7_init_13 : decode cJ7_init 13 = .ok (.invokespecial 14, 3) := dk_183 0 14 (dk_at dksJ7_init_0 13 rfl rfl)
theorem dJ7_init_16 : decode cJ7_init 16 = .ok (.athrow, 1) := dk_191 (dk_at dksJ7_init_0 16 rfl rfl)
theorem dJ7_init_17 : decode cJ7_init 17 = .ok (.aload_n 0, 1) := dk_42 (dk_at dksJ7_init_0 17 rfl rfl)
theorem dJ7_init_18 : decode cJ7_init 18 = .ok (.iload_n 1, 1) := dk_27 (dk_at dksJ7_init_0 18 rfl rfl)
theorem dJ7_init_19 : decode cJ7_init 19 = .ok (.anewarray 15, 3) := dk_189 0 15 (dk_at dksJ7_init_0 19 rfl rfl)
theorem dJ7_init_22 : decode cJ7_init 22 = .ok (.putfield 17, 3) := dk_181 0 17 (dk_at dksJ7_init_1 0 rfl rfl)
theorem dJ7_init_25 : decode cJ7_init 25 = .ok (.aload_n 0, 1) := dk_42 (dk_at dksJ7_init_1 3 rfl rfl)
theorem dJ7_init_26 : decode cJ7_init 26 = .ok (.aload_n 2, 1) := dk_44 (dk_at dksJ7_init_1 4 rfl rfl)
theorem dJ7_init_27 : decode cJ7_init 27 = .ok (.putfield 21, 3) := dk_181 0 21 (dk_at dksJ7_init_1 5 rfl rfl)
theorem dJ7_init_30 : decode cJ7_init 30 = .ok (.return_, 1) := dk_177 (dk_at dksJ7_init_1 8 rfl rfl)
abbrev cJ7_clear : ByteArray := prog_52_method_24_code
def yJ7_clear : MethodName := ⟨RJ7, "clea\x72", "()V"⟩
def dkwJ7_clear_1 : List UInt8 := [162, 0, 13, 43, 28, 1, 83, 132, 2, 1, 167, 255, 244, 42, 3, 181, 0, 58, 177]
abbrev dktJ7_clear_1 : List UInt8 := dkwJ7_clear_1 ++ []
def dkwJ7_clear_0 : List UInt8 := [42, 89, 180, 0, 93, 4, 96, 181, 0, 93, 42, 180, 0, 17, 76, 3, 61, 42, 180, 0, 58, 62, 28, 29]
abbrev dktJ7_clear_0 : List UInt8 := dkwJ7_clear_0 ++ dktJ7_clear_1
theorem dksJ7_clear_0 : cJ7_clear.data.toList.drop 0 = dktJ7_clear_0 := by decide +kernel
theorem dksJ7_clear_1 : cJ7_clear.data.toList.drop 24 = dktJ7_clear_1 := dk_seg dksJ7_clear_0 24 rfl rfl
theorem dJ7_clear_0 : decode cJ7_clear 0 = .ok (.aload_n 0, 1) := dk_42 (dk_at dksJ7_clear_0 0 rfl rfl)
theorem dJ7_clear_1 : decode cJ7_clear 1 = .ok (.dup, 1) := dk_89 (dk_at dksJ7_clear_0 1 rfl rfl)
theorem dJ7_clear_2 : decode cJ7_clear 2 = .ok (.getfield 93, 3) := dk_180 0 93 (dk_at dksJ7_clear_0 2 rfl rfl)
theorem dJ7_clear_5 : decode cJ7_clear 5 = .ok (.iconst 1, 1) := dk_4 (dk_at dksJ7_clear_0 5 rfl rfl)
theorem dJ7_clear_6 : decode cJ7_clear 6 = .ok (.iadd, 1) := dk_96 (dk_at dksJ7_clear_0 6 rfl rfl)
theorem dJ7_clear_7 : decode cJ7_clear 7 = .ok (.putfield 93, 3) := dk_181 0 93 (dk_at dksJ7_clear_0 7 rfl rfl)
theorem dJ7_clear_10 : decode cJ7_clear 10 = .ok (.aload_n 0, 1) := dk_42 (dk_at dksJ7_clear_0 10 rfl rfl)
theorem dJ7_clear_11 : decode cJ7_clear 11 = .ok (.getfield 17, 3) := dk_180 0 17 (dk_at dksJ7_clear_0 11 rfl rfl)
theorem dJ7_clear_14 : decode cJ7_clear 14 = .ok (.astore_n 1, 1) := dk_76 (dk_at dksJ7_clear_0 14 rfl rfl)
theorem dJ7_clear_15 : decode cJ7_clear 15 = .ok (.iconst 0, 1) := dk_3 (dk_at dksJ7_clear_0 15 rfl rfl)
theorem dJ7_clear_16 : decode cJ7_clear 16 = .ok (.istore_n 2, 1) := dk_61 (dk_at dksJ7_clear_0 16 rfl rfl)
theorem dJ7_clear_17 : decode cJ7_clear 17 = .ok (.aload_n 0, 1) := dk_42 (dk_at dksJ7_clear_0 17 rfl rfl)
theorem dJ7_clear_18 : decode cJ7_clear 18 = .ok (.getfield 58, 3) := dk_180 0 58 (dk_at dksJ7_clear_0 18 rfl rfl)
theorem dJ7_clear_21 : decode cJ7_clear 21 = .ok (.istore_n 3, 1) := dk_62 (dk_at dksJ7_clear_0 21 rfl rfl)
theorem dJ7_clear_22 : decode cJ7_clear 22 = .ok (.iload_n 2, 1) := dk_28 (dk_at dksJ7_clear_0 22 rfl rfl)
theorem dJ7_clear_23 : decode cJ7_clear 23 = .ok (.iload_n 3, 1) := dk_29 (dk_at dksJ7_clear_0 23 rfl rfl)
theorem dJ7_clear_24 : decode cJ7_clear 24 = .ok (.if_icmp .ge 13, 3) := dk_162 0 13 (dk_at dksJ7_clear_1 0 rfl rfl)
theorem dJ7_clear_27 : decode cJ7_clear 27 = .ok (.aload_n 1, 1) := dk_43 (dk_at dksJ7_clear_1 3 rfl rfl)
theorem dJ7_clear_28 : decode cJ7_clear 28 = .ok (.iload_n 2, 1) := dk_28 (dk_at dksJ7_clear_1 4 rfl rfl)
theorem dJ7_clear_29 : decode cJ7_clear 29 = .ok (.aconst_null, 1) := dk_1 (dk_at dksJ7_clear_1 5 rfl rfl)
theorem dJ7_clear_30 : decode cJ7_clear 30 = .ok (.aastore, 1) := dk_83 (dk_at dksJ7_clear_1 6 rfl rfl)
theorem dJ7_clear_31 : decode cJ7_clear 31 = .ok (.iinc 2 1, 3) := dk_132 2 1 (dk_at dksJ7_clear_1 7 rfl rfl)
theorem dJ7_clear_34 : decode cJ7_clear 34 = .ok (.goto (-12), 3) := dk_167 255 244 (dk_at dksJ7_clear_1 10 rfl rfl)
theorem dJ7_clear_37 : decode cJ7_clear 37 = .ok (.aload_n 0, 1) := dk_42 (dk_at dksJ7_clear_1 13 rfl rfl)
theorem dJ7_clear_38 : decode cJ7_clear 38 = .ok (.iconst 0, 1) := dk_3 (dk_at dksJ7_clear_1 14 rfl rfl)
theorem dJ7_clear_39 : decode cJ7_clear 39 = .ok (.putfield 58, 3) := dk_181 0 58 (dk_at dksJ7_clear_1 15 rfl rfl)
theorem dJ7_clear_42 : decode cJ7_clear 42 = .ok (.return_, 1) := dk_177 (dk_at dksJ7_clear_1 18 rfl rfl)
abbrev cJ7_add : ByteArray := prog_52_method_13_code
def yJ7_add : MethodName := ⟨RJ7, "add", "(Ljava/lang/Object;)Z"⟩
def dkwJ7_add_0 : List UInt8 := [42, 43, 182, 0, 89, 172]
abbrev dktJ7_add_0 : List UInt8 := dkwJ7_add_0 ++ []
theorem dksJ7_add_0 : cJ7_add.data.toList.drop 0 = dktJ7_add_0 := by decide +kernel
theorem dJ7_add_0 : decode cJ7_add 0 = .ok (.aload_n 0, 1) := dk_42 (dk_at dksJ7_add_0 0 rfl rfl)
theorem dJ7_add_1 : decode cJ7_add 1 = .ok (.aload_n 1, 1) := dk_43 (dk_at dksJ7_add_0 1 rfl rfl)
theorem dJ7_add_2 : decode cJ7_add 2 = .ok (.invokevirtual 89, 3) := dk_182 0 89 (dk_at dksJ7_add_0 2 rfl rfl)
theorem dJ7_add_5 : decode cJ7_add 5 = .ok (.ireturn, 1) := dk_172 (dk_at dksJ7_add_0 5 rfl rfl)
abbrev cJ7_offer : ByteArray := prog_52_method_14_code
def yJ7_offer : MethodName := ⟨RJ7, "offe\x72", "(Ljava/lang/Object;)Z"⟩
def dkwJ7_offer_2 : List UInt8 := [182, 0, 100, 42, 28, 4, 96, 181, 0, 58, 4, 172]
abbrev dktJ7_offer_2 : List UInt8 := dkwJ7_offer_2 ++ []
def dkwJ7_offer_1 : List UInt8 := [180, 0, 58, 61, 28, 42, 180, 0, 17, 190, 161, 0, 10, 42, 28, 4, 96, 182, 0, 96, 42, 28, 43]
abbrev dktJ7_offer_1 : List UInt8 := dkwJ7_offer_1 ++ dktJ7_offer_2
def dkwJ7_offer_0 : List UInt8 := [43, 199, 0, 11, 187, 0, 74, 89, 183, 0, 76, 191, 42, 89, 180, 0, 93, 4, 96, 181, 0, 93, 42]
abbrev dktJ7_offer_0 : List UInt8 := dkwJ7_offer_0 ++ dktJ7_offer_1
theorem dksJ7_offer_0 : cJ7_offer.data.toList.drop 0 = dktJ7_offer_0 := by decide +kernel
theorem dksJ7_offer_1 : cJ7_offer.data.toList.drop 23 = dktJ7_offer_1 := dk_seg dksJ7_offer_0 23 rfl rfl
theorem dksJ7_offer_2 : cJ7_offer.data.toList.drop 46 = dktJ7_offer_2 := dk_seg dksJ7_offer_1 23 rfl rfl
theorem dJ7_offer_0 : decode cJ7_offer 0 = .ok (.aload_n 1, 1) := dk_43 (dk_at dksJ7_offer_0 0 rfl rfl)
theorem dJ7_offer_1 : decode cJ7_offer 1 = .ok (.ifnonnull 11, 3) := dk_199 0 11 (dk_at dksJ7_offer_0 1 rfl rfl)
theorem dJ7_offer_4 : decode cJ7_offer 4 = .ok (.new 74, 3) := dk_187 0 74 (dk_at dksJ7_offer_0 4 rfl rfl)
theorem dJ7_offer_7 : decode cJ7_offer 7 = .ok (.dup, 1) := dk_89 (dk_at dksJ7_offer_0 7 rfl rfl)
theorem dJ7_offer_8 : decode cJ7_offer 8 = .ok (.invokespecial 76, 3) := dk_183 0 76 (dk_at dksJ7_offer_0 8 rfl rfl)
theorem dJ7_offer_11 : decode cJ7_offer 11 = .ok (.athrow, 1) := dk_191 (dk_at dksJ7_offer_0 11 rfl rfl)
theorem dJ7_offer_12 : decode cJ7_offer 12 = .ok (.aload_n 0, 1) := dk_42 (dk_at dksJ7_offer_0 12 rfl rfl)
theorem dJ7_offer_13 : decode cJ7_offer 13 = .ok (.dup, 1) := dk_89 (dk_at dksJ7_offer_0 13 rfl rfl)
theorem dJ7_offer_14 : decode cJ7_offer 14 = .ok (.getfield 93, 3) := dk_180 0 93 (dk_at dksJ7_offer_0 14 rfl rfl)
theorem dJ7_offer_17 : decode cJ7_offer 17 = .ok (.iconst 1, 1) := dk_4 (dk_at dksJ7_offer_0 17 rfl rfl)
theorem dJ7_offer_18 : decode cJ7_offer 18 = .ok (.iadd, 1) := dk_96 (dk_at dksJ7_offer_0 18 rfl rfl)
theorem dJ7_offer_19 : decode cJ7_offer 19 = .ok (.putfield 93, 3) := dk_181 0 93 (dk_at dksJ7_offer_0 19 rfl rfl)
theorem dJ7_offer_22 : decode cJ7_offer 22 = .ok (.aload_n 0, 1) := dk_42 (dk_at dksJ7_offer_0 22 rfl rfl)
theorem dJ7_offer_23 : decode cJ7_offer 23 = .ok (.getfield 58, 3) := dk_180 0 58 (dk_at dksJ7_offer_1 0 rfl rfl)
theorem dJ7_offer_26 : decode cJ7_offer 26 = .ok (.istore_n 2, 1) := dk_61 (dk_at dksJ7_offer_1 3 rfl rfl)
theorem dJ7_offer_27 : decode cJ7_offer 27 = .ok (.iload_n 2, 1) := dk_28 (dk_at dksJ7_offer_1 4 rfl rfl)
theorem dJ7_offer_28 : decode cJ7_offer 28 = .ok (.aload_n 0, 1) := dk_42 (dk_at dksJ7_offer_1 5 rfl rfl)
theorem dJ7_offer_29 : decode cJ7_offer 29 = .ok (.getfield 17, 3) := dk_180 0 17 (dk_at dksJ7_offer_1 6 rfl rfl)
theorem dJ7_offer_32 : decode cJ7_offer 32 = .ok (.arraylength, 1) := dk_190 (dk_at dksJ7_offer_1 9 rfl rfl)
theorem dJ7_offer_33 : decode cJ7_offer 33 = .ok (.if_icmp .lt 10, 3) := dk_161 0 10 (dk_at dksJ7_offer_1 10 rfl rfl)
theorem dJ7_offer_36 : decode cJ7_offer 36 = .ok (.aload_n 0, 1) := dk_42 (dk_at dksJ7_offer_1 13 rfl rfl)
theorem dJ7_offer_37 : decode cJ7_offer 37 = .ok (.iload_n 2, 1) := dk_28 (dk_at dksJ7_offer_1 14 rfl rfl)
theorem dJ7_offer_38 : decode cJ7_offer 38 = .ok (.iconst 1, 1) := dk_4 (dk_at dksJ7_offer_1 15 rfl rfl)
theorem dJ7_offer_39 : decode cJ7_offer 39 = .ok (.iadd, 1) := dk_96 (dk_at dksJ7_offer_1 16 rfl rfl)
theorem dJ7_offer_40 : decode cJ7_offer 40 = .ok (.invokevirtual 96, 3) := dk_182 0 96 (dk_at dksJ7_offer_1 17 rfl rfl)
theorem dJ7_offer_43 : decode cJ7_offer 43 = .ok (.aload_n 0, 1) := dk_42 (dk_at dksJ7_offer_1 20 rfl rfl)
theorem dJ7_offer_44 : decode cJ7_offer 44 = .ok (.iload_n 2, 1) := dk_28 (dk_at dksJ7_offer_1 21 rfl rfl)
theorem dJ7_offer_45 : decode cJ7_offer 45 = .ok (.aload_n 1, 1) := dk_43 (dk_at dksJ7_offer_1 22 rfl rfl)
theorem dJ7_offer_46 : decode cJ7_offer 46 = .ok (.invokevirtual 100, 3) := dk_182 0 100 (dk_at dksJ7_offer_2 0 rfl rfl)
theorem dJ7_offer_49 : decode cJ7_offer 49 = .ok (.aload_n 0, 1) := dk_42 (dk_at dksJ7_offer_2 3 rfl rfl)
theorem dJ7_offer_50 : decode cJ7_offer 50 = .ok (.iload_n 2, 1) := dk_28 (dk_at dksJ7_offer_2 4 rfl rfl)
theorem dJ7_offer_51 : decode cJ7_offer 51 = .ok (.iconst 1, 1) := dk_4 (dk_at dksJ7_offer_2 5 rfl rfl)
theorem dJ7_offer_52 : decode cJ7_offer 52 = .ok (.iadd, 1) := dk_96 (dk_at dksJ7_offer_2 6 rfl rfl)
theorem dJ7_offer_53 : decode cJ7_offer 53 = .ok (.putfield 58, 3) := dk_181 0 58 (dk_at dksJ7_offer_2 7 rfl rfl)
theorem dJ7_offer_56 : decode cJ7_offer 56 = .ok (.iconst 1, 1) := dk_4 (dk_at dksJ7_offer_2 10 rfl rfl)
theorem dJ7_offer_57 : decode cJ7_offer 57 = .ok (.ireturn, 1) := dk_172 (dk_at dksJ7_offer_2 11 rfl rfl)
abbrev cJ7_grow : ByteArray := prog_52_method_12_code
def yJ7_grow : MethodName := ⟨RJ7, "grow", "(I)V"⟩
def dkwJ7_grow_1 : List UInt8 := [122, 184, 0, 80, 62, 42, 42, 180, 0, 17, 29, 184, 0, 86, 181, 0, 17, 177]
abbrev dktJ7_grow_1 : List UInt8 := dkwJ7_grow_1 ++ []
def dkwJ7_grow_0 : List UInt8 := [42, 180, 0, 17, 190, 61, 28, 27, 28, 100, 28, 16, 64, 162, 0, 9, 28, 5, 96, 167, 0, 6, 28, 4]
abbrev dktJ7_grow_0 : List UInt8 := dkwJ7_grow_0 ++ dktJ7_grow_1
theorem dksJ7_grow_0 : cJ7_grow.data.toList.drop 0 = dktJ7_grow_0 := by decide +kernel
theorem dksJ7_grow_1 : cJ7_grow.data.toList.drop 24 = dktJ7_grow_1 := dk_seg dksJ7_grow_0 24 rfl rfl
theorem dJ7_grow_0 : decode cJ7_grow 0 = .ok (.aload_n 0, 1) := dk_42 (dk_at dksJ7_grow_0 0 rfl rfl)
theorem dJ7_grow_1 : decode cJ7_grow 1 = .ok (.getfield 17, 3) := dk_180 0 17 (dk_at dksJ7_grow_0 1 rfl rfl)
theorem dJ7_grow_4 : decode cJ7_grow 4 = .ok (.arraylength, 1) := dk_190 (dk_at dksJ7_grow_0 4 rfl rfl)
theorem dJ7_grow_5 : decode cJ7_grow 5 = .ok (.istore_n 2, 1) := dk_61 (dk_at dksJ7_grow_0 5 rfl rfl)
theorem dJ7_grow_6 : decode cJ7_grow 6 = .ok (.iload_n 2, 1) := dk_28 (dk_at dksJ7_grow_0 6 rfl rfl)
theorem dJ7_grow_7 : decode cJ7_grow 7 = .ok (.iload_n 1, 1) := dk_27 (dk_at dksJ7_grow_0 7 rfl rfl)
theorem dJ7_grow_8 : decode cJ7_grow 8 = .ok (.iload_n 2, 1) := dk_28 (dk_at dksJ7_grow_0 8 rfl rfl)
theorem dJ7_grow_9 : decode cJ7_grow 9 = .ok (.isub, 1) := dk_100 (dk_at dksJ7_grow_0 9 rfl rfl)
theorem dJ7_grow_10 : decode cJ7_grow 10 = .ok (.iload_n 2, 1) := dk_28 (dk_at dksJ7_grow_0 10 rfl rfl)
theorem dJ7_grow_11 : decode cJ7_grow 11 = .ok (.bipush 64, 2) := dk_16 64 (dk_at dksJ7_grow_0 11 rfl rfl)
theorem dJ7_grow_13 : decode cJ7_grow 13 = .ok (.if_icmp .ge 9, 3) := dk_162 0 9 (dk_at dksJ7_grow_0 13 rfl rfl)
theorem dJ7_grow_16 : decode cJ7_grow 16 = .ok (.iload_n 2, 1) := dk_28 (dk_at dksJ7_grow_0 16 rfl rfl)
theorem dJ7_grow_17 : decode cJ7_grow 17 = .ok (.iconst 2, 1) := dk_5 (dk_at dksJ7_grow_0 17 rfl rfl)
theorem dJ7_grow_18 : decode cJ7_grow 18 = .ok (.iadd, 1) := dk_96 (dk_at dksJ7_grow_0 18 rfl rfl)
theorem dJ7_grow_19 : decode cJ7_grow 19 = .ok (.goto 6, 3) := dk_167 0 6 (dk_at dksJ7_grow_0 19 rfl rfl)
theorem dJ7_grow_22 : decode cJ7_grow 22 = .ok (.iload_n 2, 1) := dk_28 (dk_at dksJ7_grow_0 22 rfl rfl)
theorem dJ7_grow_23 : decode cJ7_grow 23 = .ok (.iconst 1, 1) := dk_4 (dk_at dksJ7_grow_0 23 rfl rfl)
theorem dJ7_grow_24 : decode cJ7_grow 24 = .ok (.ishr, 1) := dk_122 (dk_at dksJ7_grow_1 0 rfl rfl)
theorem dJ7_grow_25 : decode cJ7_grow 25 = .ok (.invokestatic 80, 3) := dk_184 0 80 (dk_at dksJ7_grow_1 1 rfl rfl)
theorem dJ7_grow_28 : decode cJ7_grow 28 = .ok (.istore_n 3, 1) := dk_62 (dk_at dksJ7_grow_1 4 rfl rfl)
theorem dJ7_grow_29 : decode cJ7_grow 29 = .ok (.aload_n 0, 1) := dk_42 (dk_at dksJ7_grow_1 5 rfl rfl)
theorem dJ7_grow_30 : decode cJ7_grow 30 = .ok (.aload_n 0, 1) := dk_42 (dk_at dksJ7_grow_1 6 rfl rfl)
theorem dJ7_grow_31 : decode cJ7_grow 31 = .ok (.getfield 17, 3) := dk_180 0 17 (dk_at dksJ7_grow_1 7 rfl rfl)
theorem dJ7_grow_34 : decode cJ7_grow 34 = .ok (.iload_n 3, 1) := dk_29 (dk_at dksJ7_grow_1 10 rfl rfl)
theorem dJ7_grow_35 : decode cJ7_grow 35 = .ok (.invokestatic 86, 3) := dk_184 0 86 (dk_at dksJ7_grow_1 11 rfl rfl)
theorem dJ7_grow_38 : decode cJ7_grow 38 = .ok (.putfield 17, 3) := dk_181 0 17 (dk_at dksJ7_grow_1 14 rfl rfl)
theorem dJ7_grow_41 : decode cJ7_grow 41 = .ok (.return_, 1) := dk_177 (dk_at dksJ7_grow_1 17 rfl rfl)
abbrev cJ7_siftUp : ByteArray := prog_52_method_27_code
def yJ7_siftUp : MethodName := ⟨RJ7, "siftUp", "(ILjava/lang/Object;)V"⟩
def dkwJ7_siftUp_1 : List UInt8 := [44, 42, 180, 0, 17, 184, 0, 140, 177]
abbrev dktJ7_siftUp_1 : List UInt8 := dkwJ7_siftUp_1 ++ []
def dkwJ7_siftUp_0 : List UInt8 := [42, 180, 0, 21, 198, 0, 19, 27, 44, 42, 180, 0, 17, 42, 180, 0, 21, 184, 0, 136, 167, 0, 12, 27]
abbrev dktJ7_siftUp_0 : List UInt8 := dkwJ7_siftUp_0 ++ dktJ7_siftUp_1
theorem dksJ7_siftUp_0 : cJ7_siftUp.data.toList.drop 0 = dktJ7_siftUp_0 := by decide +kernel
theorem dksJ7_siftUp_1 : cJ7_siftUp.data.toList.drop 24 = dktJ7_siftUp_1 := dk_seg dksJ7_siftUp_0 24 rfl rfl
theorem dJ7_siftUp_0 : decode cJ7_siftUp 0 = .ok (.aload_n 0, 1) := dk_42 (dk_at dksJ7_siftUp_0 0 rfl rfl)
theorem dJ7_siftUp_1 : decode cJ7_siftUp 1 = .ok (.getfield 21, 3) := dk_180 0 21 (dk_at dksJ7_siftUp_0 1 rfl rfl)
theorem dJ7_siftUp_4 : decode cJ7_siftUp 4 = .ok (.ifnull 19, 3) := dk_198 0 19 (dk_at dksJ7_siftUp_0 4 rfl rfl)
theorem dJ7_siftUp_7 : decode cJ7_siftUp 7 = .ok (.iload_n 1, 1) := dk_27 (dk_at dksJ7_siftUp_0 7 rfl rfl)
theorem dJ7_siftUp_8 : decode cJ7_siftUp 8 = .ok (.aload_n 2, 1) := dk_44 (dk_at dksJ7_siftUp_0 8 rfl rfl)
theorem dJ7_siftUp_9 : decode cJ7_siftUp 9 = .ok (.aload_n 0, 1) := dk_42 (dk_at dksJ7_siftUp_0 9 rfl rfl)
theorem dJ7_siftUp_10 : decode cJ7_siftUp 10 = .ok (.getfield 17, 3) := dk_180 0 17 (dk_at dksJ7_siftUp_0 10 rfl rfl)
theorem dJ7_siftUp_13 : decode cJ7_siftUp 13 = .ok (.aload_n 0, 1) := dk_42 (dk_at dksJ7_siftUp_0 13 rfl rfl)
theorem dJ7_siftUp_14 : decode cJ7_siftUp 14 = .ok (.getfield 21, 3) := dk_180 0 21 (dk_at dksJ7_siftUp_0 14 rfl rfl)
theorem dJ7_siftUp_17 : decode cJ7_siftUp 17 = .ok (.invokestatic 136, 3) := dk_184 0 136 (dk_at dksJ7_siftUp_0 17 rfl rfl)
theorem dJ7_siftUp_20 : decode cJ7_siftUp 20 = .ok (.goto 12, 3) := dk_167 0 12 (dk_at dksJ7_siftUp_0 20 rfl rfl)
theorem dJ7_siftUp_23 : decode cJ7_siftUp 23 = .ok (.iload_n 1, 1) := dk_27 (dk_at dksJ7_siftUp_0 23 rfl rfl)
theorem dJ7_siftUp_24 : decode cJ7_siftUp 24 = .ok (.aload_n 2, 1) := dk_44 (dk_at dksJ7_siftUp_1 0 rfl rfl)
theorem dJ7_siftUp_25 : decode cJ7_siftUp 25 = .ok (.aload_n 0, 1) := dk_42 (dk_at dksJ7_siftUp_1 1 rfl rfl)
theorem dJ7_siftUp_26 : decode cJ7_siftUp 26 = .ok (.getfield 17, 3) := dk_180 0 17 (dk_at dksJ7_siftUp_1 2 rfl rfl)
theorem dJ7_siftUp_29 : decode cJ7_siftUp 29 = .ok (.invokestatic 140, 3) := dk_184 0 140 (dk_at dksJ7_siftUp_1 5 rfl rfl)
theorem dJ7_siftUp_32 : decode cJ7_siftUp 32 = .ok (.return_, 1) := dk_177 (dk_at dksJ7_siftUp_1 8 rfl rfl)
abbrev cJ7_siftUpUsingComparator : ByteArray := prog_52_method_29_code
def yJ7_siftUpUsingComparator : MethodName := ⟨RJ7, "siftUpUsingComparato\x72", "(ILjava/lang/Object;[Ljava/lang/Object;Ljava/util/Comparator;)V"⟩
def dkwJ7_siftUpUsingComparator_2 : List UInt8 := [43, 83, 177]
abbrev dktJ7_siftUpUsingComparator_2 : List UInt8 := dkwJ7_siftUpUsingComparator_2 ++ []
def dkwJ7_siftUpUsingComparator_1 : List UInt8 := [185, 0, 149, 3, 0, 155, 0, 6, 167, 0, 14, 44, 26, 25, 5, 83, 21, 4, 59, 167, 255, 216, 44, 26]
abbrev dktJ7_siftUpUsingComparator_1 : List UInt8 := dkwJ7_siftUpUsingComparator_1 ++ dktJ7_siftUpUsingComparator_2
def dkwJ7_siftUpUsingComparator_0 : List UInt8 := [26, 158, 0, 42, 26, 4, 100, 4, 124, 54, 4, 44, 21, 4, 50, 58, 5, 45, 43, 25, 5]
abbrev dktJ7_siftUpUsingComparator_0 : List UInt8 := dkwJ7_siftUpUsingComparator_0 ++ dktJ7_siftUpUsingComparator_1
theorem dksJ7_siftUpUsingComparator_0 : cJ7_siftUpUsingComparator.data.toList.drop 0 = dktJ7_siftUpUsingComparator_0 := by decide +kernel
theorem dksJ7_siftUpUsingComparator_1 : cJ7_siftUpUsingComparator.data.toList.drop 21 = dktJ7_siftUpUsingComparator_1 := dk_seg dksJ7_siftUpUsingComparator_0 21 rfl rfl
theorem dksJ7_siftUpUsingComparator_2 : cJ7_siftUpUsingComparator.data.toList.drop 45 = dktJ7_siftUpUsingComparator_2 := dk_seg dksJ7_siftUpUsingComparator_1 24 rfl rfl
theorem dJ7_siftUpUsingComparator_0 : decode cJ7_siftUpUsingComparator 0 = .ok (.iload_n 0, 1) := dk_26 (dk_at dksJ7_siftUpUsingComparator_0 0 rfl rfl)
theorem dJ7_siftUpUsingComparator_1 : decode cJ7_siftUpUsingComparator 1 = .ok (.ifCond .le 42, 3) := dk_158 0 42 (dk_at dksJ7_siftUpUsingComparator_0 1 rfl rfl)
theorem dJ7_siftUpUsingComparator_4 : decode cJ7_siftUpUsingComparator 4 = .ok (.iload_n 0, 1) := dk_26 (dk_at dksJ7_siftUpUsingComparator_0 4 rfl rfl)
theorem dJ7_siftUpUsingComparator_5 : decode cJ7_siftUpUsingComparator 5 = .ok (.iconst 1, 1) := dk_4 (dk_at dksJ7_siftUpUsingComparator_0 5 rfl rfl)
theorem dJ7_siftUpUsingComparator_6 : decode cJ7_siftUpUsingComparator 6 = .ok (.isub, 1) := dk_100 (dk_at dksJ7_siftUpUsingComparator_0 6 rfl rfl)
theorem dJ7_siftUpUsingComparator_7 : decode cJ7_siftUpUsingComparator 7 = .ok (.iconst 1, 1) := dk_4 (dk_at dksJ7_siftUpUsingComparator_0 7 rfl rfl)
theorem dJ7_siftUpUsingComparator_8 : decode cJ7_siftUpUsingComparator 8 = .ok (.iushr, 1) := dk_124 (dk_at dksJ7_siftUpUsingComparator_0 8 rfl rfl)
theorem dJ7_siftUpUsingComparator_9 : decode cJ7_siftUpUsingComparator 9 = .ok (.istore 4, 2) := dk_54 4 (dk_at dksJ7_siftUpUsingComparator_0 9 rfl rfl)
theorem dJ7_siftUpUsingComparator_11 : decode cJ7_siftUpUsingComparator 11 = .ok (.aload_n 2, 1) := dk_44 (dk_at dksJ7_siftUpUsingComparator_0 11 rfl rfl)
theorem dJ7_siftUpUsingComparator_12 : decode cJ7_siftUpUsingComparator 12 = .ok (.iload 4, 2) := dk_21 4 (dk_at dksJ7_siftUpUsingComparator_0 12 rfl rfl)
theorem dJ7_siftUpUsingComparator_14 : decode cJ7_siftUpUsingComparator 14 = .ok (.aaload, 1) := dk_50 (dk_at dksJ7_siftUpUsingComparator_0 14 rfl rfl)
theorem dJ7_siftUpUsingComparator_15 : decode cJ7_siftUpUsingComparator 15 = .ok (.astore 5, 2) := dk_58 5 (dk_at dksJ7_siftUpUsingComparator_0 15 rfl rfl)
theorem dJ7_siftUpUsingComparator_17 : decode cJ7_siftUpUsingComparator 17 = .ok (.aload_n 3, 1) := dk_45 (dk_at dksJ7_siftUpUsingComparator_0 17 rfl rfl)
theorem dJ7_siftUpUsingComparator_18 : decode cJ7_siftUpUsingComparator 18 = .ok (.aload_n 1, 1) := dk_43 (dk_at dksJ7_siftUpUsingComparator_0 18 rfl rfl)
theorem dJ7_siftUpUsingComparator_19 : decode cJ7_siftUpUsingComparator 19 = .ok (.aload 5, 2) := dk_25 5 (dk_at dksJ7_siftUpUsingComparator_0 19 rfl rfl)
theorem dJ7_siftUpUsingComparator_21 : decode cJ7_siftUpUsingComparator 21 = .ok (.invokeinterface 149 3, 5) := by decide +kernel
theorem dJ7_siftUpUsingComparator_26 : decode cJ7_siftUpUsingComparator 26 = .ok (.ifCond .lt 6, 3) := dk_155 0 6 (dk_at dksJ7_siftUpUsingComparator_1 5 rfl rfl)
theorem dJ7_siftUpUsingComparator_29 : decode cJ7_siftUpUsingComparator 29 = .ok (.goto 14, 3) := dk_167 0 14 (dk_at dksJ7_siftUpUsingComparator_1 8 rfl rfl)
theorem dJ7_siftUpUsingComparator_32 : decode cJ7_siftUpUsingComparator 32 = .ok (.aload_n 2, 1) := dk_44 (dk_at dksJ7_siftUpUsingComparator_1 11 rfl rfl)
theorem dJ7_siftUpUsingComparator_33 : decode cJ7_siftUpUsingComparator 33 = .ok (.iload_n 0, 1) := dk_26 (dk_at dksJ7_siftUpUsingComparator_1 12 rfl rfl)
theorem dJ7_siftUpUsingComparator_34 : decode cJ7_siftUpUsingComparator 34 = .ok (.aload 5, 2) := dk_25 5 (dk_at dksJ7_siftUpUsingComparator_1 13 rfl rfl)
theorem dJ7_siftUpUsingComparator_36 : decode cJ7_siftUpUsingComparator 36 = .ok (.aastore, 1) := dk_83 (dk_at dksJ7_siftUpUsingComparator_1 15 rfl rfl)
theorem dJ7_siftUpUsingComparator_37 : decode cJ7_siftUpUsingComparator 37 = .ok (.iload 4, 2) := dk_21 4 (dk_at dksJ7_siftUpUsingComparator_1 16 rfl rfl)
theorem dJ7_siftUpUsingComparator_39 : decode cJ7_siftUpUsingComparator 39 = .ok (.istore_n 0, 1) := dk_59 (dk_at dksJ7_siftUpUsingComparator_1 18 rfl rfl)
theorem dJ7_siftUpUsingComparator_40 : decode cJ7_siftUpUsingComparator 40 = .ok (.goto (-40), 3) := dk_167 255 216 (dk_at dksJ7_siftUpUsingComparator_1 19 rfl rfl)
theorem dJ7_siftUpUsingComparator_43 : decode cJ7_siftUpUsingComparator 43 = .ok (.aload_n 2, 1) := dk_44 (dk_at dksJ7_siftUpUsingComparator_1 22 rfl rfl)
theorem dJ7_siftUpUsingComparator_44 : decode cJ7_siftUpUsingComparator 44 = .ok (.iload_n 0, 1) := dk_26 (dk_at dksJ7_siftUpUsingComparator_1 23 rfl rfl)
theorem dJ7_siftUpUsingComparator_45 : decode cJ7_siftUpUsingComparator 45 = .ok (.aload_n 1, 1) := dk_43 (dk_at dksJ7_siftUpUsingComparator_2 0 rfl rfl)
theorem dJ7_siftUpUsingComparator_46 : decode cJ7_siftUpUsingComparator 46 = .ok (.aastore, 1) := dk_83 (dk_at dksJ7_siftUpUsingComparator_2 1 rfl rfl)
theorem dJ7_siftUpUsingComparator_47 : decode cJ7_siftUpUsingComparator 47 = .ok (.return_, 1) := dk_177 (dk_at dksJ7_siftUpUsingComparator_2 2 rfl rfl)
abbrev cJ7_siftUpComparable : ByteArray := prog_52_method_28_code
def yJ7_siftUpComparable : MethodName := ⟨RJ7, "siftUpComparable", "(ILjava/lang/Object;[Ljava/lang/Object;)V"⟩
def dkwJ7_siftUpComparable_2 : List UInt8 := [44, 26, 45, 83, 177]
abbrev dktJ7_siftUpComparable_2 : List UInt8 := dkwJ7_siftUpComparable_2 ++ []
def dkwJ7_siftUpComparable_1 : List UInt8 := [25, 5, 185, 0, 146, 2, 0, 155, 0, 6, 167, 0, 14, 44, 26, 25, 5, 83, 21, 4, 59, 167, 255, 217]
abbrev dktJ7_siftUpComparable_1 : List UInt8 := dkwJ7_siftUpComparable_1 ++ dktJ7_siftUpComparable_2
def dkwJ7_siftUpComparable_0 : List UInt8 := [43, 192, 0, 144, 78, 26, 158, 0, 41, 26, 4, 100, 4, 124, 54, 4, 44, 21, 4, 50, 58, 5, 45]
abbrev dktJ7_siftUpComparable_0 : List UInt8 := dkwJ7_siftUpComparable_0 ++ dktJ7_siftUpComparable_1
theorem dksJ7_siftUpComparable_0 : cJ7_siftUpComparable.data.toList.drop 0 = dktJ7_siftUpComparable_0 := by decide +kernel
theorem dksJ7_siftUpComparable_1 : cJ7_siftUpComparable.data.toList.drop 23 = dktJ7_siftUpComparable_1 := dk_seg dksJ7_siftUpComparable_0 23 rfl rfl
theorem dksJ7_siftUpComparable_2 : cJ7_siftUpComparable.data.toList.drop 47 = dktJ7_siftUpComparable_2 := dk_seg dksJ7_siftUpComparable_1 24 rfl rfl
theorem dJ7_siftUpComparable_0 : decode cJ7_siftUpComparable 0 = .ok (.aload_n 1, 1) := dk_43 (dk_at dksJ7_siftUpComparable_0 0 rfl rfl)
theorem dJ7_siftUpComparable_1 : decode cJ7_siftUpComparable 1 = .ok (.checkcast 144, 3) := dk_192 0 144 (dk_at dksJ7_siftUpComparable_0 1 rfl rfl)
theorem dJ7_siftUpComparable_4 : decode cJ7_siftUpComparable 4 = .ok (.astore_n 3, 1) := dk_78 (dk_at dksJ7_siftUpComparable_0 4 rfl rfl)
theorem dJ7_siftUpComparable_5 : decode cJ7_siftUpComparable 5 = .ok (.iload_n 0, 1) := dk_26 (dk_at dksJ7_siftUpComparable_0 5 rfl rfl)
theorem dJ7_siftUpComparable_6 : decode cJ7_siftUpComparable 6 = .ok (.ifCond .le 41, 3) := dk_158 0 41 (dk_at dksJ7_siftUpComparable_0 6 rfl rfl)
theorem dJ7_siftUpComparable_9 : decode cJ7_siftUpComparable 9 = .ok (.iload_n 0, 1) := dk_26 (dk_at dksJ7_siftUpComparable_0 9 rfl rfl)
theorem dJ7_siftUpComparable_10 : decode cJ7_siftUpComparable 10 = .ok (.iconst 1, 1) := dk_4 (dk_at dksJ7_siftUpComparable_0 10 rfl rfl)
theorem dJ7_siftUpComparable_11 : decode cJ7_siftUpComparable 11 = .ok (.isub, 1) := dk_100 (dk_at dksJ7_siftUpComparable_0 11 rfl rfl)
theorem dJ7_siftUpComparable_12 : decode cJ7_siftUpComparable 12 = .ok (.iconst 1, 1) := dk_4 (dk_at dksJ7_siftUpComparable_0 12 rfl rfl)
theorem dJ7_siftUpComparable_13 : decode cJ7_siftUpComparable 13 = .ok (.iushr, 1) := dk_124 (dk_at dksJ7_siftUpComparable_0 13 rfl rfl)
theorem dJ7_siftUpComparable_14 : decode cJ7_siftUpComparable 14 = .ok (.istore 4, 2) := dk_54 4 (dk_at dksJ7_siftUpComparable_0 14 rfl rfl)
theorem dJ7_siftUpComparable_16 : decode cJ7_siftUpComparable 16 = .ok (.aload_n 2, 1) := dk_44 (dk_at dksJ7_siftUpComparable_0 16 rfl rfl)
theorem dJ7_siftUpComparable_17 : decode cJ7_siftUpComparable 17 = .ok (.iload 4, 2) := dk_21 4 (dk_at dksJ7_siftUpComparable_0 17 rfl rfl)
theorem dJ7_siftUpComparable_19 : decode cJ7_siftUpComparable 19 = .ok (.aaload, 1) := dk_50 (dk_at dksJ7_siftUpComparable_0 19 rfl rfl)
theorem dJ7_siftUpComparable_20 : decode cJ7_siftUpComparable 20 = .ok (.astore 5, 2) := dk_58 5 (dk_at dksJ7_siftUpComparable_0 20 rfl rfl)
theorem dJ7_siftUpComparable_22 : decode cJ7_siftUpComparable 22 = .ok (.aload_n 3, 1) := dk_45 (dk_at dksJ7_siftUpComparable_0 22 rfl rfl)
theorem dJ7_siftUpComparable_23 : decode cJ7_siftUpComparable 23 = .ok (.aload 5, 2) := dk_25 5 (dk_at dksJ7_siftUpComparable_1 0 rfl rfl)
theorem dJ7_siftUpComparable_25 : decode cJ7_siftUpComparable 25 = .ok (.invokeinterface 146 2, 5) := by decide +kernel
theorem dJ7_siftUpComparable_30 : decode cJ7_siftUpComparable 30 = .ok (.ifCond .lt 6, 3) := dk_155 0 6 (dk_at dksJ7_siftUpComparable_1 7 rfl rfl)
theorem dJ7_siftUpComparable_33 : decode cJ7_siftUpComparable 33 = .ok (.goto 14, 3) := dk_167 0 14 (dk_at dksJ7_siftUpComparable_1 10 rfl rfl)
theorem dJ7_siftUpComparable_36 : decode cJ7_siftUpComparable 36 = .ok (.aload_n 2, 1) := dk_44 (dk_at dksJ7_siftUpComparable_1 13 rfl rfl)
theorem dJ7_siftUpComparable_37 : decode cJ7_siftUpComparable 37 = .ok (.iload_n 0, 1) := dk_26 (dk_at dksJ7_siftUpComparable_1 14 rfl rfl)
theorem dJ7_siftUpComparable_38 : decode cJ7_siftUpComparable 38 = .ok (.aload 5, 2) := dk_25 5 (dk_at dksJ7_siftUpComparable_1 15 rfl rfl)
theorem dJ7_siftUpComparable_40 : decode cJ7_siftUpComparable 40 = .ok (.aastore, 1) := dk_83 (dk_at dksJ7_siftUpComparable_1 17 rfl rfl)
theorem dJ7_siftUpComparable_41 : decode cJ7_siftUpComparable 41 = .ok (.iload 4, 2) := dk_21 4 (dk_at dksJ7_siftUpComparable_1 18 rfl rfl)
theorem dJ7_siftUpComparable_43 : decode cJ7_siftUpComparable 43 = .ok (.istore_n 0, 1) := dk_59 (dk_at dksJ7_siftUpComparable_1 20 rfl rfl)
theorem dJ7_siftUpComparable_44 : decode cJ7_siftUpComparable 44 = .ok (.goto (-39), 3) := dk_167 255 217 (dk_at dksJ7_siftUpComparable_1 21 rfl rfl)
theorem dJ7_siftUpComparable_47 : decode cJ7_siftUpComparable 47 = .ok (.aload_n 2, 1) := dk_44 (dk_at dksJ7_siftUpComparable_2 0 rfl rfl)
theorem dJ7_siftUpComparable_48 : decode cJ7_siftUpComparable 48 = .ok (.iload_n 0, 1) := dk_26 (dk_at dksJ7_siftUpComparable_2 1 rfl rfl)
theorem dJ7_siftUpComparable_49 : decode cJ7_siftUpComparable 49 = .ok (.aload_n 3, 1) := dk_45 (dk_at dksJ7_siftUpComparable_2 2 rfl rfl)
theorem dJ7_siftUpComparable_50 : decode cJ7_siftUpComparable 50 = .ok (.aastore, 1) := dk_83 (dk_at dksJ7_siftUpComparable_2 3 rfl rfl)
theorem dJ7_siftUpComparable_51 : decode cJ7_siftUpComparable 51 = .ok (.return_, 1) := dk_177 (dk_at dksJ7_siftUpComparable_2 4 rfl rfl)
abbrev cJ7_size : ByteArray := prog_52_method_23_code
def yJ7_size : MethodName := ⟨RJ7, "size", "()I"⟩
theorem dJ7_size_0 : decode cJ7_size 0 = .ok (.aload_n 0, 1) := by decide +kernel
theorem dJ7_size_1 : decode cJ7_size 1 = .ok (.getfield 58, 3) := by decide +kernel
theorem dJ7_size_4 : decode cJ7_size 4 = .ok (.ireturn, 1) := by decide +kernel
abbrev cJ7_poll : ByteArray := prog_52_method_25_code
def yJ7_poll : MethodName := ⟨RJ7, "poll", "()Ljava/lang/Object;"⟩
def dkwJ7_poll_3 : List UInt8 := [43, 29, 25, 5, 184, 0, 129, 44, 176]
abbrev dktJ7_poll_3 : List UInt8 := dkwJ7_poll_3 ++ []
def dkwJ7_poll_2 : List UInt8 := [42, 180, 0, 21, 89, 58, 5, 199, 0, 14, 3, 25, 4, 43, 29, 184, 0, 125, 167, 0, 13, 3, 25, 4]
abbrev dktJ7_poll_2 : List UInt8 := dkwJ7_poll_2 ++ dktJ7_poll_3
def dkwJ7_poll_1 : List UInt8 := [42, 89, 180, 0, 58, 4, 100, 90, 181, 0, 58, 89, 62, 50, 58, 4, 43, 29, 1, 83, 29, 158, 0, 34]
abbrev dktJ7_poll_1 : List UInt8 := dkwJ7_poll_1 ++ dktJ7_poll_2
def dkwJ7_poll_0 : List UInt8 := [42, 180, 0, 17, 89, 76, 3, 50, 89, 77, 198, 0, 69, 42, 89, 180, 0, 93, 4, 96, 181, 0, 93, 43]
abbrev dktJ7_poll_0 : List UInt8 := dkwJ7_poll_0 ++ dktJ7_poll_1
theorem dksJ7_poll_0 : cJ7_poll.data.toList.drop 0 = dktJ7_poll_0 := by decide +kernel
theorem dksJ7_poll_1 : cJ7_poll.data.toList.drop 24 = dktJ7_poll_1 := dk_seg dksJ7_poll_0 24 rfl rfl
theorem dksJ7_poll_2 : cJ7_poll.data.toList.drop 48 = dktJ7_poll_2 := dk_seg dksJ7_poll_1 24 rfl rfl
theorem dksJ7_poll_3 : cJ7_poll.data.toList.drop 72 = dktJ7_poll_3 := dk_seg dksJ7_poll_2 24 rfl rfl
theorem dJ7_poll_0 : decode cJ7_poll 0 = .ok (.aload_n 0, 1) := dk_42 (dk_at dksJ7_poll_0 0 rfl rfl)
theorem dJ7_poll_1 : decode cJ7_poll 1 = .ok (.getfield 17, 3) := dk_180 0 17 (dk_at dksJ7_poll_0 1 rfl rfl)
theorem dJ7_poll_4 : decode cJ7_poll 4 = .ok (.dup, 1) := dk_89 (dk_at dksJ7_poll_0 4 rfl rfl)
theorem dJ7_poll_5 : decode cJ7_poll 5 = .ok (.astore_n 1, 1) := dk_76 (dk_at dksJ7_poll_0 5 rfl rfl)
theorem dJ7_poll_6 : decode cJ7_poll 6 = .ok (.iconst 0, 1) := dk_3 (dk_at dksJ7_poll_0 6 rfl rfl)
theorem dJ7_poll_7 : decode cJ7_poll 7 = .ok (.aaload, 1) := dk_50 (dk_at dksJ7_poll_0 7 rfl rfl)
theorem dJ7_poll_8 : decode cJ7_poll 8 = .ok (.dup, 1) := dk_89 (dk_at dksJ7_poll_0 8 rfl rfl)
theorem dJ7_poll_9 : decode cJ7_poll 9 = .ok (.astore_n 2, 1) := dk_77 (dk_at dksJ7_poll_0 9 rfl rfl)
theorem dJ7_poll_10 : decode cJ7_poll 10 = .ok (.ifnull 69, 3) := dk_198 0 69 (dk_at dksJ7_poll_0 10 rfl rfl)
theorem dJ7_poll_13 : decode cJ7_poll 13 = .ok (.aload_n 0, 1) := dk_42 (dk_at dksJ7_poll_0 13 rfl rfl)
theorem dJ7_poll_14 : decode cJ7_poll 14 = .ok (.dup, 1) := dk_89 (dk_at dksJ7_poll_0 14 rfl rfl)
theorem dJ7_poll_15 : decode cJ7_poll 15 = .ok (.getfield 93, 3) := dk_180 0 93 (dk_at dksJ7_poll_0 15 rfl rfl)
theorem dJ7_poll_18 : decode cJ7_poll 18 = .ok (.iconst 1, 1) := dk_4 (dk_at dksJ7_poll_0 18 rfl rfl)
theorem dJ7_poll_19 : decode cJ7_poll 19 = .ok (.iadd, 1) := dk_96 (dk_at dksJ7_poll_0 19 rfl rfl)
theorem dJ7_poll_20 : decode cJ7_poll 20 = .ok (.putfield 93, 3) := dk_181 0 93 (dk_at dksJ7_poll_0 20 rfl rfl)
theorem dJ7_poll_23 : decode cJ7_poll 23 = .ok (.aload_n 1, 1) := dk_43 (dk_at dksJ7_poll_0 23 rfl rfl)
theorem dJ7_poll_24 : decode cJ7_poll 24 = .ok (.aload_n 0, 1) := dk_42 (dk_at dksJ7_poll_1 0 rfl rfl)
theorem dJ7_poll_25 : decode cJ7_poll 25 = .ok (.dup, 1) := dk_89 (dk_at dksJ7_poll_1 1 rfl rfl)
theorem dJ7_poll_26 : decode cJ7_poll 26 = .ok (.getfield 58, 3) := dk_180 0 58 (dk_at dksJ7_poll_1 2 rfl rfl)
theorem dJ7_poll_29 : decode cJ7_poll 29 = .ok (.iconst 1, 1) := dk_4 (dk_at dksJ7_poll_1 5 rfl rfl)
theorem dJ7_poll_30 : decode cJ7_poll 30 = .ok (.isub, 1) := dk_100 (dk_at dksJ7_poll_1 6 rfl rfl)
theorem dJ7_poll_31 : decode cJ7_poll 31 = .ok (.dup_x1, 1) := dk_90 (dk_at dksJ7_poll_1 7 rfl rfl)
theorem dJ7_poll_32 : decode cJ7_poll 32 = .ok (.putfield 58, 3) := dk_181 0 58 (dk_at dksJ7_poll_1 8 rfl rfl)
theorem dJ7_poll_35 : decode cJ7_poll 35 = .ok (.dup, 1) := dk_89 (dk_at dksJ7_poll_1 11 rfl rfl)
theorem dJ7_poll_36 : decode cJ7_poll 36 = .ok (.istore_n 3, 1) := dk_62 (dk_at dksJ7_poll_1 12 rfl rfl)
theorem dJ7_poll_37 : decode cJ7_poll 37 = .ok (.aaload, 1) := dk_50 (dk_at dksJ7_poll_1 13 rfl rfl)
theorem dJ7_poll_38 : decode cJ7_poll 38 = .ok (.astore 4, 2) := dk_58 4 (dk_at dksJ7_poll_1 14 rfl rfl)
theorem dJ7_poll_40 : decode cJ7_poll 40 = .ok (.aload_n 1, 1) := dk_43 (dk_at dksJ7_poll_1 16 rfl rfl)
theorem dJ7_poll_41 : decode cJ7_poll 41 = .ok (.iload_n 3, 1) := dk_29 (dk_at dksJ7_poll_1 17 rfl rfl)
theorem dJ7_poll_42 : decode cJ7_poll 42 = .ok (.aconst_null, 1) := dk_1 (dk_at dksJ7_poll_1 18 rfl rfl)
theorem dJ7_poll_43 : decode cJ7_poll 43 = .ok (.aastore, 1) := dk_83 (dk_at dksJ7_poll_1 19 rfl rfl)
theorem dJ7_poll_44 : decode cJ7_poll 44 = .ok (.iload_n 3, 1) := dk_29 (dk_at dksJ7_poll_1 20 rfl rfl)
theorem dJ7_poll_45 : decode cJ7_poll 45 = .ok (.ifCond .le 34, 3) := dk_158 0 34 (dk_at dksJ7_poll_1 21 rfl rfl)
theorem dJ7_poll_48 : decode cJ7_poll 48 = .ok (.aload_n 0, 1) := dk_42 (dk_at dksJ7_poll_2 0 rfl rfl)
theorem dJ7_poll_49 : decode cJ7_poll 49 = .ok (.getfield 21, 3) := dk_180 0 21 (dk_at dksJ7_poll_2 1 rfl rfl)
theorem dJ7_poll_52 : decode cJ7_poll 52 = .ok (.dup, 1) := dk_89 (dk_at dksJ7_poll_2 4 rfl rfl)
theorem dJ7_poll_53 : decode cJ7_poll 53 = .ok (.astore 5, 2) := dk_58 5 (dk_at dksJ7_poll_2 5 rfl rfl)
theorem dJ7_poll_55 : decode cJ7_poll 55 = .ok (.ifnonnull 14, 3) := dk_199 0 14 (dk_at dksJ7_poll_2 7 rfl rfl)
theorem dJ7_poll_58 : decode cJ7_poll 58 = .ok (.iconst 0, 1) := dk_3 (dk_at dksJ7_poll_2 10 rfl rfl)
theorem dJ7_poll_59 : decode cJ7_poll 59 = .ok (.aload 4, 2) := dk_25 4 (dk_at dksJ7_poll_2 11 rfl rfl)
theorem dJ7_poll_61 : decode cJ7_poll 61 = .ok (.aload_n 1, 1) := dk_43 (dk_at dksJ7_poll_2 13 rfl rfl)
theorem dJ7_poll_62 : decode cJ7_poll 62 = .ok (.iload_n 3, 1) := dk_29 (dk_at dksJ7_poll_2 14 rfl rfl)
theorem dJ7_poll_63 : decode cJ7_poll 63 = .ok (.invokestatic 125, 3) := dk_184 0 125 (dk_at dksJ7_poll_2 15 rfl rfl)
theorem dJ7_poll_66 : decode cJ7_poll 66 = .ok (.goto 13, 3) := dk_167 0 13 (dk_at dksJ7_poll_2 18 rfl rfl)
theorem dJ7_poll_69 : decode cJ7_poll 69 = .ok (.iconst 0, 1) := dk_3 (dk_at dksJ7_poll_2 21 rfl rfl)
theorem dJ7_poll_70 : decode cJ7_poll 70 = .ok (.aload 4, 2) := dk_25 4 (dk_at dksJ7_poll_2 22 rfl rfl)
theorem dJ7_poll_72 : decode cJ7_poll 72 = .ok (.aload_n 1, 1) := dk_43 (dk_at dksJ7_poll_3 0 rfl rfl)
theorem dJ7_poll_73 : decode cJ7_poll 73 = .ok (.iload_n 3, 1) := dk_29 (dk_at dksJ7_poll_3 1 rfl rfl)
theorem dJ7_poll_74 : decode cJ7_poll 74 = .ok (.aload 5, 2) := dk_25 5 (dk_at dksJ7_poll_3 2 rfl rfl)
theorem dJ7_poll_76 : decode cJ7_poll 76 = .ok (.invokestatic 129, 3) := dk_184 0 129 (dk_at dksJ7_poll_3 4 rfl rfl)
theorem dJ7_poll_79 : decode cJ7_poll 79 = .ok (.aload_n 2, 1) := dk_44 (dk_at dksJ7_poll_3 7 rfl rfl)
theorem dJ7_poll_80 : decode cJ7_poll 80 = .ok (.areturn, 1) := dk_176 (dk_at dksJ7_poll_3 8 rfl rfl)
abbrev cJ7_siftDownComparable : ByteArray := prog_52_method_31_code
def yJ7_siftDownComparable : MethodName := ⟨RJ7, "siftDownComparable", "(ILjava/lang/Object;[Ljava/lang/Object;I)V"⟩
def dkwJ7_siftDownComparable_4 : List UInt8 := [25, 4, 83, 177]
abbrev dktJ7_siftDownComparable_4 : List UInt8 := dkwJ7_siftDownComparable_4 ++ []
def dkwJ7_siftDownComparable_3 : List UInt8 := [185, 0, 146, 2, 0, 157, 0, 6, 167, 0, 14, 44, 26, 25, 7, 83, 21, 6, 59, 167, 255, 176, 44, 26]
abbrev dktJ7_siftDownComparable_3 : List UInt8 := dkwJ7_siftDownComparable_3 ++ dktJ7_siftDownComparable_4
def dkwJ7_siftDownComparable_2 : List UInt8 := [21, 8, 50, 185, 0, 146, 2, 0, 158, 0, 12, 44, 21, 8, 89, 54, 6, 50, 58, 7, 25, 4, 25, 7]
abbrev dktJ7_siftDownComparable_2 : List UInt8 := dkwJ7_siftDownComparable_2 ++ dktJ7_siftDownComparable_3
def dkwJ7_siftDownComparable_1 : List UInt8 := [44, 21, 6, 50, 58, 7, 21, 6, 4, 96, 54, 8, 21, 8, 29, 162, 0, 29, 25, 7, 192, 0, 144, 44]
abbrev dktJ7_siftDownComparable_1 : List UInt8 := dkwJ7_siftDownComparable_1 ++ dktJ7_siftDownComparable_2
def dkwJ7_siftDownComparable_0 : List UInt8 := [43, 192, 0, 144, 58, 4, 29, 4, 124, 54, 5, 26, 21, 5, 162, 0, 80, 26, 4, 120, 4, 96, 54, 6]
abbrev dktJ7_siftDownComparable_0 : List UInt8 := dkwJ7_siftDownComparable_0 ++ dktJ7_siftDownComparable_1
theorem dksJ7_siftDownComparable_0 : cJ7_siftDownComparable.data.toList.drop 0 = dktJ7_siftDownComparable_0 := by decide +kernel
theorem dksJ7_siftDownComparable_1 : cJ7_siftDownComparable.data.toList.drop 24 = dktJ7_siftDownComparable_1 := dk_seg dksJ7_siftDownComparable_0 24 rfl rfl
theorem dksJ7_siftDownComparable_2 : cJ7_siftDownComparable.data.toList.drop 48 = dktJ7_siftDownComparable_2 := dk_seg dksJ7_siftDownComparable_1 24 rfl rfl
theorem dksJ7_siftDownComparable_3 : cJ7_siftDownComparable.data.toList.drop 72 = dktJ7_siftDownComparable_3 := dk_seg dksJ7_siftDownComparable_2 24 rfl rfl
theorem dksJ7_siftDownComparable_4 : cJ7_siftDownComparable.data.toList.drop 96 = dktJ7_siftDownComparable_4 := dk_seg dksJ7_siftDownComparable_3 24 rfl rfl
theorem dJ7_siftDownComparable_0 : decode cJ7_siftDownComparable 0 = .ok (.aload_n 1, 1) := dk_43 (dk_at dksJ7_siftDownComparable_0 0 rfl rfl)
theorem dJ7_siftDownComparable_1 : decode cJ7_siftDownComparable 1 = .ok (.checkcast 144, 3) := dk_192 0 144 (dk_at dksJ7_siftDownComparable_0 1 rfl rfl)
theorem dJ7_siftDownComparable_4 : decode cJ7_siftDownComparable 4 = .ok (.astore 4, 2) := dk_58 4 (dk_at dksJ7_siftDownComparable_0 4 rfl rfl)
theorem dJ7_siftDownComparable_6 : decode cJ7_siftDownComparable 6 = .ok (.iload_n 3, 1) := dk_29 (dk_at dksJ7_siftDownComparable_0 6 rfl rfl)
theorem dJ7_siftDownComparable_7 : decode cJ7_siftDownComparable 7 = .ok (.iconst 1, 1) := dk_4 (dk_at dksJ7_siftDownComparable_0 7 rfl rfl)
theorem dJ7_siftDownComparable_8 : decode cJ7_siftDownComparable 8 = .ok (.iushr, 1) := dk_124 (dk_at dksJ7_siftDownComparable_0 8 rfl rfl)
theorem dJ7_siftDownComparable_9 : decode cJ7_siftDownComparable 9 = .ok (.istore 5, 2) := dk_54 5 (dk_at dksJ7_siftDownComparable_0 9 rfl rfl)
theorem dJ7_siftDownComparable_11 : decode cJ7_siftDownComparable 11 = .ok (.iload_n 0, 1) := dk_26 (dk_at dksJ7_siftDownComparable_0 11 rfl rfl)
theorem dJ7_siftDownComparable_12 : decode cJ7_siftDownComparable 12 = .ok (.iload 5, 2) := dk_21 5 (dk_at dksJ7_siftDownComparable_0 12 rfl rfl)
theorem dJ7_siftDownComparable_14 : decode cJ7_siftDownComparable 14 = .ok (.if_icmp .ge 80, 3) := dk_162 0 80 (dk_at dksJ7_siftDownComparable_0 14 rfl rfl)
theorem dJ7_siftDownComparable_17 : decode cJ7_siftDownComparable 17 = .ok (.iload_n 0, 1) := dk_26 (dk_at dksJ7_siftDownComparable_0 17 rfl rfl)
theorem dJ7_siftDownComparable_18 : decode cJ7_siftDownComparable 18 = .ok (.iconst 1, 1) := dk_4 (dk_at dksJ7_siftDownComparable_0 18 rfl rfl)
theorem dJ7_siftDownComparable_19 : decode cJ7_siftDownComparable 19 = .ok (.ishl, 1) := dk_120 (dk_at dksJ7_siftDownComparable_0 19 rfl rfl)
theorem dJ7_siftDownComparable_20 : decode cJ7_siftDownComparable 20 = .ok (.iconst 1, 1) := dk_4 (dk_at dksJ7_siftDownComparable_0 20 rfl rfl)
theorem dJ7_siftDownComparable_21 : decode cJ7_siftDownComparable 21 = .ok (.iadd, 1) := dk_96 (dk_at dksJ7_siftDownComparable_0 21 rfl rfl)
theorem dJ7_siftDownComparable_22 : decode cJ7_siftDownComparable 22 = .ok (.istore 6, 2) := dk_54 6 (dk_at dksJ7_siftDownComparable_0 22 rfl rfl)
theorem dJ7_siftDownComparable_24 : decode cJ7_siftDownComparable 24 = .ok (.aload_n 2, 1) := dk_44 (dk_at dksJ7_siftDownComparable_1 0 rfl rfl)
theorem dJ7_siftDownComparable_25 : decode cJ7_siftDownComparable 25 = .ok (.iload 6, 2) := dk_21 6 (dk_at dksJ7_siftDownComparable_1 1 rfl rfl)
theorem dJ7_siftDownComparable_27 : decode cJ7_siftDownComparable 27 = .ok (.aaload, 1) := dk_50 (dk_at dksJ7_siftDownComparable_1 3 rfl rfl)
theorem dJ7_siftDownComparable_28 : decode cJ7_siftDownComparable 28 = .ok (.astore 7, 2) := dk_58 7 (dk_at dksJ7_siftDownComparable_1 4 rfl rfl)
theorem dJ7_siftDownComparable_30 : decode cJ7_siftDownComparable 30 = .ok (.iload 6, 2) := dk_21 6 (dk_at dksJ7_siftDownComparable_1 6 rfl rfl)
theorem dJ7_siftDownComparable_32 : decode cJ7_siftDownComparable 32 = .ok (.iconst 1, 1) := dk_4 (dk_at dksJ7_siftDownComparable_1 8 rfl rfl)
theorem dJ7_siftDownComparable_33 : decode cJ7_siftDownComparable 33 = .ok (.iadd, 1) := dk_96 (dk_at dksJ7_siftDownComparable_1 9 rfl rfl)
theorem dJ7_siftDownComparable_34 : decode cJ7_siftDownComparable 34 = .ok (.istore 8, 2) := dk_54 8 (dk_at dksJ7_siftDownComparable_1 10 rfl rfl)
theorem dJ7_siftDownComparable_36 : decode cJ7_siftDownComparable 36 = .ok (.iload 8, 2) := dk_21 8 (dk_at dksJ7_siftDownComparable_1 12 rfl rfl)
theorem dJ7_siftDownComparable_38 : decode cJ7_siftDownComparable 38 = .ok (.iload_n 3, 1) := dk_29 (dk_at dksJ7_siftDownComparable_1 14 rfl rfl)
theorem dJ7_siftDownComparable_39 : decode cJ7_siftDownComparable 39 = .ok (.if_icmp .ge 29, 3) := dk_162 0 29 (dk_at dksJ7_siftDownComparable_1 15 rfl rfl)
theorem dJ7_siftDownComparable_42 : decode cJ7_siftDownComparable 42 = .ok (.aload 7, 2) := dk_25 7 (dk_at dksJ7_siftDownComparable_1 18 rfl rfl)
theorem dJ7_siftDownComparable_44 : decode cJ7_siftDownComparable 44 = .ok (.checkcast 144, 3) := dk_192 0 144 (dk_at dksJ7_siftDownComparable_1 20 rfl rfl)
theorem dJ7_siftDownComparable_47 : decode cJ7_siftDownComparable 47 = .ok (.aload_n 2, 1) := dk_44 (dk_at dksJ7_siftDownComparable_1 23 rfl rfl)
theorem dJ7_siftDownComparable_48 : decode cJ7_siftDownComparable 48 = .ok (.iload 8, 2) := dk_21 8 (dk_at dksJ7_siftDownComparable_2 0 rfl rfl)
theorem dJ7_siftDownComparable_50 : decode cJ7_siftDownComparable 50 = .ok (.aaload, 1) := dk_50 (dk_at dksJ7_siftDownComparable_2 2 rfl rfl)
theorem dJ7_siftDownComparable_51 : decode cJ7_siftDownComparable 51 = .ok (.invokeinterface 146 2, 5) := by decide +kernel
theorem dJ7_siftDownComparable_56 : decode cJ7_siftDownComparable 56 = .ok (.ifCond .le 12, 3) := dk_158 0 12 (dk_at dksJ7_siftDownComparable_2 8 rfl rfl)
theorem dJ7_siftDownComparable_59 : decode cJ7_siftDownComparable 59 = .ok (.aload_n 2, 1) := dk_44 (dk_at dksJ7_siftDownComparable_2 11 rfl rfl)
theorem dJ7_siftDownComparable_60 : decode cJ7_siftDownComparable 60 = .ok (.iload 8, 2) := dk_21 8 (dk_at dksJ7_siftDownComparable_2 12 rfl rfl)
theorem dJ7_siftDownComparable_62 : decode cJ7_siftDownComparable 62 = .ok (.dup, 1) := dk_89 (dk_at dksJ7_siftDownComparable_2 14 rfl rfl)
theorem dJ7_siftDownComparable_63 : decode cJ7_siftDownComparable 63 = .ok (.istore 6, 2) := dk_54 6 (dk_at dksJ7_siftDownComparable_2 15 rfl rfl)
theorem dJ7_siftDownComparable_65 : decode cJ7_siftDownComparable 65 = .ok (.aaload, 1) := dk_50 (dk_at dksJ7_siftDownComparable_2 17 rfl rfl)
theorem dJ7_siftDownComparable_66 : decode cJ7_siftDownComparable 66 = .ok (.astore 7, 2) := dk_58 7 (dk_at dksJ7_siftDownComparable_2 18 rfl rfl)
theorem dJ7_siftDownComparable_68 : decode cJ7_siftDownComparable 68 = .ok (.aload 4, 2) := dk_25 4 (dk_at dksJ7_siftDownComparable_2 20 rfl rfl)
theorem dJ7_siftDownComparable_70 : decode cJ7_siftDownComparable 70 = .ok (.aload 7, 2) := dk_25 7 (dk_at dksJ7_siftDownComparable_2 22 rfl rfl)
theorem dJ7_siftDownComparable_72 : decode cJ7_siftDownComparable 72 = .ok (.invokeinterface 146 2, 5) := by decide +kernel
theorem dJ7_siftDownComparable_77 : decode cJ7_siftDownComparable 77 = .ok (.ifCond .gt 6, 3) := dk_157 0 6 (dk_at dksJ7_siftDownComparable_3 5 rfl rfl)
theorem dJ7_siftDownComparable_80 : decode cJ7_siftDownComparable 80 = .ok (.goto 14, 3) := dk_167 0 14 (dk_at dksJ7_siftDownComparable_3 8 rfl rfl)
theorem dJ7_siftDownComparable_83 : decode cJ7_siftDownComparable 83 = .ok (.aload_n 2, 1) := dk_44 (dk_at dksJ7_siftDownComparable_3 11 rfl rfl)
theorem dJ7_siftDownComparable_84 : decode cJ7_siftDownComparable 84 = .ok (.iload_n 0, 1) := dk_26 (dk_at dksJ7_siftDownComparable_3 12 rfl rfl)
theorem dJ7_siftDownComparable_85 : decode cJ7_siftDownComparable 85 = .ok (.aload 7, 2) := dk_25 7 (dk_at dksJ7_siftDownComparable_3 13 rfl rfl)
theorem dJ7_siftDownComparable_87 : decode cJ7_siftDownComparable 87 = .ok (.aastore, 1) := dk_83 (dk_at dksJ7_siftDownComparable_3 15 rfl rfl)
theorem dJ7_siftDownComparable_88 : decode cJ7_siftDownComparable 88 = .ok (.iload 6, 2) := dk_21 6 (dk_at dksJ7_siftDownComparable_3 16 rfl rfl)
theorem dJ7_siftDownComparable_90 : decode cJ7_siftDownComparable 90 = .ok (.istore_n 0, 1) := dk_59 (dk_at dksJ7_siftDownComparable_3 18 rfl rfl)
theorem dJ7_siftDownComparable_91 : decode cJ7_siftDownComparable 91 = .ok (.goto (-80), 3) := dk_167 255 176 (dk_at dksJ7_siftDownComparable_3 19 rfl rfl)
theorem dJ7_siftDownComparable_94 : decode cJ7_siftDownComparable 94 = .ok (.aload_n 2, 1) := dk_44 (dk_at dksJ7_siftDownComparable_3 22 rfl rfl)
theorem dJ7_siftDownComparable_95 : decode cJ7_siftDownComparable 95 = .ok (.iload_n 0, 1) := dk_26 (dk_at dksJ7_siftDownComparable_3 23 rfl rfl)
theorem dJ7_siftDownComparable_96 : decode cJ7_siftDownComparable 96 = .ok (.aload 4, 2) := dk_25 4 (dk_at dksJ7_siftDownComparable_4 0 rfl rfl)
theorem dJ7_siftDownComparable_98 : decode cJ7_siftDownComparable 98 = .ok (.aastore, 1) := dk_83 (dk_at dksJ7_siftDownComparable_4 2 rfl rfl)
theorem dJ7_siftDownComparable_99 : decode cJ7_siftDownComparable 99 = .ok (.return_, 1) := dk_177 (dk_at dksJ7_siftDownComparable_4 3 rfl rfl)
abbrev cJ7_siftDownUsingComparator : ByteArray := prog_52_method_32_code
def yJ7_siftDownUsingComparator : MethodName := ⟨RJ7, "siftDownUsingComparato\x72", "(ILjava/lang/Object;[Ljava/lang/Object;ILjava/util/Comparator;)V"⟩
def dkwJ7_siftDownUsingComparator_4 : List UInt8 := [43, 83, 177]
abbrev dktJ7_siftDownUsingComparator_4 : List UInt8 := dkwJ7_siftDownUsingComparator_4 ++ []
def dkwJ7_siftDownUsingComparator_3 : List UInt8 := [185, 0, 149, 3, 0, 157, 0, 6, 167, 0, 14, 44, 26, 25, 7, 83, 21, 6, 59, 167, 255, 176, 44, 26]
abbrev dktJ7_siftDownUsingComparator_3 : List UInt8 := dkwJ7_siftDownUsingComparator_3 ++ dktJ7_siftDownUsingComparator_4
def dkwJ7_siftDownUsingComparator_2 : List UInt8 := [185, 0, 149, 3, 0, 158, 0, 12, 44, 21, 8, 89, 54, 6, 50, 58, 7, 25, 4, 43, 25, 7]
abbrev dktJ7_siftDownUsingComparator_2 : List UInt8 := dkwJ7_siftDownUsingComparator_2 ++ dktJ7_siftDownUsingComparator_3
def dkwJ7_siftDownUsingComparator_1 : List UInt8 := [21, 6, 4, 96, 54, 8, 21, 8, 29, 162, 0, 28, 25, 4, 25, 7, 44, 21, 8, 50]
abbrev dktJ7_siftDownUsingComparator_1 : List UInt8 := dkwJ7_siftDownUsingComparator_1 ++ dktJ7_siftDownUsingComparator_2
def dkwJ7_siftDownUsingComparator_0 : List UInt8 := [29, 4, 124, 54, 5, 26, 21, 5, 162, 0, 80, 26, 4, 120, 4, 96, 54, 6, 44, 21, 6, 50, 58, 7]
abbrev dktJ7_siftDownUsingComparator_0 : List UInt8 := dkwJ7_siftDownUsingComparator_0 ++ dktJ7_siftDownUsingComparator_1
theorem dksJ7_siftDownUsingComparator_0 : cJ7_siftDownUsingComparator.data.toList.drop 0 = dktJ7_siftDownUsingComparator_0 := by decide +kernel
theorem dksJ7_siftDownUsingComparator_1 : cJ7_siftDownUsingComparator.data.toList.drop 24 = dktJ7_siftDownUsingComparator_1 := dk_seg dksJ7_siftDownUsingComparator_0 24 rfl rfl
theorem dksJ7_siftDownUsingComparator_2 : cJ7_siftDownUsingComparator.data.toList.drop 44 = dktJ7_siftDownUsingComparator_2 := dk_seg dksJ7_siftDownUsingComparator_1 20 rfl rfl
theorem dksJ7_siftDownUsingComparator_3 : cJ7_siftDownUsingComparator.data.toList.drop 66 = dktJ7_siftDownUsingComparator_3 := dk_seg dksJ7_siftDownUsingComparator_2 22 rfl rfl
theorem dksJ7_siftDownUsingComparator_4 : cJ7_siftDownUsingComparator.data.toList.drop 90 = dktJ7_siftDownUsingComparator_4 := dk_seg dksJ7_siftDownUsingComparator_3 24 rfl rfl
theorem dJ7_siftDownUsingComparator_0 : decode cJ7_siftDownUsingComparator 0 = .ok (.iload_n 3, 1) := dk_29 (dk_at dksJ7_siftDownUsingComparator_0 0 rfl rfl)
theorem dJ7_siftDownUsingComparator_1 : decode cJ7_siftDownUsingComparator 1 = .ok (.iconst 1, 1) := dk_4 (dk_at dksJ7_siftDownUsingComparator_0 1 rfl rfl)
theorem dJ7_siftDownUsingComparator_2 : decode cJ7_siftDownUsingComparator 2 = .ok (.iushr, 1) := dk_124 (dk_at dksJ7_siftDownUsingComparator_0 2 rfl rfl)
theorem dJ7_siftDownUsingComparator_3 : decode cJ7_siftDownUsingComparator 3 = .ok (.istore 5, 2) := dk_54 5 (dk_at dksJ7_siftDownUsingComparator_0 3 rfl rfl)
theorem dJ7_siftDownUsingComparator_5 : decode cJ7_siftDownUsingComparator 5 = .ok (.iload_n 0, 1) := dk_26 (dk_at dksJ7_siftDownUsingComparator_0 5 rfl rfl)
theorem dJ7_siftDownUsingComparator_6 : decode cJ7_siftDownUsingComparator 6 = .ok (.iload 5, 2) := dk_21 5 (dk_at dksJ7_siftDownUsingComparator_0 6 rfl rfl)
theorem dJ7_siftDownUsingComparator_8 : decode cJ7_siftDownUsingComparator 8 = .ok (.if_icmp .ge 80, 3) := dk_162 0 80 (dk_at dksJ7_siftDownUsingComparator_0 8 rfl rfl)
theorem dJ7_siftDownUsingComparator_11 : decode cJ7_siftDownUsingComparator 11 = .ok (.iload_n 0, 1) := dk_26 (dk_at dksJ7_siftDownUsingComparator_0 11 rfl rfl)
theorem dJ7_siftDownUsingComparator_12 : decode cJ7_siftDownUsingComparator 12 = .ok (.iconst 1, 1) := dk_4 (dk_at dksJ7_siftDownUsingComparator_0 12 rfl rfl)
theorem dJ7_siftDownUsingComparator_13 : decode cJ7_siftDownUsingComparator 13 = .ok (.ishl, 1) := dk_120 (dk_at dksJ7_siftDownUsingComparator_0 13 rfl rfl)
theorem dJ7_siftDownUsingComparator_14 : decode cJ7_siftDownUsingComparator 14 = .ok (.iconst 1, 1) := dk_4 (dk_at dksJ7_siftDownUsingComparator_0 14 rfl rfl)
theorem dJ7_siftDownUsingComparator_15 : decode cJ7_siftDownUsingComparator 15 = .ok (.iadd, 1) := dk_96 (dk_at dksJ7_siftDownUsingComparator_0 15 rfl rfl)
theorem dJ7_siftDownUsingComparator_16 : decode cJ7_siftDownUsingComparator 16 = .ok (.istore 6, 2) := dk_54 6 (dk_at dksJ7_siftDownUsingComparator_0 16 rfl rfl)
theorem dJ7_siftDownUsingComparator_18 : decode cJ7_siftDownUsingComparator 18 = .ok (.aload_n 2, 1) := dk_44 (dk_at dksJ7_siftDownUsingComparator_0 18 rfl rfl)
theorem dJ7_siftDownUsingComparator_19 : decode cJ7_siftDownUsingComparator 19 = .ok (.iload 6, 2) := dk_21 6 (dk_at dksJ7_siftDownUsingComparator_0 19 rfl rfl)
theorem dJ7_siftDownUsingComparator_21 : decode cJ7_siftDownUsingComparator 21 = .ok (.aaload, 1) := dk_50 (dk_at dksJ7_siftDownUsingComparator_0 21 rfl rfl)
theorem dJ7_siftDownUsingComparator_22 : decode cJ7_siftDownUsingComparator 22 = .ok (.astore 7, 2) := dk_58 7 (dk_at dksJ7_siftDownUsingComparator_0 22 rfl rfl)
theorem dJ7_siftDownUsingComparator_24 : decode cJ7_siftDownUsingComparator 24 = .ok (.iload 6, 2) := dk_21 6 (dk_at dksJ7_siftDownUsingComparator_1 0 rfl rfl)
theorem dJ7_siftDownUsingComparator_26 : decode cJ7_siftDownUsingComparator 26 = .ok (.iconst 1, 1) := dk_4 (dk_at dksJ7_siftDownUsingComparator_1 2 rfl rfl)
theorem dJ7_siftDownUsingComparator_27 : decode cJ7_siftDownUsingComparator 27 = .ok (.iadd, 1) := dk_96 (dk_at dksJ7_siftDownUsingComparator_1 3 rfl rfl)
theorem dJ7_siftDownUsingComparator_28 : decode cJ7_siftDownUsingComparator 28 = .ok (.istore 8, 2) := dk_54 8 (dk_at dksJ7_siftDownUsingComparator_1 4 rfl rfl)
theorem dJ7_siftDownUsingComparator_30 : decode cJ7_siftDownUsingComparator 30 = .ok (.iload 8, 2) := dk_21 8 (dk_at dksJ7_siftDownUsingComparator_1 6 rfl rfl)
theorem dJ7_siftDownUsingComparator_32 : decode cJ7_siftDownUsingComparator 32 = .ok (.iload_n 3, 1) := dk_29 (dk_at dksJ7_siftDownUsingComparator_1 8 rfl rfl)
theorem dJ7_siftDownUsingComparator_33 : decode cJ7_siftDownUsingComparator 33 = .ok (.if_icmp .ge 28, 3) := dk_162 0 28 (dk_at dksJ7_siftDownUsingComparator_1 9 rfl rfl)
theorem dJ7_siftDownUsingComparator_36 : decode cJ7_siftDownUsingComparator 36 = .ok (.aload 4, 2) := dk_25 4 (dk_at dksJ7_siftDownUsingComparator_1 12 rfl rfl)
theorem dJ7_siftDownUsingComparator_38 : decode cJ7_siftDownUsingComparator 38 = .ok (.aload 7, 2) := dk_25 7 (dk_at dksJ7_siftDownUsingComparator_1 14 rfl rfl)
theorem dJ7_siftDownUsingComparator_40 : decode cJ7_siftDownUsingComparator 40 = .ok (.aload_n 2, 1) := dk_44 (dk_at dksJ7_siftDownUsingComparator_1 16 rfl rfl)
theorem dJ7_siftDownUsingComparator_41 : decode cJ7_siftDownUsingComparator 41 = .ok (.iload 8, 2) := dk_21 8 (dk_at dksJ7_siftDownUsingComparator_1 17 rfl rfl)
theorem dJ7_siftDownUsingComparator_43 : decode cJ7_siftDownUsingComparator 43 = .ok (.aaload, 1) := dk_50 (dk_at dksJ7_siftDownUsingComparator_1 19 rfl rfl)
theorem dJ7_siftDownUsingComparator_44 : decode cJ7_siftDownUsingComparator 44 = .ok (.invokeinterface 149 3, 5) := by decide +kernel
theorem dJ7_siftDownUsingComparator_49 : decode cJ7_siftDownUsingComparator 49 = .ok (.ifCond .le 12, 3) := dk_158 0 12 (dk_at dksJ7_siftDownUsingComparator_2 5 rfl rfl)
theorem dJ7_siftDownUsingComparator_52 : decode cJ7_siftDownUsingComparator 52 = .ok (.aload_n 2, 1) := dk_44 (dk_at dksJ7_siftDownUsingComparator_2 8 rfl rfl)
theorem dJ7_siftDownUsingComparator_53 : decode cJ7_siftDownUsingComparator 53 = .ok (.iload 8, 2) := dk_21 8 (dk_at dksJ7_siftDownUsingComparator_2 9 rfl rfl)
theorem dJ7_siftDownUsingComparator_55 : decode cJ7_siftDownUsingComparator 55 = .ok (.dup, 1) := dk_89 (dk_at dksJ7_siftDownUsingComparator_2 11 rfl rfl)
theorem dJ7_siftDownUsingComparator_56 : decode cJ7_siftDownUsingComparator 56 = .ok (.istore 6, 2) := dk_54 6 (dk_at dksJ7_siftDownUsingComparator_2 12 rfl rfl)
theorem dJ7_siftDownUsingComparator_58 : decode cJ7_siftDownUsingComparator 58 = .ok (.aaload, 1) := dk_50 (dk_at dksJ7_siftDownUsingComparator_2 14 rfl rfl)
theorem dJ7_siftDownUsingComparator_59 : decode cJ7_siftDownUsingComparator 59 = .ok (.astore 7, 2) := dk_58 7 (dk_at dksJ7_siftDownUsingComparator_2 15 rfl rfl)
theorem dJ7_siftDownUsingComparator_61 : decode cJ7_siftDownUsingComparator 61 = .ok (.aload 4, 2) := dk_25 4 (dk_at dksJ7_siftDownUsingComparator_2 17 rfl rfl)
theorem dJ7_siftDownUsingComparator_63 : decode cJ7_siftDownUsingComparator 63 = .ok (.aload_n 1, 1) := dk_43 (dk_at dksJ7_siftDownUsingComparator_2 19 rfl rfl)
theorem dJ7_siftDownUsingComparator_64 : decode cJ7_siftDownUsingComparator 64 = .ok (.aload 7, 2) := dk_25 7 (dk_at dksJ7_siftDownUsingComparator_2 20 rfl rfl)
theorem dJ7_siftDownUsingComparator_66 : decode cJ7_siftDownUsingComparator 66 = .ok (.invokeinterface 149 3, 5) := by decide +kernel
theorem dJ7_siftDownUsingComparator_71 : decode cJ7_siftDownUsingComparator 71 = .ok (.ifCond .gt 6, 3) := dk_157 0 6 (dk_at dksJ7_siftDownUsingComparator_3 5 rfl rfl)
theorem dJ7_siftDownUsingComparator_74 : decode cJ7_siftDownUsingComparator 74 = .ok (.goto 14, 3) := dk_167 0 14 (dk_at dksJ7_siftDownUsingComparator_3 8 rfl rfl)
theorem dJ7_siftDownUsingComparator_77 : decode cJ7_siftDownUsingComparator 77 = .ok (.aload_n 2, 1) := dk_44 (dk_at dksJ7_siftDownUsingComparator_3 11 rfl rfl)
theorem dJ7_siftDownUsingComparator_78 : decode cJ7_siftDownUsingComparator 78 = .ok (.iload_n 0, 1) := dk_26 (dk_at dksJ7_siftDownUsingComparator_3 12 rfl rfl)
theorem dJ7_siftDownUsingComparator_79 : decode cJ7_siftDownUsingComparator 79 = .ok (.aload 7, 2) := dk_25 7 (dk_at dksJ7_siftDownUsingComparator_3 13 rfl rfl)
theorem dJ7_siftDownUsingComparator_81 : decode cJ7_siftDownUsingComparator 81 = .ok (.aastore, 1) := dk_83 (dk_at dksJ7_siftDownUsingComparator_3 15 rfl rfl)
theorem dJ7_siftDownUsingComparator_82 : decode cJ7_siftDownUsingComparator 82 = .ok (.iload 6, 2) := dk_21 6 (dk_at dksJ7_siftDownUsingComparator_3 16 rfl rfl)
theorem dJ7_siftDownUsingComparator_84 : decode cJ7_siftDownUsingComparator 84 = .ok (.istore_n 0, 1) := dk_59 (dk_at dksJ7_siftDownUsingComparator_3 18 rfl rfl)
theorem dJ7_siftDownUsingComparator_85 : decode cJ7_siftDownUsingComparator 85 = .ok (.goto (-80), 3) := dk_167 255 176 (dk_at dksJ7_siftDownUsingComparator_3 19 rfl rfl)
theorem dJ7_siftDownUsingComparator_88 : decode cJ7_siftDownUsingComparator 88 = .ok (.aload_n 2, 1) := dk_44 (dk_at dksJ7_siftDownUsingComparator_3 22 rfl rfl)
theorem dJ7_siftDownUsingComparator_89 : decode cJ7_siftDownUsingComparator 89 = .ok (.iload_n 0, 1) := dk_26 (dk_at dksJ7_siftDownUsingComparator_3 23 rfl rfl)
theorem dJ7_siftDownUsingComparator_90 : decode cJ7_siftDownUsingComparator 90 = .ok (.aload_n 1, 1) := dk_43 (dk_at dksJ7_siftDownUsingComparator_4 0 rfl rfl)
theorem dJ7_siftDownUsingComparator_91 : decode cJ7_siftDownUsingComparator 91 = .ok (.aastore, 1) := dk_83 (dk_at dksJ7_siftDownUsingComparator_4 1 rfl rfl)
theorem dJ7_siftDownUsingComparator_92 : decode cJ7_siftDownUsingComparator 92 = .ok (.return_, 1) := dk_177 (dk_at dksJ7_siftDownUsingComparator_4 2 rfl rfl)
theorem q120 : (Jvm.Cond.initialized "java/util/PriorityQueue") ∈ lw_all := lw_g (lw_at lw_m1 12 rfl) rfl
theorem q281 : (Jvm.Cond.instantiable "java/util/PriorityQueue" (4 : Nat)) ∈ lw_all := lw_g (lw_at lw_m1 173 rfl) rfl
theorem q290 : (Jvm.Cond.instanceMethod ({ cls := "java/util/PriorityQueue", name := "<init>", desc := "(ILjava/util/Comparator;)V" } : Jvm.MethodName)) ∈ lw_all := lw_g (lw_at lw_m1 182 rfl) rfl
theorem q291 : (Jvm.Cond.code ({ cls := "java/util/PriorityQueue", name := "<init>", desc := "(ILjava/util/Comparator;)V" } : Jvm.MethodName) prog_52_method_4_code (3 : Nat) (Option.none : Option Jvm.ClassFile.FieldType)) ∈ lw_all := lw_g (lw_at lw_m1 183 rfl) rfl
theorem q292 : (Jvm.Cond.methodLink "java/util/PriorityQueue" (7 : Nat) ({ cls := "java/util/AbstractQueue", name := "<init>", desc := "()V" } : Jvm.MethodName)) ∈ lw_all := lw_g (lw_at lw_m1 184 rfl) rfl
theorem q296 : (Jvm.Cond.classLink "java/util/PriorityQueue" (15 : Nat) "java/lang/Object") ∈ lw_all := lw_g (lw_at lw_m1 188 rfl) rfl
theorem q298 : (Jvm.Cond.fieldLink "java/util/PriorityQueue" (17 : Nat) "java/util/PriorityQueue" "queue" "[Ljava/lang/Object;") ∈ lw_all := lw_g (lw_at lw_m1 190 rfl) rfl
theorem q299 : (Jvm.Cond.fieldLink "java/util/PriorityQueue" (58 : Nat) "java/util/PriorityQueue" "size" "I") ∈ lw_all := lw_g (lw_at lw_m1 191 rfl) rfl
theorem q300 : (Jvm.Cond.fieldLink "java/util/PriorityQueue" (21 : Nat) "java/util/PriorityQueue" "comparato\x72" "Ljava/util/Comparator;") ∈ lw_all := lw_g (lw_at lw_m1 192 rfl) rfl
theorem q301 : (Jvm.Cond.fieldLink "java/util/PriorityQueue" (93 : Nat) "java/util/PriorityQueue" "modCount" "I") ∈ lw_all := lw_g (lw_at lw_m1 193 rfl) rfl
theorem q302 : (Jvm.Cond.lays "java/util/PriorityQueue" "java/util/PriorityQueue" "queue" "[Ljava/lang/Object;") ∈ lw_all := lw_g (lw_at lw_m1 194 rfl) rfl
theorem q303 : (Jvm.Cond.soleField "java/util/PriorityQueue" "queue") ∈ lw_all := lw_g (lw_at lw_m1 195 rfl) rfl
theorem q304 : (Jvm.Cond.lays "java/util/PriorityQueue" "java/util/PriorityQueue" "size" "I") ∈ lw_all := lw_g (lw_at lw_m1 196 rfl) rfl
theorem q305 : (Jvm.Cond.soleField "java/util/PriorityQueue" "size") ∈ lw_all := lw_g (lw_at lw_m1 197 rfl) rfl
theorem q306 : (Jvm.Cond.laysFinal "java/util/PriorityQueue" "java/util/PriorityQueue" "comparato\x72" "Ljava/util/Comparator;") ∈ lw_all := lw_g (lw_at lw_m1 198 rfl) rfl
theorem q307 : (Jvm.Cond.soleField "java/util/PriorityQueue" "comparato\x72") ∈ lw_all := lw_g (lw_at lw_m1 199 rfl) rfl
theorem q308 : (Jvm.Cond.lays "java/util/PriorityQueue" "java/util/PriorityQueue" "modCount" "I") ∈ lw_all := lw_g (lw_at lw_m1 200 rfl) rfl
theorem q309 : (Jvm.Cond.soleField "java/util/PriorityQueue" "modCount") ∈ lw_all := lw_g (lw_at lw_m1 201 rfl) rfl
theorem q310 : (Jvm.Cond.superclass "java/util/PriorityQueue" "java/util/AbstractQueue") ∈ lw_all := lw_g (lw_at lw_m1 202 rfl) rfl
theorem q933 : (Jvm.Cond.instanceMethod ({ cls := "java/util/PriorityQueue", name := "clea\x72", desc := "()V" } : Jvm.MethodName)) ∈ lw_all := lw_g (lw_at lw_m4 105 rfl) rfl
theorem q934 : (Jvm.Cond.selects "java/util/PriorityQueue" ({ cls := "java/util/PriorityQueue", name := "clea\x72", desc := "()V" } : Jvm.MethodName) ({ cls := "java/util/PriorityQueue", name := "clea\x72", desc := "()V" } : Jvm.MethodName)) ∈ lw_all := lw_g (lw_at lw_m4 106 rfl) rfl
theorem q935 : (Jvm.Cond.code ({ cls := "java/util/PriorityQueue", name := "clea\x72", desc := "()V" } : Jvm.MethodName) prog_52_method_24_code (4 : Nat) (Option.none : Option Jvm.ClassFile.FieldType)) ∈ lw_all := lw_g (lw_at lw_m4 107 rfl) rfl
theorem q1146 : (Jvm.Cond.instanceMethod ({ cls := "java/util/PriorityQueue", name := "add", desc := "(Ljava/lang/Object;)Z" } : Jvm.MethodName)) ∈ lw_all := lw_g (lw_at lw_m5 78 rfl) rfl
theorem q1147 : (Jvm.Cond.selects "java/util/PriorityQueue" ({ cls := "java/util/PriorityQueue", name := "add", desc := "(Ljava/lang/Object;)Z" } : Jvm.MethodName) ({ cls := "java/util/PriorityQueue", name := "add", desc := "(Ljava/lang/Object;)Z" } : Jvm.MethodName)) ∈ lw_all := lw_g (lw_at lw_m5 79 rfl) rfl
theorem q1148 : (Jvm.Cond.code ({ cls := "java/util/PriorityQueue", name := "add", desc := "(Ljava/lang/Object;)Z" } : Jvm.MethodName) prog_52_method_13_code (2 : Nat) (Option.some Jvm.ClassFile.FieldType.boolean)) ∈ lw_all := lw_g (lw_at lw_m5 80 rfl) rfl
theorem q1149 : (Jvm.Cond.methodLink "java/util/PriorityQueue" (89 : Nat) ({ cls := "java/util/PriorityQueue", name := "offe\x72", desc := "(Ljava/lang/Object;)Z" } : Jvm.MethodName)) ∈ lw_all := lw_g (lw_at lw_m5 81 rfl) rfl
theorem q1150 : (Jvm.Cond.instanceMethod ({ cls := "java/util/PriorityQueue", name := "offe\x72", desc := "(Ljava/lang/Object;)Z" } : Jvm.MethodName)) ∈ lw_all := lw_g (lw_at lw_m5 82 rfl) rfl
theorem q1151 : (Jvm.Cond.selects "java/util/PriorityQueue" ({ cls := "java/util/PriorityQueue", name := "offe\x72", desc := "(Ljava/lang/Object;)Z" } : Jvm.MethodName) ({ cls := "java/util/PriorityQueue", name := "offe\x72", desc := "(Ljava/lang/Object;)Z" } : Jvm.MethodName)) ∈ lw_all := lw_g (lw_at lw_m5 83 rfl) rfl
theorem q1152 : (Jvm.Cond.code ({ cls := "java/util/PriorityQueue", name := "offe\x72", desc := "(Ljava/lang/Object;)Z" } : Jvm.MethodName) prog_52_method_14_code (3 : Nat) (Option.some Jvm.ClassFile.FieldType.boolean)) ∈ lw_all := lw_g (lw_at lw_m5 84 rfl) rfl
theorem q1153 : (Jvm.Cond.classLink "java/util/PriorityQueue" (74 : Nat) "java/lang/NullPointerException") ∈ lw_all := lw_g (lw_at lw_m5 85 rfl) rfl
theorem q1154 : (Jvm.Cond.methodLink "java/util/PriorityQueue" (76 : Nat) ({ cls := "java/lang/NullPointerException", name := "<init>", desc := "()V" } : Jvm.MethodName)) ∈ lw_all := lw_g (lw_at lw_m5 86 rfl) rfl
theorem q1155 : (Jvm.Cond.methodLink "java/util/PriorityQueue" (96 : Nat) ({ cls := "java/util/PriorityQueue", name := "grow", desc := "(I)V" } : Jvm.MethodName)) ∈ lw_all := lw_g (lw_at lw_m5 87 rfl) rfl
theorem q1156 : (Jvm.Cond.privateMethod ({ cls := "java/util/PriorityQueue", name := "grow", desc := "(I)V" } : Jvm.MethodName)) ∈ lw_tbl := lw_at lw_m5 88 rfl
theorem q1157 : (Jvm.Cond.instanceMethod ({ cls := "java/util/PriorityQueue", name := "grow", desc := "(I)V" } : Jvm.MethodName)) ∈ lw_all := lw_g (lw_at lw_m5 89 rfl) rfl
theorem q1158 : (Jvm.Cond.code ({ cls := "java/util/PriorityQueue", name := "grow", desc := "(I)V" } : Jvm.MethodName) prog_52_method_12_code (4 : Nat) (Option.none : Option Jvm.ClassFile.FieldType)) ∈ lw_all := lw_g (lw_at lw_m5 90 rfl) rfl
theorem q1159 : (Jvm.Cond.methodLink "java/util/PriorityQueue" (80 : Nat) ({ cls := "jdk/internal/util/ArraysSupport", name := "newLength", desc := "(III)I" } : Jvm.MethodName)) ∈ lw_all := lw_g (lw_at lw_m5 91 rfl) rfl
theorem q1169 : (Jvm.Cond.methodLink "java/util/PriorityQueue" (86 : Nat) ({ cls := "java/util/Arrays", name := "copyOf", desc := "([Ljava/lang/Object;I)[Ljava/lang/Object;" } : Jvm.MethodName)) ∈ lw_all := lw_g (lw_at lw_m5 101 rfl) rfl
theorem q1192 : (Jvm.Cond.selects "java/util/PriorityQueue" ({ cls := "java/lang/Object", name := "getClass", desc := "()Ljava/lang/Class;" } : Jvm.MethodName) ({ cls := "java/lang/Object", name := "getClass", desc := "()Ljava/lang/Class;" } : Jvm.MethodName)) ∈ lw_all := lw_g (lw_at lw_m5 124 rfl) rfl
theorem q1206 : (Jvm.Cond.methodLink "java/util/PriorityQueue" (100 : Nat) ({ cls := "java/util/PriorityQueue", name := "siftUp", desc := "(ILjava/lang/Object;)V" } : Jvm.MethodName)) ∈ lw_all := lw_g (lw_at lw_m5 138 rfl) rfl
theorem q1207 : (Jvm.Cond.privateMethod ({ cls := "java/util/PriorityQueue", name := "siftUp", desc := "(ILjava/lang/Object;)V" } : Jvm.MethodName)) ∈ lw_tbl := lw_at lw_m5 139 rfl
theorem q1208 : (Jvm.Cond.instanceMethod ({ cls := "java/util/PriorityQueue", name := "siftUp", desc := "(ILjava/lang/Object;)V" } : Jvm.MethodName)) ∈ lw_all := lw_g (lw_at lw_m5 140 rfl) rfl
theorem q1209 : (Jvm.Cond.code ({ cls := "java/util/PriorityQueue", name := "siftUp", desc := "(ILjava/lang/Object;)V" } : Jvm.MethodName) prog_52_method_27_code (3 : Nat) (Option.none : Option Jvm.ClassFile.FieldType)) ∈ lw_all := lw_g (lw_at lw_m5 141 rfl) rfl
theorem q1210 : (Jvm.Cond.methodLink "java/util/PriorityQueue" (136 : Nat) ({ cls := "java/util/PriorityQueue", name := "siftUpUsingComparato\x72", desc := "(ILjava/lang/Object;[Ljava/lang/Object;Ljava/util/Comparator;)V" } : Jvm.MethodName)) ∈ lw_all := lw_g (lw_at lw_m5 142 rfl) rfl
theorem q1211 : (Jvm.Cond.static ({ cls := "java/util/PriorityQueue", name := "siftUpUsingComparato\x72", desc := "(ILjava/lang/Object;[Ljava/lang/Object;Ljava/util/Comparator;)V" } : Jvm.MethodName)) ∈ lw_all := lw_g (lw_at lw_m5 143 rfl) rfl
theorem q1212 : (Jvm.Cond.code ({ cls := "java/util/PriorityQueue", name := "siftUpUsingComparato\x72", desc := "(ILjava/lang/Object;[Ljava/lang/Object;Ljava/util/Comparator;)V" } : Jvm.MethodName) prog_52_method_29_code (6 : Nat) (Option.none : Option Jvm.ClassFile.FieldType)) ∈ lw_all := lw_g (lw_at lw_m5 144 rfl) rfl
theorem q1213 : (Jvm.Cond.interfaceEntry "java/util/PriorityQueue" (149 : Nat)) ∈ lw_tbl := lw_at lw_m5 145 rfl
theorem q1214 : (Jvm.Cond.methodLink "java/util/PriorityQueue" (149 : Nat) ({ cls := "java/util/Comparato\x72", name := "compare", desc := "(Ljava/lang/Object;Ljava/lang/Object;)I" } : Jvm.MethodName)) ∈ lw_all := lw_g (lw_at lw_m5 146 rfl) rfl
theorem q1215 : (Jvm.Cond.methodLink "java/util/PriorityQueue" (140 : Nat) ({ cls := "java/util/PriorityQueue", name := "siftUpComparable", desc := "(ILjava/lang/Object;[Ljava/lang/Object;)V" } : Jvm.MethodName)) ∈ lw_all := lw_g (lw_at lw_m5 147 rfl) rfl
theorem q1216 : (Jvm.Cond.static ({ cls := "java/util/PriorityQueue", name := "siftUpComparable", desc := "(ILjava/lang/Object;[Ljava/lang/Object;)V" } : Jvm.MethodName)) ∈ lw_all := lw_g (lw_at lw_m5 148 rfl) rfl
theorem q1217 : (Jvm.Cond.code ({ cls := "java/util/PriorityQueue", name := "siftUpComparable", desc := "(ILjava/lang/Object;[Ljava/lang/Object;)V" } : Jvm.MethodName) prog_52_method_28_code (6 : Nat) (Option.none : Option Jvm.ClassFile.FieldType)) ∈ lw_all := lw_g (lw_at lw_m5 149 rfl) rfl
theorem q1218 : (Jvm.Cond.classLink "java/util/PriorityQueue" (144 : Nat) "java/lang/Comparable") ∈ lw_all := lw_g (lw_at lw_m5 150 rfl) rfl
theorem q1219 : (Jvm.Cond.interfaceEntry "java/util/PriorityQueue" (146 : Nat)) ∈ lw_tbl := lw_at lw_m5 151 rfl
theorem q1220 : (Jvm.Cond.methodLink "java/util/PriorityQueue" (146 : Nat) ({ cls := "java/lang/Comparable", name := "compareTo", desc := "(Ljava/lang/Object;)I" } : Jvm.MethodName)) ∈ lw_all := lw_g (lw_at lw_m5 152 rfl) rfl
theorem q1222 : (Jvm.Cond.sameMethod "java/util/PriorityQueue" "java/util/AbstractCollection" "isEmpty" "()Z") ∈ lw_all := lw_g (lw_at lw_m5 154 rfl) rfl
theorem q1224 : (Jvm.Cond.selects "java/util/PriorityQueue" ({ cls := "java/util/PriorityQueue", name := "isEmpty", desc := "()Z" } : Jvm.MethodName) ({ cls := "java/util/AbstractCollection", name := "isEmpty", desc := "()Z" } : Jvm.MethodName)) ∈ lw_all := lw_g (lw_at lw_m5 156 rfl) rfl
theorem q1230 : (Jvm.Cond.selects "java/util/PriorityQueue" ({ cls := "java/util/AbstractCollection", name := "size", desc := "()I" } : Jvm.MethodName) ({ cls := "java/util/PriorityQueue", name := "size", desc := "()I" } : Jvm.MethodName)) ∈ lw_all := lw_g (lw_at lw_m5 162 rfl) rfl
theorem q1231 : (Jvm.Cond.instanceMethod ({ cls := "java/util/PriorityQueue", name := "size", desc := "()I" } : Jvm.MethodName)) ∈ lw_all := lw_g (lw_at lw_m5 163 rfl) rfl
theorem q1232 : (Jvm.Cond.code ({ cls := "java/util/PriorityQueue", name := "size", desc := "()I" } : Jvm.MethodName) prog_52_method_23_code (1 : Nat) (Option.some Jvm.ClassFile.FieldType.int)) ∈ lw_all := lw_g (lw_at lw_m5 164 rfl) rfl
theorem q1249 : (Jvm.Cond.instanceMethod ({ cls := "java/util/PriorityQueue", name := "poll", desc := "()Ljava/lang/Object;" } : Jvm.MethodName)) ∈ lw_all := lw_g (lw_at lw_m5 181 rfl) rfl
theorem q1250 : (Jvm.Cond.selects "java/util/PriorityQueue" ({ cls := "java/util/PriorityQueue", name := "poll", desc := "()Ljava/lang/Object;" } : Jvm.MethodName) ({ cls := "java/util/PriorityQueue", name := "poll", desc := "()Ljava/lang/Object;" } : Jvm.MethodName)) ∈ lw_all := lw_g (lw_at lw_m5 182 rfl) rfl
theorem q1251 : (Jvm.Cond.code ({ cls := "java/util/PriorityQueue", name := "poll", desc := "()Ljava/lang/Object;" } : Jvm.MethodName) prog_52_method_25_code (6 : Nat) (Option.some (Jvm.ClassFile.FieldType.object "java/lang/Object"))) ∈ lw_all := lw_g (lw_at lw_m5 183 rfl) rfl
theorem q1252 : (Jvm.Cond.methodLink "java/util/PriorityQueue" (125 : Nat) ({ cls := "java/util/PriorityQueue", name := "siftDownComparable", desc := "(ILjava/lang/Object;[Ljava/lang/Object;I)V" } : Jvm.MethodName)) ∈ lw_all := lw_g (lw_at lw_m5 184 rfl) rfl
theorem q1253 : (Jvm.Cond.static ({ cls := "java/util/PriorityQueue", name := "siftDownComparable", desc := "(ILjava/lang/Object;[Ljava/lang/Object;I)V" } : Jvm.MethodName)) ∈ lw_all := lw_g (lw_at lw_m5 185 rfl) rfl
theorem q1254 : (Jvm.Cond.code ({ cls := "java/util/PriorityQueue", name := "siftDownComparable", desc := "(ILjava/lang/Object;[Ljava/lang/Object;I)V" } : Jvm.MethodName) prog_52_method_31_code (9 : Nat) (Option.none : Option Jvm.ClassFile.FieldType)) ∈ lw_all := lw_g (lw_at lw_m5 186 rfl) rfl
theorem q1255 : (Jvm.Cond.methodLink "java/util/PriorityQueue" (129 : Nat) ({ cls := "java/util/PriorityQueue", name := "siftDownUsingComparato\x72", desc := "(ILjava/lang/Object;[Ljava/lang/Object;ILjava/util/Comparator;)V" } : Jvm.MethodName)) ∈ lw_all := lw_g (lw_at lw_m5 187 rfl) rfl
theorem q1256 : (Jvm.Cond.static ({ cls := "java/util/PriorityQueue", name := "siftDownUsingComparato\x72", desc := "(ILjava/lang/Object;[Ljava/lang/Object;ILjava/util/Comparator;)V" } : Jvm.MethodName)) ∈ lw_all := lw_g (lw_at lw_m5 188 rfl) rfl
theorem q1257 : (Jvm.Cond.code ({ cls := "java/util/PriorityQueue", name := "siftDownUsingComparato\x72", desc := "(ILjava/lang/Object;[Ljava/lang/Object;ILjava/util/Comparator;)V" } : Jvm.MethodName) prog_52_method_32_code (9 : Nat) (Option.none : Option Jvm.ClassFile.FieldType)) ∈ lw_all := lw_g (lw_at lw_m5 189 rfl) rfl
theorem q2074 : (Jvm.Cond.castable "java/util/PriorityQueue" "java/lang/Object") ∈ lw_tbl := lw_at lw_m9 46 rfl
theorem in_J7 : ∀ w ∈ wsJ70, w ∈ lw_all := lw_in wsJ70 [302, 304, 306, 308] (by decide +kernel) (by decide +kernel)
/-! java/lang/Number -/
set_option maxRecDepth 100000
def RJ8 : String := "java/lang/Numbe\x72"
abbrev cJ8_init : ByteArray := prog_30_method_1_code
def yJ8_init : MethodName := ⟨RJ8, "<init>", "()V"⟩
theorem dJ8_init_0 : decode cJ8_init 0 = .ok (.aload_n 0, 1) := by decide +kernel
theorem dJ8_init_1 : decode cJ8_init 1 = .ok (.invokespecial 1, 3) := by decide +kernel
theorem dJ8_init_4 : decode cJ8_init 4 = .ok (.return_, 1) := by decide +kernel
theorem q128 : (Jvm.Cond.initialized "java/lang/Numbe\x72") ∈ lw_all := lw_g (lw_at lw_m1 20 rfl) rfl
theorem q1079 : (Jvm.Cond.instanceMethod ({ cls := "java/lang/Numbe\x72", name := "<init>", desc := "()V" } : Jvm.MethodName)) ∈ lw_all := lw_g (lw_at lw_m5 11 rfl) rfl
theorem q1080 : (Jvm.Cond.code ({ cls := "java/lang/Numbe\x72", name := "<init>", desc := "()V" } : Jvm.MethodName) prog_30_method_1_code (1 : Nat) (Option.none : Option Jvm.ClassFile.FieldType)) ∈ lw_all := lw_g (lw_at lw_m5 12 rfl) rfl
theorem q1081 : (Jvm.Cond.methodLink "java/lang/Numbe\x72" (1 : Nat) ({ cls := "java/lang/Object", name := "<init>", desc := "()V" } : Jvm.MethodName)) ∈ lw_all := lw_g (lw_at lw_m5 13 rfl) rfl
/-! java/lang/Integer -/
set_option maxRecDepth 100000
def RJ9 : String := "java/lang/Intege\x72"
def TJ9 : u_T := fun k => match k with
  | _ => ("java/lang/Intege\x72", "value", "I", true)
def tyJ9 : Nat → FieldType := fun k => match k with
  | _ => .int
abbrev wsJ90 : List Cond := u_ws RJ9 TJ9 1
theorem nmJ9 : ∀ a, a < 1 → ∀ b, b < 1 → a ≠ b → (TJ9 a).2.1 ≠ (TJ9 b).2.1 := by decide +kernel
theorem tyJ9_ok : ∀ k, k < 1 → parseFieldDescriptor (TJ9 k).2.2.1 = some (tyJ9 k) := by decide +kernel
abbrev cJ9_compareTo : ByteArray := prog_25_method_63_code
def yJ9_compareTo : MethodName := ⟨RJ9, "compareTo", "(Ljava/lang/Object;)I"⟩
def dkwJ9_compareTo_0 : List UInt8 := [42, 43, 192, 0, 1, 182, 1, 28, 172]
abbrev dktJ9_compareTo_0 : List UInt8 := dkwJ9_compareTo_0 ++ []
theorem dksJ9_compareTo_0 : cJ9_compareTo.data.toList.drop 0 = dktJ9_compareTo_0 := by decide +kernel
theorem dJ9_compareTo_0 : decode cJ9_compareTo 0 = .ok (.aload_n 0, 1) := dk_42 (dk_at dksJ9_compareTo_0 0 rfl rfl)
theorem dJ9_compareTo_1 : decode cJ9_compareTo 1 = .ok (.aload_n 1, 1) := dk_43 (dk_at dksJ9_compareTo_0 1 rfl rfl)
theorem dJ9_compareTo_2 : decode cJ9_compareTo 2 = .ok (.checkcast 1, 3) := dk_192 0 1 (dk_at dksJ9_compareTo_0 2 rfl rfl)
theorem dJ9_compareTo_5 : decode cJ9_compareTo 5 = .ok (.invokevirtual 284, 3) := dk_182 1 28 (dk_at dksJ9_compareTo_0 5 rfl rfl)
theorem dJ9_compareTo_8 : decode cJ9_compareTo 8 = .ok (.ireturn, 1) := dk_172 (dk_at dksJ9_compareTo_0 8 rfl rfl)
abbrev cJ9_compareTo_2 : ByteArray := prog_25_method_39_code
def yJ9_compareTo_2 : MethodName := ⟨RJ9, "compareTo", "(Ljava/lang/Integer;)I"⟩
def dkwJ9_compareTo_2_0 : List UInt8 := [42, 180, 0, 205, 43, 180, 0, 205, 184, 1, 3, 172]
abbrev dktJ9_compareTo_2_0 : List UInt8 := dkwJ9_compareTo_2_0 ++ []
theorem dksJ9_compareTo_2_0 : cJ9_compareTo_2.data.toList.drop 0 = dktJ9_compareTo_2_0 := by decide +kernel
theorem dJ9_compareTo_2_0 : decode cJ9_compareTo_2 0 = .ok (.aload_n 0, 1) := dk_42 (dk_at dksJ9_compareTo_2_0 0 rfl rfl)
theorem dJ9_compareTo_2_1 : decode cJ9_compareTo_2 1 = .ok (.getfield 205, 3) := dk_180 0 205 (dk_at dksJ9_compareTo_2_0 1 rfl rfl)
theorem dJ9_compareTo_2_4 : decode cJ9_compareTo_2 4 = .ok (.aload_n 1, 1) := dk_43 (dk_at dksJ9_compareTo_2_0 4 rfl rfl)
theorem dJ9_compareTo_2_5 : decode cJ9_compareTo_2 5 = .ok (.getfield 205, 3) := dk_180 0 205 (dk_at dksJ9_compareTo_2_0 5 rfl rfl)
theorem dJ9_compareTo_2_8 : decode cJ9_compareTo_2 8 = .ok (.invokestatic 259, 3) := dk_184 1 3 (dk_at dksJ9_compareTo_2_0 8 rfl rfl)
theorem dJ9_compareTo_2_11 : decode cJ9_compareTo_2 11 = .ok (.ireturn, 1) := dk_172 (dk_at dksJ9_compareTo_2_0 11 rfl rfl)
abbrev cJ9_compare : ByteArray := prog_25_method_40_code
def yJ9_compare : MethodName := ⟨RJ9, "compare", "(II)I"⟩
def dkwJ9_compare_0 : List UInt8 := [26, 27, 162, 0, 7, 2, 167, 0, 13, 26, 27, 160, 0, 7, 3, 167, 0, 4, 4, 172]
abbrev dktJ9_compare_0 : List UInt8 := dkwJ9_compare_0 ++ []
theorem dksJ9_compare_0 : cJ9_compare.data.toList.drop 0 = dktJ9_compare_0 := by decide +kernel
theorem dJ9_compare_0 : decode cJ9_compare 0 = .ok (.iload_n 0, 1) := dk_26 (dk_at dksJ9_compare_0 0 rfl rfl)
theorem dJ9_compare_1 : decode cJ9_compare 1 = .ok (.iload_n 1, 1) := dk_27 (dk_at dksJ9_compare_0 1 rfl rfl)
theorem dJ9_compare_2 : decode cJ9_compare 2 = .ok (.if_icmp .ge 7, 3) := dk_162 0 7 (dk_at dksJ9_compare_0 2 rfl rfl)
theorem dJ9_compare_5 : decode cJ9_compare 5 = .ok (.iconst (-1), 1) := dk_2 (dk_at dksJ9_compare_0 5 rfl rfl)
theorem dJ9_compare_6 : decode cJ9_compare 6 = .ok (.goto 13, 3) := dk_167 0 13 (dk_at dksJ9_compare_0 6 rfl rfl)
theorem dJ9_compare_9 : decode cJ9_compare 9 = .ok (.iload_n 0, 1) := dk_26 (dk_at dksJ9_compare_0 9 rfl rfl)
theorem dJ9_compare_10 : decode cJ9_compare 10 = .ok (.iload_n 1, 1) := dk_27 (dk_at dksJ9_compare_0 10 rfl rfl)
theorem dJ9_compare_11 : decode cJ9_compare 11 = .ok (.if_icmp .ne 7, 3) := dk_160 0 7 (dk_at dksJ9_compare_0 11 rfl rfl)
theorem dJ9_compare_14 : decode cJ9_compare 14 = .ok (.iconst 0, 1) := dk_3 (dk_at dksJ9_compare_0 14 rfl rfl)
theorem dJ9_compare_15 : decode cJ9_compare 15 = .ok (.goto 4, 3) := dk_167 0 4 (dk_at dksJ9_compare_0 15 rfl rfl)
theorem dJ9_compare_18 : decode cJ9_compare 18 = .ok (.iconst 1, 1) := dk_4 (dk_at dksJ9_compare_0 18 rfl rfl)
theorem dJ9_compare_19 : decode cJ9_compare 19 = .ok (.ireturn, 1) := dk_172 (dk_at dksJ9_compare_0 19 rfl rfl)
abbrev cJ9_valueOf : ByteArray := prog_25_method_22_code
def yJ9_valueOf : MethodName := ⟨RJ9, "valueOf", "(I)Ljava/lang/Integer;"⟩
def dkwJ9_valueOf_1 : List UInt8 := [187, 0, 1, 89, 26, 183, 0, 199, 176]
abbrev dktJ9_valueOf_1 : List UInt8 := dkwJ9_valueOf_1 ++ []
def dkwJ9_valueOf_0 : List UInt8 := [26, 16, 128, 161, 0, 20, 26, 178, 0, 191, 163, 0, 13, 178, 0, 195, 26, 17, 0, 128, 96, 50, 176]
abbrev dktJ9_valueOf_0 : List UInt8 := dkwJ9_valueOf_0 ++ dktJ9_valueOf_1
theorem dksJ9_valueOf_0 : cJ9_valueOf.data.toList.drop 0 = dktJ9_valueOf_0 := by decide +kernel
theorem dksJ9_valueOf_1 : cJ9_valueOf.data.toList.drop 23 = dktJ9_valueOf_1 := dk_seg dksJ9_valueOf_0 23 rfl rfl
theorem dJ9_valueOf_0 : decode cJ9_valueOf 0 = .ok (.iload_n 0, 1) := dk_26 (dk_at dksJ9_valueOf_0 0 rfl rfl)
theorem dJ9_valueOf_1 : decode cJ9_valueOf 1 = .ok (.bipush (-128), 2) := dk_16 128 (dk_at dksJ9_valueOf_0 1 rfl rfl)
theorem dJ9_valueOf_3 : decode cJ9_valueOf 3 = .ok (.if_icmp .lt 20, 3) := dk_161 0 20 (dk_at dksJ9_valueOf_0 3 rfl rfl)
theorem dJ9_valueOf_6 : decode cJ9_valueOf 6 = .ok (.iload_n 0, 1) := dk_26 (dk_at dksJ9_valueOf_0 6 rfl rfl)
theorem dJ9_valueOf_7 : decode cJ9_valueOf 7 = .ok (.getstatic 191, 3) := dk_178 0 191 (dk_at dksJ9_valueOf_0 7 rfl rfl)
theorem dJ9_valueOf_10 : decode cJ9_valueOf 10 = .ok (.if_icmp .gt 13, 3) := dk_163 0 13 (dk_at dksJ9_valueOf_0 10 rfl rfl)
theorem dJ9_valueOf_13 : decode cJ9_valueOf 13 = .ok (.getstatic 195, 3) := dk_178 0 195 (dk_at dksJ9_valueOf_0 13 rfl rfl)
theorem dJ9_valueOf_16 : decode cJ9_valueOf 16 = .ok (.iload_n 0, 1) := dk_26 (dk_at dksJ9_valueOf_0 16 rfl rfl)
theorem dJ9_valueOf_17 : decode cJ9_valueOf 17 = .ok (.sipush 128, 3) := dk_17 0 128 (dk_at dksJ9_valueOf_0 17 rfl rfl)
theorem dJ9_valueOf_20 : decode cJ9_valueOf 20 = .ok (.iadd, 1) := dk_96 (dk_at dksJ9_valueOf_0 20 rfl rfl)
theorem dJ9_valueOf_21 : decode cJ9_valueOf 21 = .ok (.aaload, 1) := dk_50 (dk_at dksJ9_valueOf_0 21 rfl rfl)
theorem dJ9_valueOf_22 : decode cJ9_valueOf 22 = .ok (.areturn, 1) := dk_176 (dk_at dksJ9_valueOf_0 22 rfl rfl)
theorem dJ9_valueOf_23 : decode cJ9_valueOf 23 = .ok (.new 1, 3) := dk_187 0 1 (dk_at dksJ9_valueOf_1 0 rfl rfl)
theorem dJ9_valueOf_26 : decode cJ9_valueOf 26 = .ok (.dup, 1) := dk_89 (dk_at dksJ9_valueOf_1 3 rfl rfl)
theorem dJ9_valueOf_27 : decode cJ9_valueOf 27 = .ok (.iload_n 0, 1) := dk_26 (dk_at dksJ9_valueOf_1 4 rfl rfl)
theorem dJ9_valueOf_28 : decode cJ9_valueOf 28 = .ok (.invokespecial 199, 3) := dk_183 0 199 (dk_at dksJ9_valueOf_1 5 rfl rfl)
theorem dJ9_valueOf_31 : decode cJ9_valueOf 31 = .ok (.areturn, 1) := dk_176 (dk_at dksJ9_valueOf_1 8 rfl rfl)
abbrev cJ9_init : ByteArray := prog_25_method_23_code
def yJ9_init : MethodName := ⟨RJ9, "<init>", "(I)V"⟩
def dkwJ9_init_0 : List UInt8 := [42, 183, 0, 202, 42, 27, 181, 0, 205, 177]
abbrev dktJ9_init_0 : List UInt8 := dkwJ9_init_0 ++ []
theorem dksJ9_init_0 : cJ9_init.data.toList.drop 0 = dktJ9_init_0 := by decide +kernel
theorem dJ9_init_0 : decode cJ9_init 0 = .ok (.aload_n 0, 1) := dk_42 (dk_at dksJ9_init_0 0 rfl rfl)
theorem dJ9_init_1 : decode cJ9_init 1 = .ok (.invokespecial 202, 3) := dk_183 0 202 (dk_at dksJ9_init_0 1 rfl rfl)
theorem dJ9_init_4 : decode cJ9_init 4 = .ok (.aload_n 0, 1) := dk_42 (dk_at dksJ9_init_0 4 rfl rfl)
theorem dJ9_init_5 : decode cJ9_init 5 = .ok (.iload_n 1, 1) := dk_27 (dk_at dksJ9_init_0 5 rfl rfl)
theorem dJ9_init_6 : decode cJ9_init 6 = .ok (.putfield 205, 3) := dk_181 0 205 (dk_at dksJ9_init_0 6 rfl rfl)
theorem dJ9_init_9 : decode cJ9_init 9 = .ok (.return_, 1) := dk_177 (dk_at dksJ9_init_0 9 rfl rfl)
abbrev cJ9_intValue : ByteArray := prog_25_method_27_code
def yJ9_intValue : MethodName := ⟨RJ9, "intValue", "()I"⟩
theorem dJ9_intValue_0 : decode cJ9_intValue 0 = .ok (.aload_n 0, 1) := by decide +kernel
theorem dJ9_intValue_1 : decode cJ9_intValue 1 = .ok (.getfield 205, 3) := by decide +kernel
theorem dJ9_intValue_4 : decode cJ9_intValue 4 = .ok (.ireturn, 1) := by decide +kernel
abbrev cJ9_bitCount : ByteArray := prog_25_method_49_code
def yJ9_bitCount : MethodName := ⟨RJ9, "bitCount", "(I)I"⟩
def dkwJ9_bitCount_2 : List UInt8 := [26, 16, 63, 126, 172]
abbrev dktJ9_bitCount_2 : List UInt8 := dkwJ9_bitCount_2 ++ []
def dkwJ9_bitCount_1 : List UInt8 := [26, 26, 7, 124, 96, 19, 1, 11, 126, 59, 26, 26, 16, 8, 124, 96, 59, 26, 26, 16, 16, 124, 96, 59]
abbrev dktJ9_bitCount_1 : List UInt8 := dkwJ9_bitCount_1 ++ dktJ9_bitCount_2
def dkwJ9_bitCount_0 : List UInt8 := [26, 26, 4, 124, 19, 1, 9, 126, 100, 59, 26, 19, 1, 10, 126, 26, 5, 124, 19, 1, 10, 126, 96, 59]
abbrev dktJ9_bitCount_0 : List UInt8 := dkwJ9_bitCount_0 ++ dktJ9_bitCount_1
theorem dksJ9_bitCount_0 : cJ9_bitCount.data.toList.drop 0 = dktJ9_bitCount_0 := by decide +kernel
theorem dksJ9_bitCount_1 : cJ9_bitCount.data.toList.drop 24 = dktJ9_bitCount_1 := dk_seg dksJ9_bitCount_0 24 rfl rfl
theorem dksJ9_bitCount_2 : cJ9_bitCount.data.toList.drop 48 = dktJ9_bitCount_2 := dk_seg dksJ9_bitCount_1 24 rfl rfl
theorem dJ9_bitCount_0 : decode cJ9_bitCount 0 = .ok (.iload_n 0, 1) := dk_26 (dk_at dksJ9_bitCount_0 0 rfl rfl)
theorem dJ9_bitCount_1 : decode cJ9_bitCount 1 = .ok (.iload_n 0, 1) := dk_26 (dk_at dksJ9_bitCount_0 1 rfl rfl)
theorem dJ9_bitCount_2 : decode cJ9_bitCount 2 = .ok (.iconst 1, 1) := dk_4 (dk_at dksJ9_bitCount_0 2 rfl rfl)
theorem dJ9_bitCount_3 : decode cJ9_bitCount 3 = .ok (.iushr, 1) := dk_124 (dk_at dksJ9_bitCount_0 3 rfl rfl)
theorem dJ9_bitCount_4 : decode cJ9_bitCount 4 = .ok (.ldc_w 265, 3) := dk_19 1 9 (dk_at dksJ9_bitCount_0 4 rfl rfl)
theorem dJ9_bitCount_7 : decode cJ9_bitCount 7 = .ok (.iand, 1) := dk_126 (dk_at dksJ9_bitCount_0 7 rfl rfl)
theorem dJ9_bitCount_8 : decode cJ9_bitCount 8 = .ok (.isub, 1) := dk_100 (dk_at dksJ9_bitCount_0 8 rfl rfl)
theorem dJ9_bitCount_9 : decode cJ9_bitCount 9 = .ok (.istore_n 0, 1) := dk_59 (dk_at dksJ9_bitCount_0 9 rfl rfl)
theorem dJ9_bitCount_10 : decode cJ9_bitCount 10 = .ok (.iload_n 0, 1) := dk_26 (dk_at dksJ9_bitCount_0 10 rfl rfl)
theorem dJ9_bitCount_11 : decode cJ9_bitCount 11 = .ok (.ldc_w 266, 3) := dk_19 1 10 (dk_at dksJ9_bitCount_0 11 rfl rfl)
theorem dJ9_bitCount_14 : decode cJ9_bitCount 14 = .ok (.iand, 1) := dk_126 (dk_at dksJ9_bitCount_0 14 rfl rfl)
theorem dJ9_bitCount_15 : decode cJ9_bitCount 15 = .ok (.iload_n 0, 1) := dk_26 (dk_at dksJ9_bitCount_0 15 rfl rfl)
theorem dJ9_bitCount_16 : decode cJ9_bitCount 16 = .ok (.iconst 2, 1) := dk_5 (dk_at dksJ9_bitCount_0 16 rfl rfl)
theorem dJ9_bitCount_17 : decode cJ9_bitCount 17 = .ok (.iushr, 1) := dk_124 (dk_at dksJ9_bitCount_0 17 rfl rfl)
theorem dJ9_bitCount_18 : decode cJ9_bitCount 18 = .ok (.ldc_w 266, 3) := dk_19 1 10 (dk_at dksJ9_bitCount_0 18 rfl rfl)
theorem dJ9_bitCount_21 : decode cJ9_bitCount 21 = .ok (.iand, 1) := dk_126 (dk_at dksJ9_bitCount_0 21 rfl rfl)
theorem dJ9_bitCount_22 : decode cJ9_bitCount 22 = .ok (.iadd, 1) := dk_96 (dk_at dksJ9_bitCount_0 22 rfl rfl)
theorem dJ9_bitCount_23 : decode cJ9_bitCount 23 = .ok (.istore_n 0, 1) := dk_59 (dk_at dksJ9_bitCount_0 23 rfl rfl)
theorem dJ9_bitCount_24 : decode cJ9_bitCount 24 = .ok (.iload_n 0, 1) := dk_26 (dk_at dksJ9_bitCount_1 0 rfl rfl)
theorem dJ9_bitCount_25 : decode cJ9_bitCount 25 = .ok (.iload_n 0, 1) := dk_26 (dk_at dksJ9_bitCount_1 1 rfl rfl)
theorem dJ9_bitCount_26 : decode cJ9_bitCount 26 = .ok (.iconst 4, 1) := dk_7 (dk_at dksJ9_bitCount_1 2 rfl rfl)
theorem dJ9_bitCount_27 : decode cJ9_bitCount 27 = .ok (.iushr, 1) := dk_124 (dk_at dksJ9_bitCount_1 3 rfl rfl)
theorem dJ9_bitCount_28 : decode cJ9_bitCount 28 = .ok (.iadd, 1) := dk_96 (dk_at dksJ9_bitCount_1 4 rfl rfl)
theorem dJ9_bitCount_29 : decode cJ9_bitCount 29 = .ok (.ldc_w 267, 3) := dk_19 1 11 (dk_at dksJ9_bitCount_1 5 rfl rfl)
theorem dJ9_bitCount_32 : decode cJ9_bitCount 32 = .ok (.iand, 1) := dk_126 (dk_at dksJ9_bitCount_1 8 rfl rfl)
theorem dJ9_bitCount_33 : decode cJ9_bitCount 33 = .ok (.istore_n 0, 1) := dk_59 (dk_at dksJ9_bitCount_1 9 rfl rfl)
theorem dJ9_bitCount_34 : decode cJ9_bitCount 34 = .ok (.iload_n 0, 1) := dk_26 (dk_at dksJ9_bitCount_1 10 rfl rfl)
theorem dJ9_bitCount_35 : decode cJ9_bitCount 35 = .ok (.iload_n 0, 1) := dk_26 (dk_at dksJ9_bitCount_1 11 rfl rfl)
theorem dJ9_bitCount_36 : decode cJ9_bitCount 36 = .ok (.bipush 8, 2) := dk_16 8 (dk_at dksJ9_bitCount_1 12 rfl rfl)
theorem dJ9_bitCount_38 : decode cJ9_bitCount 38 = .ok (.iushr, 1) := dk_124 (dk_at dksJ9_bitCount_1 14 rfl rfl)
theorem dJ9_bitCount_39 : decode cJ9_bitCount 39 = .ok (.iadd, 1) := dk_96 (dk_at dksJ9_bitCount_1 15 rfl rfl)
theorem dJ9_bitCount_40 : decode cJ9_bitCount 40 = .ok (.istore_n 0, 1) := dk_59 (dk_at dksJ9_bitCount_1 16 rfl rfl)
theorem dJ9_bitCount_41 : decode cJ9_bitCount 41 = .ok (.iload_n 0, 1) := dk_26 (dk_at dksJ9_bitCount_1 17 rfl rfl)
theorem dJ9_bitCount_42 : decode cJ9_bitCount 42 = .ok (.iload_n 0, 1) := dk_26 (dk_at dksJ9_bitCount_1 18 rfl rfl)
theorem dJ9_bitCount_43 : decode cJ9_bitCount 43 = .ok (.bipush 16, 2) := dk_16 16 (dk_at dksJ9_bitCount_1 19 rfl rfl)
theorem dJ9_bitCount_45 : decode cJ9_bitCount 45 = .ok (.iushr, 1) := dk_124 (dk_at dksJ9_bitCount_1 21 rfl rfl)
theorem dJ9_bitCount_46 : decode cJ9_bitCount 46 = .ok (.iadd, 1) := dk_96 (dk_at dksJ9_bitCount_1 22 rfl rfl)
theorem dJ9_bitCount_47 : decode cJ9_bitCount 47 = .ok (.istore_n 0, 1) := dk_59 (dk_at dksJ9_bitCount_1 23 rfl rfl)
theorem dJ9_bitCount_48 : decode cJ9_bitCount 48 = .ok (.iload_n 0, 1) := dk_26 (dk_at dksJ9_bitCount_2 0 rfl rfl)
theorem dJ9_bitCount_49 : decode cJ9_bitCount 49 = .ok (.bipush 63, 2) := dk_16 63 (dk_at dksJ9_bitCount_2 1 rfl rfl)
theorem dJ9_bitCount_51 : decode cJ9_bitCount 51 = .ok (.iand, 1) := dk_126 (dk_at dksJ9_bitCount_2 3 rfl rfl)
theorem dJ9_bitCount_52 : decode cJ9_bitCount 52 = .ok (.ireturn, 1) := dk_172 (dk_at dksJ9_bitCount_2 4 rfl rfl)
theorem q129 : (Jvm.Cond.initialized "java/lang/Intege\x72") ∈ lw_all := lw_g (lw_at lw_m1 21 rfl) rfl
theorem q753 : (Jvm.Cond.castable "java/lang/Intege\x72" "java/lang/Comparable") ∈ lw_tbl := lw_at lw_m3 165 rfl
theorem q754 : (Jvm.Cond.selects "java/lang/Intege\x72" ({ cls := "java/lang/Comparable", name := "compareTo", desc := "(Ljava/lang/Object;)I" } : Jvm.MethodName) ({ cls := "java/lang/Intege\x72", name := "compareTo", desc := "(Ljava/lang/Object;)I" } : Jvm.MethodName)) ∈ lw_all := lw_g (lw_at lw_m3 166 rfl) rfl
theorem q755 : (Jvm.Cond.unhidden "java/lang/Intege\x72" "compareTo" "(Ljava/lang/Object;)I") ∈ lw_tbl := lw_at lw_m3 167 rfl
theorem q756 : (Jvm.Cond.instanceMethod ({ cls := "java/lang/Intege\x72", name := "compareTo", desc := "(Ljava/lang/Object;)I" } : Jvm.MethodName)) ∈ lw_all := lw_g (lw_at lw_m3 168 rfl) rfl
theorem q757 : (Jvm.Cond.publicMethod ({ cls := "java/lang/Intege\x72", name := "compareTo", desc := "(Ljava/lang/Object;)I" } : Jvm.MethodName)) ∈ lw_tbl := lw_at lw_m3 169 rfl
theorem q758 : (Jvm.Cond.code ({ cls := "java/lang/Intege\x72", name := "compareTo", desc := "(Ljava/lang/Object;)I" } : Jvm.MethodName) prog_25_method_63_code (2 : Nat) (Option.some Jvm.ClassFile.FieldType.int)) ∈ lw_all := lw_g (lw_at lw_m3 170 rfl) rfl
theorem q759 : (Jvm.Cond.classLink "java/lang/Intege\x72" (1 : Nat) "java/lang/Intege\x72") ∈ lw_all := lw_g (lw_at lw_m3 171 rfl) rfl
theorem q760 : (Jvm.Cond.methodLink "java/lang/Intege\x72" (284 : Nat) ({ cls := "java/lang/Intege\x72", name := "compareTo", desc := "(Ljava/lang/Integer;)I" } : Jvm.MethodName)) ∈ lw_all := lw_g (lw_at lw_m3 172 rfl) rfl
theorem q761 : (Jvm.Cond.instanceMethod ({ cls := "java/lang/Intege\x72", name := "compareTo", desc := "(Ljava/lang/Integer;)I" } : Jvm.MethodName)) ∈ lw_all := lw_g (lw_at lw_m3 173 rfl) rfl
theorem q762 : (Jvm.Cond.selects "java/lang/Intege\x72" ({ cls := "java/lang/Intege\x72", name := "compareTo", desc := "(Ljava/lang/Integer;)I" } : Jvm.MethodName) ({ cls := "java/lang/Intege\x72", name := "compareTo", desc := "(Ljava/lang/Integer;)I" } : Jvm.MethodName)) ∈ lw_all := lw_g (lw_at lw_m3 174 rfl) rfl
theorem q763 : (Jvm.Cond.code ({ cls := "java/lang/Intege\x72", name := "compareTo", desc := "(Ljava/lang/Integer;)I" } : Jvm.MethodName) prog_25_method_39_code (2 : Nat) (Option.some Jvm.ClassFile.FieldType.int)) ∈ lw_all := lw_g (lw_at lw_m3 175 rfl) rfl
theorem q764 : (Jvm.Cond.methodLink "java/lang/Intege\x72" (259 : Nat) ({ cls := "java/lang/Intege\x72", name := "compare", desc := "(II)I" } : Jvm.MethodName)) ∈ lw_all := lw_g (lw_at lw_m3 176 rfl) rfl
theorem q765 : (Jvm.Cond.static ({ cls := "java/lang/Intege\x72", name := "compare", desc := "(II)I" } : Jvm.MethodName)) ∈ lw_all := lw_g (lw_at lw_m3 177 rfl) rfl
theorem q766 : (Jvm.Cond.code ({ cls := "java/lang/Intege\x72", name := "compare", desc := "(II)I" } : Jvm.MethodName) prog_25_method_40_code (2 : Nat) (Option.some Jvm.ClassFile.FieldType.int)) ∈ lw_all := lw_g (lw_at lw_m3 178 rfl) rfl
theorem q1068 : (Jvm.Cond.static ({ cls := "java/lang/Intege\x72", name := "valueOf", desc := "(I)Ljava/lang/Integer;" } : Jvm.MethodName)) ∈ lw_all := lw_g (lw_at lw_m5 0 rfl) rfl
theorem q1069 : (Jvm.Cond.code ({ cls := "java/lang/Intege\x72", name := "valueOf", desc := "(I)Ljava/lang/Integer;" } : Jvm.MethodName) prog_25_method_22_code (1 : Nat) (Option.some (Jvm.ClassFile.FieldType.object "java/lang/Intege\x72"))) ∈ lw_all := lw_g (lw_at lw_m5 1 rfl) rfl
theorem q1070 : (Jvm.Cond.fieldLink "java/lang/Intege\x72" (191 : Nat) "java/lang/Integer$IntegerCache" "high" "I") ∈ lw_all := lw_g (lw_at lw_m5 2 rfl) rfl
theorem q1072 : (Jvm.Cond.fieldLink "java/lang/Intege\x72" (195 : Nat) "java/lang/Integer$IntegerCache" "cache" "[Ljava/lang/Integer;") ∈ lw_all := lw_g (lw_at lw_m5 4 rfl) rfl
theorem q1074 : (Jvm.Cond.instantiable "java/lang/Intege\x72" (1 : Nat)) ∈ lw_all := lw_g (lw_at lw_m5 6 rfl) rfl
theorem q1075 : (Jvm.Cond.methodLink "java/lang/Intege\x72" (199 : Nat) ({ cls := "java/lang/Intege\x72", name := "<init>", desc := "(I)V" } : Jvm.MethodName)) ∈ lw_all := lw_g (lw_at lw_m5 7 rfl) rfl
theorem q1076 : (Jvm.Cond.instanceMethod ({ cls := "java/lang/Intege\x72", name := "<init>", desc := "(I)V" } : Jvm.MethodName)) ∈ lw_all := lw_g (lw_at lw_m5 8 rfl) rfl
theorem q1077 : (Jvm.Cond.code ({ cls := "java/lang/Intege\x72", name := "<init>", desc := "(I)V" } : Jvm.MethodName) prog_25_method_23_code (2 : Nat) (Option.none : Option Jvm.ClassFile.FieldType)) ∈ lw_all := lw_g (lw_at lw_m5 9 rfl) rfl
theorem q1078 : (Jvm.Cond.methodLink "java/lang/Intege\x72" (202 : Nat) ({ cls := "java/lang/Numbe\x72", name := "<init>", desc := "()V" } : Jvm.MethodName)) ∈ lw_all := lw_g (lw_at lw_m5 10 rfl) rfl
theorem q1082 : (Jvm.Cond.fieldLink "java/lang/Intege\x72" (205 : Nat) "java/lang/Intege\x72" "value" "I") ∈ lw_all := lw_g (lw_at lw_m5 14 rfl) rfl
theorem q1083 : (Jvm.Cond.laysFinal "java/lang/Intege\x72" "java/lang/Intege\x72" "value" "I") ∈ lw_all := lw_g (lw_at lw_m5 15 rfl) rfl
theorem q1084 : (Jvm.Cond.soleField "java/lang/Intege\x72" "value") ∈ lw_all := lw_g (lw_at lw_m5 16 rfl) rfl
theorem q1085 : (Jvm.Cond.superclass "java/lang/Intege\x72" "java/lang/Numbe\x72") ∈ lw_all := lw_g (lw_at lw_m5 17 rfl) rfl
theorem q1114 : (Jvm.Cond.instanceMethod ({ cls := "java/lang/Intege\x72", name := "intValue", desc := "()I" } : Jvm.MethodName)) ∈ lw_all := lw_g (lw_at lw_m5 46 rfl) rfl
theorem q1115 : (Jvm.Cond.selects "java/lang/Intege\x72" ({ cls := "java/lang/Intege\x72", name := "intValue", desc := "()I" } : Jvm.MethodName) ({ cls := "java/lang/Intege\x72", name := "intValue", desc := "()I" } : Jvm.MethodName)) ∈ lw_all := lw_g (lw_at lw_m5 47 rfl) rfl
theorem q1116 : (Jvm.Cond.code ({ cls := "java/lang/Intege\x72", name := "intValue", desc := "()I" } : Jvm.MethodName) prog_25_method_27_code (1 : Nat) (Option.some Jvm.ClassFile.FieldType.int)) ∈ lw_all := lw_g (lw_at lw_m5 48 rfl) rfl
theorem q1190 : (Jvm.Cond.selects "java/lang/Intege\x72" ({ cls := "java/lang/Object", name := "getClass", desc := "()Ljava/lang/Class;" } : Jvm.MethodName) ({ cls := "java/lang/Object", name := "getClass", desc := "()Ljava/lang/Class;" } : Jvm.MethodName)) ∈ lw_all := lw_g (lw_at lw_m5 122 rfl) rfl
theorem q1362 : (Jvm.Cond.static ({ cls := "java/lang/Intege\x72", name := "bitCount", desc := "(I)I" } : Jvm.MethodName)) ∈ lw_all := lw_g (lw_at lw_m6 54 rfl) rfl
theorem q1363 : (Jvm.Cond.code ({ cls := "java/lang/Intege\x72", name := "bitCount", desc := "(I)I" } : Jvm.MethodName) prog_25_method_49_code (1 : Nat) (Option.some Jvm.ClassFile.FieldType.int)) ∈ lw_all := lw_g (lw_at lw_m6 55 rfl) rfl
theorem q1364 : (Jvm.Cond.constant "java/lang/Intege\x72" (265 : Nat) (1431655765 : Int32)) ∈ lw_all := lw_g (lw_at lw_m6 56 rfl) rfl
theorem q1365 : (Jvm.Cond.constant "java/lang/Intege\x72" (266 : Nat) (858993459 : Int32)) ∈ lw_all := lw_g (lw_at lw_m6 57 rfl) rfl
theorem q1366 : (Jvm.Cond.constant "java/lang/Intege\x72" (267 : Nat) (252645135 : Int32)) ∈ lw_all := lw_g (lw_at lw_m6 58 rfl) rfl
theorem q2084 : (Jvm.Cond.castable "java/lang/Intege\x72" "java/lang/Object") ∈ lw_tbl := lw_at lw_m9 56 rfl
theorem in_J9 : ∀ w ∈ wsJ90, w ∈ lw_all := lw_in wsJ90 [1083] (by decide +kernel) (by decide +kernel)
