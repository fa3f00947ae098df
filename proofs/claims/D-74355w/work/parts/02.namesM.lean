/-! DECODE ROWS BY BYTES: one lemma an opcode; a method's code is cut into short pieces once, and a row reads its own piece alone. -/
set_option maxRecDepth 100000
/-- the code has just these bytes from pc on -/
def DkAt (code : ByteArray) (pc : Nat) (bs : List UInt8) : Prop := ∀ (j : Nat) (b : UInt8), bs[j]? = some b → code.data.toList[pc + j]? = some b
/-- the piece W has the bytes bs from its place j on -/
def dkIn (W : List UInt8) (j : Nat) (bs : List UInt8) : Bool := decide ((W.drop j).take bs.length = bs)
theorem dk_seg {l W T : List UInt8} {o o2 : Nat} (h : l.drop o = W ++ T) (n : Nat) (hn : W.length = n) (ho : o + n = o2) : l.drop o2 = T := by
  subst ho
  rw [← List.drop_drop, h, List.drop_left' hn]
theorem dk_at {code : ByteArray} {W T bs : List UInt8} {o pc : Nat} (h : code.data.toList.drop o = W ++ T) (j : Nat) (hp : o + j = pc) (hw : dkIn W j bs = true) : DkAt code pc bs := by
  subst hp
  intro i b e
  have h1 := of_decide_eq_true hw
  have h2 : i < bs.length := (List.getElem?_eq_some_iff.mp e).1
  have h3 : W[j + i]? = some b := by
    rw [← h1, List.getElem?_take, if_pos h2, List.getElem?_drop] at e
    exact e
  have h4 : j + i < W.length := (List.getElem?_eq_some_iff.mp h3).1
  have h5 : (code.data.toList.drop o)[j + i]? = some b := by
    rw [h, List.getElem?_append_left h4]
    exact h3
  rw [List.getElem?_drop, ← Nat.add_assoc] at h5
  exact h5
theorem dk_u1 {A : ByteArray} {p : Nat} {b : UInt8} (h : A.data.toList[p]? = some b) : (Reader.u1 : Reader DecodeError Nat) A p = .ok (b.toNat, p + 1) := by
  obtain ⟨h1, h2⟩ := List.getElem?_eq_some_iff.mp h
  have h3 : p < A.size := by simpa using h1
  have h4 : A[p]'h3 = b := h2
  have e : (Reader.u1 : Reader DecodeError Nat) A p = (if h : p < A.size then .ok (A[p].toNat, p + 1) else .error (HasTruncated.truncated p)) := by
    show (do if h : p < A.size then do set (p + 1); Pure.pure A[p].toNat else MonadExcept.throw (HasTruncated.truncated p) : Reader DecodeError Nat) A p = _
    by_cases hi : p < A.size
    · rw [dif_pos hi, dif_pos hi]; rfl
    · rw [dif_neg hi, dif_neg hi]; rfl
  rw [e, dif_pos h3, h4]
theorem dk_bind {α β : Type} {r : Reader DecodeError α} {f : α → Reader DecodeError β} {A : ByteArray} {p s : Nat} {a : α} (h : r A p = .ok (a, s)) : (r >>= f) A p = f a A s := by
  show (do let (a, s) ← r A p; f a A s : Except DecodeError (β × Nat)) = _
  rw [h]
  rfl
theorem dk_map {α β : Type} {r : Reader DecodeError α} {g : α → β} {A : ByteArray} {p s : Nat} {a : α} (h : r A p = .ok (a, s)) : (g <$> r) A p = .ok (g a, s) := by
  show (do let (a, s) ← r A p; .ok (g a, s) : Except DecodeError (β × Nat)) = _
  rw [h]
  rfl
theorem dk_u2 {A : ByteArray} {p : Nat} {a b : UInt8} (h : A.data.toList[p]? = some a) (h2 : A.data.toList[p + 1]? = some b) : (Reader.u2 : Reader DecodeError Nat) A p = .ok (a.toNat * 256 + b.toNat, p + 2) := by
  show (Reader.u1 >>= fun hi => Reader.u1 >>= fun lo => Pure.pure (hi * 256 + lo) : Reader DecodeError Nat) A p = _
  rw [dk_bind (dk_u1 h), dk_bind (dk_u1 h2)]
  rfl
theorem dk_of {code : ByteArray} {pc n : Nat} {i : Instr} (h : Decoder.instr pc code pc = .ok (i, pc + n)) : decode code pc = .ok (i, n) := by
  have e : decode code pc = (match Decoder.instr pc code pc with | .error x => .error x | .ok (j, s) => .ok (j, s - pc)) := by
    show (do let (j, s) ← Decoder.instr pc code pc; Pure.pure (j, s - pc) : Except DecodeError (Instr × Nat)) = _
    cases Decoder.instr pc code pc <;> rfl
  rw [e, h]
  show Except.ok (i, pc + n - pc) = _
  rw [Nat.add_sub_cancel_left]
theorem dk_1 {code : ByteArray} {pc : Nat} (h : DkAt code pc [1]) : decode code pc = .ok (.aconst_null, 1) := dk_of ((dk_bind (dk_u1 (h 0 _ rfl))).trans rfl)
theorem dk_2 {code : ByteArray} {pc : Nat} (h : DkAt code pc [2]) : decode code pc = .ok (.iconst (-1), 1) := dk_of ((dk_bind (dk_u1 (h 0 _ rfl))).trans rfl)
theorem dk_3 {code : ByteArray} {pc : Nat} (h : DkAt code pc [3]) : decode code pc = .ok (.iconst 0, 1) := dk_of ((dk_bind (dk_u1 (h 0 _ rfl))).trans rfl)
theorem dk_4 {code : ByteArray} {pc : Nat} (h : DkAt code pc [4]) : decode code pc = .ok (.iconst 1, 1) := dk_of ((dk_bind (dk_u1 (h 0 _ rfl))).trans rfl)
theorem dk_5 {code : ByteArray} {pc : Nat} (h : DkAt code pc [5]) : decode code pc = .ok (.iconst 2, 1) := dk_of ((dk_bind (dk_u1 (h 0 _ rfl))).trans rfl)
theorem dk_6 {code : ByteArray} {pc : Nat} (h : DkAt code pc [6]) : decode code pc = .ok (.iconst 3, 1) := dk_of ((dk_bind (dk_u1 (h 0 _ rfl))).trans rfl)
theorem dk_7 {code : ByteArray} {pc : Nat} (h : DkAt code pc [7]) : decode code pc = .ok (.iconst 4, 1) := dk_of ((dk_bind (dk_u1 (h 0 _ rfl))).trans rfl)
theorem dk_8 {code : ByteArray} {pc : Nat} (h : DkAt code pc [8]) : decode code pc = .ok (.iconst 5, 1) := dk_of ((dk_bind (dk_u1 (h 0 _ rfl))).trans rfl)
theorem dk_9 {code : ByteArray} {pc : Nat} (h : DkAt code pc [9]) : decode code pc = .ok (.lconst 0, 1) := dk_of ((dk_bind (dk_u1 (h 0 _ rfl))).trans rfl)
theorem dk_10 {code : ByteArray} {pc : Nat} (h : DkAt code pc [10]) : decode code pc = .ok (.lconst 1, 1) := dk_of ((dk_bind (dk_u1 (h 0 _ rfl))).trans rfl)
theorem dk_16 {code : ByteArray} {pc : Nat} (a : UInt8) (h : DkAt code pc [16, a]) : decode code pc = .ok (.bipush (Reader.signed 8 a.toNat), 2) := dk_of ((dk_bind (dk_u1 (h 0 _ rfl))).trans ((dk_bind (dk_map (dk_u1 (h 1 _ rfl)))).trans rfl))
theorem dk_17 {code : ByteArray} {pc : Nat} (a b : UInt8) (h : DkAt code pc [17, a, b]) : decode code pc = .ok (.sipush (Reader.signed 16 (a.toNat * 256 + b.toNat)), 3) := dk_of ((dk_bind (dk_u1 (h 0 _ rfl))).trans ((dk_bind (dk_map (dk_u2 (h 1 _ rfl) (h 2 _ rfl)))).trans rfl))
theorem dk_18 {code : ByteArray} {pc : Nat} (a : UInt8) (h : DkAt code pc [18, a]) : decode code pc = .ok (.ldc a.toNat, 2) := dk_of ((dk_bind (dk_u1 (h 0 _ rfl))).trans ((dk_bind (dk_u1 (h 1 _ rfl))).trans rfl))
theorem dk_19 {code : ByteArray} {pc : Nat} (a b : UInt8) (h : DkAt code pc [19, a, b]) : decode code pc = .ok (.ldc_w (a.toNat * 256 + b.toNat), 3) := dk_of ((dk_bind (dk_u1 (h 0 _ rfl))).trans ((dk_bind (dk_u2 (h 1 _ rfl) (h 2 _ rfl))).trans rfl))
theorem dk_20 {code : ByteArray} {pc : Nat} (a b : UInt8) (h : DkAt code pc [20, a, b]) : decode code pc = .ok (.ldc2_w (a.toNat * 256 + b.toNat), 3) := dk_of ((dk_bind (dk_u1 (h 0 _ rfl))).trans ((dk_bind (dk_u2 (h 1 _ rfl) (h 2 _ rfl))).trans rfl))
theorem dk_21 {code : ByteArray} {pc : Nat} (a : UInt8) (h : DkAt code pc [21, a]) : decode code pc = .ok (.iload a.toNat, 2) := dk_of ((dk_bind (dk_u1 (h 0 _ rfl))).trans ((dk_bind (dk_u1 (h 1 _ rfl))).trans rfl))
theorem dk_22 {code : ByteArray} {pc : Nat} (a : UInt8) (h : DkAt code pc [22, a]) : decode code pc = .ok (.lload a.toNat, 2) := dk_of ((dk_bind (dk_u1 (h 0 _ rfl))).trans ((dk_bind (dk_u1 (h 1 _ rfl))).trans rfl))
theorem dk_25 {code : ByteArray} {pc : Nat} (a : UInt8) (h : DkAt code pc [25, a]) : decode code pc = .ok (.aload a.toNat, 2) := dk_of ((dk_bind (dk_u1 (h 0 _ rfl))).trans ((dk_bind (dk_u1 (h 1 _ rfl))).trans rfl))
theorem dk_26 {code : ByteArray} {pc : Nat} (h : DkAt code pc [26]) : decode code pc = .ok (.iload_n 0, 1) := dk_of ((dk_bind (dk_u1 (h 0 _ rfl))).trans rfl)
theorem dk_27 {code : ByteArray} {pc : Nat} (h : DkAt code pc [27]) : decode code pc = .ok (.iload_n 1, 1) := dk_of ((dk_bind (dk_u1 (h 0 _ rfl))).trans rfl)
theorem dk_28 {code : ByteArray} {pc : Nat} (h : DkAt code pc [28]) : decode code pc = .ok (.iload_n 2, 1) := dk_of ((dk_bind (dk_u1 (h 0 _ rfl))).trans rfl)
theorem dk_29 {code : ByteArray} {pc : Nat} (h : DkAt code pc [29]) : decode code pc = .ok (.iload_n 3, 1) := dk_of ((dk_bind (dk_u1 (h 0 _ rfl))).trans rfl)
theorem dk_30 {code : ByteArray} {pc : Nat} (h : DkAt code pc [30]) : decode code pc = .ok (.lload_n 0, 1) := dk_of ((dk_bind (dk_u1 (h 0 _ rfl))).trans rfl)
theorem dk_31 {code : ByteArray} {pc : Nat} (h : DkAt code pc [31]) : decode code pc = .ok (.lload_n 1, 1) := dk_of ((dk_bind (dk_u1 (h 0 _ rfl))).trans rfl)
theorem dk_32 {code : ByteArray} {pc : Nat} (h : DkAt code pc [32]) : decode code pc = .ok (.lload_n 2, 1) := dk_of ((dk_bind (dk_u1 (h 0 _ rfl))).trans rfl)
theorem dk_42 {code : ByteArray} {pc : Nat} (h : DkAt code pc [42]) : decode code pc = .ok (.aload_n 0, 1) := dk_of ((dk_bind (dk_u1 (h 0 _ rfl))).trans rfl)
theorem dk_43 {code : ByteArray} {pc : Nat} (h : DkAt code pc [43]) : decode code pc = .ok (.aload_n 1, 1) := dk_of ((dk_bind (dk_u1 (h 0 _ rfl))).trans rfl)
theorem dk_44 {code : ByteArray} {pc : Nat} (h : DkAt code pc [44]) : decode code pc = .ok (.aload_n 2, 1) := dk_of ((dk_bind (dk_u1 (h 0 _ rfl))).trans rfl)
theorem dk_45 {code : ByteArray} {pc : Nat} (h : DkAt code pc [45]) : decode code pc = .ok (.aload_n 3, 1) := dk_of ((dk_bind (dk_u1 (h 0 _ rfl))).trans rfl)
theorem dk_46 {code : ByteArray} {pc : Nat} (h : DkAt code pc [46]) : decode code pc = .ok (.iaload, 1) := dk_of ((dk_bind (dk_u1 (h 0 _ rfl))).trans rfl)
theorem dk_47 {code : ByteArray} {pc : Nat} (h : DkAt code pc [47]) : decode code pc = .ok (.laload, 1) := dk_of ((dk_bind (dk_u1 (h 0 _ rfl))).trans rfl)
theorem dk_50 {code : ByteArray} {pc : Nat} (h : DkAt code pc [50]) : decode code pc = .ok (.aaload, 1) := dk_of ((dk_bind (dk_u1 (h 0 _ rfl))).trans rfl)
theorem dk_51 {code : ByteArray} {pc : Nat} (h : DkAt code pc [51]) : decode code pc = .ok (.baload, 1) := dk_of ((dk_bind (dk_u1 (h 0 _ rfl))).trans rfl)
theorem dk_54 {code : ByteArray} {pc : Nat} (a : UInt8) (h : DkAt code pc [54, a]) : decode code pc = .ok (.istore a.toNat, 2) := dk_of ((dk_bind (dk_u1 (h 0 _ rfl))).trans ((dk_bind (dk_u1 (h 1 _ rfl))).trans rfl))
theorem dk_58 {code : ByteArray} {pc : Nat} (a : UInt8) (h : DkAt code pc [58, a]) : decode code pc = .ok (.astore a.toNat, 2) := dk_of ((dk_bind (dk_u1 (h 0 _ rfl))).trans ((dk_bind (dk_u1 (h 1 _ rfl))).trans rfl))
theorem dk_59 {code : ByteArray} {pc : Nat} (h : DkAt code pc [59]) : decode code pc = .ok (.istore_n 0, 1) := dk_of ((dk_bind (dk_u1 (h 0 _ rfl))).trans rfl)
theorem dk_60 {code : ByteArray} {pc : Nat} (h : DkAt code pc [60]) : decode code pc = .ok (.istore_n 1, 1) := dk_of ((dk_bind (dk_u1 (h 0 _ rfl))).trans rfl)
theorem dk_61 {code : ByteArray} {pc : Nat} (h : DkAt code pc [61]) : decode code pc = .ok (.istore_n 2, 1) := dk_of ((dk_bind (dk_u1 (h 0 _ rfl))).trans rfl)
theorem dk_62 {code : ByteArray} {pc : Nat} (h : DkAt code pc [62]) : decode code pc = .ok (.istore_n 3, 1) := dk_of ((dk_bind (dk_u1 (h 0 _ rfl))).trans rfl)
theorem dk_76 {code : ByteArray} {pc : Nat} (h : DkAt code pc [76]) : decode code pc = .ok (.astore_n 1, 1) := dk_of ((dk_bind (dk_u1 (h 0 _ rfl))).trans rfl)
theorem dk_77 {code : ByteArray} {pc : Nat} (h : DkAt code pc [77]) : decode code pc = .ok (.astore_n 2, 1) := dk_of ((dk_bind (dk_u1 (h 0 _ rfl))).trans rfl)
theorem dk_78 {code : ByteArray} {pc : Nat} (h : DkAt code pc [78]) : decode code pc = .ok (.astore_n 3, 1) := dk_of ((dk_bind (dk_u1 (h 0 _ rfl))).trans rfl)
theorem dk_79 {code : ByteArray} {pc : Nat} (h : DkAt code pc [79]) : decode code pc = .ok (.iastore, 1) := dk_of ((dk_bind (dk_u1 (h 0 _ rfl))).trans rfl)
theorem dk_80 {code : ByteArray} {pc : Nat} (h : DkAt code pc [80]) : decode code pc = .ok (.lastore, 1) := dk_of ((dk_bind (dk_u1 (h 0 _ rfl))).trans rfl)
theorem dk_83 {code : ByteArray} {pc : Nat} (h : DkAt code pc [83]) : decode code pc = .ok (.aastore, 1) := dk_of ((dk_bind (dk_u1 (h 0 _ rfl))).trans rfl)
theorem dk_84 {code : ByteArray} {pc : Nat} (h : DkAt code pc [84]) : decode code pc = .ok (.bastore, 1) := dk_of ((dk_bind (dk_u1 (h 0 _ rfl))).trans rfl)
theorem dk_87 {code : ByteArray} {pc : Nat} (h : DkAt code pc [87]) : decode code pc = .ok (.pop, 1) := dk_of ((dk_bind (dk_u1 (h 0 _ rfl))).trans rfl)
theorem dk_89 {code : ByteArray} {pc : Nat} (h : DkAt code pc [89]) : decode code pc = .ok (.dup, 1) := dk_of ((dk_bind (dk_u1 (h 0 _ rfl))).trans rfl)
theorem dk_90 {code : ByteArray} {pc : Nat} (h : DkAt code pc [90]) : decode code pc = .ok (.dup_x1, 1) := dk_of ((dk_bind (dk_u1 (h 0 _ rfl))).trans rfl)
theorem dk_92 {code : ByteArray} {pc : Nat} (h : DkAt code pc [92]) : decode code pc = .ok (.dup2, 1) := dk_of ((dk_bind (dk_u1 (h 0 _ rfl))).trans rfl)
theorem dk_96 {code : ByteArray} {pc : Nat} (h : DkAt code pc [96]) : decode code pc = .ok (.iadd, 1) := dk_of ((dk_bind (dk_u1 (h 0 _ rfl))).trans rfl)
theorem dk_97 {code : ByteArray} {pc : Nat} (h : DkAt code pc [97]) : decode code pc = .ok (.ladd, 1) := dk_of ((dk_bind (dk_u1 (h 0 _ rfl))).trans rfl)
theorem dk_100 {code : ByteArray} {pc : Nat} (h : DkAt code pc [100]) : decode code pc = .ok (.isub, 1) := dk_of ((dk_bind (dk_u1 (h 0 _ rfl))).trans rfl)
theorem dk_101 {code : ByteArray} {pc : Nat} (h : DkAt code pc [101]) : decode code pc = .ok (.lsub, 1) := dk_of ((dk_bind (dk_u1 (h 0 _ rfl))).trans rfl)
theorem dk_104 {code : ByteArray} {pc : Nat} (h : DkAt code pc [104]) : decode code pc = .ok (.imul, 1) := dk_of ((dk_bind (dk_u1 (h 0 _ rfl))).trans rfl)
theorem dk_105 {code : ByteArray} {pc : Nat} (h : DkAt code pc [105]) : decode code pc = .ok (.lmul, 1) := dk_of ((dk_bind (dk_u1 (h 0 _ rfl))).trans rfl)
theorem dk_108 {code : ByteArray} {pc : Nat} (h : DkAt code pc [108]) : decode code pc = .ok (.idiv, 1) := dk_of ((dk_bind (dk_u1 (h 0 _ rfl))).trans rfl)
theorem dk_112 {code : ByteArray} {pc : Nat} (h : DkAt code pc [112]) : decode code pc = .ok (.irem, 1) := dk_of ((dk_bind (dk_u1 (h 0 _ rfl))).trans rfl)
theorem dk_113 {code : ByteArray} {pc : Nat} (h : DkAt code pc [113]) : decode code pc = .ok (.lrem, 1) := dk_of ((dk_bind (dk_u1 (h 0 _ rfl))).trans rfl)
theorem dk_116 {code : ByteArray} {pc : Nat} (h : DkAt code pc [116]) : decode code pc = .ok (.ineg, 1) := dk_of ((dk_bind (dk_u1 (h 0 _ rfl))).trans rfl)
theorem dk_120 {code : ByteArray} {pc : Nat} (h : DkAt code pc [120]) : decode code pc = .ok (.ishl, 1) := dk_of ((dk_bind (dk_u1 (h 0 _ rfl))).trans rfl)
theorem dk_121 {code : ByteArray} {pc : Nat} (h : DkAt code pc [121]) : decode code pc = .ok (.lshl, 1) := dk_of ((dk_bind (dk_u1 (h 0 _ rfl))).trans rfl)
theorem dk_122 {code : ByteArray} {pc : Nat} (h : DkAt code pc [122]) : decode code pc = .ok (.ishr, 1) := dk_of ((dk_bind (dk_u1 (h 0 _ rfl))).trans rfl)
theorem dk_123 {code : ByteArray} {pc : Nat} (h : DkAt code pc [123]) : decode code pc = .ok (.lshr, 1) := dk_of ((dk_bind (dk_u1 (h 0 _ rfl))).trans rfl)
theorem dk_124 {code : ByteArray} {pc : Nat} (h : DkAt code pc [124]) : decode code pc = .ok (.iushr, 1) := dk_of ((dk_bind (dk_u1 (h 0 _ rfl))).trans rfl)
theorem dk_126 {code : ByteArray} {pc : Nat} (h : DkAt code pc [126]) : decode code pc = .ok (.iand, 1) := dk_of ((dk_bind (dk_u1 (h 0 _ rfl))).trans rfl)
theorem dk_127 {code : ByteArray} {pc : Nat} (h : DkAt code pc [127]) : decode code pc = .ok (.land, 1) := dk_of ((dk_bind (dk_u1 (h 0 _ rfl))).trans rfl)
theorem dk_128 {code : ByteArray} {pc : Nat} (h : DkAt code pc [128]) : decode code pc = .ok (.ior, 1) := dk_of ((dk_bind (dk_u1 (h 0 _ rfl))).trans rfl)
theorem dk_129 {code : ByteArray} {pc : Nat} (h : DkAt code pc [129]) : decode code pc = .ok (.lor, 1) := dk_of ((dk_bind (dk_u1 (h 0 _ rfl))).trans rfl)
theorem dk_130 {code : ByteArray} {pc : Nat} (h : DkAt code pc [130]) : decode code pc = .ok (.ixor, 1) := dk_of ((dk_bind (dk_u1 (h 0 _ rfl))).trans rfl)
theorem dk_132 {code : ByteArray} {pc : Nat} (a b : UInt8) (h : DkAt code pc [132, a, b]) : decode code pc = .ok (.iinc a.toNat (Reader.signed 8 b.toNat), 3) := dk_of ((dk_bind (dk_u1 (h 0 _ rfl))).trans ((dk_bind (dk_u1 (h 1 _ rfl))).trans ((dk_bind (dk_map (dk_u1 (h 2 _ rfl)))).trans rfl)))
theorem dk_133 {code : ByteArray} {pc : Nat} (h : DkAt code pc [133]) : decode code pc = .ok (.i2l, 1) := dk_of ((dk_bind (dk_u1 (h 0 _ rfl))).trans rfl)
theorem dk_136 {code : ByteArray} {pc : Nat} (h : DkAt code pc [136]) : decode code pc = .ok (.l2i, 1) := dk_of ((dk_bind (dk_u1 (h 0 _ rfl))).trans rfl)
theorem dk_145 {code : ByteArray} {pc : Nat} (h : DkAt code pc [145]) : decode code pc = .ok (.i2b, 1) := dk_of ((dk_bind (dk_u1 (h 0 _ rfl))).trans rfl)
theorem dk_146 {code : ByteArray} {pc : Nat} (h : DkAt code pc [146]) : decode code pc = .ok (.i2c, 1) := dk_of ((dk_bind (dk_u1 (h 0 _ rfl))).trans rfl)
theorem dk_148 {code : ByteArray} {pc : Nat} (h : DkAt code pc [148]) : decode code pc = .ok (.lcmp, 1) := dk_of ((dk_bind (dk_u1 (h 0 _ rfl))).trans rfl)
theorem dk_153 {code : ByteArray} {pc : Nat} (a b : UInt8) (h : DkAt code pc [153, a, b]) : decode code pc = .ok (.ifCond .eq (Reader.signed 16 (a.toNat * 256 + b.toNat)), 3) := dk_of ((dk_bind (dk_u1 (h 0 _ rfl))).trans ((dk_bind (dk_map (dk_u2 (h 1 _ rfl) (h 2 _ rfl)))).trans rfl))
theorem dk_154 {code : ByteArray} {pc : Nat} (a b : UInt8) (h : DkAt code pc [154, a, b]) : decode code pc = .ok (.ifCond .ne (Reader.signed 16 (a.toNat * 256 + b.toNat)), 3) := dk_of ((dk_bind (dk_u1 (h 0 _ rfl))).trans ((dk_bind (dk_map (dk_u2 (h 1 _ rfl) (h 2 _ rfl)))).trans rfl))
theorem dk_155 {code : ByteArray} {pc : Nat} (a b : UInt8) (h : DkAt code pc [155, a, b]) : decode code pc = .ok (.ifCond .lt (Reader.signed 16 (a.toNat * 256 + b.toNat)), 3) := dk_of ((dk_bind (dk_u1 (h 0 _ rfl))).trans ((dk_bind (dk_map (dk_u2 (h 1 _ rfl) (h 2 _ rfl)))).trans rfl))
theorem dk_156 {code : ByteArray} {pc : Nat} (a b : UInt8) (h : DkAt code pc [156, a, b]) : decode code pc = .ok (.ifCond .ge (Reader.signed 16 (a.toNat * 256 + b.toNat)), 3) := dk_of ((dk_bind (dk_u1 (h 0 _ rfl))).trans ((dk_bind (dk_map (dk_u2 (h 1 _ rfl) (h 2 _ rfl)))).trans rfl))
theorem dk_157 {code : ByteArray} {pc : Nat} (a b : UInt8) (h : DkAt code pc [157, a, b]) : decode code pc = .ok (.ifCond .gt (Reader.signed 16 (a.toNat * 256 + b.toNat)), 3) := dk_of ((dk_bind (dk_u1 (h 0 _ rfl))).trans ((dk_bind (dk_map (dk_u2 (h 1 _ rfl) (h 2 _ rfl)))).trans rfl))
theorem dk_158 {code : ByteArray} {pc : Nat} (a b : UInt8) (h : DkAt code pc [158, a, b]) : decode code pc = .ok (.ifCond .le (Reader.signed 16 (a.toNat * 256 + b.toNat)), 3) := dk_of ((dk_bind (dk_u1 (h 0 _ rfl))).trans ((dk_bind (dk_map (dk_u2 (h 1 _ rfl) (h 2 _ rfl)))).trans rfl))
theorem dk_159 {code : ByteArray} {pc : Nat} (a b : UInt8) (h : DkAt code pc [159, a, b]) : decode code pc = .ok (.if_icmp .eq (Reader.signed 16 (a.toNat * 256 + b.toNat)), 3) := dk_of ((dk_bind (dk_u1 (h 0 _ rfl))).trans ((dk_bind (dk_map (dk_u2 (h 1 _ rfl) (h 2 _ rfl)))).trans rfl))
theorem dk_160 {code : ByteArray} {pc : Nat} (a b : UInt8) (h : DkAt code pc [160, a, b]) : decode code pc = .ok (.if_icmp .ne (Reader.signed 16 (a.toNat * 256 + b.toNat)), 3) := dk_of ((dk_bind (dk_u1 (h 0 _ rfl))).trans ((dk_bind (dk_map (dk_u2 (h 1 _ rfl) (h 2 _ rfl)))).trans rfl))
theorem dk_161 {code : ByteArray} {pc : Nat} (a b : UInt8) (h : DkAt code pc [161, a, b]) : decode code pc = .ok (.if_icmp .lt (Reader.signed 16 (a.toNat * 256 + b.toNat)), 3) := dk_of ((dk_bind (dk_u1 (h 0 _ rfl))).trans ((dk_bind (dk_map (dk_u2 (h 1 _ rfl) (h 2 _ rfl)))).trans rfl))
theorem dk_162 {code : ByteArray} {pc : Nat} (a b : UInt8) (h : DkAt code pc [162, a, b]) : decode code pc = .ok (.if_icmp .ge (Reader.signed 16 (a.toNat * 256 + b.toNat)), 3) := dk_of ((dk_bind (dk_u1 (h 0 _ rfl))).trans ((dk_bind (dk_map (dk_u2 (h 1 _ rfl) (h 2 _ rfl)))).trans rfl))
theorem dk_163 {code : ByteArray} {pc : Nat} (a b : UInt8) (h : DkAt code pc [163, a, b]) : decode code pc = .ok (.if_icmp .gt (Reader.signed 16 (a.toNat * 256 + b.toNat)), 3) := dk_of ((dk_bind (dk_u1 (h 0 _ rfl))).trans ((dk_bind (dk_map (dk_u2 (h 1 _ rfl) (h 2 _ rfl)))).trans rfl))
theorem dk_164 {code : ByteArray} {pc : Nat} (a b : UInt8) (h : DkAt code pc [164, a, b]) : decode code pc = .ok (.if_icmp .le (Reader.signed 16 (a.toNat * 256 + b.toNat)), 3) := dk_of ((dk_bind (dk_u1 (h 0 _ rfl))).trans ((dk_bind (dk_map (dk_u2 (h 1 _ rfl) (h 2 _ rfl)))).trans rfl))
theorem dk_165 {code : ByteArray} {pc : Nat} (a b : UInt8) (h : DkAt code pc [165, a, b]) : decode code pc = .ok (.if_acmp .eq (Reader.signed 16 (a.toNat * 256 + b.toNat)), 3) := dk_of ((dk_bind (dk_u1 (h 0 _ rfl))).trans ((dk_bind (dk_map (dk_u2 (h 1 _ rfl) (h 2 _ rfl)))).trans rfl))
theorem dk_166 {code : ByteArray} {pc : Nat} (a b : UInt8) (h : DkAt code pc [166, a, b]) : decode code pc = .ok (.if_acmp .ne (Reader.signed 16 (a.toNat * 256 + b.toNat)), 3) := dk_of ((dk_bind (dk_u1 (h 0 _ rfl))).trans ((dk_bind (dk_map (dk_u2 (h 1 _ rfl) (h 2 _ rfl)))).trans rfl))
theorem dk_167 {code : ByteArray} {pc : Nat} (a b : UInt8) (h : DkAt code pc [167, a, b]) : decode code pc = .ok (.goto (Reader.signed 16 (a.toNat * 256 + b.toNat)), 3) := dk_of ((dk_bind (dk_u1 (h 0 _ rfl))).trans ((dk_bind (dk_map (dk_u2 (h 1 _ rfl) (h 2 _ rfl)))).trans rfl))
theorem dk_172 {code : ByteArray} {pc : Nat} (h : DkAt code pc [172]) : decode code pc = .ok (.ireturn, 1) := dk_of ((dk_bind (dk_u1 (h 0 _ rfl))).trans rfl)
theorem dk_173 {code : ByteArray} {pc : Nat} (h : DkAt code pc [173]) : decode code pc = .ok (.lreturn, 1) := dk_of ((dk_bind (dk_u1 (h 0 _ rfl))).trans rfl)
theorem dk_176 {code : ByteArray} {pc : Nat} (h : DkAt code pc [176]) : decode code pc = .ok (.areturn, 1) := dk_of ((dk_bind (dk_u1 (h 0 _ rfl))).trans rfl)
theorem dk_177 {code : ByteArray} {pc : Nat} (h : DkAt code pc [177]) : decode code pc = .ok (.return_, 1) := dk_of ((dk_bind (dk_u1 (h 0 _ rfl))).trans rfl)
theorem dk_178 {code : ByteArray} {pc : Nat} (a b : UInt8) (h : DkAt code pc [178, a, b]) : decode code pc = .ok (.getstatic (a.toNat * 256 + b.toNat), 3) := dk_of ((dk_bind (dk_u1 (h 0 _ rfl))).trans ((dk_bind (dk_u2 (h 1 _ rfl) (h 2 _ rfl))).trans rfl))
theorem dk_180 {code : ByteArray} {pc : Nat} (a b : UInt8) (h : DkAt code pc [180, a, b]) : decode code pc = .ok (.getfield (a.toNat * 256 + b.toNat), 3) := dk_of ((dk_bind (dk_u1 (h 0 _ rfl))).trans ((dk_bind (dk_u2 (h 1 _ rfl) (h 2 _ rfl))).trans rfl))
theorem dk_181 {code : ByteArray} {pc : Nat} (a b : UInt8) (h : DkAt code pc [181, a, b]) : decode code pc = .ok (.putfield (a.toNat * 256 + b.toNat), 3) := dk_of ((dk_bind (dk_u1 (h 0 _ rfl))).trans ((dk_bind (dk_u2 (h 1 _ rfl) (h 2 _ rfl))).trans rfl))
theorem dk_182 {code : ByteArray} {pc : Nat} (a b : UInt8) (h : DkAt code pc [182, a, b]) : decode code pc = .ok (.invokevirtual (a.toNat * 256 + b.toNat), 3) := dk_of ((dk_bind (dk_u1 (h 0 _ rfl))).trans ((dk_bind (dk_u2 (h 1 _ rfl) (h 2 _ rfl))).trans rfl))
theorem dk_183 {code : ByteArray} {pc : Nat} (a b : UInt8) (h : DkAt code pc [183, a, b]) : decode code pc = .ok (.invokespecial (a.toNat * 256 + b.toNat), 3) := dk_of ((dk_bind (dk_u1 (h 0 _ rfl))).trans ((dk_bind (dk_u2 (h 1 _ rfl) (h 2 _ rfl))).trans rfl))
theorem dk_184 {code : ByteArray} {pc : Nat} (a b : UInt8) (h : DkAt code pc [184, a, b]) : decode code pc = .ok (.invokestatic (a.toNat * 256 + b.toNat), 3) := dk_of ((dk_bind (dk_u1 (h 0 _ rfl))).trans ((dk_bind (dk_u2 (h 1 _ rfl) (h 2 _ rfl))).trans rfl))
theorem dk_187 {code : ByteArray} {pc : Nat} (a b : UInt8) (h : DkAt code pc [187, a, b]) : decode code pc = .ok (.new (a.toNat * 256 + b.toNat), 3) := dk_of ((dk_bind (dk_u1 (h 0 _ rfl))).trans ((dk_bind (dk_u2 (h 1 _ rfl) (h 2 _ rfl))).trans rfl))
theorem dk_188_4 {code : ByteArray} {pc : Nat} (h : DkAt code pc [188, 4]) : decode code pc = .ok (.newarray .boolean, 2) := dk_of ((dk_bind (dk_u1 (h 0 _ rfl))).trans ((dk_bind (dk_u1 (h 1 _ rfl))).trans rfl))
theorem dk_188_8 {code : ByteArray} {pc : Nat} (h : DkAt code pc [188, 8]) : decode code pc = .ok (.newarray .byte, 2) := dk_of ((dk_bind (dk_u1 (h 0 _ rfl))).trans ((dk_bind (dk_u1 (h 1 _ rfl))).trans rfl))
theorem dk_188_10 {code : ByteArray} {pc : Nat} (h : DkAt code pc [188, 10]) : decode code pc = .ok (.newarray .int, 2) := dk_of ((dk_bind (dk_u1 (h 0 _ rfl))).trans ((dk_bind (dk_u1 (h 1 _ rfl))).trans rfl))
theorem dk_188_11 {code : ByteArray} {pc : Nat} (h : DkAt code pc [188, 11]) : decode code pc = .ok (.newarray .long, 2) := dk_of ((dk_bind (dk_u1 (h 0 _ rfl))).trans ((dk_bind (dk_u1 (h 1 _ rfl))).trans rfl))
theorem dk_189 {code : ByteArray} {pc : Nat} (a b : UInt8) (h : DkAt code pc [189, a, b]) : decode code pc = .ok (.anewarray (a.toNat * 256 + b.toNat), 3) := dk_of ((dk_bind (dk_u1 (h 0 _ rfl))).trans ((dk_bind (dk_u2 (h 1 _ rfl) (h 2 _ rfl))).trans rfl))
theorem dk_190 {code : ByteArray} {pc : Nat} (h : DkAt code pc [190]) : decode code pc = .ok (.arraylength, 1) := dk_of ((dk_bind (dk_u1 (h 0 _ rfl))).trans rfl)
theorem dk_191 {code : ByteArray} {pc : Nat} (h : DkAt code pc [191]) : decode code pc = .ok (.athrow, 1) := dk_of ((dk_bind (dk_u1 (h 0 _ rfl))).trans rfl)
theorem dk_192 {code : ByteArray} {pc : Nat} (a b : UInt8) (h : DkAt code pc [192, a, b]) : decode code pc = .ok (.checkcast (a.toNat * 256 + b.toNat), 3) := dk_of ((dk_bind (dk_u1 (h 0 _ rfl))).trans ((dk_bind (dk_u2 (h 1 _ rfl) (h 2 _ rfl))).trans rfl))
theorem dk_193 {code : ByteArray} {pc : Nat} (a b : UInt8) (h : DkAt code pc [193, a, b]) : decode code pc = .ok (.instanceof (a.toNat * 256 + b.toNat), 3) := dk_of ((dk_bind (dk_u1 (h 0 _ rfl))).trans ((dk_bind (dk_u2 (h 1 _ rfl) (h 2 _ rfl))).trans rfl))
theorem dk_199 {code : ByteArray} {pc : Nat} (a b : UInt8) (h : DkAt code pc [199, a, b]) : decode code pc = .ok (.ifnonnull (Reader.signed 16 (a.toNat * 256 + b.toNat)), 3) := dk_of ((dk_bind (dk_u1 (h 0 _ rfl))).trans ((dk_bind (dk_map (dk_u2 (h 1 _ rfl) (h 2 _ rfl)))).trans rfl))

/-! HomesQueueModel -/
set_option maxRecDepth 100000
def RX3 : String := "HomesQueueModel"
def TX3 : u_T := fun k => match k with
  | 0 => ("HomesQueueModel", "thrown", "I", false)
  | 1 => ("HomesQueueModel", "now", "[I", true)
  | 2 => ("HomesQueueModel", "read", "[I", true)
  | 3 => ("HomesQueueModel", "aside", "[I", true)
  | 4 => ("HomesQueueModel", "kept", "[I", true)
  | 5 => ("HomesQueueModel", "tape", "[I", true)
  | 6 => ("HomesQueueModel", "names", "[J", true)
  | 7 => ("HomesQueueModel", "readNames", "[J", true)
  | 8 => ("HomesQueueModel", "taped", "I", false)
  | 9 => ("HomesQueueModel", "status", "I", false)
  | 10 => ("HomesQueueModel", "faultKind", "I", false)
  | 11 => ("HomesQueueModel", "faultPlace", "I", false)
  | 12 => ("HomesQueueModel", "acts", "I", false)
  | 13 => ("HomesQueueModel", "size", "I", false)
  | 14 => ("HomesQueueModel", "from", "I", false)
  | 15 => ("HomesQueueModel", "to", "I", false)
  | 16 => ("HomesQueueModel", "kind", "I", false)
  | 17 => ("HomesQueueModel", "number", "I", false)
  | 18 => ("HomesQueueModel", "fault", "I", false)
  | 19 => ("HomesQueueModel", "place", "I", false)
  | 20 => ("HomesQueueModel", "found", "I", false)
  | 21 => ("HomesQueueModel", "word", "J", false)
  | 22 => ("HomesQueueModel", "give", "[I", true)
  | 23 => ("HomesQueueModel", "gets", "[I", true)
  | 24 => ("HomesQueueModel", "circles", "I", false)
  | 25 => ("HomesQueueModel", "greatest", "I", false)
  | 26 => ("HomesQueueModel", "row", "[I", true)
  | 27 => ("HomesQueueModel", "rowHome", "[I", true)
  | 28 => ("HomesQueueModel", "longest", "[I", true)
  | 29 => ("HomesQueueModel", "longestHome", "[I", true)
  | 30 => ("HomesQueueModel", "longestMany", "I", false)
  | 31 => ("HomesQueueModel", "out", "[B", true)
  | _ => ("HomesQueueModel", "outMany", "I", false)
def tyX3 : Nat → FieldType := fun k => match k with
  | 0 => .int
  | 1 => .array .int
  | 2 => .array .int
  | 3 => .array .int
  | 4 => .array .int
  | 5 => .array .int
  | 6 => .array .long
  | 7 => .array .long
  | 8 => .int
  | 9 => .int
  | 10 => .int
  | 11 => .int
  | 12 => .int
  | 13 => .int
  | 14 => .int
  | 15 => .int
  | 16 => .int
  | 17 => .int
  | 18 => .int
  | 19 => .int
  | 20 => .int
  | 21 => .long
  | 22 => .array .int
  | 23 => .array .int
  | 24 => .int
  | 25 => .int
  | 26 => .array .int
  | 27 => .array .int
  | 28 => .array .int
  | 29 => .array .int
  | 30 => .int
  | 31 => .array .byte
  | _ => .int
abbrev wsX30 : List Cond := u_ws RX3 TX3 33
set_option maxRecDepth 100000 in
theorem nmX3 : ∀ a, a < 33 → ∀ b, b < 33 → a ≠ b → (TX3 a).2.1 ≠ (TX3 b).2.1 := by decide +kernel
set_option maxRecDepth 100000 in
theorem tyX3_ok : ∀ k, k < 33 → parseFieldDescriptor (TX3 k).2.2.1 = some (tyX3 k) := by decide +kernel
abbrev cX3_init : ByteArray := prog_15_method_1_code
def yX3_init : MethodName := ⟨RX3, "<init>", "()V"⟩
def dkwX3_init_5 : List UInt8 := [16, 8, 188, 10, 181, 0, 54, 42, 17, 7, 8, 188, 8, 181, 0, 57, 42, 180, 0, 7, 184, 0, 61, 177]
abbrev dktX3_init_5 : List UInt8 := dkwX3_init_5 ++ []
def dkwX3_init_4 : List UInt8 := [16, 8, 188, 10, 181, 0, 45, 42, 16, 8, 188, 10, 181, 0, 48, 42, 16, 8, 188, 10, 181, 0, 51, 42]
abbrev dktX3_init_4 : List UInt8 := dkwX3_init_4 ++ dktX3_init_5
def dkwX3_init_3 : List UInt8 := [42, 2, 181, 0, 36, 42, 17, 36, 0, 188, 10, 181, 0, 39, 42, 16, 8, 188, 10, 181, 0, 42, 42]
abbrev dktX3_init_3 : List UInt8 := dkwX3_init_3 ++ dktX3_init_4
def dkwX3_init_2 : List UInt8 := [181, 0, 22, 42, 16, 18, 188, 11, 181, 0, 25, 42, 16, 18, 188, 11, 181, 0, 29, 42, 2, 181, 0, 32]
abbrev dktX3_init_2 : List UInt8 := dkwX3_init_2 ++ dktX3_init_3
def dkwX3_init_1 : List UInt8 := [17, 1, 134, 188, 10, 181, 0, 16, 42, 17, 18, 72, 188, 10, 181, 0, 19, 42, 17, 3, 132, 188, 10]
abbrev dktX3_init_1 : List UInt8 := dkwX3_init_1 ++ dktX3_init_2
def dkwX3_init_0 : List UInt8 := [42, 183, 0, 1, 42, 17, 1, 134, 188, 10, 181, 0, 7, 42, 17, 1, 134, 188, 10, 181, 0, 13, 42]
abbrev dktX3_init_0 : List UInt8 := dkwX3_init_0 ++ dktX3_init_1
theorem dksX3_init_0 : cX3_init.data.toList.drop 0 = dktX3_init_0 := by decide +kernel
theorem dksX3_init_1 : cX3_init.data.toList.drop 23 = dktX3_init_1 := dk_seg dksX3_init_0 23 rfl rfl
theorem dksX3_init_2 : cX3_init.data.toList.drop 46 = dktX3_init_2 := dk_seg dksX3_init_1 23 rfl rfl
theorem dksX3_init_3 : cX3_init.data.toList.drop 70 = dktX3_init_3 := dk_seg dksX3_init_2 24 rfl rfl
theorem dksX3_init_4 : cX3_init.data.toList.drop 93 = dktX3_init_4 := dk_seg dksX3_init_3 23 rfl rfl
theorem dksX3_init_5 : cX3_init.data.toList.drop 117 = dktX3_init_5 := dk_seg dksX3_init_4 24 rfl rfl
theorem dX3_init_0 : decode cX3_init 0 = .ok (.aload_n 0, 1) := dk_42 (dk_at dksX3_init_0 0 rfl rfl)
theorem dX3_init_1 : decode cX3_init 1 = .ok (.invokespecial 1, 3) := dk_183 0 1 (dk_at dksX3_init_0 1 rfl rfl)
theorem dX3_init_4 : decode cX3_init 4 = .ok (.aload_n 0, 1) := dk_42 (dk_at dksX3_init_0 4 rfl rfl)
theorem dX3_init_5 : decode cX3_init 5 = .ok (.sipush 390, 3) := dk_17 1 134 (dk_at dksX3_init_0 5 rfl rfl)
theorem dX3_init_8 : decode cX3_init 8 = .ok (.newarray .int, 2) := dk_188_10 (dk_at dksX3_init_0 8 rfl rfl)
theorem dX3_init_10 : decode cX3_init 10 = .ok (.putfield 7, 3) := dk_181 0 7 (dk_at dksX3_init_0 10 rfl rfl)
theorem dX3_init_13 : decode cX3_init 13 = .ok (.aload_n 0, 1) := dk_42 (dk_at dksX3_init_0 13 rfl rfl)
theorem dX3_init_14 : decode cX3_init 14 = .ok (.sipush 390, 3) := dk_17 1 134 (dk_at dksX3_init_0 14 rfl rfl)
theorem dX3_init_17 : decode cX3_init 17 = .ok (.newarray .int, 2) := dk_188_10 (dk_at dksX3_init_0 17 rfl rfl)
theorem dX3_init_19 : decode cX3_init 19 = .ok (.putfield 13, 3) := dk_181 0 13 (dk_at dksX3_init_0 19 rfl rfl)
theorem dX3_init_22 : decode cX3_init 22 = .ok (.aload_n 0, 1) := dk_42 (dk_at dksX3_init_0 22 rfl rfl)
theorem dX3_init_23 : decode cX3_init 23 = .ok (.sipush 390, 3) := dk_17 1 134 (dk_at dksX3_init_1 0 rfl rfl)
theorem dX3_init_26 : decode cX3_init 26 = .ok (.newarray .int, 2) := dk_188_10 (dk_at dksX3_init_1 3 rfl rfl)
theorem dX3_init_28 : decode cX3_init 28 = .ok (.putfield 16, 3) := dk_181 0 16 (dk_at dksX3_init_1 5 rfl rfl)
theorem dX3_init_31 : decode cX3_init 31 = .ok (.aload_n 0, 1) := dk_42 (dk_at dksX3_init_1 8 rfl rfl)
theorem dX3_init_32 : decode cX3_init 32 = .ok (.sipush 4680, 3) := dk_17 18 72 (dk_at dksX3_init_1 9 rfl rfl)
theorem dX3_init_35 : decode cX3_init 35 = .ok (.newarray .int, 2) := dk_188_10 (dk_at dksX3_init_1 12 rfl rfl)
theorem dX3_init_37 : decode cX3_init 37 = .ok (.putfield 19, 3) := dk_181 0 19 (dk_at dksX3_init_1 14 rfl rfl)
theorem dX3_init_40 : decode cX3_init 40 = .ok (.aload_n 0, 1) := dk_42 (dk_at dksX3_init_1 17 rfl rfl)
theorem dX3_init_41 : decode cX3_init 41 = .ok (.sipush 900, 3) := dk_17 3 132 (dk_at dksX3_init_1 18 rfl rfl)
theorem dX3_init_44 : decode cX3_init 44 = .ok (.newarray .int, 2) := dk_188_10 (dk_at dksX3_init_1 21 rfl rfl)
theorem dX3_init_46 : decode cX3_init 46 = .ok (.putfield 22, 3) := dk_181 0 22 (dk_at dksX3_init_2 0 rfl rfl)
theorem dX3_init_49 : decode cX3_init 49 = .ok (.aload_n 0, 1) := dk_42 (dk_at dksX3_init_2 3 rfl rfl)
theorem dX3_init_50 : decode cX3_init 50 = .ok (.bipush 18, 2) := dk_16 18 (dk_at dksX3_init_2 4 rfl rfl)
theorem dX3_init_52 : decode cX3_init 52 = .ok (.newarray .long, 2) := dk_188_11 (dk_at dksX3_init_2 6 rfl rfl)
theorem dX3_init_54 : decode cX3_init 54 = .ok (.putfield 25, 3) := dk_181 0 25 (dk_at dksX3_init_2 8 rfl rfl)
theorem dX3_init_57 : decode cX3_init 57 = .ok (.aload_n 0, 1) := dk_42 (dk_at dksX3_init_2 11 rfl rfl)
theorem dX3_init_58 : decode cX3_init 58 = .ok (.bipush 18, 2) := dk_16 18 (dk_at dksX3_init_2 12 rfl rfl)
theorem dX3_init_60 : decode cX3_init 60 = .ok (.newarray .long, 2) := dk_188_11 (dk_at dksX3_init_2 14 rfl rfl)
theorem dX3_init_62 : decode cX3_init 62 = .ok (.putfield 29, 3) := dk_181 0 29 (dk_at dksX3_init_2 16 rfl rfl)
theorem dX3_init_65 : decode cX3_init 65 = .ok (.aload_n 0, 1) := dk_42 (dk_at dksX3_init_2 19 rfl rfl)
theorem dX3_init_66 : decode cX3_init 66 = .ok (.iconst (-1), 1) := dk_2 (dk_at dksX3_init_2 20 rfl rfl)
theorem dX3_init_67 : decode cX3_init 67 = .ok (.putfield 32, 3) := dk_181 0 32 (dk_at dksX3_init_2 21 rfl rfl)
theorem dX3_init_70 : decode cX3_init 70 = .ok (.aload_n 0, 1) := dk_42 (dk_at dksX3_init_3 0 rfl rfl)
theorem dX3_init_71 : decode cX3_init 71 = .ok (.iconst (-1), 1) := dk_2 (dk_at dksX3_init_3 1 rfl rfl)
theorem dX3_init_72 : decode cX3_init 72 = .ok (.putfield 36, 3) := dk_181 0 36 (dk_at dksX3_init_3 2 rfl rfl)
theorem dX3_init_75 : decode cX3_init 75 = .ok (.aload_n 0, 1) := dk_42 (dk_at dksX3_init_3 5 rfl rfl)
theorem dX3_init_76 : decode cX3_init 76 = .ok (.sipush 9216, 3) := dk_17 36 0 (dk_at dksX3_init_3 6 rfl rfl)
theorem dX3_init_79 : decode cX3_init 79 = .ok (.newarray .int, 2) := dk_188_10 (dk_at dksX3_init_3 9 rfl rfl)
theorem dX3_init_81 : decode cX3_init 81 = .ok (.putfield 39, 3) := dk_181 0 39 (dk_at dksX3_init_3 11 rfl rfl)
theorem dX3_init_84 : decode cX3_init 84 = .ok (.aload_n 0, 1) := dk_42 (dk_at dksX3_init_3 14 rfl rfl)
theorem dX3_init_85 : decode cX3_init 85 = .ok (.bipush 8, 2) := dk_16 8 (dk_at dksX3_init_3 15 rfl rfl)
theorem dX3_init_87 : decode cX3_init 87 = .ok (.newarray .int, 2) := dk_188_10 (dk_at dksX3_init_3 17 rfl rfl)
theorem dX3_init_89 : decode cX3_init 89 = .ok (.putfield 42, 3) := dk_181 0 42 (dk_at dksX3_init_3 19 rfl rfl)
theorem dX3_init_92 : decode cX3_init 92 = .ok (.aload_n 0, 1) := dk_42 (dk_at dksX3_init_3 22 rfl rfl)
theorem dX3_init_93 : decode cX3_init 93 = .ok (.bipush 8, 2) := dk_16 8 (dk_at dksX3_init_4 0 rfl rfl)
theorem dX3_init_95 : decode cX3_init 95 = .ok (.newarray .int, 2) := dk_188_10 (dk_at dksX3_init_4 2 rfl rfl)
theorem dX3_init_97 : decode cX3_init 97 = .ok (.putfield 45, 3) := dk_181 0 45 (dk_at dksX3_init_4 4 rfl rfl)
theorem dX3_init_100 : decode cX3_init 100 = .ok (.aload_n 0, 1) := dk_42 (dk_at dksX3_init_4 7 rfl rfl)
theorem dX3_init_101 : decode cX3_init 101 = .ok (.bipush 8, 2) := dk_16 8 (dk_at dksX3_init_4 8 rfl rfl)
theorem dX3_init_103 : decode cX3_init 103 = .ok (.newarray .int, 2) := dk_188_10 (dk_at dksX3_init_4 10 rfl rfl)
theorem dX3_init_105 : decode cX3_init 105 = .ok (.putfield 48, 3) := dk_181 0 48 (dk_at dksX3_init_4 12 rfl rfl)
theorem dX3_init_108 : decode cX3_init 108 = .ok (.aload_n 0, 1) := dk_42 (dk_at dksX3_init_4 15 rfl rfl)
theorem dX3_init_109 : decode cX3_init 109 = .ok (.bipush 8, 2) := dk_16 8 (dk_at dksX3_init_4 16 rfl rfl)
theorem dX3_init_111 : decode cX3_init 111 = .ok (.newarray .int, 2) := dk_188_10 (dk_at dksX3_init_4 18 rfl rfl)
theorem dX3_init_113 : decode cX3_init 113 = .ok (.putfield 51, 3) := dk_181 0 51 (dk_at dksX3_init_4 20 rfl rfl)
theorem dX3_init_116 : decode cX3_init 116 = .ok (.aload_n 0, 1) := dk_42 (dk_at dksX3_init_4 23 rfl rfl)
theorem dX3_init_117 : decode cX3_init 117 = .ok (.bipush 8, 2) := dk_16 8 (dk_at dksX3_init_5 0 rfl rfl)
theorem dX3_init_119 : decode cX3_init 119 = .ok (.newarray .int, 2) := dk_188_10 (dk_at dksX3_init_5 2 rfl rfl)
theorem dX3_init_121 : decode cX3_init 121 = .ok (.putfield 54, 3) := dk_181 0 54 (dk_at dksX3_init_5 4 rfl rfl)
theorem dX3_init_124 : decode cX3_init 124 = .ok (.aload_n 0, 1) := dk_42 (dk_at dksX3_init_5 7 rfl rfl)
theorem dX3_init_125 : decode cX3_init 125 = .ok (.sipush 1800, 3) := dk_17 7 8 (dk_at dksX3_init_5 8 rfl rfl)
theorem dX3_init_128 : decode cX3_init 128 = .ok (.newarray .byte, 2) := dk_188_8 (dk_at dksX3_init_5 11 rfl rfl)
theorem dX3_init_130 : decode cX3_init 130 = .ok (.putfield 57, 3) := dk_181 0 57 (dk_at dksX3_init_5 13 rfl rfl)
theorem dX3_init_133 : decode cX3_init 133 = .ok (.aload_n 0, 1) := dk_42 (dk_at dksX3_init_5 16 rfl rfl)
theorem dX3_init_134 : decode cX3_init 134 = .ok (.getfield 7, 3) := dk_180 0 7 (dk_at dksX3_init_5 17 rfl rfl)
theorem dX3_init_137 : decode cX3_init 137 = .ok (.invokestatic 61, 3) := dk_184 0 61 (dk_at dksX3_init_5 20 rfl rfl)
theorem dX3_init_140 : decode cX3_init 140 = .ok (.return_, 1) := dk_177 (dk_at dksX3_init_5 23 rfl rfl)
abbrev cX3_plain : ByteArray := prog_15_method_2_code
def yX3_plain : MethodName := ⟨RX3, "plain", "([I)V"⟩
def dkwX3_plain_1 : List UInt8 := [79, 42, 17, 0, 225, 7, 79, 42, 17, 0, 228, 17, 3, 231, 79, 42, 17, 0, 229, 5, 79, 177]
abbrev dktX3_plain_1 : List UInt8 := dkwX3_plain_1 ++ []
def dkwX3_plain_0 : List UInt8 := [3, 60, 27, 17, 1, 134, 162, 0, 13, 42, 27, 3, 79, 132, 1, 1, 167, 255, 242, 42, 17, 0, 224, 6]
abbrev dktX3_plain_0 : List UInt8 := dkwX3_plain_0 ++ dktX3_plain_1
theorem dksX3_plain_0 : cX3_plain.data.toList.drop 0 = dktX3_plain_0 := by decide +kernel
theorem dksX3_plain_1 : cX3_plain.data.toList.drop 24 = dktX3_plain_1 := dk_seg dksX3_plain_0 24 rfl rfl
theorem dX3_plain_0 : decode cX3_plain 0 = .ok (.iconst 0, 1) := dk_3 (dk_at dksX3_plain_0 0 rfl rfl)
theorem dX3_plain_1 : decode cX3_plain 1 = .ok (.istore_n 1, 1) := dk_60 (dk_at dksX3_plain_0 1 rfl rfl)
theorem dX3_plain_2 : decode cX3_plain 2 = .ok (.iload_n 1, 1) := dk_27 (dk_at dksX3_plain_0 2 rfl rfl)
theorem dX3_plain_3 : decode cX3_plain 3 = .ok (.sipush 390, 3) := dk_17 1 134 (dk_at dksX3_plain_0 3 rfl rfl)
theorem dX3_plain_6 : decode cX3_plain 6 = .ok (.if_icmp .ge 13, 3) := dk_162 0 13 (dk_at dksX3_plain_0 6 rfl rfl)
theorem dX3_plain_9 : decode cX3_plain 9 = .ok (.aload_n 0, 1) := dk_42 (dk_at dksX3_plain_0 9 rfl rfl)
theorem dX3_plain_10 : decode cX3_plain 10 = .ok (.iload_n 1, 1) := dk_27 (dk_at dksX3_plain_0 10 rfl rfl)
theorem dX3_plain_11 : decode cX3_plain 11 = .ok (.iconst 0, 1) := dk_3 (dk_at dksX3_plain_0 11 rfl rfl)
theorem dX3_plain_12 : decode cX3_plain 12 = .ok (.iastore, 1) := dk_79 (dk_at dksX3_plain_0 12 rfl rfl)
theorem dX3_plain_13 : decode cX3_plain 13 = .ok (.iinc 1 1, 3) := dk_132 1 1 (dk_at dksX3_plain_0 13 rfl rfl)
theorem dX3_plain_16 : decode cX3_plain 16 = .ok (.goto (-14), 3) := dk_167 255 242 (dk_at dksX3_plain_0 16 rfl rfl)
theorem dX3_plain_19 : decode cX3_plain 19 = .ok (.aload_n 0, 1) := dk_42 (dk_at dksX3_plain_0 19 rfl rfl)
theorem dX3_plain_20 : decode cX3_plain 20 = .ok (.sipush 224, 3) := dk_17 0 224 (dk_at dksX3_plain_0 20 rfl rfl)
theorem dX3_plain_23 : decode cX3_plain 23 = .ok (.iconst 3, 1) := dk_6 (dk_at dksX3_plain_0 23 rfl rfl)
theorem dX3_plain_24 : decode cX3_plain 24 = .ok (.iastore, 1) := dk_79 (dk_at dksX3_plain_1 0 rfl rfl)
theorem dX3_plain_25 : decode cX3_plain 25 = .ok (.aload_n 0, 1) := dk_42 (dk_at dksX3_plain_1 1 rfl rfl)
theorem dX3_plain_26 : decode cX3_plain 26 = .ok (.sipush 225, 3) := dk_17 0 225 (dk_at dksX3_plain_1 2 rfl rfl)
theorem dX3_plain_29 : decode cX3_plain 29 = .ok (.iconst 4, 1) := dk_7 (dk_at dksX3_plain_1 5 rfl rfl)
theorem dX3_plain_30 : decode cX3_plain 30 = .ok (.iastore, 1) := dk_79 (dk_at dksX3_plain_1 6 rfl rfl)
theorem dX3_plain_31 : decode cX3_plain 31 = .ok (.aload_n 0, 1) := dk_42 (dk_at dksX3_plain_1 7 rfl rfl)
theorem dX3_plain_32 : decode cX3_plain 32 = .ok (.sipush 228, 3) := dk_17 0 228 (dk_at dksX3_plain_1 8 rfl rfl)
theorem dX3_plain_35 : decode cX3_plain 35 = .ok (.sipush 999, 3) := dk_17 3 231 (dk_at dksX3_plain_1 11 rfl rfl)
theorem dX3_plain_38 : decode cX3_plain 38 = .ok (.iastore, 1) := dk_79 (dk_at dksX3_plain_1 14 rfl rfl)
theorem dX3_plain_39 : decode cX3_plain 39 = .ok (.aload_n 0, 1) := dk_42 (dk_at dksX3_plain_1 15 rfl rfl)
theorem dX3_plain_40 : decode cX3_plain 40 = .ok (.sipush 229, 3) := dk_17 0 229 (dk_at dksX3_plain_1 16 rfl rfl)
theorem dX3_plain_43 : decode cX3_plain 43 = .ok (.iconst 2, 1) := dk_5 (dk_at dksX3_plain_1 19 rfl rfl)
theorem dX3_plain_44 : decode cX3_plain 44 = .ok (.iastore, 1) := dk_79 (dk_at dksX3_plain_1 20 rfl rfl)
theorem dX3_plain_45 : decode cX3_plain 45 = .ok (.return_, 1) := dk_177 (dk_at dksX3_plain_1 21 rfl rfl)
abbrev cX3_thrown : ByteArray := prog_15_method_3_code
def yX3_thrown : MethodName := ⟨RX3, "thrown", "()I"⟩
theorem dX3_thrown_0 : decode cX3_thrown 0 = .ok (.aload_n 0, 1) := by decide +kernel
theorem dX3_thrown_1 : decode cX3_thrown 1 = .ok (.getfield 65, 3) := by decide +kernel
theorem dX3_thrown_4 : decode cX3_thrown 4 = .ok (.ireturn, 1) := by decide +kernel
abbrev cX3_status : ByteArray := prog_15_method_4_code
def yX3_status : MethodName := ⟨RX3, "status", "()I"⟩
def dkwX3_status_0 : List UInt8 := [42, 3, 181, 0, 65, 42, 180, 0, 68, 172]
abbrev dktX3_status_0 : List UInt8 := dkwX3_status_0 ++ []
theorem dksX3_status_0 : cX3_status.data.toList.drop 0 = dktX3_status_0 := by decide +kernel
theorem dX3_status_0 : decode cX3_status 0 = .ok (.aload_n 0, 1) := dk_42 (dk_at dksX3_status_0 0 rfl rfl)
theorem dX3_status_1 : decode cX3_status 1 = .ok (.iconst 0, 1) := dk_3 (dk_at dksX3_status_0 1 rfl rfl)
theorem dX3_status_2 : decode cX3_status 2 = .ok (.putfield 65, 3) := dk_181 0 65 (dk_at dksX3_status_0 2 rfl rfl)
theorem dX3_status_5 : decode cX3_status 5 = .ok (.aload_n 0, 1) := dk_42 (dk_at dksX3_status_0 5 rfl rfl)
theorem dX3_status_6 : decode cX3_status 6 = .ok (.getfield 68, 3) := dk_180 0 68 (dk_at dksX3_status_0 6 rfl rfl)
theorem dX3_status_9 : decode cX3_status 9 = .ok (.ireturn, 1) := dk_172 (dk_at dksX3_status_0 9 rfl rfl)
abbrev cX3_feed : ByteArray := prog_15_method_14_code
def yX3_feed : MethodName := ⟨RX3, "feed", "(IIIII)I"⟩
def dkwX3_feed_2 : List UInt8 := [182, 0, 82, 42, 180, 0, 79, 172]
abbrev dktX3_feed_2 : List UInt8 := dkwX3_feed_2 ++ []
def dkwX3_feed_1 : List UInt8 := [182, 0, 82, 42, 28, 182, 0, 82, 42, 29, 182, 0, 82, 42, 21, 4, 182, 0, 82, 42, 21, 5]
abbrev dktX3_feed_1 : List UInt8 := dkwX3_feed_1 ++ dktX3_feed_2
def dkwX3_feed_0 : List UInt8 := [42, 3, 181, 0, 65, 42, 180, 0, 79, 16, 20, 96, 17, 3, 132, 164, 0, 5, 2, 172, 42, 27]
abbrev dktX3_feed_0 : List UInt8 := dkwX3_feed_0 ++ dktX3_feed_1
theorem dksX3_feed_0 : cX3_feed.data.toList.drop 0 = dktX3_feed_0 := by decide +kernel
theorem dksX3_feed_1 : cX3_feed.data.toList.drop 22 = dktX3_feed_1 := dk_seg dksX3_feed_0 22 rfl rfl
theorem dksX3_feed_2 : cX3_feed.data.toList.drop 44 = dktX3_feed_2 := dk_seg dksX3_feed_1 22 rfl rfl
theorem dX3_feed_0 : decode cX3_feed 0 = .ok (.aload_n 0, 1) := dk_42 (dk_at dksX3_feed_0 0 rfl rfl)
theorem dX3_feed_1 : decode cX3_feed 1 = .ok (.iconst 0, 1) := dk_3 (dk_at dksX3_feed_0 1 rfl rfl)
theorem dX3_feed_2 : decode cX3_feed 2 = .ok (.putfield 65, 3) := dk_181 0 65 (dk_at dksX3_feed_0 2 rfl rfl)
theorem dX3_feed_5 : decode cX3_feed 5 = .ok (.aload_n 0, 1) := dk_42 (dk_at dksX3_feed_0 5 rfl rfl)
theorem dX3_feed_6 : decode cX3_feed 6 = .ok (.getfield 79, 3) := dk_180 0 79 (dk_at dksX3_feed_0 6 rfl rfl)
theorem dX3_feed_9 : decode cX3_feed 9 = .ok (.bipush 20, 2) := dk_16 20 (dk_at dksX3_feed_0 9 rfl rfl)
theorem dX3_feed_11 : decode cX3_feed 11 = .ok (.iadd, 1) := dk_96 (dk_at dksX3_feed_0 11 rfl rfl)
theorem dX3_feed_12 : decode cX3_feed 12 = .ok (.sipush 900, 3) := dk_17 3 132 (dk_at dksX3_feed_0 12 rfl rfl)
theorem dX3_feed_15 : decode cX3_feed 15 = .ok (.if_icmp .le 5, 3) := dk_164 0 5 (dk_at dksX3_feed_0 15 rfl rfl)
theorem dX3_feed_18 : decode cX3_feed 18 = .ok (.iconst (-1), 1) := dk_2 (dk_at dksX3_feed_0 18 rfl rfl)
theorem dX3_feed_19 : decode cX3_feed 19 = .ok (.ireturn, 1) := dk_172 (dk_at dksX3_feed_0 19 rfl rfl)
theorem dX3_feed_20 : decode cX3_feed 20 = .ok (.aload_n 0, 1) := dk_42 (dk_at dksX3_feed_0 20 rfl rfl)
theorem dX3_feed_21 : decode cX3_feed 21 = .ok (.iload_n 1, 1) := dk_27 (dk_at dksX3_feed_0 21 rfl rfl)
theorem dX3_feed_22 : decode cX3_feed 22 = .ok (.invokevirtual 82, 3) := dk_182 0 82 (dk_at dksX3_feed_1 0 rfl rfl)
theorem dX3_feed_25 : decode cX3_feed 25 = .ok (.aload_n 0, 1) := dk_42 (dk_at dksX3_feed_1 3 rfl rfl)
theorem dX3_feed_26 : decode cX3_feed 26 = .ok (.iload_n 2, 1) := dk_28 (dk_at dksX3_feed_1 4 rfl rfl)
theorem dX3_feed_27 : decode cX3_feed 27 = .ok (.invokevirtual 82, 3) := dk_182 0 82 (dk_at dksX3_feed_1 5 rfl rfl)
theorem dX3_feed_30 : decode cX3_feed 30 = .ok (.aload_n 0, 1) := dk_42 (dk_at dksX3_feed_1 8 rfl rfl)
theorem dX3_feed_31 : decode cX3_feed 31 = .ok (.iload_n 3, 1) := dk_29 (dk_at dksX3_feed_1 9 rfl rfl)
theorem dX3_feed_32 : decode cX3_feed 32 = .ok (.invokevirtual 82, 3) := dk_182 0 82 (dk_at dksX3_feed_1 10 rfl rfl)
theorem dX3_feed_35 : decode cX3_feed 35 = .ok (.aload_n 0, 1) := dk_42 (dk_at dksX3_feed_1 13 rfl rfl)
theorem dX3_feed_36 : decode cX3_feed 36 = .ok (.iload 4, 2) := dk_21 4 (dk_at dksX3_feed_1 14 rfl rfl)
theorem dX3_feed_38 : decode cX3_feed 38 = .ok (.invokevirtual 82, 3) := dk_182 0 82 (dk_at dksX3_feed_1 16 rfl rfl)
theorem dX3_feed_41 : decode cX3_feed 41 = .ok (.aload_n 0, 1) := dk_42 (dk_at dksX3_feed_1 19 rfl rfl)
theorem dX3_feed_42 : decode cX3_feed 42 = .ok (.iload 5, 2) := dk_21 5 (dk_at dksX3_feed_1 20 rfl rfl)
theorem dX3_feed_44 : decode cX3_feed 44 = .ok (.invokevirtual 82, 3) := dk_182 0 82 (dk_at dksX3_feed_2 0 rfl rfl)
theorem dX3_feed_47 : decode cX3_feed 47 = .ok (.aload_n 0, 1) := dk_42 (dk_at dksX3_feed_2 3 rfl rfl)
theorem dX3_feed_48 : decode cX3_feed 48 = .ok (.getfield 79, 3) := dk_180 0 79 (dk_at dksX3_feed_2 4 rfl rfl)
theorem dX3_feed_51 : decode cX3_feed 51 = .ok (.ireturn, 1) := dk_172 (dk_at dksX3_feed_2 7 rfl rfl)
abbrev cX3_come : ByteArray := prog_15_method_13_code
def yX3_come : MethodName := ⟨RX3, "come", "(I)V"⟩
def dkwX3_come_1 : List UInt8 := [89, 180, 0, 79, 4, 96, 181, 0, 79, 132, 2, 248, 167, 255, 223, 177]
abbrev dktX3_come_1 : List UInt8 := dkwX3_come_1 ++ []
def dkwX3_come_0 : List UInt8 := [16, 24, 61, 28, 155, 0, 35, 42, 180, 0, 22, 42, 180, 0, 79, 27, 28, 124, 17, 0, 255, 126, 79, 42]
abbrev dktX3_come_0 : List UInt8 := dkwX3_come_0 ++ dktX3_come_1
theorem dksX3_come_0 : cX3_come.data.toList.drop 0 = dktX3_come_0 := by decide +kernel
theorem dksX3_come_1 : cX3_come.data.toList.drop 24 = dktX3_come_1 := dk_seg dksX3_come_0 24 rfl rfl
theorem dX3_come_0 : decode cX3_come 0 = .ok (.bipush 24, 2) := dk_16 24 (dk_at dksX3_come_0 0 rfl rfl)
theorem dX3_come_2 : decode cX3_come 2 = .ok (.istore_n 2, 1) := dk_61 (dk_at dksX3_come_0 2 rfl rfl)
theorem dX3_come_3 : decode cX3_come 3 = .ok (.iload_n 2, 1) := dk_28 (dk_at dksX3_come_0 3 rfl rfl)
theorem dX3_come_4 : decode cX3_come 4 = .ok (.ifCond .lt 35, 3) := dk_155 0 35 (dk_at dksX3_come_0 4 rfl rfl)
theorem dX3_come_7 : decode cX3_come 7 = .ok (.aload_n 0, 1) := dk_42 (dk_at dksX3_come_0 7 rfl rfl)
theorem dX3_come_8 : decode cX3_come 8 = .ok (.getfield 22, 3) := dk_180 0 22 (dk_at dksX3_come_0 8 rfl rfl)
theorem dX3_come_11 : decode cX3_come 11 = .ok (.aload_n 0, 1) := dk_42 (dk_at dksX3_come_0 11 rfl rfl)
theorem dX3_come_12 : decode cX3_come 12 = .ok (.getfield 79, 3) := dk_180 0 79 (dk_at dksX3_come_0 12 rfl rfl)
theorem dX3_come_15 : decode cX3_come 15 = .ok (.iload_n 1, 1) := dk_27 (dk_at dksX3_come_0 15 rfl rfl)
theorem dX3_come_16 : decode cX3_come 16 = .ok (.iload_n 2, 1) := dk_28 (dk_at dksX3_come_0 16 rfl rfl)
theorem dX3_come_17 : decode cX3_come 17 = .ok (.iushr, 1) := dk_124 (dk_at dksX3_come_0 17 rfl rfl)
theorem dX3_come_18 : decode cX3_come 18 = .ok (.sipush 255, 3) := dk_17 0 255 (dk_at dksX3_come_0 18 rfl rfl)
theorem dX3_come_21 : decode cX3_come 21 = .ok (.iand, 1) := dk_126 (dk_at dksX3_come_0 21 rfl rfl)
theorem dX3_come_22 : decode cX3_come 22 = .ok (.iastore, 1) := dk_79 (dk_at dksX3_come_0 22 rfl rfl)
theorem dX3_come_23 : decode cX3_come 23 = .ok (.aload_n 0, 1) := dk_42 (dk_at dksX3_come_0 23 rfl rfl)
theorem dX3_come_24 : decode cX3_come 24 = .ok (.dup, 1) := dk_89 (dk_at dksX3_come_1 0 rfl rfl)
theorem dX3_come_25 : decode cX3_come 25 = .ok (.getfield 79, 3) := dk_180 0 79 (dk_at dksX3_come_1 1 rfl rfl)
theorem dX3_come_28 : decode cX3_come 28 = .ok (.iconst 1, 1) := dk_4 (dk_at dksX3_come_1 4 rfl rfl)
theorem dX3_come_29 : decode cX3_come 29 = .ok (.iadd, 1) := dk_96 (dk_at dksX3_come_1 5 rfl rfl)
theorem dX3_come_30 : decode cX3_come 30 = .ok (.putfield 79, 3) := dk_181 0 79 (dk_at dksX3_come_1 6 rfl rfl)
theorem dX3_come_33 : decode cX3_come 33 = .ok (.iinc 2 (-8), 3) := dk_132 2 248 (dk_at dksX3_come_1 9 rfl rfl)
theorem dX3_come_36 : decode cX3_come 36 = .ok (.goto (-33), 3) := dk_167 255 223 (dk_at dksX3_come_1 12 rfl rfl)
theorem dX3_come_39 : decode cX3_come 39 = .ok (.return_, 1) := dk_177 (dk_at dksX3_come_1 15 rfl rfl)
abbrev cX3_load : ByteArray := prog_15_method_38_code
def yX3_load : MethodName := ⟨RX3, "load", "(I)I"⟩
def dkwX3_load_6 : List UInt8 := [181, 0, 196, 42, 42, 180, 0, 7, 17, 0, 231, 46, 182, 0, 199, 172]
abbrev dktX3_load_6 : List UInt8 := dkwX3_load_6 ++ []
def dkwX3_load_5 : List UInt8 := [162, 0, 21, 42, 180, 0, 25, 29, 42, 180, 0, 29, 29, 47, 80, 132, 3, 1, 167, 255, 235, 42, 3]
abbrev dktX3_load_5 : List UInt8 := dkwX3_load_5 ++ dktX3_load_6
def dkwX3_load_4 : List UInt8 := [42, 16, 9, 182, 0, 186, 172, 42, 180, 0, 13, 42, 180, 0, 7, 184, 0, 192, 3, 62, 29, 16, 18]
abbrev dktX3_load_4 : List UInt8 := dkwX3_load_4 ++ dktX3_load_5
def dkwX3_load_3 : List UInt8 := [61, 167, 255, 240, 42, 42, 180, 0, 133, 181, 0, 32, 42, 42, 180, 0, 136, 181, 0, 36, 28, 154, 0, 10]
abbrev dktX3_load_3 : List UInt8 := dkwX3_load_3 ++ dktX3_load_4
def dkwX3_load_2 : List UInt8 := [184, 0, 61, 42, 182, 0, 142, 4, 61, 28, 153, 0, 18, 42, 180, 0, 99, 153, 0, 11, 42, 182, 0, 189]
abbrev dktX3_load_2 : List UInt8 := dkwX3_load_2 ++ dktX3_load_3
def dkwX3_load_1 : List UInt8 := [3, 181, 0, 79, 42, 3, 181, 0, 89, 42, 3, 181, 0, 133, 42, 2, 181, 0, 136, 42, 180, 0, 13]
abbrev dktX3_load_1 : List UInt8 := dkwX3_load_1 ++ dktX3_load_2
def dkwX3_load_0 : List UInt8 := [27, 3, 42, 180, 0, 79, 184, 0, 71, 154, 0, 9, 42, 4, 182, 0, 186, 172, 42, 27, 181, 0, 86, 42]
abbrev dktX3_load_0 : List UInt8 := dkwX3_load_0 ++ dktX3_load_1
theorem dksX3_load_0 : cX3_load.data.toList.drop 0 = dktX3_load_0 := by decide +kernel
theorem dksX3_load_1 : cX3_load.data.toList.drop 24 = dktX3_load_1 := dk_seg dksX3_load_0 24 rfl rfl
theorem dksX3_load_2 : cX3_load.data.toList.drop 47 = dktX3_load_2 := dk_seg dksX3_load_1 23 rfl rfl
theorem dksX3_load_3 : cX3_load.data.toList.drop 71 = dktX3_load_3 := dk_seg dksX3_load_2 24 rfl rfl
theorem dksX3_load_4 : cX3_load.data.toList.drop 95 = dktX3_load_4 := dk_seg dksX3_load_3 24 rfl rfl
theorem dksX3_load_5 : cX3_load.data.toList.drop 118 = dktX3_load_5 := dk_seg dksX3_load_4 23 rfl rfl
theorem dksX3_load_6 : cX3_load.data.toList.drop 141 = dktX3_load_6 := dk_seg dksX3_load_5 23 rfl rfl
theorem dX3_load_0 : decode cX3_load 0 = .ok (.iload_n 1, 1) := dk_27 (dk_at dksX3_load_0 0 rfl rfl)
theorem dX3_load_1 : decode cX3_load 1 = .ok (.iconst 0, 1) := dk_3 (dk_at dksX3_load_0 1 rfl rfl)
theorem dX3_load_2 : decode cX3_load 2 = .ok (.aload_n 0, 1) := dk_42 (dk_at dksX3_load_0 2 rfl rfl)
theorem dX3_load_3 : decode cX3_load 3 = .ok (.getfield 79, 3) := dk_180 0 79 (dk_at dksX3_load_0 3 rfl rfl)
theorem dX3_load_6 : decode cX3_load 6 = .ok (.invokestatic 71, 3) := dk_184 0 71 (dk_at dksX3_load_0 6 rfl rfl)
theorem dX3_load_9 : decode cX3_load 9 = .ok (.ifCond .ne 9, 3) := dk_154 0 9 (dk_at dksX3_load_0 9 rfl rfl)
theorem dX3_load_12 : decode cX3_load 12 = .ok (.aload_n 0, 1) := dk_42 (dk_at dksX3_load_0 12 rfl rfl)
theorem dX3_load_13 : decode cX3_load 13 = .ok (.iconst 1, 1) := dk_4 (dk_at dksX3_load_0 13 rfl rfl)
theorem dX3_load_14 : decode cX3_load 14 = .ok (.invokevirtual 186, 3) := dk_182 0 186 (dk_at dksX3_load_0 14 rfl rfl)
theorem dX3_load_17 : decode cX3_load 17 = .ok (.ireturn, 1) := dk_172 (dk_at dksX3_load_0 17 rfl rfl)
theorem dX3_load_18 : decode cX3_load 18 = .ok (.aload_n 0, 1) := dk_42 (dk_at dksX3_load_0 18 rfl rfl)
theorem dX3_load_19 : decode cX3_load 19 = .ok (.iload_n 1, 1) := dk_27 (dk_at dksX3_load_0 19 rfl rfl)
theorem dX3_load_20 : decode cX3_load 20 = .ok (.putfield 86, 3) := dk_181 0 86 (dk_at dksX3_load_0 20 rfl rfl)
theorem dX3_load_23 : decode cX3_load 23 = .ok (.aload_n 0, 1) := dk_42 (dk_at dksX3_load_0 23 rfl rfl)
theorem dX3_load_24 : decode cX3_load 24 = .ok (.iconst 0, 1) := dk_3 (dk_at dksX3_load_1 0 rfl rfl)
theorem dX3_load_25 : decode cX3_load 25 = .ok (.putfield 79, 3) := dk_181 0 79 (dk_at dksX3_load_1 1 rfl rfl)
theorem dX3_load_28 : decode cX3_load 28 = .ok (.aload_n 0, 1) := dk_42 (dk_at dksX3_load_1 4 rfl rfl)
theorem dX3_load_29 : decode cX3_load 29 = .ok (.iconst 0, 1) := dk_3 (dk_at dksX3_load_1 5 rfl rfl)
theorem dX3_load_30 : decode cX3_load 30 = .ok (.putfield 89, 3) := dk_181 0 89 (dk_at dksX3_load_1 6 rfl rfl)
theorem dX3_load_33 : decode cX3_load 33 = .ok (.aload_n 0, 1) := dk_42 (dk_at dksX3_load_1 9 rfl rfl)
theorem dX3_load_34 : decode cX3_load 34 = .ok (.iconst 0, 1) := dk_3 (dk_at dksX3_load_1 10 rfl rfl)
theorem dX3_load_35 : decode cX3_load 35 = .ok (.putfield 133, 3) := dk_181 0 133 (dk_at dksX3_load_1 11 rfl rfl)
theorem dX3_load_38 : decode cX3_load 38 = .ok (.aload_n 0, 1) := dk_42 (dk_at dksX3_load_1 14 rfl rfl)
theorem dX3_load_39 : decode cX3_load 39 = .ok (.iconst (-1), 1) := dk_2 (dk_at dksX3_load_1 15 rfl rfl)
theorem dX3_load_40 : decode cX3_load 40 = .ok (.putfield 136, 3) := dk_181 0 136 (dk_at dksX3_load_1 16 rfl rfl)
theorem dX3_load_43 : decode cX3_load 43 = .ok (.aload_n 0, 1) := dk_42 (dk_at dksX3_load_1 19 rfl rfl)
theorem dX3_load_44 : decode cX3_load 44 = .ok (.getfield 13, 3) := dk_180 0 13 (dk_at dksX3_load_1 20 rfl rfl)
theorem dX3_load_47 : decode cX3_load 47 = .ok (.invokestatic 61, 3) := dk_184 0 61 (dk_at dksX3_load_2 0 rfl rfl)
theorem dX3_load_50 : decode cX3_load 50 = .ok (.aload_n 0, 1) := dk_42 (dk_at dksX3_load_2 3 rfl rfl)
theorem dX3_load_51 : decode cX3_load 51 = .ok (.invokevirtual 142, 3) := dk_182 0 142 (dk_at dksX3_load_2 4 rfl rfl)
theorem dX3_load_54 : decode cX3_load 54 = .ok (.iconst 1, 1) := dk_4 (dk_at dksX3_load_2 7 rfl rfl)
theorem dX3_load_55 : decode cX3_load 55 = .ok (.istore_n 2, 1) := dk_61 (dk_at dksX3_load_2 8 rfl rfl)
theorem dX3_load_56 : decode cX3_load 56 = .ok (.iload_n 2, 1) := dk_28 (dk_at dksX3_load_2 9 rfl rfl)
theorem dX3_load_57 : decode cX3_load 57 = .ok (.ifCond .eq 18, 3) := dk_153 0 18 (dk_at dksX3_load_2 10 rfl rfl)
theorem dX3_load_60 : decode cX3_load 60 = .ok (.aload_n 0, 1) := dk_42 (dk_at dksX3_load_2 13 rfl rfl)
theorem dX3_load_61 : decode cX3_load 61 = .ok (.getfield 99, 3) := dk_180 0 99 (dk_at dksX3_load_2 14 rfl rfl)
theorem dX3_load_64 : decode cX3_load 64 = .ok (.ifCond .eq 11, 3) := dk_153 0 11 (dk_at dksX3_load_2 17 rfl rfl)
theorem dX3_load_67 : decode cX3_load 67 = .ok (.aload_n 0, 1) := dk_42 (dk_at dksX3_load_2 20 rfl rfl)
theorem dX3_load_68 : decode cX3_load 68 = .ok (.invokevirtual 189, 3) := dk_182 0 189 (dk_at dksX3_load_2 21 rfl rfl)
theorem dX3_load_71 : decode cX3_load 71 = .ok (.istore_n 2, 1) := dk_61 (dk_at dksX3_load_3 0 rfl rfl)
theorem dX3_load_72 : decode cX3_load 72 = .ok (.goto (-16), 3) := dk_167 255 240 (dk_at dksX3_load_3 1 rfl rfl)
theorem dX3_load_75 : decode cX3_load 75 = .ok (.aload_n 0, 1) := dk_42 (dk_at dksX3_load_3 4 rfl rfl)
theorem dX3_load_76 : decode cX3_load 76 = .ok (.aload_n 0, 1) := dk_42 (dk_at dksX3_load_3 5 rfl rfl)
theorem dX3_load_77 : decode cX3_load 77 = .ok (.getfield 133, 3) := dk_180 0 133 (dk_at dksX3_load_3 6 rfl rfl)
theorem dX3_load_80 : decode cX3_load 80 = .ok (.putfield 32, 3) := dk_181 0 32 (dk_at dksX3_load_3 9 rfl rfl)
theorem dX3_load_83 : decode cX3_load 83 = .ok (.aload_n 0, 1) := dk_42 (dk_at dksX3_load_3 12 rfl rfl)
theorem dX3_load_84 : decode cX3_load 84 = .ok (.aload_n 0, 1) := dk_42 (dk_at dksX3_load_3 13 rfl rfl)
theorem dX3_load_85 : decode cX3_load 85 = .ok (.getfield 136, 3) := dk_180 0 136 (dk_at dksX3_load_3 14 rfl rfl)
theorem dX3_load_88 : decode cX3_load 88 = .ok (.putfield 36, 3) := dk_181 0 36 (dk_at dksX3_load_3 17 rfl rfl)
theorem dX3_load_91 : decode cX3_load 91 = .ok (.iload_n 2, 1) := dk_28 (dk_at dksX3_load_3 20 rfl rfl)
theorem dX3_load_92 : decode cX3_load 92 = .ok (.ifCond .ne 10, 3) := dk_154 0 10 (dk_at dksX3_load_3 21 rfl rfl)
theorem dX3_load_95 : decode cX3_load 95 = .ok (.aload_n 0, 1) := dk_42 (dk_at dksX3_load_4 0 rfl rfl)
theorem dX3_load_96 : decode cX3_load 96 = .ok (.bipush 9, 2) := dk_16 9 (dk_at dksX3_load_4 1 rfl rfl)
theorem dX3_load_98 : decode cX3_load 98 = .ok (.invokevirtual 186, 3) := dk_182 0 186 (dk_at dksX3_load_4 3 rfl rfl)
theorem dX3_load_101 : decode cX3_load 101 = .ok (.ireturn, 1) := dk_172 (dk_at dksX3_load_4 6 rfl rfl)
theorem dX3_load_102 : decode cX3_load 102 = .ok (.aload_n 0, 1) := dk_42 (dk_at dksX3_load_4 7 rfl rfl)
theorem dX3_load_103 : decode cX3_load 103 = .ok (.getfield 13, 3) := dk_180 0 13 (dk_at dksX3_load_4 8 rfl rfl)
theorem dX3_load_106 : decode cX3_load 106 = .ok (.aload_n 0, 1) := dk_42 (dk_at dksX3_load_4 11 rfl rfl)
theorem dX3_load_107 : decode cX3_load 107 = .ok (.getfield 7, 3) := dk_180 0 7 (dk_at dksX3_load_4 12 rfl rfl)
theorem dX3_load_110 : decode cX3_load 110 = .ok (.invokestatic 192, 3) := dk_184 0 192 (dk_at dksX3_load_4 15 rfl rfl)
theorem dX3_load_113 : decode cX3_load 113 = .ok (.iconst 0, 1) := dk_3 (dk_at dksX3_load_4 18 rfl rfl)
theorem dX3_load_114 : decode cX3_load 114 = .ok (.istore_n 3, 1) := dk_62 (dk_at dksX3_load_4 19 rfl rfl)
theorem dX3_load_115 : decode cX3_load 115 = .ok (.iload_n 3, 1) := dk_29 (dk_at dksX3_load_4 20 rfl rfl)
theorem dX3_load_116 : decode cX3_load 116 = .ok (.bipush 18, 2) := dk_16 18 (dk_at dksX3_load_4 21 rfl rfl)
theorem dX3_load_118 : decode cX3_load 118 = .ok (.if_icmp .ge 21, 3) := dk_162 0 21 (dk_at dksX3_load_5 0 rfl rfl)
theorem dX3_load_121 : decode cX3_load 121 = .ok (.aload_n 0, 1) := dk_42 (dk_at dksX3_load_5 3 rfl rfl)
theorem dX3_load_122 : decode cX3_load 122 = .ok (.getfield 25, 3) := dk_180 0 25 (dk_at dksX3_load_5 4 rfl rfl)
theorem dX3_load_125 : decode cX3_load 125 = .ok (.iload_n 3, 1) := dk_29 (dk_at dksX3_load_5 7 rfl rfl)
theorem dX3_load_126 : decode cX3_load 126 = .ok (.aload_n 0, 1) := dk_42 (dk_at dksX3_load_5 8 rfl rfl)
theorem dX3_load_127 : decode cX3_load 127 = .ok (.getfield 29, 3) := dk_180 0 29 (dk_at dksX3_load_5 9 rfl rfl)
theorem dX3_load_130 : decode cX3_load 130 = .ok (.iload_n 3, 1) := dk_29 (dk_at dksX3_load_5 12 rfl rfl)
theorem dX3_load_131 : decode cX3_load 131 = .ok (.laload, 1) := dk_47 (dk_at dksX3_load_5 13 rfl rfl)
theorem dX3_load_132 : decode cX3_load 132 = .ok (.lastore, 1) := dk_80 (dk_at dksX3_load_5 14 rfl rfl)
theorem dX3_load_133 : decode cX3_load 133 = .ok (.iinc 3 1, 3) := dk_132 3 1 (dk_at dksX3_load_5 15 rfl rfl)
theorem dX3_load_136 : decode cX3_load 136 = .ok (.goto (-21), 3) := dk_167 255 235 (dk_at dksX3_load_5 18 rfl rfl)
theorem dX3_load_139 : decode cX3_load 139 = .ok (.aload_n 0, 1) := dk_42 (dk_at dksX3_load_5 21 rfl rfl)
theorem dX3_load_140 : decode cX3_load 140 = .ok (.iconst 0, 1) := dk_3 (dk_at dksX3_load_5 22 rfl rfl)
theorem dX3_load_141 : decode cX3_load 141 = .ok (.putfield 196, 3) := dk_181 0 196 (dk_at dksX3_load_6 0 rfl rfl)
theorem dX3_load_144 : decode cX3_load 144 = .ok (.aload_n 0, 1) := dk_42 (dk_at dksX3_load_6 3 rfl rfl)
theorem dX3_load_145 : decode cX3_load 145 = .ok (.aload_n 0, 1) := dk_42 (dk_at dksX3_load_6 4 rfl rfl)
theorem dX3_load_146 : decode cX3_load 146 = .ok (.getfield 7, 3) := dk_180 0 7 (dk_at dksX3_load_6 5 rfl rfl)
theorem dX3_load_149 : decode cX3_load 149 = .ok (.sipush 231, 3) := dk_17 0 231 (dk_at dksX3_load_6 8 rfl rfl)
theorem dX3_load_152 : decode cX3_load 152 = .ok (.iaload, 1) := dk_46 (dk_at dksX3_load_6 11 rfl rfl)
theorem dX3_load_153 : decode cX3_load 153 = .ok (.invokevirtual 199, 3) := dk_182 0 199 (dk_at dksX3_load_6 12 rfl rfl)
theorem dX3_load_156 : decode cX3_load 156 = .ok (.ireturn, 1) := dk_172 (dk_at dksX3_load_6 15 rfl rfl)
abbrev cX3_isFrom : ByteArray := prog_15_method_7_code
def yX3_isFrom : MethodName := ⟨RX3, "isFrom", "(III)Z"⟩
def dkwX3_isFrom_0 : List UInt8 := [26, 27, 161, 0, 12, 26, 28, 163, 0, 7, 4, 167, 0, 4, 3, 172]
abbrev dktX3_isFrom_0 : List UInt8 := dkwX3_isFrom_0 ++ []
theorem dksX3_isFrom_0 : cX3_isFrom.data.toList.drop 0 = dktX3_isFrom_0 := by decide +kernel
theorem dX3_isFrom_0 : decode cX3_isFrom 0 = .ok (.iload_n 0, 1) := dk_26 (dk_at dksX3_isFrom_0 0 rfl rfl)
theorem dX3_isFrom_1 : decode cX3_isFrom 1 = .ok (.iload_n 1, 1) := dk_27 (dk_at dksX3_isFrom_0 1 rfl rfl)
theorem dX3_isFrom_2 : decode cX3_isFrom 2 = .ok (.if_icmp .lt 12, 3) := dk_161 0 12 (dk_at dksX3_isFrom_0 2 rfl rfl)
theorem dX3_isFrom_5 : decode cX3_isFrom 5 = .ok (.iload_n 0, 1) := dk_26 (dk_at dksX3_isFrom_0 5 rfl rfl)
theorem dX3_isFrom_6 : decode cX3_isFrom 6 = .ok (.iload_n 2, 1) := dk_28 (dk_at dksX3_isFrom_0 6 rfl rfl)
theorem dX3_isFrom_7 : decode cX3_isFrom 7 = .ok (.if_icmp .gt 7, 3) := dk_163 0 7 (dk_at dksX3_isFrom_0 7 rfl rfl)
theorem dX3_isFrom_10 : decode cX3_isFrom 10 = .ok (.iconst 1, 1) := dk_4 (dk_at dksX3_isFrom_0 10 rfl rfl)
theorem dX3_isFrom_11 : decode cX3_isFrom 11 = .ok (.goto 4, 3) := dk_167 0 4 (dk_at dksX3_isFrom_0 11 rfl rfl)
theorem dX3_isFrom_14 : decode cX3_isFrom 14 = .ok (.iconst 0, 1) := dk_3 (dk_at dksX3_isFrom_0 14 rfl rfl)
theorem dX3_isFrom_15 : decode cX3_isFrom 15 = .ok (.ireturn, 1) := dk_172 (dk_at dksX3_isFrom_0 15 rfl rfl)
abbrev cX3_refuse : ByteArray := prog_15_method_5_code
def yX3_refuse : MethodName := ⟨RX3, "refuse", "(I)I"⟩
def dkwX3_refuse_0 : List UInt8 := [42, 3, 181, 0, 65, 42, 27, 181, 0, 68, 2, 172]
abbrev dktX3_refuse_0 : List UInt8 := dkwX3_refuse_0 ++ []
theorem dksX3_refuse_0 : cX3_refuse.data.toList.drop 0 = dktX3_refuse_0 := by decide +kernel
theorem dX3_refuse_0 : decode cX3_refuse 0 = .ok (.aload_n 0, 1) := dk_42 (dk_at dksX3_refuse_0 0 rfl rfl)
theorem dX3_refuse_1 : decode cX3_refuse 1 = .ok (.iconst 0, 1) := dk_3 (dk_at dksX3_refuse_0 1 rfl rfl)
theorem dX3_refuse_2 : decode cX3_refuse 2 = .ok (.putfield 65, 3) := dk_181 0 65 (dk_at dksX3_refuse_0 2 rfl rfl)
theorem dX3_refuse_5 : decode cX3_refuse 5 = .ok (.aload_n 0, 1) := dk_42 (dk_at dksX3_refuse_0 5 rfl rfl)
theorem dX3_refuse_6 : decode cX3_refuse 6 = .ok (.iload_n 1, 1) := dk_27 (dk_at dksX3_refuse_0 6 rfl rfl)
theorem dX3_refuse_7 : decode cX3_refuse 7 = .ok (.putfield 68, 3) := dk_181 0 68 (dk_at dksX3_refuse_0 7 rfl rfl)
theorem dX3_refuse_10 : decode cX3_refuse 10 = .ok (.iconst (-1), 1) := dk_2 (dk_at dksX3_refuse_0 10 rfl rfl)
theorem dX3_refuse_11 : decode cX3_refuse 11 = .ok (.ireturn, 1) := dk_172 (dk_at dksX3_refuse_0 11 rfl rfl)
abbrev cX3_go : ByteArray := prog_15_method_18_code
def yX3_go : MethodName := ⟨RX3, "go", "()V"⟩
def dkwX3_go_12 : List UInt8 := [4, 96, 181, 0, 89, 42, 27, 16, 59, 160, 0, 7, 7, 167, 0, 4, 4, 181, 0, 99, 177]
abbrev dktX3_go_12 : List UInt8 := dkwX3_go_12 ++ []
def dkwX3_go_11 : List UInt8 := [180, 0, 96, 100, 6, 164, 0, 7, 4, 167, 0, 4, 6, 181, 0, 99, 167, 0, 28, 42, 89, 180, 0, 89]
abbrev dktX3_go_11 : List UInt8 := dkwX3_go_11 ++ dktX3_go_12
def dkwX3_go_10 : List UInt8 := [181, 0, 115, 42, 89, 180, 0, 89, 4, 96, 181, 0, 89, 167, 255, 196, 42, 42, 180, 0, 89, 42]
abbrev dktX3_go_10 : List UInt8 := dkwX3_go_10 ++ dktX3_go_11
def dkwX3_go_9 : List UInt8 := [162, 0, 26, 42, 16, 10, 42, 180, 0, 115, 104, 42, 42, 180, 0, 89, 182, 0, 92, 96, 16, 48, 100]
abbrev dktX3_go_9 : List UInt8 := dkwX3_go_9 ++ dktX3_go_10
def dkwX3_go_8 : List UInt8 := [180, 0, 89, 182, 0, 92, 184, 0, 112, 153, 0, 52, 42, 180, 0, 89, 42, 180, 0, 96, 100, 6]
abbrev dktX3_go_8 : List UInt8 := dkwX3_go_8 ++ dktX3_go_9
def dkwX3_go_7 : List UInt8 := [167, 0, 4, 5, 181, 0, 99, 167, 0, 128, 27, 184, 0, 112, 153, 0, 96, 42, 3, 181, 0, 115, 42, 42]
abbrev dktX3_go_7 : List UInt8 := dkwX3_go_7 ++ dktX3_go_8
def dkwX3_go_6 : List UInt8 := [181, 0, 89, 167, 255, 194, 42, 42, 180, 0, 89, 42, 180, 0, 96, 100, 16, 8, 164, 0, 7, 4]
abbrev dktX3_go_6 : List UInt8 := dkwX3_go_6 ++ dktX3_go_7
def dkwX3_go_5 : List UInt8 := [42, 42, 180, 0, 89, 182, 0, 92, 133, 20, 0, 110, 101, 129, 181, 0, 106, 42, 89, 180, 0, 89, 4, 96]
abbrev dktX3_go_5 : List UInt8 := dkwX3_go_5 ++ dktX3_go_6
def dkwX3_go_4 : List UInt8 := [153, 0, 54, 42, 180, 0, 89, 42, 180, 0, 96, 100, 16, 8, 162, 0, 27, 42, 42, 180, 0, 106, 8, 121]
abbrev dktX3_go_4 : List UInt8 := dkwX3_go_4 ++ dktX3_go_5
def dkwX3_go_3 : List UInt8 := [184, 0, 102, 153, 0, 99, 42, 9, 181, 0, 106, 42, 42, 180, 0, 89, 182, 0, 92, 184, 0, 102]
abbrev dktX3_go_3 : List UInt8 := dkwX3_go_3 ++ dktX3_go_4
def dkwX3_go_2 : List UInt8 := [42, 42, 180, 0, 89, 182, 0, 92, 60, 27, 2, 160, 0, 11, 42, 3, 181, 0, 99, 167, 0, 231, 27]
abbrev dktX3_go_2 : List UInt8 := dkwX3_go_2 ++ dktX3_go_3
def dkwX3_go_1 : List UInt8 := [160, 0, 16, 42, 89, 180, 0, 89, 4, 96, 181, 0, 89, 167, 255, 220, 42, 42, 180, 0, 89, 181, 0, 96]
abbrev dktX3_go_1 : List UInt8 := dkwX3_go_1 ++ dktX3_go_2
def dkwX3_go_0 : List UInt8 := [42, 42, 180, 0, 89, 182, 0, 92, 16, 32, 159, 0, 16, 42, 42, 180, 0, 89, 182, 0, 92, 16, 10]
abbrev dktX3_go_0 : List UInt8 := dkwX3_go_0 ++ dktX3_go_1
theorem dksX3_go_0 : cX3_go.data.toList.drop 0 = dktX3_go_0 := by decide +kernel
theorem dksX3_go_1 : cX3_go.data.toList.drop 23 = dktX3_go_1 := dk_seg dksX3_go_0 23 rfl rfl
theorem dksX3_go_2 : cX3_go.data.toList.drop 47 = dktX3_go_2 := dk_seg dksX3_go_1 24 rfl rfl
theorem dksX3_go_3 : cX3_go.data.toList.drop 70 = dktX3_go_3 := dk_seg dksX3_go_2 23 rfl rfl
theorem dksX3_go_4 : cX3_go.data.toList.drop 92 = dktX3_go_4 := dk_seg dksX3_go_3 22 rfl rfl
theorem dksX3_go_5 : cX3_go.data.toList.drop 116 = dktX3_go_5 := dk_seg dksX3_go_4 24 rfl rfl
theorem dksX3_go_6 : cX3_go.data.toList.drop 140 = dktX3_go_6 := dk_seg dksX3_go_5 24 rfl rfl
theorem dksX3_go_7 : cX3_go.data.toList.drop 162 = dktX3_go_7 := dk_seg dksX3_go_6 22 rfl rfl
theorem dksX3_go_8 : cX3_go.data.toList.drop 186 = dktX3_go_8 := dk_seg dksX3_go_7 24 rfl rfl
theorem dksX3_go_9 : cX3_go.data.toList.drop 208 = dktX3_go_9 := dk_seg dksX3_go_8 22 rfl rfl
theorem dksX3_go_10 : cX3_go.data.toList.drop 231 = dktX3_go_10 := dk_seg dksX3_go_9 23 rfl rfl
theorem dksX3_go_11 : cX3_go.data.toList.drop 253 = dktX3_go_11 := dk_seg dksX3_go_10 22 rfl rfl
theorem dksX3_go_12 : cX3_go.data.toList.drop 277 = dktX3_go_12 := dk_seg dksX3_go_11 24 rfl rfl
theorem dX3_go_0 : decode cX3_go 0 = .ok (.aload_n 0, 1) := dk_42 (dk_at dksX3_go_0 0 rfl rfl)
theorem dX3_go_1 : decode cX3_go 1 = .ok (.aload_n 0, 1) := dk_42 (dk_at dksX3_go_0 1 rfl rfl)
theorem dX3_go_2 : decode cX3_go 2 = .ok (.getfield 89, 3) := dk_180 0 89 (dk_at dksX3_go_0 2 rfl rfl)
theorem dX3_go_5 : decode cX3_go 5 = .ok (.invokevirtual 92, 3) := dk_182 0 92 (dk_at dksX3_go_0 5 rfl rfl)
theorem dX3_go_8 : decode cX3_go 8 = .ok (.bipush 32, 2) := dk_16 32 (dk_at dksX3_go_0 8 rfl rfl)
theorem dX3_go_10 : decode cX3_go 10 = .ok (.if_icmp .eq 16, 3) := dk_159 0 16 (dk_at dksX3_go_0 10 rfl rfl)
theorem dX3_go_13 : decode cX3_go 13 = .ok (.aload_n 0, 1) := dk_42 (dk_at dksX3_go_0 13 rfl rfl)
theorem dX3_go_14 : decode cX3_go 14 = .ok (.aload_n 0, 1) := dk_42 (dk_at dksX3_go_0 14 rfl rfl)
theorem dX3_go_15 : decode cX3_go 15 = .ok (.getfield 89, 3) := dk_180 0 89 (dk_at dksX3_go_0 15 rfl rfl)
theorem dX3_go_18 : decode cX3_go 18 = .ok (.invokevirtual 92, 3) := dk_182 0 92 (dk_at dksX3_go_0 18 rfl rfl)
theorem dX3_go_21 : decode cX3_go 21 = .ok (.bipush 10, 2) := dk_16 10 (dk_at dksX3_go_0 21 rfl rfl)
theorem dX3_go_23 : decode cX3_go 23 = .ok (.if_icmp .ne 16, 3) := dk_160 0 16 (dk_at dksX3_go_1 0 rfl rfl)
theorem dX3_go_26 : decode cX3_go 26 = .ok (.aload_n 0, 1) := dk_42 (dk_at dksX3_go_1 3 rfl rfl)
theorem dX3_go_27 : decode cX3_go 27 = .ok (.dup, 1) := dk_89 (dk_at dksX3_go_1 4 rfl rfl)
theorem dX3_go_28 : decode cX3_go 28 = .ok (.getfield 89, 3) := dk_180 0 89 (dk_at dksX3_go_1 5 rfl rfl)
theorem dX3_go_31 : decode cX3_go 31 = .ok (.iconst 1, 1) := dk_4 (dk_at dksX3_go_1 8 rfl rfl)
theorem dX3_go_32 : decode cX3_go 32 = .ok (.iadd, 1) := dk_96 (dk_at dksX3_go_1 9 rfl rfl)
theorem dX3_go_33 : decode cX3_go 33 = .ok (.putfield 89, 3) := dk_181 0 89 (dk_at dksX3_go_1 10 rfl rfl)
theorem dX3_go_36 : decode cX3_go 36 = .ok (.goto (-36), 3) := dk_167 255 220 (dk_at dksX3_go_1 13 rfl rfl)
theorem dX3_go_39 : decode cX3_go 39 = .ok (.aload_n 0, 1) := dk_42 (dk_at dksX3_go_1 16 rfl rfl)
theorem dX3_go_40 : decode cX3_go 40 = .ok (.aload_n 0, 1) := dk_42 (dk_at dksX3_go_1 17 rfl rfl)
theorem dX3_go_41 : decode cX3_go 41 = .ok (.getfield 89, 3) := dk_180 0 89 (dk_at dksX3_go_1 18 rfl rfl)
theorem dX3_go_44 : decode cX3_go 44 = .ok (.putfield 96, 3) := dk_181 0 96 (dk_at dksX3_go_1 21 rfl rfl)
theorem dX3_go_47 : decode cX3_go 47 = .ok (.aload_n 0, 1) := dk_42 (dk_at dksX3_go_2 0 rfl rfl)
theorem dX3_go_48 : decode cX3_go 48 = .ok (.aload_n 0, 1) := dk_42 (dk_at dksX3_go_2 1 rfl rfl)
theorem dX3_go_49 : decode cX3_go 49 = .ok (.getfield 89, 3) := dk_180 0 89 (dk_at dksX3_go_2 2 rfl rfl)
theorem dX3_go_52 : decode cX3_go 52 = .ok (.invokevirtual 92, 3) := dk_182 0 92 (dk_at dksX3_go_2 5 rfl rfl)
theorem dX3_go_55 : decode cX3_go 55 = .ok (.istore_n 1, 1) := dk_60 (dk_at dksX3_go_2 8 rfl rfl)
theorem dX3_go_56 : decode cX3_go 56 = .ok (.iload_n 1, 1) := dk_27 (dk_at dksX3_go_2 9 rfl rfl)
theorem dX3_go_57 : decode cX3_go 57 = .ok (.iconst (-1), 1) := dk_2 (dk_at dksX3_go_2 10 rfl rfl)
theorem dX3_go_58 : decode cX3_go 58 = .ok (.if_icmp .ne 11, 3) := dk_160 0 11 (dk_at dksX3_go_2 11 rfl rfl)
theorem dX3_go_61 : decode cX3_go 61 = .ok (.aload_n 0, 1) := dk_42 (dk_at dksX3_go_2 14 rfl rfl)
theorem dX3_go_62 : decode cX3_go 62 = .ok (.iconst 0, 1) := dk_3 (dk_at dksX3_go_2 15 rfl rfl)
theorem dX3_go_63 : decode cX3_go 63 = .ok (.putfield 99, 3) := dk_181 0 99 (dk_at dksX3_go_2 16 rfl rfl)
theorem dX3_go_66 : decode cX3_go 66 = .ok (.goto 231, 3) := dk_167 0 231 (dk_at dksX3_go_2 19 rfl rfl)
theorem dX3_go_69 : decode cX3_go 69 = .ok (.iload_n 1, 1) := dk_27 (dk_at dksX3_go_2 22 rfl rfl)
theorem dX3_go_70 : decode cX3_go 70 = .ok (.invokestatic 102, 3) := dk_184 0 102 (dk_at dksX3_go_3 0 rfl rfl)
theorem dX3_go_73 : decode cX3_go 73 = .ok (.ifCond .eq 99, 3) := dk_153 0 99 (dk_at dksX3_go_3 3 rfl rfl)
theorem dX3_go_76 : decode cX3_go 76 = .ok (.aload_n 0, 1) := dk_42 (dk_at dksX3_go_3 6 rfl rfl)
theorem dX3_go_77 : decode cX3_go 77 = .ok (.lconst 0, 1) := dk_9 (dk_at dksX3_go_3 7 rfl rfl)
theorem dX3_go_78 : decode cX3_go 78 = .ok (.putfield 106, 3) := dk_181 0 106 (dk_at dksX3_go_3 8 rfl rfl)
theorem dX3_go_81 : decode cX3_go 81 = .ok (.aload_n 0, 1) := dk_42 (dk_at dksX3_go_3 11 rfl rfl)
theorem dX3_go_82 : decode cX3_go 82 = .ok (.aload_n 0, 1) := dk_42 (dk_at dksX3_go_3 12 rfl rfl)
theorem dX3_go_83 : decode cX3_go 83 = .ok (.getfield 89, 3) := dk_180 0 89 (dk_at dksX3_go_3 13 rfl rfl)
theorem dX3_go_86 : decode cX3_go 86 = .ok (.invokevirtual 92, 3) := dk_182 0 92 (dk_at dksX3_go_3 16 rfl rfl)
theorem dX3_go_89 : decode cX3_go 89 = .ok (.invokestatic 102, 3) := dk_184 0 102 (dk_at dksX3_go_3 19 rfl rfl)
theorem dX3_go_92 : decode cX3_go 92 = .ok (.ifCond .eq 54, 3) := dk_153 0 54 (dk_at dksX3_go_4 0 rfl rfl)
theorem dX3_go_95 : decode cX3_go 95 = .ok (.aload_n 0, 1) := dk_42 (dk_at dksX3_go_4 3 rfl rfl)
theorem dX3_go_96 : decode cX3_go 96 = .ok (.getfield 89, 3) := dk_180 0 89 (dk_at dksX3_go_4 4 rfl rfl)
theorem dX3_go_99 : decode cX3_go 99 = .ok (.aload_n 0, 1) := dk_42 (dk_at dksX3_go_4 7 rfl rfl)
theorem dX3_go_100 : decode cX3_go 100 = .ok (.getfield 96, 3) := dk_180 0 96 (dk_at dksX3_go_4 8 rfl rfl)
theorem dX3_go_103 : decode cX3_go 103 = .ok (.isub, 1) := dk_100 (dk_at dksX3_go_4 11 rfl rfl)
theorem dX3_go_104 : decode cX3_go 104 = .ok (.bipush 8, 2) := dk_16 8 (dk_at dksX3_go_4 12 rfl rfl)
theorem dX3_go_106 : decode cX3_go 106 = .ok (.if_icmp .ge 27, 3) := dk_162 0 27 (dk_at dksX3_go_4 14 rfl rfl)
theorem dX3_go_109 : decode cX3_go 109 = .ok (.aload_n 0, 1) := dk_42 (dk_at dksX3_go_4 17 rfl rfl)
theorem dX3_go_110 : decode cX3_go 110 = .ok (.aload_n 0, 1) := dk_42 (dk_at dksX3_go_4 18 rfl rfl)
theorem dX3_go_111 : decode cX3_go 111 = .ok (.getfield 106, 3) := dk_180 0 106 (dk_at dksX3_go_4 19 rfl rfl)
theorem dX3_go_114 : decode cX3_go 114 = .ok (.iconst 5, 1) := dk_8 (dk_at dksX3_go_4 22 rfl rfl)
theorem dX3_go_115 : decode cX3_go 115 = .ok (.lshl, 1) := dk_121 (dk_at dksX3_go_4 23 rfl rfl)
theorem dX3_go_116 : decode cX3_go 116 = .ok (.aload_n 0, 1) := dk_42 (dk_at dksX3_go_5 0 rfl rfl)
theorem dX3_go_117 : decode cX3_go 117 = .ok (.aload_n 0, 1) := dk_42 (dk_at dksX3_go_5 1 rfl rfl)
theorem dX3_go_118 : decode cX3_go 118 = .ok (.getfield 89, 3) := dk_180 0 89 (dk_at dksX3_go_5 2 rfl rfl)
theorem dX3_go_121 : decode cX3_go 121 = .ok (.invokevirtual 92, 3) := dk_182 0 92 (dk_at dksX3_go_5 5 rfl rfl)
theorem dX3_go_124 : decode cX3_go 124 = .ok (.i2l, 1) := dk_133 (dk_at dksX3_go_5 8 rfl rfl)
theorem dX3_go_125 : decode cX3_go 125 = .ok (.ldc2_w 110, 3) := dk_20 0 110 (dk_at dksX3_go_5 9 rfl rfl)
theorem dX3_go_128 : decode cX3_go 128 = .ok (.lsub, 1) := dk_101 (dk_at dksX3_go_5 12 rfl rfl)
theorem dX3_go_129 : decode cX3_go 129 = .ok (.lor, 1) := dk_129 (dk_at dksX3_go_5 13 rfl rfl)
theorem dX3_go_130 : decode cX3_go 130 = .ok (.putfield 106, 3) := dk_181 0 106 (dk_at dksX3_go_5 14 rfl rfl)
theorem dX3_go_133 : decode cX3_go 133 = .ok (.aload_n 0, 1) := dk_42 (dk_at dksX3_go_5 17 rfl rfl)
theorem dX3_go_134 : decode cX3_go 134 = .ok (.dup, 1) := dk_89 (dk_at dksX3_go_5 18 rfl rfl)
theorem dX3_go_135 : decode cX3_go 135 = .ok (.getfield 89, 3) := dk_180 0 89 (dk_at dksX3_go_5 19 rfl rfl)
theorem dX3_go_138 : decode cX3_go 138 = .ok (.iconst 1, 1) := dk_4 (dk_at dksX3_go_5 22 rfl rfl)
theorem dX3_go_139 : decode cX3_go 139 = .ok (.iadd, 1) := dk_96 (dk_at dksX3_go_5 23 rfl rfl)
theorem dX3_go_140 : decode cX3_go 140 = .ok (.putfield 89, 3) := dk_181 0 89 (dk_at dksX3_go_6 0 rfl rfl)
theorem dX3_go_143 : decode cX3_go 143 = .ok (.goto (-62), 3) := dk_167 255 194 (dk_at dksX3_go_6 3 rfl rfl)
theorem dX3_go_146 : decode cX3_go 146 = .ok (.aload_n 0, 1) := dk_42 (dk_at dksX3_go_6 6 rfl rfl)
theorem dX3_go_147 : decode cX3_go 147 = .ok (.aload_n 0, 1) := dk_42 (dk_at dksX3_go_6 7 rfl rfl)
theorem dX3_go_148 : decode cX3_go 148 = .ok (.getfield 89, 3) := dk_180 0 89 (dk_at dksX3_go_6 8 rfl rfl)
theorem dX3_go_151 : decode cX3_go 151 = .ok (.aload_n 0, 1) := dk_42 (dk_at dksX3_go_6 11 rfl rfl)
theorem dX3_go_152 : decode cX3_go 152 = .ok (.getfield 96, 3) := dk_180 0 96 (dk_at dksX3_go_6 12 rfl rfl)
theorem dX3_go_155 : decode cX3_go 155 = .ok (.isub, 1) := dk_100 (dk_at dksX3_go_6 15 rfl rfl)
theorem dX3_go_156 : decode cX3_go 156 = .ok (.bipush 8, 2) := dk_16 8 (dk_at dksX3_go_6 16 rfl rfl)
theorem dX3_go_158 : decode cX3_go 158 = .ok (.if_icmp .le 7, 3) := dk_164 0 7 (dk_at dksX3_go_6 18 rfl rfl)
theorem dX3_go_161 : decode cX3_go 161 = .ok (.iconst 1, 1) := dk_4 (dk_at dksX3_go_6 21 rfl rfl)
theorem dX3_go_162 : decode cX3_go 162 = .ok (.goto 4, 3) := dk_167 0 4 (dk_at dksX3_go_7 0 rfl rfl)
theorem dX3_go_165 : decode cX3_go 165 = .ok (.iconst 2, 1) := dk_5 (dk_at dksX3_go_7 3 rfl rfl)
theorem dX3_go_166 : decode cX3_go 166 = .ok (.putfield 99, 3) := dk_181 0 99 (dk_at dksX3_go_7 4 rfl rfl)
theorem dX3_go_169 : decode cX3_go 169 = .ok (.goto 128, 3) := dk_167 0 128 (dk_at dksX3_go_7 7 rfl rfl)
theorem dX3_go_172 : decode cX3_go 172 = .ok (.iload_n 1, 1) := dk_27 (dk_at dksX3_go_7 10 rfl rfl)
theorem dX3_go_173 : decode cX3_go 173 = .ok (.invokestatic 112, 3) := dk_184 0 112 (dk_at dksX3_go_7 11 rfl rfl)
theorem dX3_go_176 : decode cX3_go 176 = .ok (.ifCond .eq 96, 3) := dk_153 0 96 (dk_at dksX3_go_7 14 rfl rfl)
theorem dX3_go_179 : decode cX3_go 179 = .ok (.aload_n 0, 1) := dk_42 (dk_at dksX3_go_7 17 rfl rfl)
theorem dX3_go_180 : decode cX3_go 180 = .ok (.iconst 0, 1) := dk_3 (dk_at dksX3_go_7 18 rfl rfl)
theorem dX3_go_181 : decode cX3_go 181 = .ok (.putfield 115, 3) := dk_181 0 115 (dk_at dksX3_go_7 19 rfl rfl)
theorem dX3_go_184 : decode cX3_go 184 = .ok (.aload_n 0, 1) := dk_42 (dk_at dksX3_go_7 22 rfl rfl)
theorem dX3_go_185 : decode cX3_go 185 = .ok (.aload_n 0, 1) := dk_42 (dk_at dksX3_go_7 23 rfl rfl)
theorem dX3_go_186 : decode cX3_go 186 = .ok (.getfield 89, 3) := dk_180 0 89 (dk_at dksX3_go_8 0 rfl rfl)
theorem dX3_go_189 : decode cX3_go 189 = .ok (.invokevirtual 92, 3) := dk_182 0 92 (dk_at dksX3_go_8 3 rfl rfl)
theorem dX3_go_192 : decode cX3_go 192 = .ok (.invokestatic 112, 3) := dk_184 0 112 (dk_at dksX3_go_8 6 rfl rfl)
theorem dX3_go_195 : decode cX3_go 195 = .ok (.ifCond .eq 52, 3) := dk_153 0 52 (dk_at dksX3_go_8 9 rfl rfl)
theorem dX3_go_198 : decode cX3_go 198 = .ok (.aload_n 0, 1) := dk_42 (dk_at dksX3_go_8 12 rfl rfl)
theorem dX3_go_199 : decode cX3_go 199 = .ok (.getfield 89, 3) := dk_180 0 89 (dk_at dksX3_go_8 13 rfl rfl)
theorem dX3_go_202 : decode cX3_go 202 = .ok (.aload_n 0, 1) := dk_42 (dk_at dksX3_go_8 16 rfl rfl)
theorem dX3_go_203 : decode cX3_go 203 = .ok (.getfield 96, 3) := dk_180 0 96 (dk_at dksX3_go_8 17 rfl rfl)
theorem dX3_go_206 : decode cX3_go 206 = .ok (.isub, 1) := dk_100 (dk_at dksX3_go_8 20 rfl rfl)
theorem dX3_go_207 : decode cX3_go 207 = .ok (.iconst 3, 1) := dk_6 (dk_at dksX3_go_8 21 rfl rfl)
theorem dX3_go_208 : decode cX3_go 208 = .ok (.if_icmp .ge 26, 3) := dk_162 0 26 (dk_at dksX3_go_9 0 rfl rfl)
theorem dX3_go_211 : decode cX3_go 211 = .ok (.aload_n 0, 1) := dk_42 (dk_at dksX3_go_9 3 rfl rfl)
theorem dX3_go_212 : decode cX3_go 212 = .ok (.bipush 10, 2) := dk_16 10 (dk_at dksX3_go_9 4 rfl rfl)
theorem dX3_go_214 : decode cX3_go 214 = .ok (.aload_n 0, 1) := dk_42 (dk_at dksX3_go_9 6 rfl rfl)
theorem dX3_go_215 : decode cX3_go 215 = .ok (.getfield 115, 3) := dk_180 0 115 (dk_at dksX3_go_9 7 rfl rfl)
theorem dX3_go_218 : decode cX3_go 218 = .ok (.imul, 1) := dk_104 (dk_at dksX3_go_9 10 rfl rfl)
theorem dX3_go_219 : decode cX3_go 219 = .ok (.aload_n 0, 1) := dk_42 (dk_at dksX3_go_9 11 rfl rfl)
theorem dX3_go_220 : decode cX3_go 220 = .ok (.aload_n 0, 1) := dk_42 (dk_at dksX3_go_9 12 rfl rfl)
theorem dX3_go_221 : decode cX3_go 221 = .ok (.getfield 89, 3) := dk_180 0 89 (dk_at dksX3_go_9 13 rfl rfl)
theorem dX3_go_224 : decode cX3_go 224 = .ok (.invokevirtual 92, 3) := dk_182 0 92 (dk_at dksX3_go_9 16 rfl rfl)
theorem dX3_go_227 : decode cX3_go 227 = .ok (.iadd, 1) := dk_96 (dk_at dksX3_go_9 19 rfl rfl)
theorem dX3_go_228 : decode cX3_go 228 = .ok (.bipush 48, 2) := dk_16 48 (dk_at dksX3_go_9 20 rfl rfl)
theorem dX3_go_230 : decode cX3_go 230 = .ok (.isub, 1) := dk_100 (dk_at dksX3_go_9 22 rfl rfl)
theorem dX3_go_231 : decode cX3_go 231 = .ok (.putfield 115, 3) := dk_181 0 115 (dk_at dksX3_go_10 0 rfl rfl)
theorem dX3_go_234 : decode cX3_go 234 = .ok (.aload_n 0, 1) := dk_42 (dk_at dksX3_go_10 3 rfl rfl)
theorem dX3_go_235 : decode cX3_go 235 = .ok (.dup, 1) := dk_89 (dk_at dksX3_go_10 4 rfl rfl)
theorem dX3_go_236 : decode cX3_go 236 = .ok (.getfield 89, 3) := dk_180 0 89 (dk_at dksX3_go_10 5 rfl rfl)
theorem dX3_go_239 : decode cX3_go 239 = .ok (.iconst 1, 1) := dk_4 (dk_at dksX3_go_10 8 rfl rfl)
theorem dX3_go_240 : decode cX3_go 240 = .ok (.iadd, 1) := dk_96 (dk_at dksX3_go_10 9 rfl rfl)
theorem dX3_go_241 : decode cX3_go 241 = .ok (.putfield 89, 3) := dk_181 0 89 (dk_at dksX3_go_10 10 rfl rfl)
theorem dX3_go_244 : decode cX3_go 244 = .ok (.goto (-60), 3) := dk_167 255 196 (dk_at dksX3_go_10 13 rfl rfl)
theorem dX3_go_247 : decode cX3_go 247 = .ok (.aload_n 0, 1) := dk_42 (dk_at dksX3_go_10 16 rfl rfl)
theorem dX3_go_248 : decode cX3_go 248 = .ok (.aload_n 0, 1) := dk_42 (dk_at dksX3_go_10 17 rfl rfl)
theorem dX3_go_249 : decode cX3_go 249 = .ok (.getfield 89, 3) := dk_180 0 89 (dk_at dksX3_go_10 18 rfl rfl)
theorem dX3_go_252 : decode cX3_go 252 = .ok (.aload_n 0, 1) := dk_42 (dk_at dksX3_go_10 21 rfl rfl)
theorem dX3_go_253 : decode cX3_go 253 = .ok (.getfield 96, 3) := dk_180 0 96 (dk_at dksX3_go_11 0 rfl rfl)
theorem dX3_go_256 : decode cX3_go 256 = .ok (.isub, 1) := dk_100 (dk_at dksX3_go_11 3 rfl rfl)
theorem dX3_go_257 : decode cX3_go 257 = .ok (.iconst 3, 1) := dk_6 (dk_at dksX3_go_11 4 rfl rfl)
theorem dX3_go_258 : decode cX3_go 258 = .ok (.if_icmp .le 7, 3) := dk_164 0 7 (dk_at dksX3_go_11 5 rfl rfl)
theorem dX3_go_261 : decode cX3_go 261 = .ok (.iconst 1, 1) := dk_4 (dk_at dksX3_go_11 8 rfl rfl)
theorem dX3_go_262 : decode cX3_go 262 = .ok (.goto 4, 3) := dk_167 0 4 (dk_at dksX3_go_11 9 rfl rfl)
theorem dX3_go_265 : decode cX3_go 265 = .ok (.iconst 3, 1) := dk_6 (dk_at dksX3_go_11 12 rfl rfl)
theorem dX3_go_266 : decode cX3_go 266 = .ok (.putfield 99, 3) := dk_181 0 99 (dk_at dksX3_go_11 13 rfl rfl)
theorem dX3_go_269 : decode cX3_go 269 = .ok (.goto 28, 3) := dk_167 0 28 (dk_at dksX3_go_11 16 rfl rfl)
theorem dX3_go_272 : decode cX3_go 272 = .ok (.aload_n 0, 1) := dk_42 (dk_at dksX3_go_11 19 rfl rfl)
theorem dX3_go_273 : decode cX3_go 273 = .ok (.dup, 1) := dk_89 (dk_at dksX3_go_11 20 rfl rfl)
theorem dX3_go_274 : decode cX3_go 274 = .ok (.getfield 89, 3) := dk_180 0 89 (dk_at dksX3_go_11 21 rfl rfl)
theorem dX3_go_277 : decode cX3_go 277 = .ok (.iconst 1, 1) := dk_4 (dk_at dksX3_go_12 0 rfl rfl)
theorem dX3_go_278 : decode cX3_go 278 = .ok (.iadd, 1) := dk_96 (dk_at dksX3_go_12 1 rfl rfl)
theorem dX3_go_279 : decode cX3_go 279 = .ok (.putfield 89, 3) := dk_181 0 89 (dk_at dksX3_go_12 2 rfl rfl)
theorem dX3_go_282 : decode cX3_go 282 = .ok (.aload_n 0, 1) := dk_42 (dk_at dksX3_go_12 5 rfl rfl)
theorem dX3_go_283 : decode cX3_go 283 = .ok (.iload_n 1, 1) := dk_27 (dk_at dksX3_go_12 6 rfl rfl)
theorem dX3_go_284 : decode cX3_go 284 = .ok (.bipush 59, 2) := dk_16 59 (dk_at dksX3_go_12 7 rfl rfl)
theorem dX3_go_286 : decode cX3_go 286 = .ok (.if_icmp .ne 7, 3) := dk_160 0 7 (dk_at dksX3_go_12 9 rfl rfl)
theorem dX3_go_289 : decode cX3_go 289 = .ok (.iconst 4, 1) := dk_7 (dk_at dksX3_go_12 12 rfl rfl)
theorem dX3_go_290 : decode cX3_go 290 = .ok (.goto 4, 3) := dk_167 0 4 (dk_at dksX3_go_12 13 rfl rfl)
theorem dX3_go_293 : decode cX3_go 293 = .ok (.iconst 1, 1) := dk_4 (dk_at dksX3_go_12 16 rfl rfl)
theorem dX3_go_294 : decode cX3_go 294 = .ok (.putfield 99, 3) := dk_181 0 99 (dk_at dksX3_go_12 17 rfl rfl)
theorem dX3_go_297 : decode cX3_go 297 = .ok (.return_, 1) := dk_177 (dk_at dksX3_go_12 20 rfl rfl)
abbrev cX3_byteAt : ByteArray := prog_15_method_15_code
def yX3_byteAt : MethodName := ⟨RX3, "byteAt", "(I)I"⟩
def dkwX3_byteAt_0 : List UInt8 := [27, 42, 180, 0, 86, 162, 0, 12, 42, 180, 0, 22, 27, 46, 167, 0, 4, 2, 172]
abbrev dktX3_byteAt_0 : List UInt8 := dkwX3_byteAt_0 ++ []
theorem dksX3_byteAt_0 : cX3_byteAt.data.toList.drop 0 = dktX3_byteAt_0 := by decide +kernel
theorem dX3_byteAt_0 : decode cX3_byteAt 0 = .ok (.iload_n 1, 1) := dk_27 (dk_at dksX3_byteAt_0 0 rfl rfl)
theorem dX3_byteAt_1 : decode cX3_byteAt 1 = .ok (.aload_n 0, 1) := dk_42 (dk_at dksX3_byteAt_0 1 rfl rfl)
theorem dX3_byteAt_2 : decode cX3_byteAt 2 = .ok (.getfield 86, 3) := dk_180 0 86 (dk_at dksX3_byteAt_0 2 rfl rfl)
theorem dX3_byteAt_5 : decode cX3_byteAt 5 = .ok (.if_icmp .ge 12, 3) := dk_162 0 12 (dk_at dksX3_byteAt_0 5 rfl rfl)
theorem dX3_byteAt_8 : decode cX3_byteAt 8 = .ok (.aload_n 0, 1) := dk_42 (dk_at dksX3_byteAt_0 8 rfl rfl)
theorem dX3_byteAt_9 : decode cX3_byteAt 9 = .ok (.getfield 22, 3) := dk_180 0 22 (dk_at dksX3_byteAt_0 9 rfl rfl)
theorem dX3_byteAt_12 : decode cX3_byteAt 12 = .ok (.iload_n 1, 1) := dk_27 (dk_at dksX3_byteAt_0 12 rfl rfl)
theorem dX3_byteAt_13 : decode cX3_byteAt 13 = .ok (.iaload, 1) := dk_46 (dk_at dksX3_byteAt_0 13 rfl rfl)
theorem dX3_byteAt_14 : decode cX3_byteAt 14 = .ok (.goto 4, 3) := dk_167 0 4 (dk_at dksX3_byteAt_0 14 rfl rfl)
theorem dX3_byteAt_17 : decode cX3_byteAt 17 = .ok (.iconst (-1), 1) := dk_2 (dk_at dksX3_byteAt_0 17 rfl rfl)
theorem dX3_byteAt_18 : decode cX3_byteAt 18 = .ok (.ireturn, 1) := dk_172 (dk_at dksX3_byteAt_0 18 rfl rfl)
abbrev cX3_isLetter : ByteArray := prog_15_method_16_code
def yX3_isLetter : MethodName := ⟨RX3, "isLetter", "(I)Z"⟩
def dkwX3_isLetter_0 : List UInt8 := [26, 16, 97, 161, 0, 13, 26, 16, 122, 163, 0, 7, 4, 167, 0, 4, 3, 172]
abbrev dktX3_isLetter_0 : List UInt8 := dkwX3_isLetter_0 ++ []
theorem dksX3_isLetter_0 : cX3_isLetter.data.toList.drop 0 = dktX3_isLetter_0 := by decide +kernel
theorem dX3_isLetter_0 : decode cX3_isLetter 0 = .ok (.iload_n 0, 1) := dk_26 (dk_at dksX3_isLetter_0 0 rfl rfl)
theorem dX3_isLetter_1 : decode cX3_isLetter 1 = .ok (.bipush 97, 2) := dk_16 97 (dk_at dksX3_isLetter_0 1 rfl rfl)
theorem dX3_isLetter_3 : decode cX3_isLetter 3 = .ok (.if_icmp .lt 13, 3) := dk_161 0 13 (dk_at dksX3_isLetter_0 3 rfl rfl)
theorem dX3_isLetter_6 : decode cX3_isLetter 6 = .ok (.iload_n 0, 1) := dk_26 (dk_at dksX3_isLetter_0 6 rfl rfl)
theorem dX3_isLetter_7 : decode cX3_isLetter 7 = .ok (.bipush 122, 2) := dk_16 122 (dk_at dksX3_isLetter_0 7 rfl rfl)
theorem dX3_isLetter_9 : decode cX3_isLetter 9 = .ok (.if_icmp .gt 7, 3) := dk_163 0 7 (dk_at dksX3_isLetter_0 9 rfl rfl)
theorem dX3_isLetter_12 : decode cX3_isLetter 12 = .ok (.iconst 1, 1) := dk_4 (dk_at dksX3_isLetter_0 12 rfl rfl)
theorem dX3_isLetter_13 : decode cX3_isLetter 13 = .ok (.goto 4, 3) := dk_167 0 4 (dk_at dksX3_isLetter_0 13 rfl rfl)
theorem dX3_isLetter_16 : decode cX3_isLetter 16 = .ok (.iconst 0, 1) := dk_3 (dk_at dksX3_isLetter_0 16 rfl rfl)
theorem dX3_isLetter_17 : decode cX3_isLetter 17 = .ok (.ireturn, 1) := dk_172 (dk_at dksX3_isLetter_0 17 rfl rfl)
abbrev cX3_isDigit : ByteArray := prog_15_method_17_code
def yX3_isDigit : MethodName := ⟨RX3, "isDigit", "(I)Z"⟩
def dkwX3_isDigit_0 : List UInt8 := [26, 16, 48, 161, 0, 13, 26, 16, 57, 163, 0, 7, 4, 167, 0, 4, 3, 172]
abbrev dktX3_isDigit_0 : List UInt8 := dkwX3_isDigit_0 ++ []
theorem dksX3_isDigit_0 : cX3_isDigit.data.toList.drop 0 = dktX3_isDigit_0 := by decide +kernel
theorem dX3_isDigit_0 : decode cX3_isDigit 0 = .ok (.iload_n 0, 1) := dk_26 (dk_at dksX3_isDigit_0 0 rfl rfl)
theorem dX3_isDigit_1 : decode cX3_isDigit 1 = .ok (.bipush 48, 2) := dk_16 48 (dk_at dksX3_isDigit_0 1 rfl rfl)
theorem dX3_isDigit_3 : decode cX3_isDigit 3 = .ok (.if_icmp .lt 13, 3) := dk_161 0 13 (dk_at dksX3_isDigit_0 3 rfl rfl)
theorem dX3_isDigit_6 : decode cX3_isDigit 6 = .ok (.iload_n 0, 1) := dk_26 (dk_at dksX3_isDigit_0 6 rfl rfl)
theorem dX3_isDigit_7 : decode cX3_isDigit 7 = .ok (.bipush 57, 2) := dk_16 57 (dk_at dksX3_isDigit_0 7 rfl rfl)
theorem dX3_isDigit_9 : decode cX3_isDigit 9 = .ok (.if_icmp .gt 7, 3) := dk_163 0 7 (dk_at dksX3_isDigit_0 9 rfl rfl)
theorem dX3_isDigit_12 : decode cX3_isDigit 12 = .ok (.iconst 1, 1) := dk_4 (dk_at dksX3_isDigit_0 12 rfl rfl)
theorem dX3_isDigit_13 : decode cX3_isDigit 13 = .ok (.goto 4, 3) := dk_167 0 4 (dk_at dksX3_isDigit_0 13 rfl rfl)
theorem dX3_isDigit_16 : decode cX3_isDigit 16 = .ok (.iconst 0, 1) := dk_3 (dk_at dksX3_isDigit_0 16 rfl rfl)
theorem dX3_isDigit_17 : decode cX3_isDigit 17 = .ok (.ireturn, 1) := dk_172 (dk_at dksX3_isDigit_0 17 rfl rfl)
abbrev cX3_readLine : ByteArray := prog_15_method_37_code
def yX3_readLine : MethodName := ⟨RX3, "readLine", "()Z"⟩
def dkwX3_readLine_2 : List UInt8 := [182, 0, 139, 172]
abbrev dktX3_readLine_2 : List UInt8 := dkwX3_readLine_2 ++ []
def dkwX3_readLine_1 : List UInt8 := [182, 0, 180, 172, 42, 16, 8, 182, 0, 130, 153, 0, 10, 42, 182, 0, 183, 167, 0, 8, 42, 5]
abbrev dktX3_readLine_1 : List UInt8 := dkwX3_readLine_1 ++ dktX3_readLine_2
def dkwX3_readLine_0 : List UInt8 := [42, 16, 6, 182, 0, 130, 153, 0, 8, 42, 182, 0, 177, 172, 42, 16, 7, 182, 0, 130, 153, 0, 8, 42]
abbrev dktX3_readLine_0 : List UInt8 := dkwX3_readLine_0 ++ dktX3_readLine_1
theorem dksX3_readLine_0 : cX3_readLine.data.toList.drop 0 = dktX3_readLine_0 := by decide +kernel
theorem dksX3_readLine_1 : cX3_readLine.data.toList.drop 24 = dktX3_readLine_1 := dk_seg dksX3_readLine_0 24 rfl rfl
theorem dksX3_readLine_2 : cX3_readLine.data.toList.drop 46 = dktX3_readLine_2 := dk_seg dksX3_readLine_1 22 rfl rfl
theorem dX3_readLine_0 : decode cX3_readLine 0 = .ok (.aload_n 0, 1) := dk_42 (dk_at dksX3_readLine_0 0 rfl rfl)
theorem dX3_readLine_1 : decode cX3_readLine 1 = .ok (.bipush 6, 2) := dk_16 6 (dk_at dksX3_readLine_0 1 rfl rfl)
theorem dX3_readLine_3 : decode cX3_readLine 3 = .ok (.invokevirtual 130, 3) := dk_182 0 130 (dk_at dksX3_readLine_0 3 rfl rfl)
theorem dX3_readLine_6 : decode cX3_readLine 6 = .ok (.ifCond .eq 8, 3) := dk_153 0 8 (dk_at dksX3_readLine_0 6 rfl rfl)
theorem dX3_readLine_9 : decode cX3_readLine 9 = .ok (.aload_n 0, 1) := dk_42 (dk_at dksX3_readLine_0 9 rfl rfl)
theorem dX3_readLine_10 : decode cX3_readLine 10 = .ok (.invokevirtual 177, 3) := dk_182 0 177 (dk_at dksX3_readLine_0 10 rfl rfl)
theorem dX3_readLine_13 : decode cX3_readLine 13 = .ok (.ireturn, 1) := dk_172 (dk_at dksX3_readLine_0 13 rfl rfl)
theorem dX3_readLine_14 : decode cX3_readLine 14 = .ok (.aload_n 0, 1) := dk_42 (dk_at dksX3_readLine_0 14 rfl rfl)
theorem dX3_readLine_15 : decode cX3_readLine 15 = .ok (.bipush 7, 2) := dk_16 7 (dk_at dksX3_readLine_0 15 rfl rfl)
theorem dX3_readLine_17 : decode cX3_readLine 17 = .ok (.invokevirtual 130, 3) := dk_182 0 130 (dk_at dksX3_readLine_0 17 rfl rfl)
theorem dX3_readLine_20 : decode cX3_readLine 20 = .ok (.ifCond .eq 8, 3) := dk_153 0 8 (dk_at dksX3_readLine_0 20 rfl rfl)
theorem dX3_readLine_23 : decode cX3_readLine 23 = .ok (.aload_n 0, 1) := dk_42 (dk_at dksX3_readLine_0 23 rfl rfl)
theorem dX3_readLine_24 : decode cX3_readLine 24 = .ok (.invokevirtual 180, 3) := dk_182 0 180 (dk_at dksX3_readLine_1 0 rfl rfl)
theorem dX3_readLine_27 : decode cX3_readLine 27 = .ok (.ireturn, 1) := dk_172 (dk_at dksX3_readLine_1 3 rfl rfl)
theorem dX3_readLine_28 : decode cX3_readLine 28 = .ok (.aload_n 0, 1) := dk_42 (dk_at dksX3_readLine_1 4 rfl rfl)
theorem dX3_readLine_29 : decode cX3_readLine 29 = .ok (.bipush 8, 2) := dk_16 8 (dk_at dksX3_readLine_1 5 rfl rfl)
theorem dX3_readLine_31 : decode cX3_readLine 31 = .ok (.invokevirtual 130, 3) := dk_182 0 130 (dk_at dksX3_readLine_1 7 rfl rfl)
theorem dX3_readLine_34 : decode cX3_readLine 34 = .ok (.ifCond .eq 10, 3) := dk_153 0 10 (dk_at dksX3_readLine_1 10 rfl rfl)
theorem dX3_readLine_37 : decode cX3_readLine 37 = .ok (.aload_n 0, 1) := dk_42 (dk_at dksX3_readLine_1 13 rfl rfl)
theorem dX3_readLine_38 : decode cX3_readLine 38 = .ok (.invokevirtual 183, 3) := dk_182 0 183 (dk_at dksX3_readLine_1 14 rfl rfl)
theorem dX3_readLine_41 : decode cX3_readLine 41 = .ok (.goto 8, 3) := dk_167 0 8 (dk_at dksX3_readLine_1 17 rfl rfl)
theorem dX3_readLine_44 : decode cX3_readLine 44 = .ok (.aload_n 0, 1) := dk_42 (dk_at dksX3_readLine_1 20 rfl rfl)
theorem dX3_readLine_45 : decode cX3_readLine 45 = .ok (.iconst 2, 1) := dk_5 (dk_at dksX3_readLine_1 21 rfl rfl)
theorem dX3_readLine_46 : decode cX3_readLine 46 = .ok (.invokevirtual 139, 3) := dk_182 0 139 (dk_at dksX3_readLine_2 0 rfl rfl)
theorem dX3_readLine_49 : decode cX3_readLine 49 = .ok (.ireturn, 1) := dk_172 (dk_at dksX3_readLine_2 3 rfl rfl)
abbrev cX3_isWord : ByteArray := prog_15_method_22_code
def yX3_isWord : MethodName := ⟨RX3, "isWord", "(I)Z"⟩
def dkwX3_isWord_1 : List UInt8 := [3, 172]
abbrev dktX3_isWord_1 : List UInt8 := dkwX3_isWord_1 ++ []
def dkwX3_isWord_0 : List UInt8 := [42, 180, 0, 99, 5, 160, 0, 19, 42, 180, 0, 106, 27, 184, 0, 126, 148, 154, 0, 7, 4, 167, 0, 4]
abbrev dktX3_isWord_0 : List UInt8 := dkwX3_isWord_0 ++ dktX3_isWord_1
theorem dksX3_isWord_0 : cX3_isWord.data.toList.drop 0 = dktX3_isWord_0 := by decide +kernel
theorem dksX3_isWord_1 : cX3_isWord.data.toList.drop 24 = dktX3_isWord_1 := dk_seg dksX3_isWord_0 24 rfl rfl
theorem dX3_isWord_0 : decode cX3_isWord 0 = .ok (.aload_n 0, 1) := dk_42 (dk_at dksX3_isWord_0 0 rfl rfl)
theorem dX3_isWord_1 : decode cX3_isWord 1 = .ok (.getfield 99, 3) := dk_180 0 99 (dk_at dksX3_isWord_0 1 rfl rfl)
theorem dX3_isWord_4 : decode cX3_isWord 4 = .ok (.iconst 2, 1) := dk_5 (dk_at dksX3_isWord_0 4 rfl rfl)
theorem dX3_isWord_5 : decode cX3_isWord 5 = .ok (.if_icmp .ne 19, 3) := dk_160 0 19 (dk_at dksX3_isWord_0 5 rfl rfl)
theorem dX3_isWord_8 : decode cX3_isWord 8 = .ok (.aload_n 0, 1) := dk_42 (dk_at dksX3_isWord_0 8 rfl rfl)
theorem dX3_isWord_9 : decode cX3_isWord 9 = .ok (.getfield 106, 3) := dk_180 0 106 (dk_at dksX3_isWord_0 9 rfl rfl)
theorem dX3_isWord_12 : decode cX3_isWord 12 = .ok (.iload_n 1, 1) := dk_27 (dk_at dksX3_isWord_0 12 rfl rfl)
theorem dX3_isWord_13 : decode cX3_isWord 13 = .ok (.invokestatic 126, 3) := dk_184 0 126 (dk_at dksX3_isWord_0 13 rfl rfl)
theorem dX3_isWord_16 : decode cX3_isWord 16 = .ok (.lcmp, 1) := dk_148 (dk_at dksX3_isWord_0 16 rfl rfl)
theorem dX3_isWord_17 : decode cX3_isWord 17 = .ok (.ifCond .ne 7, 3) := dk_154 0 7 (dk_at dksX3_isWord_0 17 rfl rfl)
theorem dX3_isWord_20 : decode cX3_isWord 20 = .ok (.iconst 1, 1) := dk_4 (dk_at dksX3_isWord_0 20 rfl rfl)
theorem dX3_isWord_21 : decode cX3_isWord 21 = .ok (.goto 4, 3) := dk_167 0 4 (dk_at dksX3_isWord_0 21 rfl rfl)
theorem dX3_isWord_24 : decode cX3_isWord 24 = .ok (.iconst 0, 1) := dk_3 (dk_at dksX3_isWord_1 0 rfl rfl)
theorem dX3_isWord_25 : decode cX3_isWord 25 = .ok (.ireturn, 1) := dk_172 (dk_at dksX3_isWord_1 1 rfl rfl)
abbrev cX3_wordOf : ByteArray := prog_15_method_21_code
def yX3_wordOf : MethodName := ⟨RX3, "wordOf", "(I)J"⟩
def dkwX3_wordOf_7 : List UInt8 := [16, 108, 16, 101, 3, 3, 184, 0, 122, 173, 16, 105, 16, 110, 3, 3, 3, 3, 184, 0, 122, 173]
abbrev dktX3_wordOf_7 : List UInt8 := dkwX3_wordOf_7 ++ []
def dkwX3_wordOf_6 : List UInt8 := [184, 0, 122, 173, 16, 104, 16, 111, 16, 117, 16, 115, 16, 101, 3, 184, 0, 122, 173, 16, 114, 16, 117]
abbrev dktX3_wordOf_6 : List UInt8 := dkwX3_wordOf_6 ++ dktX3_wordOf_7
def dkwX3_wordOf_5 : List UInt8 := [16, 98, 16, 105, 16, 100, 16, 115, 3, 3, 184, 0, 122, 173, 16, 104, 16, 111, 16, 109, 16, 101, 3, 3]
abbrev dktX3_wordOf_5 : List UInt8 := dkwX3_wordOf_5 ++ dktX3_wordOf_6
def dkwX3_wordOf_4 : List UInt8 := [16, 111, 16, 116, 16, 97, 3, 184, 0, 122, 173, 16, 97, 16, 103, 16, 101, 3, 3, 3, 184, 0, 122, 173]
abbrev dktX3_wordOf_4 : List UInt8 := dkwX3_wordOf_4 ++ dktX3_wordOf_5
def dkwX3_wordOf_3 : List UInt8 := [3, 184, 0, 122, 173, 16, 108, 16, 111, 16, 99, 16, 97, 16, 108, 3, 184, 0, 122, 173, 16, 113, 16, 117]
abbrev dktX3_wordOf_3 : List UInt8 := dkwX3_wordOf_3 ++ dktX3_wordOf_4
def dkwX3_wordOf_2 : List UInt8 := [16, 114, 16, 101, 16, 102, 16, 117, 16, 115, 16, 101, 184, 0, 122, 173, 16, 98, 16, 97, 16, 114, 3, 3]
abbrev dktX3_wordOf_2 : List UInt8 := dkwX3_wordOf_2 ++ dktX3_wordOf_3
def dkwX3_wordOf_1 : List UInt8 := [170, 0, 0, 0, 0, 0, 180, 0, 0, 0, 0, 0, 0, 0, 8, 0, 0, 0, 51, 0, 0, 0, 67, 0, 0, 0, 80, 0, 0, 0, 95, 0, 0, 0, 110, 0, 0, 0, 123, 0, 0, 0, 137, 0, 0, 0, 151, 0, 0, 0, 166]
abbrev dktX3_wordOf_1 : List UInt8 := dkwX3_wordOf_1 ++ dktX3_wordOf_2
def dkwX3_wordOf_0 : List UInt8 := [26]
abbrev dktX3_wordOf_0 : List UInt8 := dkwX3_wordOf_0 ++ dktX3_wordOf_1
theorem dksX3_wordOf_0 : cX3_wordOf.data.toList.drop 0 = dktX3_wordOf_0 := by decide +kernel
theorem dksX3_wordOf_1 : cX3_wordOf.data.toList.drop 1 = dktX3_wordOf_1 := dk_seg dksX3_wordOf_0 1 rfl rfl
theorem dksX3_wordOf_2 : cX3_wordOf.data.toList.drop 52 = dktX3_wordOf_2 := dk_seg dksX3_wordOf_1 51 rfl rfl
theorem dksX3_wordOf_3 : cX3_wordOf.data.toList.drop 76 = dktX3_wordOf_3 := dk_seg dksX3_wordOf_2 24 rfl rfl
theorem dksX3_wordOf_4 : cX3_wordOf.data.toList.drop 100 = dktX3_wordOf_4 := dk_seg dksX3_wordOf_3 24 rfl rfl
theorem dksX3_wordOf_5 : cX3_wordOf.data.toList.drop 124 = dktX3_wordOf_5 := dk_seg dksX3_wordOf_4 24 rfl rfl
theorem dksX3_wordOf_6 : cX3_wordOf.data.toList.drop 148 = dktX3_wordOf_6 := dk_seg dksX3_wordOf_5 24 rfl rfl
theorem dksX3_wordOf_7 : cX3_wordOf.data.toList.drop 171 = dktX3_wordOf_7 := dk_seg dksX3_wordOf_6 23 rfl rfl
theorem dX3_wordOf_0 : decode cX3_wordOf 0 = .ok (.iload_n 0, 1) := dk_26 (dk_at dksX3_wordOf_0 0 rfl rfl)
theorem dX3_wordOf_1 : decode cX3_wordOf 1 = .ok (.tableswitch 180 0 8 #[51, 67, 80, 95, 110, 123, 137, 151, 166], 51) := by decide +kernel
theorem dX3_wordOf_52 : decode cX3_wordOf 52 = .ok (.bipush 114, 2) := dk_16 114 (dk_at dksX3_wordOf_2 0 rfl rfl)
theorem dX3_wordOf_54 : decode cX3_wordOf 54 = .ok (.bipush 101, 2) := dk_16 101 (dk_at dksX3_wordOf_2 2 rfl rfl)
theorem dX3_wordOf_56 : decode cX3_wordOf 56 = .ok (.bipush 102, 2) := dk_16 102 (dk_at dksX3_wordOf_2 4 rfl rfl)
theorem dX3_wordOf_58 : decode cX3_wordOf 58 = .ok (.bipush 117, 2) := dk_16 117 (dk_at dksX3_wordOf_2 6 rfl rfl)
theorem dX3_wordOf_60 : decode cX3_wordOf 60 = .ok (.bipush 115, 2) := dk_16 115 (dk_at dksX3_wordOf_2 8 rfl rfl)
theorem dX3_wordOf_62 : decode cX3_wordOf 62 = .ok (.bipush 101, 2) := dk_16 101 (dk_at dksX3_wordOf_2 10 rfl rfl)
theorem dX3_wordOf_64 : decode cX3_wordOf 64 = .ok (.invokestatic 122, 3) := dk_184 0 122 (dk_at dksX3_wordOf_2 12 rfl rfl)
theorem dX3_wordOf_67 : decode cX3_wordOf 67 = .ok (.lreturn, 1) := dk_173 (dk_at dksX3_wordOf_2 15 rfl rfl)
theorem dX3_wordOf_68 : decode cX3_wordOf 68 = .ok (.bipush 98, 2) := dk_16 98 (dk_at dksX3_wordOf_2 16 rfl rfl)
theorem dX3_wordOf_70 : decode cX3_wordOf 70 = .ok (.bipush 97, 2) := dk_16 97 (dk_at dksX3_wordOf_2 18 rfl rfl)
theorem dX3_wordOf_72 : decode cX3_wordOf 72 = .ok (.bipush 114, 2) := dk_16 114 (dk_at dksX3_wordOf_2 20 rfl rfl)
theorem dX3_wordOf_74 : decode cX3_wordOf 74 = .ok (.iconst 0, 1) := dk_3 (dk_at dksX3_wordOf_2 22 rfl rfl)
theorem dX3_wordOf_75 : decode cX3_wordOf 75 = .ok (.iconst 0, 1) := dk_3 (dk_at dksX3_wordOf_2 23 rfl rfl)
theorem dX3_wordOf_76 : decode cX3_wordOf 76 = .ok (.iconst 0, 1) := dk_3 (dk_at dksX3_wordOf_3 0 rfl rfl)
theorem dX3_wordOf_77 : decode cX3_wordOf 77 = .ok (.invokestatic 122, 3) := dk_184 0 122 (dk_at dksX3_wordOf_3 1 rfl rfl)
theorem dX3_wordOf_80 : decode cX3_wordOf 80 = .ok (.lreturn, 1) := dk_173 (dk_at dksX3_wordOf_3 4 rfl rfl)
theorem dX3_wordOf_81 : decode cX3_wordOf 81 = .ok (.bipush 108, 2) := dk_16 108 (dk_at dksX3_wordOf_3 5 rfl rfl)
theorem dX3_wordOf_83 : decode cX3_wordOf 83 = .ok (.bipush 111, 2) := dk_16 111 (dk_at dksX3_wordOf_3 7 rfl rfl)
theorem dX3_wordOf_85 : decode cX3_wordOf 85 = .ok (.bipush 99, 2) := dk_16 99 (dk_at dksX3_wordOf_3 9 rfl rfl)
theorem dX3_wordOf_87 : decode cX3_wordOf 87 = .ok (.bipush 97, 2) := dk_16 97 (dk_at dksX3_wordOf_3 11 rfl rfl)
theorem dX3_wordOf_89 : decode cX3_wordOf 89 = .ok (.bipush 108, 2) := dk_16 108 (dk_at dksX3_wordOf_3 13 rfl rfl)
theorem dX3_wordOf_91 : decode cX3_wordOf 91 = .ok (.iconst 0, 1) := dk_3 (dk_at dksX3_wordOf_3 15 rfl rfl)
theorem dX3_wordOf_92 : decode cX3_wordOf 92 = .ok (.invokestatic 122, 3) := dk_184 0 122 (dk_at dksX3_wordOf_3 16 rfl rfl)
theorem dX3_wordOf_95 : decode cX3_wordOf 95 = .ok (.lreturn, 1) := dk_173 (dk_at dksX3_wordOf_3 19 rfl rfl)
theorem dX3_wordOf_96 : decode cX3_wordOf 96 = .ok (.bipush 113, 2) := dk_16 113 (dk_at dksX3_wordOf_3 20 rfl rfl)
theorem dX3_wordOf_98 : decode cX3_wordOf 98 = .ok (.bipush 117, 2) := dk_16 117 (dk_at dksX3_wordOf_3 22 rfl rfl)
theorem dX3_wordOf_100 : decode cX3_wordOf 100 = .ok (.bipush 111, 2) := dk_16 111 (dk_at dksX3_wordOf_4 0 rfl rfl)
theorem dX3_wordOf_102 : decode cX3_wordOf 102 = .ok (.bipush 116, 2) := dk_16 116 (dk_at dksX3_wordOf_4 2 rfl rfl)
theorem dX3_wordOf_104 : decode cX3_wordOf 104 = .ok (.bipush 97, 2) := dk_16 97 (dk_at dksX3_wordOf_4 4 rfl rfl)
theorem dX3_wordOf_106 : decode cX3_wordOf 106 = .ok (.iconst 0, 1) := dk_3 (dk_at dksX3_wordOf_4 6 rfl rfl)
theorem dX3_wordOf_107 : decode cX3_wordOf 107 = .ok (.invokestatic 122, 3) := dk_184 0 122 (dk_at dksX3_wordOf_4 7 rfl rfl)
theorem dX3_wordOf_110 : decode cX3_wordOf 110 = .ok (.lreturn, 1) := dk_173 (dk_at dksX3_wordOf_4 10 rfl rfl)
theorem dX3_wordOf_111 : decode cX3_wordOf 111 = .ok (.bipush 97, 2) := dk_16 97 (dk_at dksX3_wordOf_4 11 rfl rfl)
theorem dX3_wordOf_113 : decode cX3_wordOf 113 = .ok (.bipush 103, 2) := dk_16 103 (dk_at dksX3_wordOf_4 13 rfl rfl)
theorem dX3_wordOf_115 : decode cX3_wordOf 115 = .ok (.bipush 101, 2) := dk_16 101 (dk_at dksX3_wordOf_4 15 rfl rfl)
theorem dX3_wordOf_117 : decode cX3_wordOf 117 = .ok (.iconst 0, 1) := dk_3 (dk_at dksX3_wordOf_4 17 rfl rfl)
theorem dX3_wordOf_118 : decode cX3_wordOf 118 = .ok (.iconst 0, 1) := dk_3 (dk_at dksX3_wordOf_4 18 rfl rfl)
theorem dX3_wordOf_119 : decode cX3_wordOf 119 = .ok (.iconst 0, 1) := dk_3 (dk_at dksX3_wordOf_4 19 rfl rfl)
theorem dX3_wordOf_120 : decode cX3_wordOf 120 = .ok (.invokestatic 122, 3) := dk_184 0 122 (dk_at dksX3_wordOf_4 20 rfl rfl)
theorem dX3_wordOf_123 : decode cX3_wordOf 123 = .ok (.lreturn, 1) := dk_173 (dk_at dksX3_wordOf_4 23 rfl rfl)
theorem dX3_wordOf_124 : decode cX3_wordOf 124 = .ok (.bipush 98, 2) := dk_16 98 (dk_at dksX3_wordOf_5 0 rfl rfl)
theorem dX3_wordOf_126 : decode cX3_wordOf 126 = .ok (.bipush 105, 2) := dk_16 105 (dk_at dksX3_wordOf_5 2 rfl rfl)
theorem dX3_wordOf_128 : decode cX3_wordOf 128 = .ok (.bipush 100, 2) := dk_16 100 (dk_at dksX3_wordOf_5 4 rfl rfl)
theorem dX3_wordOf_130 : decode cX3_wordOf 130 = .ok (.bipush 115, 2) := dk_16 115 (dk_at dksX3_wordOf_5 6 rfl rfl)
theorem dX3_wordOf_132 : decode cX3_wordOf 132 = .ok (.iconst 0, 1) := dk_3 (dk_at dksX3_wordOf_5 8 rfl rfl)
theorem dX3_wordOf_133 : decode cX3_wordOf 133 = .ok (.iconst 0, 1) := dk_3 (dk_at dksX3_wordOf_5 9 rfl rfl)
theorem dX3_wordOf_134 : decode cX3_wordOf 134 = .ok (.invokestatic 122, 3) := dk_184 0 122 (dk_at dksX3_wordOf_5 10 rfl rfl)
theorem dX3_wordOf_137 : decode cX3_wordOf 137 = .ok (.lreturn, 1) := dk_173 (dk_at dksX3_wordOf_5 13 rfl rfl)
theorem dX3_wordOf_138 : decode cX3_wordOf 138 = .ok (.bipush 104, 2) := dk_16 104 (dk_at dksX3_wordOf_5 14 rfl rfl)
theorem dX3_wordOf_140 : decode cX3_wordOf 140 = .ok (.bipush 111, 2) := dk_16 111 (dk_at dksX3_wordOf_5 16 rfl rfl)
theorem dX3_wordOf_142 : decode cX3_wordOf 142 = .ok (.bipush 109, 2) := dk_16 109 (dk_at dksX3_wordOf_5 18 rfl rfl)
theorem dX3_wordOf_144 : decode cX3_wordOf 144 = .ok (.bipush 101, 2) := dk_16 101 (dk_at dksX3_wordOf_5 20 rfl rfl)
theorem dX3_wordOf_146 : decode cX3_wordOf 146 = .ok (.iconst 0, 1) := dk_3 (dk_at dksX3_wordOf_5 22 rfl rfl)
theorem dX3_wordOf_147 : decode cX3_wordOf 147 = .ok (.iconst 0, 1) := dk_3 (dk_at dksX3_wordOf_5 23 rfl rfl)
theorem dX3_wordOf_148 : decode cX3_wordOf 148 = .ok (.invokestatic 122, 3) := dk_184 0 122 (dk_at dksX3_wordOf_6 0 rfl rfl)
theorem dX3_wordOf_151 : decode cX3_wordOf 151 = .ok (.lreturn, 1) := dk_173 (dk_at dksX3_wordOf_6 3 rfl rfl)
theorem dX3_wordOf_152 : decode cX3_wordOf 152 = .ok (.bipush 104, 2) := dk_16 104 (dk_at dksX3_wordOf_6 4 rfl rfl)
theorem dX3_wordOf_154 : decode cX3_wordOf 154 = .ok (.bipush 111, 2) := dk_16 111 (dk_at dksX3_wordOf_6 6 rfl rfl)
theorem dX3_wordOf_156 : decode cX3_wordOf 156 = .ok (.bipush 117, 2) := dk_16 117 (dk_at dksX3_wordOf_6 8 rfl rfl)
theorem dX3_wordOf_158 : decode cX3_wordOf 158 = .ok (.bipush 115, 2) := dk_16 115 (dk_at dksX3_wordOf_6 10 rfl rfl)
theorem dX3_wordOf_160 : decode cX3_wordOf 160 = .ok (.bipush 101, 2) := dk_16 101 (dk_at dksX3_wordOf_6 12 rfl rfl)
theorem dX3_wordOf_162 : decode cX3_wordOf 162 = .ok (.iconst 0, 1) := dk_3 (dk_at dksX3_wordOf_6 14 rfl rfl)
theorem dX3_wordOf_163 : decode cX3_wordOf 163 = .ok (.invokestatic 122, 3) := dk_184 0 122 (dk_at dksX3_wordOf_6 15 rfl rfl)
theorem dX3_wordOf_166 : decode cX3_wordOf 166 = .ok (.lreturn, 1) := dk_173 (dk_at dksX3_wordOf_6 18 rfl rfl)
theorem dX3_wordOf_167 : decode cX3_wordOf 167 = .ok (.bipush 114, 2) := dk_16 114 (dk_at dksX3_wordOf_6 19 rfl rfl)
theorem dX3_wordOf_169 : decode cX3_wordOf 169 = .ok (.bipush 117, 2) := dk_16 117 (dk_at dksX3_wordOf_6 21 rfl rfl)
theorem dX3_wordOf_171 : decode cX3_wordOf 171 = .ok (.bipush 108, 2) := dk_16 108 (dk_at dksX3_wordOf_7 0 rfl rfl)
theorem dX3_wordOf_173 : decode cX3_wordOf 173 = .ok (.bipush 101, 2) := dk_16 101 (dk_at dksX3_wordOf_7 2 rfl rfl)
theorem dX3_wordOf_175 : decode cX3_wordOf 175 = .ok (.iconst 0, 1) := dk_3 (dk_at dksX3_wordOf_7 4 rfl rfl)
theorem dX3_wordOf_176 : decode cX3_wordOf 176 = .ok (.iconst 0, 1) := dk_3 (dk_at dksX3_wordOf_7 5 rfl rfl)
theorem dX3_wordOf_177 : decode cX3_wordOf 177 = .ok (.invokestatic 122, 3) := dk_184 0 122 (dk_at dksX3_wordOf_7 6 rfl rfl)
theorem dX3_wordOf_180 : decode cX3_wordOf 180 = .ok (.lreturn, 1) := dk_173 (dk_at dksX3_wordOf_7 9 rfl rfl)
theorem dX3_wordOf_181 : decode cX3_wordOf 181 = .ok (.bipush 105, 2) := dk_16 105 (dk_at dksX3_wordOf_7 10 rfl rfl)
theorem dX3_wordOf_183 : decode cX3_wordOf 183 = .ok (.bipush 110, 2) := dk_16 110 (dk_at dksX3_wordOf_7 12 rfl rfl)
theorem dX3_wordOf_185 : decode cX3_wordOf 185 = .ok (.iconst 0, 1) := dk_3 (dk_at dksX3_wordOf_7 14 rfl rfl)
theorem dX3_wordOf_186 : decode cX3_wordOf 186 = .ok (.iconst 0, 1) := dk_3 (dk_at dksX3_wordOf_7 15 rfl rfl)
theorem dX3_wordOf_187 : decode cX3_wordOf 187 = .ok (.iconst 0, 1) := dk_3 (dk_at dksX3_wordOf_7 16 rfl rfl)
theorem dX3_wordOf_188 : decode cX3_wordOf 188 = .ok (.iconst 0, 1) := dk_3 (dk_at dksX3_wordOf_7 17 rfl rfl)
theorem dX3_wordOf_189 : decode cX3_wordOf 189 = .ok (.invokestatic 122, 3) := dk_184 0 122 (dk_at dksX3_wordOf_7 18 rfl rfl)
theorem dX3_wordOf_192 : decode cX3_wordOf 192 = .ok (.lreturn, 1) := dk_173 (dk_at dksX3_wordOf_7 21 rfl rfl)
abbrev cX3_spelt : ByteArray := prog_15_method_20_code
def yX3_spelt : MethodName := ⟨RX3, "spelt", "(IIIIII)J"⟩
def dkwX3_spelt_1 : List UInt8 := [184, 0, 118, 173]
abbrev dktX3_spelt_1 : List UInt8 := dkwX3_spelt_1 ++ []
def dkwX3_spelt_0 : List UInt8 := [9, 26, 184, 0, 118, 27, 184, 0, 118, 28, 184, 0, 118, 29, 184, 0, 118, 21, 4, 184, 0, 118, 21, 5]
abbrev dktX3_spelt_0 : List UInt8 := dkwX3_spelt_0 ++ dktX3_spelt_1
theorem dksX3_spelt_0 : cX3_spelt.data.toList.drop 0 = dktX3_spelt_0 := by decide +kernel
theorem dksX3_spelt_1 : cX3_spelt.data.toList.drop 24 = dktX3_spelt_1 := dk_seg dksX3_spelt_0 24 rfl rfl
theorem dX3_spelt_0 : decode cX3_spelt 0 = .ok (.lconst 0, 1) := dk_9 (dk_at dksX3_spelt_0 0 rfl rfl)
theorem dX3_spelt_1 : decode cX3_spelt 1 = .ok (.iload_n 0, 1) := dk_26 (dk_at dksX3_spelt_0 1 rfl rfl)
theorem dX3_spelt_2 : decode cX3_spelt 2 = .ok (.invokestatic 118, 3) := dk_184 0 118 (dk_at dksX3_spelt_0 2 rfl rfl)
theorem dX3_spelt_5 : decode cX3_spelt 5 = .ok (.iload_n 1, 1) := dk_27 (dk_at dksX3_spelt_0 5 rfl rfl)
theorem dX3_spelt_6 : decode cX3_spelt 6 = .ok (.invokestatic 118, 3) := dk_184 0 118 (dk_at dksX3_spelt_0 6 rfl rfl)
theorem dX3_spelt_9 : decode cX3_spelt 9 = .ok (.iload_n 2, 1) := dk_28 (dk_at dksX3_spelt_0 9 rfl rfl)
theorem dX3_spelt_10 : decode cX3_spelt 10 = .ok (.invokestatic 118, 3) := dk_184 0 118 (dk_at dksX3_spelt_0 10 rfl rfl)
theorem dX3_spelt_13 : decode cX3_spelt 13 = .ok (.iload_n 3, 1) := dk_29 (dk_at dksX3_spelt_0 13 rfl rfl)
theorem dX3_spelt_14 : decode cX3_spelt 14 = .ok (.invokestatic 118, 3) := dk_184 0 118 (dk_at dksX3_spelt_0 14 rfl rfl)
theorem dX3_spelt_17 : decode cX3_spelt 17 = .ok (.iload 4, 2) := dk_21 4 (dk_at dksX3_spelt_0 17 rfl rfl)
theorem dX3_spelt_19 : decode cX3_spelt 19 = .ok (.invokestatic 118, 3) := dk_184 0 118 (dk_at dksX3_spelt_0 19 rfl rfl)
theorem dX3_spelt_22 : decode cX3_spelt 22 = .ok (.iload 5, 2) := dk_21 5 (dk_at dksX3_spelt_0 22 rfl rfl)
theorem dX3_spelt_24 : decode cX3_spelt 24 = .ok (.invokestatic 118, 3) := dk_184 0 118 (dk_at dksX3_spelt_1 0 rfl rfl)
theorem dX3_spelt_27 : decode cX3_spelt 27 = .ok (.lreturn, 1) := dk_173 (dk_at dksX3_spelt_1 3 rfl rfl)
abbrev cX3_joined : ByteArray := prog_15_method_19_code
def yX3_joined : MethodName := ⟨RX3, "joined", "(JI)J"⟩
def dkwX3_joined_0 : List UInt8 := [28, 154, 0, 7, 30, 167, 0, 13, 30, 8, 121, 28, 133, 20, 0, 110, 101, 129, 173]
abbrev dktX3_joined_0 : List UInt8 := dkwX3_joined_0 ++ []
theorem dksX3_joined_0 : cX3_joined.data.toList.drop 0 = dktX3_joined_0 := by decide +kernel
theorem dX3_joined_0 : decode cX3_joined 0 = .ok (.iload_n 2, 1) := dk_28 (dk_at dksX3_joined_0 0 rfl rfl)
theorem dX3_joined_1 : decode cX3_joined 1 = .ok (.ifCond .ne 7, 3) := dk_154 0 7 (dk_at dksX3_joined_0 1 rfl rfl)
theorem dX3_joined_4 : decode cX3_joined 4 = .ok (.lload_n 0, 1) := dk_30 (dk_at dksX3_joined_0 4 rfl rfl)
theorem dX3_joined_5 : decode cX3_joined 5 = .ok (.goto 13, 3) := dk_167 0 13 (dk_at dksX3_joined_0 5 rfl rfl)
theorem dX3_joined_8 : decode cX3_joined 8 = .ok (.lload_n 0, 1) := dk_30 (dk_at dksX3_joined_0 8 rfl rfl)
theorem dX3_joined_9 : decode cX3_joined 9 = .ok (.iconst 5, 1) := dk_8 (dk_at dksX3_joined_0 9 rfl rfl)
theorem dX3_joined_10 : decode cX3_joined 10 = .ok (.lshl, 1) := dk_121 (dk_at dksX3_joined_0 10 rfl rfl)
theorem dX3_joined_11 : decode cX3_joined 11 = .ok (.iload_n 2, 1) := dk_28 (dk_at dksX3_joined_0 11 rfl rfl)
theorem dX3_joined_12 : decode cX3_joined 12 = .ok (.i2l, 1) := dk_133 (dk_at dksX3_joined_0 12 rfl rfl)
theorem dX3_joined_13 : decode cX3_joined 13 = .ok (.ldc2_w 110, 3) := dk_20 0 110 (dk_at dksX3_joined_0 13 rfl rfl)
theorem dX3_joined_16 : decode cX3_joined 16 = .ok (.lsub, 1) := dk_101 (dk_at dksX3_joined_0 16 rfl rfl)
theorem dX3_joined_17 : decode cX3_joined 17 = .ok (.lor, 1) := dk_129 (dk_at dksX3_joined_0 17 rfl rfl)
theorem dX3_joined_18 : decode cX3_joined 18 = .ok (.lreturn, 1) := dk_173 (dk_at dksX3_joined_0 18 rfl rfl)
abbrev cX3_readHome : ByteArray := prog_15_method_30_code
def yX3_readHome : MethodName := ⟨RX3, "readHome", "()Z"⟩
def dkwX3_readHome_4 : List UInt8 := [172]
abbrev dktX3_readHome_4 : List UInt8 := dkwX3_readHome_4 ++ []
def dkwX3_readHome_3 : List UInt8 := [180, 0, 13, 28, 5, 96, 2, 79, 42, 180, 0, 13, 17, 0, 230, 92, 46, 4, 96, 79, 42, 182, 0, 162]
abbrev dktX3_readHome_3 : List UInt8 := dkwX3_readHome_3 ++ dktX3_readHome_4
def dkwX3_readHome_2 : List UInt8 := [182, 0, 159, 153, 0, 16, 42, 28, 4, 96, 3, 16, 7, 182, 0, 159, 154, 0, 5, 3, 172, 42]
abbrev dktX3_readHome_2 : List UInt8 := dkwX3_readHome_2 ++ dktX3_readHome_3
def dkwX3_readHome_1 : List UInt8 := [182, 0, 142, 16, 8, 27, 104, 61, 42, 27, 182, 0, 156, 153, 0, 28, 42, 28, 3, 96, 4, 7]
abbrev dktX3_readHome_1 : List UInt8 := dkwX3_readHome_1 ++ dktX3_readHome_2
def dkwX3_readHome_0 : List UInt8 := [42, 180, 0, 13, 17, 0, 230, 46, 60, 27, 16, 10, 160, 0, 9, 42, 8, 182, 0, 139, 172, 42]
abbrev dktX3_readHome_0 : List UInt8 := dkwX3_readHome_0 ++ dktX3_readHome_1
theorem dksX3_readHome_0 : cX3_readHome.data.toList.drop 0 = dktX3_readHome_0 := by decide +kernel
theorem dksX3_readHome_1 : cX3_readHome.data.toList.drop 22 = dktX3_readHome_1 := dk_seg dksX3_readHome_0 22 rfl rfl
theorem dksX3_readHome_2 : cX3_readHome.data.toList.drop 44 = dktX3_readHome_2 := dk_seg dksX3_readHome_1 22 rfl rfl
theorem dksX3_readHome_3 : cX3_readHome.data.toList.drop 66 = dktX3_readHome_3 := dk_seg dksX3_readHome_2 22 rfl rfl
theorem dksX3_readHome_4 : cX3_readHome.data.toList.drop 90 = dktX3_readHome_4 := dk_seg dksX3_readHome_3 24 rfl rfl
theorem dX3_readHome_0 : decode cX3_readHome 0 = .ok (.aload_n 0, 1) := dk_42 (dk_at dksX3_readHome_0 0 rfl rfl)
theorem dX3_readHome_1 : decode cX3_readHome 1 = .ok (.getfield 13, 3) := dk_180 0 13 (dk_at dksX3_readHome_0 1 rfl rfl)
theorem dX3_readHome_4 : decode cX3_readHome 4 = .ok (.sipush 230, 3) := dk_17 0 230 (dk_at dksX3_readHome_0 4 rfl rfl)
theorem dX3_readHome_7 : decode cX3_readHome 7 = .ok (.iaload, 1) := dk_46 (dk_at dksX3_readHome_0 7 rfl rfl)
theorem dX3_readHome_8 : decode cX3_readHome 8 = .ok (.istore_n 1, 1) := dk_60 (dk_at dksX3_readHome_0 8 rfl rfl)
theorem dX3_readHome_9 : decode cX3_readHome 9 = .ok (.iload_n 1, 1) := dk_27 (dk_at dksX3_readHome_0 9 rfl rfl)
theorem dX3_readHome_10 : decode cX3_readHome 10 = .ok (.bipush 10, 2) := dk_16 10 (dk_at dksX3_readHome_0 10 rfl rfl)
theorem dX3_readHome_12 : decode cX3_readHome 12 = .ok (.if_icmp .ne 9, 3) := dk_160 0 9 (dk_at dksX3_readHome_0 12 rfl rfl)
theorem dX3_readHome_15 : decode cX3_readHome 15 = .ok (.aload_n 0, 1) := dk_42 (dk_at dksX3_readHome_0 15 rfl rfl)
theorem dX3_readHome_16 : decode cX3_readHome 16 = .ok (.iconst 5, 1) := dk_8 (dk_at dksX3_readHome_0 16 rfl rfl)
theorem dX3_readHome_17 : decode cX3_readHome 17 = .ok (.invokevirtual 139, 3) := dk_182 0 139 (dk_at dksX3_readHome_0 17 rfl rfl)
theorem dX3_readHome_20 : decode cX3_readHome 20 = .ok (.ireturn, 1) := dk_172 (dk_at dksX3_readHome_0 20 rfl rfl)
theorem dX3_readHome_21 : decode cX3_readHome 21 = .ok (.aload_n 0, 1) := dk_42 (dk_at dksX3_readHome_0 21 rfl rfl)
theorem dX3_readHome_22 : decode cX3_readHome 22 = .ok (.invokevirtual 142, 3) := dk_182 0 142 (dk_at dksX3_readHome_1 0 rfl rfl)
theorem dX3_readHome_25 : decode cX3_readHome 25 = .ok (.bipush 8, 2) := dk_16 8 (dk_at dksX3_readHome_1 3 rfl rfl)
theorem dX3_readHome_27 : decode cX3_readHome 27 = .ok (.iload_n 1, 1) := dk_27 (dk_at dksX3_readHome_1 5 rfl rfl)
theorem dX3_readHome_28 : decode cX3_readHome 28 = .ok (.imul, 1) := dk_104 (dk_at dksX3_readHome_1 6 rfl rfl)
theorem dX3_readHome_29 : decode cX3_readHome 29 = .ok (.istore_n 2, 1) := dk_61 (dk_at dksX3_readHome_1 7 rfl rfl)
theorem dX3_readHome_30 : decode cX3_readHome 30 = .ok (.aload_n 0, 1) := dk_42 (dk_at dksX3_readHome_1 8 rfl rfl)
theorem dX3_readHome_31 : decode cX3_readHome 31 = .ok (.iload_n 1, 1) := dk_27 (dk_at dksX3_readHome_1 9 rfl rfl)
theorem dX3_readHome_32 : decode cX3_readHome 32 = .ok (.invokevirtual 156, 3) := dk_182 0 156 (dk_at dksX3_readHome_1 10 rfl rfl)
theorem dX3_readHome_35 : decode cX3_readHome 35 = .ok (.ifCond .eq 28, 3) := dk_153 0 28 (dk_at dksX3_readHome_1 13 rfl rfl)
theorem dX3_readHome_38 : decode cX3_readHome 38 = .ok (.aload_n 0, 1) := dk_42 (dk_at dksX3_readHome_1 16 rfl rfl)
theorem dX3_readHome_39 : decode cX3_readHome 39 = .ok (.iload_n 2, 1) := dk_28 (dk_at dksX3_readHome_1 17 rfl rfl)
theorem dX3_readHome_40 : decode cX3_readHome 40 = .ok (.iconst 0, 1) := dk_3 (dk_at dksX3_readHome_1 18 rfl rfl)
theorem dX3_readHome_41 : decode cX3_readHome 41 = .ok (.iadd, 1) := dk_96 (dk_at dksX3_readHome_1 19 rfl rfl)
theorem dX3_readHome_42 : decode cX3_readHome 42 = .ok (.iconst 1, 1) := dk_4 (dk_at dksX3_readHome_1 20 rfl rfl)
theorem dX3_readHome_43 : decode cX3_readHome 43 = .ok (.iconst 4, 1) := dk_7 (dk_at dksX3_readHome_1 21 rfl rfl)
theorem dX3_readHome_44 : decode cX3_readHome 44 = .ok (.invokevirtual 159, 3) := dk_182 0 159 (dk_at dksX3_readHome_2 0 rfl rfl)
theorem dX3_readHome_47 : decode cX3_readHome 47 = .ok (.ifCond .eq 16, 3) := dk_153 0 16 (dk_at dksX3_readHome_2 3 rfl rfl)
theorem dX3_readHome_50 : decode cX3_readHome 50 = .ok (.aload_n 0, 1) := dk_42 (dk_at dksX3_readHome_2 6 rfl rfl)
theorem dX3_readHome_51 : decode cX3_readHome 51 = .ok (.iload_n 2, 1) := dk_28 (dk_at dksX3_readHome_2 7 rfl rfl)
theorem dX3_readHome_52 : decode cX3_readHome 52 = .ok (.iconst 1, 1) := dk_4 (dk_at dksX3_readHome_2 8 rfl rfl)
theorem dX3_readHome_53 : decode cX3_readHome 53 = .ok (.iadd, 1) := dk_96 (dk_at dksX3_readHome_2 9 rfl rfl)
theorem dX3_readHome_54 : decode cX3_readHome 54 = .ok (.iconst 0, 1) := dk_3 (dk_at dksX3_readHome_2 10 rfl rfl)
theorem dX3_readHome_55 : decode cX3_readHome 55 = .ok (.bipush 7, 2) := dk_16 7 (dk_at dksX3_readHome_2 11 rfl rfl)
theorem dX3_readHome_57 : decode cX3_readHome 57 = .ok (.invokevirtual 159, 3) := dk_182 0 159 (dk_at dksX3_readHome_2 13 rfl rfl)
theorem dX3_readHome_60 : decode cX3_readHome 60 = .ok (.ifCond .ne 5, 3) := dk_154 0 5 (dk_at dksX3_readHome_2 16 rfl rfl)
theorem dX3_readHome_63 : decode cX3_readHome 63 = .ok (.iconst 0, 1) := dk_3 (dk_at dksX3_readHome_2 19 rfl rfl)
theorem dX3_readHome_64 : decode cX3_readHome 64 = .ok (.ireturn, 1) := dk_172 (dk_at dksX3_readHome_2 20 rfl rfl)
theorem dX3_readHome_65 : decode cX3_readHome 65 = .ok (.aload_n 0, 1) := dk_42 (dk_at dksX3_readHome_2 21 rfl rfl)
theorem dX3_readHome_66 : decode cX3_readHome 66 = .ok (.getfield 13, 3) := dk_180 0 13 (dk_at dksX3_readHome_3 0 rfl rfl)
theorem dX3_readHome_69 : decode cX3_readHome 69 = .ok (.iload_n 2, 1) := dk_28 (dk_at dksX3_readHome_3 3 rfl rfl)
theorem dX3_readHome_70 : decode cX3_readHome 70 = .ok (.iconst 2, 1) := dk_5 (dk_at dksX3_readHome_3 4 rfl rfl)
theorem dX3_readHome_71 : decode cX3_readHome 71 = .ok (.iadd, 1) := dk_96 (dk_at dksX3_readHome_3 5 rfl rfl)
theorem dX3_readHome_72 : decode cX3_readHome 72 = .ok (.iconst (-1), 1) := dk_2 (dk_at dksX3_readHome_3 6 rfl rfl)
theorem dX3_readHome_73 : decode cX3_readHome 73 = .ok (.iastore, 1) := dk_79 (dk_at dksX3_readHome_3 7 rfl rfl)
theorem dX3_readHome_74 : decode cX3_readHome 74 = .ok (.aload_n 0, 1) := dk_42 (dk_at dksX3_readHome_3 8 rfl rfl)
theorem dX3_readHome_75 : decode cX3_readHome 75 = .ok (.getfield 13, 3) := dk_180 0 13 (dk_at dksX3_readHome_3 9 rfl rfl)
theorem dX3_readHome_78 : decode cX3_readHome 78 = .ok (.sipush 230, 3) := dk_17 0 230 (dk_at dksX3_readHome_3 12 rfl rfl)
theorem dX3_readHome_81 : decode cX3_readHome 81 = .ok (.dup2, 1) := dk_92 (dk_at dksX3_readHome_3 15 rfl rfl)
theorem dX3_readHome_82 : decode cX3_readHome 82 = .ok (.iaload, 1) := dk_46 (dk_at dksX3_readHome_3 16 rfl rfl)
theorem dX3_readHome_83 : decode cX3_readHome 83 = .ok (.iconst 1, 1) := dk_4 (dk_at dksX3_readHome_3 17 rfl rfl)
theorem dX3_readHome_84 : decode cX3_readHome 84 = .ok (.iadd, 1) := dk_96 (dk_at dksX3_readHome_3 18 rfl rfl)
theorem dX3_readHome_85 : decode cX3_readHome 85 = .ok (.iastore, 1) := dk_79 (dk_at dksX3_readHome_3 19 rfl rfl)
theorem dX3_readHome_86 : decode cX3_readHome 86 = .ok (.aload_n 0, 1) := dk_42 (dk_at dksX3_readHome_3 20 rfl rfl)
theorem dX3_readHome_87 : decode cX3_readHome 87 = .ok (.invokevirtual 162, 3) := dk_182 0 162 (dk_at dksX3_readHome_3 21 rfl rfl)
theorem dX3_readHome_90 : decode cX3_readHome 90 = .ok (.ireturn, 1) := dk_172 (dk_at dksX3_readHome_4 0 rfl rfl)
abbrev cX3_bad : ByteArray := prog_15_method_24_code
def yX3_bad : MethodName := ⟨RX3, "bad", "(I)Z"⟩
def dkwX3_bad_1 : List UInt8 := [181, 0, 136, 3, 172]
abbrev dktX3_bad_1 : List UInt8 := dkwX3_bad_1 ++ []
def dkwX3_bad_0 : List UInt8 := [42, 42, 180, 0, 99, 4, 160, 0, 7, 4, 167, 0, 4, 27, 181, 0, 133, 42, 42, 180, 0, 96]
abbrev dktX3_bad_0 : List UInt8 := dkwX3_bad_0 ++ dktX3_bad_1
theorem dksX3_bad_0 : cX3_bad.data.toList.drop 0 = dktX3_bad_0 := by decide +kernel
theorem dksX3_bad_1 : cX3_bad.data.toList.drop 22 = dktX3_bad_1 := dk_seg dksX3_bad_0 22 rfl rfl
theorem dX3_bad_0 : decode cX3_bad 0 = .ok (.aload_n 0, 1) := dk_42 (dk_at dksX3_bad_0 0 rfl rfl)
theorem dX3_bad_1 : decode cX3_bad 1 = .ok (.aload_n 0, 1) := dk_42 (dk_at dksX3_bad_0 1 rfl rfl)
theorem dX3_bad_2 : decode cX3_bad 2 = .ok (.getfield 99, 3) := dk_180 0 99 (dk_at dksX3_bad_0 2 rfl rfl)
theorem dX3_bad_5 : decode cX3_bad 5 = .ok (.iconst 1, 1) := dk_4 (dk_at dksX3_bad_0 5 rfl rfl)
theorem dX3_bad_6 : decode cX3_bad 6 = .ok (.if_icmp .ne 7, 3) := dk_160 0 7 (dk_at dksX3_bad_0 6 rfl rfl)
theorem dX3_bad_9 : decode cX3_bad 9 = .ok (.iconst 1, 1) := dk_4 (dk_at dksX3_bad_0 9 rfl rfl)
theorem dX3_bad_10 : decode cX3_bad 10 = .ok (.goto 4, 3) := dk_167 0 4 (dk_at dksX3_bad_0 10 rfl rfl)
theorem dX3_bad_13 : decode cX3_bad 13 = .ok (.iload_n 1, 1) := dk_27 (dk_at dksX3_bad_0 13 rfl rfl)
theorem dX3_bad_14 : decode cX3_bad 14 = .ok (.putfield 133, 3) := dk_181 0 133 (dk_at dksX3_bad_0 14 rfl rfl)
theorem dX3_bad_17 : decode cX3_bad 17 = .ok (.aload_n 0, 1) := dk_42 (dk_at dksX3_bad_0 17 rfl rfl)
theorem dX3_bad_18 : decode cX3_bad 18 = .ok (.aload_n 0, 1) := dk_42 (dk_at dksX3_bad_0 18 rfl rfl)
theorem dX3_bad_19 : decode cX3_bad 19 = .ok (.getfield 96, 3) := dk_180 0 96 (dk_at dksX3_bad_0 19 rfl rfl)
theorem dX3_bad_22 : decode cX3_bad 22 = .ok (.putfield 136, 3) := dk_181 0 136 (dk_at dksX3_bad_1 0 rfl rfl)
theorem dX3_bad_25 : decode cX3_bad 25 = .ok (.iconst 0, 1) := dk_3 (dk_at dksX3_bad_1 3 rfl rfl)
theorem dX3_bad_26 : decode cX3_bad 26 = .ok (.ireturn, 1) := dk_172 (dk_at dksX3_bad_1 4 rfl rfl)
abbrev cX3_readName : ByteArray := prog_15_method_29_code
def yX3_readName : MethodName := ⟨RX3, "readName", "(I)Z"⟩
def dkwX3_readName_1 : List UInt8 := [182, 0, 139, 172, 42, 180, 0, 29, 27, 42, 180, 0, 106, 80, 42, 182, 0, 142, 4, 172]
abbrev dktX3_readName_1 : List UInt8 := dkwX3_readName_1 ++ []
def dkwX3_readName_0 : List UInt8 := [42, 182, 0, 149, 154, 0, 9, 42, 5, 182, 0, 139, 172, 42, 182, 0, 153, 153, 0, 9, 42, 7]
abbrev dktX3_readName_0 : List UInt8 := dkwX3_readName_0 ++ dktX3_readName_1
theorem dksX3_readName_0 : cX3_readName.data.toList.drop 0 = dktX3_readName_0 := by decide +kernel
theorem dksX3_readName_1 : cX3_readName.data.toList.drop 22 = dktX3_readName_1 := dk_seg dksX3_readName_0 22 rfl rfl
theorem dX3_readName_0 : decode cX3_readName 0 = .ok (.aload_n 0, 1) := dk_42 (dk_at dksX3_readName_0 0 rfl rfl)
theorem dX3_readName_1 : decode cX3_readName 1 = .ok (.invokevirtual 149, 3) := dk_182 0 149 (dk_at dksX3_readName_0 1 rfl rfl)
theorem dX3_readName_4 : decode cX3_readName 4 = .ok (.ifCond .ne 9, 3) := dk_154 0 9 (dk_at dksX3_readName_0 4 rfl rfl)
theorem dX3_readName_7 : decode cX3_readName 7 = .ok (.aload_n 0, 1) := dk_42 (dk_at dksX3_readName_0 7 rfl rfl)
theorem dX3_readName_8 : decode cX3_readName 8 = .ok (.iconst 2, 1) := dk_5 (dk_at dksX3_readName_0 8 rfl rfl)
theorem dX3_readName_9 : decode cX3_readName 9 = .ok (.invokevirtual 139, 3) := dk_182 0 139 (dk_at dksX3_readName_0 9 rfl rfl)
theorem dX3_readName_12 : decode cX3_readName 12 = .ok (.ireturn, 1) := dk_172 (dk_at dksX3_readName_0 12 rfl rfl)
theorem dX3_readName_13 : decode cX3_readName 13 = .ok (.aload_n 0, 1) := dk_42 (dk_at dksX3_readName_0 13 rfl rfl)
theorem dX3_readName_14 : decode cX3_readName 14 = .ok (.invokevirtual 153, 3) := dk_182 0 153 (dk_at dksX3_readName_0 14 rfl rfl)
theorem dX3_readName_17 : decode cX3_readName 17 = .ok (.ifCond .eq 9, 3) := dk_153 0 9 (dk_at dksX3_readName_0 17 rfl rfl)
theorem dX3_readName_20 : decode cX3_readName 20 = .ok (.aload_n 0, 1) := dk_42 (dk_at dksX3_readName_0 20 rfl rfl)
theorem dX3_readName_21 : decode cX3_readName 21 = .ok (.iconst 4, 1) := dk_7 (dk_at dksX3_readName_0 21 rfl rfl)
theorem dX3_readName_22 : decode cX3_readName 22 = .ok (.invokevirtual 139, 3) := dk_182 0 139 (dk_at dksX3_readName_1 0 rfl rfl)
theorem dX3_readName_25 : decode cX3_readName 25 = .ok (.ireturn, 1) := dk_172 (dk_at dksX3_readName_1 3 rfl rfl)
theorem dX3_readName_26 : decode cX3_readName 26 = .ok (.aload_n 0, 1) := dk_42 (dk_at dksX3_readName_1 4 rfl rfl)
theorem dX3_readName_27 : decode cX3_readName 27 = .ok (.getfield 29, 3) := dk_180 0 29 (dk_at dksX3_readName_1 5 rfl rfl)
theorem dX3_readName_30 : decode cX3_readName 30 = .ok (.iload_n 1, 1) := dk_27 (dk_at dksX3_readName_1 8 rfl rfl)
theorem dX3_readName_31 : decode cX3_readName 31 = .ok (.aload_n 0, 1) := dk_42 (dk_at dksX3_readName_1 9 rfl rfl)
theorem dX3_readName_32 : decode cX3_readName 32 = .ok (.getfield 106, 3) := dk_180 0 106 (dk_at dksX3_readName_1 10 rfl rfl)
theorem dX3_readName_35 : decode cX3_readName 35 = .ok (.lastore, 1) := dk_80 (dk_at dksX3_readName_1 13 rfl rfl)
theorem dX3_readName_36 : decode cX3_readName 36 = .ok (.aload_n 0, 1) := dk_42 (dk_at dksX3_readName_1 14 rfl rfl)
theorem dX3_readName_37 : decode cX3_readName 37 = .ok (.invokevirtual 142, 3) := dk_182 0 142 (dk_at dksX3_readName_1 15 rfl rfl)
theorem dX3_readName_40 : decode cX3_readName 40 = .ok (.iconst 1, 1) := dk_4 (dk_at dksX3_readName_1 18 rfl rfl)
theorem dX3_readName_41 : decode cX3_readName 41 = .ok (.ireturn, 1) := dk_172 (dk_at dksX3_readName_1 19 rfl rfl)
abbrev cX3_isName : ByteArray := prog_15_method_23_code
def yX3_isName : MethodName := ⟨RX3, "isName", "()Z"⟩
def dkwX3_isName_1 : List UInt8 := [42, 180, 0, 99, 5, 160, 0, 7, 4, 167, 0, 4, 3, 172]
abbrev dktX3_isName_1 : List UInt8 := dkwX3_isName_1 ++ []
def dkwX3_isName_0 : List UInt8 := [3, 60, 27, 16, 9, 163, 0, 19, 42, 27, 182, 0, 130, 153, 0, 5, 3, 172, 132, 1, 1, 167, 255, 237]
abbrev dktX3_isName_0 : List UInt8 := dkwX3_isName_0 ++ dktX3_isName_1
theorem dksX3_isName_0 : cX3_isName.data.toList.drop 0 = dktX3_isName_0 := by decide +kernel
theorem dksX3_isName_1 : cX3_isName.data.toList.drop 24 = dktX3_isName_1 := dk_seg dksX3_isName_0 24 rfl rfl
theorem dX3_isName_0 : decode cX3_isName 0 = .ok (.iconst 0, 1) := dk_3 (dk_at dksX3_isName_0 0 rfl rfl)
theorem dX3_isName_1 : decode cX3_isName 1 = .ok (.istore_n 1, 1) := dk_60 (dk_at dksX3_isName_0 1 rfl rfl)
theorem dX3_isName_2 : decode cX3_isName 2 = .ok (.iload_n 1, 1) := dk_27 (dk_at dksX3_isName_0 2 rfl rfl)
theorem dX3_isName_3 : decode cX3_isName 3 = .ok (.bipush 9, 2) := dk_16 9 (dk_at dksX3_isName_0 3 rfl rfl)
theorem dX3_isName_5 : decode cX3_isName 5 = .ok (.if_icmp .gt 19, 3) := dk_163 0 19 (dk_at dksX3_isName_0 5 rfl rfl)
theorem dX3_isName_8 : decode cX3_isName 8 = .ok (.aload_n 0, 1) := dk_42 (dk_at dksX3_isName_0 8 rfl rfl)
theorem dX3_isName_9 : decode cX3_isName 9 = .ok (.iload_n 1, 1) := dk_27 (dk_at dksX3_isName_0 9 rfl rfl)
theorem dX3_isName_10 : decode cX3_isName 10 = .ok (.invokevirtual 130, 3) := dk_182 0 130 (dk_at dksX3_isName_0 10 rfl rfl)
theorem dX3_isName_13 : decode cX3_isName 13 = .ok (.ifCond .eq 5, 3) := dk_153 0 5 (dk_at dksX3_isName_0 13 rfl rfl)
theorem dX3_isName_16 : decode cX3_isName 16 = .ok (.iconst 0, 1) := dk_3 (dk_at dksX3_isName_0 16 rfl rfl)
theorem dX3_isName_17 : decode cX3_isName 17 = .ok (.ireturn, 1) := dk_172 (dk_at dksX3_isName_0 17 rfl rfl)
theorem dX3_isName_18 : decode cX3_isName 18 = .ok (.iinc 1 1, 3) := dk_132 1 1 (dk_at dksX3_isName_0 18 rfl rfl)
theorem dX3_isName_21 : decode cX3_isName 21 = .ok (.goto (-19), 3) := dk_167 255 237 (dk_at dksX3_isName_0 21 rfl rfl)
theorem dX3_isName_24 : decode cX3_isName 24 = .ok (.aload_n 0, 1) := dk_42 (dk_at dksX3_isName_1 0 rfl rfl)
theorem dX3_isName_25 : decode cX3_isName 25 = .ok (.getfield 99, 3) := dk_180 0 99 (dk_at dksX3_isName_1 1 rfl rfl)
theorem dX3_isName_28 : decode cX3_isName 28 = .ok (.iconst 2, 1) := dk_5 (dk_at dksX3_isName_1 4 rfl rfl)
theorem dX3_isName_29 : decode cX3_isName 29 = .ok (.if_icmp .ne 7, 3) := dk_160 0 7 (dk_at dksX3_isName_1 5 rfl rfl)
theorem dX3_isName_32 : decode cX3_isName 32 = .ok (.iconst 1, 1) := dk_4 (dk_at dksX3_isName_1 8 rfl rfl)
theorem dX3_isName_33 : decode cX3_isName 33 = .ok (.goto 4, 3) := dk_167 0 4 (dk_at dksX3_isName_1 9 rfl rfl)
theorem dX3_isName_36 : decode cX3_isName 36 = .ok (.iconst 0, 1) := dk_3 (dk_at dksX3_isName_1 12 rfl rfl)
theorem dX3_isName_37 : decode cX3_isName 37 = .ok (.ireturn, 1) := dk_172 (dk_at dksX3_isName_1 13 rfl rfl)
abbrev cX3_isTaken : ByteArray := prog_15_method_28_code
def yX3_isTaken : MethodName := ⟨RX3, "isTaken", "()Z"⟩
def dkwX3_isTaken_2 : List UInt8 := [167, 0, 4, 3, 172]
abbrev dktX3_isTaken_2 : List UInt8 := dkwX3_isTaken_2 ++ []
def dkwX3_isTaken_1 : List UInt8 := [180, 0, 106, 148, 154, 0, 5, 4, 172, 132, 1, 1, 167, 255, 222, 42, 182, 0, 145, 2, 159, 0, 7, 4]
abbrev dktX3_isTaken_1 : List UInt8 := dkwX3_isTaken_1 ++ dktX3_isTaken_2
def dkwX3_isTaken_0 : List UInt8 := [3, 60, 27, 42, 180, 0, 13, 17, 0, 231, 46, 162, 0, 28, 42, 180, 0, 29, 16, 10, 27, 96, 47, 42]
abbrev dktX3_isTaken_0 : List UInt8 := dkwX3_isTaken_0 ++ dktX3_isTaken_1
theorem dksX3_isTaken_0 : cX3_isTaken.data.toList.drop 0 = dktX3_isTaken_0 := by decide +kernel
theorem dksX3_isTaken_1 : cX3_isTaken.data.toList.drop 24 = dktX3_isTaken_1 := dk_seg dksX3_isTaken_0 24 rfl rfl
theorem dksX3_isTaken_2 : cX3_isTaken.data.toList.drop 48 = dktX3_isTaken_2 := dk_seg dksX3_isTaken_1 24 rfl rfl
theorem dX3_isTaken_0 : decode cX3_isTaken 0 = .ok (.iconst 0, 1) := dk_3 (dk_at dksX3_isTaken_0 0 rfl rfl)
theorem dX3_isTaken_1 : decode cX3_isTaken 1 = .ok (.istore_n 1, 1) := dk_60 (dk_at dksX3_isTaken_0 1 rfl rfl)
theorem dX3_isTaken_2 : decode cX3_isTaken 2 = .ok (.iload_n 1, 1) := dk_27 (dk_at dksX3_isTaken_0 2 rfl rfl)
theorem dX3_isTaken_3 : decode cX3_isTaken 3 = .ok (.aload_n 0, 1) := dk_42 (dk_at dksX3_isTaken_0 3 rfl rfl)
theorem dX3_isTaken_4 : decode cX3_isTaken 4 = .ok (.getfield 13, 3) := dk_180 0 13 (dk_at dksX3_isTaken_0 4 rfl rfl)
theorem dX3_isTaken_7 : decode cX3_isTaken 7 = .ok (.sipush 231, 3) := dk_17 0 231 (dk_at dksX3_isTaken_0 7 rfl rfl)
theorem dX3_isTaken_10 : decode cX3_isTaken 10 = .ok (.iaload, 1) := dk_46 (dk_at dksX3_isTaken_0 10 rfl rfl)
theorem dX3_isTaken_11 : decode cX3_isTaken 11 = .ok (.if_icmp .ge 28, 3) := dk_162 0 28 (dk_at dksX3_isTaken_0 11 rfl rfl)
theorem dX3_isTaken_14 : decode cX3_isTaken 14 = .ok (.aload_n 0, 1) := dk_42 (dk_at dksX3_isTaken_0 14 rfl rfl)
theorem dX3_isTaken_15 : decode cX3_isTaken 15 = .ok (.getfield 29, 3) := dk_180 0 29 (dk_at dksX3_isTaken_0 15 rfl rfl)
theorem dX3_isTaken_18 : decode cX3_isTaken 18 = .ok (.bipush 10, 2) := dk_16 10 (dk_at dksX3_isTaken_0 18 rfl rfl)
theorem dX3_isTaken_20 : decode cX3_isTaken 20 = .ok (.iload_n 1, 1) := dk_27 (dk_at dksX3_isTaken_0 20 rfl rfl)
theorem dX3_isTaken_21 : decode cX3_isTaken 21 = .ok (.iadd, 1) := dk_96 (dk_at dksX3_isTaken_0 21 rfl rfl)
theorem dX3_isTaken_22 : decode cX3_isTaken 22 = .ok (.laload, 1) := dk_47 (dk_at dksX3_isTaken_0 22 rfl rfl)
theorem dX3_isTaken_23 : decode cX3_isTaken 23 = .ok (.aload_n 0, 1) := dk_42 (dk_at dksX3_isTaken_0 23 rfl rfl)
theorem dX3_isTaken_24 : decode cX3_isTaken 24 = .ok (.getfield 106, 3) := dk_180 0 106 (dk_at dksX3_isTaken_1 0 rfl rfl)
theorem dX3_isTaken_27 : decode cX3_isTaken 27 = .ok (.lcmp, 1) := dk_148 (dk_at dksX3_isTaken_1 3 rfl rfl)
theorem dX3_isTaken_28 : decode cX3_isTaken 28 = .ok (.ifCond .ne 5, 3) := dk_154 0 5 (dk_at dksX3_isTaken_1 4 rfl rfl)
theorem dX3_isTaken_31 : decode cX3_isTaken 31 = .ok (.iconst 1, 1) := dk_4 (dk_at dksX3_isTaken_1 7 rfl rfl)
theorem dX3_isTaken_32 : decode cX3_isTaken 32 = .ok (.ireturn, 1) := dk_172 (dk_at dksX3_isTaken_1 8 rfl rfl)
theorem dX3_isTaken_33 : decode cX3_isTaken 33 = .ok (.iinc 1 1, 3) := dk_132 1 1 (dk_at dksX3_isTaken_1 9 rfl rfl)
theorem dX3_isTaken_36 : decode cX3_isTaken 36 = .ok (.goto (-34), 3) := dk_167 255 222 (dk_at dksX3_isTaken_1 12 rfl rfl)
theorem dX3_isTaken_39 : decode cX3_isTaken 39 = .ok (.aload_n 0, 1) := dk_42 (dk_at dksX3_isTaken_1 15 rfl rfl)
theorem dX3_isTaken_40 : decode cX3_isTaken 40 = .ok (.invokevirtual 145, 3) := dk_182 0 145 (dk_at dksX3_isTaken_1 16 rfl rfl)
theorem dX3_isTaken_43 : decode cX3_isTaken 43 = .ok (.iconst (-1), 1) := dk_2 (dk_at dksX3_isTaken_1 19 rfl rfl)
theorem dX3_isTaken_44 : decode cX3_isTaken 44 = .ok (.if_icmp .eq 7, 3) := dk_159 0 7 (dk_at dksX3_isTaken_1 20 rfl rfl)
theorem dX3_isTaken_47 : decode cX3_isTaken 47 = .ok (.iconst 1, 1) := dk_4 (dk_at dksX3_isTaken_1 23 rfl rfl)
theorem dX3_isTaken_48 : decode cX3_isTaken 48 = .ok (.goto 4, 3) := dk_167 0 4 (dk_at dksX3_isTaken_2 0 rfl rfl)
theorem dX3_isTaken_51 : decode cX3_isTaken 51 = .ok (.iconst 0, 1) := dk_3 (dk_at dksX3_isTaken_2 3 rfl rfl)
theorem dX3_isTaken_52 : decode cX3_isTaken 52 = .ok (.ireturn, 1) := dk_172 (dk_at dksX3_isTaken_2 4 rfl rfl)
abbrev cX3_homeHere : ByteArray := prog_15_method_27_code
def yX3_homeHere : MethodName := ⟨RX3, "homeHere", "()I"⟩
def dkwX3_homeHere_1 : List UInt8 := [148, 154, 0, 5, 27, 172, 132, 1, 1, 167, 255, 225, 2, 172]
abbrev dktX3_homeHere_1 : List UInt8 := dkwX3_homeHere_1 ++ []
def dkwX3_homeHere_0 : List UInt8 := [3, 60, 27, 42, 180, 0, 13, 17, 0, 230, 46, 162, 0, 25, 42, 180, 0, 29, 27, 47, 42, 180, 0, 106]
abbrev dktX3_homeHere_0 : List UInt8 := dkwX3_homeHere_0 ++ dktX3_homeHere_1
theorem dksX3_homeHere_0 : cX3_homeHere.data.toList.drop 0 = dktX3_homeHere_0 := by decide +kernel
theorem dksX3_homeHere_1 : cX3_homeHere.data.toList.drop 24 = dktX3_homeHere_1 := dk_seg dksX3_homeHere_0 24 rfl rfl
theorem dX3_homeHere_0 : decode cX3_homeHere 0 = .ok (.iconst 0, 1) := dk_3 (dk_at dksX3_homeHere_0 0 rfl rfl)
theorem dX3_homeHere_1 : decode cX3_homeHere 1 = .ok (.istore_n 1, 1) := dk_60 (dk_at dksX3_homeHere_0 1 rfl rfl)
theorem dX3_homeHere_2 : decode cX3_homeHere 2 = .ok (.iload_n 1, 1) := dk_27 (dk_at dksX3_homeHere_0 2 rfl rfl)
theorem dX3_homeHere_3 : decode cX3_homeHere 3 = .ok (.aload_n 0, 1) := dk_42 (dk_at dksX3_homeHere_0 3 rfl rfl)
theorem dX3_homeHere_4 : decode cX3_homeHere 4 = .ok (.getfield 13, 3) := dk_180 0 13 (dk_at dksX3_homeHere_0 4 rfl rfl)
theorem dX3_homeHere_7 : decode cX3_homeHere 7 = .ok (.sipush 230, 3) := dk_17 0 230 (dk_at dksX3_homeHere_0 7 rfl rfl)
theorem dX3_homeHere_10 : decode cX3_homeHere 10 = .ok (.iaload, 1) := dk_46 (dk_at dksX3_homeHere_0 10 rfl rfl)
theorem dX3_homeHere_11 : decode cX3_homeHere 11 = .ok (.if_icmp .ge 25, 3) := dk_162 0 25 (dk_at dksX3_homeHere_0 11 rfl rfl)
theorem dX3_homeHere_14 : decode cX3_homeHere 14 = .ok (.aload_n 0, 1) := dk_42 (dk_at dksX3_homeHere_0 14 rfl rfl)
theorem dX3_homeHere_15 : decode cX3_homeHere 15 = .ok (.getfield 29, 3) := dk_180 0 29 (dk_at dksX3_homeHere_0 15 rfl rfl)
theorem dX3_homeHere_18 : decode cX3_homeHere 18 = .ok (.iload_n 1, 1) := dk_27 (dk_at dksX3_homeHere_0 18 rfl rfl)
theorem dX3_homeHere_19 : decode cX3_homeHere 19 = .ok (.laload, 1) := dk_47 (dk_at dksX3_homeHere_0 19 rfl rfl)
theorem dX3_homeHere_20 : decode cX3_homeHere 20 = .ok (.aload_n 0, 1) := dk_42 (dk_at dksX3_homeHere_0 20 rfl rfl)
theorem dX3_homeHere_21 : decode cX3_homeHere 21 = .ok (.getfield 106, 3) := dk_180 0 106 (dk_at dksX3_homeHere_0 21 rfl rfl)
theorem dX3_homeHere_24 : decode cX3_homeHere 24 = .ok (.lcmp, 1) := dk_148 (dk_at dksX3_homeHere_1 0 rfl rfl)
theorem dX3_homeHere_25 : decode cX3_homeHere 25 = .ok (.ifCond .ne 5, 3) := dk_154 0 5 (dk_at dksX3_homeHere_1 1 rfl rfl)
theorem dX3_homeHere_28 : decode cX3_homeHere 28 = .ok (.iload_n 1, 1) := dk_27 (dk_at dksX3_homeHere_1 4 rfl rfl)
theorem dX3_homeHere_29 : decode cX3_homeHere 29 = .ok (.ireturn, 1) := dk_172 (dk_at dksX3_homeHere_1 5 rfl rfl)
theorem dX3_homeHere_30 : decode cX3_homeHere 30 = .ok (.iinc 1 1, 3) := dk_132 1 1 (dk_at dksX3_homeHere_1 6 rfl rfl)
theorem dX3_homeHere_33 : decode cX3_homeHere 33 = .ok (.goto (-31), 3) := dk_167 255 225 (dk_at dksX3_homeHere_1 9 rfl rfl)
theorem dX3_homeHere_36 : decode cX3_homeHere 36 = .ok (.iconst (-1), 1) := dk_2 (dk_at dksX3_homeHere_1 12 rfl rfl)
theorem dX3_homeHere_37 : decode cX3_homeHere 37 = .ok (.ireturn, 1) := dk_172 (dk_at dksX3_homeHere_1 13 rfl rfl)
abbrev cX3_readNumber : ByteArray := prog_15_method_26_code
def yX3_readNumber : MethodName := ⟨RX3, "readNumber", "(III)Z"⟩
def dkwX3_readNumber_2 : List UInt8 := [172]
abbrev dktX3_readNumber_2 : List UInt8 := dkwX3_readNumber_2 ++ []
def dkwX3_readNumber_1 : List UInt8 := [154, 0, 9, 42, 6, 182, 0, 139, 172, 42, 180, 0, 13, 27, 42, 180, 0, 115, 79, 42, 182, 0, 142, 4]
abbrev dktX3_readNumber_1 : List UInt8 := dkwX3_readNumber_1 ++ dktX3_readNumber_2
def dkwX3_readNumber_0 : List UInt8 := [42, 180, 0, 99, 6, 159, 0, 9, 42, 5, 182, 0, 139, 172, 42, 180, 0, 115, 28, 29, 184, 0, 71]
abbrev dktX3_readNumber_0 : List UInt8 := dkwX3_readNumber_0 ++ dktX3_readNumber_1
theorem dksX3_readNumber_0 : cX3_readNumber.data.toList.drop 0 = dktX3_readNumber_0 := by decide +kernel
theorem dksX3_readNumber_1 : cX3_readNumber.data.toList.drop 23 = dktX3_readNumber_1 := dk_seg dksX3_readNumber_0 23 rfl rfl
theorem dksX3_readNumber_2 : cX3_readNumber.data.toList.drop 47 = dktX3_readNumber_2 := dk_seg dksX3_readNumber_1 24 rfl rfl
theorem dX3_readNumber_0 : decode cX3_readNumber 0 = .ok (.aload_n 0, 1) := dk_42 (dk_at dksX3_readNumber_0 0 rfl rfl)
theorem dX3_readNumber_1 : decode cX3_readNumber 1 = .ok (.getfield 99, 3) := dk_180 0 99 (dk_at dksX3_readNumber_0 1 rfl rfl)
theorem dX3_readNumber_4 : decode cX3_readNumber 4 = .ok (.iconst 3, 1) := dk_6 (dk_at dksX3_readNumber_0 4 rfl rfl)
theorem dX3_readNumber_5 : decode cX3_readNumber 5 = .ok (.if_icmp .eq 9, 3) := dk_159 0 9 (dk_at dksX3_readNumber_0 5 rfl rfl)
theorem dX3_readNumber_8 : decode cX3_readNumber 8 = .ok (.aload_n 0, 1) := dk_42 (dk_at dksX3_readNumber_0 8 rfl rfl)
theorem dX3_readNumber_9 : decode cX3_readNumber 9 = .ok (.iconst 2, 1) := dk_5 (dk_at dksX3_readNumber_0 9 rfl rfl)
theorem dX3_readNumber_10 : decode cX3_readNumber 10 = .ok (.invokevirtual 139, 3) := dk_182 0 139 (dk_at dksX3_readNumber_0 10 rfl rfl)
theorem dX3_readNumber_13 : decode cX3_readNumber 13 = .ok (.ireturn, 1) := dk_172 (dk_at dksX3_readNumber_0 13 rfl rfl)
theorem dX3_readNumber_14 : decode cX3_readNumber 14 = .ok (.aload_n 0, 1) := dk_42 (dk_at dksX3_readNumber_0 14 rfl rfl)
theorem dX3_readNumber_15 : decode cX3_readNumber 15 = .ok (.getfield 115, 3) := dk_180 0 115 (dk_at dksX3_readNumber_0 15 rfl rfl)
theorem dX3_readNumber_18 : decode cX3_readNumber 18 = .ok (.iload_n 2, 1) := dk_28 (dk_at dksX3_readNumber_0 18 rfl rfl)
theorem dX3_readNumber_19 : decode cX3_readNumber 19 = .ok (.iload_n 3, 1) := dk_29 (dk_at dksX3_readNumber_0 19 rfl rfl)
theorem dX3_readNumber_20 : decode cX3_readNumber 20 = .ok (.invokestatic 71, 3) := dk_184 0 71 (dk_at dksX3_readNumber_0 20 rfl rfl)
theorem dX3_readNumber_23 : decode cX3_readNumber 23 = .ok (.ifCond .ne 9, 3) := dk_154 0 9 (dk_at dksX3_readNumber_1 0 rfl rfl)
theorem dX3_readNumber_26 : decode cX3_readNumber 26 = .ok (.aload_n 0, 1) := dk_42 (dk_at dksX3_readNumber_1 3 rfl rfl)
theorem dX3_readNumber_27 : decode cX3_readNumber 27 = .ok (.iconst 3, 1) := dk_6 (dk_at dksX3_readNumber_1 4 rfl rfl)
theorem dX3_readNumber_28 : decode cX3_readNumber 28 = .ok (.invokevirtual 139, 3) := dk_182 0 139 (dk_at dksX3_readNumber_1 5 rfl rfl)
theorem dX3_readNumber_31 : decode cX3_readNumber 31 = .ok (.ireturn, 1) := dk_172 (dk_at dksX3_readNumber_1 8 rfl rfl)
theorem dX3_readNumber_32 : decode cX3_readNumber 32 = .ok (.aload_n 0, 1) := dk_42 (dk_at dksX3_readNumber_1 9 rfl rfl)
theorem dX3_readNumber_33 : decode cX3_readNumber 33 = .ok (.getfield 13, 3) := dk_180 0 13 (dk_at dksX3_readNumber_1 10 rfl rfl)
theorem dX3_readNumber_36 : decode cX3_readNumber 36 = .ok (.iload_n 1, 1) := dk_27 (dk_at dksX3_readNumber_1 13 rfl rfl)
theorem dX3_readNumber_37 : decode cX3_readNumber 37 = .ok (.aload_n 0, 1) := dk_42 (dk_at dksX3_readNumber_1 14 rfl rfl)
theorem dX3_readNumber_38 : decode cX3_readNumber 38 = .ok (.getfield 115, 3) := dk_180 0 115 (dk_at dksX3_readNumber_1 15 rfl rfl)
theorem dX3_readNumber_41 : decode cX3_readNumber 41 = .ok (.iastore, 1) := dk_79 (dk_at dksX3_readNumber_1 18 rfl rfl)
theorem dX3_readNumber_42 : decode cX3_readNumber 42 = .ok (.aload_n 0, 1) := dk_42 (dk_at dksX3_readNumber_1 19 rfl rfl)
theorem dX3_readNumber_43 : decode cX3_readNumber 43 = .ok (.invokevirtual 142, 3) := dk_182 0 142 (dk_at dksX3_readNumber_1 20 rfl rfl)
theorem dX3_readNumber_46 : decode cX3_readNumber 46 = .ok (.iconst 1, 1) := dk_4 (dk_at dksX3_readNumber_1 23 rfl rfl)
theorem dX3_readNumber_47 : decode cX3_readNumber 47 = .ok (.ireturn, 1) := dk_172 (dk_at dksX3_readNumber_2 0 rfl rfl)
abbrev cX3_readEnd : ByteArray := prog_15_method_25_code
def yX3_readEnd : MethodName := ⟨RX3, "readEnd", "()Z"⟩
def dkwX3_readEnd_0 : List UInt8 := [42, 180, 0, 99, 7, 159, 0, 9, 42, 5, 182, 0, 139, 172, 42, 182, 0, 142, 4, 172]
abbrev dktX3_readEnd_0 : List UInt8 := dkwX3_readEnd_0 ++ []
theorem dksX3_readEnd_0 : cX3_readEnd.data.toList.drop 0 = dktX3_readEnd_0 := by decide +kernel
theorem dX3_readEnd_0 : decode cX3_readEnd 0 = .ok (.aload_n 0, 1) := dk_42 (dk_at dksX3_readEnd_0 0 rfl rfl)
theorem dX3_readEnd_1 : decode cX3_readEnd 1 = .ok (.getfield 99, 3) := dk_180 0 99 (dk_at dksX3_readEnd_0 1 rfl rfl)
theorem dX3_readEnd_4 : decode cX3_readEnd 4 = .ok (.iconst 4, 1) := dk_7 (dk_at dksX3_readEnd_0 4 rfl rfl)
theorem dX3_readEnd_5 : decode cX3_readEnd 5 = .ok (.if_icmp .eq 9, 3) := dk_159 0 9 (dk_at dksX3_readEnd_0 5 rfl rfl)
theorem dX3_readEnd_8 : decode cX3_readEnd 8 = .ok (.aload_n 0, 1) := dk_42 (dk_at dksX3_readEnd_0 8 rfl rfl)
theorem dX3_readEnd_9 : decode cX3_readEnd 9 = .ok (.iconst 2, 1) := dk_5 (dk_at dksX3_readEnd_0 9 rfl rfl)
theorem dX3_readEnd_10 : decode cX3_readEnd 10 = .ok (.invokevirtual 139, 3) := dk_182 0 139 (dk_at dksX3_readEnd_0 10 rfl rfl)
theorem dX3_readEnd_13 : decode cX3_readEnd 13 = .ok (.ireturn, 1) := dk_172 (dk_at dksX3_readEnd_0 13 rfl rfl)
theorem dX3_readEnd_14 : decode cX3_readEnd 14 = .ok (.aload_n 0, 1) := dk_42 (dk_at dksX3_readEnd_0 14 rfl rfl)
theorem dX3_readEnd_15 : decode cX3_readEnd 15 = .ok (.invokevirtual 142, 3) := dk_182 0 142 (dk_at dksX3_readEnd_0 15 rfl rfl)
theorem dX3_readEnd_18 : decode cX3_readEnd 18 = .ok (.iconst 1, 1) := dk_4 (dk_at dksX3_readEnd_0 18 rfl rfl)
theorem dX3_readEnd_19 : decode cX3_readEnd 19 = .ok (.ireturn, 1) := dk_172 (dk_at dksX3_readEnd_0 19 rfl rfl)
abbrev cX3_readHouse : ByteArray := prog_15_method_33_code
def yX3_readHouse : MethodName := ⟨RX3, "readHouse", "()Z"⟩
def dkwX3_readHouse_7 : List UInt8 := [182, 0, 162, 172]
abbrev dktX3_readHouse_7 : List UInt8 := dkwX3_readHouse_7 ++ []
def dkwX3_readHouse_6 : List UInt8 := [27, 182, 0, 168, 154, 255, 244, 3, 172, 42, 180, 0, 13, 17, 0, 231, 92, 46, 4, 96, 79, 42]
abbrev dktX3_readHouse_6 : List UInt8 := dkwX3_readHouse_6 ++ dktX3_readHouse_7
def dkwX3_readHouse_5 : List UInt8 := [182, 0, 130, 153, 0, 13, 42, 27, 182, 0, 165, 154, 0, 5, 3, 172, 42, 182, 0, 149, 153, 0, 13, 42]
abbrev dktX3_readHouse_5 : List UInt8 := dkwX3_readHouse_5 ++ dktX3_readHouse_6
def dkwX3_readHouse_4 : List UInt8 := [182, 0, 159, 154, 0, 5, 3, 172, 42, 180, 0, 13, 27, 7, 184, 0, 75, 2, 79, 42, 16, 9]
abbrev dktX3_readHouse_4 : List UInt8 := dkwX3_readHouse_4 ++ dktX3_readHouse_5
def dkwX3_readHouse_3 : List UInt8 := [5, 184, 0, 75, 3, 16, 7, 182, 0, 159, 153, 0, 19, 42, 27, 6, 184, 0, 75, 3, 17, 3, 231]
abbrev dktX3_readHouse_3 : List UInt8 := dkwX3_readHouse_3 ++ dktX3_readHouse_4
def dkwX3_readHouse_2 : List UInt8 := [182, 0, 159, 153, 0, 17, 42, 27, 4, 184, 0, 75, 4, 7, 182, 0, 159, 154, 0, 5, 3, 172, 42, 27]
abbrev dktX3_readHouse_2 : List UInt8 := dkwX3_readHouse_2 ++ dktX3_readHouse_3
def dkwX3_readHouse_1 : List UInt8 := [182, 0, 142, 42, 16, 10, 27, 96, 182, 0, 156, 153, 0, 31, 42, 27, 3, 184, 0, 75, 4, 7]
abbrev dktX3_readHouse_1 : List UInt8 := dkwX3_readHouse_1 ++ dktX3_readHouse_2
def dkwX3_readHouse_0 : List UInt8 := [42, 180, 0, 13, 17, 0, 231, 46, 60, 27, 16, 8, 160, 0, 9, 42, 8, 182, 0, 139, 172, 42]
abbrev dktX3_readHouse_0 : List UInt8 := dkwX3_readHouse_0 ++ dktX3_readHouse_1
theorem dksX3_readHouse_0 : cX3_readHouse.data.toList.drop 0 = dktX3_readHouse_0 := by decide +kernel
theorem dksX3_readHouse_1 : cX3_readHouse.data.toList.drop 22 = dktX3_readHouse_1 := dk_seg dksX3_readHouse_0 22 rfl rfl
theorem dksX3_readHouse_2 : cX3_readHouse.data.toList.drop 44 = dktX3_readHouse_2 := dk_seg dksX3_readHouse_1 22 rfl rfl
theorem dksX3_readHouse_3 : cX3_readHouse.data.toList.drop 68 = dktX3_readHouse_3 := dk_seg dksX3_readHouse_2 24 rfl rfl
theorem dksX3_readHouse_4 : cX3_readHouse.data.toList.drop 91 = dktX3_readHouse_4 := dk_seg dksX3_readHouse_3 23 rfl rfl
theorem dksX3_readHouse_5 : cX3_readHouse.data.toList.drop 113 = dktX3_readHouse_5 := dk_seg dksX3_readHouse_4 22 rfl rfl
theorem dksX3_readHouse_6 : cX3_readHouse.data.toList.drop 137 = dktX3_readHouse_6 := dk_seg dksX3_readHouse_5 24 rfl rfl
theorem dksX3_readHouse_7 : cX3_readHouse.data.toList.drop 159 = dktX3_readHouse_7 := dk_seg dksX3_readHouse_6 22 rfl rfl
theorem dX3_readHouse_0 : decode cX3_readHouse 0 = .ok (.aload_n 0, 1) := dk_42 (dk_at dksX3_readHouse_0 0 rfl rfl)
theorem dX3_readHouse_1 : decode cX3_readHouse 1 = .ok (.getfield 13, 3) := dk_180 0 13 (dk_at dksX3_readHouse_0 1 rfl rfl)
theorem dX3_readHouse_4 : decode cX3_readHouse 4 = .ok (.sipush 231, 3) := dk_17 0 231 (dk_at dksX3_readHouse_0 4 rfl rfl)
theorem dX3_readHouse_7 : decode cX3_readHouse 7 = .ok (.iaload, 1) := dk_46 (dk_at dksX3_readHouse_0 7 rfl rfl)
theorem dX3_readHouse_8 : decode cX3_readHouse 8 = .ok (.istore_n 1, 1) := dk_60 (dk_at dksX3_readHouse_0 8 rfl rfl)
theorem dX3_readHouse_9 : decode cX3_readHouse 9 = .ok (.iload_n 1, 1) := dk_27 (dk_at dksX3_readHouse_0 9 rfl rfl)
theorem dX3_readHouse_10 : decode cX3_readHouse 10 = .ok (.bipush 8, 2) := dk_16 8 (dk_at dksX3_readHouse_0 10 rfl rfl)
theorem dX3_readHouse_12 : decode cX3_readHouse 12 = .ok (.if_icmp .ne 9, 3) := dk_160 0 9 (dk_at dksX3_readHouse_0 12 rfl rfl)
theorem dX3_readHouse_15 : decode cX3_readHouse 15 = .ok (.aload_n 0, 1) := dk_42 (dk_at dksX3_readHouse_0 15 rfl rfl)
theorem dX3_readHouse_16 : decode cX3_readHouse 16 = .ok (.iconst 5, 1) := dk_8 (dk_at dksX3_readHouse_0 16 rfl rfl)
theorem dX3_readHouse_17 : decode cX3_readHouse 17 = .ok (.invokevirtual 139, 3) := dk_182 0 139 (dk_at dksX3_readHouse_0 17 rfl rfl)
theorem dX3_readHouse_20 : decode cX3_readHouse 20 = .ok (.ireturn, 1) := dk_172 (dk_at dksX3_readHouse_0 20 rfl rfl)
theorem dX3_readHouse_21 : decode cX3_readHouse 21 = .ok (.aload_n 0, 1) := dk_42 (dk_at dksX3_readHouse_0 21 rfl rfl)
theorem dX3_readHouse_22 : decode cX3_readHouse 22 = .ok (.invokevirtual 142, 3) := dk_182 0 142 (dk_at dksX3_readHouse_1 0 rfl rfl)
theorem dX3_readHouse_25 : decode cX3_readHouse 25 = .ok (.aload_n 0, 1) := dk_42 (dk_at dksX3_readHouse_1 3 rfl rfl)
theorem dX3_readHouse_26 : decode cX3_readHouse 26 = .ok (.bipush 10, 2) := dk_16 10 (dk_at dksX3_readHouse_1 4 rfl rfl)
theorem dX3_readHouse_28 : decode cX3_readHouse 28 = .ok (.iload_n 1, 1) := dk_27 (dk_at dksX3_readHouse_1 6 rfl rfl)
theorem dX3_readHouse_29 : decode cX3_readHouse 29 = .ok (.iadd, 1) := dk_96 (dk_at dksX3_readHouse_1 7 rfl rfl)
theorem dX3_readHouse_30 : decode cX3_readHouse 30 = .ok (.invokevirtual 156, 3) := dk_182 0 156 (dk_at dksX3_readHouse_1 8 rfl rfl)
theorem dX3_readHouse_33 : decode cX3_readHouse 33 = .ok (.ifCond .eq 31, 3) := dk_153 0 31 (dk_at dksX3_readHouse_1 11 rfl rfl)
theorem dX3_readHouse_36 : decode cX3_readHouse 36 = .ok (.aload_n 0, 1) := dk_42 (dk_at dksX3_readHouse_1 14 rfl rfl)
theorem dX3_readHouse_37 : decode cX3_readHouse 37 = .ok (.iload_n 1, 1) := dk_27 (dk_at dksX3_readHouse_1 15 rfl rfl)
theorem dX3_readHouse_38 : decode cX3_readHouse 38 = .ok (.iconst 0, 1) := dk_3 (dk_at dksX3_readHouse_1 16 rfl rfl)
theorem dX3_readHouse_39 : decode cX3_readHouse 39 = .ok (.invokestatic 75, 3) := dk_184 0 75 (dk_at dksX3_readHouse_1 17 rfl rfl)
theorem dX3_readHouse_42 : decode cX3_readHouse 42 = .ok (.iconst 1, 1) := dk_4 (dk_at dksX3_readHouse_1 20 rfl rfl)
theorem dX3_readHouse_43 : decode cX3_readHouse 43 = .ok (.iconst 4, 1) := dk_7 (dk_at dksX3_readHouse_1 21 rfl rfl)
theorem dX3_readHouse_44 : decode cX3_readHouse 44 = .ok (.invokevirtual 159, 3) := dk_182 0 159 (dk_at dksX3_readHouse_2 0 rfl rfl)
theorem dX3_readHouse_47 : decode cX3_readHouse 47 = .ok (.ifCond .eq 17, 3) := dk_153 0 17 (dk_at dksX3_readHouse_2 3 rfl rfl)
theorem dX3_readHouse_50 : decode cX3_readHouse 50 = .ok (.aload_n 0, 1) := dk_42 (dk_at dksX3_readHouse_2 6 rfl rfl)
theorem dX3_readHouse_51 : decode cX3_readHouse 51 = .ok (.iload_n 1, 1) := dk_27 (dk_at dksX3_readHouse_2 7 rfl rfl)
theorem dX3_readHouse_52 : decode cX3_readHouse 52 = .ok (.iconst 1, 1) := dk_4 (dk_at dksX3_readHouse_2 8 rfl rfl)
theorem dX3_readHouse_53 : decode cX3_readHouse 53 = .ok (.invokestatic 75, 3) := dk_184 0 75 (dk_at dksX3_readHouse_2 9 rfl rfl)
theorem dX3_readHouse_56 : decode cX3_readHouse 56 = .ok (.iconst 1, 1) := dk_4 (dk_at dksX3_readHouse_2 12 rfl rfl)
theorem dX3_readHouse_57 : decode cX3_readHouse 57 = .ok (.iconst 4, 1) := dk_7 (dk_at dksX3_readHouse_2 13 rfl rfl)
theorem dX3_readHouse_58 : decode cX3_readHouse 58 = .ok (.invokevirtual 159, 3) := dk_182 0 159 (dk_at dksX3_readHouse_2 14 rfl rfl)
theorem dX3_readHouse_61 : decode cX3_readHouse 61 = .ok (.ifCond .ne 5, 3) := dk_154 0 5 (dk_at dksX3_readHouse_2 17 rfl rfl)
theorem dX3_readHouse_64 : decode cX3_readHouse 64 = .ok (.iconst 0, 1) := dk_3 (dk_at dksX3_readHouse_2 20 rfl rfl)
theorem dX3_readHouse_65 : decode cX3_readHouse 65 = .ok (.ireturn, 1) := dk_172 (dk_at dksX3_readHouse_2 21 rfl rfl)
theorem dX3_readHouse_66 : decode cX3_readHouse 66 = .ok (.aload_n 0, 1) := dk_42 (dk_at dksX3_readHouse_2 22 rfl rfl)
theorem dX3_readHouse_67 : decode cX3_readHouse 67 = .ok (.iload_n 1, 1) := dk_27 (dk_at dksX3_readHouse_2 23 rfl rfl)
theorem dX3_readHouse_68 : decode cX3_readHouse 68 = .ok (.iconst 2, 1) := dk_5 (dk_at dksX3_readHouse_3 0 rfl rfl)
theorem dX3_readHouse_69 : decode cX3_readHouse 69 = .ok (.invokestatic 75, 3) := dk_184 0 75 (dk_at dksX3_readHouse_3 1 rfl rfl)
theorem dX3_readHouse_72 : decode cX3_readHouse 72 = .ok (.iconst 0, 1) := dk_3 (dk_at dksX3_readHouse_3 4 rfl rfl)
theorem dX3_readHouse_73 : decode cX3_readHouse 73 = .ok (.bipush 7, 2) := dk_16 7 (dk_at dksX3_readHouse_3 5 rfl rfl)
theorem dX3_readHouse_75 : decode cX3_readHouse 75 = .ok (.invokevirtual 159, 3) := dk_182 0 159 (dk_at dksX3_readHouse_3 7 rfl rfl)
theorem dX3_readHouse_78 : decode cX3_readHouse 78 = .ok (.ifCond .eq 19, 3) := dk_153 0 19 (dk_at dksX3_readHouse_3 10 rfl rfl)
theorem dX3_readHouse_81 : decode cX3_readHouse 81 = .ok (.aload_n 0, 1) := dk_42 (dk_at dksX3_readHouse_3 13 rfl rfl)
theorem dX3_readHouse_82 : decode cX3_readHouse 82 = .ok (.iload_n 1, 1) := dk_27 (dk_at dksX3_readHouse_3 14 rfl rfl)
theorem dX3_readHouse_83 : decode cX3_readHouse 83 = .ok (.iconst 3, 1) := dk_6 (dk_at dksX3_readHouse_3 15 rfl rfl)
theorem dX3_readHouse_84 : decode cX3_readHouse 84 = .ok (.invokestatic 75, 3) := dk_184 0 75 (dk_at dksX3_readHouse_3 16 rfl rfl)
theorem dX3_readHouse_87 : decode cX3_readHouse 87 = .ok (.iconst 0, 1) := dk_3 (dk_at dksX3_readHouse_3 19 rfl rfl)
theorem dX3_readHouse_88 : decode cX3_readHouse 88 = .ok (.sipush 999, 3) := dk_17 3 231 (dk_at dksX3_readHouse_3 20 rfl rfl)
theorem dX3_readHouse_91 : decode cX3_readHouse 91 = .ok (.invokevirtual 159, 3) := dk_182 0 159 (dk_at dksX3_readHouse_4 0 rfl rfl)
theorem dX3_readHouse_94 : decode cX3_readHouse 94 = .ok (.ifCond .ne 5, 3) := dk_154 0 5 (dk_at dksX3_readHouse_4 3 rfl rfl)
theorem dX3_readHouse_97 : decode cX3_readHouse 97 = .ok (.iconst 0, 1) := dk_3 (dk_at dksX3_readHouse_4 6 rfl rfl)
theorem dX3_readHouse_98 : decode cX3_readHouse 98 = .ok (.ireturn, 1) := dk_172 (dk_at dksX3_readHouse_4 7 rfl rfl)
theorem dX3_readHouse_99 : decode cX3_readHouse 99 = .ok (.aload_n 0, 1) := dk_42 (dk_at dksX3_readHouse_4 8 rfl rfl)
theorem dX3_readHouse_100 : decode cX3_readHouse 100 = .ok (.getfield 13, 3) := dk_180 0 13 (dk_at dksX3_readHouse_4 9 rfl rfl)
theorem dX3_readHouse_103 : decode cX3_readHouse 103 = .ok (.iload_n 1, 1) := dk_27 (dk_at dksX3_readHouse_4 12 rfl rfl)
theorem dX3_readHouse_104 : decode cX3_readHouse 104 = .ok (.iconst 4, 1) := dk_7 (dk_at dksX3_readHouse_4 13 rfl rfl)
theorem dX3_readHouse_105 : decode cX3_readHouse 105 = .ok (.invokestatic 75, 3) := dk_184 0 75 (dk_at dksX3_readHouse_4 14 rfl rfl)
theorem dX3_readHouse_108 : decode cX3_readHouse 108 = .ok (.iconst (-1), 1) := dk_2 (dk_at dksX3_readHouse_4 17 rfl rfl)
theorem dX3_readHouse_109 : decode cX3_readHouse 109 = .ok (.iastore, 1) := dk_79 (dk_at dksX3_readHouse_4 18 rfl rfl)
theorem dX3_readHouse_110 : decode cX3_readHouse 110 = .ok (.aload_n 0, 1) := dk_42 (dk_at dksX3_readHouse_4 19 rfl rfl)
theorem dX3_readHouse_111 : decode cX3_readHouse 111 = .ok (.bipush 9, 2) := dk_16 9 (dk_at dksX3_readHouse_4 20 rfl rfl)
theorem dX3_readHouse_113 : decode cX3_readHouse 113 = .ok (.invokevirtual 130, 3) := dk_182 0 130 (dk_at dksX3_readHouse_5 0 rfl rfl)
theorem dX3_readHouse_116 : decode cX3_readHouse 116 = .ok (.ifCond .eq 13, 3) := dk_153 0 13 (dk_at dksX3_readHouse_5 3 rfl rfl)
theorem dX3_readHouse_119 : decode cX3_readHouse 119 = .ok (.aload_n 0, 1) := dk_42 (dk_at dksX3_readHouse_5 6 rfl rfl)
theorem dX3_readHouse_120 : decode cX3_readHouse 120 = .ok (.iload_n 1, 1) := dk_27 (dk_at dksX3_readHouse_5 7 rfl rfl)
theorem dX3_readHouse_121 : decode cX3_readHouse 121 = .ok (.invokevirtual 165, 3) := dk_182 0 165 (dk_at dksX3_readHouse_5 8 rfl rfl)
theorem dX3_readHouse_124 : decode cX3_readHouse 124 = .ok (.ifCond .ne 5, 3) := dk_154 0 5 (dk_at dksX3_readHouse_5 11 rfl rfl)
theorem dX3_readHouse_127 : decode cX3_readHouse 127 = .ok (.iconst 0, 1) := dk_3 (dk_at dksX3_readHouse_5 14 rfl rfl)
theorem dX3_readHouse_128 : decode cX3_readHouse 128 = .ok (.ireturn, 1) := dk_172 (dk_at dksX3_readHouse_5 15 rfl rfl)
theorem dX3_readHouse_129 : decode cX3_readHouse 129 = .ok (.aload_n 0, 1) := dk_42 (dk_at dksX3_readHouse_5 16 rfl rfl)
theorem dX3_readHouse_130 : decode cX3_readHouse 130 = .ok (.invokevirtual 149, 3) := dk_182 0 149 (dk_at dksX3_readHouse_5 17 rfl rfl)
theorem dX3_readHouse_133 : decode cX3_readHouse 133 = .ok (.ifCond .eq 13, 3) := dk_153 0 13 (dk_at dksX3_readHouse_5 20 rfl rfl)
theorem dX3_readHouse_136 : decode cX3_readHouse 136 = .ok (.aload_n 0, 1) := dk_42 (dk_at dksX3_readHouse_5 23 rfl rfl)
theorem dX3_readHouse_137 : decode cX3_readHouse 137 = .ok (.iload_n 1, 1) := dk_27 (dk_at dksX3_readHouse_6 0 rfl rfl)
theorem dX3_readHouse_138 : decode cX3_readHouse 138 = .ok (.invokevirtual 168, 3) := dk_182 0 168 (dk_at dksX3_readHouse_6 1 rfl rfl)
theorem dX3_readHouse_141 : decode cX3_readHouse 141 = .ok (.ifCond .ne (-12), 3) := dk_154 255 244 (dk_at dksX3_readHouse_6 4 rfl rfl)
theorem dX3_readHouse_144 : decode cX3_readHouse 144 = .ok (.iconst 0, 1) := dk_3 (dk_at dksX3_readHouse_6 7 rfl rfl)
theorem dX3_readHouse_145 : decode cX3_readHouse 145 = .ok (.ireturn, 1) := dk_172 (dk_at dksX3_readHouse_6 8 rfl rfl)
theorem dX3_readHouse_146 : decode cX3_readHouse 146 = .ok (.aload_n 0, 1) := dk_42 (dk_at dksX3_readHouse_6 9 rfl rfl)
theorem dX3_readHouse_147 : decode cX3_readHouse 147 = .ok (.getfield 13, 3) := dk_180 0 13 (dk_at dksX3_readHouse_6 10 rfl rfl)
theorem dX3_readHouse_150 : decode cX3_readHouse 150 = .ok (.sipush 231, 3) := dk_17 0 231 (dk_at dksX3_readHouse_6 13 rfl rfl)
theorem dX3_readHouse_153 : decode cX3_readHouse 153 = .ok (.dup2, 1) := dk_92 (dk_at dksX3_readHouse_6 16 rfl rfl)
theorem dX3_readHouse_154 : decode cX3_readHouse 154 = .ok (.iaload, 1) := dk_46 (dk_at dksX3_readHouse_6 17 rfl rfl)
theorem dX3_readHouse_155 : decode cX3_readHouse 155 = .ok (.iconst 1, 1) := dk_4 (dk_at dksX3_readHouse_6 18 rfl rfl)
theorem dX3_readHouse_156 : decode cX3_readHouse 156 = .ok (.iadd, 1) := dk_96 (dk_at dksX3_readHouse_6 19 rfl rfl)
theorem dX3_readHouse_157 : decode cX3_readHouse 157 = .ok (.iastore, 1) := dk_79 (dk_at dksX3_readHouse_6 20 rfl rfl)
theorem dX3_readHouse_158 : decode cX3_readHouse 158 = .ok (.aload_n 0, 1) := dk_42 (dk_at dksX3_readHouse_6 21 rfl rfl)
theorem dX3_readHouse_159 : decode cX3_readHouse 159 = .ok (.invokevirtual 162, 3) := dk_182 0 162 (dk_at dksX3_readHouse_7 0 rfl rfl)
theorem dX3_readHouse_162 : decode cX3_readHouse 162 = .ok (.ireturn, 1) := dk_172 (dk_at dksX3_readHouse_7 3 rfl rfl)
abbrev cX3_at : ByteArray := prog_15_method_11_code
def yX3_at : MethodName := ⟨RX3, "at", "(II)I"⟩
def dkwX3_at_0 : List UInt8 := [16, 80, 16, 18, 26, 104, 96, 27, 96, 172]
abbrev dktX3_at_0 : List UInt8 := dkwX3_at_0 ++ []
theorem dksX3_at_0 : cX3_at.data.toList.drop 0 = dktX3_at_0 := by decide +kernel
theorem dX3_at_0 : decode cX3_at 0 = .ok (.bipush 80, 2) := dk_16 80 (dk_at dksX3_at_0 0 rfl rfl)
theorem dX3_at_2 : decode cX3_at 2 = .ok (.bipush 18, 2) := dk_16 18 (dk_at dksX3_at_0 2 rfl rfl)
theorem dX3_at_4 : decode cX3_at 4 = .ok (.iload_n 0, 1) := dk_26 (dk_at dksX3_at_0 4 rfl rfl)
theorem dX3_at_5 : decode cX3_at 5 = .ok (.imul, 1) := dk_104 (dk_at dksX3_at_0 5 rfl rfl)
theorem dX3_at_6 : decode cX3_at 6 = .ok (.iadd, 1) := dk_96 (dk_at dksX3_at_0 6 rfl rfl)
theorem dX3_at_7 : decode cX3_at 7 = .ok (.iload_n 1, 1) := dk_27 (dk_at dksX3_at_0 7 rfl rfl)
theorem dX3_at_8 : decode cX3_at 8 = .ok (.iadd, 1) := dk_96 (dk_at dksX3_at_0 8 rfl rfl)
theorem dX3_at_9 : decode cX3_at 9 = .ok (.ireturn, 1) := dk_172 (dk_at dksX3_at_0 9 rfl rfl)
abbrev cX3_readIn : ByteArray := prog_15_method_31_code
def yX3_readIn : MethodName := ⟨RX3, "readIn", "(I)Z"⟩
def dkwX3_readIn_3 : List UInt8 := [182, 0, 142, 4, 172]
abbrev dktX3_readIn_3 : List UInt8 := dkwX3_readIn_3 ++ []
def dkwX3_readIn_2 : List UInt8 := [42, 180, 0, 13, 27, 7, 184, 0, 75, 28, 79, 42, 180, 0, 13, 16, 8, 28, 104, 5, 96, 27, 79, 42]
abbrev dktX3_readIn_2 : List UInt8 := dkwX3_readIn_2 ++ dktX3_readIn_3
def dkwX3_readIn_1 : List UInt8 := [159, 0, 18, 42, 180, 0, 13, 16, 8, 28, 104, 5, 96, 46, 2, 159, 0, 9, 42, 7, 182, 0, 139, 172]
abbrev dktX3_readIn_1 : List UInt8 := dkwX3_readIn_1 ++ dktX3_readIn_2
def dkwX3_readIn_0 : List UInt8 := [42, 182, 0, 142, 42, 182, 0, 149, 154, 0, 9, 42, 5, 182, 0, 139, 172, 42, 182, 0, 145, 61, 28, 2]
abbrev dktX3_readIn_0 : List UInt8 := dkwX3_readIn_0 ++ dktX3_readIn_1
theorem dksX3_readIn_0 : cX3_readIn.data.toList.drop 0 = dktX3_readIn_0 := by decide +kernel
theorem dksX3_readIn_1 : cX3_readIn.data.toList.drop 24 = dktX3_readIn_1 := dk_seg dksX3_readIn_0 24 rfl rfl
theorem dksX3_readIn_2 : cX3_readIn.data.toList.drop 48 = dktX3_readIn_2 := dk_seg dksX3_readIn_1 24 rfl rfl
theorem dksX3_readIn_3 : cX3_readIn.data.toList.drop 72 = dktX3_readIn_3 := dk_seg dksX3_readIn_2 24 rfl rfl
theorem dX3_readIn_0 : decode cX3_readIn 0 = .ok (.aload_n 0, 1) := dk_42 (dk_at dksX3_readIn_0 0 rfl rfl)
theorem dX3_readIn_1 : decode cX3_readIn 1 = .ok (.invokevirtual 142, 3) := dk_182 0 142 (dk_at dksX3_readIn_0 1 rfl rfl)
theorem dX3_readIn_4 : decode cX3_readIn 4 = .ok (.aload_n 0, 1) := dk_42 (dk_at dksX3_readIn_0 4 rfl rfl)
theorem dX3_readIn_5 : decode cX3_readIn 5 = .ok (.invokevirtual 149, 3) := dk_182 0 149 (dk_at dksX3_readIn_0 5 rfl rfl)
theorem dX3_readIn_8 : decode cX3_readIn 8 = .ok (.ifCond .ne 9, 3) := dk_154 0 9 (dk_at dksX3_readIn_0 8 rfl rfl)
theorem dX3_readIn_11 : decode cX3_readIn 11 = .ok (.aload_n 0, 1) := dk_42 (dk_at dksX3_readIn_0 11 rfl rfl)
theorem dX3_readIn_12 : decode cX3_readIn 12 = .ok (.iconst 2, 1) := dk_5 (dk_at dksX3_readIn_0 12 rfl rfl)
theorem dX3_readIn_13 : decode cX3_readIn 13 = .ok (.invokevirtual 139, 3) := dk_182 0 139 (dk_at dksX3_readIn_0 13 rfl rfl)
theorem dX3_readIn_16 : decode cX3_readIn 16 = .ok (.ireturn, 1) := dk_172 (dk_at dksX3_readIn_0 16 rfl rfl)
theorem dX3_readIn_17 : decode cX3_readIn 17 = .ok (.aload_n 0, 1) := dk_42 (dk_at dksX3_readIn_0 17 rfl rfl)
theorem dX3_readIn_18 : decode cX3_readIn 18 = .ok (.invokevirtual 145, 3) := dk_182 0 145 (dk_at dksX3_readIn_0 18 rfl rfl)
theorem dX3_readIn_21 : decode cX3_readIn 21 = .ok (.istore_n 2, 1) := dk_61 (dk_at dksX3_readIn_0 21 rfl rfl)
theorem dX3_readIn_22 : decode cX3_readIn 22 = .ok (.iload_n 2, 1) := dk_28 (dk_at dksX3_readIn_0 22 rfl rfl)
theorem dX3_readIn_23 : decode cX3_readIn 23 = .ok (.iconst (-1), 1) := dk_2 (dk_at dksX3_readIn_0 23 rfl rfl)
theorem dX3_readIn_24 : decode cX3_readIn 24 = .ok (.if_icmp .eq 18, 3) := dk_159 0 18 (dk_at dksX3_readIn_1 0 rfl rfl)
theorem dX3_readIn_27 : decode cX3_readIn 27 = .ok (.aload_n 0, 1) := dk_42 (dk_at dksX3_readIn_1 3 rfl rfl)
theorem dX3_readIn_28 : decode cX3_readIn 28 = .ok (.getfield 13, 3) := dk_180 0 13 (dk_at dksX3_readIn_1 4 rfl rfl)
theorem dX3_readIn_31 : decode cX3_readIn 31 = .ok (.bipush 8, 2) := dk_16 8 (dk_at dksX3_readIn_1 7 rfl rfl)
theorem dX3_readIn_33 : decode cX3_readIn 33 = .ok (.iload_n 2, 1) := dk_28 (dk_at dksX3_readIn_1 9 rfl rfl)
theorem dX3_readIn_34 : decode cX3_readIn 34 = .ok (.imul, 1) := dk_104 (dk_at dksX3_readIn_1 10 rfl rfl)
theorem dX3_readIn_35 : decode cX3_readIn 35 = .ok (.iconst 2, 1) := dk_5 (dk_at dksX3_readIn_1 11 rfl rfl)
theorem dX3_readIn_36 : decode cX3_readIn 36 = .ok (.iadd, 1) := dk_96 (dk_at dksX3_readIn_1 12 rfl rfl)
theorem dX3_readIn_37 : decode cX3_readIn 37 = .ok (.iaload, 1) := dk_46 (dk_at dksX3_readIn_1 13 rfl rfl)
theorem dX3_readIn_38 : decode cX3_readIn 38 = .ok (.iconst (-1), 1) := dk_2 (dk_at dksX3_readIn_1 14 rfl rfl)
theorem dX3_readIn_39 : decode cX3_readIn 39 = .ok (.if_icmp .eq 9, 3) := dk_159 0 9 (dk_at dksX3_readIn_1 15 rfl rfl)
theorem dX3_readIn_42 : decode cX3_readIn 42 = .ok (.aload_n 0, 1) := dk_42 (dk_at dksX3_readIn_1 18 rfl rfl)
theorem dX3_readIn_43 : decode cX3_readIn 43 = .ok (.iconst 4, 1) := dk_7 (dk_at dksX3_readIn_1 19 rfl rfl)
theorem dX3_readIn_44 : decode cX3_readIn 44 = .ok (.invokevirtual 139, 3) := dk_182 0 139 (dk_at dksX3_readIn_1 20 rfl rfl)
theorem dX3_readIn_47 : decode cX3_readIn 47 = .ok (.ireturn, 1) := dk_172 (dk_at dksX3_readIn_1 23 rfl rfl)
theorem dX3_readIn_48 : decode cX3_readIn 48 = .ok (.aload_n 0, 1) := dk_42 (dk_at dksX3_readIn_2 0 rfl rfl)
theorem dX3_readIn_49 : decode cX3_readIn 49 = .ok (.getfield 13, 3) := dk_180 0 13 (dk_at dksX3_readIn_2 1 rfl rfl)
theorem dX3_readIn_52 : decode cX3_readIn 52 = .ok (.iload_n 1, 1) := dk_27 (dk_at dksX3_readIn_2 4 rfl rfl)
theorem dX3_readIn_53 : decode cX3_readIn 53 = .ok (.iconst 4, 1) := dk_7 (dk_at dksX3_readIn_2 5 rfl rfl)
theorem dX3_readIn_54 : decode cX3_readIn 54 = .ok (.invokestatic 75, 3) := dk_184 0 75 (dk_at dksX3_readIn_2 6 rfl rfl)
theorem dX3_readIn_57 : decode cX3_readIn 57 = .ok (.iload_n 2, 1) := dk_28 (dk_at dksX3_readIn_2 9 rfl rfl)
theorem dX3_readIn_58 : decode cX3_readIn 58 = .ok (.iastore, 1) := dk_79 (dk_at dksX3_readIn_2 10 rfl rfl)
theorem dX3_readIn_59 : decode cX3_readIn 59 = .ok (.aload_n 0, 1) := dk_42 (dk_at dksX3_readIn_2 11 rfl rfl)
theorem dX3_readIn_60 : decode cX3_readIn 60 = .ok (.getfield 13, 3) := dk_180 0 13 (dk_at dksX3_readIn_2 12 rfl rfl)
theorem dX3_readIn_63 : decode cX3_readIn 63 = .ok (.bipush 8, 2) := dk_16 8 (dk_at dksX3_readIn_2 15 rfl rfl)
theorem dX3_readIn_65 : decode cX3_readIn 65 = .ok (.iload_n 2, 1) := dk_28 (dk_at dksX3_readIn_2 17 rfl rfl)
theorem dX3_readIn_66 : decode cX3_readIn 66 = .ok (.imul, 1) := dk_104 (dk_at dksX3_readIn_2 18 rfl rfl)
theorem dX3_readIn_67 : decode cX3_readIn 67 = .ok (.iconst 2, 1) := dk_5 (dk_at dksX3_readIn_2 19 rfl rfl)
theorem dX3_readIn_68 : decode cX3_readIn 68 = .ok (.iadd, 1) := dk_96 (dk_at dksX3_readIn_2 20 rfl rfl)
theorem dX3_readIn_69 : decode cX3_readIn 69 = .ok (.iload_n 1, 1) := dk_27 (dk_at dksX3_readIn_2 21 rfl rfl)
theorem dX3_readIn_70 : decode cX3_readIn 70 = .ok (.iastore, 1) := dk_79 (dk_at dksX3_readIn_2 22 rfl rfl)
theorem dX3_readIn_71 : decode cX3_readIn 71 = .ok (.aload_n 0, 1) := dk_42 (dk_at dksX3_readIn_2 23 rfl rfl)
theorem dX3_readIn_72 : decode cX3_readIn 72 = .ok (.invokevirtual 142, 3) := dk_182 0 142 (dk_at dksX3_readIn_3 0 rfl rfl)
theorem dX3_readIn_75 : decode cX3_readIn 75 = .ok (.iconst 1, 1) := dk_4 (dk_at dksX3_readIn_3 3 rfl rfl)
theorem dX3_readIn_76 : decode cX3_readIn 76 = .ok (.ireturn, 1) := dk_172 (dk_at dksX3_readIn_3 4 rfl rfl)
abbrev cX3_readWish : ByteArray := prog_15_method_32_code
def yX3_readWish : MethodName := ⟨RX3, "readWish", "(I)Z"⟩
def dkwX3_readWish_4 : List UInt8 := [180, 0, 13, 27, 16, 11, 184, 0, 75, 92, 46, 4, 96, 79, 42, 182, 0, 142, 4, 172]
abbrev dktX3_readWish_4 : List UInt8 := dkwX3_readWish_4 ++ []
def dkwX3_readWish_3 : List UInt8 := [160, 0, 9, 42, 8, 182, 0, 139, 172, 42, 180, 0, 13, 27, 16, 12, 29, 96, 184, 0, 75, 28, 79, 42]
abbrev dktX3_readWish_3 : List UInt8 := dkwX3_readWish_3 ++ dktX3_readWish_4
def dkwX3_readWish_2 : List UInt8 := [184, 0, 75, 46, 28, 160, 0, 9, 42, 7, 182, 0, 139, 172, 132, 4, 1, 167, 255, 223, 29, 16, 6]
abbrev dktX3_readWish_2 : List UInt8 := dkwX3_readWish_2 ++ dktX3_readWish_3
def dkwX3_readWish_1 : List UInt8 := [184, 0, 75, 46, 62, 3, 54, 4, 21, 4, 29, 162, 0, 33, 42, 180, 0, 13, 27, 16, 12, 21, 4, 96]
abbrev dktX3_readWish_1 : List UInt8 := dkwX3_readWish_1 ++ dktX3_readWish_2
def dkwX3_readWish_0 : List UInt8 := [42, 182, 0, 145, 61, 28, 2, 160, 0, 9, 42, 7, 182, 0, 139, 172, 42, 180, 0, 13, 27, 16, 11]
abbrev dktX3_readWish_0 : List UInt8 := dkwX3_readWish_0 ++ dktX3_readWish_1
theorem dksX3_readWish_0 : cX3_readWish.data.toList.drop 0 = dktX3_readWish_0 := by decide +kernel
theorem dksX3_readWish_1 : cX3_readWish.data.toList.drop 23 = dktX3_readWish_1 := dk_seg dksX3_readWish_0 23 rfl rfl
theorem dksX3_readWish_2 : cX3_readWish.data.toList.drop 47 = dktX3_readWish_2 := dk_seg dksX3_readWish_1 24 rfl rfl
theorem dksX3_readWish_3 : cX3_readWish.data.toList.drop 70 = dktX3_readWish_3 := dk_seg dksX3_readWish_2 23 rfl rfl
theorem dksX3_readWish_4 : cX3_readWish.data.toList.drop 94 = dktX3_readWish_4 := dk_seg dksX3_readWish_3 24 rfl rfl
theorem dX3_readWish_0 : decode cX3_readWish 0 = .ok (.aload_n 0, 1) := dk_42 (dk_at dksX3_readWish_0 0 rfl rfl)
theorem dX3_readWish_1 : decode cX3_readWish 1 = .ok (.invokevirtual 145, 3) := dk_182 0 145 (dk_at dksX3_readWish_0 1 rfl rfl)
theorem dX3_readWish_4 : decode cX3_readWish 4 = .ok (.istore_n 2, 1) := dk_61 (dk_at dksX3_readWish_0 4 rfl rfl)
theorem dX3_readWish_5 : decode cX3_readWish 5 = .ok (.iload_n 2, 1) := dk_28 (dk_at dksX3_readWish_0 5 rfl rfl)
theorem dX3_readWish_6 : decode cX3_readWish 6 = .ok (.iconst (-1), 1) := dk_2 (dk_at dksX3_readWish_0 6 rfl rfl)
theorem dX3_readWish_7 : decode cX3_readWish 7 = .ok (.if_icmp .ne 9, 3) := dk_160 0 9 (dk_at dksX3_readWish_0 7 rfl rfl)
theorem dX3_readWish_10 : decode cX3_readWish 10 = .ok (.aload_n 0, 1) := dk_42 (dk_at dksX3_readWish_0 10 rfl rfl)
theorem dX3_readWish_11 : decode cX3_readWish 11 = .ok (.iconst 4, 1) := dk_7 (dk_at dksX3_readWish_0 11 rfl rfl)
theorem dX3_readWish_12 : decode cX3_readWish 12 = .ok (.invokevirtual 139, 3) := dk_182 0 139 (dk_at dksX3_readWish_0 12 rfl rfl)
theorem dX3_readWish_15 : decode cX3_readWish 15 = .ok (.ireturn, 1) := dk_172 (dk_at dksX3_readWish_0 15 rfl rfl)
theorem dX3_readWish_16 : decode cX3_readWish 16 = .ok (.aload_n 0, 1) := dk_42 (dk_at dksX3_readWish_0 16 rfl rfl)
theorem dX3_readWish_17 : decode cX3_readWish 17 = .ok (.getfield 13, 3) := dk_180 0 13 (dk_at dksX3_readWish_0 17 rfl rfl)
theorem dX3_readWish_20 : decode cX3_readWish 20 = .ok (.iload_n 1, 1) := dk_27 (dk_at dksX3_readWish_0 20 rfl rfl)
theorem dX3_readWish_21 : decode cX3_readWish 21 = .ok (.bipush 11, 2) := dk_16 11 (dk_at dksX3_readWish_0 21 rfl rfl)
theorem dX3_readWish_23 : decode cX3_readWish 23 = .ok (.invokestatic 75, 3) := dk_184 0 75 (dk_at dksX3_readWish_1 0 rfl rfl)
theorem dX3_readWish_26 : decode cX3_readWish 26 = .ok (.iaload, 1) := dk_46 (dk_at dksX3_readWish_1 3 rfl rfl)
theorem dX3_readWish_27 : decode cX3_readWish 27 = .ok (.istore_n 3, 1) := dk_62 (dk_at dksX3_readWish_1 4 rfl rfl)
theorem dX3_readWish_28 : decode cX3_readWish 28 = .ok (.iconst 0, 1) := dk_3 (dk_at dksX3_readWish_1 5 rfl rfl)
theorem dX3_readWish_29 : decode cX3_readWish 29 = .ok (.istore 4, 2) := dk_54 4 (dk_at dksX3_readWish_1 6 rfl rfl)
theorem dX3_readWish_31 : decode cX3_readWish 31 = .ok (.iload 4, 2) := dk_21 4 (dk_at dksX3_readWish_1 8 rfl rfl)
theorem dX3_readWish_33 : decode cX3_readWish 33 = .ok (.iload_n 3, 1) := dk_29 (dk_at dksX3_readWish_1 10 rfl rfl)
theorem dX3_readWish_34 : decode cX3_readWish 34 = .ok (.if_icmp .ge 33, 3) := dk_162 0 33 (dk_at dksX3_readWish_1 11 rfl rfl)
theorem dX3_readWish_37 : decode cX3_readWish 37 = .ok (.aload_n 0, 1) := dk_42 (dk_at dksX3_readWish_1 14 rfl rfl)
theorem dX3_readWish_38 : decode cX3_readWish 38 = .ok (.getfield 13, 3) := dk_180 0 13 (dk_at dksX3_readWish_1 15 rfl rfl)
theorem dX3_readWish_41 : decode cX3_readWish 41 = .ok (.iload_n 1, 1) := dk_27 (dk_at dksX3_readWish_1 18 rfl rfl)
theorem dX3_readWish_42 : decode cX3_readWish 42 = .ok (.bipush 12, 2) := dk_16 12 (dk_at dksX3_readWish_1 19 rfl rfl)
theorem dX3_readWish_44 : decode cX3_readWish 44 = .ok (.iload 4, 2) := dk_21 4 (dk_at dksX3_readWish_1 21 rfl rfl)
theorem dX3_readWish_46 : decode cX3_readWish 46 = .ok (.iadd, 1) := dk_96 (dk_at dksX3_readWish_1 23 rfl rfl)
theorem dX3_readWish_47 : decode cX3_readWish 47 = .ok (.invokestatic 75, 3) := dk_184 0 75 (dk_at dksX3_readWish_2 0 rfl rfl)
theorem dX3_readWish_50 : decode cX3_readWish 50 = .ok (.iaload, 1) := dk_46 (dk_at dksX3_readWish_2 3 rfl rfl)
theorem dX3_readWish_51 : decode cX3_readWish 51 = .ok (.iload_n 2, 1) := dk_28 (dk_at dksX3_readWish_2 4 rfl rfl)
theorem dX3_readWish_52 : decode cX3_readWish 52 = .ok (.if_icmp .ne 9, 3) := dk_160 0 9 (dk_at dksX3_readWish_2 5 rfl rfl)
theorem dX3_readWish_55 : decode cX3_readWish 55 = .ok (.aload_n 0, 1) := dk_42 (dk_at dksX3_readWish_2 8 rfl rfl)
theorem dX3_readWish_56 : decode cX3_readWish 56 = .ok (.iconst 4, 1) := dk_7 (dk_at dksX3_readWish_2 9 rfl rfl)
theorem dX3_readWish_57 : decode cX3_readWish 57 = .ok (.invokevirtual 139, 3) := dk_182 0 139 (dk_at dksX3_readWish_2 10 rfl rfl)
theorem dX3_readWish_60 : decode cX3_readWish 60 = .ok (.ireturn, 1) := dk_172 (dk_at dksX3_readWish_2 13 rfl rfl)
theorem dX3_readWish_61 : decode cX3_readWish 61 = .ok (.iinc 4 1, 3) := dk_132 4 1 (dk_at dksX3_readWish_2 14 rfl rfl)
theorem dX3_readWish_64 : decode cX3_readWish 64 = .ok (.goto (-33), 3) := dk_167 255 223 (dk_at dksX3_readWish_2 17 rfl rfl)
theorem dX3_readWish_67 : decode cX3_readWish 67 = .ok (.iload_n 3, 1) := dk_29 (dk_at dksX3_readWish_2 20 rfl rfl)
theorem dX3_readWish_68 : decode cX3_readWish 68 = .ok (.bipush 6, 2) := dk_16 6 (dk_at dksX3_readWish_2 21 rfl rfl)
theorem dX3_readWish_70 : decode cX3_readWish 70 = .ok (.if_icmp .ne 9, 3) := dk_160 0 9 (dk_at dksX3_readWish_3 0 rfl rfl)
theorem dX3_readWish_73 : decode cX3_readWish 73 = .ok (.aload_n 0, 1) := dk_42 (dk_at dksX3_readWish_3 3 rfl rfl)
theorem dX3_readWish_74 : decode cX3_readWish 74 = .ok (.iconst 5, 1) := dk_8 (dk_at dksX3_readWish_3 4 rfl rfl)
theorem dX3_readWish_75 : decode cX3_readWish 75 = .ok (.invokevirtual 139, 3) := dk_182 0 139 (dk_at dksX3_readWish_3 5 rfl rfl)
theorem dX3_readWish_78 : decode cX3_readWish 78 = .ok (.ireturn, 1) := dk_172 (dk_at dksX3_readWish_3 8 rfl rfl)
theorem dX3_readWish_79 : decode cX3_readWish 79 = .ok (.aload_n 0, 1) := dk_42 (dk_at dksX3_readWish_3 9 rfl rfl)
theorem dX3_readWish_80 : decode cX3_readWish 80 = .ok (.getfield 13, 3) := dk_180 0 13 (dk_at dksX3_readWish_3 10 rfl rfl)
theorem dX3_readWish_83 : decode cX3_readWish 83 = .ok (.iload_n 1, 1) := dk_27 (dk_at dksX3_readWish_3 13 rfl rfl)
theorem dX3_readWish_84 : decode cX3_readWish 84 = .ok (.bipush 12, 2) := dk_16 12 (dk_at dksX3_readWish_3 14 rfl rfl)
theorem dX3_readWish_86 : decode cX3_readWish 86 = .ok (.iload_n 3, 1) := dk_29 (dk_at dksX3_readWish_3 16 rfl rfl)
theorem dX3_readWish_87 : decode cX3_readWish 87 = .ok (.iadd, 1) := dk_96 (dk_at dksX3_readWish_3 17 rfl rfl)
theorem dX3_readWish_88 : decode cX3_readWish 88 = .ok (.invokestatic 75, 3) := dk_184 0 75 (dk_at dksX3_readWish_3 18 rfl rfl)
theorem dX3_readWish_91 : decode cX3_readWish 91 = .ok (.iload_n 2, 1) := dk_28 (dk_at dksX3_readWish_3 21 rfl rfl)
theorem dX3_readWish_92 : decode cX3_readWish 92 = .ok (.iastore, 1) := dk_79 (dk_at dksX3_readWish_3 22 rfl rfl)
theorem dX3_readWish_93 : decode cX3_readWish 93 = .ok (.aload_n 0, 1) := dk_42 (dk_at dksX3_readWish_3 23 rfl rfl)
theorem dX3_readWish_94 : decode cX3_readWish 94 = .ok (.getfield 13, 3) := dk_180 0 13 (dk_at dksX3_readWish_4 0 rfl rfl)
theorem dX3_readWish_97 : decode cX3_readWish 97 = .ok (.iload_n 1, 1) := dk_27 (dk_at dksX3_readWish_4 3 rfl rfl)
theorem dX3_readWish_98 : decode cX3_readWish 98 = .ok (.bipush 11, 2) := dk_16 11 (dk_at dksX3_readWish_4 4 rfl rfl)
theorem dX3_readWish_100 : decode cX3_readWish 100 = .ok (.invokestatic 75, 3) := dk_184 0 75 (dk_at dksX3_readWish_4 6 rfl rfl)
theorem dX3_readWish_103 : decode cX3_readWish 103 = .ok (.dup2, 1) := dk_92 (dk_at dksX3_readWish_4 9 rfl rfl)
theorem dX3_readWish_104 : decode cX3_readWish 104 = .ok (.iaload, 1) := dk_46 (dk_at dksX3_readWish_4 10 rfl rfl)
theorem dX3_readWish_105 : decode cX3_readWish 105 = .ok (.iconst 1, 1) := dk_4 (dk_at dksX3_readWish_4 11 rfl rfl)
theorem dX3_readWish_106 : decode cX3_readWish 106 = .ok (.iadd, 1) := dk_96 (dk_at dksX3_readWish_4 12 rfl rfl)
theorem dX3_readWish_107 : decode cX3_readWish 107 = .ok (.iastore, 1) := dk_79 (dk_at dksX3_readWish_4 13 rfl rfl)
theorem dX3_readWish_108 : decode cX3_readWish 108 = .ok (.aload_n 0, 1) := dk_42 (dk_at dksX3_readWish_4 14 rfl rfl)
theorem dX3_readWish_109 : decode cX3_readWish 109 = .ok (.invokevirtual 142, 3) := dk_182 0 142 (dk_at dksX3_readWish_4 15 rfl rfl)
theorem dX3_readWish_112 : decode cX3_readWish 112 = .ok (.iconst 1, 1) := dk_4 (dk_at dksX3_readWish_4 18 rfl rfl)
theorem dX3_readWish_113 : decode cX3_readWish 113 = .ok (.ireturn, 1) := dk_172 (dk_at dksX3_readWish_4 19 rfl rfl)
abbrev cX3_readRule : ByteArray := prog_15_method_36_code
def yX3_readRule : MethodName := ⟨RX3, "readRule", "()Z"⟩
def dkwX3_readRule_3 : List UInt8 := [167, 0, 4, 3, 172]
abbrev dktX3_readRule_3 : List UInt8 := dkwX3_readRule_3 ++ []
def dkwX3_readRule_2 : List UInt8 := [96, 27, 184, 0, 171, 27, 184, 0, 174, 182, 0, 159, 153, 0, 14, 42, 182, 0, 162, 153, 0, 7, 4]
abbrev dktX3_readRule_2 : List UInt8 := dkwX3_readRule_2 ++ dktX3_readRule_3
def dkwX3_readRule_1 : List UInt8 := [167, 255, 239, 27, 16, 6, 160, 0, 9, 42, 5, 182, 0, 139, 172, 42, 182, 0, 142, 42, 17, 0, 224, 27]
abbrev dktX3_readRule_1 : List UInt8 := dkwX3_readRule_1 ++ dktX3_readRule_2
def dkwX3_readRule_0 : List UInt8 := [42, 182, 0, 142, 3, 60, 27, 16, 6, 162, 0, 17, 42, 27, 182, 0, 130, 154, 0, 9, 132, 1, 1]
abbrev dktX3_readRule_0 : List UInt8 := dkwX3_readRule_0 ++ dktX3_readRule_1
theorem dksX3_readRule_0 : cX3_readRule.data.toList.drop 0 = dktX3_readRule_0 := by decide +kernel
theorem dksX3_readRule_1 : cX3_readRule.data.toList.drop 23 = dktX3_readRule_1 := dk_seg dksX3_readRule_0 23 rfl rfl
theorem dksX3_readRule_2 : cX3_readRule.data.toList.drop 47 = dktX3_readRule_2 := dk_seg dksX3_readRule_1 24 rfl rfl
theorem dksX3_readRule_3 : cX3_readRule.data.toList.drop 70 = dktX3_readRule_3 := dk_seg dksX3_readRule_2 23 rfl rfl
theorem dX3_readRule_0 : decode cX3_readRule 0 = .ok (.aload_n 0, 1) := dk_42 (dk_at dksX3_readRule_0 0 rfl rfl)
theorem dX3_readRule_1 : decode cX3_readRule 1 = .ok (.invokevirtual 142, 3) := dk_182 0 142 (dk_at dksX3_readRule_0 1 rfl rfl)
theorem dX3_readRule_4 : decode cX3_readRule 4 = .ok (.iconst 0, 1) := dk_3 (dk_at dksX3_readRule_0 4 rfl rfl)
theorem dX3_readRule_5 : decode cX3_readRule 5 = .ok (.istore_n 1, 1) := dk_60 (dk_at dksX3_readRule_0 5 rfl rfl)
theorem dX3_readRule_6 : decode cX3_readRule 6 = .ok (.iload_n 1, 1) := dk_27 (dk_at dksX3_readRule_0 6 rfl rfl)
theorem dX3_readRule_7 : decode cX3_readRule 7 = .ok (.bipush 6, 2) := dk_16 6 (dk_at dksX3_readRule_0 7 rfl rfl)
theorem dX3_readRule_9 : decode cX3_readRule 9 = .ok (.if_icmp .ge 17, 3) := dk_162 0 17 (dk_at dksX3_readRule_0 9 rfl rfl)
theorem dX3_readRule_12 : decode cX3_readRule 12 = .ok (.aload_n 0, 1) := dk_42 (dk_at dksX3_readRule_0 12 rfl rfl)
theorem dX3_readRule_13 : decode cX3_readRule 13 = .ok (.iload_n 1, 1) := dk_27 (dk_at dksX3_readRule_0 13 rfl rfl)
theorem dX3_readRule_14 : decode cX3_readRule 14 = .ok (.invokevirtual 130, 3) := dk_182 0 130 (dk_at dksX3_readRule_0 14 rfl rfl)
theorem dX3_readRule_17 : decode cX3_readRule 17 = .ok (.ifCond .ne 9, 3) := dk_154 0 9 (dk_at dksX3_readRule_0 17 rfl rfl)
theorem dX3_readRule_20 : decode cX3_readRule 20 = .ok (.iinc 1 1, 3) := dk_132 1 1 (dk_at dksX3_readRule_0 20 rfl rfl)
theorem dX3_readRule_23 : decode cX3_readRule 23 = .ok (.goto (-17), 3) := dk_167 255 239 (dk_at dksX3_readRule_1 0 rfl rfl)
theorem dX3_readRule_26 : decode cX3_readRule 26 = .ok (.iload_n 1, 1) := dk_27 (dk_at dksX3_readRule_1 3 rfl rfl)
theorem dX3_readRule_27 : decode cX3_readRule 27 = .ok (.bipush 6, 2) := dk_16 6 (dk_at dksX3_readRule_1 4 rfl rfl)
theorem dX3_readRule_29 : decode cX3_readRule 29 = .ok (.if_icmp .ne 9, 3) := dk_160 0 9 (dk_at dksX3_readRule_1 6 rfl rfl)
theorem dX3_readRule_32 : decode cX3_readRule 32 = .ok (.aload_n 0, 1) := dk_42 (dk_at dksX3_readRule_1 9 rfl rfl)
theorem dX3_readRule_33 : decode cX3_readRule 33 = .ok (.iconst 2, 1) := dk_5 (dk_at dksX3_readRule_1 10 rfl rfl)
theorem dX3_readRule_34 : decode cX3_readRule 34 = .ok (.invokevirtual 139, 3) := dk_182 0 139 (dk_at dksX3_readRule_1 11 rfl rfl)
theorem dX3_readRule_37 : decode cX3_readRule 37 = .ok (.ireturn, 1) := dk_172 (dk_at dksX3_readRule_1 14 rfl rfl)
theorem dX3_readRule_38 : decode cX3_readRule 38 = .ok (.aload_n 0, 1) := dk_42 (dk_at dksX3_readRule_1 15 rfl rfl)
theorem dX3_readRule_39 : decode cX3_readRule 39 = .ok (.invokevirtual 142, 3) := dk_182 0 142 (dk_at dksX3_readRule_1 16 rfl rfl)
theorem dX3_readRule_42 : decode cX3_readRule 42 = .ok (.aload_n 0, 1) := dk_42 (dk_at dksX3_readRule_1 19 rfl rfl)
theorem dX3_readRule_43 : decode cX3_readRule 43 = .ok (.sipush 224, 3) := dk_17 0 224 (dk_at dksX3_readRule_1 20 rfl rfl)
theorem dX3_readRule_46 : decode cX3_readRule 46 = .ok (.iload_n 1, 1) := dk_27 (dk_at dksX3_readRule_1 23 rfl rfl)
theorem dX3_readRule_47 : decode cX3_readRule 47 = .ok (.iadd, 1) := dk_96 (dk_at dksX3_readRule_2 0 rfl rfl)
theorem dX3_readRule_48 : decode cX3_readRule 48 = .ok (.iload_n 1, 1) := dk_27 (dk_at dksX3_readRule_2 1 rfl rfl)
theorem dX3_readRule_49 : decode cX3_readRule 49 = .ok (.invokestatic 171, 3) := dk_184 0 171 (dk_at dksX3_readRule_2 2 rfl rfl)
theorem dX3_readRule_52 : decode cX3_readRule 52 = .ok (.iload_n 1, 1) := dk_27 (dk_at dksX3_readRule_2 5 rfl rfl)
theorem dX3_readRule_53 : decode cX3_readRule 53 = .ok (.invokestatic 174, 3) := dk_184 0 174 (dk_at dksX3_readRule_2 6 rfl rfl)
theorem dX3_readRule_56 : decode cX3_readRule 56 = .ok (.invokevirtual 159, 3) := dk_182 0 159 (dk_at dksX3_readRule_2 9 rfl rfl)
theorem dX3_readRule_59 : decode cX3_readRule 59 = .ok (.ifCond .eq 14, 3) := dk_153 0 14 (dk_at dksX3_readRule_2 12 rfl rfl)
theorem dX3_readRule_62 : decode cX3_readRule 62 = .ok (.aload_n 0, 1) := dk_42 (dk_at dksX3_readRule_2 15 rfl rfl)
theorem dX3_readRule_63 : decode cX3_readRule 63 = .ok (.invokevirtual 162, 3) := dk_182 0 162 (dk_at dksX3_readRule_2 16 rfl rfl)
theorem dX3_readRule_66 : decode cX3_readRule 66 = .ok (.ifCond .eq 7, 3) := dk_153 0 7 (dk_at dksX3_readRule_2 19 rfl rfl)
theorem dX3_readRule_69 : decode cX3_readRule 69 = .ok (.iconst 1, 1) := dk_4 (dk_at dksX3_readRule_2 22 rfl rfl)
theorem dX3_readRule_70 : decode cX3_readRule 70 = .ok (.goto 4, 3) := dk_167 0 4 (dk_at dksX3_readRule_3 0 rfl rfl)
theorem dX3_readRule_73 : decode cX3_readRule 73 = .ok (.iconst 0, 1) := dk_3 (dk_at dksX3_readRule_3 3 rfl rfl)
theorem dX3_readRule_74 : decode cX3_readRule 74 = .ok (.ireturn, 1) := dk_172 (dk_at dksX3_readRule_3 4 rfl rfl)
abbrev cX3_leastOf : ByteArray := prog_15_method_34_code
def yX3_leastOf : MethodName := ⟨RX3, "leastOf", "(I)I"⟩
def dkwX3_leastOf_0 : List UInt8 := [26, 5, 159, 0, 8, 26, 6, 160, 0, 7, 3, 167, 0, 4, 4, 172]
abbrev dktX3_leastOf_0 : List UInt8 := dkwX3_leastOf_0 ++ []
theorem dksX3_leastOf_0 : cX3_leastOf.data.toList.drop 0 = dktX3_leastOf_0 := by decide +kernel
theorem dX3_leastOf_0 : decode cX3_leastOf 0 = .ok (.iload_n 0, 1) := dk_26 (dk_at dksX3_leastOf_0 0 rfl rfl)
theorem dX3_leastOf_1 : decode cX3_leastOf 1 = .ok (.iconst 2, 1) := dk_5 (dk_at dksX3_leastOf_0 1 rfl rfl)
theorem dX3_leastOf_2 : decode cX3_leastOf 2 = .ok (.if_icmp .eq 8, 3) := dk_159 0 8 (dk_at dksX3_leastOf_0 2 rfl rfl)
theorem dX3_leastOf_5 : decode cX3_leastOf 5 = .ok (.iload_n 0, 1) := dk_26 (dk_at dksX3_leastOf_0 5 rfl rfl)
theorem dX3_leastOf_6 : decode cX3_leastOf 6 = .ok (.iconst 3, 1) := dk_6 (dk_at dksX3_leastOf_0 6 rfl rfl)
theorem dX3_leastOf_7 : decode cX3_leastOf 7 = .ok (.if_icmp .ne 7, 3) := dk_160 0 7 (dk_at dksX3_leastOf_0 7 rfl rfl)
theorem dX3_leastOf_10 : decode cX3_leastOf 10 = .ok (.iconst 0, 1) := dk_3 (dk_at dksX3_leastOf_0 10 rfl rfl)
theorem dX3_leastOf_11 : decode cX3_leastOf 11 = .ok (.goto 4, 3) := dk_167 0 4 (dk_at dksX3_leastOf_0 11 rfl rfl)
theorem dX3_leastOf_14 : decode cX3_leastOf 14 = .ok (.iconst 1, 1) := dk_4 (dk_at dksX3_leastOf_0 14 rfl rfl)
theorem dX3_leastOf_15 : decode cX3_leastOf 15 = .ok (.ireturn, 1) := dk_172 (dk_at dksX3_leastOf_0 15 rfl rfl)
abbrev cX3_mostOf : ByteArray := prog_15_method_35_code
def yX3_mostOf : MethodName := ⟨RX3, "mostOf", "(I)I"⟩
def dkwX3_mostOf_1 : List UInt8 := [26, 6, 160, 0, 8, 16, 100, 167, 0, 15, 26, 7, 160, 0, 9, 17, 3, 231, 167, 0, 4, 6, 172]
abbrev dktX3_mostOf_1 : List UInt8 := dkwX3_mostOf_1 ++ []
def dkwX3_mostOf_0 : List UInt8 := [26, 153, 0, 8, 26, 5, 160, 0, 8, 16, 9, 167, 0, 35, 26, 4, 160, 0, 8, 16, 52, 167, 0, 25]
abbrev dktX3_mostOf_0 : List UInt8 := dkwX3_mostOf_0 ++ dktX3_mostOf_1
theorem dksX3_mostOf_0 : cX3_mostOf.data.toList.drop 0 = dktX3_mostOf_0 := by decide +kernel
theorem dksX3_mostOf_1 : cX3_mostOf.data.toList.drop 24 = dktX3_mostOf_1 := dk_seg dksX3_mostOf_0 24 rfl rfl
theorem dX3_mostOf_0 : decode cX3_mostOf 0 = .ok (.iload_n 0, 1) := dk_26 (dk_at dksX3_mostOf_0 0 rfl rfl)
theorem dX3_mostOf_1 : decode cX3_mostOf 1 = .ok (.ifCond .eq 8, 3) := dk_153 0 8 (dk_at dksX3_mostOf_0 1 rfl rfl)
theorem dX3_mostOf_4 : decode cX3_mostOf 4 = .ok (.iload_n 0, 1) := dk_26 (dk_at dksX3_mostOf_0 4 rfl rfl)
theorem dX3_mostOf_5 : decode cX3_mostOf 5 = .ok (.iconst 2, 1) := dk_5 (dk_at dksX3_mostOf_0 5 rfl rfl)
theorem dX3_mostOf_6 : decode cX3_mostOf 6 = .ok (.if_icmp .ne 8, 3) := dk_160 0 8 (dk_at dksX3_mostOf_0 6 rfl rfl)
theorem dX3_mostOf_9 : decode cX3_mostOf 9 = .ok (.bipush 9, 2) := dk_16 9 (dk_at dksX3_mostOf_0 9 rfl rfl)
theorem dX3_mostOf_11 : decode cX3_mostOf 11 = .ok (.goto 35, 3) := dk_167 0 35 (dk_at dksX3_mostOf_0 11 rfl rfl)
theorem dX3_mostOf_14 : decode cX3_mostOf 14 = .ok (.iload_n 0, 1) := dk_26 (dk_at dksX3_mostOf_0 14 rfl rfl)
theorem dX3_mostOf_15 : decode cX3_mostOf 15 = .ok (.iconst 1, 1) := dk_4 (dk_at dksX3_mostOf_0 15 rfl rfl)
theorem dX3_mostOf_16 : decode cX3_mostOf 16 = .ok (.if_icmp .ne 8, 3) := dk_160 0 8 (dk_at dksX3_mostOf_0 16 rfl rfl)
theorem dX3_mostOf_19 : decode cX3_mostOf 19 = .ok (.bipush 52, 2) := dk_16 52 (dk_at dksX3_mostOf_0 19 rfl rfl)
theorem dX3_mostOf_21 : decode cX3_mostOf 21 = .ok (.goto 25, 3) := dk_167 0 25 (dk_at dksX3_mostOf_0 21 rfl rfl)
theorem dX3_mostOf_24 : decode cX3_mostOf 24 = .ok (.iload_n 0, 1) := dk_26 (dk_at dksX3_mostOf_1 0 rfl rfl)
theorem dX3_mostOf_25 : decode cX3_mostOf 25 = .ok (.iconst 3, 1) := dk_6 (dk_at dksX3_mostOf_1 1 rfl rfl)
theorem dX3_mostOf_26 : decode cX3_mostOf 26 = .ok (.if_icmp .ne 8, 3) := dk_160 0 8 (dk_at dksX3_mostOf_1 2 rfl rfl)
theorem dX3_mostOf_29 : decode cX3_mostOf 29 = .ok (.bipush 100, 2) := dk_16 100 (dk_at dksX3_mostOf_1 5 rfl rfl)
theorem dX3_mostOf_31 : decode cX3_mostOf 31 = .ok (.goto 15, 3) := dk_167 0 15 (dk_at dksX3_mostOf_1 7 rfl rfl)
theorem dX3_mostOf_34 : decode cX3_mostOf 34 = .ok (.iload_n 0, 1) := dk_26 (dk_at dksX3_mostOf_1 10 rfl rfl)
theorem dX3_mostOf_35 : decode cX3_mostOf 35 = .ok (.iconst 4, 1) := dk_7 (dk_at dksX3_mostOf_1 11 rfl rfl)
theorem dX3_mostOf_36 : decode cX3_mostOf 36 = .ok (.if_icmp .ne 9, 3) := dk_160 0 9 (dk_at dksX3_mostOf_1 12 rfl rfl)
theorem dX3_mostOf_39 : decode cX3_mostOf 39 = .ok (.sipush 999, 3) := dk_17 3 231 (dk_at dksX3_mostOf_1 15 rfl rfl)
theorem dX3_mostOf_42 : decode cX3_mostOf 42 = .ok (.goto 4, 3) := dk_167 0 4 (dk_at dksX3_mostOf_1 18 rfl rfl)
theorem dX3_mostOf_45 : decode cX3_mostOf 45 = .ok (.iconst 3, 1) := dk_6 (dk_at dksX3_mostOf_1 21 rfl rfl)
theorem dX3_mostOf_46 : decode cX3_mostOf 46 = .ok (.ireturn, 1) := dk_172 (dk_at dksX3_mostOf_1 22 rfl rfl)
abbrev cX3_copies : ByteArray := prog_15_method_39_code
def yX3_copies : MethodName := ⟨RX3, "copies", "([I[I)V"⟩
def dkwX3_copies_0 : List UInt8 := [3, 61, 28, 17, 1, 134, 162, 0, 15, 43, 28, 42, 28, 46, 79, 132, 2, 1, 167, 255, 240, 177]
abbrev dktX3_copies_0 : List UInt8 := dkwX3_copies_0 ++ []
theorem dksX3_copies_0 : cX3_copies.data.toList.drop 0 = dktX3_copies_0 := by decide +kernel
theorem dX3_copies_0 : decode cX3_copies 0 = .ok (.iconst 0, 1) := dk_3 (dk_at dksX3_copies_0 0 rfl rfl)
theorem dX3_copies_1 : decode cX3_copies 1 = .ok (.istore_n 2, 1) := dk_61 (dk_at dksX3_copies_0 1 rfl rfl)
theorem dX3_copies_2 : decode cX3_copies 2 = .ok (.iload_n 2, 1) := dk_28 (dk_at dksX3_copies_0 2 rfl rfl)
theorem dX3_copies_3 : decode cX3_copies 3 = .ok (.sipush 390, 3) := dk_17 1 134 (dk_at dksX3_copies_0 3 rfl rfl)
theorem dX3_copies_6 : decode cX3_copies 6 = .ok (.if_icmp .ge 15, 3) := dk_162 0 15 (dk_at dksX3_copies_0 6 rfl rfl)
theorem dX3_copies_9 : decode cX3_copies 9 = .ok (.aload_n 1, 1) := dk_43 (dk_at dksX3_copies_0 9 rfl rfl)
theorem dX3_copies_10 : decode cX3_copies 10 = .ok (.iload_n 2, 1) := dk_28 (dk_at dksX3_copies_0 10 rfl rfl)
theorem dX3_copies_11 : decode cX3_copies 11 = .ok (.aload_n 0, 1) := dk_42 (dk_at dksX3_copies_0 11 rfl rfl)
theorem dX3_copies_12 : decode cX3_copies 12 = .ok (.iload_n 2, 1) := dk_28 (dk_at dksX3_copies_0 12 rfl rfl)
theorem dX3_copies_13 : decode cX3_copies 13 = .ok (.iaload, 1) := dk_46 (dk_at dksX3_copies_0 13 rfl rfl)
theorem dX3_copies_14 : decode cX3_copies 14 = .ok (.iastore, 1) := dk_79 (dk_at dksX3_copies_0 14 rfl rfl)
theorem dX3_copies_15 : decode cX3_copies 15 = .ok (.iinc 2 1, 3) := dk_132 2 1 (dk_at dksX3_copies_0 15 rfl rfl)
theorem dX3_copies_18 : decode cX3_copies 18 = .ok (.goto (-16), 3) := dk_167 255 240 (dk_at dksX3_copies_0 18 rfl rfl)
theorem dX3_copies_21 : decode cX3_copies 21 = .ok (.return_, 1) := dk_177 (dk_at dksX3_copies_0 21 rfl rfl)
abbrev cX3_gives : ByteArray := prog_15_method_6_code
def yX3_gives : MethodName := ⟨RX3, "gives", "(I)I"⟩
def dkwX3_gives_0 : List UInt8 := [42, 3, 181, 0, 65, 42, 3, 181, 0, 68, 27, 172]
abbrev dktX3_gives_0 : List UInt8 := dkwX3_gives_0 ++ []
theorem dksX3_gives_0 : cX3_gives.data.toList.drop 0 = dktX3_gives_0 := by decide +kernel
theorem dX3_gives_0 : decode cX3_gives 0 = .ok (.aload_n 0, 1) := dk_42 (dk_at dksX3_gives_0 0 rfl rfl)
theorem dX3_gives_1 : decode cX3_gives 1 = .ok (.iconst 0, 1) := dk_3 (dk_at dksX3_gives_0 1 rfl rfl)
theorem dX3_gives_2 : decode cX3_gives 2 = .ok (.putfield 65, 3) := dk_181 0 65 (dk_at dksX3_gives_0 2 rfl rfl)
theorem dX3_gives_5 : decode cX3_gives 5 = .ok (.aload_n 0, 1) := dk_42 (dk_at dksX3_gives_0 5 rfl rfl)
theorem dX3_gives_6 : decode cX3_gives 6 = .ok (.iconst 0, 1) := dk_3 (dk_at dksX3_gives_0 6 rfl rfl)
theorem dX3_gives_7 : decode cX3_gives 7 = .ok (.putfield 68, 3) := dk_181 0 68 (dk_at dksX3_gives_0 7 rfl rfl)
theorem dX3_gives_10 : decode cX3_gives 10 = .ok (.iload_n 1, 1) := dk_27 (dk_at dksX3_gives_0 10 rfl rfl)
theorem dX3_gives_11 : decode cX3_gives 11 = .ok (.ireturn, 1) := dk_172 (dk_at dksX3_gives_0 11 rfl rfl)
abbrev cX3_fault : ByteArray := prog_15_method_40_code
def yX3_fault : MethodName := ⟨RX3, "fault", "(I)I"⟩
def dkwX3_fault_1 : List UInt8 := [180, 0, 36, 167, 0, 4, 2, 172]
abbrev dktX3_fault_1 : List UInt8 := dkwX3_fault_1 ++ []
def dkwX3_fault_0 : List UInt8 := [42, 3, 181, 0, 65, 27, 154, 0, 10, 42, 180, 0, 32, 167, 0, 16, 27, 4, 160, 0, 10, 42]
abbrev dktX3_fault_0 : List UInt8 := dkwX3_fault_0 ++ dktX3_fault_1
theorem dksX3_fault_0 : cX3_fault.data.toList.drop 0 = dktX3_fault_0 := by decide +kernel
theorem dksX3_fault_1 : cX3_fault.data.toList.drop 22 = dktX3_fault_1 := dk_seg dksX3_fault_0 22 rfl rfl
theorem dX3_fault_0 : decode cX3_fault 0 = .ok (.aload_n 0, 1) := dk_42 (dk_at dksX3_fault_0 0 rfl rfl)
theorem dX3_fault_1 : decode cX3_fault 1 = .ok (.iconst 0, 1) := dk_3 (dk_at dksX3_fault_0 1 rfl rfl)
theorem dX3_fault_2 : decode cX3_fault 2 = .ok (.putfield 65, 3) := dk_181 0 65 (dk_at dksX3_fault_0 2 rfl rfl)
theorem dX3_fault_5 : decode cX3_fault 5 = .ok (.iload_n 1, 1) := dk_27 (dk_at dksX3_fault_0 5 rfl rfl)
theorem dX3_fault_6 : decode cX3_fault 6 = .ok (.ifCond .ne 10, 3) := dk_154 0 10 (dk_at dksX3_fault_0 6 rfl rfl)
theorem dX3_fault_9 : decode cX3_fault 9 = .ok (.aload_n 0, 1) := dk_42 (dk_at dksX3_fault_0 9 rfl rfl)
theorem dX3_fault_10 : decode cX3_fault 10 = .ok (.getfield 32, 3) := dk_180 0 32 (dk_at dksX3_fault_0 10 rfl rfl)
theorem dX3_fault_13 : decode cX3_fault 13 = .ok (.goto 16, 3) := dk_167 0 16 (dk_at dksX3_fault_0 13 rfl rfl)
theorem dX3_fault_16 : decode cX3_fault 16 = .ok (.iload_n 1, 1) := dk_27 (dk_at dksX3_fault_0 16 rfl rfl)
theorem dX3_fault_17 : decode cX3_fault 17 = .ok (.iconst 1, 1) := dk_4 (dk_at dksX3_fault_0 17 rfl rfl)
theorem dX3_fault_18 : decode cX3_fault 18 = .ok (.if_icmp .ne 10, 3) := dk_160 0 10 (dk_at dksX3_fault_0 18 rfl rfl)
theorem dX3_fault_21 : decode cX3_fault 21 = .ok (.aload_n 0, 1) := dk_42 (dk_at dksX3_fault_0 21 rfl rfl)
theorem dX3_fault_22 : decode cX3_fault 22 = .ok (.getfield 36, 3) := dk_180 0 36 (dk_at dksX3_fault_1 0 rfl rfl)
theorem dX3_fault_25 : decode cX3_fault 25 = .ok (.goto 4, 3) := dk_167 0 4 (dk_at dksX3_fault_1 3 rfl rfl)
theorem dX3_fault_28 : decode cX3_fault 28 = .ok (.iconst (-1), 1) := dk_2 (dk_at dksX3_fault_1 6 rfl rfl)
theorem dX3_fault_29 : decode cX3_fault 29 = .ok (.ireturn, 1) := dk_172 (dk_at dksX3_fault_1 7 rfl rfl)
abbrev cX3_many : ByteArray := prog_15_method_53_code
def yX3_many : MethodName := ⟨RX3, "many", "(I)I"⟩
def dkwX3_many_7 : List UInt8 := [42, 4, 182, 0, 186, 172]
abbrev dktX3_many_7 : List UInt8 := dkwX3_many_7 ++ []
def dkwX3_many_6 : List UInt8 := [180, 0, 7, 17, 1, 42, 46, 182, 0, 199, 172, 42, 42, 180, 0, 7, 17, 1, 43, 46, 182, 0, 199, 172]
abbrev dktX3_many_6 : List UInt8 := dkwX3_many_6 ++ dktX3_many_7
def dkwX3_many_5 : List UInt8 := [182, 0, 199, 172, 42, 42, 182, 0, 231, 182, 0, 199, 172, 42, 42, 180, 0, 196, 182, 0, 199, 172, 42, 42]
abbrev dktX3_many_5 : List UInt8 := dkwX3_many_5 ++ dktX3_many_6
def dkwX3_many_4 : List UInt8 := [17, 0, 233, 46, 182, 0, 199, 172, 42, 42, 182, 0, 225, 182, 0, 199, 172, 42, 42, 182, 0, 228]
abbrev dktX3_many_4 : List UInt8 := dkwX3_many_4 ++ dktX3_many_5
def dkwX3_many_3 : List UInt8 := [182, 0, 199, 172, 42, 42, 180, 0, 7, 17, 0, 232, 46, 182, 0, 199, 172, 42, 42, 180, 0, 7]
abbrev dktX3_many_3 : List UInt8 := dkwX3_many_3 ++ dktX3_many_4
def dkwX3_many_2 : List UInt8 := [42, 42, 180, 0, 7, 17, 0, 230, 46, 182, 0, 199, 172, 42, 42, 180, 0, 7, 17, 0, 231, 46]
abbrev dktX3_many_2 : List UInt8 := dkwX3_many_2 ++ dktX3_many_3
def dkwX3_many_1 : List UInt8 := [170, 0, 0, 0, 0, 0, 169, 0, 0, 0, 0, 0, 0, 0, 9, 0, 0, 0, 55, 0, 0, 0, 68, 0, 0, 0, 81, 0, 0, 0, 94, 0, 0, 0, 107, 0, 0, 0, 116, 0, 0, 0, 125, 0, 0, 0, 134, 0, 0, 0, 143, 0, 0, 0, 156]
abbrev dktX3_many_1 : List UInt8 := dkwX3_many_1 ++ dktX3_many_2
def dkwX3_many_0 : List UInt8 := [27]
abbrev dktX3_many_0 : List UInt8 := dkwX3_many_0 ++ dktX3_many_1
theorem dksX3_many_0 : cX3_many.data.toList.drop 0 = dktX3_many_0 := by decide +kernel
theorem dksX3_many_1 : cX3_many.data.toList.drop 1 = dktX3_many_1 := dk_seg dksX3_many_0 1 rfl rfl
theorem dksX3_many_2 : cX3_many.data.toList.drop 56 = dktX3_many_2 := dk_seg dksX3_many_1 55 rfl rfl
theorem dksX3_many_3 : cX3_many.data.toList.drop 78 = dktX3_many_3 := dk_seg dksX3_many_2 22 rfl rfl
theorem dksX3_many_4 : cX3_many.data.toList.drop 100 = dktX3_many_4 := dk_seg dksX3_many_3 22 rfl rfl
theorem dksX3_many_5 : cX3_many.data.toList.drop 122 = dktX3_many_5 := dk_seg dksX3_many_4 22 rfl rfl
theorem dksX3_many_6 : cX3_many.data.toList.drop 146 = dktX3_many_6 := dk_seg dksX3_many_5 24 rfl rfl
theorem dksX3_many_7 : cX3_many.data.toList.drop 170 = dktX3_many_7 := dk_seg dksX3_many_6 24 rfl rfl
theorem dX3_many_0 : decode cX3_many 0 = .ok (.iload_n 1, 1) := dk_27 (dk_at dksX3_many_0 0 rfl rfl)
theorem dX3_many_1 : decode cX3_many 1 = .ok (.tableswitch 169 0 9 #[55, 68, 81, 94, 107, 116, 125, 134, 143, 156], 55) := by decide +kernel
theorem dX3_many_56 : decode cX3_many 56 = .ok (.aload_n 0, 1) := dk_42 (dk_at dksX3_many_2 0 rfl rfl)
theorem dX3_many_57 : decode cX3_many 57 = .ok (.aload_n 0, 1) := dk_42 (dk_at dksX3_many_2 1 rfl rfl)
theorem dX3_many_58 : decode cX3_many 58 = .ok (.getfield 7, 3) := dk_180 0 7 (dk_at dksX3_many_2 2 rfl rfl)
theorem dX3_many_61 : decode cX3_many 61 = .ok (.sipush 230, 3) := dk_17 0 230 (dk_at dksX3_many_2 5 rfl rfl)
theorem dX3_many_64 : decode cX3_many 64 = .ok (.iaload, 1) := dk_46 (dk_at dksX3_many_2 8 rfl rfl)
theorem dX3_many_65 : decode cX3_many 65 = .ok (.invokevirtual 199, 3) := dk_182 0 199 (dk_at dksX3_many_2 9 rfl rfl)
theorem dX3_many_68 : decode cX3_many 68 = .ok (.ireturn, 1) := dk_172 (dk_at dksX3_many_2 12 rfl rfl)
theorem dX3_many_69 : decode cX3_many 69 = .ok (.aload_n 0, 1) := dk_42 (dk_at dksX3_many_2 13 rfl rfl)
theorem dX3_many_70 : decode cX3_many 70 = .ok (.aload_n 0, 1) := dk_42 (dk_at dksX3_many_2 14 rfl rfl)
theorem dX3_many_71 : decode cX3_many 71 = .ok (.getfield 7, 3) := dk_180 0 7 (dk_at dksX3_many_2 15 rfl rfl)
theorem dX3_many_74 : decode cX3_many 74 = .ok (.sipush 231, 3) := dk_17 0 231 (dk_at dksX3_many_2 18 rfl rfl)
theorem dX3_many_77 : decode cX3_many 77 = .ok (.iaload, 1) := dk_46 (dk_at dksX3_many_2 21 rfl rfl)
theorem dX3_many_78 : decode cX3_many 78 = .ok (.invokevirtual 199, 3) := dk_182 0 199 (dk_at dksX3_many_3 0 rfl rfl)
theorem dX3_many_81 : decode cX3_many 81 = .ok (.ireturn, 1) := dk_172 (dk_at dksX3_many_3 3 rfl rfl)
theorem dX3_many_82 : decode cX3_many 82 = .ok (.aload_n 0, 1) := dk_42 (dk_at dksX3_many_3 4 rfl rfl)
theorem dX3_many_83 : decode cX3_many 83 = .ok (.aload_n 0, 1) := dk_42 (dk_at dksX3_many_3 5 rfl rfl)
theorem dX3_many_84 : decode cX3_many 84 = .ok (.getfield 7, 3) := dk_180 0 7 (dk_at dksX3_many_3 6 rfl rfl)
theorem dX3_many_87 : decode cX3_many 87 = .ok (.sipush 232, 3) := dk_17 0 232 (dk_at dksX3_many_3 9 rfl rfl)
theorem dX3_many_90 : decode cX3_many 90 = .ok (.iaload, 1) := dk_46 (dk_at dksX3_many_3 12 rfl rfl)
theorem dX3_many_91 : decode cX3_many 91 = .ok (.invokevirtual 199, 3) := dk_182 0 199 (dk_at dksX3_many_3 13 rfl rfl)
theorem dX3_many_94 : decode cX3_many 94 = .ok (.ireturn, 1) := dk_172 (dk_at dksX3_many_3 16 rfl rfl)
theorem dX3_many_95 : decode cX3_many 95 = .ok (.aload_n 0, 1) := dk_42 (dk_at dksX3_many_3 17 rfl rfl)
theorem dX3_many_96 : decode cX3_many 96 = .ok (.aload_n 0, 1) := dk_42 (dk_at dksX3_many_3 18 rfl rfl)
theorem dX3_many_97 : decode cX3_many 97 = .ok (.getfield 7, 3) := dk_180 0 7 (dk_at dksX3_many_3 19 rfl rfl)
theorem dX3_many_100 : decode cX3_many 100 = .ok (.sipush 233, 3) := dk_17 0 233 (dk_at dksX3_many_4 0 rfl rfl)
theorem dX3_many_103 : decode cX3_many 103 = .ok (.iaload, 1) := dk_46 (dk_at dksX3_many_4 3 rfl rfl)
theorem dX3_many_104 : decode cX3_many 104 = .ok (.invokevirtual 199, 3) := dk_182 0 199 (dk_at dksX3_many_4 4 rfl rfl)
theorem dX3_many_107 : decode cX3_many 107 = .ok (.ireturn, 1) := dk_172 (dk_at dksX3_many_4 7 rfl rfl)
theorem dX3_many_108 : decode cX3_many 108 = .ok (.aload_n 0, 1) := dk_42 (dk_at dksX3_many_4 8 rfl rfl)
theorem dX3_many_109 : decode cX3_many 109 = .ok (.aload_n 0, 1) := dk_42 (dk_at dksX3_many_4 9 rfl rfl)
theorem dX3_many_110 : decode cX3_many 110 = .ok (.invokevirtual 225, 3) := dk_182 0 225 (dk_at dksX3_many_4 10 rfl rfl)
theorem dX3_many_113 : decode cX3_many 113 = .ok (.invokevirtual 199, 3) := dk_182 0 199 (dk_at dksX3_many_4 13 rfl rfl)
theorem dX3_many_116 : decode cX3_many 116 = .ok (.ireturn, 1) := dk_172 (dk_at dksX3_many_4 16 rfl rfl)
theorem dX3_many_117 : decode cX3_many 117 = .ok (.aload_n 0, 1) := dk_42 (dk_at dksX3_many_4 17 rfl rfl)
theorem dX3_many_118 : decode cX3_many 118 = .ok (.aload_n 0, 1) := dk_42 (dk_at dksX3_many_4 18 rfl rfl)
theorem dX3_many_119 : decode cX3_many 119 = .ok (.invokevirtual 228, 3) := dk_182 0 228 (dk_at dksX3_many_4 19 rfl rfl)
theorem dX3_many_122 : decode cX3_many 122 = .ok (.invokevirtual 199, 3) := dk_182 0 199 (dk_at dksX3_many_5 0 rfl rfl)
theorem dX3_many_125 : decode cX3_many 125 = .ok (.ireturn, 1) := dk_172 (dk_at dksX3_many_5 3 rfl rfl)
theorem dX3_many_126 : decode cX3_many 126 = .ok (.aload_n 0, 1) := dk_42 (dk_at dksX3_many_5 4 rfl rfl)
theorem dX3_many_127 : decode cX3_many 127 = .ok (.aload_n 0, 1) := dk_42 (dk_at dksX3_many_5 5 rfl rfl)
theorem dX3_many_128 : decode cX3_many 128 = .ok (.invokevirtual 231, 3) := dk_182 0 231 (dk_at dksX3_many_5 6 rfl rfl)
theorem dX3_many_131 : decode cX3_many 131 = .ok (.invokevirtual 199, 3) := dk_182 0 199 (dk_at dksX3_many_5 9 rfl rfl)
theorem dX3_many_134 : decode cX3_many 134 = .ok (.ireturn, 1) := dk_172 (dk_at dksX3_many_5 12 rfl rfl)
theorem dX3_many_135 : decode cX3_many 135 = .ok (.aload_n 0, 1) := dk_42 (dk_at dksX3_many_5 13 rfl rfl)
theorem dX3_many_136 : decode cX3_many 136 = .ok (.aload_n 0, 1) := dk_42 (dk_at dksX3_many_5 14 rfl rfl)
theorem dX3_many_137 : decode cX3_many 137 = .ok (.getfield 196, 3) := dk_180 0 196 (dk_at dksX3_many_5 15 rfl rfl)
theorem dX3_many_140 : decode cX3_many 140 = .ok (.invokevirtual 199, 3) := dk_182 0 199 (dk_at dksX3_many_5 18 rfl rfl)
theorem dX3_many_143 : decode cX3_many 143 = .ok (.ireturn, 1) := dk_172 (dk_at dksX3_many_5 21 rfl rfl)
theorem dX3_many_144 : decode cX3_many 144 = .ok (.aload_n 0, 1) := dk_42 (dk_at dksX3_many_5 22 rfl rfl)
theorem dX3_many_145 : decode cX3_many 145 = .ok (.aload_n 0, 1) := dk_42 (dk_at dksX3_many_5 23 rfl rfl)
theorem dX3_many_146 : decode cX3_many 146 = .ok (.getfield 7, 3) := dk_180 0 7 (dk_at dksX3_many_6 0 rfl rfl)
theorem dX3_many_149 : decode cX3_many 149 = .ok (.sipush 298, 3) := dk_17 1 42 (dk_at dksX3_many_6 3 rfl rfl)
theorem dX3_many_152 : decode cX3_many 152 = .ok (.iaload, 1) := dk_46 (dk_at dksX3_many_6 6 rfl rfl)
theorem dX3_many_153 : decode cX3_many 153 = .ok (.invokevirtual 199, 3) := dk_182 0 199 (dk_at dksX3_many_6 7 rfl rfl)
theorem dX3_many_156 : decode cX3_many 156 = .ok (.ireturn, 1) := dk_172 (dk_at dksX3_many_6 10 rfl rfl)
theorem dX3_many_157 : decode cX3_many 157 = .ok (.aload_n 0, 1) := dk_42 (dk_at dksX3_many_6 11 rfl rfl)
theorem dX3_many_158 : decode cX3_many 158 = .ok (.aload_n 0, 1) := dk_42 (dk_at dksX3_many_6 12 rfl rfl)
theorem dX3_many_159 : decode cX3_many 159 = .ok (.getfield 7, 3) := dk_180 0 7 (dk_at dksX3_many_6 13 rfl rfl)
theorem dX3_many_162 : decode cX3_many 162 = .ok (.sipush 299, 3) := dk_17 1 43 (dk_at dksX3_many_6 16 rfl rfl)
theorem dX3_many_165 : decode cX3_many 165 = .ok (.iaload, 1) := dk_46 (dk_at dksX3_many_6 19 rfl rfl)
theorem dX3_many_166 : decode cX3_many 166 = .ok (.invokevirtual 199, 3) := dk_182 0 199 (dk_at dksX3_many_6 20 rfl rfl)
theorem dX3_many_169 : decode cX3_many 169 = .ok (.ireturn, 1) := dk_172 (dk_at dksX3_many_6 23 rfl rfl)
theorem dX3_many_170 : decode cX3_many 170 = .ok (.aload_n 0, 1) := dk_42 (dk_at dksX3_many_7 0 rfl rfl)
theorem dX3_many_171 : decode cX3_many 171 = .ok (.iconst 1, 1) := dk_4 (dk_at dksX3_many_7 1 rfl rfl)
theorem dX3_many_172 : decode cX3_many 172 = .ok (.invokevirtual 186, 3) := dk_182 0 186 (dk_at dksX3_many_7 2 rfl rfl)
theorem dX3_many_175 : decode cX3_many 175 = .ok (.ireturn, 1) := dk_172 (dk_at dksX3_many_7 5 rfl rfl)
abbrev cX3_allBids : ByteArray := prog_15_method_52_code
def yX3_allBids : MethodName := ⟨RX3, "allBids", "()I"⟩
def dkwX3_allBids_1 : List UInt8 := [184, 0, 222, 96, 60, 132, 2, 1, 167, 255, 228, 27, 172]
abbrev dktX3_allBids_1 : List UInt8 := dkwX3_allBids_1 ++ []
def dkwX3_allBids_0 : List UInt8 := [3, 60, 3, 61, 28, 42, 180, 0, 7, 17, 0, 231, 46, 162, 0, 22, 27, 42, 28, 16, 10, 182, 0, 205]
abbrev dktX3_allBids_0 : List UInt8 := dkwX3_allBids_0 ++ dktX3_allBids_1
theorem dksX3_allBids_0 : cX3_allBids.data.toList.drop 0 = dktX3_allBids_0 := by decide +kernel
theorem dksX3_allBids_1 : cX3_allBids.data.toList.drop 24 = dktX3_allBids_1 := dk_seg dksX3_allBids_0 24 rfl rfl
theorem dX3_allBids_0 : decode cX3_allBids 0 = .ok (.iconst 0, 1) := dk_3 (dk_at dksX3_allBids_0 0 rfl rfl)
theorem dX3_allBids_1 : decode cX3_allBids 1 = .ok (.istore_n 1, 1) := dk_60 (dk_at dksX3_allBids_0 1 rfl rfl)
theorem dX3_allBids_2 : decode cX3_allBids 2 = .ok (.iconst 0, 1) := dk_3 (dk_at dksX3_allBids_0 2 rfl rfl)
theorem dX3_allBids_3 : decode cX3_allBids 3 = .ok (.istore_n 2, 1) := dk_61 (dk_at dksX3_allBids_0 3 rfl rfl)
theorem dX3_allBids_4 : decode cX3_allBids 4 = .ok (.iload_n 2, 1) := dk_28 (dk_at dksX3_allBids_0 4 rfl rfl)
theorem dX3_allBids_5 : decode cX3_allBids 5 = .ok (.aload_n 0, 1) := dk_42 (dk_at dksX3_allBids_0 5 rfl rfl)
theorem dX3_allBids_6 : decode cX3_allBids 6 = .ok (.getfield 7, 3) := dk_180 0 7 (dk_at dksX3_allBids_0 6 rfl rfl)
theorem dX3_allBids_9 : decode cX3_allBids 9 = .ok (.sipush 231, 3) := dk_17 0 231 (dk_at dksX3_allBids_0 9 rfl rfl)
theorem dX3_allBids_12 : decode cX3_allBids 12 = .ok (.iaload, 1) := dk_46 (dk_at dksX3_allBids_0 12 rfl rfl)
theorem dX3_allBids_13 : decode cX3_allBids 13 = .ok (.if_icmp .ge 22, 3) := dk_162 0 22 (dk_at dksX3_allBids_0 13 rfl rfl)
theorem dX3_allBids_16 : decode cX3_allBids 16 = .ok (.iload_n 1, 1) := dk_27 (dk_at dksX3_allBids_0 16 rfl rfl)
theorem dX3_allBids_17 : decode cX3_allBids 17 = .ok (.aload_n 0, 1) := dk_42 (dk_at dksX3_allBids_0 17 rfl rfl)
theorem dX3_allBids_18 : decode cX3_allBids 18 = .ok (.iload_n 2, 1) := dk_28 (dk_at dksX3_allBids_0 18 rfl rfl)
theorem dX3_allBids_19 : decode cX3_allBids 19 = .ok (.bipush 10, 2) := dk_16 10 (dk_at dksX3_allBids_0 19 rfl rfl)
theorem dX3_allBids_21 : decode cX3_allBids 21 = .ok (.invokevirtual 205, 3) := dk_182 0 205 (dk_at dksX3_allBids_0 21 rfl rfl)
theorem dX3_allBids_24 : decode cX3_allBids 24 = .ok (.invokestatic 222, 3) := dk_184 0 222 (dk_at dksX3_allBids_1 0 rfl rfl)
theorem dX3_allBids_27 : decode cX3_allBids 27 = .ok (.iadd, 1) := dk_96 (dk_at dksX3_allBids_1 3 rfl rfl)
theorem dX3_allBids_28 : decode cX3_allBids 28 = .ok (.istore_n 1, 1) := dk_60 (dk_at dksX3_allBids_1 4 rfl rfl)
theorem dX3_allBids_29 : decode cX3_allBids 29 = .ok (.iinc 2 1, 3) := dk_132 2 1 (dk_at dksX3_allBids_1 5 rfl rfl)
theorem dX3_allBids_32 : decode cX3_allBids 32 = .ok (.goto (-28), 3) := dk_167 255 228 (dk_at dksX3_allBids_1 8 rfl rfl)
theorem dX3_allBids_35 : decode cX3_allBids 35 = .ok (.iload_n 1, 1) := dk_27 (dk_at dksX3_allBids_1 11 rfl rfl)
theorem dX3_allBids_36 : decode cX3_allBids 36 = .ok (.ireturn, 1) := dk_172 (dk_at dksX3_allBids_1 12 rfl rfl)
abbrev cX3_of : ByteArray := prog_15_method_12_code
def yX3_of : MethodName := ⟨RX3, "of", "(II)I"⟩
def dkwX3_of_0 : List UInt8 := [42, 180, 0, 7, 27, 28, 184, 0, 75, 46, 172]
abbrev dktX3_of_0 : List UInt8 := dkwX3_of_0 ++ []
theorem dksX3_of_0 : cX3_of.data.toList.drop 0 = dktX3_of_0 := by decide +kernel
theorem dX3_of_0 : decode cX3_of 0 = .ok (.aload_n 0, 1) := dk_42 (dk_at dksX3_of_0 0 rfl rfl)
theorem dX3_of_1 : decode cX3_of 1 = .ok (.getfield 7, 3) := dk_180 0 7 (dk_at dksX3_of_0 1 rfl rfl)
theorem dX3_of_4 : decode cX3_of 4 = .ok (.iload_n 1, 1) := dk_27 (dk_at dksX3_of_0 4 rfl rfl)
theorem dX3_of_5 : decode cX3_of 5 = .ok (.iload_n 2, 1) := dk_28 (dk_at dksX3_of_0 5 rfl rfl)
theorem dX3_of_6 : decode cX3_of 6 = .ok (.invokestatic 75, 3) := dk_184 0 75 (dk_at dksX3_of_0 6 rfl rfl)
theorem dX3_of_9 : decode cX3_of 9 = .ok (.iaload, 1) := dk_46 (dk_at dksX3_of_0 9 rfl rfl)
theorem dX3_of_10 : decode cX3_of 10 = .ok (.ireturn, 1) := dk_172 (dk_at dksX3_of_0 10 rfl rfl)
abbrev cX3_bits : ByteArray := prog_15_method_49_code
def yX3_bits : MethodName := ⟨RX3, "bits", "(I)I"⟩
def dkwX3_bits_0 : List UInt8 := [3, 60, 26, 61, 28, 153, 0, 15, 132, 1, 1, 28, 28, 4, 100, 126, 61, 167, 255, 243, 27, 172]
abbrev dktX3_bits_0 : List UInt8 := dkwX3_bits_0 ++ []
theorem dksX3_bits_0 : cX3_bits.data.toList.drop 0 = dktX3_bits_0 := by decide +kernel
theorem dX3_bits_0 : decode cX3_bits 0 = .ok (.iconst 0, 1) := dk_3 (dk_at dksX3_bits_0 0 rfl rfl)
theorem dX3_bits_1 : decode cX3_bits 1 = .ok (.istore_n 1, 1) := dk_60 (dk_at dksX3_bits_0 1 rfl rfl)
theorem dX3_bits_2 : decode cX3_bits 2 = .ok (.iload_n 0, 1) := dk_26 (dk_at dksX3_bits_0 2 rfl rfl)
theorem dX3_bits_3 : decode cX3_bits 3 = .ok (.istore_n 2, 1) := dk_61 (dk_at dksX3_bits_0 3 rfl rfl)
theorem dX3_bits_4 : decode cX3_bits 4 = .ok (.iload_n 2, 1) := dk_28 (dk_at dksX3_bits_0 4 rfl rfl)
theorem dX3_bits_5 : decode cX3_bits 5 = .ok (.ifCond .eq 15, 3) := dk_153 0 15 (dk_at dksX3_bits_0 5 rfl rfl)
theorem dX3_bits_8 : decode cX3_bits 8 = .ok (.iinc 1 1, 3) := dk_132 1 1 (dk_at dksX3_bits_0 8 rfl rfl)
theorem dX3_bits_11 : decode cX3_bits 11 = .ok (.iload_n 2, 1) := dk_28 (dk_at dksX3_bits_0 11 rfl rfl)
theorem dX3_bits_12 : decode cX3_bits 12 = .ok (.iload_n 2, 1) := dk_28 (dk_at dksX3_bits_0 12 rfl rfl)
theorem dX3_bits_13 : decode cX3_bits 13 = .ok (.iconst 1, 1) := dk_4 (dk_at dksX3_bits_0 13 rfl rfl)
theorem dX3_bits_14 : decode cX3_bits 14 = .ok (.isub, 1) := dk_100 (dk_at dksX3_bits_0 14 rfl rfl)
theorem dX3_bits_15 : decode cX3_bits 15 = .ok (.iand, 1) := dk_126 (dk_at dksX3_bits_0 15 rfl rfl)
theorem dX3_bits_16 : decode cX3_bits 16 = .ok (.istore_n 2, 1) := dk_61 (dk_at dksX3_bits_0 16 rfl rfl)
theorem dX3_bits_17 : decode cX3_bits 17 = .ok (.goto (-13), 3) := dk_167 255 243 (dk_at dksX3_bits_0 17 rfl rfl)
theorem dX3_bits_20 : decode cX3_bits 20 = .ok (.iload_n 1, 1) := dk_27 (dk_at dksX3_bits_0 20 rfl rfl)
theorem dX3_bits_21 : decode cX3_bits 21 = .ok (.ireturn, 1) := dk_172 (dk_at dksX3_bits_0 21 rfl rfl)
abbrev cX3_freeOnes : ByteArray := prog_15_method_50_code
def yX3_freeOnes : MethodName := ⟨RX3, "freeOnes", "()I"⟩
def dkwX3_freeOnes_1 : List UInt8 := [153, 0, 7, 4, 167, 0, 4, 3, 96, 60, 132, 2, 1, 167, 255, 225, 27, 172]
abbrev dktX3_freeOnes_1 : List UInt8 := dkwX3_freeOnes_1 ++ []
def dkwX3_freeOnes_0 : List UInt8 := [3, 60, 3, 61, 28, 42, 180, 0, 7, 17, 0, 230, 46, 162, 0, 25, 27, 42, 28, 182, 0, 219]
abbrev dktX3_freeOnes_0 : List UInt8 := dkwX3_freeOnes_0 ++ dktX3_freeOnes_1
theorem dksX3_freeOnes_0 : cX3_freeOnes.data.toList.drop 0 = dktX3_freeOnes_0 := by decide +kernel
theorem dksX3_freeOnes_1 : cX3_freeOnes.data.toList.drop 22 = dktX3_freeOnes_1 := dk_seg dksX3_freeOnes_0 22 rfl rfl
theorem dX3_freeOnes_0 : decode cX3_freeOnes 0 = .ok (.iconst 0, 1) := dk_3 (dk_at dksX3_freeOnes_0 0 rfl rfl)
theorem dX3_freeOnes_1 : decode cX3_freeOnes 1 = .ok (.istore_n 1, 1) := dk_60 (dk_at dksX3_freeOnes_0 1 rfl rfl)
theorem dX3_freeOnes_2 : decode cX3_freeOnes 2 = .ok (.iconst 0, 1) := dk_3 (dk_at dksX3_freeOnes_0 2 rfl rfl)
theorem dX3_freeOnes_3 : decode cX3_freeOnes 3 = .ok (.istore_n 2, 1) := dk_61 (dk_at dksX3_freeOnes_0 3 rfl rfl)
theorem dX3_freeOnes_4 : decode cX3_freeOnes 4 = .ok (.iload_n 2, 1) := dk_28 (dk_at dksX3_freeOnes_0 4 rfl rfl)
theorem dX3_freeOnes_5 : decode cX3_freeOnes 5 = .ok (.aload_n 0, 1) := dk_42 (dk_at dksX3_freeOnes_0 5 rfl rfl)
theorem dX3_freeOnes_6 : decode cX3_freeOnes 6 = .ok (.getfield 7, 3) := dk_180 0 7 (dk_at dksX3_freeOnes_0 6 rfl rfl)
theorem dX3_freeOnes_9 : decode cX3_freeOnes 9 = .ok (.sipush 230, 3) := dk_17 0 230 (dk_at dksX3_freeOnes_0 9 rfl rfl)
theorem dX3_freeOnes_12 : decode cX3_freeOnes 12 = .ok (.iaload, 1) := dk_46 (dk_at dksX3_freeOnes_0 12 rfl rfl)
theorem dX3_freeOnes_13 : decode cX3_freeOnes 13 = .ok (.if_icmp .ge 25, 3) := dk_162 0 25 (dk_at dksX3_freeOnes_0 13 rfl rfl)
theorem dX3_freeOnes_16 : decode cX3_freeOnes 16 = .ok (.iload_n 1, 1) := dk_27 (dk_at dksX3_freeOnes_0 16 rfl rfl)
theorem dX3_freeOnes_17 : decode cX3_freeOnes 17 = .ok (.aload_n 0, 1) := dk_42 (dk_at dksX3_freeOnes_0 17 rfl rfl)
theorem dX3_freeOnes_18 : decode cX3_freeOnes 18 = .ok (.iload_n 2, 1) := dk_28 (dk_at dksX3_freeOnes_0 18 rfl rfl)
theorem dX3_freeOnes_19 : decode cX3_freeOnes 19 = .ok (.invokevirtual 219, 3) := dk_182 0 219 (dk_at dksX3_freeOnes_0 19 rfl rfl)
theorem dX3_freeOnes_22 : decode cX3_freeOnes 22 = .ok (.ifCond .eq 7, 3) := dk_153 0 7 (dk_at dksX3_freeOnes_1 0 rfl rfl)
theorem dX3_freeOnes_25 : decode cX3_freeOnes 25 = .ok (.iconst 1, 1) := dk_4 (dk_at dksX3_freeOnes_1 3 rfl rfl)
theorem dX3_freeOnes_26 : decode cX3_freeOnes 26 = .ok (.goto 4, 3) := dk_167 0 4 (dk_at dksX3_freeOnes_1 4 rfl rfl)
theorem dX3_freeOnes_29 : decode cX3_freeOnes 29 = .ok (.iconst 0, 1) := dk_3 (dk_at dksX3_freeOnes_1 7 rfl rfl)
theorem dX3_freeOnes_30 : decode cX3_freeOnes 30 = .ok (.iadd, 1) := dk_96 (dk_at dksX3_freeOnes_1 8 rfl rfl)
theorem dX3_freeOnes_31 : decode cX3_freeOnes 31 = .ok (.istore_n 1, 1) := dk_60 (dk_at dksX3_freeOnes_1 9 rfl rfl)
theorem dX3_freeOnes_32 : decode cX3_freeOnes 32 = .ok (.iinc 2 1, 3) := dk_132 2 1 (dk_at dksX3_freeOnes_1 10 rfl rfl)
theorem dX3_freeOnes_35 : decode cX3_freeOnes 35 = .ok (.goto (-31), 3) := dk_167 255 225 (dk_at dksX3_freeOnes_1 13 rfl rfl)
theorem dX3_freeOnes_38 : decode cX3_freeOnes 38 = .ok (.iload_n 1, 1) := dk_27 (dk_at dksX3_freeOnes_1 16 rfl rfl)
theorem dX3_freeOnes_39 : decode cX3_freeOnes 39 = .ok (.ireturn, 1) := dk_172 (dk_at dksX3_freeOnes_1 17 rfl rfl)
abbrev cX3_isFree : ByteArray := prog_15_method_41_code
def yX3_isFree : MethodName := ⟨RX3, "isFree", "(I)Z"⟩
def dkwX3_isFree_1 : List UInt8 := [182, 0, 202, 154, 0, 7, 4, 167, 0, 4, 3, 172]
abbrev dktX3_isFree_1 : List UInt8 := dkwX3_isFree_1 ++ []
def dkwX3_isFree_0 : List UInt8 := [42, 27, 5, 182, 0, 202, 2, 160, 0, 26, 42, 27, 6, 182, 0, 202, 154, 0, 17, 42, 27, 16, 6]
abbrev dktX3_isFree_0 : List UInt8 := dkwX3_isFree_0 ++ dktX3_isFree_1
theorem dksX3_isFree_0 : cX3_isFree.data.toList.drop 0 = dktX3_isFree_0 := by decide +kernel
theorem dksX3_isFree_1 : cX3_isFree.data.toList.drop 23 = dktX3_isFree_1 := dk_seg dksX3_isFree_0 23 rfl rfl
theorem dX3_isFree_0 : decode cX3_isFree 0 = .ok (.aload_n 0, 1) := dk_42 (dk_at dksX3_isFree_0 0 rfl rfl)
theorem dX3_isFree_1 : decode cX3_isFree 1 = .ok (.iload_n 1, 1) := dk_27 (dk_at dksX3_isFree_0 1 rfl rfl)
theorem dX3_isFree_2 : decode cX3_isFree 2 = .ok (.iconst 2, 1) := dk_5 (dk_at dksX3_isFree_0 2 rfl rfl)
theorem dX3_isFree_3 : decode cX3_isFree 3 = .ok (.invokevirtual 202, 3) := dk_182 0 202 (dk_at dksX3_isFree_0 3 rfl rfl)
theorem dX3_isFree_6 : decode cX3_isFree 6 = .ok (.iconst (-1), 1) := dk_2 (dk_at dksX3_isFree_0 6 rfl rfl)
theorem dX3_isFree_7 : decode cX3_isFree 7 = .ok (.if_icmp .ne 26, 3) := dk_160 0 26 (dk_at dksX3_isFree_0 7 rfl rfl)
theorem dX3_isFree_10 : decode cX3_isFree 10 = .ok (.aload_n 0, 1) := dk_42 (dk_at dksX3_isFree_0 10 rfl rfl)
theorem dX3_isFree_11 : decode cX3_isFree 11 = .ok (.iload_n 1, 1) := dk_27 (dk_at dksX3_isFree_0 11 rfl rfl)
theorem dX3_isFree_12 : decode cX3_isFree 12 = .ok (.iconst 3, 1) := dk_6 (dk_at dksX3_isFree_0 12 rfl rfl)
theorem dX3_isFree_13 : decode cX3_isFree 13 = .ok (.invokevirtual 202, 3) := dk_182 0 202 (dk_at dksX3_isFree_0 13 rfl rfl)
theorem dX3_isFree_16 : decode cX3_isFree 16 = .ok (.ifCond .ne 17, 3) := dk_154 0 17 (dk_at dksX3_isFree_0 16 rfl rfl)
theorem dX3_isFree_19 : decode cX3_isFree 19 = .ok (.aload_n 0, 1) := dk_42 (dk_at dksX3_isFree_0 19 rfl rfl)
theorem dX3_isFree_20 : decode cX3_isFree 20 = .ok (.iload_n 1, 1) := dk_27 (dk_at dksX3_isFree_0 20 rfl rfl)
theorem dX3_isFree_21 : decode cX3_isFree 21 = .ok (.bipush 6, 2) := dk_16 6 (dk_at dksX3_isFree_0 21 rfl rfl)
theorem dX3_isFree_23 : decode cX3_isFree 23 = .ok (.invokevirtual 202, 3) := dk_182 0 202 (dk_at dksX3_isFree_1 0 rfl rfl)
theorem dX3_isFree_26 : decode cX3_isFree 26 = .ok (.ifCond .ne 7, 3) := dk_154 0 7 (dk_at dksX3_isFree_1 3 rfl rfl)
theorem dX3_isFree_29 : decode cX3_isFree 29 = .ok (.iconst 1, 1) := dk_4 (dk_at dksX3_isFree_1 6 rfl rfl)
theorem dX3_isFree_30 : decode cX3_isFree 30 = .ok (.goto 4, 3) := dk_167 0 4 (dk_at dksX3_isFree_1 7 rfl rfl)
theorem dX3_isFree_33 : decode cX3_isFree 33 = .ok (.iconst 0, 1) := dk_3 (dk_at dksX3_isFree_1 10 rfl rfl)
theorem dX3_isFree_34 : decode cX3_isFree 34 = .ok (.ireturn, 1) := dk_172 (dk_at dksX3_isFree_1 11 rfl rfl)
abbrev cX3_home0 : ByteArray := prog_15_method_10_code
def yX3_home0 : MethodName := ⟨RX3, "home0", "(II)I"⟩
def dkwX3_home0_0 : List UInt8 := [42, 180, 0, 7, 16, 8, 27, 104, 28, 96, 46, 172]
abbrev dktX3_home0_0 : List UInt8 := dkwX3_home0_0 ++ []
theorem dksX3_home0_0 : cX3_home0.data.toList.drop 0 = dktX3_home0_0 := by decide +kernel
theorem dX3_home0_0 : decode cX3_home0 0 = .ok (.aload_n 0, 1) := dk_42 (dk_at dksX3_home0_0 0 rfl rfl)
theorem dX3_home0_1 : decode cX3_home0 1 = .ok (.getfield 7, 3) := dk_180 0 7 (dk_at dksX3_home0_0 1 rfl rfl)
theorem dX3_home0_4 : decode cX3_home0 4 = .ok (.bipush 8, 2) := dk_16 8 (dk_at dksX3_home0_0 4 rfl rfl)
theorem dX3_home0_6 : decode cX3_home0 6 = .ok (.iload_n 1, 1) := dk_27 (dk_at dksX3_home0_0 6 rfl rfl)
theorem dX3_home0_7 : decode cX3_home0 7 = .ok (.imul, 1) := dk_104 (dk_at dksX3_home0_0 7 rfl rfl)
theorem dX3_home0_8 : decode cX3_home0 8 = .ok (.iload_n 2, 1) := dk_28 (dk_at dksX3_home0_0 8 rfl rfl)
theorem dX3_home0_9 : decode cX3_home0 9 = .ok (.iadd, 1) := dk_96 (dk_at dksX3_home0_0 9 rfl rfl)
theorem dX3_home0_10 : decode cX3_home0 10 = .ok (.iaload, 1) := dk_46 (dk_at dksX3_home0_0 10 rfl rfl)
theorem dX3_home0_11 : decode cX3_home0 11 = .ok (.ireturn, 1) := dk_172 (dk_at dksX3_home0_0 11 rfl rfl)
abbrev cX3_inOnes : ByteArray := prog_15_method_51_code
def yX3_inOnes : MethodName := ⟨RX3, "inOnes", "()I"⟩
def dkwX3_inOnes_1 : List UInt8 := [153, 0, 7, 4, 167, 0, 4, 3, 96, 60, 132, 2, 1, 167, 255, 225, 27, 172]
abbrev dktX3_inOnes_1 : List UInt8 := dkwX3_inOnes_1 ++ []
def dkwX3_inOnes_0 : List UInt8 := [3, 60, 3, 61, 28, 42, 180, 0, 7, 17, 0, 231, 46, 162, 0, 25, 27, 42, 28, 182, 0, 208]
abbrev dktX3_inOnes_0 : List UInt8 := dkwX3_inOnes_0 ++ dktX3_inOnes_1
theorem dksX3_inOnes_0 : cX3_inOnes.data.toList.drop 0 = dktX3_inOnes_0 := by decide +kernel
theorem dksX3_inOnes_1 : cX3_inOnes.data.toList.drop 22 = dktX3_inOnes_1 := dk_seg dksX3_inOnes_0 22 rfl rfl
theorem dX3_inOnes_0 : decode cX3_inOnes 0 = .ok (.iconst 0, 1) := dk_3 (dk_at dksX3_inOnes_0 0 rfl rfl)
theorem dX3_inOnes_1 : decode cX3_inOnes 1 = .ok (.istore_n 1, 1) := dk_60 (dk_at dksX3_inOnes_0 1 rfl rfl)
theorem dX3_inOnes_2 : decode cX3_inOnes 2 = .ok (.iconst 0, 1) := dk_3 (dk_at dksX3_inOnes_0 2 rfl rfl)
theorem dX3_inOnes_3 : decode cX3_inOnes 3 = .ok (.istore_n 2, 1) := dk_61 (dk_at dksX3_inOnes_0 3 rfl rfl)
theorem dX3_inOnes_4 : decode cX3_inOnes 4 = .ok (.iload_n 2, 1) := dk_28 (dk_at dksX3_inOnes_0 4 rfl rfl)
theorem dX3_inOnes_5 : decode cX3_inOnes 5 = .ok (.aload_n 0, 1) := dk_42 (dk_at dksX3_inOnes_0 5 rfl rfl)
theorem dX3_inOnes_6 : decode cX3_inOnes 6 = .ok (.getfield 7, 3) := dk_180 0 7 (dk_at dksX3_inOnes_0 6 rfl rfl)
theorem dX3_inOnes_9 : decode cX3_inOnes 9 = .ok (.sipush 231, 3) := dk_17 0 231 (dk_at dksX3_inOnes_0 9 rfl rfl)
theorem dX3_inOnes_12 : decode cX3_inOnes 12 = .ok (.iaload, 1) := dk_46 (dk_at dksX3_inOnes_0 12 rfl rfl)
theorem dX3_inOnes_13 : decode cX3_inOnes 13 = .ok (.if_icmp .ge 25, 3) := dk_162 0 25 (dk_at dksX3_inOnes_0 13 rfl rfl)
theorem dX3_inOnes_16 : decode cX3_inOnes 16 = .ok (.iload_n 1, 1) := dk_27 (dk_at dksX3_inOnes_0 16 rfl rfl)
theorem dX3_inOnes_17 : decode cX3_inOnes 17 = .ok (.aload_n 0, 1) := dk_42 (dk_at dksX3_inOnes_0 17 rfl rfl)
theorem dX3_inOnes_18 : decode cX3_inOnes 18 = .ok (.iload_n 2, 1) := dk_28 (dk_at dksX3_inOnes_0 18 rfl rfl)
theorem dX3_inOnes_19 : decode cX3_inOnes 19 = .ok (.invokevirtual 208, 3) := dk_182 0 208 (dk_at dksX3_inOnes_0 19 rfl rfl)
theorem dX3_inOnes_22 : decode cX3_inOnes 22 = .ok (.ifCond .eq 7, 3) := dk_153 0 7 (dk_at dksX3_inOnes_1 0 rfl rfl)
theorem dX3_inOnes_25 : decode cX3_inOnes 25 = .ok (.iconst 1, 1) := dk_4 (dk_at dksX3_inOnes_1 3 rfl rfl)
theorem dX3_inOnes_26 : decode cX3_inOnes 26 = .ok (.goto 4, 3) := dk_167 0 4 (dk_at dksX3_inOnes_1 4 rfl rfl)
theorem dX3_inOnes_29 : decode cX3_inOnes 29 = .ok (.iconst 0, 1) := dk_3 (dk_at dksX3_inOnes_1 7 rfl rfl)
theorem dX3_inOnes_30 : decode cX3_inOnes 30 = .ok (.iadd, 1) := dk_96 (dk_at dksX3_inOnes_1 8 rfl rfl)
theorem dX3_inOnes_31 : decode cX3_inOnes 31 = .ok (.istore_n 1, 1) := dk_60 (dk_at dksX3_inOnes_1 9 rfl rfl)
theorem dX3_inOnes_32 : decode cX3_inOnes 32 = .ok (.iinc 2 1, 3) := dk_132 2 1 (dk_at dksX3_inOnes_1 10 rfl rfl)
theorem dX3_inOnes_35 : decode cX3_inOnes 35 = .ok (.goto (-31), 3) := dk_167 255 225 (dk_at dksX3_inOnes_1 13 rfl rfl)
theorem dX3_inOnes_38 : decode cX3_inOnes 38 = .ok (.iload_n 1, 1) := dk_27 (dk_at dksX3_inOnes_1 16 rfl rfl)
theorem dX3_inOnes_39 : decode cX3_inOnes 39 = .ok (.ireturn, 1) := dk_172 (dk_at dksX3_inOnes_1 17 rfl rfl)
abbrev cX3_isIn : ByteArray := prog_15_method_42_code
def yX3_isIn : MethodName := ⟨RX3, "isIn", "(I)Z"⟩
def dkwX3_isIn_0 : List UInt8 := [42, 27, 16, 8, 182, 0, 205, 154, 0, 7, 4, 167, 0, 4, 3, 172]
abbrev dktX3_isIn_0 : List UInt8 := dkwX3_isIn_0 ++ []
theorem dksX3_isIn_0 : cX3_isIn.data.toList.drop 0 = dktX3_isIn_0 := by decide +kernel
theorem dX3_isIn_0 : decode cX3_isIn 0 = .ok (.aload_n 0, 1) := dk_42 (dk_at dksX3_isIn_0 0 rfl rfl)
theorem dX3_isIn_1 : decode cX3_isIn 1 = .ok (.iload_n 1, 1) := dk_27 (dk_at dksX3_isIn_0 1 rfl rfl)
theorem dX3_isIn_2 : decode cX3_isIn 2 = .ok (.bipush 8, 2) := dk_16 8 (dk_at dksX3_isIn_0 2 rfl rfl)
theorem dX3_isIn_4 : decode cX3_isIn 4 = .ok (.invokevirtual 205, 3) := dk_182 0 205 (dk_at dksX3_isIn_0 4 rfl rfl)
theorem dX3_isIn_7 : decode cX3_isIn 7 = .ok (.ifCond .ne 7, 3) := dk_154 0 7 (dk_at dksX3_isIn_0 7 rfl rfl)
theorem dX3_isIn_10 : decode cX3_isIn 10 = .ok (.iconst 1, 1) := dk_4 (dk_at dksX3_isIn_0 10 rfl rfl)
theorem dX3_isIn_11 : decode cX3_isIn 11 = .ok (.goto 4, 3) := dk_167 0 4 (dk_at dksX3_isIn_0 11 rfl rfl)
theorem dX3_isIn_14 : decode cX3_isIn 14 = .ok (.iconst 0, 1) := dk_3 (dk_at dksX3_isIn_0 14 rfl rfl)
theorem dX3_isIn_15 : decode cX3_isIn 15 = .ok (.ireturn, 1) := dk_172 (dk_at dksX3_isIn_0 15 rfl rfl)
abbrev cX3_home : ByteArray := prog_15_method_55_code
def yX3_home : MethodName := ⟨RX3, "home", "(II)I"⟩
def dkwX3_home_7 : List UInt8 := [182, 0, 202, 182, 0, 199, 172]
abbrev dktX3_home_7 : List UInt8 := dkwX3_home_7 ++ []
def dkwX3_home_6 : List UInt8 := [27, 182, 0, 241, 182, 0, 199, 172, 42, 42, 27, 7, 182, 0, 202, 182, 0, 199, 172, 42, 42, 27, 28]
abbrev dktX3_home_6 : List UInt8 := dkwX3_home_6 ++ dktX3_home_7
def dkwX3_home_5 : List UInt8 := [182, 0, 199, 172, 42, 42, 27, 182, 0, 219, 153, 0, 7, 4, 167, 0, 4, 3, 182, 0, 199, 172, 42, 42]
abbrev dktX3_home_5 : List UInt8 := dkwX3_home_5 ++ dktX3_home_6
def dkwX3_home_4 : List UInt8 := [5, 182, 0, 202, 2, 160, 0, 11, 42, 8, 182, 0, 186, 167, 0, 13, 42, 42, 27, 5, 182, 0, 202]
abbrev dktX3_home_4 : List UInt8 := dkwX3_home_4 ++ dktX3_home_5
def dkwX3_home_3 : List UInt8 := [42, 42, 27, 3, 182, 0, 202, 182, 0, 199, 172, 42, 42, 27, 4, 182, 0, 202, 182, 0, 199, 172, 42, 27]
abbrev dktX3_home_3 : List UInt8 := dkwX3_home_3 ++ dktX3_home_4
def dkwX3_home_2 : List UInt8 := [170, 0, 0, 0, 127, 0, 0, 0, 0, 0, 0, 0, 5, 0, 0, 0, 37, 0, 0, 0, 48, 0, 0, 0, 59, 0, 0, 0, 88, 0, 0, 0, 106, 0, 0, 0, 116]
abbrev dktX3_home_2 : List UInt8 := dkwX3_home_2 ++ dktX3_home_3
def dkwX3_home_1 : List UInt8 := [42, 5, 182, 0, 186, 172, 28]
abbrev dktX3_home_1 : List UInt8 := dkwX3_home_1 ++ dktX3_home_2
def dkwX3_home_0 : List UInt8 := [28, 3, 16, 7, 184, 0, 71, 154, 0, 9, 42, 4, 182, 0, 186, 172, 42, 27, 182, 0, 238, 154, 0, 9]
abbrev dktX3_home_0 : List UInt8 := dkwX3_home_0 ++ dktX3_home_1
theorem dksX3_home_0 : cX3_home.data.toList.drop 0 = dktX3_home_0 := by decide +kernel
theorem dksX3_home_1 : cX3_home.data.toList.drop 24 = dktX3_home_1 := dk_seg dksX3_home_0 24 rfl rfl
theorem dksX3_home_2 : cX3_home.data.toList.drop 31 = dktX3_home_2 := dk_seg dksX3_home_1 7 rfl rfl
theorem dksX3_home_3 : cX3_home.data.toList.drop 68 = dktX3_home_3 := dk_seg dksX3_home_2 37 rfl rfl
theorem dksX3_home_4 : cX3_home.data.toList.drop 92 = dktX3_home_4 := dk_seg dksX3_home_3 24 rfl rfl
theorem dksX3_home_5 : cX3_home.data.toList.drop 115 = dktX3_home_5 := dk_seg dksX3_home_4 23 rfl rfl
theorem dksX3_home_6 : cX3_home.data.toList.drop 139 = dktX3_home_6 := dk_seg dksX3_home_5 24 rfl rfl
theorem dksX3_home_7 : cX3_home.data.toList.drop 162 = dktX3_home_7 := dk_seg dksX3_home_6 23 rfl rfl
theorem dX3_home_0 : decode cX3_home 0 = .ok (.iload_n 2, 1) := dk_28 (dk_at dksX3_home_0 0 rfl rfl)
theorem dX3_home_1 : decode cX3_home 1 = .ok (.iconst 0, 1) := dk_3 (dk_at dksX3_home_0 1 rfl rfl)
theorem dX3_home_2 : decode cX3_home 2 = .ok (.bipush 7, 2) := dk_16 7 (dk_at dksX3_home_0 2 rfl rfl)
theorem dX3_home_4 : decode cX3_home 4 = .ok (.invokestatic 71, 3) := dk_184 0 71 (dk_at dksX3_home_0 4 rfl rfl)
theorem dX3_home_7 : decode cX3_home 7 = .ok (.ifCond .ne 9, 3) := dk_154 0 9 (dk_at dksX3_home_0 7 rfl rfl)
theorem dX3_home_10 : decode cX3_home 10 = .ok (.aload_n 0, 1) := dk_42 (dk_at dksX3_home_0 10 rfl rfl)
theorem dX3_home_11 : decode cX3_home 11 = .ok (.iconst 1, 1) := dk_4 (dk_at dksX3_home_0 11 rfl rfl)
theorem dX3_home_12 : decode cX3_home 12 = .ok (.invokevirtual 186, 3) := dk_182 0 186 (dk_at dksX3_home_0 12 rfl rfl)
theorem dX3_home_15 : decode cX3_home 15 = .ok (.ireturn, 1) := dk_172 (dk_at dksX3_home_0 15 rfl rfl)
theorem dX3_home_16 : decode cX3_home 16 = .ok (.aload_n 0, 1) := dk_42 (dk_at dksX3_home_0 16 rfl rfl)
theorem dX3_home_17 : decode cX3_home 17 = .ok (.iload_n 1, 1) := dk_27 (dk_at dksX3_home_0 17 rfl rfl)
theorem dX3_home_18 : decode cX3_home 18 = .ok (.invokevirtual 238, 3) := dk_182 0 238 (dk_at dksX3_home_0 18 rfl rfl)
theorem dX3_home_21 : decode cX3_home 21 = .ok (.ifCond .ne 9, 3) := dk_154 0 9 (dk_at dksX3_home_0 21 rfl rfl)
theorem dX3_home_24 : decode cX3_home 24 = .ok (.aload_n 0, 1) := dk_42 (dk_at dksX3_home_1 0 rfl rfl)
theorem dX3_home_25 : decode cX3_home 25 = .ok (.iconst 2, 1) := dk_5 (dk_at dksX3_home_1 1 rfl rfl)
theorem dX3_home_26 : decode cX3_home 26 = .ok (.invokevirtual 186, 3) := dk_182 0 186 (dk_at dksX3_home_1 2 rfl rfl)
theorem dX3_home_29 : decode cX3_home 29 = .ok (.ireturn, 1) := dk_172 (dk_at dksX3_home_1 5 rfl rfl)
theorem dX3_home_30 : decode cX3_home 30 = .ok (.iload_n 2, 1) := dk_28 (dk_at dksX3_home_1 6 rfl rfl)
theorem dX3_home_31 : decode cX3_home 31 = .ok (.tableswitch 127 0 5 #[37, 48, 59, 88, 106, 116], 37) := by decide +kernel
theorem dX3_home_68 : decode cX3_home 68 = .ok (.aload_n 0, 1) := dk_42 (dk_at dksX3_home_3 0 rfl rfl)
theorem dX3_home_69 : decode cX3_home 69 = .ok (.aload_n 0, 1) := dk_42 (dk_at dksX3_home_3 1 rfl rfl)
theorem dX3_home_70 : decode cX3_home 70 = .ok (.iload_n 1, 1) := dk_27 (dk_at dksX3_home_3 2 rfl rfl)
theorem dX3_home_71 : decode cX3_home 71 = .ok (.iconst 0, 1) := dk_3 (dk_at dksX3_home_3 3 rfl rfl)
theorem dX3_home_72 : decode cX3_home 72 = .ok (.invokevirtual 202, 3) := dk_182 0 202 (dk_at dksX3_home_3 4 rfl rfl)
theorem dX3_home_75 : decode cX3_home 75 = .ok (.invokevirtual 199, 3) := dk_182 0 199 (dk_at dksX3_home_3 7 rfl rfl)
theorem dX3_home_78 : decode cX3_home 78 = .ok (.ireturn, 1) := dk_172 (dk_at dksX3_home_3 10 rfl rfl)
theorem dX3_home_79 : decode cX3_home 79 = .ok (.aload_n 0, 1) := dk_42 (dk_at dksX3_home_3 11 rfl rfl)
theorem dX3_home_80 : decode cX3_home 80 = .ok (.aload_n 0, 1) := dk_42 (dk_at dksX3_home_3 12 rfl rfl)
theorem dX3_home_81 : decode cX3_home 81 = .ok (.iload_n 1, 1) := dk_27 (dk_at dksX3_home_3 13 rfl rfl)
theorem dX3_home_82 : decode cX3_home 82 = .ok (.iconst 1, 1) := dk_4 (dk_at dksX3_home_3 14 rfl rfl)
theorem dX3_home_83 : decode cX3_home 83 = .ok (.invokevirtual 202, 3) := dk_182 0 202 (dk_at dksX3_home_3 15 rfl rfl)
theorem dX3_home_86 : decode cX3_home 86 = .ok (.invokevirtual 199, 3) := dk_182 0 199 (dk_at dksX3_home_3 18 rfl rfl)
theorem dX3_home_89 : decode cX3_home 89 = .ok (.ireturn, 1) := dk_172 (dk_at dksX3_home_3 21 rfl rfl)
theorem dX3_home_90 : decode cX3_home 90 = .ok (.aload_n 0, 1) := dk_42 (dk_at dksX3_home_3 22 rfl rfl)
theorem dX3_home_91 : decode cX3_home 91 = .ok (.iload_n 1, 1) := dk_27 (dk_at dksX3_home_3 23 rfl rfl)
theorem dX3_home_92 : decode cX3_home 92 = .ok (.iconst 2, 1) := dk_5 (dk_at dksX3_home_4 0 rfl rfl)
theorem dX3_home_93 : decode cX3_home 93 = .ok (.invokevirtual 202, 3) := dk_182 0 202 (dk_at dksX3_home_4 1 rfl rfl)
theorem dX3_home_96 : decode cX3_home 96 = .ok (.iconst (-1), 1) := dk_2 (dk_at dksX3_home_4 4 rfl rfl)
theorem dX3_home_97 : decode cX3_home 97 = .ok (.if_icmp .ne 11, 3) := dk_160 0 11 (dk_at dksX3_home_4 5 rfl rfl)
theorem dX3_home_100 : decode cX3_home 100 = .ok (.aload_n 0, 1) := dk_42 (dk_at dksX3_home_4 8 rfl rfl)
theorem dX3_home_101 : decode cX3_home 101 = .ok (.iconst 5, 1) := dk_8 (dk_at dksX3_home_4 9 rfl rfl)
theorem dX3_home_102 : decode cX3_home 102 = .ok (.invokevirtual 186, 3) := dk_182 0 186 (dk_at dksX3_home_4 10 rfl rfl)
theorem dX3_home_105 : decode cX3_home 105 = .ok (.goto 13, 3) := dk_167 0 13 (dk_at dksX3_home_4 13 rfl rfl)
theorem dX3_home_108 : decode cX3_home 108 = .ok (.aload_n 0, 1) := dk_42 (dk_at dksX3_home_4 16 rfl rfl)
theorem dX3_home_109 : decode cX3_home 109 = .ok (.aload_n 0, 1) := dk_42 (dk_at dksX3_home_4 17 rfl rfl)
theorem dX3_home_110 : decode cX3_home 110 = .ok (.iload_n 1, 1) := dk_27 (dk_at dksX3_home_4 18 rfl rfl)
theorem dX3_home_111 : decode cX3_home 111 = .ok (.iconst 2, 1) := dk_5 (dk_at dksX3_home_4 19 rfl rfl)
theorem dX3_home_112 : decode cX3_home 112 = .ok (.invokevirtual 202, 3) := dk_182 0 202 (dk_at dksX3_home_4 20 rfl rfl)
theorem dX3_home_115 : decode cX3_home 115 = .ok (.invokevirtual 199, 3) := dk_182 0 199 (dk_at dksX3_home_5 0 rfl rfl)
theorem dX3_home_118 : decode cX3_home 118 = .ok (.ireturn, 1) := dk_172 (dk_at dksX3_home_5 3 rfl rfl)
theorem dX3_home_119 : decode cX3_home 119 = .ok (.aload_n 0, 1) := dk_42 (dk_at dksX3_home_5 4 rfl rfl)
theorem dX3_home_120 : decode cX3_home 120 = .ok (.aload_n 0, 1) := dk_42 (dk_at dksX3_home_5 5 rfl rfl)
theorem dX3_home_121 : decode cX3_home 121 = .ok (.iload_n 1, 1) := dk_27 (dk_at dksX3_home_5 6 rfl rfl)
theorem dX3_home_122 : decode cX3_home 122 = .ok (.invokevirtual 219, 3) := dk_182 0 219 (dk_at dksX3_home_5 7 rfl rfl)
theorem dX3_home_125 : decode cX3_home 125 = .ok (.ifCond .eq 7, 3) := dk_153 0 7 (dk_at dksX3_home_5 10 rfl rfl)
theorem dX3_home_128 : decode cX3_home 128 = .ok (.iconst 1, 1) := dk_4 (dk_at dksX3_home_5 13 rfl rfl)
theorem dX3_home_129 : decode cX3_home 129 = .ok (.goto 4, 3) := dk_167 0 4 (dk_at dksX3_home_5 14 rfl rfl)
theorem dX3_home_132 : decode cX3_home 132 = .ok (.iconst 0, 1) := dk_3 (dk_at dksX3_home_5 17 rfl rfl)
theorem dX3_home_133 : decode cX3_home 133 = .ok (.invokevirtual 199, 3) := dk_182 0 199 (dk_at dksX3_home_5 18 rfl rfl)
theorem dX3_home_136 : decode cX3_home 136 = .ok (.ireturn, 1) := dk_172 (dk_at dksX3_home_5 21 rfl rfl)
theorem dX3_home_137 : decode cX3_home 137 = .ok (.aload_n 0, 1) := dk_42 (dk_at dksX3_home_5 22 rfl rfl)
theorem dX3_home_138 : decode cX3_home 138 = .ok (.aload_n 0, 1) := dk_42 (dk_at dksX3_home_5 23 rfl rfl)
theorem dX3_home_139 : decode cX3_home 139 = .ok (.iload_n 1, 1) := dk_27 (dk_at dksX3_home_6 0 rfl rfl)
theorem dX3_home_140 : decode cX3_home 140 = .ok (.invokevirtual 241, 3) := dk_182 0 241 (dk_at dksX3_home_6 1 rfl rfl)
theorem dX3_home_143 : decode cX3_home 143 = .ok (.invokevirtual 199, 3) := dk_182 0 199 (dk_at dksX3_home_6 4 rfl rfl)
theorem dX3_home_146 : decode cX3_home 146 = .ok (.ireturn, 1) := dk_172 (dk_at dksX3_home_6 7 rfl rfl)
theorem dX3_home_147 : decode cX3_home 147 = .ok (.aload_n 0, 1) := dk_42 (dk_at dksX3_home_6 8 rfl rfl)
theorem dX3_home_148 : decode cX3_home 148 = .ok (.aload_n 0, 1) := dk_42 (dk_at dksX3_home_6 9 rfl rfl)
theorem dX3_home_149 : decode cX3_home 149 = .ok (.iload_n 1, 1) := dk_27 (dk_at dksX3_home_6 10 rfl rfl)
theorem dX3_home_150 : decode cX3_home 150 = .ok (.iconst 4, 1) := dk_7 (dk_at dksX3_home_6 11 rfl rfl)
theorem dX3_home_151 : decode cX3_home 151 = .ok (.invokevirtual 202, 3) := dk_182 0 202 (dk_at dksX3_home_6 12 rfl rfl)
theorem dX3_home_154 : decode cX3_home 154 = .ok (.invokevirtual 199, 3) := dk_182 0 199 (dk_at dksX3_home_6 15 rfl rfl)
theorem dX3_home_157 : decode cX3_home 157 = .ok (.ireturn, 1) := dk_172 (dk_at dksX3_home_6 18 rfl rfl)
theorem dX3_home_158 : decode cX3_home 158 = .ok (.aload_n 0, 1) := dk_42 (dk_at dksX3_home_6 19 rfl rfl)
theorem dX3_home_159 : decode cX3_home 159 = .ok (.aload_n 0, 1) := dk_42 (dk_at dksX3_home_6 20 rfl rfl)
theorem dX3_home_160 : decode cX3_home 160 = .ok (.iload_n 1, 1) := dk_27 (dk_at dksX3_home_6 21 rfl rfl)
theorem dX3_home_161 : decode cX3_home 161 = .ok (.iload_n 2, 1) := dk_28 (dk_at dksX3_home_6 22 rfl rfl)
theorem dX3_home_162 : decode cX3_home 162 = .ok (.invokevirtual 202, 3) := dk_182 0 202 (dk_at dksX3_home_7 0 rfl rfl)
theorem dX3_home_165 : decode cX3_home 165 = .ok (.invokevirtual 199, 3) := dk_182 0 199 (dk_at dksX3_home_7 3 rfl rfl)
theorem dX3_home_168 : decode cX3_home 168 = .ok (.ireturn, 1) := dk_172 (dk_at dksX3_home_7 6 rfl rfl)
abbrev cX3_isHome : ByteArray := prog_15_method_8_code
def yX3_isHome : MethodName := ⟨RX3, "isHome", "(I)Z"⟩
def dkwX3_isHome_0 : List UInt8 := [27, 3, 42, 180, 0, 7, 17, 0, 230, 46, 4, 100, 184, 0, 71, 172]
abbrev dktX3_isHome_0 : List UInt8 := dkwX3_isHome_0 ++ []
theorem dksX3_isHome_0 : cX3_isHome.data.toList.drop 0 = dktX3_isHome_0 := by decide +kernel
theorem dX3_isHome_0 : decode cX3_isHome 0 = .ok (.iload_n 1, 1) := dk_27 (dk_at dksX3_isHome_0 0 rfl rfl)
theorem dX3_isHome_1 : decode cX3_isHome 1 = .ok (.iconst 0, 1) := dk_3 (dk_at dksX3_isHome_0 1 rfl rfl)
theorem dX3_isHome_2 : decode cX3_isHome 2 = .ok (.aload_n 0, 1) := dk_42 (dk_at dksX3_isHome_0 2 rfl rfl)
theorem dX3_isHome_3 : decode cX3_isHome 3 = .ok (.getfield 7, 3) := dk_180 0 7 (dk_at dksX3_isHome_0 3 rfl rfl)
theorem dX3_isHome_6 : decode cX3_isHome 6 = .ok (.sipush 230, 3) := dk_17 0 230 (dk_at dksX3_isHome_0 6 rfl rfl)
theorem dX3_isHome_9 : decode cX3_isHome 9 = .ok (.iaload, 1) := dk_46 (dk_at dksX3_isHome_0 9 rfl rfl)
theorem dX3_isHome_10 : decode cX3_isHome 10 = .ok (.iconst 1, 1) := dk_4 (dk_at dksX3_isHome_0 10 rfl rfl)
theorem dX3_isHome_11 : decode cX3_isHome 11 = .ok (.isub, 1) := dk_100 (dk_at dksX3_isHome_0 11 rfl rfl)
theorem dX3_isHome_12 : decode cX3_isHome 12 = .ok (.invokestatic 71, 3) := dk_184 0 71 (dk_at dksX3_isHome_0 12 rfl rfl)
theorem dX3_isHome_15 : decode cX3_isHome 15 = .ok (.ireturn, 1) := dk_172 (dk_at dksX3_isHome_0 15 rfl rfl)
abbrev cX3_bidders : ByteArray := prog_15_method_54_code
def yX3_bidders : MethodName := ⟨RX3, "bidders", "(I)I"⟩
def dkwX3_bidders_1 : List UInt8 := [153, 0, 7, 4, 167, 0, 4, 3, 96, 61, 132, 3, 1, 167, 255, 224, 28, 172]
abbrev dktX3_bidders_1 : List UInt8 := dkwX3_bidders_1 ++ []
def dkwX3_bidders_0 : List UInt8 := [3, 61, 3, 62, 29, 42, 180, 0, 7, 17, 0, 231, 46, 162, 0, 26, 28, 42, 29, 27, 182, 0, 234]
abbrev dktX3_bidders_0 : List UInt8 := dkwX3_bidders_0 ++ dktX3_bidders_1
theorem dksX3_bidders_0 : cX3_bidders.data.toList.drop 0 = dktX3_bidders_0 := by decide +kernel
theorem dksX3_bidders_1 : cX3_bidders.data.toList.drop 23 = dktX3_bidders_1 := dk_seg dksX3_bidders_0 23 rfl rfl
theorem dX3_bidders_0 : decode cX3_bidders 0 = .ok (.iconst 0, 1) := dk_3 (dk_at dksX3_bidders_0 0 rfl rfl)
theorem dX3_bidders_1 : decode cX3_bidders 1 = .ok (.istore_n 2, 1) := dk_61 (dk_at dksX3_bidders_0 1 rfl rfl)
theorem dX3_bidders_2 : decode cX3_bidders 2 = .ok (.iconst 0, 1) := dk_3 (dk_at dksX3_bidders_0 2 rfl rfl)
theorem dX3_bidders_3 : decode cX3_bidders 3 = .ok (.istore_n 3, 1) := dk_62 (dk_at dksX3_bidders_0 3 rfl rfl)
theorem dX3_bidders_4 : decode cX3_bidders 4 = .ok (.iload_n 3, 1) := dk_29 (dk_at dksX3_bidders_0 4 rfl rfl)
theorem dX3_bidders_5 : decode cX3_bidders 5 = .ok (.aload_n 0, 1) := dk_42 (dk_at dksX3_bidders_0 5 rfl rfl)
theorem dX3_bidders_6 : decode cX3_bidders 6 = .ok (.getfield 7, 3) := dk_180 0 7 (dk_at dksX3_bidders_0 6 rfl rfl)
theorem dX3_bidders_9 : decode cX3_bidders 9 = .ok (.sipush 231, 3) := dk_17 0 231 (dk_at dksX3_bidders_0 9 rfl rfl)
theorem dX3_bidders_12 : decode cX3_bidders 12 = .ok (.iaload, 1) := dk_46 (dk_at dksX3_bidders_0 12 rfl rfl)
theorem dX3_bidders_13 : decode cX3_bidders 13 = .ok (.if_icmp .ge 26, 3) := dk_162 0 26 (dk_at dksX3_bidders_0 13 rfl rfl)
theorem dX3_bidders_16 : decode cX3_bidders 16 = .ok (.iload_n 2, 1) := dk_28 (dk_at dksX3_bidders_0 16 rfl rfl)
theorem dX3_bidders_17 : decode cX3_bidders 17 = .ok (.aload_n 0, 1) := dk_42 (dk_at dksX3_bidders_0 17 rfl rfl)
theorem dX3_bidders_18 : decode cX3_bidders 18 = .ok (.iload_n 3, 1) := dk_29 (dk_at dksX3_bidders_0 18 rfl rfl)
theorem dX3_bidders_19 : decode cX3_bidders 19 = .ok (.iload_n 1, 1) := dk_27 (dk_at dksX3_bidders_0 19 rfl rfl)
theorem dX3_bidders_20 : decode cX3_bidders 20 = .ok (.invokevirtual 234, 3) := dk_182 0 234 (dk_at dksX3_bidders_0 20 rfl rfl)
theorem dX3_bidders_23 : decode cX3_bidders 23 = .ok (.ifCond .eq 7, 3) := dk_153 0 7 (dk_at dksX3_bidders_1 0 rfl rfl)
theorem dX3_bidders_26 : decode cX3_bidders 26 = .ok (.iconst 1, 1) := dk_4 (dk_at dksX3_bidders_1 3 rfl rfl)
theorem dX3_bidders_27 : decode cX3_bidders 27 = .ok (.goto 4, 3) := dk_167 0 4 (dk_at dksX3_bidders_1 4 rfl rfl)
theorem dX3_bidders_30 : decode cX3_bidders 30 = .ok (.iconst 0, 1) := dk_3 (dk_at dksX3_bidders_1 7 rfl rfl)
theorem dX3_bidders_31 : decode cX3_bidders 31 = .ok (.iadd, 1) := dk_96 (dk_at dksX3_bidders_1 8 rfl rfl)
theorem dX3_bidders_32 : decode cX3_bidders 32 = .ok (.istore_n 2, 1) := dk_61 (dk_at dksX3_bidders_1 9 rfl rfl)
theorem dX3_bidders_33 : decode cX3_bidders 33 = .ok (.iinc 3 1, 3) := dk_132 3 1 (dk_at dksX3_bidders_1 10 rfl rfl)
theorem dX3_bidders_36 : decode cX3_bidders 36 = .ok (.goto (-32), 3) := dk_167 255 224 (dk_at dksX3_bidders_1 13 rfl rfl)
theorem dX3_bidders_39 : decode cX3_bidders 39 = .ok (.iload_n 2, 1) := dk_28 (dk_at dksX3_bidders_1 16 rfl rfl)
theorem dX3_bidders_40 : decode cX3_bidders 40 = .ok (.ireturn, 1) := dk_172 (dk_at dksX3_bidders_1 17 rfl rfl)
abbrev cX3_isBid : ByteArray := prog_15_method_46_code
def yX3_isBid : MethodName := ⟨RX3, "isBid", "(II)Z"⟩
def dkwX3_isBid_0 : List UInt8 := [42, 27, 16, 10, 182, 0, 205, 28, 122, 4, 126, 4, 160, 0, 7, 4, 167, 0, 4, 3, 172]
abbrev dktX3_isBid_0 : List UInt8 := dkwX3_isBid_0 ++ []
theorem dksX3_isBid_0 : cX3_isBid.data.toList.drop 0 = dktX3_isBid_0 := by decide +kernel
theorem dX3_isBid_0 : decode cX3_isBid 0 = .ok (.aload_n 0, 1) := dk_42 (dk_at dksX3_isBid_0 0 rfl rfl)
theorem dX3_isBid_1 : decode cX3_isBid 1 = .ok (.iload_n 1, 1) := dk_27 (dk_at dksX3_isBid_0 1 rfl rfl)
theorem dX3_isBid_2 : decode cX3_isBid 2 = .ok (.bipush 10, 2) := dk_16 10 (dk_at dksX3_isBid_0 2 rfl rfl)
theorem dX3_isBid_4 : decode cX3_isBid 4 = .ok (.invokevirtual 205, 3) := dk_182 0 205 (dk_at dksX3_isBid_0 4 rfl rfl)
theorem dX3_isBid_7 : decode cX3_isBid 7 = .ok (.iload_n 2, 1) := dk_28 (dk_at dksX3_isBid_0 7 rfl rfl)
theorem dX3_isBid_8 : decode cX3_isBid 8 = .ok (.ishr, 1) := dk_122 (dk_at dksX3_isBid_0 8 rfl rfl)
theorem dX3_isBid_9 : decode cX3_isBid 9 = .ok (.iconst 1, 1) := dk_4 (dk_at dksX3_isBid_0 9 rfl rfl)
theorem dX3_isBid_10 : decode cX3_isBid 10 = .ok (.iand, 1) := dk_126 (dk_at dksX3_isBid_0 10 rfl rfl)
theorem dX3_isBid_11 : decode cX3_isBid 11 = .ok (.iconst 1, 1) := dk_4 (dk_at dksX3_isBid_0 11 rfl rfl)
theorem dX3_isBid_12 : decode cX3_isBid 12 = .ok (.if_icmp .ne 7, 3) := dk_160 0 7 (dk_at dksX3_isBid_0 12 rfl rfl)
theorem dX3_isBid_15 : decode cX3_isBid 15 = .ok (.iconst 1, 1) := dk_4 (dk_at dksX3_isBid_0 15 rfl rfl)
theorem dX3_isBid_16 : decode cX3_isBid 16 = .ok (.goto 4, 3) := dk_167 0 4 (dk_at dksX3_isBid_0 16 rfl rfl)
theorem dX3_isBid_19 : decode cX3_isBid 19 = .ok (.iconst 0, 1) := dk_3 (dk_at dksX3_isBid_0 19 rfl rfl)
theorem dX3_isBid_20 : decode cX3_isBid 20 = .ok (.ireturn, 1) := dk_172 (dk_at dksX3_isBid_0 20 rfl rfl)
abbrev cX3_house : ByteArray := prog_15_method_56_code
def yX3_house : MethodName := ⟨RX3, "house", "(II)I"⟩
def dkwX3_house_11 : List UInt8 := [182, 0, 199, 172, 42, 42, 27, 16, 9, 182, 0, 205, 182, 0, 199, 172]
abbrev dktX3_house_11 : List UInt8 := dkwX3_house_11 ++ []
def dkwX3_house_10 : List UInt8 := [172, 42, 42, 27, 16, 10, 182, 0, 205, 184, 0, 222, 182, 0, 199, 172, 42, 42, 27, 16, 11, 182, 0, 205]
abbrev dktX3_house_10 : List UInt8 := dkwX3_house_10 ++ dktX3_house_11
def dkwX3_house_9 : List UInt8 := [172, 42, 42, 27, 16, 6, 182, 0, 205, 182, 0, 199, 172, 42, 42, 27, 16, 8, 182, 0, 205, 182, 0, 199]
abbrev dktX3_house_9 : List UInt8 := dkwX3_house_9 ++ dktX3_house_10
def dkwX3_house_8 : List UInt8 := [167, 0, 13, 42, 42, 27, 7, 182, 0, 205, 182, 0, 199, 172, 42, 42, 27, 8, 182, 0, 205, 182, 0, 199]
abbrev dktX3_house_8 : List UInt8 := dkwX3_house_8 ++ dktX3_house_9
def dkwX3_house_7 : List UInt8 := [182, 0, 205, 182, 0, 199, 172, 42, 27, 7, 182, 0, 205, 2, 160, 0, 11, 42, 8, 182, 0, 186]
abbrev dktX3_house_7 : List UInt8 := dkwX3_house_7 ++ dktX3_house_8
def dkwX3_house_6 : List UInt8 := [4, 182, 0, 205, 182, 0, 199, 172, 42, 42, 27, 5, 182, 0, 205, 182, 0, 199, 172, 42, 42, 27, 6]
abbrev dktX3_house_6 : List UInt8 := dkwX3_house_6 ++ dktX3_house_7
def dkwX3_house_5 : List UInt8 := [42, 42, 27, 3, 182, 0, 205, 182, 0, 199, 172, 42, 42, 27, 182, 0, 247, 182, 0, 199, 172, 42, 42, 27]
abbrev dktX3_house_5 : List UInt8 := dkwX3_house_5 ++ dktX3_house_6
def dkwX3_house_4 : List UInt8 := [170, 0, 0, 0, 202, 0, 0, 0, 0, 0, 0, 0, 10, 0, 0, 0, 57, 0, 0, 0, 68, 0, 0, 0, 78, 0, 0, 0, 89, 0, 0, 0, 100, 0, 0, 0, 111, 0, 0, 0, 140, 0, 0, 0, 151, 0, 0, 0, 163, 0, 0, 0, 175, 0, 0, 0, 190]
abbrev dktX3_house_4 : List UInt8 := dkwX3_house_4 ++ dktX3_house_5
def dkwX3_house_3 : List UInt8 := [182, 0, 205, 182, 0, 199, 167, 0, 8, 42, 8, 182, 0, 186, 172, 28]
abbrev dktX3_house_3 : List UInt8 := dkwX3_house_3 ++ dktX3_house_4
def dkwX3_house_2 : List UInt8 := [28, 16, 20, 100, 42, 27, 16, 11, 182, 0, 205, 162, 0, 22, 42, 42, 27, 16, 12, 28, 96, 16, 20, 100]
abbrev dktX3_house_2 : List UInt8 := dkwX3_house_2 ++ dktX3_house_3
def dkwX3_house_1 : List UInt8 := [182, 0, 186, 172, 42, 27, 182, 0, 244, 154, 0, 9, 42, 5, 182, 0, 186, 172, 28, 16, 20, 161, 0, 42]
abbrev dktX3_house_1 : List UInt8 := dkwX3_house_1 ++ dktX3_house_2
def dkwX3_house_0 : List UInt8 := [28, 3, 16, 11, 184, 0, 71, 154, 0, 20, 28, 16, 20, 16, 25, 184, 0, 71, 154, 0, 9, 42, 4]
abbrev dktX3_house_0 : List UInt8 := dkwX3_house_0 ++ dktX3_house_1
theorem dksX3_house_0 : cX3_house.data.toList.drop 0 = dktX3_house_0 := by decide +kernel
theorem dksX3_house_1 : cX3_house.data.toList.drop 23 = dktX3_house_1 := dk_seg dksX3_house_0 23 rfl rfl
theorem dksX3_house_2 : cX3_house.data.toList.drop 47 = dktX3_house_2 := dk_seg dksX3_house_1 24 rfl rfl
theorem dksX3_house_3 : cX3_house.data.toList.drop 71 = dktX3_house_3 := dk_seg dksX3_house_2 24 rfl rfl
theorem dksX3_house_4 : cX3_house.data.toList.drop 87 = dktX3_house_4 := dk_seg dksX3_house_3 16 rfl rfl
theorem dksX3_house_5 : cX3_house.data.toList.drop 144 = dktX3_house_5 := dk_seg dksX3_house_4 57 rfl rfl
theorem dksX3_house_6 : cX3_house.data.toList.drop 168 = dktX3_house_6 := dk_seg dksX3_house_5 24 rfl rfl
theorem dksX3_house_7 : cX3_house.data.toList.drop 191 = dktX3_house_7 := dk_seg dksX3_house_6 23 rfl rfl
theorem dksX3_house_8 : cX3_house.data.toList.drop 213 = dktX3_house_8 := dk_seg dksX3_house_7 22 rfl rfl
theorem dksX3_house_9 : cX3_house.data.toList.drop 237 = dktX3_house_9 := dk_seg dksX3_house_8 24 rfl rfl
theorem dksX3_house_10 : cX3_house.data.toList.drop 261 = dktX3_house_10 := dk_seg dksX3_house_9 24 rfl rfl
theorem dksX3_house_11 : cX3_house.data.toList.drop 285 = dktX3_house_11 := dk_seg dksX3_house_10 24 rfl rfl
theorem dX3_house_0 : decode cX3_house 0 = .ok (.iload_n 2, 1) := dk_28 (dk_at dksX3_house_0 0 rfl rfl)
theorem dX3_house_1 : decode cX3_house 1 = .ok (.iconst 0, 1) := dk_3 (dk_at dksX3_house_0 1 rfl rfl)
theorem dX3_house_2 : decode cX3_house 2 = .ok (.bipush 11, 2) := dk_16 11 (dk_at dksX3_house_0 2 rfl rfl)
theorem dX3_house_4 : decode cX3_house 4 = .ok (.invokestatic 71, 3) := dk_184 0 71 (dk_at dksX3_house_0 4 rfl rfl)
theorem dX3_house_7 : decode cX3_house 7 = .ok (.ifCond .ne 20, 3) := dk_154 0 20 (dk_at dksX3_house_0 7 rfl rfl)
theorem dX3_house_10 : decode cX3_house 10 = .ok (.iload_n 2, 1) := dk_28 (dk_at dksX3_house_0 10 rfl rfl)
theorem dX3_house_11 : decode cX3_house 11 = .ok (.bipush 20, 2) := dk_16 20 (dk_at dksX3_house_0 11 rfl rfl)
theorem dX3_house_13 : decode cX3_house 13 = .ok (.bipush 25, 2) := dk_16 25 (dk_at dksX3_house_0 13 rfl rfl)
theorem dX3_house_15 : decode cX3_house 15 = .ok (.invokestatic 71, 3) := dk_184 0 71 (dk_at dksX3_house_0 15 rfl rfl)
theorem dX3_house_18 : decode cX3_house 18 = .ok (.ifCond .ne 9, 3) := dk_154 0 9 (dk_at dksX3_house_0 18 rfl rfl)
theorem dX3_house_21 : decode cX3_house 21 = .ok (.aload_n 0, 1) := dk_42 (dk_at dksX3_house_0 21 rfl rfl)
theorem dX3_house_22 : decode cX3_house 22 = .ok (.iconst 1, 1) := dk_4 (dk_at dksX3_house_0 22 rfl rfl)
theorem dX3_house_23 : decode cX3_house 23 = .ok (.invokevirtual 186, 3) := dk_182 0 186 (dk_at dksX3_house_1 0 rfl rfl)
theorem dX3_house_26 : decode cX3_house 26 = .ok (.ireturn, 1) := dk_172 (dk_at dksX3_house_1 3 rfl rfl)
theorem dX3_house_27 : decode cX3_house 27 = .ok (.aload_n 0, 1) := dk_42 (dk_at dksX3_house_1 4 rfl rfl)
theorem dX3_house_28 : decode cX3_house 28 = .ok (.iload_n 1, 1) := dk_27 (dk_at dksX3_house_1 5 rfl rfl)
theorem dX3_house_29 : decode cX3_house 29 = .ok (.invokevirtual 244, 3) := dk_182 0 244 (dk_at dksX3_house_1 6 rfl rfl)
theorem dX3_house_32 : decode cX3_house 32 = .ok (.ifCond .ne 9, 3) := dk_154 0 9 (dk_at dksX3_house_1 9 rfl rfl)
theorem dX3_house_35 : decode cX3_house 35 = .ok (.aload_n 0, 1) := dk_42 (dk_at dksX3_house_1 12 rfl rfl)
theorem dX3_house_36 : decode cX3_house 36 = .ok (.iconst 2, 1) := dk_5 (dk_at dksX3_house_1 13 rfl rfl)
theorem dX3_house_37 : decode cX3_house 37 = .ok (.invokevirtual 186, 3) := dk_182 0 186 (dk_at dksX3_house_1 14 rfl rfl)
theorem dX3_house_40 : decode cX3_house 40 = .ok (.ireturn, 1) := dk_172 (dk_at dksX3_house_1 17 rfl rfl)
theorem dX3_house_41 : decode cX3_house 41 = .ok (.iload_n 2, 1) := dk_28 (dk_at dksX3_house_1 18 rfl rfl)
theorem dX3_house_42 : decode cX3_house 42 = .ok (.bipush 20, 2) := dk_16 20 (dk_at dksX3_house_1 19 rfl rfl)
theorem dX3_house_44 : decode cX3_house 44 = .ok (.if_icmp .lt 42, 3) := dk_161 0 42 (dk_at dksX3_house_1 21 rfl rfl)
theorem dX3_house_47 : decode cX3_house 47 = .ok (.iload_n 2, 1) := dk_28 (dk_at dksX3_house_2 0 rfl rfl)
theorem dX3_house_48 : decode cX3_house 48 = .ok (.bipush 20, 2) := dk_16 20 (dk_at dksX3_house_2 1 rfl rfl)
theorem dX3_house_50 : decode cX3_house 50 = .ok (.isub, 1) := dk_100 (dk_at dksX3_house_2 3 rfl rfl)
theorem dX3_house_51 : decode cX3_house 51 = .ok (.aload_n 0, 1) := dk_42 (dk_at dksX3_house_2 4 rfl rfl)
theorem dX3_house_52 : decode cX3_house 52 = .ok (.iload_n 1, 1) := dk_27 (dk_at dksX3_house_2 5 rfl rfl)
theorem dX3_house_53 : decode cX3_house 53 = .ok (.bipush 11, 2) := dk_16 11 (dk_at dksX3_house_2 6 rfl rfl)
theorem dX3_house_55 : decode cX3_house 55 = .ok (.invokevirtual 205, 3) := dk_182 0 205 (dk_at dksX3_house_2 8 rfl rfl)
theorem dX3_house_58 : decode cX3_house 58 = .ok (.if_icmp .ge 22, 3) := dk_162 0 22 (dk_at dksX3_house_2 11 rfl rfl)
theorem dX3_house_61 : decode cX3_house 61 = .ok (.aload_n 0, 1) := dk_42 (dk_at dksX3_house_2 14 rfl rfl)
theorem dX3_house_62 : decode cX3_house 62 = .ok (.aload_n 0, 1) := dk_42 (dk_at dksX3_house_2 15 rfl rfl)
theorem dX3_house_63 : decode cX3_house 63 = .ok (.iload_n 1, 1) := dk_27 (dk_at dksX3_house_2 16 rfl rfl)
theorem dX3_house_64 : decode cX3_house 64 = .ok (.bipush 12, 2) := dk_16 12 (dk_at dksX3_house_2 17 rfl rfl)
theorem dX3_house_66 : decode cX3_house 66 = .ok (.iload_n 2, 1) := dk_28 (dk_at dksX3_house_2 19 rfl rfl)
theorem dX3_house_67 : decode cX3_house 67 = .ok (.iadd, 1) := dk_96 (dk_at dksX3_house_2 20 rfl rfl)
theorem dX3_house_68 : decode cX3_house 68 = .ok (.bipush 20, 2) := dk_16 20 (dk_at dksX3_house_2 21 rfl rfl)
theorem dX3_house_70 : decode cX3_house 70 = .ok (.isub, 1) := dk_100 (dk_at dksX3_house_2 23 rfl rfl)
theorem dX3_house_71 : decode cX3_house 71 = .ok (.invokevirtual 205, 3) := dk_182 0 205 (dk_at dksX3_house_3 0 rfl rfl)
theorem dX3_house_74 : decode cX3_house 74 = .ok (.invokevirtual 199, 3) := dk_182 0 199 (dk_at dksX3_house_3 3 rfl rfl)
theorem dX3_house_77 : decode cX3_house 77 = .ok (.goto 8, 3) := dk_167 0 8 (dk_at dksX3_house_3 6 rfl rfl)
theorem dX3_house_80 : decode cX3_house 80 = .ok (.aload_n 0, 1) := dk_42 (dk_at dksX3_house_3 9 rfl rfl)
theorem dX3_house_81 : decode cX3_house 81 = .ok (.iconst 5, 1) := dk_8 (dk_at dksX3_house_3 10 rfl rfl)
theorem dX3_house_82 : decode cX3_house 82 = .ok (.invokevirtual 186, 3) := dk_182 0 186 (dk_at dksX3_house_3 11 rfl rfl)
theorem dX3_house_85 : decode cX3_house 85 = .ok (.ireturn, 1) := dk_172 (dk_at dksX3_house_3 14 rfl rfl)
theorem dX3_house_86 : decode cX3_house 86 = .ok (.iload_n 2, 1) := dk_28 (dk_at dksX3_house_3 15 rfl rfl)
theorem dX3_house_87 : decode cX3_house 87 = .ok (.tableswitch 202 0 10 #[57, 68, 78, 89, 100, 111, 140, 151, 163, 175, 190], 57) := by decide +kernel
theorem dX3_house_144 : decode cX3_house 144 = .ok (.aload_n 0, 1) := dk_42 (dk_at dksX3_house_5 0 rfl rfl)
theorem dX3_house_145 : decode cX3_house 145 = .ok (.aload_n 0, 1) := dk_42 (dk_at dksX3_house_5 1 rfl rfl)
theorem dX3_house_146 : decode cX3_house 146 = .ok (.iload_n 1, 1) := dk_27 (dk_at dksX3_house_5 2 rfl rfl)
theorem dX3_house_147 : decode cX3_house 147 = .ok (.iconst 0, 1) := dk_3 (dk_at dksX3_house_5 3 rfl rfl)
theorem dX3_house_148 : decode cX3_house 148 = .ok (.invokevirtual 205, 3) := dk_182 0 205 (dk_at dksX3_house_5 4 rfl rfl)
theorem dX3_house_151 : decode cX3_house 151 = .ok (.invokevirtual 199, 3) := dk_182 0 199 (dk_at dksX3_house_5 7 rfl rfl)
theorem dX3_house_154 : decode cX3_house 154 = .ok (.ireturn, 1) := dk_172 (dk_at dksX3_house_5 10 rfl rfl)
theorem dX3_house_155 : decode cX3_house 155 = .ok (.aload_n 0, 1) := dk_42 (dk_at dksX3_house_5 11 rfl rfl)
theorem dX3_house_156 : decode cX3_house 156 = .ok (.aload_n 0, 1) := dk_42 (dk_at dksX3_house_5 12 rfl rfl)
theorem dX3_house_157 : decode cX3_house 157 = .ok (.iload_n 1, 1) := dk_27 (dk_at dksX3_house_5 13 rfl rfl)
theorem dX3_house_158 : decode cX3_house 158 = .ok (.invokevirtual 247, 3) := dk_182 0 247 (dk_at dksX3_house_5 14 rfl rfl)
theorem dX3_house_161 : decode cX3_house 161 = .ok (.invokevirtual 199, 3) := dk_182 0 199 (dk_at dksX3_house_5 17 rfl rfl)
theorem dX3_house_164 : decode cX3_house 164 = .ok (.ireturn, 1) := dk_172 (dk_at dksX3_house_5 20 rfl rfl)
theorem dX3_house_165 : decode cX3_house 165 = .ok (.aload_n 0, 1) := dk_42 (dk_at dksX3_house_5 21 rfl rfl)
theorem dX3_house_166 : decode cX3_house 166 = .ok (.aload_n 0, 1) := dk_42 (dk_at dksX3_house_5 22 rfl rfl)
theorem dX3_house_167 : decode cX3_house 167 = .ok (.iload_n 1, 1) := dk_27 (dk_at dksX3_house_5 23 rfl rfl)
theorem dX3_house_168 : decode cX3_house 168 = .ok (.iconst 1, 1) := dk_4 (dk_at dksX3_house_6 0 rfl rfl)
theorem dX3_house_169 : decode cX3_house 169 = .ok (.invokevirtual 205, 3) := dk_182 0 205 (dk_at dksX3_house_6 1 rfl rfl)
theorem dX3_house_172 : decode cX3_house 172 = .ok (.invokevirtual 199, 3) := dk_182 0 199 (dk_at dksX3_house_6 4 rfl rfl)
theorem dX3_house_175 : decode cX3_house 175 = .ok (.ireturn, 1) := dk_172 (dk_at dksX3_house_6 7 rfl rfl)
theorem dX3_house_176 : decode cX3_house 176 = .ok (.aload_n 0, 1) := dk_42 (dk_at dksX3_house_6 8 rfl rfl)
theorem dX3_house_177 : decode cX3_house 177 = .ok (.aload_n 0, 1) := dk_42 (dk_at dksX3_house_6 9 rfl rfl)
theorem dX3_house_178 : decode cX3_house 178 = .ok (.iload_n 1, 1) := dk_27 (dk_at dksX3_house_6 10 rfl rfl)
theorem dX3_house_179 : decode cX3_house 179 = .ok (.iconst 2, 1) := dk_5 (dk_at dksX3_house_6 11 rfl rfl)
theorem dX3_house_180 : decode cX3_house 180 = .ok (.invokevirtual 205, 3) := dk_182 0 205 (dk_at dksX3_house_6 12 rfl rfl)
theorem dX3_house_183 : decode cX3_house 183 = .ok (.invokevirtual 199, 3) := dk_182 0 199 (dk_at dksX3_house_6 15 rfl rfl)
theorem dX3_house_186 : decode cX3_house 186 = .ok (.ireturn, 1) := dk_172 (dk_at dksX3_house_6 18 rfl rfl)
theorem dX3_house_187 : decode cX3_house 187 = .ok (.aload_n 0, 1) := dk_42 (dk_at dksX3_house_6 19 rfl rfl)
theorem dX3_house_188 : decode cX3_house 188 = .ok (.aload_n 0, 1) := dk_42 (dk_at dksX3_house_6 20 rfl rfl)
theorem dX3_house_189 : decode cX3_house 189 = .ok (.iload_n 1, 1) := dk_27 (dk_at dksX3_house_6 21 rfl rfl)
theorem dX3_house_190 : decode cX3_house 190 = .ok (.iconst 3, 1) := dk_6 (dk_at dksX3_house_6 22 rfl rfl)
theorem dX3_house_191 : decode cX3_house 191 = .ok (.invokevirtual 205, 3) := dk_182 0 205 (dk_at dksX3_house_7 0 rfl rfl)
theorem dX3_house_194 : decode cX3_house 194 = .ok (.invokevirtual 199, 3) := dk_182 0 199 (dk_at dksX3_house_7 3 rfl rfl)
theorem dX3_house_197 : decode cX3_house 197 = .ok (.ireturn, 1) := dk_172 (dk_at dksX3_house_7 6 rfl rfl)
theorem dX3_house_198 : decode cX3_house 198 = .ok (.aload_n 0, 1) := dk_42 (dk_at dksX3_house_7 7 rfl rfl)
theorem dX3_house_199 : decode cX3_house 199 = .ok (.iload_n 1, 1) := dk_27 (dk_at dksX3_house_7 8 rfl rfl)
theorem dX3_house_200 : decode cX3_house 200 = .ok (.iconst 4, 1) := dk_7 (dk_at dksX3_house_7 9 rfl rfl)
theorem dX3_house_201 : decode cX3_house 201 = .ok (.invokevirtual 205, 3) := dk_182 0 205 (dk_at dksX3_house_7 10 rfl rfl)
theorem dX3_house_204 : decode cX3_house 204 = .ok (.iconst (-1), 1) := dk_2 (dk_at dksX3_house_7 13 rfl rfl)
theorem dX3_house_205 : decode cX3_house 205 = .ok (.if_icmp .ne 11, 3) := dk_160 0 11 (dk_at dksX3_house_7 14 rfl rfl)
theorem dX3_house_208 : decode cX3_house 208 = .ok (.aload_n 0, 1) := dk_42 (dk_at dksX3_house_7 17 rfl rfl)
theorem dX3_house_209 : decode cX3_house 209 = .ok (.iconst 5, 1) := dk_8 (dk_at dksX3_house_7 18 rfl rfl)
theorem dX3_house_210 : decode cX3_house 210 = .ok (.invokevirtual 186, 3) := dk_182 0 186 (dk_at dksX3_house_7 19 rfl rfl)
theorem dX3_house_213 : decode cX3_house 213 = .ok (.goto 13, 3) := dk_167 0 13 (dk_at dksX3_house_8 0 rfl rfl)
theorem dX3_house_216 : decode cX3_house 216 = .ok (.aload_n 0, 1) := dk_42 (dk_at dksX3_house_8 3 rfl rfl)
theorem dX3_house_217 : decode cX3_house 217 = .ok (.aload_n 0, 1) := dk_42 (dk_at dksX3_house_8 4 rfl rfl)
theorem dX3_house_218 : decode cX3_house 218 = .ok (.iload_n 1, 1) := dk_27 (dk_at dksX3_house_8 5 rfl rfl)
theorem dX3_house_219 : decode cX3_house 219 = .ok (.iconst 4, 1) := dk_7 (dk_at dksX3_house_8 6 rfl rfl)
theorem dX3_house_220 : decode cX3_house 220 = .ok (.invokevirtual 205, 3) := dk_182 0 205 (dk_at dksX3_house_8 7 rfl rfl)
theorem dX3_house_223 : decode cX3_house 223 = .ok (.invokevirtual 199, 3) := dk_182 0 199 (dk_at dksX3_house_8 10 rfl rfl)
theorem dX3_house_226 : decode cX3_house 226 = .ok (.ireturn, 1) := dk_172 (dk_at dksX3_house_8 13 rfl rfl)
theorem dX3_house_227 : decode cX3_house 227 = .ok (.aload_n 0, 1) := dk_42 (dk_at dksX3_house_8 14 rfl rfl)
theorem dX3_house_228 : decode cX3_house 228 = .ok (.aload_n 0, 1) := dk_42 (dk_at dksX3_house_8 15 rfl rfl)
theorem dX3_house_229 : decode cX3_house 229 = .ok (.iload_n 1, 1) := dk_27 (dk_at dksX3_house_8 16 rfl rfl)
theorem dX3_house_230 : decode cX3_house 230 = .ok (.iconst 5, 1) := dk_8 (dk_at dksX3_house_8 17 rfl rfl)
theorem dX3_house_231 : decode cX3_house 231 = .ok (.invokevirtual 205, 3) := dk_182 0 205 (dk_at dksX3_house_8 18 rfl rfl)
theorem dX3_house_234 : decode cX3_house 234 = .ok (.invokevirtual 199, 3) := dk_182 0 199 (dk_at dksX3_house_8 21 rfl rfl)
theorem dX3_house_237 : decode cX3_house 237 = .ok (.ireturn, 1) := dk_172 (dk_at dksX3_house_9 0 rfl rfl)
theorem dX3_house_238 : decode cX3_house 238 = .ok (.aload_n 0, 1) := dk_42 (dk_at dksX3_house_9 1 rfl rfl)
theorem dX3_house_239 : decode cX3_house 239 = .ok (.aload_n 0, 1) := dk_42 (dk_at dksX3_house_9 2 rfl rfl)
theorem dX3_house_240 : decode cX3_house 240 = .ok (.iload_n 1, 1) := dk_27 (dk_at dksX3_house_9 3 rfl rfl)
theorem dX3_house_241 : decode cX3_house 241 = .ok (.bipush 6, 2) := dk_16 6 (dk_at dksX3_house_9 4 rfl rfl)
theorem dX3_house_243 : decode cX3_house 243 = .ok (.invokevirtual 205, 3) := dk_182 0 205 (dk_at dksX3_house_9 6 rfl rfl)
theorem dX3_house_246 : decode cX3_house 246 = .ok (.invokevirtual 199, 3) := dk_182 0 199 (dk_at dksX3_house_9 9 rfl rfl)
theorem dX3_house_249 : decode cX3_house 249 = .ok (.ireturn, 1) := dk_172 (dk_at dksX3_house_9 12 rfl rfl)
theorem dX3_house_250 : decode cX3_house 250 = .ok (.aload_n 0, 1) := dk_42 (dk_at dksX3_house_9 13 rfl rfl)
theorem dX3_house_251 : decode cX3_house 251 = .ok (.aload_n 0, 1) := dk_42 (dk_at dksX3_house_9 14 rfl rfl)
theorem dX3_house_252 : decode cX3_house 252 = .ok (.iload_n 1, 1) := dk_27 (dk_at dksX3_house_9 15 rfl rfl)
theorem dX3_house_253 : decode cX3_house 253 = .ok (.bipush 8, 2) := dk_16 8 (dk_at dksX3_house_9 16 rfl rfl)
theorem dX3_house_255 : decode cX3_house 255 = .ok (.invokevirtual 205, 3) := dk_182 0 205 (dk_at dksX3_house_9 18 rfl rfl)
theorem dX3_house_258 : decode cX3_house 258 = .ok (.invokevirtual 199, 3) := dk_182 0 199 (dk_at dksX3_house_9 21 rfl rfl)
theorem dX3_house_261 : decode cX3_house 261 = .ok (.ireturn, 1) := dk_172 (dk_at dksX3_house_10 0 rfl rfl)
theorem dX3_house_262 : decode cX3_house 262 = .ok (.aload_n 0, 1) := dk_42 (dk_at dksX3_house_10 1 rfl rfl)
theorem dX3_house_263 : decode cX3_house 263 = .ok (.aload_n 0, 1) := dk_42 (dk_at dksX3_house_10 2 rfl rfl)
theorem dX3_house_264 : decode cX3_house 264 = .ok (.iload_n 1, 1) := dk_27 (dk_at dksX3_house_10 3 rfl rfl)
theorem dX3_house_265 : decode cX3_house 265 = .ok (.bipush 10, 2) := dk_16 10 (dk_at dksX3_house_10 4 rfl rfl)
theorem dX3_house_267 : decode cX3_house 267 = .ok (.invokevirtual 205, 3) := dk_182 0 205 (dk_at dksX3_house_10 6 rfl rfl)
theorem dX3_house_270 : decode cX3_house 270 = .ok (.invokestatic 222, 3) := dk_184 0 222 (dk_at dksX3_house_10 9 rfl rfl)
theorem dX3_house_273 : decode cX3_house 273 = .ok (.invokevirtual 199, 3) := dk_182 0 199 (dk_at dksX3_house_10 12 rfl rfl)
theorem dX3_house_276 : decode cX3_house 276 = .ok (.ireturn, 1) := dk_172 (dk_at dksX3_house_10 15 rfl rfl)
theorem dX3_house_277 : decode cX3_house 277 = .ok (.aload_n 0, 1) := dk_42 (dk_at dksX3_house_10 16 rfl rfl)
theorem dX3_house_278 : decode cX3_house 278 = .ok (.aload_n 0, 1) := dk_42 (dk_at dksX3_house_10 17 rfl rfl)
theorem dX3_house_279 : decode cX3_house 279 = .ok (.iload_n 1, 1) := dk_27 (dk_at dksX3_house_10 18 rfl rfl)
theorem dX3_house_280 : decode cX3_house 280 = .ok (.bipush 11, 2) := dk_16 11 (dk_at dksX3_house_10 19 rfl rfl)
theorem dX3_house_282 : decode cX3_house 282 = .ok (.invokevirtual 205, 3) := dk_182 0 205 (dk_at dksX3_house_10 21 rfl rfl)
theorem dX3_house_285 : decode cX3_house 285 = .ok (.invokevirtual 199, 3) := dk_182 0 199 (dk_at dksX3_house_11 0 rfl rfl)
theorem dX3_house_288 : decode cX3_house 288 = .ok (.ireturn, 1) := dk_172 (dk_at dksX3_house_11 3 rfl rfl)
theorem dX3_house_289 : decode cX3_house 289 = .ok (.aload_n 0, 1) := dk_42 (dk_at dksX3_house_11 4 rfl rfl)
theorem dX3_house_290 : decode cX3_house 290 = .ok (.aload_n 0, 1) := dk_42 (dk_at dksX3_house_11 5 rfl rfl)
theorem dX3_house_291 : decode cX3_house 291 = .ok (.iload_n 1, 1) := dk_27 (dk_at dksX3_house_11 6 rfl rfl)
theorem dX3_house_292 : decode cX3_house 292 = .ok (.bipush 9, 2) := dk_16 9 (dk_at dksX3_house_11 7 rfl rfl)
theorem dX3_house_294 : decode cX3_house 294 = .ok (.invokevirtual 205, 3) := dk_182 0 205 (dk_at dksX3_house_11 9 rfl rfl)
theorem dX3_house_297 : decode cX3_house 297 = .ok (.invokevirtual 199, 3) := dk_182 0 199 (dk_at dksX3_house_11 12 rfl rfl)
theorem dX3_house_300 : decode cX3_house 300 = .ok (.ireturn, 1) := dk_172 (dk_at dksX3_house_11 15 rfl rfl)
abbrev cX3_isHouse : ByteArray := prog_15_method_9_code
def yX3_isHouse : MethodName := ⟨RX3, "isHouse", "(I)Z"⟩
def dkwX3_isHouse_0 : List UInt8 := [27, 3, 42, 180, 0, 7, 17, 0, 231, 46, 4, 100, 184, 0, 71, 172]
abbrev dktX3_isHouse_0 : List UInt8 := dkwX3_isHouse_0 ++ []
theorem dksX3_isHouse_0 : cX3_isHouse.data.toList.drop 0 = dktX3_isHouse_0 := by decide +kernel
theorem dX3_isHouse_0 : decode cX3_isHouse 0 = .ok (.iload_n 1, 1) := dk_27 (dk_at dksX3_isHouse_0 0 rfl rfl)
theorem dX3_isHouse_1 : decode cX3_isHouse 1 = .ok (.iconst 0, 1) := dk_3 (dk_at dksX3_isHouse_0 1 rfl rfl)
theorem dX3_isHouse_2 : decode cX3_isHouse 2 = .ok (.aload_n 0, 1) := dk_42 (dk_at dksX3_isHouse_0 2 rfl rfl)
theorem dX3_isHouse_3 : decode cX3_isHouse 3 = .ok (.getfield 7, 3) := dk_180 0 7 (dk_at dksX3_isHouse_0 3 rfl rfl)
theorem dX3_isHouse_6 : decode cX3_isHouse 6 = .ok (.sipush 231, 3) := dk_17 0 231 (dk_at dksX3_isHouse_0 6 rfl rfl)
theorem dX3_isHouse_9 : decode cX3_isHouse 9 = .ok (.iaload, 1) := dk_46 (dk_at dksX3_isHouse_0 9 rfl rfl)
theorem dX3_isHouse_10 : decode cX3_isHouse 10 = .ok (.iconst 1, 1) := dk_4 (dk_at dksX3_isHouse_0 10 rfl rfl)
theorem dX3_isHouse_11 : decode cX3_isHouse 11 = .ok (.isub, 1) := dk_100 (dk_at dksX3_isHouse_0 11 rfl rfl)
theorem dX3_isHouse_12 : decode cX3_isHouse 12 = .ok (.invokestatic 71, 3) := dk_184 0 71 (dk_at dksX3_isHouse_0 12 rfl rfl)
theorem dX3_isHouse_15 : decode cX3_isHouse 15 = .ok (.ireturn, 1) := dk_172 (dk_at dksX3_isHouse_0 15 rfl rfl)
abbrev cX3_bandNow : ByteArray := prog_15_method_44_code
def yX3_bandNow : MethodName := ⟨RX3, "bandNow", "(I)I"⟩
def dkwX3_bandNow_1 : List UInt8 := [6, 182, 0, 205, 100, 42, 180, 0, 7, 17, 0, 228, 46, 108, 100, 184, 0, 211, 172]
abbrev dktX3_bandNow_1 : List UInt8 := dkwX3_bandNow_1 ++ []
def dkwX3_bandNow_0 : List UInt8 := [4, 42, 27, 3, 182, 0, 205, 17, 3, 232, 16, 7, 42, 180, 0, 7, 17, 0, 232, 46, 104, 96, 42, 27]
abbrev dktX3_bandNow_0 : List UInt8 := dkwX3_bandNow_0 ++ dktX3_bandNow_1
theorem dksX3_bandNow_0 : cX3_bandNow.data.toList.drop 0 = dktX3_bandNow_0 := by decide +kernel
theorem dksX3_bandNow_1 : cX3_bandNow.data.toList.drop 24 = dktX3_bandNow_1 := dk_seg dksX3_bandNow_0 24 rfl rfl
theorem dX3_bandNow_0 : decode cX3_bandNow 0 = .ok (.iconst 1, 1) := dk_4 (dk_at dksX3_bandNow_0 0 rfl rfl)
theorem dX3_bandNow_1 : decode cX3_bandNow 1 = .ok (.aload_n 0, 1) := dk_42 (dk_at dksX3_bandNow_0 1 rfl rfl)
theorem dX3_bandNow_2 : decode cX3_bandNow 2 = .ok (.iload_n 1, 1) := dk_27 (dk_at dksX3_bandNow_0 2 rfl rfl)
theorem dX3_bandNow_3 : decode cX3_bandNow 3 = .ok (.iconst 0, 1) := dk_3 (dk_at dksX3_bandNow_0 3 rfl rfl)
theorem dX3_bandNow_4 : decode cX3_bandNow 4 = .ok (.invokevirtual 205, 3) := dk_182 0 205 (dk_at dksX3_bandNow_0 4 rfl rfl)
theorem dX3_bandNow_7 : decode cX3_bandNow 7 = .ok (.sipush 1000, 3) := dk_17 3 232 (dk_at dksX3_bandNow_0 7 rfl rfl)
theorem dX3_bandNow_10 : decode cX3_bandNow 10 = .ok (.bipush 7, 2) := dk_16 7 (dk_at dksX3_bandNow_0 10 rfl rfl)
theorem dX3_bandNow_12 : decode cX3_bandNow 12 = .ok (.aload_n 0, 1) := dk_42 (dk_at dksX3_bandNow_0 12 rfl rfl)
theorem dX3_bandNow_13 : decode cX3_bandNow 13 = .ok (.getfield 7, 3) := dk_180 0 7 (dk_at dksX3_bandNow_0 13 rfl rfl)
theorem dX3_bandNow_16 : decode cX3_bandNow 16 = .ok (.sipush 232, 3) := dk_17 0 232 (dk_at dksX3_bandNow_0 16 rfl rfl)
theorem dX3_bandNow_19 : decode cX3_bandNow 19 = .ok (.iaload, 1) := dk_46 (dk_at dksX3_bandNow_0 19 rfl rfl)
theorem dX3_bandNow_20 : decode cX3_bandNow 20 = .ok (.imul, 1) := dk_104 (dk_at dksX3_bandNow_0 20 rfl rfl)
theorem dX3_bandNow_21 : decode cX3_bandNow 21 = .ok (.iadd, 1) := dk_96 (dk_at dksX3_bandNow_0 21 rfl rfl)
theorem dX3_bandNow_22 : decode cX3_bandNow 22 = .ok (.aload_n 0, 1) := dk_42 (dk_at dksX3_bandNow_0 22 rfl rfl)
theorem dX3_bandNow_23 : decode cX3_bandNow 23 = .ok (.iload_n 1, 1) := dk_27 (dk_at dksX3_bandNow_0 23 rfl rfl)
theorem dX3_bandNow_24 : decode cX3_bandNow 24 = .ok (.iconst 3, 1) := dk_6 (dk_at dksX3_bandNow_1 0 rfl rfl)
theorem dX3_bandNow_25 : decode cX3_bandNow 25 = .ok (.invokevirtual 205, 3) := dk_182 0 205 (dk_at dksX3_bandNow_1 1 rfl rfl)
theorem dX3_bandNow_28 : decode cX3_bandNow 28 = .ok (.isub, 1) := dk_100 (dk_at dksX3_bandNow_1 4 rfl rfl)
theorem dX3_bandNow_29 : decode cX3_bandNow 29 = .ok (.aload_n 0, 1) := dk_42 (dk_at dksX3_bandNow_1 5 rfl rfl)
theorem dX3_bandNow_30 : decode cX3_bandNow 30 = .ok (.getfield 7, 3) := dk_180 0 7 (dk_at dksX3_bandNow_1 6 rfl rfl)
theorem dX3_bandNow_33 : decode cX3_bandNow 33 = .ok (.sipush 228, 3) := dk_17 0 228 (dk_at dksX3_bandNow_1 9 rfl rfl)
theorem dX3_bandNow_36 : decode cX3_bandNow 36 = .ok (.iaload, 1) := dk_46 (dk_at dksX3_bandNow_1 12 rfl rfl)
theorem dX3_bandNow_37 : decode cX3_bandNow 37 = .ok (.idiv, 1) := dk_108 (dk_at dksX3_bandNow_1 13 rfl rfl)
theorem dX3_bandNow_38 : decode cX3_bandNow 38 = .ok (.isub, 1) := dk_100 (dk_at dksX3_bandNow_1 14 rfl rfl)
theorem dX3_bandNow_39 : decode cX3_bandNow 39 = .ok (.invokestatic 211, 3) := dk_184 0 211 (dk_at dksX3_bandNow_1 15 rfl rfl)
theorem dX3_bandNow_42 : decode cX3_bandNow 42 = .ok (.ireturn, 1) := dk_172 (dk_at dksX3_bandNow_1 18 rfl rfl)
abbrev cX3_rule : ByteArray := prog_15_method_57_code
def yX3_rule : MethodName := ⟨RX3, "rule", "(I)I"⟩
def dkwX3_rule_1 : List UInt8 := [167, 0, 8, 42, 4, 182, 0, 186, 172]
abbrev dktX3_rule_1 : List UInt8 := dkwX3_rule_1 ++ []
def dkwX3_rule_0 : List UInt8 := [27, 3, 8, 184, 0, 71, 153, 0, 20, 42, 42, 180, 0, 7, 17, 0, 224, 27, 96, 46, 182, 0, 199]
abbrev dktX3_rule_0 : List UInt8 := dkwX3_rule_0 ++ dktX3_rule_1
theorem dksX3_rule_0 : cX3_rule.data.toList.drop 0 = dktX3_rule_0 := by decide +kernel
theorem dksX3_rule_1 : cX3_rule.data.toList.drop 23 = dktX3_rule_1 := dk_seg dksX3_rule_0 23 rfl rfl
theorem dX3_rule_0 : decode cX3_rule 0 = .ok (.iload_n 1, 1) := dk_27 (dk_at dksX3_rule_0 0 rfl rfl)
theorem dX3_rule_1 : decode cX3_rule 1 = .ok (.iconst 0, 1) := dk_3 (dk_at dksX3_rule_0 1 rfl rfl)
theorem dX3_rule_2 : decode cX3_rule 2 = .ok (.iconst 5, 1) := dk_8 (dk_at dksX3_rule_0 2 rfl rfl)
theorem dX3_rule_3 : decode cX3_rule 3 = .ok (.invokestatic 71, 3) := dk_184 0 71 (dk_at dksX3_rule_0 3 rfl rfl)
theorem dX3_rule_6 : decode cX3_rule 6 = .ok (.ifCond .eq 20, 3) := dk_153 0 20 (dk_at dksX3_rule_0 6 rfl rfl)
theorem dX3_rule_9 : decode cX3_rule 9 = .ok (.aload_n 0, 1) := dk_42 (dk_at dksX3_rule_0 9 rfl rfl)
theorem dX3_rule_10 : decode cX3_rule 10 = .ok (.aload_n 0, 1) := dk_42 (dk_at dksX3_rule_0 10 rfl rfl)
theorem dX3_rule_11 : decode cX3_rule 11 = .ok (.getfield 7, 3) := dk_180 0 7 (dk_at dksX3_rule_0 11 rfl rfl)
theorem dX3_rule_14 : decode cX3_rule 14 = .ok (.sipush 224, 3) := dk_17 0 224 (dk_at dksX3_rule_0 14 rfl rfl)
theorem dX3_rule_17 : decode cX3_rule 17 = .ok (.iload_n 1, 1) := dk_27 (dk_at dksX3_rule_0 17 rfl rfl)
theorem dX3_rule_18 : decode cX3_rule 18 = .ok (.iadd, 1) := dk_96 (dk_at dksX3_rule_0 18 rfl rfl)
theorem dX3_rule_19 : decode cX3_rule 19 = .ok (.iaload, 1) := dk_46 (dk_at dksX3_rule_0 19 rfl rfl)
theorem dX3_rule_20 : decode cX3_rule 20 = .ok (.invokevirtual 199, 3) := dk_182 0 199 (dk_at dksX3_rule_0 20 rfl rfl)
theorem dX3_rule_23 : decode cX3_rule 23 = .ok (.goto 8, 3) := dk_167 0 8 (dk_at dksX3_rule_1 0 rfl rfl)
theorem dX3_rule_26 : decode cX3_rule 26 = .ok (.aload_n 0, 1) := dk_42 (dk_at dksX3_rule_1 3 rfl rfl)
theorem dX3_rule_27 : decode cX3_rule 27 = .ok (.iconst 1, 1) := dk_4 (dk_at dksX3_rule_1 4 rfl rfl)
theorem dX3_rule_28 : decode cX3_rule 28 = .ok (.invokevirtual 186, 3) := dk_182 0 186 (dk_at dksX3_rule_1 5 rfl rfl)
theorem dX3_rule_31 : decode cX3_rule 31 = .ok (.ireturn, 1) := dk_172 (dk_at dksX3_rule_1 8 rfl rfl)
abbrev cX3_why : ByteArray := prog_15_method_60_code
def yX3_why : MethodName := ⟨RX3, "why", "(II)I"⟩
def dkwX3_why_1 : List UInt8 := [182, 0, 186, 172]
abbrev dktX3_why_1 : List UInt8 := dkwX3_why_1 ++ []
def dkwX3_why_0 : List UInt8 := [42, 27, 28, 182, 0, 253, 153, 0, 16, 42, 42, 27, 28, 182, 1, 0, 182, 0, 199, 167, 0, 8, 42, 5]
abbrev dktX3_why_0 : List UInt8 := dkwX3_why_0 ++ dktX3_why_1
theorem dksX3_why_0 : cX3_why.data.toList.drop 0 = dktX3_why_0 := by decide +kernel
theorem dksX3_why_1 : cX3_why.data.toList.drop 24 = dktX3_why_1 := dk_seg dksX3_why_0 24 rfl rfl
theorem dX3_why_0 : decode cX3_why 0 = .ok (.aload_n 0, 1) := dk_42 (dk_at dksX3_why_0 0 rfl rfl)
theorem dX3_why_1 : decode cX3_why 1 = .ok (.iload_n 1, 1) := dk_27 (dk_at dksX3_why_0 1 rfl rfl)
theorem dX3_why_2 : decode cX3_why 2 = .ok (.iload_n 2, 1) := dk_28 (dk_at dksX3_why_0 2 rfl rfl)
theorem dX3_why_3 : decode cX3_why 3 = .ok (.invokevirtual 253, 3) := dk_182 0 253 (dk_at dksX3_why_0 3 rfl rfl)
theorem dX3_why_6 : decode cX3_why 6 = .ok (.ifCond .eq 16, 3) := dk_153 0 16 (dk_at dksX3_why_0 6 rfl rfl)
theorem dX3_why_9 : decode cX3_why 9 = .ok (.aload_n 0, 1) := dk_42 (dk_at dksX3_why_0 9 rfl rfl)
theorem dX3_why_10 : decode cX3_why 10 = .ok (.aload_n 0, 1) := dk_42 (dk_at dksX3_why_0 10 rfl rfl)
theorem dX3_why_11 : decode cX3_why 11 = .ok (.iload_n 1, 1) := dk_27 (dk_at dksX3_why_0 11 rfl rfl)
theorem dX3_why_12 : decode cX3_why 12 = .ok (.iload_n 2, 1) := dk_28 (dk_at dksX3_why_0 12 rfl rfl)
theorem dX3_why_13 : decode cX3_why 13 = .ok (.invokevirtual 256, 3) := dk_182 1 0 (dk_at dksX3_why_0 13 rfl rfl)
theorem dX3_why_16 : decode cX3_why 16 = .ok (.invokevirtual 199, 3) := dk_182 0 199 (dk_at dksX3_why_0 16 rfl rfl)
theorem dX3_why_19 : decode cX3_why 19 = .ok (.goto 8, 3) := dk_167 0 8 (dk_at dksX3_why_0 19 rfl rfl)
theorem dX3_why_22 : decode cX3_why 22 = .ok (.aload_n 0, 1) := dk_42 (dk_at dksX3_why_0 22 rfl rfl)
theorem dX3_why_23 : decode cX3_why 23 = .ok (.iconst 2, 1) := dk_5 (dk_at dksX3_why_0 23 rfl rfl)
theorem dX3_why_24 : decode cX3_why 24 = .ok (.invokevirtual 186, 3) := dk_182 0 186 (dk_at dksX3_why_1 0 rfl rfl)
theorem dX3_why_27 : decode cX3_why 27 = .ok (.ireturn, 1) := dk_172 (dk_at dksX3_why_1 3 rfl rfl)
abbrev cX3_areOnes : ByteArray := prog_15_method_59_code
def yX3_areOnes : MethodName := ⟨RX3, "areOnes", "(II)Z"⟩
def dkwX3_areOnes_0 : List UInt8 := [42, 27, 182, 0, 244, 153, 0, 15, 42, 28, 182, 0, 238, 153, 0, 7, 4, 167, 0, 4, 3, 172]
abbrev dktX3_areOnes_0 : List UInt8 := dkwX3_areOnes_0 ++ []
theorem dksX3_areOnes_0 : cX3_areOnes.data.toList.drop 0 = dktX3_areOnes_0 := by decide +kernel
theorem dX3_areOnes_0 : decode cX3_areOnes 0 = .ok (.aload_n 0, 1) := dk_42 (dk_at dksX3_areOnes_0 0 rfl rfl)
theorem dX3_areOnes_1 : decode cX3_areOnes 1 = .ok (.iload_n 1, 1) := dk_27 (dk_at dksX3_areOnes_0 1 rfl rfl)
theorem dX3_areOnes_2 : decode cX3_areOnes 2 = .ok (.invokevirtual 244, 3) := dk_182 0 244 (dk_at dksX3_areOnes_0 2 rfl rfl)
theorem dX3_areOnes_5 : decode cX3_areOnes 5 = .ok (.ifCond .eq 15, 3) := dk_153 0 15 (dk_at dksX3_areOnes_0 5 rfl rfl)
theorem dX3_areOnes_8 : decode cX3_areOnes 8 = .ok (.aload_n 0, 1) := dk_42 (dk_at dksX3_areOnes_0 8 rfl rfl)
theorem dX3_areOnes_9 : decode cX3_areOnes 9 = .ok (.iload_n 2, 1) := dk_28 (dk_at dksX3_areOnes_0 9 rfl rfl)
theorem dX3_areOnes_10 : decode cX3_areOnes 10 = .ok (.invokevirtual 238, 3) := dk_182 0 238 (dk_at dksX3_areOnes_0 10 rfl rfl)
theorem dX3_areOnes_13 : decode cX3_areOnes 13 = .ok (.ifCond .eq 7, 3) := dk_153 0 7 (dk_at dksX3_areOnes_0 13 rfl rfl)
theorem dX3_areOnes_16 : decode cX3_areOnes 16 = .ok (.iconst 1, 1) := dk_4 (dk_at dksX3_areOnes_0 16 rfl rfl)
theorem dX3_areOnes_17 : decode cX3_areOnes 17 = .ok (.goto 4, 3) := dk_167 0 4 (dk_at dksX3_areOnes_0 17 rfl rfl)
theorem dX3_areOnes_20 : decode cX3_areOnes 20 = .ok (.iconst 0, 1) := dk_3 (dk_at dksX3_areOnes_0 20 rfl rfl)
theorem dX3_areOnes_21 : decode cX3_areOnes 21 = .ok (.ireturn, 1) := dk_172 (dk_at dksX3_areOnes_0 21 rfl rfl)
abbrev cX3_whyNot : ByteArray := prog_15_method_58_code
def yX3_whyNot : MethodName := ⟨RX3, "whyNot", "(II)I"⟩
def dkwX3_whyNot_3 : List UInt8 := [17, 0, 229, 46, 161, 0, 8, 16, 6, 167, 0, 4, 3, 172]
abbrev dktX3_whyNot_3 : List UInt8 := dkwX3_whyNot_3 ++ []
def dkwX3_whyNot_2 : List UInt8 := [182, 0, 234, 153, 0, 7, 8, 167, 0, 30, 42, 27, 16, 10, 182, 0, 205, 184, 0, 222, 42, 180, 0, 7]
abbrev dktX3_whyNot_2 : List UInt8 := dkwX3_whyNot_2 ++ dktX3_whyNot_3
def dkwX3_whyNot_1 : List UInt8 := [182, 0, 219, 154, 0, 5, 6, 172, 42, 27, 28, 182, 0, 250, 154, 0, 5, 7, 172, 42, 27, 28]
abbrev dktX3_whyNot_1 : List UInt8 := dkwX3_whyNot_1 ++ dktX3_whyNot_2
def dkwX3_whyNot_0 : List UInt8 := [42, 27, 182, 0, 208, 154, 0, 5, 4, 172, 42, 27, 16, 6, 182, 0, 205, 158, 0, 5, 5, 172, 42, 28]
abbrev dktX3_whyNot_0 : List UInt8 := dkwX3_whyNot_0 ++ dktX3_whyNot_1
theorem dksX3_whyNot_0 : cX3_whyNot.data.toList.drop 0 = dktX3_whyNot_0 := by decide +kernel
theorem dksX3_whyNot_1 : cX3_whyNot.data.toList.drop 24 = dktX3_whyNot_1 := dk_seg dksX3_whyNot_0 24 rfl rfl
theorem dksX3_whyNot_2 : cX3_whyNot.data.toList.drop 46 = dktX3_whyNot_2 := dk_seg dksX3_whyNot_1 22 rfl rfl
theorem dksX3_whyNot_3 : cX3_whyNot.data.toList.drop 70 = dktX3_whyNot_3 := dk_seg dksX3_whyNot_2 24 rfl rfl
theorem dX3_whyNot_0 : decode cX3_whyNot 0 = .ok (.aload_n 0, 1) := dk_42 (dk_at dksX3_whyNot_0 0 rfl rfl)
theorem dX3_whyNot_1 : decode cX3_whyNot 1 = .ok (.iload_n 1, 1) := dk_27 (dk_at dksX3_whyNot_0 1 rfl rfl)
theorem dX3_whyNot_2 : decode cX3_whyNot 2 = .ok (.invokevirtual 208, 3) := dk_182 0 208 (dk_at dksX3_whyNot_0 2 rfl rfl)
theorem dX3_whyNot_5 : decode cX3_whyNot 5 = .ok (.ifCond .ne 5, 3) := dk_154 0 5 (dk_at dksX3_whyNot_0 5 rfl rfl)
theorem dX3_whyNot_8 : decode cX3_whyNot 8 = .ok (.iconst 1, 1) := dk_4 (dk_at dksX3_whyNot_0 8 rfl rfl)
theorem dX3_whyNot_9 : decode cX3_whyNot 9 = .ok (.ireturn, 1) := dk_172 (dk_at dksX3_whyNot_0 9 rfl rfl)
theorem dX3_whyNot_10 : decode cX3_whyNot 10 = .ok (.aload_n 0, 1) := dk_42 (dk_at dksX3_whyNot_0 10 rfl rfl)
theorem dX3_whyNot_11 : decode cX3_whyNot 11 = .ok (.iload_n 1, 1) := dk_27 (dk_at dksX3_whyNot_0 11 rfl rfl)
theorem dX3_whyNot_12 : decode cX3_whyNot 12 = .ok (.bipush 6, 2) := dk_16 6 (dk_at dksX3_whyNot_0 12 rfl rfl)
theorem dX3_whyNot_14 : decode cX3_whyNot 14 = .ok (.invokevirtual 205, 3) := dk_182 0 205 (dk_at dksX3_whyNot_0 14 rfl rfl)
theorem dX3_whyNot_17 : decode cX3_whyNot 17 = .ok (.ifCond .le 5, 3) := dk_158 0 5 (dk_at dksX3_whyNot_0 17 rfl rfl)
theorem dX3_whyNot_20 : decode cX3_whyNot 20 = .ok (.iconst 2, 1) := dk_5 (dk_at dksX3_whyNot_0 20 rfl rfl)
theorem dX3_whyNot_21 : decode cX3_whyNot 21 = .ok (.ireturn, 1) := dk_172 (dk_at dksX3_whyNot_0 21 rfl rfl)
theorem dX3_whyNot_22 : decode cX3_whyNot 22 = .ok (.aload_n 0, 1) := dk_42 (dk_at dksX3_whyNot_0 22 rfl rfl)
theorem dX3_whyNot_23 : decode cX3_whyNot 23 = .ok (.iload_n 2, 1) := dk_28 (dk_at dksX3_whyNot_0 23 rfl rfl)
theorem dX3_whyNot_24 : decode cX3_whyNot 24 = .ok (.invokevirtual 219, 3) := dk_182 0 219 (dk_at dksX3_whyNot_1 0 rfl rfl)
theorem dX3_whyNot_27 : decode cX3_whyNot 27 = .ok (.ifCond .ne 5, 3) := dk_154 0 5 (dk_at dksX3_whyNot_1 3 rfl rfl)
theorem dX3_whyNot_30 : decode cX3_whyNot 30 = .ok (.iconst 3, 1) := dk_6 (dk_at dksX3_whyNot_1 6 rfl rfl)
theorem dX3_whyNot_31 : decode cX3_whyNot 31 = .ok (.ireturn, 1) := dk_172 (dk_at dksX3_whyNot_1 7 rfl rfl)
theorem dX3_whyNot_32 : decode cX3_whyNot 32 = .ok (.aload_n 0, 1) := dk_42 (dk_at dksX3_whyNot_1 8 rfl rfl)
theorem dX3_whyNot_33 : decode cX3_whyNot 33 = .ok (.iload_n 1, 1) := dk_27 (dk_at dksX3_whyNot_1 9 rfl rfl)
theorem dX3_whyNot_34 : decode cX3_whyNot 34 = .ok (.iload_n 2, 1) := dk_28 (dk_at dksX3_whyNot_1 10 rfl rfl)
theorem dX3_whyNot_35 : decode cX3_whyNot 35 = .ok (.invokevirtual 250, 3) := dk_182 0 250 (dk_at dksX3_whyNot_1 11 rfl rfl)
theorem dX3_whyNot_38 : decode cX3_whyNot 38 = .ok (.ifCond .ne 5, 3) := dk_154 0 5 (dk_at dksX3_whyNot_1 14 rfl rfl)
theorem dX3_whyNot_41 : decode cX3_whyNot 41 = .ok (.iconst 4, 1) := dk_7 (dk_at dksX3_whyNot_1 17 rfl rfl)
theorem dX3_whyNot_42 : decode cX3_whyNot 42 = .ok (.ireturn, 1) := dk_172 (dk_at dksX3_whyNot_1 18 rfl rfl)
theorem dX3_whyNot_43 : decode cX3_whyNot 43 = .ok (.aload_n 0, 1) := dk_42 (dk_at dksX3_whyNot_1 19 rfl rfl)
theorem dX3_whyNot_44 : decode cX3_whyNot 44 = .ok (.iload_n 1, 1) := dk_27 (dk_at dksX3_whyNot_1 20 rfl rfl)
theorem dX3_whyNot_45 : decode cX3_whyNot 45 = .ok (.iload_n 2, 1) := dk_28 (dk_at dksX3_whyNot_1 21 rfl rfl)
theorem dX3_whyNot_46 : decode cX3_whyNot 46 = .ok (.invokevirtual 234, 3) := dk_182 0 234 (dk_at dksX3_whyNot_2 0 rfl rfl)
theorem dX3_whyNot_49 : decode cX3_whyNot 49 = .ok (.ifCond .eq 7, 3) := dk_153 0 7 (dk_at dksX3_whyNot_2 3 rfl rfl)
theorem dX3_whyNot_52 : decode cX3_whyNot 52 = .ok (.iconst 5, 1) := dk_8 (dk_at dksX3_whyNot_2 6 rfl rfl)
theorem dX3_whyNot_53 : decode cX3_whyNot 53 = .ok (.goto 30, 3) := dk_167 0 30 (dk_at dksX3_whyNot_2 7 rfl rfl)
theorem dX3_whyNot_56 : decode cX3_whyNot 56 = .ok (.aload_n 0, 1) := dk_42 (dk_at dksX3_whyNot_2 10 rfl rfl)
theorem dX3_whyNot_57 : decode cX3_whyNot 57 = .ok (.iload_n 1, 1) := dk_27 (dk_at dksX3_whyNot_2 11 rfl rfl)
theorem dX3_whyNot_58 : decode cX3_whyNot 58 = .ok (.bipush 10, 2) := dk_16 10 (dk_at dksX3_whyNot_2 12 rfl rfl)
theorem dX3_whyNot_60 : decode cX3_whyNot 60 = .ok (.invokevirtual 205, 3) := dk_182 0 205 (dk_at dksX3_whyNot_2 14 rfl rfl)
theorem dX3_whyNot_63 : decode cX3_whyNot 63 = .ok (.invokestatic 222, 3) := dk_184 0 222 (dk_at dksX3_whyNot_2 17 rfl rfl)
theorem dX3_whyNot_66 : decode cX3_whyNot 66 = .ok (.aload_n 0, 1) := dk_42 (dk_at dksX3_whyNot_2 20 rfl rfl)
theorem dX3_whyNot_67 : decode cX3_whyNot 67 = .ok (.getfield 7, 3) := dk_180 0 7 (dk_at dksX3_whyNot_2 21 rfl rfl)
theorem dX3_whyNot_70 : decode cX3_whyNot 70 = .ok (.sipush 229, 3) := dk_17 0 229 (dk_at dksX3_whyNot_3 0 rfl rfl)
theorem dX3_whyNot_73 : decode cX3_whyNot 73 = .ok (.iaload, 1) := dk_46 (dk_at dksX3_whyNot_3 3 rfl rfl)
theorem dX3_whyNot_74 : decode cX3_whyNot 74 = .ok (.if_icmp .lt 8, 3) := dk_161 0 8 (dk_at dksX3_whyNot_3 4 rfl rfl)
theorem dX3_whyNot_77 : decode cX3_whyNot 77 = .ok (.bipush 6, 2) := dk_16 6 (dk_at dksX3_whyNot_3 7 rfl rfl)
theorem dX3_whyNot_79 : decode cX3_whyNot 79 = .ok (.goto 4, 3) := dk_167 0 4 (dk_at dksX3_whyNot_3 9 rfl rfl)
theorem dX3_whyNot_82 : decode cX3_whyNot 82 = .ok (.iconst 0, 1) := dk_3 (dk_at dksX3_whyNot_3 12 rfl rfl)
theorem dX3_whyNot_83 : decode cX3_whyNot 83 = .ok (.ireturn, 1) := dk_172 (dk_at dksX3_whyNot_3 13 rfl rfl)
abbrev cX3_doesFit : ByteArray := prog_15_method_45_code
def yX3_doesFit : MethodName := ⟨RX3, "doesFit", "(II)Z"⟩
def dkwX3_doesFit_0 : List UInt8 := [42, 28, 3, 182, 0, 202, 42, 27, 4, 182, 0, 205, 100, 3, 4, 184, 0, 71, 172]
abbrev dktX3_doesFit_0 : List UInt8 := dkwX3_doesFit_0 ++ []
theorem dksX3_doesFit_0 : cX3_doesFit.data.toList.drop 0 = dktX3_doesFit_0 := by decide +kernel
theorem dX3_doesFit_0 : decode cX3_doesFit 0 = .ok (.aload_n 0, 1) := dk_42 (dk_at dksX3_doesFit_0 0 rfl rfl)
theorem dX3_doesFit_1 : decode cX3_doesFit 1 = .ok (.iload_n 2, 1) := dk_28 (dk_at dksX3_doesFit_0 1 rfl rfl)
theorem dX3_doesFit_2 : decode cX3_doesFit 2 = .ok (.iconst 0, 1) := dk_3 (dk_at dksX3_doesFit_0 2 rfl rfl)
theorem dX3_doesFit_3 : decode cX3_doesFit 3 = .ok (.invokevirtual 202, 3) := dk_182 0 202 (dk_at dksX3_doesFit_0 3 rfl rfl)
theorem dX3_doesFit_6 : decode cX3_doesFit 6 = .ok (.aload_n 0, 1) := dk_42 (dk_at dksX3_doesFit_0 6 rfl rfl)
theorem dX3_doesFit_7 : decode cX3_doesFit 7 = .ok (.iload_n 1, 1) := dk_27 (dk_at dksX3_doesFit_0 7 rfl rfl)
theorem dX3_doesFit_8 : decode cX3_doesFit 8 = .ok (.iconst 1, 1) := dk_4 (dk_at dksX3_doesFit_0 8 rfl rfl)
theorem dX3_doesFit_9 : decode cX3_doesFit 9 = .ok (.invokevirtual 205, 3) := dk_182 0 205 (dk_at dksX3_doesFit_0 9 rfl rfl)
theorem dX3_doesFit_12 : decode cX3_doesFit 12 = .ok (.isub, 1) := dk_100 (dk_at dksX3_doesFit_0 12 rfl rfl)
theorem dX3_doesFit_13 : decode cX3_doesFit 13 = .ok (.iconst 0, 1) := dk_3 (dk_at dksX3_doesFit_0 13 rfl rfl)
theorem dX3_doesFit_14 : decode cX3_doesFit 14 = .ok (.iconst 1, 1) := dk_4 (dk_at dksX3_doesFit_0 14 rfl rfl)
theorem dX3_doesFit_15 : decode cX3_doesFit 15 = .ok (.invokestatic 71, 3) := dk_184 0 71 (dk_at dksX3_doesFit_0 15 rfl rfl)
theorem dX3_doesFit_18 : decode cX3_doesFit 18 = .ok (.ireturn, 1) := dk_172 (dk_at dksX3_doesFit_0 18 rfl rfl)
abbrev cX3_bids : ByteArray := prog_15_method_61_code
def yX3_bids : MethodName := ⟨RX3, "bids", "(II)I"⟩
def dkwX3_bids_1 : List UInt8 := [182, 0, 199, 167, 0, 8, 42, 5, 182, 0, 186, 172]
abbrev dktX3_bids_1 : List UInt8 := dkwX3_bids_1 ++ []
def dkwX3_bids_0 : List UInt8 := [42, 27, 28, 182, 0, 253, 153, 0, 24, 42, 42, 27, 28, 182, 0, 234, 153, 0, 7, 4, 167, 0, 4, 3]
abbrev dktX3_bids_0 : List UInt8 := dkwX3_bids_0 ++ dktX3_bids_1
theorem dksX3_bids_0 : cX3_bids.data.toList.drop 0 = dktX3_bids_0 := by decide +kernel
theorem dksX3_bids_1 : cX3_bids.data.toList.drop 24 = dktX3_bids_1 := dk_seg dksX3_bids_0 24 rfl rfl
theorem dX3_bids_0 : decode cX3_bids 0 = .ok (.aload_n 0, 1) := dk_42 (dk_at dksX3_bids_0 0 rfl rfl)
theorem dX3_bids_1 : decode cX3_bids 1 = .ok (.iload_n 1, 1) := dk_27 (dk_at dksX3_bids_0 1 rfl rfl)
theorem dX3_bids_2 : decode cX3_bids 2 = .ok (.iload_n 2, 1) := dk_28 (dk_at dksX3_bids_0 2 rfl rfl)
theorem dX3_bids_3 : decode cX3_bids 3 = .ok (.invokevirtual 253, 3) := dk_182 0 253 (dk_at dksX3_bids_0 3 rfl rfl)
theorem dX3_bids_6 : decode cX3_bids 6 = .ok (.ifCond .eq 24, 3) := dk_153 0 24 (dk_at dksX3_bids_0 6 rfl rfl)
theorem dX3_bids_9 : decode cX3_bids 9 = .ok (.aload_n 0, 1) := dk_42 (dk_at dksX3_bids_0 9 rfl rfl)
theorem dX3_bids_10 : decode cX3_bids 10 = .ok (.aload_n 0, 1) := dk_42 (dk_at dksX3_bids_0 10 rfl rfl)
theorem dX3_bids_11 : decode cX3_bids 11 = .ok (.iload_n 1, 1) := dk_27 (dk_at dksX3_bids_0 11 rfl rfl)
theorem dX3_bids_12 : decode cX3_bids 12 = .ok (.iload_n 2, 1) := dk_28 (dk_at dksX3_bids_0 12 rfl rfl)
theorem dX3_bids_13 : decode cX3_bids 13 = .ok (.invokevirtual 234, 3) := dk_182 0 234 (dk_at dksX3_bids_0 13 rfl rfl)
theorem dX3_bids_16 : decode cX3_bids 16 = .ok (.ifCond .eq 7, 3) := dk_153 0 7 (dk_at dksX3_bids_0 16 rfl rfl)
theorem dX3_bids_19 : decode cX3_bids 19 = .ok (.iconst 1, 1) := dk_4 (dk_at dksX3_bids_0 19 rfl rfl)
theorem dX3_bids_20 : decode cX3_bids 20 = .ok (.goto 4, 3) := dk_167 0 4 (dk_at dksX3_bids_0 20 rfl rfl)
theorem dX3_bids_23 : decode cX3_bids 23 = .ok (.iconst 0, 1) := dk_3 (dk_at dksX3_bids_0 23 rfl rfl)
theorem dX3_bids_24 : decode cX3_bids 24 = .ok (.invokevirtual 199, 3) := dk_182 0 199 (dk_at dksX3_bids_1 0 rfl rfl)
theorem dX3_bids_27 : decode cX3_bids 27 = .ok (.goto 8, 3) := dk_167 0 8 (dk_at dksX3_bids_1 3 rfl rfl)
theorem dX3_bids_30 : decode cX3_bids 30 = .ok (.aload_n 0, 1) := dk_42 (dk_at dksX3_bids_1 6 rfl rfl)
theorem dX3_bids_31 : decode cX3_bids 31 = .ok (.iconst 2, 1) := dk_5 (dk_at dksX3_bids_1 7 rfl rfl)
theorem dX3_bids_32 : decode cX3_bids 32 = .ok (.invokevirtual 186, 3) := dk_182 0 186 (dk_at dksX3_bids_1 8 rfl rfl)
theorem dX3_bids_35 : decode cX3_bids 35 = .ok (.ireturn, 1) := dk_172 (dk_at dksX3_bids_1 11 rfl rfl)
abbrev cX3_order : ByteArray := prog_15_method_70_code
def yX3_order : MethodName := ⟨RX3, "order", "(II)I"⟩
def dkwX3_order_3 : List UInt8 := [167, 255, 234, 42, 42, 29, 27, 182, 1, 24, 182, 0, 199, 172]
abbrev dktX3_order_3 : List UInt8 := dkwX3_order_3 ++ []
def dkwX3_order_2 : List UInt8 := [21, 4, 28, 162, 0, 22, 29, 4, 42, 29, 27, 182, 1, 24, 120, 2, 130, 126, 62, 132, 4, 1]
abbrev dktX3_order_2 : List UInt8 := dkwX3_order_2 ++ dktX3_order_3
def dkwX3_order_1 : List UInt8 := [42, 27, 182, 1, 21, 62, 28, 29, 184, 0, 222, 161, 0, 9, 42, 8, 182, 0, 186, 172, 3, 54, 4]
abbrev dktX3_order_1 : List UInt8 := dkwX3_order_1 ++ dktX3_order_2
def dkwX3_order_0 : List UInt8 := [28, 156, 0, 9, 42, 4, 182, 0, 186, 172, 42, 27, 182, 0, 238, 154, 0, 9, 42, 5, 182, 0, 186, 172]
abbrev dktX3_order_0 : List UInt8 := dkwX3_order_0 ++ dktX3_order_1
theorem dksX3_order_0 : cX3_order.data.toList.drop 0 = dktX3_order_0 := by decide +kernel
theorem dksX3_order_1 : cX3_order.data.toList.drop 24 = dktX3_order_1 := dk_seg dksX3_order_0 24 rfl rfl
theorem dksX3_order_2 : cX3_order.data.toList.drop 47 = dktX3_order_2 := dk_seg dksX3_order_1 23 rfl rfl
theorem dksX3_order_3 : cX3_order.data.toList.drop 69 = dktX3_order_3 := dk_seg dksX3_order_2 22 rfl rfl
theorem dX3_order_0 : decode cX3_order 0 = .ok (.iload_n 2, 1) := dk_28 (dk_at dksX3_order_0 0 rfl rfl)
theorem dX3_order_1 : decode cX3_order 1 = .ok (.ifCond .ge 9, 3) := dk_156 0 9 (dk_at dksX3_order_0 1 rfl rfl)
theorem dX3_order_4 : decode cX3_order 4 = .ok (.aload_n 0, 1) := dk_42 (dk_at dksX3_order_0 4 rfl rfl)
theorem dX3_order_5 : decode cX3_order 5 = .ok (.iconst 1, 1) := dk_4 (dk_at dksX3_order_0 5 rfl rfl)
theorem dX3_order_6 : decode cX3_order 6 = .ok (.invokevirtual 186, 3) := dk_182 0 186 (dk_at dksX3_order_0 6 rfl rfl)
theorem dX3_order_9 : decode cX3_order 9 = .ok (.ireturn, 1) := dk_172 (dk_at dksX3_order_0 9 rfl rfl)
theorem dX3_order_10 : decode cX3_order 10 = .ok (.aload_n 0, 1) := dk_42 (dk_at dksX3_order_0 10 rfl rfl)
theorem dX3_order_11 : decode cX3_order 11 = .ok (.iload_n 1, 1) := dk_27 (dk_at dksX3_order_0 11 rfl rfl)
theorem dX3_order_12 : decode cX3_order 12 = .ok (.invokevirtual 238, 3) := dk_182 0 238 (dk_at dksX3_order_0 12 rfl rfl)
theorem dX3_order_15 : decode cX3_order 15 = .ok (.ifCond .ne 9, 3) := dk_154 0 9 (dk_at dksX3_order_0 15 rfl rfl)
theorem dX3_order_18 : decode cX3_order 18 = .ok (.aload_n 0, 1) := dk_42 (dk_at dksX3_order_0 18 rfl rfl)
theorem dX3_order_19 : decode cX3_order 19 = .ok (.iconst 2, 1) := dk_5 (dk_at dksX3_order_0 19 rfl rfl)
theorem dX3_order_20 : decode cX3_order 20 = .ok (.invokevirtual 186, 3) := dk_182 0 186 (dk_at dksX3_order_0 20 rfl rfl)
theorem dX3_order_23 : decode cX3_order 23 = .ok (.ireturn, 1) := dk_172 (dk_at dksX3_order_0 23 rfl rfl)
theorem dX3_order_24 : decode cX3_order 24 = .ok (.aload_n 0, 1) := dk_42 (dk_at dksX3_order_1 0 rfl rfl)
theorem dX3_order_25 : decode cX3_order 25 = .ok (.iload_n 1, 1) := dk_27 (dk_at dksX3_order_1 1 rfl rfl)
theorem dX3_order_26 : decode cX3_order 26 = .ok (.invokevirtual 277, 3) := dk_182 1 21 (dk_at dksX3_order_1 2 rfl rfl)
theorem dX3_order_29 : decode cX3_order 29 = .ok (.istore_n 3, 1) := dk_62 (dk_at dksX3_order_1 5 rfl rfl)
theorem dX3_order_30 : decode cX3_order 30 = .ok (.iload_n 2, 1) := dk_28 (dk_at dksX3_order_1 6 rfl rfl)
theorem dX3_order_31 : decode cX3_order 31 = .ok (.iload_n 3, 1) := dk_29 (dk_at dksX3_order_1 7 rfl rfl)
theorem dX3_order_32 : decode cX3_order 32 = .ok (.invokestatic 222, 3) := dk_184 0 222 (dk_at dksX3_order_1 8 rfl rfl)
theorem dX3_order_35 : decode cX3_order 35 = .ok (.if_icmp .lt 9, 3) := dk_161 0 9 (dk_at dksX3_order_1 11 rfl rfl)
theorem dX3_order_38 : decode cX3_order 38 = .ok (.aload_n 0, 1) := dk_42 (dk_at dksX3_order_1 14 rfl rfl)
theorem dX3_order_39 : decode cX3_order 39 = .ok (.iconst 5, 1) := dk_8 (dk_at dksX3_order_1 15 rfl rfl)
theorem dX3_order_40 : decode cX3_order 40 = .ok (.invokevirtual 186, 3) := dk_182 0 186 (dk_at dksX3_order_1 16 rfl rfl)
theorem dX3_order_43 : decode cX3_order 43 = .ok (.ireturn, 1) := dk_172 (dk_at dksX3_order_1 19 rfl rfl)
theorem dX3_order_44 : decode cX3_order 44 = .ok (.iconst 0, 1) := dk_3 (dk_at dksX3_order_1 20 rfl rfl)
theorem dX3_order_45 : decode cX3_order 45 = .ok (.istore 4, 2) := dk_54 4 (dk_at dksX3_order_1 21 rfl rfl)
theorem dX3_order_47 : decode cX3_order 47 = .ok (.iload 4, 2) := dk_21 4 (dk_at dksX3_order_2 0 rfl rfl)
theorem dX3_order_49 : decode cX3_order 49 = .ok (.iload_n 2, 1) := dk_28 (dk_at dksX3_order_2 2 rfl rfl)
theorem dX3_order_50 : decode cX3_order 50 = .ok (.if_icmp .ge 22, 3) := dk_162 0 22 (dk_at dksX3_order_2 3 rfl rfl)
theorem dX3_order_53 : decode cX3_order 53 = .ok (.iload_n 3, 1) := dk_29 (dk_at dksX3_order_2 6 rfl rfl)
theorem dX3_order_54 : decode cX3_order 54 = .ok (.iconst 1, 1) := dk_4 (dk_at dksX3_order_2 7 rfl rfl)
theorem dX3_order_55 : decode cX3_order 55 = .ok (.aload_n 0, 1) := dk_42 (dk_at dksX3_order_2 8 rfl rfl)
theorem dX3_order_56 : decode cX3_order 56 = .ok (.iload_n 3, 1) := dk_29 (dk_at dksX3_order_2 9 rfl rfl)
theorem dX3_order_57 : decode cX3_order 57 = .ok (.iload_n 1, 1) := dk_27 (dk_at dksX3_order_2 10 rfl rfl)
theorem dX3_order_58 : decode cX3_order 58 = .ok (.invokevirtual 280, 3) := dk_182 1 24 (dk_at dksX3_order_2 11 rfl rfl)
theorem dX3_order_61 : decode cX3_order 61 = .ok (.ishl, 1) := dk_120 (dk_at dksX3_order_2 14 rfl rfl)
theorem dX3_order_62 : decode cX3_order 62 = .ok (.iconst (-1), 1) := dk_2 (dk_at dksX3_order_2 15 rfl rfl)
theorem dX3_order_63 : decode cX3_order 63 = .ok (.ixor, 1) := dk_130 (dk_at dksX3_order_2 16 rfl rfl)
theorem dX3_order_64 : decode cX3_order 64 = .ok (.iand, 1) := dk_126 (dk_at dksX3_order_2 17 rfl rfl)
theorem dX3_order_65 : decode cX3_order 65 = .ok (.istore_n 3, 1) := dk_62 (dk_at dksX3_order_2 18 rfl rfl)
theorem dX3_order_66 : decode cX3_order 66 = .ok (.iinc 4 1, 3) := dk_132 4 1 (dk_at dksX3_order_2 19 rfl rfl)
theorem dX3_order_69 : decode cX3_order 69 = .ok (.goto (-22), 3) := dk_167 255 234 (dk_at dksX3_order_3 0 rfl rfl)
theorem dX3_order_72 : decode cX3_order 72 = .ok (.aload_n 0, 1) := dk_42 (dk_at dksX3_order_3 3 rfl rfl)
theorem dX3_order_73 : decode cX3_order 73 = .ok (.aload_n 0, 1) := dk_42 (dk_at dksX3_order_3 4 rfl rfl)
theorem dX3_order_74 : decode cX3_order 74 = .ok (.iload_n 3, 1) := dk_29 (dk_at dksX3_order_3 5 rfl rfl)
theorem dX3_order_75 : decode cX3_order 75 = .ok (.iload_n 1, 1) := dk_27 (dk_at dksX3_order_3 6 rfl rfl)
theorem dX3_order_76 : decode cX3_order 76 = .ok (.invokevirtual 280, 3) := dk_182 1 24 (dk_at dksX3_order_3 7 rfl rfl)
theorem dX3_order_79 : decode cX3_order 79 = .ok (.invokevirtual 199, 3) := dk_182 0 199 (dk_at dksX3_order_3 10 rfl rfl)
theorem dX3_order_82 : decode cX3_order 82 = .ok (.ireturn, 1) := dk_172 (dk_at dksX3_order_3 13 rfl rfl)
abbrev cX3_biddersOf : ByteArray := prog_15_method_69_code
def yX3_biddersOf : MethodName := ⟨RX3, "biddersOf", "(I)I"⟩
def dkwX3_biddersOf_1 : List UInt8 := [153, 0, 9, 4, 29, 120, 167, 0, 4, 3, 128, 61, 132, 3, 1, 167, 255, 222, 28, 172]
abbrev dktX3_biddersOf_1 : List UInt8 := dkwX3_biddersOf_1 ++ []
def dkwX3_biddersOf_0 : List UInt8 := [3, 61, 3, 62, 29, 42, 180, 0, 7, 17, 0, 231, 46, 162, 0, 28, 28, 42, 29, 27, 182, 0, 234]
abbrev dktX3_biddersOf_0 : List UInt8 := dkwX3_biddersOf_0 ++ dktX3_biddersOf_1
theorem dksX3_biddersOf_0 : cX3_biddersOf.data.toList.drop 0 = dktX3_biddersOf_0 := by decide +kernel
theorem dksX3_biddersOf_1 : cX3_biddersOf.data.toList.drop 23 = dktX3_biddersOf_1 := dk_seg dksX3_biddersOf_0 23 rfl rfl
theorem dX3_biddersOf_0 : decode cX3_biddersOf 0 = .ok (.iconst 0, 1) := dk_3 (dk_at dksX3_biddersOf_0 0 rfl rfl)
theorem dX3_biddersOf_1 : decode cX3_biddersOf 1 = .ok (.istore_n 2, 1) := dk_61 (dk_at dksX3_biddersOf_0 1 rfl rfl)
theorem dX3_biddersOf_2 : decode cX3_biddersOf 2 = .ok (.iconst 0, 1) := dk_3 (dk_at dksX3_biddersOf_0 2 rfl rfl)
theorem dX3_biddersOf_3 : decode cX3_biddersOf 3 = .ok (.istore_n 3, 1) := dk_62 (dk_at dksX3_biddersOf_0 3 rfl rfl)
theorem dX3_biddersOf_4 : decode cX3_biddersOf 4 = .ok (.iload_n 3, 1) := dk_29 (dk_at dksX3_biddersOf_0 4 rfl rfl)
theorem dX3_biddersOf_5 : decode cX3_biddersOf 5 = .ok (.aload_n 0, 1) := dk_42 (dk_at dksX3_biddersOf_0 5 rfl rfl)
theorem dX3_biddersOf_6 : decode cX3_biddersOf 6 = .ok (.getfield 7, 3) := dk_180 0 7 (dk_at dksX3_biddersOf_0 6 rfl rfl)
theorem dX3_biddersOf_9 : decode cX3_biddersOf 9 = .ok (.sipush 231, 3) := dk_17 0 231 (dk_at dksX3_biddersOf_0 9 rfl rfl)
theorem dX3_biddersOf_12 : decode cX3_biddersOf 12 = .ok (.iaload, 1) := dk_46 (dk_at dksX3_biddersOf_0 12 rfl rfl)
theorem dX3_biddersOf_13 : decode cX3_biddersOf 13 = .ok (.if_icmp .ge 28, 3) := dk_162 0 28 (dk_at dksX3_biddersOf_0 13 rfl rfl)
theorem dX3_biddersOf_16 : decode cX3_biddersOf 16 = .ok (.iload_n 2, 1) := dk_28 (dk_at dksX3_biddersOf_0 16 rfl rfl)
theorem dX3_biddersOf_17 : decode cX3_biddersOf 17 = .ok (.aload_n 0, 1) := dk_42 (dk_at dksX3_biddersOf_0 17 rfl rfl)
theorem dX3_biddersOf_18 : decode cX3_biddersOf 18 = .ok (.iload_n 3, 1) := dk_29 (dk_at dksX3_biddersOf_0 18 rfl rfl)
theorem dX3_biddersOf_19 : decode cX3_biddersOf 19 = .ok (.iload_n 1, 1) := dk_27 (dk_at dksX3_biddersOf_0 19 rfl rfl)
theorem dX3_biddersOf_20 : decode cX3_biddersOf 20 = .ok (.invokevirtual 234, 3) := dk_182 0 234 (dk_at dksX3_biddersOf_0 20 rfl rfl)
theorem dX3_biddersOf_23 : decode cX3_biddersOf 23 = .ok (.ifCond .eq 9, 3) := dk_153 0 9 (dk_at dksX3_biddersOf_1 0 rfl rfl)
theorem dX3_biddersOf_26 : decode cX3_biddersOf 26 = .ok (.iconst 1, 1) := dk_4 (dk_at dksX3_biddersOf_1 3 rfl rfl)
theorem dX3_biddersOf_27 : decode cX3_biddersOf 27 = .ok (.iload_n 3, 1) := dk_29 (dk_at dksX3_biddersOf_1 4 rfl rfl)
theorem dX3_biddersOf_28 : decode cX3_biddersOf 28 = .ok (.ishl, 1) := dk_120 (dk_at dksX3_biddersOf_1 5 rfl rfl)
theorem dX3_biddersOf_29 : decode cX3_biddersOf 29 = .ok (.goto 4, 3) := dk_167 0 4 (dk_at dksX3_biddersOf_1 6 rfl rfl)
theorem dX3_biddersOf_32 : decode cX3_biddersOf 32 = .ok (.iconst 0, 1) := dk_3 (dk_at dksX3_biddersOf_1 9 rfl rfl)
theorem dX3_biddersOf_33 : decode cX3_biddersOf 33 = .ok (.ior, 1) := dk_128 (dk_at dksX3_biddersOf_1 10 rfl rfl)
theorem dX3_biddersOf_34 : decode cX3_biddersOf 34 = .ok (.istore_n 2, 1) := dk_61 (dk_at dksX3_biddersOf_1 11 rfl rfl)
theorem dX3_biddersOf_35 : decode cX3_biddersOf 35 = .ok (.iinc 3 1, 3) := dk_132 3 1 (dk_at dksX3_biddersOf_1 12 rfl rfl)
theorem dX3_biddersOf_38 : decode cX3_biddersOf 38 = .ok (.goto (-34), 3) := dk_167 255 222 (dk_at dksX3_biddersOf_1 15 rfl rfl)
theorem dX3_biddersOf_41 : decode cX3_biddersOf 41 = .ok (.iload_n 2, 1) := dk_28 (dk_at dksX3_biddersOf_1 18 rfl rfl)
theorem dX3_biddersOf_42 : decode cX3_biddersOf 42 = .ok (.ireturn, 1) := dk_172 (dk_at dksX3_biddersOf_1 19 rfl rfl)
abbrev cX3_firstOf : ByteArray := prog_15_method_68_code
def yX3_firstOf : MethodName := ⟨RX3, "firstOf", "(II)I"⟩
def dkwX3_firstOf_2 : List UInt8 := [162, 0, 6, 21, 4, 62, 132, 4, 1, 167, 255, 206, 29, 172]
abbrev dktX3_firstOf_2 : List UInt8 := dkwX3_firstOf_2 ++ []
def dkwX3_firstOf_1 : List UInt8 := [4, 160, 0, 27, 29, 2, 159, 0, 19, 42, 21, 4, 28, 182, 1, 19, 42, 29, 28, 182, 1, 19]
abbrev dktX3_firstOf_1 : List UInt8 := dkwX3_firstOf_1 ++ dktX3_firstOf_2
def dkwX3_firstOf_0 : List UInt8 := [2, 62, 3, 54, 4, 21, 4, 42, 180, 0, 7, 17, 0, 231, 46, 162, 0, 43, 27, 21, 4, 122, 4, 126]
abbrev dktX3_firstOf_0 : List UInt8 := dkwX3_firstOf_0 ++ dktX3_firstOf_1
theorem dksX3_firstOf_0 : cX3_firstOf.data.toList.drop 0 = dktX3_firstOf_0 := by decide +kernel
theorem dksX3_firstOf_1 : cX3_firstOf.data.toList.drop 24 = dktX3_firstOf_1 := dk_seg dksX3_firstOf_0 24 rfl rfl
theorem dksX3_firstOf_2 : cX3_firstOf.data.toList.drop 46 = dktX3_firstOf_2 := dk_seg dksX3_firstOf_1 22 rfl rfl
theorem dX3_firstOf_0 : decode cX3_firstOf 0 = .ok (.iconst (-1), 1) := dk_2 (dk_at dksX3_firstOf_0 0 rfl rfl)
theorem dX3_firstOf_1 : decode cX3_firstOf 1 = .ok (.istore_n 3, 1) := dk_62 (dk_at dksX3_firstOf_0 1 rfl rfl)
theorem dX3_firstOf_2 : decode cX3_firstOf 2 = .ok (.iconst 0, 1) := dk_3 (dk_at dksX3_firstOf_0 2 rfl rfl)
theorem dX3_firstOf_3 : decode cX3_firstOf 3 = .ok (.istore 4, 2) := dk_54 4 (dk_at dksX3_firstOf_0 3 rfl rfl)
theorem dX3_firstOf_5 : decode cX3_firstOf 5 = .ok (.iload 4, 2) := dk_21 4 (dk_at dksX3_firstOf_0 5 rfl rfl)
theorem dX3_firstOf_7 : decode cX3_firstOf 7 = .ok (.aload_n 0, 1) := dk_42 (dk_at dksX3_firstOf_0 7 rfl rfl)
theorem dX3_firstOf_8 : decode cX3_firstOf 8 = .ok (.getfield 7, 3) := dk_180 0 7 (dk_at dksX3_firstOf_0 8 rfl rfl)
theorem dX3_firstOf_11 : decode cX3_firstOf 11 = .ok (.sipush 231, 3) := dk_17 0 231 (dk_at dksX3_firstOf_0 11 rfl rfl)
theorem dX3_firstOf_14 : decode cX3_firstOf 14 = .ok (.iaload, 1) := dk_46 (dk_at dksX3_firstOf_0 14 rfl rfl)
theorem dX3_firstOf_15 : decode cX3_firstOf 15 = .ok (.if_icmp .ge 43, 3) := dk_162 0 43 (dk_at dksX3_firstOf_0 15 rfl rfl)
theorem dX3_firstOf_18 : decode cX3_firstOf 18 = .ok (.iload_n 1, 1) := dk_27 (dk_at dksX3_firstOf_0 18 rfl rfl)
theorem dX3_firstOf_19 : decode cX3_firstOf 19 = .ok (.iload 4, 2) := dk_21 4 (dk_at dksX3_firstOf_0 19 rfl rfl)
theorem dX3_firstOf_21 : decode cX3_firstOf 21 = .ok (.ishr, 1) := dk_122 (dk_at dksX3_firstOf_0 21 rfl rfl)
theorem dX3_firstOf_22 : decode cX3_firstOf 22 = .ok (.iconst 1, 1) := dk_4 (dk_at dksX3_firstOf_0 22 rfl rfl)
theorem dX3_firstOf_23 : decode cX3_firstOf 23 = .ok (.iand, 1) := dk_126 (dk_at dksX3_firstOf_0 23 rfl rfl)
theorem dX3_firstOf_24 : decode cX3_firstOf 24 = .ok (.iconst 1, 1) := dk_4 (dk_at dksX3_firstOf_1 0 rfl rfl)
theorem dX3_firstOf_25 : decode cX3_firstOf 25 = .ok (.if_icmp .ne 27, 3) := dk_160 0 27 (dk_at dksX3_firstOf_1 1 rfl rfl)
theorem dX3_firstOf_28 : decode cX3_firstOf 28 = .ok (.iload_n 3, 1) := dk_29 (dk_at dksX3_firstOf_1 4 rfl rfl)
theorem dX3_firstOf_29 : decode cX3_firstOf 29 = .ok (.iconst (-1), 1) := dk_2 (dk_at dksX3_firstOf_1 5 rfl rfl)
theorem dX3_firstOf_30 : decode cX3_firstOf 30 = .ok (.if_icmp .eq 19, 3) := dk_159 0 19 (dk_at dksX3_firstOf_1 6 rfl rfl)
theorem dX3_firstOf_33 : decode cX3_firstOf 33 = .ok (.aload_n 0, 1) := dk_42 (dk_at dksX3_firstOf_1 9 rfl rfl)
theorem dX3_firstOf_34 : decode cX3_firstOf 34 = .ok (.iload 4, 2) := dk_21 4 (dk_at dksX3_firstOf_1 10 rfl rfl)
theorem dX3_firstOf_36 : decode cX3_firstOf 36 = .ok (.iload_n 2, 1) := dk_28 (dk_at dksX3_firstOf_1 12 rfl rfl)
theorem dX3_firstOf_37 : decode cX3_firstOf 37 = .ok (.invokevirtual 275, 3) := dk_182 1 19 (dk_at dksX3_firstOf_1 13 rfl rfl)
theorem dX3_firstOf_40 : decode cX3_firstOf 40 = .ok (.aload_n 0, 1) := dk_42 (dk_at dksX3_firstOf_1 16 rfl rfl)
theorem dX3_firstOf_41 : decode cX3_firstOf 41 = .ok (.iload_n 3, 1) := dk_29 (dk_at dksX3_firstOf_1 17 rfl rfl)
theorem dX3_firstOf_42 : decode cX3_firstOf 42 = .ok (.iload_n 2, 1) := dk_28 (dk_at dksX3_firstOf_1 18 rfl rfl)
theorem dX3_firstOf_43 : decode cX3_firstOf 43 = .ok (.invokevirtual 275, 3) := dk_182 1 19 (dk_at dksX3_firstOf_1 19 rfl rfl)
theorem dX3_firstOf_46 : decode cX3_firstOf 46 = .ok (.if_icmp .ge 6, 3) := dk_162 0 6 (dk_at dksX3_firstOf_2 0 rfl rfl)
theorem dX3_firstOf_49 : decode cX3_firstOf 49 = .ok (.iload 4, 2) := dk_21 4 (dk_at dksX3_firstOf_2 3 rfl rfl)
theorem dX3_firstOf_51 : decode cX3_firstOf 51 = .ok (.istore_n 3, 1) := dk_62 (dk_at dksX3_firstOf_2 5 rfl rfl)
theorem dX3_firstOf_52 : decode cX3_firstOf 52 = .ok (.iinc 4 1, 3) := dk_132 4 1 (dk_at dksX3_firstOf_2 6 rfl rfl)
theorem dX3_firstOf_55 : decode cX3_firstOf 55 = .ok (.goto (-50), 3) := dk_167 255 206 (dk_at dksX3_firstOf_2 9 rfl rfl)
theorem dX3_firstOf_58 : decode cX3_firstOf 58 = .ok (.iload_n 3, 1) := dk_29 (dk_at dksX3_firstOf_2 12 rfl rfl)
theorem dX3_firstOf_59 : decode cX3_firstOf 59 = .ok (.ireturn, 1) := dk_172 (dk_at dksX3_firstOf_2 13 rfl rfl)
abbrev cX3_weight : ByteArray := prog_15_method_67_code
def yX3_weight : MethodName := ⟨RX3, "weight", "(II)I"⟩
def dkwX3_weight_0 : List UInt8 := [42, 27, 28, 42, 27, 182, 0, 247, 182, 1, 15, 172]
abbrev dktX3_weight_0 : List UInt8 := dkwX3_weight_0 ++ []
theorem dksX3_weight_0 : cX3_weight.data.toList.drop 0 = dktX3_weight_0 := by decide +kernel
theorem dX3_weight_0 : decode cX3_weight 0 = .ok (.aload_n 0, 1) := dk_42 (dk_at dksX3_weight_0 0 rfl rfl)
theorem dX3_weight_1 : decode cX3_weight 1 = .ok (.iload_n 1, 1) := dk_27 (dk_at dksX3_weight_0 1 rfl rfl)
theorem dX3_weight_2 : decode cX3_weight 2 = .ok (.iload_n 2, 1) := dk_28 (dk_at dksX3_weight_0 2 rfl rfl)
theorem dX3_weight_3 : decode cX3_weight 3 = .ok (.aload_n 0, 1) := dk_42 (dk_at dksX3_weight_0 3 rfl rfl)
theorem dX3_weight_4 : decode cX3_weight 4 = .ok (.iload_n 1, 1) := dk_27 (dk_at dksX3_weight_0 4 rfl rfl)
theorem dX3_weight_5 : decode cX3_weight 5 = .ok (.invokevirtual 247, 3) := dk_182 0 247 (dk_at dksX3_weight_0 5 rfl rfl)
theorem dX3_weight_8 : decode cX3_weight 8 = .ok (.invokevirtual 271, 3) := dk_182 1 15 (dk_at dksX3_weight_0 8 rfl rfl)
theorem dX3_weight_11 : decode cX3_weight 11 = .ok (.ireturn, 1) := dk_172 (dk_at dksX3_weight_0 11 rfl rfl)
abbrev cX3_weight_2 : ByteArray := prog_15_method_66_code
def yX3_weight_2 : MethodName := ⟨RX3, "weight", "(III)I"⟩
def dkwX3_weight_2_3 : List UInt8 := [182, 0, 205, 96, 16, 8, 104, 27, 96, 172]
abbrev dktX3_weight_2_3 : List UInt8 := dkwX3_weight_2_3 ++ []
def dkwX3_weight_2_2 : List UInt8 := [167, 0, 4, 3, 54, 5, 5, 21, 4, 104, 21, 5, 96, 8, 104, 29, 96, 17, 3, 232, 104, 42, 27, 6]
abbrev dktX3_weight_2_2 : List UInt8 := dkwX3_weight_2_2 ++ dktX3_weight_2_3
def dkwX3_weight_2_1 : List UInt8 := [167, 0, 4, 3, 54, 4, 42, 182, 1, 12, 153, 0, 17, 42, 27, 7, 182, 0, 205, 2, 160, 0, 7, 4]
abbrev dktX3_weight_2_1 : List UInt8 := dkwX3_weight_2_1 ++ dktX3_weight_2_2
def dkwX3_weight_2_0 : List UInt8 := [42, 28, 182, 1, 9, 153, 0, 22, 42, 27, 5, 182, 0, 205, 42, 28, 4, 182, 0, 202, 159, 0, 7, 4]
abbrev dktX3_weight_2_0 : List UInt8 := dkwX3_weight_2_0 ++ dktX3_weight_2_1
theorem dksX3_weight_2_0 : cX3_weight_2.data.toList.drop 0 = dktX3_weight_2_0 := by decide +kernel
theorem dksX3_weight_2_1 : cX3_weight_2.data.toList.drop 24 = dktX3_weight_2_1 := dk_seg dksX3_weight_2_0 24 rfl rfl
theorem dksX3_weight_2_2 : cX3_weight_2.data.toList.drop 48 = dktX3_weight_2_2 := dk_seg dksX3_weight_2_1 24 rfl rfl
theorem dksX3_weight_2_3 : cX3_weight_2.data.toList.drop 72 = dktX3_weight_2_3 := dk_seg dksX3_weight_2_2 24 rfl rfl
theorem dX3_weight_2_0 : decode cX3_weight_2 0 = .ok (.aload_n 0, 1) := dk_42 (dk_at dksX3_weight_2_0 0 rfl rfl)
theorem dX3_weight_2_1 : decode cX3_weight_2 1 = .ok (.iload_n 2, 1) := dk_28 (dk_at dksX3_weight_2_0 1 rfl rfl)
theorem dX3_weight_2_2 : decode cX3_weight_2 2 = .ok (.invokevirtual 265, 3) := dk_182 1 9 (dk_at dksX3_weight_2_0 2 rfl rfl)
theorem dX3_weight_2_5 : decode cX3_weight_2 5 = .ok (.ifCond .eq 22, 3) := dk_153 0 22 (dk_at dksX3_weight_2_0 5 rfl rfl)
theorem dX3_weight_2_8 : decode cX3_weight_2 8 = .ok (.aload_n 0, 1) := dk_42 (dk_at dksX3_weight_2_0 8 rfl rfl)
theorem dX3_weight_2_9 : decode cX3_weight_2 9 = .ok (.iload_n 1, 1) := dk_27 (dk_at dksX3_weight_2_0 9 rfl rfl)
theorem dX3_weight_2_10 : decode cX3_weight_2 10 = .ok (.iconst 2, 1) := dk_5 (dk_at dksX3_weight_2_0 10 rfl rfl)
theorem dX3_weight_2_11 : decode cX3_weight_2 11 = .ok (.invokevirtual 205, 3) := dk_182 0 205 (dk_at dksX3_weight_2_0 11 rfl rfl)
theorem dX3_weight_2_14 : decode cX3_weight_2 14 = .ok (.aload_n 0, 1) := dk_42 (dk_at dksX3_weight_2_0 14 rfl rfl)
theorem dX3_weight_2_15 : decode cX3_weight_2 15 = .ok (.iload_n 2, 1) := dk_28 (dk_at dksX3_weight_2_0 15 rfl rfl)
theorem dX3_weight_2_16 : decode cX3_weight_2 16 = .ok (.iconst 1, 1) := dk_4 (dk_at dksX3_weight_2_0 16 rfl rfl)
theorem dX3_weight_2_17 : decode cX3_weight_2 17 = .ok (.invokevirtual 202, 3) := dk_182 0 202 (dk_at dksX3_weight_2_0 17 rfl rfl)
theorem dX3_weight_2_20 : decode cX3_weight_2 20 = .ok (.if_icmp .eq 7, 3) := dk_159 0 7 (dk_at dksX3_weight_2_0 20 rfl rfl)
theorem dX3_weight_2_23 : decode cX3_weight_2 23 = .ok (.iconst 1, 1) := dk_4 (dk_at dksX3_weight_2_0 23 rfl rfl)
theorem dX3_weight_2_24 : decode cX3_weight_2 24 = .ok (.goto 4, 3) := dk_167 0 4 (dk_at dksX3_weight_2_1 0 rfl rfl)
theorem dX3_weight_2_27 : decode cX3_weight_2 27 = .ok (.iconst 0, 1) := dk_3 (dk_at dksX3_weight_2_1 3 rfl rfl)
theorem dX3_weight_2_28 : decode cX3_weight_2 28 = .ok (.istore 4, 2) := dk_54 4 (dk_at dksX3_weight_2_1 4 rfl rfl)
theorem dX3_weight_2_30 : decode cX3_weight_2 30 = .ok (.aload_n 0, 1) := dk_42 (dk_at dksX3_weight_2_1 6 rfl rfl)
theorem dX3_weight_2_31 : decode cX3_weight_2 31 = .ok (.invokevirtual 268, 3) := dk_182 1 12 (dk_at dksX3_weight_2_1 7 rfl rfl)
theorem dX3_weight_2_34 : decode cX3_weight_2 34 = .ok (.ifCond .eq 17, 3) := dk_153 0 17 (dk_at dksX3_weight_2_1 10 rfl rfl)
theorem dX3_weight_2_37 : decode cX3_weight_2 37 = .ok (.aload_n 0, 1) := dk_42 (dk_at dksX3_weight_2_1 13 rfl rfl)
theorem dX3_weight_2_38 : decode cX3_weight_2 38 = .ok (.iload_n 1, 1) := dk_27 (dk_at dksX3_weight_2_1 14 rfl rfl)
theorem dX3_weight_2_39 : decode cX3_weight_2 39 = .ok (.iconst 4, 1) := dk_7 (dk_at dksX3_weight_2_1 15 rfl rfl)
theorem dX3_weight_2_40 : decode cX3_weight_2 40 = .ok (.invokevirtual 205, 3) := dk_182 0 205 (dk_at dksX3_weight_2_1 16 rfl rfl)
theorem dX3_weight_2_43 : decode cX3_weight_2 43 = .ok (.iconst (-1), 1) := dk_2 (dk_at dksX3_weight_2_1 19 rfl rfl)
theorem dX3_weight_2_44 : decode cX3_weight_2 44 = .ok (.if_icmp .ne 7, 3) := dk_160 0 7 (dk_at dksX3_weight_2_1 20 rfl rfl)
theorem dX3_weight_2_47 : decode cX3_weight_2 47 = .ok (.iconst 1, 1) := dk_4 (dk_at dksX3_weight_2_1 23 rfl rfl)
theorem dX3_weight_2_48 : decode cX3_weight_2 48 = .ok (.goto 4, 3) := dk_167 0 4 (dk_at dksX3_weight_2_2 0 rfl rfl)
theorem dX3_weight_2_51 : decode cX3_weight_2 51 = .ok (.iconst 0, 1) := dk_3 (dk_at dksX3_weight_2_2 3 rfl rfl)
theorem dX3_weight_2_52 : decode cX3_weight_2 52 = .ok (.istore 5, 2) := dk_54 5 (dk_at dksX3_weight_2_2 4 rfl rfl)
theorem dX3_weight_2_54 : decode cX3_weight_2 54 = .ok (.iconst 2, 1) := dk_5 (dk_at dksX3_weight_2_2 6 rfl rfl)
theorem dX3_weight_2_55 : decode cX3_weight_2 55 = .ok (.iload 4, 2) := dk_21 4 (dk_at dksX3_weight_2_2 7 rfl rfl)
theorem dX3_weight_2_57 : decode cX3_weight_2 57 = .ok (.imul, 1) := dk_104 (dk_at dksX3_weight_2_2 9 rfl rfl)
theorem dX3_weight_2_58 : decode cX3_weight_2 58 = .ok (.iload 5, 2) := dk_21 5 (dk_at dksX3_weight_2_2 10 rfl rfl)
theorem dX3_weight_2_60 : decode cX3_weight_2 60 = .ok (.iadd, 1) := dk_96 (dk_at dksX3_weight_2_2 12 rfl rfl)
theorem dX3_weight_2_61 : decode cX3_weight_2 61 = .ok (.iconst 5, 1) := dk_8 (dk_at dksX3_weight_2_2 13 rfl rfl)
theorem dX3_weight_2_62 : decode cX3_weight_2 62 = .ok (.imul, 1) := dk_104 (dk_at dksX3_weight_2_2 14 rfl rfl)
theorem dX3_weight_2_63 : decode cX3_weight_2 63 = .ok (.iload_n 3, 1) := dk_29 (dk_at dksX3_weight_2_2 15 rfl rfl)
theorem dX3_weight_2_64 : decode cX3_weight_2 64 = .ok (.iadd, 1) := dk_96 (dk_at dksX3_weight_2_2 16 rfl rfl)
theorem dX3_weight_2_65 : decode cX3_weight_2 65 = .ok (.sipush 1000, 3) := dk_17 3 232 (dk_at dksX3_weight_2_2 17 rfl rfl)
theorem dX3_weight_2_68 : decode cX3_weight_2 68 = .ok (.imul, 1) := dk_104 (dk_at dksX3_weight_2_2 20 rfl rfl)
theorem dX3_weight_2_69 : decode cX3_weight_2 69 = .ok (.aload_n 0, 1) := dk_42 (dk_at dksX3_weight_2_2 21 rfl rfl)
theorem dX3_weight_2_70 : decode cX3_weight_2 70 = .ok (.iload_n 1, 1) := dk_27 (dk_at dksX3_weight_2_2 22 rfl rfl)
theorem dX3_weight_2_71 : decode cX3_weight_2 71 = .ok (.iconst 3, 1) := dk_6 (dk_at dksX3_weight_2_2 23 rfl rfl)
theorem dX3_weight_2_72 : decode cX3_weight_2 72 = .ok (.invokevirtual 205, 3) := dk_182 0 205 (dk_at dksX3_weight_2_3 0 rfl rfl)
theorem dX3_weight_2_75 : decode cX3_weight_2 75 = .ok (.iadd, 1) := dk_96 (dk_at dksX3_weight_2_3 3 rfl rfl)
theorem dX3_weight_2_76 : decode cX3_weight_2 76 = .ok (.bipush 8, 2) := dk_16 8 (dk_at dksX3_weight_2_3 4 rfl rfl)
theorem dX3_weight_2_78 : decode cX3_weight_2 78 = .ok (.imul, 1) := dk_104 (dk_at dksX3_weight_2_3 6 rfl rfl)
theorem dX3_weight_2_79 : decode cX3_weight_2 79 = .ok (.iload_n 1, 1) := dk_27 (dk_at dksX3_weight_2_3 7 rfl rfl)
theorem dX3_weight_2_80 : decode cX3_weight_2 80 = .ok (.iadd, 1) := dk_96 (dk_at dksX3_weight_2_3 8 rfl rfl)
theorem dX3_weight_2_81 : decode cX3_weight_2 81 = .ok (.ireturn, 1) := dk_172 (dk_at dksX3_weight_2_3 9 rfl rfl)
abbrev cX3_isLocal : ByteArray := prog_15_method_63_code
def yX3_isLocal : MethodName := ⟨RX3, "isLocal", "(I)Z"⟩
def dkwX3_isLocal_3 : List UInt8 := [17, 0, 226, 46, 112, 154, 0, 7, 4, 167, 0, 4, 3, 172]
abbrev dktX3_isLocal_3 : List UInt8 := dkwX3_isLocal_3 ++ []
def dkwX3_isLocal_2 : List UInt8 := [182, 0, 202, 160, 0, 7, 4, 167, 0, 4, 3, 96, 61, 132, 3, 1, 167, 255, 213, 28, 42, 180, 0, 7]
abbrev dktX3_isLocal_2 : List UInt8 := dkwX3_isLocal_2 ++ dktX3_isLocal_3
def dkwX3_isLocal_1 : List UInt8 := [17, 0, 233, 46, 162, 0, 37, 28, 42, 42, 29, 4, 182, 1, 3, 4, 182, 0, 202, 42, 27, 4]
abbrev dktX3_isLocal_1 : List UInt8 := dkwX3_isLocal_1 ++ dktX3_isLocal_2
def dkwX3_isLocal_0 : List UInt8 := [42, 180, 0, 7, 17, 0, 226, 46, 154, 0, 5, 3, 172, 4, 61, 3, 62, 29, 42, 180, 0, 7]
abbrev dktX3_isLocal_0 : List UInt8 := dkwX3_isLocal_0 ++ dktX3_isLocal_1
theorem dksX3_isLocal_0 : cX3_isLocal.data.toList.drop 0 = dktX3_isLocal_0 := by decide +kernel
theorem dksX3_isLocal_1 : cX3_isLocal.data.toList.drop 22 = dktX3_isLocal_1 := dk_seg dksX3_isLocal_0 22 rfl rfl
theorem dksX3_isLocal_2 : cX3_isLocal.data.toList.drop 44 = dktX3_isLocal_2 := dk_seg dksX3_isLocal_1 22 rfl rfl
theorem dksX3_isLocal_3 : cX3_isLocal.data.toList.drop 68 = dktX3_isLocal_3 := dk_seg dksX3_isLocal_2 24 rfl rfl
theorem dX3_isLocal_0 : decode cX3_isLocal 0 = .ok (.aload_n 0, 1) := dk_42 (dk_at dksX3_isLocal_0 0 rfl rfl)
theorem dX3_isLocal_1 : decode cX3_isLocal 1 = .ok (.getfield 7, 3) := dk_180 0 7 (dk_at dksX3_isLocal_0 1 rfl rfl)
theorem dX3_isLocal_4 : decode cX3_isLocal 4 = .ok (.sipush 226, 3) := dk_17 0 226 (dk_at dksX3_isLocal_0 4 rfl rfl)
theorem dX3_isLocal_7 : decode cX3_isLocal 7 = .ok (.iaload, 1) := dk_46 (dk_at dksX3_isLocal_0 7 rfl rfl)
theorem dX3_isLocal_8 : decode cX3_isLocal 8 = .ok (.ifCond .ne 5, 3) := dk_154 0 5 (dk_at dksX3_isLocal_0 8 rfl rfl)
theorem dX3_isLocal_11 : decode cX3_isLocal 11 = .ok (.iconst 0, 1) := dk_3 (dk_at dksX3_isLocal_0 11 rfl rfl)
theorem dX3_isLocal_12 : decode cX3_isLocal 12 = .ok (.ireturn, 1) := dk_172 (dk_at dksX3_isLocal_0 12 rfl rfl)
theorem dX3_isLocal_13 : decode cX3_isLocal 13 = .ok (.iconst 1, 1) := dk_4 (dk_at dksX3_isLocal_0 13 rfl rfl)
theorem dX3_isLocal_14 : decode cX3_isLocal 14 = .ok (.istore_n 2, 1) := dk_61 (dk_at dksX3_isLocal_0 14 rfl rfl)
theorem dX3_isLocal_15 : decode cX3_isLocal 15 = .ok (.iconst 0, 1) := dk_3 (dk_at dksX3_isLocal_0 15 rfl rfl)
theorem dX3_isLocal_16 : decode cX3_isLocal 16 = .ok (.istore_n 3, 1) := dk_62 (dk_at dksX3_isLocal_0 16 rfl rfl)
theorem dX3_isLocal_17 : decode cX3_isLocal 17 = .ok (.iload_n 3, 1) := dk_29 (dk_at dksX3_isLocal_0 17 rfl rfl)
theorem dX3_isLocal_18 : decode cX3_isLocal 18 = .ok (.aload_n 0, 1) := dk_42 (dk_at dksX3_isLocal_0 18 rfl rfl)
theorem dX3_isLocal_19 : decode cX3_isLocal 19 = .ok (.getfield 7, 3) := dk_180 0 7 (dk_at dksX3_isLocal_0 19 rfl rfl)
theorem dX3_isLocal_22 : decode cX3_isLocal 22 = .ok (.sipush 233, 3) := dk_17 0 233 (dk_at dksX3_isLocal_1 0 rfl rfl)
theorem dX3_isLocal_25 : decode cX3_isLocal 25 = .ok (.iaload, 1) := dk_46 (dk_at dksX3_isLocal_1 3 rfl rfl)
theorem dX3_isLocal_26 : decode cX3_isLocal 26 = .ok (.if_icmp .ge 37, 3) := dk_162 0 37 (dk_at dksX3_isLocal_1 4 rfl rfl)
theorem dX3_isLocal_29 : decode cX3_isLocal 29 = .ok (.iload_n 2, 1) := dk_28 (dk_at dksX3_isLocal_1 7 rfl rfl)
theorem dX3_isLocal_30 : decode cX3_isLocal 30 = .ok (.aload_n 0, 1) := dk_42 (dk_at dksX3_isLocal_1 8 rfl rfl)
theorem dX3_isLocal_31 : decode cX3_isLocal 31 = .ok (.aload_n 0, 1) := dk_42 (dk_at dksX3_isLocal_1 9 rfl rfl)
theorem dX3_isLocal_32 : decode cX3_isLocal 32 = .ok (.iload_n 3, 1) := dk_29 (dk_at dksX3_isLocal_1 10 rfl rfl)
theorem dX3_isLocal_33 : decode cX3_isLocal 33 = .ok (.iconst 1, 1) := dk_4 (dk_at dksX3_isLocal_1 11 rfl rfl)
theorem dX3_isLocal_34 : decode cX3_isLocal 34 = .ok (.invokevirtual 259, 3) := dk_182 1 3 (dk_at dksX3_isLocal_1 12 rfl rfl)
theorem dX3_isLocal_37 : decode cX3_isLocal 37 = .ok (.iconst 1, 1) := dk_4 (dk_at dksX3_isLocal_1 15 rfl rfl)
theorem dX3_isLocal_38 : decode cX3_isLocal 38 = .ok (.invokevirtual 202, 3) := dk_182 0 202 (dk_at dksX3_isLocal_1 16 rfl rfl)
theorem dX3_isLocal_41 : decode cX3_isLocal 41 = .ok (.aload_n 0, 1) := dk_42 (dk_at dksX3_isLocal_1 19 rfl rfl)
theorem dX3_isLocal_42 : decode cX3_isLocal 42 = .ok (.iload_n 1, 1) := dk_27 (dk_at dksX3_isLocal_1 20 rfl rfl)
theorem dX3_isLocal_43 : decode cX3_isLocal 43 = .ok (.iconst 1, 1) := dk_4 (dk_at dksX3_isLocal_1 21 rfl rfl)
theorem dX3_isLocal_44 : decode cX3_isLocal 44 = .ok (.invokevirtual 202, 3) := dk_182 0 202 (dk_at dksX3_isLocal_2 0 rfl rfl)
theorem dX3_isLocal_47 : decode cX3_isLocal 47 = .ok (.if_icmp .ne 7, 3) := dk_160 0 7 (dk_at dksX3_isLocal_2 3 rfl rfl)
theorem dX3_isLocal_50 : decode cX3_isLocal 50 = .ok (.iconst 1, 1) := dk_4 (dk_at dksX3_isLocal_2 6 rfl rfl)
theorem dX3_isLocal_51 : decode cX3_isLocal 51 = .ok (.goto 4, 3) := dk_167 0 4 (dk_at dksX3_isLocal_2 7 rfl rfl)
theorem dX3_isLocal_54 : decode cX3_isLocal 54 = .ok (.iconst 0, 1) := dk_3 (dk_at dksX3_isLocal_2 10 rfl rfl)
theorem dX3_isLocal_55 : decode cX3_isLocal 55 = .ok (.iadd, 1) := dk_96 (dk_at dksX3_isLocal_2 11 rfl rfl)
theorem dX3_isLocal_56 : decode cX3_isLocal 56 = .ok (.istore_n 2, 1) := dk_61 (dk_at dksX3_isLocal_2 12 rfl rfl)
theorem dX3_isLocal_57 : decode cX3_isLocal 57 = .ok (.iinc 3 1, 3) := dk_132 3 1 (dk_at dksX3_isLocal_2 13 rfl rfl)
theorem dX3_isLocal_60 : decode cX3_isLocal 60 = .ok (.goto (-43), 3) := dk_167 255 213 (dk_at dksX3_isLocal_2 16 rfl rfl)
theorem dX3_isLocal_63 : decode cX3_isLocal 63 = .ok (.iload_n 2, 1) := dk_28 (dk_at dksX3_isLocal_2 19 rfl rfl)
theorem dX3_isLocal_64 : decode cX3_isLocal 64 = .ok (.aload_n 0, 1) := dk_42 (dk_at dksX3_isLocal_2 20 rfl rfl)
theorem dX3_isLocal_65 : decode cX3_isLocal 65 = .ok (.getfield 7, 3) := dk_180 0 7 (dk_at dksX3_isLocal_2 21 rfl rfl)
theorem dX3_isLocal_68 : decode cX3_isLocal 68 = .ok (.sipush 226, 3) := dk_17 0 226 (dk_at dksX3_isLocal_3 0 rfl rfl)
theorem dX3_isLocal_71 : decode cX3_isLocal 71 = .ok (.iaload, 1) := dk_46 (dk_at dksX3_isLocal_3 3 rfl rfl)
theorem dX3_isLocal_72 : decode cX3_isLocal 72 = .ok (.irem, 1) := dk_112 (dk_at dksX3_isLocal_3 4 rfl rfl)
theorem dX3_isLocal_73 : decode cX3_isLocal 73 = .ok (.ifCond .ne 7, 3) := dk_154 0 7 (dk_at dksX3_isLocal_3 5 rfl rfl)
theorem dX3_isLocal_76 : decode cX3_isLocal 76 = .ok (.iconst 1, 1) := dk_4 (dk_at dksX3_isLocal_3 8 rfl rfl)
theorem dX3_isLocal_77 : decode cX3_isLocal 77 = .ok (.goto 4, 3) := dk_167 0 4 (dk_at dksX3_isLocal_3 9 rfl rfl)
theorem dX3_isLocal_80 : decode cX3_isLocal 80 = .ok (.iconst 0, 1) := dk_3 (dk_at dksX3_isLocal_3 12 rfl rfl)
theorem dX3_isLocal_81 : decode cX3_isLocal 81 = .ok (.ireturn, 1) := dk_172 (dk_at dksX3_isLocal_3 13 rfl rfl)
abbrev cX3_let0 : ByteArray := prog_15_method_62_code
def yX3_let0 : MethodName := ⟨RX3, "let0", "(II)I"⟩
def dkwX3_let0_0 : List UInt8 := [42, 180, 0, 7, 17, 0, 234, 16, 8, 27, 104, 96, 28, 96, 46, 172]
abbrev dktX3_let0_0 : List UInt8 := dkwX3_let0_0 ++ []
theorem dksX3_let0_0 : cX3_let0.data.toList.drop 0 = dktX3_let0_0 := by decide +kernel
theorem dX3_let0_0 : decode cX3_let0 0 = .ok (.aload_n 0, 1) := dk_42 (dk_at dksX3_let0_0 0 rfl rfl)
theorem dX3_let0_1 : decode cX3_let0 1 = .ok (.getfield 7, 3) := dk_180 0 7 (dk_at dksX3_let0_0 1 rfl rfl)
theorem dX3_let0_4 : decode cX3_let0 4 = .ok (.sipush 234, 3) := dk_17 0 234 (dk_at dksX3_let0_0 4 rfl rfl)
theorem dX3_let0_7 : decode cX3_let0 7 = .ok (.bipush 8, 2) := dk_16 8 (dk_at dksX3_let0_0 7 rfl rfl)
theorem dX3_let0_9 : decode cX3_let0 9 = .ok (.iload_n 1, 1) := dk_27 (dk_at dksX3_let0_0 9 rfl rfl)
theorem dX3_let0_10 : decode cX3_let0 10 = .ok (.imul, 1) := dk_104 (dk_at dksX3_let0_0 10 rfl rfl)
theorem dX3_let0_11 : decode cX3_let0 11 = .ok (.iadd, 1) := dk_96 (dk_at dksX3_let0_0 11 rfl rfl)
theorem dX3_let0_12 : decode cX3_let0 12 = .ok (.iload_n 2, 1) := dk_28 (dk_at dksX3_let0_0 12 rfl rfl)
theorem dX3_let0_13 : decode cX3_let0 13 = .ok (.iadd, 1) := dk_96 (dk_at dksX3_let0_0 13 rfl rfl)
theorem dX3_let0_14 : decode cX3_let0 14 = .ok (.iaload, 1) := dk_46 (dk_at dksX3_let0_0 14 rfl rfl)
theorem dX3_let0_15 : decode cX3_let0 15 = .ok (.ireturn, 1) := dk_172 (dk_at dksX3_let0_0 15 rfl rfl)
abbrev cX3_isQuota : ByteArray := prog_15_method_65_code
def yX3_isQuota : MethodName := ⟨RX3, "isQuota", "()Z"⟩
def dkwX3_isQuota_1 : List UInt8 := [162, 0, 7, 4, 167, 0, 4, 3, 172]
abbrev dktX3_isQuota_1 : List UInt8 := dkwX3_isQuota_1 ++ []
def dkwX3_isQuota_0 : List UInt8 := [16, 100, 42, 182, 1, 6, 104, 42, 180, 0, 7, 17, 0, 227, 46, 42, 180, 0, 7, 17, 0, 233, 46, 104]
abbrev dktX3_isQuota_0 : List UInt8 := dkwX3_isQuota_0 ++ dktX3_isQuota_1
theorem dksX3_isQuota_0 : cX3_isQuota.data.toList.drop 0 = dktX3_isQuota_0 := by decide +kernel
theorem dksX3_isQuota_1 : cX3_isQuota.data.toList.drop 24 = dktX3_isQuota_1 := dk_seg dksX3_isQuota_0 24 rfl rfl
theorem dX3_isQuota_0 : decode cX3_isQuota 0 = .ok (.bipush 100, 2) := dk_16 100 (dk_at dksX3_isQuota_0 0 rfl rfl)
theorem dX3_isQuota_2 : decode cX3_isQuota 2 = .ok (.aload_n 0, 1) := dk_42 (dk_at dksX3_isQuota_0 2 rfl rfl)
theorem dX3_isQuota_3 : decode cX3_isQuota 3 = .ok (.invokevirtual 262, 3) := dk_182 1 6 (dk_at dksX3_isQuota_0 3 rfl rfl)
theorem dX3_isQuota_6 : decode cX3_isQuota 6 = .ok (.imul, 1) := dk_104 (dk_at dksX3_isQuota_0 6 rfl rfl)
theorem dX3_isQuota_7 : decode cX3_isQuota 7 = .ok (.aload_n 0, 1) := dk_42 (dk_at dksX3_isQuota_0 7 rfl rfl)
theorem dX3_isQuota_8 : decode cX3_isQuota 8 = .ok (.getfield 7, 3) := dk_180 0 7 (dk_at dksX3_isQuota_0 8 rfl rfl)
theorem dX3_isQuota_11 : decode cX3_isQuota 11 = .ok (.sipush 227, 3) := dk_17 0 227 (dk_at dksX3_isQuota_0 11 rfl rfl)
theorem dX3_isQuota_14 : decode cX3_isQuota 14 = .ok (.iaload, 1) := dk_46 (dk_at dksX3_isQuota_0 14 rfl rfl)
theorem dX3_isQuota_15 : decode cX3_isQuota 15 = .ok (.aload_n 0, 1) := dk_42 (dk_at dksX3_isQuota_0 15 rfl rfl)
theorem dX3_isQuota_16 : decode cX3_isQuota 16 = .ok (.getfield 7, 3) := dk_180 0 7 (dk_at dksX3_isQuota_0 16 rfl rfl)
theorem dX3_isQuota_19 : decode cX3_isQuota 19 = .ok (.sipush 233, 3) := dk_17 0 233 (dk_at dksX3_isQuota_0 19 rfl rfl)
theorem dX3_isQuota_22 : decode cX3_isQuota 22 = .ok (.iaload, 1) := dk_46 (dk_at dksX3_isQuota_0 22 rfl rfl)
theorem dX3_isQuota_23 : decode cX3_isQuota 23 = .ok (.imul, 1) := dk_104 (dk_at dksX3_isQuota_0 23 rfl rfl)
theorem dX3_isQuota_24 : decode cX3_isQuota 24 = .ok (.if_icmp .ge 7, 3) := dk_162 0 7 (dk_at dksX3_isQuota_1 0 rfl rfl)
theorem dX3_isQuota_27 : decode cX3_isQuota 27 = .ok (.iconst 1, 1) := dk_4 (dk_at dksX3_isQuota_1 3 rfl rfl)
theorem dX3_isQuota_28 : decode cX3_isQuota 28 = .ok (.goto 4, 3) := dk_167 0 4 (dk_at dksX3_isQuota_1 4 rfl rfl)
theorem dX3_isQuota_31 : decode cX3_isQuota 31 = .ok (.iconst 0, 1) := dk_3 (dk_at dksX3_isQuota_1 7 rfl rfl)
theorem dX3_isQuota_32 : decode cX3_isQuota 32 = .ok (.ireturn, 1) := dk_172 (dk_at dksX3_isQuota_1 8 rfl rfl)
abbrev cX3_livedLets : ByteArray := prog_15_method_64_code
def yX3_livedLets : MethodName := ⟨RX3, "livedLets", "()I"⟩
def dkwX3_livedLets_1 : List UInt8 := [122, 96, 60, 132, 2, 1, 167, 255, 230, 27, 172]
abbrev dktX3_livedLets_1 : List UInt8 := dkwX3_livedLets_1 ++ []
def dkwX3_livedLets_0 : List UInt8 := [3, 60, 3, 61, 28, 42, 180, 0, 7, 17, 0, 233, 46, 162, 0, 20, 27, 42, 28, 8, 182, 1, 3, 4]
abbrev dktX3_livedLets_0 : List UInt8 := dkwX3_livedLets_0 ++ dktX3_livedLets_1
theorem dksX3_livedLets_0 : cX3_livedLets.data.toList.drop 0 = dktX3_livedLets_0 := by decide +kernel
theorem dksX3_livedLets_1 : cX3_livedLets.data.toList.drop 24 = dktX3_livedLets_1 := dk_seg dksX3_livedLets_0 24 rfl rfl
theorem dX3_livedLets_0 : decode cX3_livedLets 0 = .ok (.iconst 0, 1) := dk_3 (dk_at dksX3_livedLets_0 0 rfl rfl)
theorem dX3_livedLets_1 : decode cX3_livedLets 1 = .ok (.istore_n 1, 1) := dk_60 (dk_at dksX3_livedLets_0 1 rfl rfl)
theorem dX3_livedLets_2 : decode cX3_livedLets 2 = .ok (.iconst 0, 1) := dk_3 (dk_at dksX3_livedLets_0 2 rfl rfl)
theorem dX3_livedLets_3 : decode cX3_livedLets 3 = .ok (.istore_n 2, 1) := dk_61 (dk_at dksX3_livedLets_0 3 rfl rfl)
theorem dX3_livedLets_4 : decode cX3_livedLets 4 = .ok (.iload_n 2, 1) := dk_28 (dk_at dksX3_livedLets_0 4 rfl rfl)
theorem dX3_livedLets_5 : decode cX3_livedLets 5 = .ok (.aload_n 0, 1) := dk_42 (dk_at dksX3_livedLets_0 5 rfl rfl)
theorem dX3_livedLets_6 : decode cX3_livedLets 6 = .ok (.getfield 7, 3) := dk_180 0 7 (dk_at dksX3_livedLets_0 6 rfl rfl)
theorem dX3_livedLets_9 : decode cX3_livedLets 9 = .ok (.sipush 233, 3) := dk_17 0 233 (dk_at dksX3_livedLets_0 9 rfl rfl)
theorem dX3_livedLets_12 : decode cX3_livedLets 12 = .ok (.iaload, 1) := dk_46 (dk_at dksX3_livedLets_0 12 rfl rfl)
theorem dX3_livedLets_13 : decode cX3_livedLets 13 = .ok (.if_icmp .ge 20, 3) := dk_162 0 20 (dk_at dksX3_livedLets_0 13 rfl rfl)
theorem dX3_livedLets_16 : decode cX3_livedLets 16 = .ok (.iload_n 1, 1) := dk_27 (dk_at dksX3_livedLets_0 16 rfl rfl)
theorem dX3_livedLets_17 : decode cX3_livedLets 17 = .ok (.aload_n 0, 1) := dk_42 (dk_at dksX3_livedLets_0 17 rfl rfl)
theorem dX3_livedLets_18 : decode cX3_livedLets 18 = .ok (.iload_n 2, 1) := dk_28 (dk_at dksX3_livedLets_0 18 rfl rfl)
theorem dX3_livedLets_19 : decode cX3_livedLets 19 = .ok (.iconst 5, 1) := dk_8 (dk_at dksX3_livedLets_0 19 rfl rfl)
theorem dX3_livedLets_20 : decode cX3_livedLets 20 = .ok (.invokevirtual 259, 3) := dk_182 1 3 (dk_at dksX3_livedLets_0 20 rfl rfl)
theorem dX3_livedLets_23 : decode cX3_livedLets 23 = .ok (.iconst 1, 1) := dk_4 (dk_at dksX3_livedLets_0 23 rfl rfl)
theorem dX3_livedLets_24 : decode cX3_livedLets 24 = .ok (.ishr, 1) := dk_122 (dk_at dksX3_livedLets_1 0 rfl rfl)
theorem dX3_livedLets_25 : decode cX3_livedLets 25 = .ok (.iadd, 1) := dk_96 (dk_at dksX3_livedLets_1 1 rfl rfl)
theorem dX3_livedLets_26 : decode cX3_livedLets 26 = .ok (.istore_n 1, 1) := dk_60 (dk_at dksX3_livedLets_1 2 rfl rfl)
theorem dX3_livedLets_27 : decode cX3_livedLets 27 = .ok (.iinc 2 1, 3) := dk_132 2 1 (dk_at dksX3_livedLets_1 3 rfl rfl)
theorem dX3_livedLets_30 : decode cX3_livedLets 30 = .ok (.goto (-26), 3) := dk_167 255 230 (dk_at dksX3_livedLets_1 6 rfl rfl)
theorem dX3_livedLets_33 : decode cX3_livedLets 33 = .ok (.iload_n 1, 1) := dk_27 (dk_at dksX3_livedLets_1 9 rfl rfl)
theorem dX3_livedLets_34 : decode cX3_livedLets 34 = .ok (.ireturn, 1) := dk_172 (dk_at dksX3_livedLets_1 10 rfl rfl)
abbrev cX3_ahead : ByteArray := prog_15_method_72_code
def yX3_ahead : MethodName := ⟨RX3, "ahead", "(II)I"⟩
def dkwX3_ahead_4 : List UInt8 := [27, 28, 29, 182, 1, 30, 182, 0, 199, 172]
abbrev dktX3_ahead_4 : List UInt8 := dkwX3_ahead_4 ++ []
def dkwX3_ahead_3 : List UInt8 := [182, 0, 250, 153, 0, 10, 4, 21, 4, 120, 167, 0, 4, 3, 128, 62, 132, 4, 1, 167, 255, 210, 42, 42]
abbrev dktX3_ahead_3 : List UInt8 := dkwX3_ahead_3 ++ dktX3_ahead_4
def dkwX3_ahead_2 : List UInt8 := [180, 0, 7, 17, 0, 231, 46, 162, 0, 39, 29, 42, 21, 4, 182, 1, 27, 153, 0, 20, 42, 21, 4, 28]
abbrev dktX3_ahead_2 : List UInt8 := dkwX3_ahead_2 ++ dktX3_ahead_3
def dkwX3_ahead_1 : List UInt8 := [27, 28, 182, 0, 250, 154, 0, 9, 42, 8, 182, 0, 186, 172, 3, 62, 3, 54, 4, 21, 4, 42]
abbrev dktX3_ahead_1 : List UInt8 := dkwX3_ahead_1 ++ dktX3_ahead_2
def dkwX3_ahead_0 : List UInt8 := [42, 27, 28, 182, 0, 253, 154, 0, 9, 42, 5, 182, 0, 186, 172, 42, 27, 182, 1, 27, 153, 0, 12, 42]
abbrev dktX3_ahead_0 : List UInt8 := dkwX3_ahead_0 ++ dktX3_ahead_1
theorem dksX3_ahead_0 : cX3_ahead.data.toList.drop 0 = dktX3_ahead_0 := by decide +kernel
theorem dksX3_ahead_1 : cX3_ahead.data.toList.drop 24 = dktX3_ahead_1 := dk_seg dksX3_ahead_0 24 rfl rfl
theorem dksX3_ahead_2 : cX3_ahead.data.toList.drop 46 = dktX3_ahead_2 := dk_seg dksX3_ahead_1 22 rfl rfl
theorem dksX3_ahead_3 : cX3_ahead.data.toList.drop 70 = dktX3_ahead_3 := dk_seg dksX3_ahead_2 24 rfl rfl
theorem dksX3_ahead_4 : cX3_ahead.data.toList.drop 94 = dktX3_ahead_4 := dk_seg dksX3_ahead_3 24 rfl rfl
theorem dX3_ahead_0 : decode cX3_ahead 0 = .ok (.aload_n 0, 1) := dk_42 (dk_at dksX3_ahead_0 0 rfl rfl)
theorem dX3_ahead_1 : decode cX3_ahead 1 = .ok (.iload_n 1, 1) := dk_27 (dk_at dksX3_ahead_0 1 rfl rfl)
theorem dX3_ahead_2 : decode cX3_ahead 2 = .ok (.iload_n 2, 1) := dk_28 (dk_at dksX3_ahead_0 2 rfl rfl)
theorem dX3_ahead_3 : decode cX3_ahead 3 = .ok (.invokevirtual 253, 3) := dk_182 0 253 (dk_at dksX3_ahead_0 3 rfl rfl)
theorem dX3_ahead_6 : decode cX3_ahead 6 = .ok (.ifCond .ne 9, 3) := dk_154 0 9 (dk_at dksX3_ahead_0 6 rfl rfl)
theorem dX3_ahead_9 : decode cX3_ahead 9 = .ok (.aload_n 0, 1) := dk_42 (dk_at dksX3_ahead_0 9 rfl rfl)
theorem dX3_ahead_10 : decode cX3_ahead 10 = .ok (.iconst 2, 1) := dk_5 (dk_at dksX3_ahead_0 10 rfl rfl)
theorem dX3_ahead_11 : decode cX3_ahead 11 = .ok (.invokevirtual 186, 3) := dk_182 0 186 (dk_at dksX3_ahead_0 11 rfl rfl)
theorem dX3_ahead_14 : decode cX3_ahead 14 = .ok (.ireturn, 1) := dk_172 (dk_at dksX3_ahead_0 14 rfl rfl)
theorem dX3_ahead_15 : decode cX3_ahead 15 = .ok (.aload_n 0, 1) := dk_42 (dk_at dksX3_ahead_0 15 rfl rfl)
theorem dX3_ahead_16 : decode cX3_ahead 16 = .ok (.iload_n 1, 1) := dk_27 (dk_at dksX3_ahead_0 16 rfl rfl)
theorem dX3_ahead_17 : decode cX3_ahead 17 = .ok (.invokevirtual 283, 3) := dk_182 1 27 (dk_at dksX3_ahead_0 17 rfl rfl)
theorem dX3_ahead_20 : decode cX3_ahead 20 = .ok (.ifCond .eq 12, 3) := dk_153 0 12 (dk_at dksX3_ahead_0 20 rfl rfl)
theorem dX3_ahead_23 : decode cX3_ahead 23 = .ok (.aload_n 0, 1) := dk_42 (dk_at dksX3_ahead_0 23 rfl rfl)
theorem dX3_ahead_24 : decode cX3_ahead 24 = .ok (.iload_n 1, 1) := dk_27 (dk_at dksX3_ahead_1 0 rfl rfl)
theorem dX3_ahead_25 : decode cX3_ahead 25 = .ok (.iload_n 2, 1) := dk_28 (dk_at dksX3_ahead_1 1 rfl rfl)
theorem dX3_ahead_26 : decode cX3_ahead 26 = .ok (.invokevirtual 250, 3) := dk_182 0 250 (dk_at dksX3_ahead_1 2 rfl rfl)
theorem dX3_ahead_29 : decode cX3_ahead 29 = .ok (.ifCond .ne 9, 3) := dk_154 0 9 (dk_at dksX3_ahead_1 5 rfl rfl)
theorem dX3_ahead_32 : decode cX3_ahead 32 = .ok (.aload_n 0, 1) := dk_42 (dk_at dksX3_ahead_1 8 rfl rfl)
theorem dX3_ahead_33 : decode cX3_ahead 33 = .ok (.iconst 5, 1) := dk_8 (dk_at dksX3_ahead_1 9 rfl rfl)
theorem dX3_ahead_34 : decode cX3_ahead 34 = .ok (.invokevirtual 186, 3) := dk_182 0 186 (dk_at dksX3_ahead_1 10 rfl rfl)
theorem dX3_ahead_37 : decode cX3_ahead 37 = .ok (.ireturn, 1) := dk_172 (dk_at dksX3_ahead_1 13 rfl rfl)
theorem dX3_ahead_38 : decode cX3_ahead 38 = .ok (.iconst 0, 1) := dk_3 (dk_at dksX3_ahead_1 14 rfl rfl)
theorem dX3_ahead_39 : decode cX3_ahead 39 = .ok (.istore_n 3, 1) := dk_62 (dk_at dksX3_ahead_1 15 rfl rfl)
theorem dX3_ahead_40 : decode cX3_ahead 40 = .ok (.iconst 0, 1) := dk_3 (dk_at dksX3_ahead_1 16 rfl rfl)
theorem dX3_ahead_41 : decode cX3_ahead 41 = .ok (.istore 4, 2) := dk_54 4 (dk_at dksX3_ahead_1 17 rfl rfl)
theorem dX3_ahead_43 : decode cX3_ahead 43 = .ok (.iload 4, 2) := dk_21 4 (dk_at dksX3_ahead_1 19 rfl rfl)
theorem dX3_ahead_45 : decode cX3_ahead 45 = .ok (.aload_n 0, 1) := dk_42 (dk_at dksX3_ahead_1 21 rfl rfl)
theorem dX3_ahead_46 : decode cX3_ahead 46 = .ok (.getfield 7, 3) := dk_180 0 7 (dk_at dksX3_ahead_2 0 rfl rfl)
theorem dX3_ahead_49 : decode cX3_ahead 49 = .ok (.sipush 231, 3) := dk_17 0 231 (dk_at dksX3_ahead_2 3 rfl rfl)
theorem dX3_ahead_52 : decode cX3_ahead 52 = .ok (.iaload, 1) := dk_46 (dk_at dksX3_ahead_2 6 rfl rfl)
theorem dX3_ahead_53 : decode cX3_ahead 53 = .ok (.if_icmp .ge 39, 3) := dk_162 0 39 (dk_at dksX3_ahead_2 7 rfl rfl)
theorem dX3_ahead_56 : decode cX3_ahead 56 = .ok (.iload_n 3, 1) := dk_29 (dk_at dksX3_ahead_2 10 rfl rfl)
theorem dX3_ahead_57 : decode cX3_ahead 57 = .ok (.aload_n 0, 1) := dk_42 (dk_at dksX3_ahead_2 11 rfl rfl)
theorem dX3_ahead_58 : decode cX3_ahead 58 = .ok (.iload 4, 2) := dk_21 4 (dk_at dksX3_ahead_2 12 rfl rfl)
theorem dX3_ahead_60 : decode cX3_ahead 60 = .ok (.invokevirtual 283, 3) := dk_182 1 27 (dk_at dksX3_ahead_2 14 rfl rfl)
theorem dX3_ahead_63 : decode cX3_ahead 63 = .ok (.ifCond .eq 20, 3) := dk_153 0 20 (dk_at dksX3_ahead_2 17 rfl rfl)
theorem dX3_ahead_66 : decode cX3_ahead 66 = .ok (.aload_n 0, 1) := dk_42 (dk_at dksX3_ahead_2 20 rfl rfl)
theorem dX3_ahead_67 : decode cX3_ahead 67 = .ok (.iload 4, 2) := dk_21 4 (dk_at dksX3_ahead_2 21 rfl rfl)
theorem dX3_ahead_69 : decode cX3_ahead 69 = .ok (.iload_n 2, 1) := dk_28 (dk_at dksX3_ahead_2 23 rfl rfl)
theorem dX3_ahead_70 : decode cX3_ahead 70 = .ok (.invokevirtual 250, 3) := dk_182 0 250 (dk_at dksX3_ahead_3 0 rfl rfl)
theorem dX3_ahead_73 : decode cX3_ahead 73 = .ok (.ifCond .eq 10, 3) := dk_153 0 10 (dk_at dksX3_ahead_3 3 rfl rfl)
theorem dX3_ahead_76 : decode cX3_ahead 76 = .ok (.iconst 1, 1) := dk_4 (dk_at dksX3_ahead_3 6 rfl rfl)
theorem dX3_ahead_77 : decode cX3_ahead 77 = .ok (.iload 4, 2) := dk_21 4 (dk_at dksX3_ahead_3 7 rfl rfl)
theorem dX3_ahead_79 : decode cX3_ahead 79 = .ok (.ishl, 1) := dk_120 (dk_at dksX3_ahead_3 9 rfl rfl)
theorem dX3_ahead_80 : decode cX3_ahead 80 = .ok (.goto 4, 3) := dk_167 0 4 (dk_at dksX3_ahead_3 10 rfl rfl)
theorem dX3_ahead_83 : decode cX3_ahead 83 = .ok (.iconst 0, 1) := dk_3 (dk_at dksX3_ahead_3 13 rfl rfl)
theorem dX3_ahead_84 : decode cX3_ahead 84 = .ok (.ior, 1) := dk_128 (dk_at dksX3_ahead_3 14 rfl rfl)
theorem dX3_ahead_85 : decode cX3_ahead 85 = .ok (.istore_n 3, 1) := dk_62 (dk_at dksX3_ahead_3 15 rfl rfl)
theorem dX3_ahead_86 : decode cX3_ahead 86 = .ok (.iinc 4 1, 3) := dk_132 4 1 (dk_at dksX3_ahead_3 16 rfl rfl)
theorem dX3_ahead_89 : decode cX3_ahead 89 = .ok (.goto (-46), 3) := dk_167 255 210 (dk_at dksX3_ahead_3 19 rfl rfl)
theorem dX3_ahead_92 : decode cX3_ahead 92 = .ok (.aload_n 0, 1) := dk_42 (dk_at dksX3_ahead_3 22 rfl rfl)
theorem dX3_ahead_93 : decode cX3_ahead 93 = .ok (.aload_n 0, 1) := dk_42 (dk_at dksX3_ahead_3 23 rfl rfl)
theorem dX3_ahead_94 : decode cX3_ahead 94 = .ok (.iload_n 1, 1) := dk_27 (dk_at dksX3_ahead_4 0 rfl rfl)
theorem dX3_ahead_95 : decode cX3_ahead 95 = .ok (.iload_n 2, 1) := dk_28 (dk_at dksX3_ahead_4 1 rfl rfl)
theorem dX3_ahead_96 : decode cX3_ahead 96 = .ok (.iload_n 3, 1) := dk_29 (dk_at dksX3_ahead_4 2 rfl rfl)
theorem dX3_ahead_97 : decode cX3_ahead 97 = .ok (.invokevirtual 286, 3) := dk_182 1 30 (dk_at dksX3_ahead_4 3 rfl rfl)
theorem dX3_ahead_100 : decode cX3_ahead 100 = .ok (.invokevirtual 199, 3) := dk_182 0 199 (dk_at dksX3_ahead_4 6 rfl rfl)
theorem dX3_ahead_103 : decode cX3_ahead 103 = .ok (.ireturn, 1) := dk_172 (dk_at dksX3_ahead_4 9 rfl rfl)
abbrev cX3_mayHope : ByteArray := prog_15_method_43_code
def yX3_mayHope : MethodName := ⟨RX3, "mayHope", "(I)Z"⟩
def dkwX3_mayHope_0 : List UInt8 := [42, 27, 182, 0, 208, 153, 0, 17, 42, 27, 16, 6, 182, 0, 205, 154, 0, 7, 4, 167, 0, 4, 3, 172]
abbrev dktX3_mayHope_0 : List UInt8 := dkwX3_mayHope_0 ++ []
theorem dksX3_mayHope_0 : cX3_mayHope.data.toList.drop 0 = dktX3_mayHope_0 := by decide +kernel
theorem dX3_mayHope_0 : decode cX3_mayHope 0 = .ok (.aload_n 0, 1) := dk_42 (dk_at dksX3_mayHope_0 0 rfl rfl)
theorem dX3_mayHope_1 : decode cX3_mayHope 1 = .ok (.iload_n 1, 1) := dk_27 (dk_at dksX3_mayHope_0 1 rfl rfl)
theorem dX3_mayHope_2 : decode cX3_mayHope 2 = .ok (.invokevirtual 208, 3) := dk_182 0 208 (dk_at dksX3_mayHope_0 2 rfl rfl)
theorem dX3_mayHope_5 : decode cX3_mayHope 5 = .ok (.ifCond .eq 17, 3) := dk_153 0 17 (dk_at dksX3_mayHope_0 5 rfl rfl)
theorem dX3_mayHope_8 : decode cX3_mayHope 8 = .ok (.aload_n 0, 1) := dk_42 (dk_at dksX3_mayHope_0 8 rfl rfl)
theorem dX3_mayHope_9 : decode cX3_mayHope 9 = .ok (.iload_n 1, 1) := dk_27 (dk_at dksX3_mayHope_0 9 rfl rfl)
theorem dX3_mayHope_10 : decode cX3_mayHope 10 = .ok (.bipush 6, 2) := dk_16 6 (dk_at dksX3_mayHope_0 10 rfl rfl)
theorem dX3_mayHope_12 : decode cX3_mayHope 12 = .ok (.invokevirtual 205, 3) := dk_182 0 205 (dk_at dksX3_mayHope_0 12 rfl rfl)
theorem dX3_mayHope_15 : decode cX3_mayHope 15 = .ok (.ifCond .ne 7, 3) := dk_154 0 7 (dk_at dksX3_mayHope_0 15 rfl rfl)
theorem dX3_mayHope_18 : decode cX3_mayHope 18 = .ok (.iconst 1, 1) := dk_4 (dk_at dksX3_mayHope_0 18 rfl rfl)
theorem dX3_mayHope_19 : decode cX3_mayHope 19 = .ok (.goto 4, 3) := dk_167 0 4 (dk_at dksX3_mayHope_0 19 rfl rfl)
theorem dX3_mayHope_22 : decode cX3_mayHope 22 = .ok (.iconst 0, 1) := dk_3 (dk_at dksX3_mayHope_0 22 rfl rfl)
theorem dX3_mayHope_23 : decode cX3_mayHope 23 = .ok (.ireturn, 1) := dk_172 (dk_at dksX3_mayHope_0 23 rfl rfl)
abbrev cX3_aheadOf : ByteArray := prog_15_method_71_code
def yX3_aheadOf : MethodName := ⟨RX3, "aheadOf", "(III)I"⟩
def dkwX3_aheadOf_2 : List UInt8 := [167, 0, 4, 3, 96, 54, 4, 132, 5, 1, 167, 255, 204, 21, 4, 172]
abbrev dktX3_aheadOf_2 : List UInt8 := dkwX3_aheadOf_2 ++ []
def dkwX3_aheadOf_1 : List UInt8 := [122, 4, 126, 4, 160, 0, 23, 42, 21, 5, 28, 182, 1, 19, 42, 27, 28, 182, 1, 19, 162, 0, 7, 4]
abbrev dktX3_aheadOf_1 : List UInt8 := dkwX3_aheadOf_1 ++ dktX3_aheadOf_2
def dkwX3_aheadOf_0 : List UInt8 := [3, 54, 4, 3, 54, 5, 21, 5, 42, 180, 0, 7, 17, 0, 231, 46, 162, 0, 45, 21, 4, 29, 21, 5]
abbrev dktX3_aheadOf_0 : List UInt8 := dkwX3_aheadOf_0 ++ dktX3_aheadOf_1
theorem dksX3_aheadOf_0 : cX3_aheadOf.data.toList.drop 0 = dktX3_aheadOf_0 := by decide +kernel
theorem dksX3_aheadOf_1 : cX3_aheadOf.data.toList.drop 24 = dktX3_aheadOf_1 := dk_seg dksX3_aheadOf_0 24 rfl rfl
theorem dksX3_aheadOf_2 : cX3_aheadOf.data.toList.drop 48 = dktX3_aheadOf_2 := dk_seg dksX3_aheadOf_1 24 rfl rfl
theorem dX3_aheadOf_0 : decode cX3_aheadOf 0 = .ok (.iconst 0, 1) := dk_3 (dk_at dksX3_aheadOf_0 0 rfl rfl)
theorem dX3_aheadOf_1 : decode cX3_aheadOf 1 = .ok (.istore 4, 2) := dk_54 4 (dk_at dksX3_aheadOf_0 1 rfl rfl)
theorem dX3_aheadOf_3 : decode cX3_aheadOf 3 = .ok (.iconst 0, 1) := dk_3 (dk_at dksX3_aheadOf_0 3 rfl rfl)
theorem dX3_aheadOf_4 : decode cX3_aheadOf 4 = .ok (.istore 5, 2) := dk_54 5 (dk_at dksX3_aheadOf_0 4 rfl rfl)
theorem dX3_aheadOf_6 : decode cX3_aheadOf 6 = .ok (.iload 5, 2) := dk_21 5 (dk_at dksX3_aheadOf_0 6 rfl rfl)
theorem dX3_aheadOf_8 : decode cX3_aheadOf 8 = .ok (.aload_n 0, 1) := dk_42 (dk_at dksX3_aheadOf_0 8 rfl rfl)
theorem dX3_aheadOf_9 : decode cX3_aheadOf 9 = .ok (.getfield 7, 3) := dk_180 0 7 (dk_at dksX3_aheadOf_0 9 rfl rfl)
theorem dX3_aheadOf_12 : decode cX3_aheadOf 12 = .ok (.sipush 231, 3) := dk_17 0 231 (dk_at dksX3_aheadOf_0 12 rfl rfl)
theorem dX3_aheadOf_15 : decode cX3_aheadOf 15 = .ok (.iaload, 1) := dk_46 (dk_at dksX3_aheadOf_0 15 rfl rfl)
theorem dX3_aheadOf_16 : decode cX3_aheadOf 16 = .ok (.if_icmp .ge 45, 3) := dk_162 0 45 (dk_at dksX3_aheadOf_0 16 rfl rfl)
theorem dX3_aheadOf_19 : decode cX3_aheadOf 19 = .ok (.iload 4, 2) := dk_21 4 (dk_at dksX3_aheadOf_0 19 rfl rfl)
theorem dX3_aheadOf_21 : decode cX3_aheadOf 21 = .ok (.iload_n 3, 1) := dk_29 (dk_at dksX3_aheadOf_0 21 rfl rfl)
theorem dX3_aheadOf_22 : decode cX3_aheadOf 22 = .ok (.iload 5, 2) := dk_21 5 (dk_at dksX3_aheadOf_0 22 rfl rfl)
theorem dX3_aheadOf_24 : decode cX3_aheadOf 24 = .ok (.ishr, 1) := dk_122 (dk_at dksX3_aheadOf_1 0 rfl rfl)
theorem dX3_aheadOf_25 : decode cX3_aheadOf 25 = .ok (.iconst 1, 1) := dk_4 (dk_at dksX3_aheadOf_1 1 rfl rfl)
theorem dX3_aheadOf_26 : decode cX3_aheadOf 26 = .ok (.iand, 1) := dk_126 (dk_at dksX3_aheadOf_1 2 rfl rfl)
theorem dX3_aheadOf_27 : decode cX3_aheadOf 27 = .ok (.iconst 1, 1) := dk_4 (dk_at dksX3_aheadOf_1 3 rfl rfl)
theorem dX3_aheadOf_28 : decode cX3_aheadOf 28 = .ok (.if_icmp .ne 23, 3) := dk_160 0 23 (dk_at dksX3_aheadOf_1 4 rfl rfl)
theorem dX3_aheadOf_31 : decode cX3_aheadOf 31 = .ok (.aload_n 0, 1) := dk_42 (dk_at dksX3_aheadOf_1 7 rfl rfl)
theorem dX3_aheadOf_32 : decode cX3_aheadOf 32 = .ok (.iload 5, 2) := dk_21 5 (dk_at dksX3_aheadOf_1 8 rfl rfl)
theorem dX3_aheadOf_34 : decode cX3_aheadOf 34 = .ok (.iload_n 2, 1) := dk_28 (dk_at dksX3_aheadOf_1 10 rfl rfl)
theorem dX3_aheadOf_35 : decode cX3_aheadOf 35 = .ok (.invokevirtual 275, 3) := dk_182 1 19 (dk_at dksX3_aheadOf_1 11 rfl rfl)
theorem dX3_aheadOf_38 : decode cX3_aheadOf 38 = .ok (.aload_n 0, 1) := dk_42 (dk_at dksX3_aheadOf_1 14 rfl rfl)
theorem dX3_aheadOf_39 : decode cX3_aheadOf 39 = .ok (.iload_n 1, 1) := dk_27 (dk_at dksX3_aheadOf_1 15 rfl rfl)
theorem dX3_aheadOf_40 : decode cX3_aheadOf 40 = .ok (.iload_n 2, 1) := dk_28 (dk_at dksX3_aheadOf_1 16 rfl rfl)
theorem dX3_aheadOf_41 : decode cX3_aheadOf 41 = .ok (.invokevirtual 275, 3) := dk_182 1 19 (dk_at dksX3_aheadOf_1 17 rfl rfl)
theorem dX3_aheadOf_44 : decode cX3_aheadOf 44 = .ok (.if_icmp .ge 7, 3) := dk_162 0 7 (dk_at dksX3_aheadOf_1 20 rfl rfl)
theorem dX3_aheadOf_47 : decode cX3_aheadOf 47 = .ok (.iconst 1, 1) := dk_4 (dk_at dksX3_aheadOf_1 23 rfl rfl)
theorem dX3_aheadOf_48 : decode cX3_aheadOf 48 = .ok (.goto 4, 3) := dk_167 0 4 (dk_at dksX3_aheadOf_2 0 rfl rfl)
theorem dX3_aheadOf_51 : decode cX3_aheadOf 51 = .ok (.iconst 0, 1) := dk_3 (dk_at dksX3_aheadOf_2 3 rfl rfl)
theorem dX3_aheadOf_52 : decode cX3_aheadOf 52 = .ok (.iadd, 1) := dk_96 (dk_at dksX3_aheadOf_2 4 rfl rfl)
theorem dX3_aheadOf_53 : decode cX3_aheadOf 53 = .ok (.istore 4, 2) := dk_54 4 (dk_at dksX3_aheadOf_2 5 rfl rfl)
theorem dX3_aheadOf_55 : decode cX3_aheadOf 55 = .ok (.iinc 5 1, 3) := dk_132 5 1 (dk_at dksX3_aheadOf_2 7 rfl rfl)
theorem dX3_aheadOf_58 : decode cX3_aheadOf 58 = .ok (.goto (-52), 3) := dk_167 255 204 (dk_at dksX3_aheadOf_2 10 rfl rfl)
theorem dX3_aheadOf_61 : decode cX3_aheadOf 61 = .ok (.iload 4, 2) := dk_21 4 (dk_at dksX3_aheadOf_2 13 rfl rfl)
theorem dX3_aheadOf_63 : decode cX3_aheadOf 63 = .ok (.ireturn, 1) := dk_172 (dk_at dksX3_aheadOf_2 15 rfl rfl)
abbrev cX3_turn : ByteArray := prog_15_method_73_code
def yX3_turn : MethodName := ⟨RX3, "turn", "(II)I"⟩
def dkwX3_turn_2 : List UInt8 := [182, 1, 12, 153, 0, 7, 4, 167, 0, 4, 3, 182, 0, 199, 172]
abbrev dktX3_turn_2 : List UInt8 := dkwX3_turn_2 ++ []
def dkwX3_turn_1 : List UInt8 := [5, 182, 0, 186, 172, 42, 28, 154, 0, 14, 42, 27, 182, 1, 9, 153, 0, 17, 167, 0, 10, 42]
abbrev dktX3_turn_1 : List UInt8 := dkwX3_turn_1 ++ dktX3_turn_2
def dkwX3_turn_0 : List UInt8 := [28, 3, 4, 184, 0, 71, 154, 0, 9, 42, 4, 182, 0, 186, 172, 42, 27, 182, 0, 238, 154, 0, 9, 42]
abbrev dktX3_turn_0 : List UInt8 := dkwX3_turn_0 ++ dktX3_turn_1
theorem dksX3_turn_0 : cX3_turn.data.toList.drop 0 = dktX3_turn_0 := by decide +kernel
theorem dksX3_turn_1 : cX3_turn.data.toList.drop 24 = dktX3_turn_1 := dk_seg dksX3_turn_0 24 rfl rfl
theorem dksX3_turn_2 : cX3_turn.data.toList.drop 46 = dktX3_turn_2 := dk_seg dksX3_turn_1 22 rfl rfl
theorem dX3_turn_0 : decode cX3_turn 0 = .ok (.iload_n 2, 1) := dk_28 (dk_at dksX3_turn_0 0 rfl rfl)
theorem dX3_turn_1 : decode cX3_turn 1 = .ok (.iconst 0, 1) := dk_3 (dk_at dksX3_turn_0 1 rfl rfl)
theorem dX3_turn_2 : decode cX3_turn 2 = .ok (.iconst 1, 1) := dk_4 (dk_at dksX3_turn_0 2 rfl rfl)
theorem dX3_turn_3 : decode cX3_turn 3 = .ok (.invokestatic 71, 3) := dk_184 0 71 (dk_at dksX3_turn_0 3 rfl rfl)
theorem dX3_turn_6 : decode cX3_turn 6 = .ok (.ifCond .ne 9, 3) := dk_154 0 9 (dk_at dksX3_turn_0 6 rfl rfl)
theorem dX3_turn_9 : decode cX3_turn 9 = .ok (.aload_n 0, 1) := dk_42 (dk_at dksX3_turn_0 9 rfl rfl)
theorem dX3_turn_10 : decode cX3_turn 10 = .ok (.iconst 1, 1) := dk_4 (dk_at dksX3_turn_0 10 rfl rfl)
theorem dX3_turn_11 : decode cX3_turn 11 = .ok (.invokevirtual 186, 3) := dk_182 0 186 (dk_at dksX3_turn_0 11 rfl rfl)
theorem dX3_turn_14 : decode cX3_turn 14 = .ok (.ireturn, 1) := dk_172 (dk_at dksX3_turn_0 14 rfl rfl)
theorem dX3_turn_15 : decode cX3_turn 15 = .ok (.aload_n 0, 1) := dk_42 (dk_at dksX3_turn_0 15 rfl rfl)
theorem dX3_turn_16 : decode cX3_turn 16 = .ok (.iload_n 1, 1) := dk_27 (dk_at dksX3_turn_0 16 rfl rfl)
theorem dX3_turn_17 : decode cX3_turn 17 = .ok (.invokevirtual 238, 3) := dk_182 0 238 (dk_at dksX3_turn_0 17 rfl rfl)
theorem dX3_turn_20 : decode cX3_turn 20 = .ok (.ifCond .ne 9, 3) := dk_154 0 9 (dk_at dksX3_turn_0 20 rfl rfl)
theorem dX3_turn_23 : decode cX3_turn 23 = .ok (.aload_n 0, 1) := dk_42 (dk_at dksX3_turn_0 23 rfl rfl)
theorem dX3_turn_24 : decode cX3_turn 24 = .ok (.iconst 2, 1) := dk_5 (dk_at dksX3_turn_1 0 rfl rfl)
theorem dX3_turn_25 : decode cX3_turn 25 = .ok (.invokevirtual 186, 3) := dk_182 0 186 (dk_at dksX3_turn_1 1 rfl rfl)
theorem dX3_turn_28 : decode cX3_turn 28 = .ok (.ireturn, 1) := dk_172 (dk_at dksX3_turn_1 4 rfl rfl)
theorem dX3_turn_29 : decode cX3_turn 29 = .ok (.aload_n 0, 1) := dk_42 (dk_at dksX3_turn_1 5 rfl rfl)
theorem dX3_turn_30 : decode cX3_turn 30 = .ok (.iload_n 2, 1) := dk_28 (dk_at dksX3_turn_1 6 rfl rfl)
theorem dX3_turn_31 : decode cX3_turn 31 = .ok (.ifCond .ne 14, 3) := dk_154 0 14 (dk_at dksX3_turn_1 7 rfl rfl)
theorem dX3_turn_34 : decode cX3_turn 34 = .ok (.aload_n 0, 1) := dk_42 (dk_at dksX3_turn_1 10 rfl rfl)
theorem dX3_turn_35 : decode cX3_turn 35 = .ok (.iload_n 1, 1) := dk_27 (dk_at dksX3_turn_1 11 rfl rfl)
theorem dX3_turn_36 : decode cX3_turn 36 = .ok (.invokevirtual 265, 3) := dk_182 1 9 (dk_at dksX3_turn_1 12 rfl rfl)
theorem dX3_turn_39 : decode cX3_turn 39 = .ok (.ifCond .eq 17, 3) := dk_153 0 17 (dk_at dksX3_turn_1 15 rfl rfl)
theorem dX3_turn_42 : decode cX3_turn 42 = .ok (.goto 10, 3) := dk_167 0 10 (dk_at dksX3_turn_1 18 rfl rfl)
theorem dX3_turn_45 : decode cX3_turn 45 = .ok (.aload_n 0, 1) := dk_42 (dk_at dksX3_turn_1 21 rfl rfl)
theorem dX3_turn_46 : decode cX3_turn 46 = .ok (.invokevirtual 268, 3) := dk_182 1 12 (dk_at dksX3_turn_2 0 rfl rfl)
theorem dX3_turn_49 : decode cX3_turn 49 = .ok (.ifCond .eq 7, 3) := dk_153 0 7 (dk_at dksX3_turn_2 3 rfl rfl)
theorem dX3_turn_52 : decode cX3_turn 52 = .ok (.iconst 1, 1) := dk_4 (dk_at dksX3_turn_2 6 rfl rfl)
theorem dX3_turn_53 : decode cX3_turn 53 = .ok (.goto 4, 3) := dk_167 0 4 (dk_at dksX3_turn_2 7 rfl rfl)
theorem dX3_turn_56 : decode cX3_turn 56 = .ok (.iconst 0, 1) := dk_3 (dk_at dksX3_turn_2 10 rfl rfl)
theorem dX3_turn_57 : decode cX3_turn 57 = .ok (.invokevirtual 199, 3) := dk_182 0 199 (dk_at dksX3_turn_2 11 rfl rfl)
theorem dX3_turn_60 : decode cX3_turn 60 = .ok (.ireturn, 1) := dk_172 (dk_at dksX3_turn_2 14 rfl rfl)
abbrev cX3_gap : ByteArray := prog_15_method_74_code
def yX3_gap : MethodName := ⟨RX3, "gap", "(II)I"⟩
def dkwX3_gap_5 : List UInt8 := [172]
abbrev dktX3_gap_5 : List UInt8 := dkwX3_gap_5 ++ []
def dkwX3_gap_4 : List UInt8 := [182, 1, 19, 162, 0, 10, 42, 21, 5, 182, 0, 199, 172, 132, 5, 1, 167, 255, 206, 42, 8, 182, 0, 186]
abbrev dktX3_gap_4 : List UInt8 := dkwX3_gap_4 ++ dktX3_gap_5
def dkwX3_gap_3 : List UInt8 := [21, 4, 2, 159, 0, 27, 42, 27, 28, 42, 27, 182, 0, 247, 21, 5, 100, 182, 1, 15, 42, 21, 4, 28]
abbrev dktX3_gap_3 : List UInt8 := dkwX3_gap_3 ++ dktX3_gap_4
def dkwX3_gap_2 : List UInt8 := [126, 62, 42, 29, 28, 182, 1, 24, 54, 4, 3, 54, 5, 21, 5, 42, 27, 182, 0, 247, 162, 0, 46]
abbrev dktX3_gap_2 : List UInt8 := dkwX3_gap_2 ++ dktX3_gap_3
def dkwX3_gap_1 : List UInt8 := [27, 28, 182, 0, 250, 154, 0, 9, 42, 8, 182, 0, 186, 172, 42, 28, 182, 1, 21, 4, 27, 120, 2, 130]
abbrev dktX3_gap_1 : List UInt8 := dkwX3_gap_1 ++ dktX3_gap_2
def dkwX3_gap_0 : List UInt8 := [42, 27, 28, 182, 0, 253, 154, 0, 9, 42, 5, 182, 0, 186, 172, 42, 27, 182, 1, 27, 153, 0, 12, 42]
abbrev dktX3_gap_0 : List UInt8 := dkwX3_gap_0 ++ dktX3_gap_1
theorem dksX3_gap_0 : cX3_gap.data.toList.drop 0 = dktX3_gap_0 := by decide +kernel
theorem dksX3_gap_1 : cX3_gap.data.toList.drop 24 = dktX3_gap_1 := dk_seg dksX3_gap_0 24 rfl rfl
theorem dksX3_gap_2 : cX3_gap.data.toList.drop 48 = dktX3_gap_2 := dk_seg dksX3_gap_1 24 rfl rfl
theorem dksX3_gap_3 : cX3_gap.data.toList.drop 71 = dktX3_gap_3 := dk_seg dksX3_gap_2 23 rfl rfl
theorem dksX3_gap_4 : cX3_gap.data.toList.drop 95 = dktX3_gap_4 := dk_seg dksX3_gap_3 24 rfl rfl
theorem dksX3_gap_5 : cX3_gap.data.toList.drop 119 = dktX3_gap_5 := dk_seg dksX3_gap_4 24 rfl rfl
theorem dX3_gap_0 : decode cX3_gap 0 = .ok (.aload_n 0, 1) := dk_42 (dk_at dksX3_gap_0 0 rfl rfl)
theorem dX3_gap_1 : decode cX3_gap 1 = .ok (.iload_n 1, 1) := dk_27 (dk_at dksX3_gap_0 1 rfl rfl)
theorem dX3_gap_2 : decode cX3_gap 2 = .ok (.iload_n 2, 1) := dk_28 (dk_at dksX3_gap_0 2 rfl rfl)
theorem dX3_gap_3 : decode cX3_gap 3 = .ok (.invokevirtual 253, 3) := dk_182 0 253 (dk_at dksX3_gap_0 3 rfl rfl)
theorem dX3_gap_6 : decode cX3_gap 6 = .ok (.ifCond .ne 9, 3) := dk_154 0 9 (dk_at dksX3_gap_0 6 rfl rfl)
theorem dX3_gap_9 : decode cX3_gap 9 = .ok (.aload_n 0, 1) := dk_42 (dk_at dksX3_gap_0 9 rfl rfl)
theorem dX3_gap_10 : decode cX3_gap 10 = .ok (.iconst 2, 1) := dk_5 (dk_at dksX3_gap_0 10 rfl rfl)
theorem dX3_gap_11 : decode cX3_gap 11 = .ok (.invokevirtual 186, 3) := dk_182 0 186 (dk_at dksX3_gap_0 11 rfl rfl)
theorem dX3_gap_14 : decode cX3_gap 14 = .ok (.ireturn, 1) := dk_172 (dk_at dksX3_gap_0 14 rfl rfl)
theorem dX3_gap_15 : decode cX3_gap 15 = .ok (.aload_n 0, 1) := dk_42 (dk_at dksX3_gap_0 15 rfl rfl)
theorem dX3_gap_16 : decode cX3_gap 16 = .ok (.iload_n 1, 1) := dk_27 (dk_at dksX3_gap_0 16 rfl rfl)
theorem dX3_gap_17 : decode cX3_gap 17 = .ok (.invokevirtual 283, 3) := dk_182 1 27 (dk_at dksX3_gap_0 17 rfl rfl)
theorem dX3_gap_20 : decode cX3_gap 20 = .ok (.ifCond .eq 12, 3) := dk_153 0 12 (dk_at dksX3_gap_0 20 rfl rfl)
theorem dX3_gap_23 : decode cX3_gap 23 = .ok (.aload_n 0, 1) := dk_42 (dk_at dksX3_gap_0 23 rfl rfl)
theorem dX3_gap_24 : decode cX3_gap 24 = .ok (.iload_n 1, 1) := dk_27 (dk_at dksX3_gap_1 0 rfl rfl)
theorem dX3_gap_25 : decode cX3_gap 25 = .ok (.iload_n 2, 1) := dk_28 (dk_at dksX3_gap_1 1 rfl rfl)
theorem dX3_gap_26 : decode cX3_gap 26 = .ok (.invokevirtual 250, 3) := dk_182 0 250 (dk_at dksX3_gap_1 2 rfl rfl)
theorem dX3_gap_29 : decode cX3_gap 29 = .ok (.ifCond .ne 9, 3) := dk_154 0 9 (dk_at dksX3_gap_1 5 rfl rfl)
theorem dX3_gap_32 : decode cX3_gap 32 = .ok (.aload_n 0, 1) := dk_42 (dk_at dksX3_gap_1 8 rfl rfl)
theorem dX3_gap_33 : decode cX3_gap 33 = .ok (.iconst 5, 1) := dk_8 (dk_at dksX3_gap_1 9 rfl rfl)
theorem dX3_gap_34 : decode cX3_gap 34 = .ok (.invokevirtual 186, 3) := dk_182 0 186 (dk_at dksX3_gap_1 10 rfl rfl)
theorem dX3_gap_37 : decode cX3_gap 37 = .ok (.ireturn, 1) := dk_172 (dk_at dksX3_gap_1 13 rfl rfl)
theorem dX3_gap_38 : decode cX3_gap 38 = .ok (.aload_n 0, 1) := dk_42 (dk_at dksX3_gap_1 14 rfl rfl)
theorem dX3_gap_39 : decode cX3_gap 39 = .ok (.iload_n 2, 1) := dk_28 (dk_at dksX3_gap_1 15 rfl rfl)
theorem dX3_gap_40 : decode cX3_gap 40 = .ok (.invokevirtual 277, 3) := dk_182 1 21 (dk_at dksX3_gap_1 16 rfl rfl)
theorem dX3_gap_43 : decode cX3_gap 43 = .ok (.iconst 1, 1) := dk_4 (dk_at dksX3_gap_1 19 rfl rfl)
theorem dX3_gap_44 : decode cX3_gap 44 = .ok (.iload_n 1, 1) := dk_27 (dk_at dksX3_gap_1 20 rfl rfl)
theorem dX3_gap_45 : decode cX3_gap 45 = .ok (.ishl, 1) := dk_120 (dk_at dksX3_gap_1 21 rfl rfl)
theorem dX3_gap_46 : decode cX3_gap 46 = .ok (.iconst (-1), 1) := dk_2 (dk_at dksX3_gap_1 22 rfl rfl)
theorem dX3_gap_47 : decode cX3_gap 47 = .ok (.ixor, 1) := dk_130 (dk_at dksX3_gap_1 23 rfl rfl)
theorem dX3_gap_48 : decode cX3_gap 48 = .ok (.iand, 1) := dk_126 (dk_at dksX3_gap_2 0 rfl rfl)
theorem dX3_gap_49 : decode cX3_gap 49 = .ok (.istore_n 3, 1) := dk_62 (dk_at dksX3_gap_2 1 rfl rfl)
theorem dX3_gap_50 : decode cX3_gap 50 = .ok (.aload_n 0, 1) := dk_42 (dk_at dksX3_gap_2 2 rfl rfl)
theorem dX3_gap_51 : decode cX3_gap 51 = .ok (.iload_n 3, 1) := dk_29 (dk_at dksX3_gap_2 3 rfl rfl)
theorem dX3_gap_52 : decode cX3_gap 52 = .ok (.iload_n 2, 1) := dk_28 (dk_at dksX3_gap_2 4 rfl rfl)
theorem dX3_gap_53 : decode cX3_gap 53 = .ok (.invokevirtual 280, 3) := dk_182 1 24 (dk_at dksX3_gap_2 5 rfl rfl)
theorem dX3_gap_56 : decode cX3_gap 56 = .ok (.istore 4, 2) := dk_54 4 (dk_at dksX3_gap_2 8 rfl rfl)
theorem dX3_gap_58 : decode cX3_gap 58 = .ok (.iconst 0, 1) := dk_3 (dk_at dksX3_gap_2 10 rfl rfl)
theorem dX3_gap_59 : decode cX3_gap 59 = .ok (.istore 5, 2) := dk_54 5 (dk_at dksX3_gap_2 11 rfl rfl)
theorem dX3_gap_61 : decode cX3_gap 61 = .ok (.iload 5, 2) := dk_21 5 (dk_at dksX3_gap_2 13 rfl rfl)
theorem dX3_gap_63 : decode cX3_gap 63 = .ok (.aload_n 0, 1) := dk_42 (dk_at dksX3_gap_2 15 rfl rfl)
theorem dX3_gap_64 : decode cX3_gap 64 = .ok (.iload_n 1, 1) := dk_27 (dk_at dksX3_gap_2 16 rfl rfl)
theorem dX3_gap_65 : decode cX3_gap 65 = .ok (.invokevirtual 247, 3) := dk_182 0 247 (dk_at dksX3_gap_2 17 rfl rfl)
theorem dX3_gap_68 : decode cX3_gap 68 = .ok (.if_icmp .ge 46, 3) := dk_162 0 46 (dk_at dksX3_gap_2 20 rfl rfl)
theorem dX3_gap_71 : decode cX3_gap 71 = .ok (.iload 4, 2) := dk_21 4 (dk_at dksX3_gap_3 0 rfl rfl)
theorem dX3_gap_73 : decode cX3_gap 73 = .ok (.iconst (-1), 1) := dk_2 (dk_at dksX3_gap_3 2 rfl rfl)
theorem dX3_gap_74 : decode cX3_gap 74 = .ok (.if_icmp .eq 27, 3) := dk_159 0 27 (dk_at dksX3_gap_3 3 rfl rfl)
theorem dX3_gap_77 : decode cX3_gap 77 = .ok (.aload_n 0, 1) := dk_42 (dk_at dksX3_gap_3 6 rfl rfl)
theorem dX3_gap_78 : decode cX3_gap 78 = .ok (.iload_n 1, 1) := dk_27 (dk_at dksX3_gap_3 7 rfl rfl)
theorem dX3_gap_79 : decode cX3_gap 79 = .ok (.iload_n 2, 1) := dk_28 (dk_at dksX3_gap_3 8 rfl rfl)
theorem dX3_gap_80 : decode cX3_gap 80 = .ok (.aload_n 0, 1) := dk_42 (dk_at dksX3_gap_3 9 rfl rfl)
theorem dX3_gap_81 : decode cX3_gap 81 = .ok (.iload_n 1, 1) := dk_27 (dk_at dksX3_gap_3 10 rfl rfl)
theorem dX3_gap_82 : decode cX3_gap 82 = .ok (.invokevirtual 247, 3) := dk_182 0 247 (dk_at dksX3_gap_3 11 rfl rfl)
theorem dX3_gap_85 : decode cX3_gap 85 = .ok (.iload 5, 2) := dk_21 5 (dk_at dksX3_gap_3 14 rfl rfl)
theorem dX3_gap_87 : decode cX3_gap 87 = .ok (.isub, 1) := dk_100 (dk_at dksX3_gap_3 16 rfl rfl)
theorem dX3_gap_88 : decode cX3_gap 88 = .ok (.invokevirtual 271, 3) := dk_182 1 15 (dk_at dksX3_gap_3 17 rfl rfl)
theorem dX3_gap_91 : decode cX3_gap 91 = .ok (.aload_n 0, 1) := dk_42 (dk_at dksX3_gap_3 20 rfl rfl)
theorem dX3_gap_92 : decode cX3_gap 92 = .ok (.iload 4, 2) := dk_21 4 (dk_at dksX3_gap_3 21 rfl rfl)
theorem dX3_gap_94 : decode cX3_gap 94 = .ok (.iload_n 2, 1) := dk_28 (dk_at dksX3_gap_3 23 rfl rfl)
theorem dX3_gap_95 : decode cX3_gap 95 = .ok (.invokevirtual 275, 3) := dk_182 1 19 (dk_at dksX3_gap_4 0 rfl rfl)
theorem dX3_gap_98 : decode cX3_gap 98 = .ok (.if_icmp .ge 10, 3) := dk_162 0 10 (dk_at dksX3_gap_4 3 rfl rfl)
theorem dX3_gap_101 : decode cX3_gap 101 = .ok (.aload_n 0, 1) := dk_42 (dk_at dksX3_gap_4 6 rfl rfl)
theorem dX3_gap_102 : decode cX3_gap 102 = .ok (.iload 5, 2) := dk_21 5 (dk_at dksX3_gap_4 7 rfl rfl)
theorem dX3_gap_104 : decode cX3_gap 104 = .ok (.invokevirtual 199, 3) := dk_182 0 199 (dk_at dksX3_gap_4 9 rfl rfl)
theorem dX3_gap_107 : decode cX3_gap 107 = .ok (.ireturn, 1) := dk_172 (dk_at dksX3_gap_4 12 rfl rfl)
theorem dX3_gap_108 : decode cX3_gap 108 = .ok (.iinc 5 1, 3) := dk_132 5 1 (dk_at dksX3_gap_4 13 rfl rfl)
theorem dX3_gap_111 : decode cX3_gap 111 = .ok (.goto (-50), 3) := dk_167 255 206 (dk_at dksX3_gap_4 16 rfl rfl)
theorem dX3_gap_114 : decode cX3_gap 114 = .ok (.aload_n 0, 1) := dk_42 (dk_at dksX3_gap_4 19 rfl rfl)
theorem dX3_gap_115 : decode cX3_gap 115 = .ok (.iconst 5, 1) := dk_8 (dk_at dksX3_gap_4 20 rfl rfl)
theorem dX3_gap_116 : decode cX3_gap 116 = .ok (.invokevirtual 186, 3) := dk_182 0 186 (dk_at dksX3_gap_4 21 rfl rfl)
theorem dX3_gap_119 : decode cX3_gap 119 = .ok (.ireturn, 1) := dk_172 (dk_at dksX3_gap_5 0 rfl rfl)
abbrev cX3_let : ByteArray := prog_15_method_85_code
def yX3_let : MethodName := ⟨RX3, "let", "(II)I"⟩
def dkwX3_let_2 : List UInt8 := [42, 27, 8, 182, 1, 3, 4, 126, 167, 0, 9, 42, 27, 28, 182, 1, 3, 182, 0, 199, 172]
abbrev dktX3_let_2 : List UInt8 := dkwX3_let_2 ++ []
def dkwX3_let_1 : List UInt8 := [17, 0, 233, 46, 4, 100, 184, 0, 71, 154, 0, 9, 42, 5, 182, 0, 186, 172, 42, 28, 8, 160, 0, 14]
abbrev dktX3_let_1 : List UInt8 := dkwX3_let_1 ++ dktX3_let_2
def dkwX3_let_0 : List UInt8 := [28, 3, 16, 7, 184, 0, 71, 154, 0, 9, 42, 4, 182, 0, 186, 172, 27, 3, 42, 180, 0, 7]
abbrev dktX3_let_0 : List UInt8 := dkwX3_let_0 ++ dktX3_let_1
theorem dksX3_let_0 : cX3_let.data.toList.drop 0 = dktX3_let_0 := by decide +kernel
theorem dksX3_let_1 : cX3_let.data.toList.drop 22 = dktX3_let_1 := dk_seg dksX3_let_0 22 rfl rfl
theorem dksX3_let_2 : cX3_let.data.toList.drop 46 = dktX3_let_2 := dk_seg dksX3_let_1 24 rfl rfl
theorem dX3_let_0 : decode cX3_let 0 = .ok (.iload_n 2, 1) := dk_28 (dk_at dksX3_let_0 0 rfl rfl)
theorem dX3_let_1 : decode cX3_let 1 = .ok (.iconst 0, 1) := dk_3 (dk_at dksX3_let_0 1 rfl rfl)
theorem dX3_let_2 : decode cX3_let 2 = .ok (.bipush 7, 2) := dk_16 7 (dk_at dksX3_let_0 2 rfl rfl)
theorem dX3_let_4 : decode cX3_let 4 = .ok (.invokestatic 71, 3) := dk_184 0 71 (dk_at dksX3_let_0 4 rfl rfl)
theorem dX3_let_7 : decode cX3_let 7 = .ok (.ifCond .ne 9, 3) := dk_154 0 9 (dk_at dksX3_let_0 7 rfl rfl)
theorem dX3_let_10 : decode cX3_let 10 = .ok (.aload_n 0, 1) := dk_42 (dk_at dksX3_let_0 10 rfl rfl)
theorem dX3_let_11 : decode cX3_let 11 = .ok (.iconst 1, 1) := dk_4 (dk_at dksX3_let_0 11 rfl rfl)
theorem dX3_let_12 : decode cX3_let 12 = .ok (.invokevirtual 186, 3) := dk_182 0 186 (dk_at dksX3_let_0 12 rfl rfl)
theorem dX3_let_15 : decode cX3_let 15 = .ok (.ireturn, 1) := dk_172 (dk_at dksX3_let_0 15 rfl rfl)
theorem dX3_let_16 : decode cX3_let 16 = .ok (.iload_n 1, 1) := dk_27 (dk_at dksX3_let_0 16 rfl rfl)
theorem dX3_let_17 : decode cX3_let 17 = .ok (.iconst 0, 1) := dk_3 (dk_at dksX3_let_0 17 rfl rfl)
theorem dX3_let_18 : decode cX3_let 18 = .ok (.aload_n 0, 1) := dk_42 (dk_at dksX3_let_0 18 rfl rfl)
theorem dX3_let_19 : decode cX3_let 19 = .ok (.getfield 7, 3) := dk_180 0 7 (dk_at dksX3_let_0 19 rfl rfl)
theorem dX3_let_22 : decode cX3_let 22 = .ok (.sipush 233, 3) := dk_17 0 233 (dk_at dksX3_let_1 0 rfl rfl)
theorem dX3_let_25 : decode cX3_let 25 = .ok (.iaload, 1) := dk_46 (dk_at dksX3_let_1 3 rfl rfl)
theorem dX3_let_26 : decode cX3_let 26 = .ok (.iconst 1, 1) := dk_4 (dk_at dksX3_let_1 4 rfl rfl)
theorem dX3_let_27 : decode cX3_let 27 = .ok (.isub, 1) := dk_100 (dk_at dksX3_let_1 5 rfl rfl)
theorem dX3_let_28 : decode cX3_let 28 = .ok (.invokestatic 71, 3) := dk_184 0 71 (dk_at dksX3_let_1 6 rfl rfl)
theorem dX3_let_31 : decode cX3_let 31 = .ok (.ifCond .ne 9, 3) := dk_154 0 9 (dk_at dksX3_let_1 9 rfl rfl)
theorem dX3_let_34 : decode cX3_let 34 = .ok (.aload_n 0, 1) := dk_42 (dk_at dksX3_let_1 12 rfl rfl)
theorem dX3_let_35 : decode cX3_let 35 = .ok (.iconst 2, 1) := dk_5 (dk_at dksX3_let_1 13 rfl rfl)
theorem dX3_let_36 : decode cX3_let 36 = .ok (.invokevirtual 186, 3) := dk_182 0 186 (dk_at dksX3_let_1 14 rfl rfl)
theorem dX3_let_39 : decode cX3_let 39 = .ok (.ireturn, 1) := dk_172 (dk_at dksX3_let_1 17 rfl rfl)
theorem dX3_let_40 : decode cX3_let 40 = .ok (.aload_n 0, 1) := dk_42 (dk_at dksX3_let_1 18 rfl rfl)
theorem dX3_let_41 : decode cX3_let 41 = .ok (.iload_n 2, 1) := dk_28 (dk_at dksX3_let_1 19 rfl rfl)
theorem dX3_let_42 : decode cX3_let 42 = .ok (.iconst 5, 1) := dk_8 (dk_at dksX3_let_1 20 rfl rfl)
theorem dX3_let_43 : decode cX3_let 43 = .ok (.if_icmp .ne 14, 3) := dk_160 0 14 (dk_at dksX3_let_1 21 rfl rfl)
theorem dX3_let_46 : decode cX3_let 46 = .ok (.aload_n 0, 1) := dk_42 (dk_at dksX3_let_2 0 rfl rfl)
theorem dX3_let_47 : decode cX3_let 47 = .ok (.iload_n 1, 1) := dk_27 (dk_at dksX3_let_2 1 rfl rfl)
theorem dX3_let_48 : decode cX3_let 48 = .ok (.iconst 5, 1) := dk_8 (dk_at dksX3_let_2 2 rfl rfl)
theorem dX3_let_49 : decode cX3_let 49 = .ok (.invokevirtual 259, 3) := dk_182 1 3 (dk_at dksX3_let_2 3 rfl rfl)
theorem dX3_let_52 : decode cX3_let 52 = .ok (.iconst 1, 1) := dk_4 (dk_at dksX3_let_2 6 rfl rfl)
theorem dX3_let_53 : decode cX3_let 53 = .ok (.iand, 1) := dk_126 (dk_at dksX3_let_2 7 rfl rfl)
theorem dX3_let_54 : decode cX3_let 54 = .ok (.goto 9, 3) := dk_167 0 9 (dk_at dksX3_let_2 8 rfl rfl)
theorem dX3_let_57 : decode cX3_let 57 = .ok (.aload_n 0, 1) := dk_42 (dk_at dksX3_let_2 11 rfl rfl)
theorem dX3_let_58 : decode cX3_let 58 = .ok (.iload_n 1, 1) := dk_27 (dk_at dksX3_let_2 12 rfl rfl)
theorem dX3_let_59 : decode cX3_let 59 = .ok (.iload_n 2, 1) := dk_28 (dk_at dksX3_let_2 13 rfl rfl)
theorem dX3_let_60 : decode cX3_let 60 = .ok (.invokevirtual 259, 3) := dk_182 1 3 (dk_at dksX3_let_2 14 rfl rfl)
theorem dX3_let_63 : decode cX3_let 63 = .ok (.invokevirtual 199, 3) := dk_182 0 199 (dk_at dksX3_let_2 17 rfl rfl)
theorem dX3_let_66 : decode cX3_let 66 = .ok (.ireturn, 1) := dk_172 (dk_at dksX3_let_2 20 rfl rfl)
abbrev cX3_offer : ByteArray := prog_15_method_86_code
def yX3_offer : MethodName := ⟨RX3, "offer", "(II)I"⟩
def dkwX3_offer_2 : List UInt8 := [182, 0, 199, 167, 0, 8, 42, 5, 182, 0, 186, 172]
abbrev dktX3_offer_2 : List UInt8 := dkwX3_offer_2 ++ []
def dkwX3_offer_1 : List UInt8 := [46, 4, 100, 184, 0, 71, 153, 0, 24, 42, 42, 180, 0, 7, 17, 1, 44, 6, 27, 104, 96, 28, 96, 46]
abbrev dktX3_offer_1 : List UInt8 := dkwX3_offer_1 ++ dktX3_offer_2
def dkwX3_offer_0 : List UInt8 := [28, 3, 5, 184, 0, 71, 154, 0, 9, 42, 4, 182, 0, 186, 172, 27, 3, 42, 180, 0, 7, 17, 1, 43]
abbrev dktX3_offer_0 : List UInt8 := dkwX3_offer_0 ++ dktX3_offer_1
theorem dksX3_offer_0 : cX3_offer.data.toList.drop 0 = dktX3_offer_0 := by decide +kernel
theorem dksX3_offer_1 : cX3_offer.data.toList.drop 24 = dktX3_offer_1 := dk_seg dksX3_offer_0 24 rfl rfl
theorem dksX3_offer_2 : cX3_offer.data.toList.drop 48 = dktX3_offer_2 := dk_seg dksX3_offer_1 24 rfl rfl
theorem dX3_offer_0 : decode cX3_offer 0 = .ok (.iload_n 2, 1) := dk_28 (dk_at dksX3_offer_0 0 rfl rfl)
theorem dX3_offer_1 : decode cX3_offer 1 = .ok (.iconst 0, 1) := dk_3 (dk_at dksX3_offer_0 1 rfl rfl)
theorem dX3_offer_2 : decode cX3_offer 2 = .ok (.iconst 2, 1) := dk_5 (dk_at dksX3_offer_0 2 rfl rfl)
theorem dX3_offer_3 : decode cX3_offer 3 = .ok (.invokestatic 71, 3) := dk_184 0 71 (dk_at dksX3_offer_0 3 rfl rfl)
theorem dX3_offer_6 : decode cX3_offer 6 = .ok (.ifCond .ne 9, 3) := dk_154 0 9 (dk_at dksX3_offer_0 6 rfl rfl)
theorem dX3_offer_9 : decode cX3_offer 9 = .ok (.aload_n 0, 1) := dk_42 (dk_at dksX3_offer_0 9 rfl rfl)
theorem dX3_offer_10 : decode cX3_offer 10 = .ok (.iconst 1, 1) := dk_4 (dk_at dksX3_offer_0 10 rfl rfl)
theorem dX3_offer_11 : decode cX3_offer 11 = .ok (.invokevirtual 186, 3) := dk_182 0 186 (dk_at dksX3_offer_0 11 rfl rfl)
theorem dX3_offer_14 : decode cX3_offer 14 = .ok (.ireturn, 1) := dk_172 (dk_at dksX3_offer_0 14 rfl rfl)
theorem dX3_offer_15 : decode cX3_offer 15 = .ok (.iload_n 1, 1) := dk_27 (dk_at dksX3_offer_0 15 rfl rfl)
theorem dX3_offer_16 : decode cX3_offer 16 = .ok (.iconst 0, 1) := dk_3 (dk_at dksX3_offer_0 16 rfl rfl)
theorem dX3_offer_17 : decode cX3_offer 17 = .ok (.aload_n 0, 1) := dk_42 (dk_at dksX3_offer_0 17 rfl rfl)
theorem dX3_offer_18 : decode cX3_offer 18 = .ok (.getfield 7, 3) := dk_180 0 7 (dk_at dksX3_offer_0 18 rfl rfl)
theorem dX3_offer_21 : decode cX3_offer 21 = .ok (.sipush 299, 3) := dk_17 1 43 (dk_at dksX3_offer_0 21 rfl rfl)
theorem dX3_offer_24 : decode cX3_offer 24 = .ok (.iaload, 1) := dk_46 (dk_at dksX3_offer_1 0 rfl rfl)
theorem dX3_offer_25 : decode cX3_offer 25 = .ok (.iconst 1, 1) := dk_4 (dk_at dksX3_offer_1 1 rfl rfl)
theorem dX3_offer_26 : decode cX3_offer 26 = .ok (.isub, 1) := dk_100 (dk_at dksX3_offer_1 2 rfl rfl)
theorem dX3_offer_27 : decode cX3_offer 27 = .ok (.invokestatic 71, 3) := dk_184 0 71 (dk_at dksX3_offer_1 3 rfl rfl)
theorem dX3_offer_30 : decode cX3_offer 30 = .ok (.ifCond .eq 24, 3) := dk_153 0 24 (dk_at dksX3_offer_1 6 rfl rfl)
theorem dX3_offer_33 : decode cX3_offer 33 = .ok (.aload_n 0, 1) := dk_42 (dk_at dksX3_offer_1 9 rfl rfl)
theorem dX3_offer_34 : decode cX3_offer 34 = .ok (.aload_n 0, 1) := dk_42 (dk_at dksX3_offer_1 10 rfl rfl)
theorem dX3_offer_35 : decode cX3_offer 35 = .ok (.getfield 7, 3) := dk_180 0 7 (dk_at dksX3_offer_1 11 rfl rfl)
theorem dX3_offer_38 : decode cX3_offer 38 = .ok (.sipush 300, 3) := dk_17 1 44 (dk_at dksX3_offer_1 14 rfl rfl)
theorem dX3_offer_41 : decode cX3_offer 41 = .ok (.iconst 3, 1) := dk_6 (dk_at dksX3_offer_1 17 rfl rfl)
theorem dX3_offer_42 : decode cX3_offer 42 = .ok (.iload_n 1, 1) := dk_27 (dk_at dksX3_offer_1 18 rfl rfl)
theorem dX3_offer_43 : decode cX3_offer 43 = .ok (.imul, 1) := dk_104 (dk_at dksX3_offer_1 19 rfl rfl)
theorem dX3_offer_44 : decode cX3_offer 44 = .ok (.iadd, 1) := dk_96 (dk_at dksX3_offer_1 20 rfl rfl)
theorem dX3_offer_45 : decode cX3_offer 45 = .ok (.iload_n 2, 1) := dk_28 (dk_at dksX3_offer_1 21 rfl rfl)
theorem dX3_offer_46 : decode cX3_offer 46 = .ok (.iadd, 1) := dk_96 (dk_at dksX3_offer_1 22 rfl rfl)
theorem dX3_offer_47 : decode cX3_offer 47 = .ok (.iaload, 1) := dk_46 (dk_at dksX3_offer_1 23 rfl rfl)
theorem dX3_offer_48 : decode cX3_offer 48 = .ok (.invokevirtual 199, 3) := dk_182 0 199 (dk_at dksX3_offer_2 0 rfl rfl)
theorem dX3_offer_51 : decode cX3_offer 51 = .ok (.goto 8, 3) := dk_167 0 8 (dk_at dksX3_offer_2 3 rfl rfl)
theorem dX3_offer_54 : decode cX3_offer 54 = .ok (.aload_n 0, 1) := dk_42 (dk_at dksX3_offer_2 6 rfl rfl)
theorem dX3_offer_55 : decode cX3_offer 55 = .ok (.iconst 2, 1) := dk_5 (dk_at dksX3_offer_2 7 rfl rfl)
theorem dX3_offer_56 : decode cX3_offer 56 = .ok (.invokevirtual 186, 3) := dk_182 0 186 (dk_at dksX3_offer_2 8 rfl rfl)
theorem dX3_offer_59 : decode cX3_offer 59 = .ok (.ireturn, 1) := dk_172 (dk_at dksX3_offer_2 11 rfl rfl)
abbrev cX3_tally : ByteArray := prog_15_method_89_code
def yX3_tally : MethodName := ⟨RX3, "tally", "(I)I"⟩
def dkwX3_tally_5 : List UInt8 := [167, 0, 4, 3, 96, 61, 132, 3, 1, 167, 255, 190, 42, 28, 182, 0, 199, 172]
abbrev dktX3_tally_5 : List UInt8 := dkwX3_tally_5 ++ []
def dkwX3_tally_4 : List UInt8 := [182, 1, 3, 5, 182, 0, 205, 42, 42, 29, 4, 182, 1, 3, 4, 182, 0, 202, 160, 0, 7, 4]
abbrev dktX3_tally_4 : List UInt8 := dkwX3_tally_4 ++ dktX3_tally_5
def dkwX3_tally_3 : List UInt8 := [28, 27, 4, 160, 0, 16, 42, 29, 6, 182, 1, 3, 4, 160, 0, 35, 167, 0, 28, 42, 42, 29, 3]
abbrev dktX3_tally_3 : List UInt8 := dkwX3_tally_3 ++ dktX3_tally_4
def dkwX3_tally_2 : List UInt8 := [42, 182, 1, 66, 182, 0, 199, 172, 3, 61, 3, 62, 29, 42, 180, 0, 7, 17, 0, 233, 46, 162, 0, 60]
abbrev dktX3_tally_2 : List UInt8 := dkwX3_tally_2 ++ dktX3_tally_3
def dkwX3_tally_1 : List UInt8 := [182, 0, 199, 172, 27, 5, 160, 0, 12, 42, 42, 182, 1, 6, 182, 0, 199, 172, 27, 7, 160, 0, 12, 42]
abbrev dktX3_tally_1 : List UInt8 := dkwX3_tally_1 ++ dktX3_tally_2
def dkwX3_tally_0 : List UInt8 := [27, 3, 7, 184, 0, 71, 154, 0, 9, 42, 4, 182, 0, 186, 172, 27, 154, 0, 12, 42, 42, 182, 1, 63]
abbrev dktX3_tally_0 : List UInt8 := dkwX3_tally_0 ++ dktX3_tally_1
theorem dksX3_tally_0 : cX3_tally.data.toList.drop 0 = dktX3_tally_0 := by decide +kernel
theorem dksX3_tally_1 : cX3_tally.data.toList.drop 24 = dktX3_tally_1 := dk_seg dksX3_tally_0 24 rfl rfl
theorem dksX3_tally_2 : cX3_tally.data.toList.drop 48 = dktX3_tally_2 := dk_seg dksX3_tally_1 24 rfl rfl
theorem dksX3_tally_3 : cX3_tally.data.toList.drop 72 = dktX3_tally_3 := dk_seg dksX3_tally_2 24 rfl rfl
theorem dksX3_tally_4 : cX3_tally.data.toList.drop 95 = dktX3_tally_4 := dk_seg dksX3_tally_3 23 rfl rfl
theorem dksX3_tally_5 : cX3_tally.data.toList.drop 117 = dktX3_tally_5 := dk_seg dksX3_tally_4 22 rfl rfl
theorem dX3_tally_0 : decode cX3_tally 0 = .ok (.iload_n 1, 1) := dk_27 (dk_at dksX3_tally_0 0 rfl rfl)
theorem dX3_tally_1 : decode cX3_tally 1 = .ok (.iconst 0, 1) := dk_3 (dk_at dksX3_tally_0 1 rfl rfl)
theorem dX3_tally_2 : decode cX3_tally 2 = .ok (.iconst 4, 1) := dk_7 (dk_at dksX3_tally_0 2 rfl rfl)
theorem dX3_tally_3 : decode cX3_tally 3 = .ok (.invokestatic 71, 3) := dk_184 0 71 (dk_at dksX3_tally_0 3 rfl rfl)
theorem dX3_tally_6 : decode cX3_tally 6 = .ok (.ifCond .ne 9, 3) := dk_154 0 9 (dk_at dksX3_tally_0 6 rfl rfl)
theorem dX3_tally_9 : decode cX3_tally 9 = .ok (.aload_n 0, 1) := dk_42 (dk_at dksX3_tally_0 9 rfl rfl)
theorem dX3_tally_10 : decode cX3_tally 10 = .ok (.iconst 1, 1) := dk_4 (dk_at dksX3_tally_0 10 rfl rfl)
theorem dX3_tally_11 : decode cX3_tally 11 = .ok (.invokevirtual 186, 3) := dk_182 0 186 (dk_at dksX3_tally_0 11 rfl rfl)
theorem dX3_tally_14 : decode cX3_tally 14 = .ok (.ireturn, 1) := dk_172 (dk_at dksX3_tally_0 14 rfl rfl)
theorem dX3_tally_15 : decode cX3_tally 15 = .ok (.iload_n 1, 1) := dk_27 (dk_at dksX3_tally_0 15 rfl rfl)
theorem dX3_tally_16 : decode cX3_tally 16 = .ok (.ifCond .ne 12, 3) := dk_154 0 12 (dk_at dksX3_tally_0 16 rfl rfl)
theorem dX3_tally_19 : decode cX3_tally 19 = .ok (.aload_n 0, 1) := dk_42 (dk_at dksX3_tally_0 19 rfl rfl)
theorem dX3_tally_20 : decode cX3_tally 20 = .ok (.aload_n 0, 1) := dk_42 (dk_at dksX3_tally_0 20 rfl rfl)
theorem dX3_tally_21 : decode cX3_tally 21 = .ok (.invokevirtual 319, 3) := dk_182 1 63 (dk_at dksX3_tally_0 21 rfl rfl)
theorem dX3_tally_24 : decode cX3_tally 24 = .ok (.invokevirtual 199, 3) := dk_182 0 199 (dk_at dksX3_tally_1 0 rfl rfl)
theorem dX3_tally_27 : decode cX3_tally 27 = .ok (.ireturn, 1) := dk_172 (dk_at dksX3_tally_1 3 rfl rfl)
theorem dX3_tally_28 : decode cX3_tally 28 = .ok (.iload_n 1, 1) := dk_27 (dk_at dksX3_tally_1 4 rfl rfl)
theorem dX3_tally_29 : decode cX3_tally 29 = .ok (.iconst 2, 1) := dk_5 (dk_at dksX3_tally_1 5 rfl rfl)
theorem dX3_tally_30 : decode cX3_tally 30 = .ok (.if_icmp .ne 12, 3) := dk_160 0 12 (dk_at dksX3_tally_1 6 rfl rfl)
theorem dX3_tally_33 : decode cX3_tally 33 = .ok (.aload_n 0, 1) := dk_42 (dk_at dksX3_tally_1 9 rfl rfl)
theorem dX3_tally_34 : decode cX3_tally 34 = .ok (.aload_n 0, 1) := dk_42 (dk_at dksX3_tally_1 10 rfl rfl)
theorem dX3_tally_35 : decode cX3_tally 35 = .ok (.invokevirtual 262, 3) := dk_182 1 6 (dk_at dksX3_tally_1 11 rfl rfl)
theorem dX3_tally_38 : decode cX3_tally 38 = .ok (.invokevirtual 199, 3) := dk_182 0 199 (dk_at dksX3_tally_1 14 rfl rfl)
theorem dX3_tally_41 : decode cX3_tally 41 = .ok (.ireturn, 1) := dk_172 (dk_at dksX3_tally_1 17 rfl rfl)
theorem dX3_tally_42 : decode cX3_tally 42 = .ok (.iload_n 1, 1) := dk_27 (dk_at dksX3_tally_1 18 rfl rfl)
theorem dX3_tally_43 : decode cX3_tally 43 = .ok (.iconst 4, 1) := dk_7 (dk_at dksX3_tally_1 19 rfl rfl)
theorem dX3_tally_44 : decode cX3_tally 44 = .ok (.if_icmp .ne 12, 3) := dk_160 0 12 (dk_at dksX3_tally_1 20 rfl rfl)
theorem dX3_tally_47 : decode cX3_tally 47 = .ok (.aload_n 0, 1) := dk_42 (dk_at dksX3_tally_1 23 rfl rfl)
theorem dX3_tally_48 : decode cX3_tally 48 = .ok (.aload_n 0, 1) := dk_42 (dk_at dksX3_tally_2 0 rfl rfl)
theorem dX3_tally_49 : decode cX3_tally 49 = .ok (.invokevirtual 322, 3) := dk_182 1 66 (dk_at dksX3_tally_2 1 rfl rfl)
theorem dX3_tally_52 : decode cX3_tally 52 = .ok (.invokevirtual 199, 3) := dk_182 0 199 (dk_at dksX3_tally_2 4 rfl rfl)
theorem dX3_tally_55 : decode cX3_tally 55 = .ok (.ireturn, 1) := dk_172 (dk_at dksX3_tally_2 7 rfl rfl)
theorem dX3_tally_56 : decode cX3_tally 56 = .ok (.iconst 0, 1) := dk_3 (dk_at dksX3_tally_2 8 rfl rfl)
theorem dX3_tally_57 : decode cX3_tally 57 = .ok (.istore_n 2, 1) := dk_61 (dk_at dksX3_tally_2 9 rfl rfl)
theorem dX3_tally_58 : decode cX3_tally 58 = .ok (.iconst 0, 1) := dk_3 (dk_at dksX3_tally_2 10 rfl rfl)
theorem dX3_tally_59 : decode cX3_tally 59 = .ok (.istore_n 3, 1) := dk_62 (dk_at dksX3_tally_2 11 rfl rfl)
theorem dX3_tally_60 : decode cX3_tally 60 = .ok (.iload_n 3, 1) := dk_29 (dk_at dksX3_tally_2 12 rfl rfl)
theorem dX3_tally_61 : decode cX3_tally 61 = .ok (.aload_n 0, 1) := dk_42 (dk_at dksX3_tally_2 13 rfl rfl)
theorem dX3_tally_62 : decode cX3_tally 62 = .ok (.getfield 7, 3) := dk_180 0 7 (dk_at dksX3_tally_2 14 rfl rfl)
theorem dX3_tally_65 : decode cX3_tally 65 = .ok (.sipush 233, 3) := dk_17 0 233 (dk_at dksX3_tally_2 17 rfl rfl)
theorem dX3_tally_68 : decode cX3_tally 68 = .ok (.iaload, 1) := dk_46 (dk_at dksX3_tally_2 20 rfl rfl)
theorem dX3_tally_69 : decode cX3_tally 69 = .ok (.if_icmp .ge 60, 3) := dk_162 0 60 (dk_at dksX3_tally_2 21 rfl rfl)
theorem dX3_tally_72 : decode cX3_tally 72 = .ok (.iload_n 2, 1) := dk_28 (dk_at dksX3_tally_3 0 rfl rfl)
theorem dX3_tally_73 : decode cX3_tally 73 = .ok (.iload_n 1, 1) := dk_27 (dk_at dksX3_tally_3 1 rfl rfl)
theorem dX3_tally_74 : decode cX3_tally 74 = .ok (.iconst 1, 1) := dk_4 (dk_at dksX3_tally_3 2 rfl rfl)
theorem dX3_tally_75 : decode cX3_tally 75 = .ok (.if_icmp .ne 16, 3) := dk_160 0 16 (dk_at dksX3_tally_3 3 rfl rfl)
theorem dX3_tally_78 : decode cX3_tally 78 = .ok (.aload_n 0, 1) := dk_42 (dk_at dksX3_tally_3 6 rfl rfl)
theorem dX3_tally_79 : decode cX3_tally 79 = .ok (.iload_n 3, 1) := dk_29 (dk_at dksX3_tally_3 7 rfl rfl)
theorem dX3_tally_80 : decode cX3_tally 80 = .ok (.iconst 3, 1) := dk_6 (dk_at dksX3_tally_3 8 rfl rfl)
theorem dX3_tally_81 : decode cX3_tally 81 = .ok (.invokevirtual 259, 3) := dk_182 1 3 (dk_at dksX3_tally_3 9 rfl rfl)
theorem dX3_tally_84 : decode cX3_tally 84 = .ok (.iconst 1, 1) := dk_4 (dk_at dksX3_tally_3 12 rfl rfl)
theorem dX3_tally_85 : decode cX3_tally 85 = .ok (.if_icmp .ne 35, 3) := dk_160 0 35 (dk_at dksX3_tally_3 13 rfl rfl)
theorem dX3_tally_88 : decode cX3_tally 88 = .ok (.goto 28, 3) := dk_167 0 28 (dk_at dksX3_tally_3 16 rfl rfl)
theorem dX3_tally_91 : decode cX3_tally 91 = .ok (.aload_n 0, 1) := dk_42 (dk_at dksX3_tally_3 19 rfl rfl)
theorem dX3_tally_92 : decode cX3_tally 92 = .ok (.aload_n 0, 1) := dk_42 (dk_at dksX3_tally_3 20 rfl rfl)
theorem dX3_tally_93 : decode cX3_tally 93 = .ok (.iload_n 3, 1) := dk_29 (dk_at dksX3_tally_3 21 rfl rfl)
theorem dX3_tally_94 : decode cX3_tally 94 = .ok (.iconst 0, 1) := dk_3 (dk_at dksX3_tally_3 22 rfl rfl)
theorem dX3_tally_95 : decode cX3_tally 95 = .ok (.invokevirtual 259, 3) := dk_182 1 3 (dk_at dksX3_tally_4 0 rfl rfl)
theorem dX3_tally_98 : decode cX3_tally 98 = .ok (.iconst 2, 1) := dk_5 (dk_at dksX3_tally_4 3 rfl rfl)
theorem dX3_tally_99 : decode cX3_tally 99 = .ok (.invokevirtual 205, 3) := dk_182 0 205 (dk_at dksX3_tally_4 4 rfl rfl)
theorem dX3_tally_102 : decode cX3_tally 102 = .ok (.aload_n 0, 1) := dk_42 (dk_at dksX3_tally_4 7 rfl rfl)
theorem dX3_tally_103 : decode cX3_tally 103 = .ok (.aload_n 0, 1) := dk_42 (dk_at dksX3_tally_4 8 rfl rfl)
theorem dX3_tally_104 : decode cX3_tally 104 = .ok (.iload_n 3, 1) := dk_29 (dk_at dksX3_tally_4 9 rfl rfl)
theorem dX3_tally_105 : decode cX3_tally 105 = .ok (.iconst 1, 1) := dk_4 (dk_at dksX3_tally_4 10 rfl rfl)
theorem dX3_tally_106 : decode cX3_tally 106 = .ok (.invokevirtual 259, 3) := dk_182 1 3 (dk_at dksX3_tally_4 11 rfl rfl)
theorem dX3_tally_109 : decode cX3_tally 109 = .ok (.iconst 1, 1) := dk_4 (dk_at dksX3_tally_4 14 rfl rfl)
theorem dX3_tally_110 : decode cX3_tally 110 = .ok (.invokevirtual 202, 3) := dk_182 0 202 (dk_at dksX3_tally_4 15 rfl rfl)
theorem dX3_tally_113 : decode cX3_tally 113 = .ok (.if_icmp .ne 7, 3) := dk_160 0 7 (dk_at dksX3_tally_4 18 rfl rfl)
theorem dX3_tally_116 : decode cX3_tally 116 = .ok (.iconst 1, 1) := dk_4 (dk_at dksX3_tally_4 21 rfl rfl)
theorem dX3_tally_117 : decode cX3_tally 117 = .ok (.goto 4, 3) := dk_167 0 4 (dk_at dksX3_tally_5 0 rfl rfl)
theorem dX3_tally_120 : decode cX3_tally 120 = .ok (.iconst 0, 1) := dk_3 (dk_at dksX3_tally_5 3 rfl rfl)
theorem dX3_tally_121 : decode cX3_tally 121 = .ok (.iadd, 1) := dk_96 (dk_at dksX3_tally_5 4 rfl rfl)
theorem dX3_tally_122 : decode cX3_tally 122 = .ok (.istore_n 2, 1) := dk_61 (dk_at dksX3_tally_5 5 rfl rfl)
theorem dX3_tally_123 : decode cX3_tally 123 = .ok (.iinc 3 1, 3) := dk_132 3 1 (dk_at dksX3_tally_5 6 rfl rfl)
theorem dX3_tally_126 : decode cX3_tally 126 = .ok (.goto (-66), 3) := dk_167 255 190 (dk_at dksX3_tally_5 9 rfl rfl)
theorem dX3_tally_129 : decode cX3_tally 129 = .ok (.aload_n 0, 1) := dk_42 (dk_at dksX3_tally_5 12 rfl rfl)
theorem dX3_tally_130 : decode cX3_tally 130 = .ok (.iload_n 2, 1) := dk_28 (dk_at dksX3_tally_5 13 rfl rfl)
theorem dX3_tally_131 : decode cX3_tally 131 = .ok (.invokevirtual 199, 3) := dk_182 0 199 (dk_at dksX3_tally_5 14 rfl rfl)
theorem dX3_tally_134 : decode cX3_tally 134 = .ok (.ireturn, 1) := dk_172 (dk_at dksX3_tally_5 17 rfl rfl)
abbrev cX3_greatestChain : ByteArray := prog_15_method_87_code
def yX3_greatestChain : MethodName := ⟨RX3, "greatestChain", "()I"⟩
def dkwX3_greatestChain_1 : List UInt8 := [184, 0, 211, 60, 132, 2, 1, 167, 255, 230, 27, 172]
abbrev dktX3_greatestChain_1 : List UInt8 := dkwX3_greatestChain_1 ++ []
def dkwX3_greatestChain_0 : List UInt8 := [3, 60, 3, 61, 28, 42, 180, 0, 7, 17, 0, 233, 46, 162, 0, 20, 27, 42, 28, 6, 182, 1, 3]
abbrev dktX3_greatestChain_0 : List UInt8 := dkwX3_greatestChain_0 ++ dktX3_greatestChain_1
theorem dksX3_greatestChain_0 : cX3_greatestChain.data.toList.drop 0 = dktX3_greatestChain_0 := by decide +kernel
theorem dksX3_greatestChain_1 : cX3_greatestChain.data.toList.drop 23 = dktX3_greatestChain_1 := dk_seg dksX3_greatestChain_0 23 rfl rfl
theorem dX3_greatestChain_0 : decode cX3_greatestChain 0 = .ok (.iconst 0, 1) := dk_3 (dk_at dksX3_greatestChain_0 0 rfl rfl)
theorem dX3_greatestChain_1 : decode cX3_greatestChain 1 = .ok (.istore_n 1, 1) := dk_60 (dk_at dksX3_greatestChain_0 1 rfl rfl)
theorem dX3_greatestChain_2 : decode cX3_greatestChain 2 = .ok (.iconst 0, 1) := dk_3 (dk_at dksX3_greatestChain_0 2 rfl rfl)
theorem dX3_greatestChain_3 : decode cX3_greatestChain 3 = .ok (.istore_n 2, 1) := dk_61 (dk_at dksX3_greatestChain_0 3 rfl rfl)
theorem dX3_greatestChain_4 : decode cX3_greatestChain 4 = .ok (.iload_n 2, 1) := dk_28 (dk_at dksX3_greatestChain_0 4 rfl rfl)
theorem dX3_greatestChain_5 : decode cX3_greatestChain 5 = .ok (.aload_n 0, 1) := dk_42 (dk_at dksX3_greatestChain_0 5 rfl rfl)
theorem dX3_greatestChain_6 : decode cX3_greatestChain 6 = .ok (.getfield 7, 3) := dk_180 0 7 (dk_at dksX3_greatestChain_0 6 rfl rfl)
theorem dX3_greatestChain_9 : decode cX3_greatestChain 9 = .ok (.sipush 233, 3) := dk_17 0 233 (dk_at dksX3_greatestChain_0 9 rfl rfl)
theorem dX3_greatestChain_12 : decode cX3_greatestChain 12 = .ok (.iaload, 1) := dk_46 (dk_at dksX3_greatestChain_0 12 rfl rfl)
theorem dX3_greatestChain_13 : decode cX3_greatestChain 13 = .ok (.if_icmp .ge 20, 3) := dk_162 0 20 (dk_at dksX3_greatestChain_0 13 rfl rfl)
theorem dX3_greatestChain_16 : decode cX3_greatestChain 16 = .ok (.iload_n 1, 1) := dk_27 (dk_at dksX3_greatestChain_0 16 rfl rfl)
theorem dX3_greatestChain_17 : decode cX3_greatestChain 17 = .ok (.aload_n 0, 1) := dk_42 (dk_at dksX3_greatestChain_0 17 rfl rfl)
theorem dX3_greatestChain_18 : decode cX3_greatestChain 18 = .ok (.iload_n 2, 1) := dk_28 (dk_at dksX3_greatestChain_0 18 rfl rfl)
theorem dX3_greatestChain_19 : decode cX3_greatestChain 19 = .ok (.iconst 3, 1) := dk_6 (dk_at dksX3_greatestChain_0 19 rfl rfl)
theorem dX3_greatestChain_20 : decode cX3_greatestChain 20 = .ok (.invokevirtual 259, 3) := dk_182 1 3 (dk_at dksX3_greatestChain_0 20 rfl rfl)
theorem dX3_greatestChain_23 : decode cX3_greatestChain 23 = .ok (.invokestatic 211, 3) := dk_184 0 211 (dk_at dksX3_greatestChain_1 0 rfl rfl)
theorem dX3_greatestChain_26 : decode cX3_greatestChain 26 = .ok (.istore_n 1, 1) := dk_60 (dk_at dksX3_greatestChain_1 3 rfl rfl)
theorem dX3_greatestChain_27 : decode cX3_greatestChain 27 = .ok (.iinc 2 1, 3) := dk_132 2 1 (dk_at dksX3_greatestChain_1 4 rfl rfl)
theorem dX3_greatestChain_30 : decode cX3_greatestChain 30 = .ok (.goto (-26), 3) := dk_167 255 230 (dk_at dksX3_greatestChain_1 7 rfl rfl)
theorem dX3_greatestChain_33 : decode cX3_greatestChain 33 = .ok (.iload_n 1, 1) := dk_27 (dk_at dksX3_greatestChain_1 10 rfl rfl)
theorem dX3_greatestChain_34 : decode cX3_greatestChain 34 = .ok (.ireturn, 1) := dk_172 (dk_at dksX3_greatestChain_1 11 rfl rfl)
abbrev cX3_allPassed : ByteArray := prog_15_method_88_code
def yX3_allPassed : MethodName := ⟨RX3, "allPassed", "()I"⟩
def dkwX3_allPassed_1 : List UInt8 := [96, 60, 132, 2, 1, 167, 255, 231, 27, 172]
abbrev dktX3_allPassed_1 : List UInt8 := dkwX3_allPassed_1 ++ []
def dkwX3_allPassed_0 : List UInt8 := [3, 60, 3, 61, 28, 42, 180, 0, 7, 17, 0, 231, 46, 162, 0, 19, 27, 42, 28, 16, 9, 182, 0, 205]
abbrev dktX3_allPassed_0 : List UInt8 := dkwX3_allPassed_0 ++ dktX3_allPassed_1
theorem dksX3_allPassed_0 : cX3_allPassed.data.toList.drop 0 = dktX3_allPassed_0 := by decide +kernel
theorem dksX3_allPassed_1 : cX3_allPassed.data.toList.drop 24 = dktX3_allPassed_1 := dk_seg dksX3_allPassed_0 24 rfl rfl
theorem dX3_allPassed_0 : decode cX3_allPassed 0 = .ok (.iconst 0, 1) := dk_3 (dk_at dksX3_allPassed_0 0 rfl rfl)
theorem dX3_allPassed_1 : decode cX3_allPassed 1 = .ok (.istore_n 1, 1) := dk_60 (dk_at dksX3_allPassed_0 1 rfl rfl)
theorem dX3_allPassed_2 : decode cX3_allPassed 2 = .ok (.iconst 0, 1) := dk_3 (dk_at dksX3_allPassed_0 2 rfl rfl)
theorem dX3_allPassed_3 : decode cX3_allPassed 3 = .ok (.istore_n 2, 1) := dk_61 (dk_at dksX3_allPassed_0 3 rfl rfl)
theorem dX3_allPassed_4 : decode cX3_allPassed 4 = .ok (.iload_n 2, 1) := dk_28 (dk_at dksX3_allPassed_0 4 rfl rfl)
theorem dX3_allPassed_5 : decode cX3_allPassed 5 = .ok (.aload_n 0, 1) := dk_42 (dk_at dksX3_allPassed_0 5 rfl rfl)
theorem dX3_allPassed_6 : decode cX3_allPassed 6 = .ok (.getfield 7, 3) := dk_180 0 7 (dk_at dksX3_allPassed_0 6 rfl rfl)
theorem dX3_allPassed_9 : decode cX3_allPassed 9 = .ok (.sipush 231, 3) := dk_17 0 231 (dk_at dksX3_allPassed_0 9 rfl rfl)
theorem dX3_allPassed_12 : decode cX3_allPassed 12 = .ok (.iaload, 1) := dk_46 (dk_at dksX3_allPassed_0 12 rfl rfl)
theorem dX3_allPassed_13 : decode cX3_allPassed 13 = .ok (.if_icmp .ge 19, 3) := dk_162 0 19 (dk_at dksX3_allPassed_0 13 rfl rfl)
theorem dX3_allPassed_16 : decode cX3_allPassed 16 = .ok (.iload_n 1, 1) := dk_27 (dk_at dksX3_allPassed_0 16 rfl rfl)
theorem dX3_allPassed_17 : decode cX3_allPassed 17 = .ok (.aload_n 0, 1) := dk_42 (dk_at dksX3_allPassed_0 17 rfl rfl)
theorem dX3_allPassed_18 : decode cX3_allPassed 18 = .ok (.iload_n 2, 1) := dk_28 (dk_at dksX3_allPassed_0 18 rfl rfl)
theorem dX3_allPassed_19 : decode cX3_allPassed 19 = .ok (.bipush 9, 2) := dk_16 9 (dk_at dksX3_allPassed_0 19 rfl rfl)
theorem dX3_allPassed_21 : decode cX3_allPassed 21 = .ok (.invokevirtual 205, 3) := dk_182 0 205 (dk_at dksX3_allPassed_0 21 rfl rfl)
theorem dX3_allPassed_24 : decode cX3_allPassed 24 = .ok (.iadd, 1) := dk_96 (dk_at dksX3_allPassed_1 0 rfl rfl)
theorem dX3_allPassed_25 : decode cX3_allPassed 25 = .ok (.istore_n 1, 1) := dk_60 (dk_at dksX3_allPassed_1 1 rfl rfl)
theorem dX3_allPassed_26 : decode cX3_allPassed 26 = .ok (.iinc 2 1, 3) := dk_132 2 1 (dk_at dksX3_allPassed_1 2 rfl rfl)
theorem dX3_allPassed_29 : decode cX3_allPassed 29 = .ok (.goto (-25), 3) := dk_167 255 231 (dk_at dksX3_allPassed_1 5 rfl rfl)
theorem dX3_allPassed_32 : decode cX3_allPassed 32 = .ok (.iload_n 1, 1) := dk_27 (dk_at dksX3_allPassed_1 8 rfl rfl)
theorem dX3_allPassed_33 : decode cX3_allPassed 33 = .ok (.ireturn, 1) := dk_172 (dk_at dksX3_allPassed_1 9 rfl rfl)
abbrev cX3_lack : ByteArray := prog_15_method_90_code
def yX3_lack : MethodName := ⟨RX3, "lack", "(I)I"⟩
def dkwX3_lack_4 : List UInt8 := [160, 0, 7, 4, 167, 0, 4, 3, 100, 61, 132, 3, 1, 167, 255, 215, 42, 28, 182, 0, 199, 172]
abbrev dktX3_lack_4 : List UInt8 := dkwX3_lack_4 ++ []
def dkwX3_lack_3 : List UInt8 := [17, 0, 230, 46, 162, 0, 35, 28, 42, 29, 182, 0, 219, 153, 0, 17, 42, 29, 3, 182, 0, 202, 27]
abbrev dktX3_lack_3 : List UInt8 := dkwX3_lack_3 ++ dktX3_lack_4
def dkwX3_lack_2 : List UInt8 := [160, 0, 7, 4, 167, 0, 4, 3, 96, 61, 132, 3, 1, 167, 255, 215, 3, 62, 29, 42, 180, 0, 7]
abbrev dktX3_lack_2 : List UInt8 := dkwX3_lack_2 ++ dktX3_lack_3
def dkwX3_lack_1 : List UInt8 := [17, 0, 231, 46, 162, 0, 35, 28, 42, 29, 182, 0, 208, 153, 0, 17, 42, 29, 4, 182, 0, 205, 27]
abbrev dktX3_lack_1 : List UInt8 := dkwX3_lack_1 ++ dktX3_lack_2
def dkwX3_lack_0 : List UInt8 := [27, 4, 7, 184, 0, 71, 154, 0, 9, 42, 4, 182, 0, 186, 172, 3, 61, 3, 62, 29, 42, 180, 0, 7]
abbrev dktX3_lack_0 : List UInt8 := dkwX3_lack_0 ++ dktX3_lack_1
theorem dksX3_lack_0 : cX3_lack.data.toList.drop 0 = dktX3_lack_0 := by decide +kernel
theorem dksX3_lack_1 : cX3_lack.data.toList.drop 24 = dktX3_lack_1 := dk_seg dksX3_lack_0 24 rfl rfl
theorem dksX3_lack_2 : cX3_lack.data.toList.drop 47 = dktX3_lack_2 := dk_seg dksX3_lack_1 23 rfl rfl
theorem dksX3_lack_3 : cX3_lack.data.toList.drop 70 = dktX3_lack_3 := dk_seg dksX3_lack_2 23 rfl rfl
theorem dksX3_lack_4 : cX3_lack.data.toList.drop 93 = dktX3_lack_4 := dk_seg dksX3_lack_3 23 rfl rfl
theorem dX3_lack_0 : decode cX3_lack 0 = .ok (.iload_n 1, 1) := dk_27 (dk_at dksX3_lack_0 0 rfl rfl)
theorem dX3_lack_1 : decode cX3_lack 1 = .ok (.iconst 1, 1) := dk_4 (dk_at dksX3_lack_0 1 rfl rfl)
theorem dX3_lack_2 : decode cX3_lack 2 = .ok (.iconst 4, 1) := dk_7 (dk_at dksX3_lack_0 2 rfl rfl)
theorem dX3_lack_3 : decode cX3_lack 3 = .ok (.invokestatic 71, 3) := dk_184 0 71 (dk_at dksX3_lack_0 3 rfl rfl)
theorem dX3_lack_6 : decode cX3_lack 6 = .ok (.ifCond .ne 9, 3) := dk_154 0 9 (dk_at dksX3_lack_0 6 rfl rfl)
theorem dX3_lack_9 : decode cX3_lack 9 = .ok (.aload_n 0, 1) := dk_42 (dk_at dksX3_lack_0 9 rfl rfl)
theorem dX3_lack_10 : decode cX3_lack 10 = .ok (.iconst 1, 1) := dk_4 (dk_at dksX3_lack_0 10 rfl rfl)
theorem dX3_lack_11 : decode cX3_lack 11 = .ok (.invokevirtual 186, 3) := dk_182 0 186 (dk_at dksX3_lack_0 11 rfl rfl)
theorem dX3_lack_14 : decode cX3_lack 14 = .ok (.ireturn, 1) := dk_172 (dk_at dksX3_lack_0 14 rfl rfl)
theorem dX3_lack_15 : decode cX3_lack 15 = .ok (.iconst 0, 1) := dk_3 (dk_at dksX3_lack_0 15 rfl rfl)
theorem dX3_lack_16 : decode cX3_lack 16 = .ok (.istore_n 2, 1) := dk_61 (dk_at dksX3_lack_0 16 rfl rfl)
theorem dX3_lack_17 : decode cX3_lack 17 = .ok (.iconst 0, 1) := dk_3 (dk_at dksX3_lack_0 17 rfl rfl)
theorem dX3_lack_18 : decode cX3_lack 18 = .ok (.istore_n 3, 1) := dk_62 (dk_at dksX3_lack_0 18 rfl rfl)
theorem dX3_lack_19 : decode cX3_lack 19 = .ok (.iload_n 3, 1) := dk_29 (dk_at dksX3_lack_0 19 rfl rfl)
theorem dX3_lack_20 : decode cX3_lack 20 = .ok (.aload_n 0, 1) := dk_42 (dk_at dksX3_lack_0 20 rfl rfl)
theorem dX3_lack_21 : decode cX3_lack 21 = .ok (.getfield 7, 3) := dk_180 0 7 (dk_at dksX3_lack_0 21 rfl rfl)
theorem dX3_lack_24 : decode cX3_lack 24 = .ok (.sipush 231, 3) := dk_17 0 231 (dk_at dksX3_lack_1 0 rfl rfl)
theorem dX3_lack_27 : decode cX3_lack 27 = .ok (.iaload, 1) := dk_46 (dk_at dksX3_lack_1 3 rfl rfl)
theorem dX3_lack_28 : decode cX3_lack 28 = .ok (.if_icmp .ge 35, 3) := dk_162 0 35 (dk_at dksX3_lack_1 4 rfl rfl)
theorem dX3_lack_31 : decode cX3_lack 31 = .ok (.iload_n 2, 1) := dk_28 (dk_at dksX3_lack_1 7 rfl rfl)
theorem dX3_lack_32 : decode cX3_lack 32 = .ok (.aload_n 0, 1) := dk_42 (dk_at dksX3_lack_1 8 rfl rfl)
theorem dX3_lack_33 : decode cX3_lack 33 = .ok (.iload_n 3, 1) := dk_29 (dk_at dksX3_lack_1 9 rfl rfl)
theorem dX3_lack_34 : decode cX3_lack 34 = .ok (.invokevirtual 208, 3) := dk_182 0 208 (dk_at dksX3_lack_1 10 rfl rfl)
theorem dX3_lack_37 : decode cX3_lack 37 = .ok (.ifCond .eq 17, 3) := dk_153 0 17 (dk_at dksX3_lack_1 13 rfl rfl)
theorem dX3_lack_40 : decode cX3_lack 40 = .ok (.aload_n 0, 1) := dk_42 (dk_at dksX3_lack_1 16 rfl rfl)
theorem dX3_lack_41 : decode cX3_lack 41 = .ok (.iload_n 3, 1) := dk_29 (dk_at dksX3_lack_1 17 rfl rfl)
theorem dX3_lack_42 : decode cX3_lack 42 = .ok (.iconst 1, 1) := dk_4 (dk_at dksX3_lack_1 18 rfl rfl)
theorem dX3_lack_43 : decode cX3_lack 43 = .ok (.invokevirtual 205, 3) := dk_182 0 205 (dk_at dksX3_lack_1 19 rfl rfl)
theorem dX3_lack_46 : decode cX3_lack 46 = .ok (.iload_n 1, 1) := dk_27 (dk_at dksX3_lack_1 22 rfl rfl)
theorem dX3_lack_47 : decode cX3_lack 47 = .ok (.if_icmp .ne 7, 3) := dk_160 0 7 (dk_at dksX3_lack_2 0 rfl rfl)
theorem dX3_lack_50 : decode cX3_lack 50 = .ok (.iconst 1, 1) := dk_4 (dk_at dksX3_lack_2 3 rfl rfl)
theorem dX3_lack_51 : decode cX3_lack 51 = .ok (.goto 4, 3) := dk_167 0 4 (dk_at dksX3_lack_2 4 rfl rfl)
theorem dX3_lack_54 : decode cX3_lack 54 = .ok (.iconst 0, 1) := dk_3 (dk_at dksX3_lack_2 7 rfl rfl)
theorem dX3_lack_55 : decode cX3_lack 55 = .ok (.iadd, 1) := dk_96 (dk_at dksX3_lack_2 8 rfl rfl)
theorem dX3_lack_56 : decode cX3_lack 56 = .ok (.istore_n 2, 1) := dk_61 (dk_at dksX3_lack_2 9 rfl rfl)
theorem dX3_lack_57 : decode cX3_lack 57 = .ok (.iinc 3 1, 3) := dk_132 3 1 (dk_at dksX3_lack_2 10 rfl rfl)
theorem dX3_lack_60 : decode cX3_lack 60 = .ok (.goto (-41), 3) := dk_167 255 215 (dk_at dksX3_lack_2 13 rfl rfl)
theorem dX3_lack_63 : decode cX3_lack 63 = .ok (.iconst 0, 1) := dk_3 (dk_at dksX3_lack_2 16 rfl rfl)
theorem dX3_lack_64 : decode cX3_lack 64 = .ok (.istore_n 3, 1) := dk_62 (dk_at dksX3_lack_2 17 rfl rfl)
theorem dX3_lack_65 : decode cX3_lack 65 = .ok (.iload_n 3, 1) := dk_29 (dk_at dksX3_lack_2 18 rfl rfl)
theorem dX3_lack_66 : decode cX3_lack 66 = .ok (.aload_n 0, 1) := dk_42 (dk_at dksX3_lack_2 19 rfl rfl)
theorem dX3_lack_67 : decode cX3_lack 67 = .ok (.getfield 7, 3) := dk_180 0 7 (dk_at dksX3_lack_2 20 rfl rfl)
theorem dX3_lack_70 : decode cX3_lack 70 = .ok (.sipush 230, 3) := dk_17 0 230 (dk_at dksX3_lack_3 0 rfl rfl)
theorem dX3_lack_73 : decode cX3_lack 73 = .ok (.iaload, 1) := dk_46 (dk_at dksX3_lack_3 3 rfl rfl)
theorem dX3_lack_74 : decode cX3_lack 74 = .ok (.if_icmp .ge 35, 3) := dk_162 0 35 (dk_at dksX3_lack_3 4 rfl rfl)
theorem dX3_lack_77 : decode cX3_lack 77 = .ok (.iload_n 2, 1) := dk_28 (dk_at dksX3_lack_3 7 rfl rfl)
theorem dX3_lack_78 : decode cX3_lack 78 = .ok (.aload_n 0, 1) := dk_42 (dk_at dksX3_lack_3 8 rfl rfl)
theorem dX3_lack_79 : decode cX3_lack 79 = .ok (.iload_n 3, 1) := dk_29 (dk_at dksX3_lack_3 9 rfl rfl)
theorem dX3_lack_80 : decode cX3_lack 80 = .ok (.invokevirtual 219, 3) := dk_182 0 219 (dk_at dksX3_lack_3 10 rfl rfl)
theorem dX3_lack_83 : decode cX3_lack 83 = .ok (.ifCond .eq 17, 3) := dk_153 0 17 (dk_at dksX3_lack_3 13 rfl rfl)
theorem dX3_lack_86 : decode cX3_lack 86 = .ok (.aload_n 0, 1) := dk_42 (dk_at dksX3_lack_3 16 rfl rfl)
theorem dX3_lack_87 : decode cX3_lack 87 = .ok (.iload_n 3, 1) := dk_29 (dk_at dksX3_lack_3 17 rfl rfl)
theorem dX3_lack_88 : decode cX3_lack 88 = .ok (.iconst 0, 1) := dk_3 (dk_at dksX3_lack_3 18 rfl rfl)
theorem dX3_lack_89 : decode cX3_lack 89 = .ok (.invokevirtual 202, 3) := dk_182 0 202 (dk_at dksX3_lack_3 19 rfl rfl)
theorem dX3_lack_92 : decode cX3_lack 92 = .ok (.iload_n 1, 1) := dk_27 (dk_at dksX3_lack_3 22 rfl rfl)
theorem dX3_lack_93 : decode cX3_lack 93 = .ok (.if_icmp .ne 7, 3) := dk_160 0 7 (dk_at dksX3_lack_4 0 rfl rfl)
theorem dX3_lack_96 : decode cX3_lack 96 = .ok (.iconst 1, 1) := dk_4 (dk_at dksX3_lack_4 3 rfl rfl)
theorem dX3_lack_97 : decode cX3_lack 97 = .ok (.goto 4, 3) := dk_167 0 4 (dk_at dksX3_lack_4 4 rfl rfl)
theorem dX3_lack_100 : decode cX3_lack 100 = .ok (.iconst 0, 1) := dk_3 (dk_at dksX3_lack_4 7 rfl rfl)
theorem dX3_lack_101 : decode cX3_lack 101 = .ok (.isub, 1) := dk_100 (dk_at dksX3_lack_4 8 rfl rfl)
theorem dX3_lack_102 : decode cX3_lack 102 = .ok (.istore_n 2, 1) := dk_61 (dk_at dksX3_lack_4 9 rfl rfl)
theorem dX3_lack_103 : decode cX3_lack 103 = .ok (.iinc 3 1, 3) := dk_132 3 1 (dk_at dksX3_lack_4 10 rfl rfl)
theorem dX3_lack_106 : decode cX3_lack 106 = .ok (.goto (-41), 3) := dk_167 255 215 (dk_at dksX3_lack_4 13 rfl rfl)
theorem dX3_lack_109 : decode cX3_lack 109 = .ok (.aload_n 0, 1) := dk_42 (dk_at dksX3_lack_4 16 rfl rfl)
theorem dX3_lack_110 : decode cX3_lack 110 = .ok (.iload_n 2, 1) := dk_28 (dk_at dksX3_lack_4 17 rfl rfl)
theorem dX3_lack_111 : decode cX3_lack 111 = .ok (.invokevirtual 199, 3) := dk_182 0 199 (dk_at dksX3_lack_4 18 rfl rfl)
theorem dX3_lack_114 : decode cX3_lack 114 = .ok (.ireturn, 1) := dk_172 (dk_at dksX3_lack_4 21 rfl rfl)
abbrev cX3_weeks : ByteArray := prog_15_method_92_code
def yX3_weeks : MethodName := ⟨RX3, "weeks", "(II)I"⟩
def dkwX3_weeks_7 : List UInt8 := [180, 0, 7, 184, 0, 192, 42, 21, 6, 182, 0, 199, 172]
abbrev dktX3_weeks_7 : List UInt8 := dkwX3_weeks_7 ++ []
def dkwX3_weeks_6 : List UInt8 := [160, 0, 10, 42, 182, 1, 63, 167, 0, 10, 42, 182, 1, 66, 21, 5, 100, 54, 6, 42, 180, 0, 16, 42]
abbrev dktX3_weeks_6 : List UInt8 := dkwX3_weeks_6 ++ dktX3_weeks_7
def dkwX3_weeks_5 : List UInt8 := [160, 0, 10, 42, 182, 0, 228, 167, 0, 34, 28, 6, 160, 0, 10, 42, 182, 0, 231, 167, 0, 22, 28, 7]
abbrev dktX3_weeks_5 : List UInt8 := dkwX3_weeks_5 ++ dktX3_weeks_6
def dkwX3_weeks_4 : List UInt8 := [167, 0, 65, 28, 4, 160, 0, 17, 42, 180, 0, 7, 17, 1, 42, 46, 21, 4, 100, 167, 0, 46, 28, 5]
abbrev dktX3_weeks_4 : List UInt8 := dkwX3_weeks_4 ++ dktX3_weeks_5
def dkwX3_weeks_3 : List UInt8 := [42, 182, 1, 75, 132, 6, 1, 167, 255, 243, 28, 154, 0, 16, 42, 180, 0, 7, 17, 0, 233, 46, 29, 100]
abbrev dktX3_weeks_3 : List UInt8 := dkwX3_weeks_3 ++ dktX3_weeks_4
def dkwX3_weeks_2 : List UInt8 := [180, 0, 7, 17, 1, 42, 46, 54, 4, 42, 182, 1, 66, 54, 5, 3, 54, 6, 21, 6, 27, 162, 0, 13]
abbrev dktX3_weeks_2 : List UInt8 := dkwX3_weeks_2 ++ dktX3_weeks_3
def dkwX3_weeks_1 : List UInt8 := [172, 42, 180, 0, 7, 42, 180, 0, 16, 184, 0, 192, 42, 180, 0, 7, 17, 0, 233, 46, 62, 42]
abbrev dktX3_weeks_1 : List UInt8 := dkwX3_weeks_1 ++ dktX3_weeks_2
def dkwX3_weeks_0 : List UInt8 := [27, 3, 16, 30, 184, 0, 71, 153, 0, 12, 28, 3, 8, 184, 0, 71, 154, 0, 9, 42, 4, 182, 0, 186]
abbrev dktX3_weeks_0 : List UInt8 := dkwX3_weeks_0 ++ dktX3_weeks_1
theorem dksX3_weeks_0 : cX3_weeks.data.toList.drop 0 = dktX3_weeks_0 := by decide +kernel
theorem dksX3_weeks_1 : cX3_weeks.data.toList.drop 24 = dktX3_weeks_1 := dk_seg dksX3_weeks_0 24 rfl rfl
theorem dksX3_weeks_2 : cX3_weeks.data.toList.drop 46 = dktX3_weeks_2 := dk_seg dksX3_weeks_1 22 rfl rfl
theorem dksX3_weeks_3 : cX3_weeks.data.toList.drop 70 = dktX3_weeks_3 := dk_seg dksX3_weeks_2 24 rfl rfl
theorem dksX3_weeks_4 : cX3_weeks.data.toList.drop 94 = dktX3_weeks_4 := dk_seg dksX3_weeks_3 24 rfl rfl
theorem dksX3_weeks_5 : cX3_weeks.data.toList.drop 118 = dktX3_weeks_5 := dk_seg dksX3_weeks_4 24 rfl rfl
theorem dksX3_weeks_6 : cX3_weeks.data.toList.drop 142 = dktX3_weeks_6 := dk_seg dksX3_weeks_5 24 rfl rfl
theorem dksX3_weeks_7 : cX3_weeks.data.toList.drop 166 = dktX3_weeks_7 := dk_seg dksX3_weeks_6 24 rfl rfl
theorem dX3_weeks_0 : decode cX3_weeks 0 = .ok (.iload_n 1, 1) := dk_27 (dk_at dksX3_weeks_0 0 rfl rfl)
theorem dX3_weeks_1 : decode cX3_weeks 1 = .ok (.iconst 0, 1) := dk_3 (dk_at dksX3_weeks_0 1 rfl rfl)
theorem dX3_weeks_2 : decode cX3_weeks 2 = .ok (.bipush 30, 2) := dk_16 30 (dk_at dksX3_weeks_0 2 rfl rfl)
theorem dX3_weeks_4 : decode cX3_weeks 4 = .ok (.invokestatic 71, 3) := dk_184 0 71 (dk_at dksX3_weeks_0 4 rfl rfl)
theorem dX3_weeks_7 : decode cX3_weeks 7 = .ok (.ifCond .eq 12, 3) := dk_153 0 12 (dk_at dksX3_weeks_0 7 rfl rfl)
theorem dX3_weeks_10 : decode cX3_weeks 10 = .ok (.iload_n 2, 1) := dk_28 (dk_at dksX3_weeks_0 10 rfl rfl)
theorem dX3_weeks_11 : decode cX3_weeks 11 = .ok (.iconst 0, 1) := dk_3 (dk_at dksX3_weeks_0 11 rfl rfl)
theorem dX3_weeks_12 : decode cX3_weeks 12 = .ok (.iconst 5, 1) := dk_8 (dk_at dksX3_weeks_0 12 rfl rfl)
theorem dX3_weeks_13 : decode cX3_weeks 13 = .ok (.invokestatic 71, 3) := dk_184 0 71 (dk_at dksX3_weeks_0 13 rfl rfl)
theorem dX3_weeks_16 : decode cX3_weeks 16 = .ok (.ifCond .ne 9, 3) := dk_154 0 9 (dk_at dksX3_weeks_0 16 rfl rfl)
theorem dX3_weeks_19 : decode cX3_weeks 19 = .ok (.aload_n 0, 1) := dk_42 (dk_at dksX3_weeks_0 19 rfl rfl)
theorem dX3_weeks_20 : decode cX3_weeks 20 = .ok (.iconst 1, 1) := dk_4 (dk_at dksX3_weeks_0 20 rfl rfl)
theorem dX3_weeks_21 : decode cX3_weeks 21 = .ok (.invokevirtual 186, 3) := dk_182 0 186 (dk_at dksX3_weeks_0 21 rfl rfl)
theorem dX3_weeks_24 : decode cX3_weeks 24 = .ok (.ireturn, 1) := dk_172 (dk_at dksX3_weeks_1 0 rfl rfl)
theorem dX3_weeks_25 : decode cX3_weeks 25 = .ok (.aload_n 0, 1) := dk_42 (dk_at dksX3_weeks_1 1 rfl rfl)
theorem dX3_weeks_26 : decode cX3_weeks 26 = .ok (.getfield 7, 3) := dk_180 0 7 (dk_at dksX3_weeks_1 2 rfl rfl)
theorem dX3_weeks_29 : decode cX3_weeks 29 = .ok (.aload_n 0, 1) := dk_42 (dk_at dksX3_weeks_1 5 rfl rfl)
theorem dX3_weeks_30 : decode cX3_weeks 30 = .ok (.getfield 16, 3) := dk_180 0 16 (dk_at dksX3_weeks_1 6 rfl rfl)
theorem dX3_weeks_33 : decode cX3_weeks 33 = .ok (.invokestatic 192, 3) := dk_184 0 192 (dk_at dksX3_weeks_1 9 rfl rfl)
theorem dX3_weeks_36 : decode cX3_weeks 36 = .ok (.aload_n 0, 1) := dk_42 (dk_at dksX3_weeks_1 12 rfl rfl)
theorem dX3_weeks_37 : decode cX3_weeks 37 = .ok (.getfield 7, 3) := dk_180 0 7 (dk_at dksX3_weeks_1 13 rfl rfl)
theorem dX3_weeks_40 : decode cX3_weeks 40 = .ok (.sipush 233, 3) := dk_17 0 233 (dk_at dksX3_weeks_1 16 rfl rfl)
theorem dX3_weeks_43 : decode cX3_weeks 43 = .ok (.iaload, 1) := dk_46 (dk_at dksX3_weeks_1 19 rfl rfl)
theorem dX3_weeks_44 : decode cX3_weeks 44 = .ok (.istore_n 3, 1) := dk_62 (dk_at dksX3_weeks_1 20 rfl rfl)
theorem dX3_weeks_45 : decode cX3_weeks 45 = .ok (.aload_n 0, 1) := dk_42 (dk_at dksX3_weeks_1 21 rfl rfl)
theorem dX3_weeks_46 : decode cX3_weeks 46 = .ok (.getfield 7, 3) := dk_180 0 7 (dk_at dksX3_weeks_2 0 rfl rfl)
theorem dX3_weeks_49 : decode cX3_weeks 49 = .ok (.sipush 298, 3) := dk_17 1 42 (dk_at dksX3_weeks_2 3 rfl rfl)
theorem dX3_weeks_52 : decode cX3_weeks 52 = .ok (.iaload, 1) := dk_46 (dk_at dksX3_weeks_2 6 rfl rfl)
theorem dX3_weeks_53 : decode cX3_weeks 53 = .ok (.istore 4, 2) := dk_54 4 (dk_at dksX3_weeks_2 7 rfl rfl)
theorem dX3_weeks_55 : decode cX3_weeks 55 = .ok (.aload_n 0, 1) := dk_42 (dk_at dksX3_weeks_2 9 rfl rfl)
theorem dX3_weeks_56 : decode cX3_weeks 56 = .ok (.invokevirtual 322, 3) := dk_182 1 66 (dk_at dksX3_weeks_2 10 rfl rfl)
theorem dX3_weeks_59 : decode cX3_weeks 59 = .ok (.istore 5, 2) := dk_54 5 (dk_at dksX3_weeks_2 13 rfl rfl)
theorem dX3_weeks_61 : decode cX3_weeks 61 = .ok (.iconst 0, 1) := dk_3 (dk_at dksX3_weeks_2 15 rfl rfl)
theorem dX3_weeks_62 : decode cX3_weeks 62 = .ok (.istore 6, 2) := dk_54 6 (dk_at dksX3_weeks_2 16 rfl rfl)
theorem dX3_weeks_64 : decode cX3_weeks 64 = .ok (.iload 6, 2) := dk_21 6 (dk_at dksX3_weeks_2 18 rfl rfl)
theorem dX3_weeks_66 : decode cX3_weeks 66 = .ok (.iload_n 1, 1) := dk_27 (dk_at dksX3_weeks_2 20 rfl rfl)
theorem dX3_weeks_67 : decode cX3_weeks 67 = .ok (.if_icmp .ge 13, 3) := dk_162 0 13 (dk_at dksX3_weeks_2 21 rfl rfl)
theorem dX3_weeks_70 : decode cX3_weeks 70 = .ok (.aload_n 0, 1) := dk_42 (dk_at dksX3_weeks_3 0 rfl rfl)
theorem dX3_weeks_71 : decode cX3_weeks 71 = .ok (.invokevirtual 331, 3) := dk_182 1 75 (dk_at dksX3_weeks_3 1 rfl rfl)
theorem dX3_weeks_74 : decode cX3_weeks 74 = .ok (.iinc 6 1, 3) := dk_132 6 1 (dk_at dksX3_weeks_3 4 rfl rfl)
theorem dX3_weeks_77 : decode cX3_weeks 77 = .ok (.goto (-13), 3) := dk_167 255 243 (dk_at dksX3_weeks_3 7 rfl rfl)
theorem dX3_weeks_80 : decode cX3_weeks 80 = .ok (.iload_n 2, 1) := dk_28 (dk_at dksX3_weeks_3 10 rfl rfl)
theorem dX3_weeks_81 : decode cX3_weeks 81 = .ok (.ifCond .ne 16, 3) := dk_154 0 16 (dk_at dksX3_weeks_3 11 rfl rfl)
theorem dX3_weeks_84 : decode cX3_weeks 84 = .ok (.aload_n 0, 1) := dk_42 (dk_at dksX3_weeks_3 14 rfl rfl)
theorem dX3_weeks_85 : decode cX3_weeks 85 = .ok (.getfield 7, 3) := dk_180 0 7 (dk_at dksX3_weeks_3 15 rfl rfl)
theorem dX3_weeks_88 : decode cX3_weeks 88 = .ok (.sipush 233, 3) := dk_17 0 233 (dk_at dksX3_weeks_3 18 rfl rfl)
theorem dX3_weeks_91 : decode cX3_weeks 91 = .ok (.iaload, 1) := dk_46 (dk_at dksX3_weeks_3 21 rfl rfl)
theorem dX3_weeks_92 : decode cX3_weeks 92 = .ok (.iload_n 3, 1) := dk_29 (dk_at dksX3_weeks_3 22 rfl rfl)
theorem dX3_weeks_93 : decode cX3_weeks 93 = .ok (.isub, 1) := dk_100 (dk_at dksX3_weeks_3 23 rfl rfl)
theorem dX3_weeks_94 : decode cX3_weeks 94 = .ok (.goto 65, 3) := dk_167 0 65 (dk_at dksX3_weeks_4 0 rfl rfl)
theorem dX3_weeks_97 : decode cX3_weeks 97 = .ok (.iload_n 2, 1) := dk_28 (dk_at dksX3_weeks_4 3 rfl rfl)
theorem dX3_weeks_98 : decode cX3_weeks 98 = .ok (.iconst 1, 1) := dk_4 (dk_at dksX3_weeks_4 4 rfl rfl)
theorem dX3_weeks_99 : decode cX3_weeks 99 = .ok (.if_icmp .ne 17, 3) := dk_160 0 17 (dk_at dksX3_weeks_4 5 rfl rfl)
theorem dX3_weeks_102 : decode cX3_weeks 102 = .ok (.aload_n 0, 1) := dk_42 (dk_at dksX3_weeks_4 8 rfl rfl)
theorem dX3_weeks_103 : decode cX3_weeks 103 = .ok (.getfield 7, 3) := dk_180 0 7 (dk_at dksX3_weeks_4 9 rfl rfl)
theorem dX3_weeks_106 : decode cX3_weeks 106 = .ok (.sipush 298, 3) := dk_17 1 42 (dk_at dksX3_weeks_4 12 rfl rfl)
theorem dX3_weeks_109 : decode cX3_weeks 109 = .ok (.iaload, 1) := dk_46 (dk_at dksX3_weeks_4 15 rfl rfl)
theorem dX3_weeks_110 : decode cX3_weeks 110 = .ok (.iload 4, 2) := dk_21 4 (dk_at dksX3_weeks_4 16 rfl rfl)
theorem dX3_weeks_112 : decode cX3_weeks 112 = .ok (.isub, 1) := dk_100 (dk_at dksX3_weeks_4 18 rfl rfl)
theorem dX3_weeks_113 : decode cX3_weeks 113 = .ok (.goto 46, 3) := dk_167 0 46 (dk_at dksX3_weeks_4 19 rfl rfl)
theorem dX3_weeks_116 : decode cX3_weeks 116 = .ok (.iload_n 2, 1) := dk_28 (dk_at dksX3_weeks_4 22 rfl rfl)
theorem dX3_weeks_117 : decode cX3_weeks 117 = .ok (.iconst 2, 1) := dk_5 (dk_at dksX3_weeks_4 23 rfl rfl)
theorem dX3_weeks_118 : decode cX3_weeks 118 = .ok (.if_icmp .ne 10, 3) := dk_160 0 10 (dk_at dksX3_weeks_5 0 rfl rfl)
theorem dX3_weeks_121 : decode cX3_weeks 121 = .ok (.aload_n 0, 1) := dk_42 (dk_at dksX3_weeks_5 3 rfl rfl)
theorem dX3_weeks_122 : decode cX3_weeks 122 = .ok (.invokevirtual 228, 3) := dk_182 0 228 (dk_at dksX3_weeks_5 4 rfl rfl)
theorem dX3_weeks_125 : decode cX3_weeks 125 = .ok (.goto 34, 3) := dk_167 0 34 (dk_at dksX3_weeks_5 7 rfl rfl)
theorem dX3_weeks_128 : decode cX3_weeks 128 = .ok (.iload_n 2, 1) := dk_28 (dk_at dksX3_weeks_5 10 rfl rfl)
theorem dX3_weeks_129 : decode cX3_weeks 129 = .ok (.iconst 3, 1) := dk_6 (dk_at dksX3_weeks_5 11 rfl rfl)
theorem dX3_weeks_130 : decode cX3_weeks 130 = .ok (.if_icmp .ne 10, 3) := dk_160 0 10 (dk_at dksX3_weeks_5 12 rfl rfl)
theorem dX3_weeks_133 : decode cX3_weeks 133 = .ok (.aload_n 0, 1) := dk_42 (dk_at dksX3_weeks_5 15 rfl rfl)
theorem dX3_weeks_134 : decode cX3_weeks 134 = .ok (.invokevirtual 231, 3) := dk_182 0 231 (dk_at dksX3_weeks_5 16 rfl rfl)
theorem dX3_weeks_137 : decode cX3_weeks 137 = .ok (.goto 22, 3) := dk_167 0 22 (dk_at dksX3_weeks_5 19 rfl rfl)
theorem dX3_weeks_140 : decode cX3_weeks 140 = .ok (.iload_n 2, 1) := dk_28 (dk_at dksX3_weeks_5 22 rfl rfl)
theorem dX3_weeks_141 : decode cX3_weeks 141 = .ok (.iconst 4, 1) := dk_7 (dk_at dksX3_weeks_5 23 rfl rfl)
theorem dX3_weeks_142 : decode cX3_weeks 142 = .ok (.if_icmp .ne 10, 3) := dk_160 0 10 (dk_at dksX3_weeks_6 0 rfl rfl)
theorem dX3_weeks_145 : decode cX3_weeks 145 = .ok (.aload_n 0, 1) := dk_42 (dk_at dksX3_weeks_6 3 rfl rfl)
theorem dX3_weeks_146 : decode cX3_weeks 146 = .ok (.invokevirtual 319, 3) := dk_182 1 63 (dk_at dksX3_weeks_6 4 rfl rfl)
theorem dX3_weeks_149 : decode cX3_weeks 149 = .ok (.goto 10, 3) := dk_167 0 10 (dk_at dksX3_weeks_6 7 rfl rfl)
theorem dX3_weeks_152 : decode cX3_weeks 152 = .ok (.aload_n 0, 1) := dk_42 (dk_at dksX3_weeks_6 10 rfl rfl)
theorem dX3_weeks_153 : decode cX3_weeks 153 = .ok (.invokevirtual 322, 3) := dk_182 1 66 (dk_at dksX3_weeks_6 11 rfl rfl)
theorem dX3_weeks_156 : decode cX3_weeks 156 = .ok (.iload 5, 2) := dk_21 5 (dk_at dksX3_weeks_6 14 rfl rfl)
theorem dX3_weeks_158 : decode cX3_weeks 158 = .ok (.isub, 1) := dk_100 (dk_at dksX3_weeks_6 16 rfl rfl)
theorem dX3_weeks_159 : decode cX3_weeks 159 = .ok (.istore 6, 2) := dk_54 6 (dk_at dksX3_weeks_6 17 rfl rfl)
theorem dX3_weeks_161 : decode cX3_weeks 161 = .ok (.aload_n 0, 1) := dk_42 (dk_at dksX3_weeks_6 19 rfl rfl)
theorem dX3_weeks_162 : decode cX3_weeks 162 = .ok (.getfield 16, 3) := dk_180 0 16 (dk_at dksX3_weeks_6 20 rfl rfl)
theorem dX3_weeks_165 : decode cX3_weeks 165 = .ok (.aload_n 0, 1) := dk_42 (dk_at dksX3_weeks_6 23 rfl rfl)
theorem dX3_weeks_166 : decode cX3_weeks 166 = .ok (.getfield 7, 3) := dk_180 0 7 (dk_at dksX3_weeks_7 0 rfl rfl)
theorem dX3_weeks_169 : decode cX3_weeks 169 = .ok (.invokestatic 192, 3) := dk_184 0 192 (dk_at dksX3_weeks_7 3 rfl rfl)
theorem dX3_weeks_172 : decode cX3_weeks 172 = .ok (.aload_n 0, 1) := dk_42 (dk_at dksX3_weeks_7 6 rfl rfl)
theorem dX3_weeks_173 : decode cX3_weeks 173 = .ok (.iload 6, 2) := dk_21 6 (dk_at dksX3_weeks_7 7 rfl rfl)
theorem dX3_weeks_175 : decode cX3_weeks 175 = .ok (.invokevirtual 199, 3) := dk_182 0 199 (dk_at dksX3_weeks_7 9 rfl rfl)
theorem dX3_weeks_178 : decode cX3_weeks 178 = .ok (.ireturn, 1) := dk_172 (dk_at dksX3_weeks_7 12 rfl rfl)
abbrev cX3_oneMore : ByteArray := prog_15_method_91_code
def yX3_oneMore : MethodName := ⟨RX3, "oneMore", "()V"⟩
def dkwX3_oneMore_1 : List UInt8 := [177]
abbrev dktX3_oneMore_1 : List UInt8 := dkwX3_oneMore_1 ++ []
def dkwX3_oneMore_0 : List UInt8 := [42, 182, 1, 69, 87, 42, 180, 0, 7, 17, 0, 232, 46, 17, 3, 231, 162, 0, 8, 42, 182, 1, 72, 87]
abbrev dktX3_oneMore_0 : List UInt8 := dkwX3_oneMore_0 ++ dktX3_oneMore_1
theorem dksX3_oneMore_0 : cX3_oneMore.data.toList.drop 0 = dktX3_oneMore_0 := by decide +kernel
theorem dksX3_oneMore_1 : cX3_oneMore.data.toList.drop 24 = dktX3_oneMore_1 := dk_seg dksX3_oneMore_0 24 rfl rfl
theorem dX3_oneMore_0 : decode cX3_oneMore 0 = .ok (.aload_n 0, 1) := dk_42 (dk_at dksX3_oneMore_0 0 rfl rfl)
theorem dX3_oneMore_1 : decode cX3_oneMore 1 = .ok (.invokevirtual 325, 3) := dk_182 1 69 (dk_at dksX3_oneMore_0 1 rfl rfl)
theorem dX3_oneMore_4 : decode cX3_oneMore 4 = .ok (.pop, 1) := dk_87 (dk_at dksX3_oneMore_0 4 rfl rfl)
theorem dX3_oneMore_5 : decode cX3_oneMore 5 = .ok (.aload_n 0, 1) := dk_42 (dk_at dksX3_oneMore_0 5 rfl rfl)
theorem dX3_oneMore_6 : decode cX3_oneMore 6 = .ok (.getfield 7, 3) := dk_180 0 7 (dk_at dksX3_oneMore_0 6 rfl rfl)
theorem dX3_oneMore_9 : decode cX3_oneMore 9 = .ok (.sipush 232, 3) := dk_17 0 232 (dk_at dksX3_oneMore_0 9 rfl rfl)
theorem dX3_oneMore_12 : decode cX3_oneMore 12 = .ok (.iaload, 1) := dk_46 (dk_at dksX3_oneMore_0 12 rfl rfl)
theorem dX3_oneMore_13 : decode cX3_oneMore 13 = .ok (.sipush 999, 3) := dk_17 3 231 (dk_at dksX3_oneMore_0 13 rfl rfl)
theorem dX3_oneMore_16 : decode cX3_oneMore 16 = .ok (.if_icmp .ge 8, 3) := dk_162 0 8 (dk_at dksX3_oneMore_0 16 rfl rfl)
theorem dX3_oneMore_19 : decode cX3_oneMore 19 = .ok (.aload_n 0, 1) := dk_42 (dk_at dksX3_oneMore_0 19 rfl rfl)
theorem dX3_oneMore_20 : decode cX3_oneMore 20 = .ok (.invokevirtual 328, 3) := dk_182 1 72 (dk_at dksX3_oneMore_0 20 rfl rfl)
theorem dX3_oneMore_23 : decode cX3_oneMore 23 = .ok (.pop, 1) := dk_87 (dk_at dksX3_oneMore_0 23 rfl rfl)
theorem dX3_oneMore_24 : decode cX3_oneMore 24 = .ok (.return_, 1) := dk_177 (dk_at dksX3_oneMore_1 0 rfl rfl)
abbrev cX3_allBid : ByteArray := prog_15_method_84_code
def yX3_allBid : MethodName := ⟨RX3, "allBid", "()I"⟩
def dkwX3_allBid_1 : List UInt8 := [132, 2, 1, 167, 255, 233, 27, 172]
abbrev dktX3_allBid_1 : List UInt8 := dkwX3_allBid_1 ++ []
def dkwX3_allBid_0 : List UInt8 := [3, 60, 3, 61, 28, 42, 180, 0, 7, 17, 0, 231, 46, 162, 0, 17, 27, 42, 28, 182, 1, 60, 96, 60]
abbrev dktX3_allBid_0 : List UInt8 := dkwX3_allBid_0 ++ dktX3_allBid_1
theorem dksX3_allBid_0 : cX3_allBid.data.toList.drop 0 = dktX3_allBid_0 := by decide +kernel
theorem dksX3_allBid_1 : cX3_allBid.data.toList.drop 24 = dktX3_allBid_1 := dk_seg dksX3_allBid_0 24 rfl rfl
theorem dX3_allBid_0 : decode cX3_allBid 0 = .ok (.iconst 0, 1) := dk_3 (dk_at dksX3_allBid_0 0 rfl rfl)
theorem dX3_allBid_1 : decode cX3_allBid 1 = .ok (.istore_n 1, 1) := dk_60 (dk_at dksX3_allBid_0 1 rfl rfl)
theorem dX3_allBid_2 : decode cX3_allBid 2 = .ok (.iconst 0, 1) := dk_3 (dk_at dksX3_allBid_0 2 rfl rfl)
theorem dX3_allBid_3 : decode cX3_allBid 3 = .ok (.istore_n 2, 1) := dk_61 (dk_at dksX3_allBid_0 3 rfl rfl)
theorem dX3_allBid_4 : decode cX3_allBid 4 = .ok (.iload_n 2, 1) := dk_28 (dk_at dksX3_allBid_0 4 rfl rfl)
theorem dX3_allBid_5 : decode cX3_allBid 5 = .ok (.aload_n 0, 1) := dk_42 (dk_at dksX3_allBid_0 5 rfl rfl)
theorem dX3_allBid_6 : decode cX3_allBid 6 = .ok (.getfield 7, 3) := dk_180 0 7 (dk_at dksX3_allBid_0 6 rfl rfl)
theorem dX3_allBid_9 : decode cX3_allBid 9 = .ok (.sipush 231, 3) := dk_17 0 231 (dk_at dksX3_allBid_0 9 rfl rfl)
theorem dX3_allBid_12 : decode cX3_allBid 12 = .ok (.iaload, 1) := dk_46 (dk_at dksX3_allBid_0 12 rfl rfl)
theorem dX3_allBid_13 : decode cX3_allBid 13 = .ok (.if_icmp .ge 17, 3) := dk_162 0 17 (dk_at dksX3_allBid_0 13 rfl rfl)
theorem dX3_allBid_16 : decode cX3_allBid 16 = .ok (.iload_n 1, 1) := dk_27 (dk_at dksX3_allBid_0 16 rfl rfl)
theorem dX3_allBid_17 : decode cX3_allBid 17 = .ok (.aload_n 0, 1) := dk_42 (dk_at dksX3_allBid_0 17 rfl rfl)
theorem dX3_allBid_18 : decode cX3_allBid 18 = .ok (.iload_n 2, 1) := dk_28 (dk_at dksX3_allBid_0 18 rfl rfl)
theorem dX3_allBid_19 : decode cX3_allBid 19 = .ok (.invokevirtual 316, 3) := dk_182 1 60 (dk_at dksX3_allBid_0 19 rfl rfl)
theorem dX3_allBid_22 : decode cX3_allBid 22 = .ok (.iadd, 1) := dk_96 (dk_at dksX3_allBid_0 22 rfl rfl)
theorem dX3_allBid_23 : decode cX3_allBid 23 = .ok (.istore_n 1, 1) := dk_60 (dk_at dksX3_allBid_0 23 rfl rfl)
theorem dX3_allBid_24 : decode cX3_allBid 24 = .ok (.iinc 2 1, 3) := dk_132 2 1 (dk_at dksX3_allBid_1 0 rfl rfl)
theorem dX3_allBid_27 : decode cX3_allBid 27 = .ok (.goto (-23), 3) := dk_167 255 233 (dk_at dksX3_allBid_1 3 rfl rfl)
theorem dX3_allBid_30 : decode cX3_allBid 30 = .ok (.iload_n 1, 1) := dk_27 (dk_at dksX3_allBid_1 6 rfl rfl)
theorem dX3_allBid_31 : decode cX3_allBid 31 = .ok (.ireturn, 1) := dk_172 (dk_at dksX3_allBid_1 7 rfl rfl)
abbrev cX3_bidsBy : ByteArray := prog_15_method_83_code
def yX3_bidsBy : MethodName := ⟨RX3, "bidsBy", "(I)I"⟩
def dkwX3_bidsBy_4 : List UInt8 := [128, 182, 1, 33, 132, 2, 1, 132, 4, 1, 167, 255, 185, 28, 172]
abbrev dktX3_bidsBy_4 : List UInt8 := dkwX3_bidsBy_4 ++ []
def dkwX3_bidsBy_3 : List UInt8 := [182, 1, 0, 153, 0, 6, 167, 0, 25, 42, 27, 16, 10, 42, 27, 16, 10, 182, 0, 205, 4, 21, 5, 120]
abbrev dktX3_bidsBy_3 : List UInt8 := dkwX3_bidsBy_3 ++ dktX3_bidsBy_4
def dkwX3_bidsBy_2 : List UInt8 := [154, 0, 8, 21, 4, 167, 0, 13, 42, 27, 16, 12, 21, 4, 96, 182, 0, 205, 54, 5, 42, 27, 21, 5]
abbrev dktX3_bidsBy_2 : List UInt8 := dkwX3_bidsBy_2 ++ dktX3_bidsBy_3
def dkwX3_bidsBy_1 : List UInt8 := [27, 16, 11, 182, 0, 205, 62, 3, 54, 4, 21, 4, 29, 162, 0, 71, 42, 27, 16, 11, 182, 0, 205]
abbrev dktX3_bidsBy_1 : List UInt8 := dkwX3_bidsBy_1 ++ dktX3_bidsBy_2
def dkwX3_bidsBy_0 : List UInt8 := [3, 61, 42, 27, 16, 11, 182, 0, 205, 154, 0, 14, 42, 180, 0, 7, 17, 0, 230, 46, 167, 0, 10, 42]
abbrev dktX3_bidsBy_0 : List UInt8 := dkwX3_bidsBy_0 ++ dktX3_bidsBy_1
theorem dksX3_bidsBy_0 : cX3_bidsBy.data.toList.drop 0 = dktX3_bidsBy_0 := by decide +kernel
theorem dksX3_bidsBy_1 : cX3_bidsBy.data.toList.drop 24 = dktX3_bidsBy_1 := dk_seg dksX3_bidsBy_0 24 rfl rfl
theorem dksX3_bidsBy_2 : cX3_bidsBy.data.toList.drop 47 = dktX3_bidsBy_2 := dk_seg dksX3_bidsBy_1 23 rfl rfl
theorem dksX3_bidsBy_3 : cX3_bidsBy.data.toList.drop 71 = dktX3_bidsBy_3 := dk_seg dksX3_bidsBy_2 24 rfl rfl
theorem dksX3_bidsBy_4 : cX3_bidsBy.data.toList.drop 95 = dktX3_bidsBy_4 := dk_seg dksX3_bidsBy_3 24 rfl rfl
theorem dX3_bidsBy_0 : decode cX3_bidsBy 0 = .ok (.iconst 0, 1) := dk_3 (dk_at dksX3_bidsBy_0 0 rfl rfl)
theorem dX3_bidsBy_1 : decode cX3_bidsBy 1 = .ok (.istore_n 2, 1) := dk_61 (dk_at dksX3_bidsBy_0 1 rfl rfl)
theorem dX3_bidsBy_2 : decode cX3_bidsBy 2 = .ok (.aload_n 0, 1) := dk_42 (dk_at dksX3_bidsBy_0 2 rfl rfl)
theorem dX3_bidsBy_3 : decode cX3_bidsBy 3 = .ok (.iload_n 1, 1) := dk_27 (dk_at dksX3_bidsBy_0 3 rfl rfl)
theorem dX3_bidsBy_4 : decode cX3_bidsBy 4 = .ok (.bipush 11, 2) := dk_16 11 (dk_at dksX3_bidsBy_0 4 rfl rfl)
theorem dX3_bidsBy_6 : decode cX3_bidsBy 6 = .ok (.invokevirtual 205, 3) := dk_182 0 205 (dk_at dksX3_bidsBy_0 6 rfl rfl)
theorem dX3_bidsBy_9 : decode cX3_bidsBy 9 = .ok (.ifCond .ne 14, 3) := dk_154 0 14 (dk_at dksX3_bidsBy_0 9 rfl rfl)
theorem dX3_bidsBy_12 : decode cX3_bidsBy 12 = .ok (.aload_n 0, 1) := dk_42 (dk_at dksX3_bidsBy_0 12 rfl rfl)
theorem dX3_bidsBy_13 : decode cX3_bidsBy 13 = .ok (.getfield 7, 3) := dk_180 0 7 (dk_at dksX3_bidsBy_0 13 rfl rfl)
theorem dX3_bidsBy_16 : decode cX3_bidsBy 16 = .ok (.sipush 230, 3) := dk_17 0 230 (dk_at dksX3_bidsBy_0 16 rfl rfl)
theorem dX3_bidsBy_19 : decode cX3_bidsBy 19 = .ok (.iaload, 1) := dk_46 (dk_at dksX3_bidsBy_0 19 rfl rfl)
theorem dX3_bidsBy_20 : decode cX3_bidsBy 20 = .ok (.goto 10, 3) := dk_167 0 10 (dk_at dksX3_bidsBy_0 20 rfl rfl)
theorem dX3_bidsBy_23 : decode cX3_bidsBy 23 = .ok (.aload_n 0, 1) := dk_42 (dk_at dksX3_bidsBy_0 23 rfl rfl)
theorem dX3_bidsBy_24 : decode cX3_bidsBy 24 = .ok (.iload_n 1, 1) := dk_27 (dk_at dksX3_bidsBy_1 0 rfl rfl)
theorem dX3_bidsBy_25 : decode cX3_bidsBy 25 = .ok (.bipush 11, 2) := dk_16 11 (dk_at dksX3_bidsBy_1 1 rfl rfl)
theorem dX3_bidsBy_27 : decode cX3_bidsBy 27 = .ok (.invokevirtual 205, 3) := dk_182 0 205 (dk_at dksX3_bidsBy_1 3 rfl rfl)
theorem dX3_bidsBy_30 : decode cX3_bidsBy 30 = .ok (.istore_n 3, 1) := dk_62 (dk_at dksX3_bidsBy_1 6 rfl rfl)
theorem dX3_bidsBy_31 : decode cX3_bidsBy 31 = .ok (.iconst 0, 1) := dk_3 (dk_at dksX3_bidsBy_1 7 rfl rfl)
theorem dX3_bidsBy_32 : decode cX3_bidsBy 32 = .ok (.istore 4, 2) := dk_54 4 (dk_at dksX3_bidsBy_1 8 rfl rfl)
theorem dX3_bidsBy_34 : decode cX3_bidsBy 34 = .ok (.iload 4, 2) := dk_21 4 (dk_at dksX3_bidsBy_1 10 rfl rfl)
theorem dX3_bidsBy_36 : decode cX3_bidsBy 36 = .ok (.iload_n 3, 1) := dk_29 (dk_at dksX3_bidsBy_1 12 rfl rfl)
theorem dX3_bidsBy_37 : decode cX3_bidsBy 37 = .ok (.if_icmp .ge 71, 3) := dk_162 0 71 (dk_at dksX3_bidsBy_1 13 rfl rfl)
theorem dX3_bidsBy_40 : decode cX3_bidsBy 40 = .ok (.aload_n 0, 1) := dk_42 (dk_at dksX3_bidsBy_1 16 rfl rfl)
theorem dX3_bidsBy_41 : decode cX3_bidsBy 41 = .ok (.iload_n 1, 1) := dk_27 (dk_at dksX3_bidsBy_1 17 rfl rfl)
theorem dX3_bidsBy_42 : decode cX3_bidsBy 42 = .ok (.bipush 11, 2) := dk_16 11 (dk_at dksX3_bidsBy_1 18 rfl rfl)
theorem dX3_bidsBy_44 : decode cX3_bidsBy 44 = .ok (.invokevirtual 205, 3) := dk_182 0 205 (dk_at dksX3_bidsBy_1 20 rfl rfl)
theorem dX3_bidsBy_47 : decode cX3_bidsBy 47 = .ok (.ifCond .ne 8, 3) := dk_154 0 8 (dk_at dksX3_bidsBy_2 0 rfl rfl)
theorem dX3_bidsBy_50 : decode cX3_bidsBy 50 = .ok (.iload 4, 2) := dk_21 4 (dk_at dksX3_bidsBy_2 3 rfl rfl)
theorem dX3_bidsBy_52 : decode cX3_bidsBy 52 = .ok (.goto 13, 3) := dk_167 0 13 (dk_at dksX3_bidsBy_2 5 rfl rfl)
theorem dX3_bidsBy_55 : decode cX3_bidsBy 55 = .ok (.aload_n 0, 1) := dk_42 (dk_at dksX3_bidsBy_2 8 rfl rfl)
theorem dX3_bidsBy_56 : decode cX3_bidsBy 56 = .ok (.iload_n 1, 1) := dk_27 (dk_at dksX3_bidsBy_2 9 rfl rfl)
theorem dX3_bidsBy_57 : decode cX3_bidsBy 57 = .ok (.bipush 12, 2) := dk_16 12 (dk_at dksX3_bidsBy_2 10 rfl rfl)
theorem dX3_bidsBy_59 : decode cX3_bidsBy 59 = .ok (.iload 4, 2) := dk_21 4 (dk_at dksX3_bidsBy_2 12 rfl rfl)
theorem dX3_bidsBy_61 : decode cX3_bidsBy 61 = .ok (.iadd, 1) := dk_96 (dk_at dksX3_bidsBy_2 14 rfl rfl)
theorem dX3_bidsBy_62 : decode cX3_bidsBy 62 = .ok (.invokevirtual 205, 3) := dk_182 0 205 (dk_at dksX3_bidsBy_2 15 rfl rfl)
theorem dX3_bidsBy_65 : decode cX3_bidsBy 65 = .ok (.istore 5, 2) := dk_54 5 (dk_at dksX3_bidsBy_2 18 rfl rfl)
theorem dX3_bidsBy_67 : decode cX3_bidsBy 67 = .ok (.aload_n 0, 1) := dk_42 (dk_at dksX3_bidsBy_2 20 rfl rfl)
theorem dX3_bidsBy_68 : decode cX3_bidsBy 68 = .ok (.iload_n 1, 1) := dk_27 (dk_at dksX3_bidsBy_2 21 rfl rfl)
theorem dX3_bidsBy_69 : decode cX3_bidsBy 69 = .ok (.iload 5, 2) := dk_21 5 (dk_at dksX3_bidsBy_2 22 rfl rfl)
theorem dX3_bidsBy_71 : decode cX3_bidsBy 71 = .ok (.invokevirtual 256, 3) := dk_182 1 0 (dk_at dksX3_bidsBy_3 0 rfl rfl)
theorem dX3_bidsBy_74 : decode cX3_bidsBy 74 = .ok (.ifCond .eq 6, 3) := dk_153 0 6 (dk_at dksX3_bidsBy_3 3 rfl rfl)
theorem dX3_bidsBy_77 : decode cX3_bidsBy 77 = .ok (.goto 25, 3) := dk_167 0 25 (dk_at dksX3_bidsBy_3 6 rfl rfl)
theorem dX3_bidsBy_80 : decode cX3_bidsBy 80 = .ok (.aload_n 0, 1) := dk_42 (dk_at dksX3_bidsBy_3 9 rfl rfl)
theorem dX3_bidsBy_81 : decode cX3_bidsBy 81 = .ok (.iload_n 1, 1) := dk_27 (dk_at dksX3_bidsBy_3 10 rfl rfl)
theorem dX3_bidsBy_82 : decode cX3_bidsBy 82 = .ok (.bipush 10, 2) := dk_16 10 (dk_at dksX3_bidsBy_3 11 rfl rfl)
theorem dX3_bidsBy_84 : decode cX3_bidsBy 84 = .ok (.aload_n 0, 1) := dk_42 (dk_at dksX3_bidsBy_3 13 rfl rfl)
theorem dX3_bidsBy_85 : decode cX3_bidsBy 85 = .ok (.iload_n 1, 1) := dk_27 (dk_at dksX3_bidsBy_3 14 rfl rfl)
theorem dX3_bidsBy_86 : decode cX3_bidsBy 86 = .ok (.bipush 10, 2) := dk_16 10 (dk_at dksX3_bidsBy_3 15 rfl rfl)
theorem dX3_bidsBy_88 : decode cX3_bidsBy 88 = .ok (.invokevirtual 205, 3) := dk_182 0 205 (dk_at dksX3_bidsBy_3 17 rfl rfl)
theorem dX3_bidsBy_91 : decode cX3_bidsBy 91 = .ok (.iconst 1, 1) := dk_4 (dk_at dksX3_bidsBy_3 20 rfl rfl)
theorem dX3_bidsBy_92 : decode cX3_bidsBy 92 = .ok (.iload 5, 2) := dk_21 5 (dk_at dksX3_bidsBy_3 21 rfl rfl)
theorem dX3_bidsBy_94 : decode cX3_bidsBy 94 = .ok (.ishl, 1) := dk_120 (dk_at dksX3_bidsBy_3 23 rfl rfl)
theorem dX3_bidsBy_95 : decode cX3_bidsBy 95 = .ok (.ior, 1) := dk_128 (dk_at dksX3_bidsBy_4 0 rfl rfl)
theorem dX3_bidsBy_96 : decode cX3_bidsBy 96 = .ok (.invokevirtual 289, 3) := dk_182 1 33 (dk_at dksX3_bidsBy_4 1 rfl rfl)
theorem dX3_bidsBy_99 : decode cX3_bidsBy 99 = .ok (.iinc 2 1, 3) := dk_132 2 1 (dk_at dksX3_bidsBy_4 4 rfl rfl)
theorem dX3_bidsBy_102 : decode cX3_bidsBy 102 = .ok (.iinc 4 1, 3) := dk_132 4 1 (dk_at dksX3_bidsBy_4 7 rfl rfl)
theorem dX3_bidsBy_105 : decode cX3_bidsBy 105 = .ok (.goto (-71), 3) := dk_167 255 185 (dk_at dksX3_bidsBy_4 10 rfl rfl)
theorem dX3_bidsBy_108 : decode cX3_bidsBy 108 = .ok (.iload_n 2, 1) := dk_28 (dk_at dksX3_bidsBy_4 13 rfl rfl)
theorem dX3_bidsBy_109 : decode cX3_bidsBy 109 = .ok (.ireturn, 1) := dk_172 (dk_at dksX3_bidsBy_4 14 rfl rfl)
abbrev cX3_puts : ByteArray := prog_15_method_75_code
def yX3_puts : MethodName := ⟨RX3, "puts", "(III)V"⟩
def dkwX3_puts_0 : List UInt8 := [42, 180, 0, 7, 27, 28, 184, 0, 75, 29, 79, 177]
abbrev dktX3_puts_0 : List UInt8 := dkwX3_puts_0 ++ []
theorem dksX3_puts_0 : cX3_puts.data.toList.drop 0 = dktX3_puts_0 := by decide +kernel
theorem dX3_puts_0 : decode cX3_puts 0 = .ok (.aload_n 0, 1) := dk_42 (dk_at dksX3_puts_0 0 rfl rfl)
theorem dX3_puts_1 : decode cX3_puts 1 = .ok (.getfield 7, 3) := dk_180 0 7 (dk_at dksX3_puts_0 1 rfl rfl)
theorem dX3_puts_4 : decode cX3_puts 4 = .ok (.iload_n 1, 1) := dk_27 (dk_at dksX3_puts_0 4 rfl rfl)
theorem dX3_puts_5 : decode cX3_puts 5 = .ok (.iload_n 2, 1) := dk_28 (dk_at dksX3_puts_0 5 rfl rfl)
theorem dX3_puts_6 : decode cX3_puts 6 = .ok (.invokestatic 75, 3) := dk_184 0 75 (dk_at dksX3_puts_0 6 rfl rfl)
theorem dX3_puts_9 : decode cX3_puts 9 = .ok (.iload_n 3, 1) := dk_29 (dk_at dksX3_puts_0 9 rfl rfl)
theorem dX3_puts_10 : decode cX3_puts 10 = .ok (.iastore, 1) := dk_79 (dk_at dksX3_puts_0 10 rfl rfl)
theorem dX3_puts_11 : decode cX3_puts 11 = .ok (.return_, 1) := dk_177 (dk_at dksX3_puts_0 11 rfl rfl)
abbrev cX3_weekEnds : ByteArray := prog_15_method_82_code
def yX3_weekEnds : MethodName := ⟨RX3, "weekEnds", "()I"⟩
def dkwX3_weekEnds_10 : List UInt8 := [180, 0, 7, 17, 0, 233, 46, 27, 100, 172]
abbrev dktX3_weekEnds_10 : List UInt8 := dkwX3_weekEnds_10 ++ []
def dkwX3_weekEnds_9 : List UInt8 := [182, 1, 33, 132, 3, 1, 167, 255, 195, 42, 180, 0, 7, 17, 0, 232, 92, 46, 4, 96, 79, 42]
abbrev dktX3_weekEnds_9 : List UInt8 := dkwX3_weekEnds_9 ++ dktX3_weekEnds_10
def dkwX3_weekEnds_8 : List UInt8 := [16, 6, 3, 42, 29, 16, 6, 182, 0, 205, 4, 100, 184, 0, 211, 182, 1, 33, 42, 29, 16, 7, 3]
abbrev dktX3_weekEnds_8 : List UInt8 := dkwX3_weekEnds_8 ++ dktX3_weekEnds_9
def dkwX3_weekEnds_7 : List UInt8 := [162, 0, 55, 42, 29, 16, 10, 3, 182, 1, 33, 42, 29, 16, 7, 182, 0, 205, 154, 0, 23, 42, 29]
abbrev dktX3_weekEnds_7 : List UInt8 := dkwX3_weekEnds_7 ++ dktX3_weekEnds_8
def dkwX3_weekEnds_6 : List UInt8 := [29, 6, 3, 182, 1, 37, 132, 3, 1, 167, 255, 234, 3, 62, 29, 42, 180, 0, 7, 17, 0, 231, 46]
abbrev dktX3_weekEnds_6 : List UInt8 := dkwX3_weekEnds_6 ++ dktX3_weekEnds_7
def dkwX3_weekEnds_5 : List UInt8 := [182, 1, 37, 132, 3, 1, 167, 255, 195, 3, 62, 29, 42, 180, 0, 7, 17, 0, 230, 46, 162, 0, 16, 42]
abbrev dktX3_weekEnds_5 : List UInt8 := dkwX3_weekEnds_5 ++ dktX3_weekEnds_6
def dkwX3_weekEnds_4 : List UInt8 := [29, 16, 7, 182, 0, 202, 42, 29, 5, 182, 0, 202, 2, 160, 0, 7, 4, 167, 0, 4, 3, 96]
abbrev dktX3_weekEnds_4 : List UInt8 := dkwX3_weekEnds_4 ++ dktX3_weekEnds_5
def dkwX3_weekEnds_3 : List UInt8 := [162, 0, 55, 28, 29, 122, 4, 126, 154, 0, 6, 167, 0, 38, 42, 29, 182, 1, 57, 42, 29, 16, 7, 42]
abbrev dktX3_weekEnds_3 : List UInt8 := dkwX3_weekEnds_3 ++ dktX3_weekEnds_4
def dkwX3_weekEnds_2 : List UInt8 := [167, 0, 4, 3, 128, 61, 132, 3, 1, 167, 255, 223, 3, 62, 29, 42, 180, 0, 7, 17, 0, 230, 46]
abbrev dktX3_weekEnds_2 : List UInt8 := dkwX3_weekEnds_2 ++ dktX3_weekEnds_3
def dkwX3_weekEnds_1 : List UInt8 := [180, 0, 7, 17, 0, 230, 46, 162, 0, 27, 28, 42, 29, 182, 0, 219, 153, 0, 9, 4, 29, 120]
abbrev dktX3_weekEnds_1 : List UInt8 := dkwX3_weekEnds_1 ++ dktX3_weekEnds_2
def dkwX3_weekEnds_0 : List UInt8 := [42, 180, 0, 7, 17, 0, 233, 46, 60, 3, 61, 42, 180, 0, 7, 17, 1, 43, 3, 79, 3, 62, 29, 42]
abbrev dktX3_weekEnds_0 : List UInt8 := dkwX3_weekEnds_0 ++ dktX3_weekEnds_1
theorem dksX3_weekEnds_0 : cX3_weekEnds.data.toList.drop 0 = dktX3_weekEnds_0 := by decide +kernel
theorem dksX3_weekEnds_1 : cX3_weekEnds.data.toList.drop 24 = dktX3_weekEnds_1 := dk_seg dksX3_weekEnds_0 24 rfl rfl
theorem dksX3_weekEnds_2 : cX3_weekEnds.data.toList.drop 46 = dktX3_weekEnds_2 := dk_seg dksX3_weekEnds_1 22 rfl rfl
theorem dksX3_weekEnds_3 : cX3_weekEnds.data.toList.drop 69 = dktX3_weekEnds_3 := dk_seg dksX3_weekEnds_2 23 rfl rfl
theorem dksX3_weekEnds_4 : cX3_weekEnds.data.toList.drop 93 = dktX3_weekEnds_4 := dk_seg dksX3_weekEnds_3 24 rfl rfl
theorem dksX3_weekEnds_5 : cX3_weekEnds.data.toList.drop 115 = dktX3_weekEnds_5 := dk_seg dksX3_weekEnds_4 22 rfl rfl
theorem dksX3_weekEnds_6 : cX3_weekEnds.data.toList.drop 139 = dktX3_weekEnds_6 := dk_seg dksX3_weekEnds_5 24 rfl rfl
theorem dksX3_weekEnds_7 : cX3_weekEnds.data.toList.drop 162 = dktX3_weekEnds_7 := dk_seg dksX3_weekEnds_6 23 rfl rfl
theorem dksX3_weekEnds_8 : cX3_weekEnds.data.toList.drop 185 = dktX3_weekEnds_8 := dk_seg dksX3_weekEnds_7 23 rfl rfl
theorem dksX3_weekEnds_9 : cX3_weekEnds.data.toList.drop 208 = dktX3_weekEnds_9 := dk_seg dksX3_weekEnds_8 23 rfl rfl
theorem dksX3_weekEnds_10 : cX3_weekEnds.data.toList.drop 230 = dktX3_weekEnds_10 := dk_seg dksX3_weekEnds_9 22 rfl rfl
theorem dX3_weekEnds_0 : decode cX3_weekEnds 0 = .ok (.aload_n 0, 1) := dk_42 (dk_at dksX3_weekEnds_0 0 rfl rfl)
theorem dX3_weekEnds_1 : decode cX3_weekEnds 1 = .ok (.getfield 7, 3) := dk_180 0 7 (dk_at dksX3_weekEnds_0 1 rfl rfl)
theorem dX3_weekEnds_4 : decode cX3_weekEnds 4 = .ok (.sipush 233, 3) := dk_17 0 233 (dk_at dksX3_weekEnds_0 4 rfl rfl)
theorem dX3_weekEnds_7 : decode cX3_weekEnds 7 = .ok (.iaload, 1) := dk_46 (dk_at dksX3_weekEnds_0 7 rfl rfl)
theorem dX3_weekEnds_8 : decode cX3_weekEnds 8 = .ok (.istore_n 1, 1) := dk_60 (dk_at dksX3_weekEnds_0 8 rfl rfl)
theorem dX3_weekEnds_9 : decode cX3_weekEnds 9 = .ok (.iconst 0, 1) := dk_3 (dk_at dksX3_weekEnds_0 9 rfl rfl)
theorem dX3_weekEnds_10 : decode cX3_weekEnds 10 = .ok (.istore_n 2, 1) := dk_61 (dk_at dksX3_weekEnds_0 10 rfl rfl)
theorem dX3_weekEnds_11 : decode cX3_weekEnds 11 = .ok (.aload_n 0, 1) := dk_42 (dk_at dksX3_weekEnds_0 11 rfl rfl)
theorem dX3_weekEnds_12 : decode cX3_weekEnds 12 = .ok (.getfield 7, 3) := dk_180 0 7 (dk_at dksX3_weekEnds_0 12 rfl rfl)
theorem dX3_weekEnds_15 : decode cX3_weekEnds 15 = .ok (.sipush 299, 3) := dk_17 1 43 (dk_at dksX3_weekEnds_0 15 rfl rfl)
theorem dX3_weekEnds_18 : decode cX3_weekEnds 18 = .ok (.iconst 0, 1) := dk_3 (dk_at dksX3_weekEnds_0 18 rfl rfl)
theorem dX3_weekEnds_19 : decode cX3_weekEnds 19 = .ok (.iastore, 1) := dk_79 (dk_at dksX3_weekEnds_0 19 rfl rfl)
theorem dX3_weekEnds_20 : decode cX3_weekEnds 20 = .ok (.iconst 0, 1) := dk_3 (dk_at dksX3_weekEnds_0 20 rfl rfl)
theorem dX3_weekEnds_21 : decode cX3_weekEnds 21 = .ok (.istore_n 3, 1) := dk_62 (dk_at dksX3_weekEnds_0 21 rfl rfl)
theorem dX3_weekEnds_22 : decode cX3_weekEnds 22 = .ok (.iload_n 3, 1) := dk_29 (dk_at dksX3_weekEnds_0 22 rfl rfl)
theorem dX3_weekEnds_23 : decode cX3_weekEnds 23 = .ok (.aload_n 0, 1) := dk_42 (dk_at dksX3_weekEnds_0 23 rfl rfl)
theorem dX3_weekEnds_24 : decode cX3_weekEnds 24 = .ok (.getfield 7, 3) := dk_180 0 7 (dk_at dksX3_weekEnds_1 0 rfl rfl)
theorem dX3_weekEnds_27 : decode cX3_weekEnds 27 = .ok (.sipush 230, 3) := dk_17 0 230 (dk_at dksX3_weekEnds_1 3 rfl rfl)
theorem dX3_weekEnds_30 : decode cX3_weekEnds 30 = .ok (.iaload, 1) := dk_46 (dk_at dksX3_weekEnds_1 6 rfl rfl)
theorem dX3_weekEnds_31 : decode cX3_weekEnds 31 = .ok (.if_icmp .ge 27, 3) := dk_162 0 27 (dk_at dksX3_weekEnds_1 7 rfl rfl)
theorem dX3_weekEnds_34 : decode cX3_weekEnds 34 = .ok (.iload_n 2, 1) := dk_28 (dk_at dksX3_weekEnds_1 10 rfl rfl)
theorem dX3_weekEnds_35 : decode cX3_weekEnds 35 = .ok (.aload_n 0, 1) := dk_42 (dk_at dksX3_weekEnds_1 11 rfl rfl)
theorem dX3_weekEnds_36 : decode cX3_weekEnds 36 = .ok (.iload_n 3, 1) := dk_29 (dk_at dksX3_weekEnds_1 12 rfl rfl)
theorem dX3_weekEnds_37 : decode cX3_weekEnds 37 = .ok (.invokevirtual 219, 3) := dk_182 0 219 (dk_at dksX3_weekEnds_1 13 rfl rfl)
theorem dX3_weekEnds_40 : decode cX3_weekEnds 40 = .ok (.ifCond .eq 9, 3) := dk_153 0 9 (dk_at dksX3_weekEnds_1 16 rfl rfl)
theorem dX3_weekEnds_43 : decode cX3_weekEnds 43 = .ok (.iconst 1, 1) := dk_4 (dk_at dksX3_weekEnds_1 19 rfl rfl)
theorem dX3_weekEnds_44 : decode cX3_weekEnds 44 = .ok (.iload_n 3, 1) := dk_29 (dk_at dksX3_weekEnds_1 20 rfl rfl)
theorem dX3_weekEnds_45 : decode cX3_weekEnds 45 = .ok (.ishl, 1) := dk_120 (dk_at dksX3_weekEnds_1 21 rfl rfl)
theorem dX3_weekEnds_46 : decode cX3_weekEnds 46 = .ok (.goto 4, 3) := dk_167 0 4 (dk_at dksX3_weekEnds_2 0 rfl rfl)
theorem dX3_weekEnds_49 : decode cX3_weekEnds 49 = .ok (.iconst 0, 1) := dk_3 (dk_at dksX3_weekEnds_2 3 rfl rfl)
theorem dX3_weekEnds_50 : decode cX3_weekEnds 50 = .ok (.ior, 1) := dk_128 (dk_at dksX3_weekEnds_2 4 rfl rfl)
theorem dX3_weekEnds_51 : decode cX3_weekEnds 51 = .ok (.istore_n 2, 1) := dk_61 (dk_at dksX3_weekEnds_2 5 rfl rfl)
theorem dX3_weekEnds_52 : decode cX3_weekEnds 52 = .ok (.iinc 3 1, 3) := dk_132 3 1 (dk_at dksX3_weekEnds_2 6 rfl rfl)
theorem dX3_weekEnds_55 : decode cX3_weekEnds 55 = .ok (.goto (-33), 3) := dk_167 255 223 (dk_at dksX3_weekEnds_2 9 rfl rfl)
theorem dX3_weekEnds_58 : decode cX3_weekEnds 58 = .ok (.iconst 0, 1) := dk_3 (dk_at dksX3_weekEnds_2 12 rfl rfl)
theorem dX3_weekEnds_59 : decode cX3_weekEnds 59 = .ok (.istore_n 3, 1) := dk_62 (dk_at dksX3_weekEnds_2 13 rfl rfl)
theorem dX3_weekEnds_60 : decode cX3_weekEnds 60 = .ok (.iload_n 3, 1) := dk_29 (dk_at dksX3_weekEnds_2 14 rfl rfl)
theorem dX3_weekEnds_61 : decode cX3_weekEnds 61 = .ok (.aload_n 0, 1) := dk_42 (dk_at dksX3_weekEnds_2 15 rfl rfl)
theorem dX3_weekEnds_62 : decode cX3_weekEnds 62 = .ok (.getfield 7, 3) := dk_180 0 7 (dk_at dksX3_weekEnds_2 16 rfl rfl)
theorem dX3_weekEnds_65 : decode cX3_weekEnds 65 = .ok (.sipush 230, 3) := dk_17 0 230 (dk_at dksX3_weekEnds_2 19 rfl rfl)
theorem dX3_weekEnds_68 : decode cX3_weekEnds 68 = .ok (.iaload, 1) := dk_46 (dk_at dksX3_weekEnds_2 22 rfl rfl)
theorem dX3_weekEnds_69 : decode cX3_weekEnds 69 = .ok (.if_icmp .ge 55, 3) := dk_162 0 55 (dk_at dksX3_weekEnds_3 0 rfl rfl)
theorem dX3_weekEnds_72 : decode cX3_weekEnds 72 = .ok (.iload_n 2, 1) := dk_28 (dk_at dksX3_weekEnds_3 3 rfl rfl)
theorem dX3_weekEnds_73 : decode cX3_weekEnds 73 = .ok (.iload_n 3, 1) := dk_29 (dk_at dksX3_weekEnds_3 4 rfl rfl)
theorem dX3_weekEnds_74 : decode cX3_weekEnds 74 = .ok (.ishr, 1) := dk_122 (dk_at dksX3_weekEnds_3 5 rfl rfl)
theorem dX3_weekEnds_75 : decode cX3_weekEnds 75 = .ok (.iconst 1, 1) := dk_4 (dk_at dksX3_weekEnds_3 6 rfl rfl)
theorem dX3_weekEnds_76 : decode cX3_weekEnds 76 = .ok (.iand, 1) := dk_126 (dk_at dksX3_weekEnds_3 7 rfl rfl)
theorem dX3_weekEnds_77 : decode cX3_weekEnds 77 = .ok (.ifCond .ne 6, 3) := dk_154 0 6 (dk_at dksX3_weekEnds_3 8 rfl rfl)
theorem dX3_weekEnds_80 : decode cX3_weekEnds 80 = .ok (.goto 38, 3) := dk_167 0 38 (dk_at dksX3_weekEnds_3 11 rfl rfl)
theorem dX3_weekEnds_83 : decode cX3_weekEnds 83 = .ok (.aload_n 0, 1) := dk_42 (dk_at dksX3_weekEnds_3 14 rfl rfl)
theorem dX3_weekEnds_84 : decode cX3_weekEnds 84 = .ok (.iload_n 3, 1) := dk_29 (dk_at dksX3_weekEnds_3 15 rfl rfl)
theorem dX3_weekEnds_85 : decode cX3_weekEnds 85 = .ok (.invokevirtual 313, 3) := dk_182 1 57 (dk_at dksX3_weekEnds_3 16 rfl rfl)
theorem dX3_weekEnds_88 : decode cX3_weekEnds 88 = .ok (.aload_n 0, 1) := dk_42 (dk_at dksX3_weekEnds_3 19 rfl rfl)
theorem dX3_weekEnds_89 : decode cX3_weekEnds 89 = .ok (.iload_n 3, 1) := dk_29 (dk_at dksX3_weekEnds_3 20 rfl rfl)
theorem dX3_weekEnds_90 : decode cX3_weekEnds 90 = .ok (.bipush 7, 2) := dk_16 7 (dk_at dksX3_weekEnds_3 21 rfl rfl)
theorem dX3_weekEnds_92 : decode cX3_weekEnds 92 = .ok (.aload_n 0, 1) := dk_42 (dk_at dksX3_weekEnds_3 23 rfl rfl)
theorem dX3_weekEnds_93 : decode cX3_weekEnds 93 = .ok (.iload_n 3, 1) := dk_29 (dk_at dksX3_weekEnds_4 0 rfl rfl)
theorem dX3_weekEnds_94 : decode cX3_weekEnds 94 = .ok (.bipush 7, 2) := dk_16 7 (dk_at dksX3_weekEnds_4 1 rfl rfl)
theorem dX3_weekEnds_96 : decode cX3_weekEnds 96 = .ok (.invokevirtual 202, 3) := dk_182 0 202 (dk_at dksX3_weekEnds_4 3 rfl rfl)
theorem dX3_weekEnds_99 : decode cX3_weekEnds 99 = .ok (.aload_n 0, 1) := dk_42 (dk_at dksX3_weekEnds_4 6 rfl rfl)
theorem dX3_weekEnds_100 : decode cX3_weekEnds 100 = .ok (.iload_n 3, 1) := dk_29 (dk_at dksX3_weekEnds_4 7 rfl rfl)
theorem dX3_weekEnds_101 : decode cX3_weekEnds 101 = .ok (.iconst 2, 1) := dk_5 (dk_at dksX3_weekEnds_4 8 rfl rfl)
theorem dX3_weekEnds_102 : decode cX3_weekEnds 102 = .ok (.invokevirtual 202, 3) := dk_182 0 202 (dk_at dksX3_weekEnds_4 9 rfl rfl)
theorem dX3_weekEnds_105 : decode cX3_weekEnds 105 = .ok (.iconst (-1), 1) := dk_2 (dk_at dksX3_weekEnds_4 12 rfl rfl)
theorem dX3_weekEnds_106 : decode cX3_weekEnds 106 = .ok (.if_icmp .ne 7, 3) := dk_160 0 7 (dk_at dksX3_weekEnds_4 13 rfl rfl)
theorem dX3_weekEnds_109 : decode cX3_weekEnds 109 = .ok (.iconst 1, 1) := dk_4 (dk_at dksX3_weekEnds_4 16 rfl rfl)
theorem dX3_weekEnds_110 : decode cX3_weekEnds 110 = .ok (.goto 4, 3) := dk_167 0 4 (dk_at dksX3_weekEnds_4 17 rfl rfl)
theorem dX3_weekEnds_113 : decode cX3_weekEnds 113 = .ok (.iconst 0, 1) := dk_3 (dk_at dksX3_weekEnds_4 20 rfl rfl)
theorem dX3_weekEnds_114 : decode cX3_weekEnds 114 = .ok (.iadd, 1) := dk_96 (dk_at dksX3_weekEnds_4 21 rfl rfl)
theorem dX3_weekEnds_115 : decode cX3_weekEnds 115 = .ok (.invokevirtual 293, 3) := dk_182 1 37 (dk_at dksX3_weekEnds_5 0 rfl rfl)
theorem dX3_weekEnds_118 : decode cX3_weekEnds 118 = .ok (.iinc 3 1, 3) := dk_132 3 1 (dk_at dksX3_weekEnds_5 3 rfl rfl)
theorem dX3_weekEnds_121 : decode cX3_weekEnds 121 = .ok (.goto (-61), 3) := dk_167 255 195 (dk_at dksX3_weekEnds_5 6 rfl rfl)
theorem dX3_weekEnds_124 : decode cX3_weekEnds 124 = .ok (.iconst 0, 1) := dk_3 (dk_at dksX3_weekEnds_5 9 rfl rfl)
theorem dX3_weekEnds_125 : decode cX3_weekEnds 125 = .ok (.istore_n 3, 1) := dk_62 (dk_at dksX3_weekEnds_5 10 rfl rfl)
theorem dX3_weekEnds_126 : decode cX3_weekEnds 126 = .ok (.iload_n 3, 1) := dk_29 (dk_at dksX3_weekEnds_5 11 rfl rfl)
theorem dX3_weekEnds_127 : decode cX3_weekEnds 127 = .ok (.aload_n 0, 1) := dk_42 (dk_at dksX3_weekEnds_5 12 rfl rfl)
theorem dX3_weekEnds_128 : decode cX3_weekEnds 128 = .ok (.getfield 7, 3) := dk_180 0 7 (dk_at dksX3_weekEnds_5 13 rfl rfl)
theorem dX3_weekEnds_131 : decode cX3_weekEnds 131 = .ok (.sipush 230, 3) := dk_17 0 230 (dk_at dksX3_weekEnds_5 16 rfl rfl)
theorem dX3_weekEnds_134 : decode cX3_weekEnds 134 = .ok (.iaload, 1) := dk_46 (dk_at dksX3_weekEnds_5 19 rfl rfl)
theorem dX3_weekEnds_135 : decode cX3_weekEnds 135 = .ok (.if_icmp .ge 16, 3) := dk_162 0 16 (dk_at dksX3_weekEnds_5 20 rfl rfl)
theorem dX3_weekEnds_138 : decode cX3_weekEnds 138 = .ok (.aload_n 0, 1) := dk_42 (dk_at dksX3_weekEnds_5 23 rfl rfl)
theorem dX3_weekEnds_139 : decode cX3_weekEnds 139 = .ok (.iload_n 3, 1) := dk_29 (dk_at dksX3_weekEnds_6 0 rfl rfl)
theorem dX3_weekEnds_140 : decode cX3_weekEnds 140 = .ok (.iconst 3, 1) := dk_6 (dk_at dksX3_weekEnds_6 1 rfl rfl)
theorem dX3_weekEnds_141 : decode cX3_weekEnds 141 = .ok (.iconst 0, 1) := dk_3 (dk_at dksX3_weekEnds_6 2 rfl rfl)
theorem dX3_weekEnds_142 : decode cX3_weekEnds 142 = .ok (.invokevirtual 293, 3) := dk_182 1 37 (dk_at dksX3_weekEnds_6 3 rfl rfl)
theorem dX3_weekEnds_145 : decode cX3_weekEnds 145 = .ok (.iinc 3 1, 3) := dk_132 3 1 (dk_at dksX3_weekEnds_6 6 rfl rfl)
theorem dX3_weekEnds_148 : decode cX3_weekEnds 148 = .ok (.goto (-22), 3) := dk_167 255 234 (dk_at dksX3_weekEnds_6 9 rfl rfl)
theorem dX3_weekEnds_151 : decode cX3_weekEnds 151 = .ok (.iconst 0, 1) := dk_3 (dk_at dksX3_weekEnds_6 12 rfl rfl)
theorem dX3_weekEnds_152 : decode cX3_weekEnds 152 = .ok (.istore_n 3, 1) := dk_62 (dk_at dksX3_weekEnds_6 13 rfl rfl)
theorem dX3_weekEnds_153 : decode cX3_weekEnds 153 = .ok (.iload_n 3, 1) := dk_29 (dk_at dksX3_weekEnds_6 14 rfl rfl)
theorem dX3_weekEnds_154 : decode cX3_weekEnds 154 = .ok (.aload_n 0, 1) := dk_42 (dk_at dksX3_weekEnds_6 15 rfl rfl)
theorem dX3_weekEnds_155 : decode cX3_weekEnds 155 = .ok (.getfield 7, 3) := dk_180 0 7 (dk_at dksX3_weekEnds_6 16 rfl rfl)
theorem dX3_weekEnds_158 : decode cX3_weekEnds 158 = .ok (.sipush 231, 3) := dk_17 0 231 (dk_at dksX3_weekEnds_6 19 rfl rfl)
theorem dX3_weekEnds_161 : decode cX3_weekEnds 161 = .ok (.iaload, 1) := dk_46 (dk_at dksX3_weekEnds_6 22 rfl rfl)
theorem dX3_weekEnds_162 : decode cX3_weekEnds 162 = .ok (.if_icmp .ge 55, 3) := dk_162 0 55 (dk_at dksX3_weekEnds_7 0 rfl rfl)
theorem dX3_weekEnds_165 : decode cX3_weekEnds 165 = .ok (.aload_n 0, 1) := dk_42 (dk_at dksX3_weekEnds_7 3 rfl rfl)
theorem dX3_weekEnds_166 : decode cX3_weekEnds 166 = .ok (.iload_n 3, 1) := dk_29 (dk_at dksX3_weekEnds_7 4 rfl rfl)
theorem dX3_weekEnds_167 : decode cX3_weekEnds 167 = .ok (.bipush 10, 2) := dk_16 10 (dk_at dksX3_weekEnds_7 5 rfl rfl)
theorem dX3_weekEnds_169 : decode cX3_weekEnds 169 = .ok (.iconst 0, 1) := dk_3 (dk_at dksX3_weekEnds_7 7 rfl rfl)
theorem dX3_weekEnds_170 : decode cX3_weekEnds 170 = .ok (.invokevirtual 289, 3) := dk_182 1 33 (dk_at dksX3_weekEnds_7 8 rfl rfl)
theorem dX3_weekEnds_173 : decode cX3_weekEnds 173 = .ok (.aload_n 0, 1) := dk_42 (dk_at dksX3_weekEnds_7 11 rfl rfl)
theorem dX3_weekEnds_174 : decode cX3_weekEnds 174 = .ok (.iload_n 3, 1) := dk_29 (dk_at dksX3_weekEnds_7 12 rfl rfl)
theorem dX3_weekEnds_175 : decode cX3_weekEnds 175 = .ok (.bipush 7, 2) := dk_16 7 (dk_at dksX3_weekEnds_7 13 rfl rfl)
theorem dX3_weekEnds_177 : decode cX3_weekEnds 177 = .ok (.invokevirtual 205, 3) := dk_182 0 205 (dk_at dksX3_weekEnds_7 15 rfl rfl)
theorem dX3_weekEnds_180 : decode cX3_weekEnds 180 = .ok (.ifCond .ne 23, 3) := dk_154 0 23 (dk_at dksX3_weekEnds_7 18 rfl rfl)
theorem dX3_weekEnds_183 : decode cX3_weekEnds 183 = .ok (.aload_n 0, 1) := dk_42 (dk_at dksX3_weekEnds_7 21 rfl rfl)
theorem dX3_weekEnds_184 : decode cX3_weekEnds 184 = .ok (.iload_n 3, 1) := dk_29 (dk_at dksX3_weekEnds_7 22 rfl rfl)
theorem dX3_weekEnds_185 : decode cX3_weekEnds 185 = .ok (.bipush 6, 2) := dk_16 6 (dk_at dksX3_weekEnds_8 0 rfl rfl)
theorem dX3_weekEnds_187 : decode cX3_weekEnds 187 = .ok (.iconst 0, 1) := dk_3 (dk_at dksX3_weekEnds_8 2 rfl rfl)
theorem dX3_weekEnds_188 : decode cX3_weekEnds 188 = .ok (.aload_n 0, 1) := dk_42 (dk_at dksX3_weekEnds_8 3 rfl rfl)
theorem dX3_weekEnds_189 : decode cX3_weekEnds 189 = .ok (.iload_n 3, 1) := dk_29 (dk_at dksX3_weekEnds_8 4 rfl rfl)
theorem dX3_weekEnds_190 : decode cX3_weekEnds 190 = .ok (.bipush 6, 2) := dk_16 6 (dk_at dksX3_weekEnds_8 5 rfl rfl)
theorem dX3_weekEnds_192 : decode cX3_weekEnds 192 = .ok (.invokevirtual 205, 3) := dk_182 0 205 (dk_at dksX3_weekEnds_8 7 rfl rfl)
theorem dX3_weekEnds_195 : decode cX3_weekEnds 195 = .ok (.iconst 1, 1) := dk_4 (dk_at dksX3_weekEnds_8 10 rfl rfl)
theorem dX3_weekEnds_196 : decode cX3_weekEnds 196 = .ok (.isub, 1) := dk_100 (dk_at dksX3_weekEnds_8 11 rfl rfl)
theorem dX3_weekEnds_197 : decode cX3_weekEnds 197 = .ok (.invokestatic 211, 3) := dk_184 0 211 (dk_at dksX3_weekEnds_8 12 rfl rfl)
theorem dX3_weekEnds_200 : decode cX3_weekEnds 200 = .ok (.invokevirtual 289, 3) := dk_182 1 33 (dk_at dksX3_weekEnds_8 15 rfl rfl)
theorem dX3_weekEnds_203 : decode cX3_weekEnds 203 = .ok (.aload_n 0, 1) := dk_42 (dk_at dksX3_weekEnds_8 18 rfl rfl)
theorem dX3_weekEnds_204 : decode cX3_weekEnds 204 = .ok (.iload_n 3, 1) := dk_29 (dk_at dksX3_weekEnds_8 19 rfl rfl)
theorem dX3_weekEnds_205 : decode cX3_weekEnds 205 = .ok (.bipush 7, 2) := dk_16 7 (dk_at dksX3_weekEnds_8 20 rfl rfl)
theorem dX3_weekEnds_207 : decode cX3_weekEnds 207 = .ok (.iconst 0, 1) := dk_3 (dk_at dksX3_weekEnds_8 22 rfl rfl)
theorem dX3_weekEnds_208 : decode cX3_weekEnds 208 = .ok (.invokevirtual 289, 3) := dk_182 1 33 (dk_at dksX3_weekEnds_9 0 rfl rfl)
theorem dX3_weekEnds_211 : decode cX3_weekEnds 211 = .ok (.iinc 3 1, 3) := dk_132 3 1 (dk_at dksX3_weekEnds_9 3 rfl rfl)
theorem dX3_weekEnds_214 : decode cX3_weekEnds 214 = .ok (.goto (-61), 3) := dk_167 255 195 (dk_at dksX3_weekEnds_9 6 rfl rfl)
theorem dX3_weekEnds_217 : decode cX3_weekEnds 217 = .ok (.aload_n 0, 1) := dk_42 (dk_at dksX3_weekEnds_9 9 rfl rfl)
theorem dX3_weekEnds_218 : decode cX3_weekEnds 218 = .ok (.getfield 7, 3) := dk_180 0 7 (dk_at dksX3_weekEnds_9 10 rfl rfl)
theorem dX3_weekEnds_221 : decode cX3_weekEnds 221 = .ok (.sipush 232, 3) := dk_17 0 232 (dk_at dksX3_weekEnds_9 13 rfl rfl)
theorem dX3_weekEnds_224 : decode cX3_weekEnds 224 = .ok (.dup2, 1) := dk_92 (dk_at dksX3_weekEnds_9 16 rfl rfl)
theorem dX3_weekEnds_225 : decode cX3_weekEnds 225 = .ok (.iaload, 1) := dk_46 (dk_at dksX3_weekEnds_9 17 rfl rfl)
theorem dX3_weekEnds_226 : decode cX3_weekEnds 226 = .ok (.iconst 1, 1) := dk_4 (dk_at dksX3_weekEnds_9 18 rfl rfl)
theorem dX3_weekEnds_227 : decode cX3_weekEnds 227 = .ok (.iadd, 1) := dk_96 (dk_at dksX3_weekEnds_9 19 rfl rfl)
theorem dX3_weekEnds_228 : decode cX3_weekEnds 228 = .ok (.iastore, 1) := dk_79 (dk_at dksX3_weekEnds_9 20 rfl rfl)
theorem dX3_weekEnds_229 : decode cX3_weekEnds 229 = .ok (.aload_n 0, 1) := dk_42 (dk_at dksX3_weekEnds_9 21 rfl rfl)
theorem dX3_weekEnds_230 : decode cX3_weekEnds 230 = .ok (.getfield 7, 3) := dk_180 0 7 (dk_at dksX3_weekEnds_10 0 rfl rfl)
theorem dX3_weekEnds_233 : decode cX3_weekEnds 233 = .ok (.sipush 233, 3) := dk_17 0 233 (dk_at dksX3_weekEnds_10 3 rfl rfl)
theorem dX3_weekEnds_236 : decode cX3_weekEnds 236 = .ok (.iaload, 1) := dk_46 (dk_at dksX3_weekEnds_10 6 rfl rfl)
theorem dX3_weekEnds_237 : decode cX3_weekEnds 237 = .ok (.iload_n 1, 1) := dk_27 (dk_at dksX3_weekEnds_10 7 rfl rfl)
theorem dX3_weekEnds_238 : decode cX3_weekEnds 238 = .ok (.isub, 1) := dk_100 (dk_at dksX3_weekEnds_10 8 rfl rfl)
theorem dX3_weekEnds_239 : decode cX3_weekEnds 239 = .ok (.ireturn, 1) := dk_172 (dk_at dksX3_weekEnds_10 9 rfl rfl)
abbrev cX3_lets : ByteArray := prog_15_method_81_code
def yX3_lets : MethodName := ⟨RX3, "lets", "(I)V"⟩
def dkwX3_lets_3 : List UInt8 := [153, 0, 12, 42, 21, 4, 27, 29, 182, 1, 51, 177, 42, 21, 4, 182, 1, 54, 167, 255, 177, 177]
abbrev dktX3_lets_3 : List UInt8 := dkwX3_lets_3 ++ []
def dkwX3_lets_2 : List UInt8 := [132, 3, 1, 42, 21, 4, 27, 182, 1, 44, 54, 5, 42, 21, 4, 27, 21, 5, 182, 1, 47, 21, 5]
abbrev dktX3_lets_2 : List UInt8 := dkwX3_lets_2 ++ dktX3_lets_3
def dkwX3_lets_1 : List UInt8 := [54, 4, 28, 4, 21, 4, 120, 2, 130, 126, 61, 42, 21, 4, 182, 1, 27, 154, 0, 6, 167, 255, 221]
abbrev dktX3_lets_1 : List UInt8 := dkwX3_lets_1 ++ dktX3_lets_2
def dkwX3_lets_0 : List UInt8 := [42, 27, 182, 1, 21, 61, 3, 62, 28, 153, 0, 81, 29, 6, 162, 0, 76, 42, 28, 27, 182, 1, 24]
abbrev dktX3_lets_0 : List UInt8 := dkwX3_lets_0 ++ dktX3_lets_1
theorem dksX3_lets_0 : cX3_lets.data.toList.drop 0 = dktX3_lets_0 := by decide +kernel
theorem dksX3_lets_1 : cX3_lets.data.toList.drop 23 = dktX3_lets_1 := dk_seg dksX3_lets_0 23 rfl rfl
theorem dksX3_lets_2 : cX3_lets.data.toList.drop 46 = dktX3_lets_2 := dk_seg dksX3_lets_1 23 rfl rfl
theorem dksX3_lets_3 : cX3_lets.data.toList.drop 69 = dktX3_lets_3 := dk_seg dksX3_lets_2 23 rfl rfl
theorem dX3_lets_0 : decode cX3_lets 0 = .ok (.aload_n 0, 1) := dk_42 (dk_at dksX3_lets_0 0 rfl rfl)
theorem dX3_lets_1 : decode cX3_lets 1 = .ok (.iload_n 1, 1) := dk_27 (dk_at dksX3_lets_0 1 rfl rfl)
theorem dX3_lets_2 : decode cX3_lets 2 = .ok (.invokevirtual 277, 3) := dk_182 1 21 (dk_at dksX3_lets_0 2 rfl rfl)
theorem dX3_lets_5 : decode cX3_lets 5 = .ok (.istore_n 2, 1) := dk_61 (dk_at dksX3_lets_0 5 rfl rfl)
theorem dX3_lets_6 : decode cX3_lets 6 = .ok (.iconst 0, 1) := dk_3 (dk_at dksX3_lets_0 6 rfl rfl)
theorem dX3_lets_7 : decode cX3_lets 7 = .ok (.istore_n 3, 1) := dk_62 (dk_at dksX3_lets_0 7 rfl rfl)
theorem dX3_lets_8 : decode cX3_lets 8 = .ok (.iload_n 2, 1) := dk_28 (dk_at dksX3_lets_0 8 rfl rfl)
theorem dX3_lets_9 : decode cX3_lets 9 = .ok (.ifCond .eq 81, 3) := dk_153 0 81 (dk_at dksX3_lets_0 9 rfl rfl)
theorem dX3_lets_12 : decode cX3_lets 12 = .ok (.iload_n 3, 1) := dk_29 (dk_at dksX3_lets_0 12 rfl rfl)
theorem dX3_lets_13 : decode cX3_lets 13 = .ok (.iconst 3, 1) := dk_6 (dk_at dksX3_lets_0 13 rfl rfl)
theorem dX3_lets_14 : decode cX3_lets 14 = .ok (.if_icmp .ge 76, 3) := dk_162 0 76 (dk_at dksX3_lets_0 14 rfl rfl)
theorem dX3_lets_17 : decode cX3_lets 17 = .ok (.aload_n 0, 1) := dk_42 (dk_at dksX3_lets_0 17 rfl rfl)
theorem dX3_lets_18 : decode cX3_lets 18 = .ok (.iload_n 2, 1) := dk_28 (dk_at dksX3_lets_0 18 rfl rfl)
theorem dX3_lets_19 : decode cX3_lets 19 = .ok (.iload_n 1, 1) := dk_27 (dk_at dksX3_lets_0 19 rfl rfl)
theorem dX3_lets_20 : decode cX3_lets 20 = .ok (.invokevirtual 280, 3) := dk_182 1 24 (dk_at dksX3_lets_0 20 rfl rfl)
theorem dX3_lets_23 : decode cX3_lets 23 = .ok (.istore 4, 2) := dk_54 4 (dk_at dksX3_lets_1 0 rfl rfl)
theorem dX3_lets_25 : decode cX3_lets 25 = .ok (.iload_n 2, 1) := dk_28 (dk_at dksX3_lets_1 2 rfl rfl)
theorem dX3_lets_26 : decode cX3_lets 26 = .ok (.iconst 1, 1) := dk_4 (dk_at dksX3_lets_1 3 rfl rfl)
theorem dX3_lets_27 : decode cX3_lets 27 = .ok (.iload 4, 2) := dk_21 4 (dk_at dksX3_lets_1 4 rfl rfl)
theorem dX3_lets_29 : decode cX3_lets 29 = .ok (.ishl, 1) := dk_120 (dk_at dksX3_lets_1 6 rfl rfl)
theorem dX3_lets_30 : decode cX3_lets 30 = .ok (.iconst (-1), 1) := dk_2 (dk_at dksX3_lets_1 7 rfl rfl)
theorem dX3_lets_31 : decode cX3_lets 31 = .ok (.ixor, 1) := dk_130 (dk_at dksX3_lets_1 8 rfl rfl)
theorem dX3_lets_32 : decode cX3_lets 32 = .ok (.iand, 1) := dk_126 (dk_at dksX3_lets_1 9 rfl rfl)
theorem dX3_lets_33 : decode cX3_lets 33 = .ok (.istore_n 2, 1) := dk_61 (dk_at dksX3_lets_1 10 rfl rfl)
theorem dX3_lets_34 : decode cX3_lets 34 = .ok (.aload_n 0, 1) := dk_42 (dk_at dksX3_lets_1 11 rfl rfl)
theorem dX3_lets_35 : decode cX3_lets 35 = .ok (.iload 4, 2) := dk_21 4 (dk_at dksX3_lets_1 12 rfl rfl)
theorem dX3_lets_37 : decode cX3_lets 37 = .ok (.invokevirtual 283, 3) := dk_182 1 27 (dk_at dksX3_lets_1 14 rfl rfl)
theorem dX3_lets_40 : decode cX3_lets 40 = .ok (.ifCond .ne 6, 3) := dk_154 0 6 (dk_at dksX3_lets_1 17 rfl rfl)
theorem dX3_lets_43 : decode cX3_lets 43 = .ok (.goto (-35), 3) := dk_167 255 221 (dk_at dksX3_lets_1 20 rfl rfl)
theorem dX3_lets_46 : decode cX3_lets 46 = .ok (.iinc 3 1, 3) := dk_132 3 1 (dk_at dksX3_lets_2 0 rfl rfl)
theorem dX3_lets_49 : decode cX3_lets 49 = .ok (.aload_n 0, 1) := dk_42 (dk_at dksX3_lets_2 3 rfl rfl)
theorem dX3_lets_50 : decode cX3_lets 50 = .ok (.iload 4, 2) := dk_21 4 (dk_at dksX3_lets_2 4 rfl rfl)
theorem dX3_lets_52 : decode cX3_lets 52 = .ok (.iload_n 1, 1) := dk_27 (dk_at dksX3_lets_2 6 rfl rfl)
theorem dX3_lets_53 : decode cX3_lets 53 = .ok (.invokevirtual 300, 3) := dk_182 1 44 (dk_at dksX3_lets_2 7 rfl rfl)
theorem dX3_lets_56 : decode cX3_lets 56 = .ok (.istore 5, 2) := dk_54 5 (dk_at dksX3_lets_2 10 rfl rfl)
theorem dX3_lets_58 : decode cX3_lets 58 = .ok (.aload_n 0, 1) := dk_42 (dk_at dksX3_lets_2 12 rfl rfl)
theorem dX3_lets_59 : decode cX3_lets 59 = .ok (.iload 4, 2) := dk_21 4 (dk_at dksX3_lets_2 13 rfl rfl)
theorem dX3_lets_61 : decode cX3_lets 61 = .ok (.iload_n 1, 1) := dk_27 (dk_at dksX3_lets_2 15 rfl rfl)
theorem dX3_lets_62 : decode cX3_lets 62 = .ok (.iload 5, 2) := dk_21 5 (dk_at dksX3_lets_2 16 rfl rfl)
theorem dX3_lets_64 : decode cX3_lets 64 = .ok (.invokevirtual 303, 3) := dk_182 1 47 (dk_at dksX3_lets_2 18 rfl rfl)
theorem dX3_lets_67 : decode cX3_lets 67 = .ok (.iload 5, 2) := dk_21 5 (dk_at dksX3_lets_2 21 rfl rfl)
theorem dX3_lets_69 : decode cX3_lets 69 = .ok (.ifCond .eq 12, 3) := dk_153 0 12 (dk_at dksX3_lets_3 0 rfl rfl)
theorem dX3_lets_72 : decode cX3_lets 72 = .ok (.aload_n 0, 1) := dk_42 (dk_at dksX3_lets_3 3 rfl rfl)
theorem dX3_lets_73 : decode cX3_lets 73 = .ok (.iload 4, 2) := dk_21 4 (dk_at dksX3_lets_3 4 rfl rfl)
theorem dX3_lets_75 : decode cX3_lets 75 = .ok (.iload_n 1, 1) := dk_27 (dk_at dksX3_lets_3 6 rfl rfl)
theorem dX3_lets_76 : decode cX3_lets 76 = .ok (.iload_n 3, 1) := dk_29 (dk_at dksX3_lets_3 7 rfl rfl)
theorem dX3_lets_77 : decode cX3_lets 77 = .ok (.invokevirtual 307, 3) := dk_182 1 51 (dk_at dksX3_lets_3 8 rfl rfl)
theorem dX3_lets_80 : decode cX3_lets 80 = .ok (.return_, 1) := dk_177 (dk_at dksX3_lets_3 11 rfl rfl)
theorem dX3_lets_81 : decode cX3_lets 81 = .ok (.aload_n 0, 1) := dk_42 (dk_at dksX3_lets_3 12 rfl rfl)
theorem dX3_lets_82 : decode cX3_lets 82 = .ok (.iload 4, 2) := dk_21 4 (dk_at dksX3_lets_3 13 rfl rfl)
theorem dX3_lets_84 : decode cX3_lets 84 = .ok (.invokevirtual 310, 3) := dk_182 1 54 (dk_at dksX3_lets_3 15 rfl rfl)
theorem dX3_lets_87 : decode cX3_lets 87 = .ok (.goto (-79), 3) := dk_167 255 177 (dk_at dksX3_lets_3 18 rfl rfl)
theorem dX3_lets_90 : decode cX3_lets 90 = .ok (.return_, 1) := dk_177 (dk_at dksX3_lets_3 21 rfl rfl)
abbrev cX3_wouldTake : ByteArray := prog_15_method_48_code
def yX3_wouldTake : MethodName := ⟨RX3, "wouldTake", "(II)Z"⟩
def dkwX3_wouldTake_1 : List UInt8 := [3, 172]
abbrev dktX3_wouldTake_1 : List UInt8 := dkwX3_wouldTake_1 ++ []
def dkwX3_wouldTake_0 : List UInt8 := [42, 27, 16, 11, 182, 0, 205, 153, 0, 13, 42, 27, 28, 182, 0, 216, 2, 159, 0, 7, 4, 167, 0, 4]
abbrev dktX3_wouldTake_0 : List UInt8 := dkwX3_wouldTake_0 ++ dktX3_wouldTake_1
theorem dksX3_wouldTake_0 : cX3_wouldTake.data.toList.drop 0 = dktX3_wouldTake_0 := by decide +kernel
theorem dksX3_wouldTake_1 : cX3_wouldTake.data.toList.drop 24 = dktX3_wouldTake_1 := dk_seg dksX3_wouldTake_0 24 rfl rfl
theorem dX3_wouldTake_0 : decode cX3_wouldTake 0 = .ok (.aload_n 0, 1) := dk_42 (dk_at dksX3_wouldTake_0 0 rfl rfl)
theorem dX3_wouldTake_1 : decode cX3_wouldTake 1 = .ok (.iload_n 1, 1) := dk_27 (dk_at dksX3_wouldTake_0 1 rfl rfl)
theorem dX3_wouldTake_2 : decode cX3_wouldTake 2 = .ok (.bipush 11, 2) := dk_16 11 (dk_at dksX3_wouldTake_0 2 rfl rfl)
theorem dX3_wouldTake_4 : decode cX3_wouldTake 4 = .ok (.invokevirtual 205, 3) := dk_182 0 205 (dk_at dksX3_wouldTake_0 4 rfl rfl)
theorem dX3_wouldTake_7 : decode cX3_wouldTake 7 = .ok (.ifCond .eq 13, 3) := dk_153 0 13 (dk_at dksX3_wouldTake_0 7 rfl rfl)
theorem dX3_wouldTake_10 : decode cX3_wouldTake 10 = .ok (.aload_n 0, 1) := dk_42 (dk_at dksX3_wouldTake_0 10 rfl rfl)
theorem dX3_wouldTake_11 : decode cX3_wouldTake 11 = .ok (.iload_n 1, 1) := dk_27 (dk_at dksX3_wouldTake_0 11 rfl rfl)
theorem dX3_wouldTake_12 : decode cX3_wouldTake 12 = .ok (.iload_n 2, 1) := dk_28 (dk_at dksX3_wouldTake_0 12 rfl rfl)
theorem dX3_wouldTake_13 : decode cX3_wouldTake 13 = .ok (.invokevirtual 216, 3) := dk_182 0 216 (dk_at dksX3_wouldTake_0 13 rfl rfl)
theorem dX3_wouldTake_16 : decode cX3_wouldTake 16 = .ok (.iconst (-1), 1) := dk_2 (dk_at dksX3_wouldTake_0 16 rfl rfl)
theorem dX3_wouldTake_17 : decode cX3_wouldTake 17 = .ok (.if_icmp .eq 7, 3) := dk_159 0 7 (dk_at dksX3_wouldTake_0 17 rfl rfl)
theorem dX3_wouldTake_20 : decode cX3_wouldTake 20 = .ok (.iconst 1, 1) := dk_4 (dk_at dksX3_wouldTake_0 20 rfl rfl)
theorem dX3_wouldTake_21 : decode cX3_wouldTake 21 = .ok (.goto 4, 3) := dk_167 0 4 (dk_at dksX3_wouldTake_0 21 rfl rfl)
theorem dX3_wouldTake_24 : decode cX3_wouldTake 24 = .ok (.iconst 0, 1) := dk_3 (dk_at dksX3_wouldTake_1 0 rfl rfl)
theorem dX3_wouldTake_25 : decode cX3_wouldTake 25 = .ok (.ireturn, 1) := dk_172 (dk_at dksX3_wouldTake_1 1 rfl rfl)
abbrev cX3_wishOf : ByteArray := prog_15_method_47_code
def yX3_wishOf : MethodName := ⟨RX3, "wishOf", "(II)I"⟩
def dkwX3_wishOf_1 : List UInt8 := [160, 0, 5, 29, 172, 132, 3, 1, 167, 255, 227, 2, 172]
abbrev dktX3_wishOf_1 : List UInt8 := dkwX3_wishOf_1 ++ []
def dkwX3_wishOf_0 : List UInt8 := [3, 62, 29, 42, 27, 16, 11, 182, 0, 205, 162, 0, 24, 42, 27, 16, 12, 29, 96, 182, 0, 205, 28]
abbrev dktX3_wishOf_0 : List UInt8 := dkwX3_wishOf_0 ++ dktX3_wishOf_1
theorem dksX3_wishOf_0 : cX3_wishOf.data.toList.drop 0 = dktX3_wishOf_0 := by decide +kernel
theorem dksX3_wishOf_1 : cX3_wishOf.data.toList.drop 23 = dktX3_wishOf_1 := dk_seg dksX3_wishOf_0 23 rfl rfl
theorem dX3_wishOf_0 : decode cX3_wishOf 0 = .ok (.iconst 0, 1) := dk_3 (dk_at dksX3_wishOf_0 0 rfl rfl)
theorem dX3_wishOf_1 : decode cX3_wishOf 1 = .ok (.istore_n 3, 1) := dk_62 (dk_at dksX3_wishOf_0 1 rfl rfl)
theorem dX3_wishOf_2 : decode cX3_wishOf 2 = .ok (.iload_n 3, 1) := dk_29 (dk_at dksX3_wishOf_0 2 rfl rfl)
theorem dX3_wishOf_3 : decode cX3_wishOf 3 = .ok (.aload_n 0, 1) := dk_42 (dk_at dksX3_wishOf_0 3 rfl rfl)
theorem dX3_wishOf_4 : decode cX3_wishOf 4 = .ok (.iload_n 1, 1) := dk_27 (dk_at dksX3_wishOf_0 4 rfl rfl)
theorem dX3_wishOf_5 : decode cX3_wishOf 5 = .ok (.bipush 11, 2) := dk_16 11 (dk_at dksX3_wishOf_0 5 rfl rfl)
theorem dX3_wishOf_7 : decode cX3_wishOf 7 = .ok (.invokevirtual 205, 3) := dk_182 0 205 (dk_at dksX3_wishOf_0 7 rfl rfl)
theorem dX3_wishOf_10 : decode cX3_wishOf 10 = .ok (.if_icmp .ge 24, 3) := dk_162 0 24 (dk_at dksX3_wishOf_0 10 rfl rfl)
theorem dX3_wishOf_13 : decode cX3_wishOf 13 = .ok (.aload_n 0, 1) := dk_42 (dk_at dksX3_wishOf_0 13 rfl rfl)
theorem dX3_wishOf_14 : decode cX3_wishOf 14 = .ok (.iload_n 1, 1) := dk_27 (dk_at dksX3_wishOf_0 14 rfl rfl)
theorem dX3_wishOf_15 : decode cX3_wishOf 15 = .ok (.bipush 12, 2) := dk_16 12 (dk_at dksX3_wishOf_0 15 rfl rfl)
theorem dX3_wishOf_17 : decode cX3_wishOf 17 = .ok (.iload_n 3, 1) := dk_29 (dk_at dksX3_wishOf_0 17 rfl rfl)
theorem dX3_wishOf_18 : decode cX3_wishOf 18 = .ok (.iadd, 1) := dk_96 (dk_at dksX3_wishOf_0 18 rfl rfl)
theorem dX3_wishOf_19 : decode cX3_wishOf 19 = .ok (.invokevirtual 205, 3) := dk_182 0 205 (dk_at dksX3_wishOf_0 19 rfl rfl)
theorem dX3_wishOf_22 : decode cX3_wishOf 22 = .ok (.iload_n 2, 1) := dk_28 (dk_at dksX3_wishOf_0 22 rfl rfl)
theorem dX3_wishOf_23 : decode cX3_wishOf 23 = .ok (.if_icmp .ne 5, 3) := dk_160 0 5 (dk_at dksX3_wishOf_1 0 rfl rfl)
theorem dX3_wishOf_26 : decode cX3_wishOf 26 = .ok (.iload_n 3, 1) := dk_29 (dk_at dksX3_wishOf_1 3 rfl rfl)
theorem dX3_wishOf_27 : decode cX3_wishOf 27 = .ok (.ireturn, 1) := dk_172 (dk_at dksX3_wishOf_1 4 rfl rfl)
theorem dX3_wishOf_28 : decode cX3_wishOf 28 = .ok (.iinc 3 1, 3) := dk_132 3 1 (dk_at dksX3_wishOf_1 5 rfl rfl)
theorem dX3_wishOf_31 : decode cX3_wishOf 31 = .ok (.goto (-29), 3) := dk_167 255 227 (dk_at dksX3_wishOf_1 8 rfl rfl)
theorem dX3_wishOf_34 : decode cX3_wishOf 34 = .ok (.iconst (-1), 1) := dk_2 (dk_at dksX3_wishOf_1 11 rfl rfl)
theorem dX3_wishOf_35 : decode cX3_wishOf 35 = .ok (.ireturn, 1) := dk_172 (dk_at dksX3_wishOf_1 12 rfl rfl)
abbrev cX3_offered : ByteArray := prog_15_method_77_code
def yX3_offered : MethodName := ⟨RX3, "offered", "(IIZ)V"⟩
def dkwX3_offered_2 : List UInt8 := [167, 0, 4, 3, 79, 42, 180, 0, 7, 17, 1, 43, 92, 46, 4, 96, 79, 177]
abbrev dktX3_offered_2 : List UInt8 := dkwX3_offered_2 ++ []
def dkwX3_offered_1 : List UInt8 := [42, 180, 0, 7, 21, 4, 4, 96, 28, 79, 42, 180, 0, 7, 21, 4, 5, 96, 29, 153, 0, 7, 4]
abbrev dktX3_offered_1 : List UInt8 := dkwX3_offered_1 ++ dktX3_offered_2
def dkwX3_offered_0 : List UInt8 := [17, 1, 44, 6, 42, 180, 0, 7, 17, 1, 43, 46, 104, 96, 54, 4, 42, 180, 0, 7, 21, 4, 27, 79]
abbrev dktX3_offered_0 : List UInt8 := dkwX3_offered_0 ++ dktX3_offered_1
theorem dksX3_offered_0 : cX3_offered.data.toList.drop 0 = dktX3_offered_0 := by decide +kernel
theorem dksX3_offered_1 : cX3_offered.data.toList.drop 24 = dktX3_offered_1 := dk_seg dksX3_offered_0 24 rfl rfl
theorem dksX3_offered_2 : cX3_offered.data.toList.drop 47 = dktX3_offered_2 := dk_seg dksX3_offered_1 23 rfl rfl
theorem dX3_offered_0 : decode cX3_offered 0 = .ok (.sipush 300, 3) := dk_17 1 44 (dk_at dksX3_offered_0 0 rfl rfl)
theorem dX3_offered_3 : decode cX3_offered 3 = .ok (.iconst 3, 1) := dk_6 (dk_at dksX3_offered_0 3 rfl rfl)
theorem dX3_offered_4 : decode cX3_offered 4 = .ok (.aload_n 0, 1) := dk_42 (dk_at dksX3_offered_0 4 rfl rfl)
theorem dX3_offered_5 : decode cX3_offered 5 = .ok (.getfield 7, 3) := dk_180 0 7 (dk_at dksX3_offered_0 5 rfl rfl)
theorem dX3_offered_8 : decode cX3_offered 8 = .ok (.sipush 299, 3) := dk_17 1 43 (dk_at dksX3_offered_0 8 rfl rfl)
theorem dX3_offered_11 : decode cX3_offered 11 = .ok (.iaload, 1) := dk_46 (dk_at dksX3_offered_0 11 rfl rfl)
theorem dX3_offered_12 : decode cX3_offered 12 = .ok (.imul, 1) := dk_104 (dk_at dksX3_offered_0 12 rfl rfl)
theorem dX3_offered_13 : decode cX3_offered 13 = .ok (.iadd, 1) := dk_96 (dk_at dksX3_offered_0 13 rfl rfl)
theorem dX3_offered_14 : decode cX3_offered 14 = .ok (.istore 4, 2) := dk_54 4 (dk_at dksX3_offered_0 14 rfl rfl)
theorem dX3_offered_16 : decode cX3_offered 16 = .ok (.aload_n 0, 1) := dk_42 (dk_at dksX3_offered_0 16 rfl rfl)
theorem dX3_offered_17 : decode cX3_offered 17 = .ok (.getfield 7, 3) := dk_180 0 7 (dk_at dksX3_offered_0 17 rfl rfl)
theorem dX3_offered_20 : decode cX3_offered 20 = .ok (.iload 4, 2) := dk_21 4 (dk_at dksX3_offered_0 20 rfl rfl)
theorem dX3_offered_22 : decode cX3_offered 22 = .ok (.iload_n 1, 1) := dk_27 (dk_at dksX3_offered_0 22 rfl rfl)
theorem dX3_offered_23 : decode cX3_offered 23 = .ok (.iastore, 1) := dk_79 (dk_at dksX3_offered_0 23 rfl rfl)
theorem dX3_offered_24 : decode cX3_offered 24 = .ok (.aload_n 0, 1) := dk_42 (dk_at dksX3_offered_1 0 rfl rfl)
theorem dX3_offered_25 : decode cX3_offered 25 = .ok (.getfield 7, 3) := dk_180 0 7 (dk_at dksX3_offered_1 1 rfl rfl)
theorem dX3_offered_28 : decode cX3_offered 28 = .ok (.iload 4, 2) := dk_21 4 (dk_at dksX3_offered_1 4 rfl rfl)
theorem dX3_offered_30 : decode cX3_offered 30 = .ok (.iconst 1, 1) := dk_4 (dk_at dksX3_offered_1 6 rfl rfl)
theorem dX3_offered_31 : decode cX3_offered 31 = .ok (.iadd, 1) := dk_96 (dk_at dksX3_offered_1 7 rfl rfl)
theorem dX3_offered_32 : decode cX3_offered 32 = .ok (.iload_n 2, 1) := dk_28 (dk_at dksX3_offered_1 8 rfl rfl)
theorem dX3_offered_33 : decode cX3_offered 33 = .ok (.iastore, 1) := dk_79 (dk_at dksX3_offered_1 9 rfl rfl)
theorem dX3_offered_34 : decode cX3_offered 34 = .ok (.aload_n 0, 1) := dk_42 (dk_at dksX3_offered_1 10 rfl rfl)
theorem dX3_offered_35 : decode cX3_offered 35 = .ok (.getfield 7, 3) := dk_180 0 7 (dk_at dksX3_offered_1 11 rfl rfl)
theorem dX3_offered_38 : decode cX3_offered 38 = .ok (.iload 4, 2) := dk_21 4 (dk_at dksX3_offered_1 14 rfl rfl)
theorem dX3_offered_40 : decode cX3_offered 40 = .ok (.iconst 2, 1) := dk_5 (dk_at dksX3_offered_1 16 rfl rfl)
theorem dX3_offered_41 : decode cX3_offered 41 = .ok (.iadd, 1) := dk_96 (dk_at dksX3_offered_1 17 rfl rfl)
theorem dX3_offered_42 : decode cX3_offered 42 = .ok (.iload_n 3, 1) := dk_29 (dk_at dksX3_offered_1 18 rfl rfl)
theorem dX3_offered_43 : decode cX3_offered 43 = .ok (.ifCond .eq 7, 3) := dk_153 0 7 (dk_at dksX3_offered_1 19 rfl rfl)
theorem dX3_offered_46 : decode cX3_offered 46 = .ok (.iconst 1, 1) := dk_4 (dk_at dksX3_offered_1 22 rfl rfl)
theorem dX3_offered_47 : decode cX3_offered 47 = .ok (.goto 4, 3) := dk_167 0 4 (dk_at dksX3_offered_2 0 rfl rfl)
theorem dX3_offered_50 : decode cX3_offered 50 = .ok (.iconst 0, 1) := dk_3 (dk_at dksX3_offered_2 3 rfl rfl)
theorem dX3_offered_51 : decode cX3_offered 51 = .ok (.iastore, 1) := dk_79 (dk_at dksX3_offered_2 4 rfl rfl)
theorem dX3_offered_52 : decode cX3_offered 52 = .ok (.aload_n 0, 1) := dk_42 (dk_at dksX3_offered_2 5 rfl rfl)
theorem dX3_offered_53 : decode cX3_offered 53 = .ok (.getfield 7, 3) := dk_180 0 7 (dk_at dksX3_offered_2 6 rfl rfl)
theorem dX3_offered_56 : decode cX3_offered 56 = .ok (.sipush 299, 3) := dk_17 1 43 (dk_at dksX3_offered_2 9 rfl rfl)
theorem dX3_offered_59 : decode cX3_offered 59 = .ok (.dup2, 1) := dk_92 (dk_at dksX3_offered_2 12 rfl rfl)
theorem dX3_offered_60 : decode cX3_offered 60 = .ok (.iaload, 1) := dk_46 (dk_at dksX3_offered_2 13 rfl rfl)
theorem dX3_offered_61 : decode cX3_offered 61 = .ok (.iconst 1, 1) := dk_4 (dk_at dksX3_offered_2 14 rfl rfl)
theorem dX3_offered_62 : decode cX3_offered 62 = .ok (.iadd, 1) := dk_96 (dk_at dksX3_offered_2 15 rfl rfl)
theorem dX3_offered_63 : decode cX3_offered 63 = .ok (.iastore, 1) := dk_79 (dk_at dksX3_offered_2 16 rfl rfl)
theorem dX3_offered_64 : decode cX3_offered 64 = .ok (.return_, 1) := dk_177 (dk_at dksX3_offered_2 17 rfl rfl)
abbrev cX3_takes : ByteArray := prog_15_method_79_code
def yX3_takes : MethodName := ⟨RX3, "takes", "(III)V"⟩
def dkwX3_takes_12 : List UInt8 := [21, 6, 2, 159, 0, 18, 42, 21, 6, 42, 180, 0, 7, 21, 4, 6, 96, 46, 182, 1, 40, 177]
abbrev dktX3_takes_12 : List UInt8 := dkwX3_takes_12 ++ []
def dkwX3_takes_11 : List UInt8 := [182, 1, 33, 42, 28, 5, 27, 182, 1, 37, 42, 28, 7, 42, 28, 7, 182, 0, 202, 4, 96, 182, 1, 37]
abbrev dktX3_takes_11 : List UInt8 := dkwX3_takes_11 ++ dktX3_takes_12
def dkwX3_takes_10 : List UInt8 := [180, 0, 7, 17, 0, 233, 92, 46, 4, 96, 79, 42, 27, 16, 8, 4, 182, 1, 33, 42, 27, 7, 28]
abbrev dktX3_takes_10 : List UInt8 := dkwX3_takes_10 ++ dktX3_takes_11
def dkwX3_takes_9 : List UInt8 := [21, 7, 16, 9, 42, 21, 7, 16, 9, 182, 0, 205, 4, 96, 182, 1, 33, 132, 7, 1, 167, 255, 192, 42]
abbrev dktX3_takes_9 : List UInt8 := dkwX3_takes_9 ++ dktX3_takes_10
def dkwX3_takes_8 : List UInt8 := [153, 0, 41, 42, 21, 7, 182, 1, 27, 153, 0, 32, 42, 21, 7, 182, 0, 247, 21, 5, 162, 0, 21, 42]
abbrev dktX3_takes_8 : List UInt8 := dkwX3_takes_8 ++ dktX3_takes_9
def dkwX3_takes_7 : List UInt8 := [54, 7, 21, 7, 42, 180, 0, 7, 17, 0, 231, 46, 162, 0, 57, 42, 21, 7, 28, 182, 0, 234]
abbrev dktX3_takes_7 : List UInt8 := dkwX3_takes_7 ++ dktX3_takes_8
def dkwX3_takes_6 : List UInt8 := [180, 0, 7, 21, 4, 16, 6, 96, 29, 79, 42, 180, 0, 7, 21, 4, 16, 7, 96, 21, 5, 79, 3]
abbrev dktX3_takes_6 : List UInt8 := dkwX3_takes_6 ++ dktX3_takes_7
def dkwX3_takes_5 : List UInt8 := [153, 0, 7, 4, 167, 0, 4, 3, 21, 6, 2, 160, 0, 7, 3, 167, 0, 4, 5, 96, 79, 42]
abbrev dktX3_takes_5 : List UInt8 := dkwX3_takes_5 ++ dktX3_takes_6
def dkwX3_takes_4 : List UInt8 := [182, 1, 9, 153, 0, 7, 4, 167, 0, 4, 3, 79, 42, 180, 0, 7, 21, 4, 8, 96, 42, 182, 1, 12]
abbrev dktX3_takes_4 : List UInt8 := dkwX3_takes_4 ++ dktX3_takes_5
def dkwX3_takes_3 : List UInt8 := [21, 4, 6, 96, 42, 28, 8, 182, 0, 202, 4, 96, 79, 42, 180, 0, 7, 21, 4, 7, 96, 42, 28]
abbrev dktX3_takes_3 : List UInt8 := dkwX3_takes_3 ++ dktX3_takes_4
def dkwX3_takes_2 : List UInt8 := [28, 79, 42, 180, 0, 7, 21, 4, 5, 96, 42, 180, 0, 7, 17, 0, 232, 46, 79, 42, 180, 0, 7]
abbrev dktX3_takes_2 : List UInt8 := dkwX3_takes_2 ++ dktX3_takes_3
def dkwX3_takes_1 : List UInt8 := [42, 27, 7, 182, 0, 205, 54, 6, 42, 180, 0, 7, 21, 4, 27, 79, 42, 180, 0, 7, 21, 4, 4, 96]
abbrev dktX3_takes_1 : List UInt8 := dkwX3_takes_1 ++ dktX3_takes_2
def dkwX3_takes_0 : List UInt8 := [17, 0, 234, 16, 8, 42, 180, 0, 7, 17, 0, 233, 46, 104, 96, 54, 4, 42, 27, 182, 0, 247, 54, 5]
abbrev dktX3_takes_0 : List UInt8 := dkwX3_takes_0 ++ dktX3_takes_1
theorem dksX3_takes_0 : cX3_takes.data.toList.drop 0 = dktX3_takes_0 := by decide +kernel
theorem dksX3_takes_1 : cX3_takes.data.toList.drop 24 = dktX3_takes_1 := dk_seg dksX3_takes_0 24 rfl rfl
theorem dksX3_takes_2 : cX3_takes.data.toList.drop 48 = dktX3_takes_2 := dk_seg dksX3_takes_1 24 rfl rfl
theorem dksX3_takes_3 : cX3_takes.data.toList.drop 71 = dktX3_takes_3 := dk_seg dksX3_takes_2 23 rfl rfl
theorem dksX3_takes_4 : cX3_takes.data.toList.drop 94 = dktX3_takes_4 := dk_seg dksX3_takes_3 23 rfl rfl
theorem dksX3_takes_5 : cX3_takes.data.toList.drop 118 = dktX3_takes_5 := dk_seg dksX3_takes_4 24 rfl rfl
theorem dksX3_takes_6 : cX3_takes.data.toList.drop 140 = dktX3_takes_6 := dk_seg dksX3_takes_5 22 rfl rfl
theorem dksX3_takes_7 : cX3_takes.data.toList.drop 163 = dktX3_takes_7 := dk_seg dksX3_takes_6 23 rfl rfl
theorem dksX3_takes_8 : cX3_takes.data.toList.drop 185 = dktX3_takes_8 := dk_seg dksX3_takes_7 22 rfl rfl
theorem dksX3_takes_9 : cX3_takes.data.toList.drop 209 = dktX3_takes_9 := dk_seg dksX3_takes_8 24 rfl rfl
theorem dksX3_takes_10 : cX3_takes.data.toList.drop 233 = dktX3_takes_10 := dk_seg dksX3_takes_9 24 rfl rfl
theorem dksX3_takes_11 : cX3_takes.data.toList.drop 256 = dktX3_takes_11 := dk_seg dksX3_takes_10 23 rfl rfl
theorem dksX3_takes_12 : cX3_takes.data.toList.drop 280 = dktX3_takes_12 := dk_seg dksX3_takes_11 24 rfl rfl
theorem dX3_takes_0 : decode cX3_takes 0 = .ok (.sipush 234, 3) := dk_17 0 234 (dk_at dksX3_takes_0 0 rfl rfl)
theorem dX3_takes_3 : decode cX3_takes 3 = .ok (.bipush 8, 2) := dk_16 8 (dk_at dksX3_takes_0 3 rfl rfl)
theorem dX3_takes_5 : decode cX3_takes 5 = .ok (.aload_n 0, 1) := dk_42 (dk_at dksX3_takes_0 5 rfl rfl)
theorem dX3_takes_6 : decode cX3_takes 6 = .ok (.getfield 7, 3) := dk_180 0 7 (dk_at dksX3_takes_0 6 rfl rfl)
theorem dX3_takes_9 : decode cX3_takes 9 = .ok (.sipush 233, 3) := dk_17 0 233 (dk_at dksX3_takes_0 9 rfl rfl)
theorem dX3_takes_12 : decode cX3_takes 12 = .ok (.iaload, 1) := dk_46 (dk_at dksX3_takes_0 12 rfl rfl)
theorem dX3_takes_13 : decode cX3_takes 13 = .ok (.imul, 1) := dk_104 (dk_at dksX3_takes_0 13 rfl rfl)
theorem dX3_takes_14 : decode cX3_takes 14 = .ok (.iadd, 1) := dk_96 (dk_at dksX3_takes_0 14 rfl rfl)
theorem dX3_takes_15 : decode cX3_takes 15 = .ok (.istore 4, 2) := dk_54 4 (dk_at dksX3_takes_0 15 rfl rfl)
theorem dX3_takes_17 : decode cX3_takes 17 = .ok (.aload_n 0, 1) := dk_42 (dk_at dksX3_takes_0 17 rfl rfl)
theorem dX3_takes_18 : decode cX3_takes 18 = .ok (.iload_n 1, 1) := dk_27 (dk_at dksX3_takes_0 18 rfl rfl)
theorem dX3_takes_19 : decode cX3_takes 19 = .ok (.invokevirtual 247, 3) := dk_182 0 247 (dk_at dksX3_takes_0 19 rfl rfl)
theorem dX3_takes_22 : decode cX3_takes 22 = .ok (.istore 5, 2) := dk_54 5 (dk_at dksX3_takes_0 22 rfl rfl)
theorem dX3_takes_24 : decode cX3_takes 24 = .ok (.aload_n 0, 1) := dk_42 (dk_at dksX3_takes_1 0 rfl rfl)
theorem dX3_takes_25 : decode cX3_takes 25 = .ok (.iload_n 1, 1) := dk_27 (dk_at dksX3_takes_1 1 rfl rfl)
theorem dX3_takes_26 : decode cX3_takes 26 = .ok (.iconst 4, 1) := dk_7 (dk_at dksX3_takes_1 2 rfl rfl)
theorem dX3_takes_27 : decode cX3_takes 27 = .ok (.invokevirtual 205, 3) := dk_182 0 205 (dk_at dksX3_takes_1 3 rfl rfl)
theorem dX3_takes_30 : decode cX3_takes 30 = .ok (.istore 6, 2) := dk_54 6 (dk_at dksX3_takes_1 6 rfl rfl)
theorem dX3_takes_32 : decode cX3_takes 32 = .ok (.aload_n 0, 1) := dk_42 (dk_at dksX3_takes_1 8 rfl rfl)
theorem dX3_takes_33 : decode cX3_takes 33 = .ok (.getfield 7, 3) := dk_180 0 7 (dk_at dksX3_takes_1 9 rfl rfl)
theorem dX3_takes_36 : decode cX3_takes 36 = .ok (.iload 4, 2) := dk_21 4 (dk_at dksX3_takes_1 12 rfl rfl)
theorem dX3_takes_38 : decode cX3_takes 38 = .ok (.iload_n 1, 1) := dk_27 (dk_at dksX3_takes_1 14 rfl rfl)
theorem dX3_takes_39 : decode cX3_takes 39 = .ok (.iastore, 1) := dk_79 (dk_at dksX3_takes_1 15 rfl rfl)
theorem dX3_takes_40 : decode cX3_takes 40 = .ok (.aload_n 0, 1) := dk_42 (dk_at dksX3_takes_1 16 rfl rfl)
theorem dX3_takes_41 : decode cX3_takes 41 = .ok (.getfield 7, 3) := dk_180 0 7 (dk_at dksX3_takes_1 17 rfl rfl)
theorem dX3_takes_44 : decode cX3_takes 44 = .ok (.iload 4, 2) := dk_21 4 (dk_at dksX3_takes_1 20 rfl rfl)
theorem dX3_takes_46 : decode cX3_takes 46 = .ok (.iconst 1, 1) := dk_4 (dk_at dksX3_takes_1 22 rfl rfl)
theorem dX3_takes_47 : decode cX3_takes 47 = .ok (.iadd, 1) := dk_96 (dk_at dksX3_takes_1 23 rfl rfl)
theorem dX3_takes_48 : decode cX3_takes 48 = .ok (.iload_n 2, 1) := dk_28 (dk_at dksX3_takes_2 0 rfl rfl)
theorem dX3_takes_49 : decode cX3_takes 49 = .ok (.iastore, 1) := dk_79 (dk_at dksX3_takes_2 1 rfl rfl)
theorem dX3_takes_50 : decode cX3_takes 50 = .ok (.aload_n 0, 1) := dk_42 (dk_at dksX3_takes_2 2 rfl rfl)
theorem dX3_takes_51 : decode cX3_takes 51 = .ok (.getfield 7, 3) := dk_180 0 7 (dk_at dksX3_takes_2 3 rfl rfl)
theorem dX3_takes_54 : decode cX3_takes 54 = .ok (.iload 4, 2) := dk_21 4 (dk_at dksX3_takes_2 6 rfl rfl)
theorem dX3_takes_56 : decode cX3_takes 56 = .ok (.iconst 2, 1) := dk_5 (dk_at dksX3_takes_2 8 rfl rfl)
theorem dX3_takes_57 : decode cX3_takes 57 = .ok (.iadd, 1) := dk_96 (dk_at dksX3_takes_2 9 rfl rfl)
theorem dX3_takes_58 : decode cX3_takes 58 = .ok (.aload_n 0, 1) := dk_42 (dk_at dksX3_takes_2 10 rfl rfl)
theorem dX3_takes_59 : decode cX3_takes 59 = .ok (.getfield 7, 3) := dk_180 0 7 (dk_at dksX3_takes_2 11 rfl rfl)
theorem dX3_takes_62 : decode cX3_takes 62 = .ok (.sipush 232, 3) := dk_17 0 232 (dk_at dksX3_takes_2 14 rfl rfl)
theorem dX3_takes_65 : decode cX3_takes 65 = .ok (.iaload, 1) := dk_46 (dk_at dksX3_takes_2 17 rfl rfl)
theorem dX3_takes_66 : decode cX3_takes 66 = .ok (.iastore, 1) := dk_79 (dk_at dksX3_takes_2 18 rfl rfl)
theorem dX3_takes_67 : decode cX3_takes 67 = .ok (.aload_n 0, 1) := dk_42 (dk_at dksX3_takes_2 19 rfl rfl)
theorem dX3_takes_68 : decode cX3_takes 68 = .ok (.getfield 7, 3) := dk_180 0 7 (dk_at dksX3_takes_2 20 rfl rfl)
theorem dX3_takes_71 : decode cX3_takes 71 = .ok (.iload 4, 2) := dk_21 4 (dk_at dksX3_takes_3 0 rfl rfl)
theorem dX3_takes_73 : decode cX3_takes 73 = .ok (.iconst 3, 1) := dk_6 (dk_at dksX3_takes_3 2 rfl rfl)
theorem dX3_takes_74 : decode cX3_takes 74 = .ok (.iadd, 1) := dk_96 (dk_at dksX3_takes_3 3 rfl rfl)
theorem dX3_takes_75 : decode cX3_takes 75 = .ok (.aload_n 0, 1) := dk_42 (dk_at dksX3_takes_3 4 rfl rfl)
theorem dX3_takes_76 : decode cX3_takes 76 = .ok (.iload_n 2, 1) := dk_28 (dk_at dksX3_takes_3 5 rfl rfl)
theorem dX3_takes_77 : decode cX3_takes 77 = .ok (.iconst 5, 1) := dk_8 (dk_at dksX3_takes_3 6 rfl rfl)
theorem dX3_takes_78 : decode cX3_takes 78 = .ok (.invokevirtual 202, 3) := dk_182 0 202 (dk_at dksX3_takes_3 7 rfl rfl)
theorem dX3_takes_81 : decode cX3_takes 81 = .ok (.iconst 1, 1) := dk_4 (dk_at dksX3_takes_3 10 rfl rfl)
theorem dX3_takes_82 : decode cX3_takes 82 = .ok (.iadd, 1) := dk_96 (dk_at dksX3_takes_3 11 rfl rfl)
theorem dX3_takes_83 : decode cX3_takes 83 = .ok (.iastore, 1) := dk_79 (dk_at dksX3_takes_3 12 rfl rfl)
theorem dX3_takes_84 : decode cX3_takes 84 = .ok (.aload_n 0, 1) := dk_42 (dk_at dksX3_takes_3 13 rfl rfl)
theorem dX3_takes_85 : decode cX3_takes 85 = .ok (.getfield 7, 3) := dk_180 0 7 (dk_at dksX3_takes_3 14 rfl rfl)
theorem dX3_takes_88 : decode cX3_takes 88 = .ok (.iload 4, 2) := dk_21 4 (dk_at dksX3_takes_3 17 rfl rfl)
theorem dX3_takes_90 : decode cX3_takes 90 = .ok (.iconst 4, 1) := dk_7 (dk_at dksX3_takes_3 19 rfl rfl)
theorem dX3_takes_91 : decode cX3_takes 91 = .ok (.iadd, 1) := dk_96 (dk_at dksX3_takes_3 20 rfl rfl)
theorem dX3_takes_92 : decode cX3_takes 92 = .ok (.aload_n 0, 1) := dk_42 (dk_at dksX3_takes_3 21 rfl rfl)
theorem dX3_takes_93 : decode cX3_takes 93 = .ok (.iload_n 2, 1) := dk_28 (dk_at dksX3_takes_3 22 rfl rfl)
theorem dX3_takes_94 : decode cX3_takes 94 = .ok (.invokevirtual 265, 3) := dk_182 1 9 (dk_at dksX3_takes_4 0 rfl rfl)
theorem dX3_takes_97 : decode cX3_takes 97 = .ok (.ifCond .eq 7, 3) := dk_153 0 7 (dk_at dksX3_takes_4 3 rfl rfl)
theorem dX3_takes_100 : decode cX3_takes 100 = .ok (.iconst 1, 1) := dk_4 (dk_at dksX3_takes_4 6 rfl rfl)
theorem dX3_takes_101 : decode cX3_takes 101 = .ok (.goto 4, 3) := dk_167 0 4 (dk_at dksX3_takes_4 7 rfl rfl)
theorem dX3_takes_104 : decode cX3_takes 104 = .ok (.iconst 0, 1) := dk_3 (dk_at dksX3_takes_4 10 rfl rfl)
theorem dX3_takes_105 : decode cX3_takes 105 = .ok (.iastore, 1) := dk_79 (dk_at dksX3_takes_4 11 rfl rfl)
theorem dX3_takes_106 : decode cX3_takes 106 = .ok (.aload_n 0, 1) := dk_42 (dk_at dksX3_takes_4 12 rfl rfl)
theorem dX3_takes_107 : decode cX3_takes 107 = .ok (.getfield 7, 3) := dk_180 0 7 (dk_at dksX3_takes_4 13 rfl rfl)
theorem dX3_takes_110 : decode cX3_takes 110 = .ok (.iload 4, 2) := dk_21 4 (dk_at dksX3_takes_4 16 rfl rfl)
theorem dX3_takes_112 : decode cX3_takes 112 = .ok (.iconst 5, 1) := dk_8 (dk_at dksX3_takes_4 18 rfl rfl)
theorem dX3_takes_113 : decode cX3_takes 113 = .ok (.iadd, 1) := dk_96 (dk_at dksX3_takes_4 19 rfl rfl)
theorem dX3_takes_114 : decode cX3_takes 114 = .ok (.aload_n 0, 1) := dk_42 (dk_at dksX3_takes_4 20 rfl rfl)
theorem dX3_takes_115 : decode cX3_takes 115 = .ok (.invokevirtual 268, 3) := dk_182 1 12 (dk_at dksX3_takes_4 21 rfl rfl)
theorem dX3_takes_118 : decode cX3_takes 118 = .ok (.ifCond .eq 7, 3) := dk_153 0 7 (dk_at dksX3_takes_5 0 rfl rfl)
theorem dX3_takes_121 : decode cX3_takes 121 = .ok (.iconst 1, 1) := dk_4 (dk_at dksX3_takes_5 3 rfl rfl)
theorem dX3_takes_122 : decode cX3_takes 122 = .ok (.goto 4, 3) := dk_167 0 4 (dk_at dksX3_takes_5 4 rfl rfl)
theorem dX3_takes_125 : decode cX3_takes 125 = .ok (.iconst 0, 1) := dk_3 (dk_at dksX3_takes_5 7 rfl rfl)
theorem dX3_takes_126 : decode cX3_takes 126 = .ok (.iload 6, 2) := dk_21 6 (dk_at dksX3_takes_5 8 rfl rfl)
theorem dX3_takes_128 : decode cX3_takes 128 = .ok (.iconst (-1), 1) := dk_2 (dk_at dksX3_takes_5 10 rfl rfl)
theorem dX3_takes_129 : decode cX3_takes 129 = .ok (.if_icmp .ne 7, 3) := dk_160 0 7 (dk_at dksX3_takes_5 11 rfl rfl)
theorem dX3_takes_132 : decode cX3_takes 132 = .ok (.iconst 0, 1) := dk_3 (dk_at dksX3_takes_5 14 rfl rfl)
theorem dX3_takes_133 : decode cX3_takes 133 = .ok (.goto 4, 3) := dk_167 0 4 (dk_at dksX3_takes_5 15 rfl rfl)
theorem dX3_takes_136 : decode cX3_takes 136 = .ok (.iconst 2, 1) := dk_5 (dk_at dksX3_takes_5 18 rfl rfl)
theorem dX3_takes_137 : decode cX3_takes 137 = .ok (.iadd, 1) := dk_96 (dk_at dksX3_takes_5 19 rfl rfl)
theorem dX3_takes_138 : decode cX3_takes 138 = .ok (.iastore, 1) := dk_79 (dk_at dksX3_takes_5 20 rfl rfl)
theorem dX3_takes_139 : decode cX3_takes 139 = .ok (.aload_n 0, 1) := dk_42 (dk_at dksX3_takes_5 21 rfl rfl)
theorem dX3_takes_140 : decode cX3_takes 140 = .ok (.getfield 7, 3) := dk_180 0 7 (dk_at dksX3_takes_6 0 rfl rfl)
theorem dX3_takes_143 : decode cX3_takes 143 = .ok (.iload 4, 2) := dk_21 4 (dk_at dksX3_takes_6 3 rfl rfl)
theorem dX3_takes_145 : decode cX3_takes 145 = .ok (.bipush 6, 2) := dk_16 6 (dk_at dksX3_takes_6 5 rfl rfl)
theorem dX3_takes_147 : decode cX3_takes 147 = .ok (.iadd, 1) := dk_96 (dk_at dksX3_takes_6 7 rfl rfl)
theorem dX3_takes_148 : decode cX3_takes 148 = .ok (.iload_n 3, 1) := dk_29 (dk_at dksX3_takes_6 8 rfl rfl)
theorem dX3_takes_149 : decode cX3_takes 149 = .ok (.iastore, 1) := dk_79 (dk_at dksX3_takes_6 9 rfl rfl)
theorem dX3_takes_150 : decode cX3_takes 150 = .ok (.aload_n 0, 1) := dk_42 (dk_at dksX3_takes_6 10 rfl rfl)
theorem dX3_takes_151 : decode cX3_takes 151 = .ok (.getfield 7, 3) := dk_180 0 7 (dk_at dksX3_takes_6 11 rfl rfl)
theorem dX3_takes_154 : decode cX3_takes 154 = .ok (.iload 4, 2) := dk_21 4 (dk_at dksX3_takes_6 14 rfl rfl)
theorem dX3_takes_156 : decode cX3_takes 156 = .ok (.bipush 7, 2) := dk_16 7 (dk_at dksX3_takes_6 16 rfl rfl)
theorem dX3_takes_158 : decode cX3_takes 158 = .ok (.iadd, 1) := dk_96 (dk_at dksX3_takes_6 18 rfl rfl)
theorem dX3_takes_159 : decode cX3_takes 159 = .ok (.iload 5, 2) := dk_21 5 (dk_at dksX3_takes_6 19 rfl rfl)
theorem dX3_takes_161 : decode cX3_takes 161 = .ok (.iastore, 1) := dk_79 (dk_at dksX3_takes_6 21 rfl rfl)
theorem dX3_takes_162 : decode cX3_takes 162 = .ok (.iconst 0, 1) := dk_3 (dk_at dksX3_takes_6 22 rfl rfl)
theorem dX3_takes_163 : decode cX3_takes 163 = .ok (.istore 7, 2) := dk_54 7 (dk_at dksX3_takes_7 0 rfl rfl)
theorem dX3_takes_165 : decode cX3_takes 165 = .ok (.iload 7, 2) := dk_21 7 (dk_at dksX3_takes_7 2 rfl rfl)
theorem dX3_takes_167 : decode cX3_takes 167 = .ok (.aload_n 0, 1) := dk_42 (dk_at dksX3_takes_7 4 rfl rfl)
theorem dX3_takes_168 : decode cX3_takes 168 = .ok (.getfield 7, 3) := dk_180 0 7 (dk_at dksX3_takes_7 5 rfl rfl)
theorem dX3_takes_171 : decode cX3_takes 171 = .ok (.sipush 231, 3) := dk_17 0 231 (dk_at dksX3_takes_7 8 rfl rfl)
theorem dX3_takes_174 : decode cX3_takes 174 = .ok (.iaload, 1) := dk_46 (dk_at dksX3_takes_7 11 rfl rfl)
theorem dX3_takes_175 : decode cX3_takes 175 = .ok (.if_icmp .ge 57, 3) := dk_162 0 57 (dk_at dksX3_takes_7 12 rfl rfl)
theorem dX3_takes_178 : decode cX3_takes 178 = .ok (.aload_n 0, 1) := dk_42 (dk_at dksX3_takes_7 15 rfl rfl)
theorem dX3_takes_179 : decode cX3_takes 179 = .ok (.iload 7, 2) := dk_21 7 (dk_at dksX3_takes_7 16 rfl rfl)
theorem dX3_takes_181 : decode cX3_takes 181 = .ok (.iload_n 2, 1) := dk_28 (dk_at dksX3_takes_7 18 rfl rfl)
theorem dX3_takes_182 : decode cX3_takes 182 = .ok (.invokevirtual 234, 3) := dk_182 0 234 (dk_at dksX3_takes_7 19 rfl rfl)
theorem dX3_takes_185 : decode cX3_takes 185 = .ok (.ifCond .eq 41, 3) := dk_153 0 41 (dk_at dksX3_takes_8 0 rfl rfl)
theorem dX3_takes_188 : decode cX3_takes 188 = .ok (.aload_n 0, 1) := dk_42 (dk_at dksX3_takes_8 3 rfl rfl)
theorem dX3_takes_189 : decode cX3_takes 189 = .ok (.iload 7, 2) := dk_21 7 (dk_at dksX3_takes_8 4 rfl rfl)
theorem dX3_takes_191 : decode cX3_takes 191 = .ok (.invokevirtual 283, 3) := dk_182 1 27 (dk_at dksX3_takes_8 6 rfl rfl)
theorem dX3_takes_194 : decode cX3_takes 194 = .ok (.ifCond .eq 32, 3) := dk_153 0 32 (dk_at dksX3_takes_8 9 rfl rfl)
theorem dX3_takes_197 : decode cX3_takes 197 = .ok (.aload_n 0, 1) := dk_42 (dk_at dksX3_takes_8 12 rfl rfl)
theorem dX3_takes_198 : decode cX3_takes 198 = .ok (.iload 7, 2) := dk_21 7 (dk_at dksX3_takes_8 13 rfl rfl)
theorem dX3_takes_200 : decode cX3_takes 200 = .ok (.invokevirtual 247, 3) := dk_182 0 247 (dk_at dksX3_takes_8 15 rfl rfl)
theorem dX3_takes_203 : decode cX3_takes 203 = .ok (.iload 5, 2) := dk_21 5 (dk_at dksX3_takes_8 18 rfl rfl)
theorem dX3_takes_205 : decode cX3_takes 205 = .ok (.if_icmp .ge 21, 3) := dk_162 0 21 (dk_at dksX3_takes_8 20 rfl rfl)
theorem dX3_takes_208 : decode cX3_takes 208 = .ok (.aload_n 0, 1) := dk_42 (dk_at dksX3_takes_8 23 rfl rfl)
theorem dX3_takes_209 : decode cX3_takes 209 = .ok (.iload 7, 2) := dk_21 7 (dk_at dksX3_takes_9 0 rfl rfl)
theorem dX3_takes_211 : decode cX3_takes 211 = .ok (.bipush 9, 2) := dk_16 9 (dk_at dksX3_takes_9 2 rfl rfl)
theorem dX3_takes_213 : decode cX3_takes 213 = .ok (.aload_n 0, 1) := dk_42 (dk_at dksX3_takes_9 4 rfl rfl)
theorem dX3_takes_214 : decode cX3_takes 214 = .ok (.iload 7, 2) := dk_21 7 (dk_at dksX3_takes_9 5 rfl rfl)
theorem dX3_takes_216 : decode cX3_takes 216 = .ok (.bipush 9, 2) := dk_16 9 (dk_at dksX3_takes_9 7 rfl rfl)
theorem dX3_takes_218 : decode cX3_takes 218 = .ok (.invokevirtual 205, 3) := dk_182 0 205 (dk_at dksX3_takes_9 9 rfl rfl)
theorem dX3_takes_221 : decode cX3_takes 221 = .ok (.iconst 1, 1) := dk_4 (dk_at dksX3_takes_9 12 rfl rfl)
theorem dX3_takes_222 : decode cX3_takes 222 = .ok (.iadd, 1) := dk_96 (dk_at dksX3_takes_9 13 rfl rfl)
theorem dX3_takes_223 : decode cX3_takes 223 = .ok (.invokevirtual 289, 3) := dk_182 1 33 (dk_at dksX3_takes_9 14 rfl rfl)
theorem dX3_takes_226 : decode cX3_takes 226 = .ok (.iinc 7 1, 3) := dk_132 7 1 (dk_at dksX3_takes_9 17 rfl rfl)
theorem dX3_takes_229 : decode cX3_takes 229 = .ok (.goto (-64), 3) := dk_167 255 192 (dk_at dksX3_takes_9 20 rfl rfl)
theorem dX3_takes_232 : decode cX3_takes 232 = .ok (.aload_n 0, 1) := dk_42 (dk_at dksX3_takes_9 23 rfl rfl)
theorem dX3_takes_233 : decode cX3_takes 233 = .ok (.getfield 7, 3) := dk_180 0 7 (dk_at dksX3_takes_10 0 rfl rfl)
theorem dX3_takes_236 : decode cX3_takes 236 = .ok (.sipush 233, 3) := dk_17 0 233 (dk_at dksX3_takes_10 3 rfl rfl)
theorem dX3_takes_239 : decode cX3_takes 239 = .ok (.dup2, 1) := dk_92 (dk_at dksX3_takes_10 6 rfl rfl)
theorem dX3_takes_240 : decode cX3_takes 240 = .ok (.iaload, 1) := dk_46 (dk_at dksX3_takes_10 7 rfl rfl)
theorem dX3_takes_241 : decode cX3_takes 241 = .ok (.iconst 1, 1) := dk_4 (dk_at dksX3_takes_10 8 rfl rfl)
theorem dX3_takes_242 : decode cX3_takes 242 = .ok (.iadd, 1) := dk_96 (dk_at dksX3_takes_10 9 rfl rfl)
theorem dX3_takes_243 : decode cX3_takes 243 = .ok (.iastore, 1) := dk_79 (dk_at dksX3_takes_10 10 rfl rfl)
theorem dX3_takes_244 : decode cX3_takes 244 = .ok (.aload_n 0, 1) := dk_42 (dk_at dksX3_takes_10 11 rfl rfl)
theorem dX3_takes_245 : decode cX3_takes 245 = .ok (.iload_n 1, 1) := dk_27 (dk_at dksX3_takes_10 12 rfl rfl)
theorem dX3_takes_246 : decode cX3_takes 246 = .ok (.bipush 8, 2) := dk_16 8 (dk_at dksX3_takes_10 13 rfl rfl)
theorem dX3_takes_248 : decode cX3_takes 248 = .ok (.iconst 1, 1) := dk_4 (dk_at dksX3_takes_10 15 rfl rfl)
theorem dX3_takes_249 : decode cX3_takes 249 = .ok (.invokevirtual 289, 3) := dk_182 1 33 (dk_at dksX3_takes_10 16 rfl rfl)
theorem dX3_takes_252 : decode cX3_takes 252 = .ok (.aload_n 0, 1) := dk_42 (dk_at dksX3_takes_10 19 rfl rfl)
theorem dX3_takes_253 : decode cX3_takes 253 = .ok (.iload_n 1, 1) := dk_27 (dk_at dksX3_takes_10 20 rfl rfl)
theorem dX3_takes_254 : decode cX3_takes 254 = .ok (.iconst 4, 1) := dk_7 (dk_at dksX3_takes_10 21 rfl rfl)
theorem dX3_takes_255 : decode cX3_takes 255 = .ok (.iload_n 2, 1) := dk_28 (dk_at dksX3_takes_10 22 rfl rfl)
theorem dX3_takes_256 : decode cX3_takes 256 = .ok (.invokevirtual 289, 3) := dk_182 1 33 (dk_at dksX3_takes_11 0 rfl rfl)
theorem dX3_takes_259 : decode cX3_takes 259 = .ok (.aload_n 0, 1) := dk_42 (dk_at dksX3_takes_11 3 rfl rfl)
theorem dX3_takes_260 : decode cX3_takes 260 = .ok (.iload_n 2, 1) := dk_28 (dk_at dksX3_takes_11 4 rfl rfl)
theorem dX3_takes_261 : decode cX3_takes 261 = .ok (.iconst 2, 1) := dk_5 (dk_at dksX3_takes_11 5 rfl rfl)
theorem dX3_takes_262 : decode cX3_takes 262 = .ok (.iload_n 1, 1) := dk_27 (dk_at dksX3_takes_11 6 rfl rfl)
theorem dX3_takes_263 : decode cX3_takes 263 = .ok (.invokevirtual 293, 3) := dk_182 1 37 (dk_at dksX3_takes_11 7 rfl rfl)
theorem dX3_takes_266 : decode cX3_takes 266 = .ok (.aload_n 0, 1) := dk_42 (dk_at dksX3_takes_11 10 rfl rfl)
theorem dX3_takes_267 : decode cX3_takes 267 = .ok (.iload_n 2, 1) := dk_28 (dk_at dksX3_takes_11 11 rfl rfl)
theorem dX3_takes_268 : decode cX3_takes 268 = .ok (.iconst 4, 1) := dk_7 (dk_at dksX3_takes_11 12 rfl rfl)
theorem dX3_takes_269 : decode cX3_takes 269 = .ok (.aload_n 0, 1) := dk_42 (dk_at dksX3_takes_11 13 rfl rfl)
theorem dX3_takes_270 : decode cX3_takes 270 = .ok (.iload_n 2, 1) := dk_28 (dk_at dksX3_takes_11 14 rfl rfl)
theorem dX3_takes_271 : decode cX3_takes 271 = .ok (.iconst 4, 1) := dk_7 (dk_at dksX3_takes_11 15 rfl rfl)
theorem dX3_takes_272 : decode cX3_takes 272 = .ok (.invokevirtual 202, 3) := dk_182 0 202 (dk_at dksX3_takes_11 16 rfl rfl)
theorem dX3_takes_275 : decode cX3_takes 275 = .ok (.iconst 1, 1) := dk_4 (dk_at dksX3_takes_11 19 rfl rfl)
theorem dX3_takes_276 : decode cX3_takes 276 = .ok (.iadd, 1) := dk_96 (dk_at dksX3_takes_11 20 rfl rfl)
theorem dX3_takes_277 : decode cX3_takes 277 = .ok (.invokevirtual 293, 3) := dk_182 1 37 (dk_at dksX3_takes_11 21 rfl rfl)
theorem dX3_takes_280 : decode cX3_takes 280 = .ok (.iload 6, 2) := dk_21 6 (dk_at dksX3_takes_12 0 rfl rfl)
theorem dX3_takes_282 : decode cX3_takes 282 = .ok (.iconst (-1), 1) := dk_2 (dk_at dksX3_takes_12 2 rfl rfl)
theorem dX3_takes_283 : decode cX3_takes 283 = .ok (.if_icmp .eq 18, 3) := dk_159 0 18 (dk_at dksX3_takes_12 3 rfl rfl)
theorem dX3_takes_286 : decode cX3_takes 286 = .ok (.aload_n 0, 1) := dk_42 (dk_at dksX3_takes_12 6 rfl rfl)
theorem dX3_takes_287 : decode cX3_takes 287 = .ok (.iload 6, 2) := dk_21 6 (dk_at dksX3_takes_12 7 rfl rfl)
theorem dX3_takes_289 : decode cX3_takes 289 = .ok (.aload_n 0, 1) := dk_42 (dk_at dksX3_takes_12 9 rfl rfl)
theorem dX3_takes_290 : decode cX3_takes 290 = .ok (.getfield 7, 3) := dk_180 0 7 (dk_at dksX3_takes_12 10 rfl rfl)
theorem dX3_takes_293 : decode cX3_takes 293 = .ok (.iload 4, 2) := dk_21 4 (dk_at dksX3_takes_12 13 rfl rfl)
theorem dX3_takes_295 : decode cX3_takes 295 = .ok (.iconst 3, 1) := dk_6 (dk_at dksX3_takes_12 15 rfl rfl)
theorem dX3_takes_296 : decode cX3_takes 296 = .ok (.iadd, 1) := dk_96 (dk_at dksX3_takes_12 16 rfl rfl)
theorem dX3_takes_297 : decode cX3_takes 297 = .ok (.iaload, 1) := dk_46 (dk_at dksX3_takes_12 17 rfl rfl)
theorem dX3_takes_298 : decode cX3_takes 298 = .ok (.invokevirtual 296, 3) := dk_182 1 40 (dk_at dksX3_takes_12 18 rfl rfl)
theorem dX3_takes_301 : decode cX3_takes 301 = .ok (.return_, 1) := dk_177 (dk_at dksX3_takes_12 21 rfl rfl)
abbrev cX3_putsHome : ByteArray := prog_15_method_76_code
def yX3_putsHome : MethodName := ⟨RX3, "putsHome", "(III)V"⟩
def dkwX3_putsHome_0 : List UInt8 := [42, 180, 0, 7, 16, 8, 27, 104, 28, 96, 29, 79, 177]
abbrev dktX3_putsHome_0 : List UInt8 := dkwX3_putsHome_0 ++ []
theorem dksX3_putsHome_0 : cX3_putsHome.data.toList.drop 0 = dktX3_putsHome_0 := by decide +kernel
theorem dX3_putsHome_0 : decode cX3_putsHome 0 = .ok (.aload_n 0, 1) := dk_42 (dk_at dksX3_putsHome_0 0 rfl rfl)
theorem dX3_putsHome_1 : decode cX3_putsHome 1 = .ok (.getfield 7, 3) := dk_180 0 7 (dk_at dksX3_putsHome_0 1 rfl rfl)
theorem dX3_putsHome_4 : decode cX3_putsHome 4 = .ok (.bipush 8, 2) := dk_16 8 (dk_at dksX3_putsHome_0 4 rfl rfl)
theorem dX3_putsHome_6 : decode cX3_putsHome 6 = .ok (.iload_n 1, 1) := dk_27 (dk_at dksX3_putsHome_0 6 rfl rfl)
theorem dX3_putsHome_7 : decode cX3_putsHome 7 = .ok (.imul, 1) := dk_104 (dk_at dksX3_putsHome_0 7 rfl rfl)
theorem dX3_putsHome_8 : decode cX3_putsHome 8 = .ok (.iload_n 2, 1) := dk_28 (dk_at dksX3_putsHome_0 8 rfl rfl)
theorem dX3_putsHome_9 : decode cX3_putsHome 9 = .ok (.iadd, 1) := dk_96 (dk_at dksX3_putsHome_0 9 rfl rfl)
theorem dX3_putsHome_10 : decode cX3_putsHome 10 = .ok (.iload_n 3, 1) := dk_29 (dk_at dksX3_putsHome_0 10 rfl rfl)
theorem dX3_putsHome_11 : decode cX3_putsHome 11 = .ok (.iastore, 1) := dk_79 (dk_at dksX3_putsHome_0 11 rfl rfl)
theorem dX3_putsHome_12 : decode cX3_putsHome 12 = .ok (.return_, 1) := dk_177 (dk_at dksX3_putsHome_0 12 rfl rfl)
abbrev cX3_leaves : ByteArray := prog_15_method_80_code
def yX3_leaves : MethodName := ⟨RX3, "leaves", "(II)V"⟩
def dkwX3_leaves_0 : List UInt8 := [42, 27, 5, 2, 182, 1, 37, 42, 27, 6, 4, 182, 1, 37, 42, 27, 8, 28, 182, 1, 37, 177]
abbrev dktX3_leaves_0 : List UInt8 := dkwX3_leaves_0 ++ []
theorem dksX3_leaves_0 : cX3_leaves.data.toList.drop 0 = dktX3_leaves_0 := by decide +kernel
theorem dX3_leaves_0 : decode cX3_leaves 0 = .ok (.aload_n 0, 1) := dk_42 (dk_at dksX3_leaves_0 0 rfl rfl)
theorem dX3_leaves_1 : decode cX3_leaves 1 = .ok (.iload_n 1, 1) := dk_27 (dk_at dksX3_leaves_0 1 rfl rfl)
theorem dX3_leaves_2 : decode cX3_leaves 2 = .ok (.iconst 2, 1) := dk_5 (dk_at dksX3_leaves_0 2 rfl rfl)
theorem dX3_leaves_3 : decode cX3_leaves 3 = .ok (.iconst (-1), 1) := dk_2 (dk_at dksX3_leaves_0 3 rfl rfl)
theorem dX3_leaves_4 : decode cX3_leaves 4 = .ok (.invokevirtual 293, 3) := dk_182 1 37 (dk_at dksX3_leaves_0 4 rfl rfl)
theorem dX3_leaves_7 : decode cX3_leaves 7 = .ok (.aload_n 0, 1) := dk_42 (dk_at dksX3_leaves_0 7 rfl rfl)
theorem dX3_leaves_8 : decode cX3_leaves 8 = .ok (.iload_n 1, 1) := dk_27 (dk_at dksX3_leaves_0 8 rfl rfl)
theorem dX3_leaves_9 : decode cX3_leaves 9 = .ok (.iconst 3, 1) := dk_6 (dk_at dksX3_leaves_0 9 rfl rfl)
theorem dX3_leaves_10 : decode cX3_leaves 10 = .ok (.iconst 1, 1) := dk_4 (dk_at dksX3_leaves_0 10 rfl rfl)
theorem dX3_leaves_11 : decode cX3_leaves 11 = .ok (.invokevirtual 293, 3) := dk_182 1 37 (dk_at dksX3_leaves_0 11 rfl rfl)
theorem dX3_leaves_14 : decode cX3_leaves 14 = .ok (.aload_n 0, 1) := dk_42 (dk_at dksX3_leaves_0 14 rfl rfl)
theorem dX3_leaves_15 : decode cX3_leaves 15 = .ok (.iload_n 1, 1) := dk_27 (dk_at dksX3_leaves_0 15 rfl rfl)
theorem dX3_leaves_16 : decode cX3_leaves 16 = .ok (.iconst 5, 1) := dk_8 (dk_at dksX3_leaves_0 16 rfl rfl)
theorem dX3_leaves_17 : decode cX3_leaves 17 = .ok (.iload_n 2, 1) := dk_28 (dk_at dksX3_leaves_0 17 rfl rfl)
theorem dX3_leaves_18 : decode cX3_leaves 18 = .ok (.invokevirtual 293, 3) := dk_182 1 37 (dk_at dksX3_leaves_0 18 rfl rfl)
theorem dX3_leaves_21 : decode cX3_leaves 21 = .ok (.return_, 1) := dk_177 (dk_at dksX3_leaves_0 21 rfl rfl)
abbrev cX3_refuses : ByteArray := prog_15_method_78_code
def yX3_refuses : MethodName := ⟨RX3, "refuses", "(I)V"⟩
def dkwX3_refuses_3 : List UInt8 := [182, 1, 33, 177]
abbrev dktX3_refuses_3 : List UInt8 := dkwX3_refuses_3 ++ []
def dkwX3_refuses_2 : List UInt8 := [182, 1, 33, 42, 27, 16, 6, 42, 180, 0, 7, 17, 0, 225, 46, 182, 1, 33, 42, 27, 16, 7, 4]
abbrev dktX3_refuses_2 : List UInt8 := dkwX3_refuses_2 ++ dktX3_refuses_3
def dkwX3_refuses_1 : List UInt8 := [96, 79, 42, 27, 8, 182, 0, 205, 42, 180, 0, 7, 17, 0, 224, 46, 162, 0, 4, 177, 42, 27, 8, 3]
abbrev dktX3_refuses_1 : List UInt8 := dkwX3_refuses_1 ++ dktX3_refuses_2
def dkwX3_refuses_0 : List UInt8 := [42, 27, 8, 42, 27, 8, 182, 0, 205, 4, 96, 182, 1, 33, 42, 180, 0, 7, 17, 1, 42, 92, 46, 4]
abbrev dktX3_refuses_0 : List UInt8 := dkwX3_refuses_0 ++ dktX3_refuses_1
theorem dksX3_refuses_0 : cX3_refuses.data.toList.drop 0 = dktX3_refuses_0 := by decide +kernel
theorem dksX3_refuses_1 : cX3_refuses.data.toList.drop 24 = dktX3_refuses_1 := dk_seg dksX3_refuses_0 24 rfl rfl
theorem dksX3_refuses_2 : cX3_refuses.data.toList.drop 48 = dktX3_refuses_2 := dk_seg dksX3_refuses_1 24 rfl rfl
theorem dksX3_refuses_3 : cX3_refuses.data.toList.drop 71 = dktX3_refuses_3 := dk_seg dksX3_refuses_2 23 rfl rfl
theorem dX3_refuses_0 : decode cX3_refuses 0 = .ok (.aload_n 0, 1) := dk_42 (dk_at dksX3_refuses_0 0 rfl rfl)
theorem dX3_refuses_1 : decode cX3_refuses 1 = .ok (.iload_n 1, 1) := dk_27 (dk_at dksX3_refuses_0 1 rfl rfl)
theorem dX3_refuses_2 : decode cX3_refuses 2 = .ok (.iconst 5, 1) := dk_8 (dk_at dksX3_refuses_0 2 rfl rfl)
theorem dX3_refuses_3 : decode cX3_refuses 3 = .ok (.aload_n 0, 1) := dk_42 (dk_at dksX3_refuses_0 3 rfl rfl)
theorem dX3_refuses_4 : decode cX3_refuses 4 = .ok (.iload_n 1, 1) := dk_27 (dk_at dksX3_refuses_0 4 rfl rfl)
theorem dX3_refuses_5 : decode cX3_refuses 5 = .ok (.iconst 5, 1) := dk_8 (dk_at dksX3_refuses_0 5 rfl rfl)
theorem dX3_refuses_6 : decode cX3_refuses 6 = .ok (.invokevirtual 205, 3) := dk_182 0 205 (dk_at dksX3_refuses_0 6 rfl rfl)
theorem dX3_refuses_9 : decode cX3_refuses 9 = .ok (.iconst 1, 1) := dk_4 (dk_at dksX3_refuses_0 9 rfl rfl)
theorem dX3_refuses_10 : decode cX3_refuses 10 = .ok (.iadd, 1) := dk_96 (dk_at dksX3_refuses_0 10 rfl rfl)
theorem dX3_refuses_11 : decode cX3_refuses 11 = .ok (.invokevirtual 289, 3) := dk_182 1 33 (dk_at dksX3_refuses_0 11 rfl rfl)
theorem dX3_refuses_14 : decode cX3_refuses 14 = .ok (.aload_n 0, 1) := dk_42 (dk_at dksX3_refuses_0 14 rfl rfl)
theorem dX3_refuses_15 : decode cX3_refuses 15 = .ok (.getfield 7, 3) := dk_180 0 7 (dk_at dksX3_refuses_0 15 rfl rfl)
theorem dX3_refuses_18 : decode cX3_refuses 18 = .ok (.sipush 298, 3) := dk_17 1 42 (dk_at dksX3_refuses_0 18 rfl rfl)
theorem dX3_refuses_21 : decode cX3_refuses 21 = .ok (.dup2, 1) := dk_92 (dk_at dksX3_refuses_0 21 rfl rfl)
theorem dX3_refuses_22 : decode cX3_refuses 22 = .ok (.iaload, 1) := dk_46 (dk_at dksX3_refuses_0 22 rfl rfl)
theorem dX3_refuses_23 : decode cX3_refuses 23 = .ok (.iconst 1, 1) := dk_4 (dk_at dksX3_refuses_0 23 rfl rfl)
theorem dX3_refuses_24 : decode cX3_refuses 24 = .ok (.iadd, 1) := dk_96 (dk_at dksX3_refuses_1 0 rfl rfl)
theorem dX3_refuses_25 : decode cX3_refuses 25 = .ok (.iastore, 1) := dk_79 (dk_at dksX3_refuses_1 1 rfl rfl)
theorem dX3_refuses_26 : decode cX3_refuses 26 = .ok (.aload_n 0, 1) := dk_42 (dk_at dksX3_refuses_1 2 rfl rfl)
theorem dX3_refuses_27 : decode cX3_refuses 27 = .ok (.iload_n 1, 1) := dk_27 (dk_at dksX3_refuses_1 3 rfl rfl)
theorem dX3_refuses_28 : decode cX3_refuses 28 = .ok (.iconst 5, 1) := dk_8 (dk_at dksX3_refuses_1 4 rfl rfl)
theorem dX3_refuses_29 : decode cX3_refuses 29 = .ok (.invokevirtual 205, 3) := dk_182 0 205 (dk_at dksX3_refuses_1 5 rfl rfl)
theorem dX3_refuses_32 : decode cX3_refuses 32 = .ok (.aload_n 0, 1) := dk_42 (dk_at dksX3_refuses_1 8 rfl rfl)
theorem dX3_refuses_33 : decode cX3_refuses 33 = .ok (.getfield 7, 3) := dk_180 0 7 (dk_at dksX3_refuses_1 9 rfl rfl)
theorem dX3_refuses_36 : decode cX3_refuses 36 = .ok (.sipush 224, 3) := dk_17 0 224 (dk_at dksX3_refuses_1 12 rfl rfl)
theorem dX3_refuses_39 : decode cX3_refuses 39 = .ok (.iaload, 1) := dk_46 (dk_at dksX3_refuses_1 15 rfl rfl)
theorem dX3_refuses_40 : decode cX3_refuses 40 = .ok (.if_icmp .ge 4, 3) := dk_162 0 4 (dk_at dksX3_refuses_1 16 rfl rfl)
theorem dX3_refuses_43 : decode cX3_refuses 43 = .ok (.return_, 1) := dk_177 (dk_at dksX3_refuses_1 19 rfl rfl)
theorem dX3_refuses_44 : decode cX3_refuses 44 = .ok (.aload_n 0, 1) := dk_42 (dk_at dksX3_refuses_1 20 rfl rfl)
theorem dX3_refuses_45 : decode cX3_refuses 45 = .ok (.iload_n 1, 1) := dk_27 (dk_at dksX3_refuses_1 21 rfl rfl)
theorem dX3_refuses_46 : decode cX3_refuses 46 = .ok (.iconst 5, 1) := dk_8 (dk_at dksX3_refuses_1 22 rfl rfl)
theorem dX3_refuses_47 : decode cX3_refuses 47 = .ok (.iconst 0, 1) := dk_3 (dk_at dksX3_refuses_1 23 rfl rfl)
theorem dX3_refuses_48 : decode cX3_refuses 48 = .ok (.invokevirtual 289, 3) := dk_182 1 33 (dk_at dksX3_refuses_2 0 rfl rfl)
theorem dX3_refuses_51 : decode cX3_refuses 51 = .ok (.aload_n 0, 1) := dk_42 (dk_at dksX3_refuses_2 3 rfl rfl)
theorem dX3_refuses_52 : decode cX3_refuses 52 = .ok (.iload_n 1, 1) := dk_27 (dk_at dksX3_refuses_2 4 rfl rfl)
theorem dX3_refuses_53 : decode cX3_refuses 53 = .ok (.bipush 6, 2) := dk_16 6 (dk_at dksX3_refuses_2 5 rfl rfl)
theorem dX3_refuses_55 : decode cX3_refuses 55 = .ok (.aload_n 0, 1) := dk_42 (dk_at dksX3_refuses_2 7 rfl rfl)
theorem dX3_refuses_56 : decode cX3_refuses 56 = .ok (.getfield 7, 3) := dk_180 0 7 (dk_at dksX3_refuses_2 8 rfl rfl)
theorem dX3_refuses_59 : decode cX3_refuses 59 = .ok (.sipush 225, 3) := dk_17 0 225 (dk_at dksX3_refuses_2 11 rfl rfl)
theorem dX3_refuses_62 : decode cX3_refuses 62 = .ok (.iaload, 1) := dk_46 (dk_at dksX3_refuses_2 14 rfl rfl)
theorem dX3_refuses_63 : decode cX3_refuses 63 = .ok (.invokevirtual 289, 3) := dk_182 1 33 (dk_at dksX3_refuses_2 15 rfl rfl)
theorem dX3_refuses_66 : decode cX3_refuses 66 = .ok (.aload_n 0, 1) := dk_42 (dk_at dksX3_refuses_2 18 rfl rfl)
theorem dX3_refuses_67 : decode cX3_refuses 67 = .ok (.iload_n 1, 1) := dk_27 (dk_at dksX3_refuses_2 19 rfl rfl)
theorem dX3_refuses_68 : decode cX3_refuses 68 = .ok (.bipush 7, 2) := dk_16 7 (dk_at dksX3_refuses_2 20 rfl rfl)
theorem dX3_refuses_70 : decode cX3_refuses 70 = .ok (.iconst 1, 1) := dk_4 (dk_at dksX3_refuses_2 22 rfl rfl)
theorem dX3_refuses_71 : decode cX3_refuses 71 = .ok (.invokevirtual 289, 3) := dk_182 1 33 (dk_at dksX3_refuses_3 0 rfl rfl)
theorem dX3_refuses_74 : decode cX3_refuses 74 = .ok (.return_, 1) := dk_177 (dk_at dksX3_refuses_3 3 rfl rfl)
abbrev cX3_when : ByteArray := prog_15_method_93_code
def yX3_when : MethodName := ⟨RX3, "when", "(IIZ)I"⟩
def dkwX3_when_6 : List UInt8 := [182, 0, 186, 167, 0, 9, 42, 21, 4, 182, 0, 199, 172]
abbrev dktX3_when_6 : List UInt8 := dkwX3_when_6 ++ []
def dkwX3_when_5 : List UInt8 := [167, 255, 202, 42, 180, 0, 16, 42, 180, 0, 7, 184, 0, 192, 21, 4, 2, 160, 0, 11, 42, 8]
abbrev dktX3_when_5 : List UInt8 := dkwX3_when_5 ++ dktX3_when_6
def dkwX3_when_4 : List UInt8 := [154, 0, 20, 29, 153, 0, 12, 42, 27, 7, 182, 0, 205, 167, 0, 5, 21, 6, 54, 4, 132, 5, 1]
abbrev dktX3_when_4 : List UInt8 := dkwX3_when_4 ++ dktX3_when_5
def dkwX3_when_3 : List UInt8 := [160, 0, 48, 42, 180, 0, 7, 17, 0, 232, 46, 54, 6, 42, 182, 1, 75, 42, 27, 182, 0, 208]
abbrev dktX3_when_3 : List UInt8 := dkwX3_when_3 ++ dktX3_when_4
def dkwX3_when_2 : List UInt8 := [42, 180, 0, 16, 184, 0, 192, 2, 54, 4, 3, 54, 5, 21, 5, 28, 162, 0, 54, 21, 4, 2]
abbrev dktX3_when_2 : List UInt8 := dkwX3_when_2 ++ dktX3_when_3
def dkwX3_when_1 : List UInt8 := [42, 5, 182, 0, 186, 172, 42, 27, 182, 0, 208, 154, 0, 9, 42, 7, 182, 0, 186, 172, 42, 180, 0, 7]
abbrev dktX3_when_1 : List UInt8 := dkwX3_when_1 ++ dktX3_when_2
def dkwX3_when_0 : List UInt8 := [28, 4, 16, 30, 184, 0, 71, 154, 0, 9, 42, 4, 182, 0, 186, 172, 42, 27, 182, 0, 244, 154, 0, 9]
abbrev dktX3_when_0 : List UInt8 := dkwX3_when_0 ++ dktX3_when_1
theorem dksX3_when_0 : cX3_when.data.toList.drop 0 = dktX3_when_0 := by decide +kernel
theorem dksX3_when_1 : cX3_when.data.toList.drop 24 = dktX3_when_1 := dk_seg dksX3_when_0 24 rfl rfl
theorem dksX3_when_2 : cX3_when.data.toList.drop 48 = dktX3_when_2 := dk_seg dksX3_when_1 24 rfl rfl
theorem dksX3_when_3 : cX3_when.data.toList.drop 70 = dktX3_when_3 := dk_seg dksX3_when_2 22 rfl rfl
theorem dksX3_when_4 : cX3_when.data.toList.drop 92 = dktX3_when_4 := dk_seg dksX3_when_3 22 rfl rfl
theorem dksX3_when_5 : cX3_when.data.toList.drop 115 = dktX3_when_5 := dk_seg dksX3_when_4 23 rfl rfl
theorem dksX3_when_6 : cX3_when.data.toList.drop 137 = dktX3_when_6 := dk_seg dksX3_when_5 22 rfl rfl
theorem dX3_when_0 : decode cX3_when 0 = .ok (.iload_n 2, 1) := dk_28 (dk_at dksX3_when_0 0 rfl rfl)
theorem dX3_when_1 : decode cX3_when 1 = .ok (.iconst 1, 1) := dk_4 (dk_at dksX3_when_0 1 rfl rfl)
theorem dX3_when_2 : decode cX3_when 2 = .ok (.bipush 30, 2) := dk_16 30 (dk_at dksX3_when_0 2 rfl rfl)
theorem dX3_when_4 : decode cX3_when 4 = .ok (.invokestatic 71, 3) := dk_184 0 71 (dk_at dksX3_when_0 4 rfl rfl)
theorem dX3_when_7 : decode cX3_when 7 = .ok (.ifCond .ne 9, 3) := dk_154 0 9 (dk_at dksX3_when_0 7 rfl rfl)
theorem dX3_when_10 : decode cX3_when 10 = .ok (.aload_n 0, 1) := dk_42 (dk_at dksX3_when_0 10 rfl rfl)
theorem dX3_when_11 : decode cX3_when 11 = .ok (.iconst 1, 1) := dk_4 (dk_at dksX3_when_0 11 rfl rfl)
theorem dX3_when_12 : decode cX3_when 12 = .ok (.invokevirtual 186, 3) := dk_182 0 186 (dk_at dksX3_when_0 12 rfl rfl)
theorem dX3_when_15 : decode cX3_when 15 = .ok (.ireturn, 1) := dk_172 (dk_at dksX3_when_0 15 rfl rfl)
theorem dX3_when_16 : decode cX3_when 16 = .ok (.aload_n 0, 1) := dk_42 (dk_at dksX3_when_0 16 rfl rfl)
theorem dX3_when_17 : decode cX3_when 17 = .ok (.iload_n 1, 1) := dk_27 (dk_at dksX3_when_0 17 rfl rfl)
theorem dX3_when_18 : decode cX3_when 18 = .ok (.invokevirtual 244, 3) := dk_182 0 244 (dk_at dksX3_when_0 18 rfl rfl)
theorem dX3_when_21 : decode cX3_when 21 = .ok (.ifCond .ne 9, 3) := dk_154 0 9 (dk_at dksX3_when_0 21 rfl rfl)
theorem dX3_when_24 : decode cX3_when 24 = .ok (.aload_n 0, 1) := dk_42 (dk_at dksX3_when_1 0 rfl rfl)
theorem dX3_when_25 : decode cX3_when 25 = .ok (.iconst 2, 1) := dk_5 (dk_at dksX3_when_1 1 rfl rfl)
theorem dX3_when_26 : decode cX3_when 26 = .ok (.invokevirtual 186, 3) := dk_182 0 186 (dk_at dksX3_when_1 2 rfl rfl)
theorem dX3_when_29 : decode cX3_when 29 = .ok (.ireturn, 1) := dk_172 (dk_at dksX3_when_1 5 rfl rfl)
theorem dX3_when_30 : decode cX3_when 30 = .ok (.aload_n 0, 1) := dk_42 (dk_at dksX3_when_1 6 rfl rfl)
theorem dX3_when_31 : decode cX3_when 31 = .ok (.iload_n 1, 1) := dk_27 (dk_at dksX3_when_1 7 rfl rfl)
theorem dX3_when_32 : decode cX3_when 32 = .ok (.invokevirtual 208, 3) := dk_182 0 208 (dk_at dksX3_when_1 8 rfl rfl)
theorem dX3_when_35 : decode cX3_when 35 = .ok (.ifCond .ne 9, 3) := dk_154 0 9 (dk_at dksX3_when_1 11 rfl rfl)
theorem dX3_when_38 : decode cX3_when 38 = .ok (.aload_n 0, 1) := dk_42 (dk_at dksX3_when_1 14 rfl rfl)
theorem dX3_when_39 : decode cX3_when 39 = .ok (.iconst 4, 1) := dk_7 (dk_at dksX3_when_1 15 rfl rfl)
theorem dX3_when_40 : decode cX3_when 40 = .ok (.invokevirtual 186, 3) := dk_182 0 186 (dk_at dksX3_when_1 16 rfl rfl)
theorem dX3_when_43 : decode cX3_when 43 = .ok (.ireturn, 1) := dk_172 (dk_at dksX3_when_1 19 rfl rfl)
theorem dX3_when_44 : decode cX3_when 44 = .ok (.aload_n 0, 1) := dk_42 (dk_at dksX3_when_1 20 rfl rfl)
theorem dX3_when_45 : decode cX3_when 45 = .ok (.getfield 7, 3) := dk_180 0 7 (dk_at dksX3_when_1 21 rfl rfl)
theorem dX3_when_48 : decode cX3_when 48 = .ok (.aload_n 0, 1) := dk_42 (dk_at dksX3_when_2 0 rfl rfl)
theorem dX3_when_49 : decode cX3_when 49 = .ok (.getfield 16, 3) := dk_180 0 16 (dk_at dksX3_when_2 1 rfl rfl)
theorem dX3_when_52 : decode cX3_when 52 = .ok (.invokestatic 192, 3) := dk_184 0 192 (dk_at dksX3_when_2 4 rfl rfl)
theorem dX3_when_55 : decode cX3_when 55 = .ok (.iconst (-1), 1) := dk_2 (dk_at dksX3_when_2 7 rfl rfl)
theorem dX3_when_56 : decode cX3_when 56 = .ok (.istore 4, 2) := dk_54 4 (dk_at dksX3_when_2 8 rfl rfl)
theorem dX3_when_58 : decode cX3_when 58 = .ok (.iconst 0, 1) := dk_3 (dk_at dksX3_when_2 10 rfl rfl)
theorem dX3_when_59 : decode cX3_when 59 = .ok (.istore 5, 2) := dk_54 5 (dk_at dksX3_when_2 11 rfl rfl)
theorem dX3_when_61 : decode cX3_when 61 = .ok (.iload 5, 2) := dk_21 5 (dk_at dksX3_when_2 13 rfl rfl)
theorem dX3_when_63 : decode cX3_when 63 = .ok (.iload_n 2, 1) := dk_28 (dk_at dksX3_when_2 15 rfl rfl)
theorem dX3_when_64 : decode cX3_when 64 = .ok (.if_icmp .ge 54, 3) := dk_162 0 54 (dk_at dksX3_when_2 16 rfl rfl)
theorem dX3_when_67 : decode cX3_when 67 = .ok (.iload 4, 2) := dk_21 4 (dk_at dksX3_when_2 19 rfl rfl)
theorem dX3_when_69 : decode cX3_when 69 = .ok (.iconst (-1), 1) := dk_2 (dk_at dksX3_when_2 21 rfl rfl)
theorem dX3_when_70 : decode cX3_when 70 = .ok (.if_icmp .ne 48, 3) := dk_160 0 48 (dk_at dksX3_when_3 0 rfl rfl)
theorem dX3_when_73 : decode cX3_when 73 = .ok (.aload_n 0, 1) := dk_42 (dk_at dksX3_when_3 3 rfl rfl)
theorem dX3_when_74 : decode cX3_when 74 = .ok (.getfield 7, 3) := dk_180 0 7 (dk_at dksX3_when_3 4 rfl rfl)
theorem dX3_when_77 : decode cX3_when 77 = .ok (.sipush 232, 3) := dk_17 0 232 (dk_at dksX3_when_3 7 rfl rfl)
theorem dX3_when_80 : decode cX3_when 80 = .ok (.iaload, 1) := dk_46 (dk_at dksX3_when_3 10 rfl rfl)
theorem dX3_when_81 : decode cX3_when 81 = .ok (.istore 6, 2) := dk_54 6 (dk_at dksX3_when_3 11 rfl rfl)
theorem dX3_when_83 : decode cX3_when 83 = .ok (.aload_n 0, 1) := dk_42 (dk_at dksX3_when_3 13 rfl rfl)
theorem dX3_when_84 : decode cX3_when 84 = .ok (.invokevirtual 331, 3) := dk_182 1 75 (dk_at dksX3_when_3 14 rfl rfl)
theorem dX3_when_87 : decode cX3_when 87 = .ok (.aload_n 0, 1) := dk_42 (dk_at dksX3_when_3 17 rfl rfl)
theorem dX3_when_88 : decode cX3_when 88 = .ok (.iload_n 1, 1) := dk_27 (dk_at dksX3_when_3 18 rfl rfl)
theorem dX3_when_89 : decode cX3_when 89 = .ok (.invokevirtual 208, 3) := dk_182 0 208 (dk_at dksX3_when_3 19 rfl rfl)
theorem dX3_when_92 : decode cX3_when 92 = .ok (.ifCond .ne 20, 3) := dk_154 0 20 (dk_at dksX3_when_4 0 rfl rfl)
theorem dX3_when_95 : decode cX3_when 95 = .ok (.iload_n 3, 1) := dk_29 (dk_at dksX3_when_4 3 rfl rfl)
theorem dX3_when_96 : decode cX3_when 96 = .ok (.ifCond .eq 12, 3) := dk_153 0 12 (dk_at dksX3_when_4 4 rfl rfl)
theorem dX3_when_99 : decode cX3_when 99 = .ok (.aload_n 0, 1) := dk_42 (dk_at dksX3_when_4 7 rfl rfl)
theorem dX3_when_100 : decode cX3_when 100 = .ok (.iload_n 1, 1) := dk_27 (dk_at dksX3_when_4 8 rfl rfl)
theorem dX3_when_101 : decode cX3_when 101 = .ok (.iconst 4, 1) := dk_7 (dk_at dksX3_when_4 9 rfl rfl)
theorem dX3_when_102 : decode cX3_when 102 = .ok (.invokevirtual 205, 3) := dk_182 0 205 (dk_at dksX3_when_4 10 rfl rfl)
theorem dX3_when_105 : decode cX3_when 105 = .ok (.goto 5, 3) := dk_167 0 5 (dk_at dksX3_when_4 13 rfl rfl)
theorem dX3_when_108 : decode cX3_when 108 = .ok (.iload 6, 2) := dk_21 6 (dk_at dksX3_when_4 16 rfl rfl)
theorem dX3_when_110 : decode cX3_when 110 = .ok (.istore 4, 2) := dk_54 4 (dk_at dksX3_when_4 18 rfl rfl)
theorem dX3_when_112 : decode cX3_when 112 = .ok (.iinc 5 1, 3) := dk_132 5 1 (dk_at dksX3_when_4 20 rfl rfl)
theorem dX3_when_115 : decode cX3_when 115 = .ok (.goto (-54), 3) := dk_167 255 202 (dk_at dksX3_when_5 0 rfl rfl)
theorem dX3_when_118 : decode cX3_when 118 = .ok (.aload_n 0, 1) := dk_42 (dk_at dksX3_when_5 3 rfl rfl)
theorem dX3_when_119 : decode cX3_when 119 = .ok (.getfield 16, 3) := dk_180 0 16 (dk_at dksX3_when_5 4 rfl rfl)
theorem dX3_when_122 : decode cX3_when 122 = .ok (.aload_n 0, 1) := dk_42 (dk_at dksX3_when_5 7 rfl rfl)
theorem dX3_when_123 : decode cX3_when 123 = .ok (.getfield 7, 3) := dk_180 0 7 (dk_at dksX3_when_5 8 rfl rfl)
theorem dX3_when_126 : decode cX3_when 126 = .ok (.invokestatic 192, 3) := dk_184 0 192 (dk_at dksX3_when_5 11 rfl rfl)
theorem dX3_when_129 : decode cX3_when 129 = .ok (.iload 4, 2) := dk_21 4 (dk_at dksX3_when_5 14 rfl rfl)
theorem dX3_when_131 : decode cX3_when 131 = .ok (.iconst (-1), 1) := dk_2 (dk_at dksX3_when_5 16 rfl rfl)
theorem dX3_when_132 : decode cX3_when 132 = .ok (.if_icmp .ne 11, 3) := dk_160 0 11 (dk_at dksX3_when_5 17 rfl rfl)
theorem dX3_when_135 : decode cX3_when 135 = .ok (.aload_n 0, 1) := dk_42 (dk_at dksX3_when_5 20 rfl rfl)
theorem dX3_when_136 : decode cX3_when 136 = .ok (.iconst 5, 1) := dk_8 (dk_at dksX3_when_5 21 rfl rfl)
theorem dX3_when_137 : decode cX3_when 137 = .ok (.invokevirtual 186, 3) := dk_182 0 186 (dk_at dksX3_when_6 0 rfl rfl)
theorem dX3_when_140 : decode cX3_when 140 = .ok (.goto 9, 3) := dk_167 0 9 (dk_at dksX3_when_6 3 rfl rfl)
theorem dX3_when_143 : decode cX3_when 143 = .ok (.aload_n 0, 1) := dk_42 (dk_at dksX3_when_6 6 rfl rfl)
theorem dX3_when_144 : decode cX3_when 144 = .ok (.iload 4, 2) := dk_21 4 (dk_at dksX3_when_6 7 rfl rfl)
theorem dX3_when_146 : decode cX3_when 146 = .ok (.invokevirtual 199, 3) := dk_182 0 199 (dk_at dksX3_when_6 9 rfl rfl)
theorem dX3_when_149 : decode cX3_when 149 = .ok (.ireturn, 1) := dk_172 (dk_at dksX3_when_6 12 rfl rfl)
abbrev cX3_tip : ByteArray := prog_15_method_94_code
def yX3_tip : MethodName := ⟨RX3, "tip", "(I)I"⟩
def dkwX3_tip_7 : List UInt8 := [28, 182, 0, 199, 172]
abbrev dktX3_tip_7 : List UInt8 := dkwX3_tip_7 ++ []
def dkwX3_tip_6 : List UInt8 := [61, 21, 7, 62, 132, 5, 1, 167, 255, 161, 28, 2, 160, 0, 11, 42, 8, 182, 0, 186, 167, 0, 8, 42]
abbrev dktX3_tip_6 : List UInt8 := dkwX3_tip_6 ++ dktX3_tip_7
def dkwX3_tip_5 : List UInt8 := [182, 1, 21, 182, 1, 30, 54, 7, 28, 2, 159, 0, 12, 21, 7, 29, 161, 0, 6, 167, 0, 9, 21, 6]
abbrev dktX3_tip_5 : List UInt8 := dkwX3_tip_5 ++ dktX3_tip_6
def dkwX3_tip_4 : List UInt8 := [154, 0, 16, 42, 27, 21, 6, 182, 1, 0, 153, 0, 6, 167, 0, 38, 42, 27, 21, 6, 42, 21, 6]
abbrev dktX3_tip_4 : List UInt8 := dkwX3_tip_4 ++ dktX3_tip_5
def dkwX3_tip_3 : List UInt8 := [167, 0, 13, 42, 27, 16, 12, 21, 5, 96, 182, 0, 205, 54, 6, 42, 27, 21, 6, 182, 0, 234]
abbrev dktX3_tip_3 : List UInt8 := dkwX3_tip_3 ++ dktX3_tip_4
def dkwX3_tip_2 : List UInt8 := [54, 4, 3, 54, 5, 21, 5, 21, 4, 162, 0, 94, 42, 27, 16, 11, 182, 0, 205, 154, 0, 8, 21, 5]
abbrev dktX3_tip_2 : List UInt8 := dkwX3_tip_2 ++ dktX3_tip_3
def dkwX3_tip_1 : List UInt8 := [182, 0, 205, 154, 0, 14, 42, 180, 0, 7, 17, 0, 230, 46, 167, 0, 10, 42, 27, 16, 11, 182, 0, 205]
abbrev dktX3_tip_1 : List UInt8 := dkwX3_tip_1 ++ dktX3_tip_2
def dkwX3_tip_0 : List UInt8 := [42, 27, 182, 0, 244, 154, 0, 9, 42, 5, 182, 0, 186, 172, 2, 61, 3, 62, 42, 27, 16, 11]
abbrev dktX3_tip_0 : List UInt8 := dkwX3_tip_0 ++ dktX3_tip_1
theorem dksX3_tip_0 : cX3_tip.data.toList.drop 0 = dktX3_tip_0 := by decide +kernel
theorem dksX3_tip_1 : cX3_tip.data.toList.drop 22 = dktX3_tip_1 := dk_seg dksX3_tip_0 22 rfl rfl
theorem dksX3_tip_2 : cX3_tip.data.toList.drop 46 = dktX3_tip_2 := dk_seg dksX3_tip_1 24 rfl rfl
theorem dksX3_tip_3 : cX3_tip.data.toList.drop 70 = dktX3_tip_3 := dk_seg dksX3_tip_2 24 rfl rfl
theorem dksX3_tip_4 : cX3_tip.data.toList.drop 92 = dktX3_tip_4 := dk_seg dksX3_tip_3 22 rfl rfl
theorem dksX3_tip_5 : cX3_tip.data.toList.drop 115 = dktX3_tip_5 := dk_seg dksX3_tip_4 23 rfl rfl
theorem dksX3_tip_6 : cX3_tip.data.toList.drop 139 = dktX3_tip_6 := dk_seg dksX3_tip_5 24 rfl rfl
theorem dksX3_tip_7 : cX3_tip.data.toList.drop 163 = dktX3_tip_7 := dk_seg dksX3_tip_6 24 rfl rfl
theorem dX3_tip_0 : decode cX3_tip 0 = .ok (.aload_n 0, 1) := dk_42 (dk_at dksX3_tip_0 0 rfl rfl)
theorem dX3_tip_1 : decode cX3_tip 1 = .ok (.iload_n 1, 1) := dk_27 (dk_at dksX3_tip_0 1 rfl rfl)
theorem dX3_tip_2 : decode cX3_tip 2 = .ok (.invokevirtual 244, 3) := dk_182 0 244 (dk_at dksX3_tip_0 2 rfl rfl)
theorem dX3_tip_5 : decode cX3_tip 5 = .ok (.ifCond .ne 9, 3) := dk_154 0 9 (dk_at dksX3_tip_0 5 rfl rfl)
theorem dX3_tip_8 : decode cX3_tip 8 = .ok (.aload_n 0, 1) := dk_42 (dk_at dksX3_tip_0 8 rfl rfl)
theorem dX3_tip_9 : decode cX3_tip 9 = .ok (.iconst 2, 1) := dk_5 (dk_at dksX3_tip_0 9 rfl rfl)
theorem dX3_tip_10 : decode cX3_tip 10 = .ok (.invokevirtual 186, 3) := dk_182 0 186 (dk_at dksX3_tip_0 10 rfl rfl)
theorem dX3_tip_13 : decode cX3_tip 13 = .ok (.ireturn, 1) := dk_172 (dk_at dksX3_tip_0 13 rfl rfl)
theorem dX3_tip_14 : decode cX3_tip 14 = .ok (.iconst (-1), 1) := dk_2 (dk_at dksX3_tip_0 14 rfl rfl)
theorem dX3_tip_15 : decode cX3_tip 15 = .ok (.istore_n 2, 1) := dk_61 (dk_at dksX3_tip_0 15 rfl rfl)
theorem dX3_tip_16 : decode cX3_tip 16 = .ok (.iconst 0, 1) := dk_3 (dk_at dksX3_tip_0 16 rfl rfl)
theorem dX3_tip_17 : decode cX3_tip 17 = .ok (.istore_n 3, 1) := dk_62 (dk_at dksX3_tip_0 17 rfl rfl)
theorem dX3_tip_18 : decode cX3_tip 18 = .ok (.aload_n 0, 1) := dk_42 (dk_at dksX3_tip_0 18 rfl rfl)
theorem dX3_tip_19 : decode cX3_tip 19 = .ok (.iload_n 1, 1) := dk_27 (dk_at dksX3_tip_0 19 rfl rfl)
theorem dX3_tip_20 : decode cX3_tip 20 = .ok (.bipush 11, 2) := dk_16 11 (dk_at dksX3_tip_0 20 rfl rfl)
theorem dX3_tip_22 : decode cX3_tip 22 = .ok (.invokevirtual 205, 3) := dk_182 0 205 (dk_at dksX3_tip_1 0 rfl rfl)
theorem dX3_tip_25 : decode cX3_tip 25 = .ok (.ifCond .ne 14, 3) := dk_154 0 14 (dk_at dksX3_tip_1 3 rfl rfl)
theorem dX3_tip_28 : decode cX3_tip 28 = .ok (.aload_n 0, 1) := dk_42 (dk_at dksX3_tip_1 6 rfl rfl)
theorem dX3_tip_29 : decode cX3_tip 29 = .ok (.getfield 7, 3) := dk_180 0 7 (dk_at dksX3_tip_1 7 rfl rfl)
theorem dX3_tip_32 : decode cX3_tip 32 = .ok (.sipush 230, 3) := dk_17 0 230 (dk_at dksX3_tip_1 10 rfl rfl)
theorem dX3_tip_35 : decode cX3_tip 35 = .ok (.iaload, 1) := dk_46 (dk_at dksX3_tip_1 13 rfl rfl)
theorem dX3_tip_36 : decode cX3_tip 36 = .ok (.goto 10, 3) := dk_167 0 10 (dk_at dksX3_tip_1 14 rfl rfl)
theorem dX3_tip_39 : decode cX3_tip 39 = .ok (.aload_n 0, 1) := dk_42 (dk_at dksX3_tip_1 17 rfl rfl)
theorem dX3_tip_40 : decode cX3_tip 40 = .ok (.iload_n 1, 1) := dk_27 (dk_at dksX3_tip_1 18 rfl rfl)
theorem dX3_tip_41 : decode cX3_tip 41 = .ok (.bipush 11, 2) := dk_16 11 (dk_at dksX3_tip_1 19 rfl rfl)
theorem dX3_tip_43 : decode cX3_tip 43 = .ok (.invokevirtual 205, 3) := dk_182 0 205 (dk_at dksX3_tip_1 21 rfl rfl)
theorem dX3_tip_46 : decode cX3_tip 46 = .ok (.istore 4, 2) := dk_54 4 (dk_at dksX3_tip_2 0 rfl rfl)
theorem dX3_tip_48 : decode cX3_tip 48 = .ok (.iconst 0, 1) := dk_3 (dk_at dksX3_tip_2 2 rfl rfl)
theorem dX3_tip_49 : decode cX3_tip 49 = .ok (.istore 5, 2) := dk_54 5 (dk_at dksX3_tip_2 3 rfl rfl)
theorem dX3_tip_51 : decode cX3_tip 51 = .ok (.iload 5, 2) := dk_21 5 (dk_at dksX3_tip_2 5 rfl rfl)
theorem dX3_tip_53 : decode cX3_tip 53 = .ok (.iload 4, 2) := dk_21 4 (dk_at dksX3_tip_2 7 rfl rfl)
theorem dX3_tip_55 : decode cX3_tip 55 = .ok (.if_icmp .ge 94, 3) := dk_162 0 94 (dk_at dksX3_tip_2 9 rfl rfl)
theorem dX3_tip_58 : decode cX3_tip 58 = .ok (.aload_n 0, 1) := dk_42 (dk_at dksX3_tip_2 12 rfl rfl)
theorem dX3_tip_59 : decode cX3_tip 59 = .ok (.iload_n 1, 1) := dk_27 (dk_at dksX3_tip_2 13 rfl rfl)
theorem dX3_tip_60 : decode cX3_tip 60 = .ok (.bipush 11, 2) := dk_16 11 (dk_at dksX3_tip_2 14 rfl rfl)
theorem dX3_tip_62 : decode cX3_tip 62 = .ok (.invokevirtual 205, 3) := dk_182 0 205 (dk_at dksX3_tip_2 16 rfl rfl)
theorem dX3_tip_65 : decode cX3_tip 65 = .ok (.ifCond .ne 8, 3) := dk_154 0 8 (dk_at dksX3_tip_2 19 rfl rfl)
theorem dX3_tip_68 : decode cX3_tip 68 = .ok (.iload 5, 2) := dk_21 5 (dk_at dksX3_tip_2 22 rfl rfl)
theorem dX3_tip_70 : decode cX3_tip 70 = .ok (.goto 13, 3) := dk_167 0 13 (dk_at dksX3_tip_3 0 rfl rfl)
theorem dX3_tip_73 : decode cX3_tip 73 = .ok (.aload_n 0, 1) := dk_42 (dk_at dksX3_tip_3 3 rfl rfl)
theorem dX3_tip_74 : decode cX3_tip 74 = .ok (.iload_n 1, 1) := dk_27 (dk_at dksX3_tip_3 4 rfl rfl)
theorem dX3_tip_75 : decode cX3_tip 75 = .ok (.bipush 12, 2) := dk_16 12 (dk_at dksX3_tip_3 5 rfl rfl)
theorem dX3_tip_77 : decode cX3_tip 77 = .ok (.iload 5, 2) := dk_21 5 (dk_at dksX3_tip_3 7 rfl rfl)
theorem dX3_tip_79 : decode cX3_tip 79 = .ok (.iadd, 1) := dk_96 (dk_at dksX3_tip_3 9 rfl rfl)
theorem dX3_tip_80 : decode cX3_tip 80 = .ok (.invokevirtual 205, 3) := dk_182 0 205 (dk_at dksX3_tip_3 10 rfl rfl)
theorem dX3_tip_83 : decode cX3_tip 83 = .ok (.istore 6, 2) := dk_54 6 (dk_at dksX3_tip_3 13 rfl rfl)
theorem dX3_tip_85 : decode cX3_tip 85 = .ok (.aload_n 0, 1) := dk_42 (dk_at dksX3_tip_3 15 rfl rfl)
theorem dX3_tip_86 : decode cX3_tip 86 = .ok (.iload_n 1, 1) := dk_27 (dk_at dksX3_tip_3 16 rfl rfl)
theorem dX3_tip_87 : decode cX3_tip 87 = .ok (.iload 6, 2) := dk_21 6 (dk_at dksX3_tip_3 17 rfl rfl)
theorem dX3_tip_89 : decode cX3_tip 89 = .ok (.invokevirtual 234, 3) := dk_182 0 234 (dk_at dksX3_tip_3 19 rfl rfl)
theorem dX3_tip_92 : decode cX3_tip 92 = .ok (.ifCond .ne 16, 3) := dk_154 0 16 (dk_at dksX3_tip_4 0 rfl rfl)
theorem dX3_tip_95 : decode cX3_tip 95 = .ok (.aload_n 0, 1) := dk_42 (dk_at dksX3_tip_4 3 rfl rfl)
theorem dX3_tip_96 : decode cX3_tip 96 = .ok (.iload_n 1, 1) := dk_27 (dk_at dksX3_tip_4 4 rfl rfl)
theorem dX3_tip_97 : decode cX3_tip 97 = .ok (.iload 6, 2) := dk_21 6 (dk_at dksX3_tip_4 5 rfl rfl)
theorem dX3_tip_99 : decode cX3_tip 99 = .ok (.invokevirtual 256, 3) := dk_182 1 0 (dk_at dksX3_tip_4 7 rfl rfl)
theorem dX3_tip_102 : decode cX3_tip 102 = .ok (.ifCond .eq 6, 3) := dk_153 0 6 (dk_at dksX3_tip_4 10 rfl rfl)
theorem dX3_tip_105 : decode cX3_tip 105 = .ok (.goto 38, 3) := dk_167 0 38 (dk_at dksX3_tip_4 13 rfl rfl)
theorem dX3_tip_108 : decode cX3_tip 108 = .ok (.aload_n 0, 1) := dk_42 (dk_at dksX3_tip_4 16 rfl rfl)
theorem dX3_tip_109 : decode cX3_tip 109 = .ok (.iload_n 1, 1) := dk_27 (dk_at dksX3_tip_4 17 rfl rfl)
theorem dX3_tip_110 : decode cX3_tip 110 = .ok (.iload 6, 2) := dk_21 6 (dk_at dksX3_tip_4 18 rfl rfl)
theorem dX3_tip_112 : decode cX3_tip 112 = .ok (.aload_n 0, 1) := dk_42 (dk_at dksX3_tip_4 20 rfl rfl)
theorem dX3_tip_113 : decode cX3_tip 113 = .ok (.iload 6, 2) := dk_21 6 (dk_at dksX3_tip_4 21 rfl rfl)
theorem dX3_tip_115 : decode cX3_tip 115 = .ok (.invokevirtual 277, 3) := dk_182 1 21 (dk_at dksX3_tip_5 0 rfl rfl)
theorem dX3_tip_118 : decode cX3_tip 118 = .ok (.invokevirtual 286, 3) := dk_182 1 30 (dk_at dksX3_tip_5 3 rfl rfl)
theorem dX3_tip_121 : decode cX3_tip 121 = .ok (.istore 7, 2) := dk_54 7 (dk_at dksX3_tip_5 6 rfl rfl)
theorem dX3_tip_123 : decode cX3_tip 123 = .ok (.iload_n 2, 1) := dk_28 (dk_at dksX3_tip_5 8 rfl rfl)
theorem dX3_tip_124 : decode cX3_tip 124 = .ok (.iconst (-1), 1) := dk_2 (dk_at dksX3_tip_5 9 rfl rfl)
theorem dX3_tip_125 : decode cX3_tip 125 = .ok (.if_icmp .eq 12, 3) := dk_159 0 12 (dk_at dksX3_tip_5 10 rfl rfl)
theorem dX3_tip_128 : decode cX3_tip 128 = .ok (.iload 7, 2) := dk_21 7 (dk_at dksX3_tip_5 13 rfl rfl)
theorem dX3_tip_130 : decode cX3_tip 130 = .ok (.iload_n 3, 1) := dk_29 (dk_at dksX3_tip_5 15 rfl rfl)
theorem dX3_tip_131 : decode cX3_tip 131 = .ok (.if_icmp .lt 6, 3) := dk_161 0 6 (dk_at dksX3_tip_5 16 rfl rfl)
theorem dX3_tip_134 : decode cX3_tip 134 = .ok (.goto 9, 3) := dk_167 0 9 (dk_at dksX3_tip_5 19 rfl rfl)
theorem dX3_tip_137 : decode cX3_tip 137 = .ok (.iload 6, 2) := dk_21 6 (dk_at dksX3_tip_5 22 rfl rfl)
theorem dX3_tip_139 : decode cX3_tip 139 = .ok (.istore_n 2, 1) := dk_61 (dk_at dksX3_tip_6 0 rfl rfl)
theorem dX3_tip_140 : decode cX3_tip 140 = .ok (.iload 7, 2) := dk_21 7 (dk_at dksX3_tip_6 1 rfl rfl)
theorem dX3_tip_142 : decode cX3_tip 142 = .ok (.istore_n 3, 1) := dk_62 (dk_at dksX3_tip_6 3 rfl rfl)
theorem dX3_tip_143 : decode cX3_tip 143 = .ok (.iinc 5 1, 3) := dk_132 5 1 (dk_at dksX3_tip_6 4 rfl rfl)
theorem dX3_tip_146 : decode cX3_tip 146 = .ok (.goto (-95), 3) := dk_167 255 161 (dk_at dksX3_tip_6 7 rfl rfl)
theorem dX3_tip_149 : decode cX3_tip 149 = .ok (.iload_n 2, 1) := dk_28 (dk_at dksX3_tip_6 10 rfl rfl)
theorem dX3_tip_150 : decode cX3_tip 150 = .ok (.iconst (-1), 1) := dk_2 (dk_at dksX3_tip_6 11 rfl rfl)
theorem dX3_tip_151 : decode cX3_tip 151 = .ok (.if_icmp .ne 11, 3) := dk_160 0 11 (dk_at dksX3_tip_6 12 rfl rfl)
theorem dX3_tip_154 : decode cX3_tip 154 = .ok (.aload_n 0, 1) := dk_42 (dk_at dksX3_tip_6 15 rfl rfl)
theorem dX3_tip_155 : decode cX3_tip 155 = .ok (.iconst 5, 1) := dk_8 (dk_at dksX3_tip_6 16 rfl rfl)
theorem dX3_tip_156 : decode cX3_tip 156 = .ok (.invokevirtual 186, 3) := dk_182 0 186 (dk_at dksX3_tip_6 17 rfl rfl)
theorem dX3_tip_159 : decode cX3_tip 159 = .ok (.goto 8, 3) := dk_167 0 8 (dk_at dksX3_tip_6 20 rfl rfl)
theorem dX3_tip_162 : decode cX3_tip 162 = .ok (.aload_n 0, 1) := dk_42 (dk_at dksX3_tip_6 23 rfl rfl)
theorem dX3_tip_163 : decode cX3_tip 163 = .ok (.iload_n 2, 1) := dk_28 (dk_at dksX3_tip_7 0 rfl rfl)
theorem dX3_tip_164 : decode cX3_tip 164 = .ok (.invokevirtual 199, 3) := dk_182 0 199 (dk_at dksX3_tip_7 1 rfl rfl)
theorem dX3_tip_167 : decode cX3_tip 167 = .ok (.ireturn, 1) := dk_172 (dk_at dksX3_tip_7 4 rfl rfl)
abbrev cX3_would : ByteArray := prog_15_method_95_code
def yX3_would : MethodName := ⟨RX3, "would", "(II)I"⟩
def dkwX3_would_6 : List UInt8 := [42, 180, 0, 7, 184, 0, 192, 42, 29, 182, 0, 199, 172]
abbrev dktX3_would_6 : List UInt8 := dkwX3_would_6 ++ []
def dkwX3_would_5 : List UInt8 := [96, 5, 96, 46, 4, 160, 0, 7, 4, 167, 0, 4, 5, 62, 132, 4, 1, 167, 255, 198, 42, 180, 0, 16]
abbrev dktX3_would_5 : List UInt8 := dkwX3_would_5 ++ dktX3_would_6
def dkwX3_would_4 : List UInt8 := [17, 1, 44, 6, 21, 4, 104, 96, 46, 27, 160, 0, 28, 42, 180, 0, 7, 17, 1, 44, 6, 21, 4, 104]
abbrev dktX3_would_4 : List UInt8 := dkwX3_would_4 ++ dktX3_would_5
def dkwX3_would_3 : List UInt8 := [87, 3, 62, 3, 54, 4, 21, 4, 42, 180, 0, 7, 17, 1, 43, 46, 162, 0, 51, 42, 180, 0, 7]
abbrev dktX3_would_3 : List UInt8 := dkwX3_would_3 ++ dktX3_would_4
def dkwX3_would_2 : List UInt8 := [180, 0, 7, 42, 180, 0, 16, 184, 0, 192, 42, 27, 16, 10, 4, 28, 120, 182, 1, 33, 42, 182, 1, 72]
abbrev dktX3_would_2 : List UInt8 := dkwX3_would_2 ++ dktX3_would_3
def dkwX3_would_1 : List UInt8 := [28, 182, 0, 219, 153, 0, 12, 42, 27, 28, 182, 0, 250, 154, 0, 9, 42, 8, 182, 0, 186, 172, 42]
abbrev dktX3_would_1 : List UInt8 := dkwX3_would_1 ++ dktX3_would_2
def dkwX3_would_0 : List UInt8 := [42, 27, 28, 182, 0, 253, 154, 0, 9, 42, 5, 182, 0, 186, 172, 42, 27, 182, 1, 27, 153, 0, 20, 42]
abbrev dktX3_would_0 : List UInt8 := dkwX3_would_0 ++ dktX3_would_1
theorem dksX3_would_0 : cX3_would.data.toList.drop 0 = dktX3_would_0 := by decide +kernel
theorem dksX3_would_1 : cX3_would.data.toList.drop 24 = dktX3_would_1 := dk_seg dksX3_would_0 24 rfl rfl
theorem dksX3_would_2 : cX3_would.data.toList.drop 47 = dktX3_would_2 := dk_seg dksX3_would_1 23 rfl rfl
theorem dksX3_would_3 : cX3_would.data.toList.drop 71 = dktX3_would_3 := dk_seg dksX3_would_2 24 rfl rfl
theorem dksX3_would_4 : cX3_would.data.toList.drop 94 = dktX3_would_4 := dk_seg dksX3_would_3 23 rfl rfl
theorem dksX3_would_5 : cX3_would.data.toList.drop 118 = dktX3_would_5 := dk_seg dksX3_would_4 24 rfl rfl
theorem dksX3_would_6 : cX3_would.data.toList.drop 142 = dktX3_would_6 := dk_seg dksX3_would_5 24 rfl rfl
theorem dX3_would_0 : decode cX3_would 0 = .ok (.aload_n 0, 1) := dk_42 (dk_at dksX3_would_0 0 rfl rfl)
theorem dX3_would_1 : decode cX3_would 1 = .ok (.iload_n 1, 1) := dk_27 (dk_at dksX3_would_0 1 rfl rfl)
theorem dX3_would_2 : decode cX3_would 2 = .ok (.iload_n 2, 1) := dk_28 (dk_at dksX3_would_0 2 rfl rfl)
theorem dX3_would_3 : decode cX3_would 3 = .ok (.invokevirtual 253, 3) := dk_182 0 253 (dk_at dksX3_would_0 3 rfl rfl)
theorem dX3_would_6 : decode cX3_would 6 = .ok (.ifCond .ne 9, 3) := dk_154 0 9 (dk_at dksX3_would_0 6 rfl rfl)
theorem dX3_would_9 : decode cX3_would 9 = .ok (.aload_n 0, 1) := dk_42 (dk_at dksX3_would_0 9 rfl rfl)
theorem dX3_would_10 : decode cX3_would 10 = .ok (.iconst 2, 1) := dk_5 (dk_at dksX3_would_0 10 rfl rfl)
theorem dX3_would_11 : decode cX3_would 11 = .ok (.invokevirtual 186, 3) := dk_182 0 186 (dk_at dksX3_would_0 11 rfl rfl)
theorem dX3_would_14 : decode cX3_would 14 = .ok (.ireturn, 1) := dk_172 (dk_at dksX3_would_0 14 rfl rfl)
theorem dX3_would_15 : decode cX3_would 15 = .ok (.aload_n 0, 1) := dk_42 (dk_at dksX3_would_0 15 rfl rfl)
theorem dX3_would_16 : decode cX3_would 16 = .ok (.iload_n 1, 1) := dk_27 (dk_at dksX3_would_0 16 rfl rfl)
theorem dX3_would_17 : decode cX3_would 17 = .ok (.invokevirtual 283, 3) := dk_182 1 27 (dk_at dksX3_would_0 17 rfl rfl)
theorem dX3_would_20 : decode cX3_would 20 = .ok (.ifCond .eq 20, 3) := dk_153 0 20 (dk_at dksX3_would_0 20 rfl rfl)
theorem dX3_would_23 : decode cX3_would 23 = .ok (.aload_n 0, 1) := dk_42 (dk_at dksX3_would_0 23 rfl rfl)
theorem dX3_would_24 : decode cX3_would 24 = .ok (.iload_n 2, 1) := dk_28 (dk_at dksX3_would_1 0 rfl rfl)
theorem dX3_would_25 : decode cX3_would 25 = .ok (.invokevirtual 219, 3) := dk_182 0 219 (dk_at dksX3_would_1 1 rfl rfl)
theorem dX3_would_28 : decode cX3_would 28 = .ok (.ifCond .eq 12, 3) := dk_153 0 12 (dk_at dksX3_would_1 4 rfl rfl)
theorem dX3_would_31 : decode cX3_would 31 = .ok (.aload_n 0, 1) := dk_42 (dk_at dksX3_would_1 7 rfl rfl)
theorem dX3_would_32 : decode cX3_would 32 = .ok (.iload_n 1, 1) := dk_27 (dk_at dksX3_would_1 8 rfl rfl)
theorem dX3_would_33 : decode cX3_would 33 = .ok (.iload_n 2, 1) := dk_28 (dk_at dksX3_would_1 9 rfl rfl)
theorem dX3_would_34 : decode cX3_would 34 = .ok (.invokevirtual 250, 3) := dk_182 0 250 (dk_at dksX3_would_1 10 rfl rfl)
theorem dX3_would_37 : decode cX3_would 37 = .ok (.ifCond .ne 9, 3) := dk_154 0 9 (dk_at dksX3_would_1 13 rfl rfl)
theorem dX3_would_40 : decode cX3_would 40 = .ok (.aload_n 0, 1) := dk_42 (dk_at dksX3_would_1 16 rfl rfl)
theorem dX3_would_41 : decode cX3_would 41 = .ok (.iconst 5, 1) := dk_8 (dk_at dksX3_would_1 17 rfl rfl)
theorem dX3_would_42 : decode cX3_would 42 = .ok (.invokevirtual 186, 3) := dk_182 0 186 (dk_at dksX3_would_1 18 rfl rfl)
theorem dX3_would_45 : decode cX3_would 45 = .ok (.ireturn, 1) := dk_172 (dk_at dksX3_would_1 21 rfl rfl)
theorem dX3_would_46 : decode cX3_would 46 = .ok (.aload_n 0, 1) := dk_42 (dk_at dksX3_would_1 22 rfl rfl)
theorem dX3_would_47 : decode cX3_would 47 = .ok (.getfield 7, 3) := dk_180 0 7 (dk_at dksX3_would_2 0 rfl rfl)
theorem dX3_would_50 : decode cX3_would 50 = .ok (.aload_n 0, 1) := dk_42 (dk_at dksX3_would_2 3 rfl rfl)
theorem dX3_would_51 : decode cX3_would 51 = .ok (.getfield 16, 3) := dk_180 0 16 (dk_at dksX3_would_2 4 rfl rfl)
theorem dX3_would_54 : decode cX3_would 54 = .ok (.invokestatic 192, 3) := dk_184 0 192 (dk_at dksX3_would_2 7 rfl rfl)
theorem dX3_would_57 : decode cX3_would 57 = .ok (.aload_n 0, 1) := dk_42 (dk_at dksX3_would_2 10 rfl rfl)
theorem dX3_would_58 : decode cX3_would 58 = .ok (.iload_n 1, 1) := dk_27 (dk_at dksX3_would_2 11 rfl rfl)
theorem dX3_would_59 : decode cX3_would 59 = .ok (.bipush 10, 2) := dk_16 10 (dk_at dksX3_would_2 12 rfl rfl)
theorem dX3_would_61 : decode cX3_would 61 = .ok (.iconst 1, 1) := dk_4 (dk_at dksX3_would_2 14 rfl rfl)
theorem dX3_would_62 : decode cX3_would 62 = .ok (.iload_n 2, 1) := dk_28 (dk_at dksX3_would_2 15 rfl rfl)
theorem dX3_would_63 : decode cX3_would 63 = .ok (.ishl, 1) := dk_120 (dk_at dksX3_would_2 16 rfl rfl)
theorem dX3_would_64 : decode cX3_would 64 = .ok (.invokevirtual 289, 3) := dk_182 1 33 (dk_at dksX3_would_2 17 rfl rfl)
theorem dX3_would_67 : decode cX3_would 67 = .ok (.aload_n 0, 1) := dk_42 (dk_at dksX3_would_2 20 rfl rfl)
theorem dX3_would_68 : decode cX3_would 68 = .ok (.invokevirtual 328, 3) := dk_182 1 72 (dk_at dksX3_would_2 21 rfl rfl)
theorem dX3_would_71 : decode cX3_would 71 = .ok (.pop, 1) := dk_87 (dk_at dksX3_would_3 0 rfl rfl)
theorem dX3_would_72 : decode cX3_would 72 = .ok (.iconst 0, 1) := dk_3 (dk_at dksX3_would_3 1 rfl rfl)
theorem dX3_would_73 : decode cX3_would 73 = .ok (.istore_n 3, 1) := dk_62 (dk_at dksX3_would_3 2 rfl rfl)
theorem dX3_would_74 : decode cX3_would 74 = .ok (.iconst 0, 1) := dk_3 (dk_at dksX3_would_3 3 rfl rfl)
theorem dX3_would_75 : decode cX3_would 75 = .ok (.istore 4, 2) := dk_54 4 (dk_at dksX3_would_3 4 rfl rfl)
theorem dX3_would_77 : decode cX3_would 77 = .ok (.iload 4, 2) := dk_21 4 (dk_at dksX3_would_3 6 rfl rfl)
theorem dX3_would_79 : decode cX3_would 79 = .ok (.aload_n 0, 1) := dk_42 (dk_at dksX3_would_3 8 rfl rfl)
theorem dX3_would_80 : decode cX3_would 80 = .ok (.getfield 7, 3) := dk_180 0 7 (dk_at dksX3_would_3 9 rfl rfl)
theorem dX3_would_83 : decode cX3_would 83 = .ok (.sipush 299, 3) := dk_17 1 43 (dk_at dksX3_would_3 12 rfl rfl)
theorem dX3_would_86 : decode cX3_would 86 = .ok (.iaload, 1) := dk_46 (dk_at dksX3_would_3 15 rfl rfl)
theorem dX3_would_87 : decode cX3_would 87 = .ok (.if_icmp .ge 51, 3) := dk_162 0 51 (dk_at dksX3_would_3 16 rfl rfl)
theorem dX3_would_90 : decode cX3_would 90 = .ok (.aload_n 0, 1) := dk_42 (dk_at dksX3_would_3 19 rfl rfl)
theorem dX3_would_91 : decode cX3_would 91 = .ok (.getfield 7, 3) := dk_180 0 7 (dk_at dksX3_would_3 20 rfl rfl)
theorem dX3_would_94 : decode cX3_would 94 = .ok (.sipush 300, 3) := dk_17 1 44 (dk_at dksX3_would_4 0 rfl rfl)
theorem dX3_would_97 : decode cX3_would 97 = .ok (.iconst 3, 1) := dk_6 (dk_at dksX3_would_4 3 rfl rfl)
theorem dX3_would_98 : decode cX3_would 98 = .ok (.iload 4, 2) := dk_21 4 (dk_at dksX3_would_4 4 rfl rfl)
theorem dX3_would_100 : decode cX3_would 100 = .ok (.imul, 1) := dk_104 (dk_at dksX3_would_4 6 rfl rfl)
theorem dX3_would_101 : decode cX3_would 101 = .ok (.iadd, 1) := dk_96 (dk_at dksX3_would_4 7 rfl rfl)
theorem dX3_would_102 : decode cX3_would 102 = .ok (.iaload, 1) := dk_46 (dk_at dksX3_would_4 8 rfl rfl)
theorem dX3_would_103 : decode cX3_would 103 = .ok (.iload_n 1, 1) := dk_27 (dk_at dksX3_would_4 9 rfl rfl)
theorem dX3_would_104 : decode cX3_would 104 = .ok (.if_icmp .ne 28, 3) := dk_160 0 28 (dk_at dksX3_would_4 10 rfl rfl)
theorem dX3_would_107 : decode cX3_would 107 = .ok (.aload_n 0, 1) := dk_42 (dk_at dksX3_would_4 13 rfl rfl)
theorem dX3_would_108 : decode cX3_would 108 = .ok (.getfield 7, 3) := dk_180 0 7 (dk_at dksX3_would_4 14 rfl rfl)
theorem dX3_would_111 : decode cX3_would 111 = .ok (.sipush 300, 3) := dk_17 1 44 (dk_at dksX3_would_4 17 rfl rfl)
theorem dX3_would_114 : decode cX3_would 114 = .ok (.iconst 3, 1) := dk_6 (dk_at dksX3_would_4 20 rfl rfl)
theorem dX3_would_115 : decode cX3_would 115 = .ok (.iload 4, 2) := dk_21 4 (dk_at dksX3_would_4 21 rfl rfl)
theorem dX3_would_117 : decode cX3_would 117 = .ok (.imul, 1) := dk_104 (dk_at dksX3_would_4 23 rfl rfl)
theorem dX3_would_118 : decode cX3_would 118 = .ok (.iadd, 1) := dk_96 (dk_at dksX3_would_5 0 rfl rfl)
theorem dX3_would_119 : decode cX3_would 119 = .ok (.iconst 2, 1) := dk_5 (dk_at dksX3_would_5 1 rfl rfl)
theorem dX3_would_120 : decode cX3_would 120 = .ok (.iadd, 1) := dk_96 (dk_at dksX3_would_5 2 rfl rfl)
theorem dX3_would_121 : decode cX3_would 121 = .ok (.iaload, 1) := dk_46 (dk_at dksX3_would_5 3 rfl rfl)
theorem dX3_would_122 : decode cX3_would 122 = .ok (.iconst 1, 1) := dk_4 (dk_at dksX3_would_5 4 rfl rfl)
theorem dX3_would_123 : decode cX3_would 123 = .ok (.if_icmp .ne 7, 3) := dk_160 0 7 (dk_at dksX3_would_5 5 rfl rfl)
theorem dX3_would_126 : decode cX3_would 126 = .ok (.iconst 1, 1) := dk_4 (dk_at dksX3_would_5 8 rfl rfl)
theorem dX3_would_127 : decode cX3_would 127 = .ok (.goto 4, 3) := dk_167 0 4 (dk_at dksX3_would_5 9 rfl rfl)
theorem dX3_would_130 : decode cX3_would 130 = .ok (.iconst 2, 1) := dk_5 (dk_at dksX3_would_5 12 rfl rfl)
theorem dX3_would_131 : decode cX3_would 131 = .ok (.istore_n 3, 1) := dk_62 (dk_at dksX3_would_5 13 rfl rfl)
theorem dX3_would_132 : decode cX3_would 132 = .ok (.iinc 4 1, 3) := dk_132 4 1 (dk_at dksX3_would_5 14 rfl rfl)
theorem dX3_would_135 : decode cX3_would 135 = .ok (.goto (-58), 3) := dk_167 255 198 (dk_at dksX3_would_5 17 rfl rfl)
theorem dX3_would_138 : decode cX3_would 138 = .ok (.aload_n 0, 1) := dk_42 (dk_at dksX3_would_5 20 rfl rfl)
theorem dX3_would_139 : decode cX3_would 139 = .ok (.getfield 16, 3) := dk_180 0 16 (dk_at dksX3_would_5 21 rfl rfl)
theorem dX3_would_142 : decode cX3_would 142 = .ok (.aload_n 0, 1) := dk_42 (dk_at dksX3_would_6 0 rfl rfl)
theorem dX3_would_143 : decode cX3_would 143 = .ok (.getfield 7, 3) := dk_180 0 7 (dk_at dksX3_would_6 1 rfl rfl)
theorem dX3_would_146 : decode cX3_would 146 = .ok (.invokestatic 192, 3) := dk_184 0 192 (dk_at dksX3_would_6 4 rfl rfl)
theorem dX3_would_149 : decode cX3_would 149 = .ok (.aload_n 0, 1) := dk_42 (dk_at dksX3_would_6 7 rfl rfl)
theorem dX3_would_150 : decode cX3_would 150 = .ok (.iload_n 3, 1) := dk_29 (dk_at dksX3_would_6 8 rfl rfl)
theorem dX3_would_151 : decode cX3_would 151 = .ok (.invokevirtual 199, 3) := dk_182 0 199 (dk_at dksX3_would_6 9 rfl rfl)
theorem dX3_would_154 : decode cX3_would 154 = .ok (.ireturn, 1) := dk_172 (dk_at dksX3_would_6 12 rfl rfl)
abbrev cX3_queue : ByteArray := prog_15_method_96_code
def yX3_queue : MethodName := ⟨RX3, "queue", "(I)I"⟩
def dkwX3_queue_5 : List UInt8 := [182, 0, 199, 172]
abbrev dktX3_queue_5 : List UInt8 := dkwX3_queue_5 ++ []
def dkwX3_queue_4 : List UInt8 := [62, 132, 5, 1, 167, 255, 198, 42, 29, 182, 1, 78, 54, 4, 132, 2, 255, 167, 255, 176, 42, 29]
abbrev dktX3_queue_4 : List UInt8 := dkwX3_queue_4 ++ dktX3_queue_5
def dkwX3_queue_3 : List UInt8 := [164, 0, 25, 29, 2, 159, 0, 17, 42, 21, 5, 182, 1, 78, 42, 29, 182, 1, 78, 162, 0, 6, 21, 5]
abbrev dktX3_queue_3 : List UInt8 := dkwX3_queue_3 ++ dktX3_queue_4
def dkwX3_queue_2 : List UInt8 := [17, 0, 231, 46, 162, 0, 51, 42, 21, 5, 182, 0, 208, 153, 0, 36, 42, 21, 5, 182, 1, 78, 21, 4]
abbrev dktX3_queue_2 : List UInt8 := dkwX3_queue_2 ++ dktX3_queue_3
def dkwX3_queue_1 : List UInt8 := [27, 61, 2, 62, 2, 54, 4, 28, 155, 0, 82, 2, 62, 3, 54, 5, 21, 5, 42, 180, 0, 7]
abbrev dktX3_queue_1 : List UInt8 := dkwX3_queue_1 ++ dktX3_queue_2
def dkwX3_queue_0 : List UInt8 := [27, 156, 0, 9, 42, 4, 182, 0, 186, 172, 27, 42, 182, 0, 231, 161, 0, 9, 42, 8, 182, 0, 186, 172]
abbrev dktX3_queue_0 : List UInt8 := dkwX3_queue_0 ++ dktX3_queue_1
theorem dksX3_queue_0 : cX3_queue.data.toList.drop 0 = dktX3_queue_0 := by decide +kernel
theorem dksX3_queue_1 : cX3_queue.data.toList.drop 24 = dktX3_queue_1 := dk_seg dksX3_queue_0 24 rfl rfl
theorem dksX3_queue_2 : cX3_queue.data.toList.drop 46 = dktX3_queue_2 := dk_seg dksX3_queue_1 22 rfl rfl
theorem dksX3_queue_3 : cX3_queue.data.toList.drop 70 = dktX3_queue_3 := dk_seg dksX3_queue_2 24 rfl rfl
theorem dksX3_queue_4 : cX3_queue.data.toList.drop 94 = dktX3_queue_4 := dk_seg dksX3_queue_3 24 rfl rfl
theorem dksX3_queue_5 : cX3_queue.data.toList.drop 116 = dktX3_queue_5 := dk_seg dksX3_queue_4 22 rfl rfl
theorem dX3_queue_0 : decode cX3_queue 0 = .ok (.iload_n 1, 1) := dk_27 (dk_at dksX3_queue_0 0 rfl rfl)
theorem dX3_queue_1 : decode cX3_queue 1 = .ok (.ifCond .ge 9, 3) := dk_156 0 9 (dk_at dksX3_queue_0 1 rfl rfl)
theorem dX3_queue_4 : decode cX3_queue 4 = .ok (.aload_n 0, 1) := dk_42 (dk_at dksX3_queue_0 4 rfl rfl)
theorem dX3_queue_5 : decode cX3_queue 5 = .ok (.iconst 1, 1) := dk_4 (dk_at dksX3_queue_0 5 rfl rfl)
theorem dX3_queue_6 : decode cX3_queue 6 = .ok (.invokevirtual 186, 3) := dk_182 0 186 (dk_at dksX3_queue_0 6 rfl rfl)
theorem dX3_queue_9 : decode cX3_queue 9 = .ok (.ireturn, 1) := dk_172 (dk_at dksX3_queue_0 9 rfl rfl)
theorem dX3_queue_10 : decode cX3_queue 10 = .ok (.iload_n 1, 1) := dk_27 (dk_at dksX3_queue_0 10 rfl rfl)
theorem dX3_queue_11 : decode cX3_queue 11 = .ok (.aload_n 0, 1) := dk_42 (dk_at dksX3_queue_0 11 rfl rfl)
theorem dX3_queue_12 : decode cX3_queue 12 = .ok (.invokevirtual 231, 3) := dk_182 0 231 (dk_at dksX3_queue_0 12 rfl rfl)
theorem dX3_queue_15 : decode cX3_queue 15 = .ok (.if_icmp .lt 9, 3) := dk_161 0 9 (dk_at dksX3_queue_0 15 rfl rfl)
theorem dX3_queue_18 : decode cX3_queue 18 = .ok (.aload_n 0, 1) := dk_42 (dk_at dksX3_queue_0 18 rfl rfl)
theorem dX3_queue_19 : decode cX3_queue 19 = .ok (.iconst 5, 1) := dk_8 (dk_at dksX3_queue_0 19 rfl rfl)
theorem dX3_queue_20 : decode cX3_queue 20 = .ok (.invokevirtual 186, 3) := dk_182 0 186 (dk_at dksX3_queue_0 20 rfl rfl)
theorem dX3_queue_23 : decode cX3_queue 23 = .ok (.ireturn, 1) := dk_172 (dk_at dksX3_queue_0 23 rfl rfl)
theorem dX3_queue_24 : decode cX3_queue 24 = .ok (.iload_n 1, 1) := dk_27 (dk_at dksX3_queue_1 0 rfl rfl)
theorem dX3_queue_25 : decode cX3_queue 25 = .ok (.istore_n 2, 1) := dk_61 (dk_at dksX3_queue_1 1 rfl rfl)
theorem dX3_queue_26 : decode cX3_queue 26 = .ok (.iconst (-1), 1) := dk_2 (dk_at dksX3_queue_1 2 rfl rfl)
theorem dX3_queue_27 : decode cX3_queue 27 = .ok (.istore_n 3, 1) := dk_62 (dk_at dksX3_queue_1 3 rfl rfl)
theorem dX3_queue_28 : decode cX3_queue 28 = .ok (.iconst (-1), 1) := dk_2 (dk_at dksX3_queue_1 4 rfl rfl)
theorem dX3_queue_29 : decode cX3_queue 29 = .ok (.istore 4, 2) := dk_54 4 (dk_at dksX3_queue_1 5 rfl rfl)
theorem dX3_queue_31 : decode cX3_queue 31 = .ok (.iload_n 2, 1) := dk_28 (dk_at dksX3_queue_1 7 rfl rfl)
theorem dX3_queue_32 : decode cX3_queue 32 = .ok (.ifCond .lt 82, 3) := dk_155 0 82 (dk_at dksX3_queue_1 8 rfl rfl)
theorem dX3_queue_35 : decode cX3_queue 35 = .ok (.iconst (-1), 1) := dk_2 (dk_at dksX3_queue_1 11 rfl rfl)
theorem dX3_queue_36 : decode cX3_queue 36 = .ok (.istore_n 3, 1) := dk_62 (dk_at dksX3_queue_1 12 rfl rfl)
theorem dX3_queue_37 : decode cX3_queue 37 = .ok (.iconst 0, 1) := dk_3 (dk_at dksX3_queue_1 13 rfl rfl)
theorem dX3_queue_38 : decode cX3_queue 38 = .ok (.istore 5, 2) := dk_54 5 (dk_at dksX3_queue_1 14 rfl rfl)
theorem dX3_queue_40 : decode cX3_queue 40 = .ok (.iload 5, 2) := dk_21 5 (dk_at dksX3_queue_1 16 rfl rfl)
theorem dX3_queue_42 : decode cX3_queue 42 = .ok (.aload_n 0, 1) := dk_42 (dk_at dksX3_queue_1 18 rfl rfl)
theorem dX3_queue_43 : decode cX3_queue 43 = .ok (.getfield 7, 3) := dk_180 0 7 (dk_at dksX3_queue_1 19 rfl rfl)
theorem dX3_queue_46 : decode cX3_queue 46 = .ok (.sipush 231, 3) := dk_17 0 231 (dk_at dksX3_queue_2 0 rfl rfl)
theorem dX3_queue_49 : decode cX3_queue 49 = .ok (.iaload, 1) := dk_46 (dk_at dksX3_queue_2 3 rfl rfl)
theorem dX3_queue_50 : decode cX3_queue 50 = .ok (.if_icmp .ge 51, 3) := dk_162 0 51 (dk_at dksX3_queue_2 4 rfl rfl)
theorem dX3_queue_53 : decode cX3_queue 53 = .ok (.aload_n 0, 1) := dk_42 (dk_at dksX3_queue_2 7 rfl rfl)
theorem dX3_queue_54 : decode cX3_queue 54 = .ok (.iload 5, 2) := dk_21 5 (dk_at dksX3_queue_2 8 rfl rfl)
theorem dX3_queue_56 : decode cX3_queue 56 = .ok (.invokevirtual 208, 3) := dk_182 0 208 (dk_at dksX3_queue_2 10 rfl rfl)
theorem dX3_queue_59 : decode cX3_queue 59 = .ok (.ifCond .eq 36, 3) := dk_153 0 36 (dk_at dksX3_queue_2 13 rfl rfl)
theorem dX3_queue_62 : decode cX3_queue 62 = .ok (.aload_n 0, 1) := dk_42 (dk_at dksX3_queue_2 16 rfl rfl)
theorem dX3_queue_63 : decode cX3_queue 63 = .ok (.iload 5, 2) := dk_21 5 (dk_at dksX3_queue_2 17 rfl rfl)
theorem dX3_queue_65 : decode cX3_queue 65 = .ok (.invokevirtual 334, 3) := dk_182 1 78 (dk_at dksX3_queue_2 19 rfl rfl)
theorem dX3_queue_68 : decode cX3_queue 68 = .ok (.iload 4, 2) := dk_21 4 (dk_at dksX3_queue_2 22 rfl rfl)
theorem dX3_queue_70 : decode cX3_queue 70 = .ok (.if_icmp .le 25, 3) := dk_164 0 25 (dk_at dksX3_queue_3 0 rfl rfl)
theorem dX3_queue_73 : decode cX3_queue 73 = .ok (.iload_n 3, 1) := dk_29 (dk_at dksX3_queue_3 3 rfl rfl)
theorem dX3_queue_74 : decode cX3_queue 74 = .ok (.iconst (-1), 1) := dk_2 (dk_at dksX3_queue_3 4 rfl rfl)
theorem dX3_queue_75 : decode cX3_queue 75 = .ok (.if_icmp .eq 17, 3) := dk_159 0 17 (dk_at dksX3_queue_3 5 rfl rfl)
theorem dX3_queue_78 : decode cX3_queue 78 = .ok (.aload_n 0, 1) := dk_42 (dk_at dksX3_queue_3 8 rfl rfl)
theorem dX3_queue_79 : decode cX3_queue 79 = .ok (.iload 5, 2) := dk_21 5 (dk_at dksX3_queue_3 9 rfl rfl)
theorem dX3_queue_81 : decode cX3_queue 81 = .ok (.invokevirtual 334, 3) := dk_182 1 78 (dk_at dksX3_queue_3 11 rfl rfl)
theorem dX3_queue_84 : decode cX3_queue 84 = .ok (.aload_n 0, 1) := dk_42 (dk_at dksX3_queue_3 14 rfl rfl)
theorem dX3_queue_85 : decode cX3_queue 85 = .ok (.iload_n 3, 1) := dk_29 (dk_at dksX3_queue_3 15 rfl rfl)
theorem dX3_queue_86 : decode cX3_queue 86 = .ok (.invokevirtual 334, 3) := dk_182 1 78 (dk_at dksX3_queue_3 16 rfl rfl)
theorem dX3_queue_89 : decode cX3_queue 89 = .ok (.if_icmp .ge 6, 3) := dk_162 0 6 (dk_at dksX3_queue_3 19 rfl rfl)
theorem dX3_queue_92 : decode cX3_queue 92 = .ok (.iload 5, 2) := dk_21 5 (dk_at dksX3_queue_3 22 rfl rfl)
theorem dX3_queue_94 : decode cX3_queue 94 = .ok (.istore_n 3, 1) := dk_62 (dk_at dksX3_queue_4 0 rfl rfl)
theorem dX3_queue_95 : decode cX3_queue 95 = .ok (.iinc 5 1, 3) := dk_132 5 1 (dk_at dksX3_queue_4 1 rfl rfl)
theorem dX3_queue_98 : decode cX3_queue 98 = .ok (.goto (-58), 3) := dk_167 255 198 (dk_at dksX3_queue_4 4 rfl rfl)
theorem dX3_queue_101 : decode cX3_queue 101 = .ok (.aload_n 0, 1) := dk_42 (dk_at dksX3_queue_4 7 rfl rfl)
theorem dX3_queue_102 : decode cX3_queue 102 = .ok (.iload_n 3, 1) := dk_29 (dk_at dksX3_queue_4 8 rfl rfl)
theorem dX3_queue_103 : decode cX3_queue 103 = .ok (.invokevirtual 334, 3) := dk_182 1 78 (dk_at dksX3_queue_4 9 rfl rfl)
theorem dX3_queue_106 : decode cX3_queue 106 = .ok (.istore 4, 2) := dk_54 4 (dk_at dksX3_queue_4 12 rfl rfl)
theorem dX3_queue_108 : decode cX3_queue 108 = .ok (.iinc 2 (-1), 3) := dk_132 2 255 (dk_at dksX3_queue_4 14 rfl rfl)
theorem dX3_queue_111 : decode cX3_queue 111 = .ok (.goto (-80), 3) := dk_167 255 176 (dk_at dksX3_queue_4 17 rfl rfl)
theorem dX3_queue_114 : decode cX3_queue 114 = .ok (.aload_n 0, 1) := dk_42 (dk_at dksX3_queue_4 20 rfl rfl)
theorem dX3_queue_115 : decode cX3_queue 115 = .ok (.iload_n 3, 1) := dk_29 (dk_at dksX3_queue_4 21 rfl rfl)
theorem dX3_queue_116 : decode cX3_queue 116 = .ok (.invokevirtual 199, 3) := dk_182 0 199 (dk_at dksX3_queue_5 0 rfl rfl)
theorem dX3_queue_119 : decode cX3_queue 119 = .ok (.ireturn, 1) := dk_172 (dk_at dksX3_queue_5 3 rfl rfl)
abbrev cX3_plainWeight : ByteArray := prog_15_method_97_code
def yX3_plainWeight : MethodName := ⟨RX3, "plainWeight", "(I)I"⟩
def dkwX3_plainWeight_0 : List UInt8 := [17, 3, 232, 42, 27, 182, 0, 247, 104, 42, 27, 6, 182, 0, 205, 96, 16, 8, 104, 27, 96, 172]
abbrev dktX3_plainWeight_0 : List UInt8 := dkwX3_plainWeight_0 ++ []
theorem dksX3_plainWeight_0 : cX3_plainWeight.data.toList.drop 0 = dktX3_plainWeight_0 := by decide +kernel
theorem dX3_plainWeight_0 : decode cX3_plainWeight 0 = .ok (.sipush 1000, 3) := dk_17 3 232 (dk_at dksX3_plainWeight_0 0 rfl rfl)
theorem dX3_plainWeight_3 : decode cX3_plainWeight 3 = .ok (.aload_n 0, 1) := dk_42 (dk_at dksX3_plainWeight_0 3 rfl rfl)
theorem dX3_plainWeight_4 : decode cX3_plainWeight 4 = .ok (.iload_n 1, 1) := dk_27 (dk_at dksX3_plainWeight_0 4 rfl rfl)
theorem dX3_plainWeight_5 : decode cX3_plainWeight 5 = .ok (.invokevirtual 247, 3) := dk_182 0 247 (dk_at dksX3_plainWeight_0 5 rfl rfl)
theorem dX3_plainWeight_8 : decode cX3_plainWeight 8 = .ok (.imul, 1) := dk_104 (dk_at dksX3_plainWeight_0 8 rfl rfl)
theorem dX3_plainWeight_9 : decode cX3_plainWeight 9 = .ok (.aload_n 0, 1) := dk_42 (dk_at dksX3_plainWeight_0 9 rfl rfl)
theorem dX3_plainWeight_10 : decode cX3_plainWeight 10 = .ok (.iload_n 1, 1) := dk_27 (dk_at dksX3_plainWeight_0 10 rfl rfl)
theorem dX3_plainWeight_11 : decode cX3_plainWeight 11 = .ok (.iconst 3, 1) := dk_6 (dk_at dksX3_plainWeight_0 11 rfl rfl)
theorem dX3_plainWeight_12 : decode cX3_plainWeight 12 = .ok (.invokevirtual 205, 3) := dk_182 0 205 (dk_at dksX3_plainWeight_0 12 rfl rfl)
theorem dX3_plainWeight_15 : decode cX3_plainWeight 15 = .ok (.iadd, 1) := dk_96 (dk_at dksX3_plainWeight_0 15 rfl rfl)
theorem dX3_plainWeight_16 : decode cX3_plainWeight 16 = .ok (.bipush 8, 2) := dk_16 8 (dk_at dksX3_plainWeight_0 16 rfl rfl)
theorem dX3_plainWeight_18 : decode cX3_plainWeight 18 = .ok (.imul, 1) := dk_104 (dk_at dksX3_plainWeight_0 18 rfl rfl)
theorem dX3_plainWeight_19 : decode cX3_plainWeight 19 = .ok (.iload_n 1, 1) := dk_27 (dk_at dksX3_plainWeight_0 19 rfl rfl)
theorem dX3_plainWeight_20 : decode cX3_plainWeight 20 = .ok (.iadd, 1) := dk_96 (dk_at dksX3_plainWeight_0 20 rfl rfl)
theorem dX3_plainWeight_21 : decode cX3_plainWeight 21 = .ok (.ireturn, 1) := dk_172 (dk_at dksX3_plainWeight_0 21 rfl rfl)
abbrev cX3_most : ByteArray := prog_15_method_102_code
def yX3_most : MethodName := ⟨RX3, "most", "()I"⟩
def dkwX3_most_0 : List UInt8 := [42, 42, 182, 1, 90, 182, 0, 199, 172]
abbrev dktX3_most_0 : List UInt8 := dkwX3_most_0 ++ []
theorem dksX3_most_0 : cX3_most.data.toList.drop 0 = dktX3_most_0 := by decide +kernel
theorem dX3_most_0 : decode cX3_most 0 = .ok (.aload_n 0, 1) := dk_42 (dk_at dksX3_most_0 0 rfl rfl)
theorem dX3_most_1 : decode cX3_most 1 = .ok (.aload_n 0, 1) := dk_42 (dk_at dksX3_most_0 1 rfl rfl)
theorem dX3_most_2 : decode cX3_most 2 = .ok (.invokevirtual 346, 3) := dk_182 1 90 (dk_at dksX3_most_0 2 rfl rfl)
theorem dX3_most_5 : decode cX3_most 5 = .ok (.invokevirtual 199, 3) := dk_182 0 199 (dk_at dksX3_most_0 5 rfl rfl)
theorem dX3_most_8 : decode cX3_most 8 = .ok (.ireturn, 1) := dk_172 (dk_at dksX3_most_0 8 rfl rfl)
abbrev cX3_laysGifts : ByteArray := prog_15_method_101_code
def yX3_laysGifts : MethodName := ⟨RX3, "laysGifts", "()I"⟩
def dkwX3_laysGifts_6 : List UInt8 := [132, 2, 1, 167, 255, 163, 132, 1, 255, 167, 255, 151, 42, 3, 3, 182, 1, 84, 172]
abbrev dktX3_laysGifts_6 : List UInt8 := dkwX3_laysGifts_6 ++ []
def dkwX3_laysGifts_5 : List UInt8 := [184, 0, 211, 62, 132, 4, 1, 167, 255, 201, 42, 180, 0, 39, 17, 4, 0, 27, 104, 28, 96, 29, 79]
abbrev dktX3_laysGifts_5 : List UInt8 := dkwX3_laysGifts_5 ++ dktX3_laysGifts_6
def dkwX3_laysGifts_4 : List UInt8 := [21, 4, 182, 1, 87, 153, 0, 23, 29, 4, 42, 27, 4, 96, 28, 4, 21, 4, 120, 128, 182, 1, 84, 96]
abbrev dktX3_laysGifts_4 : List UInt8 := dkwX3_laysGifts_4 ++ dktX3_laysGifts_5
def dkwX3_laysGifts_3 : List UInt8 := [21, 4, 42, 180, 0, 7, 17, 0, 230, 46, 162, 0, 48, 28, 21, 4, 122, 4, 126, 154, 0, 33, 42, 27]
abbrev dktX3_laysGifts_3 : List UInt8 := dkwX3_laysGifts_3 ++ dktX3_laysGifts_4
def dkwX3_laysGifts_2 : List UInt8 := [155, 0, 107, 3, 61, 28, 17, 4, 0, 162, 0, 92, 42, 27, 4, 96, 28, 182, 1, 84, 62, 3, 54, 4]
abbrev dktX3_laysGifts_2 : List UInt8 := dkwX3_laysGifts_2 ++ dktX3_laysGifts_3
def dkwX3_laysGifts_1 : List UInt8 := [104, 27, 96, 3, 79, 132, 1, 1, 167, 255, 226, 42, 180, 0, 7, 17, 0, 231, 46, 4, 100, 60, 27]
abbrev dktX3_laysGifts_1 : List UInt8 := dkwX3_laysGifts_1 ++ dktX3_laysGifts_2
def dkwX3_laysGifts_0 : List UInt8 := [3, 60, 27, 17, 4, 0, 162, 0, 29, 42, 180, 0, 39, 17, 4, 0, 42, 180, 0, 7, 17, 0, 231, 46]
abbrev dktX3_laysGifts_0 : List UInt8 := dkwX3_laysGifts_0 ++ dktX3_laysGifts_1
theorem dksX3_laysGifts_0 : cX3_laysGifts.data.toList.drop 0 = dktX3_laysGifts_0 := by decide +kernel
theorem dksX3_laysGifts_1 : cX3_laysGifts.data.toList.drop 24 = dktX3_laysGifts_1 := dk_seg dksX3_laysGifts_0 24 rfl rfl
theorem dksX3_laysGifts_2 : cX3_laysGifts.data.toList.drop 47 = dktX3_laysGifts_2 := dk_seg dksX3_laysGifts_1 23 rfl rfl
theorem dksX3_laysGifts_3 : cX3_laysGifts.data.toList.drop 71 = dktX3_laysGifts_3 := dk_seg dksX3_laysGifts_2 24 rfl rfl
theorem dksX3_laysGifts_4 : cX3_laysGifts.data.toList.drop 95 = dktX3_laysGifts_4 := dk_seg dksX3_laysGifts_3 24 rfl rfl
theorem dksX3_laysGifts_5 : cX3_laysGifts.data.toList.drop 119 = dktX3_laysGifts_5 := dk_seg dksX3_laysGifts_4 24 rfl rfl
theorem dksX3_laysGifts_6 : cX3_laysGifts.data.toList.drop 142 = dktX3_laysGifts_6 := dk_seg dksX3_laysGifts_5 23 rfl rfl
theorem dX3_laysGifts_0 : decode cX3_laysGifts 0 = .ok (.iconst 0, 1) := dk_3 (dk_at dksX3_laysGifts_0 0 rfl rfl)
theorem dX3_laysGifts_1 : decode cX3_laysGifts 1 = .ok (.istore_n 1, 1) := dk_60 (dk_at dksX3_laysGifts_0 1 rfl rfl)
theorem dX3_laysGifts_2 : decode cX3_laysGifts 2 = .ok (.iload_n 1, 1) := dk_27 (dk_at dksX3_laysGifts_0 2 rfl rfl)
theorem dX3_laysGifts_3 : decode cX3_laysGifts 3 = .ok (.sipush 1024, 3) := dk_17 4 0 (dk_at dksX3_laysGifts_0 3 rfl rfl)
theorem dX3_laysGifts_6 : decode cX3_laysGifts 6 = .ok (.if_icmp .ge 29, 3) := dk_162 0 29 (dk_at dksX3_laysGifts_0 6 rfl rfl)
theorem dX3_laysGifts_9 : decode cX3_laysGifts 9 = .ok (.aload_n 0, 1) := dk_42 (dk_at dksX3_laysGifts_0 9 rfl rfl)
theorem dX3_laysGifts_10 : decode cX3_laysGifts 10 = .ok (.getfield 39, 3) := dk_180 0 39 (dk_at dksX3_laysGifts_0 10 rfl rfl)
theorem dX3_laysGifts_13 : decode cX3_laysGifts 13 = .ok (.sipush 1024, 3) := dk_17 4 0 (dk_at dksX3_laysGifts_0 13 rfl rfl)
theorem dX3_laysGifts_16 : decode cX3_laysGifts 16 = .ok (.aload_n 0, 1) := dk_42 (dk_at dksX3_laysGifts_0 16 rfl rfl)
theorem dX3_laysGifts_17 : decode cX3_laysGifts 17 = .ok (.getfield 7, 3) := dk_180 0 7 (dk_at dksX3_laysGifts_0 17 rfl rfl)
theorem dX3_laysGifts_20 : decode cX3_laysGifts 20 = .ok (.sipush 231, 3) := dk_17 0 231 (dk_at dksX3_laysGifts_0 20 rfl rfl)
theorem dX3_laysGifts_23 : decode cX3_laysGifts 23 = .ok (.iaload, 1) := dk_46 (dk_at dksX3_laysGifts_0 23 rfl rfl)
theorem dX3_laysGifts_24 : decode cX3_laysGifts 24 = .ok (.imul, 1) := dk_104 (dk_at dksX3_laysGifts_1 0 rfl rfl)
theorem dX3_laysGifts_25 : decode cX3_laysGifts 25 = .ok (.iload_n 1, 1) := dk_27 (dk_at dksX3_laysGifts_1 1 rfl rfl)
theorem dX3_laysGifts_26 : decode cX3_laysGifts 26 = .ok (.iadd, 1) := dk_96 (dk_at dksX3_laysGifts_1 2 rfl rfl)
theorem dX3_laysGifts_27 : decode cX3_laysGifts 27 = .ok (.iconst 0, 1) := dk_3 (dk_at dksX3_laysGifts_1 3 rfl rfl)
theorem dX3_laysGifts_28 : decode cX3_laysGifts 28 = .ok (.iastore, 1) := dk_79 (dk_at dksX3_laysGifts_1 4 rfl rfl)
theorem dX3_laysGifts_29 : decode cX3_laysGifts 29 = .ok (.iinc 1 1, 3) := dk_132 1 1 (dk_at dksX3_laysGifts_1 5 rfl rfl)
theorem dX3_laysGifts_32 : decode cX3_laysGifts 32 = .ok (.goto (-30), 3) := dk_167 255 226 (dk_at dksX3_laysGifts_1 8 rfl rfl)
theorem dX3_laysGifts_35 : decode cX3_laysGifts 35 = .ok (.aload_n 0, 1) := dk_42 (dk_at dksX3_laysGifts_1 11 rfl rfl)
theorem dX3_laysGifts_36 : decode cX3_laysGifts 36 = .ok (.getfield 7, 3) := dk_180 0 7 (dk_at dksX3_laysGifts_1 12 rfl rfl)
theorem dX3_laysGifts_39 : decode cX3_laysGifts 39 = .ok (.sipush 231, 3) := dk_17 0 231 (dk_at dksX3_laysGifts_1 15 rfl rfl)
theorem dX3_laysGifts_42 : decode cX3_laysGifts 42 = .ok (.iaload, 1) := dk_46 (dk_at dksX3_laysGifts_1 18 rfl rfl)
theorem dX3_laysGifts_43 : decode cX3_laysGifts 43 = .ok (.iconst 1, 1) := dk_4 (dk_at dksX3_laysGifts_1 19 rfl rfl)
theorem dX3_laysGifts_44 : decode cX3_laysGifts 44 = .ok (.isub, 1) := dk_100 (dk_at dksX3_laysGifts_1 20 rfl rfl)
theorem dX3_laysGifts_45 : decode cX3_laysGifts 45 = .ok (.istore_n 1, 1) := dk_60 (dk_at dksX3_laysGifts_1 21 rfl rfl)
theorem dX3_laysGifts_46 : decode cX3_laysGifts 46 = .ok (.iload_n 1, 1) := dk_27 (dk_at dksX3_laysGifts_1 22 rfl rfl)
theorem dX3_laysGifts_47 : decode cX3_laysGifts 47 = .ok (.ifCond .lt 107, 3) := dk_155 0 107 (dk_at dksX3_laysGifts_2 0 rfl rfl)
theorem dX3_laysGifts_50 : decode cX3_laysGifts 50 = .ok (.iconst 0, 1) := dk_3 (dk_at dksX3_laysGifts_2 3 rfl rfl)
theorem dX3_laysGifts_51 : decode cX3_laysGifts 51 = .ok (.istore_n 2, 1) := dk_61 (dk_at dksX3_laysGifts_2 4 rfl rfl)
theorem dX3_laysGifts_52 : decode cX3_laysGifts 52 = .ok (.iload_n 2, 1) := dk_28 (dk_at dksX3_laysGifts_2 5 rfl rfl)
theorem dX3_laysGifts_53 : decode cX3_laysGifts 53 = .ok (.sipush 1024, 3) := dk_17 4 0 (dk_at dksX3_laysGifts_2 6 rfl rfl)
theorem dX3_laysGifts_56 : decode cX3_laysGifts 56 = .ok (.if_icmp .ge 92, 3) := dk_162 0 92 (dk_at dksX3_laysGifts_2 9 rfl rfl)
theorem dX3_laysGifts_59 : decode cX3_laysGifts 59 = .ok (.aload_n 0, 1) := dk_42 (dk_at dksX3_laysGifts_2 12 rfl rfl)
theorem dX3_laysGifts_60 : decode cX3_laysGifts 60 = .ok (.iload_n 1, 1) := dk_27 (dk_at dksX3_laysGifts_2 13 rfl rfl)
theorem dX3_laysGifts_61 : decode cX3_laysGifts 61 = .ok (.iconst 1, 1) := dk_4 (dk_at dksX3_laysGifts_2 14 rfl rfl)
theorem dX3_laysGifts_62 : decode cX3_laysGifts 62 = .ok (.iadd, 1) := dk_96 (dk_at dksX3_laysGifts_2 15 rfl rfl)
theorem dX3_laysGifts_63 : decode cX3_laysGifts 63 = .ok (.iload_n 2, 1) := dk_28 (dk_at dksX3_laysGifts_2 16 rfl rfl)
theorem dX3_laysGifts_64 : decode cX3_laysGifts 64 = .ok (.invokevirtual 340, 3) := dk_182 1 84 (dk_at dksX3_laysGifts_2 17 rfl rfl)
theorem dX3_laysGifts_67 : decode cX3_laysGifts 67 = .ok (.istore_n 3, 1) := dk_62 (dk_at dksX3_laysGifts_2 20 rfl rfl)
theorem dX3_laysGifts_68 : decode cX3_laysGifts 68 = .ok (.iconst 0, 1) := dk_3 (dk_at dksX3_laysGifts_2 21 rfl rfl)
theorem dX3_laysGifts_69 : decode cX3_laysGifts 69 = .ok (.istore 4, 2) := dk_54 4 (dk_at dksX3_laysGifts_2 22 rfl rfl)
theorem dX3_laysGifts_71 : decode cX3_laysGifts 71 = .ok (.iload 4, 2) := dk_21 4 (dk_at dksX3_laysGifts_3 0 rfl rfl)
theorem dX3_laysGifts_73 : decode cX3_laysGifts 73 = .ok (.aload_n 0, 1) := dk_42 (dk_at dksX3_laysGifts_3 2 rfl rfl)
theorem dX3_laysGifts_74 : decode cX3_laysGifts 74 = .ok (.getfield 7, 3) := dk_180 0 7 (dk_at dksX3_laysGifts_3 3 rfl rfl)
theorem dX3_laysGifts_77 : decode cX3_laysGifts 77 = .ok (.sipush 230, 3) := dk_17 0 230 (dk_at dksX3_laysGifts_3 6 rfl rfl)
theorem dX3_laysGifts_80 : decode cX3_laysGifts 80 = .ok (.iaload, 1) := dk_46 (dk_at dksX3_laysGifts_3 9 rfl rfl)
theorem dX3_laysGifts_81 : decode cX3_laysGifts 81 = .ok (.if_icmp .ge 48, 3) := dk_162 0 48 (dk_at dksX3_laysGifts_3 10 rfl rfl)
theorem dX3_laysGifts_84 : decode cX3_laysGifts 84 = .ok (.iload_n 2, 1) := dk_28 (dk_at dksX3_laysGifts_3 13 rfl rfl)
theorem dX3_laysGifts_85 : decode cX3_laysGifts 85 = .ok (.iload 4, 2) := dk_21 4 (dk_at dksX3_laysGifts_3 14 rfl rfl)
theorem dX3_laysGifts_87 : decode cX3_laysGifts 87 = .ok (.ishr, 1) := dk_122 (dk_at dksX3_laysGifts_3 16 rfl rfl)
theorem dX3_laysGifts_88 : decode cX3_laysGifts 88 = .ok (.iconst 1, 1) := dk_4 (dk_at dksX3_laysGifts_3 17 rfl rfl)
theorem dX3_laysGifts_89 : decode cX3_laysGifts 89 = .ok (.iand, 1) := dk_126 (dk_at dksX3_laysGifts_3 18 rfl rfl)
theorem dX3_laysGifts_90 : decode cX3_laysGifts 90 = .ok (.ifCond .ne 33, 3) := dk_154 0 33 (dk_at dksX3_laysGifts_3 19 rfl rfl)
theorem dX3_laysGifts_93 : decode cX3_laysGifts 93 = .ok (.aload_n 0, 1) := dk_42 (dk_at dksX3_laysGifts_3 22 rfl rfl)
theorem dX3_laysGifts_94 : decode cX3_laysGifts 94 = .ok (.iload_n 1, 1) := dk_27 (dk_at dksX3_laysGifts_3 23 rfl rfl)
theorem dX3_laysGifts_95 : decode cX3_laysGifts 95 = .ok (.iload 4, 2) := dk_21 4 (dk_at dksX3_laysGifts_4 0 rfl rfl)
theorem dX3_laysGifts_97 : decode cX3_laysGifts 97 = .ok (.invokevirtual 343, 3) := dk_182 1 87 (dk_at dksX3_laysGifts_4 2 rfl rfl)
theorem dX3_laysGifts_100 : decode cX3_laysGifts 100 = .ok (.ifCond .eq 23, 3) := dk_153 0 23 (dk_at dksX3_laysGifts_4 5 rfl rfl)
theorem dX3_laysGifts_103 : decode cX3_laysGifts 103 = .ok (.iload_n 3, 1) := dk_29 (dk_at dksX3_laysGifts_4 8 rfl rfl)
theorem dX3_laysGifts_104 : decode cX3_laysGifts 104 = .ok (.iconst 1, 1) := dk_4 (dk_at dksX3_laysGifts_4 9 rfl rfl)
theorem dX3_laysGifts_105 : decode cX3_laysGifts 105 = .ok (.aload_n 0, 1) := dk_42 (dk_at dksX3_laysGifts_4 10 rfl rfl)
theorem dX3_laysGifts_106 : decode cX3_laysGifts 106 = .ok (.iload_n 1, 1) := dk_27 (dk_at dksX3_laysGifts_4 11 rfl rfl)
theorem dX3_laysGifts_107 : decode cX3_laysGifts 107 = .ok (.iconst 1, 1) := dk_4 (dk_at dksX3_laysGifts_4 12 rfl rfl)
theorem dX3_laysGifts_108 : decode cX3_laysGifts 108 = .ok (.iadd, 1) := dk_96 (dk_at dksX3_laysGifts_4 13 rfl rfl)
theorem dX3_laysGifts_109 : decode cX3_laysGifts 109 = .ok (.iload_n 2, 1) := dk_28 (dk_at dksX3_laysGifts_4 14 rfl rfl)
theorem dX3_laysGifts_110 : decode cX3_laysGifts 110 = .ok (.iconst 1, 1) := dk_4 (dk_at dksX3_laysGifts_4 15 rfl rfl)
theorem dX3_laysGifts_111 : decode cX3_laysGifts 111 = .ok (.iload 4, 2) := dk_21 4 (dk_at dksX3_laysGifts_4 16 rfl rfl)
theorem dX3_laysGifts_113 : decode cX3_laysGifts 113 = .ok (.ishl, 1) := dk_120 (dk_at dksX3_laysGifts_4 18 rfl rfl)
theorem dX3_laysGifts_114 : decode cX3_laysGifts 114 = .ok (.ior, 1) := dk_128 (dk_at dksX3_laysGifts_4 19 rfl rfl)
theorem dX3_laysGifts_115 : decode cX3_laysGifts 115 = .ok (.invokevirtual 340, 3) := dk_182 1 84 (dk_at dksX3_laysGifts_4 20 rfl rfl)
theorem dX3_laysGifts_118 : decode cX3_laysGifts 118 = .ok (.iadd, 1) := dk_96 (dk_at dksX3_laysGifts_4 23 rfl rfl)
theorem dX3_laysGifts_119 : decode cX3_laysGifts 119 = .ok (.invokestatic 211, 3) := dk_184 0 211 (dk_at dksX3_laysGifts_5 0 rfl rfl)
theorem dX3_laysGifts_122 : decode cX3_laysGifts 122 = .ok (.istore_n 3, 1) := dk_62 (dk_at dksX3_laysGifts_5 3 rfl rfl)
theorem dX3_laysGifts_123 : decode cX3_laysGifts 123 = .ok (.iinc 4 1, 3) := dk_132 4 1 (dk_at dksX3_laysGifts_5 4 rfl rfl)
theorem dX3_laysGifts_126 : decode cX3_laysGifts 126 = .ok (.goto (-55), 3) := dk_167 255 201 (dk_at dksX3_laysGifts_5 7 rfl rfl)
theorem dX3_laysGifts_129 : decode cX3_laysGifts 129 = .ok (.aload_n 0, 1) := dk_42 (dk_at dksX3_laysGifts_5 10 rfl rfl)
theorem dX3_laysGifts_130 : decode cX3_laysGifts 130 = .ok (.getfield 39, 3) := dk_180 0 39 (dk_at dksX3_laysGifts_5 11 rfl rfl)
theorem dX3_laysGifts_133 : decode cX3_laysGifts 133 = .ok (.sipush 1024, 3) := dk_17 4 0 (dk_at dksX3_laysGifts_5 14 rfl rfl)
theorem dX3_laysGifts_136 : decode cX3_laysGifts 136 = .ok (.iload_n 1, 1) := dk_27 (dk_at dksX3_laysGifts_5 17 rfl rfl)
theorem dX3_laysGifts_137 : decode cX3_laysGifts 137 = .ok (.imul, 1) := dk_104 (dk_at dksX3_laysGifts_5 18 rfl rfl)
theorem dX3_laysGifts_138 : decode cX3_laysGifts 138 = .ok (.iload_n 2, 1) := dk_28 (dk_at dksX3_laysGifts_5 19 rfl rfl)
theorem dX3_laysGifts_139 : decode cX3_laysGifts 139 = .ok (.iadd, 1) := dk_96 (dk_at dksX3_laysGifts_5 20 rfl rfl)
theorem dX3_laysGifts_140 : decode cX3_laysGifts 140 = .ok (.iload_n 3, 1) := dk_29 (dk_at dksX3_laysGifts_5 21 rfl rfl)
theorem dX3_laysGifts_141 : decode cX3_laysGifts 141 = .ok (.iastore, 1) := dk_79 (dk_at dksX3_laysGifts_5 22 rfl rfl)
theorem dX3_laysGifts_142 : decode cX3_laysGifts 142 = .ok (.iinc 2 1, 3) := dk_132 2 1 (dk_at dksX3_laysGifts_6 0 rfl rfl)
theorem dX3_laysGifts_145 : decode cX3_laysGifts 145 = .ok (.goto (-93), 3) := dk_167 255 163 (dk_at dksX3_laysGifts_6 3 rfl rfl)
theorem dX3_laysGifts_148 : decode cX3_laysGifts 148 = .ok (.iinc 1 (-1), 3) := dk_132 1 255 (dk_at dksX3_laysGifts_6 6 rfl rfl)
theorem dX3_laysGifts_151 : decode cX3_laysGifts 151 = .ok (.goto (-105), 3) := dk_167 255 151 (dk_at dksX3_laysGifts_6 9 rfl rfl)
theorem dX3_laysGifts_154 : decode cX3_laysGifts 154 = .ok (.aload_n 0, 1) := dk_42 (dk_at dksX3_laysGifts_6 12 rfl rfl)
theorem dX3_laysGifts_155 : decode cX3_laysGifts 155 = .ok (.iconst 0, 1) := dk_3 (dk_at dksX3_laysGifts_6 13 rfl rfl)
theorem dX3_laysGifts_156 : decode cX3_laysGifts 156 = .ok (.iconst 0, 1) := dk_3 (dk_at dksX3_laysGifts_6 14 rfl rfl)
theorem dX3_laysGifts_157 : decode cX3_laysGifts 157 = .ok (.invokevirtual 340, 3) := dk_182 1 84 (dk_at dksX3_laysGifts_6 15 rfl rfl)
theorem dX3_laysGifts_160 : decode cX3_laysGifts 160 = .ok (.ireturn, 1) := dk_172 (dk_at dksX3_laysGifts_6 18 rfl rfl)
abbrev cX3_gave : ByteArray := prog_15_method_100_code
def yX3_gave : MethodName := ⟨RX3, "gave", "(II)I"⟩
def dkwX3_gave_0 : List UInt8 := [42, 180, 0, 39, 17, 4, 0, 27, 104, 28, 96, 46, 172]
abbrev dktX3_gave_0 : List UInt8 := dkwX3_gave_0 ++ []
theorem dksX3_gave_0 : cX3_gave.data.toList.drop 0 = dktX3_gave_0 := by decide +kernel
theorem dX3_gave_0 : decode cX3_gave 0 = .ok (.aload_n 0, 1) := dk_42 (dk_at dksX3_gave_0 0 rfl rfl)
theorem dX3_gave_1 : decode cX3_gave 1 = .ok (.getfield 39, 3) := dk_180 0 39 (dk_at dksX3_gave_0 1 rfl rfl)
theorem dX3_gave_4 : decode cX3_gave 4 = .ok (.sipush 1024, 3) := dk_17 4 0 (dk_at dksX3_gave_0 4 rfl rfl)
theorem dX3_gave_7 : decode cX3_gave 7 = .ok (.iload_n 1, 1) := dk_27 (dk_at dksX3_gave_0 7 rfl rfl)
theorem dX3_gave_8 : decode cX3_gave 8 = .ok (.imul, 1) := dk_104 (dk_at dksX3_gave_0 8 rfl rfl)
theorem dX3_gave_9 : decode cX3_gave 9 = .ok (.iload_n 2, 1) := dk_28 (dk_at dksX3_gave_0 9 rfl rfl)
theorem dX3_gave_10 : decode cX3_gave 10 = .ok (.iadd, 1) := dk_96 (dk_at dksX3_gave_0 10 rfl rfl)
theorem dX3_gave_11 : decode cX3_gave 11 = .ok (.iaload, 1) := dk_46 (dk_at dksX3_gave_0 11 rfl rfl)
theorem dX3_gave_12 : decode cX3_gave 12 = .ok (.ireturn, 1) := dk_172 (dk_at dksX3_gave_0 12 rfl rfl)
abbrev cX3_canGive : ByteArray := prog_15_method_99_code
def yX3_canGive : MethodName := ⟨RX3, "canGive", "(II)Z"⟩
def dkwX3_canGive_0 : List UInt8 := [42, 28, 182, 0, 219, 153, 0, 16, 42, 27, 28, 182, 1, 81, 153, 0, 7, 4, 167, 0, 4, 3, 172]
abbrev dktX3_canGive_0 : List UInt8 := dkwX3_canGive_0 ++ []
theorem dksX3_canGive_0 : cX3_canGive.data.toList.drop 0 = dktX3_canGive_0 := by decide +kernel
theorem dX3_canGive_0 : decode cX3_canGive 0 = .ok (.aload_n 0, 1) := dk_42 (dk_at dksX3_canGive_0 0 rfl rfl)
theorem dX3_canGive_1 : decode cX3_canGive 1 = .ok (.iload_n 2, 1) := dk_28 (dk_at dksX3_canGive_0 1 rfl rfl)
theorem dX3_canGive_2 : decode cX3_canGive 2 = .ok (.invokevirtual 219, 3) := dk_182 0 219 (dk_at dksX3_canGive_0 2 rfl rfl)
theorem dX3_canGive_5 : decode cX3_canGive 5 = .ok (.ifCond .eq 16, 3) := dk_153 0 16 (dk_at dksX3_canGive_0 5 rfl rfl)
theorem dX3_canGive_8 : decode cX3_canGive 8 = .ok (.aload_n 0, 1) := dk_42 (dk_at dksX3_canGive_0 8 rfl rfl)
theorem dX3_canGive_9 : decode cX3_canGive 9 = .ok (.iload_n 1, 1) := dk_27 (dk_at dksX3_canGive_0 9 rfl rfl)
theorem dX3_canGive_10 : decode cX3_canGive 10 = .ok (.iload_n 2, 1) := dk_28 (dk_at dksX3_canGive_0 10 rfl rfl)
theorem dX3_canGive_11 : decode cX3_canGive 11 = .ok (.invokevirtual 337, 3) := dk_182 1 81 (dk_at dksX3_canGive_0 11 rfl rfl)
theorem dX3_canGive_14 : decode cX3_canGive 14 = .ok (.ifCond .eq 7, 3) := dk_153 0 7 (dk_at dksX3_canGive_0 14 rfl rfl)
theorem dX3_canGive_17 : decode cX3_canGive 17 = .ok (.iconst 1, 1) := dk_4 (dk_at dksX3_canGive_0 17 rfl rfl)
theorem dX3_canGive_18 : decode cX3_canGive 18 = .ok (.goto 4, 3) := dk_167 0 4 (dk_at dksX3_canGive_0 18 rfl rfl)
theorem dX3_canGive_21 : decode cX3_canGive 21 = .ok (.iconst 0, 1) := dk_3 (dk_at dksX3_canGive_0 21 rfl rfl)
theorem dX3_canGive_22 : decode cX3_canGive 22 = .ok (.ireturn, 1) := dk_172 (dk_at dksX3_canGive_0 22 rfl rfl)
abbrev cX3_couldHave : ByteArray := prog_15_method_98_code
def yX3_couldHave : MethodName := ⟨RX3, "couldHave", "(II)Z"⟩
def dkwX3_couldHave_1 : List UInt8 := [153, 0, 7, 4, 167, 0, 4, 3, 172]
abbrev dktX3_couldHave_1 : List UInt8 := dkwX3_couldHave_1 ++ []
def dkwX3_couldHave_0 : List UInt8 := [42, 27, 182, 1, 27, 153, 0, 25, 42, 27, 28, 182, 0, 250, 153, 0, 16, 42, 27, 28, 182, 1, 44]
abbrev dktX3_couldHave_0 : List UInt8 := dkwX3_couldHave_0 ++ dktX3_couldHave_1
theorem dksX3_couldHave_0 : cX3_couldHave.data.toList.drop 0 = dktX3_couldHave_0 := by decide +kernel
theorem dksX3_couldHave_1 : cX3_couldHave.data.toList.drop 23 = dktX3_couldHave_1 := dk_seg dksX3_couldHave_0 23 rfl rfl
theorem dX3_couldHave_0 : decode cX3_couldHave 0 = .ok (.aload_n 0, 1) := dk_42 (dk_at dksX3_couldHave_0 0 rfl rfl)
theorem dX3_couldHave_1 : decode cX3_couldHave 1 = .ok (.iload_n 1, 1) := dk_27 (dk_at dksX3_couldHave_0 1 rfl rfl)
theorem dX3_couldHave_2 : decode cX3_couldHave 2 = .ok (.invokevirtual 283, 3) := dk_182 1 27 (dk_at dksX3_couldHave_0 2 rfl rfl)
theorem dX3_couldHave_5 : decode cX3_couldHave 5 = .ok (.ifCond .eq 25, 3) := dk_153 0 25 (dk_at dksX3_couldHave_0 5 rfl rfl)
theorem dX3_couldHave_8 : decode cX3_couldHave 8 = .ok (.aload_n 0, 1) := dk_42 (dk_at dksX3_couldHave_0 8 rfl rfl)
theorem dX3_couldHave_9 : decode cX3_couldHave 9 = .ok (.iload_n 1, 1) := dk_27 (dk_at dksX3_couldHave_0 9 rfl rfl)
theorem dX3_couldHave_10 : decode cX3_couldHave 10 = .ok (.iload_n 2, 1) := dk_28 (dk_at dksX3_couldHave_0 10 rfl rfl)
theorem dX3_couldHave_11 : decode cX3_couldHave 11 = .ok (.invokevirtual 250, 3) := dk_182 0 250 (dk_at dksX3_couldHave_0 11 rfl rfl)
theorem dX3_couldHave_14 : decode cX3_couldHave 14 = .ok (.ifCond .eq 16, 3) := dk_153 0 16 (dk_at dksX3_couldHave_0 14 rfl rfl)
theorem dX3_couldHave_17 : decode cX3_couldHave 17 = .ok (.aload_n 0, 1) := dk_42 (dk_at dksX3_couldHave_0 17 rfl rfl)
theorem dX3_couldHave_18 : decode cX3_couldHave 18 = .ok (.iload_n 1, 1) := dk_27 (dk_at dksX3_couldHave_0 18 rfl rfl)
theorem dX3_couldHave_19 : decode cX3_couldHave 19 = .ok (.iload_n 2, 1) := dk_28 (dk_at dksX3_couldHave_0 19 rfl rfl)
theorem dX3_couldHave_20 : decode cX3_couldHave 20 = .ok (.invokevirtual 300, 3) := dk_182 1 44 (dk_at dksX3_couldHave_0 20 rfl rfl)
theorem dX3_couldHave_23 : decode cX3_couldHave 23 = .ok (.ifCond .eq 7, 3) := dk_153 0 7 (dk_at dksX3_couldHave_1 0 rfl rfl)
theorem dX3_couldHave_26 : decode cX3_couldHave 26 = .ok (.iconst 1, 1) := dk_4 (dk_at dksX3_couldHave_1 3 rfl rfl)
theorem dX3_couldHave_27 : decode cX3_couldHave 27 = .ok (.goto 4, 3) := dk_167 0 4 (dk_at dksX3_couldHave_1 4 rfl rfl)
theorem dX3_couldHave_30 : decode cX3_couldHave 30 = .ok (.iconst 0, 1) := dk_3 (dk_at dksX3_couldHave_1 7 rfl rfl)
theorem dX3_couldHave_31 : decode cX3_couldHave 31 = .ok (.ireturn, 1) := dk_172 (dk_at dksX3_couldHave_1 8 rfl rfl)
abbrev cX3_gift : ByteArray := prog_15_method_103_code
def yX3_gift : MethodName := ⟨RX3, "gift", "(I)I"⟩
def dkwX3_gift_6 : List UInt8 := [182, 0, 186, 167, 0, 8, 42, 29, 182, 0, 199, 172]
abbrev dktX3_gift_6 : List UInt8 := dkwX3_gift_6 ++ []
def dkwX3_gift_5 : List UInt8 := [3, 167, 0, 6, 4, 29, 120, 128, 61, 132, 4, 1, 167, 255, 154, 29, 2, 160, 0, 11, 42, 8]
abbrev dktX3_gift_5 : List UInt8 := dkwX3_gift_5 ++ dktX3_gift_6
def dkwX3_gift_4 : List UInt8 := [21, 4, 28, 182, 1, 84, 160, 0, 6, 21, 5, 62, 132, 5, 1, 167, 255, 186, 28, 29, 2, 160, 0, 7]
abbrev dktX3_gift_4 : List UInt8 := dkwX3_gift_4 ++ dktX3_gift_5
def dkwX3_gift_3 : List UInt8 := [182, 1, 87, 153, 0, 32, 4, 42, 21, 4, 4, 96, 28, 4, 21, 5, 120, 128, 182, 1, 84, 96, 42]
abbrev dktX3_gift_3 : List UInt8 := dkwX3_gift_3 ++ dktX3_gift_4
def dkwX3_gift_2 : List UInt8 := [162, 0, 63, 29, 2, 160, 0, 58, 28, 21, 5, 122, 4, 126, 154, 0, 43, 42, 21, 4, 21, 5]
abbrev dktX3_gift_2 : List UInt8 := dkwX3_gift_2 ++ dktX3_gift_3
def dkwX3_gift_1 : List UInt8 := [54, 4, 21, 4, 27, 163, 0, 102, 2, 62, 3, 54, 5, 21, 5, 42, 180, 0, 7, 17, 0, 230, 46]
abbrev dktX3_gift_1 : List UInt8 := dkwX3_gift_1 ++ dktX3_gift_2
def dkwX3_gift_0 : List UInt8 := [42, 27, 182, 0, 244, 154, 0, 9, 42, 5, 182, 0, 186, 172, 42, 182, 1, 90, 87, 3, 61, 2, 62, 3]
abbrev dktX3_gift_0 : List UInt8 := dkwX3_gift_0 ++ dktX3_gift_1
theorem dksX3_gift_0 : cX3_gift.data.toList.drop 0 = dktX3_gift_0 := by decide +kernel
theorem dksX3_gift_1 : cX3_gift.data.toList.drop 24 = dktX3_gift_1 := dk_seg dksX3_gift_0 24 rfl rfl
theorem dksX3_gift_2 : cX3_gift.data.toList.drop 47 = dktX3_gift_2 := dk_seg dksX3_gift_1 23 rfl rfl
theorem dksX3_gift_3 : cX3_gift.data.toList.drop 69 = dktX3_gift_3 := dk_seg dksX3_gift_2 22 rfl rfl
theorem dksX3_gift_4 : cX3_gift.data.toList.drop 92 = dktX3_gift_4 := dk_seg dksX3_gift_3 23 rfl rfl
theorem dksX3_gift_5 : cX3_gift.data.toList.drop 116 = dktX3_gift_5 := dk_seg dksX3_gift_4 24 rfl rfl
theorem dksX3_gift_6 : cX3_gift.data.toList.drop 138 = dktX3_gift_6 := dk_seg dksX3_gift_5 22 rfl rfl
theorem dX3_gift_0 : decode cX3_gift 0 = .ok (.aload_n 0, 1) := dk_42 (dk_at dksX3_gift_0 0 rfl rfl)
theorem dX3_gift_1 : decode cX3_gift 1 = .ok (.iload_n 1, 1) := dk_27 (dk_at dksX3_gift_0 1 rfl rfl)
theorem dX3_gift_2 : decode cX3_gift 2 = .ok (.invokevirtual 244, 3) := dk_182 0 244 (dk_at dksX3_gift_0 2 rfl rfl)
theorem dX3_gift_5 : decode cX3_gift 5 = .ok (.ifCond .ne 9, 3) := dk_154 0 9 (dk_at dksX3_gift_0 5 rfl rfl)
theorem dX3_gift_8 : decode cX3_gift 8 = .ok (.aload_n 0, 1) := dk_42 (dk_at dksX3_gift_0 8 rfl rfl)
theorem dX3_gift_9 : decode cX3_gift 9 = .ok (.iconst 2, 1) := dk_5 (dk_at dksX3_gift_0 9 rfl rfl)
theorem dX3_gift_10 : decode cX3_gift 10 = .ok (.invokevirtual 186, 3) := dk_182 0 186 (dk_at dksX3_gift_0 10 rfl rfl)
theorem dX3_gift_13 : decode cX3_gift 13 = .ok (.ireturn, 1) := dk_172 (dk_at dksX3_gift_0 13 rfl rfl)
theorem dX3_gift_14 : decode cX3_gift 14 = .ok (.aload_n 0, 1) := dk_42 (dk_at dksX3_gift_0 14 rfl rfl)
theorem dX3_gift_15 : decode cX3_gift 15 = .ok (.invokevirtual 346, 3) := dk_182 1 90 (dk_at dksX3_gift_0 15 rfl rfl)
theorem dX3_gift_18 : decode cX3_gift 18 = .ok (.pop, 1) := dk_87 (dk_at dksX3_gift_0 18 rfl rfl)
theorem dX3_gift_19 : decode cX3_gift 19 = .ok (.iconst 0, 1) := dk_3 (dk_at dksX3_gift_0 19 rfl rfl)
theorem dX3_gift_20 : decode cX3_gift 20 = .ok (.istore_n 2, 1) := dk_61 (dk_at dksX3_gift_0 20 rfl rfl)
theorem dX3_gift_21 : decode cX3_gift 21 = .ok (.iconst (-1), 1) := dk_2 (dk_at dksX3_gift_0 21 rfl rfl)
theorem dX3_gift_22 : decode cX3_gift 22 = .ok (.istore_n 3, 1) := dk_62 (dk_at dksX3_gift_0 22 rfl rfl)
theorem dX3_gift_23 : decode cX3_gift 23 = .ok (.iconst 0, 1) := dk_3 (dk_at dksX3_gift_0 23 rfl rfl)
theorem dX3_gift_24 : decode cX3_gift 24 = .ok (.istore 4, 2) := dk_54 4 (dk_at dksX3_gift_1 0 rfl rfl)
theorem dX3_gift_26 : decode cX3_gift 26 = .ok (.iload 4, 2) := dk_21 4 (dk_at dksX3_gift_1 2 rfl rfl)
theorem dX3_gift_28 : decode cX3_gift 28 = .ok (.iload_n 1, 1) := dk_27 (dk_at dksX3_gift_1 4 rfl rfl)
theorem dX3_gift_29 : decode cX3_gift 29 = .ok (.if_icmp .gt 102, 3) := dk_163 0 102 (dk_at dksX3_gift_1 5 rfl rfl)
theorem dX3_gift_32 : decode cX3_gift 32 = .ok (.iconst (-1), 1) := dk_2 (dk_at dksX3_gift_1 8 rfl rfl)
theorem dX3_gift_33 : decode cX3_gift 33 = .ok (.istore_n 3, 1) := dk_62 (dk_at dksX3_gift_1 9 rfl rfl)
theorem dX3_gift_34 : decode cX3_gift 34 = .ok (.iconst 0, 1) := dk_3 (dk_at dksX3_gift_1 10 rfl rfl)
theorem dX3_gift_35 : decode cX3_gift 35 = .ok (.istore 5, 2) := dk_54 5 (dk_at dksX3_gift_1 11 rfl rfl)
theorem dX3_gift_37 : decode cX3_gift 37 = .ok (.iload 5, 2) := dk_21 5 (dk_at dksX3_gift_1 13 rfl rfl)
theorem dX3_gift_39 : decode cX3_gift 39 = .ok (.aload_n 0, 1) := dk_42 (dk_at dksX3_gift_1 15 rfl rfl)
theorem dX3_gift_40 : decode cX3_gift 40 = .ok (.getfield 7, 3) := dk_180 0 7 (dk_at dksX3_gift_1 16 rfl rfl)
theorem dX3_gift_43 : decode cX3_gift 43 = .ok (.sipush 230, 3) := dk_17 0 230 (dk_at dksX3_gift_1 19 rfl rfl)
theorem dX3_gift_46 : decode cX3_gift 46 = .ok (.iaload, 1) := dk_46 (dk_at dksX3_gift_1 22 rfl rfl)
theorem dX3_gift_47 : decode cX3_gift 47 = .ok (.if_icmp .ge 63, 3) := dk_162 0 63 (dk_at dksX3_gift_2 0 rfl rfl)
theorem dX3_gift_50 : decode cX3_gift 50 = .ok (.iload_n 3, 1) := dk_29 (dk_at dksX3_gift_2 3 rfl rfl)
theorem dX3_gift_51 : decode cX3_gift 51 = .ok (.iconst (-1), 1) := dk_2 (dk_at dksX3_gift_2 4 rfl rfl)
theorem dX3_gift_52 : decode cX3_gift 52 = .ok (.if_icmp .ne 58, 3) := dk_160 0 58 (dk_at dksX3_gift_2 5 rfl rfl)
theorem dX3_gift_55 : decode cX3_gift 55 = .ok (.iload_n 2, 1) := dk_28 (dk_at dksX3_gift_2 8 rfl rfl)
theorem dX3_gift_56 : decode cX3_gift 56 = .ok (.iload 5, 2) := dk_21 5 (dk_at dksX3_gift_2 9 rfl rfl)
theorem dX3_gift_58 : decode cX3_gift 58 = .ok (.ishr, 1) := dk_122 (dk_at dksX3_gift_2 11 rfl rfl)
theorem dX3_gift_59 : decode cX3_gift 59 = .ok (.iconst 1, 1) := dk_4 (dk_at dksX3_gift_2 12 rfl rfl)
theorem dX3_gift_60 : decode cX3_gift 60 = .ok (.iand, 1) := dk_126 (dk_at dksX3_gift_2 13 rfl rfl)
theorem dX3_gift_61 : decode cX3_gift 61 = .ok (.ifCond .ne 43, 3) := dk_154 0 43 (dk_at dksX3_gift_2 14 rfl rfl)
theorem dX3_gift_64 : decode cX3_gift 64 = .ok (.aload_n 0, 1) := dk_42 (dk_at dksX3_gift_2 17 rfl rfl)
theorem dX3_gift_65 : decode cX3_gift 65 = .ok (.iload 4, 2) := dk_21 4 (dk_at dksX3_gift_2 18 rfl rfl)
theorem dX3_gift_67 : decode cX3_gift 67 = .ok (.iload 5, 2) := dk_21 5 (dk_at dksX3_gift_2 20 rfl rfl)
theorem dX3_gift_69 : decode cX3_gift 69 = .ok (.invokevirtual 343, 3) := dk_182 1 87 (dk_at dksX3_gift_3 0 rfl rfl)
theorem dX3_gift_72 : decode cX3_gift 72 = .ok (.ifCond .eq 32, 3) := dk_153 0 32 (dk_at dksX3_gift_3 3 rfl rfl)
theorem dX3_gift_75 : decode cX3_gift 75 = .ok (.iconst 1, 1) := dk_4 (dk_at dksX3_gift_3 6 rfl rfl)
theorem dX3_gift_76 : decode cX3_gift 76 = .ok (.aload_n 0, 1) := dk_42 (dk_at dksX3_gift_3 7 rfl rfl)
theorem dX3_gift_77 : decode cX3_gift 77 = .ok (.iload 4, 2) := dk_21 4 (dk_at dksX3_gift_3 8 rfl rfl)
theorem dX3_gift_79 : decode cX3_gift 79 = .ok (.iconst 1, 1) := dk_4 (dk_at dksX3_gift_3 10 rfl rfl)
theorem dX3_gift_80 : decode cX3_gift 80 = .ok (.iadd, 1) := dk_96 (dk_at dksX3_gift_3 11 rfl rfl)
theorem dX3_gift_81 : decode cX3_gift 81 = .ok (.iload_n 2, 1) := dk_28 (dk_at dksX3_gift_3 12 rfl rfl)
theorem dX3_gift_82 : decode cX3_gift 82 = .ok (.iconst 1, 1) := dk_4 (dk_at dksX3_gift_3 13 rfl rfl)
theorem dX3_gift_83 : decode cX3_gift 83 = .ok (.iload 5, 2) := dk_21 5 (dk_at dksX3_gift_3 14 rfl rfl)
theorem dX3_gift_85 : decode cX3_gift 85 = .ok (.ishl, 1) := dk_120 (dk_at dksX3_gift_3 16 rfl rfl)
theorem dX3_gift_86 : decode cX3_gift 86 = .ok (.ior, 1) := dk_128 (dk_at dksX3_gift_3 17 rfl rfl)
theorem dX3_gift_87 : decode cX3_gift 87 = .ok (.invokevirtual 340, 3) := dk_182 1 84 (dk_at dksX3_gift_3 18 rfl rfl)
theorem dX3_gift_90 : decode cX3_gift 90 = .ok (.iadd, 1) := dk_96 (dk_at dksX3_gift_3 21 rfl rfl)
theorem dX3_gift_91 : decode cX3_gift 91 = .ok (.aload_n 0, 1) := dk_42 (dk_at dksX3_gift_3 22 rfl rfl)
theorem dX3_gift_92 : decode cX3_gift 92 = .ok (.iload 4, 2) := dk_21 4 (dk_at dksX3_gift_4 0 rfl rfl)
theorem dX3_gift_94 : decode cX3_gift 94 = .ok (.iload_n 2, 1) := dk_28 (dk_at dksX3_gift_4 2 rfl rfl)
theorem dX3_gift_95 : decode cX3_gift 95 = .ok (.invokevirtual 340, 3) := dk_182 1 84 (dk_at dksX3_gift_4 3 rfl rfl)
theorem dX3_gift_98 : decode cX3_gift 98 = .ok (.if_icmp .ne 6, 3) := dk_160 0 6 (dk_at dksX3_gift_4 6 rfl rfl)
theorem dX3_gift_101 : decode cX3_gift 101 = .ok (.iload 5, 2) := dk_21 5 (dk_at dksX3_gift_4 9 rfl rfl)
theorem dX3_gift_103 : decode cX3_gift 103 = .ok (.istore_n 3, 1) := dk_62 (dk_at dksX3_gift_4 11 rfl rfl)
theorem dX3_gift_104 : decode cX3_gift 104 = .ok (.iinc 5 1, 3) := dk_132 5 1 (dk_at dksX3_gift_4 12 rfl rfl)
theorem dX3_gift_107 : decode cX3_gift 107 = .ok (.goto (-70), 3) := dk_167 255 186 (dk_at dksX3_gift_4 15 rfl rfl)
theorem dX3_gift_110 : decode cX3_gift 110 = .ok (.iload_n 2, 1) := dk_28 (dk_at dksX3_gift_4 18 rfl rfl)
theorem dX3_gift_111 : decode cX3_gift 111 = .ok (.iload_n 3, 1) := dk_29 (dk_at dksX3_gift_4 19 rfl rfl)
theorem dX3_gift_112 : decode cX3_gift 112 = .ok (.iconst (-1), 1) := dk_2 (dk_at dksX3_gift_4 20 rfl rfl)
theorem dX3_gift_113 : decode cX3_gift 113 = .ok (.if_icmp .ne 7, 3) := dk_160 0 7 (dk_at dksX3_gift_4 21 rfl rfl)
theorem dX3_gift_116 : decode cX3_gift 116 = .ok (.iconst 0, 1) := dk_3 (dk_at dksX3_gift_5 0 rfl rfl)
theorem dX3_gift_117 : decode cX3_gift 117 = .ok (.goto 6, 3) := dk_167 0 6 (dk_at dksX3_gift_5 1 rfl rfl)
theorem dX3_gift_120 : decode cX3_gift 120 = .ok (.iconst 1, 1) := dk_4 (dk_at dksX3_gift_5 4 rfl rfl)
theorem dX3_gift_121 : decode cX3_gift 121 = .ok (.iload_n 3, 1) := dk_29 (dk_at dksX3_gift_5 5 rfl rfl)
theorem dX3_gift_122 : decode cX3_gift 122 = .ok (.ishl, 1) := dk_120 (dk_at dksX3_gift_5 6 rfl rfl)
theorem dX3_gift_123 : decode cX3_gift 123 = .ok (.ior, 1) := dk_128 (dk_at dksX3_gift_5 7 rfl rfl)
theorem dX3_gift_124 : decode cX3_gift 124 = .ok (.istore_n 2, 1) := dk_61 (dk_at dksX3_gift_5 8 rfl rfl)
theorem dX3_gift_125 : decode cX3_gift 125 = .ok (.iinc 4 1, 3) := dk_132 4 1 (dk_at dksX3_gift_5 9 rfl rfl)
theorem dX3_gift_128 : decode cX3_gift 128 = .ok (.goto (-102), 3) := dk_167 255 154 (dk_at dksX3_gift_5 12 rfl rfl)
theorem dX3_gift_131 : decode cX3_gift 131 = .ok (.iload_n 3, 1) := dk_29 (dk_at dksX3_gift_5 15 rfl rfl)
theorem dX3_gift_132 : decode cX3_gift 132 = .ok (.iconst (-1), 1) := dk_2 (dk_at dksX3_gift_5 16 rfl rfl)
theorem dX3_gift_133 : decode cX3_gift 133 = .ok (.if_icmp .ne 11, 3) := dk_160 0 11 (dk_at dksX3_gift_5 17 rfl rfl)
theorem dX3_gift_136 : decode cX3_gift 136 = .ok (.aload_n 0, 1) := dk_42 (dk_at dksX3_gift_5 20 rfl rfl)
theorem dX3_gift_137 : decode cX3_gift 137 = .ok (.iconst 5, 1) := dk_8 (dk_at dksX3_gift_5 21 rfl rfl)
theorem dX3_gift_138 : decode cX3_gift 138 = .ok (.invokevirtual 186, 3) := dk_182 0 186 (dk_at dksX3_gift_6 0 rfl rfl)
theorem dX3_gift_141 : decode cX3_gift 141 = .ok (.goto 8, 3) := dk_167 0 8 (dk_at dksX3_gift_6 3 rfl rfl)
theorem dX3_gift_144 : decode cX3_gift 144 = .ok (.aload_n 0, 1) := dk_42 (dk_at dksX3_gift_6 6 rfl rfl)
theorem dX3_gift_145 : decode cX3_gift 145 = .ok (.iload_n 3, 1) := dk_29 (dk_at dksX3_gift_6 7 rfl rfl)
theorem dX3_gift_146 : decode cX3_gift 146 = .ok (.invokevirtual 199, 3) := dk_182 0 199 (dk_at dksX3_gift_6 8 rfl rfl)
theorem dX3_gift_149 : decode cX3_gift 149 = .ok (.ireturn, 1) := dk_172 (dk_at dksX3_gift_6 11 rfl rfl)
abbrev cX3_top : ByteArray := prog_15_method_105_code
def yX3_top : MethodName := ⟨RX3, "top", "(I)I"⟩
def dkwX3_top_1 : List UInt8 := [61, 28, 2, 160, 0, 11, 42, 8, 182, 0, 186, 167, 0, 8, 42, 28, 182, 0, 199, 172]
abbrev dktX3_top_1 : List UInt8 := dkwX3_top_1 ++ []
def dkwX3_top_0 : List UInt8 := [42, 27, 182, 0, 238, 154, 0, 9, 42, 5, 182, 0, 186, 172, 42, 42, 27, 182, 1, 93, 27, 182, 1, 24]
abbrev dktX3_top_0 : List UInt8 := dkwX3_top_0 ++ dktX3_top_1
theorem dksX3_top_0 : cX3_top.data.toList.drop 0 = dktX3_top_0 := by decide +kernel
theorem dksX3_top_1 : cX3_top.data.toList.drop 24 = dktX3_top_1 := dk_seg dksX3_top_0 24 rfl rfl
theorem dX3_top_0 : decode cX3_top 0 = .ok (.aload_n 0, 1) := dk_42 (dk_at dksX3_top_0 0 rfl rfl)
theorem dX3_top_1 : decode cX3_top 1 = .ok (.iload_n 1, 1) := dk_27 (dk_at dksX3_top_0 1 rfl rfl)
theorem dX3_top_2 : decode cX3_top 2 = .ok (.invokevirtual 238, 3) := dk_182 0 238 (dk_at dksX3_top_0 2 rfl rfl)
theorem dX3_top_5 : decode cX3_top 5 = .ok (.ifCond .ne 9, 3) := dk_154 0 9 (dk_at dksX3_top_0 5 rfl rfl)
theorem dX3_top_8 : decode cX3_top 8 = .ok (.aload_n 0, 1) := dk_42 (dk_at dksX3_top_0 8 rfl rfl)
theorem dX3_top_9 : decode cX3_top 9 = .ok (.iconst 2, 1) := dk_5 (dk_at dksX3_top_0 9 rfl rfl)
theorem dX3_top_10 : decode cX3_top 10 = .ok (.invokevirtual 186, 3) := dk_182 0 186 (dk_at dksX3_top_0 10 rfl rfl)
theorem dX3_top_13 : decode cX3_top 13 = .ok (.ireturn, 1) := dk_172 (dk_at dksX3_top_0 13 rfl rfl)
theorem dX3_top_14 : decode cX3_top 14 = .ok (.aload_n 0, 1) := dk_42 (dk_at dksX3_top_0 14 rfl rfl)
theorem dX3_top_15 : decode cX3_top 15 = .ok (.aload_n 0, 1) := dk_42 (dk_at dksX3_top_0 15 rfl rfl)
theorem dX3_top_16 : decode cX3_top 16 = .ok (.iload_n 1, 1) := dk_27 (dk_at dksX3_top_0 16 rfl rfl)
theorem dX3_top_17 : decode cX3_top 17 = .ok (.invokevirtual 349, 3) := dk_182 1 93 (dk_at dksX3_top_0 17 rfl rfl)
theorem dX3_top_20 : decode cX3_top 20 = .ok (.iload_n 1, 1) := dk_27 (dk_at dksX3_top_0 20 rfl rfl)
theorem dX3_top_21 : decode cX3_top 21 = .ok (.invokevirtual 280, 3) := dk_182 1 24 (dk_at dksX3_top_0 21 rfl rfl)
theorem dX3_top_24 : decode cX3_top 24 = .ok (.istore_n 2, 1) := dk_61 (dk_at dksX3_top_1 0 rfl rfl)
theorem dX3_top_25 : decode cX3_top 25 = .ok (.iload_n 2, 1) := dk_28 (dk_at dksX3_top_1 1 rfl rfl)
theorem dX3_top_26 : decode cX3_top 26 = .ok (.iconst (-1), 1) := dk_2 (dk_at dksX3_top_1 2 rfl rfl)
theorem dX3_top_27 : decode cX3_top 27 = .ok (.if_icmp .ne 11, 3) := dk_160 0 11 (dk_at dksX3_top_1 3 rfl rfl)
theorem dX3_top_30 : decode cX3_top 30 = .ok (.aload_n 0, 1) := dk_42 (dk_at dksX3_top_1 6 rfl rfl)
theorem dX3_top_31 : decode cX3_top 31 = .ok (.iconst 5, 1) := dk_8 (dk_at dksX3_top_1 7 rfl rfl)
theorem dX3_top_32 : decode cX3_top 32 = .ok (.invokevirtual 186, 3) := dk_182 0 186 (dk_at dksX3_top_1 8 rfl rfl)
theorem dX3_top_35 : decode cX3_top 35 = .ok (.goto 8, 3) := dk_167 0 8 (dk_at dksX3_top_1 11 rfl rfl)
theorem dX3_top_38 : decode cX3_top 38 = .ok (.aload_n 0, 1) := dk_42 (dk_at dksX3_top_1 14 rfl rfl)
theorem dX3_top_39 : decode cX3_top 39 = .ok (.iload_n 2, 1) := dk_28 (dk_at dksX3_top_1 15 rfl rfl)
theorem dX3_top_40 : decode cX3_top 40 = .ok (.invokevirtual 199, 3) := dk_182 0 199 (dk_at dksX3_top_1 16 rfl rfl)
theorem dX3_top_43 : decode cX3_top 43 = .ok (.ireturn, 1) := dk_172 (dk_at dksX3_top_1 19 rfl rfl)
abbrev cX3_allThatCould : ByteArray := prog_15_method_104_code
def yX3_allThatCould : MethodName := ⟨RX3, "allThatCould", "(I)I"⟩
def dkwX3_allThatCould_1 : List UInt8 := [153, 0, 9, 4, 29, 120, 167, 0, 4, 3, 128, 61, 132, 3, 1, 167, 255, 222, 28, 172]
abbrev dktX3_allThatCould_1 : List UInt8 := dkwX3_allThatCould_1 ++ []
def dkwX3_allThatCould_0 : List UInt8 := [3, 61, 3, 62, 29, 42, 180, 0, 7, 17, 0, 231, 46, 162, 0, 28, 28, 42, 29, 27, 182, 1, 81]
abbrev dktX3_allThatCould_0 : List UInt8 := dkwX3_allThatCould_0 ++ dktX3_allThatCould_1
theorem dksX3_allThatCould_0 : cX3_allThatCould.data.toList.drop 0 = dktX3_allThatCould_0 := by decide +kernel
theorem dksX3_allThatCould_1 : cX3_allThatCould.data.toList.drop 23 = dktX3_allThatCould_1 := dk_seg dksX3_allThatCould_0 23 rfl rfl
theorem dX3_allThatCould_0 : decode cX3_allThatCould 0 = .ok (.iconst 0, 1) := dk_3 (dk_at dksX3_allThatCould_0 0 rfl rfl)
theorem dX3_allThatCould_1 : decode cX3_allThatCould 1 = .ok (.istore_n 2, 1) := dk_61 (dk_at dksX3_allThatCould_0 1 rfl rfl)
theorem dX3_allThatCould_2 : decode cX3_allThatCould 2 = .ok (.iconst 0, 1) := dk_3 (dk_at dksX3_allThatCould_0 2 rfl rfl)
theorem dX3_allThatCould_3 : decode cX3_allThatCould 3 = .ok (.istore_n 3, 1) := dk_62 (dk_at dksX3_allThatCould_0 3 rfl rfl)
theorem dX3_allThatCould_4 : decode cX3_allThatCould 4 = .ok (.iload_n 3, 1) := dk_29 (dk_at dksX3_allThatCould_0 4 rfl rfl)
theorem dX3_allThatCould_5 : decode cX3_allThatCould 5 = .ok (.aload_n 0, 1) := dk_42 (dk_at dksX3_allThatCould_0 5 rfl rfl)
theorem dX3_allThatCould_6 : decode cX3_allThatCould 6 = .ok (.getfield 7, 3) := dk_180 0 7 (dk_at dksX3_allThatCould_0 6 rfl rfl)
theorem dX3_allThatCould_9 : decode cX3_allThatCould 9 = .ok (.sipush 231, 3) := dk_17 0 231 (dk_at dksX3_allThatCould_0 9 rfl rfl)
theorem dX3_allThatCould_12 : decode cX3_allThatCould 12 = .ok (.iaload, 1) := dk_46 (dk_at dksX3_allThatCould_0 12 rfl rfl)
theorem dX3_allThatCould_13 : decode cX3_allThatCould 13 = .ok (.if_icmp .ge 28, 3) := dk_162 0 28 (dk_at dksX3_allThatCould_0 13 rfl rfl)
theorem dX3_allThatCould_16 : decode cX3_allThatCould 16 = .ok (.iload_n 2, 1) := dk_28 (dk_at dksX3_allThatCould_0 16 rfl rfl)
theorem dX3_allThatCould_17 : decode cX3_allThatCould 17 = .ok (.aload_n 0, 1) := dk_42 (dk_at dksX3_allThatCould_0 17 rfl rfl)
theorem dX3_allThatCould_18 : decode cX3_allThatCould 18 = .ok (.iload_n 3, 1) := dk_29 (dk_at dksX3_allThatCould_0 18 rfl rfl)
theorem dX3_allThatCould_19 : decode cX3_allThatCould 19 = .ok (.iload_n 1, 1) := dk_27 (dk_at dksX3_allThatCould_0 19 rfl rfl)
theorem dX3_allThatCould_20 : decode cX3_allThatCould 20 = .ok (.invokevirtual 337, 3) := dk_182 1 81 (dk_at dksX3_allThatCould_0 20 rfl rfl)
theorem dX3_allThatCould_23 : decode cX3_allThatCould 23 = .ok (.ifCond .eq 9, 3) := dk_153 0 9 (dk_at dksX3_allThatCould_1 0 rfl rfl)
theorem dX3_allThatCould_26 : decode cX3_allThatCould 26 = .ok (.iconst 1, 1) := dk_4 (dk_at dksX3_allThatCould_1 3 rfl rfl)
theorem dX3_allThatCould_27 : decode cX3_allThatCould 27 = .ok (.iload_n 3, 1) := dk_29 (dk_at dksX3_allThatCould_1 4 rfl rfl)
theorem dX3_allThatCould_28 : decode cX3_allThatCould 28 = .ok (.ishl, 1) := dk_120 (dk_at dksX3_allThatCould_1 5 rfl rfl)
theorem dX3_allThatCould_29 : decode cX3_allThatCould 29 = .ok (.goto 4, 3) := dk_167 0 4 (dk_at dksX3_allThatCould_1 6 rfl rfl)
theorem dX3_allThatCould_32 : decode cX3_allThatCould 32 = .ok (.iconst 0, 1) := dk_3 (dk_at dksX3_allThatCould_1 9 rfl rfl)
theorem dX3_allThatCould_33 : decode cX3_allThatCould 33 = .ok (.ior, 1) := dk_128 (dk_at dksX3_allThatCould_1 10 rfl rfl)
theorem dX3_allThatCould_34 : decode cX3_allThatCould 34 = .ok (.istore_n 2, 1) := dk_61 (dk_at dksX3_allThatCould_1 11 rfl rfl)
theorem dX3_allThatCould_35 : decode cX3_allThatCould 35 = .ok (.iinc 3 1, 3) := dk_132 3 1 (dk_at dksX3_allThatCould_1 12 rfl rfl)
theorem dX3_allThatCould_38 : decode cX3_allThatCould 38 = .ok (.goto (-34), 3) := dk_167 255 222 (dk_at dksX3_allThatCould_1 15 rfl rfl)
theorem dX3_allThatCould_41 : decode cX3_allThatCould 41 = .ok (.iload_n 2, 1) := dk_28 (dk_at dksX3_allThatCould_1 18 rfl rfl)
theorem dX3_allThatCould_42 : decode cX3_allThatCould 42 = .ok (.ireturn, 1) := dk_172 (dk_at dksX3_allThatCould_1 19 rfl rfl)
abbrev cX3_lot : ByteArray := prog_15_method_107_code
def yX3_lot : MethodName := ⟨RX3, "lot", "(II)I"⟩
def dkwX3_lot_6 : List UInt8 := [182, 1, 97, 167, 0, 4, 3, 100, 54, 5, 167, 255, 223, 42, 21, 6, 182, 0, 199, 172]
abbrev dktX3_lot_6 : List UInt8 := dkwX3_lot_6 ++ []
def dkwX3_lot_5 : List UInt8 := [21, 5, 155, 0, 34, 132, 6, 1, 21, 5, 29, 21, 6, 122, 4, 126, 4, 160, 0, 12, 42, 21, 6]
abbrev dktX3_lot_5 : List UInt8 := dkwX3_lot_5 ++ dktX3_lot_6
def dkwX3_lot_4 : List UInt8 := [8, 182, 0, 186, 172, 16, 75, 28, 104, 16, 74, 96, 19, 1, 100, 112, 21, 4, 112, 54, 5, 2, 54, 6]
abbrev dktX3_lot_4 : List UInt8 := dkwX3_lot_4 ++ dktX3_lot_5
def dkwX3_lot_3 : List UInt8 := [21, 5, 182, 1, 97, 167, 0, 4, 3, 96, 54, 4, 132, 5, 1, 167, 255, 215, 21, 4, 154, 0, 9, 42]
abbrev dktX3_lot_3 : List UInt8 := dkwX3_lot_3 ++ dktX3_lot_4
def dkwX3_lot_2 : List UInt8 := [180, 0, 7, 17, 0, 231, 46, 162, 0, 34, 21, 4, 29, 21, 5, 122, 4, 126, 4, 160, 0, 12, 42]
abbrev dktX3_lot_2 : List UInt8 := dkwX3_lot_2 ++ dktX3_lot_3
def dkwX3_lot_1 : List UInt8 := [154, 0, 9, 42, 5, 182, 0, 186, 172, 42, 27, 182, 1, 93, 62, 3, 54, 4, 3, 54, 5, 21, 5, 42]
abbrev dktX3_lot_1 : List UInt8 := dkwX3_lot_1 ++ dktX3_lot_2
def dkwX3_lot_0 : List UInt8 := [28, 3, 19, 1, 96, 184, 0, 71, 154, 0, 9, 42, 4, 182, 0, 186, 172, 42, 27, 182, 0, 238]
abbrev dktX3_lot_0 : List UInt8 := dkwX3_lot_0 ++ dktX3_lot_1
theorem dksX3_lot_0 : cX3_lot.data.toList.drop 0 = dktX3_lot_0 := by decide +kernel
theorem dksX3_lot_1 : cX3_lot.data.toList.drop 22 = dktX3_lot_1 := dk_seg dksX3_lot_0 22 rfl rfl
theorem dksX3_lot_2 : cX3_lot.data.toList.drop 46 = dktX3_lot_2 := dk_seg dksX3_lot_1 24 rfl rfl
theorem dksX3_lot_3 : cX3_lot.data.toList.drop 69 = dktX3_lot_3 := dk_seg dksX3_lot_2 23 rfl rfl
theorem dksX3_lot_4 : cX3_lot.data.toList.drop 93 = dktX3_lot_4 := dk_seg dksX3_lot_3 24 rfl rfl
theorem dksX3_lot_5 : cX3_lot.data.toList.drop 117 = dktX3_lot_5 := dk_seg dksX3_lot_4 24 rfl rfl
theorem dksX3_lot_6 : cX3_lot.data.toList.drop 140 = dktX3_lot_6 := dk_seg dksX3_lot_5 23 rfl rfl
theorem dX3_lot_0 : decode cX3_lot 0 = .ok (.iload_n 2, 1) := dk_28 (dk_at dksX3_lot_0 0 rfl rfl)
theorem dX3_lot_1 : decode cX3_lot 1 = .ok (.iconst 0, 1) := dk_3 (dk_at dksX3_lot_0 1 rfl rfl)
theorem dX3_lot_2 : decode cX3_lot 2 = .ok (.ldc_w 352, 3) := dk_19 1 96 (dk_at dksX3_lot_0 2 rfl rfl)
theorem dX3_lot_5 : decode cX3_lot 5 = .ok (.invokestatic 71, 3) := dk_184 0 71 (dk_at dksX3_lot_0 5 rfl rfl)
theorem dX3_lot_8 : decode cX3_lot 8 = .ok (.ifCond .ne 9, 3) := dk_154 0 9 (dk_at dksX3_lot_0 8 rfl rfl)
theorem dX3_lot_11 : decode cX3_lot 11 = .ok (.aload_n 0, 1) := dk_42 (dk_at dksX3_lot_0 11 rfl rfl)
theorem dX3_lot_12 : decode cX3_lot 12 = .ok (.iconst 1, 1) := dk_4 (dk_at dksX3_lot_0 12 rfl rfl)
theorem dX3_lot_13 : decode cX3_lot 13 = .ok (.invokevirtual 186, 3) := dk_182 0 186 (dk_at dksX3_lot_0 13 rfl rfl)
theorem dX3_lot_16 : decode cX3_lot 16 = .ok (.ireturn, 1) := dk_172 (dk_at dksX3_lot_0 16 rfl rfl)
theorem dX3_lot_17 : decode cX3_lot 17 = .ok (.aload_n 0, 1) := dk_42 (dk_at dksX3_lot_0 17 rfl rfl)
theorem dX3_lot_18 : decode cX3_lot 18 = .ok (.iload_n 1, 1) := dk_27 (dk_at dksX3_lot_0 18 rfl rfl)
theorem dX3_lot_19 : decode cX3_lot 19 = .ok (.invokevirtual 238, 3) := dk_182 0 238 (dk_at dksX3_lot_0 19 rfl rfl)
theorem dX3_lot_22 : decode cX3_lot 22 = .ok (.ifCond .ne 9, 3) := dk_154 0 9 (dk_at dksX3_lot_1 0 rfl rfl)
theorem dX3_lot_25 : decode cX3_lot 25 = .ok (.aload_n 0, 1) := dk_42 (dk_at dksX3_lot_1 3 rfl rfl)
theorem dX3_lot_26 : decode cX3_lot 26 = .ok (.iconst 2, 1) := dk_5 (dk_at dksX3_lot_1 4 rfl rfl)
theorem dX3_lot_27 : decode cX3_lot 27 = .ok (.invokevirtual 186, 3) := dk_182 0 186 (dk_at dksX3_lot_1 5 rfl rfl)
theorem dX3_lot_30 : decode cX3_lot 30 = .ok (.ireturn, 1) := dk_172 (dk_at dksX3_lot_1 8 rfl rfl)
theorem dX3_lot_31 : decode cX3_lot 31 = .ok (.aload_n 0, 1) := dk_42 (dk_at dksX3_lot_1 9 rfl rfl)
theorem dX3_lot_32 : decode cX3_lot 32 = .ok (.iload_n 1, 1) := dk_27 (dk_at dksX3_lot_1 10 rfl rfl)
theorem dX3_lot_33 : decode cX3_lot 33 = .ok (.invokevirtual 349, 3) := dk_182 1 93 (dk_at dksX3_lot_1 11 rfl rfl)
theorem dX3_lot_36 : decode cX3_lot 36 = .ok (.istore_n 3, 1) := dk_62 (dk_at dksX3_lot_1 14 rfl rfl)
theorem dX3_lot_37 : decode cX3_lot 37 = .ok (.iconst 0, 1) := dk_3 (dk_at dksX3_lot_1 15 rfl rfl)
theorem dX3_lot_38 : decode cX3_lot 38 = .ok (.istore 4, 2) := dk_54 4 (dk_at dksX3_lot_1 16 rfl rfl)
theorem dX3_lot_40 : decode cX3_lot 40 = .ok (.iconst 0, 1) := dk_3 (dk_at dksX3_lot_1 18 rfl rfl)
theorem dX3_lot_41 : decode cX3_lot 41 = .ok (.istore 5, 2) := dk_54 5 (dk_at dksX3_lot_1 19 rfl rfl)
theorem dX3_lot_43 : decode cX3_lot 43 = .ok (.iload 5, 2) := dk_21 5 (dk_at dksX3_lot_1 21 rfl rfl)
theorem dX3_lot_45 : decode cX3_lot 45 = .ok (.aload_n 0, 1) := dk_42 (dk_at dksX3_lot_1 23 rfl rfl)
theorem dX3_lot_46 : decode cX3_lot 46 = .ok (.getfield 7, 3) := dk_180 0 7 (dk_at dksX3_lot_2 0 rfl rfl)
theorem dX3_lot_49 : decode cX3_lot 49 = .ok (.sipush 231, 3) := dk_17 0 231 (dk_at dksX3_lot_2 3 rfl rfl)
theorem dX3_lot_52 : decode cX3_lot 52 = .ok (.iaload, 1) := dk_46 (dk_at dksX3_lot_2 6 rfl rfl)
theorem dX3_lot_53 : decode cX3_lot 53 = .ok (.if_icmp .ge 34, 3) := dk_162 0 34 (dk_at dksX3_lot_2 7 rfl rfl)
theorem dX3_lot_56 : decode cX3_lot 56 = .ok (.iload 4, 2) := dk_21 4 (dk_at dksX3_lot_2 10 rfl rfl)
theorem dX3_lot_58 : decode cX3_lot 58 = .ok (.iload_n 3, 1) := dk_29 (dk_at dksX3_lot_2 12 rfl rfl)
theorem dX3_lot_59 : decode cX3_lot 59 = .ok (.iload 5, 2) := dk_21 5 (dk_at dksX3_lot_2 13 rfl rfl)
theorem dX3_lot_61 : decode cX3_lot 61 = .ok (.ishr, 1) := dk_122 (dk_at dksX3_lot_2 15 rfl rfl)
theorem dX3_lot_62 : decode cX3_lot 62 = .ok (.iconst 1, 1) := dk_4 (dk_at dksX3_lot_2 16 rfl rfl)
theorem dX3_lot_63 : decode cX3_lot 63 = .ok (.iand, 1) := dk_126 (dk_at dksX3_lot_2 17 rfl rfl)
theorem dX3_lot_64 : decode cX3_lot 64 = .ok (.iconst 1, 1) := dk_4 (dk_at dksX3_lot_2 18 rfl rfl)
theorem dX3_lot_65 : decode cX3_lot 65 = .ok (.if_icmp .ne 12, 3) := dk_160 0 12 (dk_at dksX3_lot_2 19 rfl rfl)
theorem dX3_lot_68 : decode cX3_lot 68 = .ok (.aload_n 0, 1) := dk_42 (dk_at dksX3_lot_2 22 rfl rfl)
theorem dX3_lot_69 : decode cX3_lot 69 = .ok (.iload 5, 2) := dk_21 5 (dk_at dksX3_lot_3 0 rfl rfl)
theorem dX3_lot_71 : decode cX3_lot 71 = .ok (.invokevirtual 353, 3) := dk_182 1 97 (dk_at dksX3_lot_3 2 rfl rfl)
theorem dX3_lot_74 : decode cX3_lot 74 = .ok (.goto 4, 3) := dk_167 0 4 (dk_at dksX3_lot_3 5 rfl rfl)
theorem dX3_lot_77 : decode cX3_lot 77 = .ok (.iconst 0, 1) := dk_3 (dk_at dksX3_lot_3 8 rfl rfl)
theorem dX3_lot_78 : decode cX3_lot 78 = .ok (.iadd, 1) := dk_96 (dk_at dksX3_lot_3 9 rfl rfl)
theorem dX3_lot_79 : decode cX3_lot 79 = .ok (.istore 4, 2) := dk_54 4 (dk_at dksX3_lot_3 10 rfl rfl)
theorem dX3_lot_81 : decode cX3_lot 81 = .ok (.iinc 5 1, 3) := dk_132 5 1 (dk_at dksX3_lot_3 12 rfl rfl)
theorem dX3_lot_84 : decode cX3_lot 84 = .ok (.goto (-41), 3) := dk_167 255 215 (dk_at dksX3_lot_3 15 rfl rfl)
theorem dX3_lot_87 : decode cX3_lot 87 = .ok (.iload 4, 2) := dk_21 4 (dk_at dksX3_lot_3 18 rfl rfl)
theorem dX3_lot_89 : decode cX3_lot 89 = .ok (.ifCond .ne 9, 3) := dk_154 0 9 (dk_at dksX3_lot_3 20 rfl rfl)
theorem dX3_lot_92 : decode cX3_lot 92 = .ok (.aload_n 0, 1) := dk_42 (dk_at dksX3_lot_3 23 rfl rfl)
theorem dX3_lot_93 : decode cX3_lot 93 = .ok (.iconst 5, 1) := dk_8 (dk_at dksX3_lot_4 0 rfl rfl)
theorem dX3_lot_94 : decode cX3_lot 94 = .ok (.invokevirtual 186, 3) := dk_182 0 186 (dk_at dksX3_lot_4 1 rfl rfl)
theorem dX3_lot_97 : decode cX3_lot 97 = .ok (.ireturn, 1) := dk_172 (dk_at dksX3_lot_4 4 rfl rfl)
theorem dX3_lot_98 : decode cX3_lot 98 = .ok (.bipush 75, 2) := dk_16 75 (dk_at dksX3_lot_4 5 rfl rfl)
theorem dX3_lot_100 : decode cX3_lot 100 = .ok (.iload_n 2, 1) := dk_28 (dk_at dksX3_lot_4 7 rfl rfl)
theorem dX3_lot_101 : decode cX3_lot 101 = .ok (.imul, 1) := dk_104 (dk_at dksX3_lot_4 8 rfl rfl)
theorem dX3_lot_102 : decode cX3_lot 102 = .ok (.bipush 74, 2) := dk_16 74 (dk_at dksX3_lot_4 9 rfl rfl)
theorem dX3_lot_104 : decode cX3_lot 104 = .ok (.iadd, 1) := dk_96 (dk_at dksX3_lot_4 11 rfl rfl)
theorem dX3_lot_105 : decode cX3_lot 105 = .ok (.ldc_w 356, 3) := dk_19 1 100 (dk_at dksX3_lot_4 12 rfl rfl)
theorem dX3_lot_108 : decode cX3_lot 108 = .ok (.irem, 1) := dk_112 (dk_at dksX3_lot_4 15 rfl rfl)
theorem dX3_lot_109 : decode cX3_lot 109 = .ok (.iload 4, 2) := dk_21 4 (dk_at dksX3_lot_4 16 rfl rfl)
theorem dX3_lot_111 : decode cX3_lot 111 = .ok (.irem, 1) := dk_112 (dk_at dksX3_lot_4 18 rfl rfl)
theorem dX3_lot_112 : decode cX3_lot 112 = .ok (.istore 5, 2) := dk_54 5 (dk_at dksX3_lot_4 19 rfl rfl)
theorem dX3_lot_114 : decode cX3_lot 114 = .ok (.iconst (-1), 1) := dk_2 (dk_at dksX3_lot_4 21 rfl rfl)
theorem dX3_lot_115 : decode cX3_lot 115 = .ok (.istore 6, 2) := dk_54 6 (dk_at dksX3_lot_4 22 rfl rfl)
theorem dX3_lot_117 : decode cX3_lot 117 = .ok (.iload 5, 2) := dk_21 5 (dk_at dksX3_lot_5 0 rfl rfl)
theorem dX3_lot_119 : decode cX3_lot 119 = .ok (.ifCond .lt 34, 3) := dk_155 0 34 (dk_at dksX3_lot_5 2 rfl rfl)
theorem dX3_lot_122 : decode cX3_lot 122 = .ok (.iinc 6 1, 3) := dk_132 6 1 (dk_at dksX3_lot_5 5 rfl rfl)
theorem dX3_lot_125 : decode cX3_lot 125 = .ok (.iload 5, 2) := dk_21 5 (dk_at dksX3_lot_5 8 rfl rfl)
theorem dX3_lot_127 : decode cX3_lot 127 = .ok (.iload_n 3, 1) := dk_29 (dk_at dksX3_lot_5 10 rfl rfl)
theorem dX3_lot_128 : decode cX3_lot 128 = .ok (.iload 6, 2) := dk_21 6 (dk_at dksX3_lot_5 11 rfl rfl)
theorem dX3_lot_130 : decode cX3_lot 130 = .ok (.ishr, 1) := dk_122 (dk_at dksX3_lot_5 13 rfl rfl)
theorem dX3_lot_131 : decode cX3_lot 131 = .ok (.iconst 1, 1) := dk_4 (dk_at dksX3_lot_5 14 rfl rfl)
theorem dX3_lot_132 : decode cX3_lot 132 = .ok (.iand, 1) := dk_126 (dk_at dksX3_lot_5 15 rfl rfl)
theorem dX3_lot_133 : decode cX3_lot 133 = .ok (.iconst 1, 1) := dk_4 (dk_at dksX3_lot_5 16 rfl rfl)
theorem dX3_lot_134 : decode cX3_lot 134 = .ok (.if_icmp .ne 12, 3) := dk_160 0 12 (dk_at dksX3_lot_5 17 rfl rfl)
theorem dX3_lot_137 : decode cX3_lot 137 = .ok (.aload_n 0, 1) := dk_42 (dk_at dksX3_lot_5 20 rfl rfl)
theorem dX3_lot_138 : decode cX3_lot 138 = .ok (.iload 6, 2) := dk_21 6 (dk_at dksX3_lot_5 21 rfl rfl)
theorem dX3_lot_140 : decode cX3_lot 140 = .ok (.invokevirtual 353, 3) := dk_182 1 97 (dk_at dksX3_lot_6 0 rfl rfl)
theorem dX3_lot_143 : decode cX3_lot 143 = .ok (.goto 4, 3) := dk_167 0 4 (dk_at dksX3_lot_6 3 rfl rfl)
theorem dX3_lot_146 : decode cX3_lot 146 = .ok (.iconst 0, 1) := dk_3 (dk_at dksX3_lot_6 6 rfl rfl)
theorem dX3_lot_147 : decode cX3_lot 147 = .ok (.isub, 1) := dk_100 (dk_at dksX3_lot_6 7 rfl rfl)
theorem dX3_lot_148 : decode cX3_lot 148 = .ok (.istore 5, 2) := dk_54 5 (dk_at dksX3_lot_6 8 rfl rfl)
theorem dX3_lot_150 : decode cX3_lot 150 = .ok (.goto (-33), 3) := dk_167 255 223 (dk_at dksX3_lot_6 10 rfl rfl)
theorem dX3_lot_153 : decode cX3_lot 153 = .ok (.aload_n 0, 1) := dk_42 (dk_at dksX3_lot_6 13 rfl rfl)
theorem dX3_lot_154 : decode cX3_lot 154 = .ok (.iload 6, 2) := dk_21 6 (dk_at dksX3_lot_6 14 rfl rfl)
theorem dX3_lot_156 : decode cX3_lot 156 = .ok (.invokevirtual 199, 3) := dk_182 0 199 (dk_at dksX3_lot_6 16 rfl rfl)
theorem dX3_lot_159 : decode cX3_lot 159 = .ok (.ireturn, 1) := dk_172 (dk_at dksX3_lot_6 19 rfl rfl)
abbrev cX3_weeksWaited : ByteArray := prog_15_method_106_code
def yX3_weeksWaited : MethodName := ⟨RX3, "weeksWaited", "(I)I"⟩
def dkwX3_weeksWaited_1 : List UInt8 := [16, 7, 108, 184, 0, 211, 172]
abbrev dktX3_weeksWaited_1 : List UInt8 := dkwX3_weeksWaited_1 ++ []
def dkwX3_weeksWaited_0 : List UInt8 := [4, 17, 3, 232, 16, 7, 42, 180, 0, 7, 17, 0, 232, 46, 104, 96, 42, 27, 6, 182, 0, 205, 100]
abbrev dktX3_weeksWaited_0 : List UInt8 := dkwX3_weeksWaited_0 ++ dktX3_weeksWaited_1
theorem dksX3_weeksWaited_0 : cX3_weeksWaited.data.toList.drop 0 = dktX3_weeksWaited_0 := by decide +kernel
theorem dksX3_weeksWaited_1 : cX3_weeksWaited.data.toList.drop 23 = dktX3_weeksWaited_1 := dk_seg dksX3_weeksWaited_0 23 rfl rfl
theorem dX3_weeksWaited_0 : decode cX3_weeksWaited 0 = .ok (.iconst 1, 1) := dk_4 (dk_at dksX3_weeksWaited_0 0 rfl rfl)
theorem dX3_weeksWaited_1 : decode cX3_weeksWaited 1 = .ok (.sipush 1000, 3) := dk_17 3 232 (dk_at dksX3_weeksWaited_0 1 rfl rfl)
theorem dX3_weeksWaited_4 : decode cX3_weeksWaited 4 = .ok (.bipush 7, 2) := dk_16 7 (dk_at dksX3_weeksWaited_0 4 rfl rfl)
theorem dX3_weeksWaited_6 : decode cX3_weeksWaited 6 = .ok (.aload_n 0, 1) := dk_42 (dk_at dksX3_weeksWaited_0 6 rfl rfl)
theorem dX3_weeksWaited_7 : decode cX3_weeksWaited 7 = .ok (.getfield 7, 3) := dk_180 0 7 (dk_at dksX3_weeksWaited_0 7 rfl rfl)
theorem dX3_weeksWaited_10 : decode cX3_weeksWaited 10 = .ok (.sipush 232, 3) := dk_17 0 232 (dk_at dksX3_weeksWaited_0 10 rfl rfl)
theorem dX3_weeksWaited_13 : decode cX3_weeksWaited 13 = .ok (.iaload, 1) := dk_46 (dk_at dksX3_weeksWaited_0 13 rfl rfl)
theorem dX3_weeksWaited_14 : decode cX3_weeksWaited 14 = .ok (.imul, 1) := dk_104 (dk_at dksX3_weeksWaited_0 14 rfl rfl)
theorem dX3_weeksWaited_15 : decode cX3_weeksWaited 15 = .ok (.iadd, 1) := dk_96 (dk_at dksX3_weeksWaited_0 15 rfl rfl)
theorem dX3_weeksWaited_16 : decode cX3_weeksWaited 16 = .ok (.aload_n 0, 1) := dk_42 (dk_at dksX3_weeksWaited_0 16 rfl rfl)
theorem dX3_weeksWaited_17 : decode cX3_weeksWaited 17 = .ok (.iload_n 1, 1) := dk_27 (dk_at dksX3_weeksWaited_0 17 rfl rfl)
theorem dX3_weeksWaited_18 : decode cX3_weeksWaited 18 = .ok (.iconst 3, 1) := dk_6 (dk_at dksX3_weeksWaited_0 18 rfl rfl)
theorem dX3_weeksWaited_19 : decode cX3_weeksWaited 19 = .ok (.invokevirtual 205, 3) := dk_182 0 205 (dk_at dksX3_weeksWaited_0 19 rfl rfl)
theorem dX3_weeksWaited_22 : decode cX3_weeksWaited 22 = .ok (.isub, 1) := dk_100 (dk_at dksX3_weeksWaited_0 22 rfl rfl)
theorem dX3_weeksWaited_23 : decode cX3_weeksWaited 23 = .ok (.bipush 7, 2) := dk_16 7 (dk_at dksX3_weeksWaited_1 0 rfl rfl)
theorem dX3_weeksWaited_25 : decode cX3_weeksWaited 25 = .ok (.idiv, 1) := dk_108 (dk_at dksX3_weeksWaited_1 2 rfl rfl)
theorem dX3_weeksWaited_26 : decode cX3_weeksWaited 26 = .ok (.invokestatic 211, 3) := dk_184 0 211 (dk_at dksX3_weeksWaited_1 3 rfl rfl)
theorem dX3_weeksWaited_29 : decode cX3_weeksWaited 29 = .ok (.ireturn, 1) := dk_172 (dk_at dksX3_weeksWaited_1 6 rfl rfl)
abbrev cX3_fits : ByteArray := prog_15_method_108_code
def yX3_fits : MethodName := ⟨RX3, "fits", "(II)I"⟩
def dkwX3_fits_4 : List UInt8 := [167, 0, 4, 3, 128, 62, 132, 4, 1, 167, 255, 188, 42, 29, 182, 0, 199, 172]
abbrev dktX3_fits_4 : List UInt8 := dkwX3_fits_4 ++ []
def dkwX3_fits_3 : List UInt8 := [182, 0, 219, 153, 0, 23, 167, 0, 13, 42, 27, 21, 4, 182, 1, 44, 153, 0, 10, 4, 21, 4, 120]
abbrev dktX3_fits_3 : List UInt8 := dkwX3_fits_3 ++ dktX3_fits_4
def dkwX3_fits_2 : List UInt8 := [42, 27, 21, 4, 182, 0, 250, 153, 0, 41, 28, 153, 0, 30, 28, 4, 160, 0, 15, 42, 21, 4]
abbrev dktX3_fits_2 : List UInt8 := dkwX3_fits_2 ++ dktX3_fits_3
def dkwX3_fits_1 : List UInt8 := [5, 182, 0, 186, 172, 3, 62, 3, 54, 4, 21, 4, 42, 180, 0, 7, 17, 0, 230, 46, 162, 0, 61, 29]
abbrev dktX3_fits_1 : List UInt8 := dkwX3_fits_1 ++ dktX3_fits_2
def dkwX3_fits_0 : List UInt8 := [28, 3, 5, 184, 0, 71, 154, 0, 9, 42, 4, 182, 0, 186, 172, 42, 27, 182, 0, 244, 154, 0, 9, 42]
abbrev dktX3_fits_0 : List UInt8 := dkwX3_fits_0 ++ dktX3_fits_1
theorem dksX3_fits_0 : cX3_fits.data.toList.drop 0 = dktX3_fits_0 := by decide +kernel
theorem dksX3_fits_1 : cX3_fits.data.toList.drop 24 = dktX3_fits_1 := dk_seg dksX3_fits_0 24 rfl rfl
theorem dksX3_fits_2 : cX3_fits.data.toList.drop 48 = dktX3_fits_2 := dk_seg dksX3_fits_1 24 rfl rfl
theorem dksX3_fits_3 : cX3_fits.data.toList.drop 70 = dktX3_fits_3 := dk_seg dksX3_fits_2 22 rfl rfl
theorem dksX3_fits_4 : cX3_fits.data.toList.drop 93 = dktX3_fits_4 := dk_seg dksX3_fits_3 23 rfl rfl
theorem dX3_fits_0 : decode cX3_fits 0 = .ok (.iload_n 2, 1) := dk_28 (dk_at dksX3_fits_0 0 rfl rfl)
theorem dX3_fits_1 : decode cX3_fits 1 = .ok (.iconst 0, 1) := dk_3 (dk_at dksX3_fits_0 1 rfl rfl)
theorem dX3_fits_2 : decode cX3_fits 2 = .ok (.iconst 2, 1) := dk_5 (dk_at dksX3_fits_0 2 rfl rfl)
theorem dX3_fits_3 : decode cX3_fits 3 = .ok (.invokestatic 71, 3) := dk_184 0 71 (dk_at dksX3_fits_0 3 rfl rfl)
theorem dX3_fits_6 : decode cX3_fits 6 = .ok (.ifCond .ne 9, 3) := dk_154 0 9 (dk_at dksX3_fits_0 6 rfl rfl)
theorem dX3_fits_9 : decode cX3_fits 9 = .ok (.aload_n 0, 1) := dk_42 (dk_at dksX3_fits_0 9 rfl rfl)
theorem dX3_fits_10 : decode cX3_fits 10 = .ok (.iconst 1, 1) := dk_4 (dk_at dksX3_fits_0 10 rfl rfl)
theorem dX3_fits_11 : decode cX3_fits 11 = .ok (.invokevirtual 186, 3) := dk_182 0 186 (dk_at dksX3_fits_0 11 rfl rfl)
theorem dX3_fits_14 : decode cX3_fits 14 = .ok (.ireturn, 1) := dk_172 (dk_at dksX3_fits_0 14 rfl rfl)
theorem dX3_fits_15 : decode cX3_fits 15 = .ok (.aload_n 0, 1) := dk_42 (dk_at dksX3_fits_0 15 rfl rfl)
theorem dX3_fits_16 : decode cX3_fits 16 = .ok (.iload_n 1, 1) := dk_27 (dk_at dksX3_fits_0 16 rfl rfl)
theorem dX3_fits_17 : decode cX3_fits 17 = .ok (.invokevirtual 244, 3) := dk_182 0 244 (dk_at dksX3_fits_0 17 rfl rfl)
theorem dX3_fits_20 : decode cX3_fits 20 = .ok (.ifCond .ne 9, 3) := dk_154 0 9 (dk_at dksX3_fits_0 20 rfl rfl)
theorem dX3_fits_23 : decode cX3_fits 23 = .ok (.aload_n 0, 1) := dk_42 (dk_at dksX3_fits_0 23 rfl rfl)
theorem dX3_fits_24 : decode cX3_fits 24 = .ok (.iconst 2, 1) := dk_5 (dk_at dksX3_fits_1 0 rfl rfl)
theorem dX3_fits_25 : decode cX3_fits 25 = .ok (.invokevirtual 186, 3) := dk_182 0 186 (dk_at dksX3_fits_1 1 rfl rfl)
theorem dX3_fits_28 : decode cX3_fits 28 = .ok (.ireturn, 1) := dk_172 (dk_at dksX3_fits_1 4 rfl rfl)
theorem dX3_fits_29 : decode cX3_fits 29 = .ok (.iconst 0, 1) := dk_3 (dk_at dksX3_fits_1 5 rfl rfl)
theorem dX3_fits_30 : decode cX3_fits 30 = .ok (.istore_n 3, 1) := dk_62 (dk_at dksX3_fits_1 6 rfl rfl)
theorem dX3_fits_31 : decode cX3_fits 31 = .ok (.iconst 0, 1) := dk_3 (dk_at dksX3_fits_1 7 rfl rfl)
theorem dX3_fits_32 : decode cX3_fits 32 = .ok (.istore 4, 2) := dk_54 4 (dk_at dksX3_fits_1 8 rfl rfl)
theorem dX3_fits_34 : decode cX3_fits 34 = .ok (.iload 4, 2) := dk_21 4 (dk_at dksX3_fits_1 10 rfl rfl)
theorem dX3_fits_36 : decode cX3_fits 36 = .ok (.aload_n 0, 1) := dk_42 (dk_at dksX3_fits_1 12 rfl rfl)
theorem dX3_fits_37 : decode cX3_fits 37 = .ok (.getfield 7, 3) := dk_180 0 7 (dk_at dksX3_fits_1 13 rfl rfl)
theorem dX3_fits_40 : decode cX3_fits 40 = .ok (.sipush 230, 3) := dk_17 0 230 (dk_at dksX3_fits_1 16 rfl rfl)
theorem dX3_fits_43 : decode cX3_fits 43 = .ok (.iaload, 1) := dk_46 (dk_at dksX3_fits_1 19 rfl rfl)
theorem dX3_fits_44 : decode cX3_fits 44 = .ok (.if_icmp .ge 61, 3) := dk_162 0 61 (dk_at dksX3_fits_1 20 rfl rfl)
theorem dX3_fits_47 : decode cX3_fits 47 = .ok (.iload_n 3, 1) := dk_29 (dk_at dksX3_fits_1 23 rfl rfl)
theorem dX3_fits_48 : decode cX3_fits 48 = .ok (.aload_n 0, 1) := dk_42 (dk_at dksX3_fits_2 0 rfl rfl)
theorem dX3_fits_49 : decode cX3_fits 49 = .ok (.iload_n 1, 1) := dk_27 (dk_at dksX3_fits_2 1 rfl rfl)
theorem dX3_fits_50 : decode cX3_fits 50 = .ok (.iload 4, 2) := dk_21 4 (dk_at dksX3_fits_2 2 rfl rfl)
theorem dX3_fits_52 : decode cX3_fits 52 = .ok (.invokevirtual 250, 3) := dk_182 0 250 (dk_at dksX3_fits_2 4 rfl rfl)
theorem dX3_fits_55 : decode cX3_fits 55 = .ok (.ifCond .eq 41, 3) := dk_153 0 41 (dk_at dksX3_fits_2 7 rfl rfl)
theorem dX3_fits_58 : decode cX3_fits 58 = .ok (.iload_n 2, 1) := dk_28 (dk_at dksX3_fits_2 10 rfl rfl)
theorem dX3_fits_59 : decode cX3_fits 59 = .ok (.ifCond .eq 30, 3) := dk_153 0 30 (dk_at dksX3_fits_2 11 rfl rfl)
theorem dX3_fits_62 : decode cX3_fits 62 = .ok (.iload_n 2, 1) := dk_28 (dk_at dksX3_fits_2 14 rfl rfl)
theorem dX3_fits_63 : decode cX3_fits 63 = .ok (.iconst 1, 1) := dk_4 (dk_at dksX3_fits_2 15 rfl rfl)
theorem dX3_fits_64 : decode cX3_fits 64 = .ok (.if_icmp .ne 15, 3) := dk_160 0 15 (dk_at dksX3_fits_2 16 rfl rfl)
theorem dX3_fits_67 : decode cX3_fits 67 = .ok (.aload_n 0, 1) := dk_42 (dk_at dksX3_fits_2 19 rfl rfl)
theorem dX3_fits_68 : decode cX3_fits 68 = .ok (.iload 4, 2) := dk_21 4 (dk_at dksX3_fits_2 20 rfl rfl)
theorem dX3_fits_70 : decode cX3_fits 70 = .ok (.invokevirtual 219, 3) := dk_182 0 219 (dk_at dksX3_fits_3 0 rfl rfl)
theorem dX3_fits_73 : decode cX3_fits 73 = .ok (.ifCond .eq 23, 3) := dk_153 0 23 (dk_at dksX3_fits_3 3 rfl rfl)
theorem dX3_fits_76 : decode cX3_fits 76 = .ok (.goto 13, 3) := dk_167 0 13 (dk_at dksX3_fits_3 6 rfl rfl)
theorem dX3_fits_79 : decode cX3_fits 79 = .ok (.aload_n 0, 1) := dk_42 (dk_at dksX3_fits_3 9 rfl rfl)
theorem dX3_fits_80 : decode cX3_fits 80 = .ok (.iload_n 1, 1) := dk_27 (dk_at dksX3_fits_3 10 rfl rfl)
theorem dX3_fits_81 : decode cX3_fits 81 = .ok (.iload 4, 2) := dk_21 4 (dk_at dksX3_fits_3 11 rfl rfl)
theorem dX3_fits_83 : decode cX3_fits 83 = .ok (.invokevirtual 300, 3) := dk_182 1 44 (dk_at dksX3_fits_3 13 rfl rfl)
theorem dX3_fits_86 : decode cX3_fits 86 = .ok (.ifCond .eq 10, 3) := dk_153 0 10 (dk_at dksX3_fits_3 16 rfl rfl)
theorem dX3_fits_89 : decode cX3_fits 89 = .ok (.iconst 1, 1) := dk_4 (dk_at dksX3_fits_3 19 rfl rfl)
theorem dX3_fits_90 : decode cX3_fits 90 = .ok (.iload 4, 2) := dk_21 4 (dk_at dksX3_fits_3 20 rfl rfl)
theorem dX3_fits_92 : decode cX3_fits 92 = .ok (.ishl, 1) := dk_120 (dk_at dksX3_fits_3 22 rfl rfl)
theorem dX3_fits_93 : decode cX3_fits 93 = .ok (.goto 4, 3) := dk_167 0 4 (dk_at dksX3_fits_4 0 rfl rfl)
theorem dX3_fits_96 : decode cX3_fits 96 = .ok (.iconst 0, 1) := dk_3 (dk_at dksX3_fits_4 3 rfl rfl)
theorem dX3_fits_97 : decode cX3_fits 97 = .ok (.ior, 1) := dk_128 (dk_at dksX3_fits_4 4 rfl rfl)
theorem dX3_fits_98 : decode cX3_fits 98 = .ok (.istore_n 3, 1) := dk_62 (dk_at dksX3_fits_4 5 rfl rfl)
theorem dX3_fits_99 : decode cX3_fits 99 = .ok (.iinc 4 1, 3) := dk_132 4 1 (dk_at dksX3_fits_4 6 rfl rfl)
theorem dX3_fits_102 : decode cX3_fits 102 = .ok (.goto (-68), 3) := dk_167 255 188 (dk_at dksX3_fits_4 9 rfl rfl)
theorem dX3_fits_105 : decode cX3_fits 105 = .ok (.aload_n 0, 1) := dk_42 (dk_at dksX3_fits_4 12 rfl rfl)
theorem dX3_fits_106 : decode cX3_fits 106 = .ok (.iload_n 3, 1) := dk_29 (dk_at dksX3_fits_4 13 rfl rfl)
theorem dX3_fits_107 : decode cX3_fits 107 = .ok (.invokevirtual 199, 3) := dk_182 0 199 (dk_at dksX3_fits_4 14 rfl rfl)
theorem dX3_fits_110 : decode cX3_fits 110 = .ok (.ireturn, 1) := dk_172 (dk_at dksX3_fits_4 17 rfl rfl)
abbrev cX3_ward : ByteArray := prog_15_method_110_code
def yX3_ward : MethodName := ⟨RX3, "ward", "(Z)I"⟩
def dkwX3_ward_4 : List UInt8 := [28, 182, 1, 101, 167, 0, 4, 28, 182, 0, 199, 172]
abbrev dktX3_ward_4 : List UInt8 := dkwX3_ward_4 ++ []
def dkwX3_ward_3 : List UInt8 := [160, 0, 12, 21, 4, 28, 162, 0, 6, 21, 4, 61, 132, 3, 1, 167, 255, 191, 42, 27, 153, 0, 11, 42]
abbrev dktX3_ward_3 : List UInt8 := dkwX3_ward_3 ++ dktX3_ward_4
def dkwX3_ward_2 : List UInt8 := [21, 4, 182, 1, 101, 42, 28, 182, 1, 101, 163, 0, 23, 42, 21, 4, 182, 1, 101, 42, 28, 182, 1, 101]
abbrev dktX3_ward_2 : List UInt8 := dkwX3_ward_2 ++ dktX3_ward_3
def dkwX3_ward_1 : List UInt8 := [180, 0, 7, 17, 0, 230, 46, 162, 0, 59, 42, 29, 4, 182, 0, 202, 54, 4, 28, 2, 159, 0, 37, 42]
abbrev dktX3_ward_1 : List UInt8 := dkwX3_ward_1 ++ dktX3_ward_2
def dkwX3_ward_0 : List UInt8 := [42, 180, 0, 7, 17, 0, 230, 46, 154, 0, 9, 42, 8, 182, 0, 186, 172, 2, 61, 3, 62, 29, 42]
abbrev dktX3_ward_0 : List UInt8 := dkwX3_ward_0 ++ dktX3_ward_1
theorem dksX3_ward_0 : cX3_ward.data.toList.drop 0 = dktX3_ward_0 := by decide +kernel
theorem dksX3_ward_1 : cX3_ward.data.toList.drop 23 = dktX3_ward_1 := dk_seg dksX3_ward_0 23 rfl rfl
theorem dksX3_ward_2 : cX3_ward.data.toList.drop 47 = dktX3_ward_2 := dk_seg dksX3_ward_1 24 rfl rfl
theorem dksX3_ward_3 : cX3_ward.data.toList.drop 71 = dktX3_ward_3 := dk_seg dksX3_ward_2 24 rfl rfl
theorem dksX3_ward_4 : cX3_ward.data.toList.drop 95 = dktX3_ward_4 := dk_seg dksX3_ward_3 24 rfl rfl
theorem dX3_ward_0 : decode cX3_ward 0 = .ok (.aload_n 0, 1) := dk_42 (dk_at dksX3_ward_0 0 rfl rfl)
theorem dX3_ward_1 : decode cX3_ward 1 = .ok (.getfield 7, 3) := dk_180 0 7 (dk_at dksX3_ward_0 1 rfl rfl)
theorem dX3_ward_4 : decode cX3_ward 4 = .ok (.sipush 230, 3) := dk_17 0 230 (dk_at dksX3_ward_0 4 rfl rfl)
theorem dX3_ward_7 : decode cX3_ward 7 = .ok (.iaload, 1) := dk_46 (dk_at dksX3_ward_0 7 rfl rfl)
theorem dX3_ward_8 : decode cX3_ward 8 = .ok (.ifCond .ne 9, 3) := dk_154 0 9 (dk_at dksX3_ward_0 8 rfl rfl)
theorem dX3_ward_11 : decode cX3_ward 11 = .ok (.aload_n 0, 1) := dk_42 (dk_at dksX3_ward_0 11 rfl rfl)
theorem dX3_ward_12 : decode cX3_ward 12 = .ok (.iconst 5, 1) := dk_8 (dk_at dksX3_ward_0 12 rfl rfl)
theorem dX3_ward_13 : decode cX3_ward 13 = .ok (.invokevirtual 186, 3) := dk_182 0 186 (dk_at dksX3_ward_0 13 rfl rfl)
theorem dX3_ward_16 : decode cX3_ward 16 = .ok (.ireturn, 1) := dk_172 (dk_at dksX3_ward_0 16 rfl rfl)
theorem dX3_ward_17 : decode cX3_ward 17 = .ok (.iconst (-1), 1) := dk_2 (dk_at dksX3_ward_0 17 rfl rfl)
theorem dX3_ward_18 : decode cX3_ward 18 = .ok (.istore_n 2, 1) := dk_61 (dk_at dksX3_ward_0 18 rfl rfl)
theorem dX3_ward_19 : decode cX3_ward 19 = .ok (.iconst 0, 1) := dk_3 (dk_at dksX3_ward_0 19 rfl rfl)
theorem dX3_ward_20 : decode cX3_ward 20 = .ok (.istore_n 3, 1) := dk_62 (dk_at dksX3_ward_0 20 rfl rfl)
theorem dX3_ward_21 : decode cX3_ward 21 = .ok (.iload_n 3, 1) := dk_29 (dk_at dksX3_ward_0 21 rfl rfl)
theorem dX3_ward_22 : decode cX3_ward 22 = .ok (.aload_n 0, 1) := dk_42 (dk_at dksX3_ward_0 22 rfl rfl)
theorem dX3_ward_23 : decode cX3_ward 23 = .ok (.getfield 7, 3) := dk_180 0 7 (dk_at dksX3_ward_1 0 rfl rfl)
theorem dX3_ward_26 : decode cX3_ward 26 = .ok (.sipush 230, 3) := dk_17 0 230 (dk_at dksX3_ward_1 3 rfl rfl)
theorem dX3_ward_29 : decode cX3_ward 29 = .ok (.iaload, 1) := dk_46 (dk_at dksX3_ward_1 6 rfl rfl)
theorem dX3_ward_30 : decode cX3_ward 30 = .ok (.if_icmp .ge 59, 3) := dk_162 0 59 (dk_at dksX3_ward_1 7 rfl rfl)
theorem dX3_ward_33 : decode cX3_ward 33 = .ok (.aload_n 0, 1) := dk_42 (dk_at dksX3_ward_1 10 rfl rfl)
theorem dX3_ward_34 : decode cX3_ward 34 = .ok (.iload_n 3, 1) := dk_29 (dk_at dksX3_ward_1 11 rfl rfl)
theorem dX3_ward_35 : decode cX3_ward 35 = .ok (.iconst 1, 1) := dk_4 (dk_at dksX3_ward_1 12 rfl rfl)
theorem dX3_ward_36 : decode cX3_ward 36 = .ok (.invokevirtual 202, 3) := dk_182 0 202 (dk_at dksX3_ward_1 13 rfl rfl)
theorem dX3_ward_39 : decode cX3_ward 39 = .ok (.istore 4, 2) := dk_54 4 (dk_at dksX3_ward_1 16 rfl rfl)
theorem dX3_ward_41 : decode cX3_ward 41 = .ok (.iload_n 2, 1) := dk_28 (dk_at dksX3_ward_1 18 rfl rfl)
theorem dX3_ward_42 : decode cX3_ward 42 = .ok (.iconst (-1), 1) := dk_2 (dk_at dksX3_ward_1 19 rfl rfl)
theorem dX3_ward_43 : decode cX3_ward 43 = .ok (.if_icmp .eq 37, 3) := dk_159 0 37 (dk_at dksX3_ward_1 20 rfl rfl)
theorem dX3_ward_46 : decode cX3_ward 46 = .ok (.aload_n 0, 1) := dk_42 (dk_at dksX3_ward_1 23 rfl rfl)
theorem dX3_ward_47 : decode cX3_ward 47 = .ok (.iload 4, 2) := dk_21 4 (dk_at dksX3_ward_2 0 rfl rfl)
theorem dX3_ward_49 : decode cX3_ward 49 = .ok (.invokevirtual 357, 3) := dk_182 1 101 (dk_at dksX3_ward_2 2 rfl rfl)
theorem dX3_ward_52 : decode cX3_ward 52 = .ok (.aload_n 0, 1) := dk_42 (dk_at dksX3_ward_2 5 rfl rfl)
theorem dX3_ward_53 : decode cX3_ward 53 = .ok (.iload_n 2, 1) := dk_28 (dk_at dksX3_ward_2 6 rfl rfl)
theorem dX3_ward_54 : decode cX3_ward 54 = .ok (.invokevirtual 357, 3) := dk_182 1 101 (dk_at dksX3_ward_2 7 rfl rfl)
theorem dX3_ward_57 : decode cX3_ward 57 = .ok (.if_icmp .gt 23, 3) := dk_163 0 23 (dk_at dksX3_ward_2 10 rfl rfl)
theorem dX3_ward_60 : decode cX3_ward 60 = .ok (.aload_n 0, 1) := dk_42 (dk_at dksX3_ward_2 13 rfl rfl)
theorem dX3_ward_61 : decode cX3_ward 61 = .ok (.iload 4, 2) := dk_21 4 (dk_at dksX3_ward_2 14 rfl rfl)
theorem dX3_ward_63 : decode cX3_ward 63 = .ok (.invokevirtual 357, 3) := dk_182 1 101 (dk_at dksX3_ward_2 16 rfl rfl)
theorem dX3_ward_66 : decode cX3_ward 66 = .ok (.aload_n 0, 1) := dk_42 (dk_at dksX3_ward_2 19 rfl rfl)
theorem dX3_ward_67 : decode cX3_ward 67 = .ok (.iload_n 2, 1) := dk_28 (dk_at dksX3_ward_2 20 rfl rfl)
theorem dX3_ward_68 : decode cX3_ward 68 = .ok (.invokevirtual 357, 3) := dk_182 1 101 (dk_at dksX3_ward_2 21 rfl rfl)
theorem dX3_ward_71 : decode cX3_ward 71 = .ok (.if_icmp .ne 12, 3) := dk_160 0 12 (dk_at dksX3_ward_3 0 rfl rfl)
theorem dX3_ward_74 : decode cX3_ward 74 = .ok (.iload 4, 2) := dk_21 4 (dk_at dksX3_ward_3 3 rfl rfl)
theorem dX3_ward_76 : decode cX3_ward 76 = .ok (.iload_n 2, 1) := dk_28 (dk_at dksX3_ward_3 5 rfl rfl)
theorem dX3_ward_77 : decode cX3_ward 77 = .ok (.if_icmp .ge 6, 3) := dk_162 0 6 (dk_at dksX3_ward_3 6 rfl rfl)
theorem dX3_ward_80 : decode cX3_ward 80 = .ok (.iload 4, 2) := dk_21 4 (dk_at dksX3_ward_3 9 rfl rfl)
theorem dX3_ward_82 : decode cX3_ward 82 = .ok (.istore_n 2, 1) := dk_61 (dk_at dksX3_ward_3 11 rfl rfl)
theorem dX3_ward_83 : decode cX3_ward 83 = .ok (.iinc 3 1, 3) := dk_132 3 1 (dk_at dksX3_ward_3 12 rfl rfl)
theorem dX3_ward_86 : decode cX3_ward 86 = .ok (.goto (-65), 3) := dk_167 255 191 (dk_at dksX3_ward_3 15 rfl rfl)
theorem dX3_ward_89 : decode cX3_ward 89 = .ok (.aload_n 0, 1) := dk_42 (dk_at dksX3_ward_3 18 rfl rfl)
theorem dX3_ward_90 : decode cX3_ward 90 = .ok (.iload_n 1, 1) := dk_27 (dk_at dksX3_ward_3 19 rfl rfl)
theorem dX3_ward_91 : decode cX3_ward 91 = .ok (.ifCond .eq 11, 3) := dk_153 0 11 (dk_at dksX3_ward_3 20 rfl rfl)
theorem dX3_ward_94 : decode cX3_ward 94 = .ok (.aload_n 0, 1) := dk_42 (dk_at dksX3_ward_3 23 rfl rfl)
theorem dX3_ward_95 : decode cX3_ward 95 = .ok (.iload_n 2, 1) := dk_28 (dk_at dksX3_ward_4 0 rfl rfl)
theorem dX3_ward_96 : decode cX3_ward 96 = .ok (.invokevirtual 357, 3) := dk_182 1 101 (dk_at dksX3_ward_4 1 rfl rfl)
theorem dX3_ward_99 : decode cX3_ward 99 = .ok (.goto 4, 3) := dk_167 0 4 (dk_at dksX3_ward_4 4 rfl rfl)
theorem dX3_ward_102 : decode cX3_ward 102 = .ok (.iload_n 2, 1) := dk_28 (dk_at dksX3_ward_4 7 rfl rfl)
theorem dX3_ward_103 : decode cX3_ward 103 = .ok (.invokevirtual 199, 3) := dk_182 0 199 (dk_at dksX3_ward_4 8 rfl rfl)
theorem dX3_ward_106 : decode cX3_ward 106 = .ok (.ireturn, 1) := dk_172 (dk_at dksX3_ward_4 11 rfl rfl)
abbrev cX3_lackOf : ByteArray := prog_15_method_109_code
def yX3_lackOf : MethodName := ⟨RX3, "lackOf", "(I)I"⟩
def dkwX3_lackOf_4 : List UInt8 := [167, 255, 215, 28, 172]
abbrev dktX3_lackOf_4 : List UInt8 := dkwX3_lackOf_4 ++ []
def dkwX3_lackOf_3 : List UInt8 := [153, 0, 17, 42, 29, 4, 182, 0, 202, 27, 160, 0, 7, 4, 167, 0, 4, 3, 100, 61, 132, 3, 1]
abbrev dktX3_lackOf_3 : List UInt8 := dkwX3_lackOf_3 ++ dktX3_lackOf_4
def dkwX3_lackOf_2 : List UInt8 := [167, 255, 215, 3, 62, 29, 42, 180, 0, 7, 17, 0, 230, 46, 162, 0, 35, 28, 42, 29, 182, 0, 219]
abbrev dktX3_lackOf_2 : List UInt8 := dkwX3_lackOf_2 ++ dktX3_lackOf_3
def dkwX3_lackOf_1 : List UInt8 := [153, 0, 17, 42, 29, 5, 182, 0, 205, 27, 160, 0, 7, 4, 167, 0, 4, 3, 96, 61, 132, 3, 1]
abbrev dktX3_lackOf_1 : List UInt8 := dkwX3_lackOf_1 ++ dktX3_lackOf_2
def dkwX3_lackOf_0 : List UInt8 := [3, 61, 3, 62, 29, 42, 180, 0, 7, 17, 0, 231, 46, 162, 0, 35, 28, 42, 29, 182, 0, 208]
abbrev dktX3_lackOf_0 : List UInt8 := dkwX3_lackOf_0 ++ dktX3_lackOf_1
theorem dksX3_lackOf_0 : cX3_lackOf.data.toList.drop 0 = dktX3_lackOf_0 := by decide +kernel
theorem dksX3_lackOf_1 : cX3_lackOf.data.toList.drop 22 = dktX3_lackOf_1 := dk_seg dksX3_lackOf_0 22 rfl rfl
theorem dksX3_lackOf_2 : cX3_lackOf.data.toList.drop 45 = dktX3_lackOf_2 := dk_seg dksX3_lackOf_1 23 rfl rfl
theorem dksX3_lackOf_3 : cX3_lackOf.data.toList.drop 68 = dktX3_lackOf_3 := dk_seg dksX3_lackOf_2 23 rfl rfl
theorem dksX3_lackOf_4 : cX3_lackOf.data.toList.drop 91 = dktX3_lackOf_4 := dk_seg dksX3_lackOf_3 23 rfl rfl
theorem dX3_lackOf_0 : decode cX3_lackOf 0 = .ok (.iconst 0, 1) := dk_3 (dk_at dksX3_lackOf_0 0 rfl rfl)
theorem dX3_lackOf_1 : decode cX3_lackOf 1 = .ok (.istore_n 2, 1) := dk_61 (dk_at dksX3_lackOf_0 1 rfl rfl)
theorem dX3_lackOf_2 : decode cX3_lackOf 2 = .ok (.iconst 0, 1) := dk_3 (dk_at dksX3_lackOf_0 2 rfl rfl)
theorem dX3_lackOf_3 : decode cX3_lackOf 3 = .ok (.istore_n 3, 1) := dk_62 (dk_at dksX3_lackOf_0 3 rfl rfl)
theorem dX3_lackOf_4 : decode cX3_lackOf 4 = .ok (.iload_n 3, 1) := dk_29 (dk_at dksX3_lackOf_0 4 rfl rfl)
theorem dX3_lackOf_5 : decode cX3_lackOf 5 = .ok (.aload_n 0, 1) := dk_42 (dk_at dksX3_lackOf_0 5 rfl rfl)
theorem dX3_lackOf_6 : decode cX3_lackOf 6 = .ok (.getfield 7, 3) := dk_180 0 7 (dk_at dksX3_lackOf_0 6 rfl rfl)
theorem dX3_lackOf_9 : decode cX3_lackOf 9 = .ok (.sipush 231, 3) := dk_17 0 231 (dk_at dksX3_lackOf_0 9 rfl rfl)
theorem dX3_lackOf_12 : decode cX3_lackOf 12 = .ok (.iaload, 1) := dk_46 (dk_at dksX3_lackOf_0 12 rfl rfl)
theorem dX3_lackOf_13 : decode cX3_lackOf 13 = .ok (.if_icmp .ge 35, 3) := dk_162 0 35 (dk_at dksX3_lackOf_0 13 rfl rfl)
theorem dX3_lackOf_16 : decode cX3_lackOf 16 = .ok (.iload_n 2, 1) := dk_28 (dk_at dksX3_lackOf_0 16 rfl rfl)
theorem dX3_lackOf_17 : decode cX3_lackOf 17 = .ok (.aload_n 0, 1) := dk_42 (dk_at dksX3_lackOf_0 17 rfl rfl)
theorem dX3_lackOf_18 : decode cX3_lackOf 18 = .ok (.iload_n 3, 1) := dk_29 (dk_at dksX3_lackOf_0 18 rfl rfl)
theorem dX3_lackOf_19 : decode cX3_lackOf 19 = .ok (.invokevirtual 208, 3) := dk_182 0 208 (dk_at dksX3_lackOf_0 19 rfl rfl)
theorem dX3_lackOf_22 : decode cX3_lackOf 22 = .ok (.ifCond .eq 17, 3) := dk_153 0 17 (dk_at dksX3_lackOf_1 0 rfl rfl)
theorem dX3_lackOf_25 : decode cX3_lackOf 25 = .ok (.aload_n 0, 1) := dk_42 (dk_at dksX3_lackOf_1 3 rfl rfl)
theorem dX3_lackOf_26 : decode cX3_lackOf 26 = .ok (.iload_n 3, 1) := dk_29 (dk_at dksX3_lackOf_1 4 rfl rfl)
theorem dX3_lackOf_27 : decode cX3_lackOf 27 = .ok (.iconst 2, 1) := dk_5 (dk_at dksX3_lackOf_1 5 rfl rfl)
theorem dX3_lackOf_28 : decode cX3_lackOf 28 = .ok (.invokevirtual 205, 3) := dk_182 0 205 (dk_at dksX3_lackOf_1 6 rfl rfl)
theorem dX3_lackOf_31 : decode cX3_lackOf 31 = .ok (.iload_n 1, 1) := dk_27 (dk_at dksX3_lackOf_1 9 rfl rfl)
theorem dX3_lackOf_32 : decode cX3_lackOf 32 = .ok (.if_icmp .ne 7, 3) := dk_160 0 7 (dk_at dksX3_lackOf_1 10 rfl rfl)
theorem dX3_lackOf_35 : decode cX3_lackOf 35 = .ok (.iconst 1, 1) := dk_4 (dk_at dksX3_lackOf_1 13 rfl rfl)
theorem dX3_lackOf_36 : decode cX3_lackOf 36 = .ok (.goto 4, 3) := dk_167 0 4 (dk_at dksX3_lackOf_1 14 rfl rfl)
theorem dX3_lackOf_39 : decode cX3_lackOf 39 = .ok (.iconst 0, 1) := dk_3 (dk_at dksX3_lackOf_1 17 rfl rfl)
theorem dX3_lackOf_40 : decode cX3_lackOf 40 = .ok (.iadd, 1) := dk_96 (dk_at dksX3_lackOf_1 18 rfl rfl)
theorem dX3_lackOf_41 : decode cX3_lackOf 41 = .ok (.istore_n 2, 1) := dk_61 (dk_at dksX3_lackOf_1 19 rfl rfl)
theorem dX3_lackOf_42 : decode cX3_lackOf 42 = .ok (.iinc 3 1, 3) := dk_132 3 1 (dk_at dksX3_lackOf_1 20 rfl rfl)
theorem dX3_lackOf_45 : decode cX3_lackOf 45 = .ok (.goto (-41), 3) := dk_167 255 215 (dk_at dksX3_lackOf_2 0 rfl rfl)
theorem dX3_lackOf_48 : decode cX3_lackOf 48 = .ok (.iconst 0, 1) := dk_3 (dk_at dksX3_lackOf_2 3 rfl rfl)
theorem dX3_lackOf_49 : decode cX3_lackOf 49 = .ok (.istore_n 3, 1) := dk_62 (dk_at dksX3_lackOf_2 4 rfl rfl)
theorem dX3_lackOf_50 : decode cX3_lackOf 50 = .ok (.iload_n 3, 1) := dk_29 (dk_at dksX3_lackOf_2 5 rfl rfl)
theorem dX3_lackOf_51 : decode cX3_lackOf 51 = .ok (.aload_n 0, 1) := dk_42 (dk_at dksX3_lackOf_2 6 rfl rfl)
theorem dX3_lackOf_52 : decode cX3_lackOf 52 = .ok (.getfield 7, 3) := dk_180 0 7 (dk_at dksX3_lackOf_2 7 rfl rfl)
theorem dX3_lackOf_55 : decode cX3_lackOf 55 = .ok (.sipush 230, 3) := dk_17 0 230 (dk_at dksX3_lackOf_2 10 rfl rfl)
theorem dX3_lackOf_58 : decode cX3_lackOf 58 = .ok (.iaload, 1) := dk_46 (dk_at dksX3_lackOf_2 13 rfl rfl)
theorem dX3_lackOf_59 : decode cX3_lackOf 59 = .ok (.if_icmp .ge 35, 3) := dk_162 0 35 (dk_at dksX3_lackOf_2 14 rfl rfl)
theorem dX3_lackOf_62 : decode cX3_lackOf 62 = .ok (.iload_n 2, 1) := dk_28 (dk_at dksX3_lackOf_2 17 rfl rfl)
theorem dX3_lackOf_63 : decode cX3_lackOf 63 = .ok (.aload_n 0, 1) := dk_42 (dk_at dksX3_lackOf_2 18 rfl rfl)
theorem dX3_lackOf_64 : decode cX3_lackOf 64 = .ok (.iload_n 3, 1) := dk_29 (dk_at dksX3_lackOf_2 19 rfl rfl)
theorem dX3_lackOf_65 : decode cX3_lackOf 65 = .ok (.invokevirtual 219, 3) := dk_182 0 219 (dk_at dksX3_lackOf_2 20 rfl rfl)
theorem dX3_lackOf_68 : decode cX3_lackOf 68 = .ok (.ifCond .eq 17, 3) := dk_153 0 17 (dk_at dksX3_lackOf_3 0 rfl rfl)
theorem dX3_lackOf_71 : decode cX3_lackOf 71 = .ok (.aload_n 0, 1) := dk_42 (dk_at dksX3_lackOf_3 3 rfl rfl)
theorem dX3_lackOf_72 : decode cX3_lackOf 72 = .ok (.iload_n 3, 1) := dk_29 (dk_at dksX3_lackOf_3 4 rfl rfl)
theorem dX3_lackOf_73 : decode cX3_lackOf 73 = .ok (.iconst 1, 1) := dk_4 (dk_at dksX3_lackOf_3 5 rfl rfl)
theorem dX3_lackOf_74 : decode cX3_lackOf 74 = .ok (.invokevirtual 202, 3) := dk_182 0 202 (dk_at dksX3_lackOf_3 6 rfl rfl)
theorem dX3_lackOf_77 : decode cX3_lackOf 77 = .ok (.iload_n 1, 1) := dk_27 (dk_at dksX3_lackOf_3 9 rfl rfl)
theorem dX3_lackOf_78 : decode cX3_lackOf 78 = .ok (.if_icmp .ne 7, 3) := dk_160 0 7 (dk_at dksX3_lackOf_3 10 rfl rfl)
theorem dX3_lackOf_81 : decode cX3_lackOf 81 = .ok (.iconst 1, 1) := dk_4 (dk_at dksX3_lackOf_3 13 rfl rfl)
theorem dX3_lackOf_82 : decode cX3_lackOf 82 = .ok (.goto 4, 3) := dk_167 0 4 (dk_at dksX3_lackOf_3 14 rfl rfl)
theorem dX3_lackOf_85 : decode cX3_lackOf 85 = .ok (.iconst 0, 1) := dk_3 (dk_at dksX3_lackOf_3 17 rfl rfl)
theorem dX3_lackOf_86 : decode cX3_lackOf 86 = .ok (.isub, 1) := dk_100 (dk_at dksX3_lackOf_3 18 rfl rfl)
theorem dX3_lackOf_87 : decode cX3_lackOf 87 = .ok (.istore_n 2, 1) := dk_61 (dk_at dksX3_lackOf_3 19 rfl rfl)
theorem dX3_lackOf_88 : decode cX3_lackOf 88 = .ok (.iinc 3 1, 3) := dk_132 3 1 (dk_at dksX3_lackOf_3 20 rfl rfl)
theorem dX3_lackOf_91 : decode cX3_lackOf 91 = .ok (.goto (-41), 3) := dk_167 255 215 (dk_at dksX3_lackOf_4 0 rfl rfl)
theorem dX3_lackOf_94 : decode cX3_lackOf 94 = .ok (.iload_n 2, 1) := dk_28 (dk_at dksX3_lackOf_4 3 rfl rfl)
theorem dX3_lackOf_95 : decode cX3_lackOf 95 = .ok (.ireturn, 1) := dk_172 (dk_at dksX3_lackOf_4 4 rfl rfl)
abbrev cX3_envy : ByteArray := prog_15_method_112_code
def yX3_envy : MethodName := ⟨RX3, "envy", "(I)I"⟩
def dkwX3_envy_7 : List UInt8 := [167, 0, 23, 42, 27, 4, 160, 0, 10, 29, 16, 8, 108, 167, 0, 7, 29, 16, 8, 112, 182, 0, 199, 172]
abbrev dktX3_envy_7 : List UInt8 := dkwX3_envy_7 ++ []
def dkwX3_envy_6 : List UInt8 := [167, 255, 138, 27, 154, 0, 9, 42, 28, 182, 0, 199, 172, 28, 154, 0, 11, 42, 8, 182, 0, 186]
abbrev dktX3_envy_6 : List UInt8 := dkwX3_envy_6 ++ dktX3_envy_7
def dkwX3_envy_5 : List UInt8 := [21, 4, 104, 21, 5, 96, 167, 0, 4, 29, 62, 132, 2, 1, 132, 5, 1, 167, 255, 163, 132, 4, 1]
abbrev dktX3_envy_5 : List UInt8 := dkwX3_envy_5 ++ dktX3_envy_6
def dkwX3_envy_4 : List UInt8 := [21, 5, 42, 21, 4, 7, 182, 0, 205, 182, 1, 104, 154, 0, 6, 167, 0, 23, 28, 154, 0, 14, 16, 8]
abbrev dktX3_envy_4 : List UInt8 := dkwX3_envy_4 ++ dktX3_envy_5
def dkwX3_envy_3 : List UInt8 := [182, 0, 205, 2, 159, 0, 58, 42, 21, 4, 42, 21, 5, 7, 182, 0, 205, 182, 1, 104, 153, 0, 42, 42]
abbrev dktX3_envy_3 : List UInt8 := dkwX3_envy_3 ++ dktX3_envy_4
def dkwX3_envy_2 : List UInt8 := [17, 0, 231, 46, 162, 0, 86, 42, 21, 4, 7, 182, 0, 205, 2, 159, 0, 69, 42, 21, 5, 7]
abbrev dktX3_envy_2 : List UInt8 := dkwX3_envy_2 ++ dktX3_envy_3
def dkwX3_envy_1 : List UInt8 := [42, 180, 0, 7, 17, 0, 231, 46, 162, 0, 111, 21, 4, 4, 96, 54, 5, 21, 5, 42, 180, 0, 7]
abbrev dktX3_envy_1 : List UInt8 := dkwX3_envy_1 ++ dktX3_envy_2
def dkwX3_envy_0 : List UInt8 := [27, 3, 5, 184, 0, 71, 154, 0, 9, 42, 4, 182, 0, 186, 172, 3, 61, 2, 62, 3, 54, 4, 21, 4]
abbrev dktX3_envy_0 : List UInt8 := dkwX3_envy_0 ++ dktX3_envy_1
theorem dksX3_envy_0 : cX3_envy.data.toList.drop 0 = dktX3_envy_0 := by decide +kernel
theorem dksX3_envy_1 : cX3_envy.data.toList.drop 24 = dktX3_envy_1 := dk_seg dksX3_envy_0 24 rfl rfl
theorem dksX3_envy_2 : cX3_envy.data.toList.drop 47 = dktX3_envy_2 := dk_seg dksX3_envy_1 23 rfl rfl
theorem dksX3_envy_3 : cX3_envy.data.toList.drop 69 = dktX3_envy_3 := dk_seg dksX3_envy_2 22 rfl rfl
theorem dksX3_envy_4 : cX3_envy.data.toList.drop 93 = dktX3_envy_4 := dk_seg dksX3_envy_3 24 rfl rfl
theorem dksX3_envy_5 : cX3_envy.data.toList.drop 117 = dktX3_envy_5 := dk_seg dksX3_envy_4 24 rfl rfl
theorem dksX3_envy_6 : cX3_envy.data.toList.drop 140 = dktX3_envy_6 := dk_seg dksX3_envy_5 23 rfl rfl
theorem dksX3_envy_7 : cX3_envy.data.toList.drop 162 = dktX3_envy_7 := dk_seg dksX3_envy_6 22 rfl rfl
theorem dX3_envy_0 : decode cX3_envy 0 = .ok (.iload_n 1, 1) := dk_27 (dk_at dksX3_envy_0 0 rfl rfl)
theorem dX3_envy_1 : decode cX3_envy 1 = .ok (.iconst 0, 1) := dk_3 (dk_at dksX3_envy_0 1 rfl rfl)
theorem dX3_envy_2 : decode cX3_envy 2 = .ok (.iconst 2, 1) := dk_5 (dk_at dksX3_envy_0 2 rfl rfl)
theorem dX3_envy_3 : decode cX3_envy 3 = .ok (.invokestatic 71, 3) := dk_184 0 71 (dk_at dksX3_envy_0 3 rfl rfl)
theorem dX3_envy_6 : decode cX3_envy 6 = .ok (.ifCond .ne 9, 3) := dk_154 0 9 (dk_at dksX3_envy_0 6 rfl rfl)
theorem dX3_envy_9 : decode cX3_envy 9 = .ok (.aload_n 0, 1) := dk_42 (dk_at dksX3_envy_0 9 rfl rfl)
theorem dX3_envy_10 : decode cX3_envy 10 = .ok (.iconst 1, 1) := dk_4 (dk_at dksX3_envy_0 10 rfl rfl)
theorem dX3_envy_11 : decode cX3_envy 11 = .ok (.invokevirtual 186, 3) := dk_182 0 186 (dk_at dksX3_envy_0 11 rfl rfl)
theorem dX3_envy_14 : decode cX3_envy 14 = .ok (.ireturn, 1) := dk_172 (dk_at dksX3_envy_0 14 rfl rfl)
theorem dX3_envy_15 : decode cX3_envy 15 = .ok (.iconst 0, 1) := dk_3 (dk_at dksX3_envy_0 15 rfl rfl)
theorem dX3_envy_16 : decode cX3_envy 16 = .ok (.istore_n 2, 1) := dk_61 (dk_at dksX3_envy_0 16 rfl rfl)
theorem dX3_envy_17 : decode cX3_envy 17 = .ok (.iconst (-1), 1) := dk_2 (dk_at dksX3_envy_0 17 rfl rfl)
theorem dX3_envy_18 : decode cX3_envy 18 = .ok (.istore_n 3, 1) := dk_62 (dk_at dksX3_envy_0 18 rfl rfl)
theorem dX3_envy_19 : decode cX3_envy 19 = .ok (.iconst 0, 1) := dk_3 (dk_at dksX3_envy_0 19 rfl rfl)
theorem dX3_envy_20 : decode cX3_envy 20 = .ok (.istore 4, 2) := dk_54 4 (dk_at dksX3_envy_0 20 rfl rfl)
theorem dX3_envy_22 : decode cX3_envy 22 = .ok (.iload 4, 2) := dk_21 4 (dk_at dksX3_envy_0 22 rfl rfl)
theorem dX3_envy_24 : decode cX3_envy 24 = .ok (.aload_n 0, 1) := dk_42 (dk_at dksX3_envy_1 0 rfl rfl)
theorem dX3_envy_25 : decode cX3_envy 25 = .ok (.getfield 7, 3) := dk_180 0 7 (dk_at dksX3_envy_1 1 rfl rfl)
theorem dX3_envy_28 : decode cX3_envy 28 = .ok (.sipush 231, 3) := dk_17 0 231 (dk_at dksX3_envy_1 4 rfl rfl)
theorem dX3_envy_31 : decode cX3_envy 31 = .ok (.iaload, 1) := dk_46 (dk_at dksX3_envy_1 7 rfl rfl)
theorem dX3_envy_32 : decode cX3_envy 32 = .ok (.if_icmp .ge 111, 3) := dk_162 0 111 (dk_at dksX3_envy_1 8 rfl rfl)
theorem dX3_envy_35 : decode cX3_envy 35 = .ok (.iload 4, 2) := dk_21 4 (dk_at dksX3_envy_1 11 rfl rfl)
theorem dX3_envy_37 : decode cX3_envy 37 = .ok (.iconst 1, 1) := dk_4 (dk_at dksX3_envy_1 13 rfl rfl)
theorem dX3_envy_38 : decode cX3_envy 38 = .ok (.iadd, 1) := dk_96 (dk_at dksX3_envy_1 14 rfl rfl)
theorem dX3_envy_39 : decode cX3_envy 39 = .ok (.istore 5, 2) := dk_54 5 (dk_at dksX3_envy_1 15 rfl rfl)
theorem dX3_envy_41 : decode cX3_envy 41 = .ok (.iload 5, 2) := dk_21 5 (dk_at dksX3_envy_1 17 rfl rfl)
theorem dX3_envy_43 : decode cX3_envy 43 = .ok (.aload_n 0, 1) := dk_42 (dk_at dksX3_envy_1 19 rfl rfl)
theorem dX3_envy_44 : decode cX3_envy 44 = .ok (.getfield 7, 3) := dk_180 0 7 (dk_at dksX3_envy_1 20 rfl rfl)
theorem dX3_envy_47 : decode cX3_envy 47 = .ok (.sipush 231, 3) := dk_17 0 231 (dk_at dksX3_envy_2 0 rfl rfl)
theorem dX3_envy_50 : decode cX3_envy 50 = .ok (.iaload, 1) := dk_46 (dk_at dksX3_envy_2 3 rfl rfl)
theorem dX3_envy_51 : decode cX3_envy 51 = .ok (.if_icmp .ge 86, 3) := dk_162 0 86 (dk_at dksX3_envy_2 4 rfl rfl)
theorem dX3_envy_54 : decode cX3_envy 54 = .ok (.aload_n 0, 1) := dk_42 (dk_at dksX3_envy_2 7 rfl rfl)
theorem dX3_envy_55 : decode cX3_envy 55 = .ok (.iload 4, 2) := dk_21 4 (dk_at dksX3_envy_2 8 rfl rfl)
theorem dX3_envy_57 : decode cX3_envy 57 = .ok (.iconst 4, 1) := dk_7 (dk_at dksX3_envy_2 10 rfl rfl)
theorem dX3_envy_58 : decode cX3_envy 58 = .ok (.invokevirtual 205, 3) := dk_182 0 205 (dk_at dksX3_envy_2 11 rfl rfl)
theorem dX3_envy_61 : decode cX3_envy 61 = .ok (.iconst (-1), 1) := dk_2 (dk_at dksX3_envy_2 14 rfl rfl)
theorem dX3_envy_62 : decode cX3_envy 62 = .ok (.if_icmp .eq 69, 3) := dk_159 0 69 (dk_at dksX3_envy_2 15 rfl rfl)
theorem dX3_envy_65 : decode cX3_envy 65 = .ok (.aload_n 0, 1) := dk_42 (dk_at dksX3_envy_2 18 rfl rfl)
theorem dX3_envy_66 : decode cX3_envy 66 = .ok (.iload 5, 2) := dk_21 5 (dk_at dksX3_envy_2 19 rfl rfl)
theorem dX3_envy_68 : decode cX3_envy 68 = .ok (.iconst 4, 1) := dk_7 (dk_at dksX3_envy_2 21 rfl rfl)
theorem dX3_envy_69 : decode cX3_envy 69 = .ok (.invokevirtual 205, 3) := dk_182 0 205 (dk_at dksX3_envy_3 0 rfl rfl)
theorem dX3_envy_72 : decode cX3_envy 72 = .ok (.iconst (-1), 1) := dk_2 (dk_at dksX3_envy_3 3 rfl rfl)
theorem dX3_envy_73 : decode cX3_envy 73 = .ok (.if_icmp .eq 58, 3) := dk_159 0 58 (dk_at dksX3_envy_3 4 rfl rfl)
theorem dX3_envy_76 : decode cX3_envy 76 = .ok (.aload_n 0, 1) := dk_42 (dk_at dksX3_envy_3 7 rfl rfl)
theorem dX3_envy_77 : decode cX3_envy 77 = .ok (.iload 4, 2) := dk_21 4 (dk_at dksX3_envy_3 8 rfl rfl)
theorem dX3_envy_79 : decode cX3_envy 79 = .ok (.aload_n 0, 1) := dk_42 (dk_at dksX3_envy_3 10 rfl rfl)
theorem dX3_envy_80 : decode cX3_envy 80 = .ok (.iload 5, 2) := dk_21 5 (dk_at dksX3_envy_3 11 rfl rfl)
theorem dX3_envy_82 : decode cX3_envy 82 = .ok (.iconst 4, 1) := dk_7 (dk_at dksX3_envy_3 13 rfl rfl)
theorem dX3_envy_83 : decode cX3_envy 83 = .ok (.invokevirtual 205, 3) := dk_182 0 205 (dk_at dksX3_envy_3 14 rfl rfl)
theorem dX3_envy_86 : decode cX3_envy 86 = .ok (.invokevirtual 360, 3) := dk_182 1 104 (dk_at dksX3_envy_3 17 rfl rfl)
theorem dX3_envy_89 : decode cX3_envy 89 = .ok (.ifCond .eq 42, 3) := dk_153 0 42 (dk_at dksX3_envy_3 20 rfl rfl)
theorem dX3_envy_92 : decode cX3_envy 92 = .ok (.aload_n 0, 1) := dk_42 (dk_at dksX3_envy_3 23 rfl rfl)
theorem dX3_envy_93 : decode cX3_envy 93 = .ok (.iload 5, 2) := dk_21 5 (dk_at dksX3_envy_4 0 rfl rfl)
theorem dX3_envy_95 : decode cX3_envy 95 = .ok (.aload_n 0, 1) := dk_42 (dk_at dksX3_envy_4 2 rfl rfl)
theorem dX3_envy_96 : decode cX3_envy 96 = .ok (.iload 4, 2) := dk_21 4 (dk_at dksX3_envy_4 3 rfl rfl)
theorem dX3_envy_98 : decode cX3_envy 98 = .ok (.iconst 4, 1) := dk_7 (dk_at dksX3_envy_4 5 rfl rfl)
theorem dX3_envy_99 : decode cX3_envy 99 = .ok (.invokevirtual 205, 3) := dk_182 0 205 (dk_at dksX3_envy_4 6 rfl rfl)
theorem dX3_envy_102 : decode cX3_envy 102 = .ok (.invokevirtual 360, 3) := dk_182 1 104 (dk_at dksX3_envy_4 9 rfl rfl)
theorem dX3_envy_105 : decode cX3_envy 105 = .ok (.ifCond .ne 6, 3) := dk_154 0 6 (dk_at dksX3_envy_4 12 rfl rfl)
theorem dX3_envy_108 : decode cX3_envy 108 = .ok (.goto 23, 3) := dk_167 0 23 (dk_at dksX3_envy_4 15 rfl rfl)
theorem dX3_envy_111 : decode cX3_envy 111 = .ok (.iload_n 2, 1) := dk_28 (dk_at dksX3_envy_4 18 rfl rfl)
theorem dX3_envy_112 : decode cX3_envy 112 = .ok (.ifCond .ne 14, 3) := dk_154 0 14 (dk_at dksX3_envy_4 19 rfl rfl)
theorem dX3_envy_115 : decode cX3_envy 115 = .ok (.bipush 8, 2) := dk_16 8 (dk_at dksX3_envy_4 22 rfl rfl)
theorem dX3_envy_117 : decode cX3_envy 117 = .ok (.iload 4, 2) := dk_21 4 (dk_at dksX3_envy_5 0 rfl rfl)
theorem dX3_envy_119 : decode cX3_envy 119 = .ok (.imul, 1) := dk_104 (dk_at dksX3_envy_5 2 rfl rfl)
theorem dX3_envy_120 : decode cX3_envy 120 = .ok (.iload 5, 2) := dk_21 5 (dk_at dksX3_envy_5 3 rfl rfl)
theorem dX3_envy_122 : decode cX3_envy 122 = .ok (.iadd, 1) := dk_96 (dk_at dksX3_envy_5 5 rfl rfl)
theorem dX3_envy_123 : decode cX3_envy 123 = .ok (.goto 4, 3) := dk_167 0 4 (dk_at dksX3_envy_5 6 rfl rfl)
theorem dX3_envy_126 : decode cX3_envy 126 = .ok (.iload_n 3, 1) := dk_29 (dk_at dksX3_envy_5 9 rfl rfl)
theorem dX3_envy_127 : decode cX3_envy 127 = .ok (.istore_n 3, 1) := dk_62 (dk_at dksX3_envy_5 10 rfl rfl)
theorem dX3_envy_128 : decode cX3_envy 128 = .ok (.iinc 2 1, 3) := dk_132 2 1 (dk_at dksX3_envy_5 11 rfl rfl)
theorem dX3_envy_131 : decode cX3_envy 131 = .ok (.iinc 5 1, 3) := dk_132 5 1 (dk_at dksX3_envy_5 14 rfl rfl)
theorem dX3_envy_134 : decode cX3_envy 134 = .ok (.goto (-93), 3) := dk_167 255 163 (dk_at dksX3_envy_5 17 rfl rfl)
theorem dX3_envy_137 : decode cX3_envy 137 = .ok (.iinc 4 1, 3) := dk_132 4 1 (dk_at dksX3_envy_5 20 rfl rfl)
theorem dX3_envy_140 : decode cX3_envy 140 = .ok (.goto (-118), 3) := dk_167 255 138 (dk_at dksX3_envy_6 0 rfl rfl)
theorem dX3_envy_143 : decode cX3_envy 143 = .ok (.iload_n 1, 1) := dk_27 (dk_at dksX3_envy_6 3 rfl rfl)
theorem dX3_envy_144 : decode cX3_envy 144 = .ok (.ifCond .ne 9, 3) := dk_154 0 9 (dk_at dksX3_envy_6 4 rfl rfl)
theorem dX3_envy_147 : decode cX3_envy 147 = .ok (.aload_n 0, 1) := dk_42 (dk_at dksX3_envy_6 7 rfl rfl)
theorem dX3_envy_148 : decode cX3_envy 148 = .ok (.iload_n 2, 1) := dk_28 (dk_at dksX3_envy_6 8 rfl rfl)
theorem dX3_envy_149 : decode cX3_envy 149 = .ok (.invokevirtual 199, 3) := dk_182 0 199 (dk_at dksX3_envy_6 9 rfl rfl)
theorem dX3_envy_152 : decode cX3_envy 152 = .ok (.ireturn, 1) := dk_172 (dk_at dksX3_envy_6 12 rfl rfl)
theorem dX3_envy_153 : decode cX3_envy 153 = .ok (.iload_n 2, 1) := dk_28 (dk_at dksX3_envy_6 13 rfl rfl)
theorem dX3_envy_154 : decode cX3_envy 154 = .ok (.ifCond .ne 11, 3) := dk_154 0 11 (dk_at dksX3_envy_6 14 rfl rfl)
theorem dX3_envy_157 : decode cX3_envy 157 = .ok (.aload_n 0, 1) := dk_42 (dk_at dksX3_envy_6 17 rfl rfl)
theorem dX3_envy_158 : decode cX3_envy 158 = .ok (.iconst 5, 1) := dk_8 (dk_at dksX3_envy_6 18 rfl rfl)
theorem dX3_envy_159 : decode cX3_envy 159 = .ok (.invokevirtual 186, 3) := dk_182 0 186 (dk_at dksX3_envy_6 19 rfl rfl)
theorem dX3_envy_162 : decode cX3_envy 162 = .ok (.goto 23, 3) := dk_167 0 23 (dk_at dksX3_envy_7 0 rfl rfl)
theorem dX3_envy_165 : decode cX3_envy 165 = .ok (.aload_n 0, 1) := dk_42 (dk_at dksX3_envy_7 3 rfl rfl)
theorem dX3_envy_166 : decode cX3_envy 166 = .ok (.iload_n 1, 1) := dk_27 (dk_at dksX3_envy_7 4 rfl rfl)
theorem dX3_envy_167 : decode cX3_envy 167 = .ok (.iconst 1, 1) := dk_4 (dk_at dksX3_envy_7 5 rfl rfl)
theorem dX3_envy_168 : decode cX3_envy 168 = .ok (.if_icmp .ne 10, 3) := dk_160 0 10 (dk_at dksX3_envy_7 6 rfl rfl)
theorem dX3_envy_171 : decode cX3_envy 171 = .ok (.iload_n 3, 1) := dk_29 (dk_at dksX3_envy_7 9 rfl rfl)
theorem dX3_envy_172 : decode cX3_envy 172 = .ok (.bipush 8, 2) := dk_16 8 (dk_at dksX3_envy_7 10 rfl rfl)
theorem dX3_envy_174 : decode cX3_envy 174 = .ok (.idiv, 1) := dk_108 (dk_at dksX3_envy_7 12 rfl rfl)
theorem dX3_envy_175 : decode cX3_envy 175 = .ok (.goto 7, 3) := dk_167 0 7 (dk_at dksX3_envy_7 13 rfl rfl)
theorem dX3_envy_178 : decode cX3_envy 178 = .ok (.iload_n 3, 1) := dk_29 (dk_at dksX3_envy_7 16 rfl rfl)
theorem dX3_envy_179 : decode cX3_envy 179 = .ok (.bipush 8, 2) := dk_16 8 (dk_at dksX3_envy_7 17 rfl rfl)
theorem dX3_envy_181 : decode cX3_envy 181 = .ok (.irem, 1) := dk_112 (dk_at dksX3_envy_7 19 rfl rfl)
theorem dX3_envy_182 : decode cX3_envy 182 = .ok (.invokevirtual 199, 3) := dk_182 0 199 (dk_at dksX3_envy_7 20 rfl rfl)
theorem dX3_envy_185 : decode cX3_envy 185 = .ok (.ireturn, 1) := dk_172 (dk_at dksX3_envy_7 23 rfl rfl)
abbrev cX3_isRather : ByteArray := prog_15_method_111_code
def yX3_isRather : MethodName := ⟨RX3, "isRather", "(II)Z"⟩
def dkwX3_isRather_2 : List UInt8 := [4, 167, 0, 4, 3, 172]
abbrev dktX3_isRather_2 : List UInt8 := dkwX3_isRather_2 ++ []
def dkwX3_isRather_1 : List UInt8 := [159, 0, 28, 42, 27, 28, 182, 0, 250, 153, 0, 19, 21, 4, 2, 159, 0, 9, 29, 21, 4, 162, 0, 7]
abbrev dktX3_isRather_1 : List UInt8 := dkwX3_isRather_1 ++ dktX3_isRather_2
def dkwX3_isRather_0 : List UInt8 := [42, 27, 28, 182, 0, 216, 62, 42, 27, 42, 27, 7, 182, 0, 205, 182, 0, 216, 54, 4, 29, 2]
abbrev dktX3_isRather_0 : List UInt8 := dkwX3_isRather_0 ++ dktX3_isRather_1
theorem dksX3_isRather_0 : cX3_isRather.data.toList.drop 0 = dktX3_isRather_0 := by decide +kernel
theorem dksX3_isRather_1 : cX3_isRather.data.toList.drop 22 = dktX3_isRather_1 := dk_seg dksX3_isRather_0 22 rfl rfl
theorem dksX3_isRather_2 : cX3_isRather.data.toList.drop 46 = dktX3_isRather_2 := dk_seg dksX3_isRather_1 24 rfl rfl
theorem dX3_isRather_0 : decode cX3_isRather 0 = .ok (.aload_n 0, 1) := dk_42 (dk_at dksX3_isRather_0 0 rfl rfl)
theorem dX3_isRather_1 : decode cX3_isRather 1 = .ok (.iload_n 1, 1) := dk_27 (dk_at dksX3_isRather_0 1 rfl rfl)
theorem dX3_isRather_2 : decode cX3_isRather 2 = .ok (.iload_n 2, 1) := dk_28 (dk_at dksX3_isRather_0 2 rfl rfl)
theorem dX3_isRather_3 : decode cX3_isRather 3 = .ok (.invokevirtual 216, 3) := dk_182 0 216 (dk_at dksX3_isRather_0 3 rfl rfl)
theorem dX3_isRather_6 : decode cX3_isRather 6 = .ok (.istore_n 3, 1) := dk_62 (dk_at dksX3_isRather_0 6 rfl rfl)
theorem dX3_isRather_7 : decode cX3_isRather 7 = .ok (.aload_n 0, 1) := dk_42 (dk_at dksX3_isRather_0 7 rfl rfl)
theorem dX3_isRather_8 : decode cX3_isRather 8 = .ok (.iload_n 1, 1) := dk_27 (dk_at dksX3_isRather_0 8 rfl rfl)
theorem dX3_isRather_9 : decode cX3_isRather 9 = .ok (.aload_n 0, 1) := dk_42 (dk_at dksX3_isRather_0 9 rfl rfl)
theorem dX3_isRather_10 : decode cX3_isRather 10 = .ok (.iload_n 1, 1) := dk_27 (dk_at dksX3_isRather_0 10 rfl rfl)
theorem dX3_isRather_11 : decode cX3_isRather 11 = .ok (.iconst 4, 1) := dk_7 (dk_at dksX3_isRather_0 11 rfl rfl)
theorem dX3_isRather_12 : decode cX3_isRather 12 = .ok (.invokevirtual 205, 3) := dk_182 0 205 (dk_at dksX3_isRather_0 12 rfl rfl)
theorem dX3_isRather_15 : decode cX3_isRather 15 = .ok (.invokevirtual 216, 3) := dk_182 0 216 (dk_at dksX3_isRather_0 15 rfl rfl)
theorem dX3_isRather_18 : decode cX3_isRather 18 = .ok (.istore 4, 2) := dk_54 4 (dk_at dksX3_isRather_0 18 rfl rfl)
theorem dX3_isRather_20 : decode cX3_isRather 20 = .ok (.iload_n 3, 1) := dk_29 (dk_at dksX3_isRather_0 20 rfl rfl)
theorem dX3_isRather_21 : decode cX3_isRather 21 = .ok (.iconst (-1), 1) := dk_2 (dk_at dksX3_isRather_0 21 rfl rfl)
theorem dX3_isRather_22 : decode cX3_isRather 22 = .ok (.if_icmp .eq 28, 3) := dk_159 0 28 (dk_at dksX3_isRather_1 0 rfl rfl)
theorem dX3_isRather_25 : decode cX3_isRather 25 = .ok (.aload_n 0, 1) := dk_42 (dk_at dksX3_isRather_1 3 rfl rfl)
theorem dX3_isRather_26 : decode cX3_isRather 26 = .ok (.iload_n 1, 1) := dk_27 (dk_at dksX3_isRather_1 4 rfl rfl)
theorem dX3_isRather_27 : decode cX3_isRather 27 = .ok (.iload_n 2, 1) := dk_28 (dk_at dksX3_isRather_1 5 rfl rfl)
theorem dX3_isRather_28 : decode cX3_isRather 28 = .ok (.invokevirtual 250, 3) := dk_182 0 250 (dk_at dksX3_isRather_1 6 rfl rfl)
theorem dX3_isRather_31 : decode cX3_isRather 31 = .ok (.ifCond .eq 19, 3) := dk_153 0 19 (dk_at dksX3_isRather_1 9 rfl rfl)
theorem dX3_isRather_34 : decode cX3_isRather 34 = .ok (.iload 4, 2) := dk_21 4 (dk_at dksX3_isRather_1 12 rfl rfl)
theorem dX3_isRather_36 : decode cX3_isRather 36 = .ok (.iconst (-1), 1) := dk_2 (dk_at dksX3_isRather_1 14 rfl rfl)
theorem dX3_isRather_37 : decode cX3_isRather 37 = .ok (.if_icmp .eq 9, 3) := dk_159 0 9 (dk_at dksX3_isRather_1 15 rfl rfl)
theorem dX3_isRather_40 : decode cX3_isRather 40 = .ok (.iload_n 3, 1) := dk_29 (dk_at dksX3_isRather_1 18 rfl rfl)
theorem dX3_isRather_41 : decode cX3_isRather 41 = .ok (.iload 4, 2) := dk_21 4 (dk_at dksX3_isRather_1 19 rfl rfl)
theorem dX3_isRather_43 : decode cX3_isRather 43 = .ok (.if_icmp .ge 7, 3) := dk_162 0 7 (dk_at dksX3_isRather_1 21 rfl rfl)
theorem dX3_isRather_46 : decode cX3_isRather 46 = .ok (.iconst 1, 1) := dk_4 (dk_at dksX3_isRather_2 0 rfl rfl)
theorem dX3_isRather_47 : decode cX3_isRather 47 = .ok (.goto 4, 3) := dk_167 0 4 (dk_at dksX3_isRather_2 1 rfl rfl)
theorem dX3_isRather_50 : decode cX3_isRather 50 = .ok (.iconst 0, 1) := dk_3 (dk_at dksX3_isRather_2 4 rfl rfl)
theorem dX3_isRather_51 : decode cX3_isRather 51 = .ok (.ireturn, 1) := dk_172 (dk_at dksX3_isRather_2 5 rfl rfl)
abbrev cX3_lever : ByteArray := prog_15_method_114_code
def yX3_lever : MethodName := ⟨RX3, "lever", "(II)I"⟩
def dkwX3_lever_8 : List UInt8 := [182, 0, 199, 172]
abbrev dktX3_lever_8 : List UInt8 := dkwX3_lever_8 ++ []
def dkwX3_lever_7 : List UInt8 := [167, 255, 130, 42, 28, 154, 0, 7, 29, 167, 0, 15, 28, 4, 160, 0, 8, 21, 4, 167, 0, 5, 21, 5]
abbrev dktX3_lever_7 : List UInt8 := dkwX3_lever_7 ++ dktX3_lever_8
def dkwX3_lever_6 : List UInt8 := [163, 0, 6, 167, 0, 16, 21, 9, 62, 21, 6, 5, 108, 54, 4, 21, 8, 54, 5, 132, 6, 1]
abbrev dktX3_lever_6 : List UInt8 := dkwX3_lever_6 ++ dktX3_lever_7
def dkwX3_lever_5 : List UInt8 := [182, 1, 107, 54, 9, 42, 180, 0, 7, 17, 0, 224, 21, 6, 5, 108, 96, 21, 7, 79, 21, 9, 29]
abbrev dktX3_lever_5 : List UInt8 := dkwX3_lever_5 ++ dktX3_lever_6
def dkwX3_lever_4 : List UInt8 := [154, 0, 6, 167, 0, 62, 42, 180, 0, 7, 17, 0, 224, 21, 6, 5, 108, 96, 21, 8, 79, 42, 27]
abbrev dktX3_lever_4 : List UInt8 := dkwX3_lever_4 ++ dktX3_lever_5
def dkwX3_lever_3 : List UInt8 := [4, 96, 54, 8, 21, 8, 21, 6, 5, 108, 184, 0, 171, 21, 6, 5, 108, 184, 0, 174, 184, 0, 71]
abbrev dktX3_lever_3 : List UInt8 := dkwX3_lever_3 ++ dktX3_lever_4
def dkwX3_lever_2 : List UInt8 := [17, 0, 224, 21, 6, 5, 108, 96, 46, 54, 7, 21, 7, 21, 6, 5, 112, 154, 0, 7, 2, 167, 0, 4]
abbrev dktX3_lever_2 : List UInt8 := dkwX3_lever_2 ++ dktX3_lever_3
def dkwX3_lever_1 : List UInt8 := [172, 2, 62, 3, 54, 4, 3, 54, 5, 3, 54, 6, 21, 6, 16, 12, 162, 0, 125, 42, 180, 0, 7]
abbrev dktX3_lever_1 : List UInt8 := dkwX3_lever_1 ++ dktX3_lever_2
def dkwX3_lever_0 : List UInt8 := [27, 4, 16, 30, 184, 0, 71, 153, 0, 12, 28, 3, 5, 184, 0, 71, 154, 0, 9, 42, 4, 182, 0, 186]
abbrev dktX3_lever_0 : List UInt8 := dkwX3_lever_0 ++ dktX3_lever_1
theorem dksX3_lever_0 : cX3_lever.data.toList.drop 0 = dktX3_lever_0 := by decide +kernel
theorem dksX3_lever_1 : cX3_lever.data.toList.drop 24 = dktX3_lever_1 := dk_seg dksX3_lever_0 24 rfl rfl
theorem dksX3_lever_2 : cX3_lever.data.toList.drop 47 = dktX3_lever_2 := dk_seg dksX3_lever_1 23 rfl rfl
theorem dksX3_lever_3 : cX3_lever.data.toList.drop 71 = dktX3_lever_3 := dk_seg dksX3_lever_2 24 rfl rfl
theorem dksX3_lever_4 : cX3_lever.data.toList.drop 94 = dktX3_lever_4 := dk_seg dksX3_lever_3 23 rfl rfl
theorem dksX3_lever_5 : cX3_lever.data.toList.drop 117 = dktX3_lever_5 := dk_seg dksX3_lever_4 23 rfl rfl
theorem dksX3_lever_6 : cX3_lever.data.toList.drop 140 = dktX3_lever_6 := dk_seg dksX3_lever_5 23 rfl rfl
theorem dksX3_lever_7 : cX3_lever.data.toList.drop 162 = dktX3_lever_7 := dk_seg dksX3_lever_6 22 rfl rfl
theorem dksX3_lever_8 : cX3_lever.data.toList.drop 186 = dktX3_lever_8 := dk_seg dksX3_lever_7 24 rfl rfl
theorem dX3_lever_0 : decode cX3_lever 0 = .ok (.iload_n 1, 1) := dk_27 (dk_at dksX3_lever_0 0 rfl rfl)
theorem dX3_lever_1 : decode cX3_lever 1 = .ok (.iconst 1, 1) := dk_4 (dk_at dksX3_lever_0 1 rfl rfl)
theorem dX3_lever_2 : decode cX3_lever 2 = .ok (.bipush 30, 2) := dk_16 30 (dk_at dksX3_lever_0 2 rfl rfl)
theorem dX3_lever_4 : decode cX3_lever 4 = .ok (.invokestatic 71, 3) := dk_184 0 71 (dk_at dksX3_lever_0 4 rfl rfl)
theorem dX3_lever_7 : decode cX3_lever 7 = .ok (.ifCond .eq 12, 3) := dk_153 0 12 (dk_at dksX3_lever_0 7 rfl rfl)
theorem dX3_lever_10 : decode cX3_lever 10 = .ok (.iload_n 2, 1) := dk_28 (dk_at dksX3_lever_0 10 rfl rfl)
theorem dX3_lever_11 : decode cX3_lever 11 = .ok (.iconst 0, 1) := dk_3 (dk_at dksX3_lever_0 11 rfl rfl)
theorem dX3_lever_12 : decode cX3_lever 12 = .ok (.iconst 2, 1) := dk_5 (dk_at dksX3_lever_0 12 rfl rfl)
theorem dX3_lever_13 : decode cX3_lever 13 = .ok (.invokestatic 71, 3) := dk_184 0 71 (dk_at dksX3_lever_0 13 rfl rfl)
theorem dX3_lever_16 : decode cX3_lever 16 = .ok (.ifCond .ne 9, 3) := dk_154 0 9 (dk_at dksX3_lever_0 16 rfl rfl)
theorem dX3_lever_19 : decode cX3_lever 19 = .ok (.aload_n 0, 1) := dk_42 (dk_at dksX3_lever_0 19 rfl rfl)
theorem dX3_lever_20 : decode cX3_lever 20 = .ok (.iconst 1, 1) := dk_4 (dk_at dksX3_lever_0 20 rfl rfl)
theorem dX3_lever_21 : decode cX3_lever 21 = .ok (.invokevirtual 186, 3) := dk_182 0 186 (dk_at dksX3_lever_0 21 rfl rfl)
theorem dX3_lever_24 : decode cX3_lever 24 = .ok (.ireturn, 1) := dk_172 (dk_at dksX3_lever_1 0 rfl rfl)
theorem dX3_lever_25 : decode cX3_lever 25 = .ok (.iconst (-1), 1) := dk_2 (dk_at dksX3_lever_1 1 rfl rfl)
theorem dX3_lever_26 : decode cX3_lever 26 = .ok (.istore_n 3, 1) := dk_62 (dk_at dksX3_lever_1 2 rfl rfl)
theorem dX3_lever_27 : decode cX3_lever 27 = .ok (.iconst 0, 1) := dk_3 (dk_at dksX3_lever_1 3 rfl rfl)
theorem dX3_lever_28 : decode cX3_lever 28 = .ok (.istore 4, 2) := dk_54 4 (dk_at dksX3_lever_1 4 rfl rfl)
theorem dX3_lever_30 : decode cX3_lever 30 = .ok (.iconst 0, 1) := dk_3 (dk_at dksX3_lever_1 6 rfl rfl)
theorem dX3_lever_31 : decode cX3_lever 31 = .ok (.istore 5, 2) := dk_54 5 (dk_at dksX3_lever_1 7 rfl rfl)
theorem dX3_lever_33 : decode cX3_lever 33 = .ok (.iconst 0, 1) := dk_3 (dk_at dksX3_lever_1 9 rfl rfl)
theorem dX3_lever_34 : decode cX3_lever 34 = .ok (.istore 6, 2) := dk_54 6 (dk_at dksX3_lever_1 10 rfl rfl)
theorem dX3_lever_36 : decode cX3_lever 36 = .ok (.iload 6, 2) := dk_21 6 (dk_at dksX3_lever_1 12 rfl rfl)
theorem dX3_lever_38 : decode cX3_lever 38 = .ok (.bipush 12, 2) := dk_16 12 (dk_at dksX3_lever_1 14 rfl rfl)
theorem dX3_lever_40 : decode cX3_lever 40 = .ok (.if_icmp .ge 125, 3) := dk_162 0 125 (dk_at dksX3_lever_1 16 rfl rfl)
theorem dX3_lever_43 : decode cX3_lever 43 = .ok (.aload_n 0, 1) := dk_42 (dk_at dksX3_lever_1 19 rfl rfl)
theorem dX3_lever_44 : decode cX3_lever 44 = .ok (.getfield 7, 3) := dk_180 0 7 (dk_at dksX3_lever_1 20 rfl rfl)
theorem dX3_lever_47 : decode cX3_lever 47 = .ok (.sipush 224, 3) := dk_17 0 224 (dk_at dksX3_lever_2 0 rfl rfl)
theorem dX3_lever_50 : decode cX3_lever 50 = .ok (.iload 6, 2) := dk_21 6 (dk_at dksX3_lever_2 3 rfl rfl)
theorem dX3_lever_52 : decode cX3_lever 52 = .ok (.iconst 2, 1) := dk_5 (dk_at dksX3_lever_2 5 rfl rfl)
theorem dX3_lever_53 : decode cX3_lever 53 = .ok (.idiv, 1) := dk_108 (dk_at dksX3_lever_2 6 rfl rfl)
theorem dX3_lever_54 : decode cX3_lever 54 = .ok (.iadd, 1) := dk_96 (dk_at dksX3_lever_2 7 rfl rfl)
theorem dX3_lever_55 : decode cX3_lever 55 = .ok (.iaload, 1) := dk_46 (dk_at dksX3_lever_2 8 rfl rfl)
theorem dX3_lever_56 : decode cX3_lever 56 = .ok (.istore 7, 2) := dk_54 7 (dk_at dksX3_lever_2 9 rfl rfl)
theorem dX3_lever_58 : decode cX3_lever 58 = .ok (.iload 7, 2) := dk_21 7 (dk_at dksX3_lever_2 11 rfl rfl)
theorem dX3_lever_60 : decode cX3_lever 60 = .ok (.iload 6, 2) := dk_21 6 (dk_at dksX3_lever_2 13 rfl rfl)
theorem dX3_lever_62 : decode cX3_lever 62 = .ok (.iconst 2, 1) := dk_5 (dk_at dksX3_lever_2 15 rfl rfl)
theorem dX3_lever_63 : decode cX3_lever 63 = .ok (.irem, 1) := dk_112 (dk_at dksX3_lever_2 16 rfl rfl)
theorem dX3_lever_64 : decode cX3_lever 64 = .ok (.ifCond .ne 7, 3) := dk_154 0 7 (dk_at dksX3_lever_2 17 rfl rfl)
theorem dX3_lever_67 : decode cX3_lever 67 = .ok (.iconst (-1), 1) := dk_2 (dk_at dksX3_lever_2 20 rfl rfl)
theorem dX3_lever_68 : decode cX3_lever 68 = .ok (.goto 4, 3) := dk_167 0 4 (dk_at dksX3_lever_2 21 rfl rfl)
theorem dX3_lever_71 : decode cX3_lever 71 = .ok (.iconst 1, 1) := dk_4 (dk_at dksX3_lever_3 0 rfl rfl)
theorem dX3_lever_72 : decode cX3_lever 72 = .ok (.iadd, 1) := dk_96 (dk_at dksX3_lever_3 1 rfl rfl)
theorem dX3_lever_73 : decode cX3_lever 73 = .ok (.istore 8, 2) := dk_54 8 (dk_at dksX3_lever_3 2 rfl rfl)
theorem dX3_lever_75 : decode cX3_lever 75 = .ok (.iload 8, 2) := dk_21 8 (dk_at dksX3_lever_3 4 rfl rfl)
theorem dX3_lever_77 : decode cX3_lever 77 = .ok (.iload 6, 2) := dk_21 6 (dk_at dksX3_lever_3 6 rfl rfl)
theorem dX3_lever_79 : decode cX3_lever 79 = .ok (.iconst 2, 1) := dk_5 (dk_at dksX3_lever_3 8 rfl rfl)
theorem dX3_lever_80 : decode cX3_lever 80 = .ok (.idiv, 1) := dk_108 (dk_at dksX3_lever_3 9 rfl rfl)
theorem dX3_lever_81 : decode cX3_lever 81 = .ok (.invokestatic 171, 3) := dk_184 0 171 (dk_at dksX3_lever_3 10 rfl rfl)
theorem dX3_lever_84 : decode cX3_lever 84 = .ok (.iload 6, 2) := dk_21 6 (dk_at dksX3_lever_3 13 rfl rfl)
theorem dX3_lever_86 : decode cX3_lever 86 = .ok (.iconst 2, 1) := dk_5 (dk_at dksX3_lever_3 15 rfl rfl)
theorem dX3_lever_87 : decode cX3_lever 87 = .ok (.idiv, 1) := dk_108 (dk_at dksX3_lever_3 16 rfl rfl)
theorem dX3_lever_88 : decode cX3_lever 88 = .ok (.invokestatic 174, 3) := dk_184 0 174 (dk_at dksX3_lever_3 17 rfl rfl)
theorem dX3_lever_91 : decode cX3_lever 91 = .ok (.invokestatic 71, 3) := dk_184 0 71 (dk_at dksX3_lever_3 20 rfl rfl)
theorem dX3_lever_94 : decode cX3_lever 94 = .ok (.ifCond .ne 6, 3) := dk_154 0 6 (dk_at dksX3_lever_4 0 rfl rfl)
theorem dX3_lever_97 : decode cX3_lever 97 = .ok (.goto 62, 3) := dk_167 0 62 (dk_at dksX3_lever_4 3 rfl rfl)
theorem dX3_lever_100 : decode cX3_lever 100 = .ok (.aload_n 0, 1) := dk_42 (dk_at dksX3_lever_4 6 rfl rfl)
theorem dX3_lever_101 : decode cX3_lever 101 = .ok (.getfield 7, 3) := dk_180 0 7 (dk_at dksX3_lever_4 7 rfl rfl)
theorem dX3_lever_104 : decode cX3_lever 104 = .ok (.sipush 224, 3) := dk_17 0 224 (dk_at dksX3_lever_4 10 rfl rfl)
theorem dX3_lever_107 : decode cX3_lever 107 = .ok (.iload 6, 2) := dk_21 6 (dk_at dksX3_lever_4 13 rfl rfl)
theorem dX3_lever_109 : decode cX3_lever 109 = .ok (.iconst 2, 1) := dk_5 (dk_at dksX3_lever_4 15 rfl rfl)
theorem dX3_lever_110 : decode cX3_lever 110 = .ok (.idiv, 1) := dk_108 (dk_at dksX3_lever_4 16 rfl rfl)
theorem dX3_lever_111 : decode cX3_lever 111 = .ok (.iadd, 1) := dk_96 (dk_at dksX3_lever_4 17 rfl rfl)
theorem dX3_lever_112 : decode cX3_lever 112 = .ok (.iload 8, 2) := dk_21 8 (dk_at dksX3_lever_4 18 rfl rfl)
theorem dX3_lever_114 : decode cX3_lever 114 = .ok (.iastore, 1) := dk_79 (dk_at dksX3_lever_4 20 rfl rfl)
theorem dX3_lever_115 : decode cX3_lever 115 = .ok (.aload_n 0, 1) := dk_42 (dk_at dksX3_lever_4 21 rfl rfl)
theorem dX3_lever_116 : decode cX3_lever 116 = .ok (.iload_n 1, 1) := dk_27 (dk_at dksX3_lever_4 22 rfl rfl)
theorem dX3_lever_117 : decode cX3_lever 117 = .ok (.invokevirtual 363, 3) := dk_182 1 107 (dk_at dksX3_lever_5 0 rfl rfl)
theorem dX3_lever_120 : decode cX3_lever 120 = .ok (.istore 9, 2) := dk_54 9 (dk_at dksX3_lever_5 3 rfl rfl)
theorem dX3_lever_122 : decode cX3_lever 122 = .ok (.aload_n 0, 1) := dk_42 (dk_at dksX3_lever_5 5 rfl rfl)
theorem dX3_lever_123 : decode cX3_lever 123 = .ok (.getfield 7, 3) := dk_180 0 7 (dk_at dksX3_lever_5 6 rfl rfl)
theorem dX3_lever_126 : decode cX3_lever 126 = .ok (.sipush 224, 3) := dk_17 0 224 (dk_at dksX3_lever_5 9 rfl rfl)
theorem dX3_lever_129 : decode cX3_lever 129 = .ok (.iload 6, 2) := dk_21 6 (dk_at dksX3_lever_5 12 rfl rfl)
theorem dX3_lever_131 : decode cX3_lever 131 = .ok (.iconst 2, 1) := dk_5 (dk_at dksX3_lever_5 14 rfl rfl)
theorem dX3_lever_132 : decode cX3_lever 132 = .ok (.idiv, 1) := dk_108 (dk_at dksX3_lever_5 15 rfl rfl)
theorem dX3_lever_133 : decode cX3_lever 133 = .ok (.iadd, 1) := dk_96 (dk_at dksX3_lever_5 16 rfl rfl)
theorem dX3_lever_134 : decode cX3_lever 134 = .ok (.iload 7, 2) := dk_21 7 (dk_at dksX3_lever_5 17 rfl rfl)
theorem dX3_lever_136 : decode cX3_lever 136 = .ok (.iastore, 1) := dk_79 (dk_at dksX3_lever_5 19 rfl rfl)
theorem dX3_lever_137 : decode cX3_lever 137 = .ok (.iload 9, 2) := dk_21 9 (dk_at dksX3_lever_5 20 rfl rfl)
theorem dX3_lever_139 : decode cX3_lever 139 = .ok (.iload_n 3, 1) := dk_29 (dk_at dksX3_lever_5 22 rfl rfl)
theorem dX3_lever_140 : decode cX3_lever 140 = .ok (.if_icmp .gt 6, 3) := dk_163 0 6 (dk_at dksX3_lever_6 0 rfl rfl)
theorem dX3_lever_143 : decode cX3_lever 143 = .ok (.goto 16, 3) := dk_167 0 16 (dk_at dksX3_lever_6 3 rfl rfl)
theorem dX3_lever_146 : decode cX3_lever 146 = .ok (.iload 9, 2) := dk_21 9 (dk_at dksX3_lever_6 6 rfl rfl)
theorem dX3_lever_148 : decode cX3_lever 148 = .ok (.istore_n 3, 1) := dk_62 (dk_at dksX3_lever_6 8 rfl rfl)
theorem dX3_lever_149 : decode cX3_lever 149 = .ok (.iload 6, 2) := dk_21 6 (dk_at dksX3_lever_6 9 rfl rfl)
theorem dX3_lever_151 : decode cX3_lever 151 = .ok (.iconst 2, 1) := dk_5 (dk_at dksX3_lever_6 11 rfl rfl)
theorem dX3_lever_152 : decode cX3_lever 152 = .ok (.idiv, 1) := dk_108 (dk_at dksX3_lever_6 12 rfl rfl)
theorem dX3_lever_153 : decode cX3_lever 153 = .ok (.istore 4, 2) := dk_54 4 (dk_at dksX3_lever_6 13 rfl rfl)
theorem dX3_lever_155 : decode cX3_lever 155 = .ok (.iload 8, 2) := dk_21 8 (dk_at dksX3_lever_6 15 rfl rfl)
theorem dX3_lever_157 : decode cX3_lever 157 = .ok (.istore 5, 2) := dk_54 5 (dk_at dksX3_lever_6 17 rfl rfl)
theorem dX3_lever_159 : decode cX3_lever 159 = .ok (.iinc 6 1, 3) := dk_132 6 1 (dk_at dksX3_lever_6 19 rfl rfl)
theorem dX3_lever_162 : decode cX3_lever 162 = .ok (.goto (-126), 3) := dk_167 255 130 (dk_at dksX3_lever_7 0 rfl rfl)
theorem dX3_lever_165 : decode cX3_lever 165 = .ok (.aload_n 0, 1) := dk_42 (dk_at dksX3_lever_7 3 rfl rfl)
theorem dX3_lever_166 : decode cX3_lever 166 = .ok (.iload_n 2, 1) := dk_28 (dk_at dksX3_lever_7 4 rfl rfl)
theorem dX3_lever_167 : decode cX3_lever 167 = .ok (.ifCond .ne 7, 3) := dk_154 0 7 (dk_at dksX3_lever_7 5 rfl rfl)
theorem dX3_lever_170 : decode cX3_lever 170 = .ok (.iload_n 3, 1) := dk_29 (dk_at dksX3_lever_7 8 rfl rfl)
theorem dX3_lever_171 : decode cX3_lever 171 = .ok (.goto 15, 3) := dk_167 0 15 (dk_at dksX3_lever_7 9 rfl rfl)
theorem dX3_lever_174 : decode cX3_lever 174 = .ok (.iload_n 2, 1) := dk_28 (dk_at dksX3_lever_7 12 rfl rfl)
theorem dX3_lever_175 : decode cX3_lever 175 = .ok (.iconst 1, 1) := dk_4 (dk_at dksX3_lever_7 13 rfl rfl)
theorem dX3_lever_176 : decode cX3_lever 176 = .ok (.if_icmp .ne 8, 3) := dk_160 0 8 (dk_at dksX3_lever_7 14 rfl rfl)
theorem dX3_lever_179 : decode cX3_lever 179 = .ok (.iload 4, 2) := dk_21 4 (dk_at dksX3_lever_7 17 rfl rfl)
theorem dX3_lever_181 : decode cX3_lever 181 = .ok (.goto 5, 3) := dk_167 0 5 (dk_at dksX3_lever_7 19 rfl rfl)
theorem dX3_lever_184 : decode cX3_lever 184 = .ok (.iload 5, 2) := dk_21 5 (dk_at dksX3_lever_7 22 rfl rfl)
theorem dX3_lever_186 : decode cX3_lever 186 = .ok (.invokevirtual 199, 3) := dk_182 0 199 (dk_at dksX3_lever_8 0 rfl rfl)
theorem dX3_lever_189 : decode cX3_lever 189 = .ok (.ireturn, 1) := dk_172 (dk_at dksX3_lever_8 3 rfl rfl)
abbrev cX3_letsAhead : ByteArray := prog_15_method_113_code
def yX3_letsAhead : MethodName := ⟨RX3, "letsAhead", "(I)I"⟩
def dkwX3_letsAhead_2 : List UInt8 := [42, 180, 0, 16, 42, 180, 0, 7, 184, 0, 192, 29, 172]
abbrev dktX3_letsAhead_2 : List UInt8 := dkwX3_letsAhead_2 ++ []
def dkwX3_letsAhead_1 : List UInt8 := [162, 0, 13, 42, 182, 1, 75, 132, 3, 1, 167, 255, 244, 42, 180, 0, 7, 17, 0, 233, 46, 28, 100, 62]
abbrev dktX3_letsAhead_1 : List UInt8 := dkwX3_letsAhead_1 ++ dktX3_letsAhead_2
def dkwX3_letsAhead_0 : List UInt8 := [42, 180, 0, 7, 42, 180, 0, 16, 184, 0, 192, 42, 180, 0, 7, 17, 0, 233, 46, 61, 3, 62, 29, 27]
abbrev dktX3_letsAhead_0 : List UInt8 := dkwX3_letsAhead_0 ++ dktX3_letsAhead_1
theorem dksX3_letsAhead_0 : cX3_letsAhead.data.toList.drop 0 = dktX3_letsAhead_0 := by decide +kernel
theorem dksX3_letsAhead_1 : cX3_letsAhead.data.toList.drop 24 = dktX3_letsAhead_1 := dk_seg dksX3_letsAhead_0 24 rfl rfl
theorem dksX3_letsAhead_2 : cX3_letsAhead.data.toList.drop 48 = dktX3_letsAhead_2 := dk_seg dksX3_letsAhead_1 24 rfl rfl
theorem dX3_letsAhead_0 : decode cX3_letsAhead 0 = .ok (.aload_n 0, 1) := dk_42 (dk_at dksX3_letsAhead_0 0 rfl rfl)
theorem dX3_letsAhead_1 : decode cX3_letsAhead 1 = .ok (.getfield 7, 3) := dk_180 0 7 (dk_at dksX3_letsAhead_0 1 rfl rfl)
theorem dX3_letsAhead_4 : decode cX3_letsAhead 4 = .ok (.aload_n 0, 1) := dk_42 (dk_at dksX3_letsAhead_0 4 rfl rfl)
theorem dX3_letsAhead_5 : decode cX3_letsAhead 5 = .ok (.getfield 16, 3) := dk_180 0 16 (dk_at dksX3_letsAhead_0 5 rfl rfl)
theorem dX3_letsAhead_8 : decode cX3_letsAhead 8 = .ok (.invokestatic 192, 3) := dk_184 0 192 (dk_at dksX3_letsAhead_0 8 rfl rfl)
theorem dX3_letsAhead_11 : decode cX3_letsAhead 11 = .ok (.aload_n 0, 1) := dk_42 (dk_at dksX3_letsAhead_0 11 rfl rfl)
theorem dX3_letsAhead_12 : decode cX3_letsAhead 12 = .ok (.getfield 7, 3) := dk_180 0 7 (dk_at dksX3_letsAhead_0 12 rfl rfl)
theorem dX3_letsAhead_15 : decode cX3_letsAhead 15 = .ok (.sipush 233, 3) := dk_17 0 233 (dk_at dksX3_letsAhead_0 15 rfl rfl)
theorem dX3_letsAhead_18 : decode cX3_letsAhead 18 = .ok (.iaload, 1) := dk_46 (dk_at dksX3_letsAhead_0 18 rfl rfl)
theorem dX3_letsAhead_19 : decode cX3_letsAhead 19 = .ok (.istore_n 2, 1) := dk_61 (dk_at dksX3_letsAhead_0 19 rfl rfl)
theorem dX3_letsAhead_20 : decode cX3_letsAhead 20 = .ok (.iconst 0, 1) := dk_3 (dk_at dksX3_letsAhead_0 20 rfl rfl)
theorem dX3_letsAhead_21 : decode cX3_letsAhead 21 = .ok (.istore_n 3, 1) := dk_62 (dk_at dksX3_letsAhead_0 21 rfl rfl)
theorem dX3_letsAhead_22 : decode cX3_letsAhead 22 = .ok (.iload_n 3, 1) := dk_29 (dk_at dksX3_letsAhead_0 22 rfl rfl)
theorem dX3_letsAhead_23 : decode cX3_letsAhead 23 = .ok (.iload_n 1, 1) := dk_27 (dk_at dksX3_letsAhead_0 23 rfl rfl)
theorem dX3_letsAhead_24 : decode cX3_letsAhead 24 = .ok (.if_icmp .ge 13, 3) := dk_162 0 13 (dk_at dksX3_letsAhead_1 0 rfl rfl)
theorem dX3_letsAhead_27 : decode cX3_letsAhead 27 = .ok (.aload_n 0, 1) := dk_42 (dk_at dksX3_letsAhead_1 3 rfl rfl)
theorem dX3_letsAhead_28 : decode cX3_letsAhead 28 = .ok (.invokevirtual 331, 3) := dk_182 1 75 (dk_at dksX3_letsAhead_1 4 rfl rfl)
theorem dX3_letsAhead_31 : decode cX3_letsAhead 31 = .ok (.iinc 3 1, 3) := dk_132 3 1 (dk_at dksX3_letsAhead_1 7 rfl rfl)
theorem dX3_letsAhead_34 : decode cX3_letsAhead 34 = .ok (.goto (-12), 3) := dk_167 255 244 (dk_at dksX3_letsAhead_1 10 rfl rfl)
theorem dX3_letsAhead_37 : decode cX3_letsAhead 37 = .ok (.aload_n 0, 1) := dk_42 (dk_at dksX3_letsAhead_1 13 rfl rfl)
theorem dX3_letsAhead_38 : decode cX3_letsAhead 38 = .ok (.getfield 7, 3) := dk_180 0 7 (dk_at dksX3_letsAhead_1 14 rfl rfl)
theorem dX3_letsAhead_41 : decode cX3_letsAhead 41 = .ok (.sipush 233, 3) := dk_17 0 233 (dk_at dksX3_letsAhead_1 17 rfl rfl)
theorem dX3_letsAhead_44 : decode cX3_letsAhead 44 = .ok (.iaload, 1) := dk_46 (dk_at dksX3_letsAhead_1 20 rfl rfl)
theorem dX3_letsAhead_45 : decode cX3_letsAhead 45 = .ok (.iload_n 2, 1) := dk_28 (dk_at dksX3_letsAhead_1 21 rfl rfl)
theorem dX3_letsAhead_46 : decode cX3_letsAhead 46 = .ok (.isub, 1) := dk_100 (dk_at dksX3_letsAhead_1 22 rfl rfl)
theorem dX3_letsAhead_47 : decode cX3_letsAhead 47 = .ok (.istore_n 3, 1) := dk_62 (dk_at dksX3_letsAhead_1 23 rfl rfl)
theorem dX3_letsAhead_48 : decode cX3_letsAhead 48 = .ok (.aload_n 0, 1) := dk_42 (dk_at dksX3_letsAhead_2 0 rfl rfl)
theorem dX3_letsAhead_49 : decode cX3_letsAhead 49 = .ok (.getfield 16, 3) := dk_180 0 16 (dk_at dksX3_letsAhead_2 1 rfl rfl)
theorem dX3_letsAhead_52 : decode cX3_letsAhead 52 = .ok (.aload_n 0, 1) := dk_42 (dk_at dksX3_letsAhead_2 4 rfl rfl)
theorem dX3_letsAhead_53 : decode cX3_letsAhead 53 = .ok (.getfield 7, 3) := dk_180 0 7 (dk_at dksX3_letsAhead_2 5 rfl rfl)
theorem dX3_letsAhead_56 : decode cX3_letsAhead 56 = .ok (.invokestatic 192, 3) := dk_184 0 192 (dk_at dksX3_letsAhead_2 8 rfl rfl)
theorem dX3_letsAhead_59 : decode cX3_letsAhead 59 = .ok (.iload_n 3, 1) := dk_29 (dk_at dksX3_letsAhead_2 11 rfl rfl)
theorem dX3_letsAhead_60 : decode cX3_letsAhead 60 = .ok (.ireturn, 1) := dk_172 (dk_at dksX3_letsAhead_2 12 rfl rfl)
abbrev cX3_trade : ByteArray := prog_15_method_117_code
def yX3_trade : MethodName := ⟨RX3, "trade", "(I)I"⟩
def dkwX3_trade_1 : List UInt8 := [42, 8, 182, 0, 186, 172, 42, 182, 1, 124, 42, 42, 180, 0, 42, 27, 46, 182, 0, 199, 172]
abbrev dktX3_trade_1 : List UInt8 := dkwX3_trade_1 ++ []
def dkwX3_trade_0 : List UInt8 := [42, 27, 182, 0, 244, 154, 0, 9, 42, 5, 182, 0, 186, 172, 42, 27, 7, 182, 0, 205, 2, 160, 0, 9]
abbrev dktX3_trade_0 : List UInt8 := dkwX3_trade_0 ++ dktX3_trade_1
theorem dksX3_trade_0 : cX3_trade.data.toList.drop 0 = dktX3_trade_0 := by decide +kernel
theorem dksX3_trade_1 : cX3_trade.data.toList.drop 24 = dktX3_trade_1 := dk_seg dksX3_trade_0 24 rfl rfl
theorem dX3_trade_0 : decode cX3_trade 0 = .ok (.aload_n 0, 1) := dk_42 (dk_at dksX3_trade_0 0 rfl rfl)
theorem dX3_trade_1 : decode cX3_trade 1 = .ok (.iload_n 1, 1) := dk_27 (dk_at dksX3_trade_0 1 rfl rfl)
theorem dX3_trade_2 : decode cX3_trade 2 = .ok (.invokevirtual 244, 3) := dk_182 0 244 (dk_at dksX3_trade_0 2 rfl rfl)
theorem dX3_trade_5 : decode cX3_trade 5 = .ok (.ifCond .ne 9, 3) := dk_154 0 9 (dk_at dksX3_trade_0 5 rfl rfl)
theorem dX3_trade_8 : decode cX3_trade 8 = .ok (.aload_n 0, 1) := dk_42 (dk_at dksX3_trade_0 8 rfl rfl)
theorem dX3_trade_9 : decode cX3_trade 9 = .ok (.iconst 2, 1) := dk_5 (dk_at dksX3_trade_0 9 rfl rfl)
theorem dX3_trade_10 : decode cX3_trade 10 = .ok (.invokevirtual 186, 3) := dk_182 0 186 (dk_at dksX3_trade_0 10 rfl rfl)
theorem dX3_trade_13 : decode cX3_trade 13 = .ok (.ireturn, 1) := dk_172 (dk_at dksX3_trade_0 13 rfl rfl)
theorem dX3_trade_14 : decode cX3_trade 14 = .ok (.aload_n 0, 1) := dk_42 (dk_at dksX3_trade_0 14 rfl rfl)
theorem dX3_trade_15 : decode cX3_trade 15 = .ok (.iload_n 1, 1) := dk_27 (dk_at dksX3_trade_0 15 rfl rfl)
theorem dX3_trade_16 : decode cX3_trade 16 = .ok (.iconst 4, 1) := dk_7 (dk_at dksX3_trade_0 16 rfl rfl)
theorem dX3_trade_17 : decode cX3_trade 17 = .ok (.invokevirtual 205, 3) := dk_182 0 205 (dk_at dksX3_trade_0 17 rfl rfl)
theorem dX3_trade_20 : decode cX3_trade 20 = .ok (.iconst (-1), 1) := dk_2 (dk_at dksX3_trade_0 20 rfl rfl)
theorem dX3_trade_21 : decode cX3_trade 21 = .ok (.if_icmp .ne 9, 3) := dk_160 0 9 (dk_at dksX3_trade_0 21 rfl rfl)
theorem dX3_trade_24 : decode cX3_trade 24 = .ok (.aload_n 0, 1) := dk_42 (dk_at dksX3_trade_1 0 rfl rfl)
theorem dX3_trade_25 : decode cX3_trade 25 = .ok (.iconst 5, 1) := dk_8 (dk_at dksX3_trade_1 1 rfl rfl)
theorem dX3_trade_26 : decode cX3_trade 26 = .ok (.invokevirtual 186, 3) := dk_182 0 186 (dk_at dksX3_trade_1 2 rfl rfl)
theorem dX3_trade_29 : decode cX3_trade 29 = .ok (.ireturn, 1) := dk_172 (dk_at dksX3_trade_1 5 rfl rfl)
theorem dX3_trade_30 : decode cX3_trade 30 = .ok (.aload_n 0, 1) := dk_42 (dk_at dksX3_trade_1 6 rfl rfl)
theorem dX3_trade_31 : decode cX3_trade 31 = .ok (.invokevirtual 380, 3) := dk_182 1 124 (dk_at dksX3_trade_1 7 rfl rfl)
theorem dX3_trade_34 : decode cX3_trade 34 = .ok (.aload_n 0, 1) := dk_42 (dk_at dksX3_trade_1 10 rfl rfl)
theorem dX3_trade_35 : decode cX3_trade 35 = .ok (.aload_n 0, 1) := dk_42 (dk_at dksX3_trade_1 11 rfl rfl)
theorem dX3_trade_36 : decode cX3_trade 36 = .ok (.getfield 42, 3) := dk_180 0 42 (dk_at dksX3_trade_1 12 rfl rfl)
theorem dX3_trade_39 : decode cX3_trade 39 = .ok (.iload_n 1, 1) := dk_27 (dk_at dksX3_trade_1 15 rfl rfl)
theorem dX3_trade_40 : decode cX3_trade 40 = .ok (.iaload, 1) := dk_46 (dk_at dksX3_trade_1 16 rfl rfl)
theorem dX3_trade_41 : decode cX3_trade 41 = .ok (.invokevirtual 199, 3) := dk_182 0 199 (dk_at dksX3_trade_1 17 rfl rfl)
theorem dX3_trade_44 : decode cX3_trade 44 = .ok (.ireturn, 1) := dk_172 (dk_at dksX3_trade_1 20 rfl rfl)
abbrev cX3_laysTrades : ByteArray := prog_15_method_116_code
def yX3_laysTrades : MethodName := ⟨RX3, "laysTrades", "()V"⟩
def dkwX3_laysTrades_7 : List UInt8 := [181, 1, 113, 27, 29, 2, 130, 126, 60, 167, 255, 135, 177]
abbrev dktX3_laysTrades_7 : List UInt8 := dkwX3_laysTrades_7 ++ []
def dkwX3_laysTrades_6 : List UInt8 := [164, 0, 7, 4, 167, 0, 4, 3, 96, 181, 1, 110, 42, 42, 180, 1, 113, 29, 184, 0, 222, 184, 0, 211]
abbrev dktX3_laysTrades_6 : List UInt8 := dkwX3_laysTrades_6 ++ dktX3_laysTrades_7
def dkwX3_laysTrades_5 : List UInt8 := [180, 0, 42, 28, 46, 5, 182, 0, 202, 61, 167, 255, 218, 42, 89, 180, 1, 110, 29, 184, 0, 222, 4]
abbrev dktX3_laysTrades_5 : List UInt8 := dkwX3_laysTrades_5 ++ dktX3_laysTrades_6
def dkwX3_laysTrades_4 : List UInt8 := [154, 0, 36, 29, 4, 28, 120, 128, 62, 42, 180, 0, 42, 28, 42, 28, 27, 182, 1, 121, 79, 42, 42]
abbrev dktX3_laysTrades_4 : List UInt8 := dkwX3_laysTrades_4 ++ dktX3_laysTrades_5
def dkwX3_laysTrades_3 : List UInt8 := [42, 28, 27, 182, 1, 121, 5, 182, 0, 202, 61, 132, 3, 1, 167, 255, 235, 3, 62, 29, 28, 122, 4, 126]
abbrev dktX3_laysTrades_3 : List UInt8 := dkwX3_laysTrades_3 ++ dktX3_laysTrades_4
def dkwX3_laysTrades_2 : List UInt8 := [132, 2, 1, 167, 255, 221, 27, 153, 0, 123, 27, 184, 1, 116, 61, 3, 62, 29, 16, 8, 162, 0, 21, 42]
abbrev dktX3_laysTrades_2 : List UInt8 := dkwX3_laysTrades_2 ++ dktX3_laysTrades_3
def dkwX3_laysTrades_1 : List UInt8 := [162, 0, 29, 27, 42, 28, 7, 182, 0, 205, 2, 160, 0, 7, 3, 167, 0, 6, 4, 28, 120, 128, 60]
abbrev dktX3_laysTrades_1 : List UInt8 := dkwX3_laysTrades_1 ++ dktX3_laysTrades_2
def dkwX3_laysTrades_0 : List UInt8 := [3, 60, 42, 3, 181, 1, 110, 42, 3, 181, 1, 113, 3, 61, 28, 42, 180, 0, 7, 17, 0, 231, 46]
abbrev dktX3_laysTrades_0 : List UInt8 := dkwX3_laysTrades_0 ++ dktX3_laysTrades_1
theorem dksX3_laysTrades_0 : cX3_laysTrades.data.toList.drop 0 = dktX3_laysTrades_0 := by decide +kernel
theorem dksX3_laysTrades_1 : cX3_laysTrades.data.toList.drop 23 = dktX3_laysTrades_1 := dk_seg dksX3_laysTrades_0 23 rfl rfl
theorem dksX3_laysTrades_2 : cX3_laysTrades.data.toList.drop 46 = dktX3_laysTrades_2 := dk_seg dksX3_laysTrades_1 23 rfl rfl
theorem dksX3_laysTrades_3 : cX3_laysTrades.data.toList.drop 70 = dktX3_laysTrades_3 := dk_seg dksX3_laysTrades_2 24 rfl rfl
theorem dksX3_laysTrades_4 : cX3_laysTrades.data.toList.drop 94 = dktX3_laysTrades_4 := dk_seg dksX3_laysTrades_3 24 rfl rfl
theorem dksX3_laysTrades_5 : cX3_laysTrades.data.toList.drop 117 = dktX3_laysTrades_5 := dk_seg dksX3_laysTrades_4 23 rfl rfl
theorem dksX3_laysTrades_6 : cX3_laysTrades.data.toList.drop 140 = dktX3_laysTrades_6 := dk_seg dksX3_laysTrades_5 23 rfl rfl
theorem dksX3_laysTrades_7 : cX3_laysTrades.data.toList.drop 164 = dktX3_laysTrades_7 := dk_seg dksX3_laysTrades_6 24 rfl rfl
theorem dX3_laysTrades_0 : decode cX3_laysTrades 0 = .ok (.iconst 0, 1) := dk_3 (dk_at dksX3_laysTrades_0 0 rfl rfl)
theorem dX3_laysTrades_1 : decode cX3_laysTrades 1 = .ok (.istore_n 1, 1) := dk_60 (dk_at dksX3_laysTrades_0 1 rfl rfl)
theorem dX3_laysTrades_2 : decode cX3_laysTrades 2 = .ok (.aload_n 0, 1) := dk_42 (dk_at dksX3_laysTrades_0 2 rfl rfl)
theorem dX3_laysTrades_3 : decode cX3_laysTrades 3 = .ok (.iconst 0, 1) := dk_3 (dk_at dksX3_laysTrades_0 3 rfl rfl)
theorem dX3_laysTrades_4 : decode cX3_laysTrades 4 = .ok (.putfield 366, 3) := dk_181 1 110 (dk_at dksX3_laysTrades_0 4 rfl rfl)
theorem dX3_laysTrades_7 : decode cX3_laysTrades 7 = .ok (.aload_n 0, 1) := dk_42 (dk_at dksX3_laysTrades_0 7 rfl rfl)
theorem dX3_laysTrades_8 : decode cX3_laysTrades 8 = .ok (.iconst 0, 1) := dk_3 (dk_at dksX3_laysTrades_0 8 rfl rfl)
theorem dX3_laysTrades_9 : decode cX3_laysTrades 9 = .ok (.putfield 369, 3) := dk_181 1 113 (dk_at dksX3_laysTrades_0 9 rfl rfl)
theorem dX3_laysTrades_12 : decode cX3_laysTrades 12 = .ok (.iconst 0, 1) := dk_3 (dk_at dksX3_laysTrades_0 12 rfl rfl)
theorem dX3_laysTrades_13 : decode cX3_laysTrades 13 = .ok (.istore_n 2, 1) := dk_61 (dk_at dksX3_laysTrades_0 13 rfl rfl)
theorem dX3_laysTrades_14 : decode cX3_laysTrades 14 = .ok (.iload_n 2, 1) := dk_28 (dk_at dksX3_laysTrades_0 14 rfl rfl)
theorem dX3_laysTrades_15 : decode cX3_laysTrades 15 = .ok (.aload_n 0, 1) := dk_42 (dk_at dksX3_laysTrades_0 15 rfl rfl)
theorem dX3_laysTrades_16 : decode cX3_laysTrades 16 = .ok (.getfield 7, 3) := dk_180 0 7 (dk_at dksX3_laysTrades_0 16 rfl rfl)
theorem dX3_laysTrades_19 : decode cX3_laysTrades 19 = .ok (.sipush 231, 3) := dk_17 0 231 (dk_at dksX3_laysTrades_0 19 rfl rfl)
theorem dX3_laysTrades_22 : decode cX3_laysTrades 22 = .ok (.iaload, 1) := dk_46 (dk_at dksX3_laysTrades_0 22 rfl rfl)
theorem dX3_laysTrades_23 : decode cX3_laysTrades 23 = .ok (.if_icmp .ge 29, 3) := dk_162 0 29 (dk_at dksX3_laysTrades_1 0 rfl rfl)
theorem dX3_laysTrades_26 : decode cX3_laysTrades 26 = .ok (.iload_n 1, 1) := dk_27 (dk_at dksX3_laysTrades_1 3 rfl rfl)
theorem dX3_laysTrades_27 : decode cX3_laysTrades 27 = .ok (.aload_n 0, 1) := dk_42 (dk_at dksX3_laysTrades_1 4 rfl rfl)
theorem dX3_laysTrades_28 : decode cX3_laysTrades 28 = .ok (.iload_n 2, 1) := dk_28 (dk_at dksX3_laysTrades_1 5 rfl rfl)
theorem dX3_laysTrades_29 : decode cX3_laysTrades 29 = .ok (.iconst 4, 1) := dk_7 (dk_at dksX3_laysTrades_1 6 rfl rfl)
theorem dX3_laysTrades_30 : decode cX3_laysTrades 30 = .ok (.invokevirtual 205, 3) := dk_182 0 205 (dk_at dksX3_laysTrades_1 7 rfl rfl)
theorem dX3_laysTrades_33 : decode cX3_laysTrades 33 = .ok (.iconst (-1), 1) := dk_2 (dk_at dksX3_laysTrades_1 10 rfl rfl)
theorem dX3_laysTrades_34 : decode cX3_laysTrades 34 = .ok (.if_icmp .ne 7, 3) := dk_160 0 7 (dk_at dksX3_laysTrades_1 11 rfl rfl)
theorem dX3_laysTrades_37 : decode cX3_laysTrades 37 = .ok (.iconst 0, 1) := dk_3 (dk_at dksX3_laysTrades_1 14 rfl rfl)
theorem dX3_laysTrades_38 : decode cX3_laysTrades 38 = .ok (.goto 6, 3) := dk_167 0 6 (dk_at dksX3_laysTrades_1 15 rfl rfl)
theorem dX3_laysTrades_41 : decode cX3_laysTrades 41 = .ok (.iconst 1, 1) := dk_4 (dk_at dksX3_laysTrades_1 18 rfl rfl)
theorem dX3_laysTrades_42 : decode cX3_laysTrades 42 = .ok (.iload_n 2, 1) := dk_28 (dk_at dksX3_laysTrades_1 19 rfl rfl)
theorem dX3_laysTrades_43 : decode cX3_laysTrades 43 = .ok (.ishl, 1) := dk_120 (dk_at dksX3_laysTrades_1 20 rfl rfl)
theorem dX3_laysTrades_44 : decode cX3_laysTrades 44 = .ok (.ior, 1) := dk_128 (dk_at dksX3_laysTrades_1 21 rfl rfl)
theorem dX3_laysTrades_45 : decode cX3_laysTrades 45 = .ok (.istore_n 1, 1) := dk_60 (dk_at dksX3_laysTrades_1 22 rfl rfl)
theorem dX3_laysTrades_46 : decode cX3_laysTrades 46 = .ok (.iinc 2 1, 3) := dk_132 2 1 (dk_at dksX3_laysTrades_2 0 rfl rfl)
theorem dX3_laysTrades_49 : decode cX3_laysTrades 49 = .ok (.goto (-35), 3) := dk_167 255 221 (dk_at dksX3_laysTrades_2 3 rfl rfl)
theorem dX3_laysTrades_52 : decode cX3_laysTrades 52 = .ok (.iload_n 1, 1) := dk_27 (dk_at dksX3_laysTrades_2 6 rfl rfl)
theorem dX3_laysTrades_53 : decode cX3_laysTrades 53 = .ok (.ifCond .eq 123, 3) := dk_153 0 123 (dk_at dksX3_laysTrades_2 7 rfl rfl)
theorem dX3_laysTrades_56 : decode cX3_laysTrades 56 = .ok (.iload_n 1, 1) := dk_27 (dk_at dksX3_laysTrades_2 10 rfl rfl)
theorem dX3_laysTrades_57 : decode cX3_laysTrades 57 = .ok (.invokestatic 372, 3) := dk_184 1 116 (dk_at dksX3_laysTrades_2 11 rfl rfl)
theorem dX3_laysTrades_60 : decode cX3_laysTrades 60 = .ok (.istore_n 2, 1) := dk_61 (dk_at dksX3_laysTrades_2 14 rfl rfl)
theorem dX3_laysTrades_61 : decode cX3_laysTrades 61 = .ok (.iconst 0, 1) := dk_3 (dk_at dksX3_laysTrades_2 15 rfl rfl)
theorem dX3_laysTrades_62 : decode cX3_laysTrades 62 = .ok (.istore_n 3, 1) := dk_62 (dk_at dksX3_laysTrades_2 16 rfl rfl)
theorem dX3_laysTrades_63 : decode cX3_laysTrades 63 = .ok (.iload_n 3, 1) := dk_29 (dk_at dksX3_laysTrades_2 17 rfl rfl)
theorem dX3_laysTrades_64 : decode cX3_laysTrades 64 = .ok (.bipush 8, 2) := dk_16 8 (dk_at dksX3_laysTrades_2 18 rfl rfl)
theorem dX3_laysTrades_66 : decode cX3_laysTrades 66 = .ok (.if_icmp .ge 21, 3) := dk_162 0 21 (dk_at dksX3_laysTrades_2 20 rfl rfl)
theorem dX3_laysTrades_69 : decode cX3_laysTrades 69 = .ok (.aload_n 0, 1) := dk_42 (dk_at dksX3_laysTrades_2 23 rfl rfl)
theorem dX3_laysTrades_70 : decode cX3_laysTrades 70 = .ok (.aload_n 0, 1) := dk_42 (dk_at dksX3_laysTrades_3 0 rfl rfl)
theorem dX3_laysTrades_71 : decode cX3_laysTrades 71 = .ok (.iload_n 2, 1) := dk_28 (dk_at dksX3_laysTrades_3 1 rfl rfl)
theorem dX3_laysTrades_72 : decode cX3_laysTrades 72 = .ok (.iload_n 1, 1) := dk_27 (dk_at dksX3_laysTrades_3 2 rfl rfl)
theorem dX3_laysTrades_73 : decode cX3_laysTrades 73 = .ok (.invokevirtual 377, 3) := dk_182 1 121 (dk_at dksX3_laysTrades_3 3 rfl rfl)
theorem dX3_laysTrades_76 : decode cX3_laysTrades 76 = .ok (.iconst 2, 1) := dk_5 (dk_at dksX3_laysTrades_3 6 rfl rfl)
theorem dX3_laysTrades_77 : decode cX3_laysTrades 77 = .ok (.invokevirtual 202, 3) := dk_182 0 202 (dk_at dksX3_laysTrades_3 7 rfl rfl)
theorem dX3_laysTrades_80 : decode cX3_laysTrades 80 = .ok (.istore_n 2, 1) := dk_61 (dk_at dksX3_laysTrades_3 10 rfl rfl)
theorem dX3_laysTrades_81 : decode cX3_laysTrades 81 = .ok (.iinc 3 1, 3) := dk_132 3 1 (dk_at dksX3_laysTrades_3 11 rfl rfl)
theorem dX3_laysTrades_84 : decode cX3_laysTrades 84 = .ok (.goto (-21), 3) := dk_167 255 235 (dk_at dksX3_laysTrades_3 14 rfl rfl)
theorem dX3_laysTrades_87 : decode cX3_laysTrades 87 = .ok (.iconst 0, 1) := dk_3 (dk_at dksX3_laysTrades_3 17 rfl rfl)
theorem dX3_laysTrades_88 : decode cX3_laysTrades 88 = .ok (.istore_n 3, 1) := dk_62 (dk_at dksX3_laysTrades_3 18 rfl rfl)
theorem dX3_laysTrades_89 : decode cX3_laysTrades 89 = .ok (.iload_n 3, 1) := dk_29 (dk_at dksX3_laysTrades_3 19 rfl rfl)
theorem dX3_laysTrades_90 : decode cX3_laysTrades 90 = .ok (.iload_n 2, 1) := dk_28 (dk_at dksX3_laysTrades_3 20 rfl rfl)
theorem dX3_laysTrades_91 : decode cX3_laysTrades 91 = .ok (.ishr, 1) := dk_122 (dk_at dksX3_laysTrades_3 21 rfl rfl)
theorem dX3_laysTrades_92 : decode cX3_laysTrades 92 = .ok (.iconst 1, 1) := dk_4 (dk_at dksX3_laysTrades_3 22 rfl rfl)
theorem dX3_laysTrades_93 : decode cX3_laysTrades 93 = .ok (.iand, 1) := dk_126 (dk_at dksX3_laysTrades_3 23 rfl rfl)
theorem dX3_laysTrades_94 : decode cX3_laysTrades 94 = .ok (.ifCond .ne 36, 3) := dk_154 0 36 (dk_at dksX3_laysTrades_4 0 rfl rfl)
theorem dX3_laysTrades_97 : decode cX3_laysTrades 97 = .ok (.iload_n 3, 1) := dk_29 (dk_at dksX3_laysTrades_4 3 rfl rfl)
theorem dX3_laysTrades_98 : decode cX3_laysTrades 98 = .ok (.iconst 1, 1) := dk_4 (dk_at dksX3_laysTrades_4 4 rfl rfl)
theorem dX3_laysTrades_99 : decode cX3_laysTrades 99 = .ok (.iload_n 2, 1) := dk_28 (dk_at dksX3_laysTrades_4 5 rfl rfl)
theorem dX3_laysTrades_100 : decode cX3_laysTrades 100 = .ok (.ishl, 1) := dk_120 (dk_at dksX3_laysTrades_4 6 rfl rfl)
theorem dX3_laysTrades_101 : decode cX3_laysTrades 101 = .ok (.ior, 1) := dk_128 (dk_at dksX3_laysTrades_4 7 rfl rfl)
theorem dX3_laysTrades_102 : decode cX3_laysTrades 102 = .ok (.istore_n 3, 1) := dk_62 (dk_at dksX3_laysTrades_4 8 rfl rfl)
theorem dX3_laysTrades_103 : decode cX3_laysTrades 103 = .ok (.aload_n 0, 1) := dk_42 (dk_at dksX3_laysTrades_4 9 rfl rfl)
theorem dX3_laysTrades_104 : decode cX3_laysTrades 104 = .ok (.getfield 42, 3) := dk_180 0 42 (dk_at dksX3_laysTrades_4 10 rfl rfl)
theorem dX3_laysTrades_107 : decode cX3_laysTrades 107 = .ok (.iload_n 2, 1) := dk_28 (dk_at dksX3_laysTrades_4 13 rfl rfl)
theorem dX3_laysTrades_108 : decode cX3_laysTrades 108 = .ok (.aload_n 0, 1) := dk_42 (dk_at dksX3_laysTrades_4 14 rfl rfl)
theorem dX3_laysTrades_109 : decode cX3_laysTrades 109 = .ok (.iload_n 2, 1) := dk_28 (dk_at dksX3_laysTrades_4 15 rfl rfl)
theorem dX3_laysTrades_110 : decode cX3_laysTrades 110 = .ok (.iload_n 1, 1) := dk_27 (dk_at dksX3_laysTrades_4 16 rfl rfl)
theorem dX3_laysTrades_111 : decode cX3_laysTrades 111 = .ok (.invokevirtual 377, 3) := dk_182 1 121 (dk_at dksX3_laysTrades_4 17 rfl rfl)
theorem dX3_laysTrades_114 : decode cX3_laysTrades 114 = .ok (.iastore, 1) := dk_79 (dk_at dksX3_laysTrades_4 20 rfl rfl)
theorem dX3_laysTrades_115 : decode cX3_laysTrades 115 = .ok (.aload_n 0, 1) := dk_42 (dk_at dksX3_laysTrades_4 21 rfl rfl)
theorem dX3_laysTrades_116 : decode cX3_laysTrades 116 = .ok (.aload_n 0, 1) := dk_42 (dk_at dksX3_laysTrades_4 22 rfl rfl)
theorem dX3_laysTrades_117 : decode cX3_laysTrades 117 = .ok (.getfield 42, 3) := dk_180 0 42 (dk_at dksX3_laysTrades_5 0 rfl rfl)
theorem dX3_laysTrades_120 : decode cX3_laysTrades 120 = .ok (.iload_n 2, 1) := dk_28 (dk_at dksX3_laysTrades_5 3 rfl rfl)
theorem dX3_laysTrades_121 : decode cX3_laysTrades 121 = .ok (.iaload, 1) := dk_46 (dk_at dksX3_laysTrades_5 4 rfl rfl)
theorem dX3_laysTrades_122 : decode cX3_laysTrades 122 = .ok (.iconst 2, 1) := dk_5 (dk_at dksX3_laysTrades_5 5 rfl rfl)
theorem dX3_laysTrades_123 : decode cX3_laysTrades 123 = .ok (.invokevirtual 202, 3) := dk_182 0 202 (dk_at dksX3_laysTrades_5 6 rfl rfl)
theorem dX3_laysTrades_126 : decode cX3_laysTrades 126 = .ok (.istore_n 2, 1) := dk_61 (dk_at dksX3_laysTrades_5 9 rfl rfl)
theorem dX3_laysTrades_127 : decode cX3_laysTrades 127 = .ok (.goto (-38), 3) := dk_167 255 218 (dk_at dksX3_laysTrades_5 10 rfl rfl)
theorem dX3_laysTrades_130 : decode cX3_laysTrades 130 = .ok (.aload_n 0, 1) := dk_42 (dk_at dksX3_laysTrades_5 13 rfl rfl)
theorem dX3_laysTrades_131 : decode cX3_laysTrades 131 = .ok (.dup, 1) := dk_89 (dk_at dksX3_laysTrades_5 14 rfl rfl)
theorem dX3_laysTrades_132 : decode cX3_laysTrades 132 = .ok (.getfield 366, 3) := dk_180 1 110 (dk_at dksX3_laysTrades_5 15 rfl rfl)
theorem dX3_laysTrades_135 : decode cX3_laysTrades 135 = .ok (.iload_n 3, 1) := dk_29 (dk_at dksX3_laysTrades_5 18 rfl rfl)
theorem dX3_laysTrades_136 : decode cX3_laysTrades 136 = .ok (.invokestatic 222, 3) := dk_184 0 222 (dk_at dksX3_laysTrades_5 19 rfl rfl)
theorem dX3_laysTrades_139 : decode cX3_laysTrades 139 = .ok (.iconst 1, 1) := dk_4 (dk_at dksX3_laysTrades_5 22 rfl rfl)
theorem dX3_laysTrades_140 : decode cX3_laysTrades 140 = .ok (.if_icmp .le 7, 3) := dk_164 0 7 (dk_at dksX3_laysTrades_6 0 rfl rfl)
theorem dX3_laysTrades_143 : decode cX3_laysTrades 143 = .ok (.iconst 1, 1) := dk_4 (dk_at dksX3_laysTrades_6 3 rfl rfl)
theorem dX3_laysTrades_144 : decode cX3_laysTrades 144 = .ok (.goto 4, 3) := dk_167 0 4 (dk_at dksX3_laysTrades_6 4 rfl rfl)
theorem dX3_laysTrades_147 : decode cX3_laysTrades 147 = .ok (.iconst 0, 1) := dk_3 (dk_at dksX3_laysTrades_6 7 rfl rfl)
theorem dX3_laysTrades_148 : decode cX3_laysTrades 148 = .ok (.iadd, 1) := dk_96 (dk_at dksX3_laysTrades_6 8 rfl rfl)
theorem dX3_laysTrades_149 : decode cX3_laysTrades 149 = .ok (.putfield 366, 3) := dk_181 1 110 (dk_at dksX3_laysTrades_6 9 rfl rfl)
theorem dX3_laysTrades_152 : decode cX3_laysTrades 152 = .ok (.aload_n 0, 1) := dk_42 (dk_at dksX3_laysTrades_6 12 rfl rfl)
theorem dX3_laysTrades_153 : decode cX3_laysTrades 153 = .ok (.aload_n 0, 1) := dk_42 (dk_at dksX3_laysTrades_6 13 rfl rfl)
theorem dX3_laysTrades_154 : decode cX3_laysTrades 154 = .ok (.getfield 369, 3) := dk_180 1 113 (dk_at dksX3_laysTrades_6 14 rfl rfl)
theorem dX3_laysTrades_157 : decode cX3_laysTrades 157 = .ok (.iload_n 3, 1) := dk_29 (dk_at dksX3_laysTrades_6 17 rfl rfl)
theorem dX3_laysTrades_158 : decode cX3_laysTrades 158 = .ok (.invokestatic 222, 3) := dk_184 0 222 (dk_at dksX3_laysTrades_6 18 rfl rfl)
theorem dX3_laysTrades_161 : decode cX3_laysTrades 161 = .ok (.invokestatic 211, 3) := dk_184 0 211 (dk_at dksX3_laysTrades_6 21 rfl rfl)
theorem dX3_laysTrades_164 : decode cX3_laysTrades 164 = .ok (.putfield 369, 3) := dk_181 1 113 (dk_at dksX3_laysTrades_7 0 rfl rfl)
theorem dX3_laysTrades_167 : decode cX3_laysTrades 167 = .ok (.iload_n 1, 1) := dk_27 (dk_at dksX3_laysTrades_7 3 rfl rfl)
theorem dX3_laysTrades_168 : decode cX3_laysTrades 168 = .ok (.iload_n 3, 1) := dk_29 (dk_at dksX3_laysTrades_7 4 rfl rfl)
theorem dX3_laysTrades_169 : decode cX3_laysTrades 169 = .ok (.iconst (-1), 1) := dk_2 (dk_at dksX3_laysTrades_7 5 rfl rfl)
theorem dX3_laysTrades_170 : decode cX3_laysTrades 170 = .ok (.ixor, 1) := dk_130 (dk_at dksX3_laysTrades_7 6 rfl rfl)
theorem dX3_laysTrades_171 : decode cX3_laysTrades 171 = .ok (.iand, 1) := dk_126 (dk_at dksX3_laysTrades_7 7 rfl rfl)
theorem dX3_laysTrades_172 : decode cX3_laysTrades 172 = .ok (.istore_n 1, 1) := dk_60 (dk_at dksX3_laysTrades_7 8 rfl rfl)
theorem dX3_laysTrades_173 : decode cX3_laysTrades 173 = .ok (.goto (-121), 3) := dk_167 255 135 (dk_at dksX3_laysTrades_7 9 rfl rfl)
theorem dX3_laysTrades_176 : decode cX3_laysTrades 176 = .ok (.return_, 1) := dk_177 (dk_at dksX3_laysTrades_7 12 rfl rfl)
abbrev cX3_looksAt : ByteArray := prog_15_method_115_code
def yX3_looksAt : MethodName := ⟨RX3, "looksAt", "(II)I"⟩
def dkwX3_looksAt_3 : List UInt8 := [7, 182, 0, 205, 172]
abbrev dktX3_looksAt_3 : List UInt8 := dkwX3_looksAt_3 ++ []
def dkwX3_looksAt_2 : List UInt8 := [160, 0, 16, 42, 27, 21, 4, 182, 0, 250, 153, 0, 6, 21, 4, 172, 132, 3, 1, 167, 255, 193, 42, 27]
abbrev dktX3_looksAt_2 : List UInt8 := dkwX3_looksAt_2 ++ dktX3_looksAt_3
def dkwX3_looksAt_1 : List UInt8 := [42, 21, 4, 5, 182, 0, 202, 54, 5, 21, 5, 2, 159, 0, 26, 28, 21, 5, 122, 4, 126, 4]
abbrev dktX3_looksAt_1 : List UInt8 := dkwX3_looksAt_1 ++ dktX3_looksAt_2
def dkwX3_looksAt_0 : List UInt8 := [3, 62, 29, 42, 27, 16, 11, 182, 0, 205, 162, 0, 58, 42, 27, 16, 12, 29, 96, 182, 0, 205, 54, 4]
abbrev dktX3_looksAt_0 : List UInt8 := dkwX3_looksAt_0 ++ dktX3_looksAt_1
theorem dksX3_looksAt_0 : cX3_looksAt.data.toList.drop 0 = dktX3_looksAt_0 := by decide +kernel
theorem dksX3_looksAt_1 : cX3_looksAt.data.toList.drop 24 = dktX3_looksAt_1 := dk_seg dksX3_looksAt_0 24 rfl rfl
theorem dksX3_looksAt_2 : cX3_looksAt.data.toList.drop 46 = dktX3_looksAt_2 := dk_seg dksX3_looksAt_1 22 rfl rfl
theorem dksX3_looksAt_3 : cX3_looksAt.data.toList.drop 70 = dktX3_looksAt_3 := dk_seg dksX3_looksAt_2 24 rfl rfl
theorem dX3_looksAt_0 : decode cX3_looksAt 0 = .ok (.iconst 0, 1) := dk_3 (dk_at dksX3_looksAt_0 0 rfl rfl)
theorem dX3_looksAt_1 : decode cX3_looksAt 1 = .ok (.istore_n 3, 1) := dk_62 (dk_at dksX3_looksAt_0 1 rfl rfl)
theorem dX3_looksAt_2 : decode cX3_looksAt 2 = .ok (.iload_n 3, 1) := dk_29 (dk_at dksX3_looksAt_0 2 rfl rfl)
theorem dX3_looksAt_3 : decode cX3_looksAt 3 = .ok (.aload_n 0, 1) := dk_42 (dk_at dksX3_looksAt_0 3 rfl rfl)
theorem dX3_looksAt_4 : decode cX3_looksAt 4 = .ok (.iload_n 1, 1) := dk_27 (dk_at dksX3_looksAt_0 4 rfl rfl)
theorem dX3_looksAt_5 : decode cX3_looksAt 5 = .ok (.bipush 11, 2) := dk_16 11 (dk_at dksX3_looksAt_0 5 rfl rfl)
theorem dX3_looksAt_7 : decode cX3_looksAt 7 = .ok (.invokevirtual 205, 3) := dk_182 0 205 (dk_at dksX3_looksAt_0 7 rfl rfl)
theorem dX3_looksAt_10 : decode cX3_looksAt 10 = .ok (.if_icmp .ge 58, 3) := dk_162 0 58 (dk_at dksX3_looksAt_0 10 rfl rfl)
theorem dX3_looksAt_13 : decode cX3_looksAt 13 = .ok (.aload_n 0, 1) := dk_42 (dk_at dksX3_looksAt_0 13 rfl rfl)
theorem dX3_looksAt_14 : decode cX3_looksAt 14 = .ok (.iload_n 1, 1) := dk_27 (dk_at dksX3_looksAt_0 14 rfl rfl)
theorem dX3_looksAt_15 : decode cX3_looksAt 15 = .ok (.bipush 12, 2) := dk_16 12 (dk_at dksX3_looksAt_0 15 rfl rfl)
theorem dX3_looksAt_17 : decode cX3_looksAt 17 = .ok (.iload_n 3, 1) := dk_29 (dk_at dksX3_looksAt_0 17 rfl rfl)
theorem dX3_looksAt_18 : decode cX3_looksAt 18 = .ok (.iadd, 1) := dk_96 (dk_at dksX3_looksAt_0 18 rfl rfl)
theorem dX3_looksAt_19 : decode cX3_looksAt 19 = .ok (.invokevirtual 205, 3) := dk_182 0 205 (dk_at dksX3_looksAt_0 19 rfl rfl)
theorem dX3_looksAt_22 : decode cX3_looksAt 22 = .ok (.istore 4, 2) := dk_54 4 (dk_at dksX3_looksAt_0 22 rfl rfl)
theorem dX3_looksAt_24 : decode cX3_looksAt 24 = .ok (.aload_n 0, 1) := dk_42 (dk_at dksX3_looksAt_1 0 rfl rfl)
theorem dX3_looksAt_25 : decode cX3_looksAt 25 = .ok (.iload 4, 2) := dk_21 4 (dk_at dksX3_looksAt_1 1 rfl rfl)
theorem dX3_looksAt_27 : decode cX3_looksAt 27 = .ok (.iconst 2, 1) := dk_5 (dk_at dksX3_looksAt_1 3 rfl rfl)
theorem dX3_looksAt_28 : decode cX3_looksAt 28 = .ok (.invokevirtual 202, 3) := dk_182 0 202 (dk_at dksX3_looksAt_1 4 rfl rfl)
theorem dX3_looksAt_31 : decode cX3_looksAt 31 = .ok (.istore 5, 2) := dk_54 5 (dk_at dksX3_looksAt_1 7 rfl rfl)
theorem dX3_looksAt_33 : decode cX3_looksAt 33 = .ok (.iload 5, 2) := dk_21 5 (dk_at dksX3_looksAt_1 9 rfl rfl)
theorem dX3_looksAt_35 : decode cX3_looksAt 35 = .ok (.iconst (-1), 1) := dk_2 (dk_at dksX3_looksAt_1 11 rfl rfl)
theorem dX3_looksAt_36 : decode cX3_looksAt 36 = .ok (.if_icmp .eq 26, 3) := dk_159 0 26 (dk_at dksX3_looksAt_1 12 rfl rfl)
theorem dX3_looksAt_39 : decode cX3_looksAt 39 = .ok (.iload_n 2, 1) := dk_28 (dk_at dksX3_looksAt_1 15 rfl rfl)
theorem dX3_looksAt_40 : decode cX3_looksAt 40 = .ok (.iload 5, 2) := dk_21 5 (dk_at dksX3_looksAt_1 16 rfl rfl)
theorem dX3_looksAt_42 : decode cX3_looksAt 42 = .ok (.ishr, 1) := dk_122 (dk_at dksX3_looksAt_1 18 rfl rfl)
theorem dX3_looksAt_43 : decode cX3_looksAt 43 = .ok (.iconst 1, 1) := dk_4 (dk_at dksX3_looksAt_1 19 rfl rfl)
theorem dX3_looksAt_44 : decode cX3_looksAt 44 = .ok (.iand, 1) := dk_126 (dk_at dksX3_looksAt_1 20 rfl rfl)
theorem dX3_looksAt_45 : decode cX3_looksAt 45 = .ok (.iconst 1, 1) := dk_4 (dk_at dksX3_looksAt_1 21 rfl rfl)
theorem dX3_looksAt_46 : decode cX3_looksAt 46 = .ok (.if_icmp .ne 16, 3) := dk_160 0 16 (dk_at dksX3_looksAt_2 0 rfl rfl)
theorem dX3_looksAt_49 : decode cX3_looksAt 49 = .ok (.aload_n 0, 1) := dk_42 (dk_at dksX3_looksAt_2 3 rfl rfl)
theorem dX3_looksAt_50 : decode cX3_looksAt 50 = .ok (.iload_n 1, 1) := dk_27 (dk_at dksX3_looksAt_2 4 rfl rfl)
theorem dX3_looksAt_51 : decode cX3_looksAt 51 = .ok (.iload 4, 2) := dk_21 4 (dk_at dksX3_looksAt_2 5 rfl rfl)
theorem dX3_looksAt_53 : decode cX3_looksAt 53 = .ok (.invokevirtual 250, 3) := dk_182 0 250 (dk_at dksX3_looksAt_2 7 rfl rfl)
theorem dX3_looksAt_56 : decode cX3_looksAt 56 = .ok (.ifCond .eq 6, 3) := dk_153 0 6 (dk_at dksX3_looksAt_2 10 rfl rfl)
theorem dX3_looksAt_59 : decode cX3_looksAt 59 = .ok (.iload 4, 2) := dk_21 4 (dk_at dksX3_looksAt_2 13 rfl rfl)
theorem dX3_looksAt_61 : decode cX3_looksAt 61 = .ok (.ireturn, 1) := dk_172 (dk_at dksX3_looksAt_2 15 rfl rfl)
theorem dX3_looksAt_62 : decode cX3_looksAt 62 = .ok (.iinc 3 1, 3) := dk_132 3 1 (dk_at dksX3_looksAt_2 16 rfl rfl)
theorem dX3_looksAt_65 : decode cX3_looksAt 65 = .ok (.goto (-63), 3) := dk_167 255 193 (dk_at dksX3_looksAt_2 19 rfl rfl)
theorem dX3_looksAt_68 : decode cX3_looksAt 68 = .ok (.aload_n 0, 1) := dk_42 (dk_at dksX3_looksAt_2 22 rfl rfl)
theorem dX3_looksAt_69 : decode cX3_looksAt 69 = .ok (.iload_n 1, 1) := dk_27 (dk_at dksX3_looksAt_2 23 rfl rfl)
theorem dX3_looksAt_70 : decode cX3_looksAt 70 = .ok (.iconst 4, 1) := dk_7 (dk_at dksX3_looksAt_3 0 rfl rfl)
theorem dX3_looksAt_71 : decode cX3_looksAt 71 = .ok (.invokevirtual 205, 3) := dk_182 0 205 (dk_at dksX3_looksAt_3 1 rfl rfl)
theorem dX3_looksAt_74 : decode cX3_looksAt 74 = .ok (.ireturn, 1) := dk_172 (dk_at dksX3_looksAt_3 4 rfl rfl)
abbrev cX3_trades : ByteArray := prog_15_method_118_code
def yX3_trades : MethodName := ⟨RX3, "trades", "(I)I"⟩
def dkwX3_trades_4 : List UInt8 := [167, 255, 208, 42, 28, 182, 0, 199, 172]
abbrev dktX3_trades_4 : List UInt8 := dkwX3_trades_4 ++ []
def dkwX3_trades_3 : List UInt8 := [180, 0, 42, 29, 46, 42, 29, 7, 182, 0, 205, 159, 0, 7, 4, 167, 0, 4, 3, 96, 61, 132, 3, 1]
abbrev dktX3_trades_3 : List UInt8 := dkwX3_trades_3 ++ dktX3_trades_4
def dkwX3_trades_2 : List UInt8 := [29, 42, 180, 0, 7, 17, 0, 231, 46, 162, 0, 42, 28, 42, 29, 7, 182, 0, 205, 2, 159, 0, 22, 42]
abbrev dktX3_trades_2 : List UInt8 := dkwX3_trades_2 ++ dktX3_trades_3
def dkwX3_trades_1 : List UInt8 := [27, 4, 160, 0, 10, 42, 180, 1, 110, 167, 0, 7, 42, 180, 1, 113, 182, 0, 199, 172, 3, 61, 3, 62]
abbrev dktX3_trades_1 : List UInt8 := dkwX3_trades_1 ++ dktX3_trades_2
def dkwX3_trades_0 : List UInt8 := [27, 3, 5, 184, 0, 71, 154, 0, 9, 42, 4, 182, 0, 186, 172, 42, 182, 1, 124, 27, 158, 0, 24, 42]
abbrev dktX3_trades_0 : List UInt8 := dkwX3_trades_0 ++ dktX3_trades_1
theorem dksX3_trades_0 : cX3_trades.data.toList.drop 0 = dktX3_trades_0 := by decide +kernel
theorem dksX3_trades_1 : cX3_trades.data.toList.drop 24 = dktX3_trades_1 := dk_seg dksX3_trades_0 24 rfl rfl
theorem dksX3_trades_2 : cX3_trades.data.toList.drop 48 = dktX3_trades_2 := dk_seg dksX3_trades_1 24 rfl rfl
theorem dksX3_trades_3 : cX3_trades.data.toList.drop 72 = dktX3_trades_3 := dk_seg dksX3_trades_2 24 rfl rfl
theorem dksX3_trades_4 : cX3_trades.data.toList.drop 96 = dktX3_trades_4 := dk_seg dksX3_trades_3 24 rfl rfl
theorem dX3_trades_0 : decode cX3_trades 0 = .ok (.iload_n 1, 1) := dk_27 (dk_at dksX3_trades_0 0 rfl rfl)
theorem dX3_trades_1 : decode cX3_trades 1 = .ok (.iconst 0, 1) := dk_3 (dk_at dksX3_trades_0 1 rfl rfl)
theorem dX3_trades_2 : decode cX3_trades 2 = .ok (.iconst 2, 1) := dk_5 (dk_at dksX3_trades_0 2 rfl rfl)
theorem dX3_trades_3 : decode cX3_trades 3 = .ok (.invokestatic 71, 3) := dk_184 0 71 (dk_at dksX3_trades_0 3 rfl rfl)
theorem dX3_trades_6 : decode cX3_trades 6 = .ok (.ifCond .ne 9, 3) := dk_154 0 9 (dk_at dksX3_trades_0 6 rfl rfl)
theorem dX3_trades_9 : decode cX3_trades 9 = .ok (.aload_n 0, 1) := dk_42 (dk_at dksX3_trades_0 9 rfl rfl)
theorem dX3_trades_10 : decode cX3_trades 10 = .ok (.iconst 1, 1) := dk_4 (dk_at dksX3_trades_0 10 rfl rfl)
theorem dX3_trades_11 : decode cX3_trades 11 = .ok (.invokevirtual 186, 3) := dk_182 0 186 (dk_at dksX3_trades_0 11 rfl rfl)
theorem dX3_trades_14 : decode cX3_trades 14 = .ok (.ireturn, 1) := dk_172 (dk_at dksX3_trades_0 14 rfl rfl)
theorem dX3_trades_15 : decode cX3_trades 15 = .ok (.aload_n 0, 1) := dk_42 (dk_at dksX3_trades_0 15 rfl rfl)
theorem dX3_trades_16 : decode cX3_trades 16 = .ok (.invokevirtual 380, 3) := dk_182 1 124 (dk_at dksX3_trades_0 16 rfl rfl)
theorem dX3_trades_19 : decode cX3_trades 19 = .ok (.iload_n 1, 1) := dk_27 (dk_at dksX3_trades_0 19 rfl rfl)
theorem dX3_trades_20 : decode cX3_trades 20 = .ok (.ifCond .le 24, 3) := dk_158 0 24 (dk_at dksX3_trades_0 20 rfl rfl)
theorem dX3_trades_23 : decode cX3_trades 23 = .ok (.aload_n 0, 1) := dk_42 (dk_at dksX3_trades_0 23 rfl rfl)
theorem dX3_trades_24 : decode cX3_trades 24 = .ok (.iload_n 1, 1) := dk_27 (dk_at dksX3_trades_1 0 rfl rfl)
theorem dX3_trades_25 : decode cX3_trades 25 = .ok (.iconst 1, 1) := dk_4 (dk_at dksX3_trades_1 1 rfl rfl)
theorem dX3_trades_26 : decode cX3_trades 26 = .ok (.if_icmp .ne 10, 3) := dk_160 0 10 (dk_at dksX3_trades_1 2 rfl rfl)
theorem dX3_trades_29 : decode cX3_trades 29 = .ok (.aload_n 0, 1) := dk_42 (dk_at dksX3_trades_1 5 rfl rfl)
theorem dX3_trades_30 : decode cX3_trades 30 = .ok (.getfield 366, 3) := dk_180 1 110 (dk_at dksX3_trades_1 6 rfl rfl)
theorem dX3_trades_33 : decode cX3_trades 33 = .ok (.goto 7, 3) := dk_167 0 7 (dk_at dksX3_trades_1 9 rfl rfl)
theorem dX3_trades_36 : decode cX3_trades 36 = .ok (.aload_n 0, 1) := dk_42 (dk_at dksX3_trades_1 12 rfl rfl)
theorem dX3_trades_37 : decode cX3_trades 37 = .ok (.getfield 369, 3) := dk_180 1 113 (dk_at dksX3_trades_1 13 rfl rfl)
theorem dX3_trades_40 : decode cX3_trades 40 = .ok (.invokevirtual 199, 3) := dk_182 0 199 (dk_at dksX3_trades_1 16 rfl rfl)
theorem dX3_trades_43 : decode cX3_trades 43 = .ok (.ireturn, 1) := dk_172 (dk_at dksX3_trades_1 19 rfl rfl)
theorem dX3_trades_44 : decode cX3_trades 44 = .ok (.iconst 0, 1) := dk_3 (dk_at dksX3_trades_1 20 rfl rfl)
theorem dX3_trades_45 : decode cX3_trades 45 = .ok (.istore_n 2, 1) := dk_61 (dk_at dksX3_trades_1 21 rfl rfl)
theorem dX3_trades_46 : decode cX3_trades 46 = .ok (.iconst 0, 1) := dk_3 (dk_at dksX3_trades_1 22 rfl rfl)
theorem dX3_trades_47 : decode cX3_trades 47 = .ok (.istore_n 3, 1) := dk_62 (dk_at dksX3_trades_1 23 rfl rfl)
theorem dX3_trades_48 : decode cX3_trades 48 = .ok (.iload_n 3, 1) := dk_29 (dk_at dksX3_trades_2 0 rfl rfl)
theorem dX3_trades_49 : decode cX3_trades 49 = .ok (.aload_n 0, 1) := dk_42 (dk_at dksX3_trades_2 1 rfl rfl)
theorem dX3_trades_50 : decode cX3_trades 50 = .ok (.getfield 7, 3) := dk_180 0 7 (dk_at dksX3_trades_2 2 rfl rfl)
theorem dX3_trades_53 : decode cX3_trades 53 = .ok (.sipush 231, 3) := dk_17 0 231 (dk_at dksX3_trades_2 5 rfl rfl)
theorem dX3_trades_56 : decode cX3_trades 56 = .ok (.iaload, 1) := dk_46 (dk_at dksX3_trades_2 8 rfl rfl)
theorem dX3_trades_57 : decode cX3_trades 57 = .ok (.if_icmp .ge 42, 3) := dk_162 0 42 (dk_at dksX3_trades_2 9 rfl rfl)
theorem dX3_trades_60 : decode cX3_trades 60 = .ok (.iload_n 2, 1) := dk_28 (dk_at dksX3_trades_2 12 rfl rfl)
theorem dX3_trades_61 : decode cX3_trades 61 = .ok (.aload_n 0, 1) := dk_42 (dk_at dksX3_trades_2 13 rfl rfl)
theorem dX3_trades_62 : decode cX3_trades 62 = .ok (.iload_n 3, 1) := dk_29 (dk_at dksX3_trades_2 14 rfl rfl)
theorem dX3_trades_63 : decode cX3_trades 63 = .ok (.iconst 4, 1) := dk_7 (dk_at dksX3_trades_2 15 rfl rfl)
theorem dX3_trades_64 : decode cX3_trades 64 = .ok (.invokevirtual 205, 3) := dk_182 0 205 (dk_at dksX3_trades_2 16 rfl rfl)
theorem dX3_trades_67 : decode cX3_trades 67 = .ok (.iconst (-1), 1) := dk_2 (dk_at dksX3_trades_2 19 rfl rfl)
theorem dX3_trades_68 : decode cX3_trades 68 = .ok (.if_icmp .eq 22, 3) := dk_159 0 22 (dk_at dksX3_trades_2 20 rfl rfl)
theorem dX3_trades_71 : decode cX3_trades 71 = .ok (.aload_n 0, 1) := dk_42 (dk_at dksX3_trades_2 23 rfl rfl)
theorem dX3_trades_72 : decode cX3_trades 72 = .ok (.getfield 42, 3) := dk_180 0 42 (dk_at dksX3_trades_3 0 rfl rfl)
theorem dX3_trades_75 : decode cX3_trades 75 = .ok (.iload_n 3, 1) := dk_29 (dk_at dksX3_trades_3 3 rfl rfl)
theorem dX3_trades_76 : decode cX3_trades 76 = .ok (.iaload, 1) := dk_46 (dk_at dksX3_trades_3 4 rfl rfl)
theorem dX3_trades_77 : decode cX3_trades 77 = .ok (.aload_n 0, 1) := dk_42 (dk_at dksX3_trades_3 5 rfl rfl)
theorem dX3_trades_78 : decode cX3_trades 78 = .ok (.iload_n 3, 1) := dk_29 (dk_at dksX3_trades_3 6 rfl rfl)
theorem dX3_trades_79 : decode cX3_trades 79 = .ok (.iconst 4, 1) := dk_7 (dk_at dksX3_trades_3 7 rfl rfl)
theorem dX3_trades_80 : decode cX3_trades 80 = .ok (.invokevirtual 205, 3) := dk_182 0 205 (dk_at dksX3_trades_3 8 rfl rfl)
theorem dX3_trades_83 : decode cX3_trades 83 = .ok (.if_icmp .eq 7, 3) := dk_159 0 7 (dk_at dksX3_trades_3 11 rfl rfl)
theorem dX3_trades_86 : decode cX3_trades 86 = .ok (.iconst 1, 1) := dk_4 (dk_at dksX3_trades_3 14 rfl rfl)
theorem dX3_trades_87 : decode cX3_trades 87 = .ok (.goto 4, 3) := dk_167 0 4 (dk_at dksX3_trades_3 15 rfl rfl)
theorem dX3_trades_90 : decode cX3_trades 90 = .ok (.iconst 0, 1) := dk_3 (dk_at dksX3_trades_3 18 rfl rfl)
theorem dX3_trades_91 : decode cX3_trades 91 = .ok (.iadd, 1) := dk_96 (dk_at dksX3_trades_3 19 rfl rfl)
theorem dX3_trades_92 : decode cX3_trades 92 = .ok (.istore_n 2, 1) := dk_61 (dk_at dksX3_trades_3 20 rfl rfl)
theorem dX3_trades_93 : decode cX3_trades 93 = .ok (.iinc 3 1, 3) := dk_132 3 1 (dk_at dksX3_trades_3 21 rfl rfl)
theorem dX3_trades_96 : decode cX3_trades 96 = .ok (.goto (-48), 3) := dk_167 255 208 (dk_at dksX3_trades_4 0 rfl rfl)
theorem dX3_trades_99 : decode cX3_trades 99 = .ok (.aload_n 0, 1) := dk_42 (dk_at dksX3_trades_4 3 rfl rfl)
theorem dX3_trades_100 : decode cX3_trades 100 = .ok (.iload_n 2, 1) := dk_28 (dk_at dksX3_trades_4 4 rfl rfl)
theorem dX3_trades_101 : decode cX3_trades 101 = .ok (.invokevirtual 199, 3) := dk_182 0 199 (dk_at dksX3_trades_4 5 rfl rfl)
theorem dX3_trades_104 : decode cX3_trades 104 = .ok (.ireturn, 1) := dk_172 (dk_at dksX3_trades_4 8 rfl rfl)
abbrev cX3_longest : ByteArray := prog_15_method_120_code
def yX3_longest : MethodName := ⟨RX3, "longest", "(IZ)I"⟩
def dkwX3_longest_4 : List UInt8 := [27, 46, 182, 0, 199, 167, 0, 8, 42, 8, 182, 0, 186, 172]
abbrev dktX3_longest_4 : List UInt8 := dkwX3_longest_4 ++ []
def dkwX3_longest_3 : List UInt8 := [180, 1, 127, 162, 0, 29, 42, 28, 153, 0, 12, 42, 180, 0, 54, 27, 46, 167, 0, 9, 42, 180, 0, 51]
abbrev dktX3_longest_3 : List UInt8 := dkwX3_longest_3 ++ dktX3_longest_4
def dkwX3_longest_2 : List UInt8 := [132, 3, 1, 167, 255, 226, 27, 2, 160, 0, 12, 42, 42, 180, 1, 127, 182, 0, 199, 172, 27, 42]
abbrev dktX3_longest_2 : List UInt8 := dkwX3_longest_2 ++ dktX3_longest_3
def dkwX3_longest_1 : List UInt8 := [17, 0, 230, 46, 162, 0, 24, 42, 29, 182, 0, 219, 153, 0, 10, 42, 29, 3, 3, 182, 1, 130]
abbrev dktX3_longest_1 : List UInt8 := dkwX3_longest_1 ++ dktX3_longest_2
def dkwX3_longest_0 : List UInt8 := [27, 2, 162, 0, 9, 42, 4, 182, 0, 186, 172, 42, 3, 181, 1, 127, 3, 62, 29, 42, 180, 0, 7]
abbrev dktX3_longest_0 : List UInt8 := dkwX3_longest_0 ++ dktX3_longest_1
theorem dksX3_longest_0 : cX3_longest.data.toList.drop 0 = dktX3_longest_0 := by decide +kernel
theorem dksX3_longest_1 : cX3_longest.data.toList.drop 23 = dktX3_longest_1 := dk_seg dksX3_longest_0 23 rfl rfl
theorem dksX3_longest_2 : cX3_longest.data.toList.drop 45 = dktX3_longest_2 := dk_seg dksX3_longest_1 22 rfl rfl
theorem dksX3_longest_3 : cX3_longest.data.toList.drop 67 = dktX3_longest_3 := dk_seg dksX3_longest_2 22 rfl rfl
theorem dksX3_longest_4 : cX3_longest.data.toList.drop 91 = dktX3_longest_4 := dk_seg dksX3_longest_3 24 rfl rfl
theorem dX3_longest_0 : decode cX3_longest 0 = .ok (.iload_n 1, 1) := dk_27 (dk_at dksX3_longest_0 0 rfl rfl)
theorem dX3_longest_1 : decode cX3_longest 1 = .ok (.iconst (-1), 1) := dk_2 (dk_at dksX3_longest_0 1 rfl rfl)
theorem dX3_longest_2 : decode cX3_longest 2 = .ok (.if_icmp .ge 9, 3) := dk_162 0 9 (dk_at dksX3_longest_0 2 rfl rfl)
theorem dX3_longest_5 : decode cX3_longest 5 = .ok (.aload_n 0, 1) := dk_42 (dk_at dksX3_longest_0 5 rfl rfl)
theorem dX3_longest_6 : decode cX3_longest 6 = .ok (.iconst 1, 1) := dk_4 (dk_at dksX3_longest_0 6 rfl rfl)
theorem dX3_longest_7 : decode cX3_longest 7 = .ok (.invokevirtual 186, 3) := dk_182 0 186 (dk_at dksX3_longest_0 7 rfl rfl)
theorem dX3_longest_10 : decode cX3_longest 10 = .ok (.ireturn, 1) := dk_172 (dk_at dksX3_longest_0 10 rfl rfl)
theorem dX3_longest_11 : decode cX3_longest 11 = .ok (.aload_n 0, 1) := dk_42 (dk_at dksX3_longest_0 11 rfl rfl)
theorem dX3_longest_12 : decode cX3_longest 12 = .ok (.iconst 0, 1) := dk_3 (dk_at dksX3_longest_0 12 rfl rfl)
theorem dX3_longest_13 : decode cX3_longest 13 = .ok (.putfield 383, 3) := dk_181 1 127 (dk_at dksX3_longest_0 13 rfl rfl)
theorem dX3_longest_16 : decode cX3_longest 16 = .ok (.iconst 0, 1) := dk_3 (dk_at dksX3_longest_0 16 rfl rfl)
theorem dX3_longest_17 : decode cX3_longest 17 = .ok (.istore_n 3, 1) := dk_62 (dk_at dksX3_longest_0 17 rfl rfl)
theorem dX3_longest_18 : decode cX3_longest 18 = .ok (.iload_n 3, 1) := dk_29 (dk_at dksX3_longest_0 18 rfl rfl)
theorem dX3_longest_19 : decode cX3_longest 19 = .ok (.aload_n 0, 1) := dk_42 (dk_at dksX3_longest_0 19 rfl rfl)
theorem dX3_longest_20 : decode cX3_longest 20 = .ok (.getfield 7, 3) := dk_180 0 7 (dk_at dksX3_longest_0 20 rfl rfl)
theorem dX3_longest_23 : decode cX3_longest 23 = .ok (.sipush 230, 3) := dk_17 0 230 (dk_at dksX3_longest_1 0 rfl rfl)
theorem dX3_longest_26 : decode cX3_longest 26 = .ok (.iaload, 1) := dk_46 (dk_at dksX3_longest_1 3 rfl rfl)
theorem dX3_longest_27 : decode cX3_longest 27 = .ok (.if_icmp .ge 24, 3) := dk_162 0 24 (dk_at dksX3_longest_1 4 rfl rfl)
theorem dX3_longest_30 : decode cX3_longest 30 = .ok (.aload_n 0, 1) := dk_42 (dk_at dksX3_longest_1 7 rfl rfl)
theorem dX3_longest_31 : decode cX3_longest 31 = .ok (.iload_n 3, 1) := dk_29 (dk_at dksX3_longest_1 8 rfl rfl)
theorem dX3_longest_32 : decode cX3_longest 32 = .ok (.invokevirtual 219, 3) := dk_182 0 219 (dk_at dksX3_longest_1 9 rfl rfl)
theorem dX3_longest_35 : decode cX3_longest 35 = .ok (.ifCond .eq 10, 3) := dk_153 0 10 (dk_at dksX3_longest_1 12 rfl rfl)
theorem dX3_longest_38 : decode cX3_longest 38 = .ok (.aload_n 0, 1) := dk_42 (dk_at dksX3_longest_1 15 rfl rfl)
theorem dX3_longest_39 : decode cX3_longest 39 = .ok (.iload_n 3, 1) := dk_29 (dk_at dksX3_longest_1 16 rfl rfl)
theorem dX3_longest_40 : decode cX3_longest 40 = .ok (.iconst 0, 1) := dk_3 (dk_at dksX3_longest_1 17 rfl rfl)
theorem dX3_longest_41 : decode cX3_longest 41 = .ok (.iconst 0, 1) := dk_3 (dk_at dksX3_longest_1 18 rfl rfl)
theorem dX3_longest_42 : decode cX3_longest 42 = .ok (.invokevirtual 386, 3) := dk_182 1 130 (dk_at dksX3_longest_1 19 rfl rfl)
theorem dX3_longest_45 : decode cX3_longest 45 = .ok (.iinc 3 1, 3) := dk_132 3 1 (dk_at dksX3_longest_2 0 rfl rfl)
theorem dX3_longest_48 : decode cX3_longest 48 = .ok (.goto (-30), 3) := dk_167 255 226 (dk_at dksX3_longest_2 3 rfl rfl)
theorem dX3_longest_51 : decode cX3_longest 51 = .ok (.iload_n 1, 1) := dk_27 (dk_at dksX3_longest_2 6 rfl rfl)
theorem dX3_longest_52 : decode cX3_longest 52 = .ok (.iconst (-1), 1) := dk_2 (dk_at dksX3_longest_2 7 rfl rfl)
theorem dX3_longest_53 : decode cX3_longest 53 = .ok (.if_icmp .ne 12, 3) := dk_160 0 12 (dk_at dksX3_longest_2 8 rfl rfl)
theorem dX3_longest_56 : decode cX3_longest 56 = .ok (.aload_n 0, 1) := dk_42 (dk_at dksX3_longest_2 11 rfl rfl)
theorem dX3_longest_57 : decode cX3_longest 57 = .ok (.aload_n 0, 1) := dk_42 (dk_at dksX3_longest_2 12 rfl rfl)
theorem dX3_longest_58 : decode cX3_longest 58 = .ok (.getfield 383, 3) := dk_180 1 127 (dk_at dksX3_longest_2 13 rfl rfl)
theorem dX3_longest_61 : decode cX3_longest 61 = .ok (.invokevirtual 199, 3) := dk_182 0 199 (dk_at dksX3_longest_2 16 rfl rfl)
theorem dX3_longest_64 : decode cX3_longest 64 = .ok (.ireturn, 1) := dk_172 (dk_at dksX3_longest_2 19 rfl rfl)
theorem dX3_longest_65 : decode cX3_longest 65 = .ok (.iload_n 1, 1) := dk_27 (dk_at dksX3_longest_2 20 rfl rfl)
theorem dX3_longest_66 : decode cX3_longest 66 = .ok (.aload_n 0, 1) := dk_42 (dk_at dksX3_longest_2 21 rfl rfl)
theorem dX3_longest_67 : decode cX3_longest 67 = .ok (.getfield 383, 3) := dk_180 1 127 (dk_at dksX3_longest_3 0 rfl rfl)
theorem dX3_longest_70 : decode cX3_longest 70 = .ok (.if_icmp .ge 29, 3) := dk_162 0 29 (dk_at dksX3_longest_3 3 rfl rfl)
theorem dX3_longest_73 : decode cX3_longest 73 = .ok (.aload_n 0, 1) := dk_42 (dk_at dksX3_longest_3 6 rfl rfl)
theorem dX3_longest_74 : decode cX3_longest 74 = .ok (.iload_n 2, 1) := dk_28 (dk_at dksX3_longest_3 7 rfl rfl)
theorem dX3_longest_75 : decode cX3_longest 75 = .ok (.ifCond .eq 12, 3) := dk_153 0 12 (dk_at dksX3_longest_3 8 rfl rfl)
theorem dX3_longest_78 : decode cX3_longest 78 = .ok (.aload_n 0, 1) := dk_42 (dk_at dksX3_longest_3 11 rfl rfl)
theorem dX3_longest_79 : decode cX3_longest 79 = .ok (.getfield 54, 3) := dk_180 0 54 (dk_at dksX3_longest_3 12 rfl rfl)
theorem dX3_longest_82 : decode cX3_longest 82 = .ok (.iload_n 1, 1) := dk_27 (dk_at dksX3_longest_3 15 rfl rfl)
theorem dX3_longest_83 : decode cX3_longest 83 = .ok (.iaload, 1) := dk_46 (dk_at dksX3_longest_3 16 rfl rfl)
theorem dX3_longest_84 : decode cX3_longest 84 = .ok (.goto 9, 3) := dk_167 0 9 (dk_at dksX3_longest_3 17 rfl rfl)
theorem dX3_longest_87 : decode cX3_longest 87 = .ok (.aload_n 0, 1) := dk_42 (dk_at dksX3_longest_3 20 rfl rfl)
theorem dX3_longest_88 : decode cX3_longest 88 = .ok (.getfield 51, 3) := dk_180 0 51 (dk_at dksX3_longest_3 21 rfl rfl)
theorem dX3_longest_91 : decode cX3_longest 91 = .ok (.iload_n 1, 1) := dk_27 (dk_at dksX3_longest_4 0 rfl rfl)
theorem dX3_longest_92 : decode cX3_longest 92 = .ok (.iaload, 1) := dk_46 (dk_at dksX3_longest_4 1 rfl rfl)
theorem dX3_longest_93 : decode cX3_longest 93 = .ok (.invokevirtual 199, 3) := dk_182 0 199 (dk_at dksX3_longest_4 2 rfl rfl)
theorem dX3_longest_96 : decode cX3_longest 96 = .ok (.goto 8, 3) := dk_167 0 8 (dk_at dksX3_longest_4 5 rfl rfl)
theorem dX3_longest_99 : decode cX3_longest 99 = .ok (.aload_n 0, 1) := dk_42 (dk_at dksX3_longest_4 8 rfl rfl)
theorem dX3_longest_100 : decode cX3_longest 100 = .ok (.iconst 5, 1) := dk_8 (dk_at dksX3_longest_4 9 rfl rfl)
theorem dX3_longest_101 : decode cX3_longest 101 = .ok (.invokevirtual 186, 3) := dk_182 0 186 (dk_at dksX3_longest_4 10 rfl rfl)
theorem dX3_longest_104 : decode cX3_longest 104 = .ok (.ireturn, 1) := dk_172 (dk_at dksX3_longest_4 13 rfl rfl)
abbrev cX3_movesOn : ByteArray := prog_15_method_119_code
def yX3_movesOn : MethodName := ⟨RX3, "movesOn", "(III)V"⟩
def dkwX3_movesOn_6 : List UInt8 := [182, 1, 130, 132, 4, 1, 167, 255, 111, 177]
abbrev dktX3_movesOn_6 : List UInt8 := dkwX3_movesOn_6 ++ []
def dkwX3_movesOn_5 : List UInt8 := [182, 0, 205, 2, 159, 0, 23, 42, 42, 21, 4, 7, 182, 0, 205, 28, 4, 96, 29, 4, 21, 4, 120, 128]
abbrev dktX3_movesOn_5 : List UInt8 := dkwX3_movesOn_5 ++ dktX3_movesOn_6
def dkwX3_movesOn_4 : List UInt8 := [180, 0, 54, 21, 5, 42, 180, 0, 48, 21, 5, 46, 79, 132, 5, 1, 167, 255, 219, 42, 21, 4, 7]
abbrev dktX3_movesOn_4 : List UInt8 := dkwX3_movesOn_4 ++ dktX3_movesOn_5
def dkwX3_movesOn_3 : List UInt8 := [3, 54, 5, 21, 5, 28, 163, 0, 37, 42, 180, 0, 51, 21, 5, 42, 180, 0, 45, 21, 5, 46, 79, 42]
abbrev dktX3_movesOn_3 : List UInt8 := dkwX3_movesOn_3 ++ dktX3_movesOn_4
def dkwX3_movesOn_2 : List UInt8 := [42, 180, 0, 48, 28, 27, 79, 28, 4, 96, 42, 180, 1, 127, 164, 0, 53, 42, 28, 4, 96, 181, 1, 127]
abbrev dktX3_movesOn_2 : List UInt8 := dkwX3_movesOn_2 ++ dktX3_movesOn_3
def dkwX3_movesOn_1 : List UInt8 := [159, 0, 122, 42, 21, 4, 27, 182, 1, 81, 154, 0, 6, 167, 0, 109, 42, 180, 0, 45, 28, 21, 4, 79]
abbrev dktX3_movesOn_1 : List UInt8 := dkwX3_movesOn_1 ++ dktX3_movesOn_2
def dkwX3_movesOn_0 : List UInt8 := [3, 54, 4, 21, 4, 42, 180, 0, 7, 17, 0, 231, 46, 162, 0, 138, 29, 21, 4, 122, 4, 126, 4]
abbrev dktX3_movesOn_0 : List UInt8 := dkwX3_movesOn_0 ++ dktX3_movesOn_1
theorem dksX3_movesOn_0 : cX3_movesOn.data.toList.drop 0 = dktX3_movesOn_0 := by decide +kernel
theorem dksX3_movesOn_1 : cX3_movesOn.data.toList.drop 23 = dktX3_movesOn_1 := dk_seg dksX3_movesOn_0 23 rfl rfl
theorem dksX3_movesOn_2 : cX3_movesOn.data.toList.drop 47 = dktX3_movesOn_2 := dk_seg dksX3_movesOn_1 24 rfl rfl
theorem dksX3_movesOn_3 : cX3_movesOn.data.toList.drop 71 = dktX3_movesOn_3 := dk_seg dksX3_movesOn_2 24 rfl rfl
theorem dksX3_movesOn_4 : cX3_movesOn.data.toList.drop 95 = dktX3_movesOn_4 := dk_seg dksX3_movesOn_3 24 rfl rfl
theorem dksX3_movesOn_5 : cX3_movesOn.data.toList.drop 118 = dktX3_movesOn_5 := dk_seg dksX3_movesOn_4 23 rfl rfl
theorem dksX3_movesOn_6 : cX3_movesOn.data.toList.drop 142 = dktX3_movesOn_6 := dk_seg dksX3_movesOn_5 24 rfl rfl
theorem dX3_movesOn_0 : decode cX3_movesOn 0 = .ok (.iconst 0, 1) := dk_3 (dk_at dksX3_movesOn_0 0 rfl rfl)
theorem dX3_movesOn_1 : decode cX3_movesOn 1 = .ok (.istore 4, 2) := dk_54 4 (dk_at dksX3_movesOn_0 1 rfl rfl)
theorem dX3_movesOn_3 : decode cX3_movesOn 3 = .ok (.iload 4, 2) := dk_21 4 (dk_at dksX3_movesOn_0 3 rfl rfl)
theorem dX3_movesOn_5 : decode cX3_movesOn 5 = .ok (.aload_n 0, 1) := dk_42 (dk_at dksX3_movesOn_0 5 rfl rfl)
theorem dX3_movesOn_6 : decode cX3_movesOn 6 = .ok (.getfield 7, 3) := dk_180 0 7 (dk_at dksX3_movesOn_0 6 rfl rfl)
theorem dX3_movesOn_9 : decode cX3_movesOn 9 = .ok (.sipush 231, 3) := dk_17 0 231 (dk_at dksX3_movesOn_0 9 rfl rfl)
theorem dX3_movesOn_12 : decode cX3_movesOn 12 = .ok (.iaload, 1) := dk_46 (dk_at dksX3_movesOn_0 12 rfl rfl)
theorem dX3_movesOn_13 : decode cX3_movesOn 13 = .ok (.if_icmp .ge 138, 3) := dk_162 0 138 (dk_at dksX3_movesOn_0 13 rfl rfl)
theorem dX3_movesOn_16 : decode cX3_movesOn 16 = .ok (.iload_n 3, 1) := dk_29 (dk_at dksX3_movesOn_0 16 rfl rfl)
theorem dX3_movesOn_17 : decode cX3_movesOn 17 = .ok (.iload 4, 2) := dk_21 4 (dk_at dksX3_movesOn_0 17 rfl rfl)
theorem dX3_movesOn_19 : decode cX3_movesOn 19 = .ok (.ishr, 1) := dk_122 (dk_at dksX3_movesOn_0 19 rfl rfl)
theorem dX3_movesOn_20 : decode cX3_movesOn 20 = .ok (.iconst 1, 1) := dk_4 (dk_at dksX3_movesOn_0 20 rfl rfl)
theorem dX3_movesOn_21 : decode cX3_movesOn 21 = .ok (.iand, 1) := dk_126 (dk_at dksX3_movesOn_0 21 rfl rfl)
theorem dX3_movesOn_22 : decode cX3_movesOn 22 = .ok (.iconst 1, 1) := dk_4 (dk_at dksX3_movesOn_0 22 rfl rfl)
theorem dX3_movesOn_23 : decode cX3_movesOn 23 = .ok (.if_icmp .eq 122, 3) := dk_159 0 122 (dk_at dksX3_movesOn_1 0 rfl rfl)
theorem dX3_movesOn_26 : decode cX3_movesOn 26 = .ok (.aload_n 0, 1) := dk_42 (dk_at dksX3_movesOn_1 3 rfl rfl)
theorem dX3_movesOn_27 : decode cX3_movesOn 27 = .ok (.iload 4, 2) := dk_21 4 (dk_at dksX3_movesOn_1 4 rfl rfl)
theorem dX3_movesOn_29 : decode cX3_movesOn 29 = .ok (.iload_n 1, 1) := dk_27 (dk_at dksX3_movesOn_1 6 rfl rfl)
theorem dX3_movesOn_30 : decode cX3_movesOn 30 = .ok (.invokevirtual 337, 3) := dk_182 1 81 (dk_at dksX3_movesOn_1 7 rfl rfl)
theorem dX3_movesOn_33 : decode cX3_movesOn 33 = .ok (.ifCond .ne 6, 3) := dk_154 0 6 (dk_at dksX3_movesOn_1 10 rfl rfl)
theorem dX3_movesOn_36 : decode cX3_movesOn 36 = .ok (.goto 109, 3) := dk_167 0 109 (dk_at dksX3_movesOn_1 13 rfl rfl)
theorem dX3_movesOn_39 : decode cX3_movesOn 39 = .ok (.aload_n 0, 1) := dk_42 (dk_at dksX3_movesOn_1 16 rfl rfl)
theorem dX3_movesOn_40 : decode cX3_movesOn 40 = .ok (.getfield 45, 3) := dk_180 0 45 (dk_at dksX3_movesOn_1 17 rfl rfl)
theorem dX3_movesOn_43 : decode cX3_movesOn 43 = .ok (.iload_n 2, 1) := dk_28 (dk_at dksX3_movesOn_1 20 rfl rfl)
theorem dX3_movesOn_44 : decode cX3_movesOn 44 = .ok (.iload 4, 2) := dk_21 4 (dk_at dksX3_movesOn_1 21 rfl rfl)
theorem dX3_movesOn_46 : decode cX3_movesOn 46 = .ok (.iastore, 1) := dk_79 (dk_at dksX3_movesOn_1 23 rfl rfl)
theorem dX3_movesOn_47 : decode cX3_movesOn 47 = .ok (.aload_n 0, 1) := dk_42 (dk_at dksX3_movesOn_2 0 rfl rfl)
theorem dX3_movesOn_48 : decode cX3_movesOn 48 = .ok (.getfield 48, 3) := dk_180 0 48 (dk_at dksX3_movesOn_2 1 rfl rfl)
theorem dX3_movesOn_51 : decode cX3_movesOn 51 = .ok (.iload_n 2, 1) := dk_28 (dk_at dksX3_movesOn_2 4 rfl rfl)
theorem dX3_movesOn_52 : decode cX3_movesOn 52 = .ok (.iload_n 1, 1) := dk_27 (dk_at dksX3_movesOn_2 5 rfl rfl)
theorem dX3_movesOn_53 : decode cX3_movesOn 53 = .ok (.iastore, 1) := dk_79 (dk_at dksX3_movesOn_2 6 rfl rfl)
theorem dX3_movesOn_54 : decode cX3_movesOn 54 = .ok (.iload_n 2, 1) := dk_28 (dk_at dksX3_movesOn_2 7 rfl rfl)
theorem dX3_movesOn_55 : decode cX3_movesOn 55 = .ok (.iconst 1, 1) := dk_4 (dk_at dksX3_movesOn_2 8 rfl rfl)
theorem dX3_movesOn_56 : decode cX3_movesOn 56 = .ok (.iadd, 1) := dk_96 (dk_at dksX3_movesOn_2 9 rfl rfl)
theorem dX3_movesOn_57 : decode cX3_movesOn 57 = .ok (.aload_n 0, 1) := dk_42 (dk_at dksX3_movesOn_2 10 rfl rfl)
theorem dX3_movesOn_58 : decode cX3_movesOn 58 = .ok (.getfield 383, 3) := dk_180 1 127 (dk_at dksX3_movesOn_2 11 rfl rfl)
theorem dX3_movesOn_61 : decode cX3_movesOn 61 = .ok (.if_icmp .le 53, 3) := dk_164 0 53 (dk_at dksX3_movesOn_2 14 rfl rfl)
theorem dX3_movesOn_64 : decode cX3_movesOn 64 = .ok (.aload_n 0, 1) := dk_42 (dk_at dksX3_movesOn_2 17 rfl rfl)
theorem dX3_movesOn_65 : decode cX3_movesOn 65 = .ok (.iload_n 2, 1) := dk_28 (dk_at dksX3_movesOn_2 18 rfl rfl)
theorem dX3_movesOn_66 : decode cX3_movesOn 66 = .ok (.iconst 1, 1) := dk_4 (dk_at dksX3_movesOn_2 19 rfl rfl)
theorem dX3_movesOn_67 : decode cX3_movesOn 67 = .ok (.iadd, 1) := dk_96 (dk_at dksX3_movesOn_2 20 rfl rfl)
theorem dX3_movesOn_68 : decode cX3_movesOn 68 = .ok (.putfield 383, 3) := dk_181 1 127 (dk_at dksX3_movesOn_2 21 rfl rfl)
theorem dX3_movesOn_71 : decode cX3_movesOn 71 = .ok (.iconst 0, 1) := dk_3 (dk_at dksX3_movesOn_3 0 rfl rfl)
theorem dX3_movesOn_72 : decode cX3_movesOn 72 = .ok (.istore 5, 2) := dk_54 5 (dk_at dksX3_movesOn_3 1 rfl rfl)
theorem dX3_movesOn_74 : decode cX3_movesOn 74 = .ok (.iload 5, 2) := dk_21 5 (dk_at dksX3_movesOn_3 3 rfl rfl)
theorem dX3_movesOn_76 : decode cX3_movesOn 76 = .ok (.iload_n 2, 1) := dk_28 (dk_at dksX3_movesOn_3 5 rfl rfl)
theorem dX3_movesOn_77 : decode cX3_movesOn 77 = .ok (.if_icmp .gt 37, 3) := dk_163 0 37 (dk_at dksX3_movesOn_3 6 rfl rfl)
theorem dX3_movesOn_80 : decode cX3_movesOn 80 = .ok (.aload_n 0, 1) := dk_42 (dk_at dksX3_movesOn_3 9 rfl rfl)
theorem dX3_movesOn_81 : decode cX3_movesOn 81 = .ok (.getfield 51, 3) := dk_180 0 51 (dk_at dksX3_movesOn_3 10 rfl rfl)
theorem dX3_movesOn_84 : decode cX3_movesOn 84 = .ok (.iload 5, 2) := dk_21 5 (dk_at dksX3_movesOn_3 13 rfl rfl)
theorem dX3_movesOn_86 : decode cX3_movesOn 86 = .ok (.aload_n 0, 1) := dk_42 (dk_at dksX3_movesOn_3 15 rfl rfl)
theorem dX3_movesOn_87 : decode cX3_movesOn 87 = .ok (.getfield 45, 3) := dk_180 0 45 (dk_at dksX3_movesOn_3 16 rfl rfl)
theorem dX3_movesOn_90 : decode cX3_movesOn 90 = .ok (.iload 5, 2) := dk_21 5 (dk_at dksX3_movesOn_3 19 rfl rfl)
theorem dX3_movesOn_92 : decode cX3_movesOn 92 = .ok (.iaload, 1) := dk_46 (dk_at dksX3_movesOn_3 21 rfl rfl)
theorem dX3_movesOn_93 : decode cX3_movesOn 93 = .ok (.iastore, 1) := dk_79 (dk_at dksX3_movesOn_3 22 rfl rfl)
theorem dX3_movesOn_94 : decode cX3_movesOn 94 = .ok (.aload_n 0, 1) := dk_42 (dk_at dksX3_movesOn_3 23 rfl rfl)
theorem dX3_movesOn_95 : decode cX3_movesOn 95 = .ok (.getfield 54, 3) := dk_180 0 54 (dk_at dksX3_movesOn_4 0 rfl rfl)
theorem dX3_movesOn_98 : decode cX3_movesOn 98 = .ok (.iload 5, 2) := dk_21 5 (dk_at dksX3_movesOn_4 3 rfl rfl)
theorem dX3_movesOn_100 : decode cX3_movesOn 100 = .ok (.aload_n 0, 1) := dk_42 (dk_at dksX3_movesOn_4 5 rfl rfl)
theorem dX3_movesOn_101 : decode cX3_movesOn 101 = .ok (.getfield 48, 3) := dk_180 0 48 (dk_at dksX3_movesOn_4 6 rfl rfl)
theorem dX3_movesOn_104 : decode cX3_movesOn 104 = .ok (.iload 5, 2) := dk_21 5 (dk_at dksX3_movesOn_4 9 rfl rfl)
theorem dX3_movesOn_106 : decode cX3_movesOn 106 = .ok (.iaload, 1) := dk_46 (dk_at dksX3_movesOn_4 11 rfl rfl)
theorem dX3_movesOn_107 : decode cX3_movesOn 107 = .ok (.iastore, 1) := dk_79 (dk_at dksX3_movesOn_4 12 rfl rfl)
theorem dX3_movesOn_108 : decode cX3_movesOn 108 = .ok (.iinc 5 1, 3) := dk_132 5 1 (dk_at dksX3_movesOn_4 13 rfl rfl)
theorem dX3_movesOn_111 : decode cX3_movesOn 111 = .ok (.goto (-37), 3) := dk_167 255 219 (dk_at dksX3_movesOn_4 16 rfl rfl)
theorem dX3_movesOn_114 : decode cX3_movesOn 114 = .ok (.aload_n 0, 1) := dk_42 (dk_at dksX3_movesOn_4 19 rfl rfl)
theorem dX3_movesOn_115 : decode cX3_movesOn 115 = .ok (.iload 4, 2) := dk_21 4 (dk_at dksX3_movesOn_4 20 rfl rfl)
theorem dX3_movesOn_117 : decode cX3_movesOn 117 = .ok (.iconst 4, 1) := dk_7 (dk_at dksX3_movesOn_4 22 rfl rfl)
theorem dX3_movesOn_118 : decode cX3_movesOn 118 = .ok (.invokevirtual 205, 3) := dk_182 0 205 (dk_at dksX3_movesOn_5 0 rfl rfl)
theorem dX3_movesOn_121 : decode cX3_movesOn 121 = .ok (.iconst (-1), 1) := dk_2 (dk_at dksX3_movesOn_5 3 rfl rfl)
theorem dX3_movesOn_122 : decode cX3_movesOn 122 = .ok (.if_icmp .eq 23, 3) := dk_159 0 23 (dk_at dksX3_movesOn_5 4 rfl rfl)
theorem dX3_movesOn_125 : decode cX3_movesOn 125 = .ok (.aload_n 0, 1) := dk_42 (dk_at dksX3_movesOn_5 7 rfl rfl)
theorem dX3_movesOn_126 : decode cX3_movesOn 126 = .ok (.aload_n 0, 1) := dk_42 (dk_at dksX3_movesOn_5 8 rfl rfl)
theorem dX3_movesOn_127 : decode cX3_movesOn 127 = .ok (.iload 4, 2) := dk_21 4 (dk_at dksX3_movesOn_5 9 rfl rfl)
theorem dX3_movesOn_129 : decode cX3_movesOn 129 = .ok (.iconst 4, 1) := dk_7 (dk_at dksX3_movesOn_5 11 rfl rfl)
theorem dX3_movesOn_130 : decode cX3_movesOn 130 = .ok (.invokevirtual 205, 3) := dk_182 0 205 (dk_at dksX3_movesOn_5 12 rfl rfl)
theorem dX3_movesOn_133 : decode cX3_movesOn 133 = .ok (.iload_n 2, 1) := dk_28 (dk_at dksX3_movesOn_5 15 rfl rfl)
theorem dX3_movesOn_134 : decode cX3_movesOn 134 = .ok (.iconst 1, 1) := dk_4 (dk_at dksX3_movesOn_5 16 rfl rfl)
theorem dX3_movesOn_135 : decode cX3_movesOn 135 = .ok (.iadd, 1) := dk_96 (dk_at dksX3_movesOn_5 17 rfl rfl)
theorem dX3_movesOn_136 : decode cX3_movesOn 136 = .ok (.iload_n 3, 1) := dk_29 (dk_at dksX3_movesOn_5 18 rfl rfl)
theorem dX3_movesOn_137 : decode cX3_movesOn 137 = .ok (.iconst 1, 1) := dk_4 (dk_at dksX3_movesOn_5 19 rfl rfl)
theorem dX3_movesOn_138 : decode cX3_movesOn 138 = .ok (.iload 4, 2) := dk_21 4 (dk_at dksX3_movesOn_5 20 rfl rfl)
theorem dX3_movesOn_140 : decode cX3_movesOn 140 = .ok (.ishl, 1) := dk_120 (dk_at dksX3_movesOn_5 22 rfl rfl)
theorem dX3_movesOn_141 : decode cX3_movesOn 141 = .ok (.ior, 1) := dk_128 (dk_at dksX3_movesOn_5 23 rfl rfl)
theorem dX3_movesOn_142 : decode cX3_movesOn 142 = .ok (.invokevirtual 386, 3) := dk_182 1 130 (dk_at dksX3_movesOn_6 0 rfl rfl)
theorem dX3_movesOn_145 : decode cX3_movesOn 145 = .ok (.iinc 4 1, 3) := dk_132 4 1 (dk_at dksX3_movesOn_6 3 rfl rfl)
theorem dX3_movesOn_148 : decode cX3_movesOn 148 = .ok (.goto (-145), 3) := dk_167 255 111 (dk_at dksX3_movesOn_6 6 rfl rfl)
theorem dX3_movesOn_151 : decode cX3_movesOn 151 = .ok (.return_, 1) := dk_177 (dk_at dksX3_movesOn_6 9 rfl rfl)
abbrev cX3_undo : ByteArray := prog_15_method_122_code
def yX3_undo : MethodName := ⟨RX3, "undo", "()I"⟩
def dkwX3_undo_2 : List UInt8 := [104, 27, 96, 46, 79, 132, 1, 1, 167, 255, 225, 42, 42, 180, 0, 196, 182, 0, 199, 172]
abbrev dktX3_undo_2 : List UInt8 := dkwX3_undo_2 ++ []
def dkwX3_undo_1 : List UInt8 := [60, 27, 17, 1, 134, 162, 0, 30, 42, 180, 0, 7, 27, 42, 180, 0, 19, 17, 1, 134, 42, 180, 0, 196]
abbrev dktX3_undo_1 : List UInt8 := dkwX3_undo_1 ++ dktX3_undo_2
def dkwX3_undo_0 : List UInt8 := [42, 180, 0, 196, 154, 0, 9, 42, 8, 182, 0, 186, 172, 42, 89, 180, 0, 196, 4, 100, 181, 0, 196, 3]
abbrev dktX3_undo_0 : List UInt8 := dkwX3_undo_0 ++ dktX3_undo_1
theorem dksX3_undo_0 : cX3_undo.data.toList.drop 0 = dktX3_undo_0 := by decide +kernel
theorem dksX3_undo_1 : cX3_undo.data.toList.drop 24 = dktX3_undo_1 := dk_seg dksX3_undo_0 24 rfl rfl
theorem dksX3_undo_2 : cX3_undo.data.toList.drop 48 = dktX3_undo_2 := dk_seg dksX3_undo_1 24 rfl rfl
theorem dX3_undo_0 : decode cX3_undo 0 = .ok (.aload_n 0, 1) := dk_42 (dk_at dksX3_undo_0 0 rfl rfl)
theorem dX3_undo_1 : decode cX3_undo 1 = .ok (.getfield 196, 3) := dk_180 0 196 (dk_at dksX3_undo_0 1 rfl rfl)
theorem dX3_undo_4 : decode cX3_undo 4 = .ok (.ifCond .ne 9, 3) := dk_154 0 9 (dk_at dksX3_undo_0 4 rfl rfl)
theorem dX3_undo_7 : decode cX3_undo 7 = .ok (.aload_n 0, 1) := dk_42 (dk_at dksX3_undo_0 7 rfl rfl)
theorem dX3_undo_8 : decode cX3_undo 8 = .ok (.iconst 5, 1) := dk_8 (dk_at dksX3_undo_0 8 rfl rfl)
theorem dX3_undo_9 : decode cX3_undo 9 = .ok (.invokevirtual 186, 3) := dk_182 0 186 (dk_at dksX3_undo_0 9 rfl rfl)
theorem dX3_undo_12 : decode cX3_undo 12 = .ok (.ireturn, 1) := dk_172 (dk_at dksX3_undo_0 12 rfl rfl)
theorem dX3_undo_13 : decode cX3_undo 13 = .ok (.aload_n 0, 1) := dk_42 (dk_at dksX3_undo_0 13 rfl rfl)
theorem dX3_undo_14 : decode cX3_undo 14 = .ok (.dup, 1) := dk_89 (dk_at dksX3_undo_0 14 rfl rfl)
theorem dX3_undo_15 : decode cX3_undo 15 = .ok (.getfield 196, 3) := dk_180 0 196 (dk_at dksX3_undo_0 15 rfl rfl)
theorem dX3_undo_18 : decode cX3_undo 18 = .ok (.iconst 1, 1) := dk_4 (dk_at dksX3_undo_0 18 rfl rfl)
theorem dX3_undo_19 : decode cX3_undo 19 = .ok (.isub, 1) := dk_100 (dk_at dksX3_undo_0 19 rfl rfl)
theorem dX3_undo_20 : decode cX3_undo 20 = .ok (.putfield 196, 3) := dk_181 0 196 (dk_at dksX3_undo_0 20 rfl rfl)
theorem dX3_undo_23 : decode cX3_undo 23 = .ok (.iconst 0, 1) := dk_3 (dk_at dksX3_undo_0 23 rfl rfl)
theorem dX3_undo_24 : decode cX3_undo 24 = .ok (.istore_n 1, 1) := dk_60 (dk_at dksX3_undo_1 0 rfl rfl)
theorem dX3_undo_25 : decode cX3_undo 25 = .ok (.iload_n 1, 1) := dk_27 (dk_at dksX3_undo_1 1 rfl rfl)
theorem dX3_undo_26 : decode cX3_undo 26 = .ok (.sipush 390, 3) := dk_17 1 134 (dk_at dksX3_undo_1 2 rfl rfl)
theorem dX3_undo_29 : decode cX3_undo 29 = .ok (.if_icmp .ge 30, 3) := dk_162 0 30 (dk_at dksX3_undo_1 5 rfl rfl)
theorem dX3_undo_32 : decode cX3_undo 32 = .ok (.aload_n 0, 1) := dk_42 (dk_at dksX3_undo_1 8 rfl rfl)
theorem dX3_undo_33 : decode cX3_undo 33 = .ok (.getfield 7, 3) := dk_180 0 7 (dk_at dksX3_undo_1 9 rfl rfl)
theorem dX3_undo_36 : decode cX3_undo 36 = .ok (.iload_n 1, 1) := dk_27 (dk_at dksX3_undo_1 12 rfl rfl)
theorem dX3_undo_37 : decode cX3_undo 37 = .ok (.aload_n 0, 1) := dk_42 (dk_at dksX3_undo_1 13 rfl rfl)
theorem dX3_undo_38 : decode cX3_undo 38 = .ok (.getfield 19, 3) := dk_180 0 19 (dk_at dksX3_undo_1 14 rfl rfl)
theorem dX3_undo_41 : decode cX3_undo 41 = .ok (.sipush 390, 3) := dk_17 1 134 (dk_at dksX3_undo_1 17 rfl rfl)
theorem dX3_undo_44 : decode cX3_undo 44 = .ok (.aload_n 0, 1) := dk_42 (dk_at dksX3_undo_1 20 rfl rfl)
theorem dX3_undo_45 : decode cX3_undo 45 = .ok (.getfield 196, 3) := dk_180 0 196 (dk_at dksX3_undo_1 21 rfl rfl)
theorem dX3_undo_48 : decode cX3_undo 48 = .ok (.imul, 1) := dk_104 (dk_at dksX3_undo_2 0 rfl rfl)
theorem dX3_undo_49 : decode cX3_undo 49 = .ok (.iload_n 1, 1) := dk_27 (dk_at dksX3_undo_2 1 rfl rfl)
theorem dX3_undo_50 : decode cX3_undo 50 = .ok (.iadd, 1) := dk_96 (dk_at dksX3_undo_2 2 rfl rfl)
theorem dX3_undo_51 : decode cX3_undo 51 = .ok (.iaload, 1) := dk_46 (dk_at dksX3_undo_2 3 rfl rfl)
theorem dX3_undo_52 : decode cX3_undo 52 = .ok (.iastore, 1) := dk_79 (dk_at dksX3_undo_2 4 rfl rfl)
theorem dX3_undo_53 : decode cX3_undo 53 = .ok (.iinc 1 1, 3) := dk_132 1 1 (dk_at dksX3_undo_2 5 rfl rfl)
theorem dX3_undo_56 : decode cX3_undo 56 = .ok (.goto (-31), 3) := dk_167 255 225 (dk_at dksX3_undo_2 8 rfl rfl)
theorem dX3_undo_59 : decode cX3_undo 59 = .ok (.aload_n 0, 1) := dk_42 (dk_at dksX3_undo_2 11 rfl rfl)
theorem dX3_undo_60 : decode cX3_undo 60 = .ok (.aload_n 0, 1) := dk_42 (dk_at dksX3_undo_2 12 rfl rfl)
theorem dX3_undo_61 : decode cX3_undo 61 = .ok (.getfield 196, 3) := dk_180 0 196 (dk_at dksX3_undo_2 13 rfl rfl)
theorem dX3_undo_64 : decode cX3_undo 64 = .ok (.invokevirtual 199, 3) := dk_182 0 199 (dk_at dksX3_undo_2 16 rfl rfl)
theorem dX3_undo_67 : decode cX3_undo 67 = .ok (.ireturn, 1) := dk_172 (dk_at dksX3_undo_2 19 rfl rfl)
abbrev cX3_bid : ByteArray := prog_15_method_123_code
def yX3_bid : MethodName := ⟨RX3, "bid", "(II)I"⟩
def dkwX3_bid_2 : List UInt8 := [120, 128, 182, 1, 33, 42, 42, 27, 16, 10, 182, 0, 205, 184, 0, 222, 182, 0, 199, 172]
abbrev dktX3_bid_2 : List UInt8 := dkwX3_bid_2 ++ []
def dkwX3_bid_1 : List UInt8 := [42, 16, 7, 182, 0, 186, 172, 42, 182, 1, 133, 42, 27, 16, 10, 42, 27, 16, 10, 182, 0, 205, 4, 28]
abbrev dktX3_bid_1 : List UInt8 := dkwX3_bid_1 ++ dktX3_bid_2
def dkwX3_bid_0 : List UInt8 := [42, 27, 28, 182, 0, 253, 154, 0, 9, 42, 5, 182, 0, 186, 172, 42, 27, 28, 182, 1, 0, 153, 0, 10]
abbrev dktX3_bid_0 : List UInt8 := dkwX3_bid_0 ++ dktX3_bid_1
theorem dksX3_bid_0 : cX3_bid.data.toList.drop 0 = dktX3_bid_0 := by decide +kernel
theorem dksX3_bid_1 : cX3_bid.data.toList.drop 24 = dktX3_bid_1 := dk_seg dksX3_bid_0 24 rfl rfl
theorem dksX3_bid_2 : cX3_bid.data.toList.drop 48 = dktX3_bid_2 := dk_seg dksX3_bid_1 24 rfl rfl
theorem dX3_bid_0 : decode cX3_bid 0 = .ok (.aload_n 0, 1) := dk_42 (dk_at dksX3_bid_0 0 rfl rfl)
theorem dX3_bid_1 : decode cX3_bid 1 = .ok (.iload_n 1, 1) := dk_27 (dk_at dksX3_bid_0 1 rfl rfl)
theorem dX3_bid_2 : decode cX3_bid 2 = .ok (.iload_n 2, 1) := dk_28 (dk_at dksX3_bid_0 2 rfl rfl)
theorem dX3_bid_3 : decode cX3_bid 3 = .ok (.invokevirtual 253, 3) := dk_182 0 253 (dk_at dksX3_bid_0 3 rfl rfl)
theorem dX3_bid_6 : decode cX3_bid 6 = .ok (.ifCond .ne 9, 3) := dk_154 0 9 (dk_at dksX3_bid_0 6 rfl rfl)
theorem dX3_bid_9 : decode cX3_bid 9 = .ok (.aload_n 0, 1) := dk_42 (dk_at dksX3_bid_0 9 rfl rfl)
theorem dX3_bid_10 : decode cX3_bid 10 = .ok (.iconst 2, 1) := dk_5 (dk_at dksX3_bid_0 10 rfl rfl)
theorem dX3_bid_11 : decode cX3_bid 11 = .ok (.invokevirtual 186, 3) := dk_182 0 186 (dk_at dksX3_bid_0 11 rfl rfl)
theorem dX3_bid_14 : decode cX3_bid 14 = .ok (.ireturn, 1) := dk_172 (dk_at dksX3_bid_0 14 rfl rfl)
theorem dX3_bid_15 : decode cX3_bid 15 = .ok (.aload_n 0, 1) := dk_42 (dk_at dksX3_bid_0 15 rfl rfl)
theorem dX3_bid_16 : decode cX3_bid 16 = .ok (.iload_n 1, 1) := dk_27 (dk_at dksX3_bid_0 16 rfl rfl)
theorem dX3_bid_17 : decode cX3_bid 17 = .ok (.iload_n 2, 1) := dk_28 (dk_at dksX3_bid_0 17 rfl rfl)
theorem dX3_bid_18 : decode cX3_bid 18 = .ok (.invokevirtual 256, 3) := dk_182 1 0 (dk_at dksX3_bid_0 18 rfl rfl)
theorem dX3_bid_21 : decode cX3_bid 21 = .ok (.ifCond .eq 10, 3) := dk_153 0 10 (dk_at dksX3_bid_0 21 rfl rfl)
theorem dX3_bid_24 : decode cX3_bid 24 = .ok (.aload_n 0, 1) := dk_42 (dk_at dksX3_bid_1 0 rfl rfl)
theorem dX3_bid_25 : decode cX3_bid 25 = .ok (.bipush 7, 2) := dk_16 7 (dk_at dksX3_bid_1 1 rfl rfl)
theorem dX3_bid_27 : decode cX3_bid 27 = .ok (.invokevirtual 186, 3) := dk_182 0 186 (dk_at dksX3_bid_1 3 rfl rfl)
theorem dX3_bid_30 : decode cX3_bid 30 = .ok (.ireturn, 1) := dk_172 (dk_at dksX3_bid_1 6 rfl rfl)
theorem dX3_bid_31 : decode cX3_bid 31 = .ok (.aload_n 0, 1) := dk_42 (dk_at dksX3_bid_1 7 rfl rfl)
theorem dX3_bid_32 : decode cX3_bid 32 = .ok (.invokevirtual 389, 3) := dk_182 1 133 (dk_at dksX3_bid_1 8 rfl rfl)
theorem dX3_bid_35 : decode cX3_bid 35 = .ok (.aload_n 0, 1) := dk_42 (dk_at dksX3_bid_1 11 rfl rfl)
theorem dX3_bid_36 : decode cX3_bid 36 = .ok (.iload_n 1, 1) := dk_27 (dk_at dksX3_bid_1 12 rfl rfl)
theorem dX3_bid_37 : decode cX3_bid 37 = .ok (.bipush 10, 2) := dk_16 10 (dk_at dksX3_bid_1 13 rfl rfl)
theorem dX3_bid_39 : decode cX3_bid 39 = .ok (.aload_n 0, 1) := dk_42 (dk_at dksX3_bid_1 15 rfl rfl)
theorem dX3_bid_40 : decode cX3_bid 40 = .ok (.iload_n 1, 1) := dk_27 (dk_at dksX3_bid_1 16 rfl rfl)
theorem dX3_bid_41 : decode cX3_bid 41 = .ok (.bipush 10, 2) := dk_16 10 (dk_at dksX3_bid_1 17 rfl rfl)
theorem dX3_bid_43 : decode cX3_bid 43 = .ok (.invokevirtual 205, 3) := dk_182 0 205 (dk_at dksX3_bid_1 19 rfl rfl)
theorem dX3_bid_46 : decode cX3_bid 46 = .ok (.iconst 1, 1) := dk_4 (dk_at dksX3_bid_1 22 rfl rfl)
theorem dX3_bid_47 : decode cX3_bid 47 = .ok (.iload_n 2, 1) := dk_28 (dk_at dksX3_bid_1 23 rfl rfl)
theorem dX3_bid_48 : decode cX3_bid 48 = .ok (.ishl, 1) := dk_120 (dk_at dksX3_bid_2 0 rfl rfl)
theorem dX3_bid_49 : decode cX3_bid 49 = .ok (.ior, 1) := dk_128 (dk_at dksX3_bid_2 1 rfl rfl)
theorem dX3_bid_50 : decode cX3_bid 50 = .ok (.invokevirtual 289, 3) := dk_182 1 33 (dk_at dksX3_bid_2 2 rfl rfl)
theorem dX3_bid_53 : decode cX3_bid 53 = .ok (.aload_n 0, 1) := dk_42 (dk_at dksX3_bid_2 5 rfl rfl)
theorem dX3_bid_54 : decode cX3_bid 54 = .ok (.aload_n 0, 1) := dk_42 (dk_at dksX3_bid_2 6 rfl rfl)
theorem dX3_bid_55 : decode cX3_bid 55 = .ok (.iload_n 1, 1) := dk_27 (dk_at dksX3_bid_2 7 rfl rfl)
theorem dX3_bid_56 : decode cX3_bid 56 = .ok (.bipush 10, 2) := dk_16 10 (dk_at dksX3_bid_2 8 rfl rfl)
theorem dX3_bid_58 : decode cX3_bid 58 = .ok (.invokevirtual 205, 3) := dk_182 0 205 (dk_at dksX3_bid_2 10 rfl rfl)
theorem dX3_bid_61 : decode cX3_bid 61 = .ok (.invokestatic 222, 3) := dk_184 0 222 (dk_at dksX3_bid_2 13 rfl rfl)
theorem dX3_bid_64 : decode cX3_bid 64 = .ok (.invokevirtual 199, 3) := dk_182 0 199 (dk_at dksX3_bid_2 16 rfl rfl)
theorem dX3_bid_67 : decode cX3_bid 67 = .ok (.ireturn, 1) := dk_172 (dk_at dksX3_bid_2 19 rfl rfl)
abbrev cX3_keeps : ByteArray := prog_15_method_121_code
def yX3_keeps : MethodName := ⟨RX3, "keeps", "()V"⟩
def dkwX3_keeps_4 : List UInt8 := [181, 0, 196, 177]
abbrev dktX3_keeps_4 : List UInt8 := dkwX3_keeps_4 ++ []
def dkwX3_keeps_3 : List UInt8 := [104, 27, 96, 42, 180, 0, 7, 27, 46, 79, 132, 1, 1, 167, 255, 225, 42, 89, 180, 0, 196, 4, 96]
abbrev dktX3_keeps_3 : List UInt8 := dkwX3_keeps_3 ++ dktX3_keeps_4
def dkwX3_keeps_2 : List UInt8 := [100, 181, 0, 196, 3, 60, 27, 17, 1, 134, 162, 0, 30, 42, 180, 0, 19, 17, 1, 134, 42, 180, 0, 196]
abbrev dktX3_keeps_2 : List UInt8 := dkwX3_keeps_2 ++ dktX3_keeps_3
def dkwX3_keeps_1 : List UInt8 := [27, 17, 1, 134, 100, 42, 180, 0, 19, 27, 46, 79, 132, 1, 1, 167, 255, 230, 42, 89, 180, 0, 196, 4]
abbrev dktX3_keeps_1 : List UInt8 := dkwX3_keeps_1 ++ dktX3_keeps_2
def dkwX3_keeps_0 : List UInt8 := [42, 180, 0, 196, 16, 12, 160, 0, 46, 17, 1, 134, 60, 27, 17, 18, 72, 162, 0, 25, 42, 180, 0, 19]
abbrev dktX3_keeps_0 : List UInt8 := dkwX3_keeps_0 ++ dktX3_keeps_1
theorem dksX3_keeps_0 : cX3_keeps.data.toList.drop 0 = dktX3_keeps_0 := by decide +kernel
theorem dksX3_keeps_1 : cX3_keeps.data.toList.drop 24 = dktX3_keeps_1 := dk_seg dksX3_keeps_0 24 rfl rfl
theorem dksX3_keeps_2 : cX3_keeps.data.toList.drop 48 = dktX3_keeps_2 := dk_seg dksX3_keeps_1 24 rfl rfl
theorem dksX3_keeps_3 : cX3_keeps.data.toList.drop 72 = dktX3_keeps_3 := dk_seg dksX3_keeps_2 24 rfl rfl
theorem dksX3_keeps_4 : cX3_keeps.data.toList.drop 95 = dktX3_keeps_4 := dk_seg dksX3_keeps_3 23 rfl rfl
theorem dX3_keeps_0 : decode cX3_keeps 0 = .ok (.aload_n 0, 1) := dk_42 (dk_at dksX3_keeps_0 0 rfl rfl)
theorem dX3_keeps_1 : decode cX3_keeps 1 = .ok (.getfield 196, 3) := dk_180 0 196 (dk_at dksX3_keeps_0 1 rfl rfl)
theorem dX3_keeps_4 : decode cX3_keeps 4 = .ok (.bipush 12, 2) := dk_16 12 (dk_at dksX3_keeps_0 4 rfl rfl)
theorem dX3_keeps_6 : decode cX3_keeps 6 = .ok (.if_icmp .ne 46, 3) := dk_160 0 46 (dk_at dksX3_keeps_0 6 rfl rfl)
theorem dX3_keeps_9 : decode cX3_keeps 9 = .ok (.sipush 390, 3) := dk_17 1 134 (dk_at dksX3_keeps_0 9 rfl rfl)
theorem dX3_keeps_12 : decode cX3_keeps 12 = .ok (.istore_n 1, 1) := dk_60 (dk_at dksX3_keeps_0 12 rfl rfl)
theorem dX3_keeps_13 : decode cX3_keeps 13 = .ok (.iload_n 1, 1) := dk_27 (dk_at dksX3_keeps_0 13 rfl rfl)
theorem dX3_keeps_14 : decode cX3_keeps 14 = .ok (.sipush 4680, 3) := dk_17 18 72 (dk_at dksX3_keeps_0 14 rfl rfl)
theorem dX3_keeps_17 : decode cX3_keeps 17 = .ok (.if_icmp .ge 25, 3) := dk_162 0 25 (dk_at dksX3_keeps_0 17 rfl rfl)
theorem dX3_keeps_20 : decode cX3_keeps 20 = .ok (.aload_n 0, 1) := dk_42 (dk_at dksX3_keeps_0 20 rfl rfl)
theorem dX3_keeps_21 : decode cX3_keeps 21 = .ok (.getfield 19, 3) := dk_180 0 19 (dk_at dksX3_keeps_0 21 rfl rfl)
theorem dX3_keeps_24 : decode cX3_keeps 24 = .ok (.iload_n 1, 1) := dk_27 (dk_at dksX3_keeps_1 0 rfl rfl)
theorem dX3_keeps_25 : decode cX3_keeps 25 = .ok (.sipush 390, 3) := dk_17 1 134 (dk_at dksX3_keeps_1 1 rfl rfl)
theorem dX3_keeps_28 : decode cX3_keeps 28 = .ok (.isub, 1) := dk_100 (dk_at dksX3_keeps_1 4 rfl rfl)
theorem dX3_keeps_29 : decode cX3_keeps 29 = .ok (.aload_n 0, 1) := dk_42 (dk_at dksX3_keeps_1 5 rfl rfl)
theorem dX3_keeps_30 : decode cX3_keeps 30 = .ok (.getfield 19, 3) := dk_180 0 19 (dk_at dksX3_keeps_1 6 rfl rfl)
theorem dX3_keeps_33 : decode cX3_keeps 33 = .ok (.iload_n 1, 1) := dk_27 (dk_at dksX3_keeps_1 9 rfl rfl)
theorem dX3_keeps_34 : decode cX3_keeps 34 = .ok (.iaload, 1) := dk_46 (dk_at dksX3_keeps_1 10 rfl rfl)
theorem dX3_keeps_35 : decode cX3_keeps 35 = .ok (.iastore, 1) := dk_79 (dk_at dksX3_keeps_1 11 rfl rfl)
theorem dX3_keeps_36 : decode cX3_keeps 36 = .ok (.iinc 1 1, 3) := dk_132 1 1 (dk_at dksX3_keeps_1 12 rfl rfl)
theorem dX3_keeps_39 : decode cX3_keeps 39 = .ok (.goto (-26), 3) := dk_167 255 230 (dk_at dksX3_keeps_1 15 rfl rfl)
theorem dX3_keeps_42 : decode cX3_keeps 42 = .ok (.aload_n 0, 1) := dk_42 (dk_at dksX3_keeps_1 18 rfl rfl)
theorem dX3_keeps_43 : decode cX3_keeps 43 = .ok (.dup, 1) := dk_89 (dk_at dksX3_keeps_1 19 rfl rfl)
theorem dX3_keeps_44 : decode cX3_keeps 44 = .ok (.getfield 196, 3) := dk_180 0 196 (dk_at dksX3_keeps_1 20 rfl rfl)
theorem dX3_keeps_47 : decode cX3_keeps 47 = .ok (.iconst 1, 1) := dk_4 (dk_at dksX3_keeps_1 23 rfl rfl)
theorem dX3_keeps_48 : decode cX3_keeps 48 = .ok (.isub, 1) := dk_100 (dk_at dksX3_keeps_2 0 rfl rfl)
theorem dX3_keeps_49 : decode cX3_keeps 49 = .ok (.putfield 196, 3) := dk_181 0 196 (dk_at dksX3_keeps_2 1 rfl rfl)
theorem dX3_keeps_52 : decode cX3_keeps 52 = .ok (.iconst 0, 1) := dk_3 (dk_at dksX3_keeps_2 4 rfl rfl)
theorem dX3_keeps_53 : decode cX3_keeps 53 = .ok (.istore_n 1, 1) := dk_60 (dk_at dksX3_keeps_2 5 rfl rfl)
theorem dX3_keeps_54 : decode cX3_keeps 54 = .ok (.iload_n 1, 1) := dk_27 (dk_at dksX3_keeps_2 6 rfl rfl)
theorem dX3_keeps_55 : decode cX3_keeps 55 = .ok (.sipush 390, 3) := dk_17 1 134 (dk_at dksX3_keeps_2 7 rfl rfl)
theorem dX3_keeps_58 : decode cX3_keeps 58 = .ok (.if_icmp .ge 30, 3) := dk_162 0 30 (dk_at dksX3_keeps_2 10 rfl rfl)
theorem dX3_keeps_61 : decode cX3_keeps 61 = .ok (.aload_n 0, 1) := dk_42 (dk_at dksX3_keeps_2 13 rfl rfl)
theorem dX3_keeps_62 : decode cX3_keeps 62 = .ok (.getfield 19, 3) := dk_180 0 19 (dk_at dksX3_keeps_2 14 rfl rfl)
theorem dX3_keeps_65 : decode cX3_keeps 65 = .ok (.sipush 390, 3) := dk_17 1 134 (dk_at dksX3_keeps_2 17 rfl rfl)
theorem dX3_keeps_68 : decode cX3_keeps 68 = .ok (.aload_n 0, 1) := dk_42 (dk_at dksX3_keeps_2 20 rfl rfl)
theorem dX3_keeps_69 : decode cX3_keeps 69 = .ok (.getfield 196, 3) := dk_180 0 196 (dk_at dksX3_keeps_2 21 rfl rfl)
theorem dX3_keeps_72 : decode cX3_keeps 72 = .ok (.imul, 1) := dk_104 (dk_at dksX3_keeps_3 0 rfl rfl)
theorem dX3_keeps_73 : decode cX3_keeps 73 = .ok (.iload_n 1, 1) := dk_27 (dk_at dksX3_keeps_3 1 rfl rfl)
theorem dX3_keeps_74 : decode cX3_keeps 74 = .ok (.iadd, 1) := dk_96 (dk_at dksX3_keeps_3 2 rfl rfl)
theorem dX3_keeps_75 : decode cX3_keeps 75 = .ok (.aload_n 0, 1) := dk_42 (dk_at dksX3_keeps_3 3 rfl rfl)
theorem dX3_keeps_76 : decode cX3_keeps 76 = .ok (.getfield 7, 3) := dk_180 0 7 (dk_at dksX3_keeps_3 4 rfl rfl)
theorem dX3_keeps_79 : decode cX3_keeps 79 = .ok (.iload_n 1, 1) := dk_27 (dk_at dksX3_keeps_3 7 rfl rfl)
theorem dX3_keeps_80 : decode cX3_keeps 80 = .ok (.iaload, 1) := dk_46 (dk_at dksX3_keeps_3 8 rfl rfl)
theorem dX3_keeps_81 : decode cX3_keeps 81 = .ok (.iastore, 1) := dk_79 (dk_at dksX3_keeps_3 9 rfl rfl)
theorem dX3_keeps_82 : decode cX3_keeps 82 = .ok (.iinc 1 1, 3) := dk_132 1 1 (dk_at dksX3_keeps_3 10 rfl rfl)
theorem dX3_keeps_85 : decode cX3_keeps 85 = .ok (.goto (-31), 3) := dk_167 255 225 (dk_at dksX3_keeps_3 13 rfl rfl)
theorem dX3_keeps_88 : decode cX3_keeps 88 = .ok (.aload_n 0, 1) := dk_42 (dk_at dksX3_keeps_3 16 rfl rfl)
theorem dX3_keeps_89 : decode cX3_keeps 89 = .ok (.dup, 1) := dk_89 (dk_at dksX3_keeps_3 17 rfl rfl)
theorem dX3_keeps_90 : decode cX3_keeps 90 = .ok (.getfield 196, 3) := dk_180 0 196 (dk_at dksX3_keeps_3 18 rfl rfl)
theorem dX3_keeps_93 : decode cX3_keeps 93 = .ok (.iconst 1, 1) := dk_4 (dk_at dksX3_keeps_3 21 rfl rfl)
theorem dX3_keeps_94 : decode cX3_keeps 94 = .ok (.iadd, 1) := dk_96 (dk_at dksX3_keeps_3 22 rfl rfl)
theorem dX3_keeps_95 : decode cX3_keeps 95 = .ok (.putfield 196, 3) := dk_181 0 196 (dk_at dksX3_keeps_4 0 rfl rfl)
theorem dX3_keeps_98 : decode cX3_keeps 98 = .ok (.return_, 1) := dk_177 (dk_at dksX3_keeps_4 3 rfl rfl)
abbrev cX3_unbid : ByteArray := prog_15_method_124_code
def yX3_unbid : MethodName := ⟨RX3, "unbid", "(II)I"⟩
def dkwX3_unbid_2 : List UInt8 := [2, 130, 126, 182, 1, 33, 42, 42, 27, 16, 10, 182, 0, 205, 184, 0, 222, 182, 0, 199, 172]
abbrev dktX3_unbid_2 : List UInt8 := dkwX3_unbid_2 ++ []
def dkwX3_unbid_1 : List UInt8 := [42, 8, 182, 0, 186, 172, 42, 182, 1, 133, 42, 27, 16, 10, 42, 27, 16, 10, 182, 0, 205, 4, 28, 120]
abbrev dktX3_unbid_1 : List UInt8 := dkwX3_unbid_1 ++ dktX3_unbid_2
def dkwX3_unbid_0 : List UInt8 := [42, 27, 28, 182, 0, 253, 154, 0, 9, 42, 5, 182, 0, 186, 172, 42, 27, 28, 182, 0, 234, 154, 0, 9]
abbrev dktX3_unbid_0 : List UInt8 := dkwX3_unbid_0 ++ dktX3_unbid_1
theorem dksX3_unbid_0 : cX3_unbid.data.toList.drop 0 = dktX3_unbid_0 := by decide +kernel
theorem dksX3_unbid_1 : cX3_unbid.data.toList.drop 24 = dktX3_unbid_1 := dk_seg dksX3_unbid_0 24 rfl rfl
theorem dksX3_unbid_2 : cX3_unbid.data.toList.drop 48 = dktX3_unbid_2 := dk_seg dksX3_unbid_1 24 rfl rfl
theorem dX3_unbid_0 : decode cX3_unbid 0 = .ok (.aload_n 0, 1) := dk_42 (dk_at dksX3_unbid_0 0 rfl rfl)
theorem dX3_unbid_1 : decode cX3_unbid 1 = .ok (.iload_n 1, 1) := dk_27 (dk_at dksX3_unbid_0 1 rfl rfl)
theorem dX3_unbid_2 : decode cX3_unbid 2 = .ok (.iload_n 2, 1) := dk_28 (dk_at dksX3_unbid_0 2 rfl rfl)
theorem dX3_unbid_3 : decode cX3_unbid 3 = .ok (.invokevirtual 253, 3) := dk_182 0 253 (dk_at dksX3_unbid_0 3 rfl rfl)
theorem dX3_unbid_6 : decode cX3_unbid 6 = .ok (.ifCond .ne 9, 3) := dk_154 0 9 (dk_at dksX3_unbid_0 6 rfl rfl)
theorem dX3_unbid_9 : decode cX3_unbid 9 = .ok (.aload_n 0, 1) := dk_42 (dk_at dksX3_unbid_0 9 rfl rfl)
theorem dX3_unbid_10 : decode cX3_unbid 10 = .ok (.iconst 2, 1) := dk_5 (dk_at dksX3_unbid_0 10 rfl rfl)
theorem dX3_unbid_11 : decode cX3_unbid 11 = .ok (.invokevirtual 186, 3) := dk_182 0 186 (dk_at dksX3_unbid_0 11 rfl rfl)
theorem dX3_unbid_14 : decode cX3_unbid 14 = .ok (.ireturn, 1) := dk_172 (dk_at dksX3_unbid_0 14 rfl rfl)
theorem dX3_unbid_15 : decode cX3_unbid 15 = .ok (.aload_n 0, 1) := dk_42 (dk_at dksX3_unbid_0 15 rfl rfl)
theorem dX3_unbid_16 : decode cX3_unbid 16 = .ok (.iload_n 1, 1) := dk_27 (dk_at dksX3_unbid_0 16 rfl rfl)
theorem dX3_unbid_17 : decode cX3_unbid 17 = .ok (.iload_n 2, 1) := dk_28 (dk_at dksX3_unbid_0 17 rfl rfl)
theorem dX3_unbid_18 : decode cX3_unbid 18 = .ok (.invokevirtual 234, 3) := dk_182 0 234 (dk_at dksX3_unbid_0 18 rfl rfl)
theorem dX3_unbid_21 : decode cX3_unbid 21 = .ok (.ifCond .ne 9, 3) := dk_154 0 9 (dk_at dksX3_unbid_0 21 rfl rfl)
theorem dX3_unbid_24 : decode cX3_unbid 24 = .ok (.aload_n 0, 1) := dk_42 (dk_at dksX3_unbid_1 0 rfl rfl)
theorem dX3_unbid_25 : decode cX3_unbid 25 = .ok (.iconst 5, 1) := dk_8 (dk_at dksX3_unbid_1 1 rfl rfl)
theorem dX3_unbid_26 : decode cX3_unbid 26 = .ok (.invokevirtual 186, 3) := dk_182 0 186 (dk_at dksX3_unbid_1 2 rfl rfl)
theorem dX3_unbid_29 : decode cX3_unbid 29 = .ok (.ireturn, 1) := dk_172 (dk_at dksX3_unbid_1 5 rfl rfl)
theorem dX3_unbid_30 : decode cX3_unbid 30 = .ok (.aload_n 0, 1) := dk_42 (dk_at dksX3_unbid_1 6 rfl rfl)
theorem dX3_unbid_31 : decode cX3_unbid 31 = .ok (.invokevirtual 389, 3) := dk_182 1 133 (dk_at dksX3_unbid_1 7 rfl rfl)
theorem dX3_unbid_34 : decode cX3_unbid 34 = .ok (.aload_n 0, 1) := dk_42 (dk_at dksX3_unbid_1 10 rfl rfl)
theorem dX3_unbid_35 : decode cX3_unbid 35 = .ok (.iload_n 1, 1) := dk_27 (dk_at dksX3_unbid_1 11 rfl rfl)
theorem dX3_unbid_36 : decode cX3_unbid 36 = .ok (.bipush 10, 2) := dk_16 10 (dk_at dksX3_unbid_1 12 rfl rfl)
theorem dX3_unbid_38 : decode cX3_unbid 38 = .ok (.aload_n 0, 1) := dk_42 (dk_at dksX3_unbid_1 14 rfl rfl)
theorem dX3_unbid_39 : decode cX3_unbid 39 = .ok (.iload_n 1, 1) := dk_27 (dk_at dksX3_unbid_1 15 rfl rfl)
theorem dX3_unbid_40 : decode cX3_unbid 40 = .ok (.bipush 10, 2) := dk_16 10 (dk_at dksX3_unbid_1 16 rfl rfl)
theorem dX3_unbid_42 : decode cX3_unbid 42 = .ok (.invokevirtual 205, 3) := dk_182 0 205 (dk_at dksX3_unbid_1 18 rfl rfl)
theorem dX3_unbid_45 : decode cX3_unbid 45 = .ok (.iconst 1, 1) := dk_4 (dk_at dksX3_unbid_1 21 rfl rfl)
theorem dX3_unbid_46 : decode cX3_unbid 46 = .ok (.iload_n 2, 1) := dk_28 (dk_at dksX3_unbid_1 22 rfl rfl)
theorem dX3_unbid_47 : decode cX3_unbid 47 = .ok (.ishl, 1) := dk_120 (dk_at dksX3_unbid_1 23 rfl rfl)
theorem dX3_unbid_48 : decode cX3_unbid 48 = .ok (.iconst (-1), 1) := dk_2 (dk_at dksX3_unbid_2 0 rfl rfl)
theorem dX3_unbid_49 : decode cX3_unbid 49 = .ok (.ixor, 1) := dk_130 (dk_at dksX3_unbid_2 1 rfl rfl)
theorem dX3_unbid_50 : decode cX3_unbid 50 = .ok (.iand, 1) := dk_126 (dk_at dksX3_unbid_2 2 rfl rfl)
theorem dX3_unbid_51 : decode cX3_unbid 51 = .ok (.invokevirtual 289, 3) := dk_182 1 33 (dk_at dksX3_unbid_2 3 rfl rfl)
theorem dX3_unbid_54 : decode cX3_unbid 54 = .ok (.aload_n 0, 1) := dk_42 (dk_at dksX3_unbid_2 6 rfl rfl)
theorem dX3_unbid_55 : decode cX3_unbid 55 = .ok (.aload_n 0, 1) := dk_42 (dk_at dksX3_unbid_2 7 rfl rfl)
theorem dX3_unbid_56 : decode cX3_unbid 56 = .ok (.iload_n 1, 1) := dk_27 (dk_at dksX3_unbid_2 8 rfl rfl)
theorem dX3_unbid_57 : decode cX3_unbid 57 = .ok (.bipush 10, 2) := dk_16 10 (dk_at dksX3_unbid_2 9 rfl rfl)
theorem dX3_unbid_59 : decode cX3_unbid 59 = .ok (.invokevirtual 205, 3) := dk_182 0 205 (dk_at dksX3_unbid_2 11 rfl rfl)
theorem dX3_unbid_62 : decode cX3_unbid 62 = .ok (.invokestatic 222, 3) := dk_184 0 222 (dk_at dksX3_unbid_2 14 rfl rfl)
theorem dX3_unbid_65 : decode cX3_unbid 65 = .ok (.invokevirtual 199, 3) := dk_182 0 199 (dk_at dksX3_unbid_2 17 rfl rfl)
theorem dX3_unbid_68 : decode cX3_unbid 68 = .ok (.ireturn, 1) := dk_172 (dk_at dksX3_unbid_2 20 rfl rfl)
abbrev cX3_auto : ByteArray := prog_15_method_125_code
def yX3_auto : MethodName := ⟨RX3, "auto", "()I"⟩
def dkwX3_auto_2 : List UInt8 := [182, 0, 199, 172]
abbrev dktX3_auto_2 : List UInt8 := dkwX3_auto_2 ++ []
def dkwX3_auto_1 : List UInt8 := [184, 0, 192, 27, 154, 0, 9, 42, 7, 182, 0, 186, 172, 42, 182, 1, 133, 42, 42, 182, 1, 69]
abbrev dktX3_auto_1 : List UInt8 := dkwX3_auto_1 ++ dktX3_auto_2
def dkwX3_auto_0 : List UInt8 := [42, 180, 0, 7, 42, 180, 0, 16, 184, 0, 192, 42, 182, 1, 69, 60, 42, 180, 0, 16, 42, 180, 0, 7]
abbrev dktX3_auto_0 : List UInt8 := dkwX3_auto_0 ++ dktX3_auto_1
theorem dksX3_auto_0 : cX3_auto.data.toList.drop 0 = dktX3_auto_0 := by decide +kernel
theorem dksX3_auto_1 : cX3_auto.data.toList.drop 24 = dktX3_auto_1 := dk_seg dksX3_auto_0 24 rfl rfl
theorem dksX3_auto_2 : cX3_auto.data.toList.drop 46 = dktX3_auto_2 := dk_seg dksX3_auto_1 22 rfl rfl
theorem dX3_auto_0 : decode cX3_auto 0 = .ok (.aload_n 0, 1) := dk_42 (dk_at dksX3_auto_0 0 rfl rfl)
theorem dX3_auto_1 : decode cX3_auto 1 = .ok (.getfield 7, 3) := dk_180 0 7 (dk_at dksX3_auto_0 1 rfl rfl)
theorem dX3_auto_4 : decode cX3_auto 4 = .ok (.aload_n 0, 1) := dk_42 (dk_at dksX3_auto_0 4 rfl rfl)
theorem dX3_auto_5 : decode cX3_auto 5 = .ok (.getfield 16, 3) := dk_180 0 16 (dk_at dksX3_auto_0 5 rfl rfl)
theorem dX3_auto_8 : decode cX3_auto 8 = .ok (.invokestatic 192, 3) := dk_184 0 192 (dk_at dksX3_auto_0 8 rfl rfl)
theorem dX3_auto_11 : decode cX3_auto 11 = .ok (.aload_n 0, 1) := dk_42 (dk_at dksX3_auto_0 11 rfl rfl)
theorem dX3_auto_12 : decode cX3_auto 12 = .ok (.invokevirtual 325, 3) := dk_182 1 69 (dk_at dksX3_auto_0 12 rfl rfl)
theorem dX3_auto_15 : decode cX3_auto 15 = .ok (.istore_n 1, 1) := dk_60 (dk_at dksX3_auto_0 15 rfl rfl)
theorem dX3_auto_16 : decode cX3_auto 16 = .ok (.aload_n 0, 1) := dk_42 (dk_at dksX3_auto_0 16 rfl rfl)
theorem dX3_auto_17 : decode cX3_auto 17 = .ok (.getfield 16, 3) := dk_180 0 16 (dk_at dksX3_auto_0 17 rfl rfl)
theorem dX3_auto_20 : decode cX3_auto 20 = .ok (.aload_n 0, 1) := dk_42 (dk_at dksX3_auto_0 20 rfl rfl)
theorem dX3_auto_21 : decode cX3_auto 21 = .ok (.getfield 7, 3) := dk_180 0 7 (dk_at dksX3_auto_0 21 rfl rfl)
theorem dX3_auto_24 : decode cX3_auto 24 = .ok (.invokestatic 192, 3) := dk_184 0 192 (dk_at dksX3_auto_1 0 rfl rfl)
theorem dX3_auto_27 : decode cX3_auto 27 = .ok (.iload_n 1, 1) := dk_27 (dk_at dksX3_auto_1 3 rfl rfl)
theorem dX3_auto_28 : decode cX3_auto 28 = .ok (.ifCond .ne 9, 3) := dk_154 0 9 (dk_at dksX3_auto_1 4 rfl rfl)
theorem dX3_auto_31 : decode cX3_auto 31 = .ok (.aload_n 0, 1) := dk_42 (dk_at dksX3_auto_1 7 rfl rfl)
theorem dX3_auto_32 : decode cX3_auto 32 = .ok (.iconst 4, 1) := dk_7 (dk_at dksX3_auto_1 8 rfl rfl)
theorem dX3_auto_33 : decode cX3_auto 33 = .ok (.invokevirtual 186, 3) := dk_182 0 186 (dk_at dksX3_auto_1 9 rfl rfl)
theorem dX3_auto_36 : decode cX3_auto 36 = .ok (.ireturn, 1) := dk_172 (dk_at dksX3_auto_1 12 rfl rfl)
theorem dX3_auto_37 : decode cX3_auto 37 = .ok (.aload_n 0, 1) := dk_42 (dk_at dksX3_auto_1 13 rfl rfl)
theorem dX3_auto_38 : decode cX3_auto 38 = .ok (.invokevirtual 389, 3) := dk_182 1 133 (dk_at dksX3_auto_1 14 rfl rfl)
theorem dX3_auto_41 : decode cX3_auto 41 = .ok (.aload_n 0, 1) := dk_42 (dk_at dksX3_auto_1 17 rfl rfl)
theorem dX3_auto_42 : decode cX3_auto 42 = .ok (.aload_n 0, 1) := dk_42 (dk_at dksX3_auto_1 18 rfl rfl)
theorem dX3_auto_43 : decode cX3_auto 43 = .ok (.invokevirtual 325, 3) := dk_182 1 69 (dk_at dksX3_auto_1 19 rfl rfl)
theorem dX3_auto_46 : decode cX3_auto 46 = .ok (.invokevirtual 199, 3) := dk_182 0 199 (dk_at dksX3_auto_2 0 rfl rfl)
theorem dX3_auto_49 : decode cX3_auto 49 = .ok (.ireturn, 1) := dk_172 (dk_at dksX3_auto_2 3 rfl rfl)
abbrev cX3_week : ByteArray := prog_15_method_126_code
def yX3_week : MethodName := ⟨RX3, "week", "()I"⟩
def dkwX3_week_1 : List UInt8 := [42, 42, 182, 1, 72, 182, 0, 199, 172]
abbrev dktX3_week_1 : List UInt8 := dkwX3_week_1 ++ []
def dkwX3_week_0 : List UInt8 := [42, 180, 0, 7, 17, 0, 232, 46, 17, 3, 231, 160, 0, 9, 42, 6, 182, 0, 186, 172, 42, 182, 1, 133]
abbrev dktX3_week_0 : List UInt8 := dkwX3_week_0 ++ dktX3_week_1
theorem dksX3_week_0 : cX3_week.data.toList.drop 0 = dktX3_week_0 := by decide +kernel
theorem dksX3_week_1 : cX3_week.data.toList.drop 24 = dktX3_week_1 := dk_seg dksX3_week_0 24 rfl rfl
theorem dX3_week_0 : decode cX3_week 0 = .ok (.aload_n 0, 1) := dk_42 (dk_at dksX3_week_0 0 rfl rfl)
theorem dX3_week_1 : decode cX3_week 1 = .ok (.getfield 7, 3) := dk_180 0 7 (dk_at dksX3_week_0 1 rfl rfl)
theorem dX3_week_4 : decode cX3_week 4 = .ok (.sipush 232, 3) := dk_17 0 232 (dk_at dksX3_week_0 4 rfl rfl)
theorem dX3_week_7 : decode cX3_week 7 = .ok (.iaload, 1) := dk_46 (dk_at dksX3_week_0 7 rfl rfl)
theorem dX3_week_8 : decode cX3_week 8 = .ok (.sipush 999, 3) := dk_17 3 231 (dk_at dksX3_week_0 8 rfl rfl)
theorem dX3_week_11 : decode cX3_week 11 = .ok (.if_icmp .ne 9, 3) := dk_160 0 9 (dk_at dksX3_week_0 11 rfl rfl)
theorem dX3_week_14 : decode cX3_week 14 = .ok (.aload_n 0, 1) := dk_42 (dk_at dksX3_week_0 14 rfl rfl)
theorem dX3_week_15 : decode cX3_week 15 = .ok (.iconst 3, 1) := dk_6 (dk_at dksX3_week_0 15 rfl rfl)
theorem dX3_week_16 : decode cX3_week 16 = .ok (.invokevirtual 186, 3) := dk_182 0 186 (dk_at dksX3_week_0 16 rfl rfl)
theorem dX3_week_19 : decode cX3_week 19 = .ok (.ireturn, 1) := dk_172 (dk_at dksX3_week_0 19 rfl rfl)
theorem dX3_week_20 : decode cX3_week 20 = .ok (.aload_n 0, 1) := dk_42 (dk_at dksX3_week_0 20 rfl rfl)
theorem dX3_week_21 : decode cX3_week 21 = .ok (.invokevirtual 389, 3) := dk_182 1 133 (dk_at dksX3_week_0 21 rfl rfl)
theorem dX3_week_24 : decode cX3_week 24 = .ok (.aload_n 0, 1) := dk_42 (dk_at dksX3_week_1 0 rfl rfl)
theorem dX3_week_25 : decode cX3_week 25 = .ok (.aload_n 0, 1) := dk_42 (dk_at dksX3_week_1 1 rfl rfl)
theorem dX3_week_26 : decode cX3_week 26 = .ok (.invokevirtual 328, 3) := dk_182 1 72 (dk_at dksX3_week_1 2 rfl rfl)
theorem dX3_week_29 : decode cX3_week 29 = .ok (.invokevirtual 199, 3) := dk_182 0 199 (dk_at dksX3_week_1 5 rfl rfl)
theorem dX3_week_32 : decode cX3_week 32 = .ok (.ireturn, 1) := dk_172 (dk_at dksX3_week_1 8 rfl rfl)
abbrev cX3_wish : ByteArray := prog_15_method_127_code
def yX3_wish : MethodName := ⟨RX3, "wish", "(II)I"⟩
def dkwX3_wish_3 : List UInt8 := [4, 96, 182, 1, 33, 42, 29, 4, 96, 182, 0, 199, 172]
abbrev dktX3_wish_3 : List UInt8 := dkwX3_wish_3 ++ []
def dkwX3_wish_2 : List UInt8 := [6, 182, 0, 186, 172, 42, 182, 1, 133, 42, 27, 16, 12, 29, 96, 28, 182, 1, 33, 42, 27, 16, 11, 29]
abbrev dktX3_wish_2 : List UInt8 := dkwX3_wish_2 ++ dktX3_wish_3
def dkwX3_wish_1 : List UInt8 := [159, 0, 9, 42, 7, 182, 0, 186, 172, 42, 27, 16, 11, 182, 0, 205, 62, 29, 16, 6, 160, 0, 9, 42]
abbrev dktX3_wish_1 : List UInt8 := dkwX3_wish_1 ++ dktX3_wish_2
def dkwX3_wish_0 : List UInt8 := [42, 27, 28, 182, 0, 253, 154, 0, 9, 42, 5, 182, 0, 186, 172, 42, 27, 28, 182, 0, 216, 2]
abbrev dktX3_wish_0 : List UInt8 := dkwX3_wish_0 ++ dktX3_wish_1
theorem dksX3_wish_0 : cX3_wish.data.toList.drop 0 = dktX3_wish_0 := by decide +kernel
theorem dksX3_wish_1 : cX3_wish.data.toList.drop 22 = dktX3_wish_1 := dk_seg dksX3_wish_0 22 rfl rfl
theorem dksX3_wish_2 : cX3_wish.data.toList.drop 46 = dktX3_wish_2 := dk_seg dksX3_wish_1 24 rfl rfl
theorem dksX3_wish_3 : cX3_wish.data.toList.drop 70 = dktX3_wish_3 := dk_seg dksX3_wish_2 24 rfl rfl
theorem dX3_wish_0 : decode cX3_wish 0 = .ok (.aload_n 0, 1) := dk_42 (dk_at dksX3_wish_0 0 rfl rfl)
theorem dX3_wish_1 : decode cX3_wish 1 = .ok (.iload_n 1, 1) := dk_27 (dk_at dksX3_wish_0 1 rfl rfl)
theorem dX3_wish_2 : decode cX3_wish 2 = .ok (.iload_n 2, 1) := dk_28 (dk_at dksX3_wish_0 2 rfl rfl)
theorem dX3_wish_3 : decode cX3_wish 3 = .ok (.invokevirtual 253, 3) := dk_182 0 253 (dk_at dksX3_wish_0 3 rfl rfl)
theorem dX3_wish_6 : decode cX3_wish 6 = .ok (.ifCond .ne 9, 3) := dk_154 0 9 (dk_at dksX3_wish_0 6 rfl rfl)
theorem dX3_wish_9 : decode cX3_wish 9 = .ok (.aload_n 0, 1) := dk_42 (dk_at dksX3_wish_0 9 rfl rfl)
theorem dX3_wish_10 : decode cX3_wish 10 = .ok (.iconst 2, 1) := dk_5 (dk_at dksX3_wish_0 10 rfl rfl)
theorem dX3_wish_11 : decode cX3_wish 11 = .ok (.invokevirtual 186, 3) := dk_182 0 186 (dk_at dksX3_wish_0 11 rfl rfl)
theorem dX3_wish_14 : decode cX3_wish 14 = .ok (.ireturn, 1) := dk_172 (dk_at dksX3_wish_0 14 rfl rfl)
theorem dX3_wish_15 : decode cX3_wish 15 = .ok (.aload_n 0, 1) := dk_42 (dk_at dksX3_wish_0 15 rfl rfl)
theorem dX3_wish_16 : decode cX3_wish 16 = .ok (.iload_n 1, 1) := dk_27 (dk_at dksX3_wish_0 16 rfl rfl)
theorem dX3_wish_17 : decode cX3_wish 17 = .ok (.iload_n 2, 1) := dk_28 (dk_at dksX3_wish_0 17 rfl rfl)
theorem dX3_wish_18 : decode cX3_wish 18 = .ok (.invokevirtual 216, 3) := dk_182 0 216 (dk_at dksX3_wish_0 18 rfl rfl)
theorem dX3_wish_21 : decode cX3_wish 21 = .ok (.iconst (-1), 1) := dk_2 (dk_at dksX3_wish_0 21 rfl rfl)
theorem dX3_wish_22 : decode cX3_wish 22 = .ok (.if_icmp .eq 9, 3) := dk_159 0 9 (dk_at dksX3_wish_1 0 rfl rfl)
theorem dX3_wish_25 : decode cX3_wish 25 = .ok (.aload_n 0, 1) := dk_42 (dk_at dksX3_wish_1 3 rfl rfl)
theorem dX3_wish_26 : decode cX3_wish 26 = .ok (.iconst 4, 1) := dk_7 (dk_at dksX3_wish_1 4 rfl rfl)
theorem dX3_wish_27 : decode cX3_wish 27 = .ok (.invokevirtual 186, 3) := dk_182 0 186 (dk_at dksX3_wish_1 5 rfl rfl)
theorem dX3_wish_30 : decode cX3_wish 30 = .ok (.ireturn, 1) := dk_172 (dk_at dksX3_wish_1 8 rfl rfl)
theorem dX3_wish_31 : decode cX3_wish 31 = .ok (.aload_n 0, 1) := dk_42 (dk_at dksX3_wish_1 9 rfl rfl)
theorem dX3_wish_32 : decode cX3_wish 32 = .ok (.iload_n 1, 1) := dk_27 (dk_at dksX3_wish_1 10 rfl rfl)
theorem dX3_wish_33 : decode cX3_wish 33 = .ok (.bipush 11, 2) := dk_16 11 (dk_at dksX3_wish_1 11 rfl rfl)
theorem dX3_wish_35 : decode cX3_wish 35 = .ok (.invokevirtual 205, 3) := dk_182 0 205 (dk_at dksX3_wish_1 13 rfl rfl)
theorem dX3_wish_38 : decode cX3_wish 38 = .ok (.istore_n 3, 1) := dk_62 (dk_at dksX3_wish_1 16 rfl rfl)
theorem dX3_wish_39 : decode cX3_wish 39 = .ok (.iload_n 3, 1) := dk_29 (dk_at dksX3_wish_1 17 rfl rfl)
theorem dX3_wish_40 : decode cX3_wish 40 = .ok (.bipush 6, 2) := dk_16 6 (dk_at dksX3_wish_1 18 rfl rfl)
theorem dX3_wish_42 : decode cX3_wish 42 = .ok (.if_icmp .ne 9, 3) := dk_160 0 9 (dk_at dksX3_wish_1 20 rfl rfl)
theorem dX3_wish_45 : decode cX3_wish 45 = .ok (.aload_n 0, 1) := dk_42 (dk_at dksX3_wish_1 23 rfl rfl)
theorem dX3_wish_46 : decode cX3_wish 46 = .ok (.iconst 3, 1) := dk_6 (dk_at dksX3_wish_2 0 rfl rfl)
theorem dX3_wish_47 : decode cX3_wish 47 = .ok (.invokevirtual 186, 3) := dk_182 0 186 (dk_at dksX3_wish_2 1 rfl rfl)
theorem dX3_wish_50 : decode cX3_wish 50 = .ok (.ireturn, 1) := dk_172 (dk_at dksX3_wish_2 4 rfl rfl)
theorem dX3_wish_51 : decode cX3_wish 51 = .ok (.aload_n 0, 1) := dk_42 (dk_at dksX3_wish_2 5 rfl rfl)
theorem dX3_wish_52 : decode cX3_wish 52 = .ok (.invokevirtual 389, 3) := dk_182 1 133 (dk_at dksX3_wish_2 6 rfl rfl)
theorem dX3_wish_55 : decode cX3_wish 55 = .ok (.aload_n 0, 1) := dk_42 (dk_at dksX3_wish_2 9 rfl rfl)
theorem dX3_wish_56 : decode cX3_wish 56 = .ok (.iload_n 1, 1) := dk_27 (dk_at dksX3_wish_2 10 rfl rfl)
theorem dX3_wish_57 : decode cX3_wish 57 = .ok (.bipush 12, 2) := dk_16 12 (dk_at dksX3_wish_2 11 rfl rfl)
theorem dX3_wish_59 : decode cX3_wish 59 = .ok (.iload_n 3, 1) := dk_29 (dk_at dksX3_wish_2 13 rfl rfl)
theorem dX3_wish_60 : decode cX3_wish 60 = .ok (.iadd, 1) := dk_96 (dk_at dksX3_wish_2 14 rfl rfl)
theorem dX3_wish_61 : decode cX3_wish 61 = .ok (.iload_n 2, 1) := dk_28 (dk_at dksX3_wish_2 15 rfl rfl)
theorem dX3_wish_62 : decode cX3_wish 62 = .ok (.invokevirtual 289, 3) := dk_182 1 33 (dk_at dksX3_wish_2 16 rfl rfl)
theorem dX3_wish_65 : decode cX3_wish 65 = .ok (.aload_n 0, 1) := dk_42 (dk_at dksX3_wish_2 19 rfl rfl)
theorem dX3_wish_66 : decode cX3_wish 66 = .ok (.iload_n 1, 1) := dk_27 (dk_at dksX3_wish_2 20 rfl rfl)
theorem dX3_wish_67 : decode cX3_wish 67 = .ok (.bipush 11, 2) := dk_16 11 (dk_at dksX3_wish_2 21 rfl rfl)
theorem dX3_wish_69 : decode cX3_wish 69 = .ok (.iload_n 3, 1) := dk_29 (dk_at dksX3_wish_2 23 rfl rfl)
theorem dX3_wish_70 : decode cX3_wish 70 = .ok (.iconst 1, 1) := dk_4 (dk_at dksX3_wish_3 0 rfl rfl)
theorem dX3_wish_71 : decode cX3_wish 71 = .ok (.iadd, 1) := dk_96 (dk_at dksX3_wish_3 1 rfl rfl)
theorem dX3_wish_72 : decode cX3_wish 72 = .ok (.invokevirtual 289, 3) := dk_182 1 33 (dk_at dksX3_wish_3 2 rfl rfl)
theorem dX3_wish_75 : decode cX3_wish 75 = .ok (.aload_n 0, 1) := dk_42 (dk_at dksX3_wish_3 5 rfl rfl)
theorem dX3_wish_76 : decode cX3_wish 76 = .ok (.iload_n 3, 1) := dk_29 (dk_at dksX3_wish_3 6 rfl rfl)
theorem dX3_wish_77 : decode cX3_wish 77 = .ok (.iconst 1, 1) := dk_4 (dk_at dksX3_wish_3 7 rfl rfl)
theorem dX3_wish_78 : decode cX3_wish 78 = .ok (.iadd, 1) := dk_96 (dk_at dksX3_wish_3 8 rfl rfl)
theorem dX3_wish_79 : decode cX3_wish 79 = .ok (.invokevirtual 199, 3) := dk_182 0 199 (dk_at dksX3_wish_3 9 rfl rfl)
theorem dX3_wish_82 : decode cX3_wish 82 = .ok (.ireturn, 1) := dk_172 (dk_at dksX3_wish_3 12 rfl rfl)
abbrev cX3_unwish : ByteArray := prog_15_method_128_code
def yX3_unwish : MethodName := ⟨RX3, "unwish", "(II)I"⟩
def dkwX3_unwish_4 : List UInt8 := [21, 4, 182, 0, 199, 172]
abbrev dktX3_unwish_4 : List UInt8 := dkwX3_unwish_4 ++ []
def dkwX3_unwish_3 : List UInt8 := [4, 96, 182, 0, 205, 182, 1, 33, 132, 5, 1, 167, 255, 224, 42, 27, 16, 11, 21, 4, 182, 1, 33, 42]
abbrev dktX3_unwish_3 : List UInt8 := dkwX3_unwish_3 ++ dktX3_unwish_4
def dkwX3_unwish_2 : List UInt8 := [29, 54, 5, 21, 5, 21, 4, 162, 0, 31, 42, 27, 16, 12, 21, 5, 96, 42, 27, 16, 12, 21, 5, 96]
abbrev dktX3_unwish_2 : List UInt8 := dkwX3_unwish_2 ++ dktX3_unwish_3
def dkwX3_unwish_1 : List UInt8 := [160, 0, 9, 42, 8, 182, 0, 186, 172, 42, 182, 1, 133, 42, 27, 16, 11, 182, 0, 205, 4, 100, 54, 4]
abbrev dktX3_unwish_1 : List UInt8 := dkwX3_unwish_1 ++ dktX3_unwish_2
def dkwX3_unwish_0 : List UInt8 := [42, 27, 28, 182, 0, 253, 154, 0, 9, 42, 5, 182, 0, 186, 172, 42, 27, 28, 182, 0, 216, 62, 29, 2]
abbrev dktX3_unwish_0 : List UInt8 := dkwX3_unwish_0 ++ dktX3_unwish_1
theorem dksX3_unwish_0 : cX3_unwish.data.toList.drop 0 = dktX3_unwish_0 := by decide +kernel
theorem dksX3_unwish_1 : cX3_unwish.data.toList.drop 24 = dktX3_unwish_1 := dk_seg dksX3_unwish_0 24 rfl rfl
theorem dksX3_unwish_2 : cX3_unwish.data.toList.drop 48 = dktX3_unwish_2 := dk_seg dksX3_unwish_1 24 rfl rfl
theorem dksX3_unwish_3 : cX3_unwish.data.toList.drop 72 = dktX3_unwish_3 := dk_seg dksX3_unwish_2 24 rfl rfl
theorem dksX3_unwish_4 : cX3_unwish.data.toList.drop 96 = dktX3_unwish_4 := dk_seg dksX3_unwish_3 24 rfl rfl
theorem dX3_unwish_0 : decode cX3_unwish 0 = .ok (.aload_n 0, 1) := dk_42 (dk_at dksX3_unwish_0 0 rfl rfl)
theorem dX3_unwish_1 : decode cX3_unwish 1 = .ok (.iload_n 1, 1) := dk_27 (dk_at dksX3_unwish_0 1 rfl rfl)
theorem dX3_unwish_2 : decode cX3_unwish 2 = .ok (.iload_n 2, 1) := dk_28 (dk_at dksX3_unwish_0 2 rfl rfl)
theorem dX3_unwish_3 : decode cX3_unwish 3 = .ok (.invokevirtual 253, 3) := dk_182 0 253 (dk_at dksX3_unwish_0 3 rfl rfl)
theorem dX3_unwish_6 : decode cX3_unwish 6 = .ok (.ifCond .ne 9, 3) := dk_154 0 9 (dk_at dksX3_unwish_0 6 rfl rfl)
theorem dX3_unwish_9 : decode cX3_unwish 9 = .ok (.aload_n 0, 1) := dk_42 (dk_at dksX3_unwish_0 9 rfl rfl)
theorem dX3_unwish_10 : decode cX3_unwish 10 = .ok (.iconst 2, 1) := dk_5 (dk_at dksX3_unwish_0 10 rfl rfl)
theorem dX3_unwish_11 : decode cX3_unwish 11 = .ok (.invokevirtual 186, 3) := dk_182 0 186 (dk_at dksX3_unwish_0 11 rfl rfl)
theorem dX3_unwish_14 : decode cX3_unwish 14 = .ok (.ireturn, 1) := dk_172 (dk_at dksX3_unwish_0 14 rfl rfl)
theorem dX3_unwish_15 : decode cX3_unwish 15 = .ok (.aload_n 0, 1) := dk_42 (dk_at dksX3_unwish_0 15 rfl rfl)
theorem dX3_unwish_16 : decode cX3_unwish 16 = .ok (.iload_n 1, 1) := dk_27 (dk_at dksX3_unwish_0 16 rfl rfl)
theorem dX3_unwish_17 : decode cX3_unwish 17 = .ok (.iload_n 2, 1) := dk_28 (dk_at dksX3_unwish_0 17 rfl rfl)
theorem dX3_unwish_18 : decode cX3_unwish 18 = .ok (.invokevirtual 216, 3) := dk_182 0 216 (dk_at dksX3_unwish_0 18 rfl rfl)
theorem dX3_unwish_21 : decode cX3_unwish 21 = .ok (.istore_n 3, 1) := dk_62 (dk_at dksX3_unwish_0 21 rfl rfl)
theorem dX3_unwish_22 : decode cX3_unwish 22 = .ok (.iload_n 3, 1) := dk_29 (dk_at dksX3_unwish_0 22 rfl rfl)
theorem dX3_unwish_23 : decode cX3_unwish 23 = .ok (.iconst (-1), 1) := dk_2 (dk_at dksX3_unwish_0 23 rfl rfl)
theorem dX3_unwish_24 : decode cX3_unwish 24 = .ok (.if_icmp .ne 9, 3) := dk_160 0 9 (dk_at dksX3_unwish_1 0 rfl rfl)
theorem dX3_unwish_27 : decode cX3_unwish 27 = .ok (.aload_n 0, 1) := dk_42 (dk_at dksX3_unwish_1 3 rfl rfl)
theorem dX3_unwish_28 : decode cX3_unwish 28 = .ok (.iconst 5, 1) := dk_8 (dk_at dksX3_unwish_1 4 rfl rfl)
theorem dX3_unwish_29 : decode cX3_unwish 29 = .ok (.invokevirtual 186, 3) := dk_182 0 186 (dk_at dksX3_unwish_1 5 rfl rfl)
theorem dX3_unwish_32 : decode cX3_unwish 32 = .ok (.ireturn, 1) := dk_172 (dk_at dksX3_unwish_1 8 rfl rfl)
theorem dX3_unwish_33 : decode cX3_unwish 33 = .ok (.aload_n 0, 1) := dk_42 (dk_at dksX3_unwish_1 9 rfl rfl)
theorem dX3_unwish_34 : decode cX3_unwish 34 = .ok (.invokevirtual 389, 3) := dk_182 1 133 (dk_at dksX3_unwish_1 10 rfl rfl)
theorem dX3_unwish_37 : decode cX3_unwish 37 = .ok (.aload_n 0, 1) := dk_42 (dk_at dksX3_unwish_1 13 rfl rfl)
theorem dX3_unwish_38 : decode cX3_unwish 38 = .ok (.iload_n 1, 1) := dk_27 (dk_at dksX3_unwish_1 14 rfl rfl)
theorem dX3_unwish_39 : decode cX3_unwish 39 = .ok (.bipush 11, 2) := dk_16 11 (dk_at dksX3_unwish_1 15 rfl rfl)
theorem dX3_unwish_41 : decode cX3_unwish 41 = .ok (.invokevirtual 205, 3) := dk_182 0 205 (dk_at dksX3_unwish_1 17 rfl rfl)
theorem dX3_unwish_44 : decode cX3_unwish 44 = .ok (.iconst 1, 1) := dk_4 (dk_at dksX3_unwish_1 20 rfl rfl)
theorem dX3_unwish_45 : decode cX3_unwish 45 = .ok (.isub, 1) := dk_100 (dk_at dksX3_unwish_1 21 rfl rfl)
theorem dX3_unwish_46 : decode cX3_unwish 46 = .ok (.istore 4, 2) := dk_54 4 (dk_at dksX3_unwish_1 22 rfl rfl)
theorem dX3_unwish_48 : decode cX3_unwish 48 = .ok (.iload_n 3, 1) := dk_29 (dk_at dksX3_unwish_2 0 rfl rfl)
theorem dX3_unwish_49 : decode cX3_unwish 49 = .ok (.istore 5, 2) := dk_54 5 (dk_at dksX3_unwish_2 1 rfl rfl)
theorem dX3_unwish_51 : decode cX3_unwish 51 = .ok (.iload 5, 2) := dk_21 5 (dk_at dksX3_unwish_2 3 rfl rfl)
theorem dX3_unwish_53 : decode cX3_unwish 53 = .ok (.iload 4, 2) := dk_21 4 (dk_at dksX3_unwish_2 5 rfl rfl)
theorem dX3_unwish_55 : decode cX3_unwish 55 = .ok (.if_icmp .ge 31, 3) := dk_162 0 31 (dk_at dksX3_unwish_2 7 rfl rfl)
theorem dX3_unwish_58 : decode cX3_unwish 58 = .ok (.aload_n 0, 1) := dk_42 (dk_at dksX3_unwish_2 10 rfl rfl)
theorem dX3_unwish_59 : decode cX3_unwish 59 = .ok (.iload_n 1, 1) := dk_27 (dk_at dksX3_unwish_2 11 rfl rfl)
theorem dX3_unwish_60 : decode cX3_unwish 60 = .ok (.bipush 12, 2) := dk_16 12 (dk_at dksX3_unwish_2 12 rfl rfl)
theorem dX3_unwish_62 : decode cX3_unwish 62 = .ok (.iload 5, 2) := dk_21 5 (dk_at dksX3_unwish_2 14 rfl rfl)
theorem dX3_unwish_64 : decode cX3_unwish 64 = .ok (.iadd, 1) := dk_96 (dk_at dksX3_unwish_2 16 rfl rfl)
theorem dX3_unwish_65 : decode cX3_unwish 65 = .ok (.aload_n 0, 1) := dk_42 (dk_at dksX3_unwish_2 17 rfl rfl)
theorem dX3_unwish_66 : decode cX3_unwish 66 = .ok (.iload_n 1, 1) := dk_27 (dk_at dksX3_unwish_2 18 rfl rfl)
theorem dX3_unwish_67 : decode cX3_unwish 67 = .ok (.bipush 12, 2) := dk_16 12 (dk_at dksX3_unwish_2 19 rfl rfl)
theorem dX3_unwish_69 : decode cX3_unwish 69 = .ok (.iload 5, 2) := dk_21 5 (dk_at dksX3_unwish_2 21 rfl rfl)
theorem dX3_unwish_71 : decode cX3_unwish 71 = .ok (.iadd, 1) := dk_96 (dk_at dksX3_unwish_2 23 rfl rfl)
theorem dX3_unwish_72 : decode cX3_unwish 72 = .ok (.iconst 1, 1) := dk_4 (dk_at dksX3_unwish_3 0 rfl rfl)
theorem dX3_unwish_73 : decode cX3_unwish 73 = .ok (.iadd, 1) := dk_96 (dk_at dksX3_unwish_3 1 rfl rfl)
theorem dX3_unwish_74 : decode cX3_unwish 74 = .ok (.invokevirtual 205, 3) := dk_182 0 205 (dk_at dksX3_unwish_3 2 rfl rfl)
theorem dX3_unwish_77 : decode cX3_unwish 77 = .ok (.invokevirtual 289, 3) := dk_182 1 33 (dk_at dksX3_unwish_3 5 rfl rfl)
theorem dX3_unwish_80 : decode cX3_unwish 80 = .ok (.iinc 5 1, 3) := dk_132 5 1 (dk_at dksX3_unwish_3 8 rfl rfl)
theorem dX3_unwish_83 : decode cX3_unwish 83 = .ok (.goto (-32), 3) := dk_167 255 224 (dk_at dksX3_unwish_3 11 rfl rfl)
theorem dX3_unwish_86 : decode cX3_unwish 86 = .ok (.aload_n 0, 1) := dk_42 (dk_at dksX3_unwish_3 14 rfl rfl)
theorem dX3_unwish_87 : decode cX3_unwish 87 = .ok (.iload_n 1, 1) := dk_27 (dk_at dksX3_unwish_3 15 rfl rfl)
theorem dX3_unwish_88 : decode cX3_unwish 88 = .ok (.bipush 11, 2) := dk_16 11 (dk_at dksX3_unwish_3 16 rfl rfl)
theorem dX3_unwish_90 : decode cX3_unwish 90 = .ok (.iload 4, 2) := dk_21 4 (dk_at dksX3_unwish_3 18 rfl rfl)
theorem dX3_unwish_92 : decode cX3_unwish 92 = .ok (.invokevirtual 289, 3) := dk_182 1 33 (dk_at dksX3_unwish_3 20 rfl rfl)
theorem dX3_unwish_95 : decode cX3_unwish 95 = .ok (.aload_n 0, 1) := dk_42 (dk_at dksX3_unwish_3 23 rfl rfl)
theorem dX3_unwish_96 : decode cX3_unwish 96 = .ok (.iload 4, 2) := dk_21 4 (dk_at dksX3_unwish_4 0 rfl rfl)
theorem dX3_unwish_98 : decode cX3_unwish 98 = .ok (.invokevirtual 199, 3) := dk_182 0 199 (dk_at dksX3_unwish_4 2 rfl rfl)
theorem dX3_unwish_101 : decode cX3_unwish 101 = .ok (.ireturn, 1) := dk_172 (dk_at dksX3_unwish_4 5 rfl rfl)
abbrev cX3_leave : ByteArray := prog_15_method_129_code
def yX3_leave : MethodName := ⟨RX3, "leave", "(I)I"⟩
def dkwX3_leave_3 : List UInt8 := [2, 182, 1, 33, 42, 42, 182, 0, 231, 182, 0, 199, 172]
abbrev dktX3_leave_3 : List UInt8 := dkwX3_leave_3 ++ []
def dkwX3_leave_2 : List UInt8 := [42, 27, 7, 182, 0, 205, 2, 159, 0, 14, 42, 42, 27, 7, 182, 0, 205, 3, 182, 1, 40, 42, 27, 7]
abbrev dktX3_leave_2 : List UInt8 := dkwX3_leave_2 ++ dktX3_leave_3
def dkwX3_leave_1 : List UInt8 := [182, 0, 186, 172, 42, 182, 1, 133, 42, 27, 16, 10, 3, 182, 1, 33, 42, 27, 16, 8, 4, 182, 1, 33]
abbrev dktX3_leave_1 : List UInt8 := dkwX3_leave_1 ++ dktX3_leave_2
def dkwX3_leave_0 : List UInt8 := [42, 27, 182, 0, 244, 154, 0, 9, 42, 5, 182, 0, 186, 172, 42, 27, 182, 0, 208, 154, 0, 9, 42, 7]
abbrev dktX3_leave_0 : List UInt8 := dkwX3_leave_0 ++ dktX3_leave_1
theorem dksX3_leave_0 : cX3_leave.data.toList.drop 0 = dktX3_leave_0 := by decide +kernel
theorem dksX3_leave_1 : cX3_leave.data.toList.drop 24 = dktX3_leave_1 := dk_seg dksX3_leave_0 24 rfl rfl
theorem dksX3_leave_2 : cX3_leave.data.toList.drop 48 = dktX3_leave_2 := dk_seg dksX3_leave_1 24 rfl rfl
theorem dksX3_leave_3 : cX3_leave.data.toList.drop 72 = dktX3_leave_3 := dk_seg dksX3_leave_2 24 rfl rfl
theorem dX3_leave_0 : decode cX3_leave 0 = .ok (.aload_n 0, 1) := dk_42 (dk_at dksX3_leave_0 0 rfl rfl)
theorem dX3_leave_1 : decode cX3_leave 1 = .ok (.iload_n 1, 1) := dk_27 (dk_at dksX3_leave_0 1 rfl rfl)
theorem dX3_leave_2 : decode cX3_leave 2 = .ok (.invokevirtual 244, 3) := dk_182 0 244 (dk_at dksX3_leave_0 2 rfl rfl)
theorem dX3_leave_5 : decode cX3_leave 5 = .ok (.ifCond .ne 9, 3) := dk_154 0 9 (dk_at dksX3_leave_0 5 rfl rfl)
theorem dX3_leave_8 : decode cX3_leave 8 = .ok (.aload_n 0, 1) := dk_42 (dk_at dksX3_leave_0 8 rfl rfl)
theorem dX3_leave_9 : decode cX3_leave 9 = .ok (.iconst 2, 1) := dk_5 (dk_at dksX3_leave_0 9 rfl rfl)
theorem dX3_leave_10 : decode cX3_leave 10 = .ok (.invokevirtual 186, 3) := dk_182 0 186 (dk_at dksX3_leave_0 10 rfl rfl)
theorem dX3_leave_13 : decode cX3_leave 13 = .ok (.ireturn, 1) := dk_172 (dk_at dksX3_leave_0 13 rfl rfl)
theorem dX3_leave_14 : decode cX3_leave 14 = .ok (.aload_n 0, 1) := dk_42 (dk_at dksX3_leave_0 14 rfl rfl)
theorem dX3_leave_15 : decode cX3_leave 15 = .ok (.iload_n 1, 1) := dk_27 (dk_at dksX3_leave_0 15 rfl rfl)
theorem dX3_leave_16 : decode cX3_leave 16 = .ok (.invokevirtual 208, 3) := dk_182 0 208 (dk_at dksX3_leave_0 16 rfl rfl)
theorem dX3_leave_19 : decode cX3_leave 19 = .ok (.ifCond .ne 9, 3) := dk_154 0 9 (dk_at dksX3_leave_0 19 rfl rfl)
theorem dX3_leave_22 : decode cX3_leave 22 = .ok (.aload_n 0, 1) := dk_42 (dk_at dksX3_leave_0 22 rfl rfl)
theorem dX3_leave_23 : decode cX3_leave 23 = .ok (.iconst 4, 1) := dk_7 (dk_at dksX3_leave_0 23 rfl rfl)
theorem dX3_leave_24 : decode cX3_leave 24 = .ok (.invokevirtual 186, 3) := dk_182 0 186 (dk_at dksX3_leave_1 0 rfl rfl)
theorem dX3_leave_27 : decode cX3_leave 27 = .ok (.ireturn, 1) := dk_172 (dk_at dksX3_leave_1 3 rfl rfl)
theorem dX3_leave_28 : decode cX3_leave 28 = .ok (.aload_n 0, 1) := dk_42 (dk_at dksX3_leave_1 4 rfl rfl)
theorem dX3_leave_29 : decode cX3_leave 29 = .ok (.invokevirtual 389, 3) := dk_182 1 133 (dk_at dksX3_leave_1 5 rfl rfl)
theorem dX3_leave_32 : decode cX3_leave 32 = .ok (.aload_n 0, 1) := dk_42 (dk_at dksX3_leave_1 8 rfl rfl)
theorem dX3_leave_33 : decode cX3_leave 33 = .ok (.iload_n 1, 1) := dk_27 (dk_at dksX3_leave_1 9 rfl rfl)
theorem dX3_leave_34 : decode cX3_leave 34 = .ok (.bipush 10, 2) := dk_16 10 (dk_at dksX3_leave_1 10 rfl rfl)
theorem dX3_leave_36 : decode cX3_leave 36 = .ok (.iconst 0, 1) := dk_3 (dk_at dksX3_leave_1 12 rfl rfl)
theorem dX3_leave_37 : decode cX3_leave 37 = .ok (.invokevirtual 289, 3) := dk_182 1 33 (dk_at dksX3_leave_1 13 rfl rfl)
theorem dX3_leave_40 : decode cX3_leave 40 = .ok (.aload_n 0, 1) := dk_42 (dk_at dksX3_leave_1 16 rfl rfl)
theorem dX3_leave_41 : decode cX3_leave 41 = .ok (.iload_n 1, 1) := dk_27 (dk_at dksX3_leave_1 17 rfl rfl)
theorem dX3_leave_42 : decode cX3_leave 42 = .ok (.bipush 8, 2) := dk_16 8 (dk_at dksX3_leave_1 18 rfl rfl)
theorem dX3_leave_44 : decode cX3_leave 44 = .ok (.iconst 1, 1) := dk_4 (dk_at dksX3_leave_1 20 rfl rfl)
theorem dX3_leave_45 : decode cX3_leave 45 = .ok (.invokevirtual 289, 3) := dk_182 1 33 (dk_at dksX3_leave_1 21 rfl rfl)
theorem dX3_leave_48 : decode cX3_leave 48 = .ok (.aload_n 0, 1) := dk_42 (dk_at dksX3_leave_2 0 rfl rfl)
theorem dX3_leave_49 : decode cX3_leave 49 = .ok (.iload_n 1, 1) := dk_27 (dk_at dksX3_leave_2 1 rfl rfl)
theorem dX3_leave_50 : decode cX3_leave 50 = .ok (.iconst 4, 1) := dk_7 (dk_at dksX3_leave_2 2 rfl rfl)
theorem dX3_leave_51 : decode cX3_leave 51 = .ok (.invokevirtual 205, 3) := dk_182 0 205 (dk_at dksX3_leave_2 3 rfl rfl)
theorem dX3_leave_54 : decode cX3_leave 54 = .ok (.iconst (-1), 1) := dk_2 (dk_at dksX3_leave_2 6 rfl rfl)
theorem dX3_leave_55 : decode cX3_leave 55 = .ok (.if_icmp .eq 14, 3) := dk_159 0 14 (dk_at dksX3_leave_2 7 rfl rfl)
theorem dX3_leave_58 : decode cX3_leave 58 = .ok (.aload_n 0, 1) := dk_42 (dk_at dksX3_leave_2 10 rfl rfl)
theorem dX3_leave_59 : decode cX3_leave 59 = .ok (.aload_n 0, 1) := dk_42 (dk_at dksX3_leave_2 11 rfl rfl)
theorem dX3_leave_60 : decode cX3_leave 60 = .ok (.iload_n 1, 1) := dk_27 (dk_at dksX3_leave_2 12 rfl rfl)
theorem dX3_leave_61 : decode cX3_leave 61 = .ok (.iconst 4, 1) := dk_7 (dk_at dksX3_leave_2 13 rfl rfl)
theorem dX3_leave_62 : decode cX3_leave 62 = .ok (.invokevirtual 205, 3) := dk_182 0 205 (dk_at dksX3_leave_2 14 rfl rfl)
theorem dX3_leave_65 : decode cX3_leave 65 = .ok (.iconst 0, 1) := dk_3 (dk_at dksX3_leave_2 17 rfl rfl)
theorem dX3_leave_66 : decode cX3_leave 66 = .ok (.invokevirtual 296, 3) := dk_182 1 40 (dk_at dksX3_leave_2 18 rfl rfl)
theorem dX3_leave_69 : decode cX3_leave 69 = .ok (.aload_n 0, 1) := dk_42 (dk_at dksX3_leave_2 21 rfl rfl)
theorem dX3_leave_70 : decode cX3_leave 70 = .ok (.iload_n 1, 1) := dk_27 (dk_at dksX3_leave_2 22 rfl rfl)
theorem dX3_leave_71 : decode cX3_leave 71 = .ok (.iconst 4, 1) := dk_7 (dk_at dksX3_leave_2 23 rfl rfl)
theorem dX3_leave_72 : decode cX3_leave 72 = .ok (.iconst (-1), 1) := dk_2 (dk_at dksX3_leave_3 0 rfl rfl)
theorem dX3_leave_73 : decode cX3_leave 73 = .ok (.invokevirtual 289, 3) := dk_182 1 33 (dk_at dksX3_leave_3 1 rfl rfl)
theorem dX3_leave_76 : decode cX3_leave 76 = .ok (.aload_n 0, 1) := dk_42 (dk_at dksX3_leave_3 4 rfl rfl)
theorem dX3_leave_77 : decode cX3_leave 77 = .ok (.aload_n 0, 1) := dk_42 (dk_at dksX3_leave_3 5 rfl rfl)
theorem dX3_leave_78 : decode cX3_leave 78 = .ok (.invokevirtual 231, 3) := dk_182 0 231 (dk_at dksX3_leave_3 6 rfl rfl)
theorem dX3_leave_81 : decode cX3_leave 81 = .ok (.invokevirtual 199, 3) := dk_182 0 199 (dk_at dksX3_leave_3 9 rfl rfl)
theorem dX3_leave_84 : decode cX3_leave 84 = .ok (.ireturn, 1) := dk_172 (dk_at dksX3_leave_3 12 rfl rfl)
abbrev cX3_shut : ByteArray := prog_15_method_131_code
def yX3_shut : MethodName := ⟨RX3, "shut", "(IZ)I"⟩
def dkwX3_shut_4 : List UInt8 := [172]
abbrev dktX3_shut_4 : List UInt8 := dkwX3_shut_4 ++ []
def dkwX3_shut_3 : List UInt8 := [46, 162, 0, 15, 42, 29, 27, 182, 1, 136, 132, 3, 1, 167, 255, 235, 42, 42, 182, 0, 228, 182, 0, 199]
abbrev dktX3_shut_3 : List UInt8 := dkwX3_shut_3 ++ dktX3_shut_4
def dkwX3_shut_2 : List UInt8 := [16, 6, 28, 153, 0, 7, 4, 167, 0, 4, 3, 182, 1, 37, 3, 62, 29, 42, 180, 0, 7, 17, 0, 231]
abbrev dktX3_shut_2 : List UInt8 := dkwX3_shut_2 ++ dktX3_shut_3
def dkwX3_shut_1 : List UInt8 := [160, 0, 7, 4, 167, 0, 4, 3, 28, 160, 0, 9, 42, 7, 182, 0, 186, 172, 42, 182, 1, 133, 42, 27]
abbrev dktX3_shut_1 : List UInt8 := dkwX3_shut_1 ++ dktX3_shut_2
def dkwX3_shut_0 : List UInt8 := [42, 27, 182, 0, 238, 154, 0, 9, 42, 5, 182, 0, 186, 172, 42, 27, 16, 6, 182, 0, 202, 4]
abbrev dktX3_shut_0 : List UInt8 := dkwX3_shut_0 ++ dktX3_shut_1
theorem dksX3_shut_0 : cX3_shut.data.toList.drop 0 = dktX3_shut_0 := by decide +kernel
theorem dksX3_shut_1 : cX3_shut.data.toList.drop 22 = dktX3_shut_1 := dk_seg dksX3_shut_0 22 rfl rfl
theorem dksX3_shut_2 : cX3_shut.data.toList.drop 46 = dktX3_shut_2 := dk_seg dksX3_shut_1 24 rfl rfl
theorem dksX3_shut_3 : cX3_shut.data.toList.drop 70 = dktX3_shut_3 := dk_seg dksX3_shut_2 24 rfl rfl
theorem dksX3_shut_4 : cX3_shut.data.toList.drop 94 = dktX3_shut_4 := dk_seg dksX3_shut_3 24 rfl rfl
theorem dX3_shut_0 : decode cX3_shut 0 = .ok (.aload_n 0, 1) := dk_42 (dk_at dksX3_shut_0 0 rfl rfl)
theorem dX3_shut_1 : decode cX3_shut 1 = .ok (.iload_n 1, 1) := dk_27 (dk_at dksX3_shut_0 1 rfl rfl)
theorem dX3_shut_2 : decode cX3_shut 2 = .ok (.invokevirtual 238, 3) := dk_182 0 238 (dk_at dksX3_shut_0 2 rfl rfl)
theorem dX3_shut_5 : decode cX3_shut 5 = .ok (.ifCond .ne 9, 3) := dk_154 0 9 (dk_at dksX3_shut_0 5 rfl rfl)
theorem dX3_shut_8 : decode cX3_shut 8 = .ok (.aload_n 0, 1) := dk_42 (dk_at dksX3_shut_0 8 rfl rfl)
theorem dX3_shut_9 : decode cX3_shut 9 = .ok (.iconst 2, 1) := dk_5 (dk_at dksX3_shut_0 9 rfl rfl)
theorem dX3_shut_10 : decode cX3_shut 10 = .ok (.invokevirtual 186, 3) := dk_182 0 186 (dk_at dksX3_shut_0 10 rfl rfl)
theorem dX3_shut_13 : decode cX3_shut 13 = .ok (.ireturn, 1) := dk_172 (dk_at dksX3_shut_0 13 rfl rfl)
theorem dX3_shut_14 : decode cX3_shut 14 = .ok (.aload_n 0, 1) := dk_42 (dk_at dksX3_shut_0 14 rfl rfl)
theorem dX3_shut_15 : decode cX3_shut 15 = .ok (.iload_n 1, 1) := dk_27 (dk_at dksX3_shut_0 15 rfl rfl)
theorem dX3_shut_16 : decode cX3_shut 16 = .ok (.bipush 6, 2) := dk_16 6 (dk_at dksX3_shut_0 16 rfl rfl)
theorem dX3_shut_18 : decode cX3_shut 18 = .ok (.invokevirtual 202, 3) := dk_182 0 202 (dk_at dksX3_shut_0 18 rfl rfl)
theorem dX3_shut_21 : decode cX3_shut 21 = .ok (.iconst 1, 1) := dk_4 (dk_at dksX3_shut_0 21 rfl rfl)
theorem dX3_shut_22 : decode cX3_shut 22 = .ok (.if_icmp .ne 7, 3) := dk_160 0 7 (dk_at dksX3_shut_1 0 rfl rfl)
theorem dX3_shut_25 : decode cX3_shut 25 = .ok (.iconst 1, 1) := dk_4 (dk_at dksX3_shut_1 3 rfl rfl)
theorem dX3_shut_26 : decode cX3_shut 26 = .ok (.goto 4, 3) := dk_167 0 4 (dk_at dksX3_shut_1 4 rfl rfl)
theorem dX3_shut_29 : decode cX3_shut 29 = .ok (.iconst 0, 1) := dk_3 (dk_at dksX3_shut_1 7 rfl rfl)
theorem dX3_shut_30 : decode cX3_shut 30 = .ok (.iload_n 2, 1) := dk_28 (dk_at dksX3_shut_1 8 rfl rfl)
theorem dX3_shut_31 : decode cX3_shut 31 = .ok (.if_icmp .ne 9, 3) := dk_160 0 9 (dk_at dksX3_shut_1 9 rfl rfl)
theorem dX3_shut_34 : decode cX3_shut 34 = .ok (.aload_n 0, 1) := dk_42 (dk_at dksX3_shut_1 12 rfl rfl)
theorem dX3_shut_35 : decode cX3_shut 35 = .ok (.iconst 4, 1) := dk_7 (dk_at dksX3_shut_1 13 rfl rfl)
theorem dX3_shut_36 : decode cX3_shut 36 = .ok (.invokevirtual 186, 3) := dk_182 0 186 (dk_at dksX3_shut_1 14 rfl rfl)
theorem dX3_shut_39 : decode cX3_shut 39 = .ok (.ireturn, 1) := dk_172 (dk_at dksX3_shut_1 17 rfl rfl)
theorem dX3_shut_40 : decode cX3_shut 40 = .ok (.aload_n 0, 1) := dk_42 (dk_at dksX3_shut_1 18 rfl rfl)
theorem dX3_shut_41 : decode cX3_shut 41 = .ok (.invokevirtual 389, 3) := dk_182 1 133 (dk_at dksX3_shut_1 19 rfl rfl)
theorem dX3_shut_44 : decode cX3_shut 44 = .ok (.aload_n 0, 1) := dk_42 (dk_at dksX3_shut_1 22 rfl rfl)
theorem dX3_shut_45 : decode cX3_shut 45 = .ok (.iload_n 1, 1) := dk_27 (dk_at dksX3_shut_1 23 rfl rfl)
theorem dX3_shut_46 : decode cX3_shut 46 = .ok (.bipush 6, 2) := dk_16 6 (dk_at dksX3_shut_2 0 rfl rfl)
theorem dX3_shut_48 : decode cX3_shut 48 = .ok (.iload_n 2, 1) := dk_28 (dk_at dksX3_shut_2 2 rfl rfl)
theorem dX3_shut_49 : decode cX3_shut 49 = .ok (.ifCond .eq 7, 3) := dk_153 0 7 (dk_at dksX3_shut_2 3 rfl rfl)
theorem dX3_shut_52 : decode cX3_shut 52 = .ok (.iconst 1, 1) := dk_4 (dk_at dksX3_shut_2 6 rfl rfl)
theorem dX3_shut_53 : decode cX3_shut 53 = .ok (.goto 4, 3) := dk_167 0 4 (dk_at dksX3_shut_2 7 rfl rfl)
theorem dX3_shut_56 : decode cX3_shut 56 = .ok (.iconst 0, 1) := dk_3 (dk_at dksX3_shut_2 10 rfl rfl)
theorem dX3_shut_57 : decode cX3_shut 57 = .ok (.invokevirtual 293, 3) := dk_182 1 37 (dk_at dksX3_shut_2 11 rfl rfl)
theorem dX3_shut_60 : decode cX3_shut 60 = .ok (.iconst 0, 1) := dk_3 (dk_at dksX3_shut_2 14 rfl rfl)
theorem dX3_shut_61 : decode cX3_shut 61 = .ok (.istore_n 3, 1) := dk_62 (dk_at dksX3_shut_2 15 rfl rfl)
theorem dX3_shut_62 : decode cX3_shut 62 = .ok (.iload_n 3, 1) := dk_29 (dk_at dksX3_shut_2 16 rfl rfl)
theorem dX3_shut_63 : decode cX3_shut 63 = .ok (.aload_n 0, 1) := dk_42 (dk_at dksX3_shut_2 17 rfl rfl)
theorem dX3_shut_64 : decode cX3_shut 64 = .ok (.getfield 7, 3) := dk_180 0 7 (dk_at dksX3_shut_2 18 rfl rfl)
theorem dX3_shut_67 : decode cX3_shut 67 = .ok (.sipush 231, 3) := dk_17 0 231 (dk_at dksX3_shut_2 21 rfl rfl)
theorem dX3_shut_70 : decode cX3_shut 70 = .ok (.iaload, 1) := dk_46 (dk_at dksX3_shut_3 0 rfl rfl)
theorem dX3_shut_71 : decode cX3_shut 71 = .ok (.if_icmp .ge 15, 3) := dk_162 0 15 (dk_at dksX3_shut_3 1 rfl rfl)
theorem dX3_shut_74 : decode cX3_shut 74 = .ok (.aload_n 0, 1) := dk_42 (dk_at dksX3_shut_3 4 rfl rfl)
theorem dX3_shut_75 : decode cX3_shut 75 = .ok (.iload_n 3, 1) := dk_29 (dk_at dksX3_shut_3 5 rfl rfl)
theorem dX3_shut_76 : decode cX3_shut 76 = .ok (.iload_n 1, 1) := dk_27 (dk_at dksX3_shut_3 6 rfl rfl)
theorem dX3_shut_77 : decode cX3_shut 77 = .ok (.invokevirtual 392, 3) := dk_182 1 136 (dk_at dksX3_shut_3 7 rfl rfl)
theorem dX3_shut_80 : decode cX3_shut 80 = .ok (.iinc 3 1, 3) := dk_132 3 1 (dk_at dksX3_shut_3 10 rfl rfl)
theorem dX3_shut_83 : decode cX3_shut 83 = .ok (.goto (-21), 3) := dk_167 255 235 (dk_at dksX3_shut_3 13 rfl rfl)
theorem dX3_shut_86 : decode cX3_shut 86 = .ok (.aload_n 0, 1) := dk_42 (dk_at dksX3_shut_3 16 rfl rfl)
theorem dX3_shut_87 : decode cX3_shut 87 = .ok (.aload_n 0, 1) := dk_42 (dk_at dksX3_shut_3 17 rfl rfl)
theorem dX3_shut_88 : decode cX3_shut 88 = .ok (.invokevirtual 228, 3) := dk_182 0 228 (dk_at dksX3_shut_3 18 rfl rfl)
theorem dX3_shut_91 : decode cX3_shut 91 = .ok (.invokevirtual 199, 3) := dk_182 0 199 (dk_at dksX3_shut_3 21 rfl rfl)
theorem dX3_shut_94 : decode cX3_shut 94 = .ok (.ireturn, 1) := dk_172 (dk_at dksX3_shut_4 0 rfl rfl)
abbrev cX3_dropsBid : ByteArray := prog_15_method_130_code
def yX3_dropsBid : MethodName := ⟨RX3, "dropsBid", "(II)V"⟩
def dkwX3_dropsBid_0 : List UInt8 := [42, 27, 16, 10, 42, 27, 16, 10, 182, 0, 205, 4, 28, 120, 2, 130, 126, 182, 1, 33, 177]
abbrev dktX3_dropsBid_0 : List UInt8 := dkwX3_dropsBid_0 ++ []
theorem dksX3_dropsBid_0 : cX3_dropsBid.data.toList.drop 0 = dktX3_dropsBid_0 := by decide +kernel
theorem dX3_dropsBid_0 : decode cX3_dropsBid 0 = .ok (.aload_n 0, 1) := dk_42 (dk_at dksX3_dropsBid_0 0 rfl rfl)
theorem dX3_dropsBid_1 : decode cX3_dropsBid 1 = .ok (.iload_n 1, 1) := dk_27 (dk_at dksX3_dropsBid_0 1 rfl rfl)
theorem dX3_dropsBid_2 : decode cX3_dropsBid 2 = .ok (.bipush 10, 2) := dk_16 10 (dk_at dksX3_dropsBid_0 2 rfl rfl)
theorem dX3_dropsBid_4 : decode cX3_dropsBid 4 = .ok (.aload_n 0, 1) := dk_42 (dk_at dksX3_dropsBid_0 4 rfl rfl)
theorem dX3_dropsBid_5 : decode cX3_dropsBid 5 = .ok (.iload_n 1, 1) := dk_27 (dk_at dksX3_dropsBid_0 5 rfl rfl)
theorem dX3_dropsBid_6 : decode cX3_dropsBid 6 = .ok (.bipush 10, 2) := dk_16 10 (dk_at dksX3_dropsBid_0 6 rfl rfl)
theorem dX3_dropsBid_8 : decode cX3_dropsBid 8 = .ok (.invokevirtual 205, 3) := dk_182 0 205 (dk_at dksX3_dropsBid_0 8 rfl rfl)
theorem dX3_dropsBid_11 : decode cX3_dropsBid 11 = .ok (.iconst 1, 1) := dk_4 (dk_at dksX3_dropsBid_0 11 rfl rfl)
theorem dX3_dropsBid_12 : decode cX3_dropsBid 12 = .ok (.iload_n 2, 1) := dk_28 (dk_at dksX3_dropsBid_0 12 rfl rfl)
theorem dX3_dropsBid_13 : decode cX3_dropsBid 13 = .ok (.ishl, 1) := dk_120 (dk_at dksX3_dropsBid_0 13 rfl rfl)
theorem dX3_dropsBid_14 : decode cX3_dropsBid 14 = .ok (.iconst (-1), 1) := dk_2 (dk_at dksX3_dropsBid_0 14 rfl rfl)
theorem dX3_dropsBid_15 : decode cX3_dropsBid 15 = .ok (.ixor, 1) := dk_130 (dk_at dksX3_dropsBid_0 15 rfl rfl)
theorem dX3_dropsBid_16 : decode cX3_dropsBid 16 = .ok (.iand, 1) := dk_126 (dk_at dksX3_dropsBid_0 16 rfl rfl)
theorem dX3_dropsBid_17 : decode cX3_dropsBid 17 = .ok (.invokevirtual 289, 3) := dk_182 1 33 (dk_at dksX3_dropsBid_0 17 rfl rfl)
theorem dX3_dropsBid_20 : decode cX3_dropsBid 20 = .ok (.return_, 1) := dk_177 (dk_at dksX3_dropsBid_0 20 rfl rfl)
abbrev cX3_need : ByteArray := prog_15_method_132_code
def yX3_need : MethodName := ⟨RX3, "need", "(II)I"⟩
def dkwX3_need_4 : List UInt8 := [167, 255, 223, 42, 29, 182, 0, 199, 172]
abbrev dktX3_need_4 : List UInt8 := dkwX3_need_4 ++ []
def dkwX3_need_3 : List UInt8 := [162, 0, 26, 42, 27, 21, 4, 182, 0, 250, 154, 0, 10, 42, 27, 21, 4, 182, 1, 136, 132, 4, 1]
abbrev dktX3_need_3 : List UInt8 := dkwX3_need_3 ++ dktX3_need_4
def dkwX3_need_2 : List UInt8 := [182, 1, 133, 42, 27, 4, 28, 182, 1, 33, 3, 54, 4, 21, 4, 42, 180, 0, 7, 17, 0, 230, 46]
abbrev dktX3_need_2 : List UInt8 := dkwX3_need_2 ++ dktX3_need_3
def dkwX3_need_1 : List UInt8 := [5, 182, 0, 186, 172, 42, 27, 4, 182, 0, 205, 62, 29, 28, 160, 0, 9, 42, 7, 182, 0, 186, 172, 42]
abbrev dktX3_need_1 : List UInt8 := dkwX3_need_1 ++ dktX3_need_2
def dkwX3_need_0 : List UInt8 := [28, 4, 7, 184, 0, 71, 154, 0, 9, 42, 4, 182, 0, 186, 172, 42, 27, 182, 0, 244, 154, 0, 9, 42]
abbrev dktX3_need_0 : List UInt8 := dkwX3_need_0 ++ dktX3_need_1
theorem dksX3_need_0 : cX3_need.data.toList.drop 0 = dktX3_need_0 := by decide +kernel
theorem dksX3_need_1 : cX3_need.data.toList.drop 24 = dktX3_need_1 := dk_seg dksX3_need_0 24 rfl rfl
theorem dksX3_need_2 : cX3_need.data.toList.drop 48 = dktX3_need_2 := dk_seg dksX3_need_1 24 rfl rfl
theorem dksX3_need_3 : cX3_need.data.toList.drop 71 = dktX3_need_3 := dk_seg dksX3_need_2 23 rfl rfl
theorem dksX3_need_4 : cX3_need.data.toList.drop 94 = dktX3_need_4 := dk_seg dksX3_need_3 23 rfl rfl
theorem dX3_need_0 : decode cX3_need 0 = .ok (.iload_n 2, 1) := dk_28 (dk_at dksX3_need_0 0 rfl rfl)
theorem dX3_need_1 : decode cX3_need 1 = .ok (.iconst 1, 1) := dk_4 (dk_at dksX3_need_0 1 rfl rfl)
theorem dX3_need_2 : decode cX3_need 2 = .ok (.iconst 4, 1) := dk_7 (dk_at dksX3_need_0 2 rfl rfl)
theorem dX3_need_3 : decode cX3_need 3 = .ok (.invokestatic 71, 3) := dk_184 0 71 (dk_at dksX3_need_0 3 rfl rfl)
theorem dX3_need_6 : decode cX3_need 6 = .ok (.ifCond .ne 9, 3) := dk_154 0 9 (dk_at dksX3_need_0 6 rfl rfl)
theorem dX3_need_9 : decode cX3_need 9 = .ok (.aload_n 0, 1) := dk_42 (dk_at dksX3_need_0 9 rfl rfl)
theorem dX3_need_10 : decode cX3_need 10 = .ok (.iconst 1, 1) := dk_4 (dk_at dksX3_need_0 10 rfl rfl)
theorem dX3_need_11 : decode cX3_need 11 = .ok (.invokevirtual 186, 3) := dk_182 0 186 (dk_at dksX3_need_0 11 rfl rfl)
theorem dX3_need_14 : decode cX3_need 14 = .ok (.ireturn, 1) := dk_172 (dk_at dksX3_need_0 14 rfl rfl)
theorem dX3_need_15 : decode cX3_need 15 = .ok (.aload_n 0, 1) := dk_42 (dk_at dksX3_need_0 15 rfl rfl)
theorem dX3_need_16 : decode cX3_need 16 = .ok (.iload_n 1, 1) := dk_27 (dk_at dksX3_need_0 16 rfl rfl)
theorem dX3_need_17 : decode cX3_need 17 = .ok (.invokevirtual 244, 3) := dk_182 0 244 (dk_at dksX3_need_0 17 rfl rfl)
theorem dX3_need_20 : decode cX3_need 20 = .ok (.ifCond .ne 9, 3) := dk_154 0 9 (dk_at dksX3_need_0 20 rfl rfl)
theorem dX3_need_23 : decode cX3_need 23 = .ok (.aload_n 0, 1) := dk_42 (dk_at dksX3_need_0 23 rfl rfl)
theorem dX3_need_24 : decode cX3_need 24 = .ok (.iconst 2, 1) := dk_5 (dk_at dksX3_need_1 0 rfl rfl)
theorem dX3_need_25 : decode cX3_need 25 = .ok (.invokevirtual 186, 3) := dk_182 0 186 (dk_at dksX3_need_1 1 rfl rfl)
theorem dX3_need_28 : decode cX3_need 28 = .ok (.ireturn, 1) := dk_172 (dk_at dksX3_need_1 4 rfl rfl)
theorem dX3_need_29 : decode cX3_need 29 = .ok (.aload_n 0, 1) := dk_42 (dk_at dksX3_need_1 5 rfl rfl)
theorem dX3_need_30 : decode cX3_need 30 = .ok (.iload_n 1, 1) := dk_27 (dk_at dksX3_need_1 6 rfl rfl)
theorem dX3_need_31 : decode cX3_need 31 = .ok (.iconst 1, 1) := dk_4 (dk_at dksX3_need_1 7 rfl rfl)
theorem dX3_need_32 : decode cX3_need 32 = .ok (.invokevirtual 205, 3) := dk_182 0 205 (dk_at dksX3_need_1 8 rfl rfl)
theorem dX3_need_35 : decode cX3_need 35 = .ok (.istore_n 3, 1) := dk_62 (dk_at dksX3_need_1 11 rfl rfl)
theorem dX3_need_36 : decode cX3_need 36 = .ok (.iload_n 3, 1) := dk_29 (dk_at dksX3_need_1 12 rfl rfl)
theorem dX3_need_37 : decode cX3_need 37 = .ok (.iload_n 2, 1) := dk_28 (dk_at dksX3_need_1 13 rfl rfl)
theorem dX3_need_38 : decode cX3_need 38 = .ok (.if_icmp .ne 9, 3) := dk_160 0 9 (dk_at dksX3_need_1 14 rfl rfl)
theorem dX3_need_41 : decode cX3_need 41 = .ok (.aload_n 0, 1) := dk_42 (dk_at dksX3_need_1 17 rfl rfl)
theorem dX3_need_42 : decode cX3_need 42 = .ok (.iconst 4, 1) := dk_7 (dk_at dksX3_need_1 18 rfl rfl)
theorem dX3_need_43 : decode cX3_need 43 = .ok (.invokevirtual 186, 3) := dk_182 0 186 (dk_at dksX3_need_1 19 rfl rfl)
theorem dX3_need_46 : decode cX3_need 46 = .ok (.ireturn, 1) := dk_172 (dk_at dksX3_need_1 22 rfl rfl)
theorem dX3_need_47 : decode cX3_need 47 = .ok (.aload_n 0, 1) := dk_42 (dk_at dksX3_need_1 23 rfl rfl)
theorem dX3_need_48 : decode cX3_need 48 = .ok (.invokevirtual 389, 3) := dk_182 1 133 (dk_at dksX3_need_2 0 rfl rfl)
theorem dX3_need_51 : decode cX3_need 51 = .ok (.aload_n 0, 1) := dk_42 (dk_at dksX3_need_2 3 rfl rfl)
theorem dX3_need_52 : decode cX3_need 52 = .ok (.iload_n 1, 1) := dk_27 (dk_at dksX3_need_2 4 rfl rfl)
theorem dX3_need_53 : decode cX3_need 53 = .ok (.iconst 1, 1) := dk_4 (dk_at dksX3_need_2 5 rfl rfl)
theorem dX3_need_54 : decode cX3_need 54 = .ok (.iload_n 2, 1) := dk_28 (dk_at dksX3_need_2 6 rfl rfl)
theorem dX3_need_55 : decode cX3_need 55 = .ok (.invokevirtual 289, 3) := dk_182 1 33 (dk_at dksX3_need_2 7 rfl rfl)
theorem dX3_need_58 : decode cX3_need 58 = .ok (.iconst 0, 1) := dk_3 (dk_at dksX3_need_2 10 rfl rfl)
theorem dX3_need_59 : decode cX3_need 59 = .ok (.istore 4, 2) := dk_54 4 (dk_at dksX3_need_2 11 rfl rfl)
theorem dX3_need_61 : decode cX3_need 61 = .ok (.iload 4, 2) := dk_21 4 (dk_at dksX3_need_2 13 rfl rfl)
theorem dX3_need_63 : decode cX3_need 63 = .ok (.aload_n 0, 1) := dk_42 (dk_at dksX3_need_2 15 rfl rfl)
theorem dX3_need_64 : decode cX3_need 64 = .ok (.getfield 7, 3) := dk_180 0 7 (dk_at dksX3_need_2 16 rfl rfl)
theorem dX3_need_67 : decode cX3_need 67 = .ok (.sipush 230, 3) := dk_17 0 230 (dk_at dksX3_need_2 19 rfl rfl)
theorem dX3_need_70 : decode cX3_need 70 = .ok (.iaload, 1) := dk_46 (dk_at dksX3_need_2 22 rfl rfl)
theorem dX3_need_71 : decode cX3_need 71 = .ok (.if_icmp .ge 26, 3) := dk_162 0 26 (dk_at dksX3_need_3 0 rfl rfl)
theorem dX3_need_74 : decode cX3_need 74 = .ok (.aload_n 0, 1) := dk_42 (dk_at dksX3_need_3 3 rfl rfl)
theorem dX3_need_75 : decode cX3_need 75 = .ok (.iload_n 1, 1) := dk_27 (dk_at dksX3_need_3 4 rfl rfl)
theorem dX3_need_76 : decode cX3_need 76 = .ok (.iload 4, 2) := dk_21 4 (dk_at dksX3_need_3 5 rfl rfl)
theorem dX3_need_78 : decode cX3_need 78 = .ok (.invokevirtual 250, 3) := dk_182 0 250 (dk_at dksX3_need_3 7 rfl rfl)
theorem dX3_need_81 : decode cX3_need 81 = .ok (.ifCond .ne 10, 3) := dk_154 0 10 (dk_at dksX3_need_3 10 rfl rfl)
theorem dX3_need_84 : decode cX3_need 84 = .ok (.aload_n 0, 1) := dk_42 (dk_at dksX3_need_3 13 rfl rfl)
theorem dX3_need_85 : decode cX3_need 85 = .ok (.iload_n 1, 1) := dk_27 (dk_at dksX3_need_3 14 rfl rfl)
theorem dX3_need_86 : decode cX3_need 86 = .ok (.iload 4, 2) := dk_21 4 (dk_at dksX3_need_3 15 rfl rfl)
theorem dX3_need_88 : decode cX3_need 88 = .ok (.invokevirtual 392, 3) := dk_182 1 136 (dk_at dksX3_need_3 17 rfl rfl)
theorem dX3_need_91 : decode cX3_need 91 = .ok (.iinc 4 1, 3) := dk_132 4 1 (dk_at dksX3_need_3 20 rfl rfl)
theorem dX3_need_94 : decode cX3_need 94 = .ok (.goto (-33), 3) := dk_167 255 223 (dk_at dksX3_need_4 0 rfl rfl)
theorem dX3_need_97 : decode cX3_need 97 = .ok (.aload_n 0, 1) := dk_42 (dk_at dksX3_need_4 3 rfl rfl)
theorem dX3_need_98 : decode cX3_need 98 = .ok (.iload_n 3, 1) := dk_29 (dk_at dksX3_need_4 4 rfl rfl)
theorem dX3_need_99 : decode cX3_need 99 = .ok (.invokevirtual 199, 3) := dk_182 0 199 (dk_at dksX3_need_4 5 rfl rfl)
theorem dX3_need_102 : decode cX3_need 102 = .ok (.ireturn, 1) := dk_172 (dk_at dksX3_need_4 8 rfl rfl)
abbrev cX3_rules : ByteArray := prog_15_method_133_code
def yX3_rules : MethodName := ⟨RX3, "rules", "(II)I"⟩
def dkwX3_rules_3 : List UInt8 := [172]
abbrev dktX3_rules_3 : List UInt8 := dkwX3_rules_3 ++ []
def dkwX3_rules_2 : List UInt8 := [182, 0, 186, 172, 42, 182, 1, 133, 42, 180, 0, 7, 17, 0, 224, 27, 96, 28, 79, 42, 29, 182, 0, 199]
abbrev dktX3_rules_2 : List UInt8 := dkwX3_rules_2 ++ dktX3_rules_3
def dkwX3_rules_1 : List UInt8 := [42, 4, 182, 0, 186, 172, 42, 180, 0, 7, 17, 0, 224, 27, 96, 46, 62, 29, 28, 160, 0, 9, 42, 7]
abbrev dktX3_rules_1 : List UInt8 := dkwX3_rules_1 ++ dktX3_rules_2
def dkwX3_rules_0 : List UInt8 := [27, 3, 8, 184, 0, 71, 153, 0, 18, 28, 27, 184, 0, 171, 27, 184, 0, 174, 184, 0, 71, 154, 0, 9]
abbrev dktX3_rules_0 : List UInt8 := dkwX3_rules_0 ++ dktX3_rules_1
theorem dksX3_rules_0 : cX3_rules.data.toList.drop 0 = dktX3_rules_0 := by decide +kernel
theorem dksX3_rules_1 : cX3_rules.data.toList.drop 24 = dktX3_rules_1 := dk_seg dksX3_rules_0 24 rfl rfl
theorem dksX3_rules_2 : cX3_rules.data.toList.drop 48 = dktX3_rules_2 := dk_seg dksX3_rules_1 24 rfl rfl
theorem dksX3_rules_3 : cX3_rules.data.toList.drop 72 = dktX3_rules_3 := dk_seg dksX3_rules_2 24 rfl rfl
theorem dX3_rules_0 : decode cX3_rules 0 = .ok (.iload_n 1, 1) := dk_27 (dk_at dksX3_rules_0 0 rfl rfl)
theorem dX3_rules_1 : decode cX3_rules 1 = .ok (.iconst 0, 1) := dk_3 (dk_at dksX3_rules_0 1 rfl rfl)
theorem dX3_rules_2 : decode cX3_rules 2 = .ok (.iconst 5, 1) := dk_8 (dk_at dksX3_rules_0 2 rfl rfl)
theorem dX3_rules_3 : decode cX3_rules 3 = .ok (.invokestatic 71, 3) := dk_184 0 71 (dk_at dksX3_rules_0 3 rfl rfl)
theorem dX3_rules_6 : decode cX3_rules 6 = .ok (.ifCond .eq 18, 3) := dk_153 0 18 (dk_at dksX3_rules_0 6 rfl rfl)
theorem dX3_rules_9 : decode cX3_rules 9 = .ok (.iload_n 2, 1) := dk_28 (dk_at dksX3_rules_0 9 rfl rfl)
theorem dX3_rules_10 : decode cX3_rules 10 = .ok (.iload_n 1, 1) := dk_27 (dk_at dksX3_rules_0 10 rfl rfl)
theorem dX3_rules_11 : decode cX3_rules 11 = .ok (.invokestatic 171, 3) := dk_184 0 171 (dk_at dksX3_rules_0 11 rfl rfl)
theorem dX3_rules_14 : decode cX3_rules 14 = .ok (.iload_n 1, 1) := dk_27 (dk_at dksX3_rules_0 14 rfl rfl)
theorem dX3_rules_15 : decode cX3_rules 15 = .ok (.invokestatic 174, 3) := dk_184 0 174 (dk_at dksX3_rules_0 15 rfl rfl)
theorem dX3_rules_18 : decode cX3_rules 18 = .ok (.invokestatic 71, 3) := dk_184 0 71 (dk_at dksX3_rules_0 18 rfl rfl)
theorem dX3_rules_21 : decode cX3_rules 21 = .ok (.ifCond .ne 9, 3) := dk_154 0 9 (dk_at dksX3_rules_0 21 rfl rfl)
theorem dX3_rules_24 : decode cX3_rules 24 = .ok (.aload_n 0, 1) := dk_42 (dk_at dksX3_rules_1 0 rfl rfl)
theorem dX3_rules_25 : decode cX3_rules 25 = .ok (.iconst 1, 1) := dk_4 (dk_at dksX3_rules_1 1 rfl rfl)
theorem dX3_rules_26 : decode cX3_rules 26 = .ok (.invokevirtual 186, 3) := dk_182 0 186 (dk_at dksX3_rules_1 2 rfl rfl)
theorem dX3_rules_29 : decode cX3_rules 29 = .ok (.ireturn, 1) := dk_172 (dk_at dksX3_rules_1 5 rfl rfl)
theorem dX3_rules_30 : decode cX3_rules 30 = .ok (.aload_n 0, 1) := dk_42 (dk_at dksX3_rules_1 6 rfl rfl)
theorem dX3_rules_31 : decode cX3_rules 31 = .ok (.getfield 7, 3) := dk_180 0 7 (dk_at dksX3_rules_1 7 rfl rfl)
theorem dX3_rules_34 : decode cX3_rules 34 = .ok (.sipush 224, 3) := dk_17 0 224 (dk_at dksX3_rules_1 10 rfl rfl)
theorem dX3_rules_37 : decode cX3_rules 37 = .ok (.iload_n 1, 1) := dk_27 (dk_at dksX3_rules_1 13 rfl rfl)
theorem dX3_rules_38 : decode cX3_rules 38 = .ok (.iadd, 1) := dk_96 (dk_at dksX3_rules_1 14 rfl rfl)
theorem dX3_rules_39 : decode cX3_rules 39 = .ok (.iaload, 1) := dk_46 (dk_at dksX3_rules_1 15 rfl rfl)
theorem dX3_rules_40 : decode cX3_rules 40 = .ok (.istore_n 3, 1) := dk_62 (dk_at dksX3_rules_1 16 rfl rfl)
theorem dX3_rules_41 : decode cX3_rules 41 = .ok (.iload_n 3, 1) := dk_29 (dk_at dksX3_rules_1 17 rfl rfl)
theorem dX3_rules_42 : decode cX3_rules 42 = .ok (.iload_n 2, 1) := dk_28 (dk_at dksX3_rules_1 18 rfl rfl)
theorem dX3_rules_43 : decode cX3_rules 43 = .ok (.if_icmp .ne 9, 3) := dk_160 0 9 (dk_at dksX3_rules_1 19 rfl rfl)
theorem dX3_rules_46 : decode cX3_rules 46 = .ok (.aload_n 0, 1) := dk_42 (dk_at dksX3_rules_1 22 rfl rfl)
theorem dX3_rules_47 : decode cX3_rules 47 = .ok (.iconst 4, 1) := dk_7 (dk_at dksX3_rules_1 23 rfl rfl)
theorem dX3_rules_48 : decode cX3_rules 48 = .ok (.invokevirtual 186, 3) := dk_182 0 186 (dk_at dksX3_rules_2 0 rfl rfl)
theorem dX3_rules_51 : decode cX3_rules 51 = .ok (.ireturn, 1) := dk_172 (dk_at dksX3_rules_2 3 rfl rfl)
theorem dX3_rules_52 : decode cX3_rules 52 = .ok (.aload_n 0, 1) := dk_42 (dk_at dksX3_rules_2 4 rfl rfl)
theorem dX3_rules_53 : decode cX3_rules 53 = .ok (.invokevirtual 389, 3) := dk_182 1 133 (dk_at dksX3_rules_2 5 rfl rfl)
theorem dX3_rules_56 : decode cX3_rules 56 = .ok (.aload_n 0, 1) := dk_42 (dk_at dksX3_rules_2 8 rfl rfl)
theorem dX3_rules_57 : decode cX3_rules 57 = .ok (.getfield 7, 3) := dk_180 0 7 (dk_at dksX3_rules_2 9 rfl rfl)
theorem dX3_rules_60 : decode cX3_rules 60 = .ok (.sipush 224, 3) := dk_17 0 224 (dk_at dksX3_rules_2 12 rfl rfl)
theorem dX3_rules_63 : decode cX3_rules 63 = .ok (.iload_n 1, 1) := dk_27 (dk_at dksX3_rules_2 15 rfl rfl)
theorem dX3_rules_64 : decode cX3_rules 64 = .ok (.iadd, 1) := dk_96 (dk_at dksX3_rules_2 16 rfl rfl)
theorem dX3_rules_65 : decode cX3_rules 65 = .ok (.iload_n 2, 1) := dk_28 (dk_at dksX3_rules_2 17 rfl rfl)
theorem dX3_rules_66 : decode cX3_rules 66 = .ok (.iastore, 1) := dk_79 (dk_at dksX3_rules_2 18 rfl rfl)
theorem dX3_rules_67 : decode cX3_rules 67 = .ok (.aload_n 0, 1) := dk_42 (dk_at dksX3_rules_2 19 rfl rfl)
theorem dX3_rules_68 : decode cX3_rules 68 = .ok (.iload_n 3, 1) := dk_29 (dk_at dksX3_rules_2 20 rfl rfl)
theorem dX3_rules_69 : decode cX3_rules 69 = .ok (.invokevirtual 199, 3) := dk_182 0 199 (dk_at dksX3_rules_2 21 rfl rfl)
theorem dX3_rules_72 : decode cX3_rules 72 = .ok (.ireturn, 1) := dk_172 (dk_at dksX3_rules_3 0 rfl rfl)
abbrev cX3_print : ByteArray := prog_15_method_140_code
def yX3_print : MethodName := ⟨RX3, "print", "()I"⟩
def dkwX3_print_7 : List UInt8 := [132, 1, 1, 167, 255, 228, 42, 42, 180, 1, 139, 182, 0, 199, 172]
abbrev dktX3_print_7 : List UInt8 := dkwX3_print_7 ++ []
def dkwX3_print_6 : List UInt8 := [180, 0, 7, 17, 0, 231, 46, 162, 0, 22, 42, 27, 182, 0, 208, 153, 0, 8, 42, 27, 182, 1, 160]
abbrev dktX3_print_6 : List UInt8 := dkwX3_print_6 ++ dktX3_print_7
def dkwX3_print_5 : List UInt8 := [182, 0, 202, 182, 1, 154, 42, 16, 59, 182, 1, 144, 132, 1, 1, 167, 255, 190, 3, 60, 27, 42]
abbrev dktX3_print_5 : List UInt8 := dkwX3_print_5 ++ dktX3_print_6
def dkwX3_print_4 : List UInt8 := [182, 1, 147, 42, 27, 182, 1, 151, 42, 42, 27, 3, 182, 0, 202, 182, 1, 154, 42, 42, 27, 4]
abbrev dktX3_print_4 : List UInt8 := dkwX3_print_4 ++ dktX3_print_5
def dkwX3_print_3 : List UInt8 := [17, 0, 230, 46, 162, 0, 60, 42, 27, 182, 1, 157, 154, 0, 6, 167, 0, 43, 42, 16, 6, 184, 0, 126]
abbrev dktX3_print_3 : List UInt8 := dkwX3_print_3 ++ dktX3_print_4
def dkwX3_print_2 : List UInt8 := [182, 1, 154, 42, 16, 59, 182, 1, 144, 132, 1, 1, 167, 255, 204, 3, 60, 27, 42, 180, 0, 7]
abbrev dktX3_print_2 : List UInt8 := dkwX3_print_2 ++ dktX3_print_3
def dkwX3_print_1 : List UInt8 := [16, 32, 182, 1, 144, 42, 27, 184, 0, 126, 182, 1, 147, 42, 42, 180, 0, 7, 17, 0, 224, 27, 96, 46]
abbrev dktX3_print_1 : List UInt8 := dkwX3_print_1 ++ dktX3_print_2
def dkwX3_print_0 : List UInt8 := [42, 3, 181, 1, 139, 3, 60, 27, 16, 6, 162, 0, 52, 42, 16, 8, 184, 0, 126, 182, 1, 147, 42]
abbrev dktX3_print_0 : List UInt8 := dkwX3_print_0 ++ dktX3_print_1
theorem dksX3_print_0 : cX3_print.data.toList.drop 0 = dktX3_print_0 := by decide +kernel
theorem dksX3_print_1 : cX3_print.data.toList.drop 23 = dktX3_print_1 := dk_seg dksX3_print_0 23 rfl rfl
theorem dksX3_print_2 : cX3_print.data.toList.drop 47 = dktX3_print_2 := dk_seg dksX3_print_1 24 rfl rfl
theorem dksX3_print_3 : cX3_print.data.toList.drop 69 = dktX3_print_3 := dk_seg dksX3_print_2 22 rfl rfl
theorem dksX3_print_4 : cX3_print.data.toList.drop 93 = dktX3_print_4 := dk_seg dksX3_print_3 24 rfl rfl
theorem dksX3_print_5 : cX3_print.data.toList.drop 115 = dktX3_print_5 := dk_seg dksX3_print_4 22 rfl rfl
theorem dksX3_print_6 : cX3_print.data.toList.drop 137 = dktX3_print_6 := dk_seg dksX3_print_5 22 rfl rfl
theorem dksX3_print_7 : cX3_print.data.toList.drop 160 = dktX3_print_7 := dk_seg dksX3_print_6 23 rfl rfl
theorem dX3_print_0 : decode cX3_print 0 = .ok (.aload_n 0, 1) := dk_42 (dk_at dksX3_print_0 0 rfl rfl)
theorem dX3_print_1 : decode cX3_print 1 = .ok (.iconst 0, 1) := dk_3 (dk_at dksX3_print_0 1 rfl rfl)
theorem dX3_print_2 : decode cX3_print 2 = .ok (.putfield 395, 3) := dk_181 1 139 (dk_at dksX3_print_0 2 rfl rfl)
theorem dX3_print_5 : decode cX3_print 5 = .ok (.iconst 0, 1) := dk_3 (dk_at dksX3_print_0 5 rfl rfl)
theorem dX3_print_6 : decode cX3_print 6 = .ok (.istore_n 1, 1) := dk_60 (dk_at dksX3_print_0 6 rfl rfl)
theorem dX3_print_7 : decode cX3_print 7 = .ok (.iload_n 1, 1) := dk_27 (dk_at dksX3_print_0 7 rfl rfl)
theorem dX3_print_8 : decode cX3_print 8 = .ok (.bipush 6, 2) := dk_16 6 (dk_at dksX3_print_0 8 rfl rfl)
theorem dX3_print_10 : decode cX3_print 10 = .ok (.if_icmp .ge 52, 3) := dk_162 0 52 (dk_at dksX3_print_0 10 rfl rfl)
theorem dX3_print_13 : decode cX3_print 13 = .ok (.aload_n 0, 1) := dk_42 (dk_at dksX3_print_0 13 rfl rfl)
theorem dX3_print_14 : decode cX3_print 14 = .ok (.bipush 8, 2) := dk_16 8 (dk_at dksX3_print_0 14 rfl rfl)
theorem dX3_print_16 : decode cX3_print 16 = .ok (.invokestatic 126, 3) := dk_184 0 126 (dk_at dksX3_print_0 16 rfl rfl)
theorem dX3_print_19 : decode cX3_print 19 = .ok (.invokevirtual 403, 3) := dk_182 1 147 (dk_at dksX3_print_0 19 rfl rfl)
theorem dX3_print_22 : decode cX3_print 22 = .ok (.aload_n 0, 1) := dk_42 (dk_at dksX3_print_0 22 rfl rfl)
theorem dX3_print_23 : decode cX3_print 23 = .ok (.bipush 32, 2) := dk_16 32 (dk_at dksX3_print_1 0 rfl rfl)
theorem dX3_print_25 : decode cX3_print 25 = .ok (.invokevirtual 400, 3) := dk_182 1 144 (dk_at dksX3_print_1 2 rfl rfl)
theorem dX3_print_28 : decode cX3_print 28 = .ok (.aload_n 0, 1) := dk_42 (dk_at dksX3_print_1 5 rfl rfl)
theorem dX3_print_29 : decode cX3_print 29 = .ok (.iload_n 1, 1) := dk_27 (dk_at dksX3_print_1 6 rfl rfl)
theorem dX3_print_30 : decode cX3_print 30 = .ok (.invokestatic 126, 3) := dk_184 0 126 (dk_at dksX3_print_1 7 rfl rfl)
theorem dX3_print_33 : decode cX3_print 33 = .ok (.invokevirtual 403, 3) := dk_182 1 147 (dk_at dksX3_print_1 10 rfl rfl)
theorem dX3_print_36 : decode cX3_print 36 = .ok (.aload_n 0, 1) := dk_42 (dk_at dksX3_print_1 13 rfl rfl)
theorem dX3_print_37 : decode cX3_print 37 = .ok (.aload_n 0, 1) := dk_42 (dk_at dksX3_print_1 14 rfl rfl)
theorem dX3_print_38 : decode cX3_print 38 = .ok (.getfield 7, 3) := dk_180 0 7 (dk_at dksX3_print_1 15 rfl rfl)
theorem dX3_print_41 : decode cX3_print 41 = .ok (.sipush 224, 3) := dk_17 0 224 (dk_at dksX3_print_1 18 rfl rfl)
theorem dX3_print_44 : decode cX3_print 44 = .ok (.iload_n 1, 1) := dk_27 (dk_at dksX3_print_1 21 rfl rfl)
theorem dX3_print_45 : decode cX3_print 45 = .ok (.iadd, 1) := dk_96 (dk_at dksX3_print_1 22 rfl rfl)
theorem dX3_print_46 : decode cX3_print 46 = .ok (.iaload, 1) := dk_46 (dk_at dksX3_print_1 23 rfl rfl)
theorem dX3_print_47 : decode cX3_print 47 = .ok (.invokevirtual 410, 3) := dk_182 1 154 (dk_at dksX3_print_2 0 rfl rfl)
theorem dX3_print_50 : decode cX3_print 50 = .ok (.aload_n 0, 1) := dk_42 (dk_at dksX3_print_2 3 rfl rfl)
theorem dX3_print_51 : decode cX3_print 51 = .ok (.bipush 59, 2) := dk_16 59 (dk_at dksX3_print_2 4 rfl rfl)
theorem dX3_print_53 : decode cX3_print 53 = .ok (.invokevirtual 400, 3) := dk_182 1 144 (dk_at dksX3_print_2 6 rfl rfl)
theorem dX3_print_56 : decode cX3_print 56 = .ok (.iinc 1 1, 3) := dk_132 1 1 (dk_at dksX3_print_2 9 rfl rfl)
theorem dX3_print_59 : decode cX3_print 59 = .ok (.goto (-52), 3) := dk_167 255 204 (dk_at dksX3_print_2 12 rfl rfl)
theorem dX3_print_62 : decode cX3_print 62 = .ok (.iconst 0, 1) := dk_3 (dk_at dksX3_print_2 15 rfl rfl)
theorem dX3_print_63 : decode cX3_print 63 = .ok (.istore_n 1, 1) := dk_60 (dk_at dksX3_print_2 16 rfl rfl)
theorem dX3_print_64 : decode cX3_print 64 = .ok (.iload_n 1, 1) := dk_27 (dk_at dksX3_print_2 17 rfl rfl)
theorem dX3_print_65 : decode cX3_print 65 = .ok (.aload_n 0, 1) := dk_42 (dk_at dksX3_print_2 18 rfl rfl)
theorem dX3_print_66 : decode cX3_print 66 = .ok (.getfield 7, 3) := dk_180 0 7 (dk_at dksX3_print_2 19 rfl rfl)
theorem dX3_print_69 : decode cX3_print 69 = .ok (.sipush 230, 3) := dk_17 0 230 (dk_at dksX3_print_3 0 rfl rfl)
theorem dX3_print_72 : decode cX3_print 72 = .ok (.iaload, 1) := dk_46 (dk_at dksX3_print_3 3 rfl rfl)
theorem dX3_print_73 : decode cX3_print 73 = .ok (.if_icmp .ge 60, 3) := dk_162 0 60 (dk_at dksX3_print_3 4 rfl rfl)
theorem dX3_print_76 : decode cX3_print 76 = .ok (.aload_n 0, 1) := dk_42 (dk_at dksX3_print_3 7 rfl rfl)
theorem dX3_print_77 : decode cX3_print 77 = .ok (.iload_n 1, 1) := dk_27 (dk_at dksX3_print_3 8 rfl rfl)
theorem dX3_print_78 : decode cX3_print 78 = .ok (.invokevirtual 413, 3) := dk_182 1 157 (dk_at dksX3_print_3 9 rfl rfl)
theorem dX3_print_81 : decode cX3_print 81 = .ok (.ifCond .ne 6, 3) := dk_154 0 6 (dk_at dksX3_print_3 12 rfl rfl)
theorem dX3_print_84 : decode cX3_print 84 = .ok (.goto 43, 3) := dk_167 0 43 (dk_at dksX3_print_3 15 rfl rfl)
theorem dX3_print_87 : decode cX3_print 87 = .ok (.aload_n 0, 1) := dk_42 (dk_at dksX3_print_3 18 rfl rfl)
theorem dX3_print_88 : decode cX3_print 88 = .ok (.bipush 6, 2) := dk_16 6 (dk_at dksX3_print_3 19 rfl rfl)
theorem dX3_print_90 : decode cX3_print 90 = .ok (.invokestatic 126, 3) := dk_184 0 126 (dk_at dksX3_print_3 21 rfl rfl)
theorem dX3_print_93 : decode cX3_print 93 = .ok (.invokevirtual 403, 3) := dk_182 1 147 (dk_at dksX3_print_4 0 rfl rfl)
theorem dX3_print_96 : decode cX3_print 96 = .ok (.aload_n 0, 1) := dk_42 (dk_at dksX3_print_4 3 rfl rfl)
theorem dX3_print_97 : decode cX3_print 97 = .ok (.iload_n 1, 1) := dk_27 (dk_at dksX3_print_4 4 rfl rfl)
theorem dX3_print_98 : decode cX3_print 98 = .ok (.invokevirtual 407, 3) := dk_182 1 151 (dk_at dksX3_print_4 5 rfl rfl)
theorem dX3_print_101 : decode cX3_print 101 = .ok (.aload_n 0, 1) := dk_42 (dk_at dksX3_print_4 8 rfl rfl)
theorem dX3_print_102 : decode cX3_print 102 = .ok (.aload_n 0, 1) := dk_42 (dk_at dksX3_print_4 9 rfl rfl)
theorem dX3_print_103 : decode cX3_print 103 = .ok (.iload_n 1, 1) := dk_27 (dk_at dksX3_print_4 10 rfl rfl)
theorem dX3_print_104 : decode cX3_print 104 = .ok (.iconst 0, 1) := dk_3 (dk_at dksX3_print_4 11 rfl rfl)
theorem dX3_print_105 : decode cX3_print 105 = .ok (.invokevirtual 202, 3) := dk_182 0 202 (dk_at dksX3_print_4 12 rfl rfl)
theorem dX3_print_108 : decode cX3_print 108 = .ok (.invokevirtual 410, 3) := dk_182 1 154 (dk_at dksX3_print_4 15 rfl rfl)
theorem dX3_print_111 : decode cX3_print 111 = .ok (.aload_n 0, 1) := dk_42 (dk_at dksX3_print_4 18 rfl rfl)
theorem dX3_print_112 : decode cX3_print 112 = .ok (.aload_n 0, 1) := dk_42 (dk_at dksX3_print_4 19 rfl rfl)
theorem dX3_print_113 : decode cX3_print 113 = .ok (.iload_n 1, 1) := dk_27 (dk_at dksX3_print_4 20 rfl rfl)
theorem dX3_print_114 : decode cX3_print 114 = .ok (.iconst 1, 1) := dk_4 (dk_at dksX3_print_4 21 rfl rfl)
theorem dX3_print_115 : decode cX3_print 115 = .ok (.invokevirtual 202, 3) := dk_182 0 202 (dk_at dksX3_print_5 0 rfl rfl)
theorem dX3_print_118 : decode cX3_print 118 = .ok (.invokevirtual 410, 3) := dk_182 1 154 (dk_at dksX3_print_5 3 rfl rfl)
theorem dX3_print_121 : decode cX3_print 121 = .ok (.aload_n 0, 1) := dk_42 (dk_at dksX3_print_5 6 rfl rfl)
theorem dX3_print_122 : decode cX3_print 122 = .ok (.bipush 59, 2) := dk_16 59 (dk_at dksX3_print_5 7 rfl rfl)
theorem dX3_print_124 : decode cX3_print 124 = .ok (.invokevirtual 400, 3) := dk_182 1 144 (dk_at dksX3_print_5 9 rfl rfl)
theorem dX3_print_127 : decode cX3_print 127 = .ok (.iinc 1 1, 3) := dk_132 1 1 (dk_at dksX3_print_5 12 rfl rfl)
theorem dX3_print_130 : decode cX3_print 130 = .ok (.goto (-66), 3) := dk_167 255 190 (dk_at dksX3_print_5 15 rfl rfl)
theorem dX3_print_133 : decode cX3_print 133 = .ok (.iconst 0, 1) := dk_3 (dk_at dksX3_print_5 18 rfl rfl)
theorem dX3_print_134 : decode cX3_print 134 = .ok (.istore_n 1, 1) := dk_60 (dk_at dksX3_print_5 19 rfl rfl)
theorem dX3_print_135 : decode cX3_print 135 = .ok (.iload_n 1, 1) := dk_27 (dk_at dksX3_print_5 20 rfl rfl)
theorem dX3_print_136 : decode cX3_print 136 = .ok (.aload_n 0, 1) := dk_42 (dk_at dksX3_print_5 21 rfl rfl)
theorem dX3_print_137 : decode cX3_print 137 = .ok (.getfield 7, 3) := dk_180 0 7 (dk_at dksX3_print_6 0 rfl rfl)
theorem dX3_print_140 : decode cX3_print 140 = .ok (.sipush 231, 3) := dk_17 0 231 (dk_at dksX3_print_6 3 rfl rfl)
theorem dX3_print_143 : decode cX3_print 143 = .ok (.iaload, 1) := dk_46 (dk_at dksX3_print_6 6 rfl rfl)
theorem dX3_print_144 : decode cX3_print 144 = .ok (.if_icmp .ge 22, 3) := dk_162 0 22 (dk_at dksX3_print_6 7 rfl rfl)
theorem dX3_print_147 : decode cX3_print 147 = .ok (.aload_n 0, 1) := dk_42 (dk_at dksX3_print_6 10 rfl rfl)
theorem dX3_print_148 : decode cX3_print 148 = .ok (.iload_n 1, 1) := dk_27 (dk_at dksX3_print_6 11 rfl rfl)
theorem dX3_print_149 : decode cX3_print 149 = .ok (.invokevirtual 208, 3) := dk_182 0 208 (dk_at dksX3_print_6 12 rfl rfl)
theorem dX3_print_152 : decode cX3_print 152 = .ok (.ifCond .eq 8, 3) := dk_153 0 8 (dk_at dksX3_print_6 15 rfl rfl)
theorem dX3_print_155 : decode cX3_print 155 = .ok (.aload_n 0, 1) := dk_42 (dk_at dksX3_print_6 18 rfl rfl)
theorem dX3_print_156 : decode cX3_print 156 = .ok (.iload_n 1, 1) := dk_27 (dk_at dksX3_print_6 19 rfl rfl)
theorem dX3_print_157 : decode cX3_print 157 = .ok (.invokevirtual 416, 3) := dk_182 1 160 (dk_at dksX3_print_6 20 rfl rfl)
theorem dX3_print_160 : decode cX3_print 160 = .ok (.iinc 1 1, 3) := dk_132 1 1 (dk_at dksX3_print_7 0 rfl rfl)
theorem dX3_print_163 : decode cX3_print 163 = .ok (.goto (-28), 3) := dk_167 255 228 (dk_at dksX3_print_7 3 rfl rfl)
theorem dX3_print_166 : decode cX3_print 166 = .ok (.aload_n 0, 1) := dk_42 (dk_at dksX3_print_7 6 rfl rfl)
theorem dX3_print_167 : decode cX3_print 167 = .ok (.aload_n 0, 1) := dk_42 (dk_at dksX3_print_7 7 rfl rfl)
theorem dX3_print_168 : decode cX3_print 168 = .ok (.getfield 395, 3) := dk_180 1 139 (dk_at dksX3_print_7 8 rfl rfl)
theorem dX3_print_171 : decode cX3_print 171 = .ok (.invokevirtual 199, 3) := dk_182 0 199 (dk_at dksX3_print_7 11 rfl rfl)
theorem dX3_print_174 : decode cX3_print 174 = .ok (.ireturn, 1) := dk_172 (dk_at dksX3_print_7 14 rfl rfl)
abbrev cX3_printsWord : ByteArray := prog_15_method_135_code
def yX3_printsWord : MethodName := ⟨RX3, "printsWord", "(J)V"⟩
def dkwX3_printsWord_1 : List UInt8 := [20, 1, 142, 127, 136, 16, 96, 96, 182, 1, 144, 132, 3, 251, 167, 255, 222, 177]
abbrev dktX3_printsWord_1 : List UInt8 := dkwX3_printsWord_1 ++ []
def dkwX3_printsWord_0 : List UInt8 := [16, 40, 62, 29, 155, 0, 36, 31, 29, 123, 20, 1, 142, 127, 9, 148, 153, 0, 18, 42, 31, 29, 123]
abbrev dktX3_printsWord_0 : List UInt8 := dkwX3_printsWord_0 ++ dktX3_printsWord_1
theorem dksX3_printsWord_0 : cX3_printsWord.data.toList.drop 0 = dktX3_printsWord_0 := by decide +kernel
theorem dksX3_printsWord_1 : cX3_printsWord.data.toList.drop 23 = dktX3_printsWord_1 := dk_seg dksX3_printsWord_0 23 rfl rfl
theorem dX3_printsWord_0 : decode cX3_printsWord 0 = .ok (.bipush 40, 2) := dk_16 40 (dk_at dksX3_printsWord_0 0 rfl rfl)
theorem dX3_printsWord_2 : decode cX3_printsWord 2 = .ok (.istore_n 3, 1) := dk_62 (dk_at dksX3_printsWord_0 2 rfl rfl)
theorem dX3_printsWord_3 : decode cX3_printsWord 3 = .ok (.iload_n 3, 1) := dk_29 (dk_at dksX3_printsWord_0 3 rfl rfl)
theorem dX3_printsWord_4 : decode cX3_printsWord 4 = .ok (.ifCond .lt 36, 3) := dk_155 0 36 (dk_at dksX3_printsWord_0 4 rfl rfl)
theorem dX3_printsWord_7 : decode cX3_printsWord 7 = .ok (.lload_n 1, 1) := dk_31 (dk_at dksX3_printsWord_0 7 rfl rfl)
theorem dX3_printsWord_8 : decode cX3_printsWord 8 = .ok (.iload_n 3, 1) := dk_29 (dk_at dksX3_printsWord_0 8 rfl rfl)
theorem dX3_printsWord_9 : decode cX3_printsWord 9 = .ok (.lshr, 1) := dk_123 (dk_at dksX3_printsWord_0 9 rfl rfl)
theorem dX3_printsWord_10 : decode cX3_printsWord 10 = .ok (.ldc2_w 398, 3) := dk_20 1 142 (dk_at dksX3_printsWord_0 10 rfl rfl)
theorem dX3_printsWord_13 : decode cX3_printsWord 13 = .ok (.land, 1) := dk_127 (dk_at dksX3_printsWord_0 13 rfl rfl)
theorem dX3_printsWord_14 : decode cX3_printsWord 14 = .ok (.lconst 0, 1) := dk_9 (dk_at dksX3_printsWord_0 14 rfl rfl)
theorem dX3_printsWord_15 : decode cX3_printsWord 15 = .ok (.lcmp, 1) := dk_148 (dk_at dksX3_printsWord_0 15 rfl rfl)
theorem dX3_printsWord_16 : decode cX3_printsWord 16 = .ok (.ifCond .eq 18, 3) := dk_153 0 18 (dk_at dksX3_printsWord_0 16 rfl rfl)
theorem dX3_printsWord_19 : decode cX3_printsWord 19 = .ok (.aload_n 0, 1) := dk_42 (dk_at dksX3_printsWord_0 19 rfl rfl)
theorem dX3_printsWord_20 : decode cX3_printsWord 20 = .ok (.lload_n 1, 1) := dk_31 (dk_at dksX3_printsWord_0 20 rfl rfl)
theorem dX3_printsWord_21 : decode cX3_printsWord 21 = .ok (.iload_n 3, 1) := dk_29 (dk_at dksX3_printsWord_0 21 rfl rfl)
theorem dX3_printsWord_22 : decode cX3_printsWord 22 = .ok (.lshr, 1) := dk_123 (dk_at dksX3_printsWord_0 22 rfl rfl)
theorem dX3_printsWord_23 : decode cX3_printsWord 23 = .ok (.ldc2_w 398, 3) := dk_20 1 142 (dk_at dksX3_printsWord_1 0 rfl rfl)
theorem dX3_printsWord_26 : decode cX3_printsWord 26 = .ok (.land, 1) := dk_127 (dk_at dksX3_printsWord_1 3 rfl rfl)
theorem dX3_printsWord_27 : decode cX3_printsWord 27 = .ok (.l2i, 1) := dk_136 (dk_at dksX3_printsWord_1 4 rfl rfl)
theorem dX3_printsWord_28 : decode cX3_printsWord 28 = .ok (.bipush 96, 2) := dk_16 96 (dk_at dksX3_printsWord_1 5 rfl rfl)
theorem dX3_printsWord_30 : decode cX3_printsWord 30 = .ok (.iadd, 1) := dk_96 (dk_at dksX3_printsWord_1 7 rfl rfl)
theorem dX3_printsWord_31 : decode cX3_printsWord 31 = .ok (.invokevirtual 400, 3) := dk_182 1 144 (dk_at dksX3_printsWord_1 8 rfl rfl)
theorem dX3_printsWord_34 : decode cX3_printsWord 34 = .ok (.iinc 3 (-5), 3) := dk_132 3 251 (dk_at dksX3_printsWord_1 11 rfl rfl)
theorem dX3_printsWord_37 : decode cX3_printsWord 37 = .ok (.goto (-34), 3) := dk_167 255 222 (dk_at dksX3_printsWord_1 14 rfl rfl)
theorem dX3_printsWord_40 : decode cX3_printsWord 40 = .ok (.return_, 1) := dk_177 (dk_at dksX3_printsWord_1 17 rfl rfl)
abbrev cX3_prints : ByteArray := prog_15_method_134_code
def yX3_prints : MethodName := ⟨RX3, "prints", "(I)V"⟩
def dkwX3_prints_0 : List UInt8 := [42, 180, 0, 57, 42, 180, 1, 139, 27, 145, 84, 42, 89, 180, 1, 139, 4, 96, 181, 1, 139, 177]
abbrev dktX3_prints_0 : List UInt8 := dkwX3_prints_0 ++ []
theorem dksX3_prints_0 : cX3_prints.data.toList.drop 0 = dktX3_prints_0 := by decide +kernel
theorem dX3_prints_0 : decode cX3_prints 0 = .ok (.aload_n 0, 1) := dk_42 (dk_at dksX3_prints_0 0 rfl rfl)
theorem dX3_prints_1 : decode cX3_prints 1 = .ok (.getfield 57, 3) := dk_180 0 57 (dk_at dksX3_prints_0 1 rfl rfl)
theorem dX3_prints_4 : decode cX3_prints 4 = .ok (.aload_n 0, 1) := dk_42 (dk_at dksX3_prints_0 4 rfl rfl)
theorem dX3_prints_5 : decode cX3_prints 5 = .ok (.getfield 395, 3) := dk_180 1 139 (dk_at dksX3_prints_0 5 rfl rfl)
theorem dX3_prints_8 : decode cX3_prints 8 = .ok (.iload_n 1, 1) := dk_27 (dk_at dksX3_prints_0 8 rfl rfl)
theorem dX3_prints_9 : decode cX3_prints 9 = .ok (.i2b, 1) := dk_145 (dk_at dksX3_prints_0 9 rfl rfl)
theorem dX3_prints_10 : decode cX3_prints 10 = .ok (.bastore, 1) := dk_84 (dk_at dksX3_prints_0 10 rfl rfl)
theorem dX3_prints_11 : decode cX3_prints 11 = .ok (.aload_n 0, 1) := dk_42 (dk_at dksX3_prints_0 11 rfl rfl)
theorem dX3_prints_12 : decode cX3_prints 12 = .ok (.dup, 1) := dk_89 (dk_at dksX3_prints_0 12 rfl rfl)
theorem dX3_prints_13 : decode cX3_prints 13 = .ok (.getfield 395, 3) := dk_180 1 139 (dk_at dksX3_prints_0 13 rfl rfl)
theorem dX3_prints_16 : decode cX3_prints 16 = .ok (.iconst 1, 1) := dk_4 (dk_at dksX3_prints_0 16 rfl rfl)
theorem dX3_prints_17 : decode cX3_prints 17 = .ok (.iadd, 1) := dk_96 (dk_at dksX3_prints_0 17 rfl rfl)
theorem dX3_prints_18 : decode cX3_prints 18 = .ok (.putfield 395, 3) := dk_181 1 139 (dk_at dksX3_prints_0 18 rfl rfl)
theorem dX3_prints_21 : decode cX3_prints 21 = .ok (.return_, 1) := dk_177 (dk_at dksX3_prints_0 21 rfl rfl)
abbrev cX3_printsNumber : ByteArray := prog_15_method_137_code
def yX3_printsNumber : MethodName := ⟨RX3, "printsNumber", "(I)V"⟩
def dkwX3_printsNumber_2 : List UInt8 := [16, 10, 112, 96, 182, 1, 144, 177]
abbrev dktX3_printsNumber_2 : List UInt8 := dkwX3_printsNumber_2 ++ []
def dkwX3_printsNumber_1 : List UInt8 := [16, 9, 164, 0, 17, 42, 16, 48, 27, 16, 10, 108, 16, 10, 112, 96, 182, 1, 144, 42, 16, 48, 27]
abbrev dktX3_printsNumber_1 : List UInt8 := dkwX3_printsNumber_1 ++ dktX3_printsNumber_2
def dkwX3_printsNumber_0 : List UInt8 := [42, 16, 32, 182, 1, 144, 27, 16, 99, 164, 0, 14, 42, 16, 48, 27, 16, 100, 108, 96, 182, 1, 144, 27]
abbrev dktX3_printsNumber_0 : List UInt8 := dkwX3_printsNumber_0 ++ dktX3_printsNumber_1
theorem dksX3_printsNumber_0 : cX3_printsNumber.data.toList.drop 0 = dktX3_printsNumber_0 := by decide +kernel
theorem dksX3_printsNumber_1 : cX3_printsNumber.data.toList.drop 24 = dktX3_printsNumber_1 := dk_seg dksX3_printsNumber_0 24 rfl rfl
theorem dksX3_printsNumber_2 : cX3_printsNumber.data.toList.drop 47 = dktX3_printsNumber_2 := dk_seg dksX3_printsNumber_1 23 rfl rfl
theorem dX3_printsNumber_0 : decode cX3_printsNumber 0 = .ok (.aload_n 0, 1) := dk_42 (dk_at dksX3_printsNumber_0 0 rfl rfl)
theorem dX3_printsNumber_1 : decode cX3_printsNumber 1 = .ok (.bipush 32, 2) := dk_16 32 (dk_at dksX3_printsNumber_0 1 rfl rfl)
theorem dX3_printsNumber_3 : decode cX3_printsNumber 3 = .ok (.invokevirtual 400, 3) := dk_182 1 144 (dk_at dksX3_printsNumber_0 3 rfl rfl)
theorem dX3_printsNumber_6 : decode cX3_printsNumber 6 = .ok (.iload_n 1, 1) := dk_27 (dk_at dksX3_printsNumber_0 6 rfl rfl)
theorem dX3_printsNumber_7 : decode cX3_printsNumber 7 = .ok (.bipush 99, 2) := dk_16 99 (dk_at dksX3_printsNumber_0 7 rfl rfl)
theorem dX3_printsNumber_9 : decode cX3_printsNumber 9 = .ok (.if_icmp .le 14, 3) := dk_164 0 14 (dk_at dksX3_printsNumber_0 9 rfl rfl)
theorem dX3_printsNumber_12 : decode cX3_printsNumber 12 = .ok (.aload_n 0, 1) := dk_42 (dk_at dksX3_printsNumber_0 12 rfl rfl)
theorem dX3_printsNumber_13 : decode cX3_printsNumber 13 = .ok (.bipush 48, 2) := dk_16 48 (dk_at dksX3_printsNumber_0 13 rfl rfl)
theorem dX3_printsNumber_15 : decode cX3_printsNumber 15 = .ok (.iload_n 1, 1) := dk_27 (dk_at dksX3_printsNumber_0 15 rfl rfl)
theorem dX3_printsNumber_16 : decode cX3_printsNumber 16 = .ok (.bipush 100, 2) := dk_16 100 (dk_at dksX3_printsNumber_0 16 rfl rfl)
theorem dX3_printsNumber_18 : decode cX3_printsNumber 18 = .ok (.idiv, 1) := dk_108 (dk_at dksX3_printsNumber_0 18 rfl rfl)
theorem dX3_printsNumber_19 : decode cX3_printsNumber 19 = .ok (.iadd, 1) := dk_96 (dk_at dksX3_printsNumber_0 19 rfl rfl)
theorem dX3_printsNumber_20 : decode cX3_printsNumber 20 = .ok (.invokevirtual 400, 3) := dk_182 1 144 (dk_at dksX3_printsNumber_0 20 rfl rfl)
theorem dX3_printsNumber_23 : decode cX3_printsNumber 23 = .ok (.iload_n 1, 1) := dk_27 (dk_at dksX3_printsNumber_0 23 rfl rfl)
theorem dX3_printsNumber_24 : decode cX3_printsNumber 24 = .ok (.bipush 9, 2) := dk_16 9 (dk_at dksX3_printsNumber_1 0 rfl rfl)
theorem dX3_printsNumber_26 : decode cX3_printsNumber 26 = .ok (.if_icmp .le 17, 3) := dk_164 0 17 (dk_at dksX3_printsNumber_1 2 rfl rfl)
theorem dX3_printsNumber_29 : decode cX3_printsNumber 29 = .ok (.aload_n 0, 1) := dk_42 (dk_at dksX3_printsNumber_1 5 rfl rfl)
theorem dX3_printsNumber_30 : decode cX3_printsNumber 30 = .ok (.bipush 48, 2) := dk_16 48 (dk_at dksX3_printsNumber_1 6 rfl rfl)
theorem dX3_printsNumber_32 : decode cX3_printsNumber 32 = .ok (.iload_n 1, 1) := dk_27 (dk_at dksX3_printsNumber_1 8 rfl rfl)
theorem dX3_printsNumber_33 : decode cX3_printsNumber 33 = .ok (.bipush 10, 2) := dk_16 10 (dk_at dksX3_printsNumber_1 9 rfl rfl)
theorem dX3_printsNumber_35 : decode cX3_printsNumber 35 = .ok (.idiv, 1) := dk_108 (dk_at dksX3_printsNumber_1 11 rfl rfl)
theorem dX3_printsNumber_36 : decode cX3_printsNumber 36 = .ok (.bipush 10, 2) := dk_16 10 (dk_at dksX3_printsNumber_1 12 rfl rfl)
theorem dX3_printsNumber_38 : decode cX3_printsNumber 38 = .ok (.irem, 1) := dk_112 (dk_at dksX3_printsNumber_1 14 rfl rfl)
theorem dX3_printsNumber_39 : decode cX3_printsNumber 39 = .ok (.iadd, 1) := dk_96 (dk_at dksX3_printsNumber_1 15 rfl rfl)
theorem dX3_printsNumber_40 : decode cX3_printsNumber 40 = .ok (.invokevirtual 400, 3) := dk_182 1 144 (dk_at dksX3_printsNumber_1 16 rfl rfl)
theorem dX3_printsNumber_43 : decode cX3_printsNumber 43 = .ok (.aload_n 0, 1) := dk_42 (dk_at dksX3_printsNumber_1 19 rfl rfl)
theorem dX3_printsNumber_44 : decode cX3_printsNumber 44 = .ok (.bipush 48, 2) := dk_16 48 (dk_at dksX3_printsNumber_1 20 rfl rfl)
theorem dX3_printsNumber_46 : decode cX3_printsNumber 46 = .ok (.iload_n 1, 1) := dk_27 (dk_at dksX3_printsNumber_1 22 rfl rfl)
theorem dX3_printsNumber_47 : decode cX3_printsNumber 47 = .ok (.bipush 10, 2) := dk_16 10 (dk_at dksX3_printsNumber_2 0 rfl rfl)
theorem dX3_printsNumber_49 : decode cX3_printsNumber 49 = .ok (.irem, 1) := dk_112 (dk_at dksX3_printsNumber_2 2 rfl rfl)
theorem dX3_printsNumber_50 : decode cX3_printsNumber 50 = .ok (.iadd, 1) := dk_96 (dk_at dksX3_printsNumber_2 3 rfl rfl)
theorem dX3_printsNumber_51 : decode cX3_printsNumber 51 = .ok (.invokevirtual 400, 3) := dk_182 1 144 (dk_at dksX3_printsNumber_2 4 rfl rfl)
theorem dX3_printsNumber_54 : decode cX3_printsNumber 54 = .ok (.return_, 1) := dk_177 (dk_at dksX3_printsNumber_2 7 rfl rfl)
abbrev cX3_isTold : ByteArray := prog_15_method_138_code
def yX3_isTold : MethodName := ⟨RX3, "isTold", "(I)Z"⟩
def dkwX3_isTold_1 : List UInt8 := [182, 0, 202, 182, 0, 208, 153, 0, 7, 4, 167, 0, 4, 3, 172]
abbrev dktX3_isTold_1 : List UInt8 := dkwX3_isTold_1 ++ []
def dkwX3_isTold_0 : List UInt8 := [42, 27, 16, 6, 182, 0, 202, 154, 0, 30, 42, 27, 5, 182, 0, 202, 2, 159, 0, 16, 42, 42, 27, 5]
abbrev dktX3_isTold_0 : List UInt8 := dkwX3_isTold_0 ++ dktX3_isTold_1
theorem dksX3_isTold_0 : cX3_isTold.data.toList.drop 0 = dktX3_isTold_0 := by decide +kernel
theorem dksX3_isTold_1 : cX3_isTold.data.toList.drop 24 = dktX3_isTold_1 := dk_seg dksX3_isTold_0 24 rfl rfl
theorem dX3_isTold_0 : decode cX3_isTold 0 = .ok (.aload_n 0, 1) := dk_42 (dk_at dksX3_isTold_0 0 rfl rfl)
theorem dX3_isTold_1 : decode cX3_isTold 1 = .ok (.iload_n 1, 1) := dk_27 (dk_at dksX3_isTold_0 1 rfl rfl)
theorem dX3_isTold_2 : decode cX3_isTold 2 = .ok (.bipush 6, 2) := dk_16 6 (dk_at dksX3_isTold_0 2 rfl rfl)
theorem dX3_isTold_4 : decode cX3_isTold 4 = .ok (.invokevirtual 202, 3) := dk_182 0 202 (dk_at dksX3_isTold_0 4 rfl rfl)
theorem dX3_isTold_7 : decode cX3_isTold 7 = .ok (.ifCond .ne 30, 3) := dk_154 0 30 (dk_at dksX3_isTold_0 7 rfl rfl)
theorem dX3_isTold_10 : decode cX3_isTold 10 = .ok (.aload_n 0, 1) := dk_42 (dk_at dksX3_isTold_0 10 rfl rfl)
theorem dX3_isTold_11 : decode cX3_isTold 11 = .ok (.iload_n 1, 1) := dk_27 (dk_at dksX3_isTold_0 11 rfl rfl)
theorem dX3_isTold_12 : decode cX3_isTold 12 = .ok (.iconst 2, 1) := dk_5 (dk_at dksX3_isTold_0 12 rfl rfl)
theorem dX3_isTold_13 : decode cX3_isTold 13 = .ok (.invokevirtual 202, 3) := dk_182 0 202 (dk_at dksX3_isTold_0 13 rfl rfl)
theorem dX3_isTold_16 : decode cX3_isTold 16 = .ok (.iconst (-1), 1) := dk_2 (dk_at dksX3_isTold_0 16 rfl rfl)
theorem dX3_isTold_17 : decode cX3_isTold 17 = .ok (.if_icmp .eq 16, 3) := dk_159 0 16 (dk_at dksX3_isTold_0 17 rfl rfl)
theorem dX3_isTold_20 : decode cX3_isTold 20 = .ok (.aload_n 0, 1) := dk_42 (dk_at dksX3_isTold_0 20 rfl rfl)
theorem dX3_isTold_21 : decode cX3_isTold 21 = .ok (.aload_n 0, 1) := dk_42 (dk_at dksX3_isTold_0 21 rfl rfl)
theorem dX3_isTold_22 : decode cX3_isTold 22 = .ok (.iload_n 1, 1) := dk_27 (dk_at dksX3_isTold_0 22 rfl rfl)
theorem dX3_isTold_23 : decode cX3_isTold 23 = .ok (.iconst 2, 1) := dk_5 (dk_at dksX3_isTold_0 23 rfl rfl)
theorem dX3_isTold_24 : decode cX3_isTold 24 = .ok (.invokevirtual 202, 3) := dk_182 0 202 (dk_at dksX3_isTold_1 0 rfl rfl)
theorem dX3_isTold_27 : decode cX3_isTold 27 = .ok (.invokevirtual 208, 3) := dk_182 0 208 (dk_at dksX3_isTold_1 3 rfl rfl)
theorem dX3_isTold_30 : decode cX3_isTold 30 = .ok (.ifCond .eq 7, 3) := dk_153 0 7 (dk_at dksX3_isTold_1 6 rfl rfl)
theorem dX3_isTold_33 : decode cX3_isTold 33 = .ok (.iconst 1, 1) := dk_4 (dk_at dksX3_isTold_1 9 rfl rfl)
theorem dX3_isTold_34 : decode cX3_isTold 34 = .ok (.goto 4, 3) := dk_167 0 4 (dk_at dksX3_isTold_1 10 rfl rfl)
theorem dX3_isTold_37 : decode cX3_isTold 37 = .ok (.iconst 0, 1) := dk_3 (dk_at dksX3_isTold_1 13 rfl rfl)
theorem dX3_isTold_38 : decode cX3_isTold 38 = .ok (.ireturn, 1) := dk_172 (dk_at dksX3_isTold_1 14 rfl rfl)
abbrev cX3_printsNamed : ByteArray := prog_15_method_136_code
def yX3_printsNamed : MethodName := ⟨RX3, "printsNamed", "(I)V"⟩
def dkwX3_printsNamed_0 : List UInt8 := [42, 16, 32, 182, 1, 144, 42, 42, 180, 0, 25, 27, 47, 182, 1, 147, 177]
abbrev dktX3_printsNamed_0 : List UInt8 := dkwX3_printsNamed_0 ++ []
theorem dksX3_printsNamed_0 : cX3_printsNamed.data.toList.drop 0 = dktX3_printsNamed_0 := by decide +kernel
theorem dX3_printsNamed_0 : decode cX3_printsNamed 0 = .ok (.aload_n 0, 1) := dk_42 (dk_at dksX3_printsNamed_0 0 rfl rfl)
theorem dX3_printsNamed_1 : decode cX3_printsNamed 1 = .ok (.bipush 32, 2) := dk_16 32 (dk_at dksX3_printsNamed_0 1 rfl rfl)
theorem dX3_printsNamed_3 : decode cX3_printsNamed 3 = .ok (.invokevirtual 400, 3) := dk_182 1 144 (dk_at dksX3_printsNamed_0 3 rfl rfl)
theorem dX3_printsNamed_6 : decode cX3_printsNamed 6 = .ok (.aload_n 0, 1) := dk_42 (dk_at dksX3_printsNamed_0 6 rfl rfl)
theorem dX3_printsNamed_7 : decode cX3_printsNamed 7 = .ok (.aload_n 0, 1) := dk_42 (dk_at dksX3_printsNamed_0 7 rfl rfl)
theorem dX3_printsNamed_8 : decode cX3_printsNamed 8 = .ok (.getfield 25, 3) := dk_180 0 25 (dk_at dksX3_printsNamed_0 8 rfl rfl)
theorem dX3_printsNamed_11 : decode cX3_printsNamed 11 = .ok (.iload_n 1, 1) := dk_27 (dk_at dksX3_printsNamed_0 11 rfl rfl)
theorem dX3_printsNamed_12 : decode cX3_printsNamed 12 = .ok (.laload, 1) := dk_47 (dk_at dksX3_printsNamed_0 12 rfl rfl)
theorem dX3_printsNamed_13 : decode cX3_printsNamed 13 = .ok (.invokevirtual 403, 3) := dk_182 1 147 (dk_at dksX3_printsNamed_0 13 rfl rfl)
theorem dX3_printsNamed_16 : decode cX3_printsNamed 16 = .ok (.return_, 1) := dk_177 (dk_at dksX3_printsNamed_0 16 rfl rfl)
abbrev cX3_printsHouse : ByteArray := prog_15_method_139_code
def yX3_printsHouse : MethodName := ⟨RX3, "printsHouse", "(I)V"⟩
def dkwX3_printsHouse_6 : List UInt8 := [182, 1, 144, 177]
abbrev dktX3_printsHouse_6 : List UInt8 := dkwX3_printsHouse_6 ++ []
def dkwX3_printsHouse_5 : List UInt8 := [42, 42, 27, 16, 12, 28, 96, 182, 0, 205, 182, 1, 151, 132, 2, 1, 167, 255, 213, 42, 16, 59]
abbrev dktX3_printsHouse_5 : List UInt8 := dkwX3_printsHouse_5 ++ dktX3_printsHouse_6
def dkwX3_printsHouse_4 : List UInt8 := [16, 11, 182, 0, 205, 162, 0, 38, 42, 42, 27, 16, 12, 28, 96, 182, 0, 205, 182, 1, 157, 153, 0, 16]
abbrev dktX3_printsHouse_4 : List UInt8 := dkwX3_printsHouse_4 ++ dktX3_printsHouse_5
def dkwX3_printsHouse_3 : List UInt8 := [16, 9, 184, 0, 126, 182, 1, 147, 42, 42, 27, 7, 182, 0, 205, 182, 1, 151, 3, 61, 28, 42, 27]
abbrev dktX3_printsHouse_3 : List UInt8 := dkwX3_printsHouse_3 ++ dktX3_printsHouse_4
def dkwX3_printsHouse_2 : List UInt8 := [159, 0, 41, 42, 42, 27, 7, 182, 0, 205, 182, 1, 157, 153, 0, 28, 42, 16, 32, 182, 1, 144, 42]
abbrev dktX3_printsHouse_2 : List UInt8 := dkwX3_printsHouse_2 ++ dktX3_printsHouse_3
def dkwX3_printsHouse_1 : List UInt8 := [42, 42, 27, 28, 182, 0, 205, 182, 1, 154, 132, 2, 1, 167, 255, 238, 42, 27, 7, 182, 0, 205, 2]
abbrev dktX3_printsHouse_1 : List UInt8 := dkwX3_printsHouse_1 ++ dktX3_printsHouse_2
def dkwX3_printsHouse_0 : List UInt8 := [42, 16, 7, 184, 0, 126, 182, 1, 147, 42, 16, 10, 27, 96, 182, 1, 151, 3, 61, 28, 6, 163, 0, 19]
abbrev dktX3_printsHouse_0 : List UInt8 := dkwX3_printsHouse_0 ++ dktX3_printsHouse_1
theorem dksX3_printsHouse_0 : cX3_printsHouse.data.toList.drop 0 = dktX3_printsHouse_0 := by decide +kernel
theorem dksX3_printsHouse_1 : cX3_printsHouse.data.toList.drop 24 = dktX3_printsHouse_1 := dk_seg dksX3_printsHouse_0 24 rfl rfl
theorem dksX3_printsHouse_2 : cX3_printsHouse.data.toList.drop 47 = dktX3_printsHouse_2 := dk_seg dksX3_printsHouse_1 23 rfl rfl
theorem dksX3_printsHouse_3 : cX3_printsHouse.data.toList.drop 70 = dktX3_printsHouse_3 := dk_seg dksX3_printsHouse_2 23 rfl rfl
theorem dksX3_printsHouse_4 : cX3_printsHouse.data.toList.drop 93 = dktX3_printsHouse_4 := dk_seg dksX3_printsHouse_3 23 rfl rfl
theorem dksX3_printsHouse_5 : cX3_printsHouse.data.toList.drop 117 = dktX3_printsHouse_5 := dk_seg dksX3_printsHouse_4 24 rfl rfl
theorem dksX3_printsHouse_6 : cX3_printsHouse.data.toList.drop 139 = dktX3_printsHouse_6 := dk_seg dksX3_printsHouse_5 22 rfl rfl
theorem dX3_printsHouse_0 : decode cX3_printsHouse 0 = .ok (.aload_n 0, 1) := dk_42 (dk_at dksX3_printsHouse_0 0 rfl rfl)
theorem dX3_printsHouse_1 : decode cX3_printsHouse 1 = .ok (.bipush 7, 2) := dk_16 7 (dk_at dksX3_printsHouse_0 1 rfl rfl)
theorem dX3_printsHouse_3 : decode cX3_printsHouse 3 = .ok (.invokestatic 126, 3) := dk_184 0 126 (dk_at dksX3_printsHouse_0 3 rfl rfl)
theorem dX3_printsHouse_6 : decode cX3_printsHouse 6 = .ok (.invokevirtual 403, 3) := dk_182 1 147 (dk_at dksX3_printsHouse_0 6 rfl rfl)
theorem dX3_printsHouse_9 : decode cX3_printsHouse 9 = .ok (.aload_n 0, 1) := dk_42 (dk_at dksX3_printsHouse_0 9 rfl rfl)
theorem dX3_printsHouse_10 : decode cX3_printsHouse 10 = .ok (.bipush 10, 2) := dk_16 10 (dk_at dksX3_printsHouse_0 10 rfl rfl)
theorem dX3_printsHouse_12 : decode cX3_printsHouse 12 = .ok (.iload_n 1, 1) := dk_27 (dk_at dksX3_printsHouse_0 12 rfl rfl)
theorem dX3_printsHouse_13 : decode cX3_printsHouse 13 = .ok (.iadd, 1) := dk_96 (dk_at dksX3_printsHouse_0 13 rfl rfl)
theorem dX3_printsHouse_14 : decode cX3_printsHouse 14 = .ok (.invokevirtual 407, 3) := dk_182 1 151 (dk_at dksX3_printsHouse_0 14 rfl rfl)
theorem dX3_printsHouse_17 : decode cX3_printsHouse 17 = .ok (.iconst 0, 1) := dk_3 (dk_at dksX3_printsHouse_0 17 rfl rfl)
theorem dX3_printsHouse_18 : decode cX3_printsHouse 18 = .ok (.istore_n 2, 1) := dk_61 (dk_at dksX3_printsHouse_0 18 rfl rfl)
theorem dX3_printsHouse_19 : decode cX3_printsHouse 19 = .ok (.iload_n 2, 1) := dk_28 (dk_at dksX3_printsHouse_0 19 rfl rfl)
theorem dX3_printsHouse_20 : decode cX3_printsHouse 20 = .ok (.iconst 3, 1) := dk_6 (dk_at dksX3_printsHouse_0 20 rfl rfl)
theorem dX3_printsHouse_21 : decode cX3_printsHouse 21 = .ok (.if_icmp .gt 19, 3) := dk_163 0 19 (dk_at dksX3_printsHouse_0 21 rfl rfl)
theorem dX3_printsHouse_24 : decode cX3_printsHouse 24 = .ok (.aload_n 0, 1) := dk_42 (dk_at dksX3_printsHouse_1 0 rfl rfl)
theorem dX3_printsHouse_25 : decode cX3_printsHouse 25 = .ok (.aload_n 0, 1) := dk_42 (dk_at dksX3_printsHouse_1 1 rfl rfl)
theorem dX3_printsHouse_26 : decode cX3_printsHouse 26 = .ok (.iload_n 1, 1) := dk_27 (dk_at dksX3_printsHouse_1 2 rfl rfl)
theorem dX3_printsHouse_27 : decode cX3_printsHouse 27 = .ok (.iload_n 2, 1) := dk_28 (dk_at dksX3_printsHouse_1 3 rfl rfl)
theorem dX3_printsHouse_28 : decode cX3_printsHouse 28 = .ok (.invokevirtual 205, 3) := dk_182 0 205 (dk_at dksX3_printsHouse_1 4 rfl rfl)
theorem dX3_printsHouse_31 : decode cX3_printsHouse 31 = .ok (.invokevirtual 410, 3) := dk_182 1 154 (dk_at dksX3_printsHouse_1 7 rfl rfl)
theorem dX3_printsHouse_34 : decode cX3_printsHouse 34 = .ok (.iinc 2 1, 3) := dk_132 2 1 (dk_at dksX3_printsHouse_1 10 rfl rfl)
theorem dX3_printsHouse_37 : decode cX3_printsHouse 37 = .ok (.goto (-18), 3) := dk_167 255 238 (dk_at dksX3_printsHouse_1 13 rfl rfl)
theorem dX3_printsHouse_40 : decode cX3_printsHouse 40 = .ok (.aload_n 0, 1) := dk_42 (dk_at dksX3_printsHouse_1 16 rfl rfl)
theorem dX3_printsHouse_41 : decode cX3_printsHouse 41 = .ok (.iload_n 1, 1) := dk_27 (dk_at dksX3_printsHouse_1 17 rfl rfl)
theorem dX3_printsHouse_42 : decode cX3_printsHouse 42 = .ok (.iconst 4, 1) := dk_7 (dk_at dksX3_printsHouse_1 18 rfl rfl)
theorem dX3_printsHouse_43 : decode cX3_printsHouse 43 = .ok (.invokevirtual 205, 3) := dk_182 0 205 (dk_at dksX3_printsHouse_1 19 rfl rfl)
theorem dX3_printsHouse_46 : decode cX3_printsHouse 46 = .ok (.iconst (-1), 1) := dk_2 (dk_at dksX3_printsHouse_1 22 rfl rfl)
theorem dX3_printsHouse_47 : decode cX3_printsHouse 47 = .ok (.if_icmp .eq 41, 3) := dk_159 0 41 (dk_at dksX3_printsHouse_2 0 rfl rfl)
theorem dX3_printsHouse_50 : decode cX3_printsHouse 50 = .ok (.aload_n 0, 1) := dk_42 (dk_at dksX3_printsHouse_2 3 rfl rfl)
theorem dX3_printsHouse_51 : decode cX3_printsHouse 51 = .ok (.aload_n 0, 1) := dk_42 (dk_at dksX3_printsHouse_2 4 rfl rfl)
theorem dX3_printsHouse_52 : decode cX3_printsHouse 52 = .ok (.iload_n 1, 1) := dk_27 (dk_at dksX3_printsHouse_2 5 rfl rfl)
theorem dX3_printsHouse_53 : decode cX3_printsHouse 53 = .ok (.iconst 4, 1) := dk_7 (dk_at dksX3_printsHouse_2 6 rfl rfl)
theorem dX3_printsHouse_54 : decode cX3_printsHouse 54 = .ok (.invokevirtual 205, 3) := dk_182 0 205 (dk_at dksX3_printsHouse_2 7 rfl rfl)
theorem dX3_printsHouse_57 : decode cX3_printsHouse 57 = .ok (.invokevirtual 413, 3) := dk_182 1 157 (dk_at dksX3_printsHouse_2 10 rfl rfl)
theorem dX3_printsHouse_60 : decode cX3_printsHouse 60 = .ok (.ifCond .eq 28, 3) := dk_153 0 28 (dk_at dksX3_printsHouse_2 13 rfl rfl)
theorem dX3_printsHouse_63 : decode cX3_printsHouse 63 = .ok (.aload_n 0, 1) := dk_42 (dk_at dksX3_printsHouse_2 16 rfl rfl)
theorem dX3_printsHouse_64 : decode cX3_printsHouse 64 = .ok (.bipush 32, 2) := dk_16 32 (dk_at dksX3_printsHouse_2 17 rfl rfl)
theorem dX3_printsHouse_66 : decode cX3_printsHouse 66 = .ok (.invokevirtual 400, 3) := dk_182 1 144 (dk_at dksX3_printsHouse_2 19 rfl rfl)
theorem dX3_printsHouse_69 : decode cX3_printsHouse 69 = .ok (.aload_n 0, 1) := dk_42 (dk_at dksX3_printsHouse_2 22 rfl rfl)
theorem dX3_printsHouse_70 : decode cX3_printsHouse 70 = .ok (.bipush 9, 2) := dk_16 9 (dk_at dksX3_printsHouse_3 0 rfl rfl)
theorem dX3_printsHouse_72 : decode cX3_printsHouse 72 = .ok (.invokestatic 126, 3) := dk_184 0 126 (dk_at dksX3_printsHouse_3 2 rfl rfl)
theorem dX3_printsHouse_75 : decode cX3_printsHouse 75 = .ok (.invokevirtual 403, 3) := dk_182 1 147 (dk_at dksX3_printsHouse_3 5 rfl rfl)
theorem dX3_printsHouse_78 : decode cX3_printsHouse 78 = .ok (.aload_n 0, 1) := dk_42 (dk_at dksX3_printsHouse_3 8 rfl rfl)
theorem dX3_printsHouse_79 : decode cX3_printsHouse 79 = .ok (.aload_n 0, 1) := dk_42 (dk_at dksX3_printsHouse_3 9 rfl rfl)
theorem dX3_printsHouse_80 : decode cX3_printsHouse 80 = .ok (.iload_n 1, 1) := dk_27 (dk_at dksX3_printsHouse_3 10 rfl rfl)
theorem dX3_printsHouse_81 : decode cX3_printsHouse 81 = .ok (.iconst 4, 1) := dk_7 (dk_at dksX3_printsHouse_3 11 rfl rfl)
theorem dX3_printsHouse_82 : decode cX3_printsHouse 82 = .ok (.invokevirtual 205, 3) := dk_182 0 205 (dk_at dksX3_printsHouse_3 12 rfl rfl)
theorem dX3_printsHouse_85 : decode cX3_printsHouse 85 = .ok (.invokevirtual 407, 3) := dk_182 1 151 (dk_at dksX3_printsHouse_3 15 rfl rfl)
theorem dX3_printsHouse_88 : decode cX3_printsHouse 88 = .ok (.iconst 0, 1) := dk_3 (dk_at dksX3_printsHouse_3 18 rfl rfl)
theorem dX3_printsHouse_89 : decode cX3_printsHouse 89 = .ok (.istore_n 2, 1) := dk_61 (dk_at dksX3_printsHouse_3 19 rfl rfl)
theorem dX3_printsHouse_90 : decode cX3_printsHouse 90 = .ok (.iload_n 2, 1) := dk_28 (dk_at dksX3_printsHouse_3 20 rfl rfl)
theorem dX3_printsHouse_91 : decode cX3_printsHouse 91 = .ok (.aload_n 0, 1) := dk_42 (dk_at dksX3_printsHouse_3 21 rfl rfl)
theorem dX3_printsHouse_92 : decode cX3_printsHouse 92 = .ok (.iload_n 1, 1) := dk_27 (dk_at dksX3_printsHouse_3 22 rfl rfl)
theorem dX3_printsHouse_93 : decode cX3_printsHouse 93 = .ok (.bipush 11, 2) := dk_16 11 (dk_at dksX3_printsHouse_4 0 rfl rfl)
theorem dX3_printsHouse_95 : decode cX3_printsHouse 95 = .ok (.invokevirtual 205, 3) := dk_182 0 205 (dk_at dksX3_printsHouse_4 2 rfl rfl)
theorem dX3_printsHouse_98 : decode cX3_printsHouse 98 = .ok (.if_icmp .ge 38, 3) := dk_162 0 38 (dk_at dksX3_printsHouse_4 5 rfl rfl)
theorem dX3_printsHouse_101 : decode cX3_printsHouse 101 = .ok (.aload_n 0, 1) := dk_42 (dk_at dksX3_printsHouse_4 8 rfl rfl)
theorem dX3_printsHouse_102 : decode cX3_printsHouse 102 = .ok (.aload_n 0, 1) := dk_42 (dk_at dksX3_printsHouse_4 9 rfl rfl)
theorem dX3_printsHouse_103 : decode cX3_printsHouse 103 = .ok (.iload_n 1, 1) := dk_27 (dk_at dksX3_printsHouse_4 10 rfl rfl)
theorem dX3_printsHouse_104 : decode cX3_printsHouse 104 = .ok (.bipush 12, 2) := dk_16 12 (dk_at dksX3_printsHouse_4 11 rfl rfl)
theorem dX3_printsHouse_106 : decode cX3_printsHouse 106 = .ok (.iload_n 2, 1) := dk_28 (dk_at dksX3_printsHouse_4 13 rfl rfl)
theorem dX3_printsHouse_107 : decode cX3_printsHouse 107 = .ok (.iadd, 1) := dk_96 (dk_at dksX3_printsHouse_4 14 rfl rfl)
theorem dX3_printsHouse_108 : decode cX3_printsHouse 108 = .ok (.invokevirtual 205, 3) := dk_182 0 205 (dk_at dksX3_printsHouse_4 15 rfl rfl)
theorem dX3_printsHouse_111 : decode cX3_printsHouse 111 = .ok (.invokevirtual 413, 3) := dk_182 1 157 (dk_at dksX3_printsHouse_4 18 rfl rfl)
theorem dX3_printsHouse_114 : decode cX3_printsHouse 114 = .ok (.ifCond .eq 16, 3) := dk_153 0 16 (dk_at dksX3_printsHouse_4 21 rfl rfl)
theorem dX3_printsHouse_117 : decode cX3_printsHouse 117 = .ok (.aload_n 0, 1) := dk_42 (dk_at dksX3_printsHouse_5 0 rfl rfl)
theorem dX3_printsHouse_118 : decode cX3_printsHouse 118 = .ok (.aload_n 0, 1) := dk_42 (dk_at dksX3_printsHouse_5 1 rfl rfl)
theorem dX3_printsHouse_119 : decode cX3_printsHouse 119 = .ok (.iload_n 1, 1) := dk_27 (dk_at dksX3_printsHouse_5 2 rfl rfl)
theorem dX3_printsHouse_120 : decode cX3_printsHouse 120 = .ok (.bipush 12, 2) := dk_16 12 (dk_at dksX3_printsHouse_5 3 rfl rfl)
theorem dX3_printsHouse_122 : decode cX3_printsHouse 122 = .ok (.iload_n 2, 1) := dk_28 (dk_at dksX3_printsHouse_5 5 rfl rfl)
theorem dX3_printsHouse_123 : decode cX3_printsHouse 123 = .ok (.iadd, 1) := dk_96 (dk_at dksX3_printsHouse_5 6 rfl rfl)
theorem dX3_printsHouse_124 : decode cX3_printsHouse 124 = .ok (.invokevirtual 205, 3) := dk_182 0 205 (dk_at dksX3_printsHouse_5 7 rfl rfl)
theorem dX3_printsHouse_127 : decode cX3_printsHouse 127 = .ok (.invokevirtual 407, 3) := dk_182 1 151 (dk_at dksX3_printsHouse_5 10 rfl rfl)
theorem dX3_printsHouse_130 : decode cX3_printsHouse 130 = .ok (.iinc 2 1, 3) := dk_132 2 1 (dk_at dksX3_printsHouse_5 13 rfl rfl)
theorem dX3_printsHouse_133 : decode cX3_printsHouse 133 = .ok (.goto (-43), 3) := dk_167 255 213 (dk_at dksX3_printsHouse_5 16 rfl rfl)
theorem dX3_printsHouse_136 : decode cX3_printsHouse 136 = .ok (.aload_n 0, 1) := dk_42 (dk_at dksX3_printsHouse_5 19 rfl rfl)
theorem dX3_printsHouse_137 : decode cX3_printsHouse 137 = .ok (.bipush 59, 2) := dk_16 59 (dk_at dksX3_printsHouse_5 20 rfl rfl)
theorem dX3_printsHouse_139 : decode cX3_printsHouse 139 = .ok (.invokevirtual 400, 3) := dk_182 1 144 (dk_at dksX3_printsHouse_6 0 rfl rfl)
theorem dX3_printsHouse_142 : decode cX3_printsHouse 142 = .ok (.return_, 1) := dk_177 (dk_at dksX3_printsHouse_6 3 rfl rfl)
abbrev cX3_out : ByteArray := prog_15_method_141_code
def yX3_out : MethodName := ⟨RX3, "out", "(I)I"⟩
def dkwX3_out_1 : List UInt8 := [180, 0, 65, 4, 160, 0, 7, 3, 167, 0, 9, 42, 180, 0, 57, 27, 51, 172]
abbrev dktX3_out_1 : List UInt8 := dkwX3_out_1 ++ []
def dkwX3_out_0 : List UInt8 := [42, 27, 155, 0, 11, 27, 42, 180, 1, 139, 161, 0, 7, 4, 167, 0, 4, 3, 181, 0, 65, 42]
abbrev dktX3_out_0 : List UInt8 := dkwX3_out_0 ++ dktX3_out_1
theorem dksX3_out_0 : cX3_out.data.toList.drop 0 = dktX3_out_0 := by decide +kernel
theorem dksX3_out_1 : cX3_out.data.toList.drop 22 = dktX3_out_1 := dk_seg dksX3_out_0 22 rfl rfl
theorem dX3_out_0 : decode cX3_out 0 = .ok (.aload_n 0, 1) := dk_42 (dk_at dksX3_out_0 0 rfl rfl)
theorem dX3_out_1 : decode cX3_out 1 = .ok (.iload_n 1, 1) := dk_27 (dk_at dksX3_out_0 1 rfl rfl)
theorem dX3_out_2 : decode cX3_out 2 = .ok (.ifCond .lt 11, 3) := dk_155 0 11 (dk_at dksX3_out_0 2 rfl rfl)
theorem dX3_out_5 : decode cX3_out 5 = .ok (.iload_n 1, 1) := dk_27 (dk_at dksX3_out_0 5 rfl rfl)
theorem dX3_out_6 : decode cX3_out 6 = .ok (.aload_n 0, 1) := dk_42 (dk_at dksX3_out_0 6 rfl rfl)
theorem dX3_out_7 : decode cX3_out 7 = .ok (.getfield 395, 3) := dk_180 1 139 (dk_at dksX3_out_0 7 rfl rfl)
theorem dX3_out_10 : decode cX3_out 10 = .ok (.if_icmp .lt 7, 3) := dk_161 0 7 (dk_at dksX3_out_0 10 rfl rfl)
theorem dX3_out_13 : decode cX3_out 13 = .ok (.iconst 1, 1) := dk_4 (dk_at dksX3_out_0 13 rfl rfl)
theorem dX3_out_14 : decode cX3_out 14 = .ok (.goto 4, 3) := dk_167 0 4 (dk_at dksX3_out_0 14 rfl rfl)
theorem dX3_out_17 : decode cX3_out 17 = .ok (.iconst 0, 1) := dk_3 (dk_at dksX3_out_0 17 rfl rfl)
theorem dX3_out_18 : decode cX3_out 18 = .ok (.putfield 65, 3) := dk_181 0 65 (dk_at dksX3_out_0 18 rfl rfl)
theorem dX3_out_21 : decode cX3_out 21 = .ok (.aload_n 0, 1) := dk_42 (dk_at dksX3_out_0 21 rfl rfl)
theorem dX3_out_22 : decode cX3_out 22 = .ok (.getfield 65, 3) := dk_180 0 65 (dk_at dksX3_out_1 0 rfl rfl)
theorem dX3_out_25 : decode cX3_out 25 = .ok (.iconst 1, 1) := dk_4 (dk_at dksX3_out_1 3 rfl rfl)
theorem dX3_out_26 : decode cX3_out 26 = .ok (.if_icmp .ne 7, 3) := dk_160 0 7 (dk_at dksX3_out_1 4 rfl rfl)
theorem dX3_out_29 : decode cX3_out 29 = .ok (.iconst 0, 1) := dk_3 (dk_at dksX3_out_1 7 rfl rfl)
theorem dX3_out_30 : decode cX3_out 30 = .ok (.goto 9, 3) := dk_167 0 9 (dk_at dksX3_out_1 8 rfl rfl)
theorem dX3_out_33 : decode cX3_out 33 = .ok (.aload_n 0, 1) := dk_42 (dk_at dksX3_out_1 11 rfl rfl)
theorem dX3_out_34 : decode cX3_out 34 = .ok (.getfield 57, 3) := dk_180 0 57 (dk_at dksX3_out_1 12 rfl rfl)
theorem dX3_out_37 : decode cX3_out 37 = .ok (.iload_n 1, 1) := dk_27 (dk_at dksX3_out_1 15 rfl rfl)
theorem dX3_out_38 : decode cX3_out 38 = .ok (.baload, 1) := dk_51 (dk_at dksX3_out_1 16 rfl rfl)
theorem dX3_out_39 : decode cX3_out 39 = .ok (.ireturn, 1) := dk_172 (dk_at dksX3_out_1 17 rfl rfl)
theorem q189 : (Jvm.Cond.initialized "HomesQueueModel") ∈ lw_all := lw_g (lw_at lw_m1 16 rfl) rfl
theorem q1113 : (Jvm.Cond.selects "HomesQueueModel" ({ cls := "java/lang/Object", name := "getClass", desc := "()Ljava/lang/Class;" } : Jvm.MethodName) ({ cls := "java/lang/Object", name := "getClass", desc := "()Ljava/lang/Class;" } : Jvm.MethodName)) ∈ lw_all := lw_g (lw_at lw_m4 220 rfl) rfl
theorem q1988 : (Jvm.Cond.instantiable "HomesQueueModel" (33 : Nat)) ∈ lw_all := lw_g (lw_at lw_m8 135 rfl) rfl
theorem q1990 : (Jvm.Cond.instanceMethod ({ cls := "HomesQueueModel", name := "<init>", desc := "()V" } : Jvm.MethodName)) ∈ lw_all := lw_g (lw_at lw_m8 137 rfl) rfl
theorem q1991 : (Jvm.Cond.code ({ cls := "HomesQueueModel", name := "<init>", desc := "()V" } : Jvm.MethodName) prog_15_method_1_code (1 : Nat) (Option.none : Option Jvm.ClassFile.FieldType)) ∈ lw_all := lw_g (lw_at lw_m8 138 rfl) rfl
theorem q1992 : (Jvm.Cond.methodLink "HomesQueueModel" (1 : Nat) ({ cls := "java/lang/Object", name := "<init>", desc := "()V" } : Jvm.MethodName)) ∈ lw_all := lw_g (lw_at lw_m8 139 rfl) rfl
theorem q1993 : (Jvm.Cond.methodLink "HomesQueueModel" (61 : Nat) ({ cls := "HomesQueueModel", name := "plain", desc := "([I)V" } : Jvm.MethodName)) ∈ lw_all := lw_g (lw_at lw_m8 140 rfl) rfl
theorem q1994 : (Jvm.Cond.static ({ cls := "HomesQueueModel", name := "plain", desc := "([I)V" } : Jvm.MethodName)) ∈ lw_all := lw_g (lw_at lw_m8 141 rfl) rfl
theorem q1995 : (Jvm.Cond.code ({ cls := "HomesQueueModel", name := "plain", desc := "([I)V" } : Jvm.MethodName) prog_15_method_2_code (2 : Nat) (Option.none : Option Jvm.ClassFile.FieldType)) ∈ lw_all := lw_g (lw_at lw_m8 142 rfl) rfl
theorem q1996 : (Jvm.Cond.fieldLink "HomesQueueModel" (65 : Nat) "HomesQueueModel" "thrown" "I") ∈ lw_all := lw_g (lw_at lw_m8 143 rfl) rfl
theorem q1997 : (Jvm.Cond.fieldLink "HomesQueueModel" (7 : Nat) "HomesQueueModel" "now" "[I") ∈ lw_all := lw_g (lw_at lw_m8 144 rfl) rfl
theorem q1998 : (Jvm.Cond.fieldLink "HomesQueueModel" (13 : Nat) "HomesQueueModel" "read" "[I") ∈ lw_all := lw_g (lw_at lw_m8 145 rfl) rfl
theorem q1999 : (Jvm.Cond.fieldLink "HomesQueueModel" (16 : Nat) "HomesQueueModel" "aside" "[I") ∈ lw_all := lw_g (lw_at lw_m8 146 rfl) rfl
theorem q2000 : (Jvm.Cond.fieldLink "HomesQueueModel" (19 : Nat) "HomesQueueModel" "kept" "[I") ∈ lw_all := lw_g (lw_at lw_m8 147 rfl) rfl
theorem q2001 : (Jvm.Cond.fieldLink "HomesQueueModel" (22 : Nat) "HomesQueueModel" "tape" "[I") ∈ lw_all := lw_g (lw_at lw_m8 148 rfl) rfl
theorem q2002 : (Jvm.Cond.fieldLink "HomesQueueModel" (25 : Nat) "HomesQueueModel" "names" "[J") ∈ lw_all := lw_g (lw_at lw_m8 149 rfl) rfl
theorem q2003 : (Jvm.Cond.fieldLink "HomesQueueModel" (29 : Nat) "HomesQueueModel" "readNames" "[J") ∈ lw_all := lw_g (lw_at lw_m8 150 rfl) rfl
theorem q2004 : (Jvm.Cond.fieldLink "HomesQueueModel" (79 : Nat) "HomesQueueModel" "taped" "I") ∈ lw_all := lw_g (lw_at lw_m8 151 rfl) rfl
theorem q2005 : (Jvm.Cond.fieldLink "HomesQueueModel" (68 : Nat) "HomesQueueModel" "status" "I") ∈ lw_all := lw_g (lw_at lw_m8 152 rfl) rfl
theorem q2006 : (Jvm.Cond.fieldLink "HomesQueueModel" (32 : Nat) "HomesQueueModel" "faultKind" "I") ∈ lw_all := lw_g (lw_at lw_m8 153 rfl) rfl
theorem q2007 : (Jvm.Cond.fieldLink "HomesQueueModel" (36 : Nat) "HomesQueueModel" "faultPlace" "I") ∈ lw_all := lw_g (lw_at lw_m8 154 rfl) rfl
theorem q2008 : (Jvm.Cond.fieldLink "HomesQueueModel" (196 : Nat) "HomesQueueModel" "acts" "I") ∈ lw_all := lw_g (lw_at lw_m8 155 rfl) rfl
theorem q2009 : (Jvm.Cond.fieldLink "HomesQueueModel" (86 : Nat) "HomesQueueModel" "size" "I") ∈ lw_all := lw_g (lw_at lw_m8 156 rfl) rfl
theorem q2010 : (Jvm.Cond.fieldLink "HomesQueueModel" (96 : Nat) "HomesQueueModel" "from" "I") ∈ lw_all := lw_g (lw_at lw_m8 157 rfl) rfl
theorem q2011 : (Jvm.Cond.fieldLink "HomesQueueModel" (89 : Nat) "HomesQueueModel" "to" "I") ∈ lw_all := lw_g (lw_at lw_m8 158 rfl) rfl
theorem q2012 : (Jvm.Cond.fieldLink "HomesQueueModel" (99 : Nat) "HomesQueueModel" "kind" "I") ∈ lw_all := lw_g (lw_at lw_m8 159 rfl) rfl
theorem q2013 : (Jvm.Cond.fieldLink "HomesQueueModel" (115 : Nat) "HomesQueueModel" "number" "I") ∈ lw_all := lw_g (lw_at lw_m8 160 rfl) rfl
theorem q2014 : (Jvm.Cond.fieldLink "HomesQueueModel" (133 : Nat) "HomesQueueModel" "fault" "I") ∈ lw_all := lw_g (lw_at lw_m8 161 rfl) rfl
theorem q2015 : (Jvm.Cond.fieldLink "HomesQueueModel" (136 : Nat) "HomesQueueModel" "place" "I") ∈ lw_all := lw_g (lw_at lw_m8 162 rfl) rfl
theorem q2016 : (Jvm.Cond.fieldLink "HomesQueueModel" (106 : Nat) "HomesQueueModel" "word" "J") ∈ lw_all := lw_g (lw_at lw_m8 163 rfl) rfl
theorem q2017 : (Jvm.Cond.fieldLink "HomesQueueModel" (39 : Nat) "HomesQueueModel" "give" "[I") ∈ lw_all := lw_g (lw_at lw_m8 164 rfl) rfl
theorem q2018 : (Jvm.Cond.fieldLink "HomesQueueModel" (42 : Nat) "HomesQueueModel" "gets" "[I") ∈ lw_all := lw_g (lw_at lw_m8 165 rfl) rfl
theorem q2019 : (Jvm.Cond.fieldLink "HomesQueueModel" (366 : Nat) "HomesQueueModel" "circles" "I") ∈ lw_all := lw_g (lw_at lw_m8 166 rfl) rfl
theorem q2020 : (Jvm.Cond.fieldLink "HomesQueueModel" (369 : Nat) "HomesQueueModel" "greatest" "I") ∈ lw_all := lw_g (lw_at lw_m8 167 rfl) rfl
theorem q2021 : (Jvm.Cond.fieldLink "HomesQueueModel" (45 : Nat) "HomesQueueModel" "row" "[I") ∈ lw_all := lw_g (lw_at lw_m8 168 rfl) rfl
theorem q2022 : (Jvm.Cond.fieldLink "HomesQueueModel" (48 : Nat) "HomesQueueModel" "rowHome" "[I") ∈ lw_all := lw_g (lw_at lw_m8 169 rfl) rfl
theorem q2023 : (Jvm.Cond.fieldLink "HomesQueueModel" (51 : Nat) "HomesQueueModel" "longest" "[I") ∈ lw_all := lw_g (lw_at lw_m8 170 rfl) rfl
theorem q2024 : (Jvm.Cond.fieldLink "HomesQueueModel" (54 : Nat) "HomesQueueModel" "longestHome" "[I") ∈ lw_all := lw_g (lw_at lw_m8 171 rfl) rfl
theorem q2025 : (Jvm.Cond.fieldLink "HomesQueueModel" (383 : Nat) "HomesQueueModel" "longestMany" "I") ∈ lw_all := lw_g (lw_at lw_m8 172 rfl) rfl
theorem q2026 : (Jvm.Cond.fieldLink "HomesQueueModel" (57 : Nat) "HomesQueueModel" "out" "[B") ∈ lw_all := lw_g (lw_at lw_m8 173 rfl) rfl
theorem q2027 : (Jvm.Cond.fieldLink "HomesQueueModel" (395 : Nat) "HomesQueueModel" "outMany" "I") ∈ lw_all := lw_g (lw_at lw_m8 174 rfl) rfl
theorem q2028 : (Jvm.Cond.lays "HomesQueueModel" "HomesQueueModel" "thrown" "I") ∈ lw_all := lw_g (lw_at lw_m8 175 rfl) rfl
theorem q2029 : (Jvm.Cond.soleField "HomesQueueModel" "thrown") ∈ lw_all := lw_g (lw_at lw_m8 176 rfl) rfl
theorem q2030 : (Jvm.Cond.laysFinal "HomesQueueModel" "HomesQueueModel" "now" "[I") ∈ lw_all := lw_g (lw_at lw_m8 177 rfl) rfl
theorem q2031 : (Jvm.Cond.soleField "HomesQueueModel" "now") ∈ lw_all := lw_g (lw_at lw_m8 178 rfl) rfl
theorem q2032 : (Jvm.Cond.laysFinal "HomesQueueModel" "HomesQueueModel" "read" "[I") ∈ lw_all := lw_g (lw_at lw_m8 179 rfl) rfl
theorem q2033 : (Jvm.Cond.soleField "HomesQueueModel" "read") ∈ lw_all := lw_g (lw_at lw_m8 180 rfl) rfl
theorem q2034 : (Jvm.Cond.laysFinal "HomesQueueModel" "HomesQueueModel" "aside" "[I") ∈ lw_all := lw_g (lw_at lw_m8 181 rfl) rfl
theorem q2035 : (Jvm.Cond.soleField "HomesQueueModel" "aside") ∈ lw_all := lw_g (lw_at lw_m8 182 rfl) rfl
theorem q2036 : (Jvm.Cond.laysFinal "HomesQueueModel" "HomesQueueModel" "kept" "[I") ∈ lw_all := lw_g (lw_at lw_m8 183 rfl) rfl
theorem q2037 : (Jvm.Cond.soleField "HomesQueueModel" "kept") ∈ lw_all := lw_g (lw_at lw_m8 184 rfl) rfl
theorem q2038 : (Jvm.Cond.laysFinal "HomesQueueModel" "HomesQueueModel" "tape" "[I") ∈ lw_all := lw_g (lw_at lw_m8 185 rfl) rfl
theorem q2039 : (Jvm.Cond.soleField "HomesQueueModel" "tape") ∈ lw_all := lw_g (lw_at lw_m8 186 rfl) rfl
theorem q2040 : (Jvm.Cond.laysFinal "HomesQueueModel" "HomesQueueModel" "names" "[J") ∈ lw_all := lw_g (lw_at lw_m8 187 rfl) rfl
theorem q2041 : (Jvm.Cond.soleField "HomesQueueModel" "names") ∈ lw_all := lw_g (lw_at lw_m8 188 rfl) rfl
theorem q2042 : (Jvm.Cond.laysFinal "HomesQueueModel" "HomesQueueModel" "readNames" "[J") ∈ lw_all := lw_g (lw_at lw_m8 189 rfl) rfl
theorem q2043 : (Jvm.Cond.soleField "HomesQueueModel" "readNames") ∈ lw_all := lw_g (lw_at lw_m8 190 rfl) rfl
theorem q2044 : (Jvm.Cond.lays "HomesQueueModel" "HomesQueueModel" "taped" "I") ∈ lw_all := lw_g (lw_at lw_m8 191 rfl) rfl
theorem q2045 : (Jvm.Cond.soleField "HomesQueueModel" "taped") ∈ lw_all := lw_g (lw_at lw_m8 192 rfl) rfl
theorem q2046 : (Jvm.Cond.lays "HomesQueueModel" "HomesQueueModel" "status" "I") ∈ lw_all := lw_g (lw_at lw_m8 193 rfl) rfl
theorem q2047 : (Jvm.Cond.soleField "HomesQueueModel" "status") ∈ lw_all := lw_g (lw_at lw_m8 194 rfl) rfl
theorem q2048 : (Jvm.Cond.lays "HomesQueueModel" "HomesQueueModel" "faultKind" "I") ∈ lw_all := lw_g (lw_at lw_m8 195 rfl) rfl
theorem q2049 : (Jvm.Cond.soleField "HomesQueueModel" "faultKind") ∈ lw_all := lw_g (lw_at lw_m8 196 rfl) rfl
theorem q2050 : (Jvm.Cond.lays "HomesQueueModel" "HomesQueueModel" "faultPlace" "I") ∈ lw_all := lw_g (lw_at lw_m8 197 rfl) rfl
theorem q2051 : (Jvm.Cond.soleField "HomesQueueModel" "faultPlace") ∈ lw_all := lw_g (lw_at lw_m8 198 rfl) rfl
theorem q2052 : (Jvm.Cond.lays "HomesQueueModel" "HomesQueueModel" "acts" "I") ∈ lw_all := lw_g (lw_at lw_m8 199 rfl) rfl
theorem q2053 : (Jvm.Cond.soleField "HomesQueueModel" "acts") ∈ lw_all := lw_g (lw_at lw_m8 200 rfl) rfl
theorem q2054 : (Jvm.Cond.lays "HomesQueueModel" "HomesQueueModel" "size" "I") ∈ lw_all := lw_g (lw_at lw_m8 201 rfl) rfl
theorem q2055 : (Jvm.Cond.soleField "HomesQueueModel" "size") ∈ lw_all := lw_g (lw_at lw_m8 202 rfl) rfl
theorem q2056 : (Jvm.Cond.lays "HomesQueueModel" "HomesQueueModel" "from" "I") ∈ lw_all := lw_g (lw_at lw_m8 203 rfl) rfl
theorem q2057 : (Jvm.Cond.soleField "HomesQueueModel" "from") ∈ lw_all := lw_g (lw_at lw_m8 204 rfl) rfl
theorem q2058 : (Jvm.Cond.lays "HomesQueueModel" "HomesQueueModel" "to" "I") ∈ lw_all := lw_g (lw_at lw_m8 205 rfl) rfl
theorem q2059 : (Jvm.Cond.soleField "HomesQueueModel" "to") ∈ lw_all := lw_g (lw_at lw_m8 206 rfl) rfl
theorem q2060 : (Jvm.Cond.lays "HomesQueueModel" "HomesQueueModel" "kind" "I") ∈ lw_all := lw_g (lw_at lw_m8 207 rfl) rfl
theorem q2061 : (Jvm.Cond.soleField "HomesQueueModel" "kind") ∈ lw_all := lw_g (lw_at lw_m8 208 rfl) rfl
theorem q2062 : (Jvm.Cond.lays "HomesQueueModel" "HomesQueueModel" "number" "I") ∈ lw_all := lw_g (lw_at lw_m8 209 rfl) rfl
theorem q2063 : (Jvm.Cond.soleField "HomesQueueModel" "number") ∈ lw_all := lw_g (lw_at lw_m8 210 rfl) rfl
theorem q2064 : (Jvm.Cond.lays "HomesQueueModel" "HomesQueueModel" "fault" "I") ∈ lw_all := lw_g (lw_at lw_m8 211 rfl) rfl
theorem q2065 : (Jvm.Cond.soleField "HomesQueueModel" "fault") ∈ lw_all := lw_g (lw_at lw_m8 212 rfl) rfl
theorem q2066 : (Jvm.Cond.lays "HomesQueueModel" "HomesQueueModel" "place" "I") ∈ lw_all := lw_g (lw_at lw_m8 213 rfl) rfl
theorem q2067 : (Jvm.Cond.soleField "HomesQueueModel" "place") ∈ lw_all := lw_g (lw_at lw_m8 214 rfl) rfl
theorem q2068 : (Jvm.Cond.lays "HomesQueueModel" "HomesQueueModel" "found" "I") ∈ lw_all := lw_g (lw_at lw_m8 215 rfl) rfl
theorem q2069 : (Jvm.Cond.soleField "HomesQueueModel" "found") ∈ lw_all := lw_g (lw_at lw_m8 216 rfl) rfl
theorem q2070 : (Jvm.Cond.lays "HomesQueueModel" "HomesQueueModel" "word" "J") ∈ lw_all := lw_g (lw_at lw_m8 217 rfl) rfl
theorem q2071 : (Jvm.Cond.soleField "HomesQueueModel" "word") ∈ lw_all := lw_g (lw_at lw_m8 218 rfl) rfl
theorem q2072 : (Jvm.Cond.laysFinal "HomesQueueModel" "HomesQueueModel" "give" "[I") ∈ lw_all := lw_g (lw_at lw_m8 219 rfl) rfl
theorem q2073 : (Jvm.Cond.soleField "HomesQueueModel" "give") ∈ lw_all := lw_g (lw_at lw_m8 220 rfl) rfl
theorem q2074 : (Jvm.Cond.laysFinal "HomesQueueModel" "HomesQueueModel" "gets" "[I") ∈ lw_all := lw_g (lw_at lw_m8 221 rfl) rfl
theorem q2075 : (Jvm.Cond.soleField "HomesQueueModel" "gets") ∈ lw_all := lw_g (lw_at lw_m8 222 rfl) rfl
theorem q2076 : (Jvm.Cond.lays "HomesQueueModel" "HomesQueueModel" "circles" "I") ∈ lw_all := lw_g (lw_at lw_m8 223 rfl) rfl
theorem q2077 : (Jvm.Cond.soleField "HomesQueueModel" "circles") ∈ lw_all := lw_g (lw_at lw_m8 224 rfl) rfl
theorem q2078 : (Jvm.Cond.lays "HomesQueueModel" "HomesQueueModel" "greatest" "I") ∈ lw_all := lw_g (lw_at lw_m8 225 rfl) rfl
theorem q2079 : (Jvm.Cond.soleField "HomesQueueModel" "greatest") ∈ lw_all := lw_g (lw_at lw_m8 226 rfl) rfl
theorem q2080 : (Jvm.Cond.laysFinal "HomesQueueModel" "HomesQueueModel" "row" "[I") ∈ lw_all := lw_g (lw_at lw_m8 227 rfl) rfl
theorem q2081 : (Jvm.Cond.soleField "HomesQueueModel" "row") ∈ lw_all := lw_g (lw_at lw_m8 228 rfl) rfl
theorem q2082 : (Jvm.Cond.laysFinal "HomesQueueModel" "HomesQueueModel" "rowHome" "[I") ∈ lw_all := lw_g (lw_at lw_m8 229 rfl) rfl
theorem q2083 : (Jvm.Cond.soleField "HomesQueueModel" "rowHome") ∈ lw_all := lw_g (lw_at lw_m8 230 rfl) rfl
theorem q2084 : (Jvm.Cond.laysFinal "HomesQueueModel" "HomesQueueModel" "longest" "[I") ∈ lw_all := lw_g (lw_at lw_m8 231 rfl) rfl
theorem q2085 : (Jvm.Cond.soleField "HomesQueueModel" "longest") ∈ lw_all := lw_g (lw_at lw_m8 232 rfl) rfl
theorem q2086 : (Jvm.Cond.laysFinal "HomesQueueModel" "HomesQueueModel" "longestHome" "[I") ∈ lw_all := lw_g (lw_at lw_m8 233 rfl) rfl
theorem q2087 : (Jvm.Cond.soleField "HomesQueueModel" "longestHome") ∈ lw_all := lw_g (lw_at lw_m8 234 rfl) rfl
theorem q2088 : (Jvm.Cond.lays "HomesQueueModel" "HomesQueueModel" "longestMany" "I") ∈ lw_all := lw_g (lw_at lw_m8 235 rfl) rfl
theorem q2089 : (Jvm.Cond.soleField "HomesQueueModel" "longestMany") ∈ lw_all := lw_g (lw_at lw_m8 236 rfl) rfl
theorem q2090 : (Jvm.Cond.laysFinal "HomesQueueModel" "HomesQueueModel" "out" "[B") ∈ lw_all := lw_g (lw_at lw_m8 237 rfl) rfl
theorem q2091 : (Jvm.Cond.soleField "HomesQueueModel" "out") ∈ lw_all := lw_g (lw_at lw_m8 238 rfl) rfl
theorem q2092 : (Jvm.Cond.lays "HomesQueueModel" "HomesQueueModel" "outMany" "I") ∈ lw_all := lw_g (lw_at lw_m8 239 rfl) rfl
theorem q2093 : (Jvm.Cond.soleField "HomesQueueModel" "outMany") ∈ lw_all := lw_g (lw_at lw_m9 0 rfl) rfl
theorem q2094 : (Jvm.Cond.superclass "HomesQueueModel" "java/lang/Object") ∈ lw_all := lw_g (lw_at lw_m9 1 rfl) rfl
theorem q2097 : (Jvm.Cond.instanceMethod ({ cls := "HomesQueueModel", name := "thrown", desc := "()I" } : Jvm.MethodName)) ∈ lw_all := lw_g (lw_at lw_m9 4 rfl) rfl
theorem q2098 : (Jvm.Cond.selects "HomesQueueModel" ({ cls := "HomesQueueModel", name := "thrown", desc := "()I" } : Jvm.MethodName) ({ cls := "HomesQueueModel", name := "thrown", desc := "()I" } : Jvm.MethodName)) ∈ lw_all := lw_g (lw_at lw_m9 5 rfl) rfl
theorem q2099 : (Jvm.Cond.code ({ cls := "HomesQueueModel", name := "thrown", desc := "()I" } : Jvm.MethodName) prog_15_method_3_code (1 : Nat) (Option.some Jvm.ClassFile.FieldType.int)) ∈ lw_all := lw_g (lw_at lw_m9 6 rfl) rfl
theorem q2101 : (Jvm.Cond.instanceMethod ({ cls := "HomesQueueModel", name := "status", desc := "()I" } : Jvm.MethodName)) ∈ lw_all := lw_g (lw_at lw_m9 8 rfl) rfl
theorem q2102 : (Jvm.Cond.selects "HomesQueueModel" ({ cls := "HomesQueueModel", name := "status", desc := "()I" } : Jvm.MethodName) ({ cls := "HomesQueueModel", name := "status", desc := "()I" } : Jvm.MethodName)) ∈ lw_all := lw_g (lw_at lw_m9 9 rfl) rfl
theorem q2103 : (Jvm.Cond.code ({ cls := "HomesQueueModel", name := "status", desc := "()I" } : Jvm.MethodName) prog_15_method_4_code (1 : Nat) (Option.some Jvm.ClassFile.FieldType.int)) ∈ lw_all := lw_g (lw_at lw_m9 10 rfl) rfl
theorem q2105 : (Jvm.Cond.instanceMethod ({ cls := "HomesQueueModel", name := "feed", desc := "(IIIII)I" } : Jvm.MethodName)) ∈ lw_all := lw_g (lw_at lw_m9 12 rfl) rfl
theorem q2106 : (Jvm.Cond.selects "HomesQueueModel" ({ cls := "HomesQueueModel", name := "feed", desc := "(IIIII)I" } : Jvm.MethodName) ({ cls := "HomesQueueModel", name := "feed", desc := "(IIIII)I" } : Jvm.MethodName)) ∈ lw_all := lw_g (lw_at lw_m9 13 rfl) rfl
theorem q2107 : (Jvm.Cond.code ({ cls := "HomesQueueModel", name := "feed", desc := "(IIIII)I" } : Jvm.MethodName) prog_15_method_14_code (6 : Nat) (Option.some Jvm.ClassFile.FieldType.int)) ∈ lw_all := lw_g (lw_at lw_m9 14 rfl) rfl
theorem q2108 : (Jvm.Cond.methodLink "HomesQueueModel" (82 : Nat) ({ cls := "HomesQueueModel", name := "come", desc := "(I)V" } : Jvm.MethodName)) ∈ lw_all := lw_g (lw_at lw_m9 15 rfl) rfl
theorem q2109 : (Jvm.Cond.privateMethod ({ cls := "HomesQueueModel", name := "come", desc := "(I)V" } : Jvm.MethodName)) ∈ lw_tbl := lw_at lw_m9 16 rfl
theorem q2110 : (Jvm.Cond.instanceMethod ({ cls := "HomesQueueModel", name := "come", desc := "(I)V" } : Jvm.MethodName)) ∈ lw_all := lw_g (lw_at lw_m9 17 rfl) rfl
theorem q2111 : (Jvm.Cond.code ({ cls := "HomesQueueModel", name := "come", desc := "(I)V" } : Jvm.MethodName) prog_15_method_13_code (3 : Nat) (Option.none : Option Jvm.ClassFile.FieldType)) ∈ lw_all := lw_g (lw_at lw_m9 18 rfl) rfl
theorem q2113 : (Jvm.Cond.instanceMethod ({ cls := "HomesQueueModel", name := "load", desc := "(I)I" } : Jvm.MethodName)) ∈ lw_all := lw_g (lw_at lw_m9 20 rfl) rfl
theorem q2114 : (Jvm.Cond.selects "HomesQueueModel" ({ cls := "HomesQueueModel", name := "load", desc := "(I)I" } : Jvm.MethodName) ({ cls := "HomesQueueModel", name := "load", desc := "(I)I" } : Jvm.MethodName)) ∈ lw_all := lw_g (lw_at lw_m9 21 rfl) rfl
theorem q2115 : (Jvm.Cond.code ({ cls := "HomesQueueModel", name := "load", desc := "(I)I" } : Jvm.MethodName) prog_15_method_38_code (4 : Nat) (Option.some Jvm.ClassFile.FieldType.int)) ∈ lw_all := lw_g (lw_at lw_m9 22 rfl) rfl
theorem q2116 : (Jvm.Cond.methodLink "HomesQueueModel" (71 : Nat) ({ cls := "HomesQueueModel", name := "isFrom", desc := "(III)Z" } : Jvm.MethodName)) ∈ lw_all := lw_g (lw_at lw_m9 23 rfl) rfl
theorem q2117 : (Jvm.Cond.static ({ cls := "HomesQueueModel", name := "isFrom", desc := "(III)Z" } : Jvm.MethodName)) ∈ lw_all := lw_g (lw_at lw_m9 24 rfl) rfl
theorem q2118 : (Jvm.Cond.code ({ cls := "HomesQueueModel", name := "isFrom", desc := "(III)Z" } : Jvm.MethodName) prog_15_method_7_code (3 : Nat) (Option.some Jvm.ClassFile.FieldType.boolean)) ∈ lw_all := lw_g (lw_at lw_m9 25 rfl) rfl
theorem q2119 : (Jvm.Cond.methodLink "HomesQueueModel" (186 : Nat) ({ cls := "HomesQueueModel", name := "refuse", desc := "(I)I" } : Jvm.MethodName)) ∈ lw_all := lw_g (lw_at lw_m9 26 rfl) rfl
theorem q2120 : (Jvm.Cond.privateMethod ({ cls := "HomesQueueModel", name := "refuse", desc := "(I)I" } : Jvm.MethodName)) ∈ lw_tbl := lw_at lw_m9 27 rfl
theorem q2121 : (Jvm.Cond.instanceMethod ({ cls := "HomesQueueModel", name := "refuse", desc := "(I)I" } : Jvm.MethodName)) ∈ lw_all := lw_g (lw_at lw_m9 28 rfl) rfl
theorem q2122 : (Jvm.Cond.code ({ cls := "HomesQueueModel", name := "refuse", desc := "(I)I" } : Jvm.MethodName) prog_15_method_5_code (2 : Nat) (Option.some Jvm.ClassFile.FieldType.int)) ∈ lw_all := lw_g (lw_at lw_m9 29 rfl) rfl
theorem q2123 : (Jvm.Cond.methodLink "HomesQueueModel" (142 : Nat) ({ cls := "HomesQueueModel", name := "go", desc := "()V" } : Jvm.MethodName)) ∈ lw_all := lw_g (lw_at lw_m9 30 rfl) rfl
theorem q2124 : (Jvm.Cond.privateMethod ({ cls := "HomesQueueModel", name := "go", desc := "()V" } : Jvm.MethodName)) ∈ lw_tbl := lw_at lw_m9 31 rfl
theorem q2125 : (Jvm.Cond.instanceMethod ({ cls := "HomesQueueModel", name := "go", desc := "()V" } : Jvm.MethodName)) ∈ lw_all := lw_g (lw_at lw_m9 32 rfl) rfl
theorem q2126 : (Jvm.Cond.code ({ cls := "HomesQueueModel", name := "go", desc := "()V" } : Jvm.MethodName) prog_15_method_18_code (2 : Nat) (Option.none : Option Jvm.ClassFile.FieldType)) ∈ lw_all := lw_g (lw_at lw_m9 33 rfl) rfl
theorem q2127 : (Jvm.Cond.methodLink "HomesQueueModel" (92 : Nat) ({ cls := "HomesQueueModel", name := "byteAt", desc := "(I)I" } : Jvm.MethodName)) ∈ lw_all := lw_g (lw_at lw_m9 34 rfl) rfl
theorem q2128 : (Jvm.Cond.privateMethod ({ cls := "HomesQueueModel", name := "byteAt", desc := "(I)I" } : Jvm.MethodName)) ∈ lw_tbl := lw_at lw_m9 35 rfl
theorem q2129 : (Jvm.Cond.instanceMethod ({ cls := "HomesQueueModel", name := "byteAt", desc := "(I)I" } : Jvm.MethodName)) ∈ lw_all := lw_g (lw_at lw_m9 36 rfl) rfl
theorem q2130 : (Jvm.Cond.code ({ cls := "HomesQueueModel", name := "byteAt", desc := "(I)I" } : Jvm.MethodName) prog_15_method_15_code (2 : Nat) (Option.some Jvm.ClassFile.FieldType.int)) ∈ lw_all := lw_g (lw_at lw_m9 37 rfl) rfl
theorem q2131 : (Jvm.Cond.methodLink "HomesQueueModel" (102 : Nat) ({ cls := "HomesQueueModel", name := "isLetter", desc := "(I)Z" } : Jvm.MethodName)) ∈ lw_all := lw_g (lw_at lw_m9 38 rfl) rfl
theorem q2132 : (Jvm.Cond.static ({ cls := "HomesQueueModel", name := "isLetter", desc := "(I)Z" } : Jvm.MethodName)) ∈ lw_all := lw_g (lw_at lw_m9 39 rfl) rfl
theorem q2133 : (Jvm.Cond.code ({ cls := "HomesQueueModel", name := "isLetter", desc := "(I)Z" } : Jvm.MethodName) prog_15_method_16_code (1 : Nat) (Option.some Jvm.ClassFile.FieldType.boolean)) ∈ lw_all := lw_g (lw_at lw_m9 40 rfl) rfl
theorem q2134 : (Jvm.Cond.constantLong "HomesQueueModel" (110 : Nat) (96 : Int64)) ∈ lw_all := lw_g (lw_at lw_m9 41 rfl) rfl
theorem q2135 : (Jvm.Cond.methodLink "HomesQueueModel" (112 : Nat) ({ cls := "HomesQueueModel", name := "isDigit", desc := "(I)Z" } : Jvm.MethodName)) ∈ lw_all := lw_g (lw_at lw_m9 42 rfl) rfl
theorem q2136 : (Jvm.Cond.static ({ cls := "HomesQueueModel", name := "isDigit", desc := "(I)Z" } : Jvm.MethodName)) ∈ lw_all := lw_g (lw_at lw_m9 43 rfl) rfl
theorem q2137 : (Jvm.Cond.code ({ cls := "HomesQueueModel", name := "isDigit", desc := "(I)Z" } : Jvm.MethodName) prog_15_method_17_code (1 : Nat) (Option.some Jvm.ClassFile.FieldType.boolean)) ∈ lw_all := lw_g (lw_at lw_m9 44 rfl) rfl
theorem q2138 : (Jvm.Cond.methodLink "HomesQueueModel" (189 : Nat) ({ cls := "HomesQueueModel", name := "readLine", desc := "()Z" } : Jvm.MethodName)) ∈ lw_all := lw_g (lw_at lw_m9 45 rfl) rfl
theorem q2139 : (Jvm.Cond.privateMethod ({ cls := "HomesQueueModel", name := "readLine", desc := "()Z" } : Jvm.MethodName)) ∈ lw_tbl := lw_at lw_m9 46 rfl
theorem q2140 : (Jvm.Cond.instanceMethod ({ cls := "HomesQueueModel", name := "readLine", desc := "()Z" } : Jvm.MethodName)) ∈ lw_all := lw_g (lw_at lw_m9 47 rfl) rfl
theorem q2141 : (Jvm.Cond.code ({ cls := "HomesQueueModel", name := "readLine", desc := "()Z" } : Jvm.MethodName) prog_15_method_37_code (1 : Nat) (Option.some Jvm.ClassFile.FieldType.boolean)) ∈ lw_all := lw_g (lw_at lw_m9 48 rfl) rfl
theorem q2142 : (Jvm.Cond.methodLink "HomesQueueModel" (130 : Nat) ({ cls := "HomesQueueModel", name := "isWord", desc := "(I)Z" } : Jvm.MethodName)) ∈ lw_all := lw_g (lw_at lw_m9 49 rfl) rfl
theorem q2143 : (Jvm.Cond.privateMethod ({ cls := "HomesQueueModel", name := "isWord", desc := "(I)Z" } : Jvm.MethodName)) ∈ lw_tbl := lw_at lw_m9 50 rfl
theorem q2144 : (Jvm.Cond.instanceMethod ({ cls := "HomesQueueModel", name := "isWord", desc := "(I)Z" } : Jvm.MethodName)) ∈ lw_all := lw_g (lw_at lw_m9 51 rfl) rfl
theorem q2145 : (Jvm.Cond.code ({ cls := "HomesQueueModel", name := "isWord", desc := "(I)Z" } : Jvm.MethodName) prog_15_method_22_code (2 : Nat) (Option.some Jvm.ClassFile.FieldType.boolean)) ∈ lw_all := lw_g (lw_at lw_m9 52 rfl) rfl
theorem q2146 : (Jvm.Cond.methodLink "HomesQueueModel" (126 : Nat) ({ cls := "HomesQueueModel", name := "wordOf", desc := "(I)J" } : Jvm.MethodName)) ∈ lw_all := lw_g (lw_at lw_m9 53 rfl) rfl
theorem q2147 : (Jvm.Cond.static ({ cls := "HomesQueueModel", name := "wordOf", desc := "(I)J" } : Jvm.MethodName)) ∈ lw_all := lw_g (lw_at lw_m9 54 rfl) rfl
theorem q2148 : (Jvm.Cond.code ({ cls := "HomesQueueModel", name := "wordOf", desc := "(I)J" } : Jvm.MethodName) prog_15_method_21_code (1 : Nat) (Option.some Jvm.ClassFile.FieldType.long)) ∈ lw_all := lw_g (lw_at lw_m9 55 rfl) rfl
theorem q2149 : (Jvm.Cond.methodLink "HomesQueueModel" (122 : Nat) ({ cls := "HomesQueueModel", name := "spelt", desc := "(IIIIII)J" } : Jvm.MethodName)) ∈ lw_all := lw_g (lw_at lw_m9 56 rfl) rfl
theorem q2150 : (Jvm.Cond.static ({ cls := "HomesQueueModel", name := "spelt", desc := "(IIIIII)J" } : Jvm.MethodName)) ∈ lw_all := lw_g (lw_at lw_m9 57 rfl) rfl
theorem q2151 : (Jvm.Cond.code ({ cls := "HomesQueueModel", name := "spelt", desc := "(IIIIII)J" } : Jvm.MethodName) prog_15_method_20_code (6 : Nat) (Option.some Jvm.ClassFile.FieldType.long)) ∈ lw_all := lw_g (lw_at lw_m9 58 rfl) rfl
theorem q2152 : (Jvm.Cond.methodLink "HomesQueueModel" (118 : Nat) ({ cls := "HomesQueueModel", name := "joined", desc := "(JI)J" } : Jvm.MethodName)) ∈ lw_all := lw_g (lw_at lw_m9 59 rfl) rfl
theorem q2153 : (Jvm.Cond.static ({ cls := "HomesQueueModel", name := "joined", desc := "(JI)J" } : Jvm.MethodName)) ∈ lw_all := lw_g (lw_at lw_m9 60 rfl) rfl
theorem q2154 : (Jvm.Cond.code ({ cls := "HomesQueueModel", name := "joined", desc := "(JI)J" } : Jvm.MethodName) prog_15_method_19_code (3 : Nat) (Option.some Jvm.ClassFile.FieldType.long)) ∈ lw_all := lw_g (lw_at lw_m9 61 rfl) rfl
theorem q2155 : (Jvm.Cond.methodLink "HomesQueueModel" (177 : Nat) ({ cls := "HomesQueueModel", name := "readHome", desc := "()Z" } : Jvm.MethodName)) ∈ lw_all := lw_g (lw_at lw_m9 62 rfl) rfl
theorem q2156 : (Jvm.Cond.privateMethod ({ cls := "HomesQueueModel", name := "readHome", desc := "()Z" } : Jvm.MethodName)) ∈ lw_tbl := lw_at lw_m9 63 rfl
theorem q2157 : (Jvm.Cond.instanceMethod ({ cls := "HomesQueueModel", name := "readHome", desc := "()Z" } : Jvm.MethodName)) ∈ lw_all := lw_g (lw_at lw_m9 64 rfl) rfl
theorem q2158 : (Jvm.Cond.code ({ cls := "HomesQueueModel", name := "readHome", desc := "()Z" } : Jvm.MethodName) prog_15_method_30_code (3 : Nat) (Option.some Jvm.ClassFile.FieldType.boolean)) ∈ lw_all := lw_g (lw_at lw_m9 65 rfl) rfl
theorem q2159 : (Jvm.Cond.methodLink "HomesQueueModel" (139 : Nat) ({ cls := "HomesQueueModel", name := "bad", desc := "(I)Z" } : Jvm.MethodName)) ∈ lw_all := lw_g (lw_at lw_m9 66 rfl) rfl
theorem q2160 : (Jvm.Cond.privateMethod ({ cls := "HomesQueueModel", name := "bad", desc := "(I)Z" } : Jvm.MethodName)) ∈ lw_tbl := lw_at lw_m9 67 rfl
theorem q2161 : (Jvm.Cond.instanceMethod ({ cls := "HomesQueueModel", name := "bad", desc := "(I)Z" } : Jvm.MethodName)) ∈ lw_all := lw_g (lw_at lw_m9 68 rfl) rfl
theorem q2162 : (Jvm.Cond.code ({ cls := "HomesQueueModel", name := "bad", desc := "(I)Z" } : Jvm.MethodName) prog_15_method_24_code (2 : Nat) (Option.some Jvm.ClassFile.FieldType.boolean)) ∈ lw_all := lw_g (lw_at lw_m9 69 rfl) rfl
theorem q2163 : (Jvm.Cond.methodLink "HomesQueueModel" (156 : Nat) ({ cls := "HomesQueueModel", name := "readName", desc := "(I)Z" } : Jvm.MethodName)) ∈ lw_all := lw_g (lw_at lw_m9 70 rfl) rfl
theorem q2164 : (Jvm.Cond.privateMethod ({ cls := "HomesQueueModel", name := "readName", desc := "(I)Z" } : Jvm.MethodName)) ∈ lw_tbl := lw_at lw_m9 71 rfl
theorem q2165 : (Jvm.Cond.instanceMethod ({ cls := "HomesQueueModel", name := "readName", desc := "(I)Z" } : Jvm.MethodName)) ∈ lw_all := lw_g (lw_at lw_m9 72 rfl) rfl
theorem q2166 : (Jvm.Cond.code ({ cls := "HomesQueueModel", name := "readName", desc := "(I)Z" } : Jvm.MethodName) prog_15_method_29_code (2 : Nat) (Option.some Jvm.ClassFile.FieldType.boolean)) ∈ lw_all := lw_g (lw_at lw_m9 73 rfl) rfl
theorem q2167 : (Jvm.Cond.methodLink "HomesQueueModel" (149 : Nat) ({ cls := "HomesQueueModel", name := "isName", desc := "()Z" } : Jvm.MethodName)) ∈ lw_all := lw_g (lw_at lw_m9 74 rfl) rfl
theorem q2168 : (Jvm.Cond.privateMethod ({ cls := "HomesQueueModel", name := "isName", desc := "()Z" } : Jvm.MethodName)) ∈ lw_tbl := lw_at lw_m9 75 rfl
theorem q2169 : (Jvm.Cond.instanceMethod ({ cls := "HomesQueueModel", name := "isName", desc := "()Z" } : Jvm.MethodName)) ∈ lw_all := lw_g (lw_at lw_m9 76 rfl) rfl
theorem q2170 : (Jvm.Cond.code ({ cls := "HomesQueueModel", name := "isName", desc := "()Z" } : Jvm.MethodName) prog_15_method_23_code (2 : Nat) (Option.some Jvm.ClassFile.FieldType.boolean)) ∈ lw_all := lw_g (lw_at lw_m9 77 rfl) rfl
theorem q2171 : (Jvm.Cond.methodLink "HomesQueueModel" (153 : Nat) ({ cls := "HomesQueueModel", name := "isTaken", desc := "()Z" } : Jvm.MethodName)) ∈ lw_all := lw_g (lw_at lw_m9 78 rfl) rfl
theorem q2172 : (Jvm.Cond.privateMethod ({ cls := "HomesQueueModel", name := "isTaken", desc := "()Z" } : Jvm.MethodName)) ∈ lw_tbl := lw_at lw_m9 79 rfl
theorem q2173 : (Jvm.Cond.instanceMethod ({ cls := "HomesQueueModel", name := "isTaken", desc := "()Z" } : Jvm.MethodName)) ∈ lw_all := lw_g (lw_at lw_m9 80 rfl) rfl
theorem q2174 : (Jvm.Cond.code ({ cls := "HomesQueueModel", name := "isTaken", desc := "()Z" } : Jvm.MethodName) prog_15_method_28_code (2 : Nat) (Option.some Jvm.ClassFile.FieldType.boolean)) ∈ lw_all := lw_g (lw_at lw_m9 81 rfl) rfl
theorem q2175 : (Jvm.Cond.methodLink "HomesQueueModel" (145 : Nat) ({ cls := "HomesQueueModel", name := "homeHere", desc := "()I" } : Jvm.MethodName)) ∈ lw_all := lw_g (lw_at lw_m9 82 rfl) rfl
theorem q2176 : (Jvm.Cond.privateMethod ({ cls := "HomesQueueModel", name := "homeHere", desc := "()I" } : Jvm.MethodName)) ∈ lw_tbl := lw_at lw_m9 83 rfl
theorem q2177 : (Jvm.Cond.instanceMethod ({ cls := "HomesQueueModel", name := "homeHere", desc := "()I" } : Jvm.MethodName)) ∈ lw_all := lw_g (lw_at lw_m9 84 rfl) rfl
theorem q2178 : (Jvm.Cond.code ({ cls := "HomesQueueModel", name := "homeHere", desc := "()I" } : Jvm.MethodName) prog_15_method_27_code (2 : Nat) (Option.some Jvm.ClassFile.FieldType.int)) ∈ lw_all := lw_g (lw_at lw_m9 85 rfl) rfl
theorem q2179 : (Jvm.Cond.methodLink "HomesQueueModel" (159 : Nat) ({ cls := "HomesQueueModel", name := "readNumber", desc := "(III)Z" } : Jvm.MethodName)) ∈ lw_all := lw_g (lw_at lw_m9 86 rfl) rfl
theorem q2180 : (Jvm.Cond.privateMethod ({ cls := "HomesQueueModel", name := "readNumber", desc := "(III)Z" } : Jvm.MethodName)) ∈ lw_tbl := lw_at lw_m9 87 rfl
theorem q2181 : (Jvm.Cond.instanceMethod ({ cls := "HomesQueueModel", name := "readNumber", desc := "(III)Z" } : Jvm.MethodName)) ∈ lw_all := lw_g (lw_at lw_m9 88 rfl) rfl
theorem q2182 : (Jvm.Cond.code ({ cls := "HomesQueueModel", name := "readNumber", desc := "(III)Z" } : Jvm.MethodName) prog_15_method_26_code (4 : Nat) (Option.some Jvm.ClassFile.FieldType.boolean)) ∈ lw_all := lw_g (lw_at lw_m9 89 rfl) rfl
theorem q2183 : (Jvm.Cond.methodLink "HomesQueueModel" (162 : Nat) ({ cls := "HomesQueueModel", name := "readEnd", desc := "()Z" } : Jvm.MethodName)) ∈ lw_all := lw_g (lw_at lw_m9 90 rfl) rfl
theorem q2184 : (Jvm.Cond.privateMethod ({ cls := "HomesQueueModel", name := "readEnd", desc := "()Z" } : Jvm.MethodName)) ∈ lw_tbl := lw_at lw_m9 91 rfl
theorem q2185 : (Jvm.Cond.instanceMethod ({ cls := "HomesQueueModel", name := "readEnd", desc := "()Z" } : Jvm.MethodName)) ∈ lw_all := lw_g (lw_at lw_m9 92 rfl) rfl
theorem q2186 : (Jvm.Cond.code ({ cls := "HomesQueueModel", name := "readEnd", desc := "()Z" } : Jvm.MethodName) prog_15_method_25_code (1 : Nat) (Option.some Jvm.ClassFile.FieldType.boolean)) ∈ lw_all := lw_g (lw_at lw_m9 93 rfl) rfl
theorem q2187 : (Jvm.Cond.methodLink "HomesQueueModel" (180 : Nat) ({ cls := "HomesQueueModel", name := "readHouse", desc := "()Z" } : Jvm.MethodName)) ∈ lw_all := lw_g (lw_at lw_m9 94 rfl) rfl
theorem q2188 : (Jvm.Cond.privateMethod ({ cls := "HomesQueueModel", name := "readHouse", desc := "()Z" } : Jvm.MethodName)) ∈ lw_tbl := lw_at lw_m9 95 rfl
theorem q2189 : (Jvm.Cond.instanceMethod ({ cls := "HomesQueueModel", name := "readHouse", desc := "()Z" } : Jvm.MethodName)) ∈ lw_all := lw_g (lw_at lw_m9 96 rfl) rfl
theorem q2190 : (Jvm.Cond.code ({ cls := "HomesQueueModel", name := "readHouse", desc := "()Z" } : Jvm.MethodName) prog_15_method_33_code (2 : Nat) (Option.some Jvm.ClassFile.FieldType.boolean)) ∈ lw_all := lw_g (lw_at lw_m9 97 rfl) rfl
theorem q2191 : (Jvm.Cond.methodLink "HomesQueueModel" (75 : Nat) ({ cls := "HomesQueueModel", name := "at", desc := "(II)I" } : Jvm.MethodName)) ∈ lw_all := lw_g (lw_at lw_m9 98 rfl) rfl
theorem q2192 : (Jvm.Cond.static ({ cls := "HomesQueueModel", name := "at", desc := "(II)I" } : Jvm.MethodName)) ∈ lw_all := lw_g (lw_at lw_m9 99 rfl) rfl
theorem q2193 : (Jvm.Cond.code ({ cls := "HomesQueueModel", name := "at", desc := "(II)I" } : Jvm.MethodName) prog_15_method_11_code (2 : Nat) (Option.some Jvm.ClassFile.FieldType.int)) ∈ lw_all := lw_g (lw_at lw_m9 100 rfl) rfl
theorem q2194 : (Jvm.Cond.methodLink "HomesQueueModel" (165 : Nat) ({ cls := "HomesQueueModel", name := "readIn", desc := "(I)Z" } : Jvm.MethodName)) ∈ lw_all := lw_g (lw_at lw_m9 101 rfl) rfl
theorem q2195 : (Jvm.Cond.privateMethod ({ cls := "HomesQueueModel", name := "readIn", desc := "(I)Z" } : Jvm.MethodName)) ∈ lw_tbl := lw_at lw_m9 102 rfl
theorem q2196 : (Jvm.Cond.instanceMethod ({ cls := "HomesQueueModel", name := "readIn", desc := "(I)Z" } : Jvm.MethodName)) ∈ lw_all := lw_g (lw_at lw_m9 103 rfl) rfl
theorem q2197 : (Jvm.Cond.code ({ cls := "HomesQueueModel", name := "readIn", desc := "(I)Z" } : Jvm.MethodName) prog_15_method_31_code (3 : Nat) (Option.some Jvm.ClassFile.FieldType.boolean)) ∈ lw_all := lw_g (lw_at lw_m9 104 rfl) rfl
theorem q2198 : (Jvm.Cond.methodLink "HomesQueueModel" (168 : Nat) ({ cls := "HomesQueueModel", name := "readWish", desc := "(I)Z" } : Jvm.MethodName)) ∈ lw_all := lw_g (lw_at lw_m9 105 rfl) rfl
theorem q2199 : (Jvm.Cond.privateMethod ({ cls := "HomesQueueModel", name := "readWish", desc := "(I)Z" } : Jvm.MethodName)) ∈ lw_tbl := lw_at lw_m9 106 rfl
theorem q2200 : (Jvm.Cond.instanceMethod ({ cls := "HomesQueueModel", name := "readWish", desc := "(I)Z" } : Jvm.MethodName)) ∈ lw_all := lw_g (lw_at lw_m9 107 rfl) rfl
theorem q2201 : (Jvm.Cond.code ({ cls := "HomesQueueModel", name := "readWish", desc := "(I)Z" } : Jvm.MethodName) prog_15_method_32_code (5 : Nat) (Option.some Jvm.ClassFile.FieldType.boolean)) ∈ lw_all := lw_g (lw_at lw_m9 108 rfl) rfl
theorem q2202 : (Jvm.Cond.methodLink "HomesQueueModel" (183 : Nat) ({ cls := "HomesQueueModel", name := "readRule", desc := "()Z" } : Jvm.MethodName)) ∈ lw_all := lw_g (lw_at lw_m9 109 rfl) rfl
theorem q2203 : (Jvm.Cond.privateMethod ({ cls := "HomesQueueModel", name := "readRule", desc := "()Z" } : Jvm.MethodName)) ∈ lw_tbl := lw_at lw_m9 110 rfl
theorem q2204 : (Jvm.Cond.instanceMethod ({ cls := "HomesQueueModel", name := "readRule", desc := "()Z" } : Jvm.MethodName)) ∈ lw_all := lw_g (lw_at lw_m9 111 rfl) rfl
theorem q2205 : (Jvm.Cond.code ({ cls := "HomesQueueModel", name := "readRule", desc := "()Z" } : Jvm.MethodName) prog_15_method_36_code (2 : Nat) (Option.some Jvm.ClassFile.FieldType.boolean)) ∈ lw_all := lw_g (lw_at lw_m9 112 rfl) rfl
theorem q2206 : (Jvm.Cond.methodLink "HomesQueueModel" (171 : Nat) ({ cls := "HomesQueueModel", name := "leastOf", desc := "(I)I" } : Jvm.MethodName)) ∈ lw_all := lw_g (lw_at lw_m9 113 rfl) rfl
theorem q2207 : (Jvm.Cond.static ({ cls := "HomesQueueModel", name := "leastOf", desc := "(I)I" } : Jvm.MethodName)) ∈ lw_all := lw_g (lw_at lw_m9 114 rfl) rfl
theorem q2208 : (Jvm.Cond.code ({ cls := "HomesQueueModel", name := "leastOf", desc := "(I)I" } : Jvm.MethodName) prog_15_method_34_code (1 : Nat) (Option.some Jvm.ClassFile.FieldType.int)) ∈ lw_all := lw_g (lw_at lw_m9 115 rfl) rfl
theorem q2209 : (Jvm.Cond.methodLink "HomesQueueModel" (174 : Nat) ({ cls := "HomesQueueModel", name := "mostOf", desc := "(I)I" } : Jvm.MethodName)) ∈ lw_all := lw_g (lw_at lw_m9 116 rfl) rfl
theorem q2210 : (Jvm.Cond.static ({ cls := "HomesQueueModel", name := "mostOf", desc := "(I)I" } : Jvm.MethodName)) ∈ lw_all := lw_g (lw_at lw_m9 117 rfl) rfl
theorem q2211 : (Jvm.Cond.code ({ cls := "HomesQueueModel", name := "mostOf", desc := "(I)I" } : Jvm.MethodName) prog_15_method_35_code (1 : Nat) (Option.some Jvm.ClassFile.FieldType.int)) ∈ lw_all := lw_g (lw_at lw_m9 118 rfl) rfl
theorem q2212 : (Jvm.Cond.methodLink "HomesQueueModel" (192 : Nat) ({ cls := "HomesQueueModel", name := "copies", desc := "([I[I)V" } : Jvm.MethodName)) ∈ lw_all := lw_g (lw_at lw_m9 119 rfl) rfl
theorem q2213 : (Jvm.Cond.static ({ cls := "HomesQueueModel", name := "copies", desc := "([I[I)V" } : Jvm.MethodName)) ∈ lw_all := lw_g (lw_at lw_m9 120 rfl) rfl
theorem q2214 : (Jvm.Cond.code ({ cls := "HomesQueueModel", name := "copies", desc := "([I[I)V" } : Jvm.MethodName) prog_15_method_39_code (3 : Nat) (Option.none : Option Jvm.ClassFile.FieldType)) ∈ lw_all := lw_g (lw_at lw_m9 121 rfl) rfl
theorem q2215 : (Jvm.Cond.methodLink "HomesQueueModel" (199 : Nat) ({ cls := "HomesQueueModel", name := "gives", desc := "(I)I" } : Jvm.MethodName)) ∈ lw_all := lw_g (lw_at lw_m9 122 rfl) rfl
theorem q2216 : (Jvm.Cond.privateMethod ({ cls := "HomesQueueModel", name := "gives", desc := "(I)I" } : Jvm.MethodName)) ∈ lw_tbl := lw_at lw_m9 123 rfl
theorem q2217 : (Jvm.Cond.instanceMethod ({ cls := "HomesQueueModel", name := "gives", desc := "(I)I" } : Jvm.MethodName)) ∈ lw_all := lw_g (lw_at lw_m9 124 rfl) rfl
theorem q2218 : (Jvm.Cond.code ({ cls := "HomesQueueModel", name := "gives", desc := "(I)I" } : Jvm.MethodName) prog_15_method_6_code (2 : Nat) (Option.some Jvm.ClassFile.FieldType.int)) ∈ lw_all := lw_g (lw_at lw_m9 125 rfl) rfl
theorem q2220 : (Jvm.Cond.instanceMethod ({ cls := "HomesQueueModel", name := "fault", desc := "(I)I" } : Jvm.MethodName)) ∈ lw_all := lw_g (lw_at lw_m9 127 rfl) rfl
theorem q2221 : (Jvm.Cond.selects "HomesQueueModel" ({ cls := "HomesQueueModel", name := "fault", desc := "(I)I" } : Jvm.MethodName) ({ cls := "HomesQueueModel", name := "fault", desc := "(I)I" } : Jvm.MethodName)) ∈ lw_all := lw_g (lw_at lw_m9 128 rfl) rfl
theorem q2222 : (Jvm.Cond.code ({ cls := "HomesQueueModel", name := "fault", desc := "(I)I" } : Jvm.MethodName) prog_15_method_40_code (2 : Nat) (Option.some Jvm.ClassFile.FieldType.int)) ∈ lw_all := lw_g (lw_at lw_m9 129 rfl) rfl
theorem q2224 : (Jvm.Cond.instanceMethod ({ cls := "HomesQueueModel", name := "many", desc := "(I)I" } : Jvm.MethodName)) ∈ lw_all := lw_g (lw_at lw_m9 131 rfl) rfl
theorem q2225 : (Jvm.Cond.selects "HomesQueueModel" ({ cls := "HomesQueueModel", name := "many", desc := "(I)I" } : Jvm.MethodName) ({ cls := "HomesQueueModel", name := "many", desc := "(I)I" } : Jvm.MethodName)) ∈ lw_all := lw_g (lw_at lw_m9 132 rfl) rfl
theorem q2226 : (Jvm.Cond.code ({ cls := "HomesQueueModel", name := "many", desc := "(I)I" } : Jvm.MethodName) prog_15_method_53_code (2 : Nat) (Option.some Jvm.ClassFile.FieldType.int)) ∈ lw_all := lw_g (lw_at lw_m9 133 rfl) rfl
theorem q2227 : (Jvm.Cond.methodLink "HomesQueueModel" (225 : Nat) ({ cls := "HomesQueueModel", name := "allBids", desc := "()I" } : Jvm.MethodName)) ∈ lw_all := lw_g (lw_at lw_m9 134 rfl) rfl
theorem q2228 : (Jvm.Cond.privateMethod ({ cls := "HomesQueueModel", name := "allBids", desc := "()I" } : Jvm.MethodName)) ∈ lw_tbl := lw_at lw_m9 135 rfl
theorem q2229 : (Jvm.Cond.instanceMethod ({ cls := "HomesQueueModel", name := "allBids", desc := "()I" } : Jvm.MethodName)) ∈ lw_all := lw_g (lw_at lw_m9 136 rfl) rfl
theorem q2230 : (Jvm.Cond.code ({ cls := "HomesQueueModel", name := "allBids", desc := "()I" } : Jvm.MethodName) prog_15_method_52_code (3 : Nat) (Option.some Jvm.ClassFile.FieldType.int)) ∈ lw_all := lw_g (lw_at lw_m9 137 rfl) rfl
theorem q2231 : (Jvm.Cond.methodLink "HomesQueueModel" (205 : Nat) ({ cls := "HomesQueueModel", name := "of", desc := "(II)I" } : Jvm.MethodName)) ∈ lw_all := lw_g (lw_at lw_m9 138 rfl) rfl
theorem q2232 : (Jvm.Cond.privateMethod ({ cls := "HomesQueueModel", name := "of", desc := "(II)I" } : Jvm.MethodName)) ∈ lw_tbl := lw_at lw_m9 139 rfl
theorem q2233 : (Jvm.Cond.instanceMethod ({ cls := "HomesQueueModel", name := "of", desc := "(II)I" } : Jvm.MethodName)) ∈ lw_all := lw_g (lw_at lw_m9 140 rfl) rfl
theorem q2234 : (Jvm.Cond.code ({ cls := "HomesQueueModel", name := "of", desc := "(II)I" } : Jvm.MethodName) prog_15_method_12_code (3 : Nat) (Option.some Jvm.ClassFile.FieldType.int)) ∈ lw_all := lw_g (lw_at lw_m9 141 rfl) rfl
theorem q2235 : (Jvm.Cond.methodLink "HomesQueueModel" (222 : Nat) ({ cls := "HomesQueueModel", name := "bits", desc := "(I)I" } : Jvm.MethodName)) ∈ lw_all := lw_g (lw_at lw_m9 142 rfl) rfl
theorem q2236 : (Jvm.Cond.static ({ cls := "HomesQueueModel", name := "bits", desc := "(I)I" } : Jvm.MethodName)) ∈ lw_all := lw_g (lw_at lw_m9 143 rfl) rfl
theorem q2237 : (Jvm.Cond.code ({ cls := "HomesQueueModel", name := "bits", desc := "(I)I" } : Jvm.MethodName) prog_15_method_49_code (3 : Nat) (Option.some Jvm.ClassFile.FieldType.int)) ∈ lw_all := lw_g (lw_at lw_m9 144 rfl) rfl
theorem q2238 : (Jvm.Cond.methodLink "HomesQueueModel" (228 : Nat) ({ cls := "HomesQueueModel", name := "freeOnes", desc := "()I" } : Jvm.MethodName)) ∈ lw_all := lw_g (lw_at lw_m9 145 rfl) rfl
theorem q2239 : (Jvm.Cond.privateMethod ({ cls := "HomesQueueModel", name := "freeOnes", desc := "()I" } : Jvm.MethodName)) ∈ lw_tbl := lw_at lw_m9 146 rfl
theorem q2240 : (Jvm.Cond.instanceMethod ({ cls := "HomesQueueModel", name := "freeOnes", desc := "()I" } : Jvm.MethodName)) ∈ lw_all := lw_g (lw_at lw_m9 147 rfl) rfl
theorem q2241 : (Jvm.Cond.code ({ cls := "HomesQueueModel", name := "freeOnes", desc := "()I" } : Jvm.MethodName) prog_15_method_50_code (3 : Nat) (Option.some Jvm.ClassFile.FieldType.int)) ∈ lw_all := lw_g (lw_at lw_m9 148 rfl) rfl
theorem q2242 : (Jvm.Cond.methodLink "HomesQueueModel" (219 : Nat) ({ cls := "HomesQueueModel", name := "isFree", desc := "(I)Z" } : Jvm.MethodName)) ∈ lw_all := lw_g (lw_at lw_m9 149 rfl) rfl
theorem q2243 : (Jvm.Cond.privateMethod ({ cls := "HomesQueueModel", name := "isFree", desc := "(I)Z" } : Jvm.MethodName)) ∈ lw_tbl := lw_at lw_m9 150 rfl
theorem q2244 : (Jvm.Cond.instanceMethod ({ cls := "HomesQueueModel", name := "isFree", desc := "(I)Z" } : Jvm.MethodName)) ∈ lw_all := lw_g (lw_at lw_m9 151 rfl) rfl
theorem q2245 : (Jvm.Cond.code ({ cls := "HomesQueueModel", name := "isFree", desc := "(I)Z" } : Jvm.MethodName) prog_15_method_41_code (2 : Nat) (Option.some Jvm.ClassFile.FieldType.boolean)) ∈ lw_all := lw_g (lw_at lw_m9 152 rfl) rfl
theorem q2246 : (Jvm.Cond.methodLink "HomesQueueModel" (202 : Nat) ({ cls := "HomesQueueModel", name := "home0", desc := "(II)I" } : Jvm.MethodName)) ∈ lw_all := lw_g (lw_at lw_m9 153 rfl) rfl
theorem q2247 : (Jvm.Cond.privateMethod ({ cls := "HomesQueueModel", name := "home0", desc := "(II)I" } : Jvm.MethodName)) ∈ lw_tbl := lw_at lw_m9 154 rfl
theorem q2248 : (Jvm.Cond.instanceMethod ({ cls := "HomesQueueModel", name := "home0", desc := "(II)I" } : Jvm.MethodName)) ∈ lw_all := lw_g (lw_at lw_m9 155 rfl) rfl
theorem q2249 : (Jvm.Cond.code ({ cls := "HomesQueueModel", name := "home0", desc := "(II)I" } : Jvm.MethodName) prog_15_method_10_code (3 : Nat) (Option.some Jvm.ClassFile.FieldType.int)) ∈ lw_all := lw_g (lw_at lw_m9 156 rfl) rfl
theorem q2250 : (Jvm.Cond.methodLink "HomesQueueModel" (231 : Nat) ({ cls := "HomesQueueModel", name := "inOnes", desc := "()I" } : Jvm.MethodName)) ∈ lw_all := lw_g (lw_at lw_m9 157 rfl) rfl
theorem q2251 : (Jvm.Cond.privateMethod ({ cls := "HomesQueueModel", name := "inOnes", desc := "()I" } : Jvm.MethodName)) ∈ lw_tbl := lw_at lw_m9 158 rfl
theorem q2252 : (Jvm.Cond.instanceMethod ({ cls := "HomesQueueModel", name := "inOnes", desc := "()I" } : Jvm.MethodName)) ∈ lw_all := lw_g (lw_at lw_m9 159 rfl) rfl
theorem q2253 : (Jvm.Cond.code ({ cls := "HomesQueueModel", name := "inOnes", desc := "()I" } : Jvm.MethodName) prog_15_method_51_code (3 : Nat) (Option.some Jvm.ClassFile.FieldType.int)) ∈ lw_all := lw_g (lw_at lw_m9 160 rfl) rfl
theorem q2254 : (Jvm.Cond.methodLink "HomesQueueModel" (208 : Nat) ({ cls := "HomesQueueModel", name := "isIn", desc := "(I)Z" } : Jvm.MethodName)) ∈ lw_all := lw_g (lw_at lw_m9 161 rfl) rfl
theorem q2255 : (Jvm.Cond.privateMethod ({ cls := "HomesQueueModel", name := "isIn", desc := "(I)Z" } : Jvm.MethodName)) ∈ lw_tbl := lw_at lw_m9 162 rfl
theorem q2256 : (Jvm.Cond.instanceMethod ({ cls := "HomesQueueModel", name := "isIn", desc := "(I)Z" } : Jvm.MethodName)) ∈ lw_all := lw_g (lw_at lw_m9 163 rfl) rfl
theorem q2257 : (Jvm.Cond.code ({ cls := "HomesQueueModel", name := "isIn", desc := "(I)Z" } : Jvm.MethodName) prog_15_method_42_code (2 : Nat) (Option.some Jvm.ClassFile.FieldType.boolean)) ∈ lw_all := lw_g (lw_at lw_m9 164 rfl) rfl
theorem q2259 : (Jvm.Cond.instanceMethod ({ cls := "HomesQueueModel", name := "home", desc := "(II)I" } : Jvm.MethodName)) ∈ lw_all := lw_g (lw_at lw_m9 166 rfl) rfl
theorem q2260 : (Jvm.Cond.selects "HomesQueueModel" ({ cls := "HomesQueueModel", name := "home", desc := "(II)I" } : Jvm.MethodName) ({ cls := "HomesQueueModel", name := "home", desc := "(II)I" } : Jvm.MethodName)) ∈ lw_all := lw_g (lw_at lw_m9 167 rfl) rfl
theorem q2261 : (Jvm.Cond.code ({ cls := "HomesQueueModel", name := "home", desc := "(II)I" } : Jvm.MethodName) prog_15_method_55_code (3 : Nat) (Option.some Jvm.ClassFile.FieldType.int)) ∈ lw_all := lw_g (lw_at lw_m9 168 rfl) rfl
theorem q2262 : (Jvm.Cond.methodLink "HomesQueueModel" (238 : Nat) ({ cls := "HomesQueueModel", name := "isHome", desc := "(I)Z" } : Jvm.MethodName)) ∈ lw_all := lw_g (lw_at lw_m9 169 rfl) rfl
theorem q2263 : (Jvm.Cond.privateMethod ({ cls := "HomesQueueModel", name := "isHome", desc := "(I)Z" } : Jvm.MethodName)) ∈ lw_tbl := lw_at lw_m9 170 rfl
theorem q2264 : (Jvm.Cond.instanceMethod ({ cls := "HomesQueueModel", name := "isHome", desc := "(I)Z" } : Jvm.MethodName)) ∈ lw_all := lw_g (lw_at lw_m9 171 rfl) rfl
theorem q2265 : (Jvm.Cond.code ({ cls := "HomesQueueModel", name := "isHome", desc := "(I)Z" } : Jvm.MethodName) prog_15_method_8_code (2 : Nat) (Option.some Jvm.ClassFile.FieldType.boolean)) ∈ lw_all := lw_g (lw_at lw_m9 172 rfl) rfl
theorem q2266 : (Jvm.Cond.methodLink "HomesQueueModel" (241 : Nat) ({ cls := "HomesQueueModel", name := "bidders", desc := "(I)I" } : Jvm.MethodName)) ∈ lw_all := lw_g (lw_at lw_m9 173 rfl) rfl
theorem q2267 : (Jvm.Cond.privateMethod ({ cls := "HomesQueueModel", name := "bidders", desc := "(I)I" } : Jvm.MethodName)) ∈ lw_tbl := lw_at lw_m9 174 rfl
theorem q2268 : (Jvm.Cond.instanceMethod ({ cls := "HomesQueueModel", name := "bidders", desc := "(I)I" } : Jvm.MethodName)) ∈ lw_all := lw_g (lw_at lw_m9 175 rfl) rfl
theorem q2269 : (Jvm.Cond.code ({ cls := "HomesQueueModel", name := "bidders", desc := "(I)I" } : Jvm.MethodName) prog_15_method_54_code (4 : Nat) (Option.some Jvm.ClassFile.FieldType.int)) ∈ lw_all := lw_g (lw_at lw_m9 176 rfl) rfl
theorem q2270 : (Jvm.Cond.methodLink "HomesQueueModel" (234 : Nat) ({ cls := "HomesQueueModel", name := "isBid", desc := "(II)Z" } : Jvm.MethodName)) ∈ lw_all := lw_g (lw_at lw_m9 177 rfl) rfl
theorem q2271 : (Jvm.Cond.privateMethod ({ cls := "HomesQueueModel", name := "isBid", desc := "(II)Z" } : Jvm.MethodName)) ∈ lw_tbl := lw_at lw_m9 178 rfl
theorem q2272 : (Jvm.Cond.instanceMethod ({ cls := "HomesQueueModel", name := "isBid", desc := "(II)Z" } : Jvm.MethodName)) ∈ lw_all := lw_g (lw_at lw_m9 179 rfl) rfl
theorem q2273 : (Jvm.Cond.code ({ cls := "HomesQueueModel", name := "isBid", desc := "(II)Z" } : Jvm.MethodName) prog_15_method_46_code (3 : Nat) (Option.some Jvm.ClassFile.FieldType.boolean)) ∈ lw_all := lw_g (lw_at lw_m9 180 rfl) rfl
theorem q2275 : (Jvm.Cond.instanceMethod ({ cls := "HomesQueueModel", name := "house", desc := "(II)I" } : Jvm.MethodName)) ∈ lw_all := lw_g (lw_at lw_m9 182 rfl) rfl
theorem q2276 : (Jvm.Cond.selects "HomesQueueModel" ({ cls := "HomesQueueModel", name := "house", desc := "(II)I" } : Jvm.MethodName) ({ cls := "HomesQueueModel", name := "house", desc := "(II)I" } : Jvm.MethodName)) ∈ lw_all := lw_g (lw_at lw_m9 183 rfl) rfl
theorem q2277 : (Jvm.Cond.code ({ cls := "HomesQueueModel", name := "house", desc := "(II)I" } : Jvm.MethodName) prog_15_method_56_code (3 : Nat) (Option.some Jvm.ClassFile.FieldType.int)) ∈ lw_all := lw_g (lw_at lw_m9 184 rfl) rfl
theorem q2278 : (Jvm.Cond.methodLink "HomesQueueModel" (244 : Nat) ({ cls := "HomesQueueModel", name := "isHouse", desc := "(I)Z" } : Jvm.MethodName)) ∈ lw_all := lw_g (lw_at lw_m9 185 rfl) rfl
theorem q2279 : (Jvm.Cond.privateMethod ({ cls := "HomesQueueModel", name := "isHouse", desc := "(I)Z" } : Jvm.MethodName)) ∈ lw_tbl := lw_at lw_m9 186 rfl
theorem q2280 : (Jvm.Cond.instanceMethod ({ cls := "HomesQueueModel", name := "isHouse", desc := "(I)Z" } : Jvm.MethodName)) ∈ lw_all := lw_g (lw_at lw_m9 187 rfl) rfl
theorem q2281 : (Jvm.Cond.code ({ cls := "HomesQueueModel", name := "isHouse", desc := "(I)Z" } : Jvm.MethodName) prog_15_method_9_code (2 : Nat) (Option.some Jvm.ClassFile.FieldType.boolean)) ∈ lw_all := lw_g (lw_at lw_m9 188 rfl) rfl
theorem q2282 : (Jvm.Cond.methodLink "HomesQueueModel" (247 : Nat) ({ cls := "HomesQueueModel", name := "bandNow", desc := "(I)I" } : Jvm.MethodName)) ∈ lw_all := lw_g (lw_at lw_m9 189 rfl) rfl
theorem q2283 : (Jvm.Cond.privateMethod ({ cls := "HomesQueueModel", name := "bandNow", desc := "(I)I" } : Jvm.MethodName)) ∈ lw_tbl := lw_at lw_m9 190 rfl
theorem q2284 : (Jvm.Cond.instanceMethod ({ cls := "HomesQueueModel", name := "bandNow", desc := "(I)I" } : Jvm.MethodName)) ∈ lw_all := lw_g (lw_at lw_m9 191 rfl) rfl
theorem q2285 : (Jvm.Cond.code ({ cls := "HomesQueueModel", name := "bandNow", desc := "(I)I" } : Jvm.MethodName) prog_15_method_44_code (2 : Nat) (Option.some Jvm.ClassFile.FieldType.int)) ∈ lw_all := lw_g (lw_at lw_m9 192 rfl) rfl
theorem q2286 : (Jvm.Cond.methodLink "HomesQueueModel" (211 : Nat) ({ cls := "java/lang/Math", name := "max", desc := "(II)I" } : Jvm.MethodName)) ∈ lw_all := lw_g (lw_at lw_m9 193 rfl) rfl
theorem q2288 : (Jvm.Cond.instanceMethod ({ cls := "HomesQueueModel", name := "rule", desc := "(I)I" } : Jvm.MethodName)) ∈ lw_all := lw_g (lw_at lw_m9 195 rfl) rfl
theorem q2289 : (Jvm.Cond.selects "HomesQueueModel" ({ cls := "HomesQueueModel", name := "rule", desc := "(I)I" } : Jvm.MethodName) ({ cls := "HomesQueueModel", name := "rule", desc := "(I)I" } : Jvm.MethodName)) ∈ lw_all := lw_g (lw_at lw_m9 196 rfl) rfl
theorem q2290 : (Jvm.Cond.code ({ cls := "HomesQueueModel", name := "rule", desc := "(I)I" } : Jvm.MethodName) prog_15_method_57_code (2 : Nat) (Option.some Jvm.ClassFile.FieldType.int)) ∈ lw_all := lw_g (lw_at lw_m9 197 rfl) rfl
theorem q2292 : (Jvm.Cond.instanceMethod ({ cls := "HomesQueueModel", name := "why", desc := "(II)I" } : Jvm.MethodName)) ∈ lw_all := lw_g (lw_at lw_m9 199 rfl) rfl
theorem q2293 : (Jvm.Cond.selects "HomesQueueModel" ({ cls := "HomesQueueModel", name := "why", desc := "(II)I" } : Jvm.MethodName) ({ cls := "HomesQueueModel", name := "why", desc := "(II)I" } : Jvm.MethodName)) ∈ lw_all := lw_g (lw_at lw_m9 200 rfl) rfl
theorem q2294 : (Jvm.Cond.code ({ cls := "HomesQueueModel", name := "why", desc := "(II)I" } : Jvm.MethodName) prog_15_method_60_code (3 : Nat) (Option.some Jvm.ClassFile.FieldType.int)) ∈ lw_all := lw_g (lw_at lw_m9 201 rfl) rfl
theorem q2295 : (Jvm.Cond.methodLink "HomesQueueModel" (253 : Nat) ({ cls := "HomesQueueModel", name := "areOnes", desc := "(II)Z" } : Jvm.MethodName)) ∈ lw_all := lw_g (lw_at lw_m9 202 rfl) rfl
theorem q2296 : (Jvm.Cond.privateMethod ({ cls := "HomesQueueModel", name := "areOnes", desc := "(II)Z" } : Jvm.MethodName)) ∈ lw_tbl := lw_at lw_m9 203 rfl
theorem q2297 : (Jvm.Cond.instanceMethod ({ cls := "HomesQueueModel", name := "areOnes", desc := "(II)Z" } : Jvm.MethodName)) ∈ lw_all := lw_g (lw_at lw_m9 204 rfl) rfl
theorem q2298 : (Jvm.Cond.code ({ cls := "HomesQueueModel", name := "areOnes", desc := "(II)Z" } : Jvm.MethodName) prog_15_method_59_code (3 : Nat) (Option.some Jvm.ClassFile.FieldType.boolean)) ∈ lw_all := lw_g (lw_at lw_m9 205 rfl) rfl
theorem q2299 : (Jvm.Cond.methodLink "HomesQueueModel" (256 : Nat) ({ cls := "HomesQueueModel", name := "whyNot", desc := "(II)I" } : Jvm.MethodName)) ∈ lw_all := lw_g (lw_at lw_m9 206 rfl) rfl
theorem q2300 : (Jvm.Cond.privateMethod ({ cls := "HomesQueueModel", name := "whyNot", desc := "(II)I" } : Jvm.MethodName)) ∈ lw_tbl := lw_at lw_m9 207 rfl
theorem q2301 : (Jvm.Cond.instanceMethod ({ cls := "HomesQueueModel", name := "whyNot", desc := "(II)I" } : Jvm.MethodName)) ∈ lw_all := lw_g (lw_at lw_m9 208 rfl) rfl
theorem q2302 : (Jvm.Cond.code ({ cls := "HomesQueueModel", name := "whyNot", desc := "(II)I" } : Jvm.MethodName) prog_15_method_58_code (3 : Nat) (Option.some Jvm.ClassFile.FieldType.int)) ∈ lw_all := lw_g (lw_at lw_m9 209 rfl) rfl
theorem q2303 : (Jvm.Cond.methodLink "HomesQueueModel" (250 : Nat) ({ cls := "HomesQueueModel", name := "doesFit", desc := "(II)Z" } : Jvm.MethodName)) ∈ lw_all := lw_g (lw_at lw_m9 210 rfl) rfl
theorem q2304 : (Jvm.Cond.privateMethod ({ cls := "HomesQueueModel", name := "doesFit", desc := "(II)Z" } : Jvm.MethodName)) ∈ lw_tbl := lw_at lw_m9 211 rfl
theorem q2305 : (Jvm.Cond.instanceMethod ({ cls := "HomesQueueModel", name := "doesFit", desc := "(II)Z" } : Jvm.MethodName)) ∈ lw_all := lw_g (lw_at lw_m9 212 rfl) rfl
theorem q2306 : (Jvm.Cond.code ({ cls := "HomesQueueModel", name := "doesFit", desc := "(II)Z" } : Jvm.MethodName) prog_15_method_45_code (3 : Nat) (Option.some Jvm.ClassFile.FieldType.boolean)) ∈ lw_all := lw_g (lw_at lw_m9 213 rfl) rfl
theorem q2308 : (Jvm.Cond.instanceMethod ({ cls := "HomesQueueModel", name := "bids", desc := "(II)I" } : Jvm.MethodName)) ∈ lw_all := lw_g (lw_at lw_m9 215 rfl) rfl
theorem q2309 : (Jvm.Cond.selects "HomesQueueModel" ({ cls := "HomesQueueModel", name := "bids", desc := "(II)I" } : Jvm.MethodName) ({ cls := "HomesQueueModel", name := "bids", desc := "(II)I" } : Jvm.MethodName)) ∈ lw_all := lw_g (lw_at lw_m9 216 rfl) rfl
theorem q2310 : (Jvm.Cond.code ({ cls := "HomesQueueModel", name := "bids", desc := "(II)I" } : Jvm.MethodName) prog_15_method_61_code (3 : Nat) (Option.some Jvm.ClassFile.FieldType.int)) ∈ lw_all := lw_g (lw_at lw_m9 217 rfl) rfl
theorem q2312 : (Jvm.Cond.instanceMethod ({ cls := "HomesQueueModel", name := "order", desc := "(II)I" } : Jvm.MethodName)) ∈ lw_all := lw_g (lw_at lw_m9 219 rfl) rfl
theorem q2313 : (Jvm.Cond.selects "HomesQueueModel" ({ cls := "HomesQueueModel", name := "order", desc := "(II)I" } : Jvm.MethodName) ({ cls := "HomesQueueModel", name := "order", desc := "(II)I" } : Jvm.MethodName)) ∈ lw_all := lw_g (lw_at lw_m9 220 rfl) rfl
theorem q2314 : (Jvm.Cond.code ({ cls := "HomesQueueModel", name := "order", desc := "(II)I" } : Jvm.MethodName) prog_15_method_70_code (5 : Nat) (Option.some Jvm.ClassFile.FieldType.int)) ∈ lw_all := lw_g (lw_at lw_m9 221 rfl) rfl
theorem q2315 : (Jvm.Cond.methodLink "HomesQueueModel" (277 : Nat) ({ cls := "HomesQueueModel", name := "biddersOf", desc := "(I)I" } : Jvm.MethodName)) ∈ lw_all := lw_g (lw_at lw_m9 222 rfl) rfl
theorem q2316 : (Jvm.Cond.privateMethod ({ cls := "HomesQueueModel", name := "biddersOf", desc := "(I)I" } : Jvm.MethodName)) ∈ lw_tbl := lw_at lw_m9 223 rfl
theorem q2317 : (Jvm.Cond.instanceMethod ({ cls := "HomesQueueModel", name := "biddersOf", desc := "(I)I" } : Jvm.MethodName)) ∈ lw_all := lw_g (lw_at lw_m9 224 rfl) rfl
theorem q2318 : (Jvm.Cond.code ({ cls := "HomesQueueModel", name := "biddersOf", desc := "(I)I" } : Jvm.MethodName) prog_15_method_69_code (4 : Nat) (Option.some Jvm.ClassFile.FieldType.int)) ∈ lw_all := lw_g (lw_at lw_m9 225 rfl) rfl
theorem q2319 : (Jvm.Cond.methodLink "HomesQueueModel" (280 : Nat) ({ cls := "HomesQueueModel", name := "firstOf", desc := "(II)I" } : Jvm.MethodName)) ∈ lw_all := lw_g (lw_at lw_m9 226 rfl) rfl
theorem q2320 : (Jvm.Cond.privateMethod ({ cls := "HomesQueueModel", name := "firstOf", desc := "(II)I" } : Jvm.MethodName)) ∈ lw_tbl := lw_at lw_m9 227 rfl
theorem q2321 : (Jvm.Cond.instanceMethod ({ cls := "HomesQueueModel", name := "firstOf", desc := "(II)I" } : Jvm.MethodName)) ∈ lw_all := lw_g (lw_at lw_m9 228 rfl) rfl
theorem q2322 : (Jvm.Cond.code ({ cls := "HomesQueueModel", name := "firstOf", desc := "(II)I" } : Jvm.MethodName) prog_15_method_68_code (5 : Nat) (Option.some Jvm.ClassFile.FieldType.int)) ∈ lw_all := lw_g (lw_at lw_m9 229 rfl) rfl
theorem q2323 : (Jvm.Cond.methodLink "HomesQueueModel" (275 : Nat) ({ cls := "HomesQueueModel", name := "weight", desc := "(II)I" } : Jvm.MethodName)) ∈ lw_all := lw_g (lw_at lw_m9 230 rfl) rfl
theorem q2324 : (Jvm.Cond.privateMethod ({ cls := "HomesQueueModel", name := "weight", desc := "(II)I" } : Jvm.MethodName)) ∈ lw_tbl := lw_at lw_m9 231 rfl
theorem q2325 : (Jvm.Cond.instanceMethod ({ cls := "HomesQueueModel", name := "weight", desc := "(II)I" } : Jvm.MethodName)) ∈ lw_all := lw_g (lw_at lw_m9 232 rfl) rfl
theorem q2326 : (Jvm.Cond.code ({ cls := "HomesQueueModel", name := "weight", desc := "(II)I" } : Jvm.MethodName) prog_15_method_67_code (3 : Nat) (Option.some Jvm.ClassFile.FieldType.int)) ∈ lw_all := lw_g (lw_at lw_m9 233 rfl) rfl
theorem q2327 : (Jvm.Cond.methodLink "HomesQueueModel" (271 : Nat) ({ cls := "HomesQueueModel", name := "weight", desc := "(III)I" } : Jvm.MethodName)) ∈ lw_all := lw_g (lw_at lw_m9 234 rfl) rfl
theorem q2328 : (Jvm.Cond.privateMethod ({ cls := "HomesQueueModel", name := "weight", desc := "(III)I" } : Jvm.MethodName)) ∈ lw_tbl := lw_at lw_m9 235 rfl
theorem q2329 : (Jvm.Cond.instanceMethod ({ cls := "HomesQueueModel", name := "weight", desc := "(III)I" } : Jvm.MethodName)) ∈ lw_all := lw_g (lw_at lw_m9 236 rfl) rfl
theorem q2330 : (Jvm.Cond.code ({ cls := "HomesQueueModel", name := "weight", desc := "(III)I" } : Jvm.MethodName) prog_15_method_66_code (6 : Nat) (Option.some Jvm.ClassFile.FieldType.int)) ∈ lw_all := lw_g (lw_at lw_m9 237 rfl) rfl
theorem q2331 : (Jvm.Cond.methodLink "HomesQueueModel" (265 : Nat) ({ cls := "HomesQueueModel", name := "isLocal", desc := "(I)Z" } : Jvm.MethodName)) ∈ lw_all := lw_g (lw_at lw_m9 238 rfl) rfl
theorem q2332 : (Jvm.Cond.privateMethod ({ cls := "HomesQueueModel", name := "isLocal", desc := "(I)Z" } : Jvm.MethodName)) ∈ lw_tbl := lw_at lw_m9 239 rfl
theorem q2333 : (Jvm.Cond.instanceMethod ({ cls := "HomesQueueModel", name := "isLocal", desc := "(I)Z" } : Jvm.MethodName)) ∈ lw_all := lw_g (lw_at lw_m10 0 rfl) rfl
theorem q2334 : (Jvm.Cond.code ({ cls := "HomesQueueModel", name := "isLocal", desc := "(I)Z" } : Jvm.MethodName) prog_15_method_63_code (4 : Nat) (Option.some Jvm.ClassFile.FieldType.boolean)) ∈ lw_all := lw_g (lw_at lw_m10 1 rfl) rfl
theorem q2335 : (Jvm.Cond.methodLink "HomesQueueModel" (259 : Nat) ({ cls := "HomesQueueModel", name := "let0", desc := "(II)I" } : Jvm.MethodName)) ∈ lw_all := lw_g (lw_at lw_m10 2 rfl) rfl
theorem q2336 : (Jvm.Cond.privateMethod ({ cls := "HomesQueueModel", name := "let0", desc := "(II)I" } : Jvm.MethodName)) ∈ lw_tbl := lw_at lw_m10 3 rfl
theorem q2337 : (Jvm.Cond.instanceMethod ({ cls := "HomesQueueModel", name := "let0", desc := "(II)I" } : Jvm.MethodName)) ∈ lw_all := lw_g (lw_at lw_m10 4 rfl) rfl
theorem q2338 : (Jvm.Cond.code ({ cls := "HomesQueueModel", name := "let0", desc := "(II)I" } : Jvm.MethodName) prog_15_method_62_code (3 : Nat) (Option.some Jvm.ClassFile.FieldType.int)) ∈ lw_all := lw_g (lw_at lw_m10 5 rfl) rfl
theorem q2339 : (Jvm.Cond.methodLink "HomesQueueModel" (268 : Nat) ({ cls := "HomesQueueModel", name := "isQuota", desc := "()Z" } : Jvm.MethodName)) ∈ lw_all := lw_g (lw_at lw_m10 6 rfl) rfl
theorem q2340 : (Jvm.Cond.privateMethod ({ cls := "HomesQueueModel", name := "isQuota", desc := "()Z" } : Jvm.MethodName)) ∈ lw_tbl := lw_at lw_m10 7 rfl
theorem q2341 : (Jvm.Cond.instanceMethod ({ cls := "HomesQueueModel", name := "isQuota", desc := "()Z" } : Jvm.MethodName)) ∈ lw_all := lw_g (lw_at lw_m10 8 rfl) rfl
theorem q2342 : (Jvm.Cond.code ({ cls := "HomesQueueModel", name := "isQuota", desc := "()Z" } : Jvm.MethodName) prog_15_method_65_code (1 : Nat) (Option.some Jvm.ClassFile.FieldType.boolean)) ∈ lw_all := lw_g (lw_at lw_m10 9 rfl) rfl
theorem q2343 : (Jvm.Cond.methodLink "HomesQueueModel" (262 : Nat) ({ cls := "HomesQueueModel", name := "livedLets", desc := "()I" } : Jvm.MethodName)) ∈ lw_all := lw_g (lw_at lw_m10 10 rfl) rfl
theorem q2344 : (Jvm.Cond.privateMethod ({ cls := "HomesQueueModel", name := "livedLets", desc := "()I" } : Jvm.MethodName)) ∈ lw_tbl := lw_at lw_m10 11 rfl
theorem q2345 : (Jvm.Cond.instanceMethod ({ cls := "HomesQueueModel", name := "livedLets", desc := "()I" } : Jvm.MethodName)) ∈ lw_all := lw_g (lw_at lw_m10 12 rfl) rfl
theorem q2346 : (Jvm.Cond.code ({ cls := "HomesQueueModel", name := "livedLets", desc := "()I" } : Jvm.MethodName) prog_15_method_64_code (3 : Nat) (Option.some Jvm.ClassFile.FieldType.int)) ∈ lw_all := lw_g (lw_at lw_m10 13 rfl) rfl
theorem q2348 : (Jvm.Cond.instanceMethod ({ cls := "HomesQueueModel", name := "ahead", desc := "(II)I" } : Jvm.MethodName)) ∈ lw_all := lw_g (lw_at lw_m10 15 rfl) rfl
theorem q2349 : (Jvm.Cond.selects "HomesQueueModel" ({ cls := "HomesQueueModel", name := "ahead", desc := "(II)I" } : Jvm.MethodName) ({ cls := "HomesQueueModel", name := "ahead", desc := "(II)I" } : Jvm.MethodName)) ∈ lw_all := lw_g (lw_at lw_m10 16 rfl) rfl
theorem q2350 : (Jvm.Cond.code ({ cls := "HomesQueueModel", name := "ahead", desc := "(II)I" } : Jvm.MethodName) prog_15_method_72_code (5 : Nat) (Option.some Jvm.ClassFile.FieldType.int)) ∈ lw_all := lw_g (lw_at lw_m10 17 rfl) rfl
theorem q2351 : (Jvm.Cond.methodLink "HomesQueueModel" (283 : Nat) ({ cls := "HomesQueueModel", name := "mayHope", desc := "(I)Z" } : Jvm.MethodName)) ∈ lw_all := lw_g (lw_at lw_m10 18 rfl) rfl
theorem q2352 : (Jvm.Cond.privateMethod ({ cls := "HomesQueueModel", name := "mayHope", desc := "(I)Z" } : Jvm.MethodName)) ∈ lw_tbl := lw_at lw_m10 19 rfl
theorem q2353 : (Jvm.Cond.instanceMethod ({ cls := "HomesQueueModel", name := "mayHope", desc := "(I)Z" } : Jvm.MethodName)) ∈ lw_all := lw_g (lw_at lw_m10 20 rfl) rfl
theorem q2354 : (Jvm.Cond.code ({ cls := "HomesQueueModel", name := "mayHope", desc := "(I)Z" } : Jvm.MethodName) prog_15_method_43_code (2 : Nat) (Option.some Jvm.ClassFile.FieldType.boolean)) ∈ lw_all := lw_g (lw_at lw_m10 21 rfl) rfl
theorem q2355 : (Jvm.Cond.methodLink "HomesQueueModel" (286 : Nat) ({ cls := "HomesQueueModel", name := "aheadOf", desc := "(III)I" } : Jvm.MethodName)) ∈ lw_all := lw_g (lw_at lw_m10 22 rfl) rfl
theorem q2356 : (Jvm.Cond.privateMethod ({ cls := "HomesQueueModel", name := "aheadOf", desc := "(III)I" } : Jvm.MethodName)) ∈ lw_tbl := lw_at lw_m10 23 rfl
theorem q2357 : (Jvm.Cond.instanceMethod ({ cls := "HomesQueueModel", name := "aheadOf", desc := "(III)I" } : Jvm.MethodName)) ∈ lw_all := lw_g (lw_at lw_m10 24 rfl) rfl
theorem q2358 : (Jvm.Cond.code ({ cls := "HomesQueueModel", name := "aheadOf", desc := "(III)I" } : Jvm.MethodName) prog_15_method_71_code (6 : Nat) (Option.some Jvm.ClassFile.FieldType.int)) ∈ lw_all := lw_g (lw_at lw_m10 25 rfl) rfl
theorem q2360 : (Jvm.Cond.instanceMethod ({ cls := "HomesQueueModel", name := "turn", desc := "(II)I" } : Jvm.MethodName)) ∈ lw_all := lw_g (lw_at lw_m10 27 rfl) rfl
theorem q2361 : (Jvm.Cond.selects "HomesQueueModel" ({ cls := "HomesQueueModel", name := "turn", desc := "(II)I" } : Jvm.MethodName) ({ cls := "HomesQueueModel", name := "turn", desc := "(II)I" } : Jvm.MethodName)) ∈ lw_all := lw_g (lw_at lw_m10 28 rfl) rfl
theorem q2362 : (Jvm.Cond.code ({ cls := "HomesQueueModel", name := "turn", desc := "(II)I" } : Jvm.MethodName) prog_15_method_73_code (3 : Nat) (Option.some Jvm.ClassFile.FieldType.int)) ∈ lw_all := lw_g (lw_at lw_m10 29 rfl) rfl
theorem q2364 : (Jvm.Cond.instanceMethod ({ cls := "HomesQueueModel", name := "gap", desc := "(II)I" } : Jvm.MethodName)) ∈ lw_all := lw_g (lw_at lw_m10 31 rfl) rfl
theorem q2365 : (Jvm.Cond.selects "HomesQueueModel" ({ cls := "HomesQueueModel", name := "gap", desc := "(II)I" } : Jvm.MethodName) ({ cls := "HomesQueueModel", name := "gap", desc := "(II)I" } : Jvm.MethodName)) ∈ lw_all := lw_g (lw_at lw_m10 32 rfl) rfl
theorem q2366 : (Jvm.Cond.code ({ cls := "HomesQueueModel", name := "gap", desc := "(II)I" } : Jvm.MethodName) prog_15_method_74_code (6 : Nat) (Option.some Jvm.ClassFile.FieldType.int)) ∈ lw_all := lw_g (lw_at lw_m10 33 rfl) rfl
theorem q2368 : (Jvm.Cond.instanceMethod ({ cls := "HomesQueueModel", name := "let", desc := "(II)I" } : Jvm.MethodName)) ∈ lw_all := lw_g (lw_at lw_m10 35 rfl) rfl
theorem q2369 : (Jvm.Cond.selects "HomesQueueModel" ({ cls := "HomesQueueModel", name := "let", desc := "(II)I" } : Jvm.MethodName) ({ cls := "HomesQueueModel", name := "let", desc := "(II)I" } : Jvm.MethodName)) ∈ lw_all := lw_g (lw_at lw_m10 36 rfl) rfl
theorem q2370 : (Jvm.Cond.code ({ cls := "HomesQueueModel", name := "let", desc := "(II)I" } : Jvm.MethodName) prog_15_method_85_code (3 : Nat) (Option.some Jvm.ClassFile.FieldType.int)) ∈ lw_all := lw_g (lw_at lw_m10 37 rfl) rfl
theorem q2372 : (Jvm.Cond.instanceMethod ({ cls := "HomesQueueModel", name := "offer", desc := "(II)I" } : Jvm.MethodName)) ∈ lw_all := lw_g (lw_at lw_m10 39 rfl) rfl
theorem q2373 : (Jvm.Cond.selects "HomesQueueModel" ({ cls := "HomesQueueModel", name := "offer", desc := "(II)I" } : Jvm.MethodName) ({ cls := "HomesQueueModel", name := "offer", desc := "(II)I" } : Jvm.MethodName)) ∈ lw_all := lw_g (lw_at lw_m10 40 rfl) rfl
theorem q2374 : (Jvm.Cond.code ({ cls := "HomesQueueModel", name := "offer", desc := "(II)I" } : Jvm.MethodName) prog_15_method_86_code (3 : Nat) (Option.some Jvm.ClassFile.FieldType.int)) ∈ lw_all := lw_g (lw_at lw_m10 41 rfl) rfl
theorem q2376 : (Jvm.Cond.instanceMethod ({ cls := "HomesQueueModel", name := "tally", desc := "(I)I" } : Jvm.MethodName)) ∈ lw_all := lw_g (lw_at lw_m10 43 rfl) rfl
theorem q2377 : (Jvm.Cond.selects "HomesQueueModel" ({ cls := "HomesQueueModel", name := "tally", desc := "(I)I" } : Jvm.MethodName) ({ cls := "HomesQueueModel", name := "tally", desc := "(I)I" } : Jvm.MethodName)) ∈ lw_all := lw_g (lw_at lw_m10 44 rfl) rfl
theorem q2378 : (Jvm.Cond.code ({ cls := "HomesQueueModel", name := "tally", desc := "(I)I" } : Jvm.MethodName) prog_15_method_89_code (4 : Nat) (Option.some Jvm.ClassFile.FieldType.int)) ∈ lw_all := lw_g (lw_at lw_m10 45 rfl) rfl
theorem q2379 : (Jvm.Cond.methodLink "HomesQueueModel" (319 : Nat) ({ cls := "HomesQueueModel", name := "greatestChain", desc := "()I" } : Jvm.MethodName)) ∈ lw_all := lw_g (lw_at lw_m10 46 rfl) rfl
theorem q2380 : (Jvm.Cond.privateMethod ({ cls := "HomesQueueModel", name := "greatestChain", desc := "()I" } : Jvm.MethodName)) ∈ lw_tbl := lw_at lw_m10 47 rfl
theorem q2381 : (Jvm.Cond.instanceMethod ({ cls := "HomesQueueModel", name := "greatestChain", desc := "()I" } : Jvm.MethodName)) ∈ lw_all := lw_g (lw_at lw_m10 48 rfl) rfl
theorem q2382 : (Jvm.Cond.code ({ cls := "HomesQueueModel", name := "greatestChain", desc := "()I" } : Jvm.MethodName) prog_15_method_87_code (3 : Nat) (Option.some Jvm.ClassFile.FieldType.int)) ∈ lw_all := lw_g (lw_at lw_m10 49 rfl) rfl
theorem q2383 : (Jvm.Cond.methodLink "HomesQueueModel" (322 : Nat) ({ cls := "HomesQueueModel", name := "allPassed", desc := "()I" } : Jvm.MethodName)) ∈ lw_all := lw_g (lw_at lw_m10 50 rfl) rfl
theorem q2384 : (Jvm.Cond.privateMethod ({ cls := "HomesQueueModel", name := "allPassed", desc := "()I" } : Jvm.MethodName)) ∈ lw_tbl := lw_at lw_m10 51 rfl
theorem q2385 : (Jvm.Cond.instanceMethod ({ cls := "HomesQueueModel", name := "allPassed", desc := "()I" } : Jvm.MethodName)) ∈ lw_all := lw_g (lw_at lw_m10 52 rfl) rfl
theorem q2386 : (Jvm.Cond.code ({ cls := "HomesQueueModel", name := "allPassed", desc := "()I" } : Jvm.MethodName) prog_15_method_88_code (3 : Nat) (Option.some Jvm.ClassFile.FieldType.int)) ∈ lw_all := lw_g (lw_at lw_m10 53 rfl) rfl
theorem q2388 : (Jvm.Cond.instanceMethod ({ cls := "HomesQueueModel", name := "lack", desc := "(I)I" } : Jvm.MethodName)) ∈ lw_all := lw_g (lw_at lw_m10 55 rfl) rfl
theorem q2389 : (Jvm.Cond.selects "HomesQueueModel" ({ cls := "HomesQueueModel", name := "lack", desc := "(I)I" } : Jvm.MethodName) ({ cls := "HomesQueueModel", name := "lack", desc := "(I)I" } : Jvm.MethodName)) ∈ lw_all := lw_g (lw_at lw_m10 56 rfl) rfl
theorem q2390 : (Jvm.Cond.code ({ cls := "HomesQueueModel", name := "lack", desc := "(I)I" } : Jvm.MethodName) prog_15_method_90_code (4 : Nat) (Option.some Jvm.ClassFile.FieldType.int)) ∈ lw_all := lw_g (lw_at lw_m10 57 rfl) rfl
theorem q2392 : (Jvm.Cond.instanceMethod ({ cls := "HomesQueueModel", name := "weeks", desc := "(II)I" } : Jvm.MethodName)) ∈ lw_all := lw_g (lw_at lw_m10 59 rfl) rfl
theorem q2393 : (Jvm.Cond.selects "HomesQueueModel" ({ cls := "HomesQueueModel", name := "weeks", desc := "(II)I" } : Jvm.MethodName) ({ cls := "HomesQueueModel", name := "weeks", desc := "(II)I" } : Jvm.MethodName)) ∈ lw_all := lw_g (lw_at lw_m10 60 rfl) rfl
theorem q2394 : (Jvm.Cond.code ({ cls := "HomesQueueModel", name := "weeks", desc := "(II)I" } : Jvm.MethodName) prog_15_method_92_code (7 : Nat) (Option.some Jvm.ClassFile.FieldType.int)) ∈ lw_all := lw_g (lw_at lw_m10 61 rfl) rfl
theorem q2395 : (Jvm.Cond.methodLink "HomesQueueModel" (331 : Nat) ({ cls := "HomesQueueModel", name := "oneMore", desc := "()V" } : Jvm.MethodName)) ∈ lw_all := lw_g (lw_at lw_m10 62 rfl) rfl
theorem q2396 : (Jvm.Cond.privateMethod ({ cls := "HomesQueueModel", name := "oneMore", desc := "()V" } : Jvm.MethodName)) ∈ lw_tbl := lw_at lw_m10 63 rfl
theorem q2397 : (Jvm.Cond.instanceMethod ({ cls := "HomesQueueModel", name := "oneMore", desc := "()V" } : Jvm.MethodName)) ∈ lw_all := lw_g (lw_at lw_m10 64 rfl) rfl
theorem q2398 : (Jvm.Cond.code ({ cls := "HomesQueueModel", name := "oneMore", desc := "()V" } : Jvm.MethodName) prog_15_method_91_code (1 : Nat) (Option.none : Option Jvm.ClassFile.FieldType)) ∈ lw_all := lw_g (lw_at lw_m10 65 rfl) rfl
theorem q2399 : (Jvm.Cond.methodLink "HomesQueueModel" (325 : Nat) ({ cls := "HomesQueueModel", name := "allBid", desc := "()I" } : Jvm.MethodName)) ∈ lw_all := lw_g (lw_at lw_m10 66 rfl) rfl
theorem q2400 : (Jvm.Cond.privateMethod ({ cls := "HomesQueueModel", name := "allBid", desc := "()I" } : Jvm.MethodName)) ∈ lw_tbl := lw_at lw_m10 67 rfl
theorem q2401 : (Jvm.Cond.instanceMethod ({ cls := "HomesQueueModel", name := "allBid", desc := "()I" } : Jvm.MethodName)) ∈ lw_all := lw_g (lw_at lw_m10 68 rfl) rfl
theorem q2402 : (Jvm.Cond.code ({ cls := "HomesQueueModel", name := "allBid", desc := "()I" } : Jvm.MethodName) prog_15_method_84_code (3 : Nat) (Option.some Jvm.ClassFile.FieldType.int)) ∈ lw_all := lw_g (lw_at lw_m10 69 rfl) rfl
theorem q2403 : (Jvm.Cond.methodLink "HomesQueueModel" (316 : Nat) ({ cls := "HomesQueueModel", name := "bidsBy", desc := "(I)I" } : Jvm.MethodName)) ∈ lw_all := lw_g (lw_at lw_m10 70 rfl) rfl
theorem q2404 : (Jvm.Cond.privateMethod ({ cls := "HomesQueueModel", name := "bidsBy", desc := "(I)I" } : Jvm.MethodName)) ∈ lw_tbl := lw_at lw_m10 71 rfl
theorem q2405 : (Jvm.Cond.instanceMethod ({ cls := "HomesQueueModel", name := "bidsBy", desc := "(I)I" } : Jvm.MethodName)) ∈ lw_all := lw_g (lw_at lw_m10 72 rfl) rfl
theorem q2406 : (Jvm.Cond.code ({ cls := "HomesQueueModel", name := "bidsBy", desc := "(I)I" } : Jvm.MethodName) prog_15_method_83_code (6 : Nat) (Option.some Jvm.ClassFile.FieldType.int)) ∈ lw_all := lw_g (lw_at lw_m10 73 rfl) rfl
theorem q2407 : (Jvm.Cond.methodLink "HomesQueueModel" (289 : Nat) ({ cls := "HomesQueueModel", name := "puts", desc := "(III)V" } : Jvm.MethodName)) ∈ lw_all := lw_g (lw_at lw_m10 74 rfl) rfl
theorem q2408 : (Jvm.Cond.privateMethod ({ cls := "HomesQueueModel", name := "puts", desc := "(III)V" } : Jvm.MethodName)) ∈ lw_tbl := lw_at lw_m10 75 rfl
theorem q2409 : (Jvm.Cond.instanceMethod ({ cls := "HomesQueueModel", name := "puts", desc := "(III)V" } : Jvm.MethodName)) ∈ lw_all := lw_g (lw_at lw_m10 76 rfl) rfl
theorem q2410 : (Jvm.Cond.code ({ cls := "HomesQueueModel", name := "puts", desc := "(III)V" } : Jvm.MethodName) prog_15_method_75_code (4 : Nat) (Option.none : Option Jvm.ClassFile.FieldType)) ∈ lw_all := lw_g (lw_at lw_m10 77 rfl) rfl
theorem q2411 : (Jvm.Cond.methodLink "HomesQueueModel" (328 : Nat) ({ cls := "HomesQueueModel", name := "weekEnds", desc := "()I" } : Jvm.MethodName)) ∈ lw_all := lw_g (lw_at lw_m10 78 rfl) rfl
theorem q2412 : (Jvm.Cond.privateMethod ({ cls := "HomesQueueModel", name := "weekEnds", desc := "()I" } : Jvm.MethodName)) ∈ lw_tbl := lw_at lw_m10 79 rfl
theorem q2413 : (Jvm.Cond.instanceMethod ({ cls := "HomesQueueModel", name := "weekEnds", desc := "()I" } : Jvm.MethodName)) ∈ lw_all := lw_g (lw_at lw_m10 80 rfl) rfl
theorem q2414 : (Jvm.Cond.code ({ cls := "HomesQueueModel", name := "weekEnds", desc := "()I" } : Jvm.MethodName) prog_15_method_82_code (4 : Nat) (Option.some Jvm.ClassFile.FieldType.int)) ∈ lw_all := lw_g (lw_at lw_m10 81 rfl) rfl
theorem q2415 : (Jvm.Cond.methodLink "HomesQueueModel" (313 : Nat) ({ cls := "HomesQueueModel", name := "lets", desc := "(I)V" } : Jvm.MethodName)) ∈ lw_all := lw_g (lw_at lw_m10 82 rfl) rfl
theorem q2416 : (Jvm.Cond.privateMethod ({ cls := "HomesQueueModel", name := "lets", desc := "(I)V" } : Jvm.MethodName)) ∈ lw_tbl := lw_at lw_m10 83 rfl
theorem q2417 : (Jvm.Cond.instanceMethod ({ cls := "HomesQueueModel", name := "lets", desc := "(I)V" } : Jvm.MethodName)) ∈ lw_all := lw_g (lw_at lw_m10 84 rfl) rfl
theorem q2418 : (Jvm.Cond.code ({ cls := "HomesQueueModel", name := "lets", desc := "(I)V" } : Jvm.MethodName) prog_15_method_81_code (6 : Nat) (Option.none : Option Jvm.ClassFile.FieldType)) ∈ lw_all := lw_g (lw_at lw_m10 85 rfl) rfl
theorem q2419 : (Jvm.Cond.methodLink "HomesQueueModel" (300 : Nat) ({ cls := "HomesQueueModel", name := "wouldTake", desc := "(II)Z" } : Jvm.MethodName)) ∈ lw_all := lw_g (lw_at lw_m10 86 rfl) rfl
theorem q2420 : (Jvm.Cond.privateMethod ({ cls := "HomesQueueModel", name := "wouldTake", desc := "(II)Z" } : Jvm.MethodName)) ∈ lw_tbl := lw_at lw_m10 87 rfl
theorem q2421 : (Jvm.Cond.instanceMethod ({ cls := "HomesQueueModel", name := "wouldTake", desc := "(II)Z" } : Jvm.MethodName)) ∈ lw_all := lw_g (lw_at lw_m10 88 rfl) rfl
theorem q2422 : (Jvm.Cond.code ({ cls := "HomesQueueModel", name := "wouldTake", desc := "(II)Z" } : Jvm.MethodName) prog_15_method_48_code (3 : Nat) (Option.some Jvm.ClassFile.FieldType.boolean)) ∈ lw_all := lw_g (lw_at lw_m10 89 rfl) rfl
theorem q2423 : (Jvm.Cond.methodLink "HomesQueueModel" (216 : Nat) ({ cls := "HomesQueueModel", name := "wishOf", desc := "(II)I" } : Jvm.MethodName)) ∈ lw_all := lw_g (lw_at lw_m10 90 rfl) rfl
theorem q2424 : (Jvm.Cond.privateMethod ({ cls := "HomesQueueModel", name := "wishOf", desc := "(II)I" } : Jvm.MethodName)) ∈ lw_tbl := lw_at lw_m10 91 rfl
theorem q2425 : (Jvm.Cond.instanceMethod ({ cls := "HomesQueueModel", name := "wishOf", desc := "(II)I" } : Jvm.MethodName)) ∈ lw_all := lw_g (lw_at lw_m10 92 rfl) rfl
theorem q2426 : (Jvm.Cond.code ({ cls := "HomesQueueModel", name := "wishOf", desc := "(II)I" } : Jvm.MethodName) prog_15_method_47_code (4 : Nat) (Option.some Jvm.ClassFile.FieldType.int)) ∈ lw_all := lw_g (lw_at lw_m10 93 rfl) rfl
theorem q2427 : (Jvm.Cond.methodLink "HomesQueueModel" (303 : Nat) ({ cls := "HomesQueueModel", name := "offered", desc := "(IIZ)V" } : Jvm.MethodName)) ∈ lw_all := lw_g (lw_at lw_m10 94 rfl) rfl
theorem q2428 : (Jvm.Cond.privateMethod ({ cls := "HomesQueueModel", name := "offered", desc := "(IIZ)V" } : Jvm.MethodName)) ∈ lw_tbl := lw_at lw_m10 95 rfl
theorem q2429 : (Jvm.Cond.instanceMethod ({ cls := "HomesQueueModel", name := "offered", desc := "(IIZ)V" } : Jvm.MethodName)) ∈ lw_all := lw_g (lw_at lw_m10 96 rfl) rfl
theorem q2430 : (Jvm.Cond.code ({ cls := "HomesQueueModel", name := "offered", desc := "(IIZ)V" } : Jvm.MethodName) prog_15_method_77_code (5 : Nat) (Option.none : Option Jvm.ClassFile.FieldType)) ∈ lw_all := lw_g (lw_at lw_m10 97 rfl) rfl
theorem q2431 : (Jvm.Cond.methodLink "HomesQueueModel" (307 : Nat) ({ cls := "HomesQueueModel", name := "takes", desc := "(III)V" } : Jvm.MethodName)) ∈ lw_all := lw_g (lw_at lw_m10 98 rfl) rfl
theorem q2432 : (Jvm.Cond.privateMethod ({ cls := "HomesQueueModel", name := "takes", desc := "(III)V" } : Jvm.MethodName)) ∈ lw_tbl := lw_at lw_m10 99 rfl
theorem q2433 : (Jvm.Cond.instanceMethod ({ cls := "HomesQueueModel", name := "takes", desc := "(III)V" } : Jvm.MethodName)) ∈ lw_all := lw_g (lw_at lw_m10 100 rfl) rfl
theorem q2434 : (Jvm.Cond.code ({ cls := "HomesQueueModel", name := "takes", desc := "(III)V" } : Jvm.MethodName) prog_15_method_79_code (8 : Nat) (Option.none : Option Jvm.ClassFile.FieldType)) ∈ lw_all := lw_g (lw_at lw_m10 101 rfl) rfl
theorem q2435 : (Jvm.Cond.methodLink "HomesQueueModel" (293 : Nat) ({ cls := "HomesQueueModel", name := "putsHome", desc := "(III)V" } : Jvm.MethodName)) ∈ lw_all := lw_g (lw_at lw_m10 102 rfl) rfl
theorem q2436 : (Jvm.Cond.privateMethod ({ cls := "HomesQueueModel", name := "putsHome", desc := "(III)V" } : Jvm.MethodName)) ∈ lw_tbl := lw_at lw_m10 103 rfl
theorem q2437 : (Jvm.Cond.instanceMethod ({ cls := "HomesQueueModel", name := "putsHome", desc := "(III)V" } : Jvm.MethodName)) ∈ lw_all := lw_g (lw_at lw_m10 104 rfl) rfl
theorem q2438 : (Jvm.Cond.code ({ cls := "HomesQueueModel", name := "putsHome", desc := "(III)V" } : Jvm.MethodName) prog_15_method_76_code (4 : Nat) (Option.none : Option Jvm.ClassFile.FieldType)) ∈ lw_all := lw_g (lw_at lw_m10 105 rfl) rfl
theorem q2439 : (Jvm.Cond.methodLink "HomesQueueModel" (296 : Nat) ({ cls := "HomesQueueModel", name := "leaves", desc := "(II)V" } : Jvm.MethodName)) ∈ lw_all := lw_g (lw_at lw_m10 106 rfl) rfl
theorem q2440 : (Jvm.Cond.privateMethod ({ cls := "HomesQueueModel", name := "leaves", desc := "(II)V" } : Jvm.MethodName)) ∈ lw_tbl := lw_at lw_m10 107 rfl
theorem q2441 : (Jvm.Cond.instanceMethod ({ cls := "HomesQueueModel", name := "leaves", desc := "(II)V" } : Jvm.MethodName)) ∈ lw_all := lw_g (lw_at lw_m10 108 rfl) rfl
theorem q2442 : (Jvm.Cond.code ({ cls := "HomesQueueModel", name := "leaves", desc := "(II)V" } : Jvm.MethodName) prog_15_method_80_code (3 : Nat) (Option.none : Option Jvm.ClassFile.FieldType)) ∈ lw_all := lw_g (lw_at lw_m10 109 rfl) rfl
theorem q2443 : (Jvm.Cond.methodLink "HomesQueueModel" (310 : Nat) ({ cls := "HomesQueueModel", name := "refuses", desc := "(I)V" } : Jvm.MethodName)) ∈ lw_all := lw_g (lw_at lw_m10 110 rfl) rfl
theorem q2444 : (Jvm.Cond.privateMethod ({ cls := "HomesQueueModel", name := "refuses", desc := "(I)V" } : Jvm.MethodName)) ∈ lw_tbl := lw_at lw_m10 111 rfl
theorem q2445 : (Jvm.Cond.instanceMethod ({ cls := "HomesQueueModel", name := "refuses", desc := "(I)V" } : Jvm.MethodName)) ∈ lw_all := lw_g (lw_at lw_m10 112 rfl) rfl
theorem q2446 : (Jvm.Cond.code ({ cls := "HomesQueueModel", name := "refuses", desc := "(I)V" } : Jvm.MethodName) prog_15_method_78_code (2 : Nat) (Option.none : Option Jvm.ClassFile.FieldType)) ∈ lw_all := lw_g (lw_at lw_m10 113 rfl) rfl
theorem q2448 : (Jvm.Cond.instanceMethod ({ cls := "HomesQueueModel", name := "when", desc := "(IIZ)I" } : Jvm.MethodName)) ∈ lw_all := lw_g (lw_at lw_m10 115 rfl) rfl
theorem q2449 : (Jvm.Cond.selects "HomesQueueModel" ({ cls := "HomesQueueModel", name := "when", desc := "(IIZ)I" } : Jvm.MethodName) ({ cls := "HomesQueueModel", name := "when", desc := "(IIZ)I" } : Jvm.MethodName)) ∈ lw_all := lw_g (lw_at lw_m10 116 rfl) rfl
theorem q2450 : (Jvm.Cond.code ({ cls := "HomesQueueModel", name := "when", desc := "(IIZ)I" } : Jvm.MethodName) prog_15_method_93_code (7 : Nat) (Option.some Jvm.ClassFile.FieldType.int)) ∈ lw_all := lw_g (lw_at lw_m10 117 rfl) rfl
theorem q2452 : (Jvm.Cond.instanceMethod ({ cls := "HomesQueueModel", name := "tip", desc := "(I)I" } : Jvm.MethodName)) ∈ lw_all := lw_g (lw_at lw_m10 119 rfl) rfl
theorem q2453 : (Jvm.Cond.selects "HomesQueueModel" ({ cls := "HomesQueueModel", name := "tip", desc := "(I)I" } : Jvm.MethodName) ({ cls := "HomesQueueModel", name := "tip", desc := "(I)I" } : Jvm.MethodName)) ∈ lw_all := lw_g (lw_at lw_m10 120 rfl) rfl
theorem q2454 : (Jvm.Cond.code ({ cls := "HomesQueueModel", name := "tip", desc := "(I)I" } : Jvm.MethodName) prog_15_method_94_code (8 : Nat) (Option.some Jvm.ClassFile.FieldType.int)) ∈ lw_all := lw_g (lw_at lw_m10 121 rfl) rfl
theorem q2456 : (Jvm.Cond.instanceMethod ({ cls := "HomesQueueModel", name := "would", desc := "(II)I" } : Jvm.MethodName)) ∈ lw_all := lw_g (lw_at lw_m10 123 rfl) rfl
theorem q2457 : (Jvm.Cond.selects "HomesQueueModel" ({ cls := "HomesQueueModel", name := "would", desc := "(II)I" } : Jvm.MethodName) ({ cls := "HomesQueueModel", name := "would", desc := "(II)I" } : Jvm.MethodName)) ∈ lw_all := lw_g (lw_at lw_m10 124 rfl) rfl
theorem q2458 : (Jvm.Cond.code ({ cls := "HomesQueueModel", name := "would", desc := "(II)I" } : Jvm.MethodName) prog_15_method_95_code (5 : Nat) (Option.some Jvm.ClassFile.FieldType.int)) ∈ lw_all := lw_g (lw_at lw_m10 125 rfl) rfl
theorem q2460 : (Jvm.Cond.instanceMethod ({ cls := "HomesQueueModel", name := "queue", desc := "(I)I" } : Jvm.MethodName)) ∈ lw_all := lw_g (lw_at lw_m10 127 rfl) rfl
theorem q2461 : (Jvm.Cond.selects "HomesQueueModel" ({ cls := "HomesQueueModel", name := "queue", desc := "(I)I" } : Jvm.MethodName) ({ cls := "HomesQueueModel", name := "queue", desc := "(I)I" } : Jvm.MethodName)) ∈ lw_all := lw_g (lw_at lw_m10 128 rfl) rfl
theorem q2462 : (Jvm.Cond.code ({ cls := "HomesQueueModel", name := "queue", desc := "(I)I" } : Jvm.MethodName) prog_15_method_96_code (6 : Nat) (Option.some Jvm.ClassFile.FieldType.int)) ∈ lw_all := lw_g (lw_at lw_m10 129 rfl) rfl
theorem q2463 : (Jvm.Cond.methodLink "HomesQueueModel" (334 : Nat) ({ cls := "HomesQueueModel", name := "plainWeight", desc := "(I)I" } : Jvm.MethodName)) ∈ lw_all := lw_g (lw_at lw_m10 130 rfl) rfl
theorem q2464 : (Jvm.Cond.privateMethod ({ cls := "HomesQueueModel", name := "plainWeight", desc := "(I)I" } : Jvm.MethodName)) ∈ lw_tbl := lw_at lw_m10 131 rfl
theorem q2465 : (Jvm.Cond.instanceMethod ({ cls := "HomesQueueModel", name := "plainWeight", desc := "(I)I" } : Jvm.MethodName)) ∈ lw_all := lw_g (lw_at lw_m10 132 rfl) rfl
theorem q2466 : (Jvm.Cond.code ({ cls := "HomesQueueModel", name := "plainWeight", desc := "(I)I" } : Jvm.MethodName) prog_15_method_97_code (2 : Nat) (Option.some Jvm.ClassFile.FieldType.int)) ∈ lw_all := lw_g (lw_at lw_m10 133 rfl) rfl
theorem q2468 : (Jvm.Cond.instanceMethod ({ cls := "HomesQueueModel", name := "most", desc := "()I" } : Jvm.MethodName)) ∈ lw_all := lw_g (lw_at lw_m10 135 rfl) rfl
theorem q2469 : (Jvm.Cond.selects "HomesQueueModel" ({ cls := "HomesQueueModel", name := "most", desc := "()I" } : Jvm.MethodName) ({ cls := "HomesQueueModel", name := "most", desc := "()I" } : Jvm.MethodName)) ∈ lw_all := lw_g (lw_at lw_m10 136 rfl) rfl
theorem q2470 : (Jvm.Cond.code ({ cls := "HomesQueueModel", name := "most", desc := "()I" } : Jvm.MethodName) prog_15_method_102_code (1 : Nat) (Option.some Jvm.ClassFile.FieldType.int)) ∈ lw_all := lw_g (lw_at lw_m10 137 rfl) rfl
theorem q2471 : (Jvm.Cond.methodLink "HomesQueueModel" (346 : Nat) ({ cls := "HomesQueueModel", name := "laysGifts", desc := "()I" } : Jvm.MethodName)) ∈ lw_all := lw_g (lw_at lw_m10 138 rfl) rfl
theorem q2472 : (Jvm.Cond.privateMethod ({ cls := "HomesQueueModel", name := "laysGifts", desc := "()I" } : Jvm.MethodName)) ∈ lw_tbl := lw_at lw_m10 139 rfl
theorem q2473 : (Jvm.Cond.instanceMethod ({ cls := "HomesQueueModel", name := "laysGifts", desc := "()I" } : Jvm.MethodName)) ∈ lw_all := lw_g (lw_at lw_m10 140 rfl) rfl
theorem q2474 : (Jvm.Cond.code ({ cls := "HomesQueueModel", name := "laysGifts", desc := "()I" } : Jvm.MethodName) prog_15_method_101_code (5 : Nat) (Option.some Jvm.ClassFile.FieldType.int)) ∈ lw_all := lw_g (lw_at lw_m10 141 rfl) rfl
theorem q2475 : (Jvm.Cond.methodLink "HomesQueueModel" (340 : Nat) ({ cls := "HomesQueueModel", name := "gave", desc := "(II)I" } : Jvm.MethodName)) ∈ lw_all := lw_g (lw_at lw_m10 142 rfl) rfl
theorem q2476 : (Jvm.Cond.privateMethod ({ cls := "HomesQueueModel", name := "gave", desc := "(II)I" } : Jvm.MethodName)) ∈ lw_tbl := lw_at lw_m10 143 rfl
theorem q2477 : (Jvm.Cond.instanceMethod ({ cls := "HomesQueueModel", name := "gave", desc := "(II)I" } : Jvm.MethodName)) ∈ lw_all := lw_g (lw_at lw_m10 144 rfl) rfl
theorem q2478 : (Jvm.Cond.code ({ cls := "HomesQueueModel", name := "gave", desc := "(II)I" } : Jvm.MethodName) prog_15_method_100_code (3 : Nat) (Option.some Jvm.ClassFile.FieldType.int)) ∈ lw_all := lw_g (lw_at lw_m10 145 rfl) rfl
theorem q2479 : (Jvm.Cond.methodLink "HomesQueueModel" (343 : Nat) ({ cls := "HomesQueueModel", name := "canGive", desc := "(II)Z" } : Jvm.MethodName)) ∈ lw_all := lw_g (lw_at lw_m10 146 rfl) rfl
theorem q2480 : (Jvm.Cond.privateMethod ({ cls := "HomesQueueModel", name := "canGive", desc := "(II)Z" } : Jvm.MethodName)) ∈ lw_tbl := lw_at lw_m10 147 rfl
theorem q2481 : (Jvm.Cond.instanceMethod ({ cls := "HomesQueueModel", name := "canGive", desc := "(II)Z" } : Jvm.MethodName)) ∈ lw_all := lw_g (lw_at lw_m10 148 rfl) rfl
theorem q2482 : (Jvm.Cond.code ({ cls := "HomesQueueModel", name := "canGive", desc := "(II)Z" } : Jvm.MethodName) prog_15_method_99_code (3 : Nat) (Option.some Jvm.ClassFile.FieldType.boolean)) ∈ lw_all := lw_g (lw_at lw_m10 149 rfl) rfl
theorem q2483 : (Jvm.Cond.methodLink "HomesQueueModel" (337 : Nat) ({ cls := "HomesQueueModel", name := "couldHave", desc := "(II)Z" } : Jvm.MethodName)) ∈ lw_all := lw_g (lw_at lw_m10 150 rfl) rfl
theorem q2484 : (Jvm.Cond.privateMethod ({ cls := "HomesQueueModel", name := "couldHave", desc := "(II)Z" } : Jvm.MethodName)) ∈ lw_tbl := lw_at lw_m10 151 rfl
theorem q2485 : (Jvm.Cond.instanceMethod ({ cls := "HomesQueueModel", name := "couldHave", desc := "(II)Z" } : Jvm.MethodName)) ∈ lw_all := lw_g (lw_at lw_m10 152 rfl) rfl
theorem q2486 : (Jvm.Cond.code ({ cls := "HomesQueueModel", name := "couldHave", desc := "(II)Z" } : Jvm.MethodName) prog_15_method_98_code (3 : Nat) (Option.some Jvm.ClassFile.FieldType.boolean)) ∈ lw_all := lw_g (lw_at lw_m10 153 rfl) rfl
theorem q2488 : (Jvm.Cond.instanceMethod ({ cls := "HomesQueueModel", name := "gift", desc := "(I)I" } : Jvm.MethodName)) ∈ lw_all := lw_g (lw_at lw_m10 155 rfl) rfl
theorem q2489 : (Jvm.Cond.selects "HomesQueueModel" ({ cls := "HomesQueueModel", name := "gift", desc := "(I)I" } : Jvm.MethodName) ({ cls := "HomesQueueModel", name := "gift", desc := "(I)I" } : Jvm.MethodName)) ∈ lw_all := lw_g (lw_at lw_m10 156 rfl) rfl
theorem q2490 : (Jvm.Cond.code ({ cls := "HomesQueueModel", name := "gift", desc := "(I)I" } : Jvm.MethodName) prog_15_method_103_code (6 : Nat) (Option.some Jvm.ClassFile.FieldType.int)) ∈ lw_all := lw_g (lw_at lw_m10 157 rfl) rfl
theorem q2492 : (Jvm.Cond.instanceMethod ({ cls := "HomesQueueModel", name := "top", desc := "(I)I" } : Jvm.MethodName)) ∈ lw_all := lw_g (lw_at lw_m10 159 rfl) rfl
theorem q2493 : (Jvm.Cond.selects "HomesQueueModel" ({ cls := "HomesQueueModel", name := "top", desc := "(I)I" } : Jvm.MethodName) ({ cls := "HomesQueueModel", name := "top", desc := "(I)I" } : Jvm.MethodName)) ∈ lw_all := lw_g (lw_at lw_m10 160 rfl) rfl
theorem q2494 : (Jvm.Cond.code ({ cls := "HomesQueueModel", name := "top", desc := "(I)I" } : Jvm.MethodName) prog_15_method_105_code (3 : Nat) (Option.some Jvm.ClassFile.FieldType.int)) ∈ lw_all := lw_g (lw_at lw_m10 161 rfl) rfl
theorem q2495 : (Jvm.Cond.methodLink "HomesQueueModel" (349 : Nat) ({ cls := "HomesQueueModel", name := "allThatCould", desc := "(I)I" } : Jvm.MethodName)) ∈ lw_all := lw_g (lw_at lw_m10 162 rfl) rfl
theorem q2496 : (Jvm.Cond.privateMethod ({ cls := "HomesQueueModel", name := "allThatCould", desc := "(I)I" } : Jvm.MethodName)) ∈ lw_tbl := lw_at lw_m10 163 rfl
theorem q2497 : (Jvm.Cond.instanceMethod ({ cls := "HomesQueueModel", name := "allThatCould", desc := "(I)I" } : Jvm.MethodName)) ∈ lw_all := lw_g (lw_at lw_m10 164 rfl) rfl
theorem q2498 : (Jvm.Cond.code ({ cls := "HomesQueueModel", name := "allThatCould", desc := "(I)I" } : Jvm.MethodName) prog_15_method_104_code (4 : Nat) (Option.some Jvm.ClassFile.FieldType.int)) ∈ lw_all := lw_g (lw_at lw_m10 165 rfl) rfl
theorem q2500 : (Jvm.Cond.instanceMethod ({ cls := "HomesQueueModel", name := "lot", desc := "(II)I" } : Jvm.MethodName)) ∈ lw_all := lw_g (lw_at lw_m10 167 rfl) rfl
theorem q2501 : (Jvm.Cond.selects "HomesQueueModel" ({ cls := "HomesQueueModel", name := "lot", desc := "(II)I" } : Jvm.MethodName) ({ cls := "HomesQueueModel", name := "lot", desc := "(II)I" } : Jvm.MethodName)) ∈ lw_all := lw_g (lw_at lw_m10 168 rfl) rfl
theorem q2502 : (Jvm.Cond.code ({ cls := "HomesQueueModel", name := "lot", desc := "(II)I" } : Jvm.MethodName) prog_15_method_107_code (7 : Nat) (Option.some Jvm.ClassFile.FieldType.int)) ∈ lw_all := lw_g (lw_at lw_m10 169 rfl) rfl
theorem q2503 : (Jvm.Cond.constant "HomesQueueModel" (352 : Nat) (65536 : Int32)) ∈ lw_all := lw_g (lw_at lw_m10 170 rfl) rfl
theorem q2504 : (Jvm.Cond.methodLink "HomesQueueModel" (353 : Nat) ({ cls := "HomesQueueModel", name := "weeksWaited", desc := "(I)I" } : Jvm.MethodName)) ∈ lw_all := lw_g (lw_at lw_m10 171 rfl) rfl
theorem q2505 : (Jvm.Cond.privateMethod ({ cls := "HomesQueueModel", name := "weeksWaited", desc := "(I)I" } : Jvm.MethodName)) ∈ lw_tbl := lw_at lw_m10 172 rfl
theorem q2506 : (Jvm.Cond.instanceMethod ({ cls := "HomesQueueModel", name := "weeksWaited", desc := "(I)I" } : Jvm.MethodName)) ∈ lw_all := lw_g (lw_at lw_m10 173 rfl) rfl
theorem q2507 : (Jvm.Cond.code ({ cls := "HomesQueueModel", name := "weeksWaited", desc := "(I)I" } : Jvm.MethodName) prog_15_method_106_code (2 : Nat) (Option.some Jvm.ClassFile.FieldType.int)) ∈ lw_all := lw_g (lw_at lw_m10 174 rfl) rfl
theorem q2508 : (Jvm.Cond.constant "HomesQueueModel" (356 : Nat) (65537 : Int32)) ∈ lw_all := lw_g (lw_at lw_m10 175 rfl) rfl
theorem q2510 : (Jvm.Cond.instanceMethod ({ cls := "HomesQueueModel", name := "fits", desc := "(II)I" } : Jvm.MethodName)) ∈ lw_all := lw_g (lw_at lw_m10 177 rfl) rfl
theorem q2511 : (Jvm.Cond.selects "HomesQueueModel" ({ cls := "HomesQueueModel", name := "fits", desc := "(II)I" } : Jvm.MethodName) ({ cls := "HomesQueueModel", name := "fits", desc := "(II)I" } : Jvm.MethodName)) ∈ lw_all := lw_g (lw_at lw_m10 178 rfl) rfl
theorem q2512 : (Jvm.Cond.code ({ cls := "HomesQueueModel", name := "fits", desc := "(II)I" } : Jvm.MethodName) prog_15_method_108_code (5 : Nat) (Option.some Jvm.ClassFile.FieldType.int)) ∈ lw_all := lw_g (lw_at lw_m10 179 rfl) rfl
theorem q2514 : (Jvm.Cond.instanceMethod ({ cls := "HomesQueueModel", name := "ward", desc := "(Z)I" } : Jvm.MethodName)) ∈ lw_all := lw_g (lw_at lw_m10 181 rfl) rfl
theorem q2515 : (Jvm.Cond.selects "HomesQueueModel" ({ cls := "HomesQueueModel", name := "ward", desc := "(Z)I" } : Jvm.MethodName) ({ cls := "HomesQueueModel", name := "ward", desc := "(Z)I" } : Jvm.MethodName)) ∈ lw_all := lw_g (lw_at lw_m10 182 rfl) rfl
theorem q2516 : (Jvm.Cond.code ({ cls := "HomesQueueModel", name := "ward", desc := "(Z)I" } : Jvm.MethodName) prog_15_method_110_code (5 : Nat) (Option.some Jvm.ClassFile.FieldType.int)) ∈ lw_all := lw_g (lw_at lw_m10 183 rfl) rfl
theorem q2517 : (Jvm.Cond.methodLink "HomesQueueModel" (357 : Nat) ({ cls := "HomesQueueModel", name := "lackOf", desc := "(I)I" } : Jvm.MethodName)) ∈ lw_all := lw_g (lw_at lw_m10 184 rfl) rfl
theorem q2518 : (Jvm.Cond.privateMethod ({ cls := "HomesQueueModel", name := "lackOf", desc := "(I)I" } : Jvm.MethodName)) ∈ lw_tbl := lw_at lw_m10 185 rfl
theorem q2519 : (Jvm.Cond.instanceMethod ({ cls := "HomesQueueModel", name := "lackOf", desc := "(I)I" } : Jvm.MethodName)) ∈ lw_all := lw_g (lw_at lw_m10 186 rfl) rfl
theorem q2520 : (Jvm.Cond.code ({ cls := "HomesQueueModel", name := "lackOf", desc := "(I)I" } : Jvm.MethodName) prog_15_method_109_code (4 : Nat) (Option.some Jvm.ClassFile.FieldType.int)) ∈ lw_all := lw_g (lw_at lw_m10 187 rfl) rfl
theorem q2522 : (Jvm.Cond.instanceMethod ({ cls := "HomesQueueModel", name := "envy", desc := "(I)I" } : Jvm.MethodName)) ∈ lw_all := lw_g (lw_at lw_m10 189 rfl) rfl
theorem q2523 : (Jvm.Cond.selects "HomesQueueModel" ({ cls := "HomesQueueModel", name := "envy", desc := "(I)I" } : Jvm.MethodName) ({ cls := "HomesQueueModel", name := "envy", desc := "(I)I" } : Jvm.MethodName)) ∈ lw_all := lw_g (lw_at lw_m10 190 rfl) rfl
theorem q2524 : (Jvm.Cond.code ({ cls := "HomesQueueModel", name := "envy", desc := "(I)I" } : Jvm.MethodName) prog_15_method_112_code (6 : Nat) (Option.some Jvm.ClassFile.FieldType.int)) ∈ lw_all := lw_g (lw_at lw_m10 191 rfl) rfl
theorem q2525 : (Jvm.Cond.methodLink "HomesQueueModel" (360 : Nat) ({ cls := "HomesQueueModel", name := "isRather", desc := "(II)Z" } : Jvm.MethodName)) ∈ lw_all := lw_g (lw_at lw_m10 192 rfl) rfl
theorem q2526 : (Jvm.Cond.privateMethod ({ cls := "HomesQueueModel", name := "isRather", desc := "(II)Z" } : Jvm.MethodName)) ∈ lw_tbl := lw_at lw_m10 193 rfl
theorem q2527 : (Jvm.Cond.instanceMethod ({ cls := "HomesQueueModel", name := "isRather", desc := "(II)Z" } : Jvm.MethodName)) ∈ lw_all := lw_g (lw_at lw_m10 194 rfl) rfl
theorem q2528 : (Jvm.Cond.code ({ cls := "HomesQueueModel", name := "isRather", desc := "(II)Z" } : Jvm.MethodName) prog_15_method_111_code (5 : Nat) (Option.some Jvm.ClassFile.FieldType.boolean)) ∈ lw_all := lw_g (lw_at lw_m10 195 rfl) rfl
theorem q2530 : (Jvm.Cond.instanceMethod ({ cls := "HomesQueueModel", name := "lever", desc := "(II)I" } : Jvm.MethodName)) ∈ lw_all := lw_g (lw_at lw_m10 197 rfl) rfl
theorem q2531 : (Jvm.Cond.selects "HomesQueueModel" ({ cls := "HomesQueueModel", name := "lever", desc := "(II)I" } : Jvm.MethodName) ({ cls := "HomesQueueModel", name := "lever", desc := "(II)I" } : Jvm.MethodName)) ∈ lw_all := lw_g (lw_at lw_m10 198 rfl) rfl
theorem q2532 : (Jvm.Cond.code ({ cls := "HomesQueueModel", name := "lever", desc := "(II)I" } : Jvm.MethodName) prog_15_method_114_code (10 : Nat) (Option.some Jvm.ClassFile.FieldType.int)) ∈ lw_all := lw_g (lw_at lw_m10 199 rfl) rfl
theorem q2533 : (Jvm.Cond.methodLink "HomesQueueModel" (363 : Nat) ({ cls := "HomesQueueModel", name := "letsAhead", desc := "(I)I" } : Jvm.MethodName)) ∈ lw_all := lw_g (lw_at lw_m10 200 rfl) rfl
theorem q2534 : (Jvm.Cond.privateMethod ({ cls := "HomesQueueModel", name := "letsAhead", desc := "(I)I" } : Jvm.MethodName)) ∈ lw_tbl := lw_at lw_m10 201 rfl
theorem q2535 : (Jvm.Cond.instanceMethod ({ cls := "HomesQueueModel", name := "letsAhead", desc := "(I)I" } : Jvm.MethodName)) ∈ lw_all := lw_g (lw_at lw_m10 202 rfl) rfl
theorem q2536 : (Jvm.Cond.code ({ cls := "HomesQueueModel", name := "letsAhead", desc := "(I)I" } : Jvm.MethodName) prog_15_method_113_code (4 : Nat) (Option.some Jvm.ClassFile.FieldType.int)) ∈ lw_all := lw_g (lw_at lw_m10 203 rfl) rfl
theorem q2538 : (Jvm.Cond.instanceMethod ({ cls := "HomesQueueModel", name := "trade", desc := "(I)I" } : Jvm.MethodName)) ∈ lw_all := lw_g (lw_at lw_m10 205 rfl) rfl
theorem q2539 : (Jvm.Cond.selects "HomesQueueModel" ({ cls := "HomesQueueModel", name := "trade", desc := "(I)I" } : Jvm.MethodName) ({ cls := "HomesQueueModel", name := "trade", desc := "(I)I" } : Jvm.MethodName)) ∈ lw_all := lw_g (lw_at lw_m10 206 rfl) rfl
theorem q2540 : (Jvm.Cond.code ({ cls := "HomesQueueModel", name := "trade", desc := "(I)I" } : Jvm.MethodName) prog_15_method_117_code (2 : Nat) (Option.some Jvm.ClassFile.FieldType.int)) ∈ lw_all := lw_g (lw_at lw_m10 207 rfl) rfl
theorem q2541 : (Jvm.Cond.methodLink "HomesQueueModel" (380 : Nat) ({ cls := "HomesQueueModel", name := "laysTrades", desc := "()V" } : Jvm.MethodName)) ∈ lw_all := lw_g (lw_at lw_m10 208 rfl) rfl
theorem q2542 : (Jvm.Cond.privateMethod ({ cls := "HomesQueueModel", name := "laysTrades", desc := "()V" } : Jvm.MethodName)) ∈ lw_tbl := lw_at lw_m10 209 rfl
theorem q2543 : (Jvm.Cond.instanceMethod ({ cls := "HomesQueueModel", name := "laysTrades", desc := "()V" } : Jvm.MethodName)) ∈ lw_all := lw_g (lw_at lw_m10 210 rfl) rfl
theorem q2544 : (Jvm.Cond.code ({ cls := "HomesQueueModel", name := "laysTrades", desc := "()V" } : Jvm.MethodName) prog_15_method_116_code (4 : Nat) (Option.none : Option Jvm.ClassFile.FieldType)) ∈ lw_all := lw_g (lw_at lw_m10 211 rfl) rfl
theorem q2545 : (Jvm.Cond.methodLink "HomesQueueModel" (372 : Nat) ({ cls := "java/lang/Integer", name := "numberOfTrailingZeros", desc := "(I)I" } : Jvm.MethodName)) ∈ lw_all := lw_g (lw_at lw_m10 212 rfl) rfl
theorem q2546 : (Jvm.Cond.methodLink "HomesQueueModel" (377 : Nat) ({ cls := "HomesQueueModel", name := "looksAt", desc := "(II)I" } : Jvm.MethodName)) ∈ lw_all := lw_g (lw_at lw_m10 213 rfl) rfl
theorem q2547 : (Jvm.Cond.privateMethod ({ cls := "HomesQueueModel", name := "looksAt", desc := "(II)I" } : Jvm.MethodName)) ∈ lw_tbl := lw_at lw_m10 214 rfl
theorem q2548 : (Jvm.Cond.instanceMethod ({ cls := "HomesQueueModel", name := "looksAt", desc := "(II)I" } : Jvm.MethodName)) ∈ lw_all := lw_g (lw_at lw_m10 215 rfl) rfl
theorem q2549 : (Jvm.Cond.code ({ cls := "HomesQueueModel", name := "looksAt", desc := "(II)I" } : Jvm.MethodName) prog_15_method_115_code (6 : Nat) (Option.some Jvm.ClassFile.FieldType.int)) ∈ lw_all := lw_g (lw_at lw_m10 216 rfl) rfl
theorem q2551 : (Jvm.Cond.instanceMethod ({ cls := "HomesQueueModel", name := "trades", desc := "(I)I" } : Jvm.MethodName)) ∈ lw_all := lw_g (lw_at lw_m10 218 rfl) rfl
theorem q2552 : (Jvm.Cond.selects "HomesQueueModel" ({ cls := "HomesQueueModel", name := "trades", desc := "(I)I" } : Jvm.MethodName) ({ cls := "HomesQueueModel", name := "trades", desc := "(I)I" } : Jvm.MethodName)) ∈ lw_all := lw_g (lw_at lw_m10 219 rfl) rfl
theorem q2553 : (Jvm.Cond.code ({ cls := "HomesQueueModel", name := "trades", desc := "(I)I" } : Jvm.MethodName) prog_15_method_118_code (4 : Nat) (Option.some Jvm.ClassFile.FieldType.int)) ∈ lw_all := lw_g (lw_at lw_m10 220 rfl) rfl
theorem q2555 : (Jvm.Cond.instanceMethod ({ cls := "HomesQueueModel", name := "longest", desc := "(IZ)I" } : Jvm.MethodName)) ∈ lw_all := lw_g (lw_at lw_m10 222 rfl) rfl
theorem q2556 : (Jvm.Cond.selects "HomesQueueModel" ({ cls := "HomesQueueModel", name := "longest", desc := "(IZ)I" } : Jvm.MethodName) ({ cls := "HomesQueueModel", name := "longest", desc := "(IZ)I" } : Jvm.MethodName)) ∈ lw_all := lw_g (lw_at lw_m10 223 rfl) rfl
theorem q2557 : (Jvm.Cond.code ({ cls := "HomesQueueModel", name := "longest", desc := "(IZ)I" } : Jvm.MethodName) prog_15_method_120_code (4 : Nat) (Option.some Jvm.ClassFile.FieldType.int)) ∈ lw_all := lw_g (lw_at lw_m10 224 rfl) rfl
theorem q2558 : (Jvm.Cond.methodLink "HomesQueueModel" (386 : Nat) ({ cls := "HomesQueueModel", name := "movesOn", desc := "(III)V" } : Jvm.MethodName)) ∈ lw_all := lw_g (lw_at lw_m10 225 rfl) rfl
theorem q2559 : (Jvm.Cond.privateMethod ({ cls := "HomesQueueModel", name := "movesOn", desc := "(III)V" } : Jvm.MethodName)) ∈ lw_tbl := lw_at lw_m10 226 rfl
theorem q2560 : (Jvm.Cond.instanceMethod ({ cls := "HomesQueueModel", name := "movesOn", desc := "(III)V" } : Jvm.MethodName)) ∈ lw_all := lw_g (lw_at lw_m10 227 rfl) rfl
theorem q2561 : (Jvm.Cond.code ({ cls := "HomesQueueModel", name := "movesOn", desc := "(III)V" } : Jvm.MethodName) prog_15_method_119_code (6 : Nat) (Option.none : Option Jvm.ClassFile.FieldType)) ∈ lw_all := lw_g (lw_at lw_m10 228 rfl) rfl
theorem q2563 : (Jvm.Cond.instanceMethod ({ cls := "HomesQueueModel", name := "undo", desc := "()I" } : Jvm.MethodName)) ∈ lw_all := lw_g (lw_at lw_m10 230 rfl) rfl
theorem q2564 : (Jvm.Cond.selects "HomesQueueModel" ({ cls := "HomesQueueModel", name := "undo", desc := "()I" } : Jvm.MethodName) ({ cls := "HomesQueueModel", name := "undo", desc := "()I" } : Jvm.MethodName)) ∈ lw_all := lw_g (lw_at lw_m10 231 rfl) rfl
theorem q2565 : (Jvm.Cond.code ({ cls := "HomesQueueModel", name := "undo", desc := "()I" } : Jvm.MethodName) prog_15_method_122_code (2 : Nat) (Option.some Jvm.ClassFile.FieldType.int)) ∈ lw_all := lw_g (lw_at lw_m10 232 rfl) rfl
theorem q2567 : (Jvm.Cond.instanceMethod ({ cls := "HomesQueueModel", name := "bid", desc := "(II)I" } : Jvm.MethodName)) ∈ lw_all := lw_g (lw_at lw_m10 234 rfl) rfl
theorem q2568 : (Jvm.Cond.selects "HomesQueueModel" ({ cls := "HomesQueueModel", name := "bid", desc := "(II)I" } : Jvm.MethodName) ({ cls := "HomesQueueModel", name := "bid", desc := "(II)I" } : Jvm.MethodName)) ∈ lw_all := lw_g (lw_at lw_m10 235 rfl) rfl
theorem q2569 : (Jvm.Cond.code ({ cls := "HomesQueueModel", name := "bid", desc := "(II)I" } : Jvm.MethodName) prog_15_method_123_code (3 : Nat) (Option.some Jvm.ClassFile.FieldType.int)) ∈ lw_all := lw_g (lw_at lw_m10 236 rfl) rfl
theorem q2570 : (Jvm.Cond.methodLink "HomesQueueModel" (389 : Nat) ({ cls := "HomesQueueModel", name := "keeps", desc := "()V" } : Jvm.MethodName)) ∈ lw_all := lw_g (lw_at lw_m10 237 rfl) rfl
theorem q2571 : (Jvm.Cond.privateMethod ({ cls := "HomesQueueModel", name := "keeps", desc := "()V" } : Jvm.MethodName)) ∈ lw_tbl := lw_at lw_m10 238 rfl
theorem q2572 : (Jvm.Cond.instanceMethod ({ cls := "HomesQueueModel", name := "keeps", desc := "()V" } : Jvm.MethodName)) ∈ lw_all := lw_g (lw_at lw_m10 239 rfl) rfl
theorem q2573 : (Jvm.Cond.code ({ cls := "HomesQueueModel", name := "keeps", desc := "()V" } : Jvm.MethodName) prog_15_method_121_code (2 : Nat) (Option.none : Option Jvm.ClassFile.FieldType)) ∈ lw_all := lw_g (lw_at lw_m11 0 rfl) rfl
theorem q2575 : (Jvm.Cond.instanceMethod ({ cls := "HomesQueueModel", name := "unbid", desc := "(II)I" } : Jvm.MethodName)) ∈ lw_all := lw_g (lw_at lw_m11 2 rfl) rfl
theorem q2576 : (Jvm.Cond.selects "HomesQueueModel" ({ cls := "HomesQueueModel", name := "unbid", desc := "(II)I" } : Jvm.MethodName) ({ cls := "HomesQueueModel", name := "unbid", desc := "(II)I" } : Jvm.MethodName)) ∈ lw_all := lw_g (lw_at lw_m11 3 rfl) rfl
theorem q2577 : (Jvm.Cond.code ({ cls := "HomesQueueModel", name := "unbid", desc := "(II)I" } : Jvm.MethodName) prog_15_method_124_code (3 : Nat) (Option.some Jvm.ClassFile.FieldType.int)) ∈ lw_all := lw_g (lw_at lw_m11 4 rfl) rfl
theorem q2579 : (Jvm.Cond.instanceMethod ({ cls := "HomesQueueModel", name := "auto", desc := "()I" } : Jvm.MethodName)) ∈ lw_all := lw_g (lw_at lw_m11 6 rfl) rfl
theorem q2580 : (Jvm.Cond.selects "HomesQueueModel" ({ cls := "HomesQueueModel", name := "auto", desc := "()I" } : Jvm.MethodName) ({ cls := "HomesQueueModel", name := "auto", desc := "()I" } : Jvm.MethodName)) ∈ lw_all := lw_g (lw_at lw_m11 7 rfl) rfl
theorem q2581 : (Jvm.Cond.code ({ cls := "HomesQueueModel", name := "auto", desc := "()I" } : Jvm.MethodName) prog_15_method_125_code (2 : Nat) (Option.some Jvm.ClassFile.FieldType.int)) ∈ lw_all := lw_g (lw_at lw_m11 8 rfl) rfl
theorem q2583 : (Jvm.Cond.instanceMethod ({ cls := "HomesQueueModel", name := "week", desc := "()I" } : Jvm.MethodName)) ∈ lw_all := lw_g (lw_at lw_m11 10 rfl) rfl
theorem q2584 : (Jvm.Cond.selects "HomesQueueModel" ({ cls := "HomesQueueModel", name := "week", desc := "()I" } : Jvm.MethodName) ({ cls := "HomesQueueModel", name := "week", desc := "()I" } : Jvm.MethodName)) ∈ lw_all := lw_g (lw_at lw_m11 11 rfl) rfl
theorem q2585 : (Jvm.Cond.code ({ cls := "HomesQueueModel", name := "week", desc := "()I" } : Jvm.MethodName) prog_15_method_126_code (1 : Nat) (Option.some Jvm.ClassFile.FieldType.int)) ∈ lw_all := lw_g (lw_at lw_m11 12 rfl) rfl
theorem q2587 : (Jvm.Cond.instanceMethod ({ cls := "HomesQueueModel", name := "wish", desc := "(II)I" } : Jvm.MethodName)) ∈ lw_all := lw_g (lw_at lw_m11 14 rfl) rfl
theorem q2588 : (Jvm.Cond.selects "HomesQueueModel" ({ cls := "HomesQueueModel", name := "wish", desc := "(II)I" } : Jvm.MethodName) ({ cls := "HomesQueueModel", name := "wish", desc := "(II)I" } : Jvm.MethodName)) ∈ lw_all := lw_g (lw_at lw_m11 15 rfl) rfl
theorem q2589 : (Jvm.Cond.code ({ cls := "HomesQueueModel", name := "wish", desc := "(II)I" } : Jvm.MethodName) prog_15_method_127_code (4 : Nat) (Option.some Jvm.ClassFile.FieldType.int)) ∈ lw_all := lw_g (lw_at lw_m11 16 rfl) rfl
theorem q2591 : (Jvm.Cond.instanceMethod ({ cls := "HomesQueueModel", name := "unwish", desc := "(II)I" } : Jvm.MethodName)) ∈ lw_all := lw_g (lw_at lw_m11 18 rfl) rfl
theorem q2592 : (Jvm.Cond.selects "HomesQueueModel" ({ cls := "HomesQueueModel", name := "unwish", desc := "(II)I" } : Jvm.MethodName) ({ cls := "HomesQueueModel", name := "unwish", desc := "(II)I" } : Jvm.MethodName)) ∈ lw_all := lw_g (lw_at lw_m11 19 rfl) rfl
theorem q2593 : (Jvm.Cond.code ({ cls := "HomesQueueModel", name := "unwish", desc := "(II)I" } : Jvm.MethodName) prog_15_method_128_code (6 : Nat) (Option.some Jvm.ClassFile.FieldType.int)) ∈ lw_all := lw_g (lw_at lw_m11 20 rfl) rfl
theorem q2595 : (Jvm.Cond.instanceMethod ({ cls := "HomesQueueModel", name := "leave", desc := "(I)I" } : Jvm.MethodName)) ∈ lw_all := lw_g (lw_at lw_m11 22 rfl) rfl
theorem q2596 : (Jvm.Cond.selects "HomesQueueModel" ({ cls := "HomesQueueModel", name := "leave", desc := "(I)I" } : Jvm.MethodName) ({ cls := "HomesQueueModel", name := "leave", desc := "(I)I" } : Jvm.MethodName)) ∈ lw_all := lw_g (lw_at lw_m11 23 rfl) rfl
theorem q2597 : (Jvm.Cond.code ({ cls := "HomesQueueModel", name := "leave", desc := "(I)I" } : Jvm.MethodName) prog_15_method_129_code (2 : Nat) (Option.some Jvm.ClassFile.FieldType.int)) ∈ lw_all := lw_g (lw_at lw_m11 24 rfl) rfl
theorem q2599 : (Jvm.Cond.instanceMethod ({ cls := "HomesQueueModel", name := "shut", desc := "(IZ)I" } : Jvm.MethodName)) ∈ lw_all := lw_g (lw_at lw_m11 26 rfl) rfl
theorem q2600 : (Jvm.Cond.selects "HomesQueueModel" ({ cls := "HomesQueueModel", name := "shut", desc := "(IZ)I" } : Jvm.MethodName) ({ cls := "HomesQueueModel", name := "shut", desc := "(IZ)I" } : Jvm.MethodName)) ∈ lw_all := lw_g (lw_at lw_m11 27 rfl) rfl
theorem q2601 : (Jvm.Cond.code ({ cls := "HomesQueueModel", name := "shut", desc := "(IZ)I" } : Jvm.MethodName) prog_15_method_131_code (4 : Nat) (Option.some Jvm.ClassFile.FieldType.int)) ∈ lw_all := lw_g (lw_at lw_m11 28 rfl) rfl
theorem q2602 : (Jvm.Cond.methodLink "HomesQueueModel" (392 : Nat) ({ cls := "HomesQueueModel", name := "dropsBid", desc := "(II)V" } : Jvm.MethodName)) ∈ lw_all := lw_g (lw_at lw_m11 29 rfl) rfl
theorem q2603 : (Jvm.Cond.privateMethod ({ cls := "HomesQueueModel", name := "dropsBid", desc := "(II)V" } : Jvm.MethodName)) ∈ lw_tbl := lw_at lw_m11 30 rfl
theorem q2604 : (Jvm.Cond.instanceMethod ({ cls := "HomesQueueModel", name := "dropsBid", desc := "(II)V" } : Jvm.MethodName)) ∈ lw_all := lw_g (lw_at lw_m11 31 rfl) rfl
theorem q2605 : (Jvm.Cond.code ({ cls := "HomesQueueModel", name := "dropsBid", desc := "(II)V" } : Jvm.MethodName) prog_15_method_130_code (3 : Nat) (Option.none : Option Jvm.ClassFile.FieldType)) ∈ lw_all := lw_g (lw_at lw_m11 32 rfl) rfl
theorem q2607 : (Jvm.Cond.instanceMethod ({ cls := "HomesQueueModel", name := "need", desc := "(II)I" } : Jvm.MethodName)) ∈ lw_all := lw_g (lw_at lw_m11 34 rfl) rfl
theorem q2608 : (Jvm.Cond.selects "HomesQueueModel" ({ cls := "HomesQueueModel", name := "need", desc := "(II)I" } : Jvm.MethodName) ({ cls := "HomesQueueModel", name := "need", desc := "(II)I" } : Jvm.MethodName)) ∈ lw_all := lw_g (lw_at lw_m11 35 rfl) rfl
theorem q2609 : (Jvm.Cond.code ({ cls := "HomesQueueModel", name := "need", desc := "(II)I" } : Jvm.MethodName) prog_15_method_132_code (5 : Nat) (Option.some Jvm.ClassFile.FieldType.int)) ∈ lw_all := lw_g (lw_at lw_m11 36 rfl) rfl
theorem q2611 : (Jvm.Cond.instanceMethod ({ cls := "HomesQueueModel", name := "rules", desc := "(II)I" } : Jvm.MethodName)) ∈ lw_all := lw_g (lw_at lw_m11 38 rfl) rfl
theorem q2612 : (Jvm.Cond.selects "HomesQueueModel" ({ cls := "HomesQueueModel", name := "rules", desc := "(II)I" } : Jvm.MethodName) ({ cls := "HomesQueueModel", name := "rules", desc := "(II)I" } : Jvm.MethodName)) ∈ lw_all := lw_g (lw_at lw_m11 39 rfl) rfl
theorem q2613 : (Jvm.Cond.code ({ cls := "HomesQueueModel", name := "rules", desc := "(II)I" } : Jvm.MethodName) prog_15_method_133_code (4 : Nat) (Option.some Jvm.ClassFile.FieldType.int)) ∈ lw_all := lw_g (lw_at lw_m11 40 rfl) rfl
theorem q2615 : (Jvm.Cond.instanceMethod ({ cls := "HomesQueueModel", name := "print", desc := "()I" } : Jvm.MethodName)) ∈ lw_all := lw_g (lw_at lw_m11 42 rfl) rfl
theorem q2616 : (Jvm.Cond.selects "HomesQueueModel" ({ cls := "HomesQueueModel", name := "print", desc := "()I" } : Jvm.MethodName) ({ cls := "HomesQueueModel", name := "print", desc := "()I" } : Jvm.MethodName)) ∈ lw_all := lw_g (lw_at lw_m11 43 rfl) rfl
theorem q2617 : (Jvm.Cond.code ({ cls := "HomesQueueModel", name := "print", desc := "()I" } : Jvm.MethodName) prog_15_method_140_code (2 : Nat) (Option.some Jvm.ClassFile.FieldType.int)) ∈ lw_all := lw_g (lw_at lw_m11 44 rfl) rfl
theorem q2618 : (Jvm.Cond.methodLink "HomesQueueModel" (403 : Nat) ({ cls := "HomesQueueModel", name := "printsWord", desc := "(J)V" } : Jvm.MethodName)) ∈ lw_all := lw_g (lw_at lw_m11 45 rfl) rfl
theorem q2619 : (Jvm.Cond.privateMethod ({ cls := "HomesQueueModel", name := "printsWord", desc := "(J)V" } : Jvm.MethodName)) ∈ lw_tbl := lw_at lw_m11 46 rfl
theorem q2620 : (Jvm.Cond.instanceMethod ({ cls := "HomesQueueModel", name := "printsWord", desc := "(J)V" } : Jvm.MethodName)) ∈ lw_all := lw_g (lw_at lw_m11 47 rfl) rfl
theorem q2621 : (Jvm.Cond.code ({ cls := "HomesQueueModel", name := "printsWord", desc := "(J)V" } : Jvm.MethodName) prog_15_method_135_code (4 : Nat) (Option.none : Option Jvm.ClassFile.FieldType)) ∈ lw_all := lw_g (lw_at lw_m11 48 rfl) rfl
theorem q2622 : (Jvm.Cond.constantLong "HomesQueueModel" (398 : Nat) (31 : Int64)) ∈ lw_all := lw_g (lw_at lw_m11 49 rfl) rfl
theorem q2623 : (Jvm.Cond.methodLink "HomesQueueModel" (400 : Nat) ({ cls := "HomesQueueModel", name := "prints", desc := "(I)V" } : Jvm.MethodName)) ∈ lw_all := lw_g (lw_at lw_m11 50 rfl) rfl
theorem q2624 : (Jvm.Cond.privateMethod ({ cls := "HomesQueueModel", name := "prints", desc := "(I)V" } : Jvm.MethodName)) ∈ lw_tbl := lw_at lw_m11 51 rfl
theorem q2625 : (Jvm.Cond.instanceMethod ({ cls := "HomesQueueModel", name := "prints", desc := "(I)V" } : Jvm.MethodName)) ∈ lw_all := lw_g (lw_at lw_m11 52 rfl) rfl
theorem q2626 : (Jvm.Cond.code ({ cls := "HomesQueueModel", name := "prints", desc := "(I)V" } : Jvm.MethodName) prog_15_method_134_code (2 : Nat) (Option.none : Option Jvm.ClassFile.FieldType)) ∈ lw_all := lw_g (lw_at lw_m11 53 rfl) rfl
theorem q2627 : (Jvm.Cond.methodLink "HomesQueueModel" (410 : Nat) ({ cls := "HomesQueueModel", name := "printsNumber", desc := "(I)V" } : Jvm.MethodName)) ∈ lw_all := lw_g (lw_at lw_m11 54 rfl) rfl
theorem q2628 : (Jvm.Cond.privateMethod ({ cls := "HomesQueueModel", name := "printsNumber", desc := "(I)V" } : Jvm.MethodName)) ∈ lw_tbl := lw_at lw_m11 55 rfl
theorem q2629 : (Jvm.Cond.instanceMethod ({ cls := "HomesQueueModel", name := "printsNumber", desc := "(I)V" } : Jvm.MethodName)) ∈ lw_all := lw_g (lw_at lw_m11 56 rfl) rfl
theorem q2630 : (Jvm.Cond.code ({ cls := "HomesQueueModel", name := "printsNumber", desc := "(I)V" } : Jvm.MethodName) prog_15_method_137_code (2 : Nat) (Option.none : Option Jvm.ClassFile.FieldType)) ∈ lw_all := lw_g (lw_at lw_m11 57 rfl) rfl
theorem q2631 : (Jvm.Cond.methodLink "HomesQueueModel" (413 : Nat) ({ cls := "HomesQueueModel", name := "isTold", desc := "(I)Z" } : Jvm.MethodName)) ∈ lw_all := lw_g (lw_at lw_m11 58 rfl) rfl
theorem q2632 : (Jvm.Cond.privateMethod ({ cls := "HomesQueueModel", name := "isTold", desc := "(I)Z" } : Jvm.MethodName)) ∈ lw_tbl := lw_at lw_m11 59 rfl
theorem q2633 : (Jvm.Cond.instanceMethod ({ cls := "HomesQueueModel", name := "isTold", desc := "(I)Z" } : Jvm.MethodName)) ∈ lw_all := lw_g (lw_at lw_m11 60 rfl) rfl
theorem q2634 : (Jvm.Cond.code ({ cls := "HomesQueueModel", name := "isTold", desc := "(I)Z" } : Jvm.MethodName) prog_15_method_138_code (2 : Nat) (Option.some Jvm.ClassFile.FieldType.boolean)) ∈ lw_all := lw_g (lw_at lw_m11 61 rfl) rfl
theorem q2635 : (Jvm.Cond.methodLink "HomesQueueModel" (407 : Nat) ({ cls := "HomesQueueModel", name := "printsNamed", desc := "(I)V" } : Jvm.MethodName)) ∈ lw_all := lw_g (lw_at lw_m11 62 rfl) rfl
theorem q2636 : (Jvm.Cond.privateMethod ({ cls := "HomesQueueModel", name := "printsNamed", desc := "(I)V" } : Jvm.MethodName)) ∈ lw_tbl := lw_at lw_m11 63 rfl
theorem q2637 : (Jvm.Cond.instanceMethod ({ cls := "HomesQueueModel", name := "printsNamed", desc := "(I)V" } : Jvm.MethodName)) ∈ lw_all := lw_g (lw_at lw_m11 64 rfl) rfl
theorem q2638 : (Jvm.Cond.code ({ cls := "HomesQueueModel", name := "printsNamed", desc := "(I)V" } : Jvm.MethodName) prog_15_method_136_code (2 : Nat) (Option.none : Option Jvm.ClassFile.FieldType)) ∈ lw_all := lw_g (lw_at lw_m11 65 rfl) rfl
theorem q2639 : (Jvm.Cond.methodLink "HomesQueueModel" (416 : Nat) ({ cls := "HomesQueueModel", name := "printsHouse", desc := "(I)V" } : Jvm.MethodName)) ∈ lw_all := lw_g (lw_at lw_m11 66 rfl) rfl
theorem q2640 : (Jvm.Cond.privateMethod ({ cls := "HomesQueueModel", name := "printsHouse", desc := "(I)V" } : Jvm.MethodName)) ∈ lw_tbl := lw_at lw_m11 67 rfl
theorem q2641 : (Jvm.Cond.instanceMethod ({ cls := "HomesQueueModel", name := "printsHouse", desc := "(I)V" } : Jvm.MethodName)) ∈ lw_all := lw_g (lw_at lw_m11 68 rfl) rfl
theorem q2642 : (Jvm.Cond.code ({ cls := "HomesQueueModel", name := "printsHouse", desc := "(I)V" } : Jvm.MethodName) prog_15_method_139_code (3 : Nat) (Option.none : Option Jvm.ClassFile.FieldType)) ∈ lw_all := lw_g (lw_at lw_m11 69 rfl) rfl
theorem q2644 : (Jvm.Cond.instanceMethod ({ cls := "HomesQueueModel", name := "out", desc := "(I)I" } : Jvm.MethodName)) ∈ lw_all := lw_g (lw_at lw_m11 71 rfl) rfl
theorem q2645 : (Jvm.Cond.selects "HomesQueueModel" ({ cls := "HomesQueueModel", name := "out", desc := "(I)I" } : Jvm.MethodName) ({ cls := "HomesQueueModel", name := "out", desc := "(I)I" } : Jvm.MethodName)) ∈ lw_all := lw_g (lw_at lw_m11 72 rfl) rfl
theorem q2646 : (Jvm.Cond.code ({ cls := "HomesQueueModel", name := "out", desc := "(I)I" } : Jvm.MethodName) prog_15_method_141_code (2 : Nat) (Option.some Jvm.ClassFile.FieldType.int)) ∈ lw_all := lw_g (lw_at lw_m11 73 rfl) rfl
theorem q2668 : (Jvm.Cond.castable "HomesQueueModel" "java/lang/Object") ∈ lw_tbl := lw_at lw_m11 95 rfl
theorem in_X3 : ∀ w ∈ wsX30, w ∈ lw_all := lw_in wsX30 [2028, 2030, 2032, 2034, 2036, 2038, 2040, 2042, 2044, 2046, 2048, 2050, 2052, 2054, 2056, 2058, 2060, 2062, 2064, 2066, 2068, 2070, 2072, 2074, 2076, 2078, 2080, 2082, 2084, 2086, 2088, 2090, 2092] (by decide +kernel) (by decide +kernel)

theorem q227 : (Jvm.Cond.arrayOver (Jvm.ClassFile.FieldType.object "java/lang/Object")) ∈ lw_tbl := lw_at lw_m1 54 rfl
set_option maxRecDepth 100000
theorem q259 : (Jvm.Cond.arrayOver (Jvm.ClassFile.FieldType.object "HomesQueue$Check")) ∈ lw_tbl := lw_at lw_m1 86 rfl
theorem q331 : (Jvm.Cond.arrayOver (Jvm.ClassFile.FieldType.object "HomesQueue$Step")) ∈ lw_tbl := lw_at lw_m1 158 rfl
theorem q535 : (Jvm.Cond.arrayClass Jvm.ClassFile.FieldType.int) ∈ lw_all := lw_g (lw_at lw_m2 122 rfl) rfl
theorem q536 : (Jvm.Cond.arrayClass Jvm.ClassFile.FieldType.boolean) ∈ lw_all := lw_g (lw_at lw_m2 123 rfl) rfl
theorem q538 : (Jvm.Cond.arrayOver (Jvm.ClassFile.FieldType.object "java/lang/String")) ∈ lw_tbl := lw_at lw_m2 125 rfl
theorem q581 : (Jvm.Cond.arrayClass Jvm.ClassFile.FieldType.byte) ∈ lw_all := lw_g (lw_at lw_m2 168 rfl) rfl
theorem q1381 : (Jvm.Cond.arrayOver (Jvm.ClassFile.FieldType.array Jvm.ClassFile.FieldType.int)) ∈ lw_tbl := lw_at lw_m6 8 rfl
theorem q2095 : (Jvm.Cond.arrayClass Jvm.ClassFile.FieldType.long) ∈ lw_all := lw_g (lw_at lw_m9 2 rfl) rfl

