/-! DECODE ROWS BY BYTES: one lemma an opcode; a method's code is cut into short pieces once, and a row reads its own piece alone. -/
set_option maxRecDepth 100000
/-- the code has just these bytes from pc on -/
def DkAt (code : ByteArray) (pc : Nat) (bs : List UInt8) : Prop := ∀ (j : Nat) (b : UInt8), bs[j]? = some b → code.data.toList[pc + j]? = some b
/-- the piece W has the bytes bs from its place j on -/
def dkIn (W : List UInt8) (j : Nat) (bs : List UInt8) : Bool := decide ((W.drop j).take bs.length = bs)
theorem dk_seg {l W T : List UInt8} {o o2 : Nat} (h : l.drop o = W ++ T) (n : Nat) (hn : W.length = n) (ho : o + n = o2) : l.drop o2 = T := by
  subst ho
  rw [← List.drop_drop, h, List.drop_left' hn]
theorem dk_at {code : ByteArray} {W T bs : List UInt8} {o pc : Nat} (h : code.data.toList.drop o = W ++ T) (j : Nat) (hp : o + j = pc) (hw : dkIn W j bs = true) : DkAt code pc bs := by
  subst hp
  intro i b e
  have h1 := of_decide_eq_true hw
  have h2 : i < bs.length := (List.getElem?_eq_some_iff.mp e).1
  have h3 : W[j + i]? = some b := by
    rw [← h1, List.getElem?_take, if_pos h2, List.getElem?_drop] at e
    exact e
  have h4 : j + i < W.length := (List.getElem?_eq_some_iff.mp h3).1
  have h5 : (code.data.toList.drop o)[j + i]? = some b := by
    rw [h, List.getElem?_append_left h4]
    exact h3
  rw [List.getElem?_drop, ← Nat.add_assoc] at h5
  exact h5
theorem dk_u1 {A : ByteArray} {p : Nat} {b : UInt8} (h : A.data.toList[p]? = some b) : (Reader.u1 : Reader DecodeError Nat) A p = .ok (b.toNat, p + 1) := by
  obtain ⟨h1, h2⟩ := List.getElem?_eq_some_iff.mp h
  have h3 : p < A.size := by simpa using h1
  have h4 : A[p]'h3 = b := h2
  have e : (Reader.u1 : Reader DecodeError Nat) A p = (if h : p < A.size then .ok (A[p].toNat, p + 1) else .error (HasTruncated.truncated p)) := by
    show (do if h : p < A.size then do set (p + 1); Pure.pure A[p].toNat else MonadExcept.throw (HasTruncated.truncated p) : Reader DecodeError Nat) A p = _
    by_cases hi : p < A.size
    · rw [dif_pos hi, dif_pos hi]; rfl
    · rw [dif_neg hi, dif_neg hi]; rfl
  rw [e, dif_pos h3, h4]
theorem dk_bind {α β : Type} {r : Reader DecodeError α} {f : α → Reader DecodeError β} {A : ByteArray} {p s : Nat} {a : α} (h : r A p = .ok (a, s)) : (r >>= f) A p = f a A s := by
  show (do let (a, s) ← r A p; f a A s : Except DecodeError (β × Nat)) = _
  rw [h]
  rfl
theorem dk_map {α β : Type} {r : Reader DecodeError α} {g : α → β} {A : ByteArray} {p s : Nat} {a : α} (h : r A p = .ok (a, s)) : (g <$> r) A p = .ok (g a, s) := by
  show (do let (a, s) ← r A p; .ok (g a, s) : Except DecodeError (β × Nat)) = _
  rw [h]
  rfl
theorem dk_u2 {A : ByteArray} {p : Nat} {a b : UInt8} (h : A.data.toList[p]? = some a) (h2 : A.data.toList[p + 1]? = some b) : (Reader.u2 : Reader DecodeError Nat) A p = .ok (a.toNat * 256 + b.toNat, p + 2) := by
  show (Reader.u1 >>= fun hi => Reader.u1 >>= fun lo => Pure.pure (hi * 256 + lo) : Reader DecodeError Nat) A p = _
  rw [dk_bind (dk_u1 h), dk_bind (dk_u1 h2)]
  rfl
theorem dk_of {code : ByteArray} {pc n : Nat} {i : Instr} (h : Decoder.instr pc code pc = .ok (i, pc + n)) : decode code pc = .ok (i, n) := by
  have e : decode code pc = (match Decoder.instr pc code pc with | .error x => .error x | .ok (j, s) => .ok (j, s - pc)) := by
    show (do let (j, s) ← Decoder.instr pc code pc; Pure.pure (j, s - pc) : Except DecodeError (Instr × Nat)) = _
    cases Decoder.instr pc code pc <;> rfl
  rw [e, h]
  show Except.ok (i, pc + n - pc) = _
  rw [Nat.add_sub_cancel_left]
theorem dk_1 {code : ByteArray} {pc : Nat} (h : DkAt code pc [1]) : decode code pc = .ok (.aconst_null, 1) := dk_of ((dk_bind (dk_u1 (h 0 _ rfl))).trans rfl)
theorem dk_2 {code : ByteArray} {pc : Nat} (h : DkAt code pc [2]) : decode code pc = .ok (.iconst (-1), 1) := dk_of ((dk_bind (dk_u1 (h 0 _ rfl))).trans rfl)
theorem dk_3 {code : ByteArray} {pc : Nat} (h : DkAt code pc [3]) : decode code pc = .ok (.iconst 0, 1) := dk_of ((dk_bind (dk_u1 (h 0 _ rfl))).trans rfl)
theorem dk_4 {code : ByteArray} {pc : Nat} (h : DkAt code pc [4]) : decode code pc = .ok (.iconst 1, 1) := dk_of ((dk_bind (dk_u1 (h 0 _ rfl))).trans rfl)
theorem dk_5 {code : ByteArray} {pc : Nat} (h : DkAt code pc [5]) : decode code pc = .ok (.iconst 2, 1) := dk_of ((dk_bind (dk_u1 (h 0 _ rfl))).trans rfl)
theorem dk_6 {code : ByteArray} {pc : Nat} (h : DkAt code pc [6]) : decode code pc = .ok (.iconst 3, 1) := dk_of ((dk_bind (dk_u1 (h 0 _ rfl))).trans rfl)
theorem dk_7 {code : ByteArray} {pc : Nat} (h : DkAt code pc [7]) : decode code pc = .ok (.iconst 4, 1) := dk_of ((dk_bind (dk_u1 (h 0 _ rfl))).trans rfl)
theorem dk_8 {code : ByteArray} {pc : Nat} (h : DkAt code pc [8]) : decode code pc = .ok (.iconst 5, 1) := dk_of ((dk_bind (dk_u1 (h 0 _ rfl))).trans rfl)
theorem dk_9 {code : ByteArray} {pc : Nat} (h : DkAt code pc [9]) : decode code pc = .ok (.lconst 0, 1) := dk_of ((dk_bind (dk_u1 (h 0 _ rfl))).trans rfl)
theorem dk_10 {code : ByteArray} {pc : Nat} (h : DkAt code pc [10]) : decode code pc = .ok (.lconst 1, 1) := dk_of ((dk_bind (dk_u1 (h 0 _ rfl))).trans rfl)
theorem dk_16 {code : ByteArray} {pc : Nat} (a : UInt8) (h : DkAt code pc [16, a]) : decode code pc = .ok (.bipush (Reader.signed 8 a.toNat), 2) := dk_of ((dk_bind (dk_u1 (h 0 _ rfl))).trans ((dk_bind (dk_map (dk_u1 (h 1 _ rfl)))).trans rfl))
theorem dk_17 {code : ByteArray} {pc : Nat} (a b : UInt8) (h : DkAt code pc [17, a, b]) : decode code pc = .ok (.sipush (Reader.signed 16 (a.toNat * 256 + b.toNat)), 3) := dk_of ((dk_bind (dk_u1 (h 0 _ rfl))).trans ((dk_bind (dk_map (dk_u2 (h 1 _ rfl) (h 2 _ rfl)))).trans rfl))
theorem dk_18 {code : ByteArray} {pc : Nat} (a : UInt8) (h : DkAt code pc [18, a]) : decode code pc = .ok (.ldc a.toNat, 2) := dk_of ((dk_bind (dk_u1 (h 0 _ rfl))).trans ((dk_bind (dk_u1 (h 1 _ rfl))).trans rfl))
theorem dk_19 {code : ByteArray} {pc : Nat} (a b : UInt8) (h : DkAt code pc [19, a, b]) : decode code pc = .ok (.ldc_w (a.toNat * 256 + b.toNat), 3) := dk_of ((dk_bind (dk_u1 (h 0 _ rfl))).trans ((dk_bind (dk_u2 (h 1 _ rfl) (h 2 _ rfl))).trans rfl))
theorem dk_20 {code : ByteArray} {pc : Nat} (a b : UInt8) (h : DkAt code pc [20, a, b]) : decode code pc = .ok (.ldc2_w (a.toNat * 256 + b.toNat), 3) := dk_of ((dk_bind (dk_u1 (h 0 _ rfl))).trans ((dk_bind (dk_u2 (h 1 _ rfl) (h 2 _ rfl))).trans rfl))
theorem dk_21 {code : ByteArray} {pc : Nat} (a : UInt8) (h : DkAt code pc [21, a]) : decode code pc = .ok (.iload a.toNat, 2) := dk_of ((dk_bind (dk_u1 (h 0 _ rfl))).trans ((dk_bind (dk_u1 (h 1 _ rfl))).trans rfl))
theorem dk_22 {code : ByteArray} {pc : Nat} (a : UInt8) (h : DkAt code pc [22, a]) : decode code pc = .ok (.lload a.toNat, 2) := dk_of ((dk_bind (dk_u1 (h 0 _ rfl))).trans ((dk_bind (dk_u1 (h 1 _ rfl))).trans rfl))
theorem dk_25 {code : ByteArray} {pc : Nat} (a : UInt8) (h : DkAt code pc [25, a]) : decode code pc = .ok (.aload a.toNat, 2) := dk_of ((dk_bind (dk_u1 (h 0 _ rfl))).trans ((dk_bind (dk_u1 (h 1 _ rfl))).trans rfl))
theorem dk_26 {code : ByteArray} {pc : Nat} (h : DkAt code pc [26]) : decode code pc = .ok (.iload_n 0, 1) := dk_of ((dk_bind (dk_u1 (h 0 _ rfl))).trans rfl)
theorem dk_27 {code : ByteArray} {pc : Nat} (h : DkAt code pc [27]) : decode code pc = .ok (.iload_n 1, 1) := dk_of ((dk_bind (dk_u1 (h 0 _ rfl))).trans rfl)
theorem dk_28 {code : ByteArray} {pc : Nat} (h : DkAt code pc [28]) : decode code pc = .ok (.iload_n 2, 1) := dk_of ((dk_bind (dk_u1 (h 0 _ rfl))).trans rfl)
theorem dk_29 {code : ByteArray} {pc : Nat} (h : DkAt code pc [29]) : decode code pc = .ok (.iload_n 3, 1) := dk_of ((dk_bind (dk_u1 (h 0 _ rfl))).trans rfl)
theorem dk_30 {code : ByteArray} {pc : Nat} (h : DkAt code pc [30]) : decode code pc = .ok (.lload_n 0, 1) := dk_of ((dk_bind (dk_u1 (h 0 _ rfl))).trans rfl)
theorem dk_32 {code : ByteArray} {pc : Nat} (h : DkAt code pc [32]) : decode code pc = .ok (.lload_n 2, 1) := dk_of ((dk_bind (dk_u1 (h 0 _ rfl))).trans rfl)
theorem dk_33 {code : ByteArray} {pc : Nat} (h : DkAt code pc [33]) : decode code pc = .ok (.lload_n 3, 1) := dk_of ((dk_bind (dk_u1 (h 0 _ rfl))).trans rfl)
theorem dk_42 {code : ByteArray} {pc : Nat} (h : DkAt code pc [42]) : decode code pc = .ok (.aload_n 0, 1) := dk_of ((dk_bind (dk_u1 (h 0 _ rfl))).trans rfl)
theorem dk_43 {code : ByteArray} {pc : Nat} (h : DkAt code pc [43]) : decode code pc = .ok (.aload_n 1, 1) := dk_of ((dk_bind (dk_u1 (h 0 _ rfl))).trans rfl)
theorem dk_44 {code : ByteArray} {pc : Nat} (h : DkAt code pc [44]) : decode code pc = .ok (.aload_n 2, 1) := dk_of ((dk_bind (dk_u1 (h 0 _ rfl))).trans rfl)
theorem dk_45 {code : ByteArray} {pc : Nat} (h : DkAt code pc [45]) : decode code pc = .ok (.aload_n 3, 1) := dk_of ((dk_bind (dk_u1 (h 0 _ rfl))).trans rfl)
theorem dk_46 {code : ByteArray} {pc : Nat} (h : DkAt code pc [46]) : decode code pc = .ok (.iaload, 1) := dk_of ((dk_bind (dk_u1 (h 0 _ rfl))).trans rfl)
theorem dk_47 {code : ByteArray} {pc : Nat} (h : DkAt code pc [47]) : decode code pc = .ok (.laload, 1) := dk_of ((dk_bind (dk_u1 (h 0 _ rfl))).trans rfl)
theorem dk_50 {code : ByteArray} {pc : Nat} (h : DkAt code pc [50]) : decode code pc = .ok (.aaload, 1) := dk_of ((dk_bind (dk_u1 (h 0 _ rfl))).trans rfl)
theorem dk_51 {code : ByteArray} {pc : Nat} (h : DkAt code pc [51]) : decode code pc = .ok (.baload, 1) := dk_of ((dk_bind (dk_u1 (h 0 _ rfl))).trans rfl)
theorem dk_54 {code : ByteArray} {pc : Nat} (a : UInt8) (h : DkAt code pc [54, a]) : decode code pc = .ok (.istore a.toNat, 2) := dk_of ((dk_bind (dk_u1 (h 0 _ rfl))).trans ((dk_bind (dk_u1 (h 1 _ rfl))).trans rfl))
theorem dk_55 {code : ByteArray} {pc : Nat} (a : UInt8) (h : DkAt code pc [55, a]) : decode code pc = .ok (.lstore a.toNat, 2) := dk_of ((dk_bind (dk_u1 (h 0 _ rfl))).trans ((dk_bind (dk_u1 (h 1 _ rfl))).trans rfl))
theorem dk_58 {code : ByteArray} {pc : Nat} (a : UInt8) (h : DkAt code pc [58, a]) : decode code pc = .ok (.astore a.toNat, 2) := dk_of ((dk_bind (dk_u1 (h 0 _ rfl))).trans ((dk_bind (dk_u1 (h 1 _ rfl))).trans rfl))
theorem dk_59 {code : ByteArray} {pc : Nat} (h : DkAt code pc [59]) : decode code pc = .ok (.istore_n 0, 1) := dk_of ((dk_bind (dk_u1 (h 0 _ rfl))).trans rfl)
theorem dk_60 {code : ByteArray} {pc : Nat} (h : DkAt code pc [60]) : decode code pc = .ok (.istore_n 1, 1) := dk_of ((dk_bind (dk_u1 (h 0 _ rfl))).trans rfl)
theorem dk_61 {code : ByteArray} {pc : Nat} (h : DkAt code pc [61]) : decode code pc = .ok (.istore_n 2, 1) := dk_of ((dk_bind (dk_u1 (h 0 _ rfl))).trans rfl)
theorem dk_62 {code : ByteArray} {pc : Nat} (h : DkAt code pc [62]) : decode code pc = .ok (.istore_n 3, 1) := dk_of ((dk_bind (dk_u1 (h 0 _ rfl))).trans rfl)
theorem dk_76 {code : ByteArray} {pc : Nat} (h : DkAt code pc [76]) : decode code pc = .ok (.astore_n 1, 1) := dk_of ((dk_bind (dk_u1 (h 0 _ rfl))).trans rfl)
theorem dk_77 {code : ByteArray} {pc : Nat} (h : DkAt code pc [77]) : decode code pc = .ok (.astore_n 2, 1) := dk_of ((dk_bind (dk_u1 (h 0 _ rfl))).trans rfl)
theorem dk_78 {code : ByteArray} {pc : Nat} (h : DkAt code pc [78]) : decode code pc = .ok (.astore_n 3, 1) := dk_of ((dk_bind (dk_u1 (h 0 _ rfl))).trans rfl)
theorem dk_79 {code : ByteArray} {pc : Nat} (h : DkAt code pc [79]) : decode code pc = .ok (.iastore, 1) := dk_of ((dk_bind (dk_u1 (h 0 _ rfl))).trans rfl)
theorem dk_80 {code : ByteArray} {pc : Nat} (h : DkAt code pc [80]) : decode code pc = .ok (.lastore, 1) := dk_of ((dk_bind (dk_u1 (h 0 _ rfl))).trans rfl)
theorem dk_83 {code : ByteArray} {pc : Nat} (h : DkAt code pc [83]) : decode code pc = .ok (.aastore, 1) := dk_of ((dk_bind (dk_u1 (h 0 _ rfl))).trans rfl)
theorem dk_84 {code : ByteArray} {pc : Nat} (h : DkAt code pc [84]) : decode code pc = .ok (.bastore, 1) := dk_of ((dk_bind (dk_u1 (h 0 _ rfl))).trans rfl)
theorem dk_87 {code : ByteArray} {pc : Nat} (h : DkAt code pc [87]) : decode code pc = .ok (.pop, 1) := dk_of ((dk_bind (dk_u1 (h 0 _ rfl))).trans rfl)
theorem dk_89 {code : ByteArray} {pc : Nat} (h : DkAt code pc [89]) : decode code pc = .ok (.dup, 1) := dk_of ((dk_bind (dk_u1 (h 0 _ rfl))).trans rfl)
theorem dk_92 {code : ByteArray} {pc : Nat} (h : DkAt code pc [92]) : decode code pc = .ok (.dup2, 1) := dk_of ((dk_bind (dk_u1 (h 0 _ rfl))).trans rfl)
theorem dk_96 {code : ByteArray} {pc : Nat} (h : DkAt code pc [96]) : decode code pc = .ok (.iadd, 1) := dk_of ((dk_bind (dk_u1 (h 0 _ rfl))).trans rfl)
theorem dk_97 {code : ByteArray} {pc : Nat} (h : DkAt code pc [97]) : decode code pc = .ok (.ladd, 1) := dk_of ((dk_bind (dk_u1 (h 0 _ rfl))).trans rfl)
theorem dk_100 {code : ByteArray} {pc : Nat} (h : DkAt code pc [100]) : decode code pc = .ok (.isub, 1) := dk_of ((dk_bind (dk_u1 (h 0 _ rfl))).trans rfl)
theorem dk_101 {code : ByteArray} {pc : Nat} (h : DkAt code pc [101]) : decode code pc = .ok (.lsub, 1) := dk_of ((dk_bind (dk_u1 (h 0 _ rfl))).trans rfl)
theorem dk_104 {code : ByteArray} {pc : Nat} (h : DkAt code pc [104]) : decode code pc = .ok (.imul, 1) := dk_of ((dk_bind (dk_u1 (h 0 _ rfl))).trans rfl)
theorem dk_105 {code : ByteArray} {pc : Nat} (h : DkAt code pc [105]) : decode code pc = .ok (.lmul, 1) := dk_of ((dk_bind (dk_u1 (h 0 _ rfl))).trans rfl)
theorem dk_108 {code : ByteArray} {pc : Nat} (h : DkAt code pc [108]) : decode code pc = .ok (.idiv, 1) := dk_of ((dk_bind (dk_u1 (h 0 _ rfl))).trans rfl)
theorem dk_109 {code : ByteArray} {pc : Nat} (h : DkAt code pc [109]) : decode code pc = .ok (.ldiv, 1) := dk_of ((dk_bind (dk_u1 (h 0 _ rfl))).trans rfl)
theorem dk_112 {code : ByteArray} {pc : Nat} (h : DkAt code pc [112]) : decode code pc = .ok (.irem, 1) := dk_of ((dk_bind (dk_u1 (h 0 _ rfl))).trans rfl)
theorem dk_113 {code : ByteArray} {pc : Nat} (h : DkAt code pc [113]) : decode code pc = .ok (.lrem, 1) := dk_of ((dk_bind (dk_u1 (h 0 _ rfl))).trans rfl)
theorem dk_116 {code : ByteArray} {pc : Nat} (h : DkAt code pc [116]) : decode code pc = .ok (.ineg, 1) := dk_of ((dk_bind (dk_u1 (h 0 _ rfl))).trans rfl)
theorem dk_120 {code : ByteArray} {pc : Nat} (h : DkAt code pc [120]) : decode code pc = .ok (.ishl, 1) := dk_of ((dk_bind (dk_u1 (h 0 _ rfl))).trans rfl)
theorem dk_121 {code : ByteArray} {pc : Nat} (h : DkAt code pc [121]) : decode code pc = .ok (.lshl, 1) := dk_of ((dk_bind (dk_u1 (h 0 _ rfl))).trans rfl)
theorem dk_122 {code : ByteArray} {pc : Nat} (h : DkAt code pc [122]) : decode code pc = .ok (.ishr, 1) := dk_of ((dk_bind (dk_u1 (h 0 _ rfl))).trans rfl)
theorem dk_124 {code : ByteArray} {pc : Nat} (h : DkAt code pc [124]) : decode code pc = .ok (.iushr, 1) := dk_of ((dk_bind (dk_u1 (h 0 _ rfl))).trans rfl)
theorem dk_125 {code : ByteArray} {pc : Nat} (h : DkAt code pc [125]) : decode code pc = .ok (.lushr, 1) := dk_of ((dk_bind (dk_u1 (h 0 _ rfl))).trans rfl)
theorem dk_126 {code : ByteArray} {pc : Nat} (h : DkAt code pc [126]) : decode code pc = .ok (.iand, 1) := dk_of ((dk_bind (dk_u1 (h 0 _ rfl))).trans rfl)
theorem dk_127 {code : ByteArray} {pc : Nat} (h : DkAt code pc [127]) : decode code pc = .ok (.land, 1) := dk_of ((dk_bind (dk_u1 (h 0 _ rfl))).trans rfl)
theorem dk_128 {code : ByteArray} {pc : Nat} (h : DkAt code pc [128]) : decode code pc = .ok (.ior, 1) := dk_of ((dk_bind (dk_u1 (h 0 _ rfl))).trans rfl)
theorem dk_129 {code : ByteArray} {pc : Nat} (h : DkAt code pc [129]) : decode code pc = .ok (.lor, 1) := dk_of ((dk_bind (dk_u1 (h 0 _ rfl))).trans rfl)
theorem dk_130 {code : ByteArray} {pc : Nat} (h : DkAt code pc [130]) : decode code pc = .ok (.ixor, 1) := dk_of ((dk_bind (dk_u1 (h 0 _ rfl))).trans rfl)
theorem dk_132 {code : ByteArray} {pc : Nat} (a b : UInt8) (h : DkAt code pc [132, a, b]) : decode code pc = .ok (.iinc a.toNat (Reader.signed 8 b.toNat), 3) := dk_of ((dk_bind (dk_u1 (h 0 _ rfl))).trans ((dk_bind (dk_u1 (h 1 _ rfl))).trans ((dk_bind (dk_map (dk_u1 (h 2 _ rfl)))).trans rfl)))
theorem dk_133 {code : ByteArray} {pc : Nat} (h : DkAt code pc [133]) : decode code pc = .ok (.i2l, 1) := dk_of ((dk_bind (dk_u1 (h 0 _ rfl))).trans rfl)
theorem dk_136 {code : ByteArray} {pc : Nat} (h : DkAt code pc [136]) : decode code pc = .ok (.l2i, 1) := dk_of ((dk_bind (dk_u1 (h 0 _ rfl))).trans rfl)
theorem dk_145 {code : ByteArray} {pc : Nat} (h : DkAt code pc [145]) : decode code pc = .ok (.i2b, 1) := dk_of ((dk_bind (dk_u1 (h 0 _ rfl))).trans rfl)
theorem dk_148 {code : ByteArray} {pc : Nat} (h : DkAt code pc [148]) : decode code pc = .ok (.lcmp, 1) := dk_of ((dk_bind (dk_u1 (h 0 _ rfl))).trans rfl)
theorem dk_153 {code : ByteArray} {pc : Nat} (a b : UInt8) (h : DkAt code pc [153, a, b]) : decode code pc = .ok (.ifCond .eq (Reader.signed 16 (a.toNat * 256 + b.toNat)), 3) := dk_of ((dk_bind (dk_u1 (h 0 _ rfl))).trans ((dk_bind (dk_map (dk_u2 (h 1 _ rfl) (h 2 _ rfl)))).trans rfl))
theorem dk_154 {code : ByteArray} {pc : Nat} (a b : UInt8) (h : DkAt code pc [154, a, b]) : decode code pc = .ok (.ifCond .ne (Reader.signed 16 (a.toNat * 256 + b.toNat)), 3) := dk_of ((dk_bind (dk_u1 (h 0 _ rfl))).trans ((dk_bind (dk_map (dk_u2 (h 1 _ rfl) (h 2 _ rfl)))).trans rfl))
theorem dk_155 {code : ByteArray} {pc : Nat} (a b : UInt8) (h : DkAt code pc [155, a, b]) : decode code pc = .ok (.ifCond .lt (Reader.signed 16 (a.toNat * 256 + b.toNat)), 3) := dk_of ((dk_bind (dk_u1 (h 0 _ rfl))).trans ((dk_bind (dk_map (dk_u2 (h 1 _ rfl) (h 2 _ rfl)))).trans rfl))
theorem dk_156 {code : ByteArray} {pc : Nat} (a b : UInt8) (h : DkAt code pc [156, a, b]) : decode code pc = .ok (.ifCond .ge (Reader.signed 16 (a.toNat * 256 + b.toNat)), 3) := dk_of ((dk_bind (dk_u1 (h 0 _ rfl))).trans ((dk_bind (dk_map (dk_u2 (h 1 _ rfl) (h 2 _ rfl)))).trans rfl))
theorem dk_157 {code : ByteArray} {pc : Nat} (a b : UInt8) (h : DkAt code pc [157, a, b]) : decode code pc = .ok (.ifCond .gt (Reader.signed 16 (a.toNat * 256 + b.toNat)), 3) := dk_of ((dk_bind (dk_u1 (h 0 _ rfl))).trans ((dk_bind (dk_map (dk_u2 (h 1 _ rfl) (h 2 _ rfl)))).trans rfl))
theorem dk_158 {code : ByteArray} {pc : Nat} (a b : UInt8) (h : DkAt code pc [158, a, b]) : decode code pc = .ok (.ifCond .le (Reader.signed 16 (a.toNat * 256 + b.toNat)), 3) := dk_of ((dk_bind (dk_u1 (h 0 _ rfl))).trans ((dk_bind (dk_map (dk_u2 (h 1 _ rfl) (h 2 _ rfl)))).trans rfl))
theorem dk_159 {code : ByteArray} {pc : Nat} (a b : UInt8) (h : DkAt code pc [159, a, b]) : decode code pc = .ok (.if_icmp .eq (Reader.signed 16 (a.toNat * 256 + b.toNat)), 3) := dk_of ((dk_bind (dk_u1 (h 0 _ rfl))).trans ((dk_bind (dk_map (dk_u2 (h 1 _ rfl) (h 2 _ rfl)))).trans rfl))
theorem dk_160 {code : ByteArray} {pc : Nat} (a b : UInt8) (h : DkAt code pc [160, a, b]) : decode code pc = .ok (.if_icmp .ne (Reader.signed 16 (a.toNat * 256 + b.toNat)), 3) := dk_of ((dk_bind (dk_u1 (h 0 _ rfl))).trans ((dk_bind (dk_map (dk_u2 (h 1 _ rfl) (h 2 _ rfl)))).trans rfl))
theorem dk_161 {code : ByteArray} {pc : Nat} (a b : UInt8) (h : DkAt code pc [161, a, b]) : decode code pc = .ok (.if_icmp .lt (Reader.signed 16 (a.toNat * 256 + b.toNat)), 3) := dk_of ((dk_bind (dk_u1 (h 0 _ rfl))).trans ((dk_bind (dk_map (dk_u2 (h 1 _ rfl) (h 2 _ rfl)))).trans rfl))
theorem dk_162 {code : ByteArray} {pc : Nat} (a b : UInt8) (h : DkAt code pc [162, a, b]) : decode code pc = .ok (.if_icmp .ge (Reader.signed 16 (a.toNat * 256 + b.toNat)), 3) := dk_of ((dk_bind (dk_u1 (h 0 _ rfl))).trans ((dk_bind (dk_map (dk_u2 (h 1 _ rfl) (h 2 _ rfl)))).trans rfl))
theorem dk_163 {code : ByteArray} {pc : Nat} (a b : UInt8) (h : DkAt code pc [163, a, b]) : decode code pc = .ok (.if_icmp .gt (Reader.signed 16 (a.toNat * 256 + b.toNat)), 3) := dk_of ((dk_bind (dk_u1 (h 0 _ rfl))).trans ((dk_bind (dk_map (dk_u2 (h 1 _ rfl) (h 2 _ rfl)))).trans rfl))
theorem dk_164 {code : ByteArray} {pc : Nat} (a b : UInt8) (h : DkAt code pc [164, a, b]) : decode code pc = .ok (.if_icmp .le (Reader.signed 16 (a.toNat * 256 + b.toNat)), 3) := dk_of ((dk_bind (dk_u1 (h 0 _ rfl))).trans ((dk_bind (dk_map (dk_u2 (h 1 _ rfl) (h 2 _ rfl)))).trans rfl))
theorem dk_167 {code : ByteArray} {pc : Nat} (a b : UInt8) (h : DkAt code pc [167, a, b]) : decode code pc = .ok (.goto (Reader.signed 16 (a.toNat * 256 + b.toNat)), 3) := dk_of ((dk_bind (dk_u1 (h 0 _ rfl))).trans ((dk_bind (dk_map (dk_u2 (h 1 _ rfl) (h 2 _ rfl)))).trans rfl))
theorem dk_172 {code : ByteArray} {pc : Nat} (h : DkAt code pc [172]) : decode code pc = .ok (.ireturn, 1) := dk_of ((dk_bind (dk_u1 (h 0 _ rfl))).trans rfl)
theorem dk_173 {code : ByteArray} {pc : Nat} (h : DkAt code pc [173]) : decode code pc = .ok (.lreturn, 1) := dk_of ((dk_bind (dk_u1 (h 0 _ rfl))).trans rfl)
theorem dk_176 {code : ByteArray} {pc : Nat} (h : DkAt code pc [176]) : decode code pc = .ok (.areturn, 1) := dk_of ((dk_bind (dk_u1 (h 0 _ rfl))).trans rfl)
theorem dk_177 {code : ByteArray} {pc : Nat} (h : DkAt code pc [177]) : decode code pc = .ok (.return_, 1) := dk_of ((dk_bind (dk_u1 (h 0 _ rfl))).trans rfl)
theorem dk_178 {code : ByteArray} {pc : Nat} (a b : UInt8) (h : DkAt code pc [178, a, b]) : decode code pc = .ok (.getstatic (a.toNat * 256 + b.toNat), 3) := dk_of ((dk_bind (dk_u1 (h 0 _ rfl))).trans ((dk_bind (dk_u2 (h 1 _ rfl) (h 2 _ rfl))).trans rfl))
theorem dk_180 {code : ByteArray} {pc : Nat} (a b : UInt8) (h : DkAt code pc [180, a, b]) : decode code pc = .ok (.getfield (a.toNat * 256 + b.toNat), 3) := dk_of ((dk_bind (dk_u1 (h 0 _ rfl))).trans ((dk_bind (dk_u2 (h 1 _ rfl) (h 2 _ rfl))).trans rfl))
theorem dk_181 {code : ByteArray} {pc : Nat} (a b : UInt8) (h : DkAt code pc [181, a, b]) : decode code pc = .ok (.putfield (a.toNat * 256 + b.toNat), 3) := dk_of ((dk_bind (dk_u1 (h 0 _ rfl))).trans ((dk_bind (dk_u2 (h 1 _ rfl) (h 2 _ rfl))).trans rfl))
theorem dk_182 {code : ByteArray} {pc : Nat} (a b : UInt8) (h : DkAt code pc [182, a, b]) : decode code pc = .ok (.invokevirtual (a.toNat * 256 + b.toNat), 3) := dk_of ((dk_bind (dk_u1 (h 0 _ rfl))).trans ((dk_bind (dk_u2 (h 1 _ rfl) (h 2 _ rfl))).trans rfl))
theorem dk_183 {code : ByteArray} {pc : Nat} (a b : UInt8) (h : DkAt code pc [183, a, b]) : decode code pc = .ok (.invokespecial (a.toNat * 256 + b.toNat), 3) := dk_of ((dk_bind (dk_u1 (h 0 _ rfl))).trans ((dk_bind (dk_u2 (h 1 _ rfl) (h 2 _ rfl))).trans rfl))
theorem dk_184 {code : ByteArray} {pc : Nat} (a b : UInt8) (h : DkAt code pc [184, a, b]) : decode code pc = .ok (.invokestatic (a.toNat * 256 + b.toNat), 3) := dk_of ((dk_bind (dk_u1 (h 0 _ rfl))).trans ((dk_bind (dk_u2 (h 1 _ rfl) (h 2 _ rfl))).trans rfl))
theorem dk_187 {code : ByteArray} {pc : Nat} (a b : UInt8) (h : DkAt code pc [187, a, b]) : decode code pc = .ok (.new (a.toNat * 256 + b.toNat), 3) := dk_of ((dk_bind (dk_u1 (h 0 _ rfl))).trans ((dk_bind (dk_u2 (h 1 _ rfl) (h 2 _ rfl))).trans rfl))
theorem dk_188_4 {code : ByteArray} {pc : Nat} (h : DkAt code pc [188, 4]) : decode code pc = .ok (.newarray .boolean, 2) := dk_of ((dk_bind (dk_u1 (h 0 _ rfl))).trans ((dk_bind (dk_u1 (h 1 _ rfl))).trans rfl))
theorem dk_188_8 {code : ByteArray} {pc : Nat} (h : DkAt code pc [188, 8]) : decode code pc = .ok (.newarray .byte, 2) := dk_of ((dk_bind (dk_u1 (h 0 _ rfl))).trans ((dk_bind (dk_u1 (h 1 _ rfl))).trans rfl))
theorem dk_188_10 {code : ByteArray} {pc : Nat} (h : DkAt code pc [188, 10]) : decode code pc = .ok (.newarray .int, 2) := dk_of ((dk_bind (dk_u1 (h 0 _ rfl))).trans ((dk_bind (dk_u1 (h 1 _ rfl))).trans rfl))
theorem dk_188_11 {code : ByteArray} {pc : Nat} (h : DkAt code pc [188, 11]) : decode code pc = .ok (.newarray .long, 2) := dk_of ((dk_bind (dk_u1 (h 0 _ rfl))).trans ((dk_bind (dk_u1 (h 1 _ rfl))).trans rfl))
theorem dk_189 {code : ByteArray} {pc : Nat} (a b : UInt8) (h : DkAt code pc [189, a, b]) : decode code pc = .ok (.anewarray (a.toNat * 256 + b.toNat), 3) := dk_of ((dk_bind (dk_u1 (h 0 _ rfl))).trans ((dk_bind (dk_u2 (h 1 _ rfl) (h 2 _ rfl))).trans rfl))
theorem dk_190 {code : ByteArray} {pc : Nat} (h : DkAt code pc [190]) : decode code pc = .ok (.arraylength, 1) := dk_of ((dk_bind (dk_u1 (h 0 _ rfl))).trans rfl)
theorem dk_191 {code : ByteArray} {pc : Nat} (h : DkAt code pc [191]) : decode code pc = .ok (.athrow, 1) := dk_of ((dk_bind (dk_u1 (h 0 _ rfl))).trans rfl)
theorem dk_198 {code : ByteArray} {pc : Nat} (a b : UInt8) (h : DkAt code pc [198, a, b]) : decode code pc = .ok (.ifnull (Reader.signed 16 (a.toNat * 256 + b.toNat)), 3) := dk_of ((dk_bind (dk_u1 (h 0 _ rfl))).trans ((dk_bind (dk_map (dk_u2 (h 1 _ rfl) (h 2 _ rfl)))).trans rfl))
theorem dk_199 {code : ByteArray} {pc : Nat} (a b : UInt8) (h : DkAt code pc [199, a, b]) : decode code pc = .ok (.ifnonnull (Reader.signed 16 (a.toNat * 256 + b.toNat)), 3) := dk_of ((dk_bind (dk_u1 (h 0 _ rfl))).trans ((dk_bind (dk_map (dk_u2 (h 1 _ rfl) (h 2 _ rfl)))).trans rfl))
/-! java/lang/Object -/
set_option maxRecDepth 100000
def RJ7 : String := "java/lang/Object"
abbrev cJ7_init : ByteArray := object_method_1_code
def yJ7_init : MethodName := ⟨RJ7, "<init>", "()V"⟩
theorem dJ7_init_0 : decode cJ7_init 0 = .ok (.return_, 1) := by decide +kernel
theorem q133 : (Jvm.Cond.instanceMethod ({ cls := "java/lang/Object", name := "<init>", desc := "()V" } : Jvm.MethodName)) ∈ lw_all := lw_g (lw_at lw_m1 30 rfl) rfl
theorem q134 : (Jvm.Cond.code ({ cls := "java/lang/Object", name := "<init>", desc := "()V" } : Jvm.MethodName) object_method_1_code (1 : Nat) (Option.none : Option Jvm.ClassFile.FieldType)) ∈ lw_all := lw_g (lw_at lw_m1 31 rfl) rfl
/-! java/lang/Throwable -/
set_option maxRecDepth 100000
def RJ0 : String := "java/lang/Throwable"
def TJ0 : u_T := fun k => match k with
  | 0 => ("java/lang/Throwable", "cause", "Ljava/lang/Throwable;", false)
  | 1 => ("java/lang/Throwable", "stackTrace", "[Ljava/lang/StackTraceElement;", false)
  | 2 => ("java/lang/Throwable", "suppressedExceptions", "Ljava/util/List;", false)
  | 3 => ("java/lang/Throwable", "detailMessage", "Ljava/lang/String;", false)
  | _ => ("java/lang/Throwable", "backtrace", "Ljava/lang/Object;", false)
def tyJ0 : Nat → FieldType := fun k => match k with
  | 0 => .object "java/lang/Throwable"
  | 1 => .array (.object "java/lang/StackTraceElement")
  | 2 => .object "java/util/List"
  | 3 => .object "java/lang/String"
  | _ => .object "java/lang/Object"
abbrev wsJ00 : List Cond := u_ws RJ0 TJ0 5
theorem nmJ0 : ∀ a, a < 5 → ∀ b, b < 5 → a ≠ b → (TJ0 a).2.1 ≠ (TJ0 b).2.1 := by decide +kernel
theorem tyJ0_ok : ∀ k, k < 5 → parseFieldDescriptor (TJ0 k).2.2.1 = some (tyJ0 k) := by decide +kernel
abbrev cJ0_init : ByteArray := prog_23_method_1_code
def yJ0_init : MethodName := ⟨RJ0, "<init>", "()V"⟩
def dkwJ0_init_1 : List UInt8 := [182, 0, 27, 87, 177]
abbrev dktJ0_init_1 : List UInt8 := dkwJ0_init_1 ++ []
def dkwJ0_init_0 : List UInt8 := [42, 183, 0, 1, 42, 42, 181, 0, 7, 42, 178, 0, 13, 181, 0, 17, 42, 178, 0, 20, 181, 0, 24, 42]
abbrev dktJ0_init_0 : List UInt8 := dkwJ0_init_0 ++ dktJ0_init_1
theorem dksJ0_init_0 : cJ0_init.data.toList.drop 0 = dktJ0_init_0 := by decide +kernel
theorem dksJ0_init_1 : cJ0_init.data.toList.drop 24 = dktJ0_init_1 := dk_seg dksJ0_init_0 24 rfl rfl
theorem dJ0_init_0 : decode cJ0_init 0 = .ok (.aload_n 0, 1) := dk_42 (dk_at dksJ0_init_0 0 rfl rfl)
theorem dJ0_init_1 : decode cJ0_init 1 = .ok (.invokespecial 1, 3) := dk_183 0 1 (dk_at dksJ0_init_0 1 rfl rfl)
theorem dJ0_init_4 : decode cJ0_init 4 = .ok (.aload_n 0, 1) := dk_42 (dk_at dksJ0_init_0 4 rfl rfl)
theorem dJ0_init_5 : decode cJ0_init 5 = .ok (.aload_n 0, 1) := dk_42 (dk_at dksJ0_init_0 5 rfl rfl)
theorem dJ0_init_6 : decode cJ0_init 6 = .ok (.putfield 7, 3) := dk_181 0 7 (dk_at dksJ0_init_0 6 rfl rfl)
theorem dJ0_init_9 : decode cJ0_init 9 = .ok (.aload_n 0, 1) := dk_42 (dk_at dksJ0_init_0 9 rfl rfl)
theorem dJ0_init_10 : decode cJ0_init 10 = .ok (.getstatic 13, 3) := dk_178 0 13 (dk_at dksJ0_init_0 10 rfl rfl)
theorem dJ0_init_13 : decode cJ0_init 13 = .ok (.putfield 17, 3) := dk_181 0 17 (dk_at dksJ0_init_0 13 rfl rfl)
theorem dJ0_init_16 : decode cJ0_init 16 = .ok (.aload_n 0, 1) := dk_42 (dk_at dksJ0_init_0 16 rfl rfl)
theorem dJ0_init_17 : decode cJ0_init 17 = .ok (.getstatic 20, 3) := dk_178 0 20 (dk_at dksJ0_init_0 17 rfl rfl)
theorem dJ0_init_20 : decode cJ0_init 20 = .ok (.putfield 24, 3) := dk_181 0 24 (dk_at dksJ0_init_0 20 rfl rfl)
theorem dJ0_init_23 : decode cJ0_init 23 = .ok (.aload_n 0, 1) := dk_42 (dk_at dksJ0_init_0 23 rfl rfl)
theorem dJ0_init_24 : decode cJ0_init 24 = .ok (.invokevirtual 27, 3) := dk_182 0 27 (dk_at dksJ0_init_1 0 rfl rfl)
theorem dJ0_init_27 : decode cJ0_init 27 = .ok (.pop, 1) := dk_87 (dk_at dksJ0_init_1 3 rfl rfl)
theorem dJ0_init_28 : decode cJ0_init 28 = .ok (.return_, 1) := dk_177 (dk_at dksJ0_init_1 4 rfl rfl)
abbrev cJ0_init_2 : ByteArray := prog_23_method_5_code
def yJ0_init_2 : MethodName := ⟨RJ0, "<init>", "(Ljava/lang/String;Ljava/lang/Throwable;ZZ)V"⟩
def dkwJ0_init_2_2 : List UInt8 := [44, 181, 0, 7, 29, 154, 0, 8, 42, 1, 181, 0, 24, 177]
abbrev dktJ0_init_2_2 : List UInt8 := dkwJ0_init_2_2 ++ []
def dkwJ0_init_2_1 : List UInt8 := [21, 4, 153, 0, 11, 42, 182, 0, 27, 87, 167, 0, 8, 42, 1, 181, 0, 17, 42, 43, 181, 0, 31, 42]
abbrev dktJ0_init_2_1 : List UInt8 := dkwJ0_init_2_1 ++ dktJ0_init_2_2
def dkwJ0_init_2_0 : List UInt8 := [42, 183, 0, 1, 42, 42, 181, 0, 7, 42, 178, 0, 13, 181, 0, 17, 42, 178, 0, 20, 181, 0, 24]
abbrev dktJ0_init_2_0 : List UInt8 := dkwJ0_init_2_0 ++ dktJ0_init_2_1
theorem dksJ0_init_2_0 : cJ0_init_2.data.toList.drop 0 = dktJ0_init_2_0 := by decide +kernel
theorem dksJ0_init_2_1 : cJ0_init_2.data.toList.drop 23 = dktJ0_init_2_1 := dk_seg dksJ0_init_2_0 23 rfl rfl
theorem dksJ0_init_2_2 : cJ0_init_2.data.toList.drop 47 = dktJ0_init_2_2 := dk_seg dksJ0_init_2_1 24 rfl rfl
theorem dJ0_init_2_0 : decode cJ0_init_2 0 = .ok (.aload_n 0, 1) := dk_42 (dk_at dksJ0_init_2_0 0 rfl rfl)
theorem dJ0_init_2_1 : decode cJ0_init_2 1 = .ok (.invokespecial 1, 3) := dk_183 0 1 (dk_at dksJ0_init_2_0 1 rfl rfl)
theorem dJ0_init_2_4 : decode cJ0_init_2 4 = .ok (.aload_n 0, 1) := dk_42 (dk_at dksJ0_init_2_0 4 rfl rfl)
theorem dJ0_init_2_5 : decode cJ0_init_2 5 = .ok (.aload_n 0, 1) := dk_42 (dk_at dksJ0_init_2_0 5 rfl rfl)
theorem dJ0_init_2_6 : decode cJ0_init_2 6 = .ok (.putfield 7, 3) := dk_181 0 7 (dk_at dksJ0_init_2_0 6 rfl rfl)
theorem dJ0_init_2_9 : decode cJ0_init_2 9 = .ok (.aload_n 0, 1) := dk_42 (dk_at dksJ0_init_2_0 9 rfl rfl)
theorem dJ0_init_2_10 : decode cJ0_init_2 10 = .ok (.getstatic 13, 3) := dk_178 0 13 (dk_at dksJ0_init_2_0 10 rfl rfl)
theorem dJ0_init_2_13 : decode cJ0_init_2 13 = .ok (.putfield 17, 3) := dk_181 0 17 (dk_at dksJ0_init_2_0 13 rfl rfl)
theorem dJ0_init_2_16 : decode cJ0_init_2 16 = .ok (.aload_n 0, 1) := dk_42 (dk_at dksJ0_init_2_0 16 rfl rfl)
theorem dJ0_init_2_17 : decode cJ0_init_2 17 = .ok (.getstatic 20, 3) := dk_178 0 20 (dk_at dksJ0_init_2_0 17 rfl rfl)
theorem dJ0_init_2_20 : decode cJ0_init_2 20 = .ok (.putfield 24, 3) := dk_181 0 24 (dk_at dksJ0_init_2_0 20 rfl rfl)
theorem dJ0_init_2_23 : decode cJ0_init_2 23 = .ok (.iload 4, 2) := dk_21 4 (dk_at dksJ0_init_2_1 0 rfl rfl)
theorem dJ0_init_2_25 : decode cJ0_init_2 25 = .ok (.ifCond .eq 11, 3) := dk_153 0 11 (dk_at dksJ0_init_2_1 2 rfl rfl)
theorem dJ0_init_2_28 : decode cJ0_init_2 28 = .ok (.aload_n 0, 1) := dk_42 (dk_at dksJ0_init_2_1 5 rfl rfl)
theorem dJ0_init_2_29 : decode cJ0_init_2 29 = .ok (.invokevirtual 27, 3) := dk_182 0 27 (dk_at dksJ0_init_2_1 6 rfl rfl)
theorem dJ0_init_2_32 : decode cJ0_init_2 32 = .ok (.pop, 1) := dk_87 (dk_at dksJ0_init_2_1 9 rfl rfl)
theorem dJ0_init_2_33 : decode cJ0_init_2 33 = .ok (.goto 8, 3) := dk_167 0 8 (dk_at dksJ0_init_2_1 10 rfl rfl)
theorem dJ0_init_2_36 : decode cJ0_init_2 36 = .ok (.aload_n 0, 1) := dk_42 (dk_at dksJ0_init_2_1 13 rfl rfl)
theorem dJ0_init_2_37 : decode cJ0_init_2 37 = .ok (.aconst_null, 1) := dk_1 (dk_at dksJ0_init_2_1 14 rfl rfl)
theorem dJ0_init_2_38 : decode cJ0_init_2 38 = .ok (.putfield 17, 3) := dk_181 0 17 (dk_at dksJ0_init_2_1 15 rfl rfl)
theorem dJ0_init_2_41 : decode cJ0_init_2 41 = .ok (.aload_n 0, 1) := dk_42 (dk_at dksJ0_init_2_1 18 rfl rfl)
theorem dJ0_init_2_42 : decode cJ0_init_2 42 = .ok (.aload_n 1, 1) := dk_43 (dk_at dksJ0_init_2_1 19 rfl rfl)
theorem dJ0_init_2_43 : decode cJ0_init_2 43 = .ok (.putfield 31, 3) := dk_181 0 31 (dk_at dksJ0_init_2_1 20 rfl rfl)
theorem dJ0_init_2_46 : decode cJ0_init_2 46 = .ok (.aload_n 0, 1) := dk_42 (dk_at dksJ0_init_2_1 23 rfl rfl)
theorem dJ0_init_2_47 : decode cJ0_init_2 47 = .ok (.aload_n 2, 1) := dk_44 (dk_at dksJ0_init_2_2 0 rfl rfl)
theorem dJ0_init_2_48 : decode cJ0_init_2 48 = .ok (.putfield 7, 3) := dk_181 0 7 (dk_at dksJ0_init_2_2 1 rfl rfl)
theorem dJ0_init_2_51 : decode cJ0_init_2 51 = .ok (.iload_n 3, 1) := dk_29 (dk_at dksJ0_init_2_2 4 rfl rfl)
theorem dJ0_init_2_52 : decode cJ0_init_2 52 = .ok (.ifCond .ne 8, 3) := dk_154 0 8 (dk_at dksJ0_init_2_2 5 rfl rfl)
theorem dJ0_init_2_55 : decode cJ0_init_2 55 = .ok (.aload_n 0, 1) := dk_42 (dk_at dksJ0_init_2_2 8 rfl rfl)
theorem dJ0_init_2_56 : decode cJ0_init_2 56 = .ok (.aconst_null, 1) := dk_1 (dk_at dksJ0_init_2_2 9 rfl rfl)
theorem dJ0_init_2_57 : decode cJ0_init_2 57 = .ok (.putfield 24, 3) := dk_181 0 24 (dk_at dksJ0_init_2_2 10 rfl rfl)
theorem dJ0_init_2_60 : decode cJ0_init_2 60 = .ok (.return_, 1) := dk_177 (dk_at dksJ0_init_2_2 13 rfl rfl)
theorem q111 : (Jvm.Cond.initialized "java/lang/Throwable") ∈ lw_all := lw_g (lw_at lw_m1 8 rfl) rfl
theorem q463 : (Jvm.Cond.declares ({ cls := "java/lang/Throwable", name := "<init>", desc := "()V" } : Jvm.MethodName)) ∈ lw_tbl := lw_at lw_m2 120 rfl
theorem q464 : (Jvm.Cond.declares ({ cls := "java/lang/Throwable", name := "<init>", desc := "(Ljava/lang/String;)V" } : Jvm.MethodName)) ∈ lw_tbl := lw_at lw_m2 121 rfl
theorem q468 : (Jvm.Cond.lays "java/lang/Throwable" "java/lang/Throwable" "cause" "Ljava/lang/Throwable;") ∈ lw_all := lw_g (lw_at lw_m2 125 rfl) rfl
theorem q470 : (Jvm.Cond.lays "java/lang/Throwable" "java/lang/Throwable" "stackTrace" "[Ljava/lang/StackTraceElement;") ∈ lw_all := lw_g (lw_at lw_m2 127 rfl) rfl
theorem q472 : (Jvm.Cond.lays "java/lang/Throwable" "java/lang/Throwable" "suppressedExceptions" "Ljava/util/List;") ∈ lw_all := lw_g (lw_at lw_m2 129 rfl) rfl
theorem q474 : (Jvm.Cond.lays "java/lang/Throwable" "java/lang/Throwable" "detailMessage" "Ljava/lang/String;") ∈ lw_all := lw_g (lw_at lw_m2 131 rfl) rfl
theorem q476 : (Jvm.Cond.lays "java/lang/Throwable" "java/lang/Throwable" "backtrace" "Ljava/lang/Object;") ∈ lw_all := lw_g (lw_at lw_m2 133 rfl) rfl
theorem q477 : (Jvm.Cond.fieldLink "java/lang/Throwable" (198 : Nat) "java/lang/Throwable" "backtrace" "Ljava/lang/Object;") ∈ lw_all := lw_g (lw_at lw_m2 134 rfl) rfl
theorem q478 : (Jvm.Cond.superclass "java/lang/Throwable" "java/lang/Object") ∈ lw_all := lw_g (lw_at lw_m2 135 rfl) rfl
theorem q479 : (Jvm.Cond.instanceMethod ({ cls := "java/lang/Throwable", name := "<init>", desc := "()V" } : Jvm.MethodName)) ∈ lw_all := lw_g (lw_at lw_m2 136 rfl) rfl
theorem q480 : (Jvm.Cond.code ({ cls := "java/lang/Throwable", name := "<init>", desc := "()V" } : Jvm.MethodName) prog_23_method_1_code (1 : Nat) (Option.none : Option Jvm.ClassFile.FieldType)) ∈ lw_all := lw_g (lw_at lw_m2 137 rfl) rfl
theorem q481 : (Jvm.Cond.methodLink "java/lang/Throwable" (1 : Nat) ({ cls := "java/lang/Object", name := "<init>", desc := "()V" } : Jvm.MethodName)) ∈ lw_all := lw_g (lw_at lw_m2 138 rfl) rfl
theorem q482 : (Jvm.Cond.fieldLink "java/lang/Throwable" (13 : Nat) "java/lang/Throwable" "UNASSIGNED_STACK" "[Ljava/lang/StackTraceElement;") ∈ lw_all := lw_g (lw_at lw_m2 139 rfl) rfl
theorem q483 : (Jvm.Cond.laysStatic "java/lang/Throwable" "UNASSIGNED_STACK" "[Ljava/lang/StackTraceElement;") ∈ lw_tbl := lw_at lw_m2 140 rfl
theorem q484 : (Jvm.Cond.fieldLink "java/lang/Throwable" (20 : Nat) "java/lang/Throwable" "SUPPRESSED_SENTINEL" "Ljava/util/List;") ∈ lw_all := lw_g (lw_at lw_m2 141 rfl) rfl
theorem q485 : (Jvm.Cond.laysStatic "java/lang/Throwable" "SUPPRESSED_SENTINEL" "Ljava/util/List;") ∈ lw_tbl := lw_at lw_m2 142 rfl
theorem q486 : (Jvm.Cond.methodLink "java/lang/Throwable" (27 : Nat) ({ cls := "java/lang/Throwable", name := "fillInStackTrace", desc := "()Ljava/lang/Throwable;" } : Jvm.MethodName)) ∈ lw_all := lw_g (lw_at lw_m2 143 rfl) rfl
theorem q487 : (Jvm.Cond.instanceMethod ({ cls := "java/lang/Throwable", name := "fillInStackTrace", desc := "()Ljava/lang/Throwable;" } : Jvm.MethodName)) ∈ lw_all := lw_g (lw_at lw_m2 144 rfl) rfl
theorem q488 : (Jvm.Cond.sameMethod "java/lang/Throwable" "java/lang/Throwable" "fillInStackTrace" "()Ljava/lang/Throwable;") ∈ lw_all := lw_g (lw_at lw_m2 145 rfl) rfl
theorem q490 : (Jvm.Cond.codeSync ({ cls := "java/lang/Throwable", name := "fillInStackTrace", desc := "()Ljava/lang/Throwable;" } : Jvm.MethodName) prog_23_method_18_code (1 : Nat) (Option.some (Jvm.ClassFile.FieldType.object "java/lang/Throwable"))) ∈ lw_all := lw_g (lw_at lw_m2 147 rfl) rfl
theorem q491 : (Jvm.Cond.methodLink "java/lang/Throwable" (202 : Nat) ({ cls := "java/lang/Throwable", name := "fillInStackTrace", desc := "(I)Ljava/lang/Throwable;" } : Jvm.MethodName)) ∈ lw_all := lw_g (lw_at lw_m2 148 rfl) rfl
theorem q492 : (Jvm.Cond.privateMethod ({ cls := "java/lang/Throwable", name := "fillInStackTrace", desc := "(I)Ljava/lang/Throwable;" } : Jvm.MethodName)) ∈ lw_tbl := lw_at lw_m2 149 rfl
theorem q493 : (Jvm.Cond.instanceMethod ({ cls := "java/lang/Throwable", name := "fillInStackTrace", desc := "(I)Ljava/lang/Throwable;" } : Jvm.MethodName)) ∈ lw_all := lw_g (lw_at lw_m2 150 rfl) rfl
theorem q494 : (Jvm.Cond.instantiable "java/lang/Throwable" (6 : Nat)) ∈ lw_all := lw_g (lw_at lw_m2 151 rfl) rfl
theorem q495 : (Jvm.Cond.native ({ cls := "java/lang/Throwable", name := "fillInStackTrace", desc := "(I)Ljava/lang/Throwable;" } : Jvm.MethodName)) ∈ lw_all := lw_g (lw_at lw_m2 152 rfl) rfl
theorem q506 : (Jvm.Cond.instanceMethod ({ cls := "java/lang/Throwable", name := "<init>", desc := "(Ljava/lang/String;Ljava/lang/Throwable;ZZ)V" } : Jvm.MethodName)) ∈ lw_all := lw_g (lw_at lw_m2 163 rfl) rfl
theorem q507 : (Jvm.Cond.code ({ cls := "java/lang/Throwable", name := "<init>", desc := "(Ljava/lang/String;Ljava/lang/Throwable;ZZ)V" } : Jvm.MethodName) prog_23_method_5_code (5 : Nat) (Option.none : Option Jvm.ClassFile.FieldType)) ∈ lw_all := lw_g (lw_at lw_m2 164 rfl) rfl
theorem q510 : (Jvm.Cond.fieldLink "java/lang/Throwable" (198 : Nat) "java/lang/Throwable" "backtrace" "Ljava/lang/Object;") ∈ lw_all := lw_g (lw_at lw_m2 167 rfl) rfl
theorem q511 : (Jvm.Cond.fieldLink "java/lang/Throwable" (31 : Nat) "java/lang/Throwable" "detailMessage" "Ljava/lang/String;") ∈ lw_all := lw_g (lw_at lw_m2 168 rfl) rfl
theorem q512 : (Jvm.Cond.fieldLink "java/lang/Throwable" (7 : Nat) "java/lang/Throwable" "cause" "Ljava/lang/Throwable;") ∈ lw_all := lw_g (lw_at lw_m2 169 rfl) rfl
theorem q513 : (Jvm.Cond.fieldLink "java/lang/Throwable" (17 : Nat) "java/lang/Throwable" "stackTrace" "[Ljava/lang/StackTraceElement;") ∈ lw_all := lw_g (lw_at lw_m2 170 rfl) rfl
theorem q514 : (Jvm.Cond.fieldLink "java/lang/Throwable" (24 : Nat) "java/lang/Throwable" "suppressedExceptions" "Ljava/util/List;") ∈ lw_all := lw_g (lw_at lw_m2 171 rfl) rfl
theorem q517 : (Jvm.Cond.soleField "java/lang/Throwable" "backtrace") ∈ lw_all := lw_g (lw_at lw_m2 174 rfl) rfl
theorem q518 : (Jvm.Cond.soleField "java/lang/Throwable" "detailMessage") ∈ lw_all := lw_g (lw_at lw_m2 175 rfl) rfl
theorem q519 : (Jvm.Cond.soleField "java/lang/Throwable" "cause") ∈ lw_all := lw_g (lw_at lw_m2 176 rfl) rfl
theorem q520 : (Jvm.Cond.soleField "java/lang/Throwable" "stackTrace") ∈ lw_all := lw_g (lw_at lw_m2 177 rfl) rfl
theorem q522 : (Jvm.Cond.soleField "java/lang/Throwable" "depth") ∈ lw_all := lw_g (lw_at lw_m2 179 rfl) rfl
theorem q523 : (Jvm.Cond.soleField "java/lang/Throwable" "suppressedExceptions") ∈ lw_all := lw_g (lw_at lw_m2 180 rfl) rfl
theorem q1910 : (Jvm.Cond.sameMethod "java/lang/Throwable" "java/lang/Throwable" "fillInStackTrace" "(I)Ljava/lang/Throwable;") ∈ lw_all := lw_g (lw_at lw_m8 127 rfl) rfl
theorem q1927 : (Jvm.Cond.castable "java/lang/Throwable" "java/lang/Object") ∈ lw_tbl := lw_at lw_m8 144 rfl
theorem in_J0 : ∀ w ∈ wsJ00, w ∈ lw_all := lw_in wsJ00 [468, 470, 472, 474, 476] (by decide +kernel) (by decide +kernel)
/-! java/lang/Exception -/
set_option maxRecDepth 100000
def RJ1 : String := "java/lang/Exception"
abbrev cJ1_init : ByteArray := prog_17_method_5_code
def yJ1_init : MethodName := ⟨RJ1, "<init>", "(Ljava/lang/String;Ljava/lang/Throwable;ZZ)V"⟩
def dkwJ1_init_0 : List UInt8 := [42, 43, 44, 29, 21, 4, 183, 0, 16, 177]
abbrev dktJ1_init_0 : List UInt8 := dkwJ1_init_0 ++ []
theorem dksJ1_init_0 : cJ1_init.data.toList.drop 0 = dktJ1_init_0 := by decide +kernel
theorem dJ1_init_0 : decode cJ1_init 0 = .ok (.aload_n 0, 1) := dk_42 (dk_at dksJ1_init_0 0 rfl rfl)
theorem dJ1_init_1 : decode cJ1_init 1 = .ok (.aload_n 1, 1) := dk_43 (dk_at dksJ1_init_0 1 rfl rfl)
theorem dJ1_init_2 : decode cJ1_init 2 = .ok (.aload_n 2, 1) := dk_44 (dk_at dksJ1_init_0 2 rfl rfl)
theorem dJ1_init_3 : decode cJ1_init 3 = .ok (.iload_n 3, 1) := dk_29 (dk_at dksJ1_init_0 3 rfl rfl)
theorem dJ1_init_4 : decode cJ1_init 4 = .ok (.iload 4, 2) := dk_21 4 (dk_at dksJ1_init_0 4 rfl rfl)
theorem dJ1_init_6 : decode cJ1_init 6 = .ok (.invokespecial 16, 3) := dk_183 0 16 (dk_at dksJ1_init_0 6 rfl rfl)
theorem dJ1_init_9 : decode cJ1_init 9 = .ok (.return_, 1) := dk_177 (dk_at dksJ1_init_0 9 rfl rfl)
abbrev cJ1_init_2 : ByteArray := prog_17_method_1_code
def yJ1_init_2 : MethodName := ⟨RJ1, "<init>", "()V"⟩
theorem dJ1_init_2_0 : decode cJ1_init_2 0 = .ok (.aload_n 0, 1) := by decide +kernel
theorem dJ1_init_2_1 : decode cJ1_init_2 1 = .ok (.invokespecial 1, 3) := by decide +kernel
theorem dJ1_init_2_4 : decode cJ1_init_2 4 = .ok (.return_, 1) := by decide +kernel
theorem q112 : (Jvm.Cond.initialized "java/lang/Exception") ∈ lw_all := lw_g (lw_at lw_m1 9 rfl) rfl
theorem q461 : (Jvm.Cond.declares ({ cls := "java/lang/Exception", name := "<init>", desc := "()V" } : Jvm.MethodName)) ∈ lw_tbl := lw_at lw_m2 118 rfl
theorem q462 : (Jvm.Cond.declares ({ cls := "java/lang/Exception", name := "<init>", desc := "(Ljava/lang/String;)V" } : Jvm.MethodName)) ∈ lw_tbl := lw_at lw_m2 119 rfl
theorem q503 : (Jvm.Cond.instanceMethod ({ cls := "java/lang/Exception", name := "<init>", desc := "(Ljava/lang/String;Ljava/lang/Throwable;ZZ)V" } : Jvm.MethodName)) ∈ lw_all := lw_g (lw_at lw_m2 160 rfl) rfl
theorem q504 : (Jvm.Cond.code ({ cls := "java/lang/Exception", name := "<init>", desc := "(Ljava/lang/String;Ljava/lang/Throwable;ZZ)V" } : Jvm.MethodName) prog_17_method_5_code (5 : Nat) (Option.none : Option Jvm.ClassFile.FieldType)) ∈ lw_all := lw_g (lw_at lw_m2 161 rfl) rfl
theorem q505 : (Jvm.Cond.methodLink "java/lang/Exception" (16 : Nat) ({ cls := "java/lang/Throwable", name := "<init>", desc := "(Ljava/lang/String;Ljava/lang/Throwable;ZZ)V" } : Jvm.MethodName)) ∈ lw_all := lw_g (lw_at lw_m2 162 rfl) rfl
theorem q1228 : (Jvm.Cond.instanceMethod ({ cls := "java/lang/Exception", name := "<init>", desc := "()V" } : Jvm.MethodName)) ∈ lw_all := lw_g (lw_at lw_m5 165 rfl) rfl
theorem q1229 : (Jvm.Cond.code ({ cls := "java/lang/Exception", name := "<init>", desc := "()V" } : Jvm.MethodName) prog_17_method_1_code (1 : Nat) (Option.none : Option Jvm.ClassFile.FieldType)) ∈ lw_all := lw_g (lw_at lw_m5 166 rfl) rfl
theorem q1230 : (Jvm.Cond.methodLink "java/lang/Exception" (1 : Nat) ({ cls := "java/lang/Throwable", name := "<init>", desc := "()V" } : Jvm.MethodName)) ∈ lw_all := lw_g (lw_at lw_m5 167 rfl) rfl
/-! java/lang/RuntimeException -/
set_option maxRecDepth 100000
def RJ2 : String := "java/lang/RuntimeException"
abbrev cJ2_init : ByteArray := prog_21_method_5_code
def yJ2_init : MethodName := ⟨RJ2, "<init>", "(Ljava/lang/String;Ljava/lang/Throwable;ZZ)V"⟩
def dkwJ2_init_0 : List UInt8 := [42, 43, 44, 29, 21, 4, 183, 0, 16, 177]
abbrev dktJ2_init_0 : List UInt8 := dkwJ2_init_0 ++ []
theorem dksJ2_init_0 : cJ2_init.data.toList.drop 0 = dktJ2_init_0 := by decide +kernel
theorem dJ2_init_0 : decode cJ2_init 0 = .ok (.aload_n 0, 1) := dk_42 (dk_at dksJ2_init_0 0 rfl rfl)
theorem dJ2_init_1 : decode cJ2_init 1 = .ok (.aload_n 1, 1) := dk_43 (dk_at dksJ2_init_0 1 rfl rfl)
theorem dJ2_init_2 : decode cJ2_init 2 = .ok (.aload_n 2, 1) := dk_44 (dk_at dksJ2_init_0 2 rfl rfl)
theorem dJ2_init_3 : decode cJ2_init 3 = .ok (.iload_n 3, 1) := dk_29 (dk_at dksJ2_init_0 3 rfl rfl)
theorem dJ2_init_4 : decode cJ2_init 4 = .ok (.iload 4, 2) := dk_21 4 (dk_at dksJ2_init_0 4 rfl rfl)
theorem dJ2_init_6 : decode cJ2_init 6 = .ok (.invokespecial 16, 3) := dk_183 0 16 (dk_at dksJ2_init_0 6 rfl rfl)
theorem dJ2_init_9 : decode cJ2_init 9 = .ok (.return_, 1) := dk_177 (dk_at dksJ2_init_0 9 rfl rfl)
abbrev cJ2_init_2 : ByteArray := prog_21_method_1_code
def yJ2_init_2 : MethodName := ⟨RJ2, "<init>", "()V"⟩
theorem dJ2_init_2_0 : decode cJ2_init_2 0 = .ok (.aload_n 0, 1) := by decide +kernel
theorem dJ2_init_2_1 : decode cJ2_init_2 1 = .ok (.invokespecial 1, 3) := by decide +kernel
theorem dJ2_init_2_4 : decode cJ2_init_2 4 = .ok (.return_, 1) := by decide +kernel
theorem q113 : (Jvm.Cond.initialized "java/lang/RuntimeException") ∈ lw_all := lw_g (lw_at lw_m1 10 rfl) rfl
theorem q459 : (Jvm.Cond.declares ({ cls := "java/lang/RuntimeException", name := "<init>", desc := "()V" } : Jvm.MethodName)) ∈ lw_tbl := lw_at lw_m2 116 rfl
theorem q460 : (Jvm.Cond.declares ({ cls := "java/lang/RuntimeException", name := "<init>", desc := "(Ljava/lang/String;)V" } : Jvm.MethodName)) ∈ lw_tbl := lw_at lw_m2 117 rfl
theorem q500 : (Jvm.Cond.instanceMethod ({ cls := "java/lang/RuntimeException", name := "<init>", desc := "(Ljava/lang/String;Ljava/lang/Throwable;ZZ)V" } : Jvm.MethodName)) ∈ lw_all := lw_g (lw_at lw_m2 157 rfl) rfl
theorem q501 : (Jvm.Cond.code ({ cls := "java/lang/RuntimeException", name := "<init>", desc := "(Ljava/lang/String;Ljava/lang/Throwable;ZZ)V" } : Jvm.MethodName) prog_21_method_5_code (5 : Nat) (Option.none : Option Jvm.ClassFile.FieldType)) ∈ lw_all := lw_g (lw_at lw_m2 158 rfl) rfl
theorem q502 : (Jvm.Cond.methodLink "java/lang/RuntimeException" (16 : Nat) ({ cls := "java/lang/Exception", name := "<init>", desc := "(Ljava/lang/String;Ljava/lang/Throwable;ZZ)V" } : Jvm.MethodName)) ∈ lw_all := lw_g (lw_at lw_m2 159 rfl) rfl
theorem q1225 : (Jvm.Cond.instanceMethod ({ cls := "java/lang/RuntimeException", name := "<init>", desc := "()V" } : Jvm.MethodName)) ∈ lw_all := lw_g (lw_at lw_m5 162 rfl) rfl
theorem q1226 : (Jvm.Cond.code ({ cls := "java/lang/RuntimeException", name := "<init>", desc := "()V" } : Jvm.MethodName) prog_21_method_1_code (1 : Nat) (Option.none : Option Jvm.ClassFile.FieldType)) ∈ lw_all := lw_g (lw_at lw_m5 163 rfl) rfl
theorem q1227 : (Jvm.Cond.methodLink "java/lang/RuntimeException" (1 : Nat) ({ cls := "java/lang/Exception", name := "<init>", desc := "()V" } : Jvm.MethodName)) ∈ lw_all := lw_g (lw_at lw_m5 164 rfl) rfl
/-! java/lang/Math -/
set_option maxRecDepth 100000
def RJ3 : String := "java/lang/Math"
abbrev cJ3_min : ByteArray := prog_20_method_69_code
def yJ3_min : MethodName := ⟨RJ3, "min", "(II)I"⟩
def dkwJ3_min_0 : List UInt8 := [26, 27, 163, 0, 7, 26, 167, 0, 4, 27, 172]
abbrev dktJ3_min_0 : List UInt8 := dkwJ3_min_0 ++ []
theorem dksJ3_min_0 : cJ3_min.data.toList.drop 0 = dktJ3_min_0 := by decide +kernel
theorem dJ3_min_0 : decode cJ3_min 0 = .ok (.iload_n 0, 1) := dk_26 (dk_at dksJ3_min_0 0 rfl rfl)
theorem dJ3_min_1 : decode cJ3_min 1 = .ok (.iload_n 1, 1) := dk_27 (dk_at dksJ3_min_0 1 rfl rfl)
theorem dJ3_min_2 : decode cJ3_min 2 = .ok (.if_icmp .gt 7, 3) := dk_163 0 7 (dk_at dksJ3_min_0 2 rfl rfl)
theorem dJ3_min_5 : decode cJ3_min 5 = .ok (.iload_n 0, 1) := dk_26 (dk_at dksJ3_min_0 5 rfl rfl)
theorem dJ3_min_6 : decode cJ3_min 6 = .ok (.goto 4, 3) := dk_167 0 4 (dk_at dksJ3_min_0 6 rfl rfl)
theorem dJ3_min_9 : decode cJ3_min 9 = .ok (.iload_n 1, 1) := dk_27 (dk_at dksJ3_min_0 9 rfl rfl)
theorem dJ3_min_10 : decode cJ3_min 10 = .ok (.ireturn, 1) := dk_172 (dk_at dksJ3_min_0 10 rfl rfl)
abbrev cJ3_min_2 : ByteArray := prog_20_method_70_code
def yJ3_min_2 : MethodName := ⟨RJ3, "min", "(JJ)J"⟩
def dkwJ3_min_2_0 : List UInt8 := [30, 32, 148, 157, 0, 7, 30, 167, 0, 4, 32, 173]
abbrev dktJ3_min_2_0 : List UInt8 := dkwJ3_min_2_0 ++ []
theorem dksJ3_min_2_0 : cJ3_min_2.data.toList.drop 0 = dktJ3_min_2_0 := by decide +kernel
theorem dJ3_min_2_0 : decode cJ3_min_2 0 = .ok (.lload_n 0, 1) := dk_30 (dk_at dksJ3_min_2_0 0 rfl rfl)
theorem dJ3_min_2_1 : decode cJ3_min_2 1 = .ok (.lload_n 2, 1) := dk_32 (dk_at dksJ3_min_2_0 1 rfl rfl)
theorem dJ3_min_2_2 : decode cJ3_min_2 2 = .ok (.lcmp, 1) := dk_148 (dk_at dksJ3_min_2_0 2 rfl rfl)
theorem dJ3_min_2_3 : decode cJ3_min_2 3 = .ok (.ifCond .gt 7, 3) := dk_157 0 7 (dk_at dksJ3_min_2_0 3 rfl rfl)
theorem dJ3_min_2_6 : decode cJ3_min_2 6 = .ok (.lload_n 0, 1) := dk_30 (dk_at dksJ3_min_2_0 6 rfl rfl)
theorem dJ3_min_2_7 : decode cJ3_min_2 7 = .ok (.goto 4, 3) := dk_167 0 4 (dk_at dksJ3_min_2_0 7 rfl rfl)
theorem dJ3_min_2_10 : decode cJ3_min_2 10 = .ok (.lload_n 2, 1) := dk_32 (dk_at dksJ3_min_2_0 10 rfl rfl)
theorem dJ3_min_2_11 : decode cJ3_min_2 11 = .ok (.lreturn, 1) := dk_173 (dk_at dksJ3_min_2_0 11 rfl rfl)
abbrev cJ3_abs : ByteArray := prog_20_method_59_code
def yJ3_abs : MethodName := ⟨RJ3, "abs", "(I)I"⟩
def dkwJ3_abs_0 : List UInt8 := [26, 156, 0, 8, 26, 116, 167, 0, 4, 26, 172]
abbrev dktJ3_abs_0 : List UInt8 := dkwJ3_abs_0 ++ []
theorem dksJ3_abs_0 : cJ3_abs.data.toList.drop 0 = dktJ3_abs_0 := by decide +kernel
theorem dJ3_abs_0 : decode cJ3_abs 0 = .ok (.iload_n 0, 1) := dk_26 (dk_at dksJ3_abs_0 0 rfl rfl)
theorem dJ3_abs_1 : decode cJ3_abs 1 = .ok (.ifCond .ge 8, 3) := dk_156 0 8 (dk_at dksJ3_abs_0 1 rfl rfl)
theorem dJ3_abs_4 : decode cJ3_abs 4 = .ok (.iload_n 0, 1) := dk_26 (dk_at dksJ3_abs_0 4 rfl rfl)
theorem dJ3_abs_5 : decode cJ3_abs 5 = .ok (.ineg, 1) := dk_116 (dk_at dksJ3_abs_0 5 rfl rfl)
theorem dJ3_abs_6 : decode cJ3_abs 6 = .ok (.goto 4, 3) := dk_167 0 4 (dk_at dksJ3_abs_0 6 rfl rfl)
theorem dJ3_abs_9 : decode cJ3_abs 9 = .ok (.iload_n 0, 1) := dk_26 (dk_at dksJ3_abs_0 9 rfl rfl)
theorem dJ3_abs_10 : decode cJ3_abs 10 = .ok (.ireturn, 1) := dk_172 (dk_at dksJ3_abs_0 10 rfl rfl)
abbrev cJ3_max : ByteArray := prog_20_method_65_code
def yJ3_max : MethodName := ⟨RJ3, "max", "(II)I"⟩
def dkwJ3_max_0 : List UInt8 := [26, 27, 161, 0, 7, 26, 167, 0, 4, 27, 172]
abbrev dktJ3_max_0 : List UInt8 := dkwJ3_max_0 ++ []
theorem dksJ3_max_0 : cJ3_max.data.toList.drop 0 = dktJ3_max_0 := by decide +kernel
theorem dJ3_max_0 : decode cJ3_max 0 = .ok (.iload_n 0, 1) := dk_26 (dk_at dksJ3_max_0 0 rfl rfl)
theorem dJ3_max_1 : decode cJ3_max 1 = .ok (.iload_n 1, 1) := dk_27 (dk_at dksJ3_max_0 1 rfl rfl)
theorem dJ3_max_2 : decode cJ3_max 2 = .ok (.if_icmp .lt 7, 3) := dk_161 0 7 (dk_at dksJ3_max_0 2 rfl rfl)
theorem dJ3_max_5 : decode cJ3_max 5 = .ok (.iload_n 0, 1) := dk_26 (dk_at dksJ3_max_0 5 rfl rfl)
theorem dJ3_max_6 : decode cJ3_max 6 = .ok (.goto 4, 3) := dk_167 0 4 (dk_at dksJ3_max_0 6 rfl rfl)
theorem dJ3_max_9 : decode cJ3_max 9 = .ok (.iload_n 1, 1) := dk_27 (dk_at dksJ3_max_0 9 rfl rfl)
theorem dJ3_max_10 : decode cJ3_max 10 = .ok (.ireturn, 1) := dk_172 (dk_at dksJ3_max_0 10 rfl rfl)
theorem q115 : (Jvm.Cond.initialized "java/lang/Math") ∈ lw_all := lw_g (lw_at lw_m1 12 rfl) rfl
theorem q585 : (Jvm.Cond.static ({ cls := "java/lang/Math", name := "min", desc := "(II)I" } : Jvm.MethodName)) ∈ lw_all := lw_g (lw_at lw_m3 2 rfl) rfl
theorem q586 : (Jvm.Cond.code ({ cls := "java/lang/Math", name := "min", desc := "(II)I" } : Jvm.MethodName) prog_20_method_69_code (2 : Nat) (Option.some Jvm.ClassFile.FieldType.int)) ∈ lw_all := lw_g (lw_at lw_m3 3 rfl) rfl
theorem q743 : (Jvm.Cond.static ({ cls := "java/lang/Math", name := "min", desc := "(JJ)J" } : Jvm.MethodName)) ∈ lw_all := lw_g (lw_at lw_m3 160 rfl) rfl
theorem q744 : (Jvm.Cond.code ({ cls := "java/lang/Math", name := "min", desc := "(JJ)J" } : Jvm.MethodName) prog_20_method_70_code (4 : Nat) (Option.some Jvm.ClassFile.FieldType.long)) ∈ lw_all := lw_g (lw_at lw_m3 161 rfl) rfl
theorem q978 : (Jvm.Cond.static ({ cls := "java/lang/Math", name := "abs", desc := "(I)I" } : Jvm.MethodName)) ∈ lw_all := lw_g (lw_at lw_m4 155 rfl) rfl
theorem q979 : (Jvm.Cond.code ({ cls := "java/lang/Math", name := "abs", desc := "(I)I" } : Jvm.MethodName) prog_20_method_59_code (1 : Nat) (Option.some Jvm.ClassFile.FieldType.int)) ∈ lw_all := lw_g (lw_at lw_m4 156 rfl) rfl
theorem q1128 : (Jvm.Cond.static ({ cls := "java/lang/Math", name := "max", desc := "(II)I" } : Jvm.MethodName)) ∈ lw_all := lw_g (lw_at lw_m5 65 rfl) rfl
theorem q1129 : (Jvm.Cond.code ({ cls := "java/lang/Math", name := "max", desc := "(II)I" } : Jvm.MethodName) prog_20_method_65_code (2 : Nat) (Option.some Jvm.ClassFile.FieldType.int)) ∈ lw_all := lw_g (lw_at lw_m5 66 rfl) rfl
/-! java/util/NoSuchElementException -/
set_option maxRecDepth 100000
def RJ4 : String := "java/util/NoSuchElementException"
def TJ4 : u_T := fun k => match k with
  | 0 => ("java/lang/Throwable", "cause", "Ljava/lang/Throwable;", false)
  | 1 => ("java/lang/Throwable", "stackTrace", "[Ljava/lang/StackTraceElement;", false)
  | 2 => ("java/lang/Throwable", "suppressedExceptions", "Ljava/util/List;", false)
  | 3 => ("java/lang/Throwable", "detailMessage", "Ljava/lang/String;", false)
  | 4 => ("java/lang/Throwable", "backtrace", "Ljava/lang/Object;", false)
  | _ => ("java/lang/Throwable", "depth", "I", false)
def tyJ4 : Nat → FieldType := fun k => match k with
  | 0 => .object "java/lang/Throwable"
  | 1 => .array (.object "java/lang/StackTraceElement")
  | 2 => .object "java/util/List"
  | 3 => .object "java/lang/String"
  | 4 => .object "java/lang/Object"
  | _ => .int
abbrev wsJ40 : List Cond := u_ws RJ4 TJ4 6
theorem nmJ4 : ∀ a, a < 6 → ∀ b, b < 6 → a ≠ b → (TJ4 a).2.1 ≠ (TJ4 b).2.1 := by decide +kernel
theorem tyJ4_ok : ∀ k, k < 6 → parseFieldDescriptor (TJ4 k).2.2.1 = some (tyJ4 k) := by decide +kernel
abbrev cJ4_init : ByteArray := prog_24_method_1_code
def yJ4_init : MethodName := ⟨RJ4, "<init>", "()V"⟩
theorem dJ4_init_0 : decode cJ4_init 0 = .ok (.aload_n 0, 1) := by decide +kernel
theorem dJ4_init_1 : decode cJ4_init 1 = .ok (.invokespecial 1, 3) := by decide +kernel
theorem dJ4_init_4 : decode cJ4_init 4 = .ok (.return_, 1) := by decide +kernel
theorem q123 : (Jvm.Cond.initialized "java/util/NoSuchElementException") ∈ lw_all := lw_g (lw_at lw_m1 20 rfl) rfl
theorem q489 : (Jvm.Cond.selects "java/util/NoSuchElementException" ({ cls := "java/lang/Throwable", name := "fillInStackTrace", desc := "()Ljava/lang/Throwable;" } : Jvm.MethodName) ({ cls := "java/lang/Throwable", name := "fillInStackTrace", desc := "()Ljava/lang/Throwable;" } : Jvm.MethodName)) ∈ lw_all := lw_g (lw_at lw_m2 146 rfl) rfl
theorem q1213 : (Jvm.Cond.instantiable "java/util/NoSuchElementException" (6 : Nat)) ∈ lw_all := lw_g (lw_at lw_m5 150 rfl) rfl
theorem q1214 : (Jvm.Cond.castable "java/util/NoSuchElementException" "java/util/NoSuchElementException") ∈ lw_tbl := lw_at lw_m5 151 rfl
theorem q1215 : (Jvm.Cond.selects "java/util/NoSuchElementException" ({ cls := "java/lang/Throwable", name := "fillInStackTrace", desc := "(I)Ljava/lang/Throwable;" } : Jvm.MethodName) ({ cls := "java/lang/Throwable", name := "fillInStackTrace", desc := "(I)Ljava/lang/Throwable;" } : Jvm.MethodName)) ∈ lw_all := lw_g (lw_at lw_m5 152 rfl) rfl
theorem q1216 : (Jvm.Cond.lays "java/util/NoSuchElementException" "java/lang/Throwable" "cause" "Ljava/lang/Throwable;") ∈ lw_all := lw_g (lw_at lw_m5 153 rfl) rfl
theorem q1217 : (Jvm.Cond.lays "java/util/NoSuchElementException" "java/lang/Throwable" "stackTrace" "[Ljava/lang/StackTraceElement;") ∈ lw_all := lw_g (lw_at lw_m5 154 rfl) rfl
theorem q1218 : (Jvm.Cond.lays "java/util/NoSuchElementException" "java/lang/Throwable" "suppressedExceptions" "Ljava/util/List;") ∈ lw_all := lw_g (lw_at lw_m5 155 rfl) rfl
theorem q1219 : (Jvm.Cond.lays "java/util/NoSuchElementException" "java/lang/Throwable" "detailMessage" "Ljava/lang/String;") ∈ lw_all := lw_g (lw_at lw_m5 156 rfl) rfl
theorem q1220 : (Jvm.Cond.lays "java/util/NoSuchElementException" "java/lang/Throwable" "backtrace" "Ljava/lang/Object;") ∈ lw_all := lw_g (lw_at lw_m5 157 rfl) rfl
theorem q1222 : (Jvm.Cond.instanceMethod ({ cls := "java/util/NoSuchElementException", name := "<init>", desc := "()V" } : Jvm.MethodName)) ∈ lw_all := lw_g (lw_at lw_m5 159 rfl) rfl
theorem q1223 : (Jvm.Cond.code ({ cls := "java/util/NoSuchElementException", name := "<init>", desc := "()V" } : Jvm.MethodName) prog_24_method_1_code (1 : Nat) (Option.none : Option Jvm.ClassFile.FieldType)) ∈ lw_all := lw_g (lw_at lw_m5 160 rfl) rfl
theorem q1224 : (Jvm.Cond.methodLink "java/util/NoSuchElementException" (1 : Nat) ({ cls := "java/lang/RuntimeException", name := "<init>", desc := "()V" } : Jvm.MethodName)) ∈ lw_all := lw_g (lw_at lw_m5 161 rfl) rfl
theorem q1231 : (Jvm.Cond.lays "java/util/NoSuchElementException" "java/lang/Throwable" "depth" "I") ∈ lw_all := lw_g (lw_at lw_m5 168 rfl) rfl
theorem q1232 : (Jvm.Cond.superclass "java/util/NoSuchElementException" "java/lang/RuntimeException") ∈ lw_all := lw_g (lw_at lw_m5 169 rfl) rfl
theorem q1925 : (Jvm.Cond.castable "java/util/NoSuchElementException" "java/lang/Object") ∈ lw_tbl := lw_at lw_m8 142 rfl
theorem in_J4 : ∀ w ∈ wsJ40, w ∈ lw_all := lw_in wsJ40 [1216, 1217, 1218, 1219, 1220, 1231] (by decide +kernel) (by decide +kernel)
/-! java/lang/Integer -/
set_option maxRecDepth 100000
def RJ5 : String := "java/lang/Integer"
abbrev cJ5_compare : ByteArray := prog_18_method_40_code
def yJ5_compare : MethodName := ⟨RJ5, "compare", "(II)I"⟩
def dkwJ5_compare_0 : List UInt8 := [26, 27, 162, 0, 7, 2, 167, 0, 13, 26, 27, 160, 0, 7, 3, 167, 0, 4, 4, 172]
abbrev dktJ5_compare_0 : List UInt8 := dkwJ5_compare_0 ++ []
theorem dksJ5_compare_0 : cJ5_compare.data.toList.drop 0 = dktJ5_compare_0 := by decide +kernel
theorem dJ5_compare_0 : decode cJ5_compare 0 = .ok (.iload_n 0, 1) := dk_26 (dk_at dksJ5_compare_0 0 rfl rfl)
theorem dJ5_compare_1 : decode cJ5_compare 1 = .ok (.iload_n 1, 1) := dk_27 (dk_at dksJ5_compare_0 1 rfl rfl)
theorem dJ5_compare_2 : decode cJ5_compare 2 = .ok (.if_icmp .ge 7, 3) := dk_162 0 7 (dk_at dksJ5_compare_0 2 rfl rfl)
theorem dJ5_compare_5 : decode cJ5_compare 5 = .ok (.iconst (-1), 1) := dk_2 (dk_at dksJ5_compare_0 5 rfl rfl)
theorem dJ5_compare_6 : decode cJ5_compare 6 = .ok (.goto 13, 3) := dk_167 0 13 (dk_at dksJ5_compare_0 6 rfl rfl)
theorem dJ5_compare_9 : decode cJ5_compare 9 = .ok (.iload_n 0, 1) := dk_26 (dk_at dksJ5_compare_0 9 rfl rfl)
theorem dJ5_compare_10 : decode cJ5_compare 10 = .ok (.iload_n 1, 1) := dk_27 (dk_at dksJ5_compare_0 10 rfl rfl)
theorem dJ5_compare_11 : decode cJ5_compare 11 = .ok (.if_icmp .ne 7, 3) := dk_160 0 7 (dk_at dksJ5_compare_0 11 rfl rfl)
theorem dJ5_compare_14 : decode cJ5_compare 14 = .ok (.iconst 0, 1) := dk_3 (dk_at dksJ5_compare_0 14 rfl rfl)
theorem dJ5_compare_15 : decode cJ5_compare 15 = .ok (.goto 4, 3) := dk_167 0 4 (dk_at dksJ5_compare_0 15 rfl rfl)
theorem dJ5_compare_18 : decode cJ5_compare 18 = .ok (.iconst 1, 1) := dk_4 (dk_at dksJ5_compare_0 18 rfl rfl)
theorem dJ5_compare_19 : decode cJ5_compare 19 = .ok (.ireturn, 1) := dk_172 (dk_at dksJ5_compare_0 19 rfl rfl)
abbrev cJ5_bitCount : ByteArray := prog_18_method_49_code
def yJ5_bitCount : MethodName := ⟨RJ5, "bitCount", "(I)I"⟩
def dkwJ5_bitCount_2 : List UInt8 := [26, 16, 63, 126, 172]
abbrev dktJ5_bitCount_2 : List UInt8 := dkwJ5_bitCount_2 ++ []
def dkwJ5_bitCount_1 : List UInt8 := [26, 26, 7, 124, 96, 19, 1, 11, 126, 59, 26, 26, 16, 8, 124, 96, 59, 26, 26, 16, 16, 124, 96, 59]
abbrev dktJ5_bitCount_1 : List UInt8 := dkwJ5_bitCount_1 ++ dktJ5_bitCount_2
def dkwJ5_bitCount_0 : List UInt8 := [26, 26, 4, 124, 19, 1, 9, 126, 100, 59, 26, 19, 1, 10, 126, 26, 5, 124, 19, 1, 10, 126, 96, 59]
abbrev dktJ5_bitCount_0 : List UInt8 := dkwJ5_bitCount_0 ++ dktJ5_bitCount_1
theorem dksJ5_bitCount_0 : cJ5_bitCount.data.toList.drop 0 = dktJ5_bitCount_0 := by decide +kernel
theorem dksJ5_bitCount_1 : cJ5_bitCount.data.toList.drop 24 = dktJ5_bitCount_1 := dk_seg dksJ5_bitCount_0 24 rfl rfl
theorem dksJ5_bitCount_2 : cJ5_bitCount.data.toList.drop 48 = dktJ5_bitCount_2 := dk_seg dksJ5_bitCount_1 24 rfl rfl
theorem dJ5_bitCount_0 : decode cJ5_bitCount 0 = .ok (.iload_n 0, 1) := dk_26 (dk_at dksJ5_bitCount_0 0 rfl rfl)
theorem dJ5_bitCount_1 : decode cJ5_bitCount 1 = .ok (.iload_n 0, 1) := dk_26 (dk_at dksJ5_bitCount_0 1 rfl rfl)
theorem dJ5_bitCount_2 : decode cJ5_bitCount 2 = .ok (.iconst 1, 1) := dk_4 (dk_at dksJ5_bitCount_0 2 rfl rfl)
theorem dJ5_bitCount_3 : decode cJ5_bitCount 3 = .ok (.iushr, 1) := dk_124 (dk_at dksJ5_bitCount_0 3 rfl rfl)
theorem dJ5_bitCount_4 : decode cJ5_bitCount 4 = .ok (.ldc_w 265, 3) := dk_19 1 9 (dk_at dksJ5_bitCount_0 4 rfl rfl)
theorem dJ5_bitCount_7 : decode cJ5_bitCount 7 = .ok (.iand, 1) := dk_126 (dk_at dksJ5_bitCount_0 7 rfl rfl)
theorem dJ5_bitCount_8 : decode cJ5_bitCount 8 = .ok (.isub, 1) := dk_100 (dk_at dksJ5_bitCount_0 8 rfl rfl)
theorem dJ5_bitCount_9 : decode cJ5_bitCount 9 = .ok (.istore_n 0, 1) := dk_59 (dk_at dksJ5_bitCount_0 9 rfl rfl)
theorem dJ5_bitCount_10 : decode cJ5_bitCount 10 = .ok (.iload_n 0, 1) := dk_26 (dk_at dksJ5_bitCount_0 10 rfl rfl)
theorem dJ5_bitCount_11 : decode cJ5_bitCount 11 = .ok (.ldc_w 266, 3) := dk_19 1 10 (dk_at dksJ5_bitCount_0 11 rfl rfl)
theorem dJ5_bitCount_14 : decode cJ5_bitCount 14 = .ok (.iand, 1) := dk_126 (dk_at dksJ5_bitCount_0 14 rfl rfl)
theorem dJ5_bitCount_15 : decode cJ5_bitCount 15 = .ok (.iload_n 0, 1) := dk_26 (dk_at dksJ5_bitCount_0 15 rfl rfl)
theorem dJ5_bitCount_16 : decode cJ5_bitCount 16 = .ok (.iconst 2, 1) := dk_5 (dk_at dksJ5_bitCount_0 16 rfl rfl)
theorem dJ5_bitCount_17 : decode cJ5_bitCount 17 = .ok (.iushr, 1) := dk_124 (dk_at dksJ5_bitCount_0 17 rfl rfl)
theorem dJ5_bitCount_18 : decode cJ5_bitCount 18 = .ok (.ldc_w 266, 3) := dk_19 1 10 (dk_at dksJ5_bitCount_0 18 rfl rfl)
theorem dJ5_bitCount_21 : decode cJ5_bitCount 21 = .ok (.iand, 1) := dk_126 (dk_at dksJ5_bitCount_0 21 rfl rfl)
theorem dJ5_bitCount_22 : decode cJ5_bitCount 22 = .ok (.iadd, 1) := dk_96 (dk_at dksJ5_bitCount_0 22 rfl rfl)
theorem dJ5_bitCount_23 : decode cJ5_bitCount 23 = .ok (.istore_n 0, 1) := dk_59 (dk_at dksJ5_bitCount_0 23 rfl rfl)
theorem dJ5_bitCount_24 : decode cJ5_bitCount 24 = .ok (.iload_n 0, 1) := dk_26 (dk_at dksJ5_bitCount_1 0 rfl rfl)
theorem dJ5_bitCount_25 : decode cJ5_bitCount 25 = .ok (.iload_n 0, 1) := dk_26 (dk_at dksJ5_bitCount_1 1 rfl rfl)
theorem dJ5_bitCount_26 : decode cJ5_bitCount 26 = .ok (.iconst 4, 1) := dk_7 (dk_at dksJ5_bitCount_1 2 rfl rfl)
theorem dJ5_bitCount_27 : decode cJ5_bitCount 27 = .ok (.iushr, 1) := dk_124 (dk_at dksJ5_bitCount_1 3 rfl rfl)
theorem dJ5_bitCount_28 : decode cJ5_bitCount 28 = .ok (.iadd, 1) := dk_96 (dk_at dksJ5_bitCount_1 4 rfl rfl)
theorem dJ5_bitCount_29 : decode cJ5_bitCount 29 = .ok (.ldc_w 267, 3) := dk_19 1 11 (dk_at dksJ5_bitCount_1 5 rfl rfl)
theorem dJ5_bitCount_32 : decode cJ5_bitCount 32 = .ok (.iand, 1) := dk_126 (dk_at dksJ5_bitCount_1 8 rfl rfl)
theorem dJ5_bitCount_33 : decode cJ5_bitCount 33 = .ok (.istore_n 0, 1) := dk_59 (dk_at dksJ5_bitCount_1 9 rfl rfl)
theorem dJ5_bitCount_34 : decode cJ5_bitCount 34 = .ok (.iload_n 0, 1) := dk_26 (dk_at dksJ5_bitCount_1 10 rfl rfl)
theorem dJ5_bitCount_35 : decode cJ5_bitCount 35 = .ok (.iload_n 0, 1) := dk_26 (dk_at dksJ5_bitCount_1 11 rfl rfl)
theorem dJ5_bitCount_36 : decode cJ5_bitCount 36 = .ok (.bipush 8, 2) := dk_16 8 (dk_at dksJ5_bitCount_1 12 rfl rfl)
theorem dJ5_bitCount_38 : decode cJ5_bitCount 38 = .ok (.iushr, 1) := dk_124 (dk_at dksJ5_bitCount_1 14 rfl rfl)
theorem dJ5_bitCount_39 : decode cJ5_bitCount 39 = .ok (.iadd, 1) := dk_96 (dk_at dksJ5_bitCount_1 15 rfl rfl)
theorem dJ5_bitCount_40 : decode cJ5_bitCount 40 = .ok (.istore_n 0, 1) := dk_59 (dk_at dksJ5_bitCount_1 16 rfl rfl)
theorem dJ5_bitCount_41 : decode cJ5_bitCount 41 = .ok (.iload_n 0, 1) := dk_26 (dk_at dksJ5_bitCount_1 17 rfl rfl)
theorem dJ5_bitCount_42 : decode cJ5_bitCount 42 = .ok (.iload_n 0, 1) := dk_26 (dk_at dksJ5_bitCount_1 18 rfl rfl)
theorem dJ5_bitCount_43 : decode cJ5_bitCount 43 = .ok (.bipush 16, 2) := dk_16 16 (dk_at dksJ5_bitCount_1 19 rfl rfl)
theorem dJ5_bitCount_45 : decode cJ5_bitCount 45 = .ok (.iushr, 1) := dk_124 (dk_at dksJ5_bitCount_1 21 rfl rfl)
theorem dJ5_bitCount_46 : decode cJ5_bitCount 46 = .ok (.iadd, 1) := dk_96 (dk_at dksJ5_bitCount_1 22 rfl rfl)
theorem dJ5_bitCount_47 : decode cJ5_bitCount 47 = .ok (.istore_n 0, 1) := dk_59 (dk_at dksJ5_bitCount_1 23 rfl rfl)
theorem dJ5_bitCount_48 : decode cJ5_bitCount 48 = .ok (.iload_n 0, 1) := dk_26 (dk_at dksJ5_bitCount_2 0 rfl rfl)
theorem dJ5_bitCount_49 : decode cJ5_bitCount 49 = .ok (.bipush 63, 2) := dk_16 63 (dk_at dksJ5_bitCount_2 1 rfl rfl)
theorem dJ5_bitCount_51 : decode cJ5_bitCount 51 = .ok (.iand, 1) := dk_126 (dk_at dksJ5_bitCount_2 3 rfl rfl)
theorem dJ5_bitCount_52 : decode cJ5_bitCount 52 = .ok (.ireturn, 1) := dk_172 (dk_at dksJ5_bitCount_2 4 rfl rfl)
theorem q125 : (Jvm.Cond.initialized "java/lang/Integer") ∈ lw_all := lw_g (lw_at lw_m1 22 rfl) rfl
theorem q989 : (Jvm.Cond.static ({ cls := "java/lang/Integer", name := "compare", desc := "(II)I" } : Jvm.MethodName)) ∈ lw_all := lw_g (lw_at lw_m4 166 rfl) rfl
theorem q990 : (Jvm.Cond.code ({ cls := "java/lang/Integer", name := "compare", desc := "(II)I" } : Jvm.MethodName) prog_18_method_40_code (2 : Nat) (Option.some Jvm.ClassFile.FieldType.int)) ∈ lw_all := lw_g (lw_at lw_m4 167 rfl) rfl
theorem q1090 : (Jvm.Cond.static ({ cls := "java/lang/Integer", name := "bitCount", desc := "(I)I" } : Jvm.MethodName)) ∈ lw_all := lw_g (lw_at lw_m5 27 rfl) rfl
theorem q1091 : (Jvm.Cond.code ({ cls := "java/lang/Integer", name := "bitCount", desc := "(I)I" } : Jvm.MethodName) prog_18_method_49_code (1 : Nat) (Option.some Jvm.ClassFile.FieldType.int)) ∈ lw_all := lw_g (lw_at lw_m5 28 rfl) rfl
theorem q1092 : (Jvm.Cond.constant "java/lang/Integer" (265 : Nat) (1431655765 : Int32)) ∈ lw_all := lw_g (lw_at lw_m5 29 rfl) rfl
theorem q1093 : (Jvm.Cond.constant "java/lang/Integer" (266 : Nat) (858993459 : Int32)) ∈ lw_all := lw_g (lw_at lw_m5 30 rfl) rfl
theorem q1094 : (Jvm.Cond.constant "java/lang/Integer" (267 : Nat) (252645135 : Int32)) ∈ lw_all := lw_g (lw_at lw_m5 31 rfl) rfl
/-! java/lang/Long -/
set_option maxRecDepth 100000
def RJ6 : String := "java/lang/Long"
abbrev cJ6_compare : ByteArray := prog_19_method_42_code
def yJ6_compare : MethodName := ⟨RJ6, "compare", "(JJ)I"⟩
def dkwJ6_compare_0 : List UInt8 := [30, 32, 148, 156, 0, 7, 2, 167, 0, 14, 30, 32, 148, 154, 0, 7, 3, 167, 0, 4, 4, 172]
abbrev dktJ6_compare_0 : List UInt8 := dkwJ6_compare_0 ++ []
theorem dksJ6_compare_0 : cJ6_compare.data.toList.drop 0 = dktJ6_compare_0 := by decide +kernel
theorem dJ6_compare_0 : decode cJ6_compare 0 = .ok (.lload_n 0, 1) := dk_30 (dk_at dksJ6_compare_0 0 rfl rfl)
theorem dJ6_compare_1 : decode cJ6_compare 1 = .ok (.lload_n 2, 1) := dk_32 (dk_at dksJ6_compare_0 1 rfl rfl)
theorem dJ6_compare_2 : decode cJ6_compare 2 = .ok (.lcmp, 1) := dk_148 (dk_at dksJ6_compare_0 2 rfl rfl)
theorem dJ6_compare_3 : decode cJ6_compare 3 = .ok (.ifCond .ge 7, 3) := dk_156 0 7 (dk_at dksJ6_compare_0 3 rfl rfl)
theorem dJ6_compare_6 : decode cJ6_compare 6 = .ok (.iconst (-1), 1) := dk_2 (dk_at dksJ6_compare_0 6 rfl rfl)
theorem dJ6_compare_7 : decode cJ6_compare 7 = .ok (.goto 14, 3) := dk_167 0 14 (dk_at dksJ6_compare_0 7 rfl rfl)
theorem dJ6_compare_10 : decode cJ6_compare 10 = .ok (.lload_n 0, 1) := dk_30 (dk_at dksJ6_compare_0 10 rfl rfl)
theorem dJ6_compare_11 : decode cJ6_compare 11 = .ok (.lload_n 2, 1) := dk_32 (dk_at dksJ6_compare_0 11 rfl rfl)
theorem dJ6_compare_12 : decode cJ6_compare 12 = .ok (.lcmp, 1) := dk_148 (dk_at dksJ6_compare_0 12 rfl rfl)
theorem dJ6_compare_13 : decode cJ6_compare 13 = .ok (.ifCond .ne 7, 3) := dk_154 0 7 (dk_at dksJ6_compare_0 13 rfl rfl)
theorem dJ6_compare_16 : decode cJ6_compare 16 = .ok (.iconst 0, 1) := dk_3 (dk_at dksJ6_compare_0 16 rfl rfl)
theorem dJ6_compare_17 : decode cJ6_compare 17 = .ok (.goto 4, 3) := dk_167 0 4 (dk_at dksJ6_compare_0 17 rfl rfl)
theorem dJ6_compare_20 : decode cJ6_compare 20 = .ok (.iconst 1, 1) := dk_4 (dk_at dksJ6_compare_0 20 rfl rfl)
theorem dJ6_compare_21 : decode cJ6_compare 21 = .ok (.ireturn, 1) := dk_172 (dk_at dksJ6_compare_0 21 rfl rfl)
theorem q126 : (Jvm.Cond.initialized "java/lang/Long") ∈ lw_all := lw_g (lw_at lw_m1 23 rfl) rfl
theorem q1190 : (Jvm.Cond.static ({ cls := "java/lang/Long", name := "compare", desc := "(JJ)I" } : Jvm.MethodName)) ∈ lw_all := lw_g (lw_at lw_m5 127 rfl) rfl
theorem q1191 : (Jvm.Cond.code ({ cls := "java/lang/Long", name := "compare", desc := "(JJ)I" } : Jvm.MethodName) prog_19_method_42_code (4 : Nat) (Option.some Jvm.ClassFile.FieldType.int)) ∈ lw_all := lw_g (lw_at lw_m5 128 rfl) rfl
/-! DayBoy$Almanac -/
set_option maxRecDepth 100000
def RX2 : String := "DayBoy$Almanac"
def TX2 : u_T := fun k => match k with
  | 0 => ("DayBoy$Almanac", "eras", "[LDayBoy$Era;", true)
  | _ => ("DayBoy$Almanac", "many", "I", false)
def tyX2 : Nat → FieldType := fun k => match k with
  | 0 => .array (.object "DayBoy$Era")
  | _ => .int
abbrev wsX20 : List Cond := u_ws RX2 TX2 2
theorem nmX2 : ∀ a, a < 2 → ∀ b, b < 2 → a ≠ b → (TX2 a).2.1 ≠ (TX2 b).2.1 := by decide +kernel
theorem tyX2_ok : ∀ k, k < 2 → parseFieldDescriptor (TX2 k).2.2.1 = some (tyX2 k) := by decide +kernel
abbrev cX2_init : ByteArray := prog_3_method_1_code
def yX2_init : MethodName := ⟨RX2, "<init>", "()V"⟩
def dkwX2_init_1 : List UInt8 := [187, 0, 9, 89, 183, 0, 17, 83, 132, 1, 1, 167, 255, 235, 177]
abbrev dktX2_init_1 : List UInt8 := dkwX2_init_1 ++ []
def dkwX2_init_0 : List UInt8 := [42, 183, 0, 3, 42, 7, 189, 0, 9, 181, 0, 11, 3, 60, 27, 6, 163, 0, 22, 42, 180, 0, 11, 27]
abbrev dktX2_init_0 : List UInt8 := dkwX2_init_0 ++ dktX2_init_1
theorem dksX2_init_0 : cX2_init.data.toList.drop 0 = dktX2_init_0 := by decide +kernel
theorem dksX2_init_1 : cX2_init.data.toList.drop 24 = dktX2_init_1 := dk_seg dksX2_init_0 24 rfl rfl
theorem dX2_init_0 : decode cX2_init 0 = .ok (.aload_n 0, 1) := dk_42 (dk_at dksX2_init_0 0 rfl rfl)
theorem dX2_init_1 : decode cX2_init 1 = .ok (.invokespecial 3, 3) := dk_183 0 3 (dk_at dksX2_init_0 1 rfl rfl)
theorem dX2_init_4 : decode cX2_init 4 = .ok (.aload_n 0, 1) := dk_42 (dk_at dksX2_init_0 4 rfl rfl)
theorem dX2_init_5 : decode cX2_init 5 = .ok (.iconst 4, 1) := dk_7 (dk_at dksX2_init_0 5 rfl rfl)
theorem dX2_init_6 : decode cX2_init 6 = .ok (.anewarray 9, 3) := dk_189 0 9 (dk_at dksX2_init_0 6 rfl rfl)
theorem dX2_init_9 : decode cX2_init 9 = .ok (.putfield 11, 3) := dk_181 0 11 (dk_at dksX2_init_0 9 rfl rfl)
theorem dX2_init_12 : decode cX2_init 12 = .ok (.iconst 0, 1) := dk_3 (dk_at dksX2_init_0 12 rfl rfl)
theorem dX2_init_13 : decode cX2_init 13 = .ok (.istore_n 1, 1) := dk_60 (dk_at dksX2_init_0 13 rfl rfl)
theorem dX2_init_14 : decode cX2_init 14 = .ok (.iload_n 1, 1) := dk_27 (dk_at dksX2_init_0 14 rfl rfl)
theorem dX2_init_15 : decode cX2_init 15 = .ok (.iconst 3, 1) := dk_6 (dk_at dksX2_init_0 15 rfl rfl)
theorem dX2_init_16 : decode cX2_init 16 = .ok (.if_icmp .gt 22, 3) := dk_163 0 22 (dk_at dksX2_init_0 16 rfl rfl)
theorem dX2_init_19 : decode cX2_init 19 = .ok (.aload_n 0, 1) := dk_42 (dk_at dksX2_init_0 19 rfl rfl)
theorem dX2_init_20 : decode cX2_init 20 = .ok (.getfield 11, 3) := dk_180 0 11 (dk_at dksX2_init_0 20 rfl rfl)
theorem dX2_init_23 : decode cX2_init 23 = .ok (.iload_n 1, 1) := dk_27 (dk_at dksX2_init_0 23 rfl rfl)
theorem dX2_init_24 : decode cX2_init 24 = .ok (.new 9, 3) := dk_187 0 9 (dk_at dksX2_init_1 0 rfl rfl)
theorem dX2_init_27 : decode cX2_init 27 = .ok (.dup, 1) := dk_89 (dk_at dksX2_init_1 3 rfl rfl)
theorem dX2_init_28 : decode cX2_init 28 = .ok (.invokespecial 17, 3) := dk_183 0 17 (dk_at dksX2_init_1 4 rfl rfl)
theorem dX2_init_31 : decode cX2_init 31 = .ok (.aastore, 1) := dk_83 (dk_at dksX2_init_1 7 rfl rfl)
theorem dX2_init_32 : decode cX2_init 32 = .ok (.iinc 1 1, 3) := dk_132 1 1 (dk_at dksX2_init_1 8 rfl rfl)
theorem dX2_init_35 : decode cX2_init 35 = .ok (.goto (-21), 3) := dk_167 255 235 (dk_at dksX2_init_1 11 rfl rfl)
theorem dX2_init_38 : decode cX2_init 38 = .ok (.return_, 1) := dk_177 (dk_at dksX2_init_1 14 rfl rfl)
abbrev cX2_add : ByteArray := prog_3_method_2_code
def yX2_add : MethodName := ⟨RX2, "add", "(I)LDayBoy$Era;"⟩
def dkwX2_add_1 : List UInt8 := [182, 0, 26, 176]
abbrev dktX2_add_1 : List UInt8 := dkwX2_add_1 ++ []
def dkwX2_add_0 : List UInt8 := [42, 180, 0, 11, 42, 180, 0, 18, 50, 27, 182, 0, 22, 42, 89, 180, 0, 18, 4, 96, 181, 0, 18, 42]
abbrev dktX2_add_0 : List UInt8 := dkwX2_add_0 ++ dktX2_add_1
theorem dksX2_add_0 : cX2_add.data.toList.drop 0 = dktX2_add_0 := by decide +kernel
theorem dksX2_add_1 : cX2_add.data.toList.drop 24 = dktX2_add_1 := dk_seg dksX2_add_0 24 rfl rfl
theorem dX2_add_0 : decode cX2_add 0 = .ok (.aload_n 0, 1) := dk_42 (dk_at dksX2_add_0 0 rfl rfl)
theorem dX2_add_1 : decode cX2_add 1 = .ok (.getfield 11, 3) := dk_180 0 11 (dk_at dksX2_add_0 1 rfl rfl)
theorem dX2_add_4 : decode cX2_add 4 = .ok (.aload_n 0, 1) := dk_42 (dk_at dksX2_add_0 4 rfl rfl)
theorem dX2_add_5 : decode cX2_add 5 = .ok (.getfield 18, 3) := dk_180 0 18 (dk_at dksX2_add_0 5 rfl rfl)
theorem dX2_add_8 : decode cX2_add 8 = .ok (.aaload, 1) := dk_50 (dk_at dksX2_add_0 8 rfl rfl)
theorem dX2_add_9 : decode cX2_add 9 = .ok (.iload_n 1, 1) := dk_27 (dk_at dksX2_add_0 9 rfl rfl)
theorem dX2_add_10 : decode cX2_add 10 = .ok (.invokevirtual 22, 3) := dk_182 0 22 (dk_at dksX2_add_0 10 rfl rfl)
theorem dX2_add_13 : decode cX2_add 13 = .ok (.aload_n 0, 1) := dk_42 (dk_at dksX2_add_0 13 rfl rfl)
theorem dX2_add_14 : decode cX2_add 14 = .ok (.dup, 1) := dk_89 (dk_at dksX2_add_0 14 rfl rfl)
theorem dX2_add_15 : decode cX2_add 15 = .ok (.getfield 18, 3) := dk_180 0 18 (dk_at dksX2_add_0 15 rfl rfl)
theorem dX2_add_18 : decode cX2_add 18 = .ok (.iconst 1, 1) := dk_4 (dk_at dksX2_add_0 18 rfl rfl)
theorem dX2_add_19 : decode cX2_add 19 = .ok (.iadd, 1) := dk_96 (dk_at dksX2_add_0 19 rfl rfl)
theorem dX2_add_20 : decode cX2_add 20 = .ok (.putfield 18, 3) := dk_181 0 18 (dk_at dksX2_add_0 20 rfl rfl)
theorem dX2_add_23 : decode cX2_add 23 = .ok (.aload_n 0, 1) := dk_42 (dk_at dksX2_add_0 23 rfl rfl)
theorem dX2_add_24 : decode cX2_add 24 = .ok (.invokevirtual 26, 3) := dk_182 0 26 (dk_at dksX2_add_1 0 rfl rfl)
theorem dX2_add_27 : decode cX2_add 27 = .ok (.areturn, 1) := dk_176 (dk_at dksX2_add_1 3 rfl rfl)
abbrev cX2_last : ByteArray := prog_3_method_3_code
def yX2_last : MethodName := ⟨RX2, "last", "()LDayBoy$Era;"⟩
def dkwX2_last_0 : List UInt8 := [42, 180, 0, 11, 42, 180, 0, 18, 4, 100, 50, 176]
abbrev dktX2_last_0 : List UInt8 := dkwX2_last_0 ++ []
theorem dksX2_last_0 : cX2_last.data.toList.drop 0 = dktX2_last_0 := by decide +kernel
theorem dX2_last_0 : decode cX2_last 0 = .ok (.aload_n 0, 1) := dk_42 (dk_at dksX2_last_0 0 rfl rfl)
theorem dX2_last_1 : decode cX2_last 1 = .ok (.getfield 11, 3) := dk_180 0 11 (dk_at dksX2_last_0 1 rfl rfl)
theorem dX2_last_4 : decode cX2_last 4 = .ok (.aload_n 0, 1) := dk_42 (dk_at dksX2_last_0 4 rfl rfl)
theorem dX2_last_5 : decode cX2_last 5 = .ok (.getfield 18, 3) := dk_180 0 18 (dk_at dksX2_last_0 5 rfl rfl)
theorem dX2_last_8 : decode cX2_last 8 = .ok (.iconst 1, 1) := dk_4 (dk_at dksX2_last_0 8 rfl rfl)
theorem dX2_last_9 : decode cX2_last 9 = .ok (.isub, 1) := dk_100 (dk_at dksX2_last_0 9 rfl rfl)
theorem dX2_last_10 : decode cX2_last 10 = .ok (.aaload, 1) := dk_50 (dk_at dksX2_last_0 10 rfl rfl)
theorem dX2_last_11 : decode cX2_last 11 = .ok (.areturn, 1) := dk_176 (dk_at dksX2_last_0 11 rfl rfl)
abbrev cX2_date : ByteArray := prog_3_method_9_code
def yX2_date : MethodName := ⟨RX2, "date", "(II)I"⟩
def dkwX2_date_3 : List UInt8 := [16, 7, 112, 172]
abbrev dktX2_date_3 : List UInt8 := dkwX2_date_3 ++ []
def dkwX2_date_2 : List UInt8 := [182, 0, 76, 167, 0, 24, 28, 5, 160, 0, 15, 45, 180, 0, 67, 21, 4, 182, 0, 79, 167, 0, 7, 27]
abbrev dktX2_date_2 : List UInt8 := dkwX2_date_2 ++ dktX2_date_3
def dkwX2_date_1 : List UInt8 := [180, 0, 67, 21, 4, 182, 0, 71, 167, 0, 41, 28, 4, 160, 0, 15, 45, 180, 0, 67, 21, 4]
abbrev dktX2_date_1 : List UInt8 := dkwX2_date_1 ++ dktX2_date_2
def dkwX2_date_0 : List UInt8 := [42, 27, 182, 0, 59, 78, 45, 199, 0, 5, 2, 172, 45, 27, 182, 0, 63, 54, 4, 28, 154, 0, 15, 45]
abbrev dktX2_date_0 : List UInt8 := dkwX2_date_0 ++ dktX2_date_1
theorem dksX2_date_0 : cX2_date.data.toList.drop 0 = dktX2_date_0 := by decide +kernel
theorem dksX2_date_1 : cX2_date.data.toList.drop 24 = dktX2_date_1 := dk_seg dksX2_date_0 24 rfl rfl
theorem dksX2_date_2 : cX2_date.data.toList.drop 46 = dktX2_date_2 := dk_seg dksX2_date_1 22 rfl rfl
theorem dksX2_date_3 : cX2_date.data.toList.drop 70 = dktX2_date_3 := dk_seg dksX2_date_2 24 rfl rfl
theorem dX2_date_0 : decode cX2_date 0 = .ok (.aload_n 0, 1) := dk_42 (dk_at dksX2_date_0 0 rfl rfl)
theorem dX2_date_1 : decode cX2_date 1 = .ok (.iload_n 1, 1) := dk_27 (dk_at dksX2_date_0 1 rfl rfl)
theorem dX2_date_2 : decode cX2_date 2 = .ok (.invokevirtual 59, 3) := dk_182 0 59 (dk_at dksX2_date_0 2 rfl rfl)
theorem dX2_date_5 : decode cX2_date 5 = .ok (.astore_n 3, 1) := dk_78 (dk_at dksX2_date_0 5 rfl rfl)
theorem dX2_date_6 : decode cX2_date 6 = .ok (.aload_n 3, 1) := dk_45 (dk_at dksX2_date_0 6 rfl rfl)
theorem dX2_date_7 : decode cX2_date 7 = .ok (.ifnonnull 5, 3) := dk_199 0 5 (dk_at dksX2_date_0 7 rfl rfl)
theorem dX2_date_10 : decode cX2_date 10 = .ok (.iconst (-1), 1) := dk_2 (dk_at dksX2_date_0 10 rfl rfl)
theorem dX2_date_11 : decode cX2_date 11 = .ok (.ireturn, 1) := dk_172 (dk_at dksX2_date_0 11 rfl rfl)
theorem dX2_date_12 : decode cX2_date 12 = .ok (.aload_n 3, 1) := dk_45 (dk_at dksX2_date_0 12 rfl rfl)
theorem dX2_date_13 : decode cX2_date 13 = .ok (.iload_n 1, 1) := dk_27 (dk_at dksX2_date_0 13 rfl rfl)
theorem dX2_date_14 : decode cX2_date 14 = .ok (.invokevirtual 63, 3) := dk_182 0 63 (dk_at dksX2_date_0 14 rfl rfl)
theorem dX2_date_17 : decode cX2_date 17 = .ok (.istore 4, 2) := dk_54 4 (dk_at dksX2_date_0 17 rfl rfl)
theorem dX2_date_19 : decode cX2_date 19 = .ok (.iload_n 2, 1) := dk_28 (dk_at dksX2_date_0 19 rfl rfl)
theorem dX2_date_20 : decode cX2_date 20 = .ok (.ifCond .ne 15, 3) := dk_154 0 15 (dk_at dksX2_date_0 20 rfl rfl)
theorem dX2_date_23 : decode cX2_date 23 = .ok (.aload_n 3, 1) := dk_45 (dk_at dksX2_date_0 23 rfl rfl)
theorem dX2_date_24 : decode cX2_date 24 = .ok (.getfield 67, 3) := dk_180 0 67 (dk_at dksX2_date_1 0 rfl rfl)
theorem dX2_date_27 : decode cX2_date 27 = .ok (.iload 4, 2) := dk_21 4 (dk_at dksX2_date_1 3 rfl rfl)
theorem dX2_date_29 : decode cX2_date 29 = .ok (.invokevirtual 71, 3) := dk_182 0 71 (dk_at dksX2_date_1 5 rfl rfl)
theorem dX2_date_32 : decode cX2_date 32 = .ok (.goto 41, 3) := dk_167 0 41 (dk_at dksX2_date_1 8 rfl rfl)
theorem dX2_date_35 : decode cX2_date 35 = .ok (.iload_n 2, 1) := dk_28 (dk_at dksX2_date_1 11 rfl rfl)
theorem dX2_date_36 : decode cX2_date 36 = .ok (.iconst 1, 1) := dk_4 (dk_at dksX2_date_1 12 rfl rfl)
theorem dX2_date_37 : decode cX2_date 37 = .ok (.if_icmp .ne 15, 3) := dk_160 0 15 (dk_at dksX2_date_1 13 rfl rfl)
theorem dX2_date_40 : decode cX2_date 40 = .ok (.aload_n 3, 1) := dk_45 (dk_at dksX2_date_1 16 rfl rfl)
theorem dX2_date_41 : decode cX2_date 41 = .ok (.getfield 67, 3) := dk_180 0 67 (dk_at dksX2_date_1 17 rfl rfl)
theorem dX2_date_44 : decode cX2_date 44 = .ok (.iload 4, 2) := dk_21 4 (dk_at dksX2_date_1 20 rfl rfl)
theorem dX2_date_46 : decode cX2_date 46 = .ok (.invokevirtual 76, 3) := dk_182 0 76 (dk_at dksX2_date_2 0 rfl rfl)
theorem dX2_date_49 : decode cX2_date 49 = .ok (.goto 24, 3) := dk_167 0 24 (dk_at dksX2_date_2 3 rfl rfl)
theorem dX2_date_52 : decode cX2_date 52 = .ok (.iload_n 2, 1) := dk_28 (dk_at dksX2_date_2 6 rfl rfl)
theorem dX2_date_53 : decode cX2_date 53 = .ok (.iconst 2, 1) := dk_5 (dk_at dksX2_date_2 7 rfl rfl)
theorem dX2_date_54 : decode cX2_date 54 = .ok (.if_icmp .ne 15, 3) := dk_160 0 15 (dk_at dksX2_date_2 8 rfl rfl)
theorem dX2_date_57 : decode cX2_date 57 = .ok (.aload_n 3, 1) := dk_45 (dk_at dksX2_date_2 11 rfl rfl)
theorem dX2_date_58 : decode cX2_date 58 = .ok (.getfield 67, 3) := dk_180 0 67 (dk_at dksX2_date_2 12 rfl rfl)
theorem dX2_date_61 : decode cX2_date 61 = .ok (.iload 4, 2) := dk_21 4 (dk_at dksX2_date_2 15 rfl rfl)
theorem dX2_date_63 : decode cX2_date 63 = .ok (.invokevirtual 79, 3) := dk_182 0 79 (dk_at dksX2_date_2 17 rfl rfl)
theorem dX2_date_66 : decode cX2_date 66 = .ok (.goto 7, 3) := dk_167 0 7 (dk_at dksX2_date_2 20 rfl rfl)
theorem dX2_date_69 : decode cX2_date 69 = .ok (.iload_n 1, 1) := dk_27 (dk_at dksX2_date_2 23 rfl rfl)
theorem dX2_date_70 : decode cX2_date 70 = .ok (.bipush 7, 2) := dk_16 7 (dk_at dksX2_date_3 0 rfl rfl)
theorem dX2_date_72 : decode cX2_date 72 = .ok (.irem, 1) := dk_112 (dk_at dksX2_date_3 2 rfl rfl)
theorem dX2_date_73 : decode cX2_date 73 = .ok (.ireturn, 1) := dk_172 (dk_at dksX2_date_3 3 rfl rfl)
abbrev cX2_eraAt : ByteArray := prog_3_method_8_code
def yX2_eraAt : MethodName := ⟨RX2, "eraAt", "(I)LDayBoy$Era;"⟩
def dkwX2_eraAt_1 : List UInt8 := [180, 0, 11, 28, 50, 176, 132, 2, 1, 167, 255, 225, 1, 176]
abbrev dktX2_eraAt_1 : List UInt8 := dkwX2_eraAt_1 ++ []
def dkwX2_eraAt_0 : List UInt8 := [3, 61, 28, 42, 180, 0, 18, 162, 0, 29, 42, 180, 0, 11, 28, 50, 27, 182, 0, 55, 153, 0, 10, 42]
abbrev dktX2_eraAt_0 : List UInt8 := dkwX2_eraAt_0 ++ dktX2_eraAt_1
theorem dksX2_eraAt_0 : cX2_eraAt.data.toList.drop 0 = dktX2_eraAt_0 := by decide +kernel
theorem dksX2_eraAt_1 : cX2_eraAt.data.toList.drop 24 = dktX2_eraAt_1 := dk_seg dksX2_eraAt_0 24 rfl rfl
theorem dX2_eraAt_0 : decode cX2_eraAt 0 = .ok (.iconst 0, 1) := dk_3 (dk_at dksX2_eraAt_0 0 rfl rfl)
theorem dX2_eraAt_1 : decode cX2_eraAt 1 = .ok (.istore_n 2, 1) := dk_61 (dk_at dksX2_eraAt_0 1 rfl rfl)
theorem dX2_eraAt_2 : decode cX2_eraAt 2 = .ok (.iload_n 2, 1) := dk_28 (dk_at dksX2_eraAt_0 2 rfl rfl)
theorem dX2_eraAt_3 : decode cX2_eraAt 3 = .ok (.aload_n 0, 1) := dk_42 (dk_at dksX2_eraAt_0 3 rfl rfl)
theorem dX2_eraAt_4 : decode cX2_eraAt 4 = .ok (.getfield 18, 3) := dk_180 0 18 (dk_at dksX2_eraAt_0 4 rfl rfl)
theorem dX2_eraAt_7 : decode cX2_eraAt 7 = .ok (.if_icmp .ge 29, 3) := dk_162 0 29 (dk_at dksX2_eraAt_0 7 rfl rfl)
theorem dX2_eraAt_10 : decode cX2_eraAt 10 = .ok (.aload_n 0, 1) := dk_42 (dk_at dksX2_eraAt_0 10 rfl rfl)
theorem dX2_eraAt_11 : decode cX2_eraAt 11 = .ok (.getfield 11, 3) := dk_180 0 11 (dk_at dksX2_eraAt_0 11 rfl rfl)
theorem dX2_eraAt_14 : decode cX2_eraAt 14 = .ok (.iload_n 2, 1) := dk_28 (dk_at dksX2_eraAt_0 14 rfl rfl)
theorem dX2_eraAt_15 : decode cX2_eraAt 15 = .ok (.aaload, 1) := dk_50 (dk_at dksX2_eraAt_0 15 rfl rfl)
theorem dX2_eraAt_16 : decode cX2_eraAt 16 = .ok (.iload_n 1, 1) := dk_27 (dk_at dksX2_eraAt_0 16 rfl rfl)
theorem dX2_eraAt_17 : decode cX2_eraAt 17 = .ok (.invokevirtual 55, 3) := dk_182 0 55 (dk_at dksX2_eraAt_0 17 rfl rfl)
theorem dX2_eraAt_20 : decode cX2_eraAt 20 = .ok (.ifCond .eq 10, 3) := dk_153 0 10 (dk_at dksX2_eraAt_0 20 rfl rfl)
theorem dX2_eraAt_23 : decode cX2_eraAt 23 = .ok (.aload_n 0, 1) := dk_42 (dk_at dksX2_eraAt_0 23 rfl rfl)
theorem dX2_eraAt_24 : decode cX2_eraAt 24 = .ok (.getfield 11, 3) := dk_180 0 11 (dk_at dksX2_eraAt_1 0 rfl rfl)
theorem dX2_eraAt_27 : decode cX2_eraAt 27 = .ok (.iload_n 2, 1) := dk_28 (dk_at dksX2_eraAt_1 3 rfl rfl)
theorem dX2_eraAt_28 : decode cX2_eraAt 28 = .ok (.aaload, 1) := dk_50 (dk_at dksX2_eraAt_1 4 rfl rfl)
theorem dX2_eraAt_29 : decode cX2_eraAt 29 = .ok (.areturn, 1) := dk_176 (dk_at dksX2_eraAt_1 5 rfl rfl)
theorem dX2_eraAt_30 : decode cX2_eraAt 30 = .ok (.iinc 2 1, 3) := dk_132 2 1 (dk_at dksX2_eraAt_1 6 rfl rfl)
theorem dX2_eraAt_33 : decode cX2_eraAt 33 = .ok (.goto (-31), 3) := dk_167 255 225 (dk_at dksX2_eraAt_1 9 rfl rfl)
theorem dX2_eraAt_36 : decode cX2_eraAt 36 = .ok (.aconst_null, 1) := dk_1 (dk_at dksX2_eraAt_1 12 rfl rfl)
theorem dX2_eraAt_37 : decode cX2_eraAt 37 = .ok (.areturn, 1) := dk_176 (dk_at dksX2_eraAt_1 13 rfl rfl)
abbrev cX2_has : ByteArray := prog_3_method_5_code
def yX2_has : MethodName := ⟨RX2, "has", "(III)Z"⟩
def dkwX2_has_0 : List UInt8 := [42, 27, 28, 29, 182, 0, 44, 198, 0, 7, 4, 167, 0, 4, 3, 172]
abbrev dktX2_has_0 : List UInt8 := dkwX2_has_0 ++ []
theorem dksX2_has_0 : cX2_has.data.toList.drop 0 = dktX2_has_0 := by decide +kernel
theorem dX2_has_0 : decode cX2_has 0 = .ok (.aload_n 0, 1) := dk_42 (dk_at dksX2_has_0 0 rfl rfl)
theorem dX2_has_1 : decode cX2_has 1 = .ok (.iload_n 1, 1) := dk_27 (dk_at dksX2_has_0 1 rfl rfl)
theorem dX2_has_2 : decode cX2_has 2 = .ok (.iload_n 2, 1) := dk_28 (dk_at dksX2_has_0 2 rfl rfl)
theorem dX2_has_3 : decode cX2_has 3 = .ok (.iload_n 3, 1) := dk_29 (dk_at dksX2_has_0 3 rfl rfl)
theorem dX2_has_4 : decode cX2_has 4 = .ok (.invokevirtual 44, 3) := dk_182 0 44 (dk_at dksX2_has_0 4 rfl rfl)
theorem dX2_has_7 : decode cX2_has 7 = .ok (.ifnull 7, 3) := dk_198 0 7 (dk_at dksX2_has_0 7 rfl rfl)
theorem dX2_has_10 : decode cX2_has 10 = .ok (.iconst 1, 1) := dk_4 (dk_at dksX2_has_0 10 rfl rfl)
theorem dX2_has_11 : decode cX2_has 11 = .ok (.goto 4, 3) := dk_167 0 4 (dk_at dksX2_has_0 11 rfl rfl)
theorem dX2_has_14 : decode cX2_has 14 = .ok (.iconst 0, 1) := dk_3 (dk_at dksX2_has_0 14 rfl rfl)
theorem dX2_has_15 : decode cX2_has 15 = .ok (.ireturn, 1) := dk_172 (dk_at dksX2_has_0 15 rfl rfl)
abbrev cX2_eraOf : ByteArray := prog_3_method_4_code
def yX2_eraOf : MethodName := ⟨RX2, "eraOf", "(III)LDayBoy$Era;"⟩
def dkwX2_eraOf_3 : List UInt8 := [21, 4, 50, 176, 132, 4, 1, 167, 255, 220, 1, 176]
abbrev dktX2_eraOf_3 : List UInt8 := dkwX2_eraOf_3 ++ []
def dkwX2_eraOf_2 : List UInt8 := [162, 0, 33, 42, 180, 0, 11, 21, 4, 50, 27, 28, 29, 182, 0, 40, 153, 0, 11, 42, 180, 0, 11]
abbrev dktX2_eraOf_2 : List UInt8 := dkwX2_eraOf_2 ++ dktX2_eraOf_3
def dkwX2_eraOf_1 : List UInt8 := [29, 133, 10, 20, 0, 38, 184, 0, 32, 154, 0, 5, 1, 176, 3, 54, 4, 21, 4, 42, 180, 0, 18]
abbrev dktX2_eraOf_1 : List UInt8 := dkwX2_eraOf_1 ++ dktX2_eraOf_2
def dkwX2_eraOf_0 : List UInt8 := [27, 133, 10, 20, 0, 30, 184, 0, 32, 153, 0, 27, 28, 133, 10, 20, 0, 36, 184, 0, 32, 153, 0, 15]
abbrev dktX2_eraOf_0 : List UInt8 := dkwX2_eraOf_0 ++ dktX2_eraOf_1
theorem dksX2_eraOf_0 : cX2_eraOf.data.toList.drop 0 = dktX2_eraOf_0 := by decide +kernel
theorem dksX2_eraOf_1 : cX2_eraOf.data.toList.drop 24 = dktX2_eraOf_1 := dk_seg dksX2_eraOf_0 24 rfl rfl
theorem dksX2_eraOf_2 : cX2_eraOf.data.toList.drop 47 = dktX2_eraOf_2 := dk_seg dksX2_eraOf_1 23 rfl rfl
theorem dksX2_eraOf_3 : cX2_eraOf.data.toList.drop 70 = dktX2_eraOf_3 := dk_seg dksX2_eraOf_2 23 rfl rfl
theorem dX2_eraOf_0 : decode cX2_eraOf 0 = .ok (.iload_n 1, 1) := dk_27 (dk_at dksX2_eraOf_0 0 rfl rfl)
theorem dX2_eraOf_1 : decode cX2_eraOf 1 = .ok (.i2l, 1) := dk_133 (dk_at dksX2_eraOf_0 1 rfl rfl)
theorem dX2_eraOf_2 : decode cX2_eraOf 2 = .ok (.lconst 1, 1) := dk_10 (dk_at dksX2_eraOf_0 2 rfl rfl)
theorem dX2_eraOf_3 : decode cX2_eraOf 3 = .ok (.ldc2_w 30, 3) := dk_20 0 30 (dk_at dksX2_eraOf_0 3 rfl rfl)
theorem dX2_eraOf_6 : decode cX2_eraOf 6 = .ok (.invokestatic 32, 3) := dk_184 0 32 (dk_at dksX2_eraOf_0 6 rfl rfl)
theorem dX2_eraOf_9 : decode cX2_eraOf 9 = .ok (.ifCond .eq 27, 3) := dk_153 0 27 (dk_at dksX2_eraOf_0 9 rfl rfl)
theorem dX2_eraOf_12 : decode cX2_eraOf 12 = .ok (.iload_n 2, 1) := dk_28 (dk_at dksX2_eraOf_0 12 rfl rfl)
theorem dX2_eraOf_13 : decode cX2_eraOf 13 = .ok (.i2l, 1) := dk_133 (dk_at dksX2_eraOf_0 13 rfl rfl)
theorem dX2_eraOf_14 : decode cX2_eraOf 14 = .ok (.lconst 1, 1) := dk_10 (dk_at dksX2_eraOf_0 14 rfl rfl)
theorem dX2_eraOf_15 : decode cX2_eraOf 15 = .ok (.ldc2_w 36, 3) := dk_20 0 36 (dk_at dksX2_eraOf_0 15 rfl rfl)
theorem dX2_eraOf_18 : decode cX2_eraOf 18 = .ok (.invokestatic 32, 3) := dk_184 0 32 (dk_at dksX2_eraOf_0 18 rfl rfl)
theorem dX2_eraOf_21 : decode cX2_eraOf 21 = .ok (.ifCond .eq 15, 3) := dk_153 0 15 (dk_at dksX2_eraOf_0 21 rfl rfl)
theorem dX2_eraOf_24 : decode cX2_eraOf 24 = .ok (.iload_n 3, 1) := dk_29 (dk_at dksX2_eraOf_1 0 rfl rfl)
theorem dX2_eraOf_25 : decode cX2_eraOf 25 = .ok (.i2l, 1) := dk_133 (dk_at dksX2_eraOf_1 1 rfl rfl)
theorem dX2_eraOf_26 : decode cX2_eraOf 26 = .ok (.lconst 1, 1) := dk_10 (dk_at dksX2_eraOf_1 2 rfl rfl)
theorem dX2_eraOf_27 : decode cX2_eraOf 27 = .ok (.ldc2_w 38, 3) := dk_20 0 38 (dk_at dksX2_eraOf_1 3 rfl rfl)
theorem dX2_eraOf_30 : decode cX2_eraOf 30 = .ok (.invokestatic 32, 3) := dk_184 0 32 (dk_at dksX2_eraOf_1 6 rfl rfl)
theorem dX2_eraOf_33 : decode cX2_eraOf 33 = .ok (.ifCond .ne 5, 3) := dk_154 0 5 (dk_at dksX2_eraOf_1 9 rfl rfl)
theorem dX2_eraOf_36 : decode cX2_eraOf 36 = .ok (.aconst_null, 1) := dk_1 (dk_at dksX2_eraOf_1 12 rfl rfl)
theorem dX2_eraOf_37 : decode cX2_eraOf 37 = .ok (.areturn, 1) := dk_176 (dk_at dksX2_eraOf_1 13 rfl rfl)
theorem dX2_eraOf_38 : decode cX2_eraOf 38 = .ok (.iconst 0, 1) := dk_3 (dk_at dksX2_eraOf_1 14 rfl rfl)
theorem dX2_eraOf_39 : decode cX2_eraOf 39 = .ok (.istore 4, 2) := dk_54 4 (dk_at dksX2_eraOf_1 15 rfl rfl)
theorem dX2_eraOf_41 : decode cX2_eraOf 41 = .ok (.iload 4, 2) := dk_21 4 (dk_at dksX2_eraOf_1 17 rfl rfl)
theorem dX2_eraOf_43 : decode cX2_eraOf 43 = .ok (.aload_n 0, 1) := dk_42 (dk_at dksX2_eraOf_1 19 rfl rfl)
theorem dX2_eraOf_44 : decode cX2_eraOf 44 = .ok (.getfield 18, 3) := dk_180 0 18 (dk_at dksX2_eraOf_1 20 rfl rfl)
theorem dX2_eraOf_47 : decode cX2_eraOf 47 = .ok (.if_icmp .ge 33, 3) := dk_162 0 33 (dk_at dksX2_eraOf_2 0 rfl rfl)
theorem dX2_eraOf_50 : decode cX2_eraOf 50 = .ok (.aload_n 0, 1) := dk_42 (dk_at dksX2_eraOf_2 3 rfl rfl)
theorem dX2_eraOf_51 : decode cX2_eraOf 51 = .ok (.getfield 11, 3) := dk_180 0 11 (dk_at dksX2_eraOf_2 4 rfl rfl)
theorem dX2_eraOf_54 : decode cX2_eraOf 54 = .ok (.iload 4, 2) := dk_21 4 (dk_at dksX2_eraOf_2 7 rfl rfl)
theorem dX2_eraOf_56 : decode cX2_eraOf 56 = .ok (.aaload, 1) := dk_50 (dk_at dksX2_eraOf_2 9 rfl rfl)
theorem dX2_eraOf_57 : decode cX2_eraOf 57 = .ok (.iload_n 1, 1) := dk_27 (dk_at dksX2_eraOf_2 10 rfl rfl)
theorem dX2_eraOf_58 : decode cX2_eraOf 58 = .ok (.iload_n 2, 1) := dk_28 (dk_at dksX2_eraOf_2 11 rfl rfl)
theorem dX2_eraOf_59 : decode cX2_eraOf 59 = .ok (.iload_n 3, 1) := dk_29 (dk_at dksX2_eraOf_2 12 rfl rfl)
theorem dX2_eraOf_60 : decode cX2_eraOf 60 = .ok (.invokevirtual 40, 3) := dk_182 0 40 (dk_at dksX2_eraOf_2 13 rfl rfl)
theorem dX2_eraOf_63 : decode cX2_eraOf 63 = .ok (.ifCond .eq 11, 3) := dk_153 0 11 (dk_at dksX2_eraOf_2 16 rfl rfl)
theorem dX2_eraOf_66 : decode cX2_eraOf 66 = .ok (.aload_n 0, 1) := dk_42 (dk_at dksX2_eraOf_2 19 rfl rfl)
theorem dX2_eraOf_67 : decode cX2_eraOf 67 = .ok (.getfield 11, 3) := dk_180 0 11 (dk_at dksX2_eraOf_2 20 rfl rfl)
theorem dX2_eraOf_70 : decode cX2_eraOf 70 = .ok (.iload 4, 2) := dk_21 4 (dk_at dksX2_eraOf_3 0 rfl rfl)
theorem dX2_eraOf_72 : decode cX2_eraOf 72 = .ok (.aaload, 1) := dk_50 (dk_at dksX2_eraOf_3 2 rfl rfl)
theorem dX2_eraOf_73 : decode cX2_eraOf 73 = .ok (.areturn, 1) := dk_176 (dk_at dksX2_eraOf_3 3 rfl rfl)
theorem dX2_eraOf_74 : decode cX2_eraOf 74 = .ok (.iinc 4 1, 3) := dk_132 4 1 (dk_at dksX2_eraOf_3 4 rfl rfl)
theorem dX2_eraOf_77 : decode cX2_eraOf 77 = .ok (.goto (-36), 3) := dk_167 255 220 (dk_at dksX2_eraOf_3 7 rfl rfl)
theorem dX2_eraOf_80 : decode cX2_eraOf 80 = .ok (.aconst_null, 1) := dk_1 (dk_at dksX2_eraOf_3 10 rfl rfl)
theorem dX2_eraOf_81 : decode cX2_eraOf 81 = .ok (.areturn, 1) := dk_176 (dk_at dksX2_eraOf_3 11 rfl rfl)
abbrev cX2_day : ByteArray := prog_3_method_6_code
def yX2_day : MethodName := ⟨RX2, "day", "(III)I"⟩
def dkwX2_day_0 : List UInt8 := [42, 27, 28, 29, 182, 0, 44, 27, 28, 29, 182, 0, 48, 172]
abbrev dktX2_day_0 : List UInt8 := dkwX2_day_0 ++ []
theorem dksX2_day_0 : cX2_day.data.toList.drop 0 = dktX2_day_0 := by decide +kernel
theorem dX2_day_0 : decode cX2_day 0 = .ok (.aload_n 0, 1) := dk_42 (dk_at dksX2_day_0 0 rfl rfl)
theorem dX2_day_1 : decode cX2_day 1 = .ok (.iload_n 1, 1) := dk_27 (dk_at dksX2_day_0 1 rfl rfl)
theorem dX2_day_2 : decode cX2_day 2 = .ok (.iload_n 2, 1) := dk_28 (dk_at dksX2_day_0 2 rfl rfl)
theorem dX2_day_3 : decode cX2_day 3 = .ok (.iload_n 3, 1) := dk_29 (dk_at dksX2_day_0 3 rfl rfl)
theorem dX2_day_4 : decode cX2_day 4 = .ok (.invokevirtual 44, 3) := dk_182 0 44 (dk_at dksX2_day_0 4 rfl rfl)
theorem dX2_day_7 : decode cX2_day 7 = .ok (.iload_n 1, 1) := dk_27 (dk_at dksX2_day_0 7 rfl rfl)
theorem dX2_day_8 : decode cX2_day 8 = .ok (.iload_n 2, 1) := dk_28 (dk_at dksX2_day_0 8 rfl rfl)
theorem dX2_day_9 : decode cX2_day 9 = .ok (.iload_n 3, 1) := dk_29 (dk_at dksX2_day_0 9 rfl rfl)
theorem dX2_day_10 : decode cX2_day 10 = .ok (.invokevirtual 48, 3) := dk_182 0 48 (dk_at dksX2_day_0 10 rfl rfl)
theorem dX2_day_13 : decode cX2_day 13 = .ok (.ireturn, 1) := dk_172 (dk_at dksX2_day_0 13 rfl rfl)
abbrev cX2_manyIn : ByteArray := prog_3_method_11_code
def yX2_manyIn : MethodName := ⟨RX2, "manyIn", "(II)I"⟩
def dkwX2_manyIn_1 : List UInt8 := [4, 167, 0, 4, 3, 96, 62, 132, 4, 1, 167, 255, 227, 29, 172]
abbrev dktX2_manyIn_1 : List UInt8 := dkwX2_manyIn_1 ++ []
def dkwX2_manyIn_0 : List UInt8 := [3, 62, 4, 54, 4, 21, 4, 16, 32, 162, 0, 28, 29, 42, 27, 28, 21, 4, 182, 0, 82, 153, 0, 7]
abbrev dktX2_manyIn_0 : List UInt8 := dkwX2_manyIn_0 ++ dktX2_manyIn_1
theorem dksX2_manyIn_0 : cX2_manyIn.data.toList.drop 0 = dktX2_manyIn_0 := by decide +kernel
theorem dksX2_manyIn_1 : cX2_manyIn.data.toList.drop 24 = dktX2_manyIn_1 := dk_seg dksX2_manyIn_0 24 rfl rfl
theorem dX2_manyIn_0 : decode cX2_manyIn 0 = .ok (.iconst 0, 1) := dk_3 (dk_at dksX2_manyIn_0 0 rfl rfl)
theorem dX2_manyIn_1 : decode cX2_manyIn 1 = .ok (.istore_n 3, 1) := dk_62 (dk_at dksX2_manyIn_0 1 rfl rfl)
theorem dX2_manyIn_2 : decode cX2_manyIn 2 = .ok (.iconst 1, 1) := dk_4 (dk_at dksX2_manyIn_0 2 rfl rfl)
theorem dX2_manyIn_3 : decode cX2_manyIn 3 = .ok (.istore 4, 2) := dk_54 4 (dk_at dksX2_manyIn_0 3 rfl rfl)
theorem dX2_manyIn_5 : decode cX2_manyIn 5 = .ok (.iload 4, 2) := dk_21 4 (dk_at dksX2_manyIn_0 5 rfl rfl)
theorem dX2_manyIn_7 : decode cX2_manyIn 7 = .ok (.bipush 32, 2) := dk_16 32 (dk_at dksX2_manyIn_0 7 rfl rfl)
theorem dX2_manyIn_9 : decode cX2_manyIn 9 = .ok (.if_icmp .ge 28, 3) := dk_162 0 28 (dk_at dksX2_manyIn_0 9 rfl rfl)
theorem dX2_manyIn_12 : decode cX2_manyIn 12 = .ok (.iload_n 3, 1) := dk_29 (dk_at dksX2_manyIn_0 12 rfl rfl)
theorem dX2_manyIn_13 : decode cX2_manyIn 13 = .ok (.aload_n 0, 1) := dk_42 (dk_at dksX2_manyIn_0 13 rfl rfl)
theorem dX2_manyIn_14 : decode cX2_manyIn 14 = .ok (.iload_n 1, 1) := dk_27 (dk_at dksX2_manyIn_0 14 rfl rfl)
theorem dX2_manyIn_15 : decode cX2_manyIn 15 = .ok (.iload_n 2, 1) := dk_28 (dk_at dksX2_manyIn_0 15 rfl rfl)
theorem dX2_manyIn_16 : decode cX2_manyIn 16 = .ok (.iload 4, 2) := dk_21 4 (dk_at dksX2_manyIn_0 16 rfl rfl)
theorem dX2_manyIn_18 : decode cX2_manyIn 18 = .ok (.invokevirtual 82, 3) := dk_182 0 82 (dk_at dksX2_manyIn_0 18 rfl rfl)
theorem dX2_manyIn_21 : decode cX2_manyIn 21 = .ok (.ifCond .eq 7, 3) := dk_153 0 7 (dk_at dksX2_manyIn_0 21 rfl rfl)
theorem dX2_manyIn_24 : decode cX2_manyIn 24 = .ok (.iconst 1, 1) := dk_4 (dk_at dksX2_manyIn_1 0 rfl rfl)
theorem dX2_manyIn_25 : decode cX2_manyIn 25 = .ok (.goto 4, 3) := dk_167 0 4 (dk_at dksX2_manyIn_1 1 rfl rfl)
theorem dX2_manyIn_28 : decode cX2_manyIn 28 = .ok (.iconst 0, 1) := dk_3 (dk_at dksX2_manyIn_1 4 rfl rfl)
theorem dX2_manyIn_29 : decode cX2_manyIn 29 = .ok (.iadd, 1) := dk_96 (dk_at dksX2_manyIn_1 5 rfl rfl)
theorem dX2_manyIn_30 : decode cX2_manyIn 30 = .ok (.istore_n 3, 1) := dk_62 (dk_at dksX2_manyIn_1 6 rfl rfl)
theorem dX2_manyIn_31 : decode cX2_manyIn 31 = .ok (.iinc 4 1, 3) := dk_132 4 1 (dk_at dksX2_manyIn_1 7 rfl rfl)
theorem dX2_manyIn_34 : decode cX2_manyIn 34 = .ok (.goto (-29), 3) := dk_167 255 227 (dk_at dksX2_manyIn_1 10 rfl rfl)
theorem dX2_manyIn_37 : decode cX2_manyIn 37 = .ok (.iload_n 3, 1) := dk_29 (dk_at dksX2_manyIn_1 13 rfl rfl)
theorem dX2_manyIn_38 : decode cX2_manyIn 38 = .ok (.ireturn, 1) := dk_172 (dk_at dksX2_manyIn_1 14 rfl rfl)
abbrev cX2_kind : ByteArray := prog_3_method_10_code
def yX2_kind : MethodName := ⟨RX2, "kind", "(I)I"⟩
def dkwX2_kind_3 : List UInt8 := [100, 167, 0, 4, 2, 172]
abbrev dktX2_kind_3 : List UInt8 := dkwX2_kind_3 ++ []
def dkwX2_kind_2 : List UInt8 := [159, 0, 10, 28, 17, 1, 109, 160, 0, 21, 5, 42, 27, 4, 4, 182, 0, 83, 104, 28, 96, 17, 1, 108]
abbrev dktX2_kind_2 : List UInt8 := dkwX2_kind_2 ++ dktX2_kind_3
def dkwX2_kind_1 : List UInt8 := [42, 27, 16, 12, 16, 31, 182, 0, 52, 42, 27, 4, 4, 182, 0, 52, 100, 61, 28, 17, 1, 108]
abbrev dktX2_kind_1 : List UInt8 := dkwX2_kind_1 ++ dktX2_kind_2
def dkwX2_kind_0 : List UInt8 := [42, 27, 4, 4, 182, 0, 82, 153, 0, 15, 42, 27, 16, 12, 16, 31, 182, 0, 82, 154, 0, 5, 2, 172]
abbrev dktX2_kind_0 : List UInt8 := dkwX2_kind_0 ++ dktX2_kind_1
theorem dksX2_kind_0 : cX2_kind.data.toList.drop 0 = dktX2_kind_0 := by decide +kernel
theorem dksX2_kind_1 : cX2_kind.data.toList.drop 24 = dktX2_kind_1 := dk_seg dksX2_kind_0 24 rfl rfl
theorem dksX2_kind_2 : cX2_kind.data.toList.drop 46 = dktX2_kind_2 := dk_seg dksX2_kind_1 22 rfl rfl
theorem dksX2_kind_3 : cX2_kind.data.toList.drop 70 = dktX2_kind_3 := dk_seg dksX2_kind_2 24 rfl rfl
theorem dX2_kind_0 : decode cX2_kind 0 = .ok (.aload_n 0, 1) := dk_42 (dk_at dksX2_kind_0 0 rfl rfl)
theorem dX2_kind_1 : decode cX2_kind 1 = .ok (.iload_n 1, 1) := dk_27 (dk_at dksX2_kind_0 1 rfl rfl)
theorem dX2_kind_2 : decode cX2_kind 2 = .ok (.iconst 1, 1) := dk_4 (dk_at dksX2_kind_0 2 rfl rfl)
theorem dX2_kind_3 : decode cX2_kind 3 = .ok (.iconst 1, 1) := dk_4 (dk_at dksX2_kind_0 3 rfl rfl)
theorem dX2_kind_4 : decode cX2_kind 4 = .ok (.invokevirtual 82, 3) := dk_182 0 82 (dk_at dksX2_kind_0 4 rfl rfl)
theorem dX2_kind_7 : decode cX2_kind 7 = .ok (.ifCond .eq 15, 3) := dk_153 0 15 (dk_at dksX2_kind_0 7 rfl rfl)
theorem dX2_kind_10 : decode cX2_kind 10 = .ok (.aload_n 0, 1) := dk_42 (dk_at dksX2_kind_0 10 rfl rfl)
theorem dX2_kind_11 : decode cX2_kind 11 = .ok (.iload_n 1, 1) := dk_27 (dk_at dksX2_kind_0 11 rfl rfl)
theorem dX2_kind_12 : decode cX2_kind 12 = .ok (.bipush 12, 2) := dk_16 12 (dk_at dksX2_kind_0 12 rfl rfl)
theorem dX2_kind_14 : decode cX2_kind 14 = .ok (.bipush 31, 2) := dk_16 31 (dk_at dksX2_kind_0 14 rfl rfl)
theorem dX2_kind_16 : decode cX2_kind 16 = .ok (.invokevirtual 82, 3) := dk_182 0 82 (dk_at dksX2_kind_0 16 rfl rfl)
theorem dX2_kind_19 : decode cX2_kind 19 = .ok (.ifCond .ne 5, 3) := dk_154 0 5 (dk_at dksX2_kind_0 19 rfl rfl)
theorem dX2_kind_22 : decode cX2_kind 22 = .ok (.iconst (-1), 1) := dk_2 (dk_at dksX2_kind_0 22 rfl rfl)
theorem dX2_kind_23 : decode cX2_kind 23 = .ok (.ireturn, 1) := dk_172 (dk_at dksX2_kind_0 23 rfl rfl)
theorem dX2_kind_24 : decode cX2_kind 24 = .ok (.aload_n 0, 1) := dk_42 (dk_at dksX2_kind_1 0 rfl rfl)
theorem dX2_kind_25 : decode cX2_kind 25 = .ok (.iload_n 1, 1) := dk_27 (dk_at dksX2_kind_1 1 rfl rfl)
theorem dX2_kind_26 : decode cX2_kind 26 = .ok (.bipush 12, 2) := dk_16 12 (dk_at dksX2_kind_1 2 rfl rfl)
theorem dX2_kind_28 : decode cX2_kind 28 = .ok (.bipush 31, 2) := dk_16 31 (dk_at dksX2_kind_1 4 rfl rfl)
theorem dX2_kind_30 : decode cX2_kind 30 = .ok (.invokevirtual 52, 3) := dk_182 0 52 (dk_at dksX2_kind_1 6 rfl rfl)
theorem dX2_kind_33 : decode cX2_kind 33 = .ok (.aload_n 0, 1) := dk_42 (dk_at dksX2_kind_1 9 rfl rfl)
theorem dX2_kind_34 : decode cX2_kind 34 = .ok (.iload_n 1, 1) := dk_27 (dk_at dksX2_kind_1 10 rfl rfl)
theorem dX2_kind_35 : decode cX2_kind 35 = .ok (.iconst 1, 1) := dk_4 (dk_at dksX2_kind_1 11 rfl rfl)
theorem dX2_kind_36 : decode cX2_kind 36 = .ok (.iconst 1, 1) := dk_4 (dk_at dksX2_kind_1 12 rfl rfl)
theorem dX2_kind_37 : decode cX2_kind 37 = .ok (.invokevirtual 52, 3) := dk_182 0 52 (dk_at dksX2_kind_1 13 rfl rfl)
theorem dX2_kind_40 : decode cX2_kind 40 = .ok (.isub, 1) := dk_100 (dk_at dksX2_kind_1 16 rfl rfl)
theorem dX2_kind_41 : decode cX2_kind 41 = .ok (.istore_n 2, 1) := dk_61 (dk_at dksX2_kind_1 17 rfl rfl)
theorem dX2_kind_42 : decode cX2_kind 42 = .ok (.iload_n 2, 1) := dk_28 (dk_at dksX2_kind_1 18 rfl rfl)
theorem dX2_kind_43 : decode cX2_kind 43 = .ok (.sipush 364, 3) := dk_17 1 108 (dk_at dksX2_kind_1 19 rfl rfl)
theorem dX2_kind_46 : decode cX2_kind 46 = .ok (.if_icmp .eq 10, 3) := dk_159 0 10 (dk_at dksX2_kind_2 0 rfl rfl)
theorem dX2_kind_49 : decode cX2_kind 49 = .ok (.iload_n 2, 1) := dk_28 (dk_at dksX2_kind_2 3 rfl rfl)
theorem dX2_kind_50 : decode cX2_kind 50 = .ok (.sipush 365, 3) := dk_17 1 109 (dk_at dksX2_kind_2 4 rfl rfl)
theorem dX2_kind_53 : decode cX2_kind 53 = .ok (.if_icmp .ne 21, 3) := dk_160 0 21 (dk_at dksX2_kind_2 7 rfl rfl)
theorem dX2_kind_56 : decode cX2_kind 56 = .ok (.iconst 2, 1) := dk_5 (dk_at dksX2_kind_2 10 rfl rfl)
theorem dX2_kind_57 : decode cX2_kind 57 = .ok (.aload_n 0, 1) := dk_42 (dk_at dksX2_kind_2 11 rfl rfl)
theorem dX2_kind_58 : decode cX2_kind 58 = .ok (.iload_n 1, 1) := dk_27 (dk_at dksX2_kind_2 12 rfl rfl)
theorem dX2_kind_59 : decode cX2_kind 59 = .ok (.iconst 1, 1) := dk_4 (dk_at dksX2_kind_2 13 rfl rfl)
theorem dX2_kind_60 : decode cX2_kind 60 = .ok (.iconst 1, 1) := dk_4 (dk_at dksX2_kind_2 14 rfl rfl)
theorem dX2_kind_61 : decode cX2_kind 61 = .ok (.invokevirtual 83, 3) := dk_182 0 83 (dk_at dksX2_kind_2 15 rfl rfl)
theorem dX2_kind_64 : decode cX2_kind 64 = .ok (.imul, 1) := dk_104 (dk_at dksX2_kind_2 18 rfl rfl)
theorem dX2_kind_65 : decode cX2_kind 65 = .ok (.iload_n 2, 1) := dk_28 (dk_at dksX2_kind_2 19 rfl rfl)
theorem dX2_kind_66 : decode cX2_kind 66 = .ok (.iadd, 1) := dk_96 (dk_at dksX2_kind_2 20 rfl rfl)
theorem dX2_kind_67 : decode cX2_kind 67 = .ok (.sipush 364, 3) := dk_17 1 108 (dk_at dksX2_kind_2 21 rfl rfl)
theorem dX2_kind_70 : decode cX2_kind 70 = .ok (.isub, 1) := dk_100 (dk_at dksX2_kind_3 0 rfl rfl)
theorem dX2_kind_71 : decode cX2_kind 71 = .ok (.goto 4, 3) := dk_167 0 4 (dk_at dksX2_kind_3 1 rfl rfl)
theorem dX2_kind_74 : decode cX2_kind 74 = .ok (.iconst (-1), 1) := dk_2 (dk_at dksX2_kind_3 4 rfl rfl)
theorem dX2_kind_75 : decode cX2_kind 75 = .ok (.ireturn, 1) := dk_172 (dk_at dksX2_kind_3 5 rfl rfl)
abbrev cX2_week : ByteArray := prog_3_method_7_code
def yX2_week : MethodName := ⟨RX2, "week", "(III)I"⟩
def dkwX2_week_0 : List UInt8 := [42, 27, 28, 29, 182, 0, 52, 16, 7, 112, 172]
abbrev dktX2_week_0 : List UInt8 := dkwX2_week_0 ++ []
theorem dksX2_week_0 : cX2_week.data.toList.drop 0 = dktX2_week_0 := by decide +kernel
theorem dX2_week_0 : decode cX2_week 0 = .ok (.aload_n 0, 1) := dk_42 (dk_at dksX2_week_0 0 rfl rfl)
theorem dX2_week_1 : decode cX2_week 1 = .ok (.iload_n 1, 1) := dk_27 (dk_at dksX2_week_0 1 rfl rfl)
theorem dX2_week_2 : decode cX2_week 2 = .ok (.iload_n 2, 1) := dk_28 (dk_at dksX2_week_0 2 rfl rfl)
theorem dX2_week_3 : decode cX2_week 3 = .ok (.iload_n 3, 1) := dk_29 (dk_at dksX2_week_0 3 rfl rfl)
theorem dX2_week_4 : decode cX2_week 4 = .ok (.invokevirtual 52, 3) := dk_182 0 52 (dk_at dksX2_week_0 4 rfl rfl)
theorem dX2_week_7 : decode cX2_week 7 = .ok (.bipush 7, 2) := dk_16 7 (dk_at dksX2_week_0 7 rfl rfl)
theorem dX2_week_9 : decode cX2_week 9 = .ok (.irem, 1) := dk_112 (dk_at dksX2_week_0 9 rfl rfl)
theorem dX2_week_10 : decode cX2_week 10 = .ok (.ireturn, 1) := dk_172 (dk_at dksX2_week_0 10 rfl rfl)
theorem q105 : (Jvm.Cond.initialized "DayBoy$Almanac") ∈ lw_all := lw_g (lw_at lw_m1 2 rfl) rfl
theorem q136 : (Jvm.Cond.instantiable "DayBoy$Almanac" (2 : Nat)) ∈ lw_all := lw_g (lw_at lw_m1 33 rfl) rfl
theorem q138 : (Jvm.Cond.instanceMethod ({ cls := "DayBoy$Almanac", name := "<init>", desc := "()V" } : Jvm.MethodName)) ∈ lw_all := lw_g (lw_at lw_m1 35 rfl) rfl
theorem q139 : (Jvm.Cond.code ({ cls := "DayBoy$Almanac", name := "<init>", desc := "()V" } : Jvm.MethodName) prog_3_method_1_code (2 : Nat) (Option.none : Option Jvm.ClassFile.FieldType)) ∈ lw_all := lw_g (lw_at lw_m1 36 rfl) rfl
theorem q140 : (Jvm.Cond.methodLink "DayBoy$Almanac" (3 : Nat) ({ cls := "java/lang/Object", name := "<init>", desc := "()V" } : Jvm.MethodName)) ∈ lw_all := lw_g (lw_at lw_m1 37 rfl) rfl
theorem q141 : (Jvm.Cond.classLink "DayBoy$Almanac" (9 : Nat) "DayBoy$Era") ∈ lw_all := lw_g (lw_at lw_m1 38 rfl) rfl
theorem q144 : (Jvm.Cond.methodLinkNest "DayBoy$Almanac" (17 : Nat) ({ cls := "DayBoy$Era", name := "<init>", desc := "()V" } : Jvm.MethodName) "DayBoy") ∈ lw_tbl := lw_at lw_m1 41 rfl
theorem q173 : (Jvm.Cond.fieldLinkNest "DayBoy$Almanac" (67 : Nat) "DayBoy$Era" "leaps" "LDayBoy$Leaps;" "DayBoy") ∈ lw_tbl := lw_at lw_m1 70 rfl
theorem q189 : (Jvm.Cond.fieldLink "DayBoy$Almanac" (11 : Nat) "DayBoy$Almanac" "eras" "[LDayBoy$Era;") ∈ lw_all := lw_g (lw_at lw_m1 86 rfl) rfl
theorem q190 : (Jvm.Cond.fieldLink "DayBoy$Almanac" (18 : Nat) "DayBoy$Almanac" "many" "I") ∈ lw_all := lw_g (lw_at lw_m1 87 rfl) rfl
theorem q192 : (Jvm.Cond.laysFinal "DayBoy$Almanac" "DayBoy$Almanac" "eras" "[LDayBoy$Era;") ∈ lw_all := lw_g (lw_at lw_m1 89 rfl) rfl
theorem q193 : (Jvm.Cond.soleField "DayBoy$Almanac" "eras") ∈ lw_all := lw_g (lw_at lw_m1 90 rfl) rfl
theorem q194 : (Jvm.Cond.lays "DayBoy$Almanac" "DayBoy$Almanac" "many" "I") ∈ lw_all := lw_g (lw_at lw_m1 91 rfl) rfl
theorem q195 : (Jvm.Cond.soleField "DayBoy$Almanac" "many") ∈ lw_all := lw_g (lw_at lw_m1 92 rfl) rfl
theorem q196 : (Jvm.Cond.superclass "DayBoy$Almanac" "java/lang/Object") ∈ lw_all := lw_g (lw_at lw_m1 93 rfl) rfl
theorem q535 : (Jvm.Cond.instanceMethod ({ cls := "DayBoy$Almanac", name := "add", desc := "(I)LDayBoy$Era;" } : Jvm.MethodName)) ∈ lw_all := lw_g (lw_at lw_m2 192 rfl) rfl
theorem q536 : (Jvm.Cond.selects "DayBoy$Almanac" ({ cls := "DayBoy$Almanac", name := "add", desc := "(I)LDayBoy$Era;" } : Jvm.MethodName) ({ cls := "DayBoy$Almanac", name := "add", desc := "(I)LDayBoy$Era;" } : Jvm.MethodName)) ∈ lw_all := lw_g (lw_at lw_m2 193 rfl) rfl
theorem q537 : (Jvm.Cond.code ({ cls := "DayBoy$Almanac", name := "add", desc := "(I)LDayBoy$Era;" } : Jvm.MethodName) prog_3_method_2_code (2 : Nat) (Option.some (Jvm.ClassFile.FieldType.object "DayBoy$Era"))) ∈ lw_all := lw_g (lw_at lw_m2 194 rfl) rfl
theorem q538 : (Jvm.Cond.methodLink "DayBoy$Almanac" (22 : Nat) ({ cls := "DayBoy$Era", name := "begin", desc := "(I)V" } : Jvm.MethodName)) ∈ lw_all := lw_g (lw_at lw_m2 195 rfl) rfl
theorem q542 : (Jvm.Cond.methodLink "DayBoy$Almanac" (26 : Nat) ({ cls := "DayBoy$Almanac", name := "last", desc := "()LDayBoy$Era;" } : Jvm.MethodName)) ∈ lw_all := lw_g (lw_at lw_m2 199 rfl) rfl
theorem q543 : (Jvm.Cond.instanceMethod ({ cls := "DayBoy$Almanac", name := "last", desc := "()LDayBoy$Era;" } : Jvm.MethodName)) ∈ lw_all := lw_g (lw_at lw_m2 200 rfl) rfl
theorem q544 : (Jvm.Cond.selects "DayBoy$Almanac" ({ cls := "DayBoy$Almanac", name := "last", desc := "()LDayBoy$Era;" } : Jvm.MethodName) ({ cls := "DayBoy$Almanac", name := "last", desc := "()LDayBoy$Era;" } : Jvm.MethodName)) ∈ lw_all := lw_g (lw_at lw_m2 201 rfl) rfl
theorem q545 : (Jvm.Cond.code ({ cls := "DayBoy$Almanac", name := "last", desc := "()LDayBoy$Era;" } : Jvm.MethodName) prog_3_method_3_code (1 : Nat) (Option.some (Jvm.ClassFile.FieldType.object "DayBoy$Era"))) ∈ lw_all := lw_g (lw_at lw_m2 202 rfl) rfl
theorem q755 : (Jvm.Cond.instanceMethod ({ cls := "DayBoy$Almanac", name := "date", desc := "(II)I" } : Jvm.MethodName)) ∈ lw_all := lw_g (lw_at lw_m3 172 rfl) rfl
theorem q756 : (Jvm.Cond.selects "DayBoy$Almanac" ({ cls := "DayBoy$Almanac", name := "date", desc := "(II)I" } : Jvm.MethodName) ({ cls := "DayBoy$Almanac", name := "date", desc := "(II)I" } : Jvm.MethodName)) ∈ lw_all := lw_g (lw_at lw_m3 173 rfl) rfl
theorem q757 : (Jvm.Cond.code ({ cls := "DayBoy$Almanac", name := "date", desc := "(II)I" } : Jvm.MethodName) prog_3_method_9_code (5 : Nat) (Option.some Jvm.ClassFile.FieldType.int)) ∈ lw_all := lw_g (lw_at lw_m3 174 rfl) rfl
theorem q758 : (Jvm.Cond.methodLink "DayBoy$Almanac" (59 : Nat) ({ cls := "DayBoy$Almanac", name := "eraAt", desc := "(I)LDayBoy$Era;" } : Jvm.MethodName)) ∈ lw_all := lw_g (lw_at lw_m3 175 rfl) rfl
theorem q759 : (Jvm.Cond.privateMethod ({ cls := "DayBoy$Almanac", name := "eraAt", desc := "(I)LDayBoy$Era;" } : Jvm.MethodName)) ∈ lw_tbl := lw_at lw_m3 176 rfl
theorem q760 : (Jvm.Cond.instanceMethod ({ cls := "DayBoy$Almanac", name := "eraAt", desc := "(I)LDayBoy$Era;" } : Jvm.MethodName)) ∈ lw_all := lw_g (lw_at lw_m3 177 rfl) rfl
theorem q761 : (Jvm.Cond.code ({ cls := "DayBoy$Almanac", name := "eraAt", desc := "(I)LDayBoy$Era;" } : Jvm.MethodName) prog_3_method_8_code (3 : Nat) (Option.some (Jvm.ClassFile.FieldType.object "DayBoy$Era"))) ∈ lw_all := lw_g (lw_at lw_m3 178 rfl) rfl
theorem q762 : (Jvm.Cond.methodLink "DayBoy$Almanac" (55 : Nat) ({ cls := "DayBoy$Era", name := "hasDay", desc := "(I)Z" } : Jvm.MethodName)) ∈ lw_all := lw_g (lw_at lw_m3 179 rfl) rfl
theorem q766 : (Jvm.Cond.methodLink "DayBoy$Almanac" (63 : Nat) ({ cls := "DayBoy$Era", name := "placeOf", desc := "(I)I" } : Jvm.MethodName)) ∈ lw_all := lw_g (lw_at lw_m3 183 rfl) rfl
theorem q770 : (Jvm.Cond.methodLink "DayBoy$Almanac" (71 : Nat) ({ cls := "DayBoy$Leaps", name := "yearAt", desc := "(I)I" } : Jvm.MethodName)) ∈ lw_all := lw_g (lw_at lw_m3 187 rfl) rfl
theorem q774 : (Jvm.Cond.methodLink "DayBoy$Almanac" (76 : Nat) ({ cls := "DayBoy$Leaps", name := "monthAt", desc := "(I)I" } : Jvm.MethodName)) ∈ lw_all := lw_g (lw_at lw_m3 191 rfl) rfl
theorem q779 : (Jvm.Cond.methodLink "DayBoy$Almanac" (79 : Nat) ({ cls := "DayBoy$Leaps", name := "dayAt", desc := "(I)I" } : Jvm.MethodName)) ∈ lw_all := lw_g (lw_at lw_m3 196 rfl) rfl
theorem q793 : (Jvm.Cond.instanceMethod ({ cls := "DayBoy$Almanac", name := "has", desc := "(III)Z" } : Jvm.MethodName)) ∈ lw_all := lw_g (lw_at lw_m3 210 rfl) rfl
theorem q794 : (Jvm.Cond.selects "DayBoy$Almanac" ({ cls := "DayBoy$Almanac", name := "has", desc := "(III)Z" } : Jvm.MethodName) ({ cls := "DayBoy$Almanac", name := "has", desc := "(III)Z" } : Jvm.MethodName)) ∈ lw_all := lw_g (lw_at lw_m3 211 rfl) rfl
theorem q795 : (Jvm.Cond.code ({ cls := "DayBoy$Almanac", name := "has", desc := "(III)Z" } : Jvm.MethodName) prog_3_method_5_code (4 : Nat) (Option.some Jvm.ClassFile.FieldType.boolean)) ∈ lw_all := lw_g (lw_at lw_m3 212 rfl) rfl
theorem q796 : (Jvm.Cond.methodLink "DayBoy$Almanac" (44 : Nat) ({ cls := "DayBoy$Almanac", name := "eraOf", desc := "(III)LDayBoy$Era;" } : Jvm.MethodName)) ∈ lw_all := lw_g (lw_at lw_m3 213 rfl) rfl
theorem q797 : (Jvm.Cond.privateMethod ({ cls := "DayBoy$Almanac", name := "eraOf", desc := "(III)LDayBoy$Era;" } : Jvm.MethodName)) ∈ lw_tbl := lw_at lw_m3 214 rfl
theorem q798 : (Jvm.Cond.instanceMethod ({ cls := "DayBoy$Almanac", name := "eraOf", desc := "(III)LDayBoy$Era;" } : Jvm.MethodName)) ∈ lw_all := lw_g (lw_at lw_m3 215 rfl) rfl
theorem q799 : (Jvm.Cond.code ({ cls := "DayBoy$Almanac", name := "eraOf", desc := "(III)LDayBoy$Era;" } : Jvm.MethodName) prog_3_method_4_code (5 : Nat) (Option.some (Jvm.ClassFile.FieldType.object "DayBoy$Era"))) ∈ lw_all := lw_g (lw_at lw_m3 216 rfl) rfl
theorem q800 : (Jvm.Cond.constantLong "DayBoy$Almanac" (30 : Nat) (9999 : Int64)) ∈ lw_all := lw_g (lw_at lw_m3 217 rfl) rfl
theorem q801 : (Jvm.Cond.methodLinkNest "DayBoy$Almanac" (32 : Nat) ({ cls := "DayBoy", name := "isIn", desc := "(JJJ)Z" } : Jvm.MethodName) "DayBoy") ∈ lw_tbl := lw_at lw_m3 218 rfl
theorem q802 : (Jvm.Cond.constantLong "DayBoy$Almanac" (36 : Nat) (12 : Int64)) ∈ lw_all := lw_g (lw_at lw_m3 219 rfl) rfl
theorem q803 : (Jvm.Cond.constantLong "DayBoy$Almanac" (38 : Nat) (31 : Int64)) ∈ lw_all := lw_g (lw_at lw_m3 220 rfl) rfl
theorem q804 : (Jvm.Cond.methodLink "DayBoy$Almanac" (40 : Nat) ({ cls := "DayBoy$Era", name := "has", desc := "(III)Z" } : Jvm.MethodName)) ∈ lw_all := lw_g (lw_at lw_m3 221 rfl) rfl
theorem q811 : (Jvm.Cond.instanceMethod ({ cls := "DayBoy$Almanac", name := "day", desc := "(III)I" } : Jvm.MethodName)) ∈ lw_all := lw_g (lw_at lw_m3 228 rfl) rfl
theorem q812 : (Jvm.Cond.selects "DayBoy$Almanac" ({ cls := "DayBoy$Almanac", name := "day", desc := "(III)I" } : Jvm.MethodName) ({ cls := "DayBoy$Almanac", name := "day", desc := "(III)I" } : Jvm.MethodName)) ∈ lw_all := lw_g (lw_at lw_m3 229 rfl) rfl
theorem q813 : (Jvm.Cond.code ({ cls := "DayBoy$Almanac", name := "day", desc := "(III)I" } : Jvm.MethodName) prog_3_method_6_code (4 : Nat) (Option.some Jvm.ClassFile.FieldType.int)) ∈ lw_all := lw_g (lw_at lw_m3 230 rfl) rfl
theorem q814 : (Jvm.Cond.methodLink "DayBoy$Almanac" (48 : Nat) ({ cls := "DayBoy$Era", name := "dayOf", desc := "(III)I" } : Jvm.MethodName)) ∈ lw_all := lw_g (lw_at lw_m3 231 rfl) rfl
theorem q825 : (Jvm.Cond.instanceMethod ({ cls := "DayBoy$Almanac", name := "manyIn", desc := "(II)I" } : Jvm.MethodName)) ∈ lw_all := lw_g (lw_at lw_m4 2 rfl) rfl
theorem q826 : (Jvm.Cond.selects "DayBoy$Almanac" ({ cls := "DayBoy$Almanac", name := "manyIn", desc := "(II)I" } : Jvm.MethodName) ({ cls := "DayBoy$Almanac", name := "manyIn", desc := "(II)I" } : Jvm.MethodName)) ∈ lw_all := lw_g (lw_at lw_m4 3 rfl) rfl
theorem q827 : (Jvm.Cond.code ({ cls := "DayBoy$Almanac", name := "manyIn", desc := "(II)I" } : Jvm.MethodName) prog_3_method_11_code (5 : Nat) (Option.some Jvm.ClassFile.FieldType.int)) ∈ lw_all := lw_g (lw_at lw_m4 4 rfl) rfl
theorem q828 : (Jvm.Cond.methodLink "DayBoy$Almanac" (82 : Nat) ({ cls := "DayBoy$Almanac", name := "has", desc := "(III)Z" } : Jvm.MethodName)) ∈ lw_all := lw_g (lw_at lw_m4 5 rfl) rfl
theorem q834 : (Jvm.Cond.instanceMethod ({ cls := "DayBoy$Almanac", name := "kind", desc := "(I)I" } : Jvm.MethodName)) ∈ lw_all := lw_g (lw_at lw_m4 11 rfl) rfl
theorem q835 : (Jvm.Cond.selects "DayBoy$Almanac" ({ cls := "DayBoy$Almanac", name := "kind", desc := "(I)I" } : Jvm.MethodName) ({ cls := "DayBoy$Almanac", name := "kind", desc := "(I)I" } : Jvm.MethodName)) ∈ lw_all := lw_g (lw_at lw_m4 12 rfl) rfl
theorem q836 : (Jvm.Cond.code ({ cls := "DayBoy$Almanac", name := "kind", desc := "(I)I" } : Jvm.MethodName) prog_3_method_10_code (3 : Nat) (Option.some Jvm.ClassFile.FieldType.int)) ∈ lw_all := lw_g (lw_at lw_m4 13 rfl) rfl
theorem q837 : (Jvm.Cond.methodLink "DayBoy$Almanac" (52 : Nat) ({ cls := "DayBoy$Almanac", name := "day", desc := "(III)I" } : Jvm.MethodName)) ∈ lw_all := lw_g (lw_at lw_m4 14 rfl) rfl
theorem q838 : (Jvm.Cond.methodLink "DayBoy$Almanac" (83 : Nat) ({ cls := "DayBoy$Almanac", name := "week", desc := "(III)I" } : Jvm.MethodName)) ∈ lw_all := lw_g (lw_at lw_m4 15 rfl) rfl
theorem q839 : (Jvm.Cond.instanceMethod ({ cls := "DayBoy$Almanac", name := "week", desc := "(III)I" } : Jvm.MethodName)) ∈ lw_all := lw_g (lw_at lw_m4 16 rfl) rfl
theorem q840 : (Jvm.Cond.selects "DayBoy$Almanac" ({ cls := "DayBoy$Almanac", name := "week", desc := "(III)I" } : Jvm.MethodName) ({ cls := "DayBoy$Almanac", name := "week", desc := "(III)I" } : Jvm.MethodName)) ∈ lw_all := lw_g (lw_at lw_m4 17 rfl) rfl
theorem q841 : (Jvm.Cond.code ({ cls := "DayBoy$Almanac", name := "week", desc := "(III)I" } : Jvm.MethodName) prog_3_method_7_code (4 : Nat) (Option.some Jvm.ClassFile.FieldType.int)) ∈ lw_all := lw_g (lw_at lw_m4 18 rfl) rfl
theorem q1913 : (Jvm.Cond.castable "DayBoy$Almanac" "java/lang/Object") ∈ lw_tbl := lw_at lw_m8 130 rfl
theorem in_X2 : ∀ w ∈ wsX20, w ∈ lw_all := lw_in wsX20 [192, 194] (by decide +kernel) (by decide +kernel)
/-! DayBoy$Era -/
set_option maxRecDepth 100000
def RX3 : String := "DayBoy$Era"
def TX3 : u_T := fun k => match k with
  | 0 => ("DayBoy$Era", "leaps", "LDayBoy$Leaps;", true)
  | 1 => ("DayBoy$Era", "day", "I", false)
  | 2 => ("DayBoy$Era", "place", "I", false)
  | _ => ("DayBoy$Era", "last", "I", false)
def tyX3 : Nat → FieldType := fun k => match k with
  | 0 => .object "DayBoy$Leaps"
  | 1 => .int
  | 2 => .int
  | _ => .int
abbrev wsX30 : List Cond := u_ws RX3 TX3 4
theorem nmX3 : ∀ a, a < 4 → ∀ b, b < 4 → a ≠ b → (TX3 a).2.1 ≠ (TX3 b).2.1 := by decide +kernel
theorem tyX3_ok : ∀ k, k < 4 → parseFieldDescriptor (TX3 k).2.2.1 = some (tyX3 k) := by decide +kernel
abbrev cX3_init : ByteArray := prog_6_method_1_code
def yX3_init : MethodName := ⟨RX3, "<init>", "()V"⟩
def dkwX3_init_0 : List UInt8 := [42, 183, 0, 1, 42, 187, 0, 7, 89, 183, 0, 9, 181, 0, 10, 177]
abbrev dktX3_init_0 : List UInt8 := dkwX3_init_0 ++ []
theorem dksX3_init_0 : cX3_init.data.toList.drop 0 = dktX3_init_0 := by decide +kernel
theorem dX3_init_0 : decode cX3_init 0 = .ok (.aload_n 0, 1) := dk_42 (dk_at dksX3_init_0 0 rfl rfl)
theorem dX3_init_1 : decode cX3_init 1 = .ok (.invokespecial 1, 3) := dk_183 0 1 (dk_at dksX3_init_0 1 rfl rfl)
theorem dX3_init_4 : decode cX3_init 4 = .ok (.aload_n 0, 1) := dk_42 (dk_at dksX3_init_0 4 rfl rfl)
theorem dX3_init_5 : decode cX3_init 5 = .ok (.new 7, 3) := dk_187 0 7 (dk_at dksX3_init_0 5 rfl rfl)
theorem dX3_init_8 : decode cX3_init 8 = .ok (.dup, 1) := dk_89 (dk_at dksX3_init_0 8 rfl rfl)
theorem dX3_init_9 : decode cX3_init 9 = .ok (.invokespecial 9, 3) := dk_183 0 9 (dk_at dksX3_init_0 9 rfl rfl)
theorem dX3_init_12 : decode cX3_init 12 = .ok (.putfield 10, 3) := dk_181 0 10 (dk_at dksX3_init_0 12 rfl rfl)
theorem dX3_init_15 : decode cX3_init 15 = .ok (.return_, 1) := dk_177 (dk_at dksX3_init_0 15 rfl rfl)
abbrev cX3_begin : ByteArray := prog_6_method_2_code
def yX3_begin : MethodName := ⟨RX3, "begin", "(I)V"⟩
def dkwX3_begin_0 : List UInt8 := [42, 27, 181, 0, 16, 42, 3, 181, 0, 20, 42, 180, 0, 10, 3, 181, 0, 23, 177]
abbrev dktX3_begin_0 : List UInt8 := dkwX3_begin_0 ++ []
theorem dksX3_begin_0 : cX3_begin.data.toList.drop 0 = dktX3_begin_0 := by decide +kernel
theorem dX3_begin_0 : decode cX3_begin 0 = .ok (.aload_n 0, 1) := dk_42 (dk_at dksX3_begin_0 0 rfl rfl)
theorem dX3_begin_1 : decode cX3_begin 1 = .ok (.iload_n 1, 1) := dk_27 (dk_at dksX3_begin_0 1 rfl rfl)
theorem dX3_begin_2 : decode cX3_begin 2 = .ok (.putfield 16, 3) := dk_181 0 16 (dk_at dksX3_begin_0 2 rfl rfl)
theorem dX3_begin_5 : decode cX3_begin 5 = .ok (.aload_n 0, 1) := dk_42 (dk_at dksX3_begin_0 5 rfl rfl)
theorem dX3_begin_6 : decode cX3_begin 6 = .ok (.iconst 0, 1) := dk_3 (dk_at dksX3_begin_0 6 rfl rfl)
theorem dX3_begin_7 : decode cX3_begin 7 = .ok (.putfield 20, 3) := dk_181 0 20 (dk_at dksX3_begin_0 7 rfl rfl)
theorem dX3_begin_10 : decode cX3_begin 10 = .ok (.aload_n 0, 1) := dk_42 (dk_at dksX3_begin_0 10 rfl rfl)
theorem dX3_begin_11 : decode cX3_begin 11 = .ok (.getfield 10, 3) := dk_180 0 10 (dk_at dksX3_begin_0 11 rfl rfl)
theorem dX3_begin_14 : decode cX3_begin 14 = .ok (.iconst 0, 1) := dk_3 (dk_at dksX3_begin_0 14 rfl rfl)
theorem dX3_begin_15 : decode cX3_begin 15 = .ok (.putfield 23, 3) := dk_181 0 23 (dk_at dksX3_begin_0 15 rfl rfl)
theorem dX3_begin_18 : decode cX3_begin 18 = .ok (.return_, 1) := dk_177 (dk_at dksX3_begin_0 18 rfl rfl)
abbrev cX3_dayOf : ByteArray := prog_6_method_4_code
def yX3_dayOf : MethodName := ⟨RX3, "dayOf", "(III)I"⟩
def dkwX3_dayOf_0 : List UInt8 := [42, 180, 0, 16, 42, 180, 0, 10, 27, 28, 29, 182, 0, 30, 96, 42, 180, 0, 20, 100, 172]
abbrev dktX3_dayOf_0 : List UInt8 := dkwX3_dayOf_0 ++ []
theorem dksX3_dayOf_0 : cX3_dayOf.data.toList.drop 0 = dktX3_dayOf_0 := by decide +kernel
theorem dX3_dayOf_0 : decode cX3_dayOf 0 = .ok (.aload_n 0, 1) := dk_42 (dk_at dksX3_dayOf_0 0 rfl rfl)
theorem dX3_dayOf_1 : decode cX3_dayOf 1 = .ok (.getfield 16, 3) := dk_180 0 16 (dk_at dksX3_dayOf_0 1 rfl rfl)
theorem dX3_dayOf_4 : decode cX3_dayOf 4 = .ok (.aload_n 0, 1) := dk_42 (dk_at dksX3_dayOf_0 4 rfl rfl)
theorem dX3_dayOf_5 : decode cX3_dayOf 5 = .ok (.getfield 10, 3) := dk_180 0 10 (dk_at dksX3_dayOf_0 5 rfl rfl)
theorem dX3_dayOf_8 : decode cX3_dayOf 8 = .ok (.iload_n 1, 1) := dk_27 (dk_at dksX3_dayOf_0 8 rfl rfl)
theorem dX3_dayOf_9 : decode cX3_dayOf 9 = .ok (.iload_n 2, 1) := dk_28 (dk_at dksX3_dayOf_0 9 rfl rfl)
theorem dX3_dayOf_10 : decode cX3_dayOf 10 = .ok (.iload_n 3, 1) := dk_29 (dk_at dksX3_dayOf_0 10 rfl rfl)
theorem dX3_dayOf_11 : decode cX3_dayOf 11 = .ok (.invokevirtual 30, 3) := dk_182 0 30 (dk_at dksX3_dayOf_0 11 rfl rfl)
theorem dX3_dayOf_14 : decode cX3_dayOf 14 = .ok (.iadd, 1) := dk_96 (dk_at dksX3_dayOf_0 14 rfl rfl)
theorem dX3_dayOf_15 : decode cX3_dayOf 15 = .ok (.aload_n 0, 1) := dk_42 (dk_at dksX3_dayOf_0 15 rfl rfl)
theorem dX3_dayOf_16 : decode cX3_dayOf 16 = .ok (.getfield 20, 3) := dk_180 0 20 (dk_at dksX3_dayOf_0 16 rfl rfl)
theorem dX3_dayOf_19 : decode cX3_dayOf 19 = .ok (.isub, 1) := dk_100 (dk_at dksX3_dayOf_0 19 rfl rfl)
theorem dX3_dayOf_20 : decode cX3_dayOf 20 = .ok (.ireturn, 1) := dk_172 (dk_at dksX3_dayOf_0 20 rfl rfl)
abbrev cX3_hasDay : ByteArray := prog_6_method_5_code
def yX3_hasDay : MethodName := ⟨RX3, "hasDay", "(I)Z"⟩
def dkwX3_hasDay_1 : List UInt8 := [163, 0, 7, 4, 167, 0, 4, 3, 172]
abbrev dktX3_hasDay_1 : List UInt8 := dkwX3_hasDay_1 ++ []
def dkwX3_hasDay_0 : List UInt8 := [27, 42, 180, 0, 16, 161, 0, 25, 27, 42, 180, 0, 16, 100, 42, 180, 0, 33, 42, 180, 0, 20, 100]
abbrev dktX3_hasDay_0 : List UInt8 := dkwX3_hasDay_0 ++ dktX3_hasDay_1
theorem dksX3_hasDay_0 : cX3_hasDay.data.toList.drop 0 = dktX3_hasDay_0 := by decide +kernel
theorem dksX3_hasDay_1 : cX3_hasDay.data.toList.drop 23 = dktX3_hasDay_1 := dk_seg dksX3_hasDay_0 23 rfl rfl
theorem dX3_hasDay_0 : decode cX3_hasDay 0 = .ok (.iload_n 1, 1) := dk_27 (dk_at dksX3_hasDay_0 0 rfl rfl)
theorem dX3_hasDay_1 : decode cX3_hasDay 1 = .ok (.aload_n 0, 1) := dk_42 (dk_at dksX3_hasDay_0 1 rfl rfl)
theorem dX3_hasDay_2 : decode cX3_hasDay 2 = .ok (.getfield 16, 3) := dk_180 0 16 (dk_at dksX3_hasDay_0 2 rfl rfl)
theorem dX3_hasDay_5 : decode cX3_hasDay 5 = .ok (.if_icmp .lt 25, 3) := dk_161 0 25 (dk_at dksX3_hasDay_0 5 rfl rfl)
theorem dX3_hasDay_8 : decode cX3_hasDay 8 = .ok (.iload_n 1, 1) := dk_27 (dk_at dksX3_hasDay_0 8 rfl rfl)
theorem dX3_hasDay_9 : decode cX3_hasDay 9 = .ok (.aload_n 0, 1) := dk_42 (dk_at dksX3_hasDay_0 9 rfl rfl)
theorem dX3_hasDay_10 : decode cX3_hasDay 10 = .ok (.getfield 16, 3) := dk_180 0 16 (dk_at dksX3_hasDay_0 10 rfl rfl)
theorem dX3_hasDay_13 : decode cX3_hasDay 13 = .ok (.isub, 1) := dk_100 (dk_at dksX3_hasDay_0 13 rfl rfl)
theorem dX3_hasDay_14 : decode cX3_hasDay 14 = .ok (.aload_n 0, 1) := dk_42 (dk_at dksX3_hasDay_0 14 rfl rfl)
theorem dX3_hasDay_15 : decode cX3_hasDay 15 = .ok (.getfield 33, 3) := dk_180 0 33 (dk_at dksX3_hasDay_0 15 rfl rfl)
theorem dX3_hasDay_18 : decode cX3_hasDay 18 = .ok (.aload_n 0, 1) := dk_42 (dk_at dksX3_hasDay_0 18 rfl rfl)
theorem dX3_hasDay_19 : decode cX3_hasDay 19 = .ok (.getfield 20, 3) := dk_180 0 20 (dk_at dksX3_hasDay_0 19 rfl rfl)
theorem dX3_hasDay_22 : decode cX3_hasDay 22 = .ok (.isub, 1) := dk_100 (dk_at dksX3_hasDay_0 22 rfl rfl)
theorem dX3_hasDay_23 : decode cX3_hasDay 23 = .ok (.if_icmp .gt 7, 3) := dk_163 0 7 (dk_at dksX3_hasDay_1 0 rfl rfl)
theorem dX3_hasDay_26 : decode cX3_hasDay 26 = .ok (.iconst 1, 1) := dk_4 (dk_at dksX3_hasDay_1 3 rfl rfl)
theorem dX3_hasDay_27 : decode cX3_hasDay 27 = .ok (.goto 4, 3) := dk_167 0 4 (dk_at dksX3_hasDay_1 4 rfl rfl)
theorem dX3_hasDay_30 : decode cX3_hasDay 30 = .ok (.iconst 0, 1) := dk_3 (dk_at dksX3_hasDay_1 7 rfl rfl)
theorem dX3_hasDay_31 : decode cX3_hasDay 31 = .ok (.ireturn, 1) := dk_172 (dk_at dksX3_hasDay_1 8 rfl rfl)
abbrev cX3_placeOf : ByteArray := prog_6_method_6_code
def yX3_placeOf : MethodName := ⟨RX3, "placeOf", "(I)I"⟩
def dkwX3_placeOf_0 : List UInt8 := [27, 42, 180, 0, 16, 100, 42, 180, 0, 20, 96, 172]
abbrev dktX3_placeOf_0 : List UInt8 := dkwX3_placeOf_0 ++ []
theorem dksX3_placeOf_0 : cX3_placeOf.data.toList.drop 0 = dktX3_placeOf_0 := by decide +kernel
theorem dX3_placeOf_0 : decode cX3_placeOf 0 = .ok (.iload_n 1, 1) := dk_27 (dk_at dksX3_placeOf_0 0 rfl rfl)
theorem dX3_placeOf_1 : decode cX3_placeOf 1 = .ok (.aload_n 0, 1) := dk_42 (dk_at dksX3_placeOf_0 1 rfl rfl)
theorem dX3_placeOf_2 : decode cX3_placeOf 2 = .ok (.getfield 16, 3) := dk_180 0 16 (dk_at dksX3_placeOf_0 2 rfl rfl)
theorem dX3_placeOf_5 : decode cX3_placeOf 5 = .ok (.isub, 1) := dk_100 (dk_at dksX3_placeOf_0 5 rfl rfl)
theorem dX3_placeOf_6 : decode cX3_placeOf 6 = .ok (.aload_n 0, 1) := dk_42 (dk_at dksX3_placeOf_0 6 rfl rfl)
theorem dX3_placeOf_7 : decode cX3_placeOf 7 = .ok (.getfield 20, 3) := dk_180 0 20 (dk_at dksX3_placeOf_0 7 rfl rfl)
theorem dX3_placeOf_10 : decode cX3_placeOf 10 = .ok (.iadd, 1) := dk_96 (dk_at dksX3_placeOf_0 10 rfl rfl)
theorem dX3_placeOf_11 : decode cX3_placeOf 11 = .ok (.ireturn, 1) := dk_172 (dk_at dksX3_placeOf_0 11 rfl rfl)
abbrev cX3_has : ByteArray := prog_6_method_3_code
def yX3_has : MethodName := ⟨RX3, "has", "(III)Z"⟩
def dkwX3_has_1 : List UInt8 := [42, 180, 0, 20, 133, 42, 180, 0, 33, 133, 184, 0, 36, 153, 0, 7, 4, 167, 0, 4, 3, 172]
abbrev dktX3_has_1 : List UInt8 := dkwX3_has_1 ++ []
def dkwX3_has_0 : List UInt8 := [29, 42, 180, 0, 10, 27, 28, 182, 0, 26, 163, 0, 34, 42, 180, 0, 10, 27, 28, 29, 182, 0, 30, 133]
abbrev dktX3_has_0 : List UInt8 := dkwX3_has_0 ++ dktX3_has_1
theorem dksX3_has_0 : cX3_has.data.toList.drop 0 = dktX3_has_0 := by decide +kernel
theorem dksX3_has_1 : cX3_has.data.toList.drop 24 = dktX3_has_1 := dk_seg dksX3_has_0 24 rfl rfl
theorem dX3_has_0 : decode cX3_has 0 = .ok (.iload_n 3, 1) := dk_29 (dk_at dksX3_has_0 0 rfl rfl)
theorem dX3_has_1 : decode cX3_has 1 = .ok (.aload_n 0, 1) := dk_42 (dk_at dksX3_has_0 1 rfl rfl)
theorem dX3_has_2 : decode cX3_has 2 = .ok (.getfield 10, 3) := dk_180 0 10 (dk_at dksX3_has_0 2 rfl rfl)
theorem dX3_has_5 : decode cX3_has 5 = .ok (.iload_n 1, 1) := dk_27 (dk_at dksX3_has_0 5 rfl rfl)
theorem dX3_has_6 : decode cX3_has 6 = .ok (.iload_n 2, 1) := dk_28 (dk_at dksX3_has_0 6 rfl rfl)
theorem dX3_has_7 : decode cX3_has 7 = .ok (.invokevirtual 26, 3) := dk_182 0 26 (dk_at dksX3_has_0 7 rfl rfl)
theorem dX3_has_10 : decode cX3_has 10 = .ok (.if_icmp .gt 34, 3) := dk_163 0 34 (dk_at dksX3_has_0 10 rfl rfl)
theorem dX3_has_13 : decode cX3_has 13 = .ok (.aload_n 0, 1) := dk_42 (dk_at dksX3_has_0 13 rfl rfl)
theorem dX3_has_14 : decode cX3_has 14 = .ok (.getfield 10, 3) := dk_180 0 10 (dk_at dksX3_has_0 14 rfl rfl)
theorem dX3_has_17 : decode cX3_has 17 = .ok (.iload_n 1, 1) := dk_27 (dk_at dksX3_has_0 17 rfl rfl)
theorem dX3_has_18 : decode cX3_has 18 = .ok (.iload_n 2, 1) := dk_28 (dk_at dksX3_has_0 18 rfl rfl)
theorem dX3_has_19 : decode cX3_has 19 = .ok (.iload_n 3, 1) := dk_29 (dk_at dksX3_has_0 19 rfl rfl)
theorem dX3_has_20 : decode cX3_has 20 = .ok (.invokevirtual 30, 3) := dk_182 0 30 (dk_at dksX3_has_0 20 rfl rfl)
theorem dX3_has_23 : decode cX3_has 23 = .ok (.i2l, 1) := dk_133 (dk_at dksX3_has_0 23 rfl rfl)
theorem dX3_has_24 : decode cX3_has 24 = .ok (.aload_n 0, 1) := dk_42 (dk_at dksX3_has_1 0 rfl rfl)
theorem dX3_has_25 : decode cX3_has 25 = .ok (.getfield 20, 3) := dk_180 0 20 (dk_at dksX3_has_1 1 rfl rfl)
theorem dX3_has_28 : decode cX3_has 28 = .ok (.i2l, 1) := dk_133 (dk_at dksX3_has_1 4 rfl rfl)
theorem dX3_has_29 : decode cX3_has 29 = .ok (.aload_n 0, 1) := dk_42 (dk_at dksX3_has_1 5 rfl rfl)
theorem dX3_has_30 : decode cX3_has 30 = .ok (.getfield 33, 3) := dk_180 0 33 (dk_at dksX3_has_1 6 rfl rfl)
theorem dX3_has_33 : decode cX3_has 33 = .ok (.i2l, 1) := dk_133 (dk_at dksX3_has_1 9 rfl rfl)
theorem dX3_has_34 : decode cX3_has 34 = .ok (.invokestatic 36, 3) := dk_184 0 36 (dk_at dksX3_has_1 10 rfl rfl)
theorem dX3_has_37 : decode cX3_has 37 = .ok (.ifCond .eq 7, 3) := dk_153 0 7 (dk_at dksX3_has_1 13 rfl rfl)
theorem dX3_has_40 : decode cX3_has 40 = .ok (.iconst 1, 1) := dk_4 (dk_at dksX3_has_1 16 rfl rfl)
theorem dX3_has_41 : decode cX3_has 41 = .ok (.goto 4, 3) := dk_167 0 4 (dk_at dksX3_has_1 17 rfl rfl)
theorem dX3_has_44 : decode cX3_has 44 = .ok (.iconst 0, 1) := dk_3 (dk_at dksX3_has_1 20 rfl rfl)
theorem dX3_has_45 : decode cX3_has 45 = .ok (.ireturn, 1) := dk_172 (dk_at dksX3_has_1 21 rfl rfl)
theorem q106 : (Jvm.Cond.initialized "DayBoy$Era") ∈ lw_all := lw_g (lw_at lw_m1 3 rfl) rfl
theorem q143 : (Jvm.Cond.instantiable "DayBoy$Era" (4 : Nat)) ∈ lw_all := lw_g (lw_at lw_m1 40 rfl) rfl
theorem q145 : (Jvm.Cond.instanceMethod ({ cls := "DayBoy$Era", name := "<init>", desc := "()V" } : Jvm.MethodName)) ∈ lw_all := lw_g (lw_at lw_m1 42 rfl) rfl
theorem q146 : (Jvm.Cond.code ({ cls := "DayBoy$Era", name := "<init>", desc := "()V" } : Jvm.MethodName) prog_6_method_1_code (1 : Nat) (Option.none : Option Jvm.ClassFile.FieldType)) ∈ lw_all := lw_g (lw_at lw_m1 43 rfl) rfl
theorem q147 : (Jvm.Cond.methodLink "DayBoy$Era" (1 : Nat) ({ cls := "java/lang/Object", name := "<init>", desc := "()V" } : Jvm.MethodName)) ∈ lw_all := lw_g (lw_at lw_m1 44 rfl) rfl
theorem q148 : (Jvm.Cond.classLink "DayBoy$Era" (7 : Nat) "DayBoy$Leaps") ∈ lw_all := lw_g (lw_at lw_m1 45 rfl) rfl
theorem q150 : (Jvm.Cond.methodLinkNest "DayBoy$Era" (9 : Nat) ({ cls := "DayBoy$Leaps", name := "<init>", desc := "()V" } : Jvm.MethodName) "DayBoy") ∈ lw_tbl := lw_at lw_m1 47 rfl
theorem q158 : (Jvm.Cond.fieldLinkNest "DayBoy$Era" (23 : Nat) "DayBoy$Leaps" "many" "I" "DayBoy") ∈ lw_tbl := lw_at lw_m1 55 rfl
theorem q172 : (Jvm.Cond.fieldLink "DayBoy$Era" (10 : Nat) "DayBoy$Era" "leaps" "LDayBoy$Leaps;") ∈ lw_all := lw_g (lw_at lw_m1 69 rfl) rfl
theorem q175 : (Jvm.Cond.fieldLink "DayBoy$Era" (16 : Nat) "DayBoy$Era" "day" "I") ∈ lw_all := lw_g (lw_at lw_m1 72 rfl) rfl
theorem q176 : (Jvm.Cond.fieldLink "DayBoy$Era" (20 : Nat) "DayBoy$Era" "place" "I") ∈ lw_all := lw_g (lw_at lw_m1 73 rfl) rfl
theorem q178 : (Jvm.Cond.fieldLink "DayBoy$Era" (33 : Nat) "DayBoy$Era" "last" "I") ∈ lw_all := lw_g (lw_at lw_m1 75 rfl) rfl
theorem q180 : (Jvm.Cond.laysFinal "DayBoy$Era" "DayBoy$Era" "leaps" "LDayBoy$Leaps;") ∈ lw_all := lw_g (lw_at lw_m1 77 rfl) rfl
theorem q181 : (Jvm.Cond.soleField "DayBoy$Era" "leaps") ∈ lw_all := lw_g (lw_at lw_m1 78 rfl) rfl
theorem q182 : (Jvm.Cond.lays "DayBoy$Era" "DayBoy$Era" "day" "I") ∈ lw_all := lw_g (lw_at lw_m1 79 rfl) rfl
theorem q183 : (Jvm.Cond.soleField "DayBoy$Era" "day") ∈ lw_all := lw_g (lw_at lw_m1 80 rfl) rfl
theorem q184 : (Jvm.Cond.lays "DayBoy$Era" "DayBoy$Era" "place" "I") ∈ lw_all := lw_g (lw_at lw_m1 81 rfl) rfl
theorem q185 : (Jvm.Cond.soleField "DayBoy$Era" "place") ∈ lw_all := lw_g (lw_at lw_m1 82 rfl) rfl
theorem q186 : (Jvm.Cond.lays "DayBoy$Era" "DayBoy$Era" "last" "I") ∈ lw_all := lw_g (lw_at lw_m1 83 rfl) rfl
theorem q187 : (Jvm.Cond.soleField "DayBoy$Era" "last") ∈ lw_all := lw_g (lw_at lw_m1 84 rfl) rfl
theorem q188 : (Jvm.Cond.superclass "DayBoy$Era" "java/lang/Object") ∈ lw_all := lw_g (lw_at lw_m1 85 rfl) rfl
theorem q539 : (Jvm.Cond.instanceMethod ({ cls := "DayBoy$Era", name := "begin", desc := "(I)V" } : Jvm.MethodName)) ∈ lw_all := lw_g (lw_at lw_m2 196 rfl) rfl
theorem q540 : (Jvm.Cond.selects "DayBoy$Era" ({ cls := "DayBoy$Era", name := "begin", desc := "(I)V" } : Jvm.MethodName) ({ cls := "DayBoy$Era", name := "begin", desc := "(I)V" } : Jvm.MethodName)) ∈ lw_all := lw_g (lw_at lw_m2 197 rfl) rfl
theorem q541 : (Jvm.Cond.code ({ cls := "DayBoy$Era", name := "begin", desc := "(I)V" } : Jvm.MethodName) prog_6_method_2_code (2 : Nat) (Option.none : Option Jvm.ClassFile.FieldType)) ∈ lw_all := lw_g (lw_at lw_m2 198 rfl) rfl
theorem q588 : (Jvm.Cond.instanceMethod ({ cls := "DayBoy$Era", name := "dayOf", desc := "(III)I" } : Jvm.MethodName)) ∈ lw_all := lw_g (lw_at lw_m3 5 rfl) rfl
theorem q589 : (Jvm.Cond.selects "DayBoy$Era" ({ cls := "DayBoy$Era", name := "dayOf", desc := "(III)I" } : Jvm.MethodName) ({ cls := "DayBoy$Era", name := "dayOf", desc := "(III)I" } : Jvm.MethodName)) ∈ lw_all := lw_g (lw_at lw_m3 6 rfl) rfl
theorem q590 : (Jvm.Cond.code ({ cls := "DayBoy$Era", name := "dayOf", desc := "(III)I" } : Jvm.MethodName) prog_6_method_4_code (4 : Nat) (Option.some Jvm.ClassFile.FieldType.int)) ∈ lw_all := lw_g (lw_at lw_m3 7 rfl) rfl
theorem q591 : (Jvm.Cond.methodLink "DayBoy$Era" (30 : Nat) ({ cls := "DayBoy$Leaps", name := "place", desc := "(III)I" } : Jvm.MethodName)) ∈ lw_all := lw_g (lw_at lw_m3 8 rfl) rfl
theorem q763 : (Jvm.Cond.instanceMethod ({ cls := "DayBoy$Era", name := "hasDay", desc := "(I)Z" } : Jvm.MethodName)) ∈ lw_all := lw_g (lw_at lw_m3 180 rfl) rfl
theorem q764 : (Jvm.Cond.selects "DayBoy$Era" ({ cls := "DayBoy$Era", name := "hasDay", desc := "(I)Z" } : Jvm.MethodName) ({ cls := "DayBoy$Era", name := "hasDay", desc := "(I)Z" } : Jvm.MethodName)) ∈ lw_all := lw_g (lw_at lw_m3 181 rfl) rfl
theorem q765 : (Jvm.Cond.code ({ cls := "DayBoy$Era", name := "hasDay", desc := "(I)Z" } : Jvm.MethodName) prog_6_method_5_code (2 : Nat) (Option.some Jvm.ClassFile.FieldType.boolean)) ∈ lw_all := lw_g (lw_at lw_m3 182 rfl) rfl
theorem q767 : (Jvm.Cond.instanceMethod ({ cls := "DayBoy$Era", name := "placeOf", desc := "(I)I" } : Jvm.MethodName)) ∈ lw_all := lw_g (lw_at lw_m3 184 rfl) rfl
theorem q768 : (Jvm.Cond.selects "DayBoy$Era" ({ cls := "DayBoy$Era", name := "placeOf", desc := "(I)I" } : Jvm.MethodName) ({ cls := "DayBoy$Era", name := "placeOf", desc := "(I)I" } : Jvm.MethodName)) ∈ lw_all := lw_g (lw_at lw_m3 185 rfl) rfl
theorem q769 : (Jvm.Cond.code ({ cls := "DayBoy$Era", name := "placeOf", desc := "(I)I" } : Jvm.MethodName) prog_6_method_6_code (2 : Nat) (Option.some Jvm.ClassFile.FieldType.int)) ∈ lw_all := lw_g (lw_at lw_m3 186 rfl) rfl
theorem q805 : (Jvm.Cond.instanceMethod ({ cls := "DayBoy$Era", name := "has", desc := "(III)Z" } : Jvm.MethodName)) ∈ lw_all := lw_g (lw_at lw_m3 222 rfl) rfl
theorem q806 : (Jvm.Cond.selects "DayBoy$Era" ({ cls := "DayBoy$Era", name := "has", desc := "(III)Z" } : Jvm.MethodName) ({ cls := "DayBoy$Era", name := "has", desc := "(III)Z" } : Jvm.MethodName)) ∈ lw_all := lw_g (lw_at lw_m3 223 rfl) rfl
theorem q807 : (Jvm.Cond.code ({ cls := "DayBoy$Era", name := "has", desc := "(III)Z" } : Jvm.MethodName) prog_6_method_3_code (4 : Nat) (Option.some Jvm.ClassFile.FieldType.boolean)) ∈ lw_all := lw_g (lw_at lw_m3 224 rfl) rfl
theorem q808 : (Jvm.Cond.methodLink "DayBoy$Era" (26 : Nat) ({ cls := "DayBoy$Leaps", name := "length", desc := "(II)I" } : Jvm.MethodName)) ∈ lw_all := lw_g (lw_at lw_m3 225 rfl) rfl
theorem q809 : (Jvm.Cond.methodLinkNest "DayBoy$Era" (36 : Nat) ({ cls := "DayBoy", name := "isIn", desc := "(JJJ)Z" } : Jvm.MethodName) "DayBoy") ∈ lw_tbl := lw_at lw_m3 226 rfl
theorem q1914 : (Jvm.Cond.castable "DayBoy$Era" "java/lang/Object") ∈ lw_tbl := lw_at lw_m8 131 rfl
theorem in_X3 : ∀ w ∈ wsX30, w ∈ lw_all := lw_in wsX30 [180, 182, 184, 186] (by decide +kernel) (by decide +kernel)
/-! DayBoy$Leaps -/
set_option maxRecDepth 100000
def RX4 : String := "DayBoy$Leaps"
def TX4 : u_T := fun k => match k with
  | 0 => ("DayBoy$Leaps", "by", "[I", true)
  | 1 => ("DayBoy$Leaps", "before", "[I", true)
  | 2 => ("DayBoy$Leaps", "are", "[Z", true)
  | _ => ("DayBoy$Leaps", "many", "I", false)
def tyX4 : Nat → FieldType := fun k => match k with
  | 0 => .array .int
  | 1 => .array .int
  | 2 => .array .boolean
  | _ => .int
abbrev wsX40 : List Cond := u_ws RX4 TX4 4
theorem nmX4 : ∀ a, a < 4 → ∀ b, b < 4 → a ≠ b → (TX4 a).2.1 ≠ (TX4 b).2.1 := by decide +kernel
theorem tyX4_ok : ∀ k, k < 4 → parseFieldDescriptor (TX4 k).2.2.1 = some (tyX4 k) := by decide +kernel
abbrev cX4_init : ByteArray := prog_9_method_1_code
def yX4_init : MethodName := ⟨RX4, "<init>", "()V"⟩
def dkwX4_init_1 : List UInt8 := [188, 4, 181, 0, 18, 177]
abbrev dktX4_init_1 : List UInt8 := dkwX4_init_1 ++ []
def dkwX4_init_0 : List UInt8 := [42, 183, 0, 3, 42, 16, 8, 188, 10, 181, 0, 9, 42, 17, 39, 17, 188, 10, 181, 0, 15, 42, 16, 8]
abbrev dktX4_init_0 : List UInt8 := dkwX4_init_0 ++ dktX4_init_1
theorem dksX4_init_0 : cX4_init.data.toList.drop 0 = dktX4_init_0 := by decide +kernel
theorem dksX4_init_1 : cX4_init.data.toList.drop 24 = dktX4_init_1 := dk_seg dksX4_init_0 24 rfl rfl
theorem dX4_init_0 : decode cX4_init 0 = .ok (.aload_n 0, 1) := dk_42 (dk_at dksX4_init_0 0 rfl rfl)
theorem dX4_init_1 : decode cX4_init 1 = .ok (.invokespecial 3, 3) := dk_183 0 3 (dk_at dksX4_init_0 1 rfl rfl)
theorem dX4_init_4 : decode cX4_init 4 = .ok (.aload_n 0, 1) := dk_42 (dk_at dksX4_init_0 4 rfl rfl)
theorem dX4_init_5 : decode cX4_init 5 = .ok (.bipush 8, 2) := dk_16 8 (dk_at dksX4_init_0 5 rfl rfl)
theorem dX4_init_7 : decode cX4_init 7 = .ok (.newarray .int, 2) := dk_188_10 (dk_at dksX4_init_0 7 rfl rfl)
theorem dX4_init_9 : decode cX4_init 9 = .ok (.putfield 9, 3) := dk_181 0 9 (dk_at dksX4_init_0 9 rfl rfl)
theorem dX4_init_12 : decode cX4_init 12 = .ok (.aload_n 0, 1) := dk_42 (dk_at dksX4_init_0 12 rfl rfl)
theorem dX4_init_13 : decode cX4_init 13 = .ok (.sipush 10001, 3) := dk_17 39 17 (dk_at dksX4_init_0 13 rfl rfl)
theorem dX4_init_16 : decode cX4_init 16 = .ok (.newarray .int, 2) := dk_188_10 (dk_at dksX4_init_0 16 rfl rfl)
theorem dX4_init_18 : decode cX4_init 18 = .ok (.putfield 15, 3) := dk_181 0 15 (dk_at dksX4_init_0 18 rfl rfl)
theorem dX4_init_21 : decode cX4_init 21 = .ok (.aload_n 0, 1) := dk_42 (dk_at dksX4_init_0 21 rfl rfl)
theorem dX4_init_22 : decode cX4_init 22 = .ok (.bipush 8, 2) := dk_16 8 (dk_at dksX4_init_0 22 rfl rfl)
theorem dX4_init_24 : decode cX4_init 24 = .ok (.newarray .boolean, 2) := dk_188_4 (dk_at dksX4_init_1 0 rfl rfl)
theorem dX4_init_26 : decode cX4_init 26 = .ok (.putfield 18, 3) := dk_181 0 18 (dk_at dksX4_init_1 2 rfl rfl)
theorem dX4_init_29 : decode cX4_init 29 = .ok (.return_, 1) := dk_177 (dk_at dksX4_init_1 5 rfl rfl)
abbrev cX4_add : ByteArray := prog_9_method_2_code
def yX4_add : MethodName := ⟨RX4, "add", "(IZ)V"⟩
def dkwX4_add_1 : List UInt8 := [180, 0, 22, 4, 96, 181, 0, 22, 177]
abbrev dktX4_add_1 : List UInt8 := dkwX4_add_1 ++ []
def dkwX4_add_0 : List UInt8 := [42, 180, 0, 9, 42, 180, 0, 22, 27, 79, 42, 180, 0, 18, 42, 180, 0, 22, 28, 84, 42, 89]
abbrev dktX4_add_0 : List UInt8 := dkwX4_add_0 ++ dktX4_add_1
theorem dksX4_add_0 : cX4_add.data.toList.drop 0 = dktX4_add_0 := by decide +kernel
theorem dksX4_add_1 : cX4_add.data.toList.drop 22 = dktX4_add_1 := dk_seg dksX4_add_0 22 rfl rfl
theorem dX4_add_0 : decode cX4_add 0 = .ok (.aload_n 0, 1) := dk_42 (dk_at dksX4_add_0 0 rfl rfl)
theorem dX4_add_1 : decode cX4_add 1 = .ok (.getfield 9, 3) := dk_180 0 9 (dk_at dksX4_add_0 1 rfl rfl)
theorem dX4_add_4 : decode cX4_add 4 = .ok (.aload_n 0, 1) := dk_42 (dk_at dksX4_add_0 4 rfl rfl)
theorem dX4_add_5 : decode cX4_add 5 = .ok (.getfield 22, 3) := dk_180 0 22 (dk_at dksX4_add_0 5 rfl rfl)
theorem dX4_add_8 : decode cX4_add 8 = .ok (.iload_n 1, 1) := dk_27 (dk_at dksX4_add_0 8 rfl rfl)
theorem dX4_add_9 : decode cX4_add 9 = .ok (.iastore, 1) := dk_79 (dk_at dksX4_add_0 9 rfl rfl)
theorem dX4_add_10 : decode cX4_add 10 = .ok (.aload_n 0, 1) := dk_42 (dk_at dksX4_add_0 10 rfl rfl)
theorem dX4_add_11 : decode cX4_add 11 = .ok (.getfield 18, 3) := dk_180 0 18 (dk_at dksX4_add_0 11 rfl rfl)
theorem dX4_add_14 : decode cX4_add 14 = .ok (.aload_n 0, 1) := dk_42 (dk_at dksX4_add_0 14 rfl rfl)
theorem dX4_add_15 : decode cX4_add 15 = .ok (.getfield 22, 3) := dk_180 0 22 (dk_at dksX4_add_0 15 rfl rfl)
theorem dX4_add_18 : decode cX4_add 18 = .ok (.iload_n 2, 1) := dk_28 (dk_at dksX4_add_0 18 rfl rfl)
theorem dX4_add_19 : decode cX4_add 19 = .ok (.bastore, 1) := dk_84 (dk_at dksX4_add_0 19 rfl rfl)
theorem dX4_add_20 : decode cX4_add 20 = .ok (.aload_n 0, 1) := dk_42 (dk_at dksX4_add_0 20 rfl rfl)
theorem dX4_add_21 : decode cX4_add 21 = .ok (.dup, 1) := dk_89 (dk_at dksX4_add_0 21 rfl rfl)
theorem dX4_add_22 : decode cX4_add 22 = .ok (.getfield 22, 3) := dk_180 0 22 (dk_at dksX4_add_1 0 rfl rfl)
theorem dX4_add_25 : decode cX4_add 25 = .ok (.iconst 1, 1) := dk_4 (dk_at dksX4_add_1 3 rfl rfl)
theorem dX4_add_26 : decode cX4_add 26 = .ok (.iadd, 1) := dk_96 (dk_at dksX4_add_1 4 rfl rfl)
theorem dX4_add_27 : decode cX4_add 27 = .ok (.putfield 22, 3) := dk_181 0 22 (dk_at dksX4_add_1 5 rfl rfl)
theorem dX4_add_30 : decode cX4_add 30 = .ok (.return_, 1) := dk_177 (dk_at dksX4_add_1 8 rfl rfl)
abbrev cX4_count : ByteArray := prog_9_method_4_code
def yX4_count : MethodName := ⟨RX4, "count", "()V"⟩
def dkwX4_count_1 : List UInt8 := [182, 0, 26, 153, 0, 7, 4, 167, 0, 4, 3, 96, 79, 132, 1, 1, 167, 255, 218, 177]
abbrev dktX4_count_1 : List UInt8 := dkwX4_count_1 ++ []
def dkwX4_count_0 : List UInt8 := [4, 60, 27, 17, 39, 15, 163, 0, 37, 42, 180, 0, 15, 27, 4, 96, 42, 180, 0, 15, 27, 46, 42, 27]
abbrev dktX4_count_0 : List UInt8 := dkwX4_count_0 ++ dktX4_count_1
theorem dksX4_count_0 : cX4_count.data.toList.drop 0 = dktX4_count_0 := by decide +kernel
theorem dksX4_count_1 : cX4_count.data.toList.drop 24 = dktX4_count_1 := dk_seg dksX4_count_0 24 rfl rfl
theorem dX4_count_0 : decode cX4_count 0 = .ok (.iconst 1, 1) := dk_4 (dk_at dksX4_count_0 0 rfl rfl)
theorem dX4_count_1 : decode cX4_count 1 = .ok (.istore_n 1, 1) := dk_60 (dk_at dksX4_count_0 1 rfl rfl)
theorem dX4_count_2 : decode cX4_count 2 = .ok (.iload_n 1, 1) := dk_27 (dk_at dksX4_count_0 2 rfl rfl)
theorem dX4_count_3 : decode cX4_count 3 = .ok (.sipush 9999, 3) := dk_17 39 15 (dk_at dksX4_count_0 3 rfl rfl)
theorem dX4_count_6 : decode cX4_count 6 = .ok (.if_icmp .gt 37, 3) := dk_163 0 37 (dk_at dksX4_count_0 6 rfl rfl)
theorem dX4_count_9 : decode cX4_count 9 = .ok (.aload_n 0, 1) := dk_42 (dk_at dksX4_count_0 9 rfl rfl)
theorem dX4_count_10 : decode cX4_count 10 = .ok (.getfield 15, 3) := dk_180 0 15 (dk_at dksX4_count_0 10 rfl rfl)
theorem dX4_count_13 : decode cX4_count 13 = .ok (.iload_n 1, 1) := dk_27 (dk_at dksX4_count_0 13 rfl rfl)
theorem dX4_count_14 : decode cX4_count 14 = .ok (.iconst 1, 1) := dk_4 (dk_at dksX4_count_0 14 rfl rfl)
theorem dX4_count_15 : decode cX4_count 15 = .ok (.iadd, 1) := dk_96 (dk_at dksX4_count_0 15 rfl rfl)
theorem dX4_count_16 : decode cX4_count 16 = .ok (.aload_n 0, 1) := dk_42 (dk_at dksX4_count_0 16 rfl rfl)
theorem dX4_count_17 : decode cX4_count 17 = .ok (.getfield 15, 3) := dk_180 0 15 (dk_at dksX4_count_0 17 rfl rfl)
theorem dX4_count_20 : decode cX4_count 20 = .ok (.iload_n 1, 1) := dk_27 (dk_at dksX4_count_0 20 rfl rfl)
theorem dX4_count_21 : decode cX4_count 21 = .ok (.iaload, 1) := dk_46 (dk_at dksX4_count_0 21 rfl rfl)
theorem dX4_count_22 : decode cX4_count 22 = .ok (.aload_n 0, 1) := dk_42 (dk_at dksX4_count_0 22 rfl rfl)
theorem dX4_count_23 : decode cX4_count 23 = .ok (.iload_n 1, 1) := dk_27 (dk_at dksX4_count_0 23 rfl rfl)
theorem dX4_count_24 : decode cX4_count 24 = .ok (.invokevirtual 26, 3) := dk_182 0 26 (dk_at dksX4_count_1 0 rfl rfl)
theorem dX4_count_27 : decode cX4_count 27 = .ok (.ifCond .eq 7, 3) := dk_153 0 7 (dk_at dksX4_count_1 3 rfl rfl)
theorem dX4_count_30 : decode cX4_count 30 = .ok (.iconst 1, 1) := dk_4 (dk_at dksX4_count_1 6 rfl rfl)
theorem dX4_count_31 : decode cX4_count 31 = .ok (.goto 4, 3) := dk_167 0 4 (dk_at dksX4_count_1 7 rfl rfl)
theorem dX4_count_34 : decode cX4_count 34 = .ok (.iconst 0, 1) := dk_3 (dk_at dksX4_count_1 10 rfl rfl)
theorem dX4_count_35 : decode cX4_count 35 = .ok (.iadd, 1) := dk_96 (dk_at dksX4_count_1 11 rfl rfl)
theorem dX4_count_36 : decode cX4_count 36 = .ok (.iastore, 1) := dk_79 (dk_at dksX4_count_1 12 rfl rfl)
theorem dX4_count_37 : decode cX4_count 37 = .ok (.iinc 1 1, 3) := dk_132 1 1 (dk_at dksX4_count_1 13 rfl rfl)
theorem dX4_count_40 : decode cX4_count 40 = .ok (.goto (-38), 3) := dk_167 255 218 (dk_at dksX4_count_1 16 rfl rfl)
theorem dX4_count_43 : decode cX4_count 43 = .ok (.return_, 1) := dk_177 (dk_at dksX4_count_1 19 rfl rfl)
abbrev cX4_isLeap : ByteArray := prog_9_method_3_code
def yX4_isLeap : MethodName := ⟨RX4, "isLeap", "(I)Z"⟩
def dkwX4_isLeap_2 : List UInt8 := [172]
abbrev dktX4_isLeap_2 : List UInt8 := dkwX4_isLeap_2 ++ []
def dkwX4_isLeap_1 : List UInt8 := [132, 2, 255, 167, 255, 238, 28, 155, 0, 16, 42, 180, 0, 18, 28, 51, 153, 0, 7, 4, 167, 0, 4, 3]
abbrev dktX4_isLeap_1 : List UInt8 := dkwX4_isLeap_1 ++ dktX4_isLeap_2
def dkwX4_isLeap_0 : List UInt8 := [42, 180, 0, 22, 4, 100, 61, 28, 155, 0, 20, 27, 42, 180, 0, 9, 28, 46, 112, 153, 0, 9]
abbrev dktX4_isLeap_0 : List UInt8 := dkwX4_isLeap_0 ++ dktX4_isLeap_1
theorem dksX4_isLeap_0 : cX4_isLeap.data.toList.drop 0 = dktX4_isLeap_0 := by decide +kernel
theorem dksX4_isLeap_1 : cX4_isLeap.data.toList.drop 22 = dktX4_isLeap_1 := dk_seg dksX4_isLeap_0 22 rfl rfl
theorem dksX4_isLeap_2 : cX4_isLeap.data.toList.drop 46 = dktX4_isLeap_2 := dk_seg dksX4_isLeap_1 24 rfl rfl
theorem dX4_isLeap_0 : decode cX4_isLeap 0 = .ok (.aload_n 0, 1) := dk_42 (dk_at dksX4_isLeap_0 0 rfl rfl)
theorem dX4_isLeap_1 : decode cX4_isLeap 1 = .ok (.getfield 22, 3) := dk_180 0 22 (dk_at dksX4_isLeap_0 1 rfl rfl)
theorem dX4_isLeap_4 : decode cX4_isLeap 4 = .ok (.iconst 1, 1) := dk_4 (dk_at dksX4_isLeap_0 4 rfl rfl)
theorem dX4_isLeap_5 : decode cX4_isLeap 5 = .ok (.isub, 1) := dk_100 (dk_at dksX4_isLeap_0 5 rfl rfl)
theorem dX4_isLeap_6 : decode cX4_isLeap 6 = .ok (.istore_n 2, 1) := dk_61 (dk_at dksX4_isLeap_0 6 rfl rfl)
theorem dX4_isLeap_7 : decode cX4_isLeap 7 = .ok (.iload_n 2, 1) := dk_28 (dk_at dksX4_isLeap_0 7 rfl rfl)
theorem dX4_isLeap_8 : decode cX4_isLeap 8 = .ok (.ifCond .lt 20, 3) := dk_155 0 20 (dk_at dksX4_isLeap_0 8 rfl rfl)
theorem dX4_isLeap_11 : decode cX4_isLeap 11 = .ok (.iload_n 1, 1) := dk_27 (dk_at dksX4_isLeap_0 11 rfl rfl)
theorem dX4_isLeap_12 : decode cX4_isLeap 12 = .ok (.aload_n 0, 1) := dk_42 (dk_at dksX4_isLeap_0 12 rfl rfl)
theorem dX4_isLeap_13 : decode cX4_isLeap 13 = .ok (.getfield 9, 3) := dk_180 0 9 (dk_at dksX4_isLeap_0 13 rfl rfl)
theorem dX4_isLeap_16 : decode cX4_isLeap 16 = .ok (.iload_n 2, 1) := dk_28 (dk_at dksX4_isLeap_0 16 rfl rfl)
theorem dX4_isLeap_17 : decode cX4_isLeap 17 = .ok (.iaload, 1) := dk_46 (dk_at dksX4_isLeap_0 17 rfl rfl)
theorem dX4_isLeap_18 : decode cX4_isLeap 18 = .ok (.irem, 1) := dk_112 (dk_at dksX4_isLeap_0 18 rfl rfl)
theorem dX4_isLeap_19 : decode cX4_isLeap 19 = .ok (.ifCond .eq 9, 3) := dk_153 0 9 (dk_at dksX4_isLeap_0 19 rfl rfl)
theorem dX4_isLeap_22 : decode cX4_isLeap 22 = .ok (.iinc 2 (-1), 3) := dk_132 2 255 (dk_at dksX4_isLeap_1 0 rfl rfl)
theorem dX4_isLeap_25 : decode cX4_isLeap 25 = .ok (.goto (-18), 3) := dk_167 255 238 (dk_at dksX4_isLeap_1 3 rfl rfl)
theorem dX4_isLeap_28 : decode cX4_isLeap 28 = .ok (.iload_n 2, 1) := dk_28 (dk_at dksX4_isLeap_1 6 rfl rfl)
theorem dX4_isLeap_29 : decode cX4_isLeap 29 = .ok (.ifCond .lt 16, 3) := dk_155 0 16 (dk_at dksX4_isLeap_1 7 rfl rfl)
theorem dX4_isLeap_32 : decode cX4_isLeap 32 = .ok (.aload_n 0, 1) := dk_42 (dk_at dksX4_isLeap_1 10 rfl rfl)
theorem dX4_isLeap_33 : decode cX4_isLeap 33 = .ok (.getfield 18, 3) := dk_180 0 18 (dk_at dksX4_isLeap_1 11 rfl rfl)
theorem dX4_isLeap_36 : decode cX4_isLeap 36 = .ok (.iload_n 2, 1) := dk_28 (dk_at dksX4_isLeap_1 14 rfl rfl)
theorem dX4_isLeap_37 : decode cX4_isLeap 37 = .ok (.baload, 1) := dk_51 (dk_at dksX4_isLeap_1 15 rfl rfl)
theorem dX4_isLeap_38 : decode cX4_isLeap 38 = .ok (.ifCond .eq 7, 3) := dk_153 0 7 (dk_at dksX4_isLeap_1 16 rfl rfl)
theorem dX4_isLeap_41 : decode cX4_isLeap 41 = .ok (.iconst 1, 1) := dk_4 (dk_at dksX4_isLeap_1 19 rfl rfl)
theorem dX4_isLeap_42 : decode cX4_isLeap 42 = .ok (.goto 4, 3) := dk_167 0 4 (dk_at dksX4_isLeap_1 20 rfl rfl)
theorem dX4_isLeap_45 : decode cX4_isLeap 45 = .ok (.iconst 0, 1) := dk_3 (dk_at dksX4_isLeap_1 23 rfl rfl)
theorem dX4_isLeap_46 : decode cX4_isLeap 46 = .ok (.ireturn, 1) := dk_172 (dk_at dksX4_isLeap_2 0 rfl rfl)
abbrev cX4_length : ByteArray := prog_9_method_5_code
def yX4_length : MethodName := ⟨RX4, "length", "(II)I"⟩
def dkwX4_length_2 : List UInt8 := [167, 0, 5, 16, 31, 172]
abbrev dktX4_length_2 : List UInt8 := dkwX4_length_2 ++ []
def dkwX4_length_1 : List UInt8 := [7, 159, 0, 21, 28, 16, 6, 159, 0, 15, 28, 16, 9, 159, 0, 9, 28, 16, 11, 160, 0, 8, 16, 30]
abbrev dktX4_length_1 : List UInt8 := dkwX4_length_1 ++ dktX4_length_2
def dkwX4_length_0 : List UInt8 := [28, 5, 160, 0, 21, 42, 27, 182, 0, 26, 153, 0, 8, 16, 29, 167, 0, 38, 16, 28, 167, 0, 33, 28]
abbrev dktX4_length_0 : List UInt8 := dkwX4_length_0 ++ dktX4_length_1
theorem dksX4_length_0 : cX4_length.data.toList.drop 0 = dktX4_length_0 := by decide +kernel
theorem dksX4_length_1 : cX4_length.data.toList.drop 24 = dktX4_length_1 := dk_seg dksX4_length_0 24 rfl rfl
theorem dksX4_length_2 : cX4_length.data.toList.drop 48 = dktX4_length_2 := dk_seg dksX4_length_1 24 rfl rfl
theorem dX4_length_0 : decode cX4_length 0 = .ok (.iload_n 2, 1) := dk_28 (dk_at dksX4_length_0 0 rfl rfl)
theorem dX4_length_1 : decode cX4_length 1 = .ok (.iconst 2, 1) := dk_5 (dk_at dksX4_length_0 1 rfl rfl)
theorem dX4_length_2 : decode cX4_length 2 = .ok (.if_icmp .ne 21, 3) := dk_160 0 21 (dk_at dksX4_length_0 2 rfl rfl)
theorem dX4_length_5 : decode cX4_length 5 = .ok (.aload_n 0, 1) := dk_42 (dk_at dksX4_length_0 5 rfl rfl)
theorem dX4_length_6 : decode cX4_length 6 = .ok (.iload_n 1, 1) := dk_27 (dk_at dksX4_length_0 6 rfl rfl)
theorem dX4_length_7 : decode cX4_length 7 = .ok (.invokevirtual 26, 3) := dk_182 0 26 (dk_at dksX4_length_0 7 rfl rfl)
theorem dX4_length_10 : decode cX4_length 10 = .ok (.ifCond .eq 8, 3) := dk_153 0 8 (dk_at dksX4_length_0 10 rfl rfl)
theorem dX4_length_13 : decode cX4_length 13 = .ok (.bipush 29, 2) := dk_16 29 (dk_at dksX4_length_0 13 rfl rfl)
theorem dX4_length_15 : decode cX4_length 15 = .ok (.goto 38, 3) := dk_167 0 38 (dk_at dksX4_length_0 15 rfl rfl)
theorem dX4_length_18 : decode cX4_length 18 = .ok (.bipush 28, 2) := dk_16 28 (dk_at dksX4_length_0 18 rfl rfl)
theorem dX4_length_20 : decode cX4_length 20 = .ok (.goto 33, 3) := dk_167 0 33 (dk_at dksX4_length_0 20 rfl rfl)
theorem dX4_length_23 : decode cX4_length 23 = .ok (.iload_n 2, 1) := dk_28 (dk_at dksX4_length_0 23 rfl rfl)
theorem dX4_length_24 : decode cX4_length 24 = .ok (.iconst 4, 1) := dk_7 (dk_at dksX4_length_1 0 rfl rfl)
theorem dX4_length_25 : decode cX4_length 25 = .ok (.if_icmp .eq 21, 3) := dk_159 0 21 (dk_at dksX4_length_1 1 rfl rfl)
theorem dX4_length_28 : decode cX4_length 28 = .ok (.iload_n 2, 1) := dk_28 (dk_at dksX4_length_1 4 rfl rfl)
theorem dX4_length_29 : decode cX4_length 29 = .ok (.bipush 6, 2) := dk_16 6 (dk_at dksX4_length_1 5 rfl rfl)
theorem dX4_length_31 : decode cX4_length 31 = .ok (.if_icmp .eq 15, 3) := dk_159 0 15 (dk_at dksX4_length_1 7 rfl rfl)
theorem dX4_length_34 : decode cX4_length 34 = .ok (.iload_n 2, 1) := dk_28 (dk_at dksX4_length_1 10 rfl rfl)
theorem dX4_length_35 : decode cX4_length 35 = .ok (.bipush 9, 2) := dk_16 9 (dk_at dksX4_length_1 11 rfl rfl)
theorem dX4_length_37 : decode cX4_length 37 = .ok (.if_icmp .eq 9, 3) := dk_159 0 9 (dk_at dksX4_length_1 13 rfl rfl)
theorem dX4_length_40 : decode cX4_length 40 = .ok (.iload_n 2, 1) := dk_28 (dk_at dksX4_length_1 16 rfl rfl)
theorem dX4_length_41 : decode cX4_length 41 = .ok (.bipush 11, 2) := dk_16 11 (dk_at dksX4_length_1 17 rfl rfl)
theorem dX4_length_43 : decode cX4_length 43 = .ok (.if_icmp .ne 8, 3) := dk_160 0 8 (dk_at dksX4_length_1 19 rfl rfl)
theorem dX4_length_46 : decode cX4_length 46 = .ok (.bipush 30, 2) := dk_16 30 (dk_at dksX4_length_1 22 rfl rfl)
theorem dX4_length_48 : decode cX4_length 48 = .ok (.goto 5, 3) := dk_167 0 5 (dk_at dksX4_length_2 0 rfl rfl)
theorem dX4_length_51 : decode cX4_length 51 = .ok (.bipush 31, 2) := dk_16 31 (dk_at dksX4_length_2 3 rfl rfl)
theorem dX4_length_53 : decode cX4_length 53 = .ok (.ireturn, 1) := dk_172 (dk_at dksX4_length_2 5 rfl rfl)
abbrev cX4_place : ByteArray := prog_9_method_8_code
def yX4_place : MethodName := ⟨RX4, "place", "(III)I"⟩
def dkwX4_place_1 : List UInt8 := [100, 172]
abbrev dktX4_place_1 : List UInt8 := dkwX4_place_1 ++ []
def dkwX4_place_0 : List UInt8 := [42, 27, 182, 0, 34, 42, 27, 28, 182, 0, 38, 96, 29, 42, 27, 28, 182, 0, 30, 184, 0, 41, 96, 4]
abbrev dktX4_place_0 : List UInt8 := dkwX4_place_0 ++ dktX4_place_1
theorem dksX4_place_0 : cX4_place.data.toList.drop 0 = dktX4_place_0 := by decide +kernel
theorem dksX4_place_1 : cX4_place.data.toList.drop 24 = dktX4_place_1 := dk_seg dksX4_place_0 24 rfl rfl
theorem dX4_place_0 : decode cX4_place 0 = .ok (.aload_n 0, 1) := dk_42 (dk_at dksX4_place_0 0 rfl rfl)
theorem dX4_place_1 : decode cX4_place 1 = .ok (.iload_n 1, 1) := dk_27 (dk_at dksX4_place_0 1 rfl rfl)
theorem dX4_place_2 : decode cX4_place 2 = .ok (.invokevirtual 34, 3) := dk_182 0 34 (dk_at dksX4_place_0 2 rfl rfl)
theorem dX4_place_5 : decode cX4_place 5 = .ok (.aload_n 0, 1) := dk_42 (dk_at dksX4_place_0 5 rfl rfl)
theorem dX4_place_6 : decode cX4_place 6 = .ok (.iload_n 1, 1) := dk_27 (dk_at dksX4_place_0 6 rfl rfl)
theorem dX4_place_7 : decode cX4_place 7 = .ok (.iload_n 2, 1) := dk_28 (dk_at dksX4_place_0 7 rfl rfl)
theorem dX4_place_8 : decode cX4_place 8 = .ok (.invokevirtual 38, 3) := dk_182 0 38 (dk_at dksX4_place_0 8 rfl rfl)
theorem dX4_place_11 : decode cX4_place 11 = .ok (.iadd, 1) := dk_96 (dk_at dksX4_place_0 11 rfl rfl)
theorem dX4_place_12 : decode cX4_place 12 = .ok (.iload_n 3, 1) := dk_29 (dk_at dksX4_place_0 12 rfl rfl)
theorem dX4_place_13 : decode cX4_place 13 = .ok (.aload_n 0, 1) := dk_42 (dk_at dksX4_place_0 13 rfl rfl)
theorem dX4_place_14 : decode cX4_place 14 = .ok (.iload_n 1, 1) := dk_27 (dk_at dksX4_place_0 14 rfl rfl)
theorem dX4_place_15 : decode cX4_place 15 = .ok (.iload_n 2, 1) := dk_28 (dk_at dksX4_place_0 15 rfl rfl)
theorem dX4_place_16 : decode cX4_place 16 = .ok (.invokevirtual 30, 3) := dk_182 0 30 (dk_at dksX4_place_0 16 rfl rfl)
theorem dX4_place_19 : decode cX4_place 19 = .ok (.invokestatic 41, 3) := dk_184 0 41 (dk_at dksX4_place_0 19 rfl rfl)
theorem dX4_place_22 : decode cX4_place 22 = .ok (.iadd, 1) := dk_96 (dk_at dksX4_place_0 22 rfl rfl)
theorem dX4_place_23 : decode cX4_place 23 = .ok (.iconst 1, 1) := dk_4 (dk_at dksX4_place_0 23 rfl rfl)
theorem dX4_place_24 : decode cX4_place 24 = .ok (.isub, 1) := dk_100 (dk_at dksX4_place_1 0 rfl rfl)
theorem dX4_place_25 : decode cX4_place 25 = .ok (.ireturn, 1) := dk_172 (dk_at dksX4_place_1 1 rfl rfl)
abbrev cX4_ofYear : ByteArray := prog_9_method_7_code
def yX4_ofYear : MethodName := ⟨RX4, "ofYear", "(I)I"⟩
def dkwX4_ofYear_0 : List UInt8 := [17, 1, 109, 27, 4, 100, 104, 42, 180, 0, 15, 27, 46, 96, 172]
abbrev dktX4_ofYear_0 : List UInt8 := dkwX4_ofYear_0 ++ []
theorem dksX4_ofYear_0 : cX4_ofYear.data.toList.drop 0 = dktX4_ofYear_0 := by decide +kernel
theorem dX4_ofYear_0 : decode cX4_ofYear 0 = .ok (.sipush 365, 3) := dk_17 1 109 (dk_at dksX4_ofYear_0 0 rfl rfl)
theorem dX4_ofYear_3 : decode cX4_ofYear 3 = .ok (.iload_n 1, 1) := dk_27 (dk_at dksX4_ofYear_0 3 rfl rfl)
theorem dX4_ofYear_4 : decode cX4_ofYear 4 = .ok (.iconst 1, 1) := dk_4 (dk_at dksX4_ofYear_0 4 rfl rfl)
theorem dX4_ofYear_5 : decode cX4_ofYear 5 = .ok (.isub, 1) := dk_100 (dk_at dksX4_ofYear_0 5 rfl rfl)
theorem dX4_ofYear_6 : decode cX4_ofYear 6 = .ok (.imul, 1) := dk_104 (dk_at dksX4_ofYear_0 6 rfl rfl)
theorem dX4_ofYear_7 : decode cX4_ofYear 7 = .ok (.aload_n 0, 1) := dk_42 (dk_at dksX4_ofYear_0 7 rfl rfl)
theorem dX4_ofYear_8 : decode cX4_ofYear 8 = .ok (.getfield 15, 3) := dk_180 0 15 (dk_at dksX4_ofYear_0 8 rfl rfl)
theorem dX4_ofYear_11 : decode cX4_ofYear 11 = .ok (.iload_n 1, 1) := dk_27 (dk_at dksX4_ofYear_0 11 rfl rfl)
theorem dX4_ofYear_12 : decode cX4_ofYear 12 = .ok (.iaload, 1) := dk_46 (dk_at dksX4_ofYear_0 12 rfl rfl)
theorem dX4_ofYear_13 : decode cX4_ofYear 13 = .ok (.iadd, 1) := dk_96 (dk_at dksX4_ofYear_0 13 rfl rfl)
theorem dX4_ofYear_14 : decode cX4_ofYear 14 = .ok (.ireturn, 1) := dk_172 (dk_at dksX4_ofYear_0 14 rfl rfl)
abbrev cX4_ahead : ByteArray := prog_9_method_6_code
def yX4_ahead : MethodName := ⟨RX4, "ahead", "(II)I"⟩
def dkwX4_ahead_1 : List UInt8 := [167, 255, 237, 29, 172]
abbrev dktX4_ahead_1 : List UInt8 := dkwX4_ahead_1 ++ []
def dkwX4_ahead_0 : List UInt8 := [3, 62, 4, 54, 4, 21, 4, 28, 162, 0, 19, 29, 42, 27, 21, 4, 182, 0, 30, 96, 62, 132, 4, 1]
abbrev dktX4_ahead_0 : List UInt8 := dkwX4_ahead_0 ++ dktX4_ahead_1
theorem dksX4_ahead_0 : cX4_ahead.data.toList.drop 0 = dktX4_ahead_0 := by decide +kernel
theorem dksX4_ahead_1 : cX4_ahead.data.toList.drop 24 = dktX4_ahead_1 := dk_seg dksX4_ahead_0 24 rfl rfl
theorem dX4_ahead_0 : decode cX4_ahead 0 = .ok (.iconst 0, 1) := dk_3 (dk_at dksX4_ahead_0 0 rfl rfl)
theorem dX4_ahead_1 : decode cX4_ahead 1 = .ok (.istore_n 3, 1) := dk_62 (dk_at dksX4_ahead_0 1 rfl rfl)
theorem dX4_ahead_2 : decode cX4_ahead 2 = .ok (.iconst 1, 1) := dk_4 (dk_at dksX4_ahead_0 2 rfl rfl)
theorem dX4_ahead_3 : decode cX4_ahead 3 = .ok (.istore 4, 2) := dk_54 4 (dk_at dksX4_ahead_0 3 rfl rfl)
theorem dX4_ahead_5 : decode cX4_ahead 5 = .ok (.iload 4, 2) := dk_21 4 (dk_at dksX4_ahead_0 5 rfl rfl)
theorem dX4_ahead_7 : decode cX4_ahead 7 = .ok (.iload_n 2, 1) := dk_28 (dk_at dksX4_ahead_0 7 rfl rfl)
theorem dX4_ahead_8 : decode cX4_ahead 8 = .ok (.if_icmp .ge 19, 3) := dk_162 0 19 (dk_at dksX4_ahead_0 8 rfl rfl)
theorem dX4_ahead_11 : decode cX4_ahead 11 = .ok (.iload_n 3, 1) := dk_29 (dk_at dksX4_ahead_0 11 rfl rfl)
theorem dX4_ahead_12 : decode cX4_ahead 12 = .ok (.aload_n 0, 1) := dk_42 (dk_at dksX4_ahead_0 12 rfl rfl)
theorem dX4_ahead_13 : decode cX4_ahead 13 = .ok (.iload_n 1, 1) := dk_27 (dk_at dksX4_ahead_0 13 rfl rfl)
theorem dX4_ahead_14 : decode cX4_ahead 14 = .ok (.iload 4, 2) := dk_21 4 (dk_at dksX4_ahead_0 14 rfl rfl)
theorem dX4_ahead_16 : decode cX4_ahead 16 = .ok (.invokevirtual 30, 3) := dk_182 0 30 (dk_at dksX4_ahead_0 16 rfl rfl)
theorem dX4_ahead_19 : decode cX4_ahead 19 = .ok (.iadd, 1) := dk_96 (dk_at dksX4_ahead_0 19 rfl rfl)
theorem dX4_ahead_20 : decode cX4_ahead 20 = .ok (.istore_n 3, 1) := dk_62 (dk_at dksX4_ahead_0 20 rfl rfl)
theorem dX4_ahead_21 : decode cX4_ahead 21 = .ok (.iinc 4 1, 3) := dk_132 4 1 (dk_at dksX4_ahead_0 21 rfl rfl)
theorem dX4_ahead_24 : decode cX4_ahead 24 = .ok (.goto (-19), 3) := dk_167 255 237 (dk_at dksX4_ahead_1 0 rfl rfl)
theorem dX4_ahead_27 : decode cX4_ahead 27 = .ok (.iload_n 3, 1) := dk_29 (dk_at dksX4_ahead_1 3 rfl rfl)
theorem dX4_ahead_28 : decode cX4_ahead 28 = .ok (.ireturn, 1) := dk_172 (dk_at dksX4_ahead_1 4 rfl rfl)
abbrev cX4_yearAt : ByteArray := prog_9_method_9_code
def yX4_yearAt : MethodName := ⟨RX4, "yearAt", "(I)I"⟩
def dkwX4_yearAt_1 : List UInt8 := [182, 0, 34, 27, 163, 0, 9, 21, 4, 61, 167, 0, 8, 21, 4, 4, 100, 62, 167, 255, 221, 28, 172]
abbrev dktX4_yearAt_1 : List UInt8 := dkwX4_yearAt_1 ++ []
def dkwX4_yearAt_0 : List UInt8 := [4, 61, 17, 39, 15, 62, 28, 29, 162, 0, 36, 28, 29, 96, 4, 96, 5, 108, 54, 4, 42, 21, 4]
abbrev dktX4_yearAt_0 : List UInt8 := dkwX4_yearAt_0 ++ dktX4_yearAt_1
theorem dksX4_yearAt_0 : cX4_yearAt.data.toList.drop 0 = dktX4_yearAt_0 := by decide +kernel
theorem dksX4_yearAt_1 : cX4_yearAt.data.toList.drop 23 = dktX4_yearAt_1 := dk_seg dksX4_yearAt_0 23 rfl rfl
theorem dX4_yearAt_0 : decode cX4_yearAt 0 = .ok (.iconst 1, 1) := dk_4 (dk_at dksX4_yearAt_0 0 rfl rfl)
theorem dX4_yearAt_1 : decode cX4_yearAt 1 = .ok (.istore_n 2, 1) := dk_61 (dk_at dksX4_yearAt_0 1 rfl rfl)
theorem dX4_yearAt_2 : decode cX4_yearAt 2 = .ok (.sipush 9999, 3) := dk_17 39 15 (dk_at dksX4_yearAt_0 2 rfl rfl)
theorem dX4_yearAt_5 : decode cX4_yearAt 5 = .ok (.istore_n 3, 1) := dk_62 (dk_at dksX4_yearAt_0 5 rfl rfl)
theorem dX4_yearAt_6 : decode cX4_yearAt 6 = .ok (.iload_n 2, 1) := dk_28 (dk_at dksX4_yearAt_0 6 rfl rfl)
theorem dX4_yearAt_7 : decode cX4_yearAt 7 = .ok (.iload_n 3, 1) := dk_29 (dk_at dksX4_yearAt_0 7 rfl rfl)
theorem dX4_yearAt_8 : decode cX4_yearAt 8 = .ok (.if_icmp .ge 36, 3) := dk_162 0 36 (dk_at dksX4_yearAt_0 8 rfl rfl)
theorem dX4_yearAt_11 : decode cX4_yearAt 11 = .ok (.iload_n 2, 1) := dk_28 (dk_at dksX4_yearAt_0 11 rfl rfl)
theorem dX4_yearAt_12 : decode cX4_yearAt 12 = .ok (.iload_n 3, 1) := dk_29 (dk_at dksX4_yearAt_0 12 rfl rfl)
theorem dX4_yearAt_13 : decode cX4_yearAt 13 = .ok (.iadd, 1) := dk_96 (dk_at dksX4_yearAt_0 13 rfl rfl)
theorem dX4_yearAt_14 : decode cX4_yearAt 14 = .ok (.iconst 1, 1) := dk_4 (dk_at dksX4_yearAt_0 14 rfl rfl)
theorem dX4_yearAt_15 : decode cX4_yearAt 15 = .ok (.iadd, 1) := dk_96 (dk_at dksX4_yearAt_0 15 rfl rfl)
theorem dX4_yearAt_16 : decode cX4_yearAt 16 = .ok (.iconst 2, 1) := dk_5 (dk_at dksX4_yearAt_0 16 rfl rfl)
theorem dX4_yearAt_17 : decode cX4_yearAt 17 = .ok (.idiv, 1) := dk_108 (dk_at dksX4_yearAt_0 17 rfl rfl)
theorem dX4_yearAt_18 : decode cX4_yearAt 18 = .ok (.istore 4, 2) := dk_54 4 (dk_at dksX4_yearAt_0 18 rfl rfl)
theorem dX4_yearAt_20 : decode cX4_yearAt 20 = .ok (.aload_n 0, 1) := dk_42 (dk_at dksX4_yearAt_0 20 rfl rfl)
theorem dX4_yearAt_21 : decode cX4_yearAt 21 = .ok (.iload 4, 2) := dk_21 4 (dk_at dksX4_yearAt_0 21 rfl rfl)
theorem dX4_yearAt_23 : decode cX4_yearAt 23 = .ok (.invokevirtual 34, 3) := dk_182 0 34 (dk_at dksX4_yearAt_1 0 rfl rfl)
theorem dX4_yearAt_26 : decode cX4_yearAt 26 = .ok (.iload_n 1, 1) := dk_27 (dk_at dksX4_yearAt_1 3 rfl rfl)
theorem dX4_yearAt_27 : decode cX4_yearAt 27 = .ok (.if_icmp .gt 9, 3) := dk_163 0 9 (dk_at dksX4_yearAt_1 4 rfl rfl)
theorem dX4_yearAt_30 : decode cX4_yearAt 30 = .ok (.iload 4, 2) := dk_21 4 (dk_at dksX4_yearAt_1 7 rfl rfl)
theorem dX4_yearAt_32 : decode cX4_yearAt 32 = .ok (.istore_n 2, 1) := dk_61 (dk_at dksX4_yearAt_1 9 rfl rfl)
theorem dX4_yearAt_33 : decode cX4_yearAt 33 = .ok (.goto 8, 3) := dk_167 0 8 (dk_at dksX4_yearAt_1 10 rfl rfl)
theorem dX4_yearAt_36 : decode cX4_yearAt 36 = .ok (.iload 4, 2) := dk_21 4 (dk_at dksX4_yearAt_1 13 rfl rfl)
theorem dX4_yearAt_38 : decode cX4_yearAt 38 = .ok (.iconst 1, 1) := dk_4 (dk_at dksX4_yearAt_1 15 rfl rfl)
theorem dX4_yearAt_39 : decode cX4_yearAt 39 = .ok (.isub, 1) := dk_100 (dk_at dksX4_yearAt_1 16 rfl rfl)
theorem dX4_yearAt_40 : decode cX4_yearAt 40 = .ok (.istore_n 3, 1) := dk_62 (dk_at dksX4_yearAt_1 17 rfl rfl)
theorem dX4_yearAt_41 : decode cX4_yearAt 41 = .ok (.goto (-35), 3) := dk_167 255 221 (dk_at dksX4_yearAt_1 18 rfl rfl)
theorem dX4_yearAt_44 : decode cX4_yearAt 44 = .ok (.iload_n 2, 1) := dk_28 (dk_at dksX4_yearAt_1 21 rfl rfl)
theorem dX4_yearAt_45 : decode cX4_yearAt 45 = .ok (.ireturn, 1) := dk_172 (dk_at dksX4_yearAt_1 22 rfl rfl)
abbrev cX4_monthAt : ByteArray := prog_9_method_10_code
def yX4_monthAt : MethodName := ⟨RX4, "monthAt", "(I)I"⟩
def dkwX4_monthAt_1 : List UInt8 := [164, 0, 9, 132, 3, 255, 167, 255, 237, 29, 172]
abbrev dktX4_monthAt_1 : List UInt8 := dkwX4_monthAt_1 ++ []
def dkwX4_monthAt_0 : List UInt8 := [42, 27, 182, 0, 46, 61, 16, 12, 62, 42, 28, 182, 0, 34, 42, 28, 29, 182, 0, 38, 96, 27]
abbrev dktX4_monthAt_0 : List UInt8 := dkwX4_monthAt_0 ++ dktX4_monthAt_1
theorem dksX4_monthAt_0 : cX4_monthAt.data.toList.drop 0 = dktX4_monthAt_0 := by decide +kernel
theorem dksX4_monthAt_1 : cX4_monthAt.data.toList.drop 22 = dktX4_monthAt_1 := dk_seg dksX4_monthAt_0 22 rfl rfl
theorem dX4_monthAt_0 : decode cX4_monthAt 0 = .ok (.aload_n 0, 1) := dk_42 (dk_at dksX4_monthAt_0 0 rfl rfl)
theorem dX4_monthAt_1 : decode cX4_monthAt 1 = .ok (.iload_n 1, 1) := dk_27 (dk_at dksX4_monthAt_0 1 rfl rfl)
theorem dX4_monthAt_2 : decode cX4_monthAt 2 = .ok (.invokevirtual 46, 3) := dk_182 0 46 (dk_at dksX4_monthAt_0 2 rfl rfl)
theorem dX4_monthAt_5 : decode cX4_monthAt 5 = .ok (.istore_n 2, 1) := dk_61 (dk_at dksX4_monthAt_0 5 rfl rfl)
theorem dX4_monthAt_6 : decode cX4_monthAt 6 = .ok (.bipush 12, 2) := dk_16 12 (dk_at dksX4_monthAt_0 6 rfl rfl)
theorem dX4_monthAt_8 : decode cX4_monthAt 8 = .ok (.istore_n 3, 1) := dk_62 (dk_at dksX4_monthAt_0 8 rfl rfl)
theorem dX4_monthAt_9 : decode cX4_monthAt 9 = .ok (.aload_n 0, 1) := dk_42 (dk_at dksX4_monthAt_0 9 rfl rfl)
theorem dX4_monthAt_10 : decode cX4_monthAt 10 = .ok (.iload_n 2, 1) := dk_28 (dk_at dksX4_monthAt_0 10 rfl rfl)
theorem dX4_monthAt_11 : decode cX4_monthAt 11 = .ok (.invokevirtual 34, 3) := dk_182 0 34 (dk_at dksX4_monthAt_0 11 rfl rfl)
theorem dX4_monthAt_14 : decode cX4_monthAt 14 = .ok (.aload_n 0, 1) := dk_42 (dk_at dksX4_monthAt_0 14 rfl rfl)
theorem dX4_monthAt_15 : decode cX4_monthAt 15 = .ok (.iload_n 2, 1) := dk_28 (dk_at dksX4_monthAt_0 15 rfl rfl)
theorem dX4_monthAt_16 : decode cX4_monthAt 16 = .ok (.iload_n 3, 1) := dk_29 (dk_at dksX4_monthAt_0 16 rfl rfl)
theorem dX4_monthAt_17 : decode cX4_monthAt 17 = .ok (.invokevirtual 38, 3) := dk_182 0 38 (dk_at dksX4_monthAt_0 17 rfl rfl)
theorem dX4_monthAt_20 : decode cX4_monthAt 20 = .ok (.iadd, 1) := dk_96 (dk_at dksX4_monthAt_0 20 rfl rfl)
theorem dX4_monthAt_21 : decode cX4_monthAt 21 = .ok (.iload_n 1, 1) := dk_27 (dk_at dksX4_monthAt_0 21 rfl rfl)
theorem dX4_monthAt_22 : decode cX4_monthAt 22 = .ok (.if_icmp .le 9, 3) := dk_164 0 9 (dk_at dksX4_monthAt_1 0 rfl rfl)
theorem dX4_monthAt_25 : decode cX4_monthAt 25 = .ok (.iinc 3 (-1), 3) := dk_132 3 255 (dk_at dksX4_monthAt_1 3 rfl rfl)
theorem dX4_monthAt_28 : decode cX4_monthAt 28 = .ok (.goto (-19), 3) := dk_167 255 237 (dk_at dksX4_monthAt_1 6 rfl rfl)
theorem dX4_monthAt_31 : decode cX4_monthAt 31 = .ok (.iload_n 3, 1) := dk_29 (dk_at dksX4_monthAt_1 9 rfl rfl)
theorem dX4_monthAt_32 : decode cX4_monthAt 32 = .ok (.ireturn, 1) := dk_172 (dk_at dksX4_monthAt_1 10 rfl rfl)
abbrev cX4_dayAt : ByteArray := prog_9_method_11_code
def yX4_dayAt : MethodName := ⟨RX4, "dayAt", "(I)I"⟩
def dkwX4_dayAt_1 : List UInt8 := [182, 0, 38, 100, 4, 96, 172]
abbrev dktX4_dayAt_1 : List UInt8 := dkwX4_dayAt_1 ++ []
def dkwX4_dayAt_0 : List UInt8 := [27, 42, 42, 27, 182, 0, 46, 182, 0, 34, 100, 42, 42, 27, 182, 0, 46, 42, 27, 182, 0, 49]
abbrev dktX4_dayAt_0 : List UInt8 := dkwX4_dayAt_0 ++ dktX4_dayAt_1
theorem dksX4_dayAt_0 : cX4_dayAt.data.toList.drop 0 = dktX4_dayAt_0 := by decide +kernel
theorem dksX4_dayAt_1 : cX4_dayAt.data.toList.drop 22 = dktX4_dayAt_1 := dk_seg dksX4_dayAt_0 22 rfl rfl
theorem dX4_dayAt_0 : decode cX4_dayAt 0 = .ok (.iload_n 1, 1) := dk_27 (dk_at dksX4_dayAt_0 0 rfl rfl)
theorem dX4_dayAt_1 : decode cX4_dayAt 1 = .ok (.aload_n 0, 1) := dk_42 (dk_at dksX4_dayAt_0 1 rfl rfl)
theorem dX4_dayAt_2 : decode cX4_dayAt 2 = .ok (.aload_n 0, 1) := dk_42 (dk_at dksX4_dayAt_0 2 rfl rfl)
theorem dX4_dayAt_3 : decode cX4_dayAt 3 = .ok (.iload_n 1, 1) := dk_27 (dk_at dksX4_dayAt_0 3 rfl rfl)
theorem dX4_dayAt_4 : decode cX4_dayAt 4 = .ok (.invokevirtual 46, 3) := dk_182 0 46 (dk_at dksX4_dayAt_0 4 rfl rfl)
theorem dX4_dayAt_7 : decode cX4_dayAt 7 = .ok (.invokevirtual 34, 3) := dk_182 0 34 (dk_at dksX4_dayAt_0 7 rfl rfl)
theorem dX4_dayAt_10 : decode cX4_dayAt 10 = .ok (.isub, 1) := dk_100 (dk_at dksX4_dayAt_0 10 rfl rfl)
theorem dX4_dayAt_11 : decode cX4_dayAt 11 = .ok (.aload_n 0, 1) := dk_42 (dk_at dksX4_dayAt_0 11 rfl rfl)
theorem dX4_dayAt_12 : decode cX4_dayAt 12 = .ok (.aload_n 0, 1) := dk_42 (dk_at dksX4_dayAt_0 12 rfl rfl)
theorem dX4_dayAt_13 : decode cX4_dayAt 13 = .ok (.iload_n 1, 1) := dk_27 (dk_at dksX4_dayAt_0 13 rfl rfl)
theorem dX4_dayAt_14 : decode cX4_dayAt 14 = .ok (.invokevirtual 46, 3) := dk_182 0 46 (dk_at dksX4_dayAt_0 14 rfl rfl)
theorem dX4_dayAt_17 : decode cX4_dayAt 17 = .ok (.aload_n 0, 1) := dk_42 (dk_at dksX4_dayAt_0 17 rfl rfl)
theorem dX4_dayAt_18 : decode cX4_dayAt 18 = .ok (.iload_n 1, 1) := dk_27 (dk_at dksX4_dayAt_0 18 rfl rfl)
theorem dX4_dayAt_19 : decode cX4_dayAt 19 = .ok (.invokevirtual 49, 3) := dk_182 0 49 (dk_at dksX4_dayAt_0 19 rfl rfl)
theorem dX4_dayAt_22 : decode cX4_dayAt 22 = .ok (.invokevirtual 38, 3) := dk_182 0 38 (dk_at dksX4_dayAt_1 0 rfl rfl)
theorem dX4_dayAt_25 : decode cX4_dayAt 25 = .ok (.isub, 1) := dk_100 (dk_at dksX4_dayAt_1 3 rfl rfl)
theorem dX4_dayAt_26 : decode cX4_dayAt 26 = .ok (.iconst 1, 1) := dk_4 (dk_at dksX4_dayAt_1 4 rfl rfl)
theorem dX4_dayAt_27 : decode cX4_dayAt 27 = .ok (.iadd, 1) := dk_96 (dk_at dksX4_dayAt_1 5 rfl rfl)
theorem dX4_dayAt_28 : decode cX4_dayAt 28 = .ok (.ireturn, 1) := dk_172 (dk_at dksX4_dayAt_1 6 rfl rfl)
theorem q107 : (Jvm.Cond.initialized "DayBoy$Leaps") ∈ lw_all := lw_g (lw_at lw_m1 4 rfl) rfl
theorem q149 : (Jvm.Cond.instantiable "DayBoy$Leaps" (4 : Nat)) ∈ lw_all := lw_g (lw_at lw_m1 46 rfl) rfl
theorem q151 : (Jvm.Cond.instanceMethod ({ cls := "DayBoy$Leaps", name := "<init>", desc := "()V" } : Jvm.MethodName)) ∈ lw_all := lw_g (lw_at lw_m1 48 rfl) rfl
theorem q152 : (Jvm.Cond.code ({ cls := "DayBoy$Leaps", name := "<init>", desc := "()V" } : Jvm.MethodName) prog_9_method_1_code (1 : Nat) (Option.none : Option Jvm.ClassFile.FieldType)) ∈ lw_all := lw_g (lw_at lw_m1 49 rfl) rfl
theorem q153 : (Jvm.Cond.methodLink "DayBoy$Leaps" (3 : Nat) ({ cls := "java/lang/Object", name := "<init>", desc := "()V" } : Jvm.MethodName)) ∈ lw_all := lw_g (lw_at lw_m1 50 rfl) rfl
theorem q154 : (Jvm.Cond.fieldLink "DayBoy$Leaps" (9 : Nat) "DayBoy$Leaps" "by" "[I") ∈ lw_all := lw_g (lw_at lw_m1 51 rfl) rfl
theorem q155 : (Jvm.Cond.fieldLink "DayBoy$Leaps" (15 : Nat) "DayBoy$Leaps" "before" "[I") ∈ lw_all := lw_g (lw_at lw_m1 52 rfl) rfl
theorem q156 : (Jvm.Cond.fieldLink "DayBoy$Leaps" (18 : Nat) "DayBoy$Leaps" "are" "[Z") ∈ lw_all := lw_g (lw_at lw_m1 53 rfl) rfl
theorem q157 : (Jvm.Cond.fieldLink "DayBoy$Leaps" (22 : Nat) "DayBoy$Leaps" "many" "I") ∈ lw_all := lw_g (lw_at lw_m1 54 rfl) rfl
theorem q160 : (Jvm.Cond.laysFinal "DayBoy$Leaps" "DayBoy$Leaps" "by" "[I") ∈ lw_all := lw_g (lw_at lw_m1 57 rfl) rfl
theorem q161 : (Jvm.Cond.soleField "DayBoy$Leaps" "by") ∈ lw_all := lw_g (lw_at lw_m1 58 rfl) rfl
theorem q162 : (Jvm.Cond.laysFinal "DayBoy$Leaps" "DayBoy$Leaps" "before" "[I") ∈ lw_all := lw_g (lw_at lw_m1 59 rfl) rfl
theorem q163 : (Jvm.Cond.soleField "DayBoy$Leaps" "before") ∈ lw_all := lw_g (lw_at lw_m1 60 rfl) rfl
theorem q164 : (Jvm.Cond.laysFinal "DayBoy$Leaps" "DayBoy$Leaps" "are" "[Z") ∈ lw_all := lw_g (lw_at lw_m1 61 rfl) rfl
theorem q165 : (Jvm.Cond.soleField "DayBoy$Leaps" "are") ∈ lw_all := lw_g (lw_at lw_m1 62 rfl) rfl
theorem q166 : (Jvm.Cond.lays "DayBoy$Leaps" "DayBoy$Leaps" "many" "I") ∈ lw_all := lw_g (lw_at lw_m1 63 rfl) rfl
theorem q167 : (Jvm.Cond.soleField "DayBoy$Leaps" "many") ∈ lw_all := lw_g (lw_at lw_m1 64 rfl) rfl
theorem q168 : (Jvm.Cond.superclass "DayBoy$Leaps" "java/lang/Object") ∈ lw_all := lw_g (lw_at lw_m1 65 rfl) rfl
theorem q551 : (Jvm.Cond.instanceMethod ({ cls := "DayBoy$Leaps", name := "add", desc := "(IZ)V" } : Jvm.MethodName)) ∈ lw_all := lw_g (lw_at lw_m2 208 rfl) rfl
theorem q552 : (Jvm.Cond.selects "DayBoy$Leaps" ({ cls := "DayBoy$Leaps", name := "add", desc := "(IZ)V" } : Jvm.MethodName) ({ cls := "DayBoy$Leaps", name := "add", desc := "(IZ)V" } : Jvm.MethodName)) ∈ lw_all := lw_g (lw_at lw_m2 209 rfl) rfl
theorem q553 : (Jvm.Cond.code ({ cls := "DayBoy$Leaps", name := "add", desc := "(IZ)V" } : Jvm.MethodName) prog_9_method_2_code (3 : Nat) (Option.none : Option Jvm.ClassFile.FieldType)) ∈ lw_all := lw_g (lw_at lw_m2 210 rfl) rfl
theorem q555 : (Jvm.Cond.instanceMethod ({ cls := "DayBoy$Leaps", name := "count", desc := "()V" } : Jvm.MethodName)) ∈ lw_all := lw_g (lw_at lw_m2 212 rfl) rfl
theorem q556 : (Jvm.Cond.selects "DayBoy$Leaps" ({ cls := "DayBoy$Leaps", name := "count", desc := "()V" } : Jvm.MethodName) ({ cls := "DayBoy$Leaps", name := "count", desc := "()V" } : Jvm.MethodName)) ∈ lw_all := lw_g (lw_at lw_m2 213 rfl) rfl
theorem q557 : (Jvm.Cond.code ({ cls := "DayBoy$Leaps", name := "count", desc := "()V" } : Jvm.MethodName) prog_9_method_4_code (2 : Nat) (Option.none : Option Jvm.ClassFile.FieldType)) ∈ lw_all := lw_g (lw_at lw_m2 214 rfl) rfl
theorem q558 : (Jvm.Cond.methodLink "DayBoy$Leaps" (26 : Nat) ({ cls := "DayBoy$Leaps", name := "isLeap", desc := "(I)Z" } : Jvm.MethodName)) ∈ lw_all := lw_g (lw_at lw_m2 215 rfl) rfl
theorem q559 : (Jvm.Cond.instanceMethod ({ cls := "DayBoy$Leaps", name := "isLeap", desc := "(I)Z" } : Jvm.MethodName)) ∈ lw_all := lw_g (lw_at lw_m2 216 rfl) rfl
theorem q560 : (Jvm.Cond.selects "DayBoy$Leaps" ({ cls := "DayBoy$Leaps", name := "isLeap", desc := "(I)Z" } : Jvm.MethodName) ({ cls := "DayBoy$Leaps", name := "isLeap", desc := "(I)Z" } : Jvm.MethodName)) ∈ lw_all := lw_g (lw_at lw_m2 217 rfl) rfl
theorem q561 : (Jvm.Cond.code ({ cls := "DayBoy$Leaps", name := "isLeap", desc := "(I)Z" } : Jvm.MethodName) prog_9_method_3_code (3 : Nat) (Option.some Jvm.ClassFile.FieldType.boolean)) ∈ lw_all := lw_g (lw_at lw_m2 218 rfl) rfl
theorem q568 : (Jvm.Cond.instanceMethod ({ cls := "DayBoy$Leaps", name := "length", desc := "(II)I" } : Jvm.MethodName)) ∈ lw_all := lw_g (lw_at lw_m2 225 rfl) rfl
theorem q569 : (Jvm.Cond.selects "DayBoy$Leaps" ({ cls := "DayBoy$Leaps", name := "length", desc := "(II)I" } : Jvm.MethodName) ({ cls := "DayBoy$Leaps", name := "length", desc := "(II)I" } : Jvm.MethodName)) ∈ lw_all := lw_g (lw_at lw_m2 226 rfl) rfl
theorem q570 : (Jvm.Cond.code ({ cls := "DayBoy$Leaps", name := "length", desc := "(II)I" } : Jvm.MethodName) prog_9_method_5_code (3 : Nat) (Option.some Jvm.ClassFile.FieldType.int)) ∈ lw_all := lw_g (lw_at lw_m2 227 rfl) rfl
theorem q572 : (Jvm.Cond.instanceMethod ({ cls := "DayBoy$Leaps", name := "place", desc := "(III)I" } : Jvm.MethodName)) ∈ lw_all := lw_g (lw_at lw_m2 229 rfl) rfl
theorem q573 : (Jvm.Cond.selects "DayBoy$Leaps" ({ cls := "DayBoy$Leaps", name := "place", desc := "(III)I" } : Jvm.MethodName) ({ cls := "DayBoy$Leaps", name := "place", desc := "(III)I" } : Jvm.MethodName)) ∈ lw_all := lw_g (lw_at lw_m2 230 rfl) rfl
theorem q574 : (Jvm.Cond.code ({ cls := "DayBoy$Leaps", name := "place", desc := "(III)I" } : Jvm.MethodName) prog_9_method_8_code (4 : Nat) (Option.some Jvm.ClassFile.FieldType.int)) ∈ lw_all := lw_g (lw_at lw_m2 231 rfl) rfl
theorem q575 : (Jvm.Cond.methodLink "DayBoy$Leaps" (34 : Nat) ({ cls := "DayBoy$Leaps", name := "ofYear", desc := "(I)I" } : Jvm.MethodName)) ∈ lw_all := lw_g (lw_at lw_m2 232 rfl) rfl
theorem q576 : (Jvm.Cond.privateMethod ({ cls := "DayBoy$Leaps", name := "ofYear", desc := "(I)I" } : Jvm.MethodName)) ∈ lw_tbl := lw_at lw_m2 233 rfl
theorem q577 : (Jvm.Cond.instanceMethod ({ cls := "DayBoy$Leaps", name := "ofYear", desc := "(I)I" } : Jvm.MethodName)) ∈ lw_all := lw_g (lw_at lw_m2 234 rfl) rfl
theorem q578 : (Jvm.Cond.code ({ cls := "DayBoy$Leaps", name := "ofYear", desc := "(I)I" } : Jvm.MethodName) prog_9_method_7_code (2 : Nat) (Option.some Jvm.ClassFile.FieldType.int)) ∈ lw_all := lw_g (lw_at lw_m2 235 rfl) rfl
theorem q579 : (Jvm.Cond.methodLink "DayBoy$Leaps" (38 : Nat) ({ cls := "DayBoy$Leaps", name := "ahead", desc := "(II)I" } : Jvm.MethodName)) ∈ lw_all := lw_g (lw_at lw_m2 236 rfl) rfl
theorem q580 : (Jvm.Cond.privateMethod ({ cls := "DayBoy$Leaps", name := "ahead", desc := "(II)I" } : Jvm.MethodName)) ∈ lw_tbl := lw_at lw_m2 237 rfl
theorem q581 : (Jvm.Cond.instanceMethod ({ cls := "DayBoy$Leaps", name := "ahead", desc := "(II)I" } : Jvm.MethodName)) ∈ lw_all := lw_g (lw_at lw_m2 238 rfl) rfl
theorem q582 : (Jvm.Cond.code ({ cls := "DayBoy$Leaps", name := "ahead", desc := "(II)I" } : Jvm.MethodName) prog_9_method_6_code (5 : Nat) (Option.some Jvm.ClassFile.FieldType.int)) ∈ lw_all := lw_g (lw_at lw_m2 239 rfl) rfl
theorem q583 : (Jvm.Cond.methodLink "DayBoy$Leaps" (30 : Nat) ({ cls := "DayBoy$Leaps", name := "length", desc := "(II)I" } : Jvm.MethodName)) ∈ lw_all := lw_g (lw_at lw_m3 0 rfl) rfl
theorem q584 : (Jvm.Cond.methodLink "DayBoy$Leaps" (41 : Nat) ({ cls := "java/lang/Math", name := "min", desc := "(II)I" } : Jvm.MethodName)) ∈ lw_all := lw_g (lw_at lw_m3 1 rfl) rfl
theorem q771 : (Jvm.Cond.instanceMethod ({ cls := "DayBoy$Leaps", name := "yearAt", desc := "(I)I" } : Jvm.MethodName)) ∈ lw_all := lw_g (lw_at lw_m3 188 rfl) rfl
theorem q772 : (Jvm.Cond.selects "DayBoy$Leaps" ({ cls := "DayBoy$Leaps", name := "yearAt", desc := "(I)I" } : Jvm.MethodName) ({ cls := "DayBoy$Leaps", name := "yearAt", desc := "(I)I" } : Jvm.MethodName)) ∈ lw_all := lw_g (lw_at lw_m3 189 rfl) rfl
theorem q773 : (Jvm.Cond.code ({ cls := "DayBoy$Leaps", name := "yearAt", desc := "(I)I" } : Jvm.MethodName) prog_9_method_9_code (5 : Nat) (Option.some Jvm.ClassFile.FieldType.int)) ∈ lw_all := lw_g (lw_at lw_m3 190 rfl) rfl
theorem q775 : (Jvm.Cond.instanceMethod ({ cls := "DayBoy$Leaps", name := "monthAt", desc := "(I)I" } : Jvm.MethodName)) ∈ lw_all := lw_g (lw_at lw_m3 192 rfl) rfl
theorem q776 : (Jvm.Cond.selects "DayBoy$Leaps" ({ cls := "DayBoy$Leaps", name := "monthAt", desc := "(I)I" } : Jvm.MethodName) ({ cls := "DayBoy$Leaps", name := "monthAt", desc := "(I)I" } : Jvm.MethodName)) ∈ lw_all := lw_g (lw_at lw_m3 193 rfl) rfl
theorem q777 : (Jvm.Cond.code ({ cls := "DayBoy$Leaps", name := "monthAt", desc := "(I)I" } : Jvm.MethodName) prog_9_method_10_code (4 : Nat) (Option.some Jvm.ClassFile.FieldType.int)) ∈ lw_all := lw_g (lw_at lw_m3 194 rfl) rfl
theorem q778 : (Jvm.Cond.methodLink "DayBoy$Leaps" (46 : Nat) ({ cls := "DayBoy$Leaps", name := "yearAt", desc := "(I)I" } : Jvm.MethodName)) ∈ lw_all := lw_g (lw_at lw_m3 195 rfl) rfl
theorem q780 : (Jvm.Cond.instanceMethod ({ cls := "DayBoy$Leaps", name := "dayAt", desc := "(I)I" } : Jvm.MethodName)) ∈ lw_all := lw_g (lw_at lw_m3 197 rfl) rfl
theorem q781 : (Jvm.Cond.selects "DayBoy$Leaps" ({ cls := "DayBoy$Leaps", name := "dayAt", desc := "(I)I" } : Jvm.MethodName) ({ cls := "DayBoy$Leaps", name := "dayAt", desc := "(I)I" } : Jvm.MethodName)) ∈ lw_all := lw_g (lw_at lw_m3 198 rfl) rfl
theorem q782 : (Jvm.Cond.code ({ cls := "DayBoy$Leaps", name := "dayAt", desc := "(I)I" } : Jvm.MethodName) prog_9_method_11_code (2 : Nat) (Option.some Jvm.ClassFile.FieldType.int)) ∈ lw_all := lw_g (lw_at lw_m3 199 rfl) rfl
theorem q783 : (Jvm.Cond.methodLink "DayBoy$Leaps" (49 : Nat) ({ cls := "DayBoy$Leaps", name := "monthAt", desc := "(I)I" } : Jvm.MethodName)) ∈ lw_all := lw_g (lw_at lw_m3 200 rfl) rfl
theorem q1915 : (Jvm.Cond.castable "DayBoy$Leaps" "java/lang/Object") ∈ lw_tbl := lw_at lw_m8 132 rfl
theorem in_X4 : ∀ w ∈ wsX40, w ∈ lw_all := lw_in wsX40 [160, 162, 164, 166] (by decide +kernel) (by decide +kernel)
/-! DayBoy$Head -/
set_option maxRecDepth 100000
def RX5 : String := "DayBoy$Head"
def TX5 : u_T := fun k => match k with
  | 0 => ("DayBoy$Head", "from", "[I", true)
  | 1 => ("DayBoy$Head", "to", "[I", true)
  | 2 => ("DayBoy$Head", "steps", "[I", true)
  | 3 => ("DayBoy$Head", "stepCosts", "[I", true)
  | 4 => ("DayBoy$Head", "one", "[I", true)
  | 5 => ("DayBoy$Head", "other", "[I", true)
  | 6 => ("DayBoy$Head", "mateCosts", "[I", true)
  | 7 => ("DayBoy$Head", "costs", "[I", true)
  | 8 => ("DayBoy$Head", "own", "[Z", true)
  | 9 => ("DayBoy$Head", "left", "[J", true)
  | 10 => ("DayBoy$Head", "monthLeft", "[J", true)
  | 11 => ("DayBoy$Head", "queue", "[I", true)
  | 12 => ("DayBoy$Head", "waits", "[Z", true)
  | 13 => ("DayBoy$Head", "ranges", "I", false)
  | 14 => ("DayBoy$Head", "stepMany", "I", false)
  | 15 => ("DayBoy$Head", "mateMany", "I", false)
  | 16 => ("DayBoy$Head", "weight", "I", false)
  | 17 => ("DayBoy$Head", "yearNow", "I", false)
  | 18 => ("DayBoy$Head", "knownNow", "I", false)
  | 19 => ("DayBoy$Head", "head", "I", false)
  | 20 => ("DayBoy$Head", "tail", "I", false)
  | _ => ("DayBoy$Head", "waiting", "I", false)
def tyX5 : Nat → FieldType := fun k => match k with
  | 0 => .array .int
  | 1 => .array .int
  | 2 => .array .int
  | 3 => .array .int
  | 4 => .array .int
  | 5 => .array .int
  | 6 => .array .int
  | 7 => .array .int
  | 8 => .array .boolean
  | 9 => .array .long
  | 10 => .array .long
  | 11 => .array .int
  | 12 => .array .boolean
  | 13 => .int
  | 14 => .int
  | 15 => .int
  | 16 => .int
  | 17 => .int
  | 18 => .int
  | 19 => .int
  | 20 => .int
  | _ => .int
abbrev wsX50 : List Cond := u_ws RX5 TX5 22
set_option maxRecDepth 100000 in
theorem nmX5 : ∀ a, a < 22 → ∀ b, b < 22 → a ≠ b → (TX5 a).2.1 ≠ (TX5 b).2.1 := by decide +kernel
set_option maxRecDepth 100000 in
theorem tyX5_ok : ∀ k, k < 22 → parseFieldDescriptor (TX5 k).2.2.1 = some (tyX5 k) := by decide +kernel
abbrev cX5_init : ByteArray := prog_7_method_1_code
def yX5_init : MethodName := ⟨RX5, "<init>", "()V"⟩
def dkwX5_init_4 : List UInt8 := [17, 39, 16, 188, 10, 181, 0, 47, 42, 17, 39, 16, 188, 4, 181, 0, 50, 42, 4, 181, 0, 53, 177]
abbrev dktX5_init_4 : List UInt8 := dkwX5_init_4 ++ []
def dkwX5_init_3 : List UInt8 := [188, 4, 181, 0, 36, 42, 17, 39, 16, 188, 11, 181, 0, 40, 42, 16, 13, 188, 11, 181, 0, 44, 42]
abbrev dktX5_init_3 : List UInt8 := dkwX5_init_3 ++ dktX5_init_4
def dkwX5_init_2 : List UInt8 := [188, 10, 181, 0, 27, 42, 16, 12, 188, 10, 181, 0, 30, 42, 7, 188, 10, 181, 0, 33, 42, 16, 13]
abbrev dktX5_init_2 : List UInt8 := dkwX5_init_2 ++ dktX5_init_3
def dkwX5_init_1 : List UInt8 := [188, 10, 181, 0, 18, 42, 16, 6, 188, 10, 181, 0, 21, 42, 16, 12, 188, 10, 181, 0, 24, 42, 16, 12]
abbrev dktX5_init_1 : List UInt8 := dkwX5_init_1 ++ dktX5_init_2
def dkwX5_init_0 : List UInt8 := [42, 183, 0, 3, 42, 16, 6, 188, 10, 181, 0, 9, 42, 16, 6, 188, 10, 181, 0, 15, 42, 16, 6]
abbrev dktX5_init_0 : List UInt8 := dkwX5_init_0 ++ dktX5_init_1
theorem dksX5_init_0 : cX5_init.data.toList.drop 0 = dktX5_init_0 := by decide +kernel
theorem dksX5_init_1 : cX5_init.data.toList.drop 23 = dktX5_init_1 := dk_seg dksX5_init_0 23 rfl rfl
theorem dksX5_init_2 : cX5_init.data.toList.drop 47 = dktX5_init_2 := dk_seg dksX5_init_1 24 rfl rfl
theorem dksX5_init_3 : cX5_init.data.toList.drop 70 = dktX5_init_3 := dk_seg dksX5_init_2 23 rfl rfl
theorem dksX5_init_4 : cX5_init.data.toList.drop 93 = dktX5_init_4 := dk_seg dksX5_init_3 23 rfl rfl
theorem dX5_init_0 : decode cX5_init 0 = .ok (.aload_n 0, 1) := dk_42 (dk_at dksX5_init_0 0 rfl rfl)
theorem dX5_init_1 : decode cX5_init 1 = .ok (.invokespecial 3, 3) := dk_183 0 3 (dk_at dksX5_init_0 1 rfl rfl)
theorem dX5_init_4 : decode cX5_init 4 = .ok (.aload_n 0, 1) := dk_42 (dk_at dksX5_init_0 4 rfl rfl)
theorem dX5_init_5 : decode cX5_init 5 = .ok (.bipush 6, 2) := dk_16 6 (dk_at dksX5_init_0 5 rfl rfl)
theorem dX5_init_7 : decode cX5_init 7 = .ok (.newarray .int, 2) := dk_188_10 (dk_at dksX5_init_0 7 rfl rfl)
theorem dX5_init_9 : decode cX5_init 9 = .ok (.putfield 9, 3) := dk_181 0 9 (dk_at dksX5_init_0 9 rfl rfl)
theorem dX5_init_12 : decode cX5_init 12 = .ok (.aload_n 0, 1) := dk_42 (dk_at dksX5_init_0 12 rfl rfl)
theorem dX5_init_13 : decode cX5_init 13 = .ok (.bipush 6, 2) := dk_16 6 (dk_at dksX5_init_0 13 rfl rfl)
theorem dX5_init_15 : decode cX5_init 15 = .ok (.newarray .int, 2) := dk_188_10 (dk_at dksX5_init_0 15 rfl rfl)
theorem dX5_init_17 : decode cX5_init 17 = .ok (.putfield 15, 3) := dk_181 0 15 (dk_at dksX5_init_0 17 rfl rfl)
theorem dX5_init_20 : decode cX5_init 20 = .ok (.aload_n 0, 1) := dk_42 (dk_at dksX5_init_0 20 rfl rfl)
theorem dX5_init_21 : decode cX5_init 21 = .ok (.bipush 6, 2) := dk_16 6 (dk_at dksX5_init_0 21 rfl rfl)
theorem dX5_init_23 : decode cX5_init 23 = .ok (.newarray .int, 2) := dk_188_10 (dk_at dksX5_init_1 0 rfl rfl)
theorem dX5_init_25 : decode cX5_init 25 = .ok (.putfield 18, 3) := dk_181 0 18 (dk_at dksX5_init_1 2 rfl rfl)
theorem dX5_init_28 : decode cX5_init 28 = .ok (.aload_n 0, 1) := dk_42 (dk_at dksX5_init_1 5 rfl rfl)
theorem dX5_init_29 : decode cX5_init 29 = .ok (.bipush 6, 2) := dk_16 6 (dk_at dksX5_init_1 6 rfl rfl)
theorem dX5_init_31 : decode cX5_init 31 = .ok (.newarray .int, 2) := dk_188_10 (dk_at dksX5_init_1 8 rfl rfl)
theorem dX5_init_33 : decode cX5_init 33 = .ok (.putfield 21, 3) := dk_181 0 21 (dk_at dksX5_init_1 10 rfl rfl)
theorem dX5_init_36 : decode cX5_init 36 = .ok (.aload_n 0, 1) := dk_42 (dk_at dksX5_init_1 13 rfl rfl)
theorem dX5_init_37 : decode cX5_init 37 = .ok (.bipush 12, 2) := dk_16 12 (dk_at dksX5_init_1 14 rfl rfl)
theorem dX5_init_39 : decode cX5_init 39 = .ok (.newarray .int, 2) := dk_188_10 (dk_at dksX5_init_1 16 rfl rfl)
theorem dX5_init_41 : decode cX5_init 41 = .ok (.putfield 24, 3) := dk_181 0 24 (dk_at dksX5_init_1 18 rfl rfl)
theorem dX5_init_44 : decode cX5_init 44 = .ok (.aload_n 0, 1) := dk_42 (dk_at dksX5_init_1 21 rfl rfl)
theorem dX5_init_45 : decode cX5_init 45 = .ok (.bipush 12, 2) := dk_16 12 (dk_at dksX5_init_1 22 rfl rfl)
theorem dX5_init_47 : decode cX5_init 47 = .ok (.newarray .int, 2) := dk_188_10 (dk_at dksX5_init_2 0 rfl rfl)
theorem dX5_init_49 : decode cX5_init 49 = .ok (.putfield 27, 3) := dk_181 0 27 (dk_at dksX5_init_2 2 rfl rfl)
theorem dX5_init_52 : decode cX5_init 52 = .ok (.aload_n 0, 1) := dk_42 (dk_at dksX5_init_2 5 rfl rfl)
theorem dX5_init_53 : decode cX5_init 53 = .ok (.bipush 12, 2) := dk_16 12 (dk_at dksX5_init_2 6 rfl rfl)
theorem dX5_init_55 : decode cX5_init 55 = .ok (.newarray .int, 2) := dk_188_10 (dk_at dksX5_init_2 8 rfl rfl)
theorem dX5_init_57 : decode cX5_init 57 = .ok (.putfield 30, 3) := dk_181 0 30 (dk_at dksX5_init_2 10 rfl rfl)
theorem dX5_init_60 : decode cX5_init 60 = .ok (.aload_n 0, 1) := dk_42 (dk_at dksX5_init_2 13 rfl rfl)
theorem dX5_init_61 : decode cX5_init 61 = .ok (.iconst 4, 1) := dk_7 (dk_at dksX5_init_2 14 rfl rfl)
theorem dX5_init_62 : decode cX5_init 62 = .ok (.newarray .int, 2) := dk_188_10 (dk_at dksX5_init_2 15 rfl rfl)
theorem dX5_init_64 : decode cX5_init 64 = .ok (.putfield 33, 3) := dk_181 0 33 (dk_at dksX5_init_2 17 rfl rfl)
theorem dX5_init_67 : decode cX5_init 67 = .ok (.aload_n 0, 1) := dk_42 (dk_at dksX5_init_2 20 rfl rfl)
theorem dX5_init_68 : decode cX5_init 68 = .ok (.bipush 13, 2) := dk_16 13 (dk_at dksX5_init_2 21 rfl rfl)
theorem dX5_init_70 : decode cX5_init 70 = .ok (.newarray .boolean, 2) := dk_188_4 (dk_at dksX5_init_3 0 rfl rfl)
theorem dX5_init_72 : decode cX5_init 72 = .ok (.putfield 36, 3) := dk_181 0 36 (dk_at dksX5_init_3 2 rfl rfl)
theorem dX5_init_75 : decode cX5_init 75 = .ok (.aload_n 0, 1) := dk_42 (dk_at dksX5_init_3 5 rfl rfl)
theorem dX5_init_76 : decode cX5_init 76 = .ok (.sipush 10000, 3) := dk_17 39 16 (dk_at dksX5_init_3 6 rfl rfl)
theorem dX5_init_79 : decode cX5_init 79 = .ok (.newarray .long, 2) := dk_188_11 (dk_at dksX5_init_3 9 rfl rfl)
theorem dX5_init_81 : decode cX5_init 81 = .ok (.putfield 40, 3) := dk_181 0 40 (dk_at dksX5_init_3 11 rfl rfl)
theorem dX5_init_84 : decode cX5_init 84 = .ok (.aload_n 0, 1) := dk_42 (dk_at dksX5_init_3 14 rfl rfl)
theorem dX5_init_85 : decode cX5_init 85 = .ok (.bipush 13, 2) := dk_16 13 (dk_at dksX5_init_3 15 rfl rfl)
theorem dX5_init_87 : decode cX5_init 87 = .ok (.newarray .long, 2) := dk_188_11 (dk_at dksX5_init_3 17 rfl rfl)
theorem dX5_init_89 : decode cX5_init 89 = .ok (.putfield 44, 3) := dk_181 0 44 (dk_at dksX5_init_3 19 rfl rfl)
theorem dX5_init_92 : decode cX5_init 92 = .ok (.aload_n 0, 1) := dk_42 (dk_at dksX5_init_3 22 rfl rfl)
theorem dX5_init_93 : decode cX5_init 93 = .ok (.sipush 10000, 3) := dk_17 39 16 (dk_at dksX5_init_4 0 rfl rfl)
theorem dX5_init_96 : decode cX5_init 96 = .ok (.newarray .int, 2) := dk_188_10 (dk_at dksX5_init_4 3 rfl rfl)
theorem dX5_init_98 : decode cX5_init 98 = .ok (.putfield 47, 3) := dk_181 0 47 (dk_at dksX5_init_4 5 rfl rfl)
theorem dX5_init_101 : decode cX5_init 101 = .ok (.aload_n 0, 1) := dk_42 (dk_at dksX5_init_4 8 rfl rfl)
theorem dX5_init_102 : decode cX5_init 102 = .ok (.sipush 10000, 3) := dk_17 39 16 (dk_at dksX5_init_4 9 rfl rfl)
theorem dX5_init_105 : decode cX5_init 105 = .ok (.newarray .boolean, 2) := dk_188_4 (dk_at dksX5_init_4 12 rfl rfl)
theorem dX5_init_107 : decode cX5_init 107 = .ok (.putfield 50, 3) := dk_181 0 50 (dk_at dksX5_init_4 14 rfl rfl)
theorem dX5_init_110 : decode cX5_init 110 = .ok (.aload_n 0, 1) := dk_42 (dk_at dksX5_init_4 17 rfl rfl)
theorem dX5_init_111 : decode cX5_init 111 = .ok (.iconst 1, 1) := dk_4 (dk_at dksX5_init_4 18 rfl rfl)
theorem dX5_init_112 : decode cX5_init 112 = .ok (.putfield 53, 3) := dk_181 0 53 (dk_at dksX5_init_4 19 rfl rfl)
theorem dX5_init_115 : decode cX5_init 115 = .ok (.return_, 1) := dk_177 (dk_at dksX5_init_4 22 rfl rfl)
abbrev cX5_empty : ByteArray := prog_7_method_4_code
def yX5_empty : MethodName := ⟨RX5, "empty", "()V"⟩
def dkwX5_empty_2 : List UInt8 := [27, 3, 84, 132, 1, 1, 167, 255, 240, 177]
abbrev dktX5_empty_2 : List UInt8 := dkwX5_empty_2 ++ []
def dkwX5_empty_1 : List UInt8 := [180, 0, 33, 27, 3, 79, 132, 1, 1, 167, 255, 241, 3, 60, 27, 16, 13, 162, 0, 16, 42, 180, 0, 36]
abbrev dktX5_empty_1 : List UInt8 := dkwX5_empty_1 ++ dktX5_empty_2
def dkwX5_empty_0 : List UInt8 := [42, 3, 181, 0, 81, 42, 3, 181, 0, 72, 42, 3, 181, 0, 84, 3, 60, 27, 7, 162, 0, 16, 42]
abbrev dktX5_empty_0 : List UInt8 := dkwX5_empty_0 ++ dktX5_empty_1
theorem dksX5_empty_0 : cX5_empty.data.toList.drop 0 = dktX5_empty_0 := by decide +kernel
theorem dksX5_empty_1 : cX5_empty.data.toList.drop 23 = dktX5_empty_1 := dk_seg dksX5_empty_0 23 rfl rfl
theorem dksX5_empty_2 : cX5_empty.data.toList.drop 47 = dktX5_empty_2 := dk_seg dksX5_empty_1 24 rfl rfl
theorem dX5_empty_0 : decode cX5_empty 0 = .ok (.aload_n 0, 1) := dk_42 (dk_at dksX5_empty_0 0 rfl rfl)
theorem dX5_empty_1 : decode cX5_empty 1 = .ok (.iconst 0, 1) := dk_3 (dk_at dksX5_empty_0 1 rfl rfl)
theorem dX5_empty_2 : decode cX5_empty 2 = .ok (.putfield 81, 3) := dk_181 0 81 (dk_at dksX5_empty_0 2 rfl rfl)
theorem dX5_empty_5 : decode cX5_empty 5 = .ok (.aload_n 0, 1) := dk_42 (dk_at dksX5_empty_0 5 rfl rfl)
theorem dX5_empty_6 : decode cX5_empty 6 = .ok (.iconst 0, 1) := dk_3 (dk_at dksX5_empty_0 6 rfl rfl)
theorem dX5_empty_7 : decode cX5_empty 7 = .ok (.putfield 72, 3) := dk_181 0 72 (dk_at dksX5_empty_0 7 rfl rfl)
theorem dX5_empty_10 : decode cX5_empty 10 = .ok (.aload_n 0, 1) := dk_42 (dk_at dksX5_empty_0 10 rfl rfl)
theorem dX5_empty_11 : decode cX5_empty 11 = .ok (.iconst 0, 1) := dk_3 (dk_at dksX5_empty_0 11 rfl rfl)
theorem dX5_empty_12 : decode cX5_empty 12 = .ok (.putfield 84, 3) := dk_181 0 84 (dk_at dksX5_empty_0 12 rfl rfl)
theorem dX5_empty_15 : decode cX5_empty 15 = .ok (.iconst 0, 1) := dk_3 (dk_at dksX5_empty_0 15 rfl rfl)
theorem dX5_empty_16 : decode cX5_empty 16 = .ok (.istore_n 1, 1) := dk_60 (dk_at dksX5_empty_0 16 rfl rfl)
theorem dX5_empty_17 : decode cX5_empty 17 = .ok (.iload_n 1, 1) := dk_27 (dk_at dksX5_empty_0 17 rfl rfl)
theorem dX5_empty_18 : decode cX5_empty 18 = .ok (.iconst 4, 1) := dk_7 (dk_at dksX5_empty_0 18 rfl rfl)
theorem dX5_empty_19 : decode cX5_empty 19 = .ok (.if_icmp .ge 16, 3) := dk_162 0 16 (dk_at dksX5_empty_0 19 rfl rfl)
theorem dX5_empty_22 : decode cX5_empty 22 = .ok (.aload_n 0, 1) := dk_42 (dk_at dksX5_empty_0 22 rfl rfl)
theorem dX5_empty_23 : decode cX5_empty 23 = .ok (.getfield 33, 3) := dk_180 0 33 (dk_at dksX5_empty_1 0 rfl rfl)
theorem dX5_empty_26 : decode cX5_empty 26 = .ok (.iload_n 1, 1) := dk_27 (dk_at dksX5_empty_1 3 rfl rfl)
theorem dX5_empty_27 : decode cX5_empty 27 = .ok (.iconst 0, 1) := dk_3 (dk_at dksX5_empty_1 4 rfl rfl)
theorem dX5_empty_28 : decode cX5_empty 28 = .ok (.iastore, 1) := dk_79 (dk_at dksX5_empty_1 5 rfl rfl)
theorem dX5_empty_29 : decode cX5_empty 29 = .ok (.iinc 1 1, 3) := dk_132 1 1 (dk_at dksX5_empty_1 6 rfl rfl)
theorem dX5_empty_32 : decode cX5_empty 32 = .ok (.goto (-15), 3) := dk_167 255 241 (dk_at dksX5_empty_1 9 rfl rfl)
theorem dX5_empty_35 : decode cX5_empty 35 = .ok (.iconst 0, 1) := dk_3 (dk_at dksX5_empty_1 12 rfl rfl)
theorem dX5_empty_36 : decode cX5_empty 36 = .ok (.istore_n 1, 1) := dk_60 (dk_at dksX5_empty_1 13 rfl rfl)
theorem dX5_empty_37 : decode cX5_empty 37 = .ok (.iload_n 1, 1) := dk_27 (dk_at dksX5_empty_1 14 rfl rfl)
theorem dX5_empty_38 : decode cX5_empty 38 = .ok (.bipush 13, 2) := dk_16 13 (dk_at dksX5_empty_1 15 rfl rfl)
theorem dX5_empty_40 : decode cX5_empty 40 = .ok (.if_icmp .ge 16, 3) := dk_162 0 16 (dk_at dksX5_empty_1 17 rfl rfl)
theorem dX5_empty_43 : decode cX5_empty 43 = .ok (.aload_n 0, 1) := dk_42 (dk_at dksX5_empty_1 20 rfl rfl)
theorem dX5_empty_44 : decode cX5_empty 44 = .ok (.getfield 36, 3) := dk_180 0 36 (dk_at dksX5_empty_1 21 rfl rfl)
theorem dX5_empty_47 : decode cX5_empty 47 = .ok (.iload_n 1, 1) := dk_27 (dk_at dksX5_empty_2 0 rfl rfl)
theorem dX5_empty_48 : decode cX5_empty 48 = .ok (.iconst 0, 1) := dk_3 (dk_at dksX5_empty_2 1 rfl rfl)
theorem dX5_empty_49 : decode cX5_empty 49 = .ok (.bastore, 1) := dk_84 (dk_at dksX5_empty_2 2 rfl rfl)
theorem dX5_empty_50 : decode cX5_empty 50 = .ok (.iinc 1 1, 3) := dk_132 1 1 (dk_at dksX5_empty_2 3 rfl rfl)
theorem dX5_empty_53 : decode cX5_empty 53 = .ok (.goto (-16), 3) := dk_167 255 240 (dk_at dksX5_empty_2 6 rfl rfl)
theorem dX5_empty_56 : decode cX5_empty 56 = .ok (.return_, 1) := dk_177 (dk_at dksX5_empty_2 9 rfl rfl)
abbrev cX5_learn : ByteArray := prog_7_method_6_code
def yX5_learn : MethodName := ⟨RX5, "learn", "()V"⟩
def dkwX5_learn_10 : List UInt8 := [29, 46, 47, 22, 4, 97, 184, 0, 98, 80, 132, 3, 1, 167, 255, 152, 132, 2, 1, 167, 255, 138, 177]
abbrev dktX5_learn_10 : List UInt8 := dkwX5_learn_10 ++ []
def dkwX5_learn_9 : List UInt8 := [180, 0, 27, 29, 46, 42, 180, 0, 44, 42, 180, 0, 27, 29, 46, 47, 42, 180, 0, 44, 42, 180, 0, 24]
abbrev dktX5_learn_9 : List UInt8 := dkwX5_learn_9 ++ dktX5_learn_10
def dkwX5_learn_8 : List UInt8 := [47, 42, 180, 0, 44, 42, 180, 0, 27, 29, 46, 47, 22, 4, 97, 184, 0, 98, 80, 42, 180, 0, 44, 42]
abbrev dktX5_learn_8 : List UInt8 := dkwX5_learn_8 ++ dktX5_learn_9
def dkwX5_learn_7 : List UInt8 := [10, 97, 55, 4, 42, 180, 0, 44, 42, 180, 0, 24, 29, 46, 42, 180, 0, 44, 42, 180, 0, 24, 29, 46]
abbrev dktX5_learn_7 : List UInt8 := dkwX5_learn_7 ++ dktX5_learn_8
def dkwX5_learn_6 : List UInt8 := [162, 0, 118, 3, 62, 29, 42, 180, 0, 84, 162, 0, 102, 20, 0, 75, 42, 180, 0, 30, 29, 46, 133, 105]
abbrev dktX5_learn_6 : List UInt8 := dkwX5_learn_6 ++ dktX5_learn_7
def dkwX5_learn_5 : List UInt8 := [4, 160, 0, 7, 9, 167, 0, 6, 20, 0, 87, 80, 132, 2, 1, 167, 255, 216, 3, 61, 28, 16, 12]
abbrev dktX5_learn_5 : List UInt8 := dkwX5_learn_5 ++ dktX5_learn_6
def dkwX5_learn_4 : List UInt8 := [16, 13, 162, 0, 40, 42, 180, 0, 44, 28, 42, 180, 0, 36, 28, 51, 154, 0, 12, 27, 154, 0, 12, 28]
abbrev dktX5_learn_4 : List UInt8 := dkwX5_learn_4 ++ dktX5_learn_5
def dkwX5_learn_3 : List UInt8 := [180, 0, 36, 28, 51, 153, 0, 7, 4, 167, 0, 4, 3, 60, 132, 2, 1, 167, 255, 228, 4, 61, 28]
abbrev dktX5_learn_3 : List UInt8 := dkwX5_learn_3 ++ dktX5_learn_4
def dkwX5_learn_2 : List UInt8 := [167, 255, 216, 42, 182, 0, 95, 3, 60, 4, 61, 28, 16, 13, 162, 0, 28, 27, 154, 0, 12, 42]
abbrev dktX5_learn_2 : List UInt8 := dkwX5_learn_2 ++ dktX5_learn_3
def dkwX5_learn_1 : List UInt8 := [180, 0, 15, 27, 46, 163, 0, 15, 42, 28, 9, 182, 0, 77, 132, 2, 1, 167, 255, 237, 132, 1, 1]
abbrev dktX5_learn_1 : List UInt8 := dkwX5_learn_1 ++ dktX5_learn_2
def dkwX5_learn_0 : List UInt8 := [42, 182, 0, 92, 3, 60, 27, 42, 180, 0, 81, 162, 0, 38, 42, 180, 0, 9, 27, 46, 61, 28, 42]
abbrev dktX5_learn_0 : List UInt8 := dkwX5_learn_0 ++ dktX5_learn_1
theorem dksX5_learn_0 : cX5_learn.data.toList.drop 0 = dktX5_learn_0 := by decide +kernel
theorem dksX5_learn_1 : cX5_learn.data.toList.drop 23 = dktX5_learn_1 := dk_seg dksX5_learn_0 23 rfl rfl
theorem dksX5_learn_2 : cX5_learn.data.toList.drop 46 = dktX5_learn_2 := dk_seg dksX5_learn_1 23 rfl rfl
theorem dksX5_learn_3 : cX5_learn.data.toList.drop 68 = dktX5_learn_3 := dk_seg dksX5_learn_2 22 rfl rfl
theorem dksX5_learn_4 : cX5_learn.data.toList.drop 91 = dktX5_learn_4 := dk_seg dksX5_learn_3 23 rfl rfl
theorem dksX5_learn_5 : cX5_learn.data.toList.drop 115 = dktX5_learn_5 := dk_seg dksX5_learn_4 24 rfl rfl
theorem dksX5_learn_6 : cX5_learn.data.toList.drop 138 = dktX5_learn_6 := dk_seg dksX5_learn_5 23 rfl rfl
theorem dksX5_learn_7 : cX5_learn.data.toList.drop 162 = dktX5_learn_7 := dk_seg dksX5_learn_6 24 rfl rfl
theorem dksX5_learn_8 : cX5_learn.data.toList.drop 186 = dktX5_learn_8 := dk_seg dksX5_learn_7 24 rfl rfl
theorem dksX5_learn_9 : cX5_learn.data.toList.drop 210 = dktX5_learn_9 := dk_seg dksX5_learn_8 24 rfl rfl
theorem dksX5_learn_10 : cX5_learn.data.toList.drop 234 = dktX5_learn_10 := dk_seg dksX5_learn_9 24 rfl rfl
theorem dX5_learn_0 : decode cX5_learn 0 = .ok (.aload_n 0, 1) := dk_42 (dk_at dksX5_learn_0 0 rfl rfl)
theorem dX5_learn_1 : decode cX5_learn 1 = .ok (.invokevirtual 92, 3) := dk_182 0 92 (dk_at dksX5_learn_0 1 rfl rfl)
theorem dX5_learn_4 : decode cX5_learn 4 = .ok (.iconst 0, 1) := dk_3 (dk_at dksX5_learn_0 4 rfl rfl)
theorem dX5_learn_5 : decode cX5_learn 5 = .ok (.istore_n 1, 1) := dk_60 (dk_at dksX5_learn_0 5 rfl rfl)
theorem dX5_learn_6 : decode cX5_learn 6 = .ok (.iload_n 1, 1) := dk_27 (dk_at dksX5_learn_0 6 rfl rfl)
theorem dX5_learn_7 : decode cX5_learn 7 = .ok (.aload_n 0, 1) := dk_42 (dk_at dksX5_learn_0 7 rfl rfl)
theorem dX5_learn_8 : decode cX5_learn 8 = .ok (.getfield 81, 3) := dk_180 0 81 (dk_at dksX5_learn_0 8 rfl rfl)
theorem dX5_learn_11 : decode cX5_learn 11 = .ok (.if_icmp .ge 38, 3) := dk_162 0 38 (dk_at dksX5_learn_0 11 rfl rfl)
theorem dX5_learn_14 : decode cX5_learn 14 = .ok (.aload_n 0, 1) := dk_42 (dk_at dksX5_learn_0 14 rfl rfl)
theorem dX5_learn_15 : decode cX5_learn 15 = .ok (.getfield 9, 3) := dk_180 0 9 (dk_at dksX5_learn_0 15 rfl rfl)
theorem dX5_learn_18 : decode cX5_learn 18 = .ok (.iload_n 1, 1) := dk_27 (dk_at dksX5_learn_0 18 rfl rfl)
theorem dX5_learn_19 : decode cX5_learn 19 = .ok (.iaload, 1) := dk_46 (dk_at dksX5_learn_0 19 rfl rfl)
theorem dX5_learn_20 : decode cX5_learn 20 = .ok (.istore_n 2, 1) := dk_61 (dk_at dksX5_learn_0 20 rfl rfl)
theorem dX5_learn_21 : decode cX5_learn 21 = .ok (.iload_n 2, 1) := dk_28 (dk_at dksX5_learn_0 21 rfl rfl)
theorem dX5_learn_22 : decode cX5_learn 22 = .ok (.aload_n 0, 1) := dk_42 (dk_at dksX5_learn_0 22 rfl rfl)
theorem dX5_learn_23 : decode cX5_learn 23 = .ok (.getfield 15, 3) := dk_180 0 15 (dk_at dksX5_learn_1 0 rfl rfl)
theorem dX5_learn_26 : decode cX5_learn 26 = .ok (.iload_n 1, 1) := dk_27 (dk_at dksX5_learn_1 3 rfl rfl)
theorem dX5_learn_27 : decode cX5_learn 27 = .ok (.iaload, 1) := dk_46 (dk_at dksX5_learn_1 4 rfl rfl)
theorem dX5_learn_28 : decode cX5_learn 28 = .ok (.if_icmp .gt 15, 3) := dk_163 0 15 (dk_at dksX5_learn_1 5 rfl rfl)
theorem dX5_learn_31 : decode cX5_learn 31 = .ok (.aload_n 0, 1) := dk_42 (dk_at dksX5_learn_1 8 rfl rfl)
theorem dX5_learn_32 : decode cX5_learn 32 = .ok (.iload_n 2, 1) := dk_28 (dk_at dksX5_learn_1 9 rfl rfl)
theorem dX5_learn_33 : decode cX5_learn 33 = .ok (.lconst 0, 1) := dk_9 (dk_at dksX5_learn_1 10 rfl rfl)
theorem dX5_learn_34 : decode cX5_learn 34 = .ok (.invokevirtual 77, 3) := dk_182 0 77 (dk_at dksX5_learn_1 11 rfl rfl)
theorem dX5_learn_37 : decode cX5_learn 37 = .ok (.iinc 2 1, 3) := dk_132 2 1 (dk_at dksX5_learn_1 14 rfl rfl)
theorem dX5_learn_40 : decode cX5_learn 40 = .ok (.goto (-19), 3) := dk_167 255 237 (dk_at dksX5_learn_1 17 rfl rfl)
theorem dX5_learn_43 : decode cX5_learn 43 = .ok (.iinc 1 1, 3) := dk_132 1 1 (dk_at dksX5_learn_1 20 rfl rfl)
theorem dX5_learn_46 : decode cX5_learn 46 = .ok (.goto (-40), 3) := dk_167 255 216 (dk_at dksX5_learn_2 0 rfl rfl)
theorem dX5_learn_49 : decode cX5_learn 49 = .ok (.aload_n 0, 1) := dk_42 (dk_at dksX5_learn_2 3 rfl rfl)
theorem dX5_learn_50 : decode cX5_learn 50 = .ok (.invokevirtual 95, 3) := dk_182 0 95 (dk_at dksX5_learn_2 4 rfl rfl)
theorem dX5_learn_53 : decode cX5_learn 53 = .ok (.iconst 0, 1) := dk_3 (dk_at dksX5_learn_2 7 rfl rfl)
theorem dX5_learn_54 : decode cX5_learn 54 = .ok (.istore_n 1, 1) := dk_60 (dk_at dksX5_learn_2 8 rfl rfl)
theorem dX5_learn_55 : decode cX5_learn 55 = .ok (.iconst 1, 1) := dk_4 (dk_at dksX5_learn_2 9 rfl rfl)
theorem dX5_learn_56 : decode cX5_learn 56 = .ok (.istore_n 2, 1) := dk_61 (dk_at dksX5_learn_2 10 rfl rfl)
theorem dX5_learn_57 : decode cX5_learn 57 = .ok (.iload_n 2, 1) := dk_28 (dk_at dksX5_learn_2 11 rfl rfl)
theorem dX5_learn_58 : decode cX5_learn 58 = .ok (.bipush 13, 2) := dk_16 13 (dk_at dksX5_learn_2 12 rfl rfl)
theorem dX5_learn_60 : decode cX5_learn 60 = .ok (.if_icmp .ge 28, 3) := dk_162 0 28 (dk_at dksX5_learn_2 14 rfl rfl)
theorem dX5_learn_63 : decode cX5_learn 63 = .ok (.iload_n 1, 1) := dk_27 (dk_at dksX5_learn_2 17 rfl rfl)
theorem dX5_learn_64 : decode cX5_learn 64 = .ok (.ifCond .ne 12, 3) := dk_154 0 12 (dk_at dksX5_learn_2 18 rfl rfl)
theorem dX5_learn_67 : decode cX5_learn 67 = .ok (.aload_n 0, 1) := dk_42 (dk_at dksX5_learn_2 21 rfl rfl)
theorem dX5_learn_68 : decode cX5_learn 68 = .ok (.getfield 36, 3) := dk_180 0 36 (dk_at dksX5_learn_3 0 rfl rfl)
theorem dX5_learn_71 : decode cX5_learn 71 = .ok (.iload_n 2, 1) := dk_28 (dk_at dksX5_learn_3 3 rfl rfl)
theorem dX5_learn_72 : decode cX5_learn 72 = .ok (.baload, 1) := dk_51 (dk_at dksX5_learn_3 4 rfl rfl)
theorem dX5_learn_73 : decode cX5_learn 73 = .ok (.ifCond .eq 7, 3) := dk_153 0 7 (dk_at dksX5_learn_3 5 rfl rfl)
theorem dX5_learn_76 : decode cX5_learn 76 = .ok (.iconst 1, 1) := dk_4 (dk_at dksX5_learn_3 8 rfl rfl)
theorem dX5_learn_77 : decode cX5_learn 77 = .ok (.goto 4, 3) := dk_167 0 4 (dk_at dksX5_learn_3 9 rfl rfl)
theorem dX5_learn_80 : decode cX5_learn 80 = .ok (.iconst 0, 1) := dk_3 (dk_at dksX5_learn_3 12 rfl rfl)
theorem dX5_learn_81 : decode cX5_learn 81 = .ok (.istore_n 1, 1) := dk_60 (dk_at dksX5_learn_3 13 rfl rfl)
theorem dX5_learn_82 : decode cX5_learn 82 = .ok (.iinc 2 1, 3) := dk_132 2 1 (dk_at dksX5_learn_3 14 rfl rfl)
theorem dX5_learn_85 : decode cX5_learn 85 = .ok (.goto (-28), 3) := dk_167 255 228 (dk_at dksX5_learn_3 17 rfl rfl)
theorem dX5_learn_88 : decode cX5_learn 88 = .ok (.iconst 1, 1) := dk_4 (dk_at dksX5_learn_3 20 rfl rfl)
theorem dX5_learn_89 : decode cX5_learn 89 = .ok (.istore_n 2, 1) := dk_61 (dk_at dksX5_learn_3 21 rfl rfl)
theorem dX5_learn_90 : decode cX5_learn 90 = .ok (.iload_n 2, 1) := dk_28 (dk_at dksX5_learn_3 22 rfl rfl)
theorem dX5_learn_91 : decode cX5_learn 91 = .ok (.bipush 13, 2) := dk_16 13 (dk_at dksX5_learn_4 0 rfl rfl)
theorem dX5_learn_93 : decode cX5_learn 93 = .ok (.if_icmp .ge 40, 3) := dk_162 0 40 (dk_at dksX5_learn_4 2 rfl rfl)
theorem dX5_learn_96 : decode cX5_learn 96 = .ok (.aload_n 0, 1) := dk_42 (dk_at dksX5_learn_4 5 rfl rfl)
theorem dX5_learn_97 : decode cX5_learn 97 = .ok (.getfield 44, 3) := dk_180 0 44 (dk_at dksX5_learn_4 6 rfl rfl)
theorem dX5_learn_100 : decode cX5_learn 100 = .ok (.iload_n 2, 1) := dk_28 (dk_at dksX5_learn_4 9 rfl rfl)
theorem dX5_learn_101 : decode cX5_learn 101 = .ok (.aload_n 0, 1) := dk_42 (dk_at dksX5_learn_4 10 rfl rfl)
theorem dX5_learn_102 : decode cX5_learn 102 = .ok (.getfield 36, 3) := dk_180 0 36 (dk_at dksX5_learn_4 11 rfl rfl)
theorem dX5_learn_105 : decode cX5_learn 105 = .ok (.iload_n 2, 1) := dk_28 (dk_at dksX5_learn_4 14 rfl rfl)
theorem dX5_learn_106 : decode cX5_learn 106 = .ok (.baload, 1) := dk_51 (dk_at dksX5_learn_4 15 rfl rfl)
theorem dX5_learn_107 : decode cX5_learn 107 = .ok (.ifCond .ne 12, 3) := dk_154 0 12 (dk_at dksX5_learn_4 16 rfl rfl)
theorem dX5_learn_110 : decode cX5_learn 110 = .ok (.iload_n 1, 1) := dk_27 (dk_at dksX5_learn_4 19 rfl rfl)
theorem dX5_learn_111 : decode cX5_learn 111 = .ok (.ifCond .ne 12, 3) := dk_154 0 12 (dk_at dksX5_learn_4 20 rfl rfl)
theorem dX5_learn_114 : decode cX5_learn 114 = .ok (.iload_n 2, 1) := dk_28 (dk_at dksX5_learn_4 23 rfl rfl)
theorem dX5_learn_115 : decode cX5_learn 115 = .ok (.iconst 1, 1) := dk_4 (dk_at dksX5_learn_5 0 rfl rfl)
theorem dX5_learn_116 : decode cX5_learn 116 = .ok (.if_icmp .ne 7, 3) := dk_160 0 7 (dk_at dksX5_learn_5 1 rfl rfl)
theorem dX5_learn_119 : decode cX5_learn 119 = .ok (.lconst 0, 1) := dk_9 (dk_at dksX5_learn_5 4 rfl rfl)
theorem dX5_learn_120 : decode cX5_learn 120 = .ok (.goto 6, 3) := dk_167 0 6 (dk_at dksX5_learn_5 5 rfl rfl)
theorem dX5_learn_123 : decode cX5_learn 123 = .ok (.ldc2_w 87, 3) := dk_20 0 87 (dk_at dksX5_learn_5 8 rfl rfl)
theorem dX5_learn_126 : decode cX5_learn 126 = .ok (.lastore, 1) := dk_80 (dk_at dksX5_learn_5 11 rfl rfl)
theorem dX5_learn_127 : decode cX5_learn 127 = .ok (.iinc 2 1, 3) := dk_132 2 1 (dk_at dksX5_learn_5 12 rfl rfl)
theorem dX5_learn_130 : decode cX5_learn 130 = .ok (.goto (-40), 3) := dk_167 255 216 (dk_at dksX5_learn_5 15 rfl rfl)
theorem dX5_learn_133 : decode cX5_learn 133 = .ok (.iconst 0, 1) := dk_3 (dk_at dksX5_learn_5 18 rfl rfl)
theorem dX5_learn_134 : decode cX5_learn 134 = .ok (.istore_n 2, 1) := dk_61 (dk_at dksX5_learn_5 19 rfl rfl)
theorem dX5_learn_135 : decode cX5_learn 135 = .ok (.iload_n 2, 1) := dk_28 (dk_at dksX5_learn_5 20 rfl rfl)
theorem dX5_learn_136 : decode cX5_learn 136 = .ok (.bipush 12, 2) := dk_16 12 (dk_at dksX5_learn_5 21 rfl rfl)
theorem dX5_learn_138 : decode cX5_learn 138 = .ok (.if_icmp .ge 118, 3) := dk_162 0 118 (dk_at dksX5_learn_6 0 rfl rfl)
theorem dX5_learn_141 : decode cX5_learn 141 = .ok (.iconst 0, 1) := dk_3 (dk_at dksX5_learn_6 3 rfl rfl)
theorem dX5_learn_142 : decode cX5_learn 142 = .ok (.istore_n 3, 1) := dk_62 (dk_at dksX5_learn_6 4 rfl rfl)
theorem dX5_learn_143 : decode cX5_learn 143 = .ok (.iload_n 3, 1) := dk_29 (dk_at dksX5_learn_6 5 rfl rfl)
theorem dX5_learn_144 : decode cX5_learn 144 = .ok (.aload_n 0, 1) := dk_42 (dk_at dksX5_learn_6 6 rfl rfl)
theorem dX5_learn_145 : decode cX5_learn 145 = .ok (.getfield 84, 3) := dk_180 0 84 (dk_at dksX5_learn_6 7 rfl rfl)
theorem dX5_learn_148 : decode cX5_learn 148 = .ok (.if_icmp .ge 102, 3) := dk_162 0 102 (dk_at dksX5_learn_6 10 rfl rfl)
theorem dX5_learn_151 : decode cX5_learn 151 = .ok (.ldc2_w 75, 3) := dk_20 0 75 (dk_at dksX5_learn_6 13 rfl rfl)
theorem dX5_learn_154 : decode cX5_learn 154 = .ok (.aload_n 0, 1) := dk_42 (dk_at dksX5_learn_6 16 rfl rfl)
theorem dX5_learn_155 : decode cX5_learn 155 = .ok (.getfield 30, 3) := dk_180 0 30 (dk_at dksX5_learn_6 17 rfl rfl)
theorem dX5_learn_158 : decode cX5_learn 158 = .ok (.iload_n 3, 1) := dk_29 (dk_at dksX5_learn_6 20 rfl rfl)
theorem dX5_learn_159 : decode cX5_learn 159 = .ok (.iaload, 1) := dk_46 (dk_at dksX5_learn_6 21 rfl rfl)
theorem dX5_learn_160 : decode cX5_learn 160 = .ok (.i2l, 1) := dk_133 (dk_at dksX5_learn_6 22 rfl rfl)
theorem dX5_learn_161 : decode cX5_learn 161 = .ok (.lmul, 1) := dk_105 (dk_at dksX5_learn_6 23 rfl rfl)
theorem dX5_learn_162 : decode cX5_learn 162 = .ok (.lconst 1, 1) := dk_10 (dk_at dksX5_learn_7 0 rfl rfl)
theorem dX5_learn_163 : decode cX5_learn 163 = .ok (.ladd, 1) := dk_97 (dk_at dksX5_learn_7 1 rfl rfl)
theorem dX5_learn_164 : decode cX5_learn 164 = .ok (.lstore 4, 2) := dk_55 4 (dk_at dksX5_learn_7 2 rfl rfl)
theorem dX5_learn_166 : decode cX5_learn 166 = .ok (.aload_n 0, 1) := dk_42 (dk_at dksX5_learn_7 4 rfl rfl)
theorem dX5_learn_167 : decode cX5_learn 167 = .ok (.getfield 44, 3) := dk_180 0 44 (dk_at dksX5_learn_7 5 rfl rfl)
theorem dX5_learn_170 : decode cX5_learn 170 = .ok (.aload_n 0, 1) := dk_42 (dk_at dksX5_learn_7 8 rfl rfl)
theorem dX5_learn_171 : decode cX5_learn 171 = .ok (.getfield 24, 3) := dk_180 0 24 (dk_at dksX5_learn_7 9 rfl rfl)
theorem dX5_learn_174 : decode cX5_learn 174 = .ok (.iload_n 3, 1) := dk_29 (dk_at dksX5_learn_7 12 rfl rfl)
theorem dX5_learn_175 : decode cX5_learn 175 = .ok (.iaload, 1) := dk_46 (dk_at dksX5_learn_7 13 rfl rfl)
theorem dX5_learn_176 : decode cX5_learn 176 = .ok (.aload_n 0, 1) := dk_42 (dk_at dksX5_learn_7 14 rfl rfl)
theorem dX5_learn_177 : decode cX5_learn 177 = .ok (.getfield 44, 3) := dk_180 0 44 (dk_at dksX5_learn_7 15 rfl rfl)
theorem dX5_learn_180 : decode cX5_learn 180 = .ok (.aload_n 0, 1) := dk_42 (dk_at dksX5_learn_7 18 rfl rfl)
theorem dX5_learn_181 : decode cX5_learn 181 = .ok (.getfield 24, 3) := dk_180 0 24 (dk_at dksX5_learn_7 19 rfl rfl)
theorem dX5_learn_184 : decode cX5_learn 184 = .ok (.iload_n 3, 1) := dk_29 (dk_at dksX5_learn_7 22 rfl rfl)
theorem dX5_learn_185 : decode cX5_learn 185 = .ok (.iaload, 1) := dk_46 (dk_at dksX5_learn_7 23 rfl rfl)
theorem dX5_learn_186 : decode cX5_learn 186 = .ok (.laload, 1) := dk_47 (dk_at dksX5_learn_8 0 rfl rfl)
theorem dX5_learn_187 : decode cX5_learn 187 = .ok (.aload_n 0, 1) := dk_42 (dk_at dksX5_learn_8 1 rfl rfl)
theorem dX5_learn_188 : decode cX5_learn 188 = .ok (.getfield 44, 3) := dk_180 0 44 (dk_at dksX5_learn_8 2 rfl rfl)
theorem dX5_learn_191 : decode cX5_learn 191 = .ok (.aload_n 0, 1) := dk_42 (dk_at dksX5_learn_8 5 rfl rfl)
theorem dX5_learn_192 : decode cX5_learn 192 = .ok (.getfield 27, 3) := dk_180 0 27 (dk_at dksX5_learn_8 6 rfl rfl)
theorem dX5_learn_195 : decode cX5_learn 195 = .ok (.iload_n 3, 1) := dk_29 (dk_at dksX5_learn_8 9 rfl rfl)
theorem dX5_learn_196 : decode cX5_learn 196 = .ok (.iaload, 1) := dk_46 (dk_at dksX5_learn_8 10 rfl rfl)
theorem dX5_learn_197 : decode cX5_learn 197 = .ok (.laload, 1) := dk_47 (dk_at dksX5_learn_8 11 rfl rfl)
theorem dX5_learn_198 : decode cX5_learn 198 = .ok (.lload 4, 2) := dk_22 4 (dk_at dksX5_learn_8 12 rfl rfl)
theorem dX5_learn_200 : decode cX5_learn 200 = .ok (.ladd, 1) := dk_97 (dk_at dksX5_learn_8 14 rfl rfl)
theorem dX5_learn_201 : decode cX5_learn 201 = .ok (.invokestatic 98, 3) := dk_184 0 98 (dk_at dksX5_learn_8 15 rfl rfl)
theorem dX5_learn_204 : decode cX5_learn 204 = .ok (.lastore, 1) := dk_80 (dk_at dksX5_learn_8 18 rfl rfl)
theorem dX5_learn_205 : decode cX5_learn 205 = .ok (.aload_n 0, 1) := dk_42 (dk_at dksX5_learn_8 19 rfl rfl)
theorem dX5_learn_206 : decode cX5_learn 206 = .ok (.getfield 44, 3) := dk_180 0 44 (dk_at dksX5_learn_8 20 rfl rfl)
theorem dX5_learn_209 : decode cX5_learn 209 = .ok (.aload_n 0, 1) := dk_42 (dk_at dksX5_learn_8 23 rfl rfl)
theorem dX5_learn_210 : decode cX5_learn 210 = .ok (.getfield 27, 3) := dk_180 0 27 (dk_at dksX5_learn_9 0 rfl rfl)
theorem dX5_learn_213 : decode cX5_learn 213 = .ok (.iload_n 3, 1) := dk_29 (dk_at dksX5_learn_9 3 rfl rfl)
theorem dX5_learn_214 : decode cX5_learn 214 = .ok (.iaload, 1) := dk_46 (dk_at dksX5_learn_9 4 rfl rfl)
theorem dX5_learn_215 : decode cX5_learn 215 = .ok (.aload_n 0, 1) := dk_42 (dk_at dksX5_learn_9 5 rfl rfl)
theorem dX5_learn_216 : decode cX5_learn 216 = .ok (.getfield 44, 3) := dk_180 0 44 (dk_at dksX5_learn_9 6 rfl rfl)
theorem dX5_learn_219 : decode cX5_learn 219 = .ok (.aload_n 0, 1) := dk_42 (dk_at dksX5_learn_9 9 rfl rfl)
theorem dX5_learn_220 : decode cX5_learn 220 = .ok (.getfield 27, 3) := dk_180 0 27 (dk_at dksX5_learn_9 10 rfl rfl)
theorem dX5_learn_223 : decode cX5_learn 223 = .ok (.iload_n 3, 1) := dk_29 (dk_at dksX5_learn_9 13 rfl rfl)
theorem dX5_learn_224 : decode cX5_learn 224 = .ok (.iaload, 1) := dk_46 (dk_at dksX5_learn_9 14 rfl rfl)
theorem dX5_learn_225 : decode cX5_learn 225 = .ok (.laload, 1) := dk_47 (dk_at dksX5_learn_9 15 rfl rfl)
theorem dX5_learn_226 : decode cX5_learn 226 = .ok (.aload_n 0, 1) := dk_42 (dk_at dksX5_learn_9 16 rfl rfl)
theorem dX5_learn_227 : decode cX5_learn 227 = .ok (.getfield 44, 3) := dk_180 0 44 (dk_at dksX5_learn_9 17 rfl rfl)
theorem dX5_learn_230 : decode cX5_learn 230 = .ok (.aload_n 0, 1) := dk_42 (dk_at dksX5_learn_9 20 rfl rfl)
theorem dX5_learn_231 : decode cX5_learn 231 = .ok (.getfield 24, 3) := dk_180 0 24 (dk_at dksX5_learn_9 21 rfl rfl)
theorem dX5_learn_234 : decode cX5_learn 234 = .ok (.iload_n 3, 1) := dk_29 (dk_at dksX5_learn_10 0 rfl rfl)
theorem dX5_learn_235 : decode cX5_learn 235 = .ok (.iaload, 1) := dk_46 (dk_at dksX5_learn_10 1 rfl rfl)
theorem dX5_learn_236 : decode cX5_learn 236 = .ok (.laload, 1) := dk_47 (dk_at dksX5_learn_10 2 rfl rfl)
theorem dX5_learn_237 : decode cX5_learn 237 = .ok (.lload 4, 2) := dk_22 4 (dk_at dksX5_learn_10 3 rfl rfl)
theorem dX5_learn_239 : decode cX5_learn 239 = .ok (.ladd, 1) := dk_97 (dk_at dksX5_learn_10 5 rfl rfl)
theorem dX5_learn_240 : decode cX5_learn 240 = .ok (.invokestatic 98, 3) := dk_184 0 98 (dk_at dksX5_learn_10 6 rfl rfl)
theorem dX5_learn_243 : decode cX5_learn 243 = .ok (.lastore, 1) := dk_80 (dk_at dksX5_learn_10 9 rfl rfl)
theorem dX5_learn_244 : decode cX5_learn 244 = .ok (.iinc 3 1, 3) := dk_132 3 1 (dk_at dksX5_learn_10 10 rfl rfl)
theorem dX5_learn_247 : decode cX5_learn 247 = .ok (.goto (-104), 3) := dk_167 255 152 (dk_at dksX5_learn_10 13 rfl rfl)
theorem dX5_learn_250 : decode cX5_learn 250 = .ok (.iinc 2 1, 3) := dk_132 2 1 (dk_at dksX5_learn_10 16 rfl rfl)
theorem dX5_learn_253 : decode cX5_learn 253 = .ok (.goto (-118), 3) := dk_167 255 138 (dk_at dksX5_learn_10 19 rfl rfl)
theorem dX5_learn_256 : decode cX5_learn 256 = .ok (.return_, 1) := dk_177 (dk_at dksX5_learn_10 22 rfl rfl)
abbrev cX5_clear : ByteArray := prog_7_method_5_code
def yX5_clear : MethodName := ⟨RX5, "clear", "()V"⟩
def dkwX5_clear_1 : List UInt8 := [42, 3, 181, 0, 89, 177]
abbrev dktX5_clear_1 : List UInt8 := dkwX5_clear_1 ++ []
def dkwX5_clear_0 : List UInt8 := [3, 60, 27, 17, 39, 15, 163, 0, 18, 42, 180, 0, 40, 27, 20, 0, 87, 80, 132, 1, 1, 167, 255, 237]
abbrev dktX5_clear_0 : List UInt8 := dkwX5_clear_0 ++ dktX5_clear_1
theorem dksX5_clear_0 : cX5_clear.data.toList.drop 0 = dktX5_clear_0 := by decide +kernel
theorem dksX5_clear_1 : cX5_clear.data.toList.drop 24 = dktX5_clear_1 := dk_seg dksX5_clear_0 24 rfl rfl
theorem dX5_clear_0 : decode cX5_clear 0 = .ok (.iconst 0, 1) := dk_3 (dk_at dksX5_clear_0 0 rfl rfl)
theorem dX5_clear_1 : decode cX5_clear 1 = .ok (.istore_n 1, 1) := dk_60 (dk_at dksX5_clear_0 1 rfl rfl)
theorem dX5_clear_2 : decode cX5_clear 2 = .ok (.iload_n 1, 1) := dk_27 (dk_at dksX5_clear_0 2 rfl rfl)
theorem dX5_clear_3 : decode cX5_clear 3 = .ok (.sipush 9999, 3) := dk_17 39 15 (dk_at dksX5_clear_0 3 rfl rfl)
theorem dX5_clear_6 : decode cX5_clear 6 = .ok (.if_icmp .gt 18, 3) := dk_163 0 18 (dk_at dksX5_clear_0 6 rfl rfl)
theorem dX5_clear_9 : decode cX5_clear 9 = .ok (.aload_n 0, 1) := dk_42 (dk_at dksX5_clear_0 9 rfl rfl)
theorem dX5_clear_10 : decode cX5_clear 10 = .ok (.getfield 40, 3) := dk_180 0 40 (dk_at dksX5_clear_0 10 rfl rfl)
theorem dX5_clear_13 : decode cX5_clear 13 = .ok (.iload_n 1, 1) := dk_27 (dk_at dksX5_clear_0 13 rfl rfl)
theorem dX5_clear_14 : decode cX5_clear 14 = .ok (.ldc2_w 87, 3) := dk_20 0 87 (dk_at dksX5_clear_0 14 rfl rfl)
theorem dX5_clear_17 : decode cX5_clear 17 = .ok (.lastore, 1) := dk_80 (dk_at dksX5_clear_0 17 rfl rfl)
theorem dX5_clear_18 : decode cX5_clear 18 = .ok (.iinc 1 1, 3) := dk_132 1 1 (dk_at dksX5_clear_0 18 rfl rfl)
theorem dX5_clear_21 : decode cX5_clear 21 = .ok (.goto (-19), 3) := dk_167 255 237 (dk_at dksX5_clear_0 21 rfl rfl)
theorem dX5_clear_24 : decode cX5_clear 24 = .ok (.aload_n 0, 1) := dk_42 (dk_at dksX5_clear_1 0 rfl rfl)
theorem dX5_clear_25 : decode cX5_clear 25 = .ok (.iconst 0, 1) := dk_3 (dk_at dksX5_clear_1 1 rfl rfl)
theorem dX5_clear_26 : decode cX5_clear 26 = .ok (.putfield 89, 3) := dk_181 0 89 (dk_at dksX5_clear_1 2 rfl rfl)
theorem dX5_clear_29 : decode cX5_clear 29 = .ok (.return_, 1) := dk_177 (dk_at dksX5_clear_1 5 rfl rfl)
abbrev cX5_improve : ByteArray := prog_7_method_2_code
def yX5_improve : MethodName := ⟨RX5, "improve", "(IJ)V"⟩
def dkwX5_improve_3 : List UInt8 := [181, 0, 63, 42, 89, 180, 0, 66, 4, 96, 181, 0, 66, 177]
abbrev dktX5_improve_3 : List UInt8 := dkwX5_improve_3 ++ []
def dkwX5_improve_2 : List UInt8 := [42, 180, 0, 47, 42, 180, 0, 63, 27, 79, 42, 42, 180, 0, 63, 4, 96, 42, 180, 0, 47, 190, 112]
abbrev dktX5_improve_2 : List UInt8 := dkwX5_improve_2 ++ dktX5_improve_3
def dkwX5_improve_1 : List UInt8 := [42, 180, 0, 40, 27, 32, 80, 42, 180, 0, 50, 27, 51, 153, 0, 4, 177, 42, 180, 0, 50, 27, 4, 84]
abbrev dktX5_improve_1 : List UInt8 := dkwX5_improve_1 ++ dktX5_improve_2
def dkwX5_improve_0 : List UInt8 := [27, 133, 10, 20, 0, 57, 184, 0, 59, 153, 0, 14, 32, 42, 180, 0, 40, 27, 47, 148, 155, 0, 4, 177]
abbrev dktX5_improve_0 : List UInt8 := dkwX5_improve_0 ++ dktX5_improve_1
theorem dksX5_improve_0 : cX5_improve.data.toList.drop 0 = dktX5_improve_0 := by decide +kernel
theorem dksX5_improve_1 : cX5_improve.data.toList.drop 24 = dktX5_improve_1 := dk_seg dksX5_improve_0 24 rfl rfl
theorem dksX5_improve_2 : cX5_improve.data.toList.drop 48 = dktX5_improve_2 := dk_seg dksX5_improve_1 24 rfl rfl
theorem dksX5_improve_3 : cX5_improve.data.toList.drop 71 = dktX5_improve_3 := dk_seg dksX5_improve_2 23 rfl rfl
theorem dX5_improve_0 : decode cX5_improve 0 = .ok (.iload_n 1, 1) := dk_27 (dk_at dksX5_improve_0 0 rfl rfl)
theorem dX5_improve_1 : decode cX5_improve 1 = .ok (.i2l, 1) := dk_133 (dk_at dksX5_improve_0 1 rfl rfl)
theorem dX5_improve_2 : decode cX5_improve 2 = .ok (.lconst 1, 1) := dk_10 (dk_at dksX5_improve_0 2 rfl rfl)
theorem dX5_improve_3 : decode cX5_improve 3 = .ok (.ldc2_w 57, 3) := dk_20 0 57 (dk_at dksX5_improve_0 3 rfl rfl)
theorem dX5_improve_6 : decode cX5_improve 6 = .ok (.invokestatic 59, 3) := dk_184 0 59 (dk_at dksX5_improve_0 6 rfl rfl)
theorem dX5_improve_9 : decode cX5_improve 9 = .ok (.ifCond .eq 14, 3) := dk_153 0 14 (dk_at dksX5_improve_0 9 rfl rfl)
theorem dX5_improve_12 : decode cX5_improve 12 = .ok (.lload_n 2, 1) := dk_32 (dk_at dksX5_improve_0 12 rfl rfl)
theorem dX5_improve_13 : decode cX5_improve 13 = .ok (.aload_n 0, 1) := dk_42 (dk_at dksX5_improve_0 13 rfl rfl)
theorem dX5_improve_14 : decode cX5_improve 14 = .ok (.getfield 40, 3) := dk_180 0 40 (dk_at dksX5_improve_0 14 rfl rfl)
theorem dX5_improve_17 : decode cX5_improve 17 = .ok (.iload_n 1, 1) := dk_27 (dk_at dksX5_improve_0 17 rfl rfl)
theorem dX5_improve_18 : decode cX5_improve 18 = .ok (.laload, 1) := dk_47 (dk_at dksX5_improve_0 18 rfl rfl)
theorem dX5_improve_19 : decode cX5_improve 19 = .ok (.lcmp, 1) := dk_148 (dk_at dksX5_improve_0 19 rfl rfl)
theorem dX5_improve_20 : decode cX5_improve 20 = .ok (.ifCond .lt 4, 3) := dk_155 0 4 (dk_at dksX5_improve_0 20 rfl rfl)
theorem dX5_improve_23 : decode cX5_improve 23 = .ok (.return_, 1) := dk_177 (dk_at dksX5_improve_0 23 rfl rfl)
theorem dX5_improve_24 : decode cX5_improve 24 = .ok (.aload_n 0, 1) := dk_42 (dk_at dksX5_improve_1 0 rfl rfl)
theorem dX5_improve_25 : decode cX5_improve 25 = .ok (.getfield 40, 3) := dk_180 0 40 (dk_at dksX5_improve_1 1 rfl rfl)
theorem dX5_improve_28 : decode cX5_improve 28 = .ok (.iload_n 1, 1) := dk_27 (dk_at dksX5_improve_1 4 rfl rfl)
theorem dX5_improve_29 : decode cX5_improve 29 = .ok (.lload_n 2, 1) := dk_32 (dk_at dksX5_improve_1 5 rfl rfl)
theorem dX5_improve_30 : decode cX5_improve 30 = .ok (.lastore, 1) := dk_80 (dk_at dksX5_improve_1 6 rfl rfl)
theorem dX5_improve_31 : decode cX5_improve 31 = .ok (.aload_n 0, 1) := dk_42 (dk_at dksX5_improve_1 7 rfl rfl)
theorem dX5_improve_32 : decode cX5_improve 32 = .ok (.getfield 50, 3) := dk_180 0 50 (dk_at dksX5_improve_1 8 rfl rfl)
theorem dX5_improve_35 : decode cX5_improve 35 = .ok (.iload_n 1, 1) := dk_27 (dk_at dksX5_improve_1 11 rfl rfl)
theorem dX5_improve_36 : decode cX5_improve 36 = .ok (.baload, 1) := dk_51 (dk_at dksX5_improve_1 12 rfl rfl)
theorem dX5_improve_37 : decode cX5_improve 37 = .ok (.ifCond .eq 4, 3) := dk_153 0 4 (dk_at dksX5_improve_1 13 rfl rfl)
theorem dX5_improve_40 : decode cX5_improve 40 = .ok (.return_, 1) := dk_177 (dk_at dksX5_improve_1 16 rfl rfl)
theorem dX5_improve_41 : decode cX5_improve 41 = .ok (.aload_n 0, 1) := dk_42 (dk_at dksX5_improve_1 17 rfl rfl)
theorem dX5_improve_42 : decode cX5_improve 42 = .ok (.getfield 50, 3) := dk_180 0 50 (dk_at dksX5_improve_1 18 rfl rfl)
theorem dX5_improve_45 : decode cX5_improve 45 = .ok (.iload_n 1, 1) := dk_27 (dk_at dksX5_improve_1 21 rfl rfl)
theorem dX5_improve_46 : decode cX5_improve 46 = .ok (.iconst 1, 1) := dk_4 (dk_at dksX5_improve_1 22 rfl rfl)
theorem dX5_improve_47 : decode cX5_improve 47 = .ok (.bastore, 1) := dk_84 (dk_at dksX5_improve_1 23 rfl rfl)
theorem dX5_improve_48 : decode cX5_improve 48 = .ok (.aload_n 0, 1) := dk_42 (dk_at dksX5_improve_2 0 rfl rfl)
theorem dX5_improve_49 : decode cX5_improve 49 = .ok (.getfield 47, 3) := dk_180 0 47 (dk_at dksX5_improve_2 1 rfl rfl)
theorem dX5_improve_52 : decode cX5_improve 52 = .ok (.aload_n 0, 1) := dk_42 (dk_at dksX5_improve_2 4 rfl rfl)
theorem dX5_improve_53 : decode cX5_improve 53 = .ok (.getfield 63, 3) := dk_180 0 63 (dk_at dksX5_improve_2 5 rfl rfl)
theorem dX5_improve_56 : decode cX5_improve 56 = .ok (.iload_n 1, 1) := dk_27 (dk_at dksX5_improve_2 8 rfl rfl)
theorem dX5_improve_57 : decode cX5_improve 57 = .ok (.iastore, 1) := dk_79 (dk_at dksX5_improve_2 9 rfl rfl)
theorem dX5_improve_58 : decode cX5_improve 58 = .ok (.aload_n 0, 1) := dk_42 (dk_at dksX5_improve_2 10 rfl rfl)
theorem dX5_improve_59 : decode cX5_improve 59 = .ok (.aload_n 0, 1) := dk_42 (dk_at dksX5_improve_2 11 rfl rfl)
theorem dX5_improve_60 : decode cX5_improve 60 = .ok (.getfield 63, 3) := dk_180 0 63 (dk_at dksX5_improve_2 12 rfl rfl)
theorem dX5_improve_63 : decode cX5_improve 63 = .ok (.iconst 1, 1) := dk_4 (dk_at dksX5_improve_2 15 rfl rfl)
theorem dX5_improve_64 : decode cX5_improve 64 = .ok (.iadd, 1) := dk_96 (dk_at dksX5_improve_2 16 rfl rfl)
theorem dX5_improve_65 : decode cX5_improve 65 = .ok (.aload_n 0, 1) := dk_42 (dk_at dksX5_improve_2 17 rfl rfl)
theorem dX5_improve_66 : decode cX5_improve 66 = .ok (.getfield 47, 3) := dk_180 0 47 (dk_at dksX5_improve_2 18 rfl rfl)
theorem dX5_improve_69 : decode cX5_improve 69 = .ok (.arraylength, 1) := dk_190 (dk_at dksX5_improve_2 21 rfl rfl)
theorem dX5_improve_70 : decode cX5_improve 70 = .ok (.irem, 1) := dk_112 (dk_at dksX5_improve_2 22 rfl rfl)
theorem dX5_improve_71 : decode cX5_improve 71 = .ok (.putfield 63, 3) := dk_181 0 63 (dk_at dksX5_improve_3 0 rfl rfl)
theorem dX5_improve_74 : decode cX5_improve 74 = .ok (.aload_n 0, 1) := dk_42 (dk_at dksX5_improve_3 3 rfl rfl)
theorem dX5_improve_75 : decode cX5_improve 75 = .ok (.dup, 1) := dk_89 (dk_at dksX5_improve_3 4 rfl rfl)
theorem dX5_improve_76 : decode cX5_improve 76 = .ok (.getfield 66, 3) := dk_180 0 66 (dk_at dksX5_improve_3 5 rfl rfl)
theorem dX5_improve_79 : decode cX5_improve 79 = .ok (.iconst 1, 1) := dk_4 (dk_at dksX5_improve_3 8 rfl rfl)
theorem dX5_improve_80 : decode cX5_improve 80 = .ok (.iadd, 1) := dk_96 (dk_at dksX5_improve_3 9 rfl rfl)
theorem dX5_improve_81 : decode cX5_improve 81 = .ok (.putfield 66, 3) := dk_181 0 66 (dk_at dksX5_improve_3 10 rfl rfl)
theorem dX5_improve_84 : decode cX5_improve 84 = .ok (.return_, 1) := dk_177 (dk_at dksX5_improve_3 13 rfl rfl)
abbrev cX5_spread : ByteArray := prog_7_method_3_code
def yX5_spread : MethodName := ⟨RX5, "spread", "()V"⟩
def dkwX5_spread_5 : List UInt8 := [97, 10, 97, 182, 0, 77, 132, 2, 1, 167, 255, 181, 167, 255, 126, 177]
abbrev dktX5_spread_5 : List UInt8 := dkwX5_spread_5 ++ []
def dkwX5_spread_4 : List UInt8 := [42, 180, 0, 18, 28, 46, 96, 42, 180, 0, 40, 27, 47, 20, 0, 75, 42, 180, 0, 21, 28, 46, 133, 105]
abbrev dktX5_spread_4 : List UInt8 := dkwX5_spread_4 ++ dktX5_spread_5
def dkwX5_spread_3 : List UInt8 := [180, 0, 40, 27, 47, 20, 0, 75, 42, 180, 0, 21, 28, 46, 133, 105, 97, 10, 97, 182, 0, 77, 42, 27]
abbrev dktX5_spread_3 : List UInt8 := dkwX5_spread_3 ++ dktX5_spread_4
def dkwX5_spread_2 : List UInt8 := [3, 84, 3, 61, 28, 42, 180, 0, 72, 162, 0, 73, 42, 27, 42, 180, 0, 18, 28, 46, 100, 42]
abbrev dktX5_spread_2 : List UInt8 := dkwX5_spread_2 ++ dktX5_spread_3
def dkwX5_spread_1 : List UInt8 := [42, 180, 0, 47, 190, 112, 181, 0, 69, 42, 89, 180, 0, 66, 4, 100, 181, 0, 66, 42, 180, 0, 50, 27]
abbrev dktX5_spread_1 : List UInt8 := dkwX5_spread_1 ++ dktX5_spread_2
def dkwX5_spread_0 : List UInt8 := [42, 180, 0, 66, 158, 0, 129, 42, 180, 0, 47, 42, 180, 0, 69, 46, 60, 42, 42, 180, 0, 69, 4, 96]
abbrev dktX5_spread_0 : List UInt8 := dkwX5_spread_0 ++ dktX5_spread_1
theorem dksX5_spread_0 : cX5_spread.data.toList.drop 0 = dktX5_spread_0 := by decide +kernel
theorem dksX5_spread_1 : cX5_spread.data.toList.drop 24 = dktX5_spread_1 := dk_seg dksX5_spread_0 24 rfl rfl
theorem dksX5_spread_2 : cX5_spread.data.toList.drop 48 = dktX5_spread_2 := dk_seg dksX5_spread_1 24 rfl rfl
theorem dksX5_spread_3 : cX5_spread.data.toList.drop 70 = dktX5_spread_3 := dk_seg dksX5_spread_2 22 rfl rfl
theorem dksX5_spread_4 : cX5_spread.data.toList.drop 94 = dktX5_spread_4 := dk_seg dksX5_spread_3 24 rfl rfl
theorem dksX5_spread_5 : cX5_spread.data.toList.drop 118 = dktX5_spread_5 := dk_seg dksX5_spread_4 24 rfl rfl
theorem dX5_spread_0 : decode cX5_spread 0 = .ok (.aload_n 0, 1) := dk_42 (dk_at dksX5_spread_0 0 rfl rfl)
theorem dX5_spread_1 : decode cX5_spread 1 = .ok (.getfield 66, 3) := dk_180 0 66 (dk_at dksX5_spread_0 1 rfl rfl)
theorem dX5_spread_4 : decode cX5_spread 4 = .ok (.ifCond .le 129, 3) := dk_158 0 129 (dk_at dksX5_spread_0 4 rfl rfl)
theorem dX5_spread_7 : decode cX5_spread 7 = .ok (.aload_n 0, 1) := dk_42 (dk_at dksX5_spread_0 7 rfl rfl)
theorem dX5_spread_8 : decode cX5_spread 8 = .ok (.getfield 47, 3) := dk_180 0 47 (dk_at dksX5_spread_0 8 rfl rfl)
theorem dX5_spread_11 : decode cX5_spread 11 = .ok (.aload_n 0, 1) := dk_42 (dk_at dksX5_spread_0 11 rfl rfl)
theorem dX5_spread_12 : decode cX5_spread 12 = .ok (.getfield 69, 3) := dk_180 0 69 (dk_at dksX5_spread_0 12 rfl rfl)
theorem dX5_spread_15 : decode cX5_spread 15 = .ok (.iaload, 1) := dk_46 (dk_at dksX5_spread_0 15 rfl rfl)
theorem dX5_spread_16 : decode cX5_spread 16 = .ok (.istore_n 1, 1) := dk_60 (dk_at dksX5_spread_0 16 rfl rfl)
theorem dX5_spread_17 : decode cX5_spread 17 = .ok (.aload_n 0, 1) := dk_42 (dk_at dksX5_spread_0 17 rfl rfl)
theorem dX5_spread_18 : decode cX5_spread 18 = .ok (.aload_n 0, 1) := dk_42 (dk_at dksX5_spread_0 18 rfl rfl)
theorem dX5_spread_19 : decode cX5_spread 19 = .ok (.getfield 69, 3) := dk_180 0 69 (dk_at dksX5_spread_0 19 rfl rfl)
theorem dX5_spread_22 : decode cX5_spread 22 = .ok (.iconst 1, 1) := dk_4 (dk_at dksX5_spread_0 22 rfl rfl)
theorem dX5_spread_23 : decode cX5_spread 23 = .ok (.iadd, 1) := dk_96 (dk_at dksX5_spread_0 23 rfl rfl)
theorem dX5_spread_24 : decode cX5_spread 24 = .ok (.aload_n 0, 1) := dk_42 (dk_at dksX5_spread_1 0 rfl rfl)
theorem dX5_spread_25 : decode cX5_spread 25 = .ok (.getfield 47, 3) := dk_180 0 47 (dk_at dksX5_spread_1 1 rfl rfl)
theorem dX5_spread_28 : decode cX5_spread 28 = .ok (.arraylength, 1) := dk_190 (dk_at dksX5_spread_1 4 rfl rfl)
theorem dX5_spread_29 : decode cX5_spread 29 = .ok (.irem, 1) := dk_112 (dk_at dksX5_spread_1 5 rfl rfl)
theorem dX5_spread_30 : decode cX5_spread 30 = .ok (.putfield 69, 3) := dk_181 0 69 (dk_at dksX5_spread_1 6 rfl rfl)
theorem dX5_spread_33 : decode cX5_spread 33 = .ok (.aload_n 0, 1) := dk_42 (dk_at dksX5_spread_1 9 rfl rfl)
theorem dX5_spread_34 : decode cX5_spread 34 = .ok (.dup, 1) := dk_89 (dk_at dksX5_spread_1 10 rfl rfl)
theorem dX5_spread_35 : decode cX5_spread 35 = .ok (.getfield 66, 3) := dk_180 0 66 (dk_at dksX5_spread_1 11 rfl rfl)
theorem dX5_spread_38 : decode cX5_spread 38 = .ok (.iconst 1, 1) := dk_4 (dk_at dksX5_spread_1 14 rfl rfl)
theorem dX5_spread_39 : decode cX5_spread 39 = .ok (.isub, 1) := dk_100 (dk_at dksX5_spread_1 15 rfl rfl)
theorem dX5_spread_40 : decode cX5_spread 40 = .ok (.putfield 66, 3) := dk_181 0 66 (dk_at dksX5_spread_1 16 rfl rfl)
theorem dX5_spread_43 : decode cX5_spread 43 = .ok (.aload_n 0, 1) := dk_42 (dk_at dksX5_spread_1 19 rfl rfl)
theorem dX5_spread_44 : decode cX5_spread 44 = .ok (.getfield 50, 3) := dk_180 0 50 (dk_at dksX5_spread_1 20 rfl rfl)
theorem dX5_spread_47 : decode cX5_spread 47 = .ok (.iload_n 1, 1) := dk_27 (dk_at dksX5_spread_1 23 rfl rfl)
theorem dX5_spread_48 : decode cX5_spread 48 = .ok (.iconst 0, 1) := dk_3 (dk_at dksX5_spread_2 0 rfl rfl)
theorem dX5_spread_49 : decode cX5_spread 49 = .ok (.bastore, 1) := dk_84 (dk_at dksX5_spread_2 1 rfl rfl)
theorem dX5_spread_50 : decode cX5_spread 50 = .ok (.iconst 0, 1) := dk_3 (dk_at dksX5_spread_2 2 rfl rfl)
theorem dX5_spread_51 : decode cX5_spread 51 = .ok (.istore_n 2, 1) := dk_61 (dk_at dksX5_spread_2 3 rfl rfl)
theorem dX5_spread_52 : decode cX5_spread 52 = .ok (.iload_n 2, 1) := dk_28 (dk_at dksX5_spread_2 4 rfl rfl)
theorem dX5_spread_53 : decode cX5_spread 53 = .ok (.aload_n 0, 1) := dk_42 (dk_at dksX5_spread_2 5 rfl rfl)
theorem dX5_spread_54 : decode cX5_spread 54 = .ok (.getfield 72, 3) := dk_180 0 72 (dk_at dksX5_spread_2 6 rfl rfl)
theorem dX5_spread_57 : decode cX5_spread 57 = .ok (.if_icmp .ge 73, 3) := dk_162 0 73 (dk_at dksX5_spread_2 9 rfl rfl)
theorem dX5_spread_60 : decode cX5_spread 60 = .ok (.aload_n 0, 1) := dk_42 (dk_at dksX5_spread_2 12 rfl rfl)
theorem dX5_spread_61 : decode cX5_spread 61 = .ok (.iload_n 1, 1) := dk_27 (dk_at dksX5_spread_2 13 rfl rfl)
theorem dX5_spread_62 : decode cX5_spread 62 = .ok (.aload_n 0, 1) := dk_42 (dk_at dksX5_spread_2 14 rfl rfl)
theorem dX5_spread_63 : decode cX5_spread 63 = .ok (.getfield 18, 3) := dk_180 0 18 (dk_at dksX5_spread_2 15 rfl rfl)
theorem dX5_spread_66 : decode cX5_spread 66 = .ok (.iload_n 2, 1) := dk_28 (dk_at dksX5_spread_2 18 rfl rfl)
theorem dX5_spread_67 : decode cX5_spread 67 = .ok (.iaload, 1) := dk_46 (dk_at dksX5_spread_2 19 rfl rfl)
theorem dX5_spread_68 : decode cX5_spread 68 = .ok (.isub, 1) := dk_100 (dk_at dksX5_spread_2 20 rfl rfl)
theorem dX5_spread_69 : decode cX5_spread 69 = .ok (.aload_n 0, 1) := dk_42 (dk_at dksX5_spread_2 21 rfl rfl)
theorem dX5_spread_70 : decode cX5_spread 70 = .ok (.getfield 40, 3) := dk_180 0 40 (dk_at dksX5_spread_3 0 rfl rfl)
theorem dX5_spread_73 : decode cX5_spread 73 = .ok (.iload_n 1, 1) := dk_27 (dk_at dksX5_spread_3 3 rfl rfl)
theorem dX5_spread_74 : decode cX5_spread 74 = .ok (.laload, 1) := dk_47 (dk_at dksX5_spread_3 4 rfl rfl)
theorem dX5_spread_75 : decode cX5_spread 75 = .ok (.ldc2_w 75, 3) := dk_20 0 75 (dk_at dksX5_spread_3 5 rfl rfl)
theorem dX5_spread_78 : decode cX5_spread 78 = .ok (.aload_n 0, 1) := dk_42 (dk_at dksX5_spread_3 8 rfl rfl)
theorem dX5_spread_79 : decode cX5_spread 79 = .ok (.getfield 21, 3) := dk_180 0 21 (dk_at dksX5_spread_3 9 rfl rfl)
theorem dX5_spread_82 : decode cX5_spread 82 = .ok (.iload_n 2, 1) := dk_28 (dk_at dksX5_spread_3 12 rfl rfl)
theorem dX5_spread_83 : decode cX5_spread 83 = .ok (.iaload, 1) := dk_46 (dk_at dksX5_spread_3 13 rfl rfl)
theorem dX5_spread_84 : decode cX5_spread 84 = .ok (.i2l, 1) := dk_133 (dk_at dksX5_spread_3 14 rfl rfl)
theorem dX5_spread_85 : decode cX5_spread 85 = .ok (.lmul, 1) := dk_105 (dk_at dksX5_spread_3 15 rfl rfl)
theorem dX5_spread_86 : decode cX5_spread 86 = .ok (.ladd, 1) := dk_97 (dk_at dksX5_spread_3 16 rfl rfl)
theorem dX5_spread_87 : decode cX5_spread 87 = .ok (.lconst 1, 1) := dk_10 (dk_at dksX5_spread_3 17 rfl rfl)
theorem dX5_spread_88 : decode cX5_spread 88 = .ok (.ladd, 1) := dk_97 (dk_at dksX5_spread_3 18 rfl rfl)
theorem dX5_spread_89 : decode cX5_spread 89 = .ok (.invokevirtual 77, 3) := dk_182 0 77 (dk_at dksX5_spread_3 19 rfl rfl)
theorem dX5_spread_92 : decode cX5_spread 92 = .ok (.aload_n 0, 1) := dk_42 (dk_at dksX5_spread_3 22 rfl rfl)
theorem dX5_spread_93 : decode cX5_spread 93 = .ok (.iload_n 1, 1) := dk_27 (dk_at dksX5_spread_3 23 rfl rfl)
theorem dX5_spread_94 : decode cX5_spread 94 = .ok (.aload_n 0, 1) := dk_42 (dk_at dksX5_spread_4 0 rfl rfl)
theorem dX5_spread_95 : decode cX5_spread 95 = .ok (.getfield 18, 3) := dk_180 0 18 (dk_at dksX5_spread_4 1 rfl rfl)
theorem dX5_spread_98 : decode cX5_spread 98 = .ok (.iload_n 2, 1) := dk_28 (dk_at dksX5_spread_4 4 rfl rfl)
theorem dX5_spread_99 : decode cX5_spread 99 = .ok (.iaload, 1) := dk_46 (dk_at dksX5_spread_4 5 rfl rfl)
theorem dX5_spread_100 : decode cX5_spread 100 = .ok (.iadd, 1) := dk_96 (dk_at dksX5_spread_4 6 rfl rfl)
theorem dX5_spread_101 : decode cX5_spread 101 = .ok (.aload_n 0, 1) := dk_42 (dk_at dksX5_spread_4 7 rfl rfl)
theorem dX5_spread_102 : decode cX5_spread 102 = .ok (.getfield 40, 3) := dk_180 0 40 (dk_at dksX5_spread_4 8 rfl rfl)
theorem dX5_spread_105 : decode cX5_spread 105 = .ok (.iload_n 1, 1) := dk_27 (dk_at dksX5_spread_4 11 rfl rfl)
theorem dX5_spread_106 : decode cX5_spread 106 = .ok (.laload, 1) := dk_47 (dk_at dksX5_spread_4 12 rfl rfl)
theorem dX5_spread_107 : decode cX5_spread 107 = .ok (.ldc2_w 75, 3) := dk_20 0 75 (dk_at dksX5_spread_4 13 rfl rfl)
theorem dX5_spread_110 : decode cX5_spread 110 = .ok (.aload_n 0, 1) := dk_42 (dk_at dksX5_spread_4 16 rfl rfl)
theorem dX5_spread_111 : decode cX5_spread 111 = .ok (.getfield 21, 3) := dk_180 0 21 (dk_at dksX5_spread_4 17 rfl rfl)
theorem dX5_spread_114 : decode cX5_spread 114 = .ok (.iload_n 2, 1) := dk_28 (dk_at dksX5_spread_4 20 rfl rfl)
theorem dX5_spread_115 : decode cX5_spread 115 = .ok (.iaload, 1) := dk_46 (dk_at dksX5_spread_4 21 rfl rfl)
theorem dX5_spread_116 : decode cX5_spread 116 = .ok (.i2l, 1) := dk_133 (dk_at dksX5_spread_4 22 rfl rfl)
theorem dX5_spread_117 : decode cX5_spread 117 = .ok (.lmul, 1) := dk_105 (dk_at dksX5_spread_4 23 rfl rfl)
theorem dX5_spread_118 : decode cX5_spread 118 = .ok (.ladd, 1) := dk_97 (dk_at dksX5_spread_5 0 rfl rfl)
theorem dX5_spread_119 : decode cX5_spread 119 = .ok (.lconst 1, 1) := dk_10 (dk_at dksX5_spread_5 1 rfl rfl)
theorem dX5_spread_120 : decode cX5_spread 120 = .ok (.ladd, 1) := dk_97 (dk_at dksX5_spread_5 2 rfl rfl)
theorem dX5_spread_121 : decode cX5_spread 121 = .ok (.invokevirtual 77, 3) := dk_182 0 77 (dk_at dksX5_spread_5 3 rfl rfl)
theorem dX5_spread_124 : decode cX5_spread 124 = .ok (.iinc 2 1, 3) := dk_132 2 1 (dk_at dksX5_spread_5 6 rfl rfl)
theorem dX5_spread_127 : decode cX5_spread 127 = .ok (.goto (-75), 3) := dk_167 255 181 (dk_at dksX5_spread_5 9 rfl rfl)
theorem dX5_spread_130 : decode cX5_spread 130 = .ok (.goto (-130), 3) := dk_167 255 126 (dk_at dksX5_spread_5 12 rfl rfl)
theorem dX5_spread_133 : decode cX5_spread 133 = .ok (.return_, 1) := dk_177 (dk_at dksX5_spread_5 15 rfl rfl)
abbrev cX5_hasRows : ByteArray := prog_7_method_7_code
def yX5_hasRows : MethodName := ⟨RX5, "hasRows", "(II)Z"⟩
def dkwX5_hasRows_1 : List UInt8 := [156, 0, 7, 4, 167, 0, 4, 3, 172]
abbrev dktX5_hasRows_1 : List UInt8 := dkwX5_hasRows_1 ++ []
def dkwX5_hasRows_0 : List UInt8 := [42, 180, 0, 40, 27, 47, 20, 0, 87, 148, 156, 0, 20, 42, 180, 0, 44, 28, 47, 20, 0, 87, 148]
abbrev dktX5_hasRows_0 : List UInt8 := dkwX5_hasRows_0 ++ dktX5_hasRows_1
theorem dksX5_hasRows_0 : cX5_hasRows.data.toList.drop 0 = dktX5_hasRows_0 := by decide +kernel
theorem dksX5_hasRows_1 : cX5_hasRows.data.toList.drop 23 = dktX5_hasRows_1 := dk_seg dksX5_hasRows_0 23 rfl rfl
theorem dX5_hasRows_0 : decode cX5_hasRows 0 = .ok (.aload_n 0, 1) := dk_42 (dk_at dksX5_hasRows_0 0 rfl rfl)
theorem dX5_hasRows_1 : decode cX5_hasRows 1 = .ok (.getfield 40, 3) := dk_180 0 40 (dk_at dksX5_hasRows_0 1 rfl rfl)
theorem dX5_hasRows_4 : decode cX5_hasRows 4 = .ok (.iload_n 1, 1) := dk_27 (dk_at dksX5_hasRows_0 4 rfl rfl)
theorem dX5_hasRows_5 : decode cX5_hasRows 5 = .ok (.laload, 1) := dk_47 (dk_at dksX5_hasRows_0 5 rfl rfl)
theorem dX5_hasRows_6 : decode cX5_hasRows 6 = .ok (.ldc2_w 87, 3) := dk_20 0 87 (dk_at dksX5_hasRows_0 6 rfl rfl)
theorem dX5_hasRows_9 : decode cX5_hasRows 9 = .ok (.lcmp, 1) := dk_148 (dk_at dksX5_hasRows_0 9 rfl rfl)
theorem dX5_hasRows_10 : decode cX5_hasRows 10 = .ok (.ifCond .ge 20, 3) := dk_156 0 20 (dk_at dksX5_hasRows_0 10 rfl rfl)
theorem dX5_hasRows_13 : decode cX5_hasRows 13 = .ok (.aload_n 0, 1) := dk_42 (dk_at dksX5_hasRows_0 13 rfl rfl)
theorem dX5_hasRows_14 : decode cX5_hasRows 14 = .ok (.getfield 44, 3) := dk_180 0 44 (dk_at dksX5_hasRows_0 14 rfl rfl)
theorem dX5_hasRows_17 : decode cX5_hasRows 17 = .ok (.iload_n 2, 1) := dk_28 (dk_at dksX5_hasRows_0 17 rfl rfl)
theorem dX5_hasRows_18 : decode cX5_hasRows 18 = .ok (.laload, 1) := dk_47 (dk_at dksX5_hasRows_0 18 rfl rfl)
theorem dX5_hasRows_19 : decode cX5_hasRows 19 = .ok (.ldc2_w 87, 3) := dk_20 0 87 (dk_at dksX5_hasRows_0 19 rfl rfl)
theorem dX5_hasRows_22 : decode cX5_hasRows 22 = .ok (.lcmp, 1) := dk_148 (dk_at dksX5_hasRows_0 22 rfl rfl)
theorem dX5_hasRows_23 : decode cX5_hasRows 23 = .ok (.ifCond .ge 7, 3) := dk_156 0 7 (dk_at dksX5_hasRows_1 0 rfl rfl)
theorem dX5_hasRows_26 : decode cX5_hasRows 26 = .ok (.iconst 1, 1) := dk_4 (dk_at dksX5_hasRows_1 3 rfl rfl)
theorem dX5_hasRows_27 : decode cX5_hasRows 27 = .ok (.goto 4, 3) := dk_167 0 4 (dk_at dksX5_hasRows_1 4 rfl rfl)
theorem dX5_hasRows_30 : decode cX5_hasRows 30 = .ok (.iconst 0, 1) := dk_3 (dk_at dksX5_hasRows_1 7 rfl rfl)
theorem dX5_hasRows_31 : decode cX5_hasRows 31 = .ok (.ireturn, 1) := dk_172 (dk_at dksX5_hasRows_1 8 rfl rfl)
abbrev cX5_knownYear : ByteArray := prog_7_method_11_code
def yX5_knownYear : MethodName := ⟨RX5, "knownYear", "(I)I"⟩
def dkwX5_knownYear_1 : List UInt8 := [158, 0, 12, 42, 28, 182, 0, 111, 61, 167, 255, 239, 42, 27, 181, 0, 89, 42, 28, 181, 0, 108, 28, 172]
abbrev dktX5_knownYear_1 : List UInt8 := dkwX5_knownYear_1 ++ []
def dkwX5_knownYear_0 : List UInt8 := [42, 180, 0, 89, 27, 160, 0, 8, 42, 180, 0, 108, 172, 27, 61, 42, 180, 0, 40, 28, 47, 9, 148]
abbrev dktX5_knownYear_0 : List UInt8 := dkwX5_knownYear_0 ++ dktX5_knownYear_1
theorem dksX5_knownYear_0 : cX5_knownYear.data.toList.drop 0 = dktX5_knownYear_0 := by decide +kernel
theorem dksX5_knownYear_1 : cX5_knownYear.data.toList.drop 23 = dktX5_knownYear_1 := dk_seg dksX5_knownYear_0 23 rfl rfl
theorem dX5_knownYear_0 : decode cX5_knownYear 0 = .ok (.aload_n 0, 1) := dk_42 (dk_at dksX5_knownYear_0 0 rfl rfl)
theorem dX5_knownYear_1 : decode cX5_knownYear 1 = .ok (.getfield 89, 3) := dk_180 0 89 (dk_at dksX5_knownYear_0 1 rfl rfl)
theorem dX5_knownYear_4 : decode cX5_knownYear 4 = .ok (.iload_n 1, 1) := dk_27 (dk_at dksX5_knownYear_0 4 rfl rfl)
theorem dX5_knownYear_5 : decode cX5_knownYear 5 = .ok (.if_icmp .ne 8, 3) := dk_160 0 8 (dk_at dksX5_knownYear_0 5 rfl rfl)
theorem dX5_knownYear_8 : decode cX5_knownYear 8 = .ok (.aload_n 0, 1) := dk_42 (dk_at dksX5_knownYear_0 8 rfl rfl)
theorem dX5_knownYear_9 : decode cX5_knownYear 9 = .ok (.getfield 108, 3) := dk_180 0 108 (dk_at dksX5_knownYear_0 9 rfl rfl)
theorem dX5_knownYear_12 : decode cX5_knownYear 12 = .ok (.ireturn, 1) := dk_172 (dk_at dksX5_knownYear_0 12 rfl rfl)
theorem dX5_knownYear_13 : decode cX5_knownYear 13 = .ok (.iload_n 1, 1) := dk_27 (dk_at dksX5_knownYear_0 13 rfl rfl)
theorem dX5_knownYear_14 : decode cX5_knownYear 14 = .ok (.istore_n 2, 1) := dk_61 (dk_at dksX5_knownYear_0 14 rfl rfl)
theorem dX5_knownYear_15 : decode cX5_knownYear 15 = .ok (.aload_n 0, 1) := dk_42 (dk_at dksX5_knownYear_0 15 rfl rfl)
theorem dX5_knownYear_16 : decode cX5_knownYear 16 = .ok (.getfield 40, 3) := dk_180 0 40 (dk_at dksX5_knownYear_0 16 rfl rfl)
theorem dX5_knownYear_19 : decode cX5_knownYear 19 = .ok (.iload_n 2, 1) := dk_28 (dk_at dksX5_knownYear_0 19 rfl rfl)
theorem dX5_knownYear_20 : decode cX5_knownYear 20 = .ok (.laload, 1) := dk_47 (dk_at dksX5_knownYear_0 20 rfl rfl)
theorem dX5_knownYear_21 : decode cX5_knownYear 21 = .ok (.lconst 0, 1) := dk_9 (dk_at dksX5_knownYear_0 21 rfl rfl)
theorem dX5_knownYear_22 : decode cX5_knownYear 22 = .ok (.lcmp, 1) := dk_148 (dk_at dksX5_knownYear_0 22 rfl rfl)
theorem dX5_knownYear_23 : decode cX5_knownYear 23 = .ok (.ifCond .le 12, 3) := dk_158 0 12 (dk_at dksX5_knownYear_1 0 rfl rfl)
theorem dX5_knownYear_26 : decode cX5_knownYear 26 = .ok (.aload_n 0, 1) := dk_42 (dk_at dksX5_knownYear_1 3 rfl rfl)
theorem dX5_knownYear_27 : decode cX5_knownYear 27 = .ok (.iload_n 2, 1) := dk_28 (dk_at dksX5_knownYear_1 4 rfl rfl)
theorem dX5_knownYear_28 : decode cX5_knownYear 28 = .ok (.invokevirtual 111, 3) := dk_182 0 111 (dk_at dksX5_knownYear_1 5 rfl rfl)
theorem dX5_knownYear_31 : decode cX5_knownYear 31 = .ok (.istore_n 2, 1) := dk_61 (dk_at dksX5_knownYear_1 8 rfl rfl)
theorem dX5_knownYear_32 : decode cX5_knownYear 32 = .ok (.goto (-17), 3) := dk_167 255 239 (dk_at dksX5_knownYear_1 9 rfl rfl)
theorem dX5_knownYear_35 : decode cX5_knownYear 35 = .ok (.aload_n 0, 1) := dk_42 (dk_at dksX5_knownYear_1 12 rfl rfl)
theorem dX5_knownYear_36 : decode cX5_knownYear 36 = .ok (.iload_n 1, 1) := dk_27 (dk_at dksX5_knownYear_1 13 rfl rfl)
theorem dX5_knownYear_37 : decode cX5_knownYear 37 = .ok (.putfield 89, 3) := dk_181 0 89 (dk_at dksX5_knownYear_1 14 rfl rfl)
theorem dX5_knownYear_40 : decode cX5_knownYear 40 = .ok (.aload_n 0, 1) := dk_42 (dk_at dksX5_knownYear_1 17 rfl rfl)
theorem dX5_knownYear_41 : decode cX5_knownYear 41 = .ok (.iload_n 2, 1) := dk_28 (dk_at dksX5_knownYear_1 18 rfl rfl)
theorem dX5_knownYear_42 : decode cX5_knownYear 42 = .ok (.putfield 108, 3) := dk_181 0 108 (dk_at dksX5_knownYear_1 19 rfl rfl)
theorem dX5_knownYear_45 : decode cX5_knownYear 45 = .ok (.iload_n 2, 1) := dk_28 (dk_at dksX5_knownYear_1 22 rfl rfl)
theorem dX5_knownYear_46 : decode cX5_knownYear 46 = .ok (.ireturn, 1) := dk_172 (dk_at dksX5_knownYear_1 23 rfl rfl)
abbrev cX5_nextYear : ByteArray := prog_7_method_8_code
def yX5_nextYear : MethodName := ⟨RX5, "nextYear", "(I)I"⟩
def dkwX5_nextYear_3 : List UInt8 := [167, 255, 191, 28, 172]
abbrev dktX5_nextYear_3 : List UInt8 := dkwX5_nextYear_3 ++ []
def dkwX5_nextYear_2 : List UInt8 := [182, 0, 104, 61, 42, 28, 27, 42, 180, 0, 18, 29, 46, 96, 22, 4, 182, 0, 104, 61, 132, 3, 1]
abbrev dktX5_nextYear_2 : List UInt8 := dkwX5_nextYear_2 ++ dktX5_nextYear_3
def dkwX5_nextYear_1 : List UInt8 := [180, 0, 21, 29, 46, 133, 105, 101, 10, 101, 55, 4, 42, 28, 27, 42, 180, 0, 18, 29, 46, 100, 22, 4]
abbrev dktX5_nextYear_1 : List UInt8 := dkwX5_nextYear_1 ++ dktX5_nextYear_2
def dkwX5_nextYear_0 : List UInt8 := [2, 61, 3, 62, 29, 42, 180, 0, 72, 162, 0, 63, 42, 180, 0, 40, 27, 47, 20, 0, 75, 42]
abbrev dktX5_nextYear_0 : List UInt8 := dkwX5_nextYear_0 ++ dktX5_nextYear_1
theorem dksX5_nextYear_0 : cX5_nextYear.data.toList.drop 0 = dktX5_nextYear_0 := by decide +kernel
theorem dksX5_nextYear_1 : cX5_nextYear.data.toList.drop 22 = dktX5_nextYear_1 := dk_seg dksX5_nextYear_0 22 rfl rfl
theorem dksX5_nextYear_2 : cX5_nextYear.data.toList.drop 46 = dktX5_nextYear_2 := dk_seg dksX5_nextYear_1 24 rfl rfl
theorem dksX5_nextYear_3 : cX5_nextYear.data.toList.drop 69 = dktX5_nextYear_3 := dk_seg dksX5_nextYear_2 23 rfl rfl
theorem dX5_nextYear_0 : decode cX5_nextYear 0 = .ok (.iconst (-1), 1) := dk_2 (dk_at dksX5_nextYear_0 0 rfl rfl)
theorem dX5_nextYear_1 : decode cX5_nextYear 1 = .ok (.istore_n 2, 1) := dk_61 (dk_at dksX5_nextYear_0 1 rfl rfl)
theorem dX5_nextYear_2 : decode cX5_nextYear 2 = .ok (.iconst 0, 1) := dk_3 (dk_at dksX5_nextYear_0 2 rfl rfl)
theorem dX5_nextYear_3 : decode cX5_nextYear 3 = .ok (.istore_n 3, 1) := dk_62 (dk_at dksX5_nextYear_0 3 rfl rfl)
theorem dX5_nextYear_4 : decode cX5_nextYear 4 = .ok (.iload_n 3, 1) := dk_29 (dk_at dksX5_nextYear_0 4 rfl rfl)
theorem dX5_nextYear_5 : decode cX5_nextYear 5 = .ok (.aload_n 0, 1) := dk_42 (dk_at dksX5_nextYear_0 5 rfl rfl)
theorem dX5_nextYear_6 : decode cX5_nextYear 6 = .ok (.getfield 72, 3) := dk_180 0 72 (dk_at dksX5_nextYear_0 6 rfl rfl)
theorem dX5_nextYear_9 : decode cX5_nextYear 9 = .ok (.if_icmp .ge 63, 3) := dk_162 0 63 (dk_at dksX5_nextYear_0 9 rfl rfl)
theorem dX5_nextYear_12 : decode cX5_nextYear 12 = .ok (.aload_n 0, 1) := dk_42 (dk_at dksX5_nextYear_0 12 rfl rfl)
theorem dX5_nextYear_13 : decode cX5_nextYear 13 = .ok (.getfield 40, 3) := dk_180 0 40 (dk_at dksX5_nextYear_0 13 rfl rfl)
theorem dX5_nextYear_16 : decode cX5_nextYear 16 = .ok (.iload_n 1, 1) := dk_27 (dk_at dksX5_nextYear_0 16 rfl rfl)
theorem dX5_nextYear_17 : decode cX5_nextYear 17 = .ok (.laload, 1) := dk_47 (dk_at dksX5_nextYear_0 17 rfl rfl)
theorem dX5_nextYear_18 : decode cX5_nextYear 18 = .ok (.ldc2_w 75, 3) := dk_20 0 75 (dk_at dksX5_nextYear_0 18 rfl rfl)
theorem dX5_nextYear_21 : decode cX5_nextYear 21 = .ok (.aload_n 0, 1) := dk_42 (dk_at dksX5_nextYear_0 21 rfl rfl)
theorem dX5_nextYear_22 : decode cX5_nextYear 22 = .ok (.getfield 21, 3) := dk_180 0 21 (dk_at dksX5_nextYear_1 0 rfl rfl)
theorem dX5_nextYear_25 : decode cX5_nextYear 25 = .ok (.iload_n 3, 1) := dk_29 (dk_at dksX5_nextYear_1 3 rfl rfl)
theorem dX5_nextYear_26 : decode cX5_nextYear 26 = .ok (.iaload, 1) := dk_46 (dk_at dksX5_nextYear_1 4 rfl rfl)
theorem dX5_nextYear_27 : decode cX5_nextYear 27 = .ok (.i2l, 1) := dk_133 (dk_at dksX5_nextYear_1 5 rfl rfl)
theorem dX5_nextYear_28 : decode cX5_nextYear 28 = .ok (.lmul, 1) := dk_105 (dk_at dksX5_nextYear_1 6 rfl rfl)
theorem dX5_nextYear_29 : decode cX5_nextYear 29 = .ok (.lsub, 1) := dk_101 (dk_at dksX5_nextYear_1 7 rfl rfl)
theorem dX5_nextYear_30 : decode cX5_nextYear 30 = .ok (.lconst 1, 1) := dk_10 (dk_at dksX5_nextYear_1 8 rfl rfl)
theorem dX5_nextYear_31 : decode cX5_nextYear 31 = .ok (.lsub, 1) := dk_101 (dk_at dksX5_nextYear_1 9 rfl rfl)
theorem dX5_nextYear_32 : decode cX5_nextYear 32 = .ok (.lstore 4, 2) := dk_55 4 (dk_at dksX5_nextYear_1 10 rfl rfl)
theorem dX5_nextYear_34 : decode cX5_nextYear 34 = .ok (.aload_n 0, 1) := dk_42 (dk_at dksX5_nextYear_1 12 rfl rfl)
theorem dX5_nextYear_35 : decode cX5_nextYear 35 = .ok (.iload_n 2, 1) := dk_28 (dk_at dksX5_nextYear_1 13 rfl rfl)
theorem dX5_nextYear_36 : decode cX5_nextYear 36 = .ok (.iload_n 1, 1) := dk_27 (dk_at dksX5_nextYear_1 14 rfl rfl)
theorem dX5_nextYear_37 : decode cX5_nextYear 37 = .ok (.aload_n 0, 1) := dk_42 (dk_at dksX5_nextYear_1 15 rfl rfl)
theorem dX5_nextYear_38 : decode cX5_nextYear 38 = .ok (.getfield 18, 3) := dk_180 0 18 (dk_at dksX5_nextYear_1 16 rfl rfl)
theorem dX5_nextYear_41 : decode cX5_nextYear 41 = .ok (.iload_n 3, 1) := dk_29 (dk_at dksX5_nextYear_1 19 rfl rfl)
theorem dX5_nextYear_42 : decode cX5_nextYear 42 = .ok (.iaload, 1) := dk_46 (dk_at dksX5_nextYear_1 20 rfl rfl)
theorem dX5_nextYear_43 : decode cX5_nextYear 43 = .ok (.isub, 1) := dk_100 (dk_at dksX5_nextYear_1 21 rfl rfl)
theorem dX5_nextYear_44 : decode cX5_nextYear 44 = .ok (.lload 4, 2) := dk_22 4 (dk_at dksX5_nextYear_1 22 rfl rfl)
theorem dX5_nextYear_46 : decode cX5_nextYear 46 = .ok (.invokevirtual 104, 3) := dk_182 0 104 (dk_at dksX5_nextYear_2 0 rfl rfl)
theorem dX5_nextYear_49 : decode cX5_nextYear 49 = .ok (.istore_n 2, 1) := dk_61 (dk_at dksX5_nextYear_2 3 rfl rfl)
theorem dX5_nextYear_50 : decode cX5_nextYear 50 = .ok (.aload_n 0, 1) := dk_42 (dk_at dksX5_nextYear_2 4 rfl rfl)
theorem dX5_nextYear_51 : decode cX5_nextYear 51 = .ok (.iload_n 2, 1) := dk_28 (dk_at dksX5_nextYear_2 5 rfl rfl)
theorem dX5_nextYear_52 : decode cX5_nextYear 52 = .ok (.iload_n 1, 1) := dk_27 (dk_at dksX5_nextYear_2 6 rfl rfl)
theorem dX5_nextYear_53 : decode cX5_nextYear 53 = .ok (.aload_n 0, 1) := dk_42 (dk_at dksX5_nextYear_2 7 rfl rfl)
theorem dX5_nextYear_54 : decode cX5_nextYear 54 = .ok (.getfield 18, 3) := dk_180 0 18 (dk_at dksX5_nextYear_2 8 rfl rfl)
theorem dX5_nextYear_57 : decode cX5_nextYear 57 = .ok (.iload_n 3, 1) := dk_29 (dk_at dksX5_nextYear_2 11 rfl rfl)
theorem dX5_nextYear_58 : decode cX5_nextYear 58 = .ok (.iaload, 1) := dk_46 (dk_at dksX5_nextYear_2 12 rfl rfl)
theorem dX5_nextYear_59 : decode cX5_nextYear 59 = .ok (.iadd, 1) := dk_96 (dk_at dksX5_nextYear_2 13 rfl rfl)
theorem dX5_nextYear_60 : decode cX5_nextYear 60 = .ok (.lload 4, 2) := dk_22 4 (dk_at dksX5_nextYear_2 14 rfl rfl)
theorem dX5_nextYear_62 : decode cX5_nextYear 62 = .ok (.invokevirtual 104, 3) := dk_182 0 104 (dk_at dksX5_nextYear_2 16 rfl rfl)
theorem dX5_nextYear_65 : decode cX5_nextYear 65 = .ok (.istore_n 2, 1) := dk_61 (dk_at dksX5_nextYear_2 19 rfl rfl)
theorem dX5_nextYear_66 : decode cX5_nextYear 66 = .ok (.iinc 3 1, 3) := dk_132 3 1 (dk_at dksX5_nextYear_2 20 rfl rfl)
theorem dX5_nextYear_69 : decode cX5_nextYear 69 = .ok (.goto (-65), 3) := dk_167 255 191 (dk_at dksX5_nextYear_3 0 rfl rfl)
theorem dX5_nextYear_72 : decode cX5_nextYear 72 = .ok (.iload_n 2, 1) := dk_28 (dk_at dksX5_nextYear_3 3 rfl rfl)
theorem dX5_nextYear_73 : decode cX5_nextYear 73 = .ok (.ireturn, 1) := dk_172 (dk_at dksX5_nextYear_3 4 rfl rfl)
abbrev cX5_better : ByteArray := prog_7_method_9_code
def yX5_better : MethodName := ⟨RX5, "better", "(IIJ)I"⟩
def dkwX5_better_1 : List UInt8 := [2, 159, 0, 8, 28, 27, 162, 0, 7, 28, 167, 0, 4, 27, 172]
abbrev dktX5_better_1 : List UInt8 := dkwX5_better_1 ++ []
def dkwX5_better_0 : List UInt8 := [28, 133, 10, 20, 0, 57, 184, 0, 59, 153, 0, 28, 42, 180, 0, 40, 28, 47, 33, 148, 154, 0, 17, 27]
abbrev dktX5_better_0 : List UInt8 := dkwX5_better_0 ++ dktX5_better_1
theorem dksX5_better_0 : cX5_better.data.toList.drop 0 = dktX5_better_0 := by decide +kernel
theorem dksX5_better_1 : cX5_better.data.toList.drop 24 = dktX5_better_1 := dk_seg dksX5_better_0 24 rfl rfl
theorem dX5_better_0 : decode cX5_better 0 = .ok (.iload_n 2, 1) := dk_28 (dk_at dksX5_better_0 0 rfl rfl)
theorem dX5_better_1 : decode cX5_better 1 = .ok (.i2l, 1) := dk_133 (dk_at dksX5_better_0 1 rfl rfl)
theorem dX5_better_2 : decode cX5_better 2 = .ok (.lconst 1, 1) := dk_10 (dk_at dksX5_better_0 2 rfl rfl)
theorem dX5_better_3 : decode cX5_better 3 = .ok (.ldc2_w 57, 3) := dk_20 0 57 (dk_at dksX5_better_0 3 rfl rfl)
theorem dX5_better_6 : decode cX5_better 6 = .ok (.invokestatic 59, 3) := dk_184 0 59 (dk_at dksX5_better_0 6 rfl rfl)
theorem dX5_better_9 : decode cX5_better 9 = .ok (.ifCond .eq 28, 3) := dk_153 0 28 (dk_at dksX5_better_0 9 rfl rfl)
theorem dX5_better_12 : decode cX5_better 12 = .ok (.aload_n 0, 1) := dk_42 (dk_at dksX5_better_0 12 rfl rfl)
theorem dX5_better_13 : decode cX5_better 13 = .ok (.getfield 40, 3) := dk_180 0 40 (dk_at dksX5_better_0 13 rfl rfl)
theorem dX5_better_16 : decode cX5_better 16 = .ok (.iload_n 2, 1) := dk_28 (dk_at dksX5_better_0 16 rfl rfl)
theorem dX5_better_17 : decode cX5_better 17 = .ok (.laload, 1) := dk_47 (dk_at dksX5_better_0 17 rfl rfl)
theorem dX5_better_18 : decode cX5_better 18 = .ok (.lload_n 3, 1) := dk_33 (dk_at dksX5_better_0 18 rfl rfl)
theorem dX5_better_19 : decode cX5_better 19 = .ok (.lcmp, 1) := dk_148 (dk_at dksX5_better_0 19 rfl rfl)
theorem dX5_better_20 : decode cX5_better 20 = .ok (.ifCond .ne 17, 3) := dk_154 0 17 (dk_at dksX5_better_0 20 rfl rfl)
theorem dX5_better_23 : decode cX5_better 23 = .ok (.iload_n 1, 1) := dk_27 (dk_at dksX5_better_0 23 rfl rfl)
theorem dX5_better_24 : decode cX5_better 24 = .ok (.iconst (-1), 1) := dk_2 (dk_at dksX5_better_1 0 rfl rfl)
theorem dX5_better_25 : decode cX5_better 25 = .ok (.if_icmp .eq 8, 3) := dk_159 0 8 (dk_at dksX5_better_1 1 rfl rfl)
theorem dX5_better_28 : decode cX5_better 28 = .ok (.iload_n 2, 1) := dk_28 (dk_at dksX5_better_1 4 rfl rfl)
theorem dX5_better_29 : decode cX5_better 29 = .ok (.iload_n 1, 1) := dk_27 (dk_at dksX5_better_1 5 rfl rfl)
theorem dX5_better_30 : decode cX5_better 30 = .ok (.if_icmp .ge 7, 3) := dk_162 0 7 (dk_at dksX5_better_1 6 rfl rfl)
theorem dX5_better_33 : decode cX5_better 33 = .ok (.iload_n 2, 1) := dk_28 (dk_at dksX5_better_1 9 rfl rfl)
theorem dX5_better_34 : decode cX5_better 34 = .ok (.goto 4, 3) := dk_167 0 4 (dk_at dksX5_better_1 10 rfl rfl)
theorem dX5_better_37 : decode cX5_better 37 = .ok (.iload_n 1, 1) := dk_27 (dk_at dksX5_better_1 13 rfl rfl)
theorem dX5_better_38 : decode cX5_better 38 = .ok (.ireturn, 1) := dk_172 (dk_at dksX5_better_1 14 rfl rfl)
abbrev cX5_knownMonth : ByteArray := prog_7_method_12_code
def yX5_knownMonth : MethodName := ⟨RX5, "knownMonth", "(I)I"⟩
def dkwX5_knownMonth_0 : List UInt8 := [27, 61, 42, 180, 0, 44, 28, 47, 9, 148, 158, 0, 12, 42, 28, 182, 0, 115, 61, 167, 255, 239, 28, 172]
abbrev dktX5_knownMonth_0 : List UInt8 := dkwX5_knownMonth_0 ++ []
theorem dksX5_knownMonth_0 : cX5_knownMonth.data.toList.drop 0 = dktX5_knownMonth_0 := by decide +kernel
theorem dX5_knownMonth_0 : decode cX5_knownMonth 0 = .ok (.iload_n 1, 1) := dk_27 (dk_at dksX5_knownMonth_0 0 rfl rfl)
theorem dX5_knownMonth_1 : decode cX5_knownMonth 1 = .ok (.istore_n 2, 1) := dk_61 (dk_at dksX5_knownMonth_0 1 rfl rfl)
theorem dX5_knownMonth_2 : decode cX5_knownMonth 2 = .ok (.aload_n 0, 1) := dk_42 (dk_at dksX5_knownMonth_0 2 rfl rfl)
theorem dX5_knownMonth_3 : decode cX5_knownMonth 3 = .ok (.getfield 44, 3) := dk_180 0 44 (dk_at dksX5_knownMonth_0 3 rfl rfl)
theorem dX5_knownMonth_6 : decode cX5_knownMonth 6 = .ok (.iload_n 2, 1) := dk_28 (dk_at dksX5_knownMonth_0 6 rfl rfl)
theorem dX5_knownMonth_7 : decode cX5_knownMonth 7 = .ok (.laload, 1) := dk_47 (dk_at dksX5_knownMonth_0 7 rfl rfl)
theorem dX5_knownMonth_8 : decode cX5_knownMonth 8 = .ok (.lconst 0, 1) := dk_9 (dk_at dksX5_knownMonth_0 8 rfl rfl)
theorem dX5_knownMonth_9 : decode cX5_knownMonth 9 = .ok (.lcmp, 1) := dk_148 (dk_at dksX5_knownMonth_0 9 rfl rfl)
theorem dX5_knownMonth_10 : decode cX5_knownMonth 10 = .ok (.ifCond .le 12, 3) := dk_158 0 12 (dk_at dksX5_knownMonth_0 10 rfl rfl)
theorem dX5_knownMonth_13 : decode cX5_knownMonth 13 = .ok (.aload_n 0, 1) := dk_42 (dk_at dksX5_knownMonth_0 13 rfl rfl)
theorem dX5_knownMonth_14 : decode cX5_knownMonth 14 = .ok (.iload_n 2, 1) := dk_28 (dk_at dksX5_knownMonth_0 14 rfl rfl)
theorem dX5_knownMonth_15 : decode cX5_knownMonth 15 = .ok (.invokevirtual 115, 3) := dk_182 0 115 (dk_at dksX5_knownMonth_0 15 rfl rfl)
theorem dX5_knownMonth_18 : decode cX5_knownMonth 18 = .ok (.istore_n 2, 1) := dk_61 (dk_at dksX5_knownMonth_0 18 rfl rfl)
theorem dX5_knownMonth_19 : decode cX5_knownMonth 19 = .ok (.goto (-17), 3) := dk_167 255 239 (dk_at dksX5_knownMonth_0 19 rfl rfl)
theorem dX5_knownMonth_22 : decode cX5_knownMonth 22 = .ok (.iload_n 2, 1) := dk_28 (dk_at dksX5_knownMonth_0 22 rfl rfl)
theorem dX5_knownMonth_23 : decode cX5_knownMonth 23 = .ok (.ireturn, 1) := dk_172 (dk_at dksX5_knownMonth_0 23 rfl rfl)
abbrev cX5_nextMonth : ByteArray := prog_7_method_10_code
def yX5_nextMonth : MethodName := ⟨RX5, "nextMonth", "(I)I"⟩
def dkwX5_nextMonth_4 : List UInt8 := [28, 2, 159, 0, 9, 21, 4, 28, 162, 0, 6, 21, 4, 61, 132, 3, 1, 167, 255, 150, 28, 172]
abbrev dktX5_nextMonth_4 : List UInt8 := dkwX5_nextMonth_4 ++ []
def dkwX5_nextMonth_3 : List UInt8 := [20, 0, 75, 42, 180, 0, 30, 29, 46, 133, 105, 97, 10, 97, 42, 180, 0, 44, 27, 47, 148, 154, 0, 17]
abbrev dktX5_nextMonth_3 : List UInt8 := dkwX5_nextMonth_3 ++ dktX5_nextMonth_4
def dkwX5_nextMonth_2 : List UInt8 := [180, 0, 27, 29, 46, 167, 0, 9, 42, 180, 0, 24, 29, 46, 54, 4, 42, 180, 0, 44, 21, 4, 47]
abbrev dktX5_nextMonth_2 : List UInt8 := dkwX5_nextMonth_2 ++ dktX5_nextMonth_3
def dkwX5_nextMonth_1 : List UInt8 := [180, 0, 27, 29, 46, 27, 159, 0, 6, 167, 0, 75, 42, 180, 0, 24, 29, 46, 27, 160, 0, 12, 42]
abbrev dktX5_nextMonth_1 : List UInt8 := dkwX5_nextMonth_1 ++ dktX5_nextMonth_2
def dkwX5_nextMonth_0 : List UInt8 := [2, 61, 3, 62, 29, 42, 180, 0, 84, 162, 0, 104, 42, 180, 0, 24, 29, 46, 27, 159, 0, 16, 42]
abbrev dktX5_nextMonth_0 : List UInt8 := dkwX5_nextMonth_0 ++ dktX5_nextMonth_1
theorem dksX5_nextMonth_0 : cX5_nextMonth.data.toList.drop 0 = dktX5_nextMonth_0 := by decide +kernel
theorem dksX5_nextMonth_1 : cX5_nextMonth.data.toList.drop 23 = dktX5_nextMonth_1 := dk_seg dksX5_nextMonth_0 23 rfl rfl
theorem dksX5_nextMonth_2 : cX5_nextMonth.data.toList.drop 46 = dktX5_nextMonth_2 := dk_seg dksX5_nextMonth_1 23 rfl rfl
theorem dksX5_nextMonth_3 : cX5_nextMonth.data.toList.drop 69 = dktX5_nextMonth_3 := dk_seg dksX5_nextMonth_2 23 rfl rfl
theorem dksX5_nextMonth_4 : cX5_nextMonth.data.toList.drop 93 = dktX5_nextMonth_4 := dk_seg dksX5_nextMonth_3 24 rfl rfl
theorem dX5_nextMonth_0 : decode cX5_nextMonth 0 = .ok (.iconst (-1), 1) := dk_2 (dk_at dksX5_nextMonth_0 0 rfl rfl)
theorem dX5_nextMonth_1 : decode cX5_nextMonth 1 = .ok (.istore_n 2, 1) := dk_61 (dk_at dksX5_nextMonth_0 1 rfl rfl)
theorem dX5_nextMonth_2 : decode cX5_nextMonth 2 = .ok (.iconst 0, 1) := dk_3 (dk_at dksX5_nextMonth_0 2 rfl rfl)
theorem dX5_nextMonth_3 : decode cX5_nextMonth 3 = .ok (.istore_n 3, 1) := dk_62 (dk_at dksX5_nextMonth_0 3 rfl rfl)
theorem dX5_nextMonth_4 : decode cX5_nextMonth 4 = .ok (.iload_n 3, 1) := dk_29 (dk_at dksX5_nextMonth_0 4 rfl rfl)
theorem dX5_nextMonth_5 : decode cX5_nextMonth 5 = .ok (.aload_n 0, 1) := dk_42 (dk_at dksX5_nextMonth_0 5 rfl rfl)
theorem dX5_nextMonth_6 : decode cX5_nextMonth 6 = .ok (.getfield 84, 3) := dk_180 0 84 (dk_at dksX5_nextMonth_0 6 rfl rfl)
theorem dX5_nextMonth_9 : decode cX5_nextMonth 9 = .ok (.if_icmp .ge 104, 3) := dk_162 0 104 (dk_at dksX5_nextMonth_0 9 rfl rfl)
theorem dX5_nextMonth_12 : decode cX5_nextMonth 12 = .ok (.aload_n 0, 1) := dk_42 (dk_at dksX5_nextMonth_0 12 rfl rfl)
theorem dX5_nextMonth_13 : decode cX5_nextMonth 13 = .ok (.getfield 24, 3) := dk_180 0 24 (dk_at dksX5_nextMonth_0 13 rfl rfl)
theorem dX5_nextMonth_16 : decode cX5_nextMonth 16 = .ok (.iload_n 3, 1) := dk_29 (dk_at dksX5_nextMonth_0 16 rfl rfl)
theorem dX5_nextMonth_17 : decode cX5_nextMonth 17 = .ok (.iaload, 1) := dk_46 (dk_at dksX5_nextMonth_0 17 rfl rfl)
theorem dX5_nextMonth_18 : decode cX5_nextMonth 18 = .ok (.iload_n 1, 1) := dk_27 (dk_at dksX5_nextMonth_0 18 rfl rfl)
theorem dX5_nextMonth_19 : decode cX5_nextMonth 19 = .ok (.if_icmp .eq 16, 3) := dk_159 0 16 (dk_at dksX5_nextMonth_0 19 rfl rfl)
theorem dX5_nextMonth_22 : decode cX5_nextMonth 22 = .ok (.aload_n 0, 1) := dk_42 (dk_at dksX5_nextMonth_0 22 rfl rfl)
theorem dX5_nextMonth_23 : decode cX5_nextMonth 23 = .ok (.getfield 27, 3) := dk_180 0 27 (dk_at dksX5_nextMonth_1 0 rfl rfl)
theorem dX5_nextMonth_26 : decode cX5_nextMonth 26 = .ok (.iload_n 3, 1) := dk_29 (dk_at dksX5_nextMonth_1 3 rfl rfl)
theorem dX5_nextMonth_27 : decode cX5_nextMonth 27 = .ok (.iaload, 1) := dk_46 (dk_at dksX5_nextMonth_1 4 rfl rfl)
theorem dX5_nextMonth_28 : decode cX5_nextMonth 28 = .ok (.iload_n 1, 1) := dk_27 (dk_at dksX5_nextMonth_1 5 rfl rfl)
theorem dX5_nextMonth_29 : decode cX5_nextMonth 29 = .ok (.if_icmp .eq 6, 3) := dk_159 0 6 (dk_at dksX5_nextMonth_1 6 rfl rfl)
theorem dX5_nextMonth_32 : decode cX5_nextMonth 32 = .ok (.goto 75, 3) := dk_167 0 75 (dk_at dksX5_nextMonth_1 9 rfl rfl)
theorem dX5_nextMonth_35 : decode cX5_nextMonth 35 = .ok (.aload_n 0, 1) := dk_42 (dk_at dksX5_nextMonth_1 12 rfl rfl)
theorem dX5_nextMonth_36 : decode cX5_nextMonth 36 = .ok (.getfield 24, 3) := dk_180 0 24 (dk_at dksX5_nextMonth_1 13 rfl rfl)
theorem dX5_nextMonth_39 : decode cX5_nextMonth 39 = .ok (.iload_n 3, 1) := dk_29 (dk_at dksX5_nextMonth_1 16 rfl rfl)
theorem dX5_nextMonth_40 : decode cX5_nextMonth 40 = .ok (.iaload, 1) := dk_46 (dk_at dksX5_nextMonth_1 17 rfl rfl)
theorem dX5_nextMonth_41 : decode cX5_nextMonth 41 = .ok (.iload_n 1, 1) := dk_27 (dk_at dksX5_nextMonth_1 18 rfl rfl)
theorem dX5_nextMonth_42 : decode cX5_nextMonth 42 = .ok (.if_icmp .ne 12, 3) := dk_160 0 12 (dk_at dksX5_nextMonth_1 19 rfl rfl)
theorem dX5_nextMonth_45 : decode cX5_nextMonth 45 = .ok (.aload_n 0, 1) := dk_42 (dk_at dksX5_nextMonth_1 22 rfl rfl)
theorem dX5_nextMonth_46 : decode cX5_nextMonth 46 = .ok (.getfield 27, 3) := dk_180 0 27 (dk_at dksX5_nextMonth_2 0 rfl rfl)
theorem dX5_nextMonth_49 : decode cX5_nextMonth 49 = .ok (.iload_n 3, 1) := dk_29 (dk_at dksX5_nextMonth_2 3 rfl rfl)
theorem dX5_nextMonth_50 : decode cX5_nextMonth 50 = .ok (.iaload, 1) := dk_46 (dk_at dksX5_nextMonth_2 4 rfl rfl)
theorem dX5_nextMonth_51 : decode cX5_nextMonth 51 = .ok (.goto 9, 3) := dk_167 0 9 (dk_at dksX5_nextMonth_2 5 rfl rfl)
theorem dX5_nextMonth_54 : decode cX5_nextMonth 54 = .ok (.aload_n 0, 1) := dk_42 (dk_at dksX5_nextMonth_2 8 rfl rfl)
theorem dX5_nextMonth_55 : decode cX5_nextMonth 55 = .ok (.getfield 24, 3) := dk_180 0 24 (dk_at dksX5_nextMonth_2 9 rfl rfl)
theorem dX5_nextMonth_58 : decode cX5_nextMonth 58 = .ok (.iload_n 3, 1) := dk_29 (dk_at dksX5_nextMonth_2 12 rfl rfl)
theorem dX5_nextMonth_59 : decode cX5_nextMonth 59 = .ok (.iaload, 1) := dk_46 (dk_at dksX5_nextMonth_2 13 rfl rfl)
theorem dX5_nextMonth_60 : decode cX5_nextMonth 60 = .ok (.istore 4, 2) := dk_54 4 (dk_at dksX5_nextMonth_2 14 rfl rfl)
theorem dX5_nextMonth_62 : decode cX5_nextMonth 62 = .ok (.aload_n 0, 1) := dk_42 (dk_at dksX5_nextMonth_2 16 rfl rfl)
theorem dX5_nextMonth_63 : decode cX5_nextMonth 63 = .ok (.getfield 44, 3) := dk_180 0 44 (dk_at dksX5_nextMonth_2 17 rfl rfl)
theorem dX5_nextMonth_66 : decode cX5_nextMonth 66 = .ok (.iload 4, 2) := dk_21 4 (dk_at dksX5_nextMonth_2 20 rfl rfl)
theorem dX5_nextMonth_68 : decode cX5_nextMonth 68 = .ok (.laload, 1) := dk_47 (dk_at dksX5_nextMonth_2 22 rfl rfl)
theorem dX5_nextMonth_69 : decode cX5_nextMonth 69 = .ok (.ldc2_w 75, 3) := dk_20 0 75 (dk_at dksX5_nextMonth_3 0 rfl rfl)
theorem dX5_nextMonth_72 : decode cX5_nextMonth 72 = .ok (.aload_n 0, 1) := dk_42 (dk_at dksX5_nextMonth_3 3 rfl rfl)
theorem dX5_nextMonth_73 : decode cX5_nextMonth 73 = .ok (.getfield 30, 3) := dk_180 0 30 (dk_at dksX5_nextMonth_3 4 rfl rfl)
theorem dX5_nextMonth_76 : decode cX5_nextMonth 76 = .ok (.iload_n 3, 1) := dk_29 (dk_at dksX5_nextMonth_3 7 rfl rfl)
theorem dX5_nextMonth_77 : decode cX5_nextMonth 77 = .ok (.iaload, 1) := dk_46 (dk_at dksX5_nextMonth_3 8 rfl rfl)
theorem dX5_nextMonth_78 : decode cX5_nextMonth 78 = .ok (.i2l, 1) := dk_133 (dk_at dksX5_nextMonth_3 9 rfl rfl)
theorem dX5_nextMonth_79 : decode cX5_nextMonth 79 = .ok (.lmul, 1) := dk_105 (dk_at dksX5_nextMonth_3 10 rfl rfl)
theorem dX5_nextMonth_80 : decode cX5_nextMonth 80 = .ok (.ladd, 1) := dk_97 (dk_at dksX5_nextMonth_3 11 rfl rfl)
theorem dX5_nextMonth_81 : decode cX5_nextMonth 81 = .ok (.lconst 1, 1) := dk_10 (dk_at dksX5_nextMonth_3 12 rfl rfl)
theorem dX5_nextMonth_82 : decode cX5_nextMonth 82 = .ok (.ladd, 1) := dk_97 (dk_at dksX5_nextMonth_3 13 rfl rfl)
theorem dX5_nextMonth_83 : decode cX5_nextMonth 83 = .ok (.aload_n 0, 1) := dk_42 (dk_at dksX5_nextMonth_3 14 rfl rfl)
theorem dX5_nextMonth_84 : decode cX5_nextMonth 84 = .ok (.getfield 44, 3) := dk_180 0 44 (dk_at dksX5_nextMonth_3 15 rfl rfl)
theorem dX5_nextMonth_87 : decode cX5_nextMonth 87 = .ok (.iload_n 1, 1) := dk_27 (dk_at dksX5_nextMonth_3 18 rfl rfl)
theorem dX5_nextMonth_88 : decode cX5_nextMonth 88 = .ok (.laload, 1) := dk_47 (dk_at dksX5_nextMonth_3 19 rfl rfl)
theorem dX5_nextMonth_89 : decode cX5_nextMonth 89 = .ok (.lcmp, 1) := dk_148 (dk_at dksX5_nextMonth_3 20 rfl rfl)
theorem dX5_nextMonth_90 : decode cX5_nextMonth 90 = .ok (.ifCond .ne 17, 3) := dk_154 0 17 (dk_at dksX5_nextMonth_3 21 rfl rfl)
theorem dX5_nextMonth_93 : decode cX5_nextMonth 93 = .ok (.iload_n 2, 1) := dk_28 (dk_at dksX5_nextMonth_4 0 rfl rfl)
theorem dX5_nextMonth_94 : decode cX5_nextMonth 94 = .ok (.iconst (-1), 1) := dk_2 (dk_at dksX5_nextMonth_4 1 rfl rfl)
theorem dX5_nextMonth_95 : decode cX5_nextMonth 95 = .ok (.if_icmp .eq 9, 3) := dk_159 0 9 (dk_at dksX5_nextMonth_4 2 rfl rfl)
theorem dX5_nextMonth_98 : decode cX5_nextMonth 98 = .ok (.iload 4, 2) := dk_21 4 (dk_at dksX5_nextMonth_4 5 rfl rfl)
theorem dX5_nextMonth_100 : decode cX5_nextMonth 100 = .ok (.iload_n 2, 1) := dk_28 (dk_at dksX5_nextMonth_4 7 rfl rfl)
theorem dX5_nextMonth_101 : decode cX5_nextMonth 101 = .ok (.if_icmp .ge 6, 3) := dk_162 0 6 (dk_at dksX5_nextMonth_4 8 rfl rfl)
theorem dX5_nextMonth_104 : decode cX5_nextMonth 104 = .ok (.iload 4, 2) := dk_21 4 (dk_at dksX5_nextMonth_4 11 rfl rfl)
theorem dX5_nextMonth_106 : decode cX5_nextMonth 106 = .ok (.istore_n 2, 1) := dk_61 (dk_at dksX5_nextMonth_4 13 rfl rfl)
theorem dX5_nextMonth_107 : decode cX5_nextMonth 107 = .ok (.iinc 3 1, 3) := dk_132 3 1 (dk_at dksX5_nextMonth_4 14 rfl rfl)
theorem dX5_nextMonth_110 : decode cX5_nextMonth 110 = .ok (.goto (-106), 3) := dk_167 255 150 (dk_at dksX5_nextMonth_4 17 rfl rfl)
theorem dX5_nextMonth_113 : decode cX5_nextMonth 113 = .ok (.iload_n 2, 1) := dk_28 (dk_at dksX5_nextMonth_4 20 rfl rfl)
theorem dX5_nextMonth_114 : decode cX5_nextMonth 114 = .ok (.ireturn, 1) := dk_172 (dk_at dksX5_nextMonth_4 21 rfl rfl)
abbrev cX5_steps : ByteArray := prog_7_method_13_code
def yX5_steps : MethodName := ⟨RX5, "steps", "(I)I"⟩
def dkwX5_steps_0 : List UInt8 := [42, 180, 0, 40, 27, 47, 20, 0, 75, 113, 136, 172]
abbrev dktX5_steps_0 : List UInt8 := dkwX5_steps_0 ++ []
theorem dksX5_steps_0 : cX5_steps.data.toList.drop 0 = dktX5_steps_0 := by decide +kernel
theorem dX5_steps_0 : decode cX5_steps 0 = .ok (.aload_n 0, 1) := dk_42 (dk_at dksX5_steps_0 0 rfl rfl)
theorem dX5_steps_1 : decode cX5_steps 1 = .ok (.getfield 40, 3) := dk_180 0 40 (dk_at dksX5_steps_0 1 rfl rfl)
theorem dX5_steps_4 : decode cX5_steps 4 = .ok (.iload_n 1, 1) := dk_27 (dk_at dksX5_steps_0 4 rfl rfl)
theorem dX5_steps_5 : decode cX5_steps 5 = .ok (.laload, 1) := dk_47 (dk_at dksX5_steps_0 5 rfl rfl)
theorem dX5_steps_6 : decode cX5_steps 6 = .ok (.ldc2_w 75, 3) := dk_20 0 75 (dk_at dksX5_steps_0 6 rfl rfl)
theorem dX5_steps_9 : decode cX5_steps 9 = .ok (.lrem, 1) := dk_113 (dk_at dksX5_steps_0 9 rfl rfl)
theorem dX5_steps_10 : decode cX5_steps 10 = .ok (.l2i, 1) := dk_136 (dk_at dksX5_steps_0 10 rfl rfl)
theorem dX5_steps_11 : decode cX5_steps 11 = .ok (.ireturn, 1) := dk_172 (dk_at dksX5_steps_0 11 rfl rfl)
abbrev cX5_monthSteps : ByteArray := prog_7_method_14_code
def yX5_monthSteps : MethodName := ⟨RX5, "monthSteps", "(I)I"⟩
def dkwX5_monthSteps_0 : List UInt8 := [42, 180, 0, 44, 27, 47, 20, 0, 75, 113, 136, 172]
abbrev dktX5_monthSteps_0 : List UInt8 := dkwX5_monthSteps_0 ++ []
theorem dksX5_monthSteps_0 : cX5_monthSteps.data.toList.drop 0 = dktX5_monthSteps_0 := by decide +kernel
theorem dX5_monthSteps_0 : decode cX5_monthSteps 0 = .ok (.aload_n 0, 1) := dk_42 (dk_at dksX5_monthSteps_0 0 rfl rfl)
theorem dX5_monthSteps_1 : decode cX5_monthSteps 1 = .ok (.getfield 44, 3) := dk_180 0 44 (dk_at dksX5_monthSteps_0 1 rfl rfl)
theorem dX5_monthSteps_4 : decode cX5_monthSteps 4 = .ok (.iload_n 1, 1) := dk_27 (dk_at dksX5_monthSteps_0 4 rfl rfl)
theorem dX5_monthSteps_5 : decode cX5_monthSteps 5 = .ok (.laload, 1) := dk_47 (dk_at dksX5_monthSteps_0 5 rfl rfl)
theorem dX5_monthSteps_6 : decode cX5_monthSteps 6 = .ok (.ldc2_w 75, 3) := dk_20 0 75 (dk_at dksX5_monthSteps_0 6 rfl rfl)
theorem dX5_monthSteps_9 : decode cX5_monthSteps 9 = .ok (.lrem, 1) := dk_113 (dk_at dksX5_monthSteps_0 9 rfl rfl)
theorem dX5_monthSteps_10 : decode cX5_monthSteps 10 = .ok (.l2i, 1) := dk_136 (dk_at dksX5_monthSteps_0 10 rfl rfl)
theorem dX5_monthSteps_11 : decode cX5_monthSteps 11 = .ok (.ireturn, 1) := dk_172 (dk_at dksX5_monthSteps_0 11 rfl rfl)
theorem q108 : (Jvm.Cond.initialized "DayBoy$Head") ∈ lw_all := lw_g (lw_at lw_m1 5 rfl) rfl
theorem q198 : (Jvm.Cond.instantiable "DayBoy$Head" (22 : Nat)) ∈ lw_all := lw_g (lw_at lw_m1 95 rfl) rfl
theorem q200 : (Jvm.Cond.instanceMethod ({ cls := "DayBoy$Head", name := "<init>", desc := "()V" } : Jvm.MethodName)) ∈ lw_all := lw_g (lw_at lw_m1 97 rfl) rfl
theorem q201 : (Jvm.Cond.code ({ cls := "DayBoy$Head", name := "<init>", desc := "()V" } : Jvm.MethodName) prog_7_method_1_code (1 : Nat) (Option.none : Option Jvm.ClassFile.FieldType)) ∈ lw_all := lw_g (lw_at lw_m1 98 rfl) rfl
theorem q202 : (Jvm.Cond.methodLink "DayBoy$Head" (3 : Nat) ({ cls := "java/lang/Object", name := "<init>", desc := "()V" } : Jvm.MethodName)) ∈ lw_all := lw_g (lw_at lw_m1 99 rfl) rfl
theorem q203 : (Jvm.Cond.fieldLink "DayBoy$Head" (9 : Nat) "DayBoy$Head" "from" "[I") ∈ lw_all := lw_g (lw_at lw_m1 100 rfl) rfl
theorem q205 : (Jvm.Cond.fieldLink "DayBoy$Head" (15 : Nat) "DayBoy$Head" "to" "[I") ∈ lw_all := lw_g (lw_at lw_m1 102 rfl) rfl
theorem q207 : (Jvm.Cond.fieldLink "DayBoy$Head" (18 : Nat) "DayBoy$Head" "steps" "[I") ∈ lw_all := lw_g (lw_at lw_m1 104 rfl) rfl
theorem q211 : (Jvm.Cond.fieldLink "DayBoy$Head" (21 : Nat) "DayBoy$Head" "stepCosts" "[I") ∈ lw_all := lw_g (lw_at lw_m1 108 rfl) rfl
theorem q214 : (Jvm.Cond.fieldLink "DayBoy$Head" (24 : Nat) "DayBoy$Head" "one" "[I") ∈ lw_all := lw_g (lw_at lw_m1 111 rfl) rfl
theorem q217 : (Jvm.Cond.fieldLink "DayBoy$Head" (27 : Nat) "DayBoy$Head" "other" "[I") ∈ lw_all := lw_g (lw_at lw_m1 114 rfl) rfl
theorem q220 : (Jvm.Cond.fieldLink "DayBoy$Head" (30 : Nat) "DayBoy$Head" "mateCosts" "[I") ∈ lw_all := lw_g (lw_at lw_m1 117 rfl) rfl
theorem q222 : (Jvm.Cond.fieldLink "DayBoy$Head" (33 : Nat) "DayBoy$Head" "costs" "[I") ∈ lw_all := lw_g (lw_at lw_m1 119 rfl) rfl
theorem q225 : (Jvm.Cond.fieldLink "DayBoy$Head" (36 : Nat) "DayBoy$Head" "own" "[Z") ∈ lw_all := lw_g (lw_at lw_m1 122 rfl) rfl
theorem q228 : (Jvm.Cond.fieldLink "DayBoy$Head" (40 : Nat) "DayBoy$Head" "left" "[J") ∈ lw_all := lw_g (lw_at lw_m1 125 rfl) rfl
theorem q230 : (Jvm.Cond.fieldLink "DayBoy$Head" (44 : Nat) "DayBoy$Head" "monthLeft" "[J") ∈ lw_all := lw_g (lw_at lw_m1 127 rfl) rfl
theorem q232 : (Jvm.Cond.fieldLink "DayBoy$Head" (47 : Nat) "DayBoy$Head" "queue" "[I") ∈ lw_all := lw_g (lw_at lw_m1 129 rfl) rfl
theorem q233 : (Jvm.Cond.fieldLink "DayBoy$Head" (50 : Nat) "DayBoy$Head" "waits" "[Z") ∈ lw_all := lw_g (lw_at lw_m1 130 rfl) rfl
theorem q235 : (Jvm.Cond.fieldLink "DayBoy$Head" (81 : Nat) "DayBoy$Head" "ranges" "I") ∈ lw_all := lw_g (lw_at lw_m1 132 rfl) rfl
theorem q238 : (Jvm.Cond.fieldLink "DayBoy$Head" (72 : Nat) "DayBoy$Head" "stepMany" "I") ∈ lw_all := lw_g (lw_at lw_m1 135 rfl) rfl
theorem q242 : (Jvm.Cond.fieldLink "DayBoy$Head" (84 : Nat) "DayBoy$Head" "mateMany" "I") ∈ lw_all := lw_g (lw_at lw_m1 139 rfl) rfl
theorem q245 : (Jvm.Cond.fieldLink "DayBoy$Head" (53 : Nat) "DayBoy$Head" "weight" "I") ∈ lw_all := lw_g (lw_at lw_m1 142 rfl) rfl
theorem q247 : (Jvm.Cond.fieldLink "DayBoy$Head" (89 : Nat) "DayBoy$Head" "yearNow" "I") ∈ lw_all := lw_g (lw_at lw_m1 144 rfl) rfl
theorem q248 : (Jvm.Cond.fieldLink "DayBoy$Head" (108 : Nat) "DayBoy$Head" "knownNow" "I") ∈ lw_all := lw_g (lw_at lw_m1 145 rfl) rfl
theorem q249 : (Jvm.Cond.fieldLink "DayBoy$Head" (69 : Nat) "DayBoy$Head" "head" "I") ∈ lw_all := lw_g (lw_at lw_m1 146 rfl) rfl
theorem q250 : (Jvm.Cond.fieldLink "DayBoy$Head" (63 : Nat) "DayBoy$Head" "tail" "I") ∈ lw_all := lw_g (lw_at lw_m1 147 rfl) rfl
theorem q251 : (Jvm.Cond.fieldLink "DayBoy$Head" (66 : Nat) "DayBoy$Head" "waiting" "I") ∈ lw_all := lw_g (lw_at lw_m1 148 rfl) rfl
theorem q252 : (Jvm.Cond.laysFinal "DayBoy$Head" "DayBoy$Head" "from" "[I") ∈ lw_all := lw_g (lw_at lw_m1 149 rfl) rfl
theorem q253 : (Jvm.Cond.soleField "DayBoy$Head" "from") ∈ lw_all := lw_g (lw_at lw_m1 150 rfl) rfl
theorem q254 : (Jvm.Cond.laysFinal "DayBoy$Head" "DayBoy$Head" "to" "[I") ∈ lw_all := lw_g (lw_at lw_m1 151 rfl) rfl
theorem q255 : (Jvm.Cond.soleField "DayBoy$Head" "to") ∈ lw_all := lw_g (lw_at lw_m1 152 rfl) rfl
theorem q256 : (Jvm.Cond.laysFinal "DayBoy$Head" "DayBoy$Head" "steps" "[I") ∈ lw_all := lw_g (lw_at lw_m1 153 rfl) rfl
theorem q257 : (Jvm.Cond.soleField "DayBoy$Head" "steps") ∈ lw_all := lw_g (lw_at lw_m1 154 rfl) rfl
theorem q258 : (Jvm.Cond.laysFinal "DayBoy$Head" "DayBoy$Head" "stepCosts" "[I") ∈ lw_all := lw_g (lw_at lw_m1 155 rfl) rfl
theorem q259 : (Jvm.Cond.soleField "DayBoy$Head" "stepCosts") ∈ lw_all := lw_g (lw_at lw_m1 156 rfl) rfl
theorem q260 : (Jvm.Cond.laysFinal "DayBoy$Head" "DayBoy$Head" "one" "[I") ∈ lw_all := lw_g (lw_at lw_m1 157 rfl) rfl
theorem q261 : (Jvm.Cond.soleField "DayBoy$Head" "one") ∈ lw_all := lw_g (lw_at lw_m1 158 rfl) rfl
theorem q262 : (Jvm.Cond.laysFinal "DayBoy$Head" "DayBoy$Head" "other" "[I") ∈ lw_all := lw_g (lw_at lw_m1 159 rfl) rfl
theorem q263 : (Jvm.Cond.soleField "DayBoy$Head" "other") ∈ lw_all := lw_g (lw_at lw_m1 160 rfl) rfl
theorem q264 : (Jvm.Cond.laysFinal "DayBoy$Head" "DayBoy$Head" "mateCosts" "[I") ∈ lw_all := lw_g (lw_at lw_m1 161 rfl) rfl
theorem q265 : (Jvm.Cond.soleField "DayBoy$Head" "mateCosts") ∈ lw_all := lw_g (lw_at lw_m1 162 rfl) rfl
theorem q266 : (Jvm.Cond.laysFinal "DayBoy$Head" "DayBoy$Head" "costs" "[I") ∈ lw_all := lw_g (lw_at lw_m1 163 rfl) rfl
theorem q267 : (Jvm.Cond.soleField "DayBoy$Head" "costs") ∈ lw_all := lw_g (lw_at lw_m1 164 rfl) rfl
theorem q268 : (Jvm.Cond.laysFinal "DayBoy$Head" "DayBoy$Head" "own" "[Z") ∈ lw_all := lw_g (lw_at lw_m1 165 rfl) rfl
theorem q269 : (Jvm.Cond.soleField "DayBoy$Head" "own") ∈ lw_all := lw_g (lw_at lw_m1 166 rfl) rfl
theorem q270 : (Jvm.Cond.laysFinal "DayBoy$Head" "DayBoy$Head" "left" "[J") ∈ lw_all := lw_g (lw_at lw_m1 167 rfl) rfl
theorem q271 : (Jvm.Cond.soleField "DayBoy$Head" "left") ∈ lw_all := lw_g (lw_at lw_m1 168 rfl) rfl
theorem q272 : (Jvm.Cond.laysFinal "DayBoy$Head" "DayBoy$Head" "monthLeft" "[J") ∈ lw_all := lw_g (lw_at lw_m1 169 rfl) rfl
theorem q273 : (Jvm.Cond.soleField "DayBoy$Head" "monthLeft") ∈ lw_all := lw_g (lw_at lw_m1 170 rfl) rfl
theorem q274 : (Jvm.Cond.laysFinal "DayBoy$Head" "DayBoy$Head" "queue" "[I") ∈ lw_all := lw_g (lw_at lw_m1 171 rfl) rfl
theorem q275 : (Jvm.Cond.soleField "DayBoy$Head" "queue") ∈ lw_all := lw_g (lw_at lw_m1 172 rfl) rfl
theorem q276 : (Jvm.Cond.laysFinal "DayBoy$Head" "DayBoy$Head" "waits" "[Z") ∈ lw_all := lw_g (lw_at lw_m1 173 rfl) rfl
theorem q277 : (Jvm.Cond.soleField "DayBoy$Head" "waits") ∈ lw_all := lw_g (lw_at lw_m1 174 rfl) rfl
theorem q278 : (Jvm.Cond.lays "DayBoy$Head" "DayBoy$Head" "ranges" "I") ∈ lw_all := lw_g (lw_at lw_m1 175 rfl) rfl
theorem q279 : (Jvm.Cond.soleField "DayBoy$Head" "ranges") ∈ lw_all := lw_g (lw_at lw_m1 176 rfl) rfl
theorem q280 : (Jvm.Cond.lays "DayBoy$Head" "DayBoy$Head" "stepMany" "I") ∈ lw_all := lw_g (lw_at lw_m1 177 rfl) rfl
theorem q281 : (Jvm.Cond.soleField "DayBoy$Head" "stepMany") ∈ lw_all := lw_g (lw_at lw_m1 178 rfl) rfl
theorem q282 : (Jvm.Cond.lays "DayBoy$Head" "DayBoy$Head" "mateMany" "I") ∈ lw_all := lw_g (lw_at lw_m1 179 rfl) rfl
theorem q283 : (Jvm.Cond.soleField "DayBoy$Head" "mateMany") ∈ lw_all := lw_g (lw_at lw_m1 180 rfl) rfl
theorem q284 : (Jvm.Cond.lays "DayBoy$Head" "DayBoy$Head" "weight" "I") ∈ lw_all := lw_g (lw_at lw_m1 181 rfl) rfl
theorem q285 : (Jvm.Cond.soleField "DayBoy$Head" "weight") ∈ lw_all := lw_g (lw_at lw_m1 182 rfl) rfl
theorem q286 : (Jvm.Cond.lays "DayBoy$Head" "DayBoy$Head" "yearNow" "I") ∈ lw_all := lw_g (lw_at lw_m1 183 rfl) rfl
theorem q287 : (Jvm.Cond.soleField "DayBoy$Head" "yearNow") ∈ lw_all := lw_g (lw_at lw_m1 184 rfl) rfl
theorem q288 : (Jvm.Cond.lays "DayBoy$Head" "DayBoy$Head" "knownNow" "I") ∈ lw_all := lw_g (lw_at lw_m1 185 rfl) rfl
theorem q289 : (Jvm.Cond.soleField "DayBoy$Head" "knownNow") ∈ lw_all := lw_g (lw_at lw_m1 186 rfl) rfl
theorem q290 : (Jvm.Cond.lays "DayBoy$Head" "DayBoy$Head" "head" "I") ∈ lw_all := lw_g (lw_at lw_m1 187 rfl) rfl
theorem q291 : (Jvm.Cond.soleField "DayBoy$Head" "head") ∈ lw_all := lw_g (lw_at lw_m1 188 rfl) rfl
theorem q292 : (Jvm.Cond.lays "DayBoy$Head" "DayBoy$Head" "tail" "I") ∈ lw_all := lw_g (lw_at lw_m1 189 rfl) rfl
theorem q293 : (Jvm.Cond.soleField "DayBoy$Head" "tail") ∈ lw_all := lw_g (lw_at lw_m1 190 rfl) rfl
theorem q294 : (Jvm.Cond.lays "DayBoy$Head" "DayBoy$Head" "waiting" "I") ∈ lw_all := lw_g (lw_at lw_m1 191 rfl) rfl
theorem q295 : (Jvm.Cond.soleField "DayBoy$Head" "waiting") ∈ lw_all := lw_g (lw_at lw_m1 192 rfl) rfl
theorem q296 : (Jvm.Cond.superclass "DayBoy$Head" "java/lang/Object") ∈ lw_all := lw_g (lw_at lw_m1 193 rfl) rfl
theorem q601 : (Jvm.Cond.instanceMethod ({ cls := "DayBoy$Head", name := "empty", desc := "()V" } : Jvm.MethodName)) ∈ lw_all := lw_g (lw_at lw_m3 18 rfl) rfl
theorem q602 : (Jvm.Cond.selects "DayBoy$Head" ({ cls := "DayBoy$Head", name := "empty", desc := "()V" } : Jvm.MethodName) ({ cls := "DayBoy$Head", name := "empty", desc := "()V" } : Jvm.MethodName)) ∈ lw_all := lw_g (lw_at lw_m3 19 rfl) rfl
theorem q603 : (Jvm.Cond.code ({ cls := "DayBoy$Head", name := "empty", desc := "()V" } : Jvm.MethodName) prog_7_method_4_code (2 : Nat) (Option.none : Option Jvm.ClassFile.FieldType)) ∈ lw_all := lw_g (lw_at lw_m3 20 rfl) rfl
theorem q723 : (Jvm.Cond.instanceMethod ({ cls := "DayBoy$Head", name := "learn", desc := "()V" } : Jvm.MethodName)) ∈ lw_all := lw_g (lw_at lw_m3 140 rfl) rfl
theorem q724 : (Jvm.Cond.selects "DayBoy$Head" ({ cls := "DayBoy$Head", name := "learn", desc := "()V" } : Jvm.MethodName) ({ cls := "DayBoy$Head", name := "learn", desc := "()V" } : Jvm.MethodName)) ∈ lw_all := lw_g (lw_at lw_m3 141 rfl) rfl
theorem q725 : (Jvm.Cond.code ({ cls := "DayBoy$Head", name := "learn", desc := "()V" } : Jvm.MethodName) prog_7_method_6_code (6 : Nat) (Option.none : Option Jvm.ClassFile.FieldType)) ∈ lw_all := lw_g (lw_at lw_m3 142 rfl) rfl
theorem q726 : (Jvm.Cond.methodLink "DayBoy$Head" (92 : Nat) ({ cls := "DayBoy$Head", name := "clear", desc := "()V" } : Jvm.MethodName)) ∈ lw_all := lw_g (lw_at lw_m3 143 rfl) rfl
theorem q727 : (Jvm.Cond.privateMethod ({ cls := "DayBoy$Head", name := "clear", desc := "()V" } : Jvm.MethodName)) ∈ lw_tbl := lw_at lw_m3 144 rfl
theorem q728 : (Jvm.Cond.instanceMethod ({ cls := "DayBoy$Head", name := "clear", desc := "()V" } : Jvm.MethodName)) ∈ lw_all := lw_g (lw_at lw_m3 145 rfl) rfl
theorem q729 : (Jvm.Cond.code ({ cls := "DayBoy$Head", name := "clear", desc := "()V" } : Jvm.MethodName) prog_7_method_5_code (2 : Nat) (Option.none : Option Jvm.ClassFile.FieldType)) ∈ lw_all := lw_g (lw_at lw_m3 146 rfl) rfl
theorem q730 : (Jvm.Cond.constantLong "DayBoy$Head" (87 : Nat) (1000000000000 : Int64)) ∈ lw_all := lw_g (lw_at lw_m3 147 rfl) rfl
theorem q731 : (Jvm.Cond.methodLink "DayBoy$Head" (77 : Nat) ({ cls := "DayBoy$Head", name := "improve", desc := "(IJ)V" } : Jvm.MethodName)) ∈ lw_all := lw_g (lw_at lw_m3 148 rfl) rfl
theorem q732 : (Jvm.Cond.privateMethod ({ cls := "DayBoy$Head", name := "improve", desc := "(IJ)V" } : Jvm.MethodName)) ∈ lw_tbl := lw_at lw_m3 149 rfl
theorem q733 : (Jvm.Cond.instanceMethod ({ cls := "DayBoy$Head", name := "improve", desc := "(IJ)V" } : Jvm.MethodName)) ∈ lw_all := lw_g (lw_at lw_m3 150 rfl) rfl
theorem q734 : (Jvm.Cond.code ({ cls := "DayBoy$Head", name := "improve", desc := "(IJ)V" } : Jvm.MethodName) prog_7_method_2_code (4 : Nat) (Option.none : Option Jvm.ClassFile.FieldType)) ∈ lw_all := lw_g (lw_at lw_m3 151 rfl) rfl
theorem q735 : (Jvm.Cond.constantLong "DayBoy$Head" (57 : Nat) (9999 : Int64)) ∈ lw_all := lw_g (lw_at lw_m3 152 rfl) rfl
theorem q736 : (Jvm.Cond.methodLinkNest "DayBoy$Head" (59 : Nat) ({ cls := "DayBoy", name := "isIn", desc := "(JJJ)Z" } : Jvm.MethodName) "DayBoy") ∈ lw_tbl := lw_at lw_m3 153 rfl
theorem q737 : (Jvm.Cond.methodLink "DayBoy$Head" (95 : Nat) ({ cls := "DayBoy$Head", name := "spread", desc := "()V" } : Jvm.MethodName)) ∈ lw_all := lw_g (lw_at lw_m3 154 rfl) rfl
theorem q738 : (Jvm.Cond.privateMethod ({ cls := "DayBoy$Head", name := "spread", desc := "()V" } : Jvm.MethodName)) ∈ lw_tbl := lw_at lw_m3 155 rfl
theorem q739 : (Jvm.Cond.instanceMethod ({ cls := "DayBoy$Head", name := "spread", desc := "()V" } : Jvm.MethodName)) ∈ lw_all := lw_g (lw_at lw_m3 156 rfl) rfl
theorem q740 : (Jvm.Cond.code ({ cls := "DayBoy$Head", name := "spread", desc := "()V" } : Jvm.MethodName) prog_7_method_3_code (3 : Nat) (Option.none : Option Jvm.ClassFile.FieldType)) ∈ lw_all := lw_g (lw_at lw_m3 157 rfl) rfl
theorem q741 : (Jvm.Cond.constantLong "DayBoy$Head" (75 : Nat) (20000 : Int64)) ∈ lw_all := lw_g (lw_at lw_m3 158 rfl) rfl
theorem q742 : (Jvm.Cond.methodLink "DayBoy$Head" (98 : Nat) ({ cls := "java/lang/Math", name := "min", desc := "(JJ)J" } : Jvm.MethodName)) ∈ lw_all := lw_g (lw_at lw_m3 159 rfl) rfl
theorem q859 : (Jvm.Cond.instanceMethod ({ cls := "DayBoy$Head", name := "hasRows", desc := "(II)Z" } : Jvm.MethodName)) ∈ lw_all := lw_g (lw_at lw_m4 36 rfl) rfl
theorem q860 : (Jvm.Cond.selects "DayBoy$Head" ({ cls := "DayBoy$Head", name := "hasRows", desc := "(II)Z" } : Jvm.MethodName) ({ cls := "DayBoy$Head", name := "hasRows", desc := "(II)Z" } : Jvm.MethodName)) ∈ lw_all := lw_g (lw_at lw_m4 37 rfl) rfl
theorem q861 : (Jvm.Cond.code ({ cls := "DayBoy$Head", name := "hasRows", desc := "(II)Z" } : Jvm.MethodName) prog_7_method_7_code (3 : Nat) (Option.some Jvm.ClassFile.FieldType.boolean)) ∈ lw_all := lw_g (lw_at lw_m4 38 rfl) rfl
theorem q863 : (Jvm.Cond.instanceMethod ({ cls := "DayBoy$Head", name := "knownYear", desc := "(I)I" } : Jvm.MethodName)) ∈ lw_all := lw_g (lw_at lw_m4 40 rfl) rfl
theorem q864 : (Jvm.Cond.selects "DayBoy$Head" ({ cls := "DayBoy$Head", name := "knownYear", desc := "(I)I" } : Jvm.MethodName) ({ cls := "DayBoy$Head", name := "knownYear", desc := "(I)I" } : Jvm.MethodName)) ∈ lw_all := lw_g (lw_at lw_m4 41 rfl) rfl
theorem q865 : (Jvm.Cond.code ({ cls := "DayBoy$Head", name := "knownYear", desc := "(I)I" } : Jvm.MethodName) prog_7_method_11_code (3 : Nat) (Option.some Jvm.ClassFile.FieldType.int)) ∈ lw_all := lw_g (lw_at lw_m4 42 rfl) rfl
theorem q866 : (Jvm.Cond.methodLink "DayBoy$Head" (111 : Nat) ({ cls := "DayBoy$Head", name := "nextYear", desc := "(I)I" } : Jvm.MethodName)) ∈ lw_all := lw_g (lw_at lw_m4 43 rfl) rfl
theorem q867 : (Jvm.Cond.instanceMethod ({ cls := "DayBoy$Head", name := "nextYear", desc := "(I)I" } : Jvm.MethodName)) ∈ lw_all := lw_g (lw_at lw_m4 44 rfl) rfl
theorem q868 : (Jvm.Cond.selects "DayBoy$Head" ({ cls := "DayBoy$Head", name := "nextYear", desc := "(I)I" } : Jvm.MethodName) ({ cls := "DayBoy$Head", name := "nextYear", desc := "(I)I" } : Jvm.MethodName)) ∈ lw_all := lw_g (lw_at lw_m4 45 rfl) rfl
theorem q869 : (Jvm.Cond.code ({ cls := "DayBoy$Head", name := "nextYear", desc := "(I)I" } : Jvm.MethodName) prog_7_method_8_code (6 : Nat) (Option.some Jvm.ClassFile.FieldType.int)) ∈ lw_all := lw_g (lw_at lw_m4 46 rfl) rfl
theorem q870 : (Jvm.Cond.methodLink "DayBoy$Head" (104 : Nat) ({ cls := "DayBoy$Head", name := "better", desc := "(IIJ)I" } : Jvm.MethodName)) ∈ lw_all := lw_g (lw_at lw_m4 47 rfl) rfl
theorem q871 : (Jvm.Cond.privateMethod ({ cls := "DayBoy$Head", name := "better", desc := "(IIJ)I" } : Jvm.MethodName)) ∈ lw_tbl := lw_at lw_m4 48 rfl
theorem q872 : (Jvm.Cond.instanceMethod ({ cls := "DayBoy$Head", name := "better", desc := "(IIJ)I" } : Jvm.MethodName)) ∈ lw_all := lw_g (lw_at lw_m4 49 rfl) rfl
theorem q873 : (Jvm.Cond.code ({ cls := "DayBoy$Head", name := "better", desc := "(IIJ)I" } : Jvm.MethodName) prog_7_method_9_code (5 : Nat) (Option.some Jvm.ClassFile.FieldType.int)) ∈ lw_all := lw_g (lw_at lw_m4 50 rfl) rfl
theorem q875 : (Jvm.Cond.instanceMethod ({ cls := "DayBoy$Head", name := "knownMonth", desc := "(I)I" } : Jvm.MethodName)) ∈ lw_all := lw_g (lw_at lw_m4 52 rfl) rfl
theorem q876 : (Jvm.Cond.selects "DayBoy$Head" ({ cls := "DayBoy$Head", name := "knownMonth", desc := "(I)I" } : Jvm.MethodName) ({ cls := "DayBoy$Head", name := "knownMonth", desc := "(I)I" } : Jvm.MethodName)) ∈ lw_all := lw_g (lw_at lw_m4 53 rfl) rfl
theorem q877 : (Jvm.Cond.code ({ cls := "DayBoy$Head", name := "knownMonth", desc := "(I)I" } : Jvm.MethodName) prog_7_method_12_code (3 : Nat) (Option.some Jvm.ClassFile.FieldType.int)) ∈ lw_all := lw_g (lw_at lw_m4 54 rfl) rfl
theorem q878 : (Jvm.Cond.methodLink "DayBoy$Head" (115 : Nat) ({ cls := "DayBoy$Head", name := "nextMonth", desc := "(I)I" } : Jvm.MethodName)) ∈ lw_all := lw_g (lw_at lw_m4 55 rfl) rfl
theorem q879 : (Jvm.Cond.instanceMethod ({ cls := "DayBoy$Head", name := "nextMonth", desc := "(I)I" } : Jvm.MethodName)) ∈ lw_all := lw_g (lw_at lw_m4 56 rfl) rfl
theorem q880 : (Jvm.Cond.selects "DayBoy$Head" ({ cls := "DayBoy$Head", name := "nextMonth", desc := "(I)I" } : Jvm.MethodName) ({ cls := "DayBoy$Head", name := "nextMonth", desc := "(I)I" } : Jvm.MethodName)) ∈ lw_all := lw_g (lw_at lw_m4 57 rfl) rfl
theorem q881 : (Jvm.Cond.code ({ cls := "DayBoy$Head", name := "nextMonth", desc := "(I)I" } : Jvm.MethodName) prog_7_method_10_code (5 : Nat) (Option.some Jvm.ClassFile.FieldType.int)) ∈ lw_all := lw_g (lw_at lw_m4 58 rfl) rfl
theorem q883 : (Jvm.Cond.instanceMethod ({ cls := "DayBoy$Head", name := "steps", desc := "(I)I" } : Jvm.MethodName)) ∈ lw_all := lw_g (lw_at lw_m4 60 rfl) rfl
theorem q884 : (Jvm.Cond.selects "DayBoy$Head" ({ cls := "DayBoy$Head", name := "steps", desc := "(I)I" } : Jvm.MethodName) ({ cls := "DayBoy$Head", name := "steps", desc := "(I)I" } : Jvm.MethodName)) ∈ lw_all := lw_g (lw_at lw_m4 61 rfl) rfl
theorem q885 : (Jvm.Cond.code ({ cls := "DayBoy$Head", name := "steps", desc := "(I)I" } : Jvm.MethodName) prog_7_method_13_code (2 : Nat) (Option.some Jvm.ClassFile.FieldType.int)) ∈ lw_all := lw_g (lw_at lw_m4 62 rfl) rfl
theorem q887 : (Jvm.Cond.instanceMethod ({ cls := "DayBoy$Head", name := "monthSteps", desc := "(I)I" } : Jvm.MethodName)) ∈ lw_all := lw_g (lw_at lw_m4 64 rfl) rfl
theorem q888 : (Jvm.Cond.selects "DayBoy$Head" ({ cls := "DayBoy$Head", name := "monthSteps", desc := "(I)I" } : Jvm.MethodName) ({ cls := "DayBoy$Head", name := "monthSteps", desc := "(I)I" } : Jvm.MethodName)) ∈ lw_all := lw_g (lw_at lw_m4 65 rfl) rfl
theorem q889 : (Jvm.Cond.code ({ cls := "DayBoy$Head", name := "monthSteps", desc := "(I)I" } : Jvm.MethodName) prog_7_method_14_code (2 : Nat) (Option.some Jvm.ClassFile.FieldType.int)) ∈ lw_all := lw_g (lw_at lw_m4 66 rfl) rfl
theorem q1916 : (Jvm.Cond.castable "DayBoy$Head" "java/lang/Object") ∈ lw_tbl := lw_at lw_m8 133 rfl
theorem in_X5 : ∀ w ∈ wsX50, w ∈ lw_all := lw_in wsX50 [252, 254, 256, 258, 260, 262, 264, 266, 268, 270, 272, 274, 276, 278, 280, 282, 284, 286, 288, 290, 292, 294] (by decide +kernel) (by decide +kernel)
/-! DayBoy$Reader -/
set_option maxRecDepth 100000
def RX7 : String := "DayBoy$Reader"
def TX7 : u_T := fun k => match k with
  | 0 => ("DayBoy$Reader", "at", "I", false)
  | 1 => ("DayBoy$Reader", "letters", "I", false)
  | _ => ("DayBoy$Reader", "this$0", "LDayBoy;", true)
def tyX7 : Nat → FieldType := fun k => match k with
  | 0 => .int
  | 1 => .int
  | _ => .object "DayBoy"
abbrev wsX70 : List Cond := u_ws RX7 TX7 3
theorem nmX7 : ∀ a, a < 3 → ∀ b, b < 3 → a ≠ b → (TX7 a).2.1 ≠ (TX7 b).2.1 := by decide +kernel
theorem tyX7_ok : ∀ k, k < 3 → parseFieldDescriptor (TX7 k).2.2.1 = some (tyX7 k) := by decide +kernel
abbrev cX7_init : ByteArray := prog_12_method_1_code
def yX7_init : MethodName := ⟨RX7, "<init>", "(LDayBoy;)V"⟩
def dkwX7_init_0 : List UInt8 := [42, 43, 181, 0, 3, 42, 183, 0, 9, 177]
abbrev dktX7_init_0 : List UInt8 := dkwX7_init_0 ++ []
theorem dksX7_init_0 : cX7_init.data.toList.drop 0 = dktX7_init_0 := by decide +kernel
theorem dX7_init_0 : decode cX7_init 0 = .ok (.aload_n 0, 1) := dk_42 (dk_at dksX7_init_0 0 rfl rfl)
theorem dX7_init_1 : decode cX7_init 1 = .ok (.aload_n 1, 1) := dk_43 (dk_at dksX7_init_0 1 rfl rfl)
theorem dX7_init_2 : decode cX7_init 2 = .ok (.putfield 3, 3) := dk_181 0 3 (dk_at dksX7_init_0 2 rfl rfl)
theorem dX7_init_5 : decode cX7_init 5 = .ok (.aload_n 0, 1) := dk_42 (dk_at dksX7_init_0 5 rfl rfl)
theorem dX7_init_6 : decode cX7_init 6 = .ok (.invokespecial 9, 3) := dk_183 0 9 (dk_at dksX7_init_0 6 rfl rfl)
theorem dX7_init_9 : decode cX7_init 9 = .ok (.return_, 1) := dk_177 (dk_at dksX7_init_0 9 rfl rfl)
abbrev cX7_calendar : ByteArray := prog_12_method_10_code
def yX7_calendar : MethodName := ⟨RX7, "calendar", "()V"⟩
def dkwX7_calendar_4 : List UInt8 := [16, 31, 182, 0, 94, 181, 0, 100, 177]
abbrev dktX7_calendar_4 : List UInt8 := dkwX7_calendar_4 ++ []
def dkwX7_calendar_3 : List UInt8 := [167, 255, 224, 42, 182, 0, 87, 43, 182, 0, 90, 43, 182, 0, 90, 180, 0, 74, 17, 39, 15, 16, 12]
abbrev dktX7_calendar_3 : List UInt8 := dkwX7_calendar_3 ++ dktX7_calendar_4
def dkwX7_calendar_2 : List UInt8 := [42, 43, 180, 0, 58, 6, 163, 0, 7, 4, 167, 0, 4, 3, 182, 0, 38, 62, 42, 43, 182, 0, 83]
abbrev dktX7_calendar_2 : List UInt8 := dkwX7_calendar_2 ++ dktX7_calendar_3
def dkwX7_calendar_1 : List UInt8 := [182, 0, 67, 42, 43, 28, 182, 0, 70, 180, 0, 74, 182, 0, 80, 42, 182, 0, 35, 16, 64, 160, 0, 29]
abbrev dktX7_calendar_1 : List UInt8 := dkwX7_calendar_1 ++ dktX7_calendar_2
def dkwX7_calendar_0 : List UInt8 := [42, 180, 0, 3, 180, 0, 54, 76, 43, 3, 181, 0, 58, 42, 3, 16, 9, 182, 0, 63, 61, 42, 16, 58]
abbrev dktX7_calendar_0 : List UInt8 := dkwX7_calendar_0 ++ dktX7_calendar_1
theorem dksX7_calendar_0 : cX7_calendar.data.toList.drop 0 = dktX7_calendar_0 := by decide +kernel
theorem dksX7_calendar_1 : cX7_calendar.data.toList.drop 24 = dktX7_calendar_1 := dk_seg dksX7_calendar_0 24 rfl rfl
theorem dksX7_calendar_2 : cX7_calendar.data.toList.drop 48 = dktX7_calendar_2 := dk_seg dksX7_calendar_1 24 rfl rfl
theorem dksX7_calendar_3 : cX7_calendar.data.toList.drop 71 = dktX7_calendar_3 := dk_seg dksX7_calendar_2 23 rfl rfl
theorem dksX7_calendar_4 : cX7_calendar.data.toList.drop 94 = dktX7_calendar_4 := dk_seg dksX7_calendar_3 23 rfl rfl
theorem dX7_calendar_0 : decode cX7_calendar 0 = .ok (.aload_n 0, 1) := dk_42 (dk_at dksX7_calendar_0 0 rfl rfl)
theorem dX7_calendar_1 : decode cX7_calendar 1 = .ok (.getfield 3, 3) := dk_180 0 3 (dk_at dksX7_calendar_0 1 rfl rfl)
theorem dX7_calendar_4 : decode cX7_calendar 4 = .ok (.getfield 54, 3) := dk_180 0 54 (dk_at dksX7_calendar_0 4 rfl rfl)
theorem dX7_calendar_7 : decode cX7_calendar 7 = .ok (.astore_n 1, 1) := dk_76 (dk_at dksX7_calendar_0 7 rfl rfl)
theorem dX7_calendar_8 : decode cX7_calendar 8 = .ok (.aload_n 1, 1) := dk_43 (dk_at dksX7_calendar_0 8 rfl rfl)
theorem dX7_calendar_9 : decode cX7_calendar 9 = .ok (.iconst 0, 1) := dk_3 (dk_at dksX7_calendar_0 9 rfl rfl)
theorem dX7_calendar_10 : decode cX7_calendar 10 = .ok (.putfield 58, 3) := dk_181 0 58 (dk_at dksX7_calendar_0 10 rfl rfl)
theorem dX7_calendar_13 : decode cX7_calendar 13 = .ok (.aload_n 0, 1) := dk_42 (dk_at dksX7_calendar_0 13 rfl rfl)
theorem dX7_calendar_14 : decode cX7_calendar 14 = .ok (.iconst 0, 1) := dk_3 (dk_at dksX7_calendar_0 14 rfl rfl)
theorem dX7_calendar_15 : decode cX7_calendar 15 = .ok (.bipush 9, 2) := dk_16 9 (dk_at dksX7_calendar_0 15 rfl rfl)
theorem dX7_calendar_17 : decode cX7_calendar 17 = .ok (.invokevirtual 63, 3) := dk_182 0 63 (dk_at dksX7_calendar_0 17 rfl rfl)
theorem dX7_calendar_20 : decode cX7_calendar 20 = .ok (.istore_n 2, 1) := dk_61 (dk_at dksX7_calendar_0 20 rfl rfl)
theorem dX7_calendar_21 : decode cX7_calendar 21 = .ok (.aload_n 0, 1) := dk_42 (dk_at dksX7_calendar_0 21 rfl rfl)
theorem dX7_calendar_22 : decode cX7_calendar 22 = .ok (.bipush 58, 2) := dk_16 58 (dk_at dksX7_calendar_0 22 rfl rfl)
theorem dX7_calendar_24 : decode cX7_calendar 24 = .ok (.invokevirtual 67, 3) := dk_182 0 67 (dk_at dksX7_calendar_1 0 rfl rfl)
theorem dX7_calendar_27 : decode cX7_calendar 27 = .ok (.aload_n 0, 1) := dk_42 (dk_at dksX7_calendar_1 3 rfl rfl)
theorem dX7_calendar_28 : decode cX7_calendar 28 = .ok (.aload_n 1, 1) := dk_43 (dk_at dksX7_calendar_1 4 rfl rfl)
theorem dX7_calendar_29 : decode cX7_calendar 29 = .ok (.iload_n 2, 1) := dk_28 (dk_at dksX7_calendar_1 5 rfl rfl)
theorem dX7_calendar_30 : decode cX7_calendar 30 = .ok (.invokevirtual 70, 3) := dk_182 0 70 (dk_at dksX7_calendar_1 6 rfl rfl)
theorem dX7_calendar_33 : decode cX7_calendar 33 = .ok (.getfield 74, 3) := dk_180 0 74 (dk_at dksX7_calendar_1 9 rfl rfl)
theorem dX7_calendar_36 : decode cX7_calendar 36 = .ok (.invokevirtual 80, 3) := dk_182 0 80 (dk_at dksX7_calendar_1 12 rfl rfl)
theorem dX7_calendar_39 : decode cX7_calendar 39 = .ok (.aload_n 0, 1) := dk_42 (dk_at dksX7_calendar_1 15 rfl rfl)
theorem dX7_calendar_40 : decode cX7_calendar 40 = .ok (.invokevirtual 35, 3) := dk_182 0 35 (dk_at dksX7_calendar_1 16 rfl rfl)
theorem dX7_calendar_43 : decode cX7_calendar 43 = .ok (.bipush 64, 2) := dk_16 64 (dk_at dksX7_calendar_1 19 rfl rfl)
theorem dX7_calendar_45 : decode cX7_calendar 45 = .ok (.if_icmp .ne 29, 3) := dk_160 0 29 (dk_at dksX7_calendar_1 21 rfl rfl)
theorem dX7_calendar_48 : decode cX7_calendar 48 = .ok (.aload_n 0, 1) := dk_42 (dk_at dksX7_calendar_2 0 rfl rfl)
theorem dX7_calendar_49 : decode cX7_calendar 49 = .ok (.aload_n 1, 1) := dk_43 (dk_at dksX7_calendar_2 1 rfl rfl)
theorem dX7_calendar_50 : decode cX7_calendar 50 = .ok (.getfield 58, 3) := dk_180 0 58 (dk_at dksX7_calendar_2 2 rfl rfl)
theorem dX7_calendar_53 : decode cX7_calendar 53 = .ok (.iconst 3, 1) := dk_6 (dk_at dksX7_calendar_2 5 rfl rfl)
theorem dX7_calendar_54 : decode cX7_calendar 54 = .ok (.if_icmp .gt 7, 3) := dk_163 0 7 (dk_at dksX7_calendar_2 6 rfl rfl)
theorem dX7_calendar_57 : decode cX7_calendar 57 = .ok (.iconst 1, 1) := dk_4 (dk_at dksX7_calendar_2 9 rfl rfl)
theorem dX7_calendar_58 : decode cX7_calendar 58 = .ok (.goto 4, 3) := dk_167 0 4 (dk_at dksX7_calendar_2 10 rfl rfl)
theorem dX7_calendar_61 : decode cX7_calendar 61 = .ok (.iconst 0, 1) := dk_3 (dk_at dksX7_calendar_2 13 rfl rfl)
theorem dX7_calendar_62 : decode cX7_calendar 62 = .ok (.invokevirtual 38, 3) := dk_182 0 38 (dk_at dksX7_calendar_2 14 rfl rfl)
theorem dX7_calendar_65 : decode cX7_calendar 65 = .ok (.istore_n 3, 1) := dk_62 (dk_at dksX7_calendar_2 17 rfl rfl)
theorem dX7_calendar_66 : decode cX7_calendar 66 = .ok (.aload_n 0, 1) := dk_42 (dk_at dksX7_calendar_2 18 rfl rfl)
theorem dX7_calendar_67 : decode cX7_calendar 67 = .ok (.aload_n 1, 1) := dk_43 (dk_at dksX7_calendar_2 19 rfl rfl)
theorem dX7_calendar_68 : decode cX7_calendar 68 = .ok (.invokevirtual 83, 3) := dk_182 0 83 (dk_at dksX7_calendar_2 20 rfl rfl)
theorem dX7_calendar_71 : decode cX7_calendar 71 = .ok (.goto (-32), 3) := dk_167 255 224 (dk_at dksX7_calendar_3 0 rfl rfl)
theorem dX7_calendar_74 : decode cX7_calendar 74 = .ok (.aload_n 0, 1) := dk_42 (dk_at dksX7_calendar_3 3 rfl rfl)
theorem dX7_calendar_75 : decode cX7_calendar 75 = .ok (.invokevirtual 87, 3) := dk_182 0 87 (dk_at dksX7_calendar_3 4 rfl rfl)
theorem dX7_calendar_78 : decode cX7_calendar 78 = .ok (.aload_n 1, 1) := dk_43 (dk_at dksX7_calendar_3 7 rfl rfl)
theorem dX7_calendar_79 : decode cX7_calendar 79 = .ok (.invokevirtual 90, 3) := dk_182 0 90 (dk_at dksX7_calendar_3 8 rfl rfl)
theorem dX7_calendar_82 : decode cX7_calendar 82 = .ok (.aload_n 1, 1) := dk_43 (dk_at dksX7_calendar_3 11 rfl rfl)
theorem dX7_calendar_83 : decode cX7_calendar 83 = .ok (.invokevirtual 90, 3) := dk_182 0 90 (dk_at dksX7_calendar_3 12 rfl rfl)
theorem dX7_calendar_86 : decode cX7_calendar 86 = .ok (.getfield 74, 3) := dk_180 0 74 (dk_at dksX7_calendar_3 15 rfl rfl)
theorem dX7_calendar_89 : decode cX7_calendar 89 = .ok (.sipush 9999, 3) := dk_17 39 15 (dk_at dksX7_calendar_3 18 rfl rfl)
theorem dX7_calendar_92 : decode cX7_calendar 92 = .ok (.bipush 12, 2) := dk_16 12 (dk_at dksX7_calendar_3 21 rfl rfl)
theorem dX7_calendar_94 : decode cX7_calendar 94 = .ok (.bipush 31, 2) := dk_16 31 (dk_at dksX7_calendar_4 0 rfl rfl)
theorem dX7_calendar_96 : decode cX7_calendar 96 = .ok (.invokevirtual 94, 3) := dk_182 0 94 (dk_at dksX7_calendar_4 2 rfl rfl)
theorem dX7_calendar_99 : decode cX7_calendar 99 = .ok (.putfield 100, 3) := dk_181 0 100 (dk_at dksX7_calendar_4 5 rfl rfl)
theorem dX7_calendar_102 : decode cX7_calendar 102 = .ok (.return_, 1) := dk_177 (dk_at dksX7_calendar_4 8 rfl rfl)
abbrev cX7_number : ByteArray := prog_12_method_7_code
def yX7_number : MethodName := ⟨RX7, "number", "(II)I"⟩
def dkwX7_number_3 : List UInt8 := [183, 0, 32, 191, 42, 21, 4, 21, 4, 133, 27, 133, 28, 133, 184, 0, 46, 182, 0, 50, 172]
abbrev dktX7_number_3 : List UInt8 := dkwX7_number_3 ++ []
def dkwX7_number_2 : List UInt8 := [54, 4, 132, 5, 1, 167, 255, 224, 42, 182, 0, 42, 153, 0, 15, 187, 0, 30, 89, 42, 180, 0, 15]
abbrev dktX7_number_2 : List UInt8 := dkwX7_number_2 ++ dktX7_number_3
def dkwX7_number_1 : List UInt8 := [162, 0, 32, 42, 182, 0, 42, 153, 0, 25, 16, 10, 21, 4, 104, 42, 4, 182, 0, 38, 96, 16, 48, 100]
abbrev dktX7_number_1 : List UInt8 := dkwX7_number_1 ++ dktX7_number_2
def dkwX7_number_0 : List UInt8 := [42, 182, 0, 35, 62, 42, 42, 182, 0, 42, 182, 0, 38, 16, 48, 100, 54, 4, 4, 54, 5, 21, 5, 7]
abbrev dktX7_number_0 : List UInt8 := dkwX7_number_0 ++ dktX7_number_1
theorem dksX7_number_0 : cX7_number.data.toList.drop 0 = dktX7_number_0 := by decide +kernel
theorem dksX7_number_1 : cX7_number.data.toList.drop 24 = dktX7_number_1 := dk_seg dksX7_number_0 24 rfl rfl
theorem dksX7_number_2 : cX7_number.data.toList.drop 48 = dktX7_number_2 := dk_seg dksX7_number_1 24 rfl rfl
theorem dksX7_number_3 : cX7_number.data.toList.drop 71 = dktX7_number_3 := dk_seg dksX7_number_2 23 rfl rfl
theorem dX7_number_0 : decode cX7_number 0 = .ok (.aload_n 0, 1) := dk_42 (dk_at dksX7_number_0 0 rfl rfl)
theorem dX7_number_1 : decode cX7_number 1 = .ok (.invokevirtual 35, 3) := dk_182 0 35 (dk_at dksX7_number_0 1 rfl rfl)
theorem dX7_number_4 : decode cX7_number 4 = .ok (.istore_n 3, 1) := dk_62 (dk_at dksX7_number_0 4 rfl rfl)
theorem dX7_number_5 : decode cX7_number 5 = .ok (.aload_n 0, 1) := dk_42 (dk_at dksX7_number_0 5 rfl rfl)
theorem dX7_number_6 : decode cX7_number 6 = .ok (.aload_n 0, 1) := dk_42 (dk_at dksX7_number_0 6 rfl rfl)
theorem dX7_number_7 : decode cX7_number 7 = .ok (.invokevirtual 42, 3) := dk_182 0 42 (dk_at dksX7_number_0 7 rfl rfl)
theorem dX7_number_10 : decode cX7_number 10 = .ok (.invokevirtual 38, 3) := dk_182 0 38 (dk_at dksX7_number_0 10 rfl rfl)
theorem dX7_number_13 : decode cX7_number 13 = .ok (.bipush 48, 2) := dk_16 48 (dk_at dksX7_number_0 13 rfl rfl)
theorem dX7_number_15 : decode cX7_number 15 = .ok (.isub, 1) := dk_100 (dk_at dksX7_number_0 15 rfl rfl)
theorem dX7_number_16 : decode cX7_number 16 = .ok (.istore 4, 2) := dk_54 4 (dk_at dksX7_number_0 16 rfl rfl)
theorem dX7_number_18 : decode cX7_number 18 = .ok (.iconst 1, 1) := dk_4 (dk_at dksX7_number_0 18 rfl rfl)
theorem dX7_number_19 : decode cX7_number 19 = .ok (.istore 5, 2) := dk_54 5 (dk_at dksX7_number_0 19 rfl rfl)
theorem dX7_number_21 : decode cX7_number 21 = .ok (.iload 5, 2) := dk_21 5 (dk_at dksX7_number_0 21 rfl rfl)
theorem dX7_number_23 : decode cX7_number 23 = .ok (.iconst 4, 1) := dk_7 (dk_at dksX7_number_0 23 rfl rfl)
theorem dX7_number_24 : decode cX7_number 24 = .ok (.if_icmp .ge 32, 3) := dk_162 0 32 (dk_at dksX7_number_1 0 rfl rfl)
theorem dX7_number_27 : decode cX7_number 27 = .ok (.aload_n 0, 1) := dk_42 (dk_at dksX7_number_1 3 rfl rfl)
theorem dX7_number_28 : decode cX7_number 28 = .ok (.invokevirtual 42, 3) := dk_182 0 42 (dk_at dksX7_number_1 4 rfl rfl)
theorem dX7_number_31 : decode cX7_number 31 = .ok (.ifCond .eq 25, 3) := dk_153 0 25 (dk_at dksX7_number_1 7 rfl rfl)
theorem dX7_number_34 : decode cX7_number 34 = .ok (.bipush 10, 2) := dk_16 10 (dk_at dksX7_number_1 10 rfl rfl)
theorem dX7_number_36 : decode cX7_number 36 = .ok (.iload 4, 2) := dk_21 4 (dk_at dksX7_number_1 12 rfl rfl)
theorem dX7_number_38 : decode cX7_number 38 = .ok (.imul, 1) := dk_104 (dk_at dksX7_number_1 14 rfl rfl)
theorem dX7_number_39 : decode cX7_number 39 = .ok (.aload_n 0, 1) := dk_42 (dk_at dksX7_number_1 15 rfl rfl)
theorem dX7_number_40 : decode cX7_number 40 = .ok (.iconst 1, 1) := dk_4 (dk_at dksX7_number_1 16 rfl rfl)
theorem dX7_number_41 : decode cX7_number 41 = .ok (.invokevirtual 38, 3) := dk_182 0 38 (dk_at dksX7_number_1 17 rfl rfl)
theorem dX7_number_44 : decode cX7_number 44 = .ok (.iadd, 1) := dk_96 (dk_at dksX7_number_1 20 rfl rfl)
theorem dX7_number_45 : decode cX7_number 45 = .ok (.bipush 48, 2) := dk_16 48 (dk_at dksX7_number_1 21 rfl rfl)
theorem dX7_number_47 : decode cX7_number 47 = .ok (.isub, 1) := dk_100 (dk_at dksX7_number_1 23 rfl rfl)
theorem dX7_number_48 : decode cX7_number 48 = .ok (.istore 4, 2) := dk_54 4 (dk_at dksX7_number_2 0 rfl rfl)
theorem dX7_number_50 : decode cX7_number 50 = .ok (.iinc 5 1, 3) := dk_132 5 1 (dk_at dksX7_number_2 2 rfl rfl)
theorem dX7_number_53 : decode cX7_number 53 = .ok (.goto (-32), 3) := dk_167 255 224 (dk_at dksX7_number_2 5 rfl rfl)
theorem dX7_number_56 : decode cX7_number 56 = .ok (.aload_n 0, 1) := dk_42 (dk_at dksX7_number_2 8 rfl rfl)
theorem dX7_number_57 : decode cX7_number 57 = .ok (.invokevirtual 42, 3) := dk_182 0 42 (dk_at dksX7_number_2 9 rfl rfl)
theorem dX7_number_60 : decode cX7_number 60 = .ok (.ifCond .eq 15, 3) := dk_153 0 15 (dk_at dksX7_number_2 12 rfl rfl)
theorem dX7_number_63 : decode cX7_number 63 = .ok (.new 30, 3) := dk_187 0 30 (dk_at dksX7_number_2 15 rfl rfl)
theorem dX7_number_66 : decode cX7_number 66 = .ok (.dup, 1) := dk_89 (dk_at dksX7_number_2 18 rfl rfl)
theorem dX7_number_67 : decode cX7_number 67 = .ok (.aload_n 0, 1) := dk_42 (dk_at dksX7_number_2 19 rfl rfl)
theorem dX7_number_68 : decode cX7_number 68 = .ok (.getfield 15, 3) := dk_180 0 15 (dk_at dksX7_number_2 20 rfl rfl)
theorem dX7_number_71 : decode cX7_number 71 = .ok (.invokespecial 32, 3) := dk_183 0 32 (dk_at dksX7_number_3 0 rfl rfl)
theorem dX7_number_74 : decode cX7_number 74 = .ok (.athrow, 1) := dk_191 (dk_at dksX7_number_3 3 rfl rfl)
theorem dX7_number_75 : decode cX7_number 75 = .ok (.aload_n 0, 1) := dk_42 (dk_at dksX7_number_3 4 rfl rfl)
theorem dX7_number_76 : decode cX7_number 76 = .ok (.iload 4, 2) := dk_21 4 (dk_at dksX7_number_3 5 rfl rfl)
theorem dX7_number_78 : decode cX7_number 78 = .ok (.iload 4, 2) := dk_21 4 (dk_at dksX7_number_3 7 rfl rfl)
theorem dX7_number_80 : decode cX7_number 80 = .ok (.i2l, 1) := dk_133 (dk_at dksX7_number_3 9 rfl rfl)
theorem dX7_number_81 : decode cX7_number 81 = .ok (.iload_n 1, 1) := dk_27 (dk_at dksX7_number_3 10 rfl rfl)
theorem dX7_number_82 : decode cX7_number 82 = .ok (.i2l, 1) := dk_133 (dk_at dksX7_number_3 11 rfl rfl)
theorem dX7_number_83 : decode cX7_number 83 = .ok (.iload_n 2, 1) := dk_28 (dk_at dksX7_number_3 12 rfl rfl)
theorem dX7_number_84 : decode cX7_number 84 = .ok (.i2l, 1) := dk_133 (dk_at dksX7_number_3 13 rfl rfl)
theorem dX7_number_85 : decode cX7_number 85 = .ok (.invokestatic 46, 3) := dk_184 0 46 (dk_at dksX7_number_3 14 rfl rfl)
theorem dX7_number_88 : decode cX7_number 88 = .ok (.invokevirtual 50, 3) := dk_182 0 50 (dk_at dksX7_number_3 17 rfl rfl)
theorem dX7_number_91 : decode cX7_number 91 = .ok (.ireturn, 1) := dk_172 (dk_at dksX7_number_3 20 rfl rfl)
abbrev cX7_look : ByteArray := prog_12_method_3_code
def yX7_look : MethodName := ⟨RX7, "look", "()I"⟩
def dkwX7_look_1 : List UInt8 := [182, 0, 26, 172]
abbrev dktX7_look_1 : List UInt8 := dkwX7_look_1 ++ []
def dkwX7_look_0 : List UInt8 := [42, 182, 0, 26, 16, 32, 160, 0, 16, 42, 89, 180, 0, 15, 4, 96, 181, 0, 15, 167, 255, 237, 42]
abbrev dktX7_look_0 : List UInt8 := dkwX7_look_0 ++ dktX7_look_1
theorem dksX7_look_0 : cX7_look.data.toList.drop 0 = dktX7_look_0 := by decide +kernel
theorem dksX7_look_1 : cX7_look.data.toList.drop 23 = dktX7_look_1 := dk_seg dksX7_look_0 23 rfl rfl
theorem dX7_look_0 : decode cX7_look 0 = .ok (.aload_n 0, 1) := dk_42 (dk_at dksX7_look_0 0 rfl rfl)
theorem dX7_look_1 : decode cX7_look 1 = .ok (.invokevirtual 26, 3) := dk_182 0 26 (dk_at dksX7_look_0 1 rfl rfl)
theorem dX7_look_4 : decode cX7_look 4 = .ok (.bipush 32, 2) := dk_16 32 (dk_at dksX7_look_0 4 rfl rfl)
theorem dX7_look_6 : decode cX7_look 6 = .ok (.if_icmp .ne 16, 3) := dk_160 0 16 (dk_at dksX7_look_0 6 rfl rfl)
theorem dX7_look_9 : decode cX7_look 9 = .ok (.aload_n 0, 1) := dk_42 (dk_at dksX7_look_0 9 rfl rfl)
theorem dX7_look_10 : decode cX7_look 10 = .ok (.dup, 1) := dk_89 (dk_at dksX7_look_0 10 rfl rfl)
theorem dX7_look_11 : decode cX7_look 11 = .ok (.getfield 15, 3) := dk_180 0 15 (dk_at dksX7_look_0 11 rfl rfl)
theorem dX7_look_14 : decode cX7_look 14 = .ok (.iconst 1, 1) := dk_4 (dk_at dksX7_look_0 14 rfl rfl)
theorem dX7_look_15 : decode cX7_look 15 = .ok (.iadd, 1) := dk_96 (dk_at dksX7_look_0 15 rfl rfl)
theorem dX7_look_16 : decode cX7_look 16 = .ok (.putfield 15, 3) := dk_181 0 15 (dk_at dksX7_look_0 16 rfl rfl)
theorem dX7_look_19 : decode cX7_look 19 = .ok (.goto (-19), 3) := dk_167 255 237 (dk_at dksX7_look_0 19 rfl rfl)
theorem dX7_look_22 : decode cX7_look 22 = .ok (.aload_n 0, 1) := dk_42 (dk_at dksX7_look_0 22 rfl rfl)
theorem dX7_look_23 : decode cX7_look 23 = .ok (.invokevirtual 26, 3) := dk_182 0 26 (dk_at dksX7_look_1 0 rfl rfl)
theorem dX7_look_26 : decode cX7_look 26 = .ok (.ireturn, 1) := dk_172 (dk_at dksX7_look_1 3 rfl rfl)
abbrev cX7_here : ByteArray := prog_12_method_2_code
def yX7_here : MethodName := ⟨RX7, "here", "()I"⟩
def dkwX7_here_1 : List UInt8 := [180, 0, 15, 51, 17, 0, 255, 126, 167, 0, 4, 2, 172]
abbrev dktX7_here_1 : List UInt8 := dkwX7_here_1 ++ []
def dkwX7_here_0 : List UInt8 := [42, 180, 0, 15, 42, 180, 0, 3, 180, 0, 19, 162, 0, 22, 42, 180, 0, 3, 180, 0, 22, 42]
abbrev dktX7_here_0 : List UInt8 := dkwX7_here_0 ++ dktX7_here_1
theorem dksX7_here_0 : cX7_here.data.toList.drop 0 = dktX7_here_0 := by decide +kernel
theorem dksX7_here_1 : cX7_here.data.toList.drop 22 = dktX7_here_1 := dk_seg dksX7_here_0 22 rfl rfl
theorem dX7_here_0 : decode cX7_here 0 = .ok (.aload_n 0, 1) := dk_42 (dk_at dksX7_here_0 0 rfl rfl)
theorem dX7_here_1 : decode cX7_here 1 = .ok (.getfield 15, 3) := dk_180 0 15 (dk_at dksX7_here_0 1 rfl rfl)
theorem dX7_here_4 : decode cX7_here 4 = .ok (.aload_n 0, 1) := dk_42 (dk_at dksX7_here_0 4 rfl rfl)
theorem dX7_here_5 : decode cX7_here 5 = .ok (.getfield 3, 3) := dk_180 0 3 (dk_at dksX7_here_0 5 rfl rfl)
theorem dX7_here_8 : decode cX7_here 8 = .ok (.getfield 19, 3) := dk_180 0 19 (dk_at dksX7_here_0 8 rfl rfl)
theorem dX7_here_11 : decode cX7_here 11 = .ok (.if_icmp .ge 22, 3) := dk_162 0 22 (dk_at dksX7_here_0 11 rfl rfl)
theorem dX7_here_14 : decode cX7_here 14 = .ok (.aload_n 0, 1) := dk_42 (dk_at dksX7_here_0 14 rfl rfl)
theorem dX7_here_15 : decode cX7_here 15 = .ok (.getfield 3, 3) := dk_180 0 3 (dk_at dksX7_here_0 15 rfl rfl)
theorem dX7_here_18 : decode cX7_here 18 = .ok (.getfield 22, 3) := dk_180 0 22 (dk_at dksX7_here_0 18 rfl rfl)
theorem dX7_here_21 : decode cX7_here 21 = .ok (.aload_n 0, 1) := dk_42 (dk_at dksX7_here_0 21 rfl rfl)
theorem dX7_here_22 : decode cX7_here 22 = .ok (.getfield 15, 3) := dk_180 0 15 (dk_at dksX7_here_1 0 rfl rfl)
theorem dX7_here_25 : decode cX7_here 25 = .ok (.baload, 1) := dk_51 (dk_at dksX7_here_1 3 rfl rfl)
theorem dX7_here_26 : decode cX7_here 26 = .ok (.sipush 255, 3) := dk_17 0 255 (dk_at dksX7_here_1 4 rfl rfl)
theorem dX7_here_29 : decode cX7_here 29 = .ok (.iand, 1) := dk_126 (dk_at dksX7_here_1 7 rfl rfl)
theorem dX7_here_30 : decode cX7_here 30 = .ok (.goto 4, 3) := dk_167 0 4 (dk_at dksX7_here_1 8 rfl rfl)
theorem dX7_here_33 : decode cX7_here 33 = .ok (.iconst (-1), 1) := dk_2 (dk_at dksX7_here_1 11 rfl rfl)
theorem dX7_here_34 : decode cX7_here 34 = .ok (.ireturn, 1) := dk_172 (dk_at dksX7_here_1 12 rfl rfl)
abbrev cX7_isDigit : ByteArray := prog_12_method_6_code
def yX7_isDigit : MethodName := ⟨RX7, "isDigit", "()Z"⟩
def dkwX7_isDigit_0 : List UInt8 := [42, 182, 0, 26, 16, 48, 161, 0, 16, 42, 182, 0, 26, 16, 57, 163, 0, 7, 4, 167, 0, 4, 3, 172]
abbrev dktX7_isDigit_0 : List UInt8 := dkwX7_isDigit_0 ++ []
theorem dksX7_isDigit_0 : cX7_isDigit.data.toList.drop 0 = dktX7_isDigit_0 := by decide +kernel
theorem dX7_isDigit_0 : decode cX7_isDigit 0 = .ok (.aload_n 0, 1) := dk_42 (dk_at dksX7_isDigit_0 0 rfl rfl)
theorem dX7_isDigit_1 : decode cX7_isDigit 1 = .ok (.invokevirtual 26, 3) := dk_182 0 26 (dk_at dksX7_isDigit_0 1 rfl rfl)
theorem dX7_isDigit_4 : decode cX7_isDigit 4 = .ok (.bipush 48, 2) := dk_16 48 (dk_at dksX7_isDigit_0 4 rfl rfl)
theorem dX7_isDigit_6 : decode cX7_isDigit 6 = .ok (.if_icmp .lt 16, 3) := dk_161 0 16 (dk_at dksX7_isDigit_0 6 rfl rfl)
theorem dX7_isDigit_9 : decode cX7_isDigit 9 = .ok (.aload_n 0, 1) := dk_42 (dk_at dksX7_isDigit_0 9 rfl rfl)
theorem dX7_isDigit_10 : decode cX7_isDigit 10 = .ok (.invokevirtual 26, 3) := dk_182 0 26 (dk_at dksX7_isDigit_0 10 rfl rfl)
theorem dX7_isDigit_13 : decode cX7_isDigit 13 = .ok (.bipush 57, 2) := dk_16 57 (dk_at dksX7_isDigit_0 13 rfl rfl)
theorem dX7_isDigit_15 : decode cX7_isDigit 15 = .ok (.if_icmp .gt 7, 3) := dk_163 0 7 (dk_at dksX7_isDigit_0 15 rfl rfl)
theorem dX7_isDigit_18 : decode cX7_isDigit 18 = .ok (.iconst 1, 1) := dk_4 (dk_at dksX7_isDigit_0 18 rfl rfl)
theorem dX7_isDigit_19 : decode cX7_isDigit 19 = .ok (.goto 4, 3) := dk_167 0 4 (dk_at dksX7_isDigit_0 19 rfl rfl)
theorem dX7_isDigit_22 : decode cX7_isDigit 22 = .ok (.iconst 0, 1) := dk_3 (dk_at dksX7_isDigit_0 22 rfl rfl)
theorem dX7_isDigit_23 : decode cX7_isDigit 23 = .ok (.ireturn, 1) := dk_172 (dk_at dksX7_isDigit_0 23 rfl rfl)
abbrev cX7_take : ByteArray := prog_12_method_4_code
def yX7_take : MethodName := ⟨RX7, "take", "(Z)I"⟩
def dkwX7_take_1 : List UInt8 := [181, 0, 15, 42, 180, 0, 3, 180, 0, 22, 42, 180, 0, 15, 4, 100, 51, 172]
abbrev dktX7_take_1 : List UInt8 := dkwX7_take_1 ++ []
def dkwX7_take_0 : List UInt8 := [27, 154, 0, 15, 187, 0, 30, 89, 42, 180, 0, 15, 183, 0, 32, 191, 42, 89, 180, 0, 15, 4, 96]
abbrev dktX7_take_0 : List UInt8 := dkwX7_take_0 ++ dktX7_take_1
theorem dksX7_take_0 : cX7_take.data.toList.drop 0 = dktX7_take_0 := by decide +kernel
theorem dksX7_take_1 : cX7_take.data.toList.drop 23 = dktX7_take_1 := dk_seg dksX7_take_0 23 rfl rfl
theorem dX7_take_0 : decode cX7_take 0 = .ok (.iload_n 1, 1) := dk_27 (dk_at dksX7_take_0 0 rfl rfl)
theorem dX7_take_1 : decode cX7_take 1 = .ok (.ifCond .ne 15, 3) := dk_154 0 15 (dk_at dksX7_take_0 1 rfl rfl)
theorem dX7_take_4 : decode cX7_take 4 = .ok (.new 30, 3) := dk_187 0 30 (dk_at dksX7_take_0 4 rfl rfl)
theorem dX7_take_7 : decode cX7_take 7 = .ok (.dup, 1) := dk_89 (dk_at dksX7_take_0 7 rfl rfl)
theorem dX7_take_8 : decode cX7_take 8 = .ok (.aload_n 0, 1) := dk_42 (dk_at dksX7_take_0 8 rfl rfl)
theorem dX7_take_9 : decode cX7_take 9 = .ok (.getfield 15, 3) := dk_180 0 15 (dk_at dksX7_take_0 9 rfl rfl)
theorem dX7_take_12 : decode cX7_take 12 = .ok (.invokespecial 32, 3) := dk_183 0 32 (dk_at dksX7_take_0 12 rfl rfl)
theorem dX7_take_15 : decode cX7_take 15 = .ok (.athrow, 1) := dk_191 (dk_at dksX7_take_0 15 rfl rfl)
theorem dX7_take_16 : decode cX7_take 16 = .ok (.aload_n 0, 1) := dk_42 (dk_at dksX7_take_0 16 rfl rfl)
theorem dX7_take_17 : decode cX7_take 17 = .ok (.dup, 1) := dk_89 (dk_at dksX7_take_0 17 rfl rfl)
theorem dX7_take_18 : decode cX7_take 18 = .ok (.getfield 15, 3) := dk_180 0 15 (dk_at dksX7_take_0 18 rfl rfl)
theorem dX7_take_21 : decode cX7_take 21 = .ok (.iconst 1, 1) := dk_4 (dk_at dksX7_take_0 21 rfl rfl)
theorem dX7_take_22 : decode cX7_take 22 = .ok (.iadd, 1) := dk_96 (dk_at dksX7_take_0 22 rfl rfl)
theorem dX7_take_23 : decode cX7_take 23 = .ok (.putfield 15, 3) := dk_181 0 15 (dk_at dksX7_take_1 0 rfl rfl)
theorem dX7_take_26 : decode cX7_take 26 = .ok (.aload_n 0, 1) := dk_42 (dk_at dksX7_take_1 3 rfl rfl)
theorem dX7_take_27 : decode cX7_take 27 = .ok (.getfield 3, 3) := dk_180 0 3 (dk_at dksX7_take_1 4 rfl rfl)
theorem dX7_take_30 : decode cX7_take 30 = .ok (.getfield 22, 3) := dk_180 0 22 (dk_at dksX7_take_1 7 rfl rfl)
theorem dX7_take_33 : decode cX7_take 33 = .ok (.aload_n 0, 1) := dk_42 (dk_at dksX7_take_1 10 rfl rfl)
theorem dX7_take_34 : decode cX7_take 34 = .ok (.getfield 15, 3) := dk_180 0 15 (dk_at dksX7_take_1 11 rfl rfl)
theorem dX7_take_37 : decode cX7_take 37 = .ok (.iconst 1, 1) := dk_4 (dk_at dksX7_take_1 14 rfl rfl)
theorem dX7_take_38 : decode cX7_take 38 = .ok (.isub, 1) := dk_100 (dk_at dksX7_take_1 15 rfl rfl)
theorem dX7_take_39 : decode cX7_take 39 = .ok (.baload, 1) := dk_51 (dk_at dksX7_take_1 16 rfl rfl)
theorem dX7_take_40 : decode cX7_take 40 = .ok (.ireturn, 1) := dk_172 (dk_at dksX7_take_1 17 rfl rfl)
abbrev cX7_right : ByteArray := prog_12_method_8_code
def yX7_right : MethodName := ⟨RX7, "right", "(IZ)I"⟩
def dkwX7_right_0 : List UInt8 := [28, 154, 0, 17, 187, 0, 30, 89, 42, 180, 0, 15, 4, 100, 183, 0, 32, 191, 27, 172]
abbrev dktX7_right_0 : List UInt8 := dkwX7_right_0 ++ []
theorem dksX7_right_0 : cX7_right.data.toList.drop 0 = dktX7_right_0 := by decide +kernel
theorem dX7_right_0 : decode cX7_right 0 = .ok (.iload_n 2, 1) := dk_28 (dk_at dksX7_right_0 0 rfl rfl)
theorem dX7_right_1 : decode cX7_right 1 = .ok (.ifCond .ne 17, 3) := dk_154 0 17 (dk_at dksX7_right_0 1 rfl rfl)
theorem dX7_right_4 : decode cX7_right 4 = .ok (.new 30, 3) := dk_187 0 30 (dk_at dksX7_right_0 4 rfl rfl)
theorem dX7_right_7 : decode cX7_right 7 = .ok (.dup, 1) := dk_89 (dk_at dksX7_right_0 7 rfl rfl)
theorem dX7_right_8 : decode cX7_right 8 = .ok (.aload_n 0, 1) := dk_42 (dk_at dksX7_right_0 8 rfl rfl)
theorem dX7_right_9 : decode cX7_right 9 = .ok (.getfield 15, 3) := dk_180 0 15 (dk_at dksX7_right_0 9 rfl rfl)
theorem dX7_right_12 : decode cX7_right 12 = .ok (.iconst 1, 1) := dk_4 (dk_at dksX7_right_0 12 rfl rfl)
theorem dX7_right_13 : decode cX7_right 13 = .ok (.isub, 1) := dk_100 (dk_at dksX7_right_0 13 rfl rfl)
theorem dX7_right_14 : decode cX7_right 14 = .ok (.invokespecial 32, 3) := dk_183 0 32 (dk_at dksX7_right_0 14 rfl rfl)
theorem dX7_right_17 : decode cX7_right 17 = .ok (.athrow, 1) := dk_191 (dk_at dksX7_right_0 17 rfl rfl)
theorem dX7_right_18 : decode cX7_right 18 = .ok (.iload_n 1, 1) := dk_27 (dk_at dksX7_right_0 18 rfl rfl)
theorem dX7_right_19 : decode cX7_right 19 = .ok (.ireturn, 1) := dk_172 (dk_at dksX7_right_0 19 rfl rfl)
abbrev cX7_takes : ByteArray := prog_12_method_5_code
def yX7_takes : MethodName := ⟨RX7, "takes", "(I)V"⟩
def dkwX7_takes_0 : List UInt8 := [42, 42, 182, 0, 35, 27, 160, 0, 7, 4, 167, 0, 4, 3, 182, 0, 38, 61, 177]
abbrev dktX7_takes_0 : List UInt8 := dkwX7_takes_0 ++ []
theorem dksX7_takes_0 : cX7_takes.data.toList.drop 0 = dktX7_takes_0 := by decide +kernel
theorem dX7_takes_0 : decode cX7_takes 0 = .ok (.aload_n 0, 1) := dk_42 (dk_at dksX7_takes_0 0 rfl rfl)
theorem dX7_takes_1 : decode cX7_takes 1 = .ok (.aload_n 0, 1) := dk_42 (dk_at dksX7_takes_0 1 rfl rfl)
theorem dX7_takes_2 : decode cX7_takes 2 = .ok (.invokevirtual 35, 3) := dk_182 0 35 (dk_at dksX7_takes_0 2 rfl rfl)
theorem dX7_takes_5 : decode cX7_takes 5 = .ok (.iload_n 1, 1) := dk_27 (dk_at dksX7_takes_0 5 rfl rfl)
theorem dX7_takes_6 : decode cX7_takes 6 = .ok (.if_icmp .ne 7, 3) := dk_160 0 7 (dk_at dksX7_takes_0 6 rfl rfl)
theorem dX7_takes_9 : decode cX7_takes 9 = .ok (.iconst 1, 1) := dk_4 (dk_at dksX7_takes_0 9 rfl rfl)
theorem dX7_takes_10 : decode cX7_takes 10 = .ok (.goto 4, 3) := dk_167 0 4 (dk_at dksX7_takes_0 10 rfl rfl)
theorem dX7_takes_13 : decode cX7_takes 13 = .ok (.iconst 0, 1) := dk_3 (dk_at dksX7_takes_0 13 rfl rfl)
theorem dX7_takes_14 : decode cX7_takes 14 = .ok (.invokevirtual 38, 3) := dk_182 0 38 (dk_at dksX7_takes_0 14 rfl rfl)
theorem dX7_takes_17 : decode cX7_takes 17 = .ok (.istore_n 2, 1) := dk_61 (dk_at dksX7_takes_0 17 rfl rfl)
theorem dX7_takes_18 : decode cX7_takes 18 = .ok (.return_, 1) := dk_177 (dk_at dksX7_takes_0 18 rfl rfl)
abbrev cX7_leaps : ByteArray := prog_12_method_11_code
def yX7_leaps : MethodName := ⟨RX7, "leaps", "(LDayBoy$Leaps;)V"⟩
def dkwX7_leaps_4 : List UInt8 := [182, 0, 106, 177]
abbrev dktX7_leaps_4 : List UInt8 := dkwX7_leaps_4 ++ []
def dkwX7_leaps_3 : List UInt8 := [160, 0, 7, 4, 167, 0, 4, 3, 182, 0, 103, 42, 182, 0, 35, 61, 42, 182, 0, 42, 154, 255, 174, 43]
abbrev dktX7_leaps_3 : List UInt8 := dkwX7_leaps_3 ++ dktX7_leaps_4
def dkwX7_leaps_2 : List UInt8 := [159, 0, 9, 28, 16, 45, 160, 0, 7, 4, 167, 0, 4, 3, 182, 0, 38, 61, 43, 29, 28, 16, 43]
abbrev dktX7_leaps_2 : List UInt8 := dkwX7_leaps_2 ++ dktX7_leaps_3
def dkwX7_leaps_1 : List UInt8 := [183, 0, 32, 191, 42, 4, 17, 39, 15, 182, 0, 63, 62, 42, 182, 0, 35, 61, 42, 28, 16, 43]
abbrev dktX7_leaps_1 : List UInt8 := dkwX7_leaps_1 ++ dktX7_leaps_2
def dkwX7_leaps_0 : List UInt8 := [42, 182, 0, 35, 61, 43, 180, 0, 102, 16, 8, 160, 0, 15, 187, 0, 30, 89, 42, 180, 0, 15]
abbrev dktX7_leaps_0 : List UInt8 := dkwX7_leaps_0 ++ dktX7_leaps_1
theorem dksX7_leaps_0 : cX7_leaps.data.toList.drop 0 = dktX7_leaps_0 := by decide +kernel
theorem dksX7_leaps_1 : cX7_leaps.data.toList.drop 22 = dktX7_leaps_1 := dk_seg dksX7_leaps_0 22 rfl rfl
theorem dksX7_leaps_2 : cX7_leaps.data.toList.drop 44 = dktX7_leaps_2 := dk_seg dksX7_leaps_1 22 rfl rfl
theorem dksX7_leaps_3 : cX7_leaps.data.toList.drop 67 = dktX7_leaps_3 := dk_seg dksX7_leaps_2 23 rfl rfl
theorem dksX7_leaps_4 : cX7_leaps.data.toList.drop 91 = dktX7_leaps_4 := dk_seg dksX7_leaps_3 24 rfl rfl
theorem dX7_leaps_0 : decode cX7_leaps 0 = .ok (.aload_n 0, 1) := dk_42 (dk_at dksX7_leaps_0 0 rfl rfl)
theorem dX7_leaps_1 : decode cX7_leaps 1 = .ok (.invokevirtual 35, 3) := dk_182 0 35 (dk_at dksX7_leaps_0 1 rfl rfl)
theorem dX7_leaps_4 : decode cX7_leaps 4 = .ok (.istore_n 2, 1) := dk_61 (dk_at dksX7_leaps_0 4 rfl rfl)
theorem dX7_leaps_5 : decode cX7_leaps 5 = .ok (.aload_n 1, 1) := dk_43 (dk_at dksX7_leaps_0 5 rfl rfl)
theorem dX7_leaps_6 : decode cX7_leaps 6 = .ok (.getfield 102, 3) := dk_180 0 102 (dk_at dksX7_leaps_0 6 rfl rfl)
theorem dX7_leaps_9 : decode cX7_leaps 9 = .ok (.bipush 8, 2) := dk_16 8 (dk_at dksX7_leaps_0 9 rfl rfl)
theorem dX7_leaps_11 : decode cX7_leaps 11 = .ok (.if_icmp .ne 15, 3) := dk_160 0 15 (dk_at dksX7_leaps_0 11 rfl rfl)
theorem dX7_leaps_14 : decode cX7_leaps 14 = .ok (.new 30, 3) := dk_187 0 30 (dk_at dksX7_leaps_0 14 rfl rfl)
theorem dX7_leaps_17 : decode cX7_leaps 17 = .ok (.dup, 1) := dk_89 (dk_at dksX7_leaps_0 17 rfl rfl)
theorem dX7_leaps_18 : decode cX7_leaps 18 = .ok (.aload_n 0, 1) := dk_42 (dk_at dksX7_leaps_0 18 rfl rfl)
theorem dX7_leaps_19 : decode cX7_leaps 19 = .ok (.getfield 15, 3) := dk_180 0 15 (dk_at dksX7_leaps_0 19 rfl rfl)
theorem dX7_leaps_22 : decode cX7_leaps 22 = .ok (.invokespecial 32, 3) := dk_183 0 32 (dk_at dksX7_leaps_1 0 rfl rfl)
theorem dX7_leaps_25 : decode cX7_leaps 25 = .ok (.athrow, 1) := dk_191 (dk_at dksX7_leaps_1 3 rfl rfl)
theorem dX7_leaps_26 : decode cX7_leaps 26 = .ok (.aload_n 0, 1) := dk_42 (dk_at dksX7_leaps_1 4 rfl rfl)
theorem dX7_leaps_27 : decode cX7_leaps 27 = .ok (.iconst 1, 1) := dk_4 (dk_at dksX7_leaps_1 5 rfl rfl)
theorem dX7_leaps_28 : decode cX7_leaps 28 = .ok (.sipush 9999, 3) := dk_17 39 15 (dk_at dksX7_leaps_1 6 rfl rfl)
theorem dX7_leaps_31 : decode cX7_leaps 31 = .ok (.invokevirtual 63, 3) := dk_182 0 63 (dk_at dksX7_leaps_1 9 rfl rfl)
theorem dX7_leaps_34 : decode cX7_leaps 34 = .ok (.istore_n 3, 1) := dk_62 (dk_at dksX7_leaps_1 12 rfl rfl)
theorem dX7_leaps_35 : decode cX7_leaps 35 = .ok (.aload_n 0, 1) := dk_42 (dk_at dksX7_leaps_1 13 rfl rfl)
theorem dX7_leaps_36 : decode cX7_leaps 36 = .ok (.invokevirtual 35, 3) := dk_182 0 35 (dk_at dksX7_leaps_1 14 rfl rfl)
theorem dX7_leaps_39 : decode cX7_leaps 39 = .ok (.istore_n 2, 1) := dk_61 (dk_at dksX7_leaps_1 17 rfl rfl)
theorem dX7_leaps_40 : decode cX7_leaps 40 = .ok (.aload_n 0, 1) := dk_42 (dk_at dksX7_leaps_1 18 rfl rfl)
theorem dX7_leaps_41 : decode cX7_leaps 41 = .ok (.iload_n 2, 1) := dk_28 (dk_at dksX7_leaps_1 19 rfl rfl)
theorem dX7_leaps_42 : decode cX7_leaps 42 = .ok (.bipush 43, 2) := dk_16 43 (dk_at dksX7_leaps_1 20 rfl rfl)
theorem dX7_leaps_44 : decode cX7_leaps 44 = .ok (.if_icmp .eq 9, 3) := dk_159 0 9 (dk_at dksX7_leaps_2 0 rfl rfl)
theorem dX7_leaps_47 : decode cX7_leaps 47 = .ok (.iload_n 2, 1) := dk_28 (dk_at dksX7_leaps_2 3 rfl rfl)
theorem dX7_leaps_48 : decode cX7_leaps 48 = .ok (.bipush 45, 2) := dk_16 45 (dk_at dksX7_leaps_2 4 rfl rfl)
theorem dX7_leaps_50 : decode cX7_leaps 50 = .ok (.if_icmp .ne 7, 3) := dk_160 0 7 (dk_at dksX7_leaps_2 6 rfl rfl)
theorem dX7_leaps_53 : decode cX7_leaps 53 = .ok (.iconst 1, 1) := dk_4 (dk_at dksX7_leaps_2 9 rfl rfl)
theorem dX7_leaps_54 : decode cX7_leaps 54 = .ok (.goto 4, 3) := dk_167 0 4 (dk_at dksX7_leaps_2 10 rfl rfl)
theorem dX7_leaps_57 : decode cX7_leaps 57 = .ok (.iconst 0, 1) := dk_3 (dk_at dksX7_leaps_2 13 rfl rfl)
theorem dX7_leaps_58 : decode cX7_leaps 58 = .ok (.invokevirtual 38, 3) := dk_182 0 38 (dk_at dksX7_leaps_2 14 rfl rfl)
theorem dX7_leaps_61 : decode cX7_leaps 61 = .ok (.istore_n 2, 1) := dk_61 (dk_at dksX7_leaps_2 17 rfl rfl)
theorem dX7_leaps_62 : decode cX7_leaps 62 = .ok (.aload_n 1, 1) := dk_43 (dk_at dksX7_leaps_2 18 rfl rfl)
theorem dX7_leaps_63 : decode cX7_leaps 63 = .ok (.iload_n 3, 1) := dk_29 (dk_at dksX7_leaps_2 19 rfl rfl)
theorem dX7_leaps_64 : decode cX7_leaps 64 = .ok (.iload_n 2, 1) := dk_28 (dk_at dksX7_leaps_2 20 rfl rfl)
theorem dX7_leaps_65 : decode cX7_leaps 65 = .ok (.bipush 43, 2) := dk_16 43 (dk_at dksX7_leaps_2 21 rfl rfl)
theorem dX7_leaps_67 : decode cX7_leaps 67 = .ok (.if_icmp .ne 7, 3) := dk_160 0 7 (dk_at dksX7_leaps_3 0 rfl rfl)
theorem dX7_leaps_70 : decode cX7_leaps 70 = .ok (.iconst 1, 1) := dk_4 (dk_at dksX7_leaps_3 3 rfl rfl)
theorem dX7_leaps_71 : decode cX7_leaps 71 = .ok (.goto 4, 3) := dk_167 0 4 (dk_at dksX7_leaps_3 4 rfl rfl)
theorem dX7_leaps_74 : decode cX7_leaps 74 = .ok (.iconst 0, 1) := dk_3 (dk_at dksX7_leaps_3 7 rfl rfl)
theorem dX7_leaps_75 : decode cX7_leaps 75 = .ok (.invokevirtual 103, 3) := dk_182 0 103 (dk_at dksX7_leaps_3 8 rfl rfl)
theorem dX7_leaps_78 : decode cX7_leaps 78 = .ok (.aload_n 0, 1) := dk_42 (dk_at dksX7_leaps_3 11 rfl rfl)
theorem dX7_leaps_79 : decode cX7_leaps 79 = .ok (.invokevirtual 35, 3) := dk_182 0 35 (dk_at dksX7_leaps_3 12 rfl rfl)
theorem dX7_leaps_82 : decode cX7_leaps 82 = .ok (.istore_n 2, 1) := dk_61 (dk_at dksX7_leaps_3 15 rfl rfl)
theorem dX7_leaps_83 : decode cX7_leaps 83 = .ok (.aload_n 0, 1) := dk_42 (dk_at dksX7_leaps_3 16 rfl rfl)
theorem dX7_leaps_84 : decode cX7_leaps 84 = .ok (.invokevirtual 42, 3) := dk_182 0 42 (dk_at dksX7_leaps_3 17 rfl rfl)
theorem dX7_leaps_87 : decode cX7_leaps 87 = .ok (.ifCond .ne (-82), 3) := dk_154 255 174 (dk_at dksX7_leaps_3 20 rfl rfl)
theorem dX7_leaps_90 : decode cX7_leaps 90 = .ok (.aload_n 1, 1) := dk_43 (dk_at dksX7_leaps_3 23 rfl rfl)
theorem dX7_leaps_91 : decode cX7_leaps 91 = .ok (.invokevirtual 106, 3) := dk_182 0 106 (dk_at dksX7_leaps_4 0 rfl rfl)
theorem dX7_leaps_94 : decode cX7_leaps 94 = .ok (.return_, 1) := dk_177 (dk_at dksX7_leaps_4 3 rfl rfl)
abbrev cX7_change : ByteArray := prog_12_method_12_code
def yX7_change : MethodName := ⟨RX7, "change", "(LDayBoy$Almanac;)V"⟩
def dkwX7_change_7 : List UInt8 := [21, 5, 182, 0, 94, 21, 6, 96, 4, 96, 181, 0, 111, 177]
abbrev dktX7_change_7 : List UInt8 := dkwX7_change_7 ++ []
def dkwX7_change_6 : List UInt8 := [182, 0, 70, 58, 7, 42, 25, 7, 180, 0, 74, 182, 0, 80, 25, 7, 25, 7, 180, 0, 74, 29, 21, 4]
abbrev dktX7_change_6 : List UInt8 := dkwX7_change_6 ++ dktX7_change_7
def dkwX7_change_5 : List UInt8 := [21, 4, 21, 5, 182, 0, 94, 181, 0, 100, 43, 44, 29, 21, 4, 21, 5, 182, 0, 113, 4, 96]
abbrev dktX7_change_5 : List UInt8 := dkwX7_change_5 ++ dktX7_change_6
def dkwX7_change_4 : List UInt8 := [182, 0, 67, 42, 3, 16, 30, 182, 0, 63, 54, 6, 42, 16, 58, 182, 0, 67, 44, 44, 180, 0, 74, 29]
abbrev dktX7_change_4 : List UInt8 := dkwX7_change_4 ++ dktX7_change_5
def dkwX7_change_3 : List UInt8 := [182, 0, 94, 44, 180, 0, 111, 161, 0, 7, 4, 167, 0, 4, 3, 182, 0, 50, 54, 5, 42, 16, 45]
abbrev dktX7_change_3 : List UInt8 := dkwX7_change_3 ++ dktX7_change_4
def dkwX7_change_2 : List UInt8 := [21, 5, 44, 180, 0, 74, 29, 21, 4, 182, 0, 109, 163, 0, 26, 44, 180, 0, 74, 29, 21, 4, 21, 5]
abbrev dktX7_change_2 : List UInt8 := dkwX7_change_2 ++ dktX7_change_3
def dkwX7_change_1 : List UInt8 := [182, 0, 63, 54, 4, 42, 16, 46, 182, 0, 67, 42, 4, 16, 31, 182, 0, 63, 54, 5, 42, 21, 5]
abbrev dktX7_change_1 : List UInt8 := dkwX7_change_1 ++ dktX7_change_2
def dkwX7_change_0 : List UInt8 := [43, 182, 0, 90, 77, 42, 4, 17, 39, 15, 182, 0, 63, 62, 42, 16, 46, 182, 0, 67, 42, 4, 16, 12]
abbrev dktX7_change_0 : List UInt8 := dkwX7_change_0 ++ dktX7_change_1
theorem dksX7_change_0 : cX7_change.data.toList.drop 0 = dktX7_change_0 := by decide +kernel
theorem dksX7_change_1 : cX7_change.data.toList.drop 24 = dktX7_change_1 := dk_seg dksX7_change_0 24 rfl rfl
theorem dksX7_change_2 : cX7_change.data.toList.drop 47 = dktX7_change_2 := dk_seg dksX7_change_1 23 rfl rfl
theorem dksX7_change_3 : cX7_change.data.toList.drop 71 = dktX7_change_3 := dk_seg dksX7_change_2 24 rfl rfl
theorem dksX7_change_4 : cX7_change.data.toList.drop 94 = dktX7_change_4 := dk_seg dksX7_change_3 23 rfl rfl
theorem dksX7_change_5 : cX7_change.data.toList.drop 118 = dktX7_change_5 := dk_seg dksX7_change_4 24 rfl rfl
theorem dksX7_change_6 : cX7_change.data.toList.drop 140 = dktX7_change_6 := dk_seg dksX7_change_5 22 rfl rfl
theorem dksX7_change_7 : cX7_change.data.toList.drop 164 = dktX7_change_7 := dk_seg dksX7_change_6 24 rfl rfl
theorem dX7_change_0 : decode cX7_change 0 = .ok (.aload_n 1, 1) := dk_43 (dk_at dksX7_change_0 0 rfl rfl)
theorem dX7_change_1 : decode cX7_change 1 = .ok (.invokevirtual 90, 3) := dk_182 0 90 (dk_at dksX7_change_0 1 rfl rfl)
theorem dX7_change_4 : decode cX7_change 4 = .ok (.astore_n 2, 1) := dk_77 (dk_at dksX7_change_0 4 rfl rfl)
theorem dX7_change_5 : decode cX7_change 5 = .ok (.aload_n 0, 1) := dk_42 (dk_at dksX7_change_0 5 rfl rfl)
theorem dX7_change_6 : decode cX7_change 6 = .ok (.iconst 1, 1) := dk_4 (dk_at dksX7_change_0 6 rfl rfl)
theorem dX7_change_7 : decode cX7_change 7 = .ok (.sipush 9999, 3) := dk_17 39 15 (dk_at dksX7_change_0 7 rfl rfl)
theorem dX7_change_10 : decode cX7_change 10 = .ok (.invokevirtual 63, 3) := dk_182 0 63 (dk_at dksX7_change_0 10 rfl rfl)
theorem dX7_change_13 : decode cX7_change 13 = .ok (.istore_n 3, 1) := dk_62 (dk_at dksX7_change_0 13 rfl rfl)
theorem dX7_change_14 : decode cX7_change 14 = .ok (.aload_n 0, 1) := dk_42 (dk_at dksX7_change_0 14 rfl rfl)
theorem dX7_change_15 : decode cX7_change 15 = .ok (.bipush 46, 2) := dk_16 46 (dk_at dksX7_change_0 15 rfl rfl)
theorem dX7_change_17 : decode cX7_change 17 = .ok (.invokevirtual 67, 3) := dk_182 0 67 (dk_at dksX7_change_0 17 rfl rfl)
theorem dX7_change_20 : decode cX7_change 20 = .ok (.aload_n 0, 1) := dk_42 (dk_at dksX7_change_0 20 rfl rfl)
theorem dX7_change_21 : decode cX7_change 21 = .ok (.iconst 1, 1) := dk_4 (dk_at dksX7_change_0 21 rfl rfl)
theorem dX7_change_22 : decode cX7_change 22 = .ok (.bipush 12, 2) := dk_16 12 (dk_at dksX7_change_0 22 rfl rfl)
theorem dX7_change_24 : decode cX7_change 24 = .ok (.invokevirtual 63, 3) := dk_182 0 63 (dk_at dksX7_change_1 0 rfl rfl)
theorem dX7_change_27 : decode cX7_change 27 = .ok (.istore 4, 2) := dk_54 4 (dk_at dksX7_change_1 3 rfl rfl)
theorem dX7_change_29 : decode cX7_change 29 = .ok (.aload_n 0, 1) := dk_42 (dk_at dksX7_change_1 5 rfl rfl)
theorem dX7_change_30 : decode cX7_change 30 = .ok (.bipush 46, 2) := dk_16 46 (dk_at dksX7_change_1 6 rfl rfl)
theorem dX7_change_32 : decode cX7_change 32 = .ok (.invokevirtual 67, 3) := dk_182 0 67 (dk_at dksX7_change_1 8 rfl rfl)
theorem dX7_change_35 : decode cX7_change 35 = .ok (.aload_n 0, 1) := dk_42 (dk_at dksX7_change_1 11 rfl rfl)
theorem dX7_change_36 : decode cX7_change 36 = .ok (.iconst 1, 1) := dk_4 (dk_at dksX7_change_1 12 rfl rfl)
theorem dX7_change_37 : decode cX7_change 37 = .ok (.bipush 31, 2) := dk_16 31 (dk_at dksX7_change_1 13 rfl rfl)
theorem dX7_change_39 : decode cX7_change 39 = .ok (.invokevirtual 63, 3) := dk_182 0 63 (dk_at dksX7_change_1 15 rfl rfl)
theorem dX7_change_42 : decode cX7_change 42 = .ok (.istore 5, 2) := dk_54 5 (dk_at dksX7_change_1 18 rfl rfl)
theorem dX7_change_44 : decode cX7_change 44 = .ok (.aload_n 0, 1) := dk_42 (dk_at dksX7_change_1 20 rfl rfl)
theorem dX7_change_45 : decode cX7_change 45 = .ok (.iload 5, 2) := dk_21 5 (dk_at dksX7_change_1 21 rfl rfl)
theorem dX7_change_47 : decode cX7_change 47 = .ok (.iload 5, 2) := dk_21 5 (dk_at dksX7_change_2 0 rfl rfl)
theorem dX7_change_49 : decode cX7_change 49 = .ok (.aload_n 2, 1) := dk_44 (dk_at dksX7_change_2 2 rfl rfl)
theorem dX7_change_50 : decode cX7_change 50 = .ok (.getfield 74, 3) := dk_180 0 74 (dk_at dksX7_change_2 3 rfl rfl)
theorem dX7_change_53 : decode cX7_change 53 = .ok (.iload_n 3, 1) := dk_29 (dk_at dksX7_change_2 6 rfl rfl)
theorem dX7_change_54 : decode cX7_change 54 = .ok (.iload 4, 2) := dk_21 4 (dk_at dksX7_change_2 7 rfl rfl)
theorem dX7_change_56 : decode cX7_change 56 = .ok (.invokevirtual 109, 3) := dk_182 0 109 (dk_at dksX7_change_2 9 rfl rfl)
theorem dX7_change_59 : decode cX7_change 59 = .ok (.if_icmp .gt 26, 3) := dk_163 0 26 (dk_at dksX7_change_2 12 rfl rfl)
theorem dX7_change_62 : decode cX7_change 62 = .ok (.aload_n 2, 1) := dk_44 (dk_at dksX7_change_2 15 rfl rfl)
theorem dX7_change_63 : decode cX7_change 63 = .ok (.getfield 74, 3) := dk_180 0 74 (dk_at dksX7_change_2 16 rfl rfl)
theorem dX7_change_66 : decode cX7_change 66 = .ok (.iload_n 3, 1) := dk_29 (dk_at dksX7_change_2 19 rfl rfl)
theorem dX7_change_67 : decode cX7_change 67 = .ok (.iload 4, 2) := dk_21 4 (dk_at dksX7_change_2 20 rfl rfl)
theorem dX7_change_69 : decode cX7_change 69 = .ok (.iload 5, 2) := dk_21 5 (dk_at dksX7_change_2 22 rfl rfl)
theorem dX7_change_71 : decode cX7_change 71 = .ok (.invokevirtual 94, 3) := dk_182 0 94 (dk_at dksX7_change_3 0 rfl rfl)
theorem dX7_change_74 : decode cX7_change 74 = .ok (.aload_n 2, 1) := dk_44 (dk_at dksX7_change_3 3 rfl rfl)
theorem dX7_change_75 : decode cX7_change 75 = .ok (.getfield 111, 3) := dk_180 0 111 (dk_at dksX7_change_3 4 rfl rfl)
theorem dX7_change_78 : decode cX7_change 78 = .ok (.if_icmp .lt 7, 3) := dk_161 0 7 (dk_at dksX7_change_3 7 rfl rfl)
theorem dX7_change_81 : decode cX7_change 81 = .ok (.iconst 1, 1) := dk_4 (dk_at dksX7_change_3 10 rfl rfl)
theorem dX7_change_82 : decode cX7_change 82 = .ok (.goto 4, 3) := dk_167 0 4 (dk_at dksX7_change_3 11 rfl rfl)
theorem dX7_change_85 : decode cX7_change 85 = .ok (.iconst 0, 1) := dk_3 (dk_at dksX7_change_3 14 rfl rfl)
theorem dX7_change_86 : decode cX7_change 86 = .ok (.invokevirtual 50, 3) := dk_182 0 50 (dk_at dksX7_change_3 15 rfl rfl)
theorem dX7_change_89 : decode cX7_change 89 = .ok (.istore 5, 2) := dk_54 5 (dk_at dksX7_change_3 18 rfl rfl)
theorem dX7_change_91 : decode cX7_change 91 = .ok (.aload_n 0, 1) := dk_42 (dk_at dksX7_change_3 20 rfl rfl)
theorem dX7_change_92 : decode cX7_change 92 = .ok (.bipush 45, 2) := dk_16 45 (dk_at dksX7_change_3 21 rfl rfl)
theorem dX7_change_94 : decode cX7_change 94 = .ok (.invokevirtual 67, 3) := dk_182 0 67 (dk_at dksX7_change_4 0 rfl rfl)
theorem dX7_change_97 : decode cX7_change 97 = .ok (.aload_n 0, 1) := dk_42 (dk_at dksX7_change_4 3 rfl rfl)
theorem dX7_change_98 : decode cX7_change 98 = .ok (.iconst 0, 1) := dk_3 (dk_at dksX7_change_4 4 rfl rfl)
theorem dX7_change_99 : decode cX7_change 99 = .ok (.bipush 30, 2) := dk_16 30 (dk_at dksX7_change_4 5 rfl rfl)
theorem dX7_change_101 : decode cX7_change 101 = .ok (.invokevirtual 63, 3) := dk_182 0 63 (dk_at dksX7_change_4 7 rfl rfl)
theorem dX7_change_104 : decode cX7_change 104 = .ok (.istore 6, 2) := dk_54 6 (dk_at dksX7_change_4 10 rfl rfl)
theorem dX7_change_106 : decode cX7_change 106 = .ok (.aload_n 0, 1) := dk_42 (dk_at dksX7_change_4 12 rfl rfl)
theorem dX7_change_107 : decode cX7_change 107 = .ok (.bipush 58, 2) := dk_16 58 (dk_at dksX7_change_4 13 rfl rfl)
theorem dX7_change_109 : decode cX7_change 109 = .ok (.invokevirtual 67, 3) := dk_182 0 67 (dk_at dksX7_change_4 15 rfl rfl)
theorem dX7_change_112 : decode cX7_change 112 = .ok (.aload_n 2, 1) := dk_44 (dk_at dksX7_change_4 18 rfl rfl)
theorem dX7_change_113 : decode cX7_change 113 = .ok (.aload_n 2, 1) := dk_44 (dk_at dksX7_change_4 19 rfl rfl)
theorem dX7_change_114 : decode cX7_change 114 = .ok (.getfield 74, 3) := dk_180 0 74 (dk_at dksX7_change_4 20 rfl rfl)
theorem dX7_change_117 : decode cX7_change 117 = .ok (.iload_n 3, 1) := dk_29 (dk_at dksX7_change_4 23 rfl rfl)
theorem dX7_change_118 : decode cX7_change 118 = .ok (.iload 4, 2) := dk_21 4 (dk_at dksX7_change_5 0 rfl rfl)
theorem dX7_change_120 : decode cX7_change 120 = .ok (.iload 5, 2) := dk_21 5 (dk_at dksX7_change_5 2 rfl rfl)
theorem dX7_change_122 : decode cX7_change 122 = .ok (.invokevirtual 94, 3) := dk_182 0 94 (dk_at dksX7_change_5 4 rfl rfl)
theorem dX7_change_125 : decode cX7_change 125 = .ok (.putfield 100, 3) := dk_181 0 100 (dk_at dksX7_change_5 7 rfl rfl)
theorem dX7_change_128 : decode cX7_change 128 = .ok (.aload_n 1, 1) := dk_43 (dk_at dksX7_change_5 10 rfl rfl)
theorem dX7_change_129 : decode cX7_change 129 = .ok (.aload_n 2, 1) := dk_44 (dk_at dksX7_change_5 11 rfl rfl)
theorem dX7_change_130 : decode cX7_change 130 = .ok (.iload_n 3, 1) := dk_29 (dk_at dksX7_change_5 12 rfl rfl)
theorem dX7_change_131 : decode cX7_change 131 = .ok (.iload 4, 2) := dk_21 4 (dk_at dksX7_change_5 13 rfl rfl)
theorem dX7_change_133 : decode cX7_change 133 = .ok (.iload 5, 2) := dk_21 5 (dk_at dksX7_change_5 15 rfl rfl)
theorem dX7_change_135 : decode cX7_change 135 = .ok (.invokevirtual 113, 3) := dk_182 0 113 (dk_at dksX7_change_5 17 rfl rfl)
theorem dX7_change_138 : decode cX7_change 138 = .ok (.iconst 1, 1) := dk_4 (dk_at dksX7_change_5 20 rfl rfl)
theorem dX7_change_139 : decode cX7_change 139 = .ok (.iadd, 1) := dk_96 (dk_at dksX7_change_5 21 rfl rfl)
theorem dX7_change_140 : decode cX7_change 140 = .ok (.invokevirtual 70, 3) := dk_182 0 70 (dk_at dksX7_change_6 0 rfl rfl)
theorem dX7_change_143 : decode cX7_change 143 = .ok (.astore 7, 2) := dk_58 7 (dk_at dksX7_change_6 3 rfl rfl)
theorem dX7_change_145 : decode cX7_change 145 = .ok (.aload_n 0, 1) := dk_42 (dk_at dksX7_change_6 5 rfl rfl)
theorem dX7_change_146 : decode cX7_change 146 = .ok (.aload 7, 2) := dk_25 7 (dk_at dksX7_change_6 6 rfl rfl)
theorem dX7_change_148 : decode cX7_change 148 = .ok (.getfield 74, 3) := dk_180 0 74 (dk_at dksX7_change_6 8 rfl rfl)
theorem dX7_change_151 : decode cX7_change 151 = .ok (.invokevirtual 80, 3) := dk_182 0 80 (dk_at dksX7_change_6 11 rfl rfl)
theorem dX7_change_154 : decode cX7_change 154 = .ok (.aload 7, 2) := dk_25 7 (dk_at dksX7_change_6 14 rfl rfl)
theorem dX7_change_156 : decode cX7_change 156 = .ok (.aload 7, 2) := dk_25 7 (dk_at dksX7_change_6 16 rfl rfl)
theorem dX7_change_158 : decode cX7_change 158 = .ok (.getfield 74, 3) := dk_180 0 74 (dk_at dksX7_change_6 18 rfl rfl)
theorem dX7_change_161 : decode cX7_change 161 = .ok (.iload_n 3, 1) := dk_29 (dk_at dksX7_change_6 21 rfl rfl)
theorem dX7_change_162 : decode cX7_change 162 = .ok (.iload 4, 2) := dk_21 4 (dk_at dksX7_change_6 22 rfl rfl)
theorem dX7_change_164 : decode cX7_change 164 = .ok (.iload 5, 2) := dk_21 5 (dk_at dksX7_change_7 0 rfl rfl)
theorem dX7_change_166 : decode cX7_change 166 = .ok (.invokevirtual 94, 3) := dk_182 0 94 (dk_at dksX7_change_7 2 rfl rfl)
theorem dX7_change_169 : decode cX7_change 169 = .ok (.iload 6, 2) := dk_21 6 (dk_at dksX7_change_7 5 rfl rfl)
theorem dX7_change_171 : decode cX7_change 171 = .ok (.iadd, 1) := dk_96 (dk_at dksX7_change_7 7 rfl rfl)
theorem dX7_change_172 : decode cX7_change 172 = .ok (.iconst 1, 1) := dk_4 (dk_at dksX7_change_7 8 rfl rfl)
theorem dX7_change_173 : decode cX7_change 173 = .ok (.iadd, 1) := dk_96 (dk_at dksX7_change_7 9 rfl rfl)
theorem dX7_change_174 : decode cX7_change 174 = .ok (.putfield 111, 3) := dk_181 0 111 (dk_at dksX7_change_7 10 rfl rfl)
theorem dX7_change_177 : decode cX7_change 177 = .ok (.return_, 1) := dk_177 (dk_at dksX7_change_7 13 rfl rfl)
abbrev cX7_ends : ByteArray := prog_12_method_9_code
def yX7_ends : MethodName := ⟨RX7, "ends", "()V"⟩
def dkwX7_ends_0 : List UInt8 := [42, 182, 0, 35, 2, 159, 0, 15, 187, 0, 30, 89, 42, 180, 0, 15, 183, 0, 32, 191, 177]
abbrev dktX7_ends_0 : List UInt8 := dkwX7_ends_0 ++ []
theorem dksX7_ends_0 : cX7_ends.data.toList.drop 0 = dktX7_ends_0 := by decide +kernel
theorem dX7_ends_0 : decode cX7_ends 0 = .ok (.aload_n 0, 1) := dk_42 (dk_at dksX7_ends_0 0 rfl rfl)
theorem dX7_ends_1 : decode cX7_ends 1 = .ok (.invokevirtual 35, 3) := dk_182 0 35 (dk_at dksX7_ends_0 1 rfl rfl)
theorem dX7_ends_4 : decode cX7_ends 4 = .ok (.iconst (-1), 1) := dk_2 (dk_at dksX7_ends_0 4 rfl rfl)
theorem dX7_ends_5 : decode cX7_ends 5 = .ok (.if_icmp .eq 15, 3) := dk_159 0 15 (dk_at dksX7_ends_0 5 rfl rfl)
theorem dX7_ends_8 : decode cX7_ends 8 = .ok (.new 30, 3) := dk_187 0 30 (dk_at dksX7_ends_0 8 rfl rfl)
theorem dX7_ends_11 : decode cX7_ends 11 = .ok (.dup, 1) := dk_89 (dk_at dksX7_ends_0 11 rfl rfl)
theorem dX7_ends_12 : decode cX7_ends 12 = .ok (.aload_n 0, 1) := dk_42 (dk_at dksX7_ends_0 12 rfl rfl)
theorem dX7_ends_13 : decode cX7_ends 13 = .ok (.getfield 15, 3) := dk_180 0 15 (dk_at dksX7_ends_0 13 rfl rfl)
theorem dX7_ends_16 : decode cX7_ends 16 = .ok (.invokespecial 32, 3) := dk_183 0 32 (dk_at dksX7_ends_0 16 rfl rfl)
theorem dX7_ends_19 : decode cX7_ends 19 = .ok (.athrow, 1) := dk_191 (dk_at dksX7_ends_0 19 rfl rfl)
theorem dX7_ends_20 : decode cX7_ends 20 = .ok (.return_, 1) := dk_177 (dk_at dksX7_ends_0 20 rfl rfl)
abbrev cX7_head : ByteArray := prog_12_method_13_code
def yX7_head : MethodName := ⟨RX7, "head", "()V"⟩
def dkwX7_head_2 : List UInt8 := [182, 0, 129, 167, 255, 228, 42, 182, 0, 87, 177]
abbrev dktX7_head_2 : List UInt8 := dkwX7_head_2 ++ []
def dkwX7_head_1 : List UInt8 := [182, 0, 35, 16, 44, 160, 0, 25, 42, 89, 180, 0, 15, 4, 96, 181, 0, 15, 42, 43, 182, 0, 125, 43]
abbrev dktX7_head_1 : List UInt8 := dkwX7_head_1 ++ dktX7_head_2
def dkwX7_head_0 : List UInt8 := [42, 180, 0, 3, 180, 0, 116, 76, 43, 182, 0, 120, 42, 43, 182, 0, 125, 43, 182, 0, 129, 42]
abbrev dktX7_head_0 : List UInt8 := dkwX7_head_0 ++ dktX7_head_1
theorem dksX7_head_0 : cX7_head.data.toList.drop 0 = dktX7_head_0 := by decide +kernel
theorem dksX7_head_1 : cX7_head.data.toList.drop 22 = dktX7_head_1 := dk_seg dksX7_head_0 22 rfl rfl
theorem dksX7_head_2 : cX7_head.data.toList.drop 46 = dktX7_head_2 := dk_seg dksX7_head_1 24 rfl rfl
theorem dX7_head_0 : decode cX7_head 0 = .ok (.aload_n 0, 1) := dk_42 (dk_at dksX7_head_0 0 rfl rfl)
theorem dX7_head_1 : decode cX7_head 1 = .ok (.getfield 3, 3) := dk_180 0 3 (dk_at dksX7_head_0 1 rfl rfl)
theorem dX7_head_4 : decode cX7_head 4 = .ok (.getfield 116, 3) := dk_180 0 116 (dk_at dksX7_head_0 4 rfl rfl)
theorem dX7_head_7 : decode cX7_head 7 = .ok (.astore_n 1, 1) := dk_76 (dk_at dksX7_head_0 7 rfl rfl)
theorem dX7_head_8 : decode cX7_head 8 = .ok (.aload_n 1, 1) := dk_43 (dk_at dksX7_head_0 8 rfl rfl)
theorem dX7_head_9 : decode cX7_head 9 = .ok (.invokevirtual 120, 3) := dk_182 0 120 (dk_at dksX7_head_0 9 rfl rfl)
theorem dX7_head_12 : decode cX7_head 12 = .ok (.aload_n 0, 1) := dk_42 (dk_at dksX7_head_0 12 rfl rfl)
theorem dX7_head_13 : decode cX7_head 13 = .ok (.aload_n 1, 1) := dk_43 (dk_at dksX7_head_0 13 rfl rfl)
theorem dX7_head_14 : decode cX7_head 14 = .ok (.invokevirtual 125, 3) := dk_182 0 125 (dk_at dksX7_head_0 14 rfl rfl)
theorem dX7_head_17 : decode cX7_head 17 = .ok (.aload_n 1, 1) := dk_43 (dk_at dksX7_head_0 17 rfl rfl)
theorem dX7_head_18 : decode cX7_head 18 = .ok (.invokevirtual 129, 3) := dk_182 0 129 (dk_at dksX7_head_0 18 rfl rfl)
theorem dX7_head_21 : decode cX7_head 21 = .ok (.aload_n 0, 1) := dk_42 (dk_at dksX7_head_0 21 rfl rfl)
theorem dX7_head_22 : decode cX7_head 22 = .ok (.invokevirtual 35, 3) := dk_182 0 35 (dk_at dksX7_head_1 0 rfl rfl)
theorem dX7_head_25 : decode cX7_head 25 = .ok (.bipush 44, 2) := dk_16 44 (dk_at dksX7_head_1 3 rfl rfl)
theorem dX7_head_27 : decode cX7_head 27 = .ok (.if_icmp .ne 25, 3) := dk_160 0 25 (dk_at dksX7_head_1 5 rfl rfl)
theorem dX7_head_30 : decode cX7_head 30 = .ok (.aload_n 0, 1) := dk_42 (dk_at dksX7_head_1 8 rfl rfl)
theorem dX7_head_31 : decode cX7_head 31 = .ok (.dup, 1) := dk_89 (dk_at dksX7_head_1 9 rfl rfl)
theorem dX7_head_32 : decode cX7_head 32 = .ok (.getfield 15, 3) := dk_180 0 15 (dk_at dksX7_head_1 10 rfl rfl)
theorem dX7_head_35 : decode cX7_head 35 = .ok (.iconst 1, 1) := dk_4 (dk_at dksX7_head_1 13 rfl rfl)
theorem dX7_head_36 : decode cX7_head 36 = .ok (.iadd, 1) := dk_96 (dk_at dksX7_head_1 14 rfl rfl)
theorem dX7_head_37 : decode cX7_head 37 = .ok (.putfield 15, 3) := dk_181 0 15 (dk_at dksX7_head_1 15 rfl rfl)
theorem dX7_head_40 : decode cX7_head 40 = .ok (.aload_n 0, 1) := dk_42 (dk_at dksX7_head_1 18 rfl rfl)
theorem dX7_head_41 : decode cX7_head 41 = .ok (.aload_n 1, 1) := dk_43 (dk_at dksX7_head_1 19 rfl rfl)
theorem dX7_head_42 : decode cX7_head 42 = .ok (.invokevirtual 125, 3) := dk_182 0 125 (dk_at dksX7_head_1 20 rfl rfl)
theorem dX7_head_45 : decode cX7_head 45 = .ok (.aload_n 1, 1) := dk_43 (dk_at dksX7_head_1 23 rfl rfl)
theorem dX7_head_46 : decode cX7_head 46 = .ok (.invokevirtual 129, 3) := dk_182 0 129 (dk_at dksX7_head_2 0 rfl rfl)
theorem dX7_head_49 : decode cX7_head 49 = .ok (.goto (-28), 3) := dk_167 255 228 (dk_at dksX7_head_2 3 rfl rfl)
theorem dX7_head_52 : decode cX7_head 52 = .ok (.aload_n 0, 1) := dk_42 (dk_at dksX7_head_2 6 rfl rfl)
theorem dX7_head_53 : decode cX7_head 53 = .ok (.invokevirtual 87, 3) := dk_182 0 87 (dk_at dksX7_head_2 7 rfl rfl)
theorem dX7_head_56 : decode cX7_head 56 = .ok (.return_, 1) := dk_177 (dk_at dksX7_head_2 10 rfl rfl)
abbrev cX7_item : ByteArray := prog_12_method_14_code
def yX7_item : MethodName := ⟨RX7, "item", "(LDayBoy$Head;)LDayBoy$Item;"⟩
def dkwX7_item_10 : List UInt8 := [183, 0, 162, 176]
abbrev dktX7_item_10 : List UInt8 := dkwX7_item_10 ++ []
def dkwX7_item_9 : List UInt8 := [180, 0, 144, 4, 29, 120, 128, 181, 0, 144, 187, 0, 160, 89, 29, 42, 3, 16, 99, 182, 0, 63]
abbrev dktX7_item_9 : List UInt8 := dkwX7_item_9 ++ dktX7_item_10
def dkwX7_item_8 : List UInt8 := [42, 182, 0, 147, 176, 42, 43, 182, 0, 151, 176, 42, 182, 0, 154, 176, 42, 43, 182, 0, 157, 176, 42, 89]
abbrev dktX7_item_8 : List UInt8 := dkwX7_item_8 ++ dktX7_item_9
def dkwX7_item_7 : List UInt8 := [171, 0, 0, 0, 0, 0, 65, 0, 0, 0, 4, 0, 0, 0, 107, 0, 0, 0, 43, 0, 0, 0, 109, 0, 0, 0, 54, 0, 0, 0, 111, 0, 0, 0, 59, 0, 0, 0, 121, 0, 0, 0, 48]
abbrev dktX7_item_7 : List UInt8 := dkwX7_item_7 ++ dktX7_item_8
def dkwX7_item_6 : List UInt8 := [167, 0, 4, 3, 54, 4, 42, 21, 4, 182, 0, 38, 61, 28]
abbrev dktX7_item_6 : List UInt8 := dkwX7_item_6 ++ dktX7_item_7
def dkwX7_item_5 : List UInt8 := [16, 111, 159, 0, 19, 29, 2, 159, 0, 18, 42, 180, 0, 144, 29, 122, 4, 126, 154, 0, 7, 4]
abbrev dktX7_item_5 : List UInt8 := dkwX7_item_5 ++ dktX7_item_6
def dkwX7_item_4 : List UInt8 := [16, 109, 160, 0, 20, 43, 180, 0, 141, 16, 12, 162, 0, 7, 4, 167, 0, 34, 3, 167, 0, 30, 28]
abbrev dktX7_item_4 : List UInt8 := dkwX7_item_4 ++ dktX7_item_5
def dkwX7_item_3 : List UInt8 := [28, 16, 121, 160, 0, 20, 43, 180, 0, 138, 16, 6, 162, 0, 7, 4, 167, 0, 57, 3, 167, 0, 53, 28]
abbrev dktX7_item_3 : List UInt8 := dkwX7_item_3 ++ dktX7_item_4
def dkwX7_item_2 : List UInt8 := [62, 28, 16, 107, 160, 0, 20, 43, 180, 0, 135, 16, 6, 162, 0, 7, 4, 167, 0, 80, 3, 167, 0, 76]
abbrev dktX7_item_2 : List UInt8 := dkwX7_item_2 ++ dktX7_item_3
def dkwX7_item_1 : List UInt8 := [167, 0, 24, 28, 16, 98, 160, 0, 7, 5, 167, 0, 14, 28, 16, 108, 160, 0, 7, 6, 167, 0, 4, 2]
abbrev dktX7_item_1 : List UInt8 := dkwX7_item_1 ++ dktX7_item_2
def dkwX7_item_0 : List UInt8 := [42, 182, 0, 35, 61, 28, 16, 115, 160, 0, 7, 3, 167, 0, 34, 28, 16, 114, 160, 0, 7, 4]
abbrev dktX7_item_0 : List UInt8 := dkwX7_item_0 ++ dktX7_item_1
theorem dksX7_item_0 : cX7_item.data.toList.drop 0 = dktX7_item_0 := by decide +kernel
theorem dksX7_item_1 : cX7_item.data.toList.drop 22 = dktX7_item_1 := dk_seg dksX7_item_0 22 rfl rfl
theorem dksX7_item_2 : cX7_item.data.toList.drop 46 = dktX7_item_2 := dk_seg dksX7_item_1 24 rfl rfl
theorem dksX7_item_3 : cX7_item.data.toList.drop 70 = dktX7_item_3 := dk_seg dksX7_item_2 24 rfl rfl
theorem dksX7_item_4 : cX7_item.data.toList.drop 94 = dktX7_item_4 := dk_seg dksX7_item_3 24 rfl rfl
theorem dksX7_item_5 : cX7_item.data.toList.drop 117 = dktX7_item_5 := dk_seg dksX7_item_4 23 rfl rfl
theorem dksX7_item_6 : cX7_item.data.toList.drop 139 = dktX7_item_6 := dk_seg dksX7_item_5 22 rfl rfl
theorem dksX7_item_7 : cX7_item.data.toList.drop 153 = dktX7_item_7 := dk_seg dksX7_item_6 14 rfl rfl
theorem dksX7_item_8 : cX7_item.data.toList.drop 196 = dktX7_item_8 := dk_seg dksX7_item_7 43 rfl rfl
theorem dksX7_item_9 : cX7_item.data.toList.drop 220 = dktX7_item_9 := dk_seg dksX7_item_8 24 rfl rfl
theorem dksX7_item_10 : cX7_item.data.toList.drop 242 = dktX7_item_10 := dk_seg dksX7_item_9 22 rfl rfl
theorem dX7_item_0 : decode cX7_item 0 = .ok (.aload_n 0, 1) := dk_42 (dk_at dksX7_item_0 0 rfl rfl)
theorem dX7_item_1 : decode cX7_item 1 = .ok (.invokevirtual 35, 3) := dk_182 0 35 (dk_at dksX7_item_0 1 rfl rfl)
theorem dX7_item_4 : decode cX7_item 4 = .ok (.istore_n 2, 1) := dk_61 (dk_at dksX7_item_0 4 rfl rfl)
theorem dX7_item_5 : decode cX7_item 5 = .ok (.iload_n 2, 1) := dk_28 (dk_at dksX7_item_0 5 rfl rfl)
theorem dX7_item_6 : decode cX7_item 6 = .ok (.bipush 115, 2) := dk_16 115 (dk_at dksX7_item_0 6 rfl rfl)
theorem dX7_item_8 : decode cX7_item 8 = .ok (.if_icmp .ne 7, 3) := dk_160 0 7 (dk_at dksX7_item_0 8 rfl rfl)
theorem dX7_item_11 : decode cX7_item 11 = .ok (.iconst 0, 1) := dk_3 (dk_at dksX7_item_0 11 rfl rfl)
theorem dX7_item_12 : decode cX7_item 12 = .ok (.goto 34, 3) := dk_167 0 34 (dk_at dksX7_item_0 12 rfl rfl)
theorem dX7_item_15 : decode cX7_item 15 = .ok (.iload_n 2, 1) := dk_28 (dk_at dksX7_item_0 15 rfl rfl)
theorem dX7_item_16 : decode cX7_item 16 = .ok (.bipush 114, 2) := dk_16 114 (dk_at dksX7_item_0 16 rfl rfl)
theorem dX7_item_18 : decode cX7_item 18 = .ok (.if_icmp .ne 7, 3) := dk_160 0 7 (dk_at dksX7_item_0 18 rfl rfl)
theorem dX7_item_21 : decode cX7_item 21 = .ok (.iconst 1, 1) := dk_4 (dk_at dksX7_item_0 21 rfl rfl)
theorem dX7_item_22 : decode cX7_item 22 = .ok (.goto 24, 3) := dk_167 0 24 (dk_at dksX7_item_1 0 rfl rfl)
theorem dX7_item_25 : decode cX7_item 25 = .ok (.iload_n 2, 1) := dk_28 (dk_at dksX7_item_1 3 rfl rfl)
theorem dX7_item_26 : decode cX7_item 26 = .ok (.bipush 98, 2) := dk_16 98 (dk_at dksX7_item_1 4 rfl rfl)
theorem dX7_item_28 : decode cX7_item 28 = .ok (.if_icmp .ne 7, 3) := dk_160 0 7 (dk_at dksX7_item_1 6 rfl rfl)
theorem dX7_item_31 : decode cX7_item 31 = .ok (.iconst 2, 1) := dk_5 (dk_at dksX7_item_1 9 rfl rfl)
theorem dX7_item_32 : decode cX7_item 32 = .ok (.goto 14, 3) := dk_167 0 14 (dk_at dksX7_item_1 10 rfl rfl)
theorem dX7_item_35 : decode cX7_item 35 = .ok (.iload_n 2, 1) := dk_28 (dk_at dksX7_item_1 13 rfl rfl)
theorem dX7_item_36 : decode cX7_item 36 = .ok (.bipush 108, 2) := dk_16 108 (dk_at dksX7_item_1 14 rfl rfl)
theorem dX7_item_38 : decode cX7_item 38 = .ok (.if_icmp .ne 7, 3) := dk_160 0 7 (dk_at dksX7_item_1 16 rfl rfl)
theorem dX7_item_41 : decode cX7_item 41 = .ok (.iconst 3, 1) := dk_6 (dk_at dksX7_item_1 19 rfl rfl)
theorem dX7_item_42 : decode cX7_item 42 = .ok (.goto 4, 3) := dk_167 0 4 (dk_at dksX7_item_1 20 rfl rfl)
theorem dX7_item_45 : decode cX7_item 45 = .ok (.iconst (-1), 1) := dk_2 (dk_at dksX7_item_1 23 rfl rfl)
theorem dX7_item_46 : decode cX7_item 46 = .ok (.istore_n 3, 1) := dk_62 (dk_at dksX7_item_2 0 rfl rfl)
theorem dX7_item_47 : decode cX7_item 47 = .ok (.iload_n 2, 1) := dk_28 (dk_at dksX7_item_2 1 rfl rfl)
theorem dX7_item_48 : decode cX7_item 48 = .ok (.bipush 107, 2) := dk_16 107 (dk_at dksX7_item_2 2 rfl rfl)
theorem dX7_item_50 : decode cX7_item 50 = .ok (.if_icmp .ne 20, 3) := dk_160 0 20 (dk_at dksX7_item_2 4 rfl rfl)
theorem dX7_item_53 : decode cX7_item 53 = .ok (.aload_n 1, 1) := dk_43 (dk_at dksX7_item_2 7 rfl rfl)
theorem dX7_item_54 : decode cX7_item 54 = .ok (.getfield 135, 3) := dk_180 0 135 (dk_at dksX7_item_2 8 rfl rfl)
theorem dX7_item_57 : decode cX7_item 57 = .ok (.bipush 6, 2) := dk_16 6 (dk_at dksX7_item_2 11 rfl rfl)
theorem dX7_item_59 : decode cX7_item 59 = .ok (.if_icmp .ge 7, 3) := dk_162 0 7 (dk_at dksX7_item_2 13 rfl rfl)
theorem dX7_item_62 : decode cX7_item 62 = .ok (.iconst 1, 1) := dk_4 (dk_at dksX7_item_2 16 rfl rfl)
theorem dX7_item_63 : decode cX7_item 63 = .ok (.goto 80, 3) := dk_167 0 80 (dk_at dksX7_item_2 17 rfl rfl)
theorem dX7_item_66 : decode cX7_item 66 = .ok (.iconst 0, 1) := dk_3 (dk_at dksX7_item_2 20 rfl rfl)
theorem dX7_item_67 : decode cX7_item 67 = .ok (.goto 76, 3) := dk_167 0 76 (dk_at dksX7_item_2 21 rfl rfl)
theorem dX7_item_70 : decode cX7_item 70 = .ok (.iload_n 2, 1) := dk_28 (dk_at dksX7_item_3 0 rfl rfl)
theorem dX7_item_71 : decode cX7_item 71 = .ok (.bipush 121, 2) := dk_16 121 (dk_at dksX7_item_3 1 rfl rfl)
theorem dX7_item_73 : decode cX7_item 73 = .ok (.if_icmp .ne 20, 3) := dk_160 0 20 (dk_at dksX7_item_3 3 rfl rfl)
theorem dX7_item_76 : decode cX7_item 76 = .ok (.aload_n 1, 1) := dk_43 (dk_at dksX7_item_3 6 rfl rfl)
theorem dX7_item_77 : decode cX7_item 77 = .ok (.getfield 138, 3) := dk_180 0 138 (dk_at dksX7_item_3 7 rfl rfl)
theorem dX7_item_80 : decode cX7_item 80 = .ok (.bipush 6, 2) := dk_16 6 (dk_at dksX7_item_3 10 rfl rfl)
theorem dX7_item_82 : decode cX7_item 82 = .ok (.if_icmp .ge 7, 3) := dk_162 0 7 (dk_at dksX7_item_3 12 rfl rfl)
theorem dX7_item_85 : decode cX7_item 85 = .ok (.iconst 1, 1) := dk_4 (dk_at dksX7_item_3 15 rfl rfl)
theorem dX7_item_86 : decode cX7_item 86 = .ok (.goto 57, 3) := dk_167 0 57 (dk_at dksX7_item_3 16 rfl rfl)
theorem dX7_item_89 : decode cX7_item 89 = .ok (.iconst 0, 1) := dk_3 (dk_at dksX7_item_3 19 rfl rfl)
theorem dX7_item_90 : decode cX7_item 90 = .ok (.goto 53, 3) := dk_167 0 53 (dk_at dksX7_item_3 20 rfl rfl)
theorem dX7_item_93 : decode cX7_item 93 = .ok (.iload_n 2, 1) := dk_28 (dk_at dksX7_item_3 23 rfl rfl)
theorem dX7_item_94 : decode cX7_item 94 = .ok (.bipush 109, 2) := dk_16 109 (dk_at dksX7_item_4 0 rfl rfl)
theorem dX7_item_96 : decode cX7_item 96 = .ok (.if_icmp .ne 20, 3) := dk_160 0 20 (dk_at dksX7_item_4 2 rfl rfl)
theorem dX7_item_99 : decode cX7_item 99 = .ok (.aload_n 1, 1) := dk_43 (dk_at dksX7_item_4 5 rfl rfl)
theorem dX7_item_100 : decode cX7_item 100 = .ok (.getfield 141, 3) := dk_180 0 141 (dk_at dksX7_item_4 6 rfl rfl)
theorem dX7_item_103 : decode cX7_item 103 = .ok (.bipush 12, 2) := dk_16 12 (dk_at dksX7_item_4 9 rfl rfl)
theorem dX7_item_105 : decode cX7_item 105 = .ok (.if_icmp .ge 7, 3) := dk_162 0 7 (dk_at dksX7_item_4 11 rfl rfl)
theorem dX7_item_108 : decode cX7_item 108 = .ok (.iconst 1, 1) := dk_4 (dk_at dksX7_item_4 14 rfl rfl)
theorem dX7_item_109 : decode cX7_item 109 = .ok (.goto 34, 3) := dk_167 0 34 (dk_at dksX7_item_4 15 rfl rfl)
theorem dX7_item_112 : decode cX7_item 112 = .ok (.iconst 0, 1) := dk_3 (dk_at dksX7_item_4 18 rfl rfl)
theorem dX7_item_113 : decode cX7_item 113 = .ok (.goto 30, 3) := dk_167 0 30 (dk_at dksX7_item_4 19 rfl rfl)
theorem dX7_item_116 : decode cX7_item 116 = .ok (.iload_n 2, 1) := dk_28 (dk_at dksX7_item_4 22 rfl rfl)
theorem dX7_item_117 : decode cX7_item 117 = .ok (.bipush 111, 2) := dk_16 111 (dk_at dksX7_item_5 0 rfl rfl)
theorem dX7_item_119 : decode cX7_item 119 = .ok (.if_icmp .eq 19, 3) := dk_159 0 19 (dk_at dksX7_item_5 2 rfl rfl)
theorem dX7_item_122 : decode cX7_item 122 = .ok (.iload_n 3, 1) := dk_29 (dk_at dksX7_item_5 5 rfl rfl)
theorem dX7_item_123 : decode cX7_item 123 = .ok (.iconst (-1), 1) := dk_2 (dk_at dksX7_item_5 6 rfl rfl)
theorem dX7_item_124 : decode cX7_item 124 = .ok (.if_icmp .eq 18, 3) := dk_159 0 18 (dk_at dksX7_item_5 7 rfl rfl)
theorem dX7_item_127 : decode cX7_item 127 = .ok (.aload_n 0, 1) := dk_42 (dk_at dksX7_item_5 10 rfl rfl)
theorem dX7_item_128 : decode cX7_item 128 = .ok (.getfield 144, 3) := dk_180 0 144 (dk_at dksX7_item_5 11 rfl rfl)
theorem dX7_item_131 : decode cX7_item 131 = .ok (.iload_n 3, 1) := dk_29 (dk_at dksX7_item_5 14 rfl rfl)
theorem dX7_item_132 : decode cX7_item 132 = .ok (.ishr, 1) := dk_122 (dk_at dksX7_item_5 15 rfl rfl)
theorem dX7_item_133 : decode cX7_item 133 = .ok (.iconst 1, 1) := dk_4 (dk_at dksX7_item_5 16 rfl rfl)
theorem dX7_item_134 : decode cX7_item 134 = .ok (.iand, 1) := dk_126 (dk_at dksX7_item_5 17 rfl rfl)
theorem dX7_item_135 : decode cX7_item 135 = .ok (.ifCond .ne 7, 3) := dk_154 0 7 (dk_at dksX7_item_5 18 rfl rfl)
theorem dX7_item_138 : decode cX7_item 138 = .ok (.iconst 1, 1) := dk_4 (dk_at dksX7_item_5 21 rfl rfl)
theorem dX7_item_139 : decode cX7_item 139 = .ok (.goto 4, 3) := dk_167 0 4 (dk_at dksX7_item_6 0 rfl rfl)
theorem dX7_item_142 : decode cX7_item 142 = .ok (.iconst 0, 1) := dk_3 (dk_at dksX7_item_6 3 rfl rfl)
theorem dX7_item_143 : decode cX7_item 143 = .ok (.istore 4, 2) := dk_54 4 (dk_at dksX7_item_6 4 rfl rfl)
theorem dX7_item_145 : decode cX7_item 145 = .ok (.aload_n 0, 1) := dk_42 (dk_at dksX7_item_6 6 rfl rfl)
theorem dX7_item_146 : decode cX7_item 146 = .ok (.iload 4, 2) := dk_21 4 (dk_at dksX7_item_6 7 rfl rfl)
theorem dX7_item_148 : decode cX7_item 148 = .ok (.invokevirtual 38, 3) := dk_182 0 38 (dk_at dksX7_item_6 9 rfl rfl)
theorem dX7_item_151 : decode cX7_item 151 = .ok (.istore_n 2, 1) := dk_61 (dk_at dksX7_item_6 12 rfl rfl)
theorem dX7_item_152 : decode cX7_item 152 = .ok (.iload_n 2, 1) := dk_28 (dk_at dksX7_item_6 13 rfl rfl)
theorem dX7_item_153 : decode cX7_item 153 = .ok (.lookupswitch 65 #[(107, 43), (109, 54), (111, 59), (121, 48)], 43) := by decide +kernel
theorem dX7_item_196 : decode cX7_item 196 = .ok (.aload_n 0, 1) := dk_42 (dk_at dksX7_item_8 0 rfl rfl)
theorem dX7_item_197 : decode cX7_item 197 = .ok (.invokevirtual 147, 3) := dk_182 0 147 (dk_at dksX7_item_8 1 rfl rfl)
theorem dX7_item_200 : decode cX7_item 200 = .ok (.areturn, 1) := dk_176 (dk_at dksX7_item_8 4 rfl rfl)
theorem dX7_item_201 : decode cX7_item 201 = .ok (.aload_n 0, 1) := dk_42 (dk_at dksX7_item_8 5 rfl rfl)
theorem dX7_item_202 : decode cX7_item 202 = .ok (.aload_n 1, 1) := dk_43 (dk_at dksX7_item_8 6 rfl rfl)
theorem dX7_item_203 : decode cX7_item 203 = .ok (.invokevirtual 151, 3) := dk_182 0 151 (dk_at dksX7_item_8 7 rfl rfl)
theorem dX7_item_206 : decode cX7_item 206 = .ok (.areturn, 1) := dk_176 (dk_at dksX7_item_8 10 rfl rfl)
theorem dX7_item_207 : decode cX7_item 207 = .ok (.aload_n 0, 1) := dk_42 (dk_at dksX7_item_8 11 rfl rfl)
theorem dX7_item_208 : decode cX7_item 208 = .ok (.invokevirtual 154, 3) := dk_182 0 154 (dk_at dksX7_item_8 12 rfl rfl)
theorem dX7_item_211 : decode cX7_item 211 = .ok (.areturn, 1) := dk_176 (dk_at dksX7_item_8 15 rfl rfl)
theorem dX7_item_212 : decode cX7_item 212 = .ok (.aload_n 0, 1) := dk_42 (dk_at dksX7_item_8 16 rfl rfl)
theorem dX7_item_213 : decode cX7_item 213 = .ok (.aload_n 1, 1) := dk_43 (dk_at dksX7_item_8 17 rfl rfl)
theorem dX7_item_214 : decode cX7_item 214 = .ok (.invokevirtual 157, 3) := dk_182 0 157 (dk_at dksX7_item_8 18 rfl rfl)
theorem dX7_item_217 : decode cX7_item 217 = .ok (.areturn, 1) := dk_176 (dk_at dksX7_item_8 21 rfl rfl)
theorem dX7_item_218 : decode cX7_item 218 = .ok (.aload_n 0, 1) := dk_42 (dk_at dksX7_item_8 22 rfl rfl)
theorem dX7_item_219 : decode cX7_item 219 = .ok (.dup, 1) := dk_89 (dk_at dksX7_item_8 23 rfl rfl)
theorem dX7_item_220 : decode cX7_item 220 = .ok (.getfield 144, 3) := dk_180 0 144 (dk_at dksX7_item_9 0 rfl rfl)
theorem dX7_item_223 : decode cX7_item 223 = .ok (.iconst 1, 1) := dk_4 (dk_at dksX7_item_9 3 rfl rfl)
theorem dX7_item_224 : decode cX7_item 224 = .ok (.iload_n 3, 1) := dk_29 (dk_at dksX7_item_9 4 rfl rfl)
theorem dX7_item_225 : decode cX7_item 225 = .ok (.ishl, 1) := dk_120 (dk_at dksX7_item_9 5 rfl rfl)
theorem dX7_item_226 : decode cX7_item 226 = .ok (.ior, 1) := dk_128 (dk_at dksX7_item_9 6 rfl rfl)
theorem dX7_item_227 : decode cX7_item 227 = .ok (.putfield 144, 3) := dk_181 0 144 (dk_at dksX7_item_9 7 rfl rfl)
theorem dX7_item_230 : decode cX7_item 230 = .ok (.new 160, 3) := dk_187 0 160 (dk_at dksX7_item_9 10 rfl rfl)
theorem dX7_item_233 : decode cX7_item 233 = .ok (.dup, 1) := dk_89 (dk_at dksX7_item_9 13 rfl rfl)
theorem dX7_item_234 : decode cX7_item 234 = .ok (.iload_n 3, 1) := dk_29 (dk_at dksX7_item_9 14 rfl rfl)
theorem dX7_item_235 : decode cX7_item 235 = .ok (.aload_n 0, 1) := dk_42 (dk_at dksX7_item_9 15 rfl rfl)
theorem dX7_item_236 : decode cX7_item 236 = .ok (.iconst 0, 1) := dk_3 (dk_at dksX7_item_9 16 rfl rfl)
theorem dX7_item_237 : decode cX7_item 237 = .ok (.bipush 99, 2) := dk_16 99 (dk_at dksX7_item_9 17 rfl rfl)
theorem dX7_item_239 : decode cX7_item 239 = .ok (.invokevirtual 63, 3) := dk_182 0 63 (dk_at dksX7_item_9 19 rfl rfl)
theorem dX7_item_242 : decode cX7_item 242 = .ok (.invokespecial 162, 3) := dk_183 0 162 (dk_at dksX7_item_10 0 rfl rfl)
theorem dX7_item_245 : decode cX7_item 245 = .ok (.areturn, 1) := dk_176 (dk_at dksX7_item_10 3 rfl rfl)
abbrev cX7_range : ByteArray := prog_12_method_15_code
def yX7_range : MethodName := ⟨RX7, "range", "()LDayBoy$Item;"⟩
def dkwX7_range_1 : List UInt8 := [17, 39, 15, 182, 0, 63, 183, 0, 167, 176]
abbrev dktX7_range_1 : List UInt8 := dkwX7_range_1 ++ []
def dkwX7_range_0 : List UInt8 := [42, 4, 17, 39, 15, 182, 0, 63, 60, 42, 16, 45, 182, 0, 67, 187, 0, 165, 89, 27, 42, 27]
abbrev dktX7_range_0 : List UInt8 := dkwX7_range_0 ++ dktX7_range_1
theorem dksX7_range_0 : cX7_range.data.toList.drop 0 = dktX7_range_0 := by decide +kernel
theorem dksX7_range_1 : cX7_range.data.toList.drop 22 = dktX7_range_1 := dk_seg dksX7_range_0 22 rfl rfl
theorem dX7_range_0 : decode cX7_range 0 = .ok (.aload_n 0, 1) := dk_42 (dk_at dksX7_range_0 0 rfl rfl)
theorem dX7_range_1 : decode cX7_range 1 = .ok (.iconst 1, 1) := dk_4 (dk_at dksX7_range_0 1 rfl rfl)
theorem dX7_range_2 : decode cX7_range 2 = .ok (.sipush 9999, 3) := dk_17 39 15 (dk_at dksX7_range_0 2 rfl rfl)
theorem dX7_range_5 : decode cX7_range 5 = .ok (.invokevirtual 63, 3) := dk_182 0 63 (dk_at dksX7_range_0 5 rfl rfl)
theorem dX7_range_8 : decode cX7_range 8 = .ok (.istore_n 1, 1) := dk_60 (dk_at dksX7_range_0 8 rfl rfl)
theorem dX7_range_9 : decode cX7_range 9 = .ok (.aload_n 0, 1) := dk_42 (dk_at dksX7_range_0 9 rfl rfl)
theorem dX7_range_10 : decode cX7_range 10 = .ok (.bipush 45, 2) := dk_16 45 (dk_at dksX7_range_0 10 rfl rfl)
theorem dX7_range_12 : decode cX7_range 12 = .ok (.invokevirtual 67, 3) := dk_182 0 67 (dk_at dksX7_range_0 12 rfl rfl)
theorem dX7_range_15 : decode cX7_range 15 = .ok (.new 165, 3) := dk_187 0 165 (dk_at dksX7_range_0 15 rfl rfl)
theorem dX7_range_18 : decode cX7_range 18 = .ok (.dup, 1) := dk_89 (dk_at dksX7_range_0 18 rfl rfl)
theorem dX7_range_19 : decode cX7_range 19 = .ok (.iload_n 1, 1) := dk_27 (dk_at dksX7_range_0 19 rfl rfl)
theorem dX7_range_20 : decode cX7_range 20 = .ok (.aload_n 0, 1) := dk_42 (dk_at dksX7_range_0 20 rfl rfl)
theorem dX7_range_21 : decode cX7_range 21 = .ok (.iload_n 1, 1) := dk_27 (dk_at dksX7_range_0 21 rfl rfl)
theorem dX7_range_22 : decode cX7_range 22 = .ok (.sipush 9999, 3) := dk_17 39 15 (dk_at dksX7_range_1 0 rfl rfl)
theorem dX7_range_25 : decode cX7_range 25 = .ok (.invokevirtual 63, 3) := dk_182 0 63 (dk_at dksX7_range_1 3 rfl rfl)
theorem dX7_range_28 : decode cX7_range 28 = .ok (.invokespecial 167, 3) := dk_183 0 167 (dk_at dksX7_range_1 6 rfl rfl)
theorem dX7_range_31 : decode cX7_range 31 = .ok (.areturn, 1) := dk_176 (dk_at dksX7_range_1 9 rfl rfl)
abbrev cX7_step : ByteArray := prog_12_method_16_code
def yX7_step : MethodName := ⟨RX7, "step", "(LDayBoy$Head;)LDayBoy$Item;"⟩
def dkwX7_step_2 : List UInt8 := [42, 16, 58, 182, 0, 67, 187, 0, 172, 89, 28, 42, 3, 16, 99, 182, 0, 63, 183, 0, 174, 176]
abbrev dktX7_step_2 : List UInt8 := dkwX7_step_2 ++ []
def dkwX7_step_1 : List UInt8 := [180, 0, 168, 29, 46, 28, 159, 0, 7, 4, 167, 0, 4, 3, 182, 0, 50, 61, 132, 3, 1, 167, 255, 224]
abbrev dktX7_step_1 : List UInt8 := dkwX7_step_1 ++ dktX7_step_2
def dkwX7_step_0 : List UInt8 := [42, 4, 17, 1, 144, 182, 0, 63, 61, 3, 62, 29, 43, 180, 0, 138, 162, 0, 30, 42, 28, 43]
abbrev dktX7_step_0 : List UInt8 := dkwX7_step_0 ++ dktX7_step_1
theorem dksX7_step_0 : cX7_step.data.toList.drop 0 = dktX7_step_0 := by decide +kernel
theorem dksX7_step_1 : cX7_step.data.toList.drop 22 = dktX7_step_1 := dk_seg dksX7_step_0 22 rfl rfl
theorem dksX7_step_2 : cX7_step.data.toList.drop 46 = dktX7_step_2 := dk_seg dksX7_step_1 24 rfl rfl
theorem dX7_step_0 : decode cX7_step 0 = .ok (.aload_n 0, 1) := dk_42 (dk_at dksX7_step_0 0 rfl rfl)
theorem dX7_step_1 : decode cX7_step 1 = .ok (.iconst 1, 1) := dk_4 (dk_at dksX7_step_0 1 rfl rfl)
theorem dX7_step_2 : decode cX7_step 2 = .ok (.sipush 400, 3) := dk_17 1 144 (dk_at dksX7_step_0 2 rfl rfl)
theorem dX7_step_5 : decode cX7_step 5 = .ok (.invokevirtual 63, 3) := dk_182 0 63 (dk_at dksX7_step_0 5 rfl rfl)
theorem dX7_step_8 : decode cX7_step 8 = .ok (.istore_n 2, 1) := dk_61 (dk_at dksX7_step_0 8 rfl rfl)
theorem dX7_step_9 : decode cX7_step 9 = .ok (.iconst 0, 1) := dk_3 (dk_at dksX7_step_0 9 rfl rfl)
theorem dX7_step_10 : decode cX7_step 10 = .ok (.istore_n 3, 1) := dk_62 (dk_at dksX7_step_0 10 rfl rfl)
theorem dX7_step_11 : decode cX7_step 11 = .ok (.iload_n 3, 1) := dk_29 (dk_at dksX7_step_0 11 rfl rfl)
theorem dX7_step_12 : decode cX7_step 12 = .ok (.aload_n 1, 1) := dk_43 (dk_at dksX7_step_0 12 rfl rfl)
theorem dX7_step_13 : decode cX7_step 13 = .ok (.getfield 138, 3) := dk_180 0 138 (dk_at dksX7_step_0 13 rfl rfl)
theorem dX7_step_16 : decode cX7_step 16 = .ok (.if_icmp .ge 30, 3) := dk_162 0 30 (dk_at dksX7_step_0 16 rfl rfl)
theorem dX7_step_19 : decode cX7_step 19 = .ok (.aload_n 0, 1) := dk_42 (dk_at dksX7_step_0 19 rfl rfl)
theorem dX7_step_20 : decode cX7_step 20 = .ok (.iload_n 2, 1) := dk_28 (dk_at dksX7_step_0 20 rfl rfl)
theorem dX7_step_21 : decode cX7_step 21 = .ok (.aload_n 1, 1) := dk_43 (dk_at dksX7_step_0 21 rfl rfl)
theorem dX7_step_22 : decode cX7_step 22 = .ok (.getfield 168, 3) := dk_180 0 168 (dk_at dksX7_step_1 0 rfl rfl)
theorem dX7_step_25 : decode cX7_step 25 = .ok (.iload_n 3, 1) := dk_29 (dk_at dksX7_step_1 3 rfl rfl)
theorem dX7_step_26 : decode cX7_step 26 = .ok (.iaload, 1) := dk_46 (dk_at dksX7_step_1 4 rfl rfl)
theorem dX7_step_27 : decode cX7_step 27 = .ok (.iload_n 2, 1) := dk_28 (dk_at dksX7_step_1 5 rfl rfl)
theorem dX7_step_28 : decode cX7_step 28 = .ok (.if_icmp .eq 7, 3) := dk_159 0 7 (dk_at dksX7_step_1 6 rfl rfl)
theorem dX7_step_31 : decode cX7_step 31 = .ok (.iconst 1, 1) := dk_4 (dk_at dksX7_step_1 9 rfl rfl)
theorem dX7_step_32 : decode cX7_step 32 = .ok (.goto 4, 3) := dk_167 0 4 (dk_at dksX7_step_1 10 rfl rfl)
theorem dX7_step_35 : decode cX7_step 35 = .ok (.iconst 0, 1) := dk_3 (dk_at dksX7_step_1 13 rfl rfl)
theorem dX7_step_36 : decode cX7_step 36 = .ok (.invokevirtual 50, 3) := dk_182 0 50 (dk_at dksX7_step_1 14 rfl rfl)
theorem dX7_step_39 : decode cX7_step 39 = .ok (.istore_n 2, 1) := dk_61 (dk_at dksX7_step_1 17 rfl rfl)
theorem dX7_step_40 : decode cX7_step 40 = .ok (.iinc 3 1, 3) := dk_132 3 1 (dk_at dksX7_step_1 18 rfl rfl)
theorem dX7_step_43 : decode cX7_step 43 = .ok (.goto (-32), 3) := dk_167 255 224 (dk_at dksX7_step_1 21 rfl rfl)
theorem dX7_step_46 : decode cX7_step 46 = .ok (.aload_n 0, 1) := dk_42 (dk_at dksX7_step_2 0 rfl rfl)
theorem dX7_step_47 : decode cX7_step 47 = .ok (.bipush 58, 2) := dk_16 58 (dk_at dksX7_step_2 1 rfl rfl)
theorem dX7_step_49 : decode cX7_step 49 = .ok (.invokevirtual 67, 3) := dk_182 0 67 (dk_at dksX7_step_2 3 rfl rfl)
theorem dX7_step_52 : decode cX7_step 52 = .ok (.new 172, 3) := dk_187 0 172 (dk_at dksX7_step_2 6 rfl rfl)
theorem dX7_step_55 : decode cX7_step 55 = .ok (.dup, 1) := dk_89 (dk_at dksX7_step_2 9 rfl rfl)
theorem dX7_step_56 : decode cX7_step 56 = .ok (.iload_n 2, 1) := dk_28 (dk_at dksX7_step_2 10 rfl rfl)
theorem dX7_step_57 : decode cX7_step 57 = .ok (.aload_n 0, 1) := dk_42 (dk_at dksX7_step_2 11 rfl rfl)
theorem dX7_step_58 : decode cX7_step 58 = .ok (.iconst 0, 1) := dk_3 (dk_at dksX7_step_2 12 rfl rfl)
theorem dX7_step_59 : decode cX7_step 59 = .ok (.bipush 99, 2) := dk_16 99 (dk_at dksX7_step_2 13 rfl rfl)
theorem dX7_step_61 : decode cX7_step 61 = .ok (.invokevirtual 63, 3) := dk_182 0 63 (dk_at dksX7_step_2 15 rfl rfl)
theorem dX7_step_64 : decode cX7_step 64 = .ok (.invokespecial 174, 3) := dk_183 0 174 (dk_at dksX7_step_2 18 rfl rfl)
theorem dX7_step_67 : decode cX7_step 67 = .ok (.areturn, 1) := dk_176 (dk_at dksX7_step_2 21 rfl rfl)
abbrev cX7_alike : ByteArray := prog_12_method_17_code
def yX7_alike : MethodName := ⟨RX7, "alike", "()LDayBoy$Item;"⟩
def dkwX7_alike_2 : List UInt8 := [27, 28, 42, 3, 16, 99, 182, 0, 63, 183, 0, 177, 176]
abbrev dktX7_alike_2 : List UInt8 := dkwX7_alike_2 ++ []
def dkwX7_alike_1 : List UInt8 := [28, 27, 159, 0, 7, 4, 167, 0, 4, 3, 182, 0, 50, 61, 42, 16, 58, 182, 0, 67, 187, 0, 175, 89]
abbrev dktX7_alike_1 : List UInt8 := dkwX7_alike_1 ++ dktX7_alike_2
def dkwX7_alike_0 : List UInt8 := [42, 4, 16, 12, 182, 0, 63, 60, 42, 16, 61, 182, 0, 67, 42, 4, 16, 12, 182, 0, 63, 61, 42, 28]
abbrev dktX7_alike_0 : List UInt8 := dkwX7_alike_0 ++ dktX7_alike_1
theorem dksX7_alike_0 : cX7_alike.data.toList.drop 0 = dktX7_alike_0 := by decide +kernel
theorem dksX7_alike_1 : cX7_alike.data.toList.drop 24 = dktX7_alike_1 := dk_seg dksX7_alike_0 24 rfl rfl
theorem dksX7_alike_2 : cX7_alike.data.toList.drop 48 = dktX7_alike_2 := dk_seg dksX7_alike_1 24 rfl rfl
theorem dX7_alike_0 : decode cX7_alike 0 = .ok (.aload_n 0, 1) := dk_42 (dk_at dksX7_alike_0 0 rfl rfl)
theorem dX7_alike_1 : decode cX7_alike 1 = .ok (.iconst 1, 1) := dk_4 (dk_at dksX7_alike_0 1 rfl rfl)
theorem dX7_alike_2 : decode cX7_alike 2 = .ok (.bipush 12, 2) := dk_16 12 (dk_at dksX7_alike_0 2 rfl rfl)
theorem dX7_alike_4 : decode cX7_alike 4 = .ok (.invokevirtual 63, 3) := dk_182 0 63 (dk_at dksX7_alike_0 4 rfl rfl)
theorem dX7_alike_7 : decode cX7_alike 7 = .ok (.istore_n 1, 1) := dk_60 (dk_at dksX7_alike_0 7 rfl rfl)
theorem dX7_alike_8 : decode cX7_alike 8 = .ok (.aload_n 0, 1) := dk_42 (dk_at dksX7_alike_0 8 rfl rfl)
theorem dX7_alike_9 : decode cX7_alike 9 = .ok (.bipush 61, 2) := dk_16 61 (dk_at dksX7_alike_0 9 rfl rfl)
theorem dX7_alike_11 : decode cX7_alike 11 = .ok (.invokevirtual 67, 3) := dk_182 0 67 (dk_at dksX7_alike_0 11 rfl rfl)
theorem dX7_alike_14 : decode cX7_alike 14 = .ok (.aload_n 0, 1) := dk_42 (dk_at dksX7_alike_0 14 rfl rfl)
theorem dX7_alike_15 : decode cX7_alike 15 = .ok (.iconst 1, 1) := dk_4 (dk_at dksX7_alike_0 15 rfl rfl)
theorem dX7_alike_16 : decode cX7_alike 16 = .ok (.bipush 12, 2) := dk_16 12 (dk_at dksX7_alike_0 16 rfl rfl)
theorem dX7_alike_18 : decode cX7_alike 18 = .ok (.invokevirtual 63, 3) := dk_182 0 63 (dk_at dksX7_alike_0 18 rfl rfl)
theorem dX7_alike_21 : decode cX7_alike 21 = .ok (.istore_n 2, 1) := dk_61 (dk_at dksX7_alike_0 21 rfl rfl)
theorem dX7_alike_22 : decode cX7_alike 22 = .ok (.aload_n 0, 1) := dk_42 (dk_at dksX7_alike_0 22 rfl rfl)
theorem dX7_alike_23 : decode cX7_alike 23 = .ok (.iload_n 2, 1) := dk_28 (dk_at dksX7_alike_0 23 rfl rfl)
theorem dX7_alike_24 : decode cX7_alike 24 = .ok (.iload_n 2, 1) := dk_28 (dk_at dksX7_alike_1 0 rfl rfl)
theorem dX7_alike_25 : decode cX7_alike 25 = .ok (.iload_n 1, 1) := dk_27 (dk_at dksX7_alike_1 1 rfl rfl)
theorem dX7_alike_26 : decode cX7_alike 26 = .ok (.if_icmp .eq 7, 3) := dk_159 0 7 (dk_at dksX7_alike_1 2 rfl rfl)
theorem dX7_alike_29 : decode cX7_alike 29 = .ok (.iconst 1, 1) := dk_4 (dk_at dksX7_alike_1 5 rfl rfl)
theorem dX7_alike_30 : decode cX7_alike 30 = .ok (.goto 4, 3) := dk_167 0 4 (dk_at dksX7_alike_1 6 rfl rfl)
theorem dX7_alike_33 : decode cX7_alike 33 = .ok (.iconst 0, 1) := dk_3 (dk_at dksX7_alike_1 9 rfl rfl)
theorem dX7_alike_34 : decode cX7_alike 34 = .ok (.invokevirtual 50, 3) := dk_182 0 50 (dk_at dksX7_alike_1 10 rfl rfl)
theorem dX7_alike_37 : decode cX7_alike 37 = .ok (.istore_n 2, 1) := dk_61 (dk_at dksX7_alike_1 13 rfl rfl)
theorem dX7_alike_38 : decode cX7_alike 38 = .ok (.aload_n 0, 1) := dk_42 (dk_at dksX7_alike_1 14 rfl rfl)
theorem dX7_alike_39 : decode cX7_alike 39 = .ok (.bipush 58, 2) := dk_16 58 (dk_at dksX7_alike_1 15 rfl rfl)
theorem dX7_alike_41 : decode cX7_alike 41 = .ok (.invokevirtual 67, 3) := dk_182 0 67 (dk_at dksX7_alike_1 17 rfl rfl)
theorem dX7_alike_44 : decode cX7_alike 44 = .ok (.new 175, 3) := dk_187 0 175 (dk_at dksX7_alike_1 20 rfl rfl)
theorem dX7_alike_47 : decode cX7_alike 47 = .ok (.dup, 1) := dk_89 (dk_at dksX7_alike_1 23 rfl rfl)
theorem dX7_alike_48 : decode cX7_alike 48 = .ok (.iload_n 1, 1) := dk_27 (dk_at dksX7_alike_2 0 rfl rfl)
theorem dX7_alike_49 : decode cX7_alike 49 = .ok (.iload_n 2, 1) := dk_28 (dk_at dksX7_alike_2 1 rfl rfl)
theorem dX7_alike_50 : decode cX7_alike 50 = .ok (.aload_n 0, 1) := dk_42 (dk_at dksX7_alike_2 2 rfl rfl)
theorem dX7_alike_51 : decode cX7_alike 51 = .ok (.iconst 0, 1) := dk_3 (dk_at dksX7_alike_2 3 rfl rfl)
theorem dX7_alike_52 : decode cX7_alike 52 = .ok (.bipush 99, 2) := dk_16 99 (dk_at dksX7_alike_2 4 rfl rfl)
theorem dX7_alike_54 : decode cX7_alike 54 = .ok (.invokevirtual 63, 3) := dk_182 0 63 (dk_at dksX7_alike_2 6 rfl rfl)
theorem dX7_alike_57 : decode cX7_alike 57 = .ok (.invokespecial 177, 3) := dk_183 0 177 (dk_at dksX7_alike_2 9 rfl rfl)
theorem dX7_alike_60 : decode cX7_alike 60 = .ok (.areturn, 1) := dk_176 (dk_at dksX7_alike_2 12 rfl rfl)
abbrev cX7_own : ByteArray := prog_12_method_19_code
def yX7_own : MethodName := ⟨RX7, "own", "(LDayBoy$Head;)LDayBoy$Item;"⟩
def dkwX7_own_1 : List UInt8 := [167, 0, 4, 3, 182, 0, 50, 183, 0, 188, 176]
abbrev dktX7_own_1 : List UInt8 := dkwX7_own_1 ++ []
def dkwX7_own_0 : List UInt8 := [42, 4, 16, 12, 182, 0, 63, 61, 187, 0, 183, 89, 42, 28, 43, 180, 0, 185, 28, 51, 154, 0, 7, 4]
abbrev dktX7_own_0 : List UInt8 := dkwX7_own_0 ++ dktX7_own_1
theorem dksX7_own_0 : cX7_own.data.toList.drop 0 = dktX7_own_0 := by decide +kernel
theorem dksX7_own_1 : cX7_own.data.toList.drop 24 = dktX7_own_1 := dk_seg dksX7_own_0 24 rfl rfl
theorem dX7_own_0 : decode cX7_own 0 = .ok (.aload_n 0, 1) := dk_42 (dk_at dksX7_own_0 0 rfl rfl)
theorem dX7_own_1 : decode cX7_own 1 = .ok (.iconst 1, 1) := dk_4 (dk_at dksX7_own_0 1 rfl rfl)
theorem dX7_own_2 : decode cX7_own 2 = .ok (.bipush 12, 2) := dk_16 12 (dk_at dksX7_own_0 2 rfl rfl)
theorem dX7_own_4 : decode cX7_own 4 = .ok (.invokevirtual 63, 3) := dk_182 0 63 (dk_at dksX7_own_0 4 rfl rfl)
theorem dX7_own_7 : decode cX7_own 7 = .ok (.istore_n 2, 1) := dk_61 (dk_at dksX7_own_0 7 rfl rfl)
theorem dX7_own_8 : decode cX7_own 8 = .ok (.new 183, 3) := dk_187 0 183 (dk_at dksX7_own_0 8 rfl rfl)
theorem dX7_own_11 : decode cX7_own 11 = .ok (.dup, 1) := dk_89 (dk_at dksX7_own_0 11 rfl rfl)
theorem dX7_own_12 : decode cX7_own 12 = .ok (.aload_n 0, 1) := dk_42 (dk_at dksX7_own_0 12 rfl rfl)
theorem dX7_own_13 : decode cX7_own 13 = .ok (.iload_n 2, 1) := dk_28 (dk_at dksX7_own_0 13 rfl rfl)
theorem dX7_own_14 : decode cX7_own 14 = .ok (.aload_n 1, 1) := dk_43 (dk_at dksX7_own_0 14 rfl rfl)
theorem dX7_own_15 : decode cX7_own 15 = .ok (.getfield 185, 3) := dk_180 0 185 (dk_at dksX7_own_0 15 rfl rfl)
theorem dX7_own_18 : decode cX7_own 18 = .ok (.iload_n 2, 1) := dk_28 (dk_at dksX7_own_0 18 rfl rfl)
theorem dX7_own_19 : decode cX7_own 19 = .ok (.baload, 1) := dk_51 (dk_at dksX7_own_0 19 rfl rfl)
theorem dX7_own_20 : decode cX7_own 20 = .ok (.ifCond .ne 7, 3) := dk_154 0 7 (dk_at dksX7_own_0 20 rfl rfl)
theorem dX7_own_23 : decode cX7_own 23 = .ok (.iconst 1, 1) := dk_4 (dk_at dksX7_own_0 23 rfl rfl)
theorem dX7_own_24 : decode cX7_own 24 = .ok (.goto 4, 3) := dk_167 0 4 (dk_at dksX7_own_1 0 rfl rfl)
theorem dX7_own_27 : decode cX7_own 27 = .ok (.iconst 0, 1) := dk_3 (dk_at dksX7_own_1 3 rfl rfl)
theorem dX7_own_28 : decode cX7_own 28 = .ok (.invokevirtual 50, 3) := dk_182 0 50 (dk_at dksX7_own_1 4 rfl rfl)
theorem dX7_own_31 : decode cX7_own 31 = .ok (.invokespecial 188, 3) := dk_183 0 188 (dk_at dksX7_own_1 7 rfl rfl)
theorem dX7_own_34 : decode cX7_own 34 = .ok (.areturn, 1) := dk_176 (dk_at dksX7_own_1 10 rfl rfl)
abbrev cX7_row : ByteArray := prog_12_method_18_code
def yX7_row : MethodName := ⟨RX7, "row", "()I"⟩
def dkwX7_row_6 : List UInt8 := [96, 181, 0, 15, 167, 255, 117, 42, 182, 0, 87, 27, 172]
abbrev dktX7_row_6 : List UInt8 := dkwX7_row_6 ++ []
def dkwX7_row_5 : List UInt8 := [182, 0, 35, 16, 59, 160, 0, 7, 4, 167, 0, 4, 3, 61, 28, 153, 0, 13, 42, 89, 180, 0, 15, 4]
abbrev dktX7_row_5 : List UInt8 := dkwX7_row_5 ++ dktX7_row_6
def dkwX7_row_4 : List UInt8 := [21, 4, 96, 42, 3, 17, 39, 15, 182, 0, 63, 79, 132, 4, 1, 167, 255, 215, 132, 1, 1, 42]
abbrev dktX7_row_4 : List UInt8 := dkwX7_row_4 ++ dktX7_row_5
def dkwX7_row_3 : List UInt8 := [162, 0, 41, 29, 154, 0, 37, 42, 16, 46, 182, 0, 67, 42, 180, 0, 3, 180, 0, 180, 6, 27, 104]
abbrev dktX7_row_3 : List UInt8 := dkwX7_row_3 ++ dktX7_row_4
def dkwX7_row_2 : List UInt8 := [153, 0, 7, 2, 167, 0, 11, 42, 3, 17, 39, 15, 182, 0, 63, 79, 4, 54, 4, 21, 4, 6]
abbrev dktX7_row_2 : List UInt8 := dkwX7_row_2 ++ dktX7_row_3
def dkwX7_row_1 : List UInt8 := [153, 0, 13, 42, 89, 180, 0, 15, 4, 96, 181, 0, 15, 42, 180, 0, 3, 180, 0, 180, 6, 27, 104, 29]
abbrev dktX7_row_1 : List UInt8 := dkwX7_row_1 ++ dktX7_row_2
def dkwX7_row_0 : List UInt8 := [3, 60, 4, 61, 28, 153, 0, 141, 42, 182, 0, 35, 16, 63, 160, 0, 7, 4, 167, 0, 4, 3, 62, 29]
abbrev dktX7_row_0 : List UInt8 := dkwX7_row_0 ++ dktX7_row_1
theorem dksX7_row_0 : cX7_row.data.toList.drop 0 = dktX7_row_0 := by decide +kernel
theorem dksX7_row_1 : cX7_row.data.toList.drop 24 = dktX7_row_1 := dk_seg dksX7_row_0 24 rfl rfl
theorem dksX7_row_2 : cX7_row.data.toList.drop 48 = dktX7_row_2 := dk_seg dksX7_row_1 24 rfl rfl
theorem dksX7_row_3 : cX7_row.data.toList.drop 70 = dktX7_row_3 := dk_seg dksX7_row_2 22 rfl rfl
theorem dksX7_row_4 : cX7_row.data.toList.drop 93 = dktX7_row_4 := dk_seg dksX7_row_3 23 rfl rfl
theorem dksX7_row_5 : cX7_row.data.toList.drop 115 = dktX7_row_5 := dk_seg dksX7_row_4 22 rfl rfl
theorem dksX7_row_6 : cX7_row.data.toList.drop 139 = dktX7_row_6 := dk_seg dksX7_row_5 24 rfl rfl
theorem dX7_row_0 : decode cX7_row 0 = .ok (.iconst 0, 1) := dk_3 (dk_at dksX7_row_0 0 rfl rfl)
theorem dX7_row_1 : decode cX7_row 1 = .ok (.istore_n 1, 1) := dk_60 (dk_at dksX7_row_0 1 rfl rfl)
theorem dX7_row_2 : decode cX7_row 2 = .ok (.iconst 1, 1) := dk_4 (dk_at dksX7_row_0 2 rfl rfl)
theorem dX7_row_3 : decode cX7_row 3 = .ok (.istore_n 2, 1) := dk_61 (dk_at dksX7_row_0 3 rfl rfl)
theorem dX7_row_4 : decode cX7_row 4 = .ok (.iload_n 2, 1) := dk_28 (dk_at dksX7_row_0 4 rfl rfl)
theorem dX7_row_5 : decode cX7_row 5 = .ok (.ifCond .eq 141, 3) := dk_153 0 141 (dk_at dksX7_row_0 5 rfl rfl)
theorem dX7_row_8 : decode cX7_row 8 = .ok (.aload_n 0, 1) := dk_42 (dk_at dksX7_row_0 8 rfl rfl)
theorem dX7_row_9 : decode cX7_row 9 = .ok (.invokevirtual 35, 3) := dk_182 0 35 (dk_at dksX7_row_0 9 rfl rfl)
theorem dX7_row_12 : decode cX7_row 12 = .ok (.bipush 63, 2) := dk_16 63 (dk_at dksX7_row_0 12 rfl rfl)
theorem dX7_row_14 : decode cX7_row 14 = .ok (.if_icmp .ne 7, 3) := dk_160 0 7 (dk_at dksX7_row_0 14 rfl rfl)
theorem dX7_row_17 : decode cX7_row 17 = .ok (.iconst 1, 1) := dk_4 (dk_at dksX7_row_0 17 rfl rfl)
theorem dX7_row_18 : decode cX7_row 18 = .ok (.goto 4, 3) := dk_167 0 4 (dk_at dksX7_row_0 18 rfl rfl)
theorem dX7_row_21 : decode cX7_row 21 = .ok (.iconst 0, 1) := dk_3 (dk_at dksX7_row_0 21 rfl rfl)
theorem dX7_row_22 : decode cX7_row 22 = .ok (.istore_n 3, 1) := dk_62 (dk_at dksX7_row_0 22 rfl rfl)
theorem dX7_row_23 : decode cX7_row 23 = .ok (.iload_n 3, 1) := dk_29 (dk_at dksX7_row_0 23 rfl rfl)
theorem dX7_row_24 : decode cX7_row 24 = .ok (.ifCond .eq 13, 3) := dk_153 0 13 (dk_at dksX7_row_1 0 rfl rfl)
theorem dX7_row_27 : decode cX7_row 27 = .ok (.aload_n 0, 1) := dk_42 (dk_at dksX7_row_1 3 rfl rfl)
theorem dX7_row_28 : decode cX7_row 28 = .ok (.dup, 1) := dk_89 (dk_at dksX7_row_1 4 rfl rfl)
theorem dX7_row_29 : decode cX7_row 29 = .ok (.getfield 15, 3) := dk_180 0 15 (dk_at dksX7_row_1 5 rfl rfl)
theorem dX7_row_32 : decode cX7_row 32 = .ok (.iconst 1, 1) := dk_4 (dk_at dksX7_row_1 8 rfl rfl)
theorem dX7_row_33 : decode cX7_row 33 = .ok (.iadd, 1) := dk_96 (dk_at dksX7_row_1 9 rfl rfl)
theorem dX7_row_34 : decode cX7_row 34 = .ok (.putfield 15, 3) := dk_181 0 15 (dk_at dksX7_row_1 10 rfl rfl)
theorem dX7_row_37 : decode cX7_row 37 = .ok (.aload_n 0, 1) := dk_42 (dk_at dksX7_row_1 13 rfl rfl)
theorem dX7_row_38 : decode cX7_row 38 = .ok (.getfield 3, 3) := dk_180 0 3 (dk_at dksX7_row_1 14 rfl rfl)
theorem dX7_row_41 : decode cX7_row 41 = .ok (.getfield 180, 3) := dk_180 0 180 (dk_at dksX7_row_1 17 rfl rfl)
theorem dX7_row_44 : decode cX7_row 44 = .ok (.iconst 3, 1) := dk_6 (dk_at dksX7_row_1 20 rfl rfl)
theorem dX7_row_45 : decode cX7_row 45 = .ok (.iload_n 1, 1) := dk_27 (dk_at dksX7_row_1 21 rfl rfl)
theorem dX7_row_46 : decode cX7_row 46 = .ok (.imul, 1) := dk_104 (dk_at dksX7_row_1 22 rfl rfl)
theorem dX7_row_47 : decode cX7_row 47 = .ok (.iload_n 3, 1) := dk_29 (dk_at dksX7_row_1 23 rfl rfl)
theorem dX7_row_48 : decode cX7_row 48 = .ok (.ifCond .eq 7, 3) := dk_153 0 7 (dk_at dksX7_row_2 0 rfl rfl)
theorem dX7_row_51 : decode cX7_row 51 = .ok (.iconst (-1), 1) := dk_2 (dk_at dksX7_row_2 3 rfl rfl)
theorem dX7_row_52 : decode cX7_row 52 = .ok (.goto 11, 3) := dk_167 0 11 (dk_at dksX7_row_2 4 rfl rfl)
theorem dX7_row_55 : decode cX7_row 55 = .ok (.aload_n 0, 1) := dk_42 (dk_at dksX7_row_2 7 rfl rfl)
theorem dX7_row_56 : decode cX7_row 56 = .ok (.iconst 0, 1) := dk_3 (dk_at dksX7_row_2 8 rfl rfl)
theorem dX7_row_57 : decode cX7_row 57 = .ok (.sipush 9999, 3) := dk_17 39 15 (dk_at dksX7_row_2 9 rfl rfl)
theorem dX7_row_60 : decode cX7_row 60 = .ok (.invokevirtual 63, 3) := dk_182 0 63 (dk_at dksX7_row_2 12 rfl rfl)
theorem dX7_row_63 : decode cX7_row 63 = .ok (.iastore, 1) := dk_79 (dk_at dksX7_row_2 15 rfl rfl)
theorem dX7_row_64 : decode cX7_row 64 = .ok (.iconst 1, 1) := dk_4 (dk_at dksX7_row_2 16 rfl rfl)
theorem dX7_row_65 : decode cX7_row 65 = .ok (.istore 4, 2) := dk_54 4 (dk_at dksX7_row_2 17 rfl rfl)
theorem dX7_row_67 : decode cX7_row 67 = .ok (.iload 4, 2) := dk_21 4 (dk_at dksX7_row_2 19 rfl rfl)
theorem dX7_row_69 : decode cX7_row 69 = .ok (.iconst 3, 1) := dk_6 (dk_at dksX7_row_2 21 rfl rfl)
theorem dX7_row_70 : decode cX7_row 70 = .ok (.if_icmp .ge 41, 3) := dk_162 0 41 (dk_at dksX7_row_3 0 rfl rfl)
theorem dX7_row_73 : decode cX7_row 73 = .ok (.iload_n 3, 1) := dk_29 (dk_at dksX7_row_3 3 rfl rfl)
theorem dX7_row_74 : decode cX7_row 74 = .ok (.ifCond .ne 37, 3) := dk_154 0 37 (dk_at dksX7_row_3 4 rfl rfl)
theorem dX7_row_77 : decode cX7_row 77 = .ok (.aload_n 0, 1) := dk_42 (dk_at dksX7_row_3 7 rfl rfl)
theorem dX7_row_78 : decode cX7_row 78 = .ok (.bipush 46, 2) := dk_16 46 (dk_at dksX7_row_3 8 rfl rfl)
theorem dX7_row_80 : decode cX7_row 80 = .ok (.invokevirtual 67, 3) := dk_182 0 67 (dk_at dksX7_row_3 10 rfl rfl)
theorem dX7_row_83 : decode cX7_row 83 = .ok (.aload_n 0, 1) := dk_42 (dk_at dksX7_row_3 13 rfl rfl)
theorem dX7_row_84 : decode cX7_row 84 = .ok (.getfield 3, 3) := dk_180 0 3 (dk_at dksX7_row_3 14 rfl rfl)
theorem dX7_row_87 : decode cX7_row 87 = .ok (.getfield 180, 3) := dk_180 0 180 (dk_at dksX7_row_3 17 rfl rfl)
theorem dX7_row_90 : decode cX7_row 90 = .ok (.iconst 3, 1) := dk_6 (dk_at dksX7_row_3 20 rfl rfl)
theorem dX7_row_91 : decode cX7_row 91 = .ok (.iload_n 1, 1) := dk_27 (dk_at dksX7_row_3 21 rfl rfl)
theorem dX7_row_92 : decode cX7_row 92 = .ok (.imul, 1) := dk_104 (dk_at dksX7_row_3 22 rfl rfl)
theorem dX7_row_93 : decode cX7_row 93 = .ok (.iload 4, 2) := dk_21 4 (dk_at dksX7_row_4 0 rfl rfl)
theorem dX7_row_95 : decode cX7_row 95 = .ok (.iadd, 1) := dk_96 (dk_at dksX7_row_4 2 rfl rfl)
theorem dX7_row_96 : decode cX7_row 96 = .ok (.aload_n 0, 1) := dk_42 (dk_at dksX7_row_4 3 rfl rfl)
theorem dX7_row_97 : decode cX7_row 97 = .ok (.iconst 0, 1) := dk_3 (dk_at dksX7_row_4 4 rfl rfl)
theorem dX7_row_98 : decode cX7_row 98 = .ok (.sipush 9999, 3) := dk_17 39 15 (dk_at dksX7_row_4 5 rfl rfl)
theorem dX7_row_101 : decode cX7_row 101 = .ok (.invokevirtual 63, 3) := dk_182 0 63 (dk_at dksX7_row_4 8 rfl rfl)
theorem dX7_row_104 : decode cX7_row 104 = .ok (.iastore, 1) := dk_79 (dk_at dksX7_row_4 11 rfl rfl)
theorem dX7_row_105 : decode cX7_row 105 = .ok (.iinc 4 1, 3) := dk_132 4 1 (dk_at dksX7_row_4 12 rfl rfl)
theorem dX7_row_108 : decode cX7_row 108 = .ok (.goto (-41), 3) := dk_167 255 215 (dk_at dksX7_row_4 15 rfl rfl)
theorem dX7_row_111 : decode cX7_row 111 = .ok (.iinc 1 1, 3) := dk_132 1 1 (dk_at dksX7_row_4 18 rfl rfl)
theorem dX7_row_114 : decode cX7_row 114 = .ok (.aload_n 0, 1) := dk_42 (dk_at dksX7_row_4 21 rfl rfl)
theorem dX7_row_115 : decode cX7_row 115 = .ok (.invokevirtual 35, 3) := dk_182 0 35 (dk_at dksX7_row_5 0 rfl rfl)
theorem dX7_row_118 : decode cX7_row 118 = .ok (.bipush 59, 2) := dk_16 59 (dk_at dksX7_row_5 3 rfl rfl)
theorem dX7_row_120 : decode cX7_row 120 = .ok (.if_icmp .ne 7, 3) := dk_160 0 7 (dk_at dksX7_row_5 5 rfl rfl)
theorem dX7_row_123 : decode cX7_row 123 = .ok (.iconst 1, 1) := dk_4 (dk_at dksX7_row_5 8 rfl rfl)
theorem dX7_row_124 : decode cX7_row 124 = .ok (.goto 4, 3) := dk_167 0 4 (dk_at dksX7_row_5 9 rfl rfl)
theorem dX7_row_127 : decode cX7_row 127 = .ok (.iconst 0, 1) := dk_3 (dk_at dksX7_row_5 12 rfl rfl)
theorem dX7_row_128 : decode cX7_row 128 = .ok (.istore_n 2, 1) := dk_61 (dk_at dksX7_row_5 13 rfl rfl)
theorem dX7_row_129 : decode cX7_row 129 = .ok (.iload_n 2, 1) := dk_28 (dk_at dksX7_row_5 14 rfl rfl)
theorem dX7_row_130 : decode cX7_row 130 = .ok (.ifCond .eq 13, 3) := dk_153 0 13 (dk_at dksX7_row_5 15 rfl rfl)
theorem dX7_row_133 : decode cX7_row 133 = .ok (.aload_n 0, 1) := dk_42 (dk_at dksX7_row_5 18 rfl rfl)
theorem dX7_row_134 : decode cX7_row 134 = .ok (.dup, 1) := dk_89 (dk_at dksX7_row_5 19 rfl rfl)
theorem dX7_row_135 : decode cX7_row 135 = .ok (.getfield 15, 3) := dk_180 0 15 (dk_at dksX7_row_5 20 rfl rfl)
theorem dX7_row_138 : decode cX7_row 138 = .ok (.iconst 1, 1) := dk_4 (dk_at dksX7_row_5 23 rfl rfl)
theorem dX7_row_139 : decode cX7_row 139 = .ok (.iadd, 1) := dk_96 (dk_at dksX7_row_6 0 rfl rfl)
theorem dX7_row_140 : decode cX7_row 140 = .ok (.putfield 15, 3) := dk_181 0 15 (dk_at dksX7_row_6 1 rfl rfl)
theorem dX7_row_143 : decode cX7_row 143 = .ok (.goto (-139), 3) := dk_167 255 117 (dk_at dksX7_row_6 4 rfl rfl)
theorem dX7_row_146 : decode cX7_row 146 = .ok (.aload_n 0, 1) := dk_42 (dk_at dksX7_row_6 7 rfl rfl)
theorem dX7_row_147 : decode cX7_row 147 = .ok (.invokevirtual 87, 3) := dk_182 0 87 (dk_at dksX7_row_6 8 rfl rfl)
theorem dX7_row_150 : decode cX7_row 150 = .ok (.iload_n 1, 1) := dk_27 (dk_at dksX7_row_6 11 rfl rfl)
theorem dX7_row_151 : decode cX7_row 151 = .ok (.ireturn, 1) := dk_172 (dk_at dksX7_row_6 12 rfl rfl)
theorem q110 : (Jvm.Cond.initialized "DayBoy$Reader") ∈ lw_all := lw_g (lw_at lw_m1 7 rfl) rfl
theorem q159 : (Jvm.Cond.fieldLinkNest "DayBoy$Reader" (102 : Nat) "DayBoy$Leaps" "many" "I" "DayBoy") ∈ lw_tbl := lw_at lw_m1 56 rfl
theorem q174 : (Jvm.Cond.fieldLinkNest "DayBoy$Reader" (74 : Nat) "DayBoy$Era" "leaps" "LDayBoy$Leaps;" "DayBoy") ∈ lw_tbl := lw_at lw_m1 71 rfl
theorem q177 : (Jvm.Cond.fieldLinkNest "DayBoy$Reader" (111 : Nat) "DayBoy$Era" "place" "I" "DayBoy") ∈ lw_tbl := lw_at lw_m1 74 rfl
theorem q179 : (Jvm.Cond.fieldLinkNest "DayBoy$Reader" (100 : Nat) "DayBoy$Era" "last" "I" "DayBoy") ∈ lw_tbl := lw_at lw_m1 76 rfl
theorem q191 : (Jvm.Cond.fieldLinkNest "DayBoy$Reader" (58 : Nat) "DayBoy$Almanac" "many" "I" "DayBoy") ∈ lw_tbl := lw_at lw_m1 88 rfl
theorem q209 : (Jvm.Cond.fieldLinkNest "DayBoy$Reader" (168 : Nat) "DayBoy$Head" "steps" "[I" "DayBoy") ∈ lw_tbl := lw_at lw_m1 106 rfl
theorem q227 : (Jvm.Cond.fieldLinkNest "DayBoy$Reader" (185 : Nat) "DayBoy$Head" "own" "[Z" "DayBoy") ∈ lw_tbl := lw_at lw_m1 124 rfl
theorem q236 : (Jvm.Cond.fieldLinkNest "DayBoy$Reader" (135 : Nat) "DayBoy$Head" "ranges" "I" "DayBoy") ∈ lw_tbl := lw_at lw_m1 133 rfl
theorem q239 : (Jvm.Cond.fieldLinkNest "DayBoy$Reader" (138 : Nat) "DayBoy$Head" "stepMany" "I" "DayBoy") ∈ lw_tbl := lw_at lw_m1 136 rfl
theorem q243 : (Jvm.Cond.fieldLinkNest "DayBoy$Reader" (141 : Nat) "DayBoy$Head" "mateMany" "I" "DayBoy") ∈ lw_tbl := lw_at lw_m1 140 rfl
theorem q303 : (Jvm.Cond.fieldLinkNest "DayBoy$Reader" (22 : Nat) "DayBoy" "tape" "[B" "DayBoy") ∈ lw_tbl := lw_at lw_m1 200 rfl
theorem q304 : (Jvm.Cond.fieldLinkNest "DayBoy$Reader" (19 : Nat) "DayBoy" "length" "I" "DayBoy") ∈ lw_tbl := lw_at lw_m1 201 rfl
theorem q307 : (Jvm.Cond.fieldLinkNest "DayBoy$Reader" (54 : Nat) "DayBoy" "draft" "LDayBoy$Almanac;" "DayBoy") ∈ lw_tbl := lw_at lw_m1 204 rfl
theorem q309 : (Jvm.Cond.fieldLinkNest "DayBoy$Reader" (116 : Nat) "DayBoy" "draftHead" "LDayBoy$Head;" "DayBoy") ∈ lw_tbl := lw_at lw_m1 206 rfl
theorem q315 : (Jvm.Cond.fieldLinkNest "DayBoy$Reader" (180 : Nat) "DayBoy" "rowDraft" "[I" "DayBoy") ∈ lw_tbl := lw_at lw_m1 212 rfl
theorem q417 : (Jvm.Cond.instantiable "DayBoy$Reader" (3 : Nat)) ∈ lw_all := lw_g (lw_at lw_m2 74 rfl) rfl
theorem q419 : (Jvm.Cond.instanceMethod ({ cls := "DayBoy$Reader", name := "<init>", desc := "(LDayBoy;)V" } : Jvm.MethodName)) ∈ lw_all := lw_g (lw_at lw_m2 76 rfl) rfl
theorem q420 : (Jvm.Cond.code ({ cls := "DayBoy$Reader", name := "<init>", desc := "(LDayBoy;)V" } : Jvm.MethodName) prog_12_method_1_code (2 : Nat) (Option.none : Option Jvm.ClassFile.FieldType)) ∈ lw_all := lw_g (lw_at lw_m2 77 rfl) rfl
theorem q421 : (Jvm.Cond.methodLink "DayBoy$Reader" (9 : Nat) ({ cls := "java/lang/Object", name := "<init>", desc := "()V" } : Jvm.MethodName)) ∈ lw_all := lw_g (lw_at lw_m2 78 rfl) rfl
theorem q422 : (Jvm.Cond.fieldLink "DayBoy$Reader" (15 : Nat) "DayBoy$Reader" "at" "I") ∈ lw_all := lw_g (lw_at lw_m2 79 rfl) rfl
theorem q423 : (Jvm.Cond.fieldLink "DayBoy$Reader" (144 : Nat) "DayBoy$Reader" "letters" "I") ∈ lw_all := lw_g (lw_at lw_m2 80 rfl) rfl
theorem q424 : (Jvm.Cond.fieldLink "DayBoy$Reader" (3 : Nat) "DayBoy$Reader" "this$0" "LDayBoy;") ∈ lw_all := lw_g (lw_at lw_m2 81 rfl) rfl
theorem q425 : (Jvm.Cond.lays "DayBoy$Reader" "DayBoy$Reader" "at" "I") ∈ lw_all := lw_g (lw_at lw_m2 82 rfl) rfl
theorem q426 : (Jvm.Cond.soleField "DayBoy$Reader" "at") ∈ lw_all := lw_g (lw_at lw_m2 83 rfl) rfl
theorem q427 : (Jvm.Cond.lays "DayBoy$Reader" "DayBoy$Reader" "letters" "I") ∈ lw_all := lw_g (lw_at lw_m2 84 rfl) rfl
theorem q428 : (Jvm.Cond.soleField "DayBoy$Reader" "letters") ∈ lw_all := lw_g (lw_at lw_m2 85 rfl) rfl
theorem q429 : (Jvm.Cond.laysFinal "DayBoy$Reader" "DayBoy$Reader" "this$0" "LDayBoy;") ∈ lw_all := lw_g (lw_at lw_m2 86 rfl) rfl
theorem q430 : (Jvm.Cond.soleField "DayBoy$Reader" "this$0") ∈ lw_all := lw_g (lw_at lw_m2 87 rfl) rfl
theorem q431 : (Jvm.Cond.superclass "DayBoy$Reader" "java/lang/Object") ∈ lw_all := lw_g (lw_at lw_m2 88 rfl) rfl
theorem q433 : (Jvm.Cond.instanceMethod ({ cls := "DayBoy$Reader", name := "calendar", desc := "()V" } : Jvm.MethodName)) ∈ lw_all := lw_g (lw_at lw_m2 90 rfl) rfl
theorem q434 : (Jvm.Cond.selects "DayBoy$Reader" ({ cls := "DayBoy$Reader", name := "calendar", desc := "()V" } : Jvm.MethodName) ({ cls := "DayBoy$Reader", name := "calendar", desc := "()V" } : Jvm.MethodName)) ∈ lw_all := lw_g (lw_at lw_m2 91 rfl) rfl
theorem q435 : (Jvm.Cond.code ({ cls := "DayBoy$Reader", name := "calendar", desc := "()V" } : Jvm.MethodName) prog_12_method_10_code (4 : Nat) (Option.none : Option Jvm.ClassFile.FieldType)) ∈ lw_all := lw_g (lw_at lw_m2 92 rfl) rfl
theorem q436 : (Jvm.Cond.methodLink "DayBoy$Reader" (63 : Nat) ({ cls := "DayBoy$Reader", name := "number", desc := "(II)I" } : Jvm.MethodName)) ∈ lw_all := lw_g (lw_at lw_m2 93 rfl) rfl
theorem q437 : (Jvm.Cond.privateMethod ({ cls := "DayBoy$Reader", name := "number", desc := "(II)I" } : Jvm.MethodName)) ∈ lw_tbl := lw_at lw_m2 94 rfl
theorem q438 : (Jvm.Cond.instanceMethod ({ cls := "DayBoy$Reader", name := "number", desc := "(II)I" } : Jvm.MethodName)) ∈ lw_all := lw_g (lw_at lw_m2 95 rfl) rfl
theorem q439 : (Jvm.Cond.code ({ cls := "DayBoy$Reader", name := "number", desc := "(II)I" } : Jvm.MethodName) prog_12_method_7_code (6 : Nat) (Option.some Jvm.ClassFile.FieldType.int)) ∈ lw_all := lw_g (lw_at lw_m2 96 rfl) rfl
theorem q440 : (Jvm.Cond.methodLink "DayBoy$Reader" (35 : Nat) ({ cls := "DayBoy$Reader", name := "look", desc := "()I" } : Jvm.MethodName)) ∈ lw_all := lw_g (lw_at lw_m2 97 rfl) rfl
theorem q441 : (Jvm.Cond.privateMethod ({ cls := "DayBoy$Reader", name := "look", desc := "()I" } : Jvm.MethodName)) ∈ lw_tbl := lw_at lw_m2 98 rfl
theorem q442 : (Jvm.Cond.instanceMethod ({ cls := "DayBoy$Reader", name := "look", desc := "()I" } : Jvm.MethodName)) ∈ lw_all := lw_g (lw_at lw_m2 99 rfl) rfl
theorem q443 : (Jvm.Cond.code ({ cls := "DayBoy$Reader", name := "look", desc := "()I" } : Jvm.MethodName) prog_12_method_3_code (1 : Nat) (Option.some Jvm.ClassFile.FieldType.int)) ∈ lw_all := lw_g (lw_at lw_m2 100 rfl) rfl
theorem q444 : (Jvm.Cond.methodLink "DayBoy$Reader" (26 : Nat) ({ cls := "DayBoy$Reader", name := "here", desc := "()I" } : Jvm.MethodName)) ∈ lw_all := lw_g (lw_at lw_m2 101 rfl) rfl
theorem q445 : (Jvm.Cond.privateMethod ({ cls := "DayBoy$Reader", name := "here", desc := "()I" } : Jvm.MethodName)) ∈ lw_tbl := lw_at lw_m2 102 rfl
theorem q446 : (Jvm.Cond.instanceMethod ({ cls := "DayBoy$Reader", name := "here", desc := "()I" } : Jvm.MethodName)) ∈ lw_all := lw_g (lw_at lw_m2 103 rfl) rfl
theorem q447 : (Jvm.Cond.code ({ cls := "DayBoy$Reader", name := "here", desc := "()I" } : Jvm.MethodName) prog_12_method_2_code (1 : Nat) (Option.some Jvm.ClassFile.FieldType.int)) ∈ lw_all := lw_g (lw_at lw_m2 104 rfl) rfl
theorem q448 : (Jvm.Cond.methodLink "DayBoy$Reader" (42 : Nat) ({ cls := "DayBoy$Reader", name := "isDigit", desc := "()Z" } : Jvm.MethodName)) ∈ lw_all := lw_g (lw_at lw_m2 105 rfl) rfl
theorem q449 : (Jvm.Cond.privateMethod ({ cls := "DayBoy$Reader", name := "isDigit", desc := "()Z" } : Jvm.MethodName)) ∈ lw_tbl := lw_at lw_m2 106 rfl
theorem q450 : (Jvm.Cond.instanceMethod ({ cls := "DayBoy$Reader", name := "isDigit", desc := "()Z" } : Jvm.MethodName)) ∈ lw_all := lw_g (lw_at lw_m2 107 rfl) rfl
theorem q451 : (Jvm.Cond.code ({ cls := "DayBoy$Reader", name := "isDigit", desc := "()Z" } : Jvm.MethodName) prog_12_method_6_code (1 : Nat) (Option.some Jvm.ClassFile.FieldType.boolean)) ∈ lw_all := lw_g (lw_at lw_m2 108 rfl) rfl
theorem q452 : (Jvm.Cond.methodLink "DayBoy$Reader" (38 : Nat) ({ cls := "DayBoy$Reader", name := "take", desc := "(Z)I" } : Jvm.MethodName)) ∈ lw_all := lw_g (lw_at lw_m2 109 rfl) rfl
theorem q453 : (Jvm.Cond.privateMethod ({ cls := "DayBoy$Reader", name := "take", desc := "(Z)I" } : Jvm.MethodName)) ∈ lw_tbl := lw_at lw_m2 110 rfl
theorem q454 : (Jvm.Cond.instanceMethod ({ cls := "DayBoy$Reader", name := "take", desc := "(Z)I" } : Jvm.MethodName)) ∈ lw_all := lw_g (lw_at lw_m2 111 rfl) rfl
theorem q455 : (Jvm.Cond.code ({ cls := "DayBoy$Reader", name := "take", desc := "(Z)I" } : Jvm.MethodName) prog_12_method_4_code (2 : Nat) (Option.some Jvm.ClassFile.FieldType.int)) ∈ lw_all := lw_g (lw_at lw_m2 112 rfl) rfl
theorem q456 : (Jvm.Cond.classLink "DayBoy$Reader" (30 : Nat) "DayBoy$Wrong") ∈ lw_all := lw_g (lw_at lw_m2 113 rfl) rfl
theorem q496 : (Jvm.Cond.methodLink "DayBoy$Reader" (32 : Nat) ({ cls := "DayBoy$Wrong", name := "<init>", desc := "(I)V" } : Jvm.MethodName)) ∈ lw_all := lw_g (lw_at lw_m2 153 rfl) rfl
theorem q525 : (Jvm.Cond.methodLinkNest "DayBoy$Reader" (46 : Nat) ({ cls := "DayBoy", name := "isIn", desc := "(JJJ)Z" } : Jvm.MethodName) "DayBoy") ∈ lw_tbl := lw_at lw_m2 182 rfl
theorem q526 : (Jvm.Cond.methodLink "DayBoy$Reader" (50 : Nat) ({ cls := "DayBoy$Reader", name := "right", desc := "(IZ)I" } : Jvm.MethodName)) ∈ lw_all := lw_g (lw_at lw_m2 183 rfl) rfl
theorem q527 : (Jvm.Cond.privateMethod ({ cls := "DayBoy$Reader", name := "right", desc := "(IZ)I" } : Jvm.MethodName)) ∈ lw_tbl := lw_at lw_m2 184 rfl
theorem q528 : (Jvm.Cond.instanceMethod ({ cls := "DayBoy$Reader", name := "right", desc := "(IZ)I" } : Jvm.MethodName)) ∈ lw_all := lw_g (lw_at lw_m2 185 rfl) rfl
theorem q529 : (Jvm.Cond.code ({ cls := "DayBoy$Reader", name := "right", desc := "(IZ)I" } : Jvm.MethodName) prog_12_method_8_code (3 : Nat) (Option.some Jvm.ClassFile.FieldType.int)) ∈ lw_all := lw_g (lw_at lw_m2 186 rfl) rfl
theorem q530 : (Jvm.Cond.methodLink "DayBoy$Reader" (67 : Nat) ({ cls := "DayBoy$Reader", name := "takes", desc := "(I)V" } : Jvm.MethodName)) ∈ lw_all := lw_g (lw_at lw_m2 187 rfl) rfl
theorem q531 : (Jvm.Cond.privateMethod ({ cls := "DayBoy$Reader", name := "takes", desc := "(I)V" } : Jvm.MethodName)) ∈ lw_tbl := lw_at lw_m2 188 rfl
theorem q532 : (Jvm.Cond.instanceMethod ({ cls := "DayBoy$Reader", name := "takes", desc := "(I)V" } : Jvm.MethodName)) ∈ lw_all := lw_g (lw_at lw_m2 189 rfl) rfl
theorem q533 : (Jvm.Cond.code ({ cls := "DayBoy$Reader", name := "takes", desc := "(I)V" } : Jvm.MethodName) prog_12_method_5_code (3 : Nat) (Option.none : Option Jvm.ClassFile.FieldType)) ∈ lw_all := lw_g (lw_at lw_m2 190 rfl) rfl
theorem q534 : (Jvm.Cond.methodLink "DayBoy$Reader" (70 : Nat) ({ cls := "DayBoy$Almanac", name := "add", desc := "(I)LDayBoy$Era;" } : Jvm.MethodName)) ∈ lw_all := lw_g (lw_at lw_m2 191 rfl) rfl
theorem q546 : (Jvm.Cond.methodLink "DayBoy$Reader" (80 : Nat) ({ cls := "DayBoy$Reader", name := "leaps", desc := "(LDayBoy$Leaps;)V" } : Jvm.MethodName)) ∈ lw_all := lw_g (lw_at lw_m2 203 rfl) rfl
theorem q547 : (Jvm.Cond.privateMethod ({ cls := "DayBoy$Reader", name := "leaps", desc := "(LDayBoy$Leaps;)V" } : Jvm.MethodName)) ∈ lw_tbl := lw_at lw_m2 204 rfl
theorem q548 : (Jvm.Cond.instanceMethod ({ cls := "DayBoy$Reader", name := "leaps", desc := "(LDayBoy$Leaps;)V" } : Jvm.MethodName)) ∈ lw_all := lw_g (lw_at lw_m2 205 rfl) rfl
theorem q549 : (Jvm.Cond.code ({ cls := "DayBoy$Reader", name := "leaps", desc := "(LDayBoy$Leaps;)V" } : Jvm.MethodName) prog_12_method_11_code (4 : Nat) (Option.none : Option Jvm.ClassFile.FieldType)) ∈ lw_all := lw_g (lw_at lw_m2 206 rfl) rfl
theorem q550 : (Jvm.Cond.methodLink "DayBoy$Reader" (103 : Nat) ({ cls := "DayBoy$Leaps", name := "add", desc := "(IZ)V" } : Jvm.MethodName)) ∈ lw_all := lw_g (lw_at lw_m2 207 rfl) rfl
theorem q554 : (Jvm.Cond.methodLink "DayBoy$Reader" (106 : Nat) ({ cls := "DayBoy$Leaps", name := "count", desc := "()V" } : Jvm.MethodName)) ∈ lw_all := lw_g (lw_at lw_m2 211 rfl) rfl
theorem q562 : (Jvm.Cond.methodLink "DayBoy$Reader" (83 : Nat) ({ cls := "DayBoy$Reader", name := "change", desc := "(LDayBoy$Almanac;)V" } : Jvm.MethodName)) ∈ lw_all := lw_g (lw_at lw_m2 219 rfl) rfl
theorem q563 : (Jvm.Cond.privateMethod ({ cls := "DayBoy$Reader", name := "change", desc := "(LDayBoy$Almanac;)V" } : Jvm.MethodName)) ∈ lw_tbl := lw_at lw_m2 220 rfl
theorem q564 : (Jvm.Cond.instanceMethod ({ cls := "DayBoy$Reader", name := "change", desc := "(LDayBoy$Almanac;)V" } : Jvm.MethodName)) ∈ lw_all := lw_g (lw_at lw_m2 221 rfl) rfl
theorem q565 : (Jvm.Cond.code ({ cls := "DayBoy$Reader", name := "change", desc := "(LDayBoy$Almanac;)V" } : Jvm.MethodName) prog_12_method_12_code (8 : Nat) (Option.none : Option Jvm.ClassFile.FieldType)) ∈ lw_all := lw_g (lw_at lw_m2 222 rfl) rfl
theorem q566 : (Jvm.Cond.methodLink "DayBoy$Reader" (90 : Nat) ({ cls := "DayBoy$Almanac", name := "last", desc := "()LDayBoy$Era;" } : Jvm.MethodName)) ∈ lw_all := lw_g (lw_at lw_m2 223 rfl) rfl
theorem q567 : (Jvm.Cond.methodLink "DayBoy$Reader" (109 : Nat) ({ cls := "DayBoy$Leaps", name := "length", desc := "(II)I" } : Jvm.MethodName)) ∈ lw_all := lw_g (lw_at lw_m2 224 rfl) rfl
theorem q571 : (Jvm.Cond.methodLink "DayBoy$Reader" (94 : Nat) ({ cls := "DayBoy$Leaps", name := "place", desc := "(III)I" } : Jvm.MethodName)) ∈ lw_all := lw_g (lw_at lw_m2 228 rfl) rfl
theorem q587 : (Jvm.Cond.methodLink "DayBoy$Reader" (113 : Nat) ({ cls := "DayBoy$Era", name := "dayOf", desc := "(III)I" } : Jvm.MethodName)) ∈ lw_all := lw_g (lw_at lw_m3 4 rfl) rfl
theorem q592 : (Jvm.Cond.methodLink "DayBoy$Reader" (87 : Nat) ({ cls := "DayBoy$Reader", name := "ends", desc := "()V" } : Jvm.MethodName)) ∈ lw_all := lw_g (lw_at lw_m3 9 rfl) rfl
theorem q593 : (Jvm.Cond.privateMethod ({ cls := "DayBoy$Reader", name := "ends", desc := "()V" } : Jvm.MethodName)) ∈ lw_tbl := lw_at lw_m3 10 rfl
theorem q594 : (Jvm.Cond.instanceMethod ({ cls := "DayBoy$Reader", name := "ends", desc := "()V" } : Jvm.MethodName)) ∈ lw_all := lw_g (lw_at lw_m3 11 rfl) rfl
theorem q595 : (Jvm.Cond.code ({ cls := "DayBoy$Reader", name := "ends", desc := "()V" } : Jvm.MethodName) prog_12_method_9_code (1 : Nat) (Option.none : Option Jvm.ClassFile.FieldType)) ∈ lw_all := lw_g (lw_at lw_m3 12 rfl) rfl
theorem q597 : (Jvm.Cond.instanceMethod ({ cls := "DayBoy$Reader", name := "head", desc := "()V" } : Jvm.MethodName)) ∈ lw_all := lw_g (lw_at lw_m3 14 rfl) rfl
theorem q598 : (Jvm.Cond.selects "DayBoy$Reader" ({ cls := "DayBoy$Reader", name := "head", desc := "()V" } : Jvm.MethodName) ({ cls := "DayBoy$Reader", name := "head", desc := "()V" } : Jvm.MethodName)) ∈ lw_all := lw_g (lw_at lw_m3 15 rfl) rfl
theorem q599 : (Jvm.Cond.code ({ cls := "DayBoy$Reader", name := "head", desc := "()V" } : Jvm.MethodName) prog_12_method_13_code (2 : Nat) (Option.none : Option Jvm.ClassFile.FieldType)) ∈ lw_all := lw_g (lw_at lw_m3 16 rfl) rfl
theorem q600 : (Jvm.Cond.methodLink "DayBoy$Reader" (120 : Nat) ({ cls := "DayBoy$Head", name := "empty", desc := "()V" } : Jvm.MethodName)) ∈ lw_all := lw_g (lw_at lw_m3 17 rfl) rfl
theorem q604 : (Jvm.Cond.methodLink "DayBoy$Reader" (125 : Nat) ({ cls := "DayBoy$Reader", name := "item", desc := "(LDayBoy$Head;)LDayBoy$Item;" } : Jvm.MethodName)) ∈ lw_all := lw_g (lw_at lw_m3 21 rfl) rfl
theorem q605 : (Jvm.Cond.privateMethod ({ cls := "DayBoy$Reader", name := "item", desc := "(LDayBoy$Head;)LDayBoy$Item;" } : Jvm.MethodName)) ∈ lw_tbl := lw_at lw_m3 22 rfl
theorem q606 : (Jvm.Cond.instanceMethod ({ cls := "DayBoy$Reader", name := "item", desc := "(LDayBoy$Head;)LDayBoy$Item;" } : Jvm.MethodName)) ∈ lw_all := lw_g (lw_at lw_m3 23 rfl) rfl
theorem q607 : (Jvm.Cond.code ({ cls := "DayBoy$Reader", name := "item", desc := "(LDayBoy$Head;)LDayBoy$Item;" } : Jvm.MethodName) prog_12_method_14_code (5 : Nat) (Option.some (Jvm.ClassFile.FieldType.object "DayBoy$Item"))) ∈ lw_all := lw_g (lw_at lw_m3 24 rfl) rfl
theorem q608 : (Jvm.Cond.methodLink "DayBoy$Reader" (147 : Nat) ({ cls := "DayBoy$Reader", name := "range", desc := "()LDayBoy$Item;" } : Jvm.MethodName)) ∈ lw_all := lw_g (lw_at lw_m3 25 rfl) rfl
theorem q609 : (Jvm.Cond.privateMethod ({ cls := "DayBoy$Reader", name := "range", desc := "()LDayBoy$Item;" } : Jvm.MethodName)) ∈ lw_tbl := lw_at lw_m3 26 rfl
theorem q610 : (Jvm.Cond.instanceMethod ({ cls := "DayBoy$Reader", name := "range", desc := "()LDayBoy$Item;" } : Jvm.MethodName)) ∈ lw_all := lw_g (lw_at lw_m3 27 rfl) rfl
theorem q611 : (Jvm.Cond.code ({ cls := "DayBoy$Reader", name := "range", desc := "()LDayBoy$Item;" } : Jvm.MethodName) prog_12_method_15_code (2 : Nat) (Option.some (Jvm.ClassFile.FieldType.object "DayBoy$Item"))) ∈ lw_all := lw_g (lw_at lw_m3 28 rfl) rfl
theorem q612 : (Jvm.Cond.classLink "DayBoy$Reader" (165 : Nat) "DayBoy$Range") ∈ lw_all := lw_g (lw_at lw_m3 29 rfl) rfl
theorem q614 : (Jvm.Cond.methodLink "DayBoy$Reader" (167 : Nat) ({ cls := "DayBoy$Range", name := "<init>", desc := "(II)V" } : Jvm.MethodName)) ∈ lw_all := lw_g (lw_at lw_m3 31 rfl) rfl
theorem q628 : (Jvm.Cond.methodLink "DayBoy$Reader" (151 : Nat) ({ cls := "DayBoy$Reader", name := "step", desc := "(LDayBoy$Head;)LDayBoy$Item;" } : Jvm.MethodName)) ∈ lw_all := lw_g (lw_at lw_m3 45 rfl) rfl
theorem q629 : (Jvm.Cond.privateMethod ({ cls := "DayBoy$Reader", name := "step", desc := "(LDayBoy$Head;)LDayBoy$Item;" } : Jvm.MethodName)) ∈ lw_tbl := lw_at lw_m3 46 rfl
theorem q630 : (Jvm.Cond.instanceMethod ({ cls := "DayBoy$Reader", name := "step", desc := "(LDayBoy$Head;)LDayBoy$Item;" } : Jvm.MethodName)) ∈ lw_all := lw_g (lw_at lw_m3 47 rfl) rfl
theorem q631 : (Jvm.Cond.code ({ cls := "DayBoy$Reader", name := "step", desc := "(LDayBoy$Head;)LDayBoy$Item;" } : Jvm.MethodName) prog_12_method_16_code (4 : Nat) (Option.some (Jvm.ClassFile.FieldType.object "DayBoy$Item"))) ∈ lw_all := lw_g (lw_at lw_m3 48 rfl) rfl
theorem q632 : (Jvm.Cond.classLink "DayBoy$Reader" (172 : Nat) "DayBoy$Step") ∈ lw_all := lw_g (lw_at lw_m3 49 rfl) rfl
theorem q634 : (Jvm.Cond.methodLink "DayBoy$Reader" (174 : Nat) ({ cls := "DayBoy$Step", name := "<init>", desc := "(II)V" } : Jvm.MethodName)) ∈ lw_all := lw_g (lw_at lw_m3 51 rfl) rfl
theorem q645 : (Jvm.Cond.methodLink "DayBoy$Reader" (154 : Nat) ({ cls := "DayBoy$Reader", name := "alike", desc := "()LDayBoy$Item;" } : Jvm.MethodName)) ∈ lw_all := lw_g (lw_at lw_m3 62 rfl) rfl
theorem q646 : (Jvm.Cond.privateMethod ({ cls := "DayBoy$Reader", name := "alike", desc := "()LDayBoy$Item;" } : Jvm.MethodName)) ∈ lw_tbl := lw_at lw_m3 63 rfl
theorem q647 : (Jvm.Cond.instanceMethod ({ cls := "DayBoy$Reader", name := "alike", desc := "()LDayBoy$Item;" } : Jvm.MethodName)) ∈ lw_all := lw_g (lw_at lw_m3 64 rfl) rfl
theorem q648 : (Jvm.Cond.code ({ cls := "DayBoy$Reader", name := "alike", desc := "()LDayBoy$Item;" } : Jvm.MethodName) prog_12_method_17_code (3 : Nat) (Option.some (Jvm.ClassFile.FieldType.object "DayBoy$Item"))) ∈ lw_all := lw_g (lw_at lw_m3 65 rfl) rfl
theorem q649 : (Jvm.Cond.classLink "DayBoy$Reader" (175 : Nat) "DayBoy$Alike") ∈ lw_all := lw_g (lw_at lw_m3 66 rfl) rfl
theorem q651 : (Jvm.Cond.methodLink "DayBoy$Reader" (177 : Nat) ({ cls := "DayBoy$Alike", name := "<init>", desc := "(III)V" } : Jvm.MethodName)) ∈ lw_all := lw_g (lw_at lw_m3 68 rfl) rfl
theorem q665 : (Jvm.Cond.methodLink "DayBoy$Reader" (157 : Nat) ({ cls := "DayBoy$Reader", name := "own", desc := "(LDayBoy$Head;)LDayBoy$Item;" } : Jvm.MethodName)) ∈ lw_all := lw_g (lw_at lw_m3 82 rfl) rfl
theorem q666 : (Jvm.Cond.privateMethod ({ cls := "DayBoy$Reader", name := "own", desc := "(LDayBoy$Head;)LDayBoy$Item;" } : Jvm.MethodName)) ∈ lw_tbl := lw_at lw_m3 83 rfl
theorem q667 : (Jvm.Cond.instanceMethod ({ cls := "DayBoy$Reader", name := "own", desc := "(LDayBoy$Head;)LDayBoy$Item;" } : Jvm.MethodName)) ∈ lw_all := lw_g (lw_at lw_m3 84 rfl) rfl
theorem q668 : (Jvm.Cond.code ({ cls := "DayBoy$Reader", name := "own", desc := "(LDayBoy$Head;)LDayBoy$Item;" } : Jvm.MethodName) prog_12_method_19_code (3 : Nat) (Option.some (Jvm.ClassFile.FieldType.object "DayBoy$Item"))) ∈ lw_all := lw_g (lw_at lw_m3 85 rfl) rfl
theorem q669 : (Jvm.Cond.classLink "DayBoy$Reader" (183 : Nat) "DayBoy$Own") ∈ lw_all := lw_g (lw_at lw_m3 86 rfl) rfl
theorem q671 : (Jvm.Cond.methodLink "DayBoy$Reader" (188 : Nat) ({ cls := "DayBoy$Own", name := "<init>", desc := "(I)V" } : Jvm.MethodName)) ∈ lw_all := lw_g (lw_at lw_m3 88 rfl) rfl
theorem q679 : (Jvm.Cond.classLink "DayBoy$Reader" (160 : Nat) "DayBoy$Cost") ∈ lw_all := lw_g (lw_at lw_m3 96 rfl) rfl
theorem q681 : (Jvm.Cond.methodLink "DayBoy$Reader" (162 : Nat) ({ cls := "DayBoy$Cost", name := "<init>", desc := "(II)V" } : Jvm.MethodName)) ∈ lw_all := lw_g (lw_at lw_m3 98 rfl) rfl
theorem q692 : (Jvm.Cond.methodLink "DayBoy$Reader" (129 : Nat) ({ cls := "DayBoy$Item", name := "joins", desc := "(LDayBoy$Head;)V" } : Jvm.MethodName)) ∈ lw_all := lw_g (lw_at lw_m3 109 rfl) rfl
theorem q711 : (Jvm.Cond.instanceMethod ({ cls := "DayBoy$Reader", name := "row", desc := "()I" } : Jvm.MethodName)) ∈ lw_all := lw_g (lw_at lw_m3 128 rfl) rfl
theorem q712 : (Jvm.Cond.selects "DayBoy$Reader" ({ cls := "DayBoy$Reader", name := "row", desc := "()I" } : Jvm.MethodName) ({ cls := "DayBoy$Reader", name := "row", desc := "()I" } : Jvm.MethodName)) ∈ lw_all := lw_g (lw_at lw_m3 129 rfl) rfl
theorem q713 : (Jvm.Cond.code ({ cls := "DayBoy$Reader", name := "row", desc := "()I" } : Jvm.MethodName) prog_12_method_18_code (5 : Nat) (Option.some Jvm.ClassFile.FieldType.int)) ∈ lw_all := lw_g (lw_at lw_m3 130 rfl) rfl
theorem q1918 : (Jvm.Cond.castable "DayBoy$Reader" "java/lang/Object") ∈ lw_tbl := lw_at lw_m8 135 rfl
theorem in_X7 : ∀ w ∈ wsX70, w ∈ lw_all := lw_in wsX70 [425, 427, 429] (by decide +kernel) (by decide +kernel)
/-! DayBoy$Wrong -/
set_option maxRecDepth 100000
def RX8 : String := "DayBoy$Wrong"
def TX8 : u_T := fun k => match k with
  | 0 => ("java/lang/Throwable", "cause", "Ljava/lang/Throwable;", false)
  | 1 => ("java/lang/Throwable", "stackTrace", "[Ljava/lang/StackTraceElement;", false)
  | 2 => ("java/lang/Throwable", "suppressedExceptions", "Ljava/util/List;", false)
  | 3 => ("java/lang/Throwable", "detailMessage", "Ljava/lang/String;", false)
  | 4 => ("java/lang/Throwable", "backtrace", "Ljava/lang/Object;", false)
  | 5 => ("java/lang/Throwable", "depth", "I", false)
  | _ => ("DayBoy$Wrong", "at", "I", true)
def tyX8 : Nat → FieldType := fun k => match k with
  | 0 => .object "java/lang/Throwable"
  | 1 => .array (.object "java/lang/StackTraceElement")
  | 2 => .object "java/util/List"
  | 3 => .object "java/lang/String"
  | 4 => .object "java/lang/Object"
  | 5 => .int
  | _ => .int
abbrev wsX80 : List Cond := u_ws RX8 TX8 7
theorem nmX8 : ∀ a, a < 7 → ∀ b, b < 7 → a ≠ b → (TX8 a).2.1 ≠ (TX8 b).2.1 := by decide +kernel
theorem tyX8_ok : ∀ k, k < 7 → parseFieldDescriptor (TX8 k).2.2.1 = some (tyX8 k) := by decide +kernel
abbrev cX8_init : ByteArray := prog_14_method_1_code
def yX8_init : MethodName := ⟨RX8, "<init>", "(I)V"⟩
def dkwX8_init_0 : List UInt8 := [42, 1, 1, 3, 3, 183, 0, 1, 42, 27, 181, 0, 7, 177]
abbrev dktX8_init_0 : List UInt8 := dkwX8_init_0 ++ []
theorem dksX8_init_0 : cX8_init.data.toList.drop 0 = dktX8_init_0 := by decide +kernel
theorem dX8_init_0 : decode cX8_init 0 = .ok (.aload_n 0, 1) := dk_42 (dk_at dksX8_init_0 0 rfl rfl)
theorem dX8_init_1 : decode cX8_init 1 = .ok (.aconst_null, 1) := dk_1 (dk_at dksX8_init_0 1 rfl rfl)
theorem dX8_init_2 : decode cX8_init 2 = .ok (.aconst_null, 1) := dk_1 (dk_at dksX8_init_0 2 rfl rfl)
theorem dX8_init_3 : decode cX8_init 3 = .ok (.iconst 0, 1) := dk_3 (dk_at dksX8_init_0 3 rfl rfl)
theorem dX8_init_4 : decode cX8_init 4 = .ok (.iconst 0, 1) := dk_3 (dk_at dksX8_init_0 4 rfl rfl)
theorem dX8_init_5 : decode cX8_init 5 = .ok (.invokespecial 1, 3) := dk_183 0 1 (dk_at dksX8_init_0 5 rfl rfl)
theorem dX8_init_8 : decode cX8_init 8 = .ok (.aload_n 0, 1) := dk_42 (dk_at dksX8_init_0 8 rfl rfl)
theorem dX8_init_9 : decode cX8_init 9 = .ok (.iload_n 1, 1) := dk_27 (dk_at dksX8_init_0 9 rfl rfl)
theorem dX8_init_10 : decode cX8_init 10 = .ok (.putfield 7, 3) := dk_181 0 7 (dk_at dksX8_init_0 10 rfl rfl)
theorem dX8_init_13 : decode cX8_init 13 = .ok (.return_, 1) := dk_177 (dk_at dksX8_init_0 13 rfl rfl)
theorem q114 : (Jvm.Cond.initialized "DayBoy$Wrong") ∈ lw_all := lw_g (lw_at lw_m1 11 rfl) rfl
theorem q457 : (Jvm.Cond.instantiable "DayBoy$Wrong" (7 : Nat)) ∈ lw_all := lw_g (lw_at lw_m2 114 rfl) rfl
theorem q458 : (Jvm.Cond.castable "DayBoy$Wrong" "DayBoy$Wrong") ∈ lw_tbl := lw_at lw_m2 115 rfl
theorem q465 : (Jvm.Cond.selects "DayBoy$Wrong" ({ cls := "java/lang/Throwable", name := "fillInStackTrace", desc := "(I)Ljava/lang/Throwable;" } : Jvm.MethodName) ({ cls := "java/lang/Throwable", name := "fillInStackTrace", desc := "(I)Ljava/lang/Throwable;" } : Jvm.MethodName)) ∈ lw_all := lw_g (lw_at lw_m2 122 rfl) rfl
theorem q466 : (Jvm.Cond.selects "DayBoy$Wrong" ({ cls := "java/lang/Throwable", name := "fillInStackTrace", desc := "()Ljava/lang/Throwable;" } : Jvm.MethodName) ({ cls := "java/lang/Throwable", name := "fillInStackTrace", desc := "()Ljava/lang/Throwable;" } : Jvm.MethodName)) ∈ lw_all := lw_g (lw_at lw_m2 123 rfl) rfl
theorem q467 : (Jvm.Cond.lays "DayBoy$Wrong" "java/lang/Throwable" "cause" "Ljava/lang/Throwable;") ∈ lw_all := lw_g (lw_at lw_m2 124 rfl) rfl
theorem q469 : (Jvm.Cond.lays "DayBoy$Wrong" "java/lang/Throwable" "stackTrace" "[Ljava/lang/StackTraceElement;") ∈ lw_all := lw_g (lw_at lw_m2 126 rfl) rfl
theorem q471 : (Jvm.Cond.lays "DayBoy$Wrong" "java/lang/Throwable" "suppressedExceptions" "Ljava/util/List;") ∈ lw_all := lw_g (lw_at lw_m2 128 rfl) rfl
theorem q473 : (Jvm.Cond.lays "DayBoy$Wrong" "java/lang/Throwable" "detailMessage" "Ljava/lang/String;") ∈ lw_all := lw_g (lw_at lw_m2 130 rfl) rfl
theorem q475 : (Jvm.Cond.lays "DayBoy$Wrong" "java/lang/Throwable" "backtrace" "Ljava/lang/Object;") ∈ lw_all := lw_g (lw_at lw_m2 132 rfl) rfl
theorem q497 : (Jvm.Cond.instanceMethod ({ cls := "DayBoy$Wrong", name := "<init>", desc := "(I)V" } : Jvm.MethodName)) ∈ lw_all := lw_g (lw_at lw_m2 154 rfl) rfl
theorem q498 : (Jvm.Cond.code ({ cls := "DayBoy$Wrong", name := "<init>", desc := "(I)V" } : Jvm.MethodName) prog_14_method_1_code (2 : Nat) (Option.none : Option Jvm.ClassFile.FieldType)) ∈ lw_all := lw_g (lw_at lw_m2 155 rfl) rfl
theorem q499 : (Jvm.Cond.methodLink "DayBoy$Wrong" (1 : Nat) ({ cls := "java/lang/RuntimeException", name := "<init>", desc := "(Ljava/lang/String;Ljava/lang/Throwable;ZZ)V" } : Jvm.MethodName)) ∈ lw_all := lw_g (lw_at lw_m2 156 rfl) rfl
theorem q508 : (Jvm.Cond.fieldLink "DayBoy$Wrong" (7 : Nat) "DayBoy$Wrong" "at" "I") ∈ lw_all := lw_g (lw_at lw_m2 165 rfl) rfl
theorem q515 : (Jvm.Cond.laysFinal "DayBoy$Wrong" "DayBoy$Wrong" "at" "I") ∈ lw_all := lw_g (lw_at lw_m2 172 rfl) rfl
theorem q516 : (Jvm.Cond.soleField "DayBoy$Wrong" "at") ∈ lw_all := lw_g (lw_at lw_m2 173 rfl) rfl
theorem q521 : (Jvm.Cond.lays "DayBoy$Wrong" "java/lang/Throwable" "depth" "I") ∈ lw_all := lw_g (lw_at lw_m2 178 rfl) rfl
theorem q524 : (Jvm.Cond.superclass "DayBoy$Wrong" "java/lang/RuntimeException") ∈ lw_all := lw_g (lw_at lw_m2 181 rfl) rfl
theorem q1919 : (Jvm.Cond.castable "DayBoy$Wrong" "java/lang/Object") ∈ lw_tbl := lw_at lw_m8 136 rfl
theorem in_X8 : ∀ w ∈ wsX80, w ∈ lw_all := lw_in wsX80 [467, 469, 471, 473, 475, 521, 515] (by decide +kernel) (by decide +kernel)
/-! DayBoy$Item -/
set_option maxRecDepth 100000
def RX9 : String := "DayBoy$Item"
abbrev cX9_init : ByteArray := prog_8_method_1_code
def yX9_init : MethodName := ⟨RX9, "<init>", "()V"⟩
theorem dX9_init_0 : decode cX9_init 0 = .ok (.aload_n 0, 1) := by decide +kernel
theorem dX9_init_1 : decode cX9_init 1 = .ok (.invokespecial 1, 3) := by decide +kernel
theorem dX9_init_4 : decode cX9_init 4 = .ok (.return_, 1) := by decide +kernel
theorem q116 : (Jvm.Cond.initialized "DayBoy$Item") ∈ lw_all := lw_g (lw_at lw_m1 13 rfl) rfl
theorem q618 : (Jvm.Cond.instanceMethod ({ cls := "DayBoy$Item", name := "<init>", desc := "()V" } : Jvm.MethodName)) ∈ lw_all := lw_g (lw_at lw_m3 35 rfl) rfl
theorem q619 : (Jvm.Cond.code ({ cls := "DayBoy$Item", name := "<init>", desc := "()V" } : Jvm.MethodName) prog_8_method_1_code (1 : Nat) (Option.none : Option Jvm.ClassFile.FieldType)) ∈ lw_all := lw_g (lw_at lw_m3 36 rfl) rfl
theorem q620 : (Jvm.Cond.methodLink "DayBoy$Item" (1 : Nat) ({ cls := "java/lang/Object", name := "<init>", desc := "()V" } : Jvm.MethodName)) ∈ lw_all := lw_g (lw_at lw_m3 37 rfl) rfl
theorem q693 : (Jvm.Cond.declares ({ cls := "DayBoy$Item", name := "joins", desc := "(LDayBoy$Head;)V" } : Jvm.MethodName)) ∈ lw_tbl := lw_at lw_m3 110 rfl
theorem q694 : (Jvm.Cond.sameMethod "DayBoy$Item" "DayBoy$Item" "joins" "(LDayBoy$Head;)V") ∈ lw_all := lw_g (lw_at lw_m3 111 rfl) rfl
/-! DayBoy$Range -/
set_option maxRecDepth 100000
def RX10 : String := "DayBoy$Range"
def TX10 : u_T := fun k => match k with
  | 0 => ("DayBoy$Range", "from", "I", true)
  | _ => ("DayBoy$Range", "to", "I", true)
def tyX10 : Nat → FieldType := fun k => match k with
  | 0 => .int
  | _ => .int
abbrev wsX100 : List Cond := u_ws RX10 TX10 2
theorem nmX10 : ∀ a, a < 2 → ∀ b, b < 2 → a ≠ b → (TX10 a).2.1 ≠ (TX10 b).2.1 := by decide +kernel
theorem tyX10_ok : ∀ k, k < 2 → parseFieldDescriptor (TX10 k).2.2.1 = some (tyX10 k) := by decide +kernel
abbrev cX10_init : ByteArray := prog_11_method_1_code
def yX10_init : MethodName := ⟨RX10, "<init>", "(II)V"⟩
def dkwX10_init_0 : List UInt8 := [42, 183, 0, 1, 42, 27, 181, 0, 7, 42, 28, 181, 0, 13, 177]
abbrev dktX10_init_0 : List UInt8 := dkwX10_init_0 ++ []
theorem dksX10_init_0 : cX10_init.data.toList.drop 0 = dktX10_init_0 := by decide +kernel
theorem dX10_init_0 : decode cX10_init 0 = .ok (.aload_n 0, 1) := dk_42 (dk_at dksX10_init_0 0 rfl rfl)
theorem dX10_init_1 : decode cX10_init 1 = .ok (.invokespecial 1, 3) := dk_183 0 1 (dk_at dksX10_init_0 1 rfl rfl)
theorem dX10_init_4 : decode cX10_init 4 = .ok (.aload_n 0, 1) := dk_42 (dk_at dksX10_init_0 4 rfl rfl)
theorem dX10_init_5 : decode cX10_init 5 = .ok (.iload_n 1, 1) := dk_27 (dk_at dksX10_init_0 5 rfl rfl)
theorem dX10_init_6 : decode cX10_init 6 = .ok (.putfield 7, 3) := dk_181 0 7 (dk_at dksX10_init_0 6 rfl rfl)
theorem dX10_init_9 : decode cX10_init 9 = .ok (.aload_n 0, 1) := dk_42 (dk_at dksX10_init_0 9 rfl rfl)
theorem dX10_init_10 : decode cX10_init 10 = .ok (.iload_n 2, 1) := dk_28 (dk_at dksX10_init_0 10 rfl rfl)
theorem dX10_init_11 : decode cX10_init 11 = .ok (.putfield 13, 3) := dk_181 0 13 (dk_at dksX10_init_0 11 rfl rfl)
theorem dX10_init_14 : decode cX10_init 14 = .ok (.return_, 1) := dk_177 (dk_at dksX10_init_0 14 rfl rfl)
abbrev cX10_joins : ByteArray := prog_11_method_2_code
def yX10_joins : MethodName := ⟨RX10, "joins", "(LDayBoy$Head;)V"⟩
def dkwX10_joins_1 : List UInt8 := [180, 0, 13, 79, 43, 89, 180, 0, 21, 4, 96, 181, 0, 21, 177]
abbrev dktX10_joins_1 : List UInt8 := dkwX10_joins_1 ++ []
def dkwX10_joins_0 : List UInt8 := [43, 180, 0, 16, 43, 180, 0, 21, 42, 180, 0, 7, 79, 43, 180, 0, 24, 43, 180, 0, 21, 42]
abbrev dktX10_joins_0 : List UInt8 := dkwX10_joins_0 ++ dktX10_joins_1
theorem dksX10_joins_0 : cX10_joins.data.toList.drop 0 = dktX10_joins_0 := by decide +kernel
theorem dksX10_joins_1 : cX10_joins.data.toList.drop 22 = dktX10_joins_1 := dk_seg dksX10_joins_0 22 rfl rfl
theorem dX10_joins_0 : decode cX10_joins 0 = .ok (.aload_n 1, 1) := dk_43 (dk_at dksX10_joins_0 0 rfl rfl)
theorem dX10_joins_1 : decode cX10_joins 1 = .ok (.getfield 16, 3) := dk_180 0 16 (dk_at dksX10_joins_0 1 rfl rfl)
theorem dX10_joins_4 : decode cX10_joins 4 = .ok (.aload_n 1, 1) := dk_43 (dk_at dksX10_joins_0 4 rfl rfl)
theorem dX10_joins_5 : decode cX10_joins 5 = .ok (.getfield 21, 3) := dk_180 0 21 (dk_at dksX10_joins_0 5 rfl rfl)
theorem dX10_joins_8 : decode cX10_joins 8 = .ok (.aload_n 0, 1) := dk_42 (dk_at dksX10_joins_0 8 rfl rfl)
theorem dX10_joins_9 : decode cX10_joins 9 = .ok (.getfield 7, 3) := dk_180 0 7 (dk_at dksX10_joins_0 9 rfl rfl)
theorem dX10_joins_12 : decode cX10_joins 12 = .ok (.iastore, 1) := dk_79 (dk_at dksX10_joins_0 12 rfl rfl)
theorem dX10_joins_13 : decode cX10_joins 13 = .ok (.aload_n 1, 1) := dk_43 (dk_at dksX10_joins_0 13 rfl rfl)
theorem dX10_joins_14 : decode cX10_joins 14 = .ok (.getfield 24, 3) := dk_180 0 24 (dk_at dksX10_joins_0 14 rfl rfl)
theorem dX10_joins_17 : decode cX10_joins 17 = .ok (.aload_n 1, 1) := dk_43 (dk_at dksX10_joins_0 17 rfl rfl)
theorem dX10_joins_18 : decode cX10_joins 18 = .ok (.getfield 21, 3) := dk_180 0 21 (dk_at dksX10_joins_0 18 rfl rfl)
theorem dX10_joins_21 : decode cX10_joins 21 = .ok (.aload_n 0, 1) := dk_42 (dk_at dksX10_joins_0 21 rfl rfl)
theorem dX10_joins_22 : decode cX10_joins 22 = .ok (.getfield 13, 3) := dk_180 0 13 (dk_at dksX10_joins_1 0 rfl rfl)
theorem dX10_joins_25 : decode cX10_joins 25 = .ok (.iastore, 1) := dk_79 (dk_at dksX10_joins_1 3 rfl rfl)
theorem dX10_joins_26 : decode cX10_joins 26 = .ok (.aload_n 1, 1) := dk_43 (dk_at dksX10_joins_1 4 rfl rfl)
theorem dX10_joins_27 : decode cX10_joins 27 = .ok (.dup, 1) := dk_89 (dk_at dksX10_joins_1 5 rfl rfl)
theorem dX10_joins_28 : decode cX10_joins 28 = .ok (.getfield 21, 3) := dk_180 0 21 (dk_at dksX10_joins_1 6 rfl rfl)
theorem dX10_joins_31 : decode cX10_joins 31 = .ok (.iconst 1, 1) := dk_4 (dk_at dksX10_joins_1 9 rfl rfl)
theorem dX10_joins_32 : decode cX10_joins 32 = .ok (.iadd, 1) := dk_96 (dk_at dksX10_joins_1 10 rfl rfl)
theorem dX10_joins_33 : decode cX10_joins 33 = .ok (.putfield 21, 3) := dk_181 0 21 (dk_at dksX10_joins_1 11 rfl rfl)
theorem dX10_joins_36 : decode cX10_joins 36 = .ok (.return_, 1) := dk_177 (dk_at dksX10_joins_1 14 rfl rfl)
theorem q117 : (Jvm.Cond.initialized "DayBoy$Range") ∈ lw_all := lw_g (lw_at lw_m1 14 rfl) rfl
theorem q204 : (Jvm.Cond.fieldLinkNest "DayBoy$Range" (16 : Nat) "DayBoy$Head" "from" "[I" "DayBoy") ∈ lw_tbl := lw_at lw_m1 101 rfl
theorem q206 : (Jvm.Cond.fieldLinkNest "DayBoy$Range" (24 : Nat) "DayBoy$Head" "to" "[I" "DayBoy") ∈ lw_tbl := lw_at lw_m1 103 rfl
theorem q234 : (Jvm.Cond.fieldLinkNest "DayBoy$Range" (21 : Nat) "DayBoy$Head" "ranges" "I" "DayBoy") ∈ lw_tbl := lw_at lw_m1 131 rfl
theorem q613 : (Jvm.Cond.instantiable "DayBoy$Range" (2 : Nat)) ∈ lw_all := lw_g (lw_at lw_m3 30 rfl) rfl
theorem q615 : (Jvm.Cond.instanceMethod ({ cls := "DayBoy$Range", name := "<init>", desc := "(II)V" } : Jvm.MethodName)) ∈ lw_all := lw_g (lw_at lw_m3 32 rfl) rfl
theorem q616 : (Jvm.Cond.code ({ cls := "DayBoy$Range", name := "<init>", desc := "(II)V" } : Jvm.MethodName) prog_11_method_1_code (3 : Nat) (Option.none : Option Jvm.ClassFile.FieldType)) ∈ lw_all := lw_g (lw_at lw_m3 33 rfl) rfl
theorem q617 : (Jvm.Cond.methodLinkNest "DayBoy$Range" (1 : Nat) ({ cls := "DayBoy$Item", name := "<init>", desc := "()V" } : Jvm.MethodName) "DayBoy") ∈ lw_tbl := lw_at lw_m3 34 rfl
theorem q621 : (Jvm.Cond.fieldLink "DayBoy$Range" (7 : Nat) "DayBoy$Range" "from" "I") ∈ lw_all := lw_g (lw_at lw_m3 38 rfl) rfl
theorem q622 : (Jvm.Cond.fieldLink "DayBoy$Range" (13 : Nat) "DayBoy$Range" "to" "I") ∈ lw_all := lw_g (lw_at lw_m3 39 rfl) rfl
theorem q623 : (Jvm.Cond.laysFinal "DayBoy$Range" "DayBoy$Range" "from" "I") ∈ lw_all := lw_g (lw_at lw_m3 40 rfl) rfl
theorem q624 : (Jvm.Cond.soleField "DayBoy$Range" "from") ∈ lw_all := lw_g (lw_at lw_m3 41 rfl) rfl
theorem q625 : (Jvm.Cond.laysFinal "DayBoy$Range" "DayBoy$Range" "to" "I") ∈ lw_all := lw_g (lw_at lw_m3 42 rfl) rfl
theorem q626 : (Jvm.Cond.soleField "DayBoy$Range" "to") ∈ lw_all := lw_g (lw_at lw_m3 43 rfl) rfl
theorem q627 : (Jvm.Cond.superclass "DayBoy$Range" "DayBoy$Item") ∈ lw_all := lw_g (lw_at lw_m3 44 rfl) rfl
theorem q704 : (Jvm.Cond.selects "DayBoy$Range" ({ cls := "DayBoy$Item", name := "joins", desc := "(LDayBoy$Head;)V" } : Jvm.MethodName) ({ cls := "DayBoy$Range", name := "joins", desc := "(LDayBoy$Head;)V" } : Jvm.MethodName)) ∈ lw_all := lw_g (lw_at lw_m3 121 rfl) rfl
theorem q705 : (Jvm.Cond.instanceMethod ({ cls := "DayBoy$Range", name := "joins", desc := "(LDayBoy$Head;)V" } : Jvm.MethodName)) ∈ lw_all := lw_g (lw_at lw_m3 122 rfl) rfl
theorem q706 : (Jvm.Cond.code ({ cls := "DayBoy$Range", name := "joins", desc := "(LDayBoy$Head;)V" } : Jvm.MethodName) prog_11_method_2_code (2 : Nat) (Option.none : Option Jvm.ClassFile.FieldType)) ∈ lw_all := lw_g (lw_at lw_m3 123 rfl) rfl
theorem q1920 : (Jvm.Cond.castable "DayBoy$Range" "java/lang/Object") ∈ lw_tbl := lw_at lw_m8 137 rfl
theorem in_X10 : ∀ w ∈ wsX100, w ∈ lw_all := lw_in wsX100 [623, 625] (by decide +kernel) (by decide +kernel)
/-! DayBoy$Step -/
set_option maxRecDepth 100000
def RX11 : String := "DayBoy$Step"
def TX11 : u_T := fun k => match k with
  | 0 => ("DayBoy$Step", "years", "I", true)
  | _ => ("DayBoy$Step", "cost", "I", true)
def tyX11 : Nat → FieldType := fun k => match k with
  | 0 => .int
  | _ => .int
abbrev wsX110 : List Cond := u_ws RX11 TX11 2
theorem nmX11 : ∀ a, a < 2 → ∀ b, b < 2 → a ≠ b → (TX11 a).2.1 ≠ (TX11 b).2.1 := by decide +kernel
theorem tyX11_ok : ∀ k, k < 2 → parseFieldDescriptor (TX11 k).2.2.1 = some (tyX11 k) := by decide +kernel
abbrev cX11_init : ByteArray := prog_13_method_1_code
def yX11_init : MethodName := ⟨RX11, "<init>", "(II)V"⟩
def dkwX11_init_0 : List UInt8 := [42, 183, 0, 1, 42, 27, 181, 0, 7, 42, 28, 181, 0, 13, 177]
abbrev dktX11_init_0 : List UInt8 := dkwX11_init_0 ++ []
theorem dksX11_init_0 : cX11_init.data.toList.drop 0 = dktX11_init_0 := by decide +kernel
theorem dX11_init_0 : decode cX11_init 0 = .ok (.aload_n 0, 1) := dk_42 (dk_at dksX11_init_0 0 rfl rfl)
theorem dX11_init_1 : decode cX11_init 1 = .ok (.invokespecial 1, 3) := dk_183 0 1 (dk_at dksX11_init_0 1 rfl rfl)
theorem dX11_init_4 : decode cX11_init 4 = .ok (.aload_n 0, 1) := dk_42 (dk_at dksX11_init_0 4 rfl rfl)
theorem dX11_init_5 : decode cX11_init 5 = .ok (.iload_n 1, 1) := dk_27 (dk_at dksX11_init_0 5 rfl rfl)
theorem dX11_init_6 : decode cX11_init 6 = .ok (.putfield 7, 3) := dk_181 0 7 (dk_at dksX11_init_0 6 rfl rfl)
theorem dX11_init_9 : decode cX11_init 9 = .ok (.aload_n 0, 1) := dk_42 (dk_at dksX11_init_0 9 rfl rfl)
theorem dX11_init_10 : decode cX11_init 10 = .ok (.iload_n 2, 1) := dk_28 (dk_at dksX11_init_0 10 rfl rfl)
theorem dX11_init_11 : decode cX11_init 11 = .ok (.putfield 13, 3) := dk_181 0 13 (dk_at dksX11_init_0 11 rfl rfl)
theorem dX11_init_14 : decode cX11_init 14 = .ok (.return_, 1) := dk_177 (dk_at dksX11_init_0 14 rfl rfl)
abbrev cX11_joins : ByteArray := prog_13_method_2_code
def yX11_joins : MethodName := ⟨RX11, "joins", "(LDayBoy$Head;)V"⟩
def dkwX11_joins_1 : List UInt8 := [180, 0, 13, 79, 43, 89, 180, 0, 22, 4, 96, 181, 0, 22, 177]
abbrev dktX11_joins_1 : List UInt8 := dkwX11_joins_1 ++ []
def dkwX11_joins_0 : List UInt8 := [43, 180, 0, 16, 43, 180, 0, 22, 42, 180, 0, 7, 79, 43, 180, 0, 25, 43, 180, 0, 22, 42]
abbrev dktX11_joins_0 : List UInt8 := dkwX11_joins_0 ++ dktX11_joins_1
theorem dksX11_joins_0 : cX11_joins.data.toList.drop 0 = dktX11_joins_0 := by decide +kernel
theorem dksX11_joins_1 : cX11_joins.data.toList.drop 22 = dktX11_joins_1 := dk_seg dksX11_joins_0 22 rfl rfl
theorem dX11_joins_0 : decode cX11_joins 0 = .ok (.aload_n 1, 1) := dk_43 (dk_at dksX11_joins_0 0 rfl rfl)
theorem dX11_joins_1 : decode cX11_joins 1 = .ok (.getfield 16, 3) := dk_180 0 16 (dk_at dksX11_joins_0 1 rfl rfl)
theorem dX11_joins_4 : decode cX11_joins 4 = .ok (.aload_n 1, 1) := dk_43 (dk_at dksX11_joins_0 4 rfl rfl)
theorem dX11_joins_5 : decode cX11_joins 5 = .ok (.getfield 22, 3) := dk_180 0 22 (dk_at dksX11_joins_0 5 rfl rfl)
theorem dX11_joins_8 : decode cX11_joins 8 = .ok (.aload_n 0, 1) := dk_42 (dk_at dksX11_joins_0 8 rfl rfl)
theorem dX11_joins_9 : decode cX11_joins 9 = .ok (.getfield 7, 3) := dk_180 0 7 (dk_at dksX11_joins_0 9 rfl rfl)
theorem dX11_joins_12 : decode cX11_joins 12 = .ok (.iastore, 1) := dk_79 (dk_at dksX11_joins_0 12 rfl rfl)
theorem dX11_joins_13 : decode cX11_joins 13 = .ok (.aload_n 1, 1) := dk_43 (dk_at dksX11_joins_0 13 rfl rfl)
theorem dX11_joins_14 : decode cX11_joins 14 = .ok (.getfield 25, 3) := dk_180 0 25 (dk_at dksX11_joins_0 14 rfl rfl)
theorem dX11_joins_17 : decode cX11_joins 17 = .ok (.aload_n 1, 1) := dk_43 (dk_at dksX11_joins_0 17 rfl rfl)
theorem dX11_joins_18 : decode cX11_joins 18 = .ok (.getfield 22, 3) := dk_180 0 22 (dk_at dksX11_joins_0 18 rfl rfl)
theorem dX11_joins_21 : decode cX11_joins 21 = .ok (.aload_n 0, 1) := dk_42 (dk_at dksX11_joins_0 21 rfl rfl)
theorem dX11_joins_22 : decode cX11_joins 22 = .ok (.getfield 13, 3) := dk_180 0 13 (dk_at dksX11_joins_1 0 rfl rfl)
theorem dX11_joins_25 : decode cX11_joins 25 = .ok (.iastore, 1) := dk_79 (dk_at dksX11_joins_1 3 rfl rfl)
theorem dX11_joins_26 : decode cX11_joins 26 = .ok (.aload_n 1, 1) := dk_43 (dk_at dksX11_joins_1 4 rfl rfl)
theorem dX11_joins_27 : decode cX11_joins 27 = .ok (.dup, 1) := dk_89 (dk_at dksX11_joins_1 5 rfl rfl)
theorem dX11_joins_28 : decode cX11_joins 28 = .ok (.getfield 22, 3) := dk_180 0 22 (dk_at dksX11_joins_1 6 rfl rfl)
theorem dX11_joins_31 : decode cX11_joins 31 = .ok (.iconst 1, 1) := dk_4 (dk_at dksX11_joins_1 9 rfl rfl)
theorem dX11_joins_32 : decode cX11_joins 32 = .ok (.iadd, 1) := dk_96 (dk_at dksX11_joins_1 10 rfl rfl)
theorem dX11_joins_33 : decode cX11_joins 33 = .ok (.putfield 22, 3) := dk_181 0 22 (dk_at dksX11_joins_1 11 rfl rfl)
theorem dX11_joins_36 : decode cX11_joins 36 = .ok (.return_, 1) := dk_177 (dk_at dksX11_joins_1 14 rfl rfl)
theorem q118 : (Jvm.Cond.initialized "DayBoy$Step") ∈ lw_all := lw_g (lw_at lw_m1 15 rfl) rfl
theorem q208 : (Jvm.Cond.fieldLinkNest "DayBoy$Step" (16 : Nat) "DayBoy$Head" "steps" "[I" "DayBoy") ∈ lw_tbl := lw_at lw_m1 105 rfl
theorem q212 : (Jvm.Cond.fieldLinkNest "DayBoy$Step" (25 : Nat) "DayBoy$Head" "stepCosts" "[I" "DayBoy") ∈ lw_tbl := lw_at lw_m1 109 rfl
theorem q237 : (Jvm.Cond.fieldLinkNest "DayBoy$Step" (22 : Nat) "DayBoy$Head" "stepMany" "I" "DayBoy") ∈ lw_tbl := lw_at lw_m1 134 rfl
theorem q633 : (Jvm.Cond.instantiable "DayBoy$Step" (2 : Nat)) ∈ lw_all := lw_g (lw_at lw_m3 50 rfl) rfl
theorem q635 : (Jvm.Cond.instanceMethod ({ cls := "DayBoy$Step", name := "<init>", desc := "(II)V" } : Jvm.MethodName)) ∈ lw_all := lw_g (lw_at lw_m3 52 rfl) rfl
theorem q636 : (Jvm.Cond.code ({ cls := "DayBoy$Step", name := "<init>", desc := "(II)V" } : Jvm.MethodName) prog_13_method_1_code (3 : Nat) (Option.none : Option Jvm.ClassFile.FieldType)) ∈ lw_all := lw_g (lw_at lw_m3 53 rfl) rfl
theorem q637 : (Jvm.Cond.methodLinkNest "DayBoy$Step" (1 : Nat) ({ cls := "DayBoy$Item", name := "<init>", desc := "()V" } : Jvm.MethodName) "DayBoy") ∈ lw_tbl := lw_at lw_m3 54 rfl
theorem q638 : (Jvm.Cond.fieldLink "DayBoy$Step" (7 : Nat) "DayBoy$Step" "years" "I") ∈ lw_all := lw_g (lw_at lw_m3 55 rfl) rfl
theorem q639 : (Jvm.Cond.fieldLink "DayBoy$Step" (13 : Nat) "DayBoy$Step" "cost" "I") ∈ lw_all := lw_g (lw_at lw_m3 56 rfl) rfl
theorem q640 : (Jvm.Cond.laysFinal "DayBoy$Step" "DayBoy$Step" "years" "I") ∈ lw_all := lw_g (lw_at lw_m3 57 rfl) rfl
theorem q641 : (Jvm.Cond.soleField "DayBoy$Step" "years") ∈ lw_all := lw_g (lw_at lw_m3 58 rfl) rfl
theorem q642 : (Jvm.Cond.laysFinal "DayBoy$Step" "DayBoy$Step" "cost" "I") ∈ lw_all := lw_g (lw_at lw_m3 59 rfl) rfl
theorem q643 : (Jvm.Cond.soleField "DayBoy$Step" "cost") ∈ lw_all := lw_g (lw_at lw_m3 60 rfl) rfl
theorem q644 : (Jvm.Cond.superclass "DayBoy$Step" "DayBoy$Item") ∈ lw_all := lw_g (lw_at lw_m3 61 rfl) rfl
theorem q707 : (Jvm.Cond.selects "DayBoy$Step" ({ cls := "DayBoy$Item", name := "joins", desc := "(LDayBoy$Head;)V" } : Jvm.MethodName) ({ cls := "DayBoy$Step", name := "joins", desc := "(LDayBoy$Head;)V" } : Jvm.MethodName)) ∈ lw_all := lw_g (lw_at lw_m3 124 rfl) rfl
theorem q708 : (Jvm.Cond.instanceMethod ({ cls := "DayBoy$Step", name := "joins", desc := "(LDayBoy$Head;)V" } : Jvm.MethodName)) ∈ lw_all := lw_g (lw_at lw_m3 125 rfl) rfl
theorem q709 : (Jvm.Cond.code ({ cls := "DayBoy$Step", name := "joins", desc := "(LDayBoy$Head;)V" } : Jvm.MethodName) prog_13_method_2_code (2 : Nat) (Option.none : Option Jvm.ClassFile.FieldType)) ∈ lw_all := lw_g (lw_at lw_m3 126 rfl) rfl
theorem q1911 : (Jvm.Cond.selects "DayBoy$Step" ({ cls := "DayBoy$Step", name := "joins", desc := "(LDayBoy$Head;)V" } : Jvm.MethodName) ({ cls := "DayBoy$Step", name := "joins", desc := "(LDayBoy$Head;)V" } : Jvm.MethodName)) ∈ lw_all := lw_g (lw_at lw_m8 128 rfl) rfl
theorem q1921 : (Jvm.Cond.castable "DayBoy$Step" "java/lang/Object") ∈ lw_tbl := lw_at lw_m8 138 rfl
theorem in_X11 : ∀ w ∈ wsX110, w ∈ lw_all := lw_in wsX110 [640, 642] (by decide +kernel) (by decide +kernel)
/-! DayBoy$Alike -/
set_option maxRecDepth 100000
def RX12 : String := "DayBoy$Alike"
def TX12 : u_T := fun k => match k with
  | 0 => ("DayBoy$Alike", "one", "I", true)
  | 1 => ("DayBoy$Alike", "other", "I", true)
  | _ => ("DayBoy$Alike", "cost", "I", true)
def tyX12 : Nat → FieldType := fun k => match k with
  | 0 => .int
  | 1 => .int
  | _ => .int
abbrev wsX120 : List Cond := u_ws RX12 TX12 3
theorem nmX12 : ∀ a, a < 3 → ∀ b, b < 3 → a ≠ b → (TX12 a).2.1 ≠ (TX12 b).2.1 := by decide +kernel
theorem tyX12_ok : ∀ k, k < 3 → parseFieldDescriptor (TX12 k).2.2.1 = some (tyX12 k) := by decide +kernel
abbrev cX12_init : ByteArray := prog_2_method_1_code
def yX12_init : MethodName := ⟨RX12, "<init>", "(III)V"⟩
def dkwX12_init_0 : List UInt8 := [42, 183, 0, 1, 42, 27, 181, 0, 7, 42, 28, 181, 0, 13, 42, 29, 181, 0, 16, 177]
abbrev dktX12_init_0 : List UInt8 := dkwX12_init_0 ++ []
theorem dksX12_init_0 : cX12_init.data.toList.drop 0 = dktX12_init_0 := by decide +kernel
theorem dX12_init_0 : decode cX12_init 0 = .ok (.aload_n 0, 1) := dk_42 (dk_at dksX12_init_0 0 rfl rfl)
theorem dX12_init_1 : decode cX12_init 1 = .ok (.invokespecial 1, 3) := dk_183 0 1 (dk_at dksX12_init_0 1 rfl rfl)
theorem dX12_init_4 : decode cX12_init 4 = .ok (.aload_n 0, 1) := dk_42 (dk_at dksX12_init_0 4 rfl rfl)
theorem dX12_init_5 : decode cX12_init 5 = .ok (.iload_n 1, 1) := dk_27 (dk_at dksX12_init_0 5 rfl rfl)
theorem dX12_init_6 : decode cX12_init 6 = .ok (.putfield 7, 3) := dk_181 0 7 (dk_at dksX12_init_0 6 rfl rfl)
theorem dX12_init_9 : decode cX12_init 9 = .ok (.aload_n 0, 1) := dk_42 (dk_at dksX12_init_0 9 rfl rfl)
theorem dX12_init_10 : decode cX12_init 10 = .ok (.iload_n 2, 1) := dk_28 (dk_at dksX12_init_0 10 rfl rfl)
theorem dX12_init_11 : decode cX12_init 11 = .ok (.putfield 13, 3) := dk_181 0 13 (dk_at dksX12_init_0 11 rfl rfl)
theorem dX12_init_14 : decode cX12_init 14 = .ok (.aload_n 0, 1) := dk_42 (dk_at dksX12_init_0 14 rfl rfl)
theorem dX12_init_15 : decode cX12_init 15 = .ok (.iload_n 3, 1) := dk_29 (dk_at dksX12_init_0 15 rfl rfl)
theorem dX12_init_16 : decode cX12_init 16 = .ok (.putfield 16, 3) := dk_181 0 16 (dk_at dksX12_init_0 16 rfl rfl)
theorem dX12_init_19 : decode cX12_init 19 = .ok (.return_, 1) := dk_177 (dk_at dksX12_init_0 19 rfl rfl)
abbrev cX12_joins : ByteArray := prog_2_method_2_code
def yX12_joins : MethodName := ⟨RX12, "joins", "(LDayBoy$Head;)V"⟩
def dkwX12_joins_2 : List UInt8 := [181, 0, 24, 177]
abbrev dktX12_joins_2 : List UInt8 := dkwX12_joins_2 ++ []
def dkwX12_joins_1 : List UInt8 := [180, 0, 13, 79, 43, 180, 0, 29, 43, 180, 0, 24, 42, 180, 0, 16, 79, 43, 89, 180, 0, 24, 4, 96]
abbrev dktX12_joins_1 : List UInt8 := dkwX12_joins_1 ++ dktX12_joins_2
def dkwX12_joins_0 : List UInt8 := [43, 180, 0, 19, 43, 180, 0, 24, 42, 180, 0, 7, 79, 43, 180, 0, 27, 43, 180, 0, 24, 42]
abbrev dktX12_joins_0 : List UInt8 := dkwX12_joins_0 ++ dktX12_joins_1
theorem dksX12_joins_0 : cX12_joins.data.toList.drop 0 = dktX12_joins_0 := by decide +kernel
theorem dksX12_joins_1 : cX12_joins.data.toList.drop 22 = dktX12_joins_1 := dk_seg dksX12_joins_0 22 rfl rfl
theorem dksX12_joins_2 : cX12_joins.data.toList.drop 46 = dktX12_joins_2 := dk_seg dksX12_joins_1 24 rfl rfl
theorem dX12_joins_0 : decode cX12_joins 0 = .ok (.aload_n 1, 1) := dk_43 (dk_at dksX12_joins_0 0 rfl rfl)
theorem dX12_joins_1 : decode cX12_joins 1 = .ok (.getfield 19, 3) := dk_180 0 19 (dk_at dksX12_joins_0 1 rfl rfl)
theorem dX12_joins_4 : decode cX12_joins 4 = .ok (.aload_n 1, 1) := dk_43 (dk_at dksX12_joins_0 4 rfl rfl)
theorem dX12_joins_5 : decode cX12_joins 5 = .ok (.getfield 24, 3) := dk_180 0 24 (dk_at dksX12_joins_0 5 rfl rfl)
theorem dX12_joins_8 : decode cX12_joins 8 = .ok (.aload_n 0, 1) := dk_42 (dk_at dksX12_joins_0 8 rfl rfl)
theorem dX12_joins_9 : decode cX12_joins 9 = .ok (.getfield 7, 3) := dk_180 0 7 (dk_at dksX12_joins_0 9 rfl rfl)
theorem dX12_joins_12 : decode cX12_joins 12 = .ok (.iastore, 1) := dk_79 (dk_at dksX12_joins_0 12 rfl rfl)
theorem dX12_joins_13 : decode cX12_joins 13 = .ok (.aload_n 1, 1) := dk_43 (dk_at dksX12_joins_0 13 rfl rfl)
theorem dX12_joins_14 : decode cX12_joins 14 = .ok (.getfield 27, 3) := dk_180 0 27 (dk_at dksX12_joins_0 14 rfl rfl)
theorem dX12_joins_17 : decode cX12_joins 17 = .ok (.aload_n 1, 1) := dk_43 (dk_at dksX12_joins_0 17 rfl rfl)
theorem dX12_joins_18 : decode cX12_joins 18 = .ok (.getfield 24, 3) := dk_180 0 24 (dk_at dksX12_joins_0 18 rfl rfl)
theorem dX12_joins_21 : decode cX12_joins 21 = .ok (.aload_n 0, 1) := dk_42 (dk_at dksX12_joins_0 21 rfl rfl)
theorem dX12_joins_22 : decode cX12_joins 22 = .ok (.getfield 13, 3) := dk_180 0 13 (dk_at dksX12_joins_1 0 rfl rfl)
theorem dX12_joins_25 : decode cX12_joins 25 = .ok (.iastore, 1) := dk_79 (dk_at dksX12_joins_1 3 rfl rfl)
theorem dX12_joins_26 : decode cX12_joins 26 = .ok (.aload_n 1, 1) := dk_43 (dk_at dksX12_joins_1 4 rfl rfl)
theorem dX12_joins_27 : decode cX12_joins 27 = .ok (.getfield 29, 3) := dk_180 0 29 (dk_at dksX12_joins_1 5 rfl rfl)
theorem dX12_joins_30 : decode cX12_joins 30 = .ok (.aload_n 1, 1) := dk_43 (dk_at dksX12_joins_1 8 rfl rfl)
theorem dX12_joins_31 : decode cX12_joins 31 = .ok (.getfield 24, 3) := dk_180 0 24 (dk_at dksX12_joins_1 9 rfl rfl)
theorem dX12_joins_34 : decode cX12_joins 34 = .ok (.aload_n 0, 1) := dk_42 (dk_at dksX12_joins_1 12 rfl rfl)
theorem dX12_joins_35 : decode cX12_joins 35 = .ok (.getfield 16, 3) := dk_180 0 16 (dk_at dksX12_joins_1 13 rfl rfl)
theorem dX12_joins_38 : decode cX12_joins 38 = .ok (.iastore, 1) := dk_79 (dk_at dksX12_joins_1 16 rfl rfl)
theorem dX12_joins_39 : decode cX12_joins 39 = .ok (.aload_n 1, 1) := dk_43 (dk_at dksX12_joins_1 17 rfl rfl)
theorem dX12_joins_40 : decode cX12_joins 40 = .ok (.dup, 1) := dk_89 (dk_at dksX12_joins_1 18 rfl rfl)
theorem dX12_joins_41 : decode cX12_joins 41 = .ok (.getfield 24, 3) := dk_180 0 24 (dk_at dksX12_joins_1 19 rfl rfl)
theorem dX12_joins_44 : decode cX12_joins 44 = .ok (.iconst 1, 1) := dk_4 (dk_at dksX12_joins_1 22 rfl rfl)
theorem dX12_joins_45 : decode cX12_joins 45 = .ok (.iadd, 1) := dk_96 (dk_at dksX12_joins_1 23 rfl rfl)
theorem dX12_joins_46 : decode cX12_joins 46 = .ok (.putfield 24, 3) := dk_181 0 24 (dk_at dksX12_joins_2 0 rfl rfl)
theorem dX12_joins_49 : decode cX12_joins 49 = .ok (.return_, 1) := dk_177 (dk_at dksX12_joins_2 3 rfl rfl)
theorem q119 : (Jvm.Cond.initialized "DayBoy$Alike") ∈ lw_all := lw_g (lw_at lw_m1 16 rfl) rfl
theorem q215 : (Jvm.Cond.fieldLinkNest "DayBoy$Alike" (19 : Nat) "DayBoy$Head" "one" "[I" "DayBoy") ∈ lw_tbl := lw_at lw_m1 112 rfl
theorem q218 : (Jvm.Cond.fieldLinkNest "DayBoy$Alike" (27 : Nat) "DayBoy$Head" "other" "[I" "DayBoy") ∈ lw_tbl := lw_at lw_m1 115 rfl
theorem q221 : (Jvm.Cond.fieldLinkNest "DayBoy$Alike" (29 : Nat) "DayBoy$Head" "mateCosts" "[I" "DayBoy") ∈ lw_tbl := lw_at lw_m1 118 rfl
theorem q241 : (Jvm.Cond.fieldLinkNest "DayBoy$Alike" (24 : Nat) "DayBoy$Head" "mateMany" "I" "DayBoy") ∈ lw_tbl := lw_at lw_m1 138 rfl
theorem q650 : (Jvm.Cond.instantiable "DayBoy$Alike" (3 : Nat)) ∈ lw_all := lw_g (lw_at lw_m3 67 rfl) rfl
theorem q652 : (Jvm.Cond.instanceMethod ({ cls := "DayBoy$Alike", name := "<init>", desc := "(III)V" } : Jvm.MethodName)) ∈ lw_all := lw_g (lw_at lw_m3 69 rfl) rfl
theorem q653 : (Jvm.Cond.code ({ cls := "DayBoy$Alike", name := "<init>", desc := "(III)V" } : Jvm.MethodName) prog_2_method_1_code (4 : Nat) (Option.none : Option Jvm.ClassFile.FieldType)) ∈ lw_all := lw_g (lw_at lw_m3 70 rfl) rfl
theorem q654 : (Jvm.Cond.methodLinkNest "DayBoy$Alike" (1 : Nat) ({ cls := "DayBoy$Item", name := "<init>", desc := "()V" } : Jvm.MethodName) "DayBoy") ∈ lw_tbl := lw_at lw_m3 71 rfl
theorem q655 : (Jvm.Cond.fieldLink "DayBoy$Alike" (7 : Nat) "DayBoy$Alike" "one" "I") ∈ lw_all := lw_g (lw_at lw_m3 72 rfl) rfl
theorem q656 : (Jvm.Cond.fieldLink "DayBoy$Alike" (13 : Nat) "DayBoy$Alike" "other" "I") ∈ lw_all := lw_g (lw_at lw_m3 73 rfl) rfl
theorem q657 : (Jvm.Cond.fieldLink "DayBoy$Alike" (16 : Nat) "DayBoy$Alike" "cost" "I") ∈ lw_all := lw_g (lw_at lw_m3 74 rfl) rfl
theorem q658 : (Jvm.Cond.laysFinal "DayBoy$Alike" "DayBoy$Alike" "one" "I") ∈ lw_all := lw_g (lw_at lw_m3 75 rfl) rfl
theorem q659 : (Jvm.Cond.soleField "DayBoy$Alike" "one") ∈ lw_all := lw_g (lw_at lw_m3 76 rfl) rfl
theorem q660 : (Jvm.Cond.laysFinal "DayBoy$Alike" "DayBoy$Alike" "other" "I") ∈ lw_all := lw_g (lw_at lw_m3 77 rfl) rfl
theorem q661 : (Jvm.Cond.soleField "DayBoy$Alike" "other") ∈ lw_all := lw_g (lw_at lw_m3 78 rfl) rfl
theorem q662 : (Jvm.Cond.laysFinal "DayBoy$Alike" "DayBoy$Alike" "cost" "I") ∈ lw_all := lw_g (lw_at lw_m3 79 rfl) rfl
theorem q663 : (Jvm.Cond.soleField "DayBoy$Alike" "cost") ∈ lw_all := lw_g (lw_at lw_m3 80 rfl) rfl
theorem q664 : (Jvm.Cond.superclass "DayBoy$Alike" "DayBoy$Item") ∈ lw_all := lw_g (lw_at lw_m3 81 rfl) rfl
theorem q695 : (Jvm.Cond.selects "DayBoy$Alike" ({ cls := "DayBoy$Item", name := "joins", desc := "(LDayBoy$Head;)V" } : Jvm.MethodName) ({ cls := "DayBoy$Alike", name := "joins", desc := "(LDayBoy$Head;)V" } : Jvm.MethodName)) ∈ lw_all := lw_g (lw_at lw_m3 112 rfl) rfl
theorem q696 : (Jvm.Cond.instanceMethod ({ cls := "DayBoy$Alike", name := "joins", desc := "(LDayBoy$Head;)V" } : Jvm.MethodName)) ∈ lw_all := lw_g (lw_at lw_m3 113 rfl) rfl
theorem q697 : (Jvm.Cond.code ({ cls := "DayBoy$Alike", name := "joins", desc := "(LDayBoy$Head;)V" } : Jvm.MethodName) prog_2_method_2_code (2 : Nat) (Option.none : Option Jvm.ClassFile.FieldType)) ∈ lw_all := lw_g (lw_at lw_m3 114 rfl) rfl
theorem q1922 : (Jvm.Cond.castable "DayBoy$Alike" "java/lang/Object") ∈ lw_tbl := lw_at lw_m8 139 rfl
theorem in_X12 : ∀ w ∈ wsX120, w ∈ lw_all := lw_in wsX120 [658, 660, 662] (by decide +kernel) (by decide +kernel)
/-! DayBoy$Own -/
set_option maxRecDepth 100000
def RX13 : String := "DayBoy$Own"
def TX13 : u_T := fun k => match k with
  | _ => ("DayBoy$Own", "month", "I", true)
def tyX13 : Nat → FieldType := fun k => match k with
  | _ => .int
abbrev wsX130 : List Cond := u_ws RX13 TX13 1
theorem nmX13 : ∀ a, a < 1 → ∀ b, b < 1 → a ≠ b → (TX13 a).2.1 ≠ (TX13 b).2.1 := by decide +kernel
theorem tyX13_ok : ∀ k, k < 1 → parseFieldDescriptor (TX13 k).2.2.1 = some (tyX13 k) := by decide +kernel
abbrev cX13_init : ByteArray := prog_10_method_1_code
def yX13_init : MethodName := ⟨RX13, "<init>", "(I)V"⟩
def dkwX13_init_0 : List UInt8 := [42, 183, 0, 1, 42, 27, 181, 0, 7, 177]
abbrev dktX13_init_0 : List UInt8 := dkwX13_init_0 ++ []
theorem dksX13_init_0 : cX13_init.data.toList.drop 0 = dktX13_init_0 := by decide +kernel
theorem dX13_init_0 : decode cX13_init 0 = .ok (.aload_n 0, 1) := dk_42 (dk_at dksX13_init_0 0 rfl rfl)
theorem dX13_init_1 : decode cX13_init 1 = .ok (.invokespecial 1, 3) := dk_183 0 1 (dk_at dksX13_init_0 1 rfl rfl)
theorem dX13_init_4 : decode cX13_init 4 = .ok (.aload_n 0, 1) := dk_42 (dk_at dksX13_init_0 4 rfl rfl)
theorem dX13_init_5 : decode cX13_init 5 = .ok (.iload_n 1, 1) := dk_27 (dk_at dksX13_init_0 5 rfl rfl)
theorem dX13_init_6 : decode cX13_init 6 = .ok (.putfield 7, 3) := dk_181 0 7 (dk_at dksX13_init_0 6 rfl rfl)
theorem dX13_init_9 : decode cX13_init 9 = .ok (.return_, 1) := dk_177 (dk_at dksX13_init_0 9 rfl rfl)
abbrev cX13_joins : ByteArray := prog_10_method_2_code
def yX13_joins : MethodName := ⟨RX13, "joins", "(LDayBoy$Head;)V"⟩
def dkwX13_joins_0 : List UInt8 := [43, 180, 0, 13, 42, 180, 0, 7, 4, 84, 177]
abbrev dktX13_joins_0 : List UInt8 := dkwX13_joins_0 ++ []
theorem dksX13_joins_0 : cX13_joins.data.toList.drop 0 = dktX13_joins_0 := by decide +kernel
theorem dX13_joins_0 : decode cX13_joins 0 = .ok (.aload_n 1, 1) := dk_43 (dk_at dksX13_joins_0 0 rfl rfl)
theorem dX13_joins_1 : decode cX13_joins 1 = .ok (.getfield 13, 3) := dk_180 0 13 (dk_at dksX13_joins_0 1 rfl rfl)
theorem dX13_joins_4 : decode cX13_joins 4 = .ok (.aload_n 0, 1) := dk_42 (dk_at dksX13_joins_0 4 rfl rfl)
theorem dX13_joins_5 : decode cX13_joins 5 = .ok (.getfield 7, 3) := dk_180 0 7 (dk_at dksX13_joins_0 5 rfl rfl)
theorem dX13_joins_8 : decode cX13_joins 8 = .ok (.iconst 1, 1) := dk_4 (dk_at dksX13_joins_0 8 rfl rfl)
theorem dX13_joins_9 : decode cX13_joins 9 = .ok (.bastore, 1) := dk_84 (dk_at dksX13_joins_0 9 rfl rfl)
theorem dX13_joins_10 : decode cX13_joins 10 = .ok (.return_, 1) := dk_177 (dk_at dksX13_joins_0 10 rfl rfl)
theorem q120 : (Jvm.Cond.initialized "DayBoy$Own") ∈ lw_all := lw_g (lw_at lw_m1 17 rfl) rfl
theorem q226 : (Jvm.Cond.fieldLinkNest "DayBoy$Own" (13 : Nat) "DayBoy$Head" "own" "[Z" "DayBoy") ∈ lw_tbl := lw_at lw_m1 123 rfl
theorem q670 : (Jvm.Cond.instantiable "DayBoy$Own" (1 : Nat)) ∈ lw_all := lw_g (lw_at lw_m3 87 rfl) rfl
theorem q672 : (Jvm.Cond.instanceMethod ({ cls := "DayBoy$Own", name := "<init>", desc := "(I)V" } : Jvm.MethodName)) ∈ lw_all := lw_g (lw_at lw_m3 89 rfl) rfl
theorem q673 : (Jvm.Cond.code ({ cls := "DayBoy$Own", name := "<init>", desc := "(I)V" } : Jvm.MethodName) prog_10_method_1_code (2 : Nat) (Option.none : Option Jvm.ClassFile.FieldType)) ∈ lw_all := lw_g (lw_at lw_m3 90 rfl) rfl
theorem q674 : (Jvm.Cond.methodLinkNest "DayBoy$Own" (1 : Nat) ({ cls := "DayBoy$Item", name := "<init>", desc := "()V" } : Jvm.MethodName) "DayBoy") ∈ lw_tbl := lw_at lw_m3 91 rfl
theorem q675 : (Jvm.Cond.fieldLink "DayBoy$Own" (7 : Nat) "DayBoy$Own" "month" "I") ∈ lw_all := lw_g (lw_at lw_m3 92 rfl) rfl
theorem q676 : (Jvm.Cond.laysFinal "DayBoy$Own" "DayBoy$Own" "month" "I") ∈ lw_all := lw_g (lw_at lw_m3 93 rfl) rfl
theorem q677 : (Jvm.Cond.soleField "DayBoy$Own" "month") ∈ lw_all := lw_g (lw_at lw_m3 94 rfl) rfl
theorem q678 : (Jvm.Cond.superclass "DayBoy$Own" "DayBoy$Item") ∈ lw_all := lw_g (lw_at lw_m3 95 rfl) rfl
theorem q701 : (Jvm.Cond.selects "DayBoy$Own" ({ cls := "DayBoy$Item", name := "joins", desc := "(LDayBoy$Head;)V" } : Jvm.MethodName) ({ cls := "DayBoy$Own", name := "joins", desc := "(LDayBoy$Head;)V" } : Jvm.MethodName)) ∈ lw_all := lw_g (lw_at lw_m3 118 rfl) rfl
theorem q702 : (Jvm.Cond.instanceMethod ({ cls := "DayBoy$Own", name := "joins", desc := "(LDayBoy$Head;)V" } : Jvm.MethodName)) ∈ lw_all := lw_g (lw_at lw_m3 119 rfl) rfl
theorem q703 : (Jvm.Cond.code ({ cls := "DayBoy$Own", name := "joins", desc := "(LDayBoy$Head;)V" } : Jvm.MethodName) prog_10_method_2_code (2 : Nat) (Option.none : Option Jvm.ClassFile.FieldType)) ∈ lw_all := lw_g (lw_at lw_m3 120 rfl) rfl
theorem q1923 : (Jvm.Cond.castable "DayBoy$Own" "java/lang/Object") ∈ lw_tbl := lw_at lw_m8 140 rfl
theorem in_X13 : ∀ w ∈ wsX130, w ∈ lw_all := lw_in wsX130 [676] (by decide +kernel) (by decide +kernel)
/-! DayBoy$Cost -/
set_option maxRecDepth 100000
def RX14 : String := "DayBoy$Cost"
def TX14 : u_T := fun k => match k with
  | 0 => ("DayBoy$Cost", "place", "I", true)
  | _ => ("DayBoy$Cost", "cost", "I", true)
def tyX14 : Nat → FieldType := fun k => match k with
  | 0 => .int
  | _ => .int
abbrev wsX140 : List Cond := u_ws RX14 TX14 2
theorem nmX14 : ∀ a, a < 2 → ∀ b, b < 2 → a ≠ b → (TX14 a).2.1 ≠ (TX14 b).2.1 := by decide +kernel
theorem tyX14_ok : ∀ k, k < 2 → parseFieldDescriptor (TX14 k).2.2.1 = some (tyX14 k) := by decide +kernel
abbrev cX14_init : ByteArray := prog_5_method_1_code
def yX14_init : MethodName := ⟨RX14, "<init>", "(II)V"⟩
def dkwX14_init_0 : List UInt8 := [42, 183, 0, 1, 42, 27, 181, 0, 7, 42, 28, 181, 0, 13, 177]
abbrev dktX14_init_0 : List UInt8 := dkwX14_init_0 ++ []
theorem dksX14_init_0 : cX14_init.data.toList.drop 0 = dktX14_init_0 := by decide +kernel
theorem dX14_init_0 : decode cX14_init 0 = .ok (.aload_n 0, 1) := dk_42 (dk_at dksX14_init_0 0 rfl rfl)
theorem dX14_init_1 : decode cX14_init 1 = .ok (.invokespecial 1, 3) := dk_183 0 1 (dk_at dksX14_init_0 1 rfl rfl)
theorem dX14_init_4 : decode cX14_init 4 = .ok (.aload_n 0, 1) := dk_42 (dk_at dksX14_init_0 4 rfl rfl)
theorem dX14_init_5 : decode cX14_init 5 = .ok (.iload_n 1, 1) := dk_27 (dk_at dksX14_init_0 5 rfl rfl)
theorem dX14_init_6 : decode cX14_init 6 = .ok (.putfield 7, 3) := dk_181 0 7 (dk_at dksX14_init_0 6 rfl rfl)
theorem dX14_init_9 : decode cX14_init 9 = .ok (.aload_n 0, 1) := dk_42 (dk_at dksX14_init_0 9 rfl rfl)
theorem dX14_init_10 : decode cX14_init 10 = .ok (.iload_n 2, 1) := dk_28 (dk_at dksX14_init_0 10 rfl rfl)
theorem dX14_init_11 : decode cX14_init 11 = .ok (.putfield 13, 3) := dk_181 0 13 (dk_at dksX14_init_0 11 rfl rfl)
theorem dX14_init_14 : decode cX14_init 14 = .ok (.return_, 1) := dk_177 (dk_at dksX14_init_0 14 rfl rfl)
abbrev cX14_joins : ByteArray := prog_5_method_2_code
def yX14_joins : MethodName := ⟨RX14, "joins", "(LDayBoy$Head;)V"⟩
def dkwX14_joins_0 : List UInt8 := [43, 180, 0, 16, 42, 180, 0, 7, 42, 180, 0, 13, 79, 177]
abbrev dktX14_joins_0 : List UInt8 := dkwX14_joins_0 ++ []
theorem dksX14_joins_0 : cX14_joins.data.toList.drop 0 = dktX14_joins_0 := by decide +kernel
theorem dX14_joins_0 : decode cX14_joins 0 = .ok (.aload_n 1, 1) := dk_43 (dk_at dksX14_joins_0 0 rfl rfl)
theorem dX14_joins_1 : decode cX14_joins 1 = .ok (.getfield 16, 3) := dk_180 0 16 (dk_at dksX14_joins_0 1 rfl rfl)
theorem dX14_joins_4 : decode cX14_joins 4 = .ok (.aload_n 0, 1) := dk_42 (dk_at dksX14_joins_0 4 rfl rfl)
theorem dX14_joins_5 : decode cX14_joins 5 = .ok (.getfield 7, 3) := dk_180 0 7 (dk_at dksX14_joins_0 5 rfl rfl)
theorem dX14_joins_8 : decode cX14_joins 8 = .ok (.aload_n 0, 1) := dk_42 (dk_at dksX14_joins_0 8 rfl rfl)
theorem dX14_joins_9 : decode cX14_joins 9 = .ok (.getfield 13, 3) := dk_180 0 13 (dk_at dksX14_joins_0 9 rfl rfl)
theorem dX14_joins_12 : decode cX14_joins 12 = .ok (.iastore, 1) := dk_79 (dk_at dksX14_joins_0 12 rfl rfl)
theorem dX14_joins_13 : decode cX14_joins 13 = .ok (.return_, 1) := dk_177 (dk_at dksX14_joins_0 13 rfl rfl)
theorem q121 : (Jvm.Cond.initialized "DayBoy$Cost") ∈ lw_all := lw_g (lw_at lw_m1 18 rfl) rfl
theorem q223 : (Jvm.Cond.fieldLinkNest "DayBoy$Cost" (16 : Nat) "DayBoy$Head" "costs" "[I" "DayBoy") ∈ lw_tbl := lw_at lw_m1 120 rfl
theorem q680 : (Jvm.Cond.instantiable "DayBoy$Cost" (2 : Nat)) ∈ lw_all := lw_g (lw_at lw_m3 97 rfl) rfl
theorem q682 : (Jvm.Cond.instanceMethod ({ cls := "DayBoy$Cost", name := "<init>", desc := "(II)V" } : Jvm.MethodName)) ∈ lw_all := lw_g (lw_at lw_m3 99 rfl) rfl
theorem q683 : (Jvm.Cond.code ({ cls := "DayBoy$Cost", name := "<init>", desc := "(II)V" } : Jvm.MethodName) prog_5_method_1_code (3 : Nat) (Option.none : Option Jvm.ClassFile.FieldType)) ∈ lw_all := lw_g (lw_at lw_m3 100 rfl) rfl
theorem q684 : (Jvm.Cond.methodLinkNest "DayBoy$Cost" (1 : Nat) ({ cls := "DayBoy$Item", name := "<init>", desc := "()V" } : Jvm.MethodName) "DayBoy") ∈ lw_tbl := lw_at lw_m3 101 rfl
theorem q685 : (Jvm.Cond.fieldLink "DayBoy$Cost" (7 : Nat) "DayBoy$Cost" "place" "I") ∈ lw_all := lw_g (lw_at lw_m3 102 rfl) rfl
theorem q686 : (Jvm.Cond.fieldLink "DayBoy$Cost" (13 : Nat) "DayBoy$Cost" "cost" "I") ∈ lw_all := lw_g (lw_at lw_m3 103 rfl) rfl
theorem q687 : (Jvm.Cond.laysFinal "DayBoy$Cost" "DayBoy$Cost" "place" "I") ∈ lw_all := lw_g (lw_at lw_m3 104 rfl) rfl
theorem q688 : (Jvm.Cond.soleField "DayBoy$Cost" "place") ∈ lw_all := lw_g (lw_at lw_m3 105 rfl) rfl
theorem q689 : (Jvm.Cond.laysFinal "DayBoy$Cost" "DayBoy$Cost" "cost" "I") ∈ lw_all := lw_g (lw_at lw_m3 106 rfl) rfl
theorem q690 : (Jvm.Cond.soleField "DayBoy$Cost" "cost") ∈ lw_all := lw_g (lw_at lw_m3 107 rfl) rfl
theorem q691 : (Jvm.Cond.superclass "DayBoy$Cost" "DayBoy$Item") ∈ lw_all := lw_g (lw_at lw_m3 108 rfl) rfl
theorem q698 : (Jvm.Cond.selects "DayBoy$Cost" ({ cls := "DayBoy$Item", name := "joins", desc := "(LDayBoy$Head;)V" } : Jvm.MethodName) ({ cls := "DayBoy$Cost", name := "joins", desc := "(LDayBoy$Head;)V" } : Jvm.MethodName)) ∈ lw_all := lw_g (lw_at lw_m3 115 rfl) rfl
theorem q699 : (Jvm.Cond.instanceMethod ({ cls := "DayBoy$Cost", name := "joins", desc := "(LDayBoy$Head;)V" } : Jvm.MethodName)) ∈ lw_all := lw_g (lw_at lw_m3 116 rfl) rfl
theorem q700 : (Jvm.Cond.code ({ cls := "DayBoy$Cost", name := "joins", desc := "(LDayBoy$Head;)V" } : Jvm.MethodName) prog_5_method_2_code (2 : Nat) (Option.none : Option Jvm.ClassFile.FieldType)) ∈ lw_all := lw_g (lw_at lw_m3 117 rfl) rfl
theorem q1924 : (Jvm.Cond.castable "DayBoy$Cost" "java/lang/Object") ∈ lw_tbl := lw_at lw_m8 141 rfl
theorem in_X14 : ∀ w ∈ wsX140, w ∈ lw_all := lw_in wsX140 [687, 689] (by decide +kernel) (by decide +kernel)
/-! DayBoy$Ask -/
set_option maxRecDepth 100000
def RX15 : String := "DayBoy$Ask"
def TX15 : u_T := fun k => match k with
  | 0 => ("DayBoy$Ask", "month", "I", true)
  | 1 => ("DayBoy$Ask", "calendar", "I", true)
  | 2 => ("DayBoy$Ask", "y", "I", true)
  | 3 => ("DayBoy$Ask", "m", "I", true)
  | 4 => ("DayBoy$Ask", "d", "I", true)
  | 5 => ("DayBoy$Ask", "day", "I", true)
  | 6 => ("DayBoy$Ask", "answer", "I", true)
  | _ => ("DayBoy$Ask", "tenths", "I", true)
def tyX15 : Nat → FieldType := fun k => match k with
  | 0 => .int
  | 1 => .int
  | 2 => .int
  | 3 => .int
  | 4 => .int
  | 5 => .int
  | 6 => .int
  | _ => .int
abbrev wsX150 : List Cond := u_ws RX15 TX15 8
theorem nmX15 : ∀ a, a < 8 → ∀ b, b < 8 → a ≠ b → (TX15 a).2.1 ≠ (TX15 b).2.1 := by decide +kernel
theorem tyX15_ok : ∀ k, k < 8 → parseFieldDescriptor (TX15 k).2.2.1 = some (tyX15 k) := by decide +kernel
abbrev cX15_init : ByteArray := prog_4_method_1_code
def yX15_init : MethodName := ⟨RX15, "<init>", "(IIIIIIII)V"⟩
def dkwX15_init_2 : List UInt8 := [181, 0, 31, 177]
abbrev dktX15_init_2 : List UInt8 := dkwX15_init_2 ++ []
def dkwX15_init_1 : List UInt8 := [181, 0, 19, 42, 21, 5, 181, 0, 22, 42, 21, 6, 181, 0, 25, 42, 21, 7, 181, 0, 28, 42, 21, 8]
abbrev dktX15_init_1 : List UInt8 := dkwX15_init_1 ++ dktX15_init_2
def dkwX15_init_0 : List UInt8 := [42, 183, 0, 1, 42, 27, 181, 0, 7, 42, 28, 181, 0, 13, 42, 29, 181, 0, 16, 42, 21, 4]
abbrev dktX15_init_0 : List UInt8 := dkwX15_init_0 ++ dktX15_init_1
theorem dksX15_init_0 : cX15_init.data.toList.drop 0 = dktX15_init_0 := by decide +kernel
theorem dksX15_init_1 : cX15_init.data.toList.drop 22 = dktX15_init_1 := dk_seg dksX15_init_0 22 rfl rfl
theorem dksX15_init_2 : cX15_init.data.toList.drop 46 = dktX15_init_2 := dk_seg dksX15_init_1 24 rfl rfl
theorem dX15_init_0 : decode cX15_init 0 = .ok (.aload_n 0, 1) := dk_42 (dk_at dksX15_init_0 0 rfl rfl)
theorem dX15_init_1 : decode cX15_init 1 = .ok (.invokespecial 1, 3) := dk_183 0 1 (dk_at dksX15_init_0 1 rfl rfl)
theorem dX15_init_4 : decode cX15_init 4 = .ok (.aload_n 0, 1) := dk_42 (dk_at dksX15_init_0 4 rfl rfl)
theorem dX15_init_5 : decode cX15_init 5 = .ok (.iload_n 1, 1) := dk_27 (dk_at dksX15_init_0 5 rfl rfl)
theorem dX15_init_6 : decode cX15_init 6 = .ok (.putfield 7, 3) := dk_181 0 7 (dk_at dksX15_init_0 6 rfl rfl)
theorem dX15_init_9 : decode cX15_init 9 = .ok (.aload_n 0, 1) := dk_42 (dk_at dksX15_init_0 9 rfl rfl)
theorem dX15_init_10 : decode cX15_init 10 = .ok (.iload_n 2, 1) := dk_28 (dk_at dksX15_init_0 10 rfl rfl)
theorem dX15_init_11 : decode cX15_init 11 = .ok (.putfield 13, 3) := dk_181 0 13 (dk_at dksX15_init_0 11 rfl rfl)
theorem dX15_init_14 : decode cX15_init 14 = .ok (.aload_n 0, 1) := dk_42 (dk_at dksX15_init_0 14 rfl rfl)
theorem dX15_init_15 : decode cX15_init 15 = .ok (.iload_n 3, 1) := dk_29 (dk_at dksX15_init_0 15 rfl rfl)
theorem dX15_init_16 : decode cX15_init 16 = .ok (.putfield 16, 3) := dk_181 0 16 (dk_at dksX15_init_0 16 rfl rfl)
theorem dX15_init_19 : decode cX15_init 19 = .ok (.aload_n 0, 1) := dk_42 (dk_at dksX15_init_0 19 rfl rfl)
theorem dX15_init_20 : decode cX15_init 20 = .ok (.iload 4, 2) := dk_21 4 (dk_at dksX15_init_0 20 rfl rfl)
theorem dX15_init_22 : decode cX15_init 22 = .ok (.putfield 19, 3) := dk_181 0 19 (dk_at dksX15_init_1 0 rfl rfl)
theorem dX15_init_25 : decode cX15_init 25 = .ok (.aload_n 0, 1) := dk_42 (dk_at dksX15_init_1 3 rfl rfl)
theorem dX15_init_26 : decode cX15_init 26 = .ok (.iload 5, 2) := dk_21 5 (dk_at dksX15_init_1 4 rfl rfl)
theorem dX15_init_28 : decode cX15_init 28 = .ok (.putfield 22, 3) := dk_181 0 22 (dk_at dksX15_init_1 6 rfl rfl)
theorem dX15_init_31 : decode cX15_init 31 = .ok (.aload_n 0, 1) := dk_42 (dk_at dksX15_init_1 9 rfl rfl)
theorem dX15_init_32 : decode cX15_init 32 = .ok (.iload 6, 2) := dk_21 6 (dk_at dksX15_init_1 10 rfl rfl)
theorem dX15_init_34 : decode cX15_init 34 = .ok (.putfield 25, 3) := dk_181 0 25 (dk_at dksX15_init_1 12 rfl rfl)
theorem dX15_init_37 : decode cX15_init 37 = .ok (.aload_n 0, 1) := dk_42 (dk_at dksX15_init_1 15 rfl rfl)
theorem dX15_init_38 : decode cX15_init 38 = .ok (.iload 7, 2) := dk_21 7 (dk_at dksX15_init_1 16 rfl rfl)
theorem dX15_init_40 : decode cX15_init 40 = .ok (.putfield 28, 3) := dk_181 0 28 (dk_at dksX15_init_1 18 rfl rfl)
theorem dX15_init_43 : decode cX15_init 43 = .ok (.aload_n 0, 1) := dk_42 (dk_at dksX15_init_1 21 rfl rfl)
theorem dX15_init_44 : decode cX15_init 44 = .ok (.iload 8, 2) := dk_21 8 (dk_at dksX15_init_1 22 rfl rfl)
theorem dX15_init_46 : decode cX15_init 46 = .ok (.putfield 31, 3) := dk_181 0 31 (dk_at dksX15_init_2 0 rfl rfl)
theorem dX15_init_49 : decode cX15_init 49 = .ok (.return_, 1) := dk_177 (dk_at dksX15_init_2 3 rfl rfl)
theorem q124 : (Jvm.Cond.initialized "DayBoy$Ask") ∈ lw_all := lw_g (lw_at lw_m1 21 rfl) rfl
theorem q919 : (Jvm.Cond.instantiable "DayBoy$Ask" (8 : Nat)) ∈ lw_all := lw_g (lw_at lw_m4 96 rfl) rfl
theorem q921 : (Jvm.Cond.instanceMethod ({ cls := "DayBoy$Ask", name := "<init>", desc := "(IIIIIIII)V" } : Jvm.MethodName)) ∈ lw_all := lw_g (lw_at lw_m4 98 rfl) rfl
theorem q922 : (Jvm.Cond.code ({ cls := "DayBoy$Ask", name := "<init>", desc := "(IIIIIIII)V" } : Jvm.MethodName) prog_4_method_1_code (9 : Nat) (Option.none : Option Jvm.ClassFile.FieldType)) ∈ lw_all := lw_g (lw_at lw_m4 99 rfl) rfl
theorem q923 : (Jvm.Cond.methodLink "DayBoy$Ask" (1 : Nat) ({ cls := "java/lang/Object", name := "<init>", desc := "()V" } : Jvm.MethodName)) ∈ lw_all := lw_g (lw_at lw_m4 100 rfl) rfl
theorem q924 : (Jvm.Cond.fieldLink "DayBoy$Ask" (7 : Nat) "DayBoy$Ask" "month" "I") ∈ lw_all := lw_g (lw_at lw_m4 101 rfl) rfl
theorem q926 : (Jvm.Cond.fieldLink "DayBoy$Ask" (13 : Nat) "DayBoy$Ask" "calendar" "I") ∈ lw_all := lw_g (lw_at lw_m4 103 rfl) rfl
theorem q928 : (Jvm.Cond.fieldLink "DayBoy$Ask" (16 : Nat) "DayBoy$Ask" "y" "I") ∈ lw_all := lw_g (lw_at lw_m4 105 rfl) rfl
theorem q930 : (Jvm.Cond.fieldLink "DayBoy$Ask" (19 : Nat) "DayBoy$Ask" "m" "I") ∈ lw_all := lw_g (lw_at lw_m4 107 rfl) rfl
theorem q932 : (Jvm.Cond.fieldLink "DayBoy$Ask" (22 : Nat) "DayBoy$Ask" "d" "I") ∈ lw_all := lw_g (lw_at lw_m4 109 rfl) rfl
theorem q934 : (Jvm.Cond.fieldLink "DayBoy$Ask" (25 : Nat) "DayBoy$Ask" "day" "I") ∈ lw_all := lw_g (lw_at lw_m4 111 rfl) rfl
theorem q936 : (Jvm.Cond.fieldLink "DayBoy$Ask" (28 : Nat) "DayBoy$Ask" "answer" "I") ∈ lw_all := lw_g (lw_at lw_m4 113 rfl) rfl
theorem q938 : (Jvm.Cond.fieldLink "DayBoy$Ask" (31 : Nat) "DayBoy$Ask" "tenths" "I") ∈ lw_all := lw_g (lw_at lw_m4 115 rfl) rfl
theorem q940 : (Jvm.Cond.laysFinal "DayBoy$Ask" "DayBoy$Ask" "month" "I") ∈ lw_all := lw_g (lw_at lw_m4 117 rfl) rfl
theorem q941 : (Jvm.Cond.soleField "DayBoy$Ask" "month") ∈ lw_all := lw_g (lw_at lw_m4 118 rfl) rfl
theorem q942 : (Jvm.Cond.laysFinal "DayBoy$Ask" "DayBoy$Ask" "calendar" "I") ∈ lw_all := lw_g (lw_at lw_m4 119 rfl) rfl
theorem q943 : (Jvm.Cond.soleField "DayBoy$Ask" "calendar") ∈ lw_all := lw_g (lw_at lw_m4 120 rfl) rfl
theorem q944 : (Jvm.Cond.laysFinal "DayBoy$Ask" "DayBoy$Ask" "y" "I") ∈ lw_all := lw_g (lw_at lw_m4 121 rfl) rfl
theorem q945 : (Jvm.Cond.soleField "DayBoy$Ask" "y") ∈ lw_all := lw_g (lw_at lw_m4 122 rfl) rfl
theorem q946 : (Jvm.Cond.laysFinal "DayBoy$Ask" "DayBoy$Ask" "m" "I") ∈ lw_all := lw_g (lw_at lw_m4 123 rfl) rfl
theorem q947 : (Jvm.Cond.soleField "DayBoy$Ask" "m") ∈ lw_all := lw_g (lw_at lw_m4 124 rfl) rfl
theorem q948 : (Jvm.Cond.laysFinal "DayBoy$Ask" "DayBoy$Ask" "d" "I") ∈ lw_all := lw_g (lw_at lw_m4 125 rfl) rfl
theorem q949 : (Jvm.Cond.soleField "DayBoy$Ask" "d") ∈ lw_all := lw_g (lw_at lw_m4 126 rfl) rfl
theorem q950 : (Jvm.Cond.laysFinal "DayBoy$Ask" "DayBoy$Ask" "day" "I") ∈ lw_all := lw_g (lw_at lw_m4 127 rfl) rfl
theorem q951 : (Jvm.Cond.soleField "DayBoy$Ask" "day") ∈ lw_all := lw_g (lw_at lw_m4 128 rfl) rfl
theorem q952 : (Jvm.Cond.laysFinal "DayBoy$Ask" "DayBoy$Ask" "answer" "I") ∈ lw_all := lw_g (lw_at lw_m4 129 rfl) rfl
theorem q953 : (Jvm.Cond.soleField "DayBoy$Ask" "answer") ∈ lw_all := lw_g (lw_at lw_m4 130 rfl) rfl
theorem q954 : (Jvm.Cond.laysFinal "DayBoy$Ask" "DayBoy$Ask" "tenths" "I") ∈ lw_all := lw_g (lw_at lw_m4 131 rfl) rfl
theorem q955 : (Jvm.Cond.soleField "DayBoy$Ask" "tenths") ∈ lw_all := lw_g (lw_at lw_m4 132 rfl) rfl
theorem q956 : (Jvm.Cond.superclass "DayBoy$Ask" "java/lang/Object") ∈ lw_all := lw_g (lw_at lw_m4 133 rfl) rfl
theorem q1926 : (Jvm.Cond.castable "DayBoy$Ask" "java/lang/Object") ∈ lw_tbl := lw_at lw_m8 143 rfl
theorem in_X15 : ∀ w ∈ wsX150, w ∈ lw_all := lw_in wsX150 [940, 942, 944, 946, 948, 950, 952, 954] (by decide +kernel) (by decide +kernel)
theorem q142 : (Jvm.Cond.arrayOver (Jvm.ClassFile.FieldType.object "DayBoy$Era")) ∈ lw_tbl := lw_at lw_m1 39 rfl
set_option maxRecDepth 100000
theorem q169 : (Jvm.Cond.arrayClass Jvm.ClassFile.FieldType.byte) ∈ lw_all := lw_g (lw_at lw_m1 66 rfl) rfl
theorem q170 : (Jvm.Cond.arrayClass Jvm.ClassFile.FieldType.int) ∈ lw_all := lw_g (lw_at lw_m1 67 rfl) rfl
theorem q171 : (Jvm.Cond.arrayClass Jvm.ClassFile.FieldType.boolean) ∈ lw_all := lw_g (lw_at lw_m1 68 rfl) rfl
theorem q297 : (Jvm.Cond.arrayClass Jvm.ClassFile.FieldType.long) ∈ lw_all := lw_g (lw_at lw_m1 194 rfl) rfl
theorem q298 : (Jvm.Cond.arrayOver (Jvm.ClassFile.FieldType.object "DayBoy$Almanac")) ∈ lw_tbl := lw_at lw_m1 195 rfl
theorem q299 : (Jvm.Cond.arrayOver (Jvm.ClassFile.FieldType.object "DayBoy$Head")) ∈ lw_tbl := lw_at lw_m1 196 rfl
theorem q301 : (Jvm.Cond.arrayOver (Jvm.ClassFile.FieldType.object "DayBoy$Ask")) ∈ lw_tbl := lw_at lw_m1 198 rfl
theorem q122 : (Jvm.Cond.initialized "java/lang/System") ∈ lw_all := lw_g (lw_at lw_m1 19 rfl) rfl
set_option maxRecDepth 100000
theorem q720 : (Jvm.Cond.static ({ cls := "java/lang/System", name := "arraycopy", desc := "(Ljava/lang/Object;ILjava/lang/Object;II)V" } : Jvm.MethodName)) ∈ lw_all := lw_g (lw_at lw_m3 137 rfl) rfl
theorem q721 : (Jvm.Cond.native ({ cls := "java/lang/System", name := "arraycopy", desc := "(Ljava/lang/Object;ILjava/lang/Object;II)V" } : Jvm.MethodName)) ∈ lw_all := lw_g (lw_at lw_m3 138 rfl) rfl
