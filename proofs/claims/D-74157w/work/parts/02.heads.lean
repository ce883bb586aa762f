/-! DECODE ROWS BY BYTES: one lemma an opcode; a method's code is cut into short pieces once, and a row reads its own piece alone. -/
set_option maxRecDepth 100000
/-- the code has just these bytes from pc on -/
def DkAt (code : ByteArray) (pc : Nat) (bs : List UInt8) : Prop := ∀ (j : Nat) (b : UInt8), bs[j]? = some b → code.data.toList[pc + j]? = some b
/-- the piece W has the bytes bs from its place j on -/
def dkIn (W : List UInt8) (j : Nat) (bs : List UInt8) : Bool := decide ((W.drop j).take bs.length = bs)
theorem dk_seg {l W T : List UInt8} {o o2 : Nat} (h : l.drop o = W ++ T) (n : Nat) (hn : W.length = n) (ho : o + n = o2) : l.drop o2 = T := by
  subst ho
  rw [← List.drop_drop, h, List.drop_left' hn]
theorem dk_at {code : ByteArray} {W T bs : List UInt8} {o pc : Nat} (h : code.data.toList.drop o = W ++ T) (j : Nat) (hp : o + j = pc) (hw : dkIn W j bs = true) : DkAt code pc bs := by
  subst hp
  intro i b e
  have h1 := of_decide_eq_true hw
  have h2 : i < bs.length := (List.getElem?_eq_some_iff.mp e).1
  have h3 : W[j + i]? = some b := by
    rw [← h1, List.getElem?_take, if_pos h2, List.getElem?_drop] at e
    exact e
  have h4 : j + i < W.length := (List.getElem?_eq_some_iff.mp h3).1
  have h5 : (code.data.toList.drop o)[j + i]? = some b := by
    rw [h, List.getElem?_append_left h4]
    exact h3
  rw [List.getElem?_drop, ← Nat.add_assoc] at h5
  exact h5
theorem dk_u1 {A : ByteArray} {p : Nat} {b : UInt8} (h : A.data.toList[p]? = some b) : (Reader.u1 : Reader DecodeError Nat) A p = .ok (b.toNat, p + 1) := by
  obtain ⟨h1, h2⟩ := List.getElem?_eq_some_iff.mp h
  have h3 : p < A.size := by simpa using h1
  have h4 : A[p]'h3 = b := h2
  have e : (Reader.u1 : Reader DecodeError Nat) A p = (if h : p < A.size then .ok (A[p].toNat, p + 1) else .error (HasTruncated.truncated p)) := by
    show (do if h : p < A.size then do set (p + 1); Pure.pure A[p].toNat else MonadExcept.throw (HasTruncated.truncated p) : Reader DecodeError Nat) A p = _
    by_cases hi : p < A.size
    · rw [dif_pos hi, dif_pos hi]; rfl
    · rw [dif_neg hi, dif_neg hi]; rfl
  rw [e, dif_pos h3, h4]
theorem dk_bind {α β : Type} {r : Reader DecodeError α} {f : α → Reader DecodeError β} {A : ByteArray} {p s : Nat} {a : α} (h : r A p = .ok (a, s)) : (r >>= f) A p = f a A s := by
  show (do let (a, s) ← r A p; f a A s : Except DecodeError (β × Nat)) = _
  rw [h]
  rfl
theorem dk_map {α β : Type} {r : Reader DecodeError α} {g : α → β} {A : ByteArray} {p s : Nat} {a : α} (h : r A p = .ok (a, s)) : (g <$> r) A p = .ok (g a, s) := by
  show (do let (a, s) ← r A p; .ok (g a, s) : Except DecodeError (β × Nat)) = _
  rw [h]
  rfl
theorem dk_u2 {A : ByteArray} {p : Nat} {a b : UInt8} (h : A.data.toList[p]? = some a) (h2 : A.data.toList[p + 1]? = some b) : (Reader.u2 : Reader DecodeError Nat) A p = .ok (a.toNat * 256 + b.toNat, p + 2) := by
  show (Reader.u1 >>= fun hi => Reader.u1 >>= fun lo => Pure.pure (hi * 256 + lo) : Reader DecodeError Nat) A p = _
  rw [dk_bind (dk_u1 h), dk_bind (dk_u1 h2)]
  rfl
theorem dk_of {code : ByteArray} {pc n : Nat} {i : Instr} (h : Decoder.instr pc code pc = .ok (i, pc + n)) : decode code pc = .ok (i, n) := by
  have e : decode code pc = (match Decoder.instr pc code pc with | .error x => .error x | .ok (j, s) => .ok (j, s - pc)) := by
    show (do let (j, s) ← Decoder.instr pc code pc; Pure.pure (j, s - pc) : Except DecodeError (Instr × Nat)) = _
    cases Decoder.instr pc code pc <;> rfl
  rw [e, h]
  show Except.ok (i, pc + n - pc) = _
  rw [Nat.add_sub_cancel_left]
theorem dk_1 {code : ByteArray} {pc : Nat} (h : DkAt code pc [1]) : decode code pc = .ok (.aconst_null, 1) := dk_of ((dk_bind (dk_u1 (h 0 _ rfl))).trans rfl)
theorem dk_2 {code : ByteArray} {pc : Nat} (h : DkAt code pc [2]) : decode code pc = .ok (.iconst (-1), 1) := dk_of ((dk_bind (dk_u1 (h 0 _ rfl))).trans rfl)
theorem dk_3 {code : ByteArray} {pc : Nat} (h : DkAt code pc [3]) : decode code pc = .ok (.iconst 0, 1) := dk_of ((dk_bind (dk_u1 (h 0 _ rfl))).trans rfl)
theorem dk_4 {code : ByteArray} {pc : Nat} (h : DkAt code pc [4]) : decode code pc = .ok (.iconst 1, 1) := dk_of ((dk_bind (dk_u1 (h 0 _ rfl))).trans rfl)
theorem dk_5 {code : ByteArray} {pc : Nat} (h : DkAt code pc [5]) : decode code pc = .ok (.iconst 2, 1) := dk_of ((dk_bind (dk_u1 (h 0 _ rfl))).trans rfl)
theorem dk_6 {code : ByteArray} {pc : Nat} (h : DkAt code pc [6]) : decode code pc = .ok (.iconst 3, 1) := dk_of ((dk_bind (dk_u1 (h 0 _ rfl))).trans rfl)
theorem dk_7 {code : ByteArray} {pc : Nat} (h : DkAt code pc [7]) : decode code pc = .ok (.iconst 4, 1) := dk_of ((dk_bind (dk_u1 (h 0 _ rfl))).trans rfl)
theorem dk_8 {code : ByteArray} {pc : Nat} (h : DkAt code pc [8]) : decode code pc = .ok (.iconst 5, 1) := dk_of ((dk_bind (dk_u1 (h 0 _ rfl))).trans rfl)
theorem dk_9 {code : ByteArray} {pc : Nat} (h : DkAt code pc [9]) : decode code pc = .ok (.lconst 0, 1) := dk_of ((dk_bind (dk_u1 (h 0 _ rfl))).trans rfl)
theorem dk_10 {code : ByteArray} {pc : Nat} (h : DkAt code pc [10]) : decode code pc = .ok (.lconst 1, 1) := dk_of ((dk_bind (dk_u1 (h 0 _ rfl))).trans rfl)
theorem dk_16 {code : ByteArray} {pc : Nat} (a : UInt8) (h : DkAt code pc [16, a]) : decode code pc = .ok (.bipush (Reader.signed 8 a.toNat), 2) := dk_of ((dk_bind (dk_u1 (h 0 _ rfl))).trans ((dk_bind (dk_map (dk_u1 (h 1 _ rfl)))).trans rfl))
theorem dk_17 {code : ByteArray} {pc : Nat} (a b : UInt8) (h : DkAt code pc [17, a, b]) : decode code pc = .ok (.sipush (Reader.signed 16 (a.toNat * 256 + b.toNat)), 3) := dk_of ((dk_bind (dk_u1 (h 0 _ rfl))).trans ((dk_bind (dk_map (dk_u2 (h 1 _ rfl) (h 2 _ rfl)))).trans rfl))
theorem dk_18 {code : ByteArray} {pc : Nat} (a : UInt8) (h : DkAt code pc [18, a]) : decode code pc = .ok (.ldc a.toNat, 2) := dk_of ((dk_bind (dk_u1 (h 0 _ rfl))).trans ((dk_bind (dk_u1 (h 1 _ rfl))).trans rfl))
theorem dk_19 {code : ByteArray} {pc : Nat} (a b : UInt8) (h : DkAt code pc [19, a, b]) : decode code pc = .ok (.ldc_w (a.toNat * 256 + b.toNat), 3) := dk_of ((dk_bind (dk_u1 (h 0 _ rfl))).trans ((dk_bind (dk_u2 (h 1 _ rfl) (h 2 _ rfl))).trans rfl))
theorem dk_20 {code : ByteArray} {pc : Nat} (a b : UInt8) (h : DkAt code pc [20, a, b]) : decode code pc = .ok (.ldc2_w (a.toNat * 256 + b.toNat), 3) := dk_of ((dk_bind (dk_u1 (h 0 _ rfl))).trans ((dk_bind (dk_u2 (h 1 _ rfl) (h 2 _ rfl))).trans rfl))
theorem dk_21 {code : ByteArray} {pc : Nat} (a : UInt8) (h : DkAt code pc [21, a]) : decode code pc = .ok (.iload a.toNat, 2) := dk_of ((dk_bind (dk_u1 (h 0 _ rfl))).trans ((dk_bind (dk_u1 (h 1 _ rfl))).trans rfl))
theorem dk_22 {code : ByteArray} {pc : Nat} (a : UInt8) (h : DkAt code pc [22, a]) : decode code pc = .ok (.lload a.toNat, 2) := dk_of ((dk_bind (dk_u1 (h 0 _ rfl))).trans ((dk_bind (dk_u1 (h 1 _ rfl))).trans rfl))
theorem dk_25 {code : ByteArray} {pc : Nat} (a : UInt8) (h : DkAt code pc [25, a]) : decode code pc = .ok (.aload a.toNat, 2) := dk_of ((dk_bind (dk_u1 (h 0 _ rfl))).trans ((dk_bind (dk_u1 (h 1 _ rfl))).trans rfl))
theorem dk_26 {code : ByteArray} {pc : Nat} (h : DkAt code pc [26]) : decode code pc = .ok (.iload_n 0, 1) := dk_of ((dk_bind (dk_u1 (h 0 _ rfl))).trans rfl)
theorem dk_27 {code : ByteArray} {pc : Nat} (h : DkAt code pc [27]) : decode code pc = .ok (.iload_n 1, 1) := dk_of ((dk_bind (dk_u1 (h 0 _ rfl))).trans rfl)
theorem dk_28 {code : ByteArray} {pc : Nat} (h : DkAt code pc [28]) : decode code pc = .ok (.iload_n 2, 1) := dk_of ((dk_bind (dk_u1 (h 0 _ rfl))).trans rfl)
theorem dk_29 {code : ByteArray} {pc : Nat} (h : DkAt code pc [29]) : decode code pc = .ok (.iload_n 3, 1) := dk_of ((dk_bind (dk_u1 (h 0 _ rfl))).trans rfl)
theorem dk_30 {code : ByteArray} {pc : Nat} (h : DkAt code pc [30]) : decode code pc = .ok (.lload_n 0, 1) := dk_of ((dk_bind (dk_u1 (h 0 _ rfl))).trans rfl)
theorem dk_31 {code : ByteArray} {pc : Nat} (h : DkAt code pc [31]) : decode code pc = .ok (.lload_n 1, 1) := dk_of ((dk_bind (dk_u1 (h 0 _ rfl))).trans rfl)
theorem dk_32 {code : ByteArray} {pc : Nat} (h : DkAt code pc [32]) : decode code pc = .ok (.lload_n 2, 1) := dk_of ((dk_bind (dk_u1 (h 0 _ rfl))).trans rfl)
theorem dk_33 {code : ByteArray} {pc : Nat} (h : DkAt code pc [33]) : decode code pc = .ok (.lload_n 3, 1) := dk_of ((dk_bind (dk_u1 (h 0 _ rfl))).trans rfl)
theorem dk_42 {code : ByteArray} {pc : Nat} (h : DkAt code pc [42]) : decode code pc = .ok (.aload_n 0, 1) := dk_of ((dk_bind (dk_u1 (h 0 _ rfl))).trans rfl)
theorem dk_43 {code : ByteArray} {pc : Nat} (h : DkAt code pc [43]) : decode code pc = .ok (.aload_n 1, 1) := dk_of ((dk_bind (dk_u1 (h 0 _ rfl))).trans rfl)
theorem dk_44 {code : ByteArray} {pc : Nat} (h : DkAt code pc [44]) : decode code pc = .ok (.aload_n 2, 1) := dk_of ((dk_bind (dk_u1 (h 0 _ rfl))).trans rfl)
theorem dk_45 {code : ByteArray} {pc : Nat} (h : DkAt code pc [45]) : decode code pc = .ok (.aload_n 3, 1) := dk_of ((dk_bind (dk_u1 (h 0 _ rfl))).trans rfl)
theorem dk_46 {code : ByteArray} {pc : Nat} (h : DkAt code pc [46]) : decode code pc = .ok (.iaload, 1) := dk_of ((dk_bind (dk_u1 (h 0 _ rfl))).trans rfl)
theorem dk_47 {code : ByteArray} {pc : Nat} (h : DkAt code pc [47]) : decode code pc = .ok (.laload, 1) := dk_of ((dk_bind (dk_u1 (h 0 _ rfl))).trans rfl)
theorem dk_50 {code : ByteArray} {pc : Nat} (h : DkAt code pc [50]) : decode code pc = .ok (.aaload, 1) := dk_of ((dk_bind (dk_u1 (h 0 _ rfl))).trans rfl)
theorem dk_51 {code : ByteArray} {pc : Nat} (h : DkAt code pc [51]) : decode code pc = .ok (.baload, 1) := dk_of ((dk_bind (dk_u1 (h 0 _ rfl))).trans rfl)
theorem dk_54 {code : ByteArray} {pc : Nat} (a : UInt8) (h : DkAt code pc [54, a]) : decode code pc = .ok (.istore a.toNat, 2) := dk_of ((dk_bind (dk_u1 (h 0 _ rfl))).trans ((dk_bind (dk_u1 (h 1 _ rfl))).trans rfl))
theorem dk_55 {code : ByteArray} {pc : Nat} (a : UInt8) (h : DkAt code pc [55, a]) : decode code pc = .ok (.lstore a.toNat, 2) := dk_of ((dk_bind (dk_u1 (h 0 _ rfl))).trans ((dk_bind (dk_u1 (h 1 _ rfl))).trans rfl))
theorem dk_58 {code : ByteArray} {pc : Nat} (a : UInt8) (h : DkAt code pc [58, a]) : decode code pc = .ok (.astore a.toNat, 2) := dk_of ((dk_bind (dk_u1 (h 0 _ rfl))).trans ((dk_bind (dk_u1 (h 1 _ rfl))).trans rfl))
theorem dk_59 {code : ByteArray} {pc : Nat} (h : DkAt code pc [59]) : decode code pc = .ok (.istore_n 0, 1) := dk_of ((dk_bind (dk_u1 (h 0 _ rfl))).trans rfl)
theorem dk_60 {code : ByteArray} {pc : Nat} (h : DkAt code pc [60]) : decode code pc = .ok (.istore_n 1, 1) := dk_of ((dk_bind (dk_u1 (h 0 _ rfl))).trans rfl)
theorem dk_61 {code : ByteArray} {pc : Nat} (h : DkAt code pc [61]) : decode code pc = .ok (.istore_n 2, 1) := dk_of ((dk_bind (dk_u1 (h 0 _ rfl))).trans rfl)
theorem dk_62 {code : ByteArray} {pc : Nat} (h : DkAt code pc [62]) : decode code pc = .ok (.istore_n 3, 1) := dk_of ((dk_bind (dk_u1 (h 0 _ rfl))).trans rfl)
theorem dk_65 {code : ByteArray} {pc : Nat} (h : DkAt code pc [65]) : decode code pc = .ok (.lstore_n 2, 1) := dk_of ((dk_bind (dk_u1 (h 0 _ rfl))).trans rfl)
theorem dk_66 {code : ByteArray} {pc : Nat} (h : DkAt code pc [66]) : decode code pc = .ok (.lstore_n 3, 1) := dk_of ((dk_bind (dk_u1 (h 0 _ rfl))).trans rfl)
theorem dk_76 {code : ByteArray} {pc : Nat} (h : DkAt code pc [76]) : decode code pc = .ok (.astore_n 1, 1) := dk_of ((dk_bind (dk_u1 (h 0 _ rfl))).trans rfl)
theorem dk_77 {code : ByteArray} {pc : Nat} (h : DkAt code pc [77]) : decode code pc = .ok (.astore_n 2, 1) := dk_of ((dk_bind (dk_u1 (h 0 _ rfl))).trans rfl)
theorem dk_78 {code : ByteArray} {pc : Nat} (h : DkAt code pc [78]) : decode code pc = .ok (.astore_n 3, 1) := dk_of ((dk_bind (dk_u1 (h 0 _ rfl))).trans rfl)
theorem dk_79 {code : ByteArray} {pc : Nat} (h : DkAt code pc [79]) : decode code pc = .ok (.iastore, 1) := dk_of ((dk_bind (dk_u1 (h 0 _ rfl))).trans rfl)
theorem dk_80 {code : ByteArray} {pc : Nat} (h : DkAt code pc [80]) : decode code pc = .ok (.lastore, 1) := dk_of ((dk_bind (dk_u1 (h 0 _ rfl))).trans rfl)
theorem dk_83 {code : ByteArray} {pc : Nat} (h : DkAt code pc [83]) : decode code pc = .ok (.aastore, 1) := dk_of ((dk_bind (dk_u1 (h 0 _ rfl))).trans rfl)
theorem dk_84 {code : ByteArray} {pc : Nat} (h : DkAt code pc [84]) : decode code pc = .ok (.bastore, 1) := dk_of ((dk_bind (dk_u1 (h 0 _ rfl))).trans rfl)
theorem dk_87 {code : ByteArray} {pc : Nat} (h : DkAt code pc [87]) : decode code pc = .ok (.pop, 1) := dk_of ((dk_bind (dk_u1 (h 0 _ rfl))).trans rfl)
theorem dk_89 {code : ByteArray} {pc : Nat} (h : DkAt code pc [89]) : decode code pc = .ok (.dup, 1) := dk_of ((dk_bind (dk_u1 (h 0 _ rfl))).trans rfl)
theorem dk_90 {code : ByteArray} {pc : Nat} (h : DkAt code pc [90]) : decode code pc = .ok (.dup_x1, 1) := dk_of ((dk_bind (dk_u1 (h 0 _ rfl))).trans rfl)
theorem dk_92 {code : ByteArray} {pc : Nat} (h : DkAt code pc [92]) : decode code pc = .ok (.dup2, 1) := dk_of ((dk_bind (dk_u1 (h 0 _ rfl))).trans rfl)
theorem dk_96 {code : ByteArray} {pc : Nat} (h : DkAt code pc [96]) : decode code pc = .ok (.iadd, 1) := dk_of ((dk_bind (dk_u1 (h 0 _ rfl))).trans rfl)
theorem dk_97 {code : ByteArray} {pc : Nat} (h : DkAt code pc [97]) : decode code pc = .ok (.ladd, 1) := dk_of ((dk_bind (dk_u1 (h 0 _ rfl))).trans rfl)
theorem dk_100 {code : ByteArray} {pc : Nat} (h : DkAt code pc [100]) : decode code pc = .ok (.isub, 1) := dk_of ((dk_bind (dk_u1 (h 0 _ rfl))).trans rfl)
theorem dk_101 {code : ByteArray} {pc : Nat} (h : DkAt code pc [101]) : decode code pc = .ok (.lsub, 1) := dk_of ((dk_bind (dk_u1 (h 0 _ rfl))).trans rfl)
theorem dk_104 {code : ByteArray} {pc : Nat} (h : DkAt code pc [104]) : decode code pc = .ok (.imul, 1) := dk_of ((dk_bind (dk_u1 (h 0 _ rfl))).trans rfl)
theorem dk_105 {code : ByteArray} {pc : Nat} (h : DkAt code pc [105]) : decode code pc = .ok (.lmul, 1) := dk_of ((dk_bind (dk_u1 (h 0 _ rfl))).trans rfl)
theorem dk_108 {code : ByteArray} {pc : Nat} (h : DkAt code pc [108]) : decode code pc = .ok (.idiv, 1) := dk_of ((dk_bind (dk_u1 (h 0 _ rfl))).trans rfl)
theorem dk_112 {code : ByteArray} {pc : Nat} (h : DkAt code pc [112]) : decode code pc = .ok (.irem, 1) := dk_of ((dk_bind (dk_u1 (h 0 _ rfl))).trans rfl)
theorem dk_113 {code : ByteArray} {pc : Nat} (h : DkAt code pc [113]) : decode code pc = .ok (.lrem, 1) := dk_of ((dk_bind (dk_u1 (h 0 _ rfl))).trans rfl)
theorem dk_116 {code : ByteArray} {pc : Nat} (h : DkAt code pc [116]) : decode code pc = .ok (.ineg, 1) := dk_of ((dk_bind (dk_u1 (h 0 _ rfl))).trans rfl)
theorem dk_120 {code : ByteArray} {pc : Nat} (h : DkAt code pc [120]) : decode code pc = .ok (.ishl, 1) := dk_of ((dk_bind (dk_u1 (h 0 _ rfl))).trans rfl)
theorem dk_121 {code : ByteArray} {pc : Nat} (h : DkAt code pc [121]) : decode code pc = .ok (.lshl, 1) := dk_of ((dk_bind (dk_u1 (h 0 _ rfl))).trans rfl)
theorem dk_122 {code : ByteArray} {pc : Nat} (h : DkAt code pc [122]) : decode code pc = .ok (.ishr, 1) := dk_of ((dk_bind (dk_u1 (h 0 _ rfl))).trans rfl)
theorem dk_124 {code : ByteArray} {pc : Nat} (h : DkAt code pc [124]) : decode code pc = .ok (.iushr, 1) := dk_of ((dk_bind (dk_u1 (h 0 _ rfl))).trans rfl)
theorem dk_125 {code : ByteArray} {pc : Nat} (h : DkAt code pc [125]) : decode code pc = .ok (.lushr, 1) := dk_of ((dk_bind (dk_u1 (h 0 _ rfl))).trans rfl)
theorem dk_126 {code : ByteArray} {pc : Nat} (h : DkAt code pc [126]) : decode code pc = .ok (.iand, 1) := dk_of ((dk_bind (dk_u1 (h 0 _ rfl))).trans rfl)
theorem dk_127 {code : ByteArray} {pc : Nat} (h : DkAt code pc [127]) : decode code pc = .ok (.land, 1) := dk_of ((dk_bind (dk_u1 (h 0 _ rfl))).trans rfl)
theorem dk_128 {code : ByteArray} {pc : Nat} (h : DkAt code pc [128]) : decode code pc = .ok (.ior, 1) := dk_of ((dk_bind (dk_u1 (h 0 _ rfl))).trans rfl)
theorem dk_129 {code : ByteArray} {pc : Nat} (h : DkAt code pc [129]) : decode code pc = .ok (.lor, 1) := dk_of ((dk_bind (dk_u1 (h 0 _ rfl))).trans rfl)
theorem dk_130 {code : ByteArray} {pc : Nat} (h : DkAt code pc [130]) : decode code pc = .ok (.ixor, 1) := dk_of ((dk_bind (dk_u1 (h 0 _ rfl))).trans rfl)
theorem dk_131 {code : ByteArray} {pc : Nat} (h : DkAt code pc [131]) : decode code pc = .ok (.lxor, 1) := dk_of ((dk_bind (dk_u1 (h 0 _ rfl))).trans rfl)
theorem dk_132 {code : ByteArray} {pc : Nat} (a b : UInt8) (h : DkAt code pc [132, a, b]) : decode code pc = .ok (.iinc a.toNat (Reader.signed 8 b.toNat), 3) := dk_of ((dk_bind (dk_u1 (h 0 _ rfl))).trans ((dk_bind (dk_u1 (h 1 _ rfl))).trans ((dk_bind (dk_map (dk_u1 (h 2 _ rfl)))).trans rfl)))
theorem dk_133 {code : ByteArray} {pc : Nat} (h : DkAt code pc [133]) : decode code pc = .ok (.i2l, 1) := dk_of ((dk_bind (dk_u1 (h 0 _ rfl))).trans rfl)
theorem dk_136 {code : ByteArray} {pc : Nat} (h : DkAt code pc [136]) : decode code pc = .ok (.l2i, 1) := dk_of ((dk_bind (dk_u1 (h 0 _ rfl))).trans rfl)
theorem dk_145 {code : ByteArray} {pc : Nat} (h : DkAt code pc [145]) : decode code pc = .ok (.i2b, 1) := dk_of ((dk_bind (dk_u1 (h 0 _ rfl))).trans rfl)
theorem dk_146 {code : ByteArray} {pc : Nat} (h : DkAt code pc [146]) : decode code pc = .ok (.i2c, 1) := dk_of ((dk_bind (dk_u1 (h 0 _ rfl))).trans rfl)
theorem dk_148 {code : ByteArray} {pc : Nat} (h : DkAt code pc [148]) : decode code pc = .ok (.lcmp, 1) := dk_of ((dk_bind (dk_u1 (h 0 _ rfl))).trans rfl)
theorem dk_153 {code : ByteArray} {pc : Nat} (a b : UInt8) (h : DkAt code pc [153, a, b]) : decode code pc = .ok (.ifCond .eq (Reader.signed 16 (a.toNat * 256 + b.toNat)), 3) := dk_of ((dk_bind (dk_u1 (h 0 _ rfl))).trans ((dk_bind (dk_map (dk_u2 (h 1 _ rfl) (h 2 _ rfl)))).trans rfl))
theorem dk_154 {code : ByteArray} {pc : Nat} (a b : UInt8) (h : DkAt code pc [154, a, b]) : decode code pc = .ok (.ifCond .ne (Reader.signed 16 (a.toNat * 256 + b.toNat)), 3) := dk_of ((dk_bind (dk_u1 (h 0 _ rfl))).trans ((dk_bind (dk_map (dk_u2 (h 1 _ rfl) (h 2 _ rfl)))).trans rfl))
theorem dk_155 {code : ByteArray} {pc : Nat} (a b : UInt8) (h : DkAt code pc [155, a, b]) : decode code pc = .ok (.ifCond .lt (Reader.signed 16 (a.toNat * 256 + b.toNat)), 3) := dk_of ((dk_bind (dk_u1 (h 0 _ rfl))).trans ((dk_bind (dk_map (dk_u2 (h 1 _ rfl) (h 2 _ rfl)))).trans rfl))
theorem dk_156 {code : ByteArray} {pc : Nat} (a b : UInt8) (h : DkAt code pc [156, a, b]) : decode code pc = .ok (.ifCond .ge (Reader.signed 16 (a.toNat * 256 + b.toNat)), 3) := dk_of ((dk_bind (dk_u1 (h 0 _ rfl))).trans ((dk_bind (dk_map (dk_u2 (h 1 _ rfl) (h 2 _ rfl)))).trans rfl))
theorem dk_157 {code : ByteArray} {pc : Nat} (a b : UInt8) (h : DkAt code pc [157, a, b]) : decode code pc = .ok (.ifCond .gt (Reader.signed 16 (a.toNat * 256 + b.toNat)), 3) := dk_of ((dk_bind (dk_u1 (h 0 _ rfl))).trans ((dk_bind (dk_map (dk_u2 (h 1 _ rfl) (h 2 _ rfl)))).trans rfl))
theorem dk_158 {code : ByteArray} {pc : Nat} (a b : UInt8) (h : DkAt code pc [158, a, b]) : decode code pc = .ok (.ifCond .le (Reader.signed 16 (a.toNat * 256 + b.toNat)), 3) := dk_of ((dk_bind (dk_u1 (h 0 _ rfl))).trans ((dk_bind (dk_map (dk_u2 (h 1 _ rfl) (h 2 _ rfl)))).trans rfl))
theorem dk_159 {code : ByteArray} {pc : Nat} (a b : UInt8) (h : DkAt code pc [159, a, b]) : decode code pc = .ok (.if_icmp .eq (Reader.signed 16 (a.toNat * 256 + b.toNat)), 3) := dk_of ((dk_bind (dk_u1 (h 0 _ rfl))).trans ((dk_bind (dk_map (dk_u2 (h 1 _ rfl) (h 2 _ rfl)))).trans rfl))
theorem dk_160 {code : ByteArray} {pc : Nat} (a b : UInt8) (h : DkAt code pc [160, a, b]) : decode code pc = .ok (.if_icmp .ne (Reader.signed 16 (a.toNat * 256 + b.toNat)), 3) := dk_of ((dk_bind (dk_u1 (h 0 _ rfl))).trans ((dk_bind (dk_map (dk_u2 (h 1 _ rfl) (h 2 _ rfl)))).trans rfl))
theorem dk_161 {code : ByteArray} {pc : Nat} (a b : UInt8) (h : DkAt code pc [161, a, b]) : decode code pc = .ok (.if_icmp .lt (Reader.signed 16 (a.toNat * 256 + b.toNat)), 3) := dk_of ((dk_bind (dk_u1 (h 0 _ rfl))).trans ((dk_bind (dk_map (dk_u2 (h 1 _ rfl) (h 2 _ rfl)))).trans rfl))
theorem dk_162 {code : ByteArray} {pc : Nat} (a b : UInt8) (h : DkAt code pc [162, a, b]) : decode code pc = .ok (.if_icmp .ge (Reader.signed 16 (a.toNat * 256 + b.toNat)), 3) := dk_of ((dk_bind (dk_u1 (h 0 _ rfl))).trans ((dk_bind (dk_map (dk_u2 (h 1 _ rfl) (h 2 _ rfl)))).trans rfl))
theorem dk_163 {code : ByteArray} {pc : Nat} (a b : UInt8) (h : DkAt code pc [163, a, b]) : decode code pc = .ok (.if_icmp .gt (Reader.signed 16 (a.toNat * 256 + b.toNat)), 3) := dk_of ((dk_bind (dk_u1 (h 0 _ rfl))).trans ((dk_bind (dk_map (dk_u2 (h 1 _ rfl) (h 2 _ rfl)))).trans rfl))
theorem dk_164 {code : ByteArray} {pc : Nat} (a b : UInt8) (h : DkAt code pc [164, a, b]) : decode code pc = .ok (.if_icmp .le (Reader.signed 16 (a.toNat * 256 + b.toNat)), 3) := dk_of ((dk_bind (dk_u1 (h 0 _ rfl))).trans ((dk_bind (dk_map (dk_u2 (h 1 _ rfl) (h 2 _ rfl)))).trans rfl))
theorem dk_165 {code : ByteArray} {pc : Nat} (a b : UInt8) (h : DkAt code pc [165, a, b]) : decode code pc = .ok (.if_acmp .eq (Reader.signed 16 (a.toNat * 256 + b.toNat)), 3) := dk_of ((dk_bind (dk_u1 (h 0 _ rfl))).trans ((dk_bind (dk_map (dk_u2 (h 1 _ rfl) (h 2 _ rfl)))).trans rfl))
theorem dk_166 {code : ByteArray} {pc : Nat} (a b : UInt8) (h : DkAt code pc [166, a, b]) : decode code pc = .ok (.if_acmp .ne (Reader.signed 16 (a.toNat * 256 + b.toNat)), 3) := dk_of ((dk_bind (dk_u1 (h 0 _ rfl))).trans ((dk_bind (dk_map (dk_u2 (h 1 _ rfl) (h 2 _ rfl)))).trans rfl))
theorem dk_167 {code : ByteArray} {pc : Nat} (a b : UInt8) (h : DkAt code pc [167, a, b]) : decode code pc = .ok (.goto (Reader.signed 16 (a.toNat * 256 + b.toNat)), 3) := dk_of ((dk_bind (dk_u1 (h 0 _ rfl))).trans ((dk_bind (dk_map (dk_u2 (h 1 _ rfl) (h 2 _ rfl)))).trans rfl))
theorem dk_172 {code : ByteArray} {pc : Nat} (h : DkAt code pc [172]) : decode code pc = .ok (.ireturn, 1) := dk_of ((dk_bind (dk_u1 (h 0 _ rfl))).trans rfl)
theorem dk_173 {code : ByteArray} {pc : Nat} (h : DkAt code pc [173]) : decode code pc = .ok (.lreturn, 1) := dk_of ((dk_bind (dk_u1 (h 0 _ rfl))).trans rfl)
theorem dk_176 {code : ByteArray} {pc : Nat} (h : DkAt code pc [176]) : decode code pc = .ok (.areturn, 1) := dk_of ((dk_bind (dk_u1 (h 0 _ rfl))).trans rfl)
theorem dk_177 {code : ByteArray} {pc : Nat} (h : DkAt code pc [177]) : decode code pc = .ok (.return_, 1) := dk_of ((dk_bind (dk_u1 (h 0 _ rfl))).trans rfl)
theorem dk_178 {code : ByteArray} {pc : Nat} (a b : UInt8) (h : DkAt code pc [178, a, b]) : decode code pc = .ok (.getstatic (a.toNat * 256 + b.toNat), 3) := dk_of ((dk_bind (dk_u1 (h 0 _ rfl))).trans ((dk_bind (dk_u2 (h 1 _ rfl) (h 2 _ rfl))).trans rfl))
theorem dk_180 {code : ByteArray} {pc : Nat} (a b : UInt8) (h : DkAt code pc [180, a, b]) : decode code pc = .ok (.getfield (a.toNat * 256 + b.toNat), 3) := dk_of ((dk_bind (dk_u1 (h 0 _ rfl))).trans ((dk_bind (dk_u2 (h 1 _ rfl) (h 2 _ rfl))).trans rfl))
theorem dk_181 {code : ByteArray} {pc : Nat} (a b : UInt8) (h : DkAt code pc [181, a, b]) : decode code pc = .ok (.putfield (a.toNat * 256 + b.toNat), 3) := dk_of ((dk_bind (dk_u1 (h 0 _ rfl))).trans ((dk_bind (dk_u2 (h 1 _ rfl) (h 2 _ rfl))).trans rfl))
theorem dk_182 {code : ByteArray} {pc : Nat} (a b : UInt8) (h : DkAt code pc [182, a, b]) : decode code pc = .ok (.invokevirtual (a.toNat * 256 + b.toNat), 3) := dk_of ((dk_bind (dk_u1 (h 0 _ rfl))).trans ((dk_bind (dk_u2 (h 1 _ rfl) (h 2 _ rfl))).trans rfl))
theorem dk_183 {code : ByteArray} {pc : Nat} (a b : UInt8) (h : DkAt code pc [183, a, b]) : decode code pc = .ok (.invokespecial (a.toNat * 256 + b.toNat), 3) := dk_of ((dk_bind (dk_u1 (h 0 _ rfl))).trans ((dk_bind (dk_u2 (h 1 _ rfl) (h 2 _ rfl))).trans rfl))
theorem dk_184 {code : ByteArray} {pc : Nat} (a b : UInt8) (h : DkAt code pc [184, a, b]) : decode code pc = .ok (.invokestatic (a.toNat * 256 + b.toNat), 3) := dk_of ((dk_bind (dk_u1 (h 0 _ rfl))).trans ((dk_bind (dk_u2 (h 1 _ rfl) (h 2 _ rfl))).trans rfl))
theorem dk_187 {code : ByteArray} {pc : Nat} (a b : UInt8) (h : DkAt code pc [187, a, b]) : decode code pc = .ok (.new (a.toNat * 256 + b.toNat), 3) := dk_of ((dk_bind (dk_u1 (h 0 _ rfl))).trans ((dk_bind (dk_u2 (h 1 _ rfl) (h 2 _ rfl))).trans rfl))
theorem dk_188_8 {code : ByteArray} {pc : Nat} (h : DkAt code pc [188, 8]) : decode code pc = .ok (.newarray .byte, 2) := dk_of ((dk_bind (dk_u1 (h 0 _ rfl))).trans ((dk_bind (dk_u1 (h 1 _ rfl))).trans rfl))
theorem dk_188_10 {code : ByteArray} {pc : Nat} (h : DkAt code pc [188, 10]) : decode code pc = .ok (.newarray .int, 2) := dk_of ((dk_bind (dk_u1 (h 0 _ rfl))).trans ((dk_bind (dk_u1 (h 1 _ rfl))).trans rfl))
theorem dk_188_11 {code : ByteArray} {pc : Nat} (h : DkAt code pc [188, 11]) : decode code pc = .ok (.newarray .long, 2) := dk_of ((dk_bind (dk_u1 (h 0 _ rfl))).trans ((dk_bind (dk_u1 (h 1 _ rfl))).trans rfl))
theorem dk_189 {code : ByteArray} {pc : Nat} (a b : UInt8) (h : DkAt code pc [189, a, b]) : decode code pc = .ok (.anewarray (a.toNat * 256 + b.toNat), 3) := dk_of ((dk_bind (dk_u1 (h 0 _ rfl))).trans ((dk_bind (dk_u2 (h 1 _ rfl) (h 2 _ rfl))).trans rfl))
theorem dk_190 {code : ByteArray} {pc : Nat} (h : DkAt code pc [190]) : decode code pc = .ok (.arraylength, 1) := dk_of ((dk_bind (dk_u1 (h 0 _ rfl))).trans rfl)
theorem dk_191 {code : ByteArray} {pc : Nat} (h : DkAt code pc [191]) : decode code pc = .ok (.athrow, 1) := dk_of ((dk_bind (dk_u1 (h 0 _ rfl))).trans rfl)
theorem dk_192 {code : ByteArray} {pc : Nat} (a b : UInt8) (h : DkAt code pc [192, a, b]) : decode code pc = .ok (.checkcast (a.toNat * 256 + b.toNat), 3) := dk_of ((dk_bind (dk_u1 (h 0 _ rfl))).trans ((dk_bind (dk_u2 (h 1 _ rfl) (h 2 _ rfl))).trans rfl))
theorem dk_198 {code : ByteArray} {pc : Nat} (a b : UInt8) (h : DkAt code pc [198, a, b]) : decode code pc = .ok (.ifnull (Reader.signed 16 (a.toNat * 256 + b.toNat)), 3) := dk_of ((dk_bind (dk_u1 (h 0 _ rfl))).trans ((dk_bind (dk_map (dk_u2 (h 1 _ rfl) (h 2 _ rfl)))).trans rfl))
theorem dk_199 {code : ByteArray} {pc : Nat} (a b : UInt8) (h : DkAt code pc [199, a, b]) : decode code pc = .ok (.ifnonnull (Reader.signed 16 (a.toNat * 256 + b.toNat)), 3) := dk_of ((dk_bind (dk_u1 (h 0 _ rfl))).trans ((dk_bind (dk_map (dk_u2 (h 1 _ rfl) (h 2 _ rfl)))).trans rfl))

set_option maxRecDepth 100000
/-! EndSumsLaw -/
def RX0 : String := "EndSumsLaw"
abbrev cX0_item : ByteArray := method_3_code
def yX0_item : MethodName := ⟨RX0, "item", "(LEndSums;II[J)I"⟩
abbrev cX0_row : ByteArray := method_4_code
def yX0_row : MethodName := ⟨RX0, "row", "(LEndSums;I[J)I"⟩
theorem q84 : (Jvm.Cond.initialized "EndSumsLaw") ∈ lw_all := lw_g (lw_at lw_m1 0 rfl) rfl
theorem q129 : (Jvm.Cond.classLink "EndSumsLaw" (8 : Nat) "EndSums") ∈ lw_all := lw_g (lw_at lw_m1 45 rfl) rfl
theorem q131 : (Jvm.Cond.methodLink "EndSumsLaw" (19 : Nat) ({ cls := "EndSums", name := "<init>", desc := "()V" } : Jvm.MethodName)) ∈ lw_all := lw_g (lw_at lw_m1 47 rfl) rfl
theorem q600 : (Jvm.Cond.methodLink "EndSumsLaw" (98 : Nat) ({ cls := "EndSums", name := "sign", desc := "(I)I" } : Jvm.MethodName)) ∈ lw_all := lw_g (lw_at lw_m3 36 rfl) rfl
theorem q604 : (Jvm.Cond.methodLink "EndSumsLaw" (102 : Nat) ({ cls := "EndSums", name := "end", desc := "(I)Z" } : Jvm.MethodName)) ∈ lw_all := lw_g (lw_at lw_m3 40 rfl) rfl
theorem q611 : (Jvm.Cond.methodLink "EndSumsLaw" (23 : Nat) ({ cls := "EndSums", name := "rule", desc := "(I)I" } : Jvm.MethodName)) ∈ lw_all := lw_g (lw_at lw_m3 47 rfl) rfl
theorem q1236 : (Jvm.Cond.methodLink "EndSumsLaw" (28 : Nat) ({ cls := "EndSums", name := "table", desc := "()I" } : Jvm.MethodName)) ∈ lw_all := lw_g (lw_at lw_m5 192 rfl) rfl
theorem q1352 : (Jvm.Cond.methodLink "EndSumsLaw" (33 : Nat) ({ cls := "EndSums", name := "commutes", desc := "(II)I" } : Jvm.MethodName)) ∈ lw_all := lw_g (lw_at lw_m6 68 rfl) rfl
theorem q1366 : (Jvm.Cond.methodLink "EndSumsLaw" (37 : Nat) ({ cls := "EndSums", name := "powers", desc := "(II)I" } : Jvm.MethodName)) ∈ lw_all := lw_g (lw_at lw_m6 82 rfl) rfl
theorem q1380 : (Jvm.Cond.methodLink "EndSumsLaw" (41 : Nat) ({ cls := "EndSums", name := "order", desc := "(I)I" } : Jvm.MethodName)) ∈ lw_all := lw_g (lw_at lw_m6 96 rfl) rfl
theorem q1384 : (Jvm.Cond.methodLink "EndSumsLaw" (45 : Nat) ({ cls := "EndSums", name := "undoes", desc := "(I)I" } : Jvm.MethodName)) ∈ lw_all := lw_g (lw_at lw_m6 100 rfl) rfl
theorem q1394 : (Jvm.Cond.methodLink "EndSumsLaw" (49 : Nat) ({ cls := "EndSums", name := "puts", desc := "(III)I" } : Jvm.MethodName)) ∈ lw_all := lw_g (lw_at lw_m6 110 rfl) rfl
theorem q1412 : (Jvm.Cond.methodLink "EndSumsLaw" (54 : Nat) ({ cls := "EndSums", name := "takes", desc := "(II)I" } : Jvm.MethodName)) ∈ lw_all := lw_g (lw_at lw_m6 128 rfl) rfl
theorem q1422 : (Jvm.Cond.methodLink "EndSumsLaw" (58 : Nat) ({ cls := "EndSums", name := "copies", desc := "(II)I" } : Jvm.MethodName)) ∈ lw_all := lw_g (lw_at lw_m6 138 rfl) rfl
theorem q1430 : (Jvm.Cond.methodLink "EndSumsLaw" (62 : Nat) ({ cls := "EndSums", name := "joins", desc := "(II)I" } : Jvm.MethodName)) ∈ lw_all := lw_g (lw_at lw_m6 146 rfl) rfl
theorem q1434 : (Jvm.Cond.methodLink "EndSumsLaw" (66 : Nat) ({ cls := "EndSums", name := "parts", desc := "(III)I" } : Jvm.MethodName)) ∈ lw_all := lw_g (lw_at lw_m6 150 rfl) rfl
theorem q1440 : (Jvm.Cond.methodLink "EndSumsLaw" (70 : Nat) ({ cls := "EndSums", name := "reverses", desc := "(I)I" } : Jvm.MethodName)) ∈ lw_all := lw_g (lw_at lw_m6 156 rfl) rfl
theorem q1448 : (Jvm.Cond.methodLink "EndSumsLaw" (74 : Nat) ({ cls := "EndSums", name := "changes", desc := "(III)I" } : Jvm.MethodName)) ∈ lw_all := lw_g (lw_at lw_m6 164 rfl) rfl
theorem q1472 : (Jvm.Cond.methodLink "EndSumsLaw" (78 : Nat) ({ cls := "EndSums", name := "slips", desc := "(III)I" } : Jvm.MethodName)) ∈ lw_all := lw_g (lw_at lw_m6 188 rfl) rfl
theorem q1476 : (Jvm.Cond.methodLink "EndSumsLaw" (82 : Nat) ({ cls := "EndSums", name := "drops", desc := "(II)I" } : Jvm.MethodName)) ∈ lw_all := lw_g (lw_at lw_m6 192 rfl) rfl
theorem q1480 : (Jvm.Cond.methodLink "EndSumsLaw" (86 : Nat) ({ cls := "EndSums", name := "shifts", desc := "(III)I" } : Jvm.MethodName)) ∈ lw_all := lw_g (lw_at lw_m6 196 rfl) rfl
theorem q1491 : (Jvm.Cond.methodLink "EndSumsLaw" (90 : Nat) ({ cls := "EndSums", name := "clears", desc := "(I)I" } : Jvm.MethodName)) ∈ lw_all := lw_g (lw_at lw_m6 207 rfl) rfl
theorem q1496 : (Jvm.Cond.methodLink "EndSumsLaw" (94 : Nat) ({ cls := "EndSums", name := "run", desc := "(I)I" } : Jvm.MethodName)) ∈ lw_all := lw_g (lw_at lw_m6 212 rfl) rfl
theorem q1584 : (Jvm.Cond.methodLink "EndSumsLaw" (107 : Nat) ({ cls := "EndSums", name := "sum", desc := "(I)I" } : Jvm.MethodName)) ∈ lw_all := lw_g (lw_at lw_m7 60 rfl) rfl
theorem q1588 : (Jvm.Cond.methodLink "EndSumsLaw" (120 : Nat) ({ cls := "EndSums", name := "part", desc := "(III)I" } : Jvm.MethodName)) ∈ lw_all := lw_g (lw_at lw_m7 64 rfl) rfl
theorem q1596 : (Jvm.Cond.methodLink "EndSumsLaw" (124 : Nat) ({ cls := "EndSums", name := "windows", desc := "(II)I" } : Jvm.MethodName)) ∈ lw_all := lw_g (lw_at lw_m7 72 rfl) rfl
theorem q1604 : (Jvm.Cond.methodLink "EndSumsLaw" (128 : Nat) ({ cls := "EndSums", name := "first", desc := "(II)I" } : Jvm.MethodName)) ∈ lw_all := lw_g (lw_at lw_m7 80 rfl) rfl
theorem q1608 : (Jvm.Cond.methodLink "EndSumsLaw" (132 : Nat) ({ cls := "EndSums", name := "longest", desc := "(II)I" } : Jvm.MethodName)) ∈ lw_all := lw_g (lw_at lw_m7 84 rfl) rfl
theorem q1612 : (Jvm.Cond.methodLink "EndSumsLaw" (136 : Nat) ({ cls := "EndSums", name := "greatest", desc := "(II)I" } : Jvm.MethodName)) ∈ lw_all := lw_g (lw_at lw_m7 88 rfl) rfl
theorem q1616 : (Jvm.Cond.methodLink "EndSumsLaw" (140 : Nat) ({ cls := "EndSums", name := "finds", desc := "(III)I" } : Jvm.MethodName)) ∈ lw_all := lw_g (lw_at lw_m7 92 rfl) rfl
theorem q1620 : (Jvm.Cond.methodLink "EndSumsLaw" (144 : Nat) ({ cls := "EndSums", name := "drains", desc := "(I)I" } : Jvm.MethodName)) ∈ lw_all := lw_g (lw_at lw_m7 96 rfl) rfl
theorem q1629 : (Jvm.Cond.methodLink "EndSumsLaw" (148 : Nat) ({ cls := "EndSums", name := "unlike", desc := "(I)I" } : Jvm.MethodName)) ∈ lw_all := lw_g (lw_at lw_m7 105 rfl) rfl
theorem q1633 : (Jvm.Cond.methodLink "EndSumsLaw" (152 : Nat) ({ cls := "EndSums", name := "same", desc := "(II)I" } : Jvm.MethodName)) ∈ lw_all := lw_g (lw_at lw_m7 109 rfl) rfl
theorem q1651 : (Jvm.Cond.methodLink "EndSumsLaw" (156 : Nat) ({ cls := "EndSums", name := "shared", desc := "()I" } : Jvm.MethodName)) ∈ lw_all := lw_g (lw_at lw_m7 127 rfl) rfl
theorem q1656 : (Jvm.Cond.methodLink "EndSumsLaw" (160 : Nat) ({ cls := "EndSums", name := "would", desc := "(II)I" } : Jvm.MethodName)) ∈ lw_all := lw_g (lw_at lw_m7 132 rfl) rfl
theorem q1660 : (Jvm.Cond.methodLink "EndSumsLaw" (164 : Nat) ({ cls := "EndSums", name := "dearest", desc := "(II)I" } : Jvm.MethodName)) ∈ lw_all := lw_g (lw_at lw_m7 136 rfl) rfl
theorem q1669 : (Jvm.Cond.methodLink "EndSumsLaw" (168 : Nat) ({ cls := "EndSums", name := "count", desc := "(I)I" } : Jvm.MethodName)) ∈ lw_all := lw_g (lw_at lw_m7 145 rfl) rfl
theorem q1673 : (Jvm.Cond.methodLink "EndSumsLaw" (111 : Nat) ({ cls := "EndSumsLaw", name := "item", desc := "(LEndSums;II[J)I" } : Jvm.MethodName)) ∈ lw_all := lw_g (lw_at lw_m7 149 rfl) rfl
theorem q1674 : (Jvm.Cond.static ({ cls := "EndSumsLaw", name := "item", desc := "(LEndSums;II[J)I" } : Jvm.MethodName)) ∈ lw_all := lw_g (lw_at lw_m7 150 rfl) rfl
theorem q1675 : (Jvm.Cond.codeWith ({ cls := "EndSumsLaw", name := "item", desc := "(LEndSums;II[J)I" } : Jvm.MethodName) method_3_code (5 : Nat) (Option.some Jvm.ClassFile.FieldType.int) [((0 : Nat), (10 : Nat), (13 : Nat), (13 : Nat))]) ∈ lw_all := lw_g (lw_at lw_m7 151 rfl) rfl
theorem q1676 : (Jvm.Cond.classLink "EndSumsLaw" (13 : Nat) "java/util/NoSuchElementException") ∈ lw_all := lw_g (lw_at lw_m7 152 rfl) rfl
theorem q1677 : (Jvm.Cond.methodLink "EndSumsLaw" (7 : Nat) ({ cls := "EndSums", name := "item", desc := "(II)I" } : Jvm.MethodName)) ∈ lw_all := lw_g (lw_at lw_m7 153 rfl) rfl
theorem q1683 : (Jvm.Cond.methodLink "EndSumsLaw" (172 : Nat) ({ cls := "EndSumsLaw", name := "row", desc := "(LEndSums;I[J)I" } : Jvm.MethodName)) ∈ lw_all := lw_g (lw_at lw_m7 159 rfl) rfl
theorem q1684 : (Jvm.Cond.static ({ cls := "EndSumsLaw", name := "row", desc := "(LEndSums;I[J)I" } : Jvm.MethodName)) ∈ lw_all := lw_g (lw_at lw_m7 160 rfl) rfl
theorem q1685 : (Jvm.Cond.codeWith ({ cls := "EndSumsLaw", name := "row", desc := "(LEndSums;I[J)I" } : Jvm.MethodName) method_4_code (4 : Nat) (Option.some Jvm.ClassFile.FieldType.int) [((0 : Nat), (8 : Nat), (11 : Nat), (13 : Nat))]) ∈ lw_all := lw_g (lw_at lw_m7 161 rfl) rfl
theorem q1686 : (Jvm.Cond.methodLink "EndSumsLaw" (15 : Nat) ({ cls := "EndSums", name := "row", desc := "(I)J" } : Jvm.MethodName)) ∈ lw_all := lw_g (lw_at lw_m7 162 rfl) rfl
theorem q1690 : (Jvm.Cond.methodLink "EndSumsLaw" (117 : Nat) ({ cls := "EndSumsModel", name := "thrown", desc := "()I" } : Jvm.MethodName)) ∈ lw_all := lw_g (lw_at lw_m7 166 rfl) rfl
theorem q1694 : (Jvm.Cond.methodLink "EndSumsLaw" (101 : Nat) ({ cls := "EndSumsModel", name := "sign", desc := "(I)I" } : Jvm.MethodName)) ∈ lw_all := lw_g (lw_at lw_m7 170 rfl) rfl
theorem q1698 : (Jvm.Cond.methodLink "EndSumsLaw" (106 : Nat) ({ cls := "EndSumsModel", name := "end", desc := "(I)Z" } : Jvm.MethodName)) ∈ lw_all := lw_g (lw_at lw_m7 174 rfl) rfl
theorem q1705 : (Jvm.Cond.classLink "EndSumsLaw" (20 : Nat) "EndSumsModel") ∈ lw_all := lw_g (lw_at lw_m7 181 rfl) rfl
theorem q1707 : (Jvm.Cond.methodLink "EndSumsLaw" (22 : Nat) ({ cls := "EndSumsModel", name := "<init>", desc := "()V" } : Jvm.MethodName)) ∈ lw_all := lw_g (lw_at lw_m7 183 rfl) rfl
theorem q1808 : (Jvm.Cond.methodLink "EndSumsLaw" (36 : Nat) ({ cls := "EndSumsModel", name := "commutes", desc := "(II)I" } : Jvm.MethodName)) ∈ lw_all := lw_g (lw_at lw_m8 44 rfl) rfl
theorem q1860 : (Jvm.Cond.methodLink "EndSumsLaw" (40 : Nat) ({ cls := "EndSumsModel", name := "powers", desc := "(II)I" } : Jvm.MethodName)) ∈ lw_all := lw_g (lw_at lw_m8 96 rfl) rfl
theorem q1875 : (Jvm.Cond.methodLink "EndSumsLaw" (44 : Nat) ({ cls := "EndSumsModel", name := "order", desc := "(I)I" } : Jvm.MethodName)) ∈ lw_all := lw_g (lw_at lw_m8 111 rfl) rfl
theorem q1879 : (Jvm.Cond.methodLink "EndSumsLaw" (48 : Nat) ({ cls := "EndSumsModel", name := "undoes", desc := "(I)I" } : Jvm.MethodName)) ∈ lw_all := lw_g (lw_at lw_m8 115 rfl) rfl
theorem q1883 : (Jvm.Cond.methodLink "EndSumsLaw" (27 : Nat) ({ cls := "EndSumsModel", name := "rule", desc := "(I)I" } : Jvm.MethodName)) ∈ lw_all := lw_g (lw_at lw_m8 119 rfl) rfl
theorem q1919 : (Jvm.Cond.methodLink "EndSumsLaw" (32 : Nat) ({ cls := "EndSumsModel", name := "table", desc := "()I" } : Jvm.MethodName)) ∈ lw_all := lw_g (lw_at lw_m8 155 rfl) rfl
theorem q1954 : (Jvm.Cond.methodLink "EndSumsLaw" (53 : Nat) ({ cls := "EndSumsModel", name := "puts", desc := "(III)I" } : Jvm.MethodName)) ∈ lw_all := lw_g (lw_at lw_m8 190 rfl) rfl
theorem q1965 : (Jvm.Cond.methodLink "EndSumsLaw" (57 : Nat) ({ cls := "EndSumsModel", name := "takes", desc := "(II)I" } : Jvm.MethodName)) ∈ lw_all := lw_g (lw_at lw_m8 201 rfl) rfl
theorem q1977 : (Jvm.Cond.methodLink "EndSumsLaw" (61 : Nat) ({ cls := "EndSumsModel", name := "copies", desc := "(II)I" } : Jvm.MethodName)) ∈ lw_all := lw_g (lw_at lw_m8 213 rfl) rfl
theorem q1985 : (Jvm.Cond.methodLink "EndSumsLaw" (65 : Nat) ({ cls := "EndSumsModel", name := "joins", desc := "(II)I" } : Jvm.MethodName)) ∈ lw_all := lw_g (lw_at lw_m8 221 rfl) rfl
theorem q1989 : (Jvm.Cond.methodLink "EndSumsLaw" (69 : Nat) ({ cls := "EndSumsModel", name := "parts", desc := "(III)I" } : Jvm.MethodName)) ∈ lw_all := lw_g (lw_at lw_m8 225 rfl) rfl
theorem q1993 : (Jvm.Cond.methodLink "EndSumsLaw" (73 : Nat) ({ cls := "EndSumsModel", name := "reverses", desc := "(I)I" } : Jvm.MethodName)) ∈ lw_all := lw_g (lw_at lw_m8 229 rfl) rfl
theorem q2001 : (Jvm.Cond.methodLink "EndSumsLaw" (77 : Nat) ({ cls := "EndSumsModel", name := "changes", desc := "(III)I" } : Jvm.MethodName)) ∈ lw_all := lw_g (lw_at lw_m8 237 rfl) rfl
theorem q2013 : (Jvm.Cond.methodLink "EndSumsLaw" (81 : Nat) ({ cls := "EndSumsModel", name := "slips", desc := "(III)I" } : Jvm.MethodName)) ∈ lw_all := lw_g (lw_at lw_m9 9 rfl) rfl
theorem q2017 : (Jvm.Cond.methodLink "EndSumsLaw" (85 : Nat) ({ cls := "EndSumsModel", name := "drops", desc := "(II)I" } : Jvm.MethodName)) ∈ lw_all := lw_g (lw_at lw_m9 13 rfl) rfl
theorem q2021 : (Jvm.Cond.methodLink "EndSumsLaw" (89 : Nat) ({ cls := "EndSumsModel", name := "shifts", desc := "(III)I" } : Jvm.MethodName)) ∈ lw_all := lw_g (lw_at lw_m9 17 rfl) rfl
theorem q2034 : (Jvm.Cond.methodLink "EndSumsLaw" (93 : Nat) ({ cls := "EndSumsModel", name := "clears", desc := "(I)I" } : Jvm.MethodName)) ∈ lw_all := lw_g (lw_at lw_m9 30 rfl) rfl
theorem q2038 : (Jvm.Cond.methodLink "EndSumsLaw" (97 : Nat) ({ cls := "EndSumsModel", name := "run", desc := "(I)I" } : Jvm.MethodName)) ∈ lw_all := lw_g (lw_at lw_m9 34 rfl) rfl
theorem q2054 : (Jvm.Cond.methodLink "EndSumsLaw" (110 : Nat) ({ cls := "EndSumsModel", name := "sum", desc := "(I)I" } : Jvm.MethodName)) ∈ lw_all := lw_g (lw_at lw_m9 50 rfl) rfl
theorem q2058 : (Jvm.Cond.methodLink "EndSumsLaw" (116 : Nat) ({ cls := "EndSumsModel", name := "item", desc := "(II)I" } : Jvm.MethodName)) ∈ lw_all := lw_g (lw_at lw_m9 54 rfl) rfl
theorem q2062 : (Jvm.Cond.methodLink "EndSumsLaw" (123 : Nat) ({ cls := "EndSumsModel", name := "part", desc := "(III)I" } : Jvm.MethodName)) ∈ lw_all := lw_g (lw_at lw_m9 58 rfl) rfl
theorem q2070 : (Jvm.Cond.methodLink "EndSumsLaw" (127 : Nat) ({ cls := "EndSumsModel", name := "windows", desc := "(II)I" } : Jvm.MethodName)) ∈ lw_all := lw_g (lw_at lw_m9 66 rfl) rfl
theorem q2074 : (Jvm.Cond.methodLink "EndSumsLaw" (131 : Nat) ({ cls := "EndSumsModel", name := "first", desc := "(II)I" } : Jvm.MethodName)) ∈ lw_all := lw_g (lw_at lw_m9 70 rfl) rfl
theorem q2078 : (Jvm.Cond.methodLink "EndSumsLaw" (135 : Nat) ({ cls := "EndSumsModel", name := "longest", desc := "(II)I" } : Jvm.MethodName)) ∈ lw_all := lw_g (lw_at lw_m9 74 rfl) rfl
theorem q2082 : (Jvm.Cond.methodLink "EndSumsLaw" (139 : Nat) ({ cls := "EndSumsModel", name := "greatest", desc := "(II)I" } : Jvm.MethodName)) ∈ lw_all := lw_g (lw_at lw_m9 78 rfl) rfl
theorem q2086 : (Jvm.Cond.methodLink "EndSumsLaw" (143 : Nat) ({ cls := "EndSumsModel", name := "finds", desc := "(III)I" } : Jvm.MethodName)) ∈ lw_all := lw_g (lw_at lw_m9 82 rfl) rfl
theorem q2090 : (Jvm.Cond.methodLink "EndSumsLaw" (147 : Nat) ({ cls := "EndSumsModel", name := "drains", desc := "(I)I" } : Jvm.MethodName)) ∈ lw_all := lw_g (lw_at lw_m9 86 rfl) rfl
theorem q2107 : (Jvm.Cond.methodLink "EndSumsLaw" (163 : Nat) ({ cls := "EndSumsModel", name := "would", desc := "(II)I" } : Jvm.MethodName)) ∈ lw_all := lw_g (lw_at lw_m9 103 rfl) rfl
theorem q2111 : (Jvm.Cond.methodLink "EndSumsLaw" (167 : Nat) ({ cls := "EndSumsModel", name := "dearest", desc := "(II)I" } : Jvm.MethodName)) ∈ lw_all := lw_g (lw_at lw_m9 107 rfl) rfl
theorem q2116 : (Jvm.Cond.methodLink "EndSumsLaw" (151 : Nat) ({ cls := "EndSumsModel", name := "unlike", desc := "(I)I" } : Jvm.MethodName)) ∈ lw_all := lw_g (lw_at lw_m9 112 rfl) rfl
theorem q2121 : (Jvm.Cond.methodLink "EndSumsLaw" (155 : Nat) ({ cls := "EndSumsModel", name := "same", desc := "(II)I" } : Jvm.MethodName)) ∈ lw_all := lw_g (lw_at lw_m9 117 rfl) rfl
theorem q2129 : (Jvm.Cond.methodLink "EndSumsLaw" (159 : Nat) ({ cls := "EndSumsModel", name := "shared", desc := "()I" } : Jvm.MethodName)) ∈ lw_all := lw_g (lw_at lw_m9 125 rfl) rfl
theorem q2133 : (Jvm.Cond.methodLink "EndSumsLaw" (171 : Nat) ({ cls := "EndSumsModel", name := "count", desc := "(I)I" } : Jvm.MethodName)) ∈ lw_all := lw_g (lw_at lw_m9 129 rfl) rfl
theorem q2137 : (Jvm.Cond.methodLink "EndSumsLaw" (175 : Nat) ({ cls := "EndSumsModel", name := "row", desc := "(I)J" } : Jvm.MethodName)) ∈ lw_all := lw_g (lw_at lw_m9 133 rfl) rfl
/-! EndSums -/
def RX1 : String := "EndSums"
def TX1 : u_T := fun k => match k with
  | 0 => ("EndSums", "makes", "[LEndSums$Make;", true)
  | 1 => ("EndSums", "joins", "[LEndSums$Join;", true)
  | 2 => ("EndSums", "arrangements", "[[I", true)
  | 3 => ("EndSums", "placed", "[I", true)
  | 4 => ("EndSums", "rule", "I", false)
  | 5 => ("EndSums", "size", "I", false)
  | 6 => ("EndSums", "neutral", "I", false)
  | 7 => ("EndSums", "table", "[I", false)
  | 8 => ("EndSums", "work", "J", false)
  | 9 => ("EndSums", "rebuilt", "I", false)
  | 10 => ("EndSums", "one", "LEndSums$Pair;", true)
  | 11 => ("EndSums", "other", "LEndSums$Pair;", true)
  | 12 => ("EndSums", "all", "LEndSums$Pair;", true)
  | 13 => ("EndSums", "lines", "Ljava/util/List;", true)
  | 14 => ("EndSums", "spare", "LEndSums$Line;", true)
  | 15 => ("EndSums", "row0", "[I", true)
  | 16 => ("EndSums", "row1", "[I", true)
  | 17 => ("EndSums", "text", "[B", true)
  | 18 => ("EndSums", "typed", "I", false)
  | 19 => ("EndSums", "row", "[J", true)
  | 20 => ("EndSums", "rowMany", "I", false)
  | 21 => ("EndSums", "powersP", "[J", true)
  | 22 => ("EndSums", "powersQ", "[J", true)
  | 23 => ("EndSums", "firstP", "[J", true)
  | 24 => ("EndSums", "firstQ", "[J", true)
  | 25 => ("EndSums", "round", "I", false)
  | 26 => ("EndSums", "dearWork", "I", false)
  | _ => ("EndSums", "dearEnds", "I", false)
def tyX1 : Nat → FieldType := fun k => match k with
  | 0 => .array (.object "EndSums$Make")
  | 1 => .array (.object "EndSums$Join")
  | 2 => .array (.array .int)
  | 3 => .array .int
  | 4 => .int
  | 5 => .int
  | 6 => .int
  | 7 => .array .int
  | 8 => .long
  | 9 => .int
  | 10 => .object "EndSums$Pair"
  | 11 => .object "EndSums$Pair"
  | 12 => .object "EndSums$Pair"
  | 13 => .object "java/util/List"
  | 14 => .object "EndSums$Line"
  | 15 => .array .int
  | 16 => .array .int
  | 17 => .array .byte
  | 18 => .int
  | 19 => .array .long
  | 20 => .int
  | 21 => .array .long
  | 22 => .array .long
  | 23 => .array .long
  | 24 => .array .long
  | 25 => .int
  | 26 => .int
  | _ => .int
abbrev wsX10 : List Cond := u_ws RX1 TX1 28
theorem nmX1 : ∀ a, a < 28 → ∀ b, b < 28 → a ≠ b → (TX1 a).2.1 ≠ (TX1 b).2.1 := by decide +kernel
theorem tyX1_ok : ∀ k, k < 28 → parseFieldDescriptor (TX1 k).2.2.1 = some (tyX1 k) := by decide +kernel
abbrev cX1_init : ByteArray := prog_1_method_17_code
def yX1_init : MethodName := ⟨RX1, "<init>", "()V"⟩
abbrev cX1_lambda_new_0 : ByteArray := prog_1_method_82_code
def yX1_lambda_new_0 : MethodName := ⟨RX1, "lambda$new$0", "(LEndSums$Pair;I)V"⟩
abbrev cX1_lambda_new_1 : ByteArray := prog_1_method_81_code
def yX1_lambda_new_1 : MethodName := ⟨RX1, "lambda$new$1", "(LEndSums$Pair;I)V"⟩
abbrev cX1_lambda_new_2 : ByteArray := prog_1_method_80_code
def yX1_lambda_new_2 : MethodName := ⟨RX1, "lambda$new$2", "(LEndSums$Pair;I)V"⟩
abbrev cX1_lambda_new_3 : ByteArray := prog_1_method_79_code
def yX1_lambda_new_3 : MethodName := ⟨RX1, "lambda$new$3", "(LEndSums$Pair;I)V"⟩
abbrev cX1_bracket : ByteArray := prog_1_method_4_code
def yX1_bracket : MethodName := ⟨RX1, "bracket", "(LEndSums$Pair;I)V"⟩
abbrev cX1_lambda_new_4 : ByteArray := prog_1_method_78_code
def yX1_lambda_new_4 : MethodName := ⟨RX1, "lambda$new$4", "(LEndSums$Pair;I)V"⟩
abbrev cX1_leaps : ByteArray := prog_1_method_11_code
def yX1_leaps : MethodName := ⟨RX1, "leaps", "(I)I"⟩
abbrev cX1_lambda_new_5 : ByteArray := prog_1_method_77_code
def yX1_lambda_new_5 : MethodName := ⟨RX1, "lambda$new$5", "(LEndSums$Pair;I)V"⟩
abbrev cX1_ofTable : ByteArray := prog_1_method_5_code
def yX1_ofTable : MethodName := ⟨RX1, "ofTable", "(LEndSums$Pair;I)V"⟩
abbrev cX1_lambda_new_6 : ByteArray := prog_1_method_76_code
def yX1_lambda_new_6 : MethodName := ⟨RX1, "lambda$new$6", "(LEndSums$Pair;LEndSums$Pair;LEndSums$Pair;)V"⟩
abbrev cX1_lambda_new_7 : ByteArray := prog_1_method_75_code
def yX1_lambda_new_7 : MethodName := ⟨RX1, "lambda$new$7", "(LEndSums$Pair;LEndSums$Pair;LEndSums$Pair;)V"⟩
abbrev cX1_lambda_new_8 : ByteArray := prog_1_method_74_code
def yX1_lambda_new_8 : MethodName := ⟨RX1, "lambda$new$8", "(LEndSums$Pair;LEndSums$Pair;LEndSums$Pair;)V"⟩
abbrev cX1_common : ByteArray := prog_1_method_3_code
def yX1_common : MethodName := ⟨RX1, "common", "(JJ)J"⟩
abbrev cX1_maps : ByteArray := prog_1_method_6_code
def yX1_maps : MethodName := ⟨RX1, "maps", "(LEndSums$Pair;LEndSums$Pair;LEndSums$Pair;)V"⟩
abbrev cX1_brackets : ByteArray := prog_1_method_7_code
def yX1_brackets : MethodName := ⟨RX1, "brackets", "(LEndSums$Pair;LEndSums$Pair;LEndSums$Pair;)V"⟩
abbrev cX1_arranged : ByteArray := prog_1_method_13_code
def yX1_arranged : MethodName := ⟨RX1, "arranged", "(LEndSums$Pair;LEndSums$Pair;LEndSums$Pair;)V"⟩
abbrev cX1_numberOf : ByteArray := prog_1_method_12_code
def yX1_numberOf : MethodName := ⟨RX1, "numberOf", "([I)I"⟩
abbrev cX1_areLikeRows : ByteArray := prog_1_method_73_code
def yX1_areLikeRows : MethodName := ⟨RX1, "areLikeRows", "([I[II)Z"⟩
abbrev cX1_ends : ByteArray := prog_1_method_8_code
def yX1_ends : MethodName := ⟨RX1, "ends", "(LEndSums$Pair;LEndSums$Pair;LEndSums$Pair;)V"⟩
abbrev cX1_byTable : ByteArray := prog_1_method_9_code
def yX1_byTable : MethodName := ⟨RX1, "byTable", "(LEndSums$Pair;LEndSums$Pair;LEndSums$Pair;)V"⟩
abbrev cX1_layArrangements : ByteArray := prog_1_method_10_code
def yX1_layArrangements : MethodName := ⟨RX1, "layArrangements", "()V"⟩
abbrev cX1_sign : ByteArray := prog_1_method_20_code
def yX1_sign : MethodName := ⟨RX1, "sign", "(I)I"⟩
abbrev cX1_end : ByteArray := prog_1_method_21_code
def yX1_end : MethodName := ⟨RX1, "end", "(I)Z"⟩
abbrev cX1_in : ByteArray := prog_1_method_1_code
def yX1_in : MethodName := ⟨RX1, "in", "(JJJ)Z"⟩
abbrev cX1_rule : ByteArray := prog_1_method_25_code
def yX1_rule : MethodName := ⟨RX1, "rule", "(I)I"⟩
abbrev cX1_laysAll : ByteArray := prog_1_method_24_code
def yX1_laysAll : MethodName := ⟨RX1, "laysAll", "()V"⟩
abbrev cX1_make : ByteArray := prog_1_method_14_code
def yX1_make : MethodName := ⟨RX1, "make", "(LEndSums$Pair;I)V"⟩
abbrev cX1_join : ByteArray := prog_1_method_15_code
def yX1_join : MethodName := ⟨RX1, "join", "(LEndSums$Pair;LEndSums$Pair;LEndSums$Pair;)V"⟩
abbrev cX1_table : ByteArray := prog_1_method_30_code
def yX1_table : MethodName := ⟨RX1, "table", "()I"⟩
abbrev cX1_readTable : ByteArray := prog_1_method_27_code
def yX1_readTable : MethodName := ⟨RX1, "readTable", "([II)I"⟩
abbrev cX1_here : ByteArray := prog_1_method_26_code
def yX1_here : MethodName := ⟨RX1, "here", "(II)I"⟩
abbrev cX1_ungrouped : ByteArray := prog_1_method_28_code
def yX1_ungrouped : MethodName := ⟨RX1, "ungrouped", "([II)I"⟩
abbrev cX1_tells : ByteArray := prog_1_method_18_code
def yX1_tells : MethodName := ⟨RX1, "tells", "(J)V"⟩
abbrev cX1_neutralOf : ByteArray := prog_1_method_29_code
def yX1_neutralOf : MethodName := ⟨RX1, "neutralOf", "([II)I"⟩
abbrev cX1_commutes : ByteArray := prog_1_method_31_code
def yX1_commutes : MethodName := ⟨RX1, "commutes", "(II)I"⟩
abbrev cX1_isItem : ByteArray := prog_1_method_2_code
def yX1_isItem : MethodName := ⟨RX1, "isItem", "(I)Z"⟩
abbrev cX1_tellsPair : ByteArray := prog_1_method_19_code
def yX1_tellsPair : MethodName := ⟨RX1, "tellsPair", "(LEndSums$Pair;)V"⟩
abbrev cX1_powers : ByteArray := prog_1_method_32_code
def yX1_powers : MethodName := ⟨RX1, "powers", "(II)I"⟩
abbrev cX1_empty : ByteArray := prog_1_method_16_code
def yX1_empty : MethodName := ⟨RX1, "empty", "(LEndSums$Pair;)V"⟩
abbrev cX1_order : ByteArray := prog_1_method_33_code
def yX1_order : MethodName := ⟨RX1, "order", "(I)I"⟩
abbrev cX1_undoes : ByteArray := prog_1_method_34_code
def yX1_undoes : MethodName := ⟨RX1, "undoes", "(I)I"⟩
abbrev cX1_puts : ByteArray := prog_1_method_35_code
def yX1_puts : MethodName := ⟨RX1, "puts", "(III)I"⟩
abbrev cX1_isLine : ByteArray := prog_1_method_22_code
def yX1_isLine : MethodName := ⟨RX1, "isLine", "(I)Z"⟩
abbrev cX1_isEnd : ByteArray := prog_1_method_23_code
def yX1_isEnd : MethodName := ⟨RX1, "isEnd", "(I)Z"⟩
abbrev cX1_takes : ByteArray := prog_1_method_36_code
def yX1_takes : MethodName := ⟨RX1, "takes", "(II)I"⟩
abbrev cX1_copies : ByteArray := prog_1_method_37_code
def yX1_copies : MethodName := ⟨RX1, "copies", "(II)I"⟩
abbrev cX1_joins : ByteArray := prog_1_method_38_code
def yX1_joins : MethodName := ⟨RX1, "joins", "(II)I"⟩
abbrev cX1_parts : ByteArray := prog_1_method_39_code
def yX1_parts : MethodName := ⟨RX1, "parts", "(III)I"⟩
abbrev cX1_reverses : ByteArray := prog_1_method_41_code
def yX1_reverses : MethodName := ⟨RX1, "reverses", "(I)I"⟩
abbrev cX1_goesRound : ByteArray := prog_1_method_40_code
def yX1_goesRound : MethodName := ⟨RX1, "goesRound", "(LEndSums$Line;)I"⟩
abbrev cX1_changes : ByteArray := prog_1_method_43_code
def yX1_changes : MethodName := ⟨RX1, "changes", "(III)I"⟩
abbrev cX1_tellsWork : ByteArray := prog_1_method_42_code
def yX1_tellsWork : MethodName := ⟨RX1, "tellsWork", "(J)V"⟩
abbrev cX1_slips : ByteArray := prog_1_method_44_code
def yX1_slips : MethodName := ⟨RX1, "slips", "(III)I"⟩
abbrev cX1_drops : ByteArray := prog_1_method_45_code
def yX1_drops : MethodName := ⟨RX1, "drops", "(II)I"⟩
abbrev cX1_shifts : ByteArray := prog_1_method_46_code
def yX1_shifts : MethodName := ⟨RX1, "shifts", "(III)I"⟩
abbrev cX1_clears : ByteArray := prog_1_method_47_code
def yX1_clears : MethodName := ⟨RX1, "clears", "(I)I"⟩
abbrev cX1_run : ByteArray := prog_1_method_50_code
def yX1_run : MethodName := ⟨RX1, "run", "(I)I"⟩
abbrev cX1_readActs : ByteArray := prog_1_method_48_code
def yX1_readActs : MethodName := ⟨RX1, "readActs", "(I)Ljava/util/LinkedList;"⟩
abbrev cX1_does : ByteArray := prog_1_method_49_code
def yX1_does : MethodName := ⟨RX1, "does", "(LEndSums$Line;II)Z"⟩
abbrev cX1_sum : ByteArray := prog_1_method_51_code
def yX1_sum : MethodName := ⟨RX1, "sum", "(I)I"⟩
abbrev cX1_part : ByteArray := prog_1_method_54_code
def yX1_part : MethodName := ⟨RX1, "part", "(III)I"⟩
abbrev cX1_folds : ByteArray := prog_1_method_53_code
def yX1_folds : MethodName := ⟨RX1, "folds", "(LEndSums$Pair;[III)V"⟩
abbrev cX1_windows : ByteArray := prog_1_method_56_code
def yX1_windows : MethodName := ⟨RX1, "windows", "(II)I"⟩
abbrev cX1_isWindow : ByteArray := prog_1_method_55_code
def yX1_isWindow : MethodName := ⟨RX1, "isWindow", "(I)Z"⟩
abbrev cX1_first : ByteArray := prog_1_method_57_code
def yX1_first : MethodName := ⟨RX1, "first", "(II)I"⟩
abbrev cX1_longest : ByteArray := prog_1_method_58_code
def yX1_longest : MethodName := ⟨RX1, "longest", "(II)I"⟩
abbrev cX1_greatest : ByteArray := prog_1_method_59_code
def yX1_greatest : MethodName := ⟨RX1, "greatest", "(II)I"⟩
abbrev cX1_finds : ByteArray := prog_1_method_60_code
def yX1_finds : MethodName := ⟨RX1, "finds", "(III)I"⟩
abbrev cX1_drains : ByteArray := prog_1_method_62_code
def yX1_drains : MethodName := ⟨RX1, "drains", "(I)I"⟩
abbrev cX1_drainedBy : ByteArray := prog_1_method_61_code
def yX1_drainedBy : MethodName := ⟨RX1, "drainedBy", "(LEndSums$Line;I)I"⟩
abbrev cX1_unlike : ByteArray := prog_1_method_63_code
def yX1_unlike : MethodName := ⟨RX1, "unlike", "(I)I"⟩
abbrev cX1_same : ByteArray := prog_1_method_66_code
def yX1_same : MethodName := ⟨RX1, "same", "(II)I"⟩
abbrev cX1_begins : ByteArray := prog_1_method_64_code
def yX1_begins : MethodName := ⟨RX1, "begins", "()V"⟩
abbrev cX1_meets : ByteArray := prog_1_method_65_code
def yX1_meets : MethodName := ⟨RX1, "meets", "(I)I"⟩
abbrev cX1_shared : ByteArray := prog_1_method_67_code
def yX1_shared : MethodName := ⟨RX1, "shared", "()I"⟩
abbrev cX1_would : ByteArray := prog_1_method_68_code
def yX1_would : MethodName := ⟨RX1, "would", "(II)I"⟩
abbrev cX1_dearest : ByteArray := prog_1_method_70_code
def yX1_dearest : MethodName := ⟨RX1, "dearest", "(II)I"⟩
abbrev cX1_tries : ByteArray := prog_1_method_69_code
def yX1_tries : MethodName := ⟨RX1, "tries", "(IIIIII)V"⟩
abbrev cX1_count : ByteArray := prog_1_method_71_code
def yX1_count : MethodName := ⟨RX1, "count", "(I)I"⟩
abbrev cX1_item : ByteArray := prog_1_method_52_code
def yX1_item : MethodName := ⟨RX1, "item", "(II)I"⟩
abbrev cX1_row : ByteArray := prog_1_method_72_code
def yX1_row : MethodName := ⟨RX1, "row", "(I)J"⟩
theorem q85 : (Jvm.Cond.initialized "EndSums") ∈ lw_all := lw_g (lw_at lw_m1 1 rfl) rfl
theorem q130 : (Jvm.Cond.instantiable "EndSums" (28 : Nat)) ∈ lw_all := lw_g (lw_at lw_m1 46 rfl) rfl
theorem q132 : (Jvm.Cond.instanceMethod ({ cls := "EndSums", name := "<init>", desc := "()V" } : Jvm.MethodName)) ∈ lw_all := lw_g (lw_at lw_m1 48 rfl) rfl
theorem q133 : (Jvm.Cond.code ({ cls := "EndSums", name := "<init>", desc := "()V" } : Jvm.MethodName) prog_1_method_17_code (1 : Nat) (Option.none : Option Jvm.ClassFile.FieldType)) ∈ lw_all := lw_g (lw_at lw_m1 49 rfl) rfl
theorem q134 : (Jvm.Cond.methodLink "EndSums" (116 : Nat) ({ cls := "java/lang/Object", name := "<init>", desc := "()V" } : Jvm.MethodName)) ∈ lw_all := lw_g (lw_at lw_m1 50 rfl) rfl
theorem q137 : (Jvm.Cond.classLink "EndSums" (96 : Nat) "EndSums$Make") ∈ lw_all := lw_g (lw_at lw_m1 53 rfl) rfl
theorem q139 : (Jvm.Cond.static ({ cls := "EndSums", name := "lambda$new$0", desc := "(LEndSums$Pair;I)V" } : Jvm.MethodName)) ∈ lw_all := lw_g (lw_at lw_m1 55 rfl) rfl
theorem q140 : (Jvm.Cond.code ({ cls := "EndSums", name := "lambda$new$0", desc := "(LEndSums$Pair;I)V" } : Jvm.MethodName) prog_1_method_82_code (2 : Nat) (Option.none : Option Jvm.ClassFile.FieldType)) ∈ lw_all := lw_g (lw_at lw_m1 56 rfl) rfl
theorem q141 : (Jvm.Cond.methodLink "EndSums" (13 : Nat) ({ cls := "EndSums$Pair", name := "is", desc := "(JJ)V" } : Jvm.MethodName)) ∈ lw_all := lw_g (lw_at lw_m1 57 rfl) rfl
theorem q147 : (Jvm.Cond.static ({ cls := "EndSums", name := "lambda$new$1", desc := "(LEndSums$Pair;I)V" } : Jvm.MethodName)) ∈ lw_all := lw_g (lw_at lw_m1 63 rfl) rfl
theorem q148 : (Jvm.Cond.code ({ cls := "EndSums", name := "lambda$new$1", desc := "(LEndSums$Pair;I)V" } : Jvm.MethodName) prog_1_method_81_code (2 : Nat) (Option.none : Option Jvm.ClassFile.FieldType)) ∈ lw_all := lw_g (lw_at lw_m1 64 rfl) rfl
theorem q149 : (Jvm.Cond.static ({ cls := "EndSums", name := "lambda$new$2", desc := "(LEndSums$Pair;I)V" } : Jvm.MethodName)) ∈ lw_all := lw_g (lw_at lw_m1 65 rfl) rfl
theorem q150 : (Jvm.Cond.code ({ cls := "EndSums", name := "lambda$new$2", desc := "(LEndSums$Pair;I)V" } : Jvm.MethodName) prog_1_method_80_code (2 : Nat) (Option.none : Option Jvm.ClassFile.FieldType)) ∈ lw_all := lw_g (lw_at lw_m1 66 rfl) rfl
theorem q151 : (Jvm.Cond.static ({ cls := "EndSums", name := "lambda$new$3", desc := "(LEndSums$Pair;I)V" } : Jvm.MethodName)) ∈ lw_all := lw_g (lw_at lw_m1 67 rfl) rfl
theorem q152 : (Jvm.Cond.code ({ cls := "EndSums", name := "lambda$new$3", desc := "(LEndSums$Pair;I)V" } : Jvm.MethodName) prog_1_method_79_code (2 : Nat) (Option.none : Option Jvm.ClassFile.FieldType)) ∈ lw_all := lw_g (lw_at lw_m1 68 rfl) rfl
theorem q153 : (Jvm.Cond.privateMethod ({ cls := "EndSums", name := "bracket", desc := "(LEndSums$Pair;I)V" } : Jvm.MethodName)) ∈ lw_tbl := lw_at lw_m1 69 rfl
theorem q154 : (Jvm.Cond.instanceMethod ({ cls := "EndSums", name := "bracket", desc := "(LEndSums$Pair;I)V" } : Jvm.MethodName)) ∈ lw_all := lw_g (lw_at lw_m1 70 rfl) rfl
theorem q155 : (Jvm.Cond.code ({ cls := "EndSums", name := "bracket", desc := "(LEndSums$Pair;I)V" } : Jvm.MethodName) prog_1_method_4_code (4 : Nat) (Option.none : Option Jvm.ClassFile.FieldType)) ∈ lw_all := lw_g (lw_at lw_m1 71 rfl) rfl
theorem q156 : (Jvm.Cond.privateMethod ({ cls := "EndSums", name := "lambda$new$4", desc := "(LEndSums$Pair;I)V" } : Jvm.MethodName)) ∈ lw_tbl := lw_at lw_m1 72 rfl
theorem q157 : (Jvm.Cond.instanceMethod ({ cls := "EndSums", name := "lambda$new$4", desc := "(LEndSums$Pair;I)V" } : Jvm.MethodName)) ∈ lw_all := lw_g (lw_at lw_m1 73 rfl) rfl
theorem q158 : (Jvm.Cond.code ({ cls := "EndSums", name := "lambda$new$4", desc := "(LEndSums$Pair;I)V" } : Jvm.MethodName) prog_1_method_78_code (3 : Nat) (Option.none : Option Jvm.ClassFile.FieldType)) ∈ lw_all := lw_g (lw_at lw_m1 74 rfl) rfl
theorem q159 : (Jvm.Cond.methodLink "EndSums" (443 : Nat) ({ cls := "EndSums", name := "leaps", desc := "(I)I" } : Jvm.MethodName)) ∈ lw_all := lw_g (lw_at lw_m1 75 rfl) rfl
theorem q160 : (Jvm.Cond.privateMethod ({ cls := "EndSums", name := "leaps", desc := "(I)I" } : Jvm.MethodName)) ∈ lw_tbl := lw_at lw_m1 76 rfl
theorem q161 : (Jvm.Cond.instanceMethod ({ cls := "EndSums", name := "leaps", desc := "(I)I" } : Jvm.MethodName)) ∈ lw_all := lw_g (lw_at lw_m1 77 rfl) rfl
theorem q162 : (Jvm.Cond.code ({ cls := "EndSums", name := "leaps", desc := "(I)I" } : Jvm.MethodName) prog_1_method_11_code (5 : Nat) (Option.some Jvm.ClassFile.FieldType.int)) ∈ lw_all := lw_g (lw_at lw_m1 78 rfl) rfl
theorem q163 : (Jvm.Cond.static ({ cls := "EndSums", name := "lambda$new$5", desc := "(LEndSums$Pair;I)V" } : Jvm.MethodName)) ∈ lw_all := lw_g (lw_at lw_m1 79 rfl) rfl
theorem q164 : (Jvm.Cond.code ({ cls := "EndSums", name := "lambda$new$5", desc := "(LEndSums$Pair;I)V" } : Jvm.MethodName) prog_1_method_77_code (2 : Nat) (Option.none : Option Jvm.ClassFile.FieldType)) ∈ lw_all := lw_g (lw_at lw_m1 80 rfl) rfl
theorem q165 : (Jvm.Cond.privateMethod ({ cls := "EndSums", name := "ofTable", desc := "(LEndSums$Pair;I)V" } : Jvm.MethodName)) ∈ lw_tbl := lw_at lw_m1 81 rfl
theorem q166 : (Jvm.Cond.instanceMethod ({ cls := "EndSums", name := "ofTable", desc := "(LEndSums$Pair;I)V" } : Jvm.MethodName)) ∈ lw_all := lw_g (lw_at lw_m1 82 rfl) rfl
theorem q167 : (Jvm.Cond.code ({ cls := "EndSums", name := "ofTable", desc := "(LEndSums$Pair;I)V" } : Jvm.MethodName) prog_1_method_5_code (3 : Nat) (Option.none : Option Jvm.ClassFile.FieldType)) ∈ lw_all := lw_g (lw_at lw_m1 83 rfl) rfl
theorem q168 : (Jvm.Cond.classLink "EndSums" (105 : Nat) "EndSums$Join") ∈ lw_all := lw_g (lw_at lw_m1 84 rfl) rfl
theorem q170 : (Jvm.Cond.static ({ cls := "EndSums", name := "lambda$new$6", desc := "(LEndSums$Pair;LEndSums$Pair;LEndSums$Pair;)V" } : Jvm.MethodName)) ∈ lw_all := lw_g (lw_at lw_m1 86 rfl) rfl
theorem q171 : (Jvm.Cond.code ({ cls := "EndSums", name := "lambda$new$6", desc := "(LEndSums$Pair;LEndSums$Pair;LEndSums$Pair;)V" } : Jvm.MethodName) prog_1_method_76_code (3 : Nat) (Option.none : Option Jvm.ClassFile.FieldType)) ∈ lw_all := lw_g (lw_at lw_m1 87 rfl) rfl
theorem q172 : (Jvm.Cond.static ({ cls := "EndSums", name := "lambda$new$7", desc := "(LEndSums$Pair;LEndSums$Pair;LEndSums$Pair;)V" } : Jvm.MethodName)) ∈ lw_all := lw_g (lw_at lw_m1 88 rfl) rfl
theorem q173 : (Jvm.Cond.code ({ cls := "EndSums", name := "lambda$new$7", desc := "(LEndSums$Pair;LEndSums$Pair;LEndSums$Pair;)V" } : Jvm.MethodName) prog_1_method_75_code (3 : Nat) (Option.none : Option Jvm.ClassFile.FieldType)) ∈ lw_all := lw_g (lw_at lw_m1 89 rfl) rfl
theorem q174 : (Jvm.Cond.methodLink "EndSums" (32 : Nat) ({ cls := "java/lang/Math", name := "min", desc := "(JJ)J" } : Jvm.MethodName)) ∈ lw_all := lw_g (lw_at lw_m1 90 rfl) rfl
theorem q177 : (Jvm.Cond.methodLink "EndSums" (441 : Nat) ({ cls := "java/lang/Math", name := "max", desc := "(JJ)J" } : Jvm.MethodName)) ∈ lw_all := lw_g (lw_at lw_m1 93 rfl) rfl
theorem q180 : (Jvm.Cond.static ({ cls := "EndSums", name := "lambda$new$8", desc := "(LEndSums$Pair;LEndSums$Pair;LEndSums$Pair;)V" } : Jvm.MethodName)) ∈ lw_all := lw_g (lw_at lw_m1 96 rfl) rfl
theorem q181 : (Jvm.Cond.code ({ cls := "EndSums", name := "lambda$new$8", desc := "(LEndSums$Pair;LEndSums$Pair;LEndSums$Pair;)V" } : Jvm.MethodName) prog_1_method_74_code (3 : Nat) (Option.none : Option Jvm.ClassFile.FieldType)) ∈ lw_all := lw_g (lw_at lw_m1 97 rfl) rfl
theorem q182 : (Jvm.Cond.methodLink "EndSums" (9 : Nat) ({ cls := "EndSums", name := "common", desc := "(JJ)J" } : Jvm.MethodName)) ∈ lw_all := lw_g (lw_at lw_m1 98 rfl) rfl
theorem q183 : (Jvm.Cond.static ({ cls := "EndSums", name := "common", desc := "(JJ)J" } : Jvm.MethodName)) ∈ lw_all := lw_g (lw_at lw_m1 99 rfl) rfl
theorem q184 : (Jvm.Cond.code ({ cls := "EndSums", name := "common", desc := "(JJ)J" } : Jvm.MethodName) prog_1_method_3_code (4 : Nat) (Option.some Jvm.ClassFile.FieldType.long)) ∈ lw_all := lw_g (lw_at lw_m1 100 rfl) rfl
theorem q185 : (Jvm.Cond.privateMethod ({ cls := "EndSums", name := "maps", desc := "(LEndSums$Pair;LEndSums$Pair;LEndSums$Pair;)V" } : Jvm.MethodName)) ∈ lw_tbl := lw_at lw_m1 101 rfl
theorem q186 : (Jvm.Cond.instanceMethod ({ cls := "EndSums", name := "maps", desc := "(LEndSums$Pair;LEndSums$Pair;LEndSums$Pair;)V" } : Jvm.MethodName)) ∈ lw_all := lw_g (lw_at lw_m1 102 rfl) rfl
theorem q187 : (Jvm.Cond.code ({ cls := "EndSums", name := "maps", desc := "(LEndSums$Pair;LEndSums$Pair;LEndSums$Pair;)V" } : Jvm.MethodName) prog_1_method_6_code (4 : Nat) (Option.none : Option Jvm.ClassFile.FieldType)) ∈ lw_all := lw_g (lw_at lw_m1 103 rfl) rfl
theorem q188 : (Jvm.Cond.constantLong "EndSums" (27 : Nat) (101 : Int64)) ∈ lw_all := lw_g (lw_at lw_m1 104 rfl) rfl
theorem q189 : (Jvm.Cond.privateMethod ({ cls := "EndSums", name := "brackets", desc := "(LEndSums$Pair;LEndSums$Pair;LEndSums$Pair;)V" } : Jvm.MethodName)) ∈ lw_tbl := lw_at lw_m1 105 rfl
theorem q190 : (Jvm.Cond.instanceMethod ({ cls := "EndSums", name := "brackets", desc := "(LEndSums$Pair;LEndSums$Pair;LEndSums$Pair;)V" } : Jvm.MethodName)) ∈ lw_all := lw_g (lw_at lw_m1 106 rfl) rfl
theorem q191 : (Jvm.Cond.code ({ cls := "EndSums", name := "brackets", desc := "(LEndSums$Pair;LEndSums$Pair;LEndSums$Pair;)V" } : Jvm.MethodName) prog_1_method_7_code (6 : Nat) (Option.none : Option Jvm.ClassFile.FieldType)) ∈ lw_all := lw_g (lw_at lw_m1 107 rfl) rfl
theorem q192 : (Jvm.Cond.privateMethod ({ cls := "EndSums", name := "arranged", desc := "(LEndSums$Pair;LEndSums$Pair;LEndSums$Pair;)V" } : Jvm.MethodName)) ∈ lw_tbl := lw_at lw_m1 108 rfl
theorem q193 : (Jvm.Cond.instanceMethod ({ cls := "EndSums", name := "arranged", desc := "(LEndSums$Pair;LEndSums$Pair;LEndSums$Pair;)V" } : Jvm.MethodName)) ∈ lw_all := lw_g (lw_at lw_m1 109 rfl) rfl
theorem q194 : (Jvm.Cond.code ({ cls := "EndSums", name := "arranged", desc := "(LEndSums$Pair;LEndSums$Pair;LEndSums$Pair;)V" } : Jvm.MethodName) prog_1_method_13_code (5 : Nat) (Option.none : Option Jvm.ClassFile.FieldType)) ∈ lw_all := lw_g (lw_at lw_m1 110 rfl) rfl
theorem q195 : (Jvm.Cond.methodLink "EndSums" (82 : Nat) ({ cls := "EndSums", name := "numberOf", desc := "([I)I" } : Jvm.MethodName)) ∈ lw_all := lw_g (lw_at lw_m1 111 rfl) rfl
theorem q196 : (Jvm.Cond.privateMethod ({ cls := "EndSums", name := "numberOf", desc := "([I)I" } : Jvm.MethodName)) ∈ lw_tbl := lw_at lw_m1 112 rfl
theorem q197 : (Jvm.Cond.instanceMethod ({ cls := "EndSums", name := "numberOf", desc := "([I)I" } : Jvm.MethodName)) ∈ lw_all := lw_g (lw_at lw_m1 113 rfl) rfl
theorem q198 : (Jvm.Cond.code ({ cls := "EndSums", name := "numberOf", desc := "([I)I" } : Jvm.MethodName) prog_1_method_12_code (3 : Nat) (Option.some Jvm.ClassFile.FieldType.int)) ∈ lw_all := lw_g (lw_at lw_m1 114 rfl) rfl
theorem q199 : (Jvm.Cond.methodLink "EndSums" (75 : Nat) ({ cls := "EndSums", name := "areLikeRows", desc := "([I[II)Z" } : Jvm.MethodName)) ∈ lw_all := lw_g (lw_at lw_m1 115 rfl) rfl
theorem q200 : (Jvm.Cond.static ({ cls := "EndSums", name := "areLikeRows", desc := "([I[II)Z" } : Jvm.MethodName)) ∈ lw_all := lw_g (lw_at lw_m1 116 rfl) rfl
theorem q201 : (Jvm.Cond.code ({ cls := "EndSums", name := "areLikeRows", desc := "([I[II)Z" } : Jvm.MethodName) prog_1_method_73_code (4 : Nat) (Option.some Jvm.ClassFile.FieldType.boolean)) ∈ lw_all := lw_g (lw_at lw_m1 117 rfl) rfl
theorem q202 : (Jvm.Cond.constantLong "EndSums" (86 : Nat) (2 : Int64)) ∈ lw_all := lw_g (lw_at lw_m1 118 rfl) rfl
theorem q203 : (Jvm.Cond.privateMethod ({ cls := "EndSums", name := "ends", desc := "(LEndSums$Pair;LEndSums$Pair;LEndSums$Pair;)V" } : Jvm.MethodName)) ∈ lw_tbl := lw_at lw_m1 119 rfl
theorem q204 : (Jvm.Cond.instanceMethod ({ cls := "EndSums", name := "ends", desc := "(LEndSums$Pair;LEndSums$Pair;LEndSums$Pair;)V" } : Jvm.MethodName)) ∈ lw_all := lw_g (lw_at lw_m1 120 rfl) rfl
theorem q205 : (Jvm.Cond.code ({ cls := "EndSums", name := "ends", desc := "(LEndSums$Pair;LEndSums$Pair;LEndSums$Pair;)V" } : Jvm.MethodName) prog_1_method_8_code (4 : Nat) (Option.none : Option Jvm.ClassFile.FieldType)) ∈ lw_all := lw_g (lw_at lw_m1 121 rfl) rfl
theorem q206 : (Jvm.Cond.privateMethod ({ cls := "EndSums", name := "byTable", desc := "(LEndSums$Pair;LEndSums$Pair;LEndSums$Pair;)V" } : Jvm.MethodName)) ∈ lw_tbl := lw_at lw_m1 122 rfl
theorem q207 : (Jvm.Cond.instanceMethod ({ cls := "EndSums", name := "byTable", desc := "(LEndSums$Pair;LEndSums$Pair;LEndSums$Pair;)V" } : Jvm.MethodName)) ∈ lw_all := lw_g (lw_at lw_m1 123 rfl) rfl
theorem q208 : (Jvm.Cond.code ({ cls := "EndSums", name := "byTable", desc := "(LEndSums$Pair;LEndSums$Pair;LEndSums$Pair;)V" } : Jvm.MethodName) prog_1_method_9_code (4 : Nat) (Option.none : Option Jvm.ClassFile.FieldType)) ∈ lw_all := lw_g (lw_at lw_m1 124 rfl) rfl
theorem q209 : (Jvm.Cond.classLink "EndSums" (145 : Nat) "[[I") ∈ lw_all := lw_g (lw_at lw_m1 125 rfl) rfl
theorem q211 : (Jvm.Cond.classLink "EndSums" (14 : Nat) "EndSums$Pair") ∈ lw_all := lw_g (lw_at lw_m1 127 rfl) rfl
theorem q213 : (Jvm.Cond.methodLinkNest "EndSums" (146 : Nat) ({ cls := "EndSums$Pair", name := "<init>", desc := "()V" } : Jvm.MethodName) "EndSums") ∈ lw_tbl := lw_at lw_m1 129 rfl
theorem q218 : (Jvm.Cond.fieldLink "EndSums" (23 : Nat) "EndSums$Pair" "p" "J") ∈ lw_all := lw_g (lw_at lw_m1 134 rfl) rfl
theorem q222 : (Jvm.Cond.fieldLink "EndSums" (29 : Nat) "EndSums$Pair" "q" "J") ∈ lw_all := lw_g (lw_at lw_m1 138 rfl) rfl
theorem q231 : (Jvm.Cond.classLink "EndSums" (157 : Nat) "EndSums$Line") ∈ lw_all := lw_g (lw_at lw_m1 147 rfl) rfl
theorem q233 : (Jvm.Cond.methodLinkNest "EndSums" (159 : Nat) ({ cls := "EndSums$Line", name := "<init>", desc := "(LEndSums;)V" } : Jvm.MethodName) "EndSums") ∈ lw_tbl := lw_at lw_m1 149 rfl
theorem q240 : (Jvm.Cond.fieldLinkNest "EndSums" (382 : Nat) "EndSums$Line" "top" "[LEndSums$Cell;" "EndSums") ∈ lw_tbl := lw_at lw_m1 156 rfl
theorem q242 : (Jvm.Cond.fieldLinkNest "EndSums" (225 : Nat) "EndSums$Line" "many" "[I" "EndSums") ∈ lw_tbl := lw_at lw_m1 158 rfl
theorem q251 : (Jvm.Cond.methodLink "EndSums" (49 : Nat) ({ cls := "java/util/List", name := "of", desc := "(Ljava/lang/Object;Ljava/lang/Object;Ljava/lang/Object;Ljava/lang/Object;)Ljava/util/List;" } : Jvm.MethodName)) ∈ lw_all := lw_g (lw_at lw_m1 167 rfl) rfl
theorem q264 : (Jvm.Cond.selects "EndSums" ({ cls := "java/lang/Object", name := "getClass", desc := "()Ljava/lang/Class;" } : Jvm.MethodName) ({ cls := "java/lang/Object", name := "getClass", desc := "()Ljava/lang/Class;" } : Jvm.MethodName)) ∈ lw_all := lw_g (lw_at lw_m1 180 rfl) rfl
theorem q332 : (Jvm.Cond.methodLink "EndSums" (196 : Nat) ({ cls := "EndSums", name := "layArrangements", desc := "()V" } : Jvm.MethodName)) ∈ lw_all := lw_g (lw_at lw_m2 8 rfl) rfl
theorem q333 : (Jvm.Cond.privateMethod ({ cls := "EndSums", name := "layArrangements", desc := "()V" } : Jvm.MethodName)) ∈ lw_tbl := lw_at lw_m2 9 rfl
theorem q334 : (Jvm.Cond.instanceMethod ({ cls := "EndSums", name := "layArrangements", desc := "()V" } : Jvm.MethodName)) ∈ lw_all := lw_g (lw_at lw_m2 10 rfl) rfl
theorem q335 : (Jvm.Cond.code ({ cls := "EndSums", name := "layArrangements", desc := "()V" } : Jvm.MethodName) prog_1_method_10_code (6 : Nat) (Option.none : Option Jvm.ClassFile.FieldType)) ∈ lw_all := lw_g (lw_at lw_m2 11 rfl) rfl
theorem q336 : (Jvm.Cond.classLink "EndSums" (41 : Nat) "java/util/LinkedList") ∈ lw_all := lw_g (lw_at lw_m2 12 rfl) rfl
theorem q338 : (Jvm.Cond.methodLink "EndSums" (43 : Nat) ({ cls := "java/lang/Integer", name := "valueOf", desc := "(I)Ljava/lang/Integer;" } : Jvm.MethodName)) ∈ lw_all := lw_g (lw_at lw_m2 14 rfl) rfl
theorem q360 : (Jvm.Cond.methodLink "EndSums" (55 : Nat) ({ cls := "java/util/LinkedList", name := "<init>", desc := "(Ljava/util/Collection;)V" } : Jvm.MethodName)) ∈ lw_all := lw_g (lw_at lw_m2 36 rfl) rfl
theorem q487 : (Jvm.Cond.methodLink "EndSums" (63 : Nat) ({ cls := "java/util/LinkedList", name := "remove", desc := "(I)Ljava/lang/Object;" } : Jvm.MethodName)) ∈ lw_all := lw_g (lw_at lw_m2 163 rfl) rfl
theorem q503 : (Jvm.Cond.classLink "EndSums" (44 : Nat) "java/lang/Integer") ∈ lw_all := lw_g (lw_at lw_m2 179 rfl) rfl
theorem q504 : (Jvm.Cond.methodLink "EndSums" (67 : Nat) ({ cls := "java/lang/Integer", name := "intValue", desc := "()I" } : Jvm.MethodName)) ∈ lw_all := lw_g (lw_at lw_m2 180 rfl) rfl
theorem q508 : (Jvm.Cond.methodLink "EndSums" (71 : Nat) ({ cls := "java/lang/Math", name := "max", desc := "(II)I" } : Jvm.MethodName)) ∈ lw_all := lw_g (lw_at lw_m2 184 rfl) rfl
theorem q511 : (Jvm.Cond.fieldLink "EndSums" (88 : Nat) "EndSums" "makes" "[LEndSums$Make;") ∈ lw_all := lw_g (lw_at lw_m2 187 rfl) rfl
theorem q512 : (Jvm.Cond.fieldLink "EndSums" (100 : Nat) "EndSums" "joins" "[LEndSums$Join;") ∈ lw_all := lw_g (lw_at lw_m2 188 rfl) rfl
theorem q513 : (Jvm.Cond.fieldLink "EndSums" (59 : Nat) "EndSums" "arrangements" "[[I") ∈ lw_all := lw_g (lw_at lw_m2 189 rfl) rfl
theorem q514 : (Jvm.Cond.fieldLink "EndSums" (79 : Nat) "EndSums" "placed" "[I") ∈ lw_all := lw_g (lw_at lw_m2 190 rfl) rfl
theorem q515 : (Jvm.Cond.fieldLink "EndSums" (92 : Nat) "EndSums" "rule" "I") ∈ lw_all := lw_g (lw_at lw_m2 191 rfl) rfl
theorem q516 : (Jvm.Cond.fieldLink "EndSums" (19 : Nat) "EndSums" "size" "I") ∈ lw_all := lw_g (lw_at lw_m2 192 rfl) rfl
theorem q517 : (Jvm.Cond.fieldLink "EndSums" (113 : Nat) "EndSums" "neutral" "I") ∈ lw_all := lw_g (lw_at lw_m2 193 rfl) rfl
theorem q518 : (Jvm.Cond.fieldLink "EndSums" (37 : Nat) "EndSums" "table" "[I") ∈ lw_all := lw_g (lw_at lw_m2 194 rfl) rfl
theorem q520 : (Jvm.Cond.fieldLink "EndSums" (315 : Nat) "EndSums" "work" "J") ∈ lw_all := lw_g (lw_at lw_m2 196 rfl) rfl
theorem q522 : (Jvm.Cond.fieldLink "EndSums" (402 : Nat) "EndSums" "rebuilt" "I") ∈ lw_all := lw_g (lw_at lw_m2 198 rfl) rfl
theorem q523 : (Jvm.Cond.fieldLink "EndSums" (147 : Nat) "EndSums" "one" "LEndSums$Pair;") ∈ lw_all := lw_g (lw_at lw_m2 199 rfl) rfl
theorem q524 : (Jvm.Cond.fieldLink "EndSums" (151 : Nat) "EndSums" "other" "LEndSums$Pair;") ∈ lw_all := lw_g (lw_at lw_m2 200 rfl) rfl
theorem q525 : (Jvm.Cond.fieldLink "EndSums" (154 : Nat) "EndSums" "all" "LEndSums$Pair;") ∈ lw_all := lw_g (lw_at lw_m2 201 rfl) rfl
theorem q526 : (Jvm.Cond.fieldLink "EndSums" (162 : Nat) "EndSums" "lines" "Ljava/util/List;") ∈ lw_all := lw_g (lw_at lw_m2 202 rfl) rfl
theorem q527 : (Jvm.Cond.fieldLink "EndSums" (166 : Nat) "EndSums" "spare" "LEndSums$Line;") ∈ lw_all := lw_g (lw_at lw_m2 203 rfl) rfl
theorem q529 : (Jvm.Cond.fieldLink "EndSums" (170 : Nat) "EndSums" "row0" "[I") ∈ lw_all := lw_g (lw_at lw_m2 205 rfl) rfl
theorem q531 : (Jvm.Cond.fieldLink "EndSums" (173 : Nat) "EndSums" "row1" "[I") ∈ lw_all := lw_g (lw_at lw_m2 207 rfl) rfl
theorem q532 : (Jvm.Cond.fieldLink "EndSums" (176 : Nat) "EndSums" "text" "[B") ∈ lw_all := lw_g (lw_at lw_m2 208 rfl) rfl
theorem q533 : (Jvm.Cond.fieldLink "EndSums" (206 : Nat) "EndSums" "typed" "I") ∈ lw_all := lw_g (lw_at lw_m2 209 rfl) rfl
theorem q534 : (Jvm.Cond.fieldLink "EndSums" (180 : Nat) "EndSums" "row" "[J") ∈ lw_all := lw_g (lw_at lw_m2 210 rfl) rfl
theorem q535 : (Jvm.Cond.fieldLink "EndSums" (199 : Nat) "EndSums" "rowMany" "I") ∈ lw_all := lw_g (lw_at lw_m2 211 rfl) rfl
theorem q536 : (Jvm.Cond.fieldLink "EndSums" (184 : Nat) "EndSums" "powersP" "[J") ∈ lw_all := lw_g (lw_at lw_m2 212 rfl) rfl
theorem q537 : (Jvm.Cond.fieldLink "EndSums" (187 : Nat) "EndSums" "powersQ" "[J") ∈ lw_all := lw_g (lw_at lw_m2 213 rfl) rfl
theorem q538 : (Jvm.Cond.fieldLink "EndSums" (190 : Nat) "EndSums" "firstP" "[J") ∈ lw_all := lw_g (lw_at lw_m2 214 rfl) rfl
theorem q539 : (Jvm.Cond.fieldLink "EndSums" (193 : Nat) "EndSums" "firstQ" "[J") ∈ lw_all := lw_g (lw_at lw_m2 215 rfl) rfl
theorem q540 : (Jvm.Cond.fieldLink "EndSums" (411 : Nat) "EndSums" "round" "I") ∈ lw_all := lw_g (lw_at lw_m2 216 rfl) rfl
theorem q541 : (Jvm.Cond.fieldLink "EndSums" (429 : Nat) "EndSums" "dearWork" "I") ∈ lw_all := lw_g (lw_at lw_m2 217 rfl) rfl
theorem q542 : (Jvm.Cond.fieldLink "EndSums" (432 : Nat) "EndSums" "dearEnds" "I") ∈ lw_all := lw_g (lw_at lw_m2 218 rfl) rfl
theorem q543 : (Jvm.Cond.laysFinal "EndSums" "EndSums" "makes" "[LEndSums$Make;") ∈ lw_all := lw_g (lw_at lw_m2 219 rfl) rfl
theorem q544 : (Jvm.Cond.soleField "EndSums" "makes") ∈ lw_all := lw_g (lw_at lw_m2 220 rfl) rfl
theorem q545 : (Jvm.Cond.laysFinal "EndSums" "EndSums" "joins" "[LEndSums$Join;") ∈ lw_all := lw_g (lw_at lw_m2 221 rfl) rfl
theorem q546 : (Jvm.Cond.soleField "EndSums" "joins") ∈ lw_all := lw_g (lw_at lw_m2 222 rfl) rfl
theorem q547 : (Jvm.Cond.laysFinal "EndSums" "EndSums" "arrangements" "[[I") ∈ lw_all := lw_g (lw_at lw_m2 223 rfl) rfl
theorem q548 : (Jvm.Cond.soleField "EndSums" "arrangements") ∈ lw_all := lw_g (lw_at lw_m2 224 rfl) rfl
theorem q549 : (Jvm.Cond.laysFinal "EndSums" "EndSums" "placed" "[I") ∈ lw_all := lw_g (lw_at lw_m2 225 rfl) rfl
theorem q550 : (Jvm.Cond.soleField "EndSums" "placed") ∈ lw_all := lw_g (lw_at lw_m2 226 rfl) rfl
theorem q551 : (Jvm.Cond.lays "EndSums" "EndSums" "rule" "I") ∈ lw_all := lw_g (lw_at lw_m2 227 rfl) rfl
theorem q552 : (Jvm.Cond.soleField "EndSums" "rule") ∈ lw_all := lw_g (lw_at lw_m2 228 rfl) rfl
theorem q553 : (Jvm.Cond.lays "EndSums" "EndSums" "size" "I") ∈ lw_all := lw_g (lw_at lw_m2 229 rfl) rfl
theorem q554 : (Jvm.Cond.soleField "EndSums" "size") ∈ lw_all := lw_g (lw_at lw_m2 230 rfl) rfl
theorem q555 : (Jvm.Cond.lays "EndSums" "EndSums" "neutral" "I") ∈ lw_all := lw_g (lw_at lw_m2 231 rfl) rfl
theorem q556 : (Jvm.Cond.soleField "EndSums" "neutral") ∈ lw_all := lw_g (lw_at lw_m2 232 rfl) rfl
theorem q557 : (Jvm.Cond.lays "EndSums" "EndSums" "table" "[I") ∈ lw_all := lw_g (lw_at lw_m2 233 rfl) rfl
theorem q558 : (Jvm.Cond.soleField "EndSums" "table") ∈ lw_all := lw_g (lw_at lw_m2 234 rfl) rfl
theorem q559 : (Jvm.Cond.lays "EndSums" "EndSums" "work" "J") ∈ lw_all := lw_g (lw_at lw_m2 235 rfl) rfl
theorem q560 : (Jvm.Cond.soleField "EndSums" "work") ∈ lw_all := lw_g (lw_at lw_m2 236 rfl) rfl
theorem q561 : (Jvm.Cond.lays "EndSums" "EndSums" "rebuilt" "I") ∈ lw_all := lw_g (lw_at lw_m2 237 rfl) rfl
theorem q562 : (Jvm.Cond.soleField "EndSums" "rebuilt") ∈ lw_all := lw_g (lw_at lw_m2 238 rfl) rfl
theorem q563 : (Jvm.Cond.laysFinal "EndSums" "EndSums" "one" "LEndSums$Pair;") ∈ lw_all := lw_g (lw_at lw_m2 239 rfl) rfl
theorem q564 : (Jvm.Cond.soleField "EndSums" "one") ∈ lw_all := lw_g (lw_at lw_m3 0 rfl) rfl
theorem q565 : (Jvm.Cond.laysFinal "EndSums" "EndSums" "other" "LEndSums$Pair;") ∈ lw_all := lw_g (lw_at lw_m3 1 rfl) rfl
theorem q566 : (Jvm.Cond.soleField "EndSums" "other") ∈ lw_all := lw_g (lw_at lw_m3 2 rfl) rfl
theorem q567 : (Jvm.Cond.laysFinal "EndSums" "EndSums" "all" "LEndSums$Pair;") ∈ lw_all := lw_g (lw_at lw_m3 3 rfl) rfl
theorem q568 : (Jvm.Cond.soleField "EndSums" "all") ∈ lw_all := lw_g (lw_at lw_m3 4 rfl) rfl
theorem q569 : (Jvm.Cond.laysFinal "EndSums" "EndSums" "lines" "Ljava/util/List;") ∈ lw_all := lw_g (lw_at lw_m3 5 rfl) rfl
theorem q570 : (Jvm.Cond.soleField "EndSums" "lines") ∈ lw_all := lw_g (lw_at lw_m3 6 rfl) rfl
theorem q571 : (Jvm.Cond.laysFinal "EndSums" "EndSums" "spare" "LEndSums$Line;") ∈ lw_all := lw_g (lw_at lw_m3 7 rfl) rfl
theorem q572 : (Jvm.Cond.soleField "EndSums" "spare") ∈ lw_all := lw_g (lw_at lw_m3 8 rfl) rfl
theorem q573 : (Jvm.Cond.laysFinal "EndSums" "EndSums" "row0" "[I") ∈ lw_all := lw_g (lw_at lw_m3 9 rfl) rfl
theorem q574 : (Jvm.Cond.soleField "EndSums" "row0") ∈ lw_all := lw_g (lw_at lw_m3 10 rfl) rfl
theorem q575 : (Jvm.Cond.laysFinal "EndSums" "EndSums" "row1" "[I") ∈ lw_all := lw_g (lw_at lw_m3 11 rfl) rfl
theorem q576 : (Jvm.Cond.soleField "EndSums" "row1") ∈ lw_all := lw_g (lw_at lw_m3 12 rfl) rfl
theorem q577 : (Jvm.Cond.laysFinal "EndSums" "EndSums" "text" "[B") ∈ lw_all := lw_g (lw_at lw_m3 13 rfl) rfl
theorem q578 : (Jvm.Cond.soleField "EndSums" "text") ∈ lw_all := lw_g (lw_at lw_m3 14 rfl) rfl
theorem q579 : (Jvm.Cond.lays "EndSums" "EndSums" "typed" "I") ∈ lw_all := lw_g (lw_at lw_m3 15 rfl) rfl
theorem q580 : (Jvm.Cond.soleField "EndSums" "typed") ∈ lw_all := lw_g (lw_at lw_m3 16 rfl) rfl
theorem q581 : (Jvm.Cond.laysFinal "EndSums" "EndSums" "row" "[J") ∈ lw_all := lw_g (lw_at lw_m3 17 rfl) rfl
theorem q582 : (Jvm.Cond.soleField "EndSums" "row") ∈ lw_all := lw_g (lw_at lw_m3 18 rfl) rfl
theorem q583 : (Jvm.Cond.lays "EndSums" "EndSums" "rowMany" "I") ∈ lw_all := lw_g (lw_at lw_m3 19 rfl) rfl
theorem q584 : (Jvm.Cond.soleField "EndSums" "rowMany") ∈ lw_all := lw_g (lw_at lw_m3 20 rfl) rfl
theorem q585 : (Jvm.Cond.laysFinal "EndSums" "EndSums" "powersP" "[J") ∈ lw_all := lw_g (lw_at lw_m3 21 rfl) rfl
theorem q586 : (Jvm.Cond.soleField "EndSums" "powersP") ∈ lw_all := lw_g (lw_at lw_m3 22 rfl) rfl
theorem q587 : (Jvm.Cond.laysFinal "EndSums" "EndSums" "powersQ" "[J") ∈ lw_all := lw_g (lw_at lw_m3 23 rfl) rfl
theorem q588 : (Jvm.Cond.soleField "EndSums" "powersQ") ∈ lw_all := lw_g (lw_at lw_m3 24 rfl) rfl
theorem q589 : (Jvm.Cond.laysFinal "EndSums" "EndSums" "firstP" "[J") ∈ lw_all := lw_g (lw_at lw_m3 25 rfl) rfl
theorem q590 : (Jvm.Cond.soleField "EndSums" "firstP") ∈ lw_all := lw_g (lw_at lw_m3 26 rfl) rfl
theorem q591 : (Jvm.Cond.laysFinal "EndSums" "EndSums" "firstQ" "[J") ∈ lw_all := lw_g (lw_at lw_m3 27 rfl) rfl
theorem q592 : (Jvm.Cond.soleField "EndSums" "firstQ") ∈ lw_all := lw_g (lw_at lw_m3 28 rfl) rfl
theorem q593 : (Jvm.Cond.lays "EndSums" "EndSums" "round" "I") ∈ lw_all := lw_g (lw_at lw_m3 29 rfl) rfl
theorem q594 : (Jvm.Cond.soleField "EndSums" "round") ∈ lw_all := lw_g (lw_at lw_m3 30 rfl) rfl
theorem q595 : (Jvm.Cond.lays "EndSums" "EndSums" "dearWork" "I") ∈ lw_all := lw_g (lw_at lw_m3 31 rfl) rfl
theorem q596 : (Jvm.Cond.soleField "EndSums" "dearWork") ∈ lw_all := lw_g (lw_at lw_m3 32 rfl) rfl
theorem q597 : (Jvm.Cond.lays "EndSums" "EndSums" "dearEnds" "I") ∈ lw_all := lw_g (lw_at lw_m3 33 rfl) rfl
theorem q598 : (Jvm.Cond.soleField "EndSums" "dearEnds") ∈ lw_all := lw_g (lw_at lw_m3 34 rfl) rfl
theorem q599 : (Jvm.Cond.superclass "EndSums" "java/lang/Object") ∈ lw_all := lw_g (lw_at lw_m3 35 rfl) rfl
theorem q601 : (Jvm.Cond.instanceMethod ({ cls := "EndSums", name := "sign", desc := "(I)I" } : Jvm.MethodName)) ∈ lw_all := lw_g (lw_at lw_m3 37 rfl) rfl
theorem q602 : (Jvm.Cond.selects "EndSums" ({ cls := "EndSums", name := "sign", desc := "(I)I" } : Jvm.MethodName) ({ cls := "EndSums", name := "sign", desc := "(I)I" } : Jvm.MethodName)) ∈ lw_all := lw_g (lw_at lw_m3 38 rfl) rfl
theorem q603 : (Jvm.Cond.code ({ cls := "EndSums", name := "sign", desc := "(I)I" } : Jvm.MethodName) prog_1_method_20_code (3 : Nat) (Option.some Jvm.ClassFile.FieldType.int)) ∈ lw_all := lw_g (lw_at lw_m3 39 rfl) rfl
theorem q605 : (Jvm.Cond.instanceMethod ({ cls := "EndSums", name := "end", desc := "(I)Z" } : Jvm.MethodName)) ∈ lw_all := lw_g (lw_at lw_m3 41 rfl) rfl
theorem q606 : (Jvm.Cond.selects "EndSums" ({ cls := "EndSums", name := "end", desc := "(I)Z" } : Jvm.MethodName) ({ cls := "EndSums", name := "end", desc := "(I)Z" } : Jvm.MethodName)) ∈ lw_all := lw_g (lw_at lw_m3 42 rfl) rfl
theorem q607 : (Jvm.Cond.code ({ cls := "EndSums", name := "end", desc := "(I)Z" } : Jvm.MethodName) prog_1_method_21_code (2 : Nat) (Option.some Jvm.ClassFile.FieldType.boolean)) ∈ lw_all := lw_g (lw_at lw_m3 43 rfl) rfl
theorem q608 : (Jvm.Cond.methodLink "EndSums" (5 : Nat) ({ cls := "EndSums", name := "in", desc := "(JJJ)Z" } : Jvm.MethodName)) ∈ lw_all := lw_g (lw_at lw_m3 44 rfl) rfl
theorem q609 : (Jvm.Cond.static ({ cls := "EndSums", name := "in", desc := "(JJJ)Z" } : Jvm.MethodName)) ∈ lw_all := lw_g (lw_at lw_m3 45 rfl) rfl
theorem q610 : (Jvm.Cond.code ({ cls := "EndSums", name := "in", desc := "(JJJ)Z" } : Jvm.MethodName) prog_1_method_1_code (6 : Nat) (Option.some Jvm.ClassFile.FieldType.boolean)) ∈ lw_all := lw_g (lw_at lw_m3 46 rfl) rfl
theorem q612 : (Jvm.Cond.instanceMethod ({ cls := "EndSums", name := "rule", desc := "(I)I" } : Jvm.MethodName)) ∈ lw_all := lw_g (lw_at lw_m3 48 rfl) rfl
theorem q613 : (Jvm.Cond.selects "EndSums" ({ cls := "EndSums", name := "rule", desc := "(I)I" } : Jvm.MethodName) ({ cls := "EndSums", name := "rule", desc := "(I)I" } : Jvm.MethodName)) ∈ lw_all := lw_g (lw_at lw_m3 49 rfl) rfl
theorem q614 : (Jvm.Cond.code ({ cls := "EndSums", name := "rule", desc := "(I)I" } : Jvm.MethodName) prog_1_method_25_code (3 : Nat) (Option.some Jvm.ClassFile.FieldType.int)) ∈ lw_all := lw_g (lw_at lw_m3 50 rfl) rfl
theorem q615 : (Jvm.Cond.constantLong "EndSums" (232 : Nat) (7 : Int64)) ∈ lw_all := lw_g (lw_at lw_m3 51 rfl) rfl
theorem q616 : (Jvm.Cond.methodLink "EndSums" (234 : Nat) ({ cls := "EndSums", name := "laysAll", desc := "()V" } : Jvm.MethodName)) ∈ lw_all := lw_g (lw_at lw_m3 52 rfl) rfl
theorem q617 : (Jvm.Cond.privateMethod ({ cls := "EndSums", name := "laysAll", desc := "()V" } : Jvm.MethodName)) ∈ lw_tbl := lw_at lw_m3 53 rfl
theorem q618 : (Jvm.Cond.instanceMethod ({ cls := "EndSums", name := "laysAll", desc := "()V" } : Jvm.MethodName)) ∈ lw_all := lw_g (lw_at lw_m3 54 rfl) rfl
theorem q619 : (Jvm.Cond.code ({ cls := "EndSums", name := "laysAll", desc := "()V" } : Jvm.MethodName) prog_1_method_24_code (3 : Nat) (Option.none : Option Jvm.ClassFile.FieldType)) ∈ lw_all := lw_g (lw_at lw_m3 55 rfl) rfl
theorem q620 : (Jvm.Cond.interfaceEntry "EndSums" (211 : Nat)) ∈ lw_tbl := lw_at lw_m3 56 rfl
theorem q621 : (Jvm.Cond.methodLink "EndSums" (211 : Nat) ({ cls := "java/util/List", name := "iterator", desc := "()Ljava/util/Iterator;" } : Jvm.MethodName)) ∈ lw_all := lw_g (lw_at lw_m3 57 rfl) rfl
theorem q703 : (Jvm.Cond.interfaceEntry "EndSums" (215 : Nat)) ∈ lw_tbl := lw_at lw_m3 139 rfl
theorem q704 : (Jvm.Cond.methodLink "EndSums" (215 : Nat) ({ cls := "java/util/Iterator", name := "hasNext", desc := "()Z" } : Jvm.MethodName)) ∈ lw_all := lw_g (lw_at lw_m3 140 rfl) rfl
theorem q736 : (Jvm.Cond.interfaceEntry "EndSums" (221 : Nat)) ∈ lw_tbl := lw_at lw_m3 172 rfl
theorem q737 : (Jvm.Cond.methodLink "EndSums" (221 : Nat) ({ cls := "java/util/Iterator", name := "next", desc := "()Ljava/lang/Object;" } : Jvm.MethodName)) ∈ lw_all := lw_g (lw_at lw_m3 173 rfl) rfl
theorem q1102 : (Jvm.Cond.methodLink "EndSums" (228 : Nat) ({ cls := "EndSums$Line", name := "anew", desc := "(I)V" } : Jvm.MethodName)) ∈ lw_all := lw_g (lw_at lw_m5 58 rfl) rfl
theorem q1203 : (Jvm.Cond.fieldLinkNest "EndSums" (392 : Nat) "EndSums$Cell" "item" "I" "EndSums") ∈ lw_tbl := lw_at lw_m5 159 rfl
theorem q1206 : (Jvm.Cond.fieldLinkNest "EndSums" (386 : Nat) "EndSums$Cell" "below" "LEndSums$Cell;" "EndSums") ∈ lw_tbl := lw_at lw_m5 162 rfl
theorem q1207 : (Jvm.Cond.fieldLinkNest "EndSums" (415 : Nat) "EndSums$Cell" "lines" "I" "EndSums") ∈ lw_tbl := lw_at lw_m5 163 rfl
theorem q1208 : (Jvm.Cond.fieldLinkNest "EndSums" (414 : Nat) "EndSums$Cell" "round" "I" "EndSums") ∈ lw_tbl := lw_at lw_m5 164 rfl
theorem q1221 : (Jvm.Cond.privateMethod ({ cls := "EndSums", name := "make", desc := "(LEndSums$Pair;I)V" } : Jvm.MethodName)) ∈ lw_tbl := lw_at lw_m5 177 rfl
theorem q1222 : (Jvm.Cond.instanceMethod ({ cls := "EndSums", name := "make", desc := "(LEndSums$Pair;I)V" } : Jvm.MethodName)) ∈ lw_all := lw_g (lw_at lw_m5 178 rfl) rfl
theorem q1223 : (Jvm.Cond.code ({ cls := "EndSums", name := "make", desc := "(LEndSums$Pair;I)V" } : Jvm.MethodName) prog_1_method_14_code (3 : Nat) (Option.none : Option Jvm.ClassFile.FieldType)) ∈ lw_all := lw_g (lw_at lw_m5 179 rfl) rfl
theorem q1224 : (Jvm.Cond.interfaceEntry "EndSums" (95 : Nat)) ∈ lw_tbl := lw_at lw_m5 180 rfl
theorem q1225 : (Jvm.Cond.methodLink "EndSums" (95 : Nat) ({ cls := "EndSums$Make", name := "of", desc := "(LEndSums$Pair;I)V" } : Jvm.MethodName)) ∈ lw_all := lw_g (lw_at lw_m5 181 rfl) rfl
theorem q1229 : (Jvm.Cond.privateMethod ({ cls := "EndSums", name := "join", desc := "(LEndSums$Pair;LEndSums$Pair;LEndSums$Pair;)V" } : Jvm.MethodName)) ∈ lw_tbl := lw_at lw_m5 185 rfl
theorem q1230 : (Jvm.Cond.instanceMethod ({ cls := "EndSums", name := "join", desc := "(LEndSums$Pair;LEndSums$Pair;LEndSums$Pair;)V" } : Jvm.MethodName)) ∈ lw_all := lw_g (lw_at lw_m5 186 rfl) rfl
theorem q1231 : (Jvm.Cond.code ({ cls := "EndSums", name := "join", desc := "(LEndSums$Pair;LEndSums$Pair;LEndSums$Pair;)V" } : Jvm.MethodName) prog_1_method_15_code (4 : Nat) (Option.none : Option Jvm.ClassFile.FieldType)) ∈ lw_all := lw_g (lw_at lw_m5 187 rfl) rfl
theorem q1232 : (Jvm.Cond.interfaceEntry "EndSums" (104 : Nat)) ∈ lw_tbl := lw_at lw_m5 188 rfl
theorem q1233 : (Jvm.Cond.methodLink "EndSums" (104 : Nat) ({ cls := "EndSums$Join", name := "of", desc := "(LEndSums$Pair;LEndSums$Pair;LEndSums$Pair;)V" } : Jvm.MethodName)) ∈ lw_all := lw_g (lw_at lw_m5 189 rfl) rfl
theorem q1237 : (Jvm.Cond.instanceMethod ({ cls := "EndSums", name := "table", desc := "()I" } : Jvm.MethodName)) ∈ lw_all := lw_g (lw_at lw_m5 193 rfl) rfl
theorem q1238 : (Jvm.Cond.selects "EndSums" ({ cls := "EndSums", name := "table", desc := "()I" } : Jvm.MethodName) ({ cls := "EndSums", name := "table", desc := "()I" } : Jvm.MethodName)) ∈ lw_all := lw_g (lw_at lw_m5 194 rfl) rfl
theorem q1239 : (Jvm.Cond.codeWith ({ cls := "EndSums", name := "table", desc := "()I" } : Jvm.MethodName) prog_1_method_30_code (6 : Nat) (Option.some Jvm.ClassFile.FieldType.int) [((15 : Nat), (22 : Nat), (25 : Nat), (244 : Nat))]) ∈ lw_all := lw_g (lw_at lw_m5 195 rfl) rfl
theorem q1240 : (Jvm.Cond.classLink "EndSums" (244 : Nat) "EndSums$Fault") ∈ lw_all := lw_g (lw_at lw_m5 196 rfl) rfl
theorem q1241 : (Jvm.Cond.methodLink "EndSums" (262 : Nat) ({ cls := "EndSums", name := "readTable", desc := "([II)I" } : Jvm.MethodName)) ∈ lw_all := lw_g (lw_at lw_m5 197 rfl) rfl
theorem q1242 : (Jvm.Cond.privateMethod ({ cls := "EndSums", name := "readTable", desc := "([II)I" } : Jvm.MethodName)) ∈ lw_tbl := lw_at lw_m5 198 rfl
theorem q1243 : (Jvm.Cond.instanceMethod ({ cls := "EndSums", name := "readTable", desc := "([II)I" } : Jvm.MethodName)) ∈ lw_all := lw_g (lw_at lw_m5 199 rfl) rfl
theorem q1244 : (Jvm.Cond.code ({ cls := "EndSums", name := "readTable", desc := "([II)I" } : Jvm.MethodName) prog_1_method_27_code (7 : Nat) (Option.some Jvm.ClassFile.FieldType.int)) ∈ lw_all := lw_g (lw_at lw_m5 200 rfl) rfl
theorem q1245 : (Jvm.Cond.methodLink "EndSums" (237 : Nat) ({ cls := "EndSums", name := "here", desc := "(II)I" } : Jvm.MethodName)) ∈ lw_all := lw_g (lw_at lw_m5 201 rfl) rfl
theorem q1246 : (Jvm.Cond.privateMethod ({ cls := "EndSums", name := "here", desc := "(II)I" } : Jvm.MethodName)) ∈ lw_tbl := lw_at lw_m5 202 rfl
theorem q1247 : (Jvm.Cond.instanceMethod ({ cls := "EndSums", name := "here", desc := "(II)I" } : Jvm.MethodName)) ∈ lw_all := lw_g (lw_at lw_m5 203 rfl) rfl
theorem q1248 : (Jvm.Cond.code ({ cls := "EndSums", name := "here", desc := "(II)I" } : Jvm.MethodName) prog_1_method_26_code (3 : Nat) (Option.some Jvm.ClassFile.FieldType.int)) ∈ lw_all := lw_g (lw_at lw_m5 204 rfl) rfl
theorem q1249 : (Jvm.Cond.constantLong "EndSums" (240 : Nat) (48 : Int64)) ∈ lw_all := lw_g (lw_at lw_m5 205 rfl) rfl
theorem q1250 : (Jvm.Cond.constantLong "EndSums" (242 : Nat) (52 : Int64)) ∈ lw_all := lw_g (lw_at lw_m5 206 rfl) rfl
theorem q1259 : (Jvm.Cond.methodLink "EndSums" (246 : Nat) ({ cls := "EndSums$Fault", name := "<init>", desc := "(I)V" } : Jvm.MethodName)) ∈ lw_all := lw_g (lw_at lw_m5 215 rfl) rfl
theorem q1264 : (Jvm.Cond.fieldLinkNest "EndSums" (266 : Nat) "EndSums$Fault" "at" "I" "EndSums") ∈ lw_tbl := lw_at lw_m5 220 rfl
theorem q1269 : (Jvm.Cond.methodLink "EndSums" (269 : Nat) ({ cls := "EndSums", name := "ungrouped", desc := "([II)I" } : Jvm.MethodName)) ∈ lw_all := lw_g (lw_at lw_m5 225 rfl) rfl
theorem q1270 : (Jvm.Cond.static ({ cls := "EndSums", name := "ungrouped", desc := "([II)I" } : Jvm.MethodName)) ∈ lw_all := lw_g (lw_at lw_m5 226 rfl) rfl
theorem q1271 : (Jvm.Cond.code ({ cls := "EndSums", name := "ungrouped", desc := "([II)I" } : Jvm.MethodName) prog_1_method_28_code (6 : Nat) (Option.some Jvm.ClassFile.FieldType.int)) ∈ lw_all := lw_g (lw_at lw_m5 227 rfl) rfl
theorem q1272 : (Jvm.Cond.methodLink "EndSums" (202 : Nat) ({ cls := "EndSums", name := "tells", desc := "(J)V" } : Jvm.MethodName)) ∈ lw_all := lw_g (lw_at lw_m5 228 rfl) rfl
theorem q1273 : (Jvm.Cond.privateMethod ({ cls := "EndSums", name := "tells", desc := "(J)V" } : Jvm.MethodName)) ∈ lw_tbl := lw_at lw_m5 229 rfl
theorem q1274 : (Jvm.Cond.instanceMethod ({ cls := "EndSums", name := "tells", desc := "(J)V" } : Jvm.MethodName)) ∈ lw_all := lw_g (lw_at lw_m5 230 rfl) rfl
theorem q1275 : (Jvm.Cond.code ({ cls := "EndSums", name := "tells", desc := "(J)V" } : Jvm.MethodName) prog_1_method_18_code (3 : Nat) (Option.none : Option Jvm.ClassFile.FieldType)) ∈ lw_all := lw_g (lw_at lw_m5 231 rfl) rfl
theorem q1276 : (Jvm.Cond.methodLink "EndSums" (272 : Nat) ({ cls := "EndSums", name := "neutralOf", desc := "([II)I" } : Jvm.MethodName)) ∈ lw_all := lw_g (lw_at lw_m5 232 rfl) rfl
theorem q1277 : (Jvm.Cond.static ({ cls := "EndSums", name := "neutralOf", desc := "([II)I" } : Jvm.MethodName)) ∈ lw_all := lw_g (lw_at lw_m5 233 rfl) rfl
theorem q1278 : (Jvm.Cond.code ({ cls := "EndSums", name := "neutralOf", desc := "([II)I" } : Jvm.MethodName) prog_1_method_29_code (5 : Nat) (Option.some Jvm.ClassFile.FieldType.int)) ∈ lw_all := lw_g (lw_at lw_m5 234 rfl) rfl
theorem q1279 : (Jvm.Cond.classLink "EndSums" (248 : Nat) "java/util/BitSet") ∈ lw_all := lw_g (lw_at lw_m5 235 rfl) rfl
theorem q1281 : (Jvm.Cond.methodLink "EndSums" (250 : Nat) ({ cls := "java/util/BitSet", name := "<init>", desc := "(I)V" } : Jvm.MethodName)) ∈ lw_all := lw_g (lw_at lw_m5 237 rfl) rfl
theorem q1302 : (Jvm.Cond.methodLink "EndSums" (251 : Nat) ({ cls := "java/util/BitSet", name := "set", desc := "(II)V" } : Jvm.MethodName)) ∈ lw_all := lw_g (lw_at lw_m6 18 rfl) rfl
theorem q1333 : (Jvm.Cond.methodLink "EndSums" (255 : Nat) ({ cls := "java/util/BitSet", name := "clear", desc := "(I)V" } : Jvm.MethodName)) ∈ lw_all := lw_g (lw_at lw_m6 49 rfl) rfl
theorem q1341 : (Jvm.Cond.methodLink "EndSums" (258 : Nat) ({ cls := "java/util/BitSet", name := "nextSetBit", desc := "(I)I" } : Jvm.MethodName)) ∈ lw_all := lw_g (lw_at lw_m6 57 rfl) rfl
theorem q1353 : (Jvm.Cond.instanceMethod ({ cls := "EndSums", name := "commutes", desc := "(II)I" } : Jvm.MethodName)) ∈ lw_all := lw_g (lw_at lw_m6 69 rfl) rfl
theorem q1354 : (Jvm.Cond.selects "EndSums" ({ cls := "EndSums", name := "commutes", desc := "(II)I" } : Jvm.MethodName) ({ cls := "EndSums", name := "commutes", desc := "(II)I" } : Jvm.MethodName)) ∈ lw_all := lw_g (lw_at lw_m6 70 rfl) rfl
theorem q1355 : (Jvm.Cond.code ({ cls := "EndSums", name := "commutes", desc := "(II)I" } : Jvm.MethodName) prog_1_method_31_code (3 : Nat) (Option.some Jvm.ClassFile.FieldType.int)) ∈ lw_all := lw_g (lw_at lw_m6 71 rfl) rfl
theorem q1356 : (Jvm.Cond.methodLink "EndSums" (275 : Nat) ({ cls := "EndSums", name := "isItem", desc := "(I)Z" } : Jvm.MethodName)) ∈ lw_all := lw_g (lw_at lw_m6 72 rfl) rfl
theorem q1357 : (Jvm.Cond.static ({ cls := "EndSums", name := "isItem", desc := "(I)Z" } : Jvm.MethodName)) ∈ lw_all := lw_g (lw_at lw_m6 73 rfl) rfl
theorem q1358 : (Jvm.Cond.code ({ cls := "EndSums", name := "isItem", desc := "(I)Z" } : Jvm.MethodName) prog_1_method_2_code (1 : Nat) (Option.some Jvm.ClassFile.FieldType.boolean)) ∈ lw_all := lw_g (lw_at lw_m6 74 rfl) rfl
theorem q1359 : (Jvm.Cond.constantLong "EndSums" (3 : Nat) (9999 : Int64)) ∈ lw_all := lw_g (lw_at lw_m6 75 rfl) rfl
theorem q1360 : (Jvm.Cond.methodLink "EndSums" (279 : Nat) ({ cls := "EndSums", name := "make", desc := "(LEndSums$Pair;I)V" } : Jvm.MethodName)) ∈ lw_all := lw_g (lw_at lw_m6 76 rfl) rfl
theorem q1361 : (Jvm.Cond.methodLink "EndSums" (282 : Nat) ({ cls := "EndSums", name := "join", desc := "(LEndSums$Pair;LEndSums$Pair;LEndSums$Pair;)V" } : Jvm.MethodName)) ∈ lw_all := lw_g (lw_at lw_m6 77 rfl) rfl
theorem q1362 : (Jvm.Cond.methodLink "EndSums" (285 : Nat) ({ cls := "EndSums", name := "tellsPair", desc := "(LEndSums$Pair;)V" } : Jvm.MethodName)) ∈ lw_all := lw_g (lw_at lw_m6 78 rfl) rfl
theorem q1363 : (Jvm.Cond.privateMethod ({ cls := "EndSums", name := "tellsPair", desc := "(LEndSums$Pair;)V" } : Jvm.MethodName)) ∈ lw_tbl := lw_at lw_m6 79 rfl
theorem q1364 : (Jvm.Cond.instanceMethod ({ cls := "EndSums", name := "tellsPair", desc := "(LEndSums$Pair;)V" } : Jvm.MethodName)) ∈ lw_all := lw_g (lw_at lw_m6 80 rfl) rfl
theorem q1365 : (Jvm.Cond.code ({ cls := "EndSums", name := "tellsPair", desc := "(LEndSums$Pair;)V" } : Jvm.MethodName) prog_1_method_19_code (2 : Nat) (Option.none : Option Jvm.ClassFile.FieldType)) ∈ lw_all := lw_g (lw_at lw_m6 81 rfl) rfl
theorem q1367 : (Jvm.Cond.instanceMethod ({ cls := "EndSums", name := "powers", desc := "(II)I" } : Jvm.MethodName)) ∈ lw_all := lw_g (lw_at lw_m6 83 rfl) rfl
theorem q1368 : (Jvm.Cond.selects "EndSums" ({ cls := "EndSums", name := "powers", desc := "(II)I" } : Jvm.MethodName) ({ cls := "EndSums", name := "powers", desc := "(II)I" } : Jvm.MethodName)) ∈ lw_all := lw_g (lw_at lw_m6 84 rfl) rfl
theorem q1369 : (Jvm.Cond.code ({ cls := "EndSums", name := "powers", desc := "(II)I" } : Jvm.MethodName) prog_1_method_32_code (5 : Nat) (Option.some Jvm.ClassFile.FieldType.int)) ∈ lw_all := lw_g (lw_at lw_m6 85 rfl) rfl
theorem q1370 : (Jvm.Cond.constantLong "EndSums" (289 : Nat) (1000000000 : Int64)) ∈ lw_all := lw_g (lw_at lw_m6 86 rfl) rfl
theorem q1371 : (Jvm.Cond.methodLink "EndSums" (291 : Nat) ({ cls := "EndSums", name := "empty", desc := "(LEndSums$Pair;)V" } : Jvm.MethodName)) ∈ lw_all := lw_g (lw_at lw_m6 87 rfl) rfl
theorem q1372 : (Jvm.Cond.privateMethod ({ cls := "EndSums", name := "empty", desc := "(LEndSums$Pair;)V" } : Jvm.MethodName)) ∈ lw_tbl := lw_at lw_m6 88 rfl
theorem q1373 : (Jvm.Cond.instanceMethod ({ cls := "EndSums", name := "empty", desc := "(LEndSums$Pair;)V" } : Jvm.MethodName)) ∈ lw_all := lw_g (lw_at lw_m6 89 rfl) rfl
theorem q1374 : (Jvm.Cond.code ({ cls := "EndSums", name := "empty", desc := "(LEndSums$Pair;)V" } : Jvm.MethodName) prog_1_method_16_code (2 : Nat) (Option.none : Option Jvm.ClassFile.FieldType)) ∈ lw_all := lw_g (lw_at lw_m6 90 rfl) rfl
theorem q1375 : (Jvm.Cond.constantLong "EndSums" (109 : Nat) (10000 : Int64)) ∈ lw_all := lw_g (lw_at lw_m6 91 rfl) rfl
theorem q1376 : (Jvm.Cond.constantLong "EndSums" (111 : Nat) (-1 : Int64)) ∈ lw_all := lw_g (lw_at lw_m6 92 rfl) rfl
theorem q1377 : (Jvm.Cond.methodLink "EndSums" (294 : Nat) ({ cls := "java/lang/Integer", name := "numberOfLeadingZeros", desc := "(I)I" } : Jvm.MethodName)) ∈ lw_all := lw_g (lw_at lw_m6 93 rfl) rfl
theorem q1381 : (Jvm.Cond.instanceMethod ({ cls := "EndSums", name := "order", desc := "(I)I" } : Jvm.MethodName)) ∈ lw_all := lw_g (lw_at lw_m6 97 rfl) rfl
theorem q1382 : (Jvm.Cond.selects "EndSums" ({ cls := "EndSums", name := "order", desc := "(I)I" } : Jvm.MethodName) ({ cls := "EndSums", name := "order", desc := "(I)I" } : Jvm.MethodName)) ∈ lw_all := lw_g (lw_at lw_m6 98 rfl) rfl
theorem q1383 : (Jvm.Cond.code ({ cls := "EndSums", name := "order", desc := "(I)I" } : Jvm.MethodName) prog_1_method_33_code (4 : Nat) (Option.some Jvm.ClassFile.FieldType.int)) ∈ lw_all := lw_g (lw_at lw_m6 99 rfl) rfl
theorem q1385 : (Jvm.Cond.instanceMethod ({ cls := "EndSums", name := "undoes", desc := "(I)I" } : Jvm.MethodName)) ∈ lw_all := lw_g (lw_at lw_m6 101 rfl) rfl
theorem q1386 : (Jvm.Cond.selects "EndSums" ({ cls := "EndSums", name := "undoes", desc := "(I)I" } : Jvm.MethodName) ({ cls := "EndSums", name := "undoes", desc := "(I)I" } : Jvm.MethodName)) ∈ lw_all := lw_g (lw_at lw_m6 102 rfl) rfl
theorem q1387 : (Jvm.Cond.code ({ cls := "EndSums", name := "undoes", desc := "(I)I" } : Jvm.MethodName) prog_1_method_34_code (4 : Nat) (Option.some Jvm.ClassFile.FieldType.int)) ∈ lw_all := lw_g (lw_at lw_m6 103 rfl) rfl
theorem q1388 : (Jvm.Cond.methodLink "EndSums" (297 : Nat) ({ cls := "EndSums$Pair", name := "isLike", desc := "(LEndSums$Pair;)Z" } : Jvm.MethodName)) ∈ lw_all := lw_g (lw_at lw_m6 104 rfl) rfl
theorem q1395 : (Jvm.Cond.instanceMethod ({ cls := "EndSums", name := "puts", desc := "(III)I" } : Jvm.MethodName)) ∈ lw_all := lw_g (lw_at lw_m6 111 rfl) rfl
theorem q1396 : (Jvm.Cond.selects "EndSums" ({ cls := "EndSums", name := "puts", desc := "(III)I" } : Jvm.MethodName) ({ cls := "EndSums", name := "puts", desc := "(III)I" } : Jvm.MethodName)) ∈ lw_all := lw_g (lw_at lw_m6 112 rfl) rfl
theorem q1397 : (Jvm.Cond.code ({ cls := "EndSums", name := "puts", desc := "(III)I" } : Jvm.MethodName) prog_1_method_35_code (5 : Nat) (Option.some Jvm.ClassFile.FieldType.int)) ∈ lw_all := lw_g (lw_at lw_m6 113 rfl) rfl
theorem q1398 : (Jvm.Cond.methodLink "EndSums" (301 : Nat) ({ cls := "EndSums", name := "isLine", desc := "(I)Z" } : Jvm.MethodName)) ∈ lw_all := lw_g (lw_at lw_m6 114 rfl) rfl
theorem q1399 : (Jvm.Cond.static ({ cls := "EndSums", name := "isLine", desc := "(I)Z" } : Jvm.MethodName)) ∈ lw_all := lw_g (lw_at lw_m6 115 rfl) rfl
theorem q1400 : (Jvm.Cond.code ({ cls := "EndSums", name := "isLine", desc := "(I)Z" } : Jvm.MethodName) prog_1_method_22_code (1 : Nat) (Option.some Jvm.ClassFile.FieldType.boolean)) ∈ lw_all := lw_g (lw_at lw_m6 116 rfl) rfl
theorem q1401 : (Jvm.Cond.constantLong "EndSums" (209 : Nat) (3 : Int64)) ∈ lw_all := lw_g (lw_at lw_m6 117 rfl) rfl
theorem q1402 : (Jvm.Cond.methodLink "EndSums" (304 : Nat) ({ cls := "EndSums", name := "isEnd", desc := "(I)Z" } : Jvm.MethodName)) ∈ lw_all := lw_g (lw_at lw_m6 118 rfl) rfl
theorem q1403 : (Jvm.Cond.static ({ cls := "EndSums", name := "isEnd", desc := "(I)Z" } : Jvm.MethodName)) ∈ lw_all := lw_g (lw_at lw_m6 119 rfl) rfl
theorem q1404 : (Jvm.Cond.code ({ cls := "EndSums", name := "isEnd", desc := "(I)Z" } : Jvm.MethodName) prog_1_method_23_code (1 : Nat) (Option.some Jvm.ClassFile.FieldType.boolean)) ∈ lw_all := lw_g (lw_at lw_m6 120 rfl) rfl
theorem q1405 : (Jvm.Cond.interfaceEntry "EndSums" (307 : Nat)) ∈ lw_tbl := lw_at lw_m6 121 rfl
theorem q1406 : (Jvm.Cond.methodLink "EndSums" (307 : Nat) ({ cls := "java/util/List", name := "get", desc := "(I)Ljava/lang/Object;" } : Jvm.MethodName)) ∈ lw_all := lw_g (lw_at lw_m6 122 rfl) rfl
theorem q1407 : (Jvm.Cond.methodLink "EndSums" (310 : Nat) ({ cls := "EndSums$Line", name := "size", desc := "()I" } : Jvm.MethodName)) ∈ lw_all := lw_g (lw_at lw_m6 123 rfl) rfl
theorem q1411 : (Jvm.Cond.methodLink "EndSums" (312 : Nat) ({ cls := "EndSums$Line", name := "put", desc := "(II)V" } : Jvm.MethodName)) ∈ lw_all := lw_g (lw_at lw_m6 127 rfl) rfl
theorem q1413 : (Jvm.Cond.instanceMethod ({ cls := "EndSums", name := "takes", desc := "(II)I" } : Jvm.MethodName)) ∈ lw_all := lw_g (lw_at lw_m6 129 rfl) rfl
theorem q1414 : (Jvm.Cond.selects "EndSums" ({ cls := "EndSums", name := "takes", desc := "(II)I" } : Jvm.MethodName) ({ cls := "EndSums", name := "takes", desc := "(II)I" } : Jvm.MethodName)) ∈ lw_all := lw_g (lw_at lw_m6 130 rfl) rfl
theorem q1415 : (Jvm.Cond.code ({ cls := "EndSums", name := "takes", desc := "(II)I" } : Jvm.MethodName) prog_1_method_36_code (7 : Nat) (Option.some Jvm.ClassFile.FieldType.int)) ∈ lw_all := lw_g (lw_at lw_m6 131 rfl) rfl
theorem q1416 : (Jvm.Cond.methodLink "EndSums" (318 : Nat) ({ cls := "EndSums$Line", name := "take", desc := "(I)I" } : Jvm.MethodName)) ∈ lw_all := lw_g (lw_at lw_m6 132 rfl) rfl
theorem q1423 : (Jvm.Cond.instanceMethod ({ cls := "EndSums", name := "copies", desc := "(II)I" } : Jvm.MethodName)) ∈ lw_all := lw_g (lw_at lw_m6 139 rfl) rfl
theorem q1424 : (Jvm.Cond.selects "EndSums" ({ cls := "EndSums", name := "copies", desc := "(II)I" } : Jvm.MethodName) ({ cls := "EndSums", name := "copies", desc := "(II)I" } : Jvm.MethodName)) ∈ lw_all := lw_g (lw_at lw_m6 140 rfl) rfl
theorem q1425 : (Jvm.Cond.code ({ cls := "EndSums", name := "copies", desc := "(II)I" } : Jvm.MethodName) prog_1_method_37_code (3 : Nat) (Option.some Jvm.ClassFile.FieldType.int)) ∈ lw_all := lw_g (lw_at lw_m6 141 rfl) rfl
theorem q1426 : (Jvm.Cond.methodLink "EndSums" (321 : Nat) ({ cls := "EndSums$Line", name := "be", desc := "(LEndSums$Line;)V" } : Jvm.MethodName)) ∈ lw_all := lw_g (lw_at lw_m6 142 rfl) rfl
theorem q1431 : (Jvm.Cond.instanceMethod ({ cls := "EndSums", name := "joins", desc := "(II)I" } : Jvm.MethodName)) ∈ lw_all := lw_g (lw_at lw_m6 147 rfl) rfl
theorem q1432 : (Jvm.Cond.selects "EndSums" ({ cls := "EndSums", name := "joins", desc := "(II)I" } : Jvm.MethodName) ({ cls := "EndSums", name := "joins", desc := "(II)I" } : Jvm.MethodName)) ∈ lw_all := lw_g (lw_at lw_m6 148 rfl) rfl
theorem q1433 : (Jvm.Cond.code ({ cls := "EndSums", name := "joins", desc := "(II)I" } : Jvm.MethodName) prog_1_method_38_code (6 : Nat) (Option.some Jvm.ClassFile.FieldType.int)) ∈ lw_all := lw_g (lw_at lw_m6 149 rfl) rfl
theorem q1435 : (Jvm.Cond.instanceMethod ({ cls := "EndSums", name := "parts", desc := "(III)I" } : Jvm.MethodName)) ∈ lw_all := lw_g (lw_at lw_m6 151 rfl) rfl
theorem q1436 : (Jvm.Cond.selects "EndSums" ({ cls := "EndSums", name := "parts", desc := "(III)I" } : Jvm.MethodName) ({ cls := "EndSums", name := "parts", desc := "(III)I" } : Jvm.MethodName)) ∈ lw_all := lw_g (lw_at lw_m6 152 rfl) rfl
theorem q1437 : (Jvm.Cond.code ({ cls := "EndSums", name := "parts", desc := "(III)I" } : Jvm.MethodName) prog_1_method_39_code (6 : Nat) (Option.some Jvm.ClassFile.FieldType.int)) ∈ lw_all := lw_g (lw_at lw_m6 153 rfl) rfl
theorem q1438 : (Jvm.Cond.methodLink "EndSums" (325 : Nat) ({ cls := "EndSums$Line", name := "lay", desc := "([I)I" } : Jvm.MethodName)) ∈ lw_all := lw_g (lw_at lw_m6 154 rfl) rfl
theorem q1439 : (Jvm.Cond.methodLink "EndSums" (328 : Nat) ({ cls := "EndSums$Line", name := "lays", desc := "([IIII)V" } : Jvm.MethodName)) ∈ lw_all := lw_g (lw_at lw_m6 155 rfl) rfl
theorem q1441 : (Jvm.Cond.instanceMethod ({ cls := "EndSums", name := "reverses", desc := "(I)I" } : Jvm.MethodName)) ∈ lw_all := lw_g (lw_at lw_m6 157 rfl) rfl
theorem q1442 : (Jvm.Cond.selects "EndSums" ({ cls := "EndSums", name := "reverses", desc := "(I)I" } : Jvm.MethodName) ({ cls := "EndSums", name := "reverses", desc := "(I)I" } : Jvm.MethodName)) ∈ lw_all := lw_g (lw_at lw_m6 158 rfl) rfl
theorem q1443 : (Jvm.Cond.code ({ cls := "EndSums", name := "reverses", desc := "(I)I" } : Jvm.MethodName) prog_1_method_41_code (2 : Nat) (Option.some Jvm.ClassFile.FieldType.int)) ∈ lw_all := lw_g (lw_at lw_m6 159 rfl) rfl
theorem q1444 : (Jvm.Cond.methodLink "EndSums" (332 : Nat) ({ cls := "EndSums", name := "goesRound", desc := "(LEndSums$Line;)I" } : Jvm.MethodName)) ∈ lw_all := lw_g (lw_at lw_m6 160 rfl) rfl
theorem q1445 : (Jvm.Cond.privateMethod ({ cls := "EndSums", name := "goesRound", desc := "(LEndSums$Line;)I" } : Jvm.MethodName)) ∈ lw_tbl := lw_at lw_m6 161 rfl
theorem q1446 : (Jvm.Cond.instanceMethod ({ cls := "EndSums", name := "goesRound", desc := "(LEndSums$Line;)I" } : Jvm.MethodName)) ∈ lw_all := lw_g (lw_at lw_m6 162 rfl) rfl
theorem q1447 : (Jvm.Cond.code ({ cls := "EndSums", name := "goesRound", desc := "(LEndSums$Line;)I" } : Jvm.MethodName) prog_1_method_40_code (5 : Nat) (Option.some Jvm.ClassFile.FieldType.int)) ∈ lw_all := lw_g (lw_at lw_m6 163 rfl) rfl
theorem q1449 : (Jvm.Cond.instanceMethod ({ cls := "EndSums", name := "changes", desc := "(III)I" } : Jvm.MethodName)) ∈ lw_all := lw_g (lw_at lw_m6 165 rfl) rfl
theorem q1450 : (Jvm.Cond.selects "EndSums" ({ cls := "EndSums", name := "changes", desc := "(III)I" } : Jvm.MethodName) ({ cls := "EndSums", name := "changes", desc := "(III)I" } : Jvm.MethodName)) ∈ lw_all := lw_g (lw_at lw_m6 166 rfl) rfl
theorem q1451 : (Jvm.Cond.code ({ cls := "EndSums", name := "changes", desc := "(III)I" } : Jvm.MethodName) prog_1_method_43_code (8 : Nat) (Option.some Jvm.ClassFile.FieldType.int)) ∈ lw_all := lw_g (lw_at lw_m6 167 rfl) rfl
theorem q1452 : (Jvm.Cond.methodLink "EndSums" (336 : Nat) ({ cls := "EndSums$Line", name := "alters", desc := "(IZZI)I" } : Jvm.MethodName)) ∈ lw_all := lw_g (lw_at lw_m6 168 rfl) rfl
theorem q1468 : (Jvm.Cond.methodLink "EndSums" (340 : Nat) ({ cls := "EndSums", name := "tellsWork", desc := "(J)V" } : Jvm.MethodName)) ∈ lw_all := lw_g (lw_at lw_m6 184 rfl) rfl
theorem q1469 : (Jvm.Cond.privateMethod ({ cls := "EndSums", name := "tellsWork", desc := "(J)V" } : Jvm.MethodName)) ∈ lw_tbl := lw_at lw_m6 185 rfl
theorem q1470 : (Jvm.Cond.instanceMethod ({ cls := "EndSums", name := "tellsWork", desc := "(J)V" } : Jvm.MethodName)) ∈ lw_all := lw_g (lw_at lw_m6 186 rfl) rfl
theorem q1471 : (Jvm.Cond.code ({ cls := "EndSums", name := "tellsWork", desc := "(J)V" } : Jvm.MethodName) prog_1_method_42_code (3 : Nat) (Option.none : Option Jvm.ClassFile.FieldType)) ∈ lw_all := lw_g (lw_at lw_m6 187 rfl) rfl
theorem q1473 : (Jvm.Cond.instanceMethod ({ cls := "EndSums", name := "slips", desc := "(III)I" } : Jvm.MethodName)) ∈ lw_all := lw_g (lw_at lw_m6 189 rfl) rfl
theorem q1474 : (Jvm.Cond.selects "EndSums" ({ cls := "EndSums", name := "slips", desc := "(III)I" } : Jvm.MethodName) ({ cls := "EndSums", name := "slips", desc := "(III)I" } : Jvm.MethodName)) ∈ lw_all := lw_g (lw_at lw_m6 190 rfl) rfl
theorem q1475 : (Jvm.Cond.code ({ cls := "EndSums", name := "slips", desc := "(III)I" } : Jvm.MethodName) prog_1_method_44_code (7 : Nat) (Option.some Jvm.ClassFile.FieldType.int)) ∈ lw_all := lw_g (lw_at lw_m6 191 rfl) rfl
theorem q1477 : (Jvm.Cond.instanceMethod ({ cls := "EndSums", name := "drops", desc := "(II)I" } : Jvm.MethodName)) ∈ lw_all := lw_g (lw_at lw_m6 193 rfl) rfl
theorem q1478 : (Jvm.Cond.selects "EndSums" ({ cls := "EndSums", name := "drops", desc := "(II)I" } : Jvm.MethodName) ({ cls := "EndSums", name := "drops", desc := "(II)I" } : Jvm.MethodName)) ∈ lw_all := lw_g (lw_at lw_m6 194 rfl) rfl
theorem q1479 : (Jvm.Cond.code ({ cls := "EndSums", name := "drops", desc := "(II)I" } : Jvm.MethodName) prog_1_method_45_code (7 : Nat) (Option.some Jvm.ClassFile.FieldType.int)) ∈ lw_all := lw_g (lw_at lw_m6 195 rfl) rfl
theorem q1481 : (Jvm.Cond.instanceMethod ({ cls := "EndSums", name := "shifts", desc := "(III)I" } : Jvm.MethodName)) ∈ lw_all := lw_g (lw_at lw_m6 197 rfl) rfl
theorem q1482 : (Jvm.Cond.selects "EndSums" ({ cls := "EndSums", name := "shifts", desc := "(III)I" } : Jvm.MethodName) ({ cls := "EndSums", name := "shifts", desc := "(III)I" } : Jvm.MethodName)) ∈ lw_all := lw_g (lw_at lw_m6 198 rfl) rfl
theorem q1483 : (Jvm.Cond.code ({ cls := "EndSums", name := "shifts", desc := "(III)I" } : Jvm.MethodName) prog_1_method_46_code (9 : Nat) (Option.some Jvm.ClassFile.FieldType.int)) ∈ lw_all := lw_g (lw_at lw_m6 199 rfl) rfl
theorem q1484 : (Jvm.Cond.constantLong "EndSums" (343 : Nat) (64 : Int64)) ∈ lw_all := lw_g (lw_at lw_m6 200 rfl) rfl
theorem q1485 : (Jvm.Cond.methodLink "EndSums" (345 : Nat) ({ cls := "EndSums$Line", name := "sums", desc := "(LEndSums$Pair;)V" } : Jvm.MethodName)) ∈ lw_all := lw_g (lw_at lw_m6 201 rfl) rfl
theorem q1492 : (Jvm.Cond.instanceMethod ({ cls := "EndSums", name := "clears", desc := "(I)I" } : Jvm.MethodName)) ∈ lw_all := lw_g (lw_at lw_m6 208 rfl) rfl
theorem q1493 : (Jvm.Cond.selects "EndSums" ({ cls := "EndSums", name := "clears", desc := "(I)I" } : Jvm.MethodName) ({ cls := "EndSums", name := "clears", desc := "(I)I" } : Jvm.MethodName)) ∈ lw_all := lw_g (lw_at lw_m6 209 rfl) rfl
theorem q1494 : (Jvm.Cond.code ({ cls := "EndSums", name := "clears", desc := "(I)I" } : Jvm.MethodName) prog_1_method_47_code (3 : Nat) (Option.some Jvm.ClassFile.FieldType.int)) ∈ lw_all := lw_g (lw_at lw_m6 210 rfl) rfl
theorem q1495 : (Jvm.Cond.methodLink "EndSums" (348 : Nat) ({ cls := "EndSums$Line", name := "empties", desc := "()V" } : Jvm.MethodName)) ∈ lw_all := lw_g (lw_at lw_m6 211 rfl) rfl
theorem q1497 : (Jvm.Cond.instanceMethod ({ cls := "EndSums", name := "run", desc := "(I)I" } : Jvm.MethodName)) ∈ lw_all := lw_g (lw_at lw_m6 213 rfl) rfl
theorem q1498 : (Jvm.Cond.selects "EndSums" ({ cls := "EndSums", name := "run", desc := "(I)I" } : Jvm.MethodName) ({ cls := "EndSums", name := "run", desc := "(I)I" } : Jvm.MethodName)) ∈ lw_all := lw_g (lw_at lw_m6 214 rfl) rfl
theorem q1499 : (Jvm.Cond.codeWith ({ cls := "EndSums", name := "run", desc := "(I)I" } : Jvm.MethodName) prog_1_method_50_code (9 : Nat) (Option.some Jvm.ClassFile.FieldType.int) [((19 : Nat), (25 : Nat), (28 : Nat), (244 : Nat))]) ∈ lw_all := lw_g (lw_at lw_m6 215 rfl) rfl
theorem q1500 : (Jvm.Cond.methodLink "EndSums" (365 : Nat) ({ cls := "EndSums", name := "readActs", desc := "(I)Ljava/util/LinkedList;" } : Jvm.MethodName)) ∈ lw_all := lw_g (lw_at lw_m6 216 rfl) rfl
theorem q1501 : (Jvm.Cond.privateMethod ({ cls := "EndSums", name := "readActs", desc := "(I)Ljava/util/LinkedList;" } : Jvm.MethodName)) ∈ lw_tbl := lw_at lw_m6 217 rfl
theorem q1502 : (Jvm.Cond.instanceMethod ({ cls := "EndSums", name := "readActs", desc := "(I)Ljava/util/LinkedList;" } : Jvm.MethodName)) ∈ lw_all := lw_g (lw_at lw_m6 218 rfl) rfl
theorem q1503 : (Jvm.Cond.code ({ cls := "EndSums", name := "readActs", desc := "(I)Ljava/util/LinkedList;" } : Jvm.MethodName) prog_1_method_48_code (8 : Nat) (Option.some (Jvm.ClassFile.FieldType.object "java/util/LinkedList"))) ∈ lw_all := lw_g (lw_at lw_m6 219 rfl) rfl
theorem q1504 : (Jvm.Cond.methodLink "EndSums" (351 : Nat) ({ cls := "java/util/LinkedList", name := "<init>", desc := "()V" } : Jvm.MethodName)) ∈ lw_all := lw_g (lw_at lw_m6 220 rfl) rfl
theorem q1505 : (Jvm.Cond.stringRef "EndSums" (352 : Nat) "fbFBr") ∈ lw_tbl := lw_at lw_m6 221 rfl
theorem q1506 : (Jvm.Cond.methodLink "EndSums" (354 : Nat) ({ cls := "java/lang/String", name := "indexOf", desc := "(I)I" } : Jvm.MethodName)) ∈ lw_all := lw_g (lw_at lw_m6 222 rfl) rfl
theorem q1556 : (Jvm.Cond.constantLong "EndSums" (359 : Nat) (57 : Int64)) ∈ lw_all := lw_g (lw_at lw_m7 32 rfl) rfl
theorem q1557 : (Jvm.Cond.methodLink "EndSums" (361 : Nat) ({ cls := "java/util/LinkedList", name := "add", desc := "(Ljava/lang/Object;)Z" } : Jvm.MethodName)) ∈ lw_all := lw_g (lw_at lw_m7 33 rfl) rfl
theorem q1565 : (Jvm.Cond.methodLink "EndSums" (369 : Nat) ({ cls := "java/util/LinkedList", name := "isEmpty", desc := "()Z" } : Jvm.MethodName)) ∈ lw_all := lw_g (lw_at lw_m7 41 rfl) rfl
theorem q1572 : (Jvm.Cond.methodLink "EndSums" (372 : Nat) ({ cls := "java/util/LinkedList", name := "poll", desc := "()Ljava/lang/Object;" } : Jvm.MethodName)) ∈ lw_all := lw_g (lw_at lw_m7 48 rfl) rfl
theorem q1580 : (Jvm.Cond.methodLink "EndSums" (375 : Nat) ({ cls := "EndSums", name := "does", desc := "(LEndSums$Line;II)Z" } : Jvm.MethodName)) ∈ lw_all := lw_g (lw_at lw_m7 56 rfl) rfl
theorem q1581 : (Jvm.Cond.privateMethod ({ cls := "EndSums", name := "does", desc := "(LEndSums$Line;II)Z" } : Jvm.MethodName)) ∈ lw_tbl := lw_at lw_m7 57 rfl
theorem q1582 : (Jvm.Cond.instanceMethod ({ cls := "EndSums", name := "does", desc := "(LEndSums$Line;II)Z" } : Jvm.MethodName)) ∈ lw_all := lw_g (lw_at lw_m7 58 rfl) rfl
theorem q1583 : (Jvm.Cond.code ({ cls := "EndSums", name := "does", desc := "(LEndSums$Line;II)Z" } : Jvm.MethodName) prog_1_method_49_code (4 : Nat) (Option.some Jvm.ClassFile.FieldType.boolean)) ∈ lw_all := lw_g (lw_at lw_m7 59 rfl) rfl
theorem q1585 : (Jvm.Cond.instanceMethod ({ cls := "EndSums", name := "sum", desc := "(I)I" } : Jvm.MethodName)) ∈ lw_all := lw_g (lw_at lw_m7 61 rfl) rfl
theorem q1586 : (Jvm.Cond.selects "EndSums" ({ cls := "EndSums", name := "sum", desc := "(I)I" } : Jvm.MethodName) ({ cls := "EndSums", name := "sum", desc := "(I)I" } : Jvm.MethodName)) ∈ lw_all := lw_g (lw_at lw_m7 62 rfl) rfl
theorem q1587 : (Jvm.Cond.code ({ cls := "EndSums", name := "sum", desc := "(I)I" } : Jvm.MethodName) prog_1_method_51_code (2 : Nat) (Option.some Jvm.ClassFile.FieldType.int)) ∈ lw_all := lw_g (lw_at lw_m7 63 rfl) rfl
theorem q1589 : (Jvm.Cond.instanceMethod ({ cls := "EndSums", name := "part", desc := "(III)I" } : Jvm.MethodName)) ∈ lw_all := lw_g (lw_at lw_m7 65 rfl) rfl
theorem q1590 : (Jvm.Cond.selects "EndSums" ({ cls := "EndSums", name := "part", desc := "(III)I" } : Jvm.MethodName) ({ cls := "EndSums", name := "part", desc := "(III)I" } : Jvm.MethodName)) ∈ lw_all := lw_g (lw_at lw_m7 66 rfl) rfl
theorem q1591 : (Jvm.Cond.code ({ cls := "EndSums", name := "part", desc := "(III)I" } : Jvm.MethodName) prog_1_method_54_code (4 : Nat) (Option.some Jvm.ClassFile.FieldType.int)) ∈ lw_all := lw_g (lw_at lw_m7 67 rfl) rfl
theorem q1592 : (Jvm.Cond.methodLink "EndSums" (395 : Nat) ({ cls := "EndSums", name := "folds", desc := "(LEndSums$Pair;[III)V" } : Jvm.MethodName)) ∈ lw_all := lw_g (lw_at lw_m7 68 rfl) rfl
theorem q1593 : (Jvm.Cond.privateMethod ({ cls := "EndSums", name := "folds", desc := "(LEndSums$Pair;[III)V" } : Jvm.MethodName)) ∈ lw_tbl := lw_at lw_m7 69 rfl
theorem q1594 : (Jvm.Cond.instanceMethod ({ cls := "EndSums", name := "folds", desc := "(LEndSums$Pair;[III)V" } : Jvm.MethodName)) ∈ lw_all := lw_g (lw_at lw_m7 70 rfl) rfl
theorem q1595 : (Jvm.Cond.code ({ cls := "EndSums", name := "folds", desc := "(LEndSums$Pair;[III)V" } : Jvm.MethodName) prog_1_method_53_code (6 : Nat) (Option.none : Option Jvm.ClassFile.FieldType)) ∈ lw_all := lw_g (lw_at lw_m7 71 rfl) rfl
theorem q1597 : (Jvm.Cond.instanceMethod ({ cls := "EndSums", name := "windows", desc := "(II)I" } : Jvm.MethodName)) ∈ lw_all := lw_g (lw_at lw_m7 73 rfl) rfl
theorem q1598 : (Jvm.Cond.selects "EndSums" ({ cls := "EndSums", name := "windows", desc := "(II)I" } : Jvm.MethodName) ({ cls := "EndSums", name := "windows", desc := "(II)I" } : Jvm.MethodName)) ∈ lw_all := lw_g (lw_at lw_m7 74 rfl) rfl
theorem q1599 : (Jvm.Cond.code ({ cls := "EndSums", name := "windows", desc := "(II)I" } : Jvm.MethodName) prog_1_method_56_code (8 : Nat) (Option.some Jvm.ClassFile.FieldType.int)) ∈ lw_all := lw_g (lw_at lw_m7 75 rfl) rfl
theorem q1600 : (Jvm.Cond.methodLink "EndSums" (399 : Nat) ({ cls := "EndSums", name := "isWindow", desc := "(I)Z" } : Jvm.MethodName)) ∈ lw_all := lw_g (lw_at lw_m7 76 rfl) rfl
theorem q1601 : (Jvm.Cond.privateMethod ({ cls := "EndSums", name := "isWindow", desc := "(I)Z" } : Jvm.MethodName)) ∈ lw_tbl := lw_at lw_m7 77 rfl
theorem q1602 : (Jvm.Cond.instanceMethod ({ cls := "EndSums", name := "isWindow", desc := "(I)Z" } : Jvm.MethodName)) ∈ lw_all := lw_g (lw_at lw_m7 78 rfl) rfl
theorem q1603 : (Jvm.Cond.code ({ cls := "EndSums", name := "isWindow", desc := "(I)Z" } : Jvm.MethodName) prog_1_method_55_code (2 : Nat) (Option.some Jvm.ClassFile.FieldType.boolean)) ∈ lw_all := lw_g (lw_at lw_m7 79 rfl) rfl
theorem q1605 : (Jvm.Cond.instanceMethod ({ cls := "EndSums", name := "first", desc := "(II)I" } : Jvm.MethodName)) ∈ lw_all := lw_g (lw_at lw_m7 81 rfl) rfl
theorem q1606 : (Jvm.Cond.selects "EndSums" ({ cls := "EndSums", name := "first", desc := "(II)I" } : Jvm.MethodName) ({ cls := "EndSums", name := "first", desc := "(II)I" } : Jvm.MethodName)) ∈ lw_all := lw_g (lw_at lw_m7 82 rfl) rfl
theorem q1607 : (Jvm.Cond.code ({ cls := "EndSums", name := "first", desc := "(II)I" } : Jvm.MethodName) prog_1_method_57_code (5 : Nat) (Option.some Jvm.ClassFile.FieldType.int)) ∈ lw_all := lw_g (lw_at lw_m7 83 rfl) rfl
theorem q1609 : (Jvm.Cond.instanceMethod ({ cls := "EndSums", name := "longest", desc := "(II)I" } : Jvm.MethodName)) ∈ lw_all := lw_g (lw_at lw_m7 85 rfl) rfl
theorem q1610 : (Jvm.Cond.selects "EndSums" ({ cls := "EndSums", name := "longest", desc := "(II)I" } : Jvm.MethodName) ({ cls := "EndSums", name := "longest", desc := "(II)I" } : Jvm.MethodName)) ∈ lw_all := lw_g (lw_at lw_m7 86 rfl) rfl
theorem q1611 : (Jvm.Cond.code ({ cls := "EndSums", name := "longest", desc := "(II)I" } : Jvm.MethodName) prog_1_method_58_code (8 : Nat) (Option.some Jvm.ClassFile.FieldType.int)) ∈ lw_all := lw_g (lw_at lw_m7 87 rfl) rfl
theorem q1613 : (Jvm.Cond.instanceMethod ({ cls := "EndSums", name := "greatest", desc := "(II)I" } : Jvm.MethodName)) ∈ lw_all := lw_g (lw_at lw_m7 89 rfl) rfl
theorem q1614 : (Jvm.Cond.selects "EndSums" ({ cls := "EndSums", name := "greatest", desc := "(II)I" } : Jvm.MethodName) ({ cls := "EndSums", name := "greatest", desc := "(II)I" } : Jvm.MethodName)) ∈ lw_all := lw_g (lw_at lw_m7 90 rfl) rfl
theorem q1615 : (Jvm.Cond.code ({ cls := "EndSums", name := "greatest", desc := "(II)I" } : Jvm.MethodName) prog_1_method_59_code (8 : Nat) (Option.some Jvm.ClassFile.FieldType.int)) ∈ lw_all := lw_g (lw_at lw_m7 91 rfl) rfl
theorem q1617 : (Jvm.Cond.instanceMethod ({ cls := "EndSums", name := "finds", desc := "(III)I" } : Jvm.MethodName)) ∈ lw_all := lw_g (lw_at lw_m7 93 rfl) rfl
theorem q1618 : (Jvm.Cond.selects "EndSums" ({ cls := "EndSums", name := "finds", desc := "(III)I" } : Jvm.MethodName) ({ cls := "EndSums", name := "finds", desc := "(III)I" } : Jvm.MethodName)) ∈ lw_all := lw_g (lw_at lw_m7 94 rfl) rfl
theorem q1619 : (Jvm.Cond.code ({ cls := "EndSums", name := "finds", desc := "(III)I" } : Jvm.MethodName) prog_1_method_60_code (9 : Nat) (Option.some Jvm.ClassFile.FieldType.int)) ∈ lw_all := lw_g (lw_at lw_m7 95 rfl) rfl
theorem q1621 : (Jvm.Cond.instanceMethod ({ cls := "EndSums", name := "drains", desc := "(I)I" } : Jvm.MethodName)) ∈ lw_all := lw_g (lw_at lw_m7 97 rfl) rfl
theorem q1622 : (Jvm.Cond.selects "EndSums" ({ cls := "EndSums", name := "drains", desc := "(I)I" } : Jvm.MethodName) ({ cls := "EndSums", name := "drains", desc := "(I)I" } : Jvm.MethodName)) ∈ lw_all := lw_g (lw_at lw_m7 98 rfl) rfl
theorem q1623 : (Jvm.Cond.code ({ cls := "EndSums", name := "drains", desc := "(I)I" } : Jvm.MethodName) prog_1_method_62_code (5 : Nat) (Option.some Jvm.ClassFile.FieldType.int)) ∈ lw_all := lw_g (lw_at lw_m7 99 rfl) rfl
theorem q1624 : (Jvm.Cond.methodLink "EndSums" (405 : Nat) ({ cls := "EndSums", name := "drainedBy", desc := "(LEndSums$Line;I)I" } : Jvm.MethodName)) ∈ lw_all := lw_g (lw_at lw_m7 100 rfl) rfl
theorem q1625 : (Jvm.Cond.privateMethod ({ cls := "EndSums", name := "drainedBy", desc := "(LEndSums$Line;I)I" } : Jvm.MethodName)) ∈ lw_tbl := lw_at lw_m7 101 rfl
theorem q1626 : (Jvm.Cond.instanceMethod ({ cls := "EndSums", name := "drainedBy", desc := "(LEndSums$Line;I)I" } : Jvm.MethodName)) ∈ lw_all := lw_g (lw_at lw_m7 102 rfl) rfl
theorem q1627 : (Jvm.Cond.code ({ cls := "EndSums", name := "drainedBy", desc := "(LEndSums$Line;I)I" } : Jvm.MethodName) prog_1_method_61_code (6 : Nat) (Option.some Jvm.ClassFile.FieldType.int)) ∈ lw_all := lw_g (lw_at lw_m7 103 rfl) rfl
theorem q1628 : (Jvm.Cond.methodLink "EndSums" (409 : Nat) ({ cls := "java/lang/Math", name := "min", desc := "(II)I" } : Jvm.MethodName)) ∈ lw_all := lw_g (lw_at lw_m7 104 rfl) rfl
theorem q1630 : (Jvm.Cond.instanceMethod ({ cls := "EndSums", name := "unlike", desc := "(I)I" } : Jvm.MethodName)) ∈ lw_all := lw_g (lw_at lw_m7 106 rfl) rfl
theorem q1631 : (Jvm.Cond.selects "EndSums" ({ cls := "EndSums", name := "unlike", desc := "(I)I" } : Jvm.MethodName) ({ cls := "EndSums", name := "unlike", desc := "(I)I" } : Jvm.MethodName)) ∈ lw_all := lw_g (lw_at lw_m7 107 rfl) rfl
theorem q1632 : (Jvm.Cond.code ({ cls := "EndSums", name := "unlike", desc := "(I)I" } : Jvm.MethodName) prog_1_method_63_code (10 : Nat) (Option.some Jvm.ClassFile.FieldType.int)) ∈ lw_all := lw_g (lw_at lw_m7 108 rfl) rfl
theorem q1634 : (Jvm.Cond.instanceMethod ({ cls := "EndSums", name := "same", desc := "(II)I" } : Jvm.MethodName)) ∈ lw_all := lw_g (lw_at lw_m7 110 rfl) rfl
theorem q1635 : (Jvm.Cond.selects "EndSums" ({ cls := "EndSums", name := "same", desc := "(II)I" } : Jvm.MethodName) ({ cls := "EndSums", name := "same", desc := "(II)I" } : Jvm.MethodName)) ∈ lw_all := lw_g (lw_at lw_m7 111 rfl) rfl
theorem q1636 : (Jvm.Cond.code ({ cls := "EndSums", name := "same", desc := "(II)I" } : Jvm.MethodName) prog_1_method_66_code (9 : Nat) (Option.some Jvm.ClassFile.FieldType.int)) ∈ lw_all := lw_g (lw_at lw_m7 112 rfl) rfl
theorem q1637 : (Jvm.Cond.methodLink "EndSums" (420 : Nat) ({ cls := "EndSums", name := "begins", desc := "()V" } : Jvm.MethodName)) ∈ lw_all := lw_g (lw_at lw_m7 113 rfl) rfl
theorem q1638 : (Jvm.Cond.privateMethod ({ cls := "EndSums", name := "begins", desc := "()V" } : Jvm.MethodName)) ∈ lw_tbl := lw_at lw_m7 114 rfl
theorem q1639 : (Jvm.Cond.instanceMethod ({ cls := "EndSums", name := "begins", desc := "()V" } : Jvm.MethodName)) ∈ lw_all := lw_g (lw_at lw_m7 115 rfl) rfl
theorem q1640 : (Jvm.Cond.code ({ cls := "EndSums", name := "begins", desc := "()V" } : Jvm.MethodName) prog_1_method_64_code (1 : Nat) (Option.none : Option Jvm.ClassFile.FieldType)) ∈ lw_all := lw_g (lw_at lw_m7 116 rfl) rfl
theorem q1641 : (Jvm.Cond.methodLink "EndSums" (423 : Nat) ({ cls := "EndSums", name := "meets", desc := "(I)I" } : Jvm.MethodName)) ∈ lw_all := lw_g (lw_at lw_m7 117 rfl) rfl
theorem q1642 : (Jvm.Cond.privateMethod ({ cls := "EndSums", name := "meets", desc := "(I)I" } : Jvm.MethodName)) ∈ lw_tbl := lw_at lw_m7 118 rfl
theorem q1643 : (Jvm.Cond.instanceMethod ({ cls := "EndSums", name := "meets", desc := "(I)I" } : Jvm.MethodName)) ∈ lw_all := lw_g (lw_at lw_m7 119 rfl) rfl
theorem q1644 : (Jvm.Cond.code ({ cls := "EndSums", name := "meets", desc := "(I)I" } : Jvm.MethodName) prog_1_method_65_code (9 : Nat) (Option.some Jvm.ClassFile.FieldType.int)) ∈ lw_all := lw_g (lw_at lw_m7 120 rfl) rfl
theorem q1645 : (Jvm.Cond.methodLink "EndSums" (417 : Nat) ({ cls := "java/lang/Integer", name := "bitCount", desc := "(I)I" } : Jvm.MethodName)) ∈ lw_all := lw_g (lw_at lw_m7 121 rfl) rfl
theorem q1652 : (Jvm.Cond.instanceMethod ({ cls := "EndSums", name := "shared", desc := "()I" } : Jvm.MethodName)) ∈ lw_all := lw_g (lw_at lw_m7 128 rfl) rfl
theorem q1653 : (Jvm.Cond.selects "EndSums" ({ cls := "EndSums", name := "shared", desc := "()I" } : Jvm.MethodName) ({ cls := "EndSums", name := "shared", desc := "()I" } : Jvm.MethodName)) ∈ lw_all := lw_g (lw_at lw_m7 129 rfl) rfl
theorem q1654 : (Jvm.Cond.code ({ cls := "EndSums", name := "shared", desc := "()I" } : Jvm.MethodName) prog_1_method_67_code (10 : Nat) (Option.some Jvm.ClassFile.FieldType.int)) ∈ lw_all := lw_g (lw_at lw_m7 130 rfl) rfl
theorem q1655 : (Jvm.Cond.methodLink "EndSums" (426 : Nat) ({ cls := "java/lang/Integer", name := "numberOfTrailingZeros", desc := "(I)I" } : Jvm.MethodName)) ∈ lw_all := lw_g (lw_at lw_m7 131 rfl) rfl
theorem q1657 : (Jvm.Cond.instanceMethod ({ cls := "EndSums", name := "would", desc := "(II)I" } : Jvm.MethodName)) ∈ lw_all := lw_g (lw_at lw_m7 133 rfl) rfl
theorem q1658 : (Jvm.Cond.selects "EndSums" ({ cls := "EndSums", name := "would", desc := "(II)I" } : Jvm.MethodName) ({ cls := "EndSums", name := "would", desc := "(II)I" } : Jvm.MethodName)) ∈ lw_all := lw_g (lw_at lw_m7 134 rfl) rfl
theorem q1659 : (Jvm.Cond.code ({ cls := "EndSums", name := "would", desc := "(II)I" } : Jvm.MethodName) prog_1_method_68_code (7 : Nat) (Option.some Jvm.ClassFile.FieldType.int)) ∈ lw_all := lw_g (lw_at lw_m7 135 rfl) rfl
theorem q1661 : (Jvm.Cond.instanceMethod ({ cls := "EndSums", name := "dearest", desc := "(II)I" } : Jvm.MethodName)) ∈ lw_all := lw_g (lw_at lw_m7 137 rfl) rfl
theorem q1662 : (Jvm.Cond.selects "EndSums" ({ cls := "EndSums", name := "dearest", desc := "(II)I" } : Jvm.MethodName) ({ cls := "EndSums", name := "dearest", desc := "(II)I" } : Jvm.MethodName)) ∈ lw_all := lw_g (lw_at lw_m7 138 rfl) rfl
theorem q1663 : (Jvm.Cond.code ({ cls := "EndSums", name := "dearest", desc := "(II)I" } : Jvm.MethodName) prog_1_method_70_code (4 : Nat) (Option.some Jvm.ClassFile.FieldType.int)) ∈ lw_all := lw_g (lw_at lw_m7 139 rfl) rfl
theorem q1664 : (Jvm.Cond.constantLong "EndSums" (439 : Nat) (12 : Int64)) ∈ lw_all := lw_g (lw_at lw_m7 140 rfl) rfl
theorem q1665 : (Jvm.Cond.methodLink "EndSums" (435 : Nat) ({ cls := "EndSums", name := "tries", desc := "(IIIIII)V" } : Jvm.MethodName)) ∈ lw_all := lw_g (lw_at lw_m7 141 rfl) rfl
theorem q1666 : (Jvm.Cond.privateMethod ({ cls := "EndSums", name := "tries", desc := "(IIIIII)V" } : Jvm.MethodName)) ∈ lw_tbl := lw_at lw_m7 142 rfl
theorem q1667 : (Jvm.Cond.instanceMethod ({ cls := "EndSums", name := "tries", desc := "(IIIIII)V" } : Jvm.MethodName)) ∈ lw_all := lw_g (lw_at lw_m7 143 rfl) rfl
theorem q1668 : (Jvm.Cond.code ({ cls := "EndSums", name := "tries", desc := "(IIIIII)V" } : Jvm.MethodName) prog_1_method_69_code (10 : Nat) (Option.none : Option Jvm.ClassFile.FieldType)) ∈ lw_all := lw_g (lw_at lw_m7 144 rfl) rfl
theorem q1670 : (Jvm.Cond.instanceMethod ({ cls := "EndSums", name := "count", desc := "(I)I" } : Jvm.MethodName)) ∈ lw_all := lw_g (lw_at lw_m7 146 rfl) rfl
theorem q1671 : (Jvm.Cond.selects "EndSums" ({ cls := "EndSums", name := "count", desc := "(I)I" } : Jvm.MethodName) ({ cls := "EndSums", name := "count", desc := "(I)I" } : Jvm.MethodName)) ∈ lw_all := lw_g (lw_at lw_m7 147 rfl) rfl
theorem q1672 : (Jvm.Cond.code ({ cls := "EndSums", name := "count", desc := "(I)I" } : Jvm.MethodName) prog_1_method_71_code (2 : Nat) (Option.some Jvm.ClassFile.FieldType.int)) ∈ lw_all := lw_g (lw_at lw_m7 148 rfl) rfl
theorem q1678 : (Jvm.Cond.instanceMethod ({ cls := "EndSums", name := "item", desc := "(II)I" } : Jvm.MethodName)) ∈ lw_all := lw_g (lw_at lw_m7 154 rfl) rfl
theorem q1679 : (Jvm.Cond.selects "EndSums" ({ cls := "EndSums", name := "item", desc := "(II)I" } : Jvm.MethodName) ({ cls := "EndSums", name := "item", desc := "(II)I" } : Jvm.MethodName)) ∈ lw_all := lw_g (lw_at lw_m7 155 rfl) rfl
theorem q1680 : (Jvm.Cond.code ({ cls := "EndSums", name := "item", desc := "(II)I" } : Jvm.MethodName) prog_1_method_52_code (8 : Nat) (Option.some Jvm.ClassFile.FieldType.int)) ∈ lw_all := lw_g (lw_at lw_m7 156 rfl) rfl
theorem q1681 : (Jvm.Cond.classLink "EndSums" (379 : Nat) "java/util/NoSuchElementException") ∈ lw_all := lw_g (lw_at lw_m7 157 rfl) rfl
theorem q1682 : (Jvm.Cond.methodLink "EndSums" (381 : Nat) ({ cls := "java/util/NoSuchElementException", name := "<init>", desc := "()V" } : Jvm.MethodName)) ∈ lw_all := lw_g (lw_at lw_m7 158 rfl) rfl
theorem q1687 : (Jvm.Cond.instanceMethod ({ cls := "EndSums", name := "row", desc := "(I)J" } : Jvm.MethodName)) ∈ lw_all := lw_g (lw_at lw_m7 163 rfl) rfl
theorem q1688 : (Jvm.Cond.selects "EndSums" ({ cls := "EndSums", name := "row", desc := "(I)J" } : Jvm.MethodName) ({ cls := "EndSums", name := "row", desc := "(I)J" } : Jvm.MethodName)) ∈ lw_all := lw_g (lw_at lw_m7 164 rfl) rfl
theorem q1689 : (Jvm.Cond.code ({ cls := "EndSums", name := "row", desc := "(I)J" } : Jvm.MethodName) prog_1_method_72_code (2 : Nat) (Option.some Jvm.ClassFile.FieldType.long)) ∈ lw_all := lw_g (lw_at lw_m7 165 rfl) rfl
theorem q2159 : (Jvm.Cond.castable "EndSums" "java/lang/Object") ∈ lw_tbl := lw_at lw_m9 155 rfl
theorem in_X1 : ∀ w ∈ wsX10, w ∈ lw_all := lw_in wsX10 [543, 545, 547, 549, 551, 553, 555, 557, 559, 561, 563, 565, 567, 569, 571, 573, 575, 577, 579, 581, 583, 585, 587, 589, 591, 593, 595, 597] (by decide +kernel) (by decide +kernel)
/-! java/lang/Math -/
def RJ0 : String := "java/lang/Math"
abbrev cJ0_min : ByteArray := prog_22_method_70_code
def yJ0_min : MethodName := ⟨RJ0, "min", "(JJ)J"⟩
abbrev cJ0_max : ByteArray := prog_22_method_66_code
def yJ0_max : MethodName := ⟨RJ0, "max", "(JJ)J"⟩
abbrev cJ0_min_2 : ByteArray := prog_22_method_69_code
def yJ0_min_2 : MethodName := ⟨RJ0, "min", "(II)I"⟩
abbrev cJ0_max_2 : ByteArray := prog_22_method_65_code
def yJ0_max_2 : MethodName := ⟨RJ0, "max", "(II)I"⟩
theorem q86 : (Jvm.Cond.initialized "java/lang/Math") ∈ lw_all := lw_g (lw_at lw_m1 2 rfl) rfl
theorem q175 : (Jvm.Cond.static ({ cls := "java/lang/Math", name := "min", desc := "(JJ)J" } : Jvm.MethodName)) ∈ lw_all := lw_g (lw_at lw_m1 91 rfl) rfl
theorem q176 : (Jvm.Cond.code ({ cls := "java/lang/Math", name := "min", desc := "(JJ)J" } : Jvm.MethodName) prog_22_method_70_code (4 : Nat) (Option.some Jvm.ClassFile.FieldType.long)) ∈ lw_all := lw_g (lw_at lw_m1 92 rfl) rfl
theorem q178 : (Jvm.Cond.static ({ cls := "java/lang/Math", name := "max", desc := "(JJ)J" } : Jvm.MethodName)) ∈ lw_all := lw_g (lw_at lw_m1 94 rfl) rfl
theorem q179 : (Jvm.Cond.code ({ cls := "java/lang/Math", name := "max", desc := "(JJ)J" } : Jvm.MethodName) prog_22_method_66_code (4 : Nat) (Option.some Jvm.ClassFile.FieldType.long)) ∈ lw_all := lw_g (lw_at lw_m1 95 rfl) rfl
theorem q429 : (Jvm.Cond.static ({ cls := "java/lang/Math", name := "min", desc := "(II)I" } : Jvm.MethodName)) ∈ lw_all := lw_g (lw_at lw_m2 105 rfl) rfl
theorem q430 : (Jvm.Cond.code ({ cls := "java/lang/Math", name := "min", desc := "(II)I" } : Jvm.MethodName) prog_22_method_69_code (2 : Nat) (Option.some Jvm.ClassFile.FieldType.int)) ∈ lw_all := lw_g (lw_at lw_m2 106 rfl) rfl
theorem q509 : (Jvm.Cond.static ({ cls := "java/lang/Math", name := "max", desc := "(II)I" } : Jvm.MethodName)) ∈ lw_all := lw_g (lw_at lw_m2 185 rfl) rfl
theorem q510 : (Jvm.Cond.code ({ cls := "java/lang/Math", name := "max", desc := "(II)I" } : Jvm.MethodName) prog_22_method_65_code (2 : Nat) (Option.some Jvm.ClassFile.FieldType.int)) ∈ lw_all := lw_g (lw_at lw_m2 186 rfl) rfl
/-! EndSums$Pair -/
def RX2 : String := "EndSums$Pair"
def TX2 : u_T := fun k => match k with
  | 0 => ("EndSums$Pair", "p", "J", false)
  | _ => ("EndSums$Pair", "q", "J", false)
def tyX2 : Nat → FieldType := fun k => match k with
  | 0 => .long
  | _ => .long
abbrev wsX20 : List Cond := u_ws RX2 TX2 2
theorem nmX2 : ∀ a, a < 2 → ∀ b, b < 2 → a ≠ b → (TX2 a).2.1 ≠ (TX2 b).2.1 := by decide +kernel
theorem tyX2_ok : ∀ k, k < 2 → parseFieldDescriptor (TX2 k).2.2.1 = some (tyX2 k) := by decide +kernel
abbrev cX2_is : ByteArray := prog_7_method_2_code
def yX2_is : MethodName := ⟨RX2, "is", "(JJ)V"⟩
abbrev cX2_init : ByteArray := prog_7_method_1_code
def yX2_init : MethodName := ⟨RX2, "<init>", "()V"⟩
abbrev cX2_isLike : ByteArray := prog_7_method_3_code
def yX2_isLike : MethodName := ⟨RX2, "isLike", "(LEndSums$Pair;)Z"⟩
theorem q87 : (Jvm.Cond.initialized "EndSums$Pair") ∈ lw_all := lw_g (lw_at lw_m1 3 rfl) rfl
theorem q142 : (Jvm.Cond.instanceMethod ({ cls := "EndSums$Pair", name := "is", desc := "(JJ)V" } : Jvm.MethodName)) ∈ lw_all := lw_g (lw_at lw_m1 58 rfl) rfl
theorem q143 : (Jvm.Cond.selects "EndSums$Pair" ({ cls := "EndSums$Pair", name := "is", desc := "(JJ)V" } : Jvm.MethodName) ({ cls := "EndSums$Pair", name := "is", desc := "(JJ)V" } : Jvm.MethodName)) ∈ lw_all := lw_g (lw_at lw_m1 59 rfl) rfl
theorem q144 : (Jvm.Cond.sameMethod "EndSums$Pair" "EndSums$Pair" "is" "(JJ)V") ∈ lw_all := lw_g (lw_at lw_m1 60 rfl) rfl
theorem q146 : (Jvm.Cond.code ({ cls := "EndSums$Pair", name := "is", desc := "(JJ)V" } : Jvm.MethodName) prog_7_method_2_code (5 : Nat) (Option.none : Option Jvm.ClassFile.FieldType)) ∈ lw_all := lw_g (lw_at lw_m1 62 rfl) rfl
theorem q212 : (Jvm.Cond.instantiable "EndSums$Pair" (2 : Nat)) ∈ lw_all := lw_g (lw_at lw_m1 128 rfl) rfl
theorem q214 : (Jvm.Cond.instanceMethod ({ cls := "EndSums$Pair", name := "<init>", desc := "()V" } : Jvm.MethodName)) ∈ lw_all := lw_g (lw_at lw_m1 130 rfl) rfl
theorem q215 : (Jvm.Cond.code ({ cls := "EndSums$Pair", name := "<init>", desc := "()V" } : Jvm.MethodName) prog_7_method_1_code (1 : Nat) (Option.none : Option Jvm.ClassFile.FieldType)) ∈ lw_all := lw_g (lw_at lw_m1 131 rfl) rfl
theorem q216 : (Jvm.Cond.methodLink "EndSums$Pair" (1 : Nat) ({ cls := "java/lang/Object", name := "<init>", desc := "()V" } : Jvm.MethodName)) ∈ lw_all := lw_g (lw_at lw_m1 132 rfl) rfl
theorem q217 : (Jvm.Cond.fieldLink "EndSums$Pair" (7 : Nat) "EndSums$Pair" "p" "J") ∈ lw_all := lw_g (lw_at lw_m1 133 rfl) rfl
theorem q221 : (Jvm.Cond.fieldLink "EndSums$Pair" (13 : Nat) "EndSums$Pair" "q" "J") ∈ lw_all := lw_g (lw_at lw_m1 137 rfl) rfl
theorem q225 : (Jvm.Cond.lays "EndSums$Pair" "EndSums$Pair" "p" "J") ∈ lw_all := lw_g (lw_at lw_m1 141 rfl) rfl
theorem q226 : (Jvm.Cond.soleField "EndSums$Pair" "p") ∈ lw_all := lw_g (lw_at lw_m1 142 rfl) rfl
theorem q227 : (Jvm.Cond.lays "EndSums$Pair" "EndSums$Pair" "q" "J") ∈ lw_all := lw_g (lw_at lw_m1 143 rfl) rfl
theorem q228 : (Jvm.Cond.soleField "EndSums$Pair" "q") ∈ lw_all := lw_g (lw_at lw_m1 144 rfl) rfl
theorem q229 : (Jvm.Cond.superclass "EndSums$Pair" "java/lang/Object") ∈ lw_all := lw_g (lw_at lw_m1 145 rfl) rfl
theorem q268 : (Jvm.Cond.selects "EndSums$Pair" ({ cls := "java/lang/Object", name := "getClass", desc := "()Ljava/lang/Class;" } : Jvm.MethodName) ({ cls := "java/lang/Object", name := "getClass", desc := "()Ljava/lang/Class;" } : Jvm.MethodName)) ∈ lw_all := lw_g (lw_at lw_m1 184 rfl) rfl
theorem q1389 : (Jvm.Cond.instanceMethod ({ cls := "EndSums$Pair", name := "isLike", desc := "(LEndSums$Pair;)Z" } : Jvm.MethodName)) ∈ lw_all := lw_g (lw_at lw_m6 105 rfl) rfl
theorem q1390 : (Jvm.Cond.selects "EndSums$Pair" ({ cls := "EndSums$Pair", name := "isLike", desc := "(LEndSums$Pair;)Z" } : Jvm.MethodName) ({ cls := "EndSums$Pair", name := "isLike", desc := "(LEndSums$Pair;)Z" } : Jvm.MethodName)) ∈ lw_all := lw_g (lw_at lw_m6 106 rfl) rfl
theorem q1391 : (Jvm.Cond.sameMethod "EndSums$Pair" "EndSums$Pair" "isLike" "(LEndSums$Pair;)Z") ∈ lw_all := lw_g (lw_at lw_m6 107 rfl) rfl
theorem q1393 : (Jvm.Cond.code ({ cls := "EndSums$Pair", name := "isLike", desc := "(LEndSums$Pair;)Z" } : Jvm.MethodName) prog_7_method_3_code (2 : Nat) (Option.some Jvm.ClassFile.FieldType.boolean)) ∈ lw_all := lw_g (lw_at lw_m6 109 rfl) rfl
theorem q2160 : (Jvm.Cond.castable "EndSums$Pair" "java/lang/Object") ∈ lw_tbl := lw_at lw_m9 156 rfl
theorem in_X2 : ∀ w ∈ wsX20, w ∈ lw_all := lw_in wsX20 [225, 227] (by decide +kernel) (by decide +kernel)
/-! EndSums$Line -/
def RX3 : String := "EndSums$Line"
def TX3 : u_T := fun k => match k with
  | 0 => ("EndSums$Line", "top", "[LEndSums$Cell;", true)
  | 1 => ("EndSums$Line", "many", "[I", true)
  | _ => ("EndSums$Line", "this$0", "LEndSums;", true)
def tyX3 : Nat → FieldType := fun k => match k with
  | 0 => .array (.object "EndSums$Cell")
  | 1 => .array .int
  | _ => .object "EndSums"
abbrev wsX30 : List Cond := u_ws RX3 TX3 3
theorem nmX3 : ∀ a, a < 3 → ∀ b, b < 3 → a ≠ b → (TX3 a).2.1 ≠ (TX3 b).2.1 := by decide +kernel
theorem tyX3_ok : ∀ k, k < 3 → parseFieldDescriptor (TX3 k).2.2.1 = some (tyX3 k) := by decide +kernel
abbrev cX3_init : ByteArray := prog_5_method_1_code
def yX3_init : MethodName := ⟨RX3, "<init>", "(LEndSums;)V"⟩
abbrev cX3_anew : ByteArray := prog_5_method_8_code
def yX3_anew : MethodName := ⟨RX3, "anew", "(I)V"⟩
abbrev cX3_lay : ByteArray := prog_5_method_6_code
def yX3_lay : MethodName := ⟨RX3, "lay", "([I)I"⟩
abbrev cX3_lays : ByteArray := prog_5_method_7_code
def yX3_lays : MethodName := ⟨RX3, "lays", "([IIII)V"⟩
abbrev cX3_empties : ByteArray := prog_5_method_4_code
def yX3_empties : MethodName := ⟨RX3, "empties", "()V"⟩
abbrev cX3_put : ByteArray := prog_5_method_5_code
def yX3_put : MethodName := ⟨RX3, "put", "(II)V"⟩
abbrev cX3_size : ByteArray := prog_5_method_2_code
def yX3_size : MethodName := ⟨RX3, "size", "()I"⟩
abbrev cX3_take : ByteArray := prog_5_method_9_code
def yX3_take : MethodName := ⟨RX3, "take", "(I)I"⟩
abbrev cX3_be : ByteArray := prog_5_method_3_code
def yX3_be : MethodName := ⟨RX3, "be", "(LEndSums$Line;)V"⟩
abbrev cX3_alters : ByteArray := prog_5_method_13_code
def yX3_alters : MethodName := ⟨RX3, "alters", "(IZZI)I"⟩
abbrev cX3_endOf : ByteArray := prog_5_method_10_code
def yX3_endOf : MethodName := ⟨RX3, "endOf", "(I)I"⟩
abbrev cX3_lifts : ByteArray := prog_5_method_11_code
def yX3_lifts : MethodName := ⟨RX3, "lifts", "(II[I)V"⟩
abbrev cX3_puts0 : ByteArray := prog_5_method_12_code
def yX3_puts0 : MethodName := ⟨RX3, "puts0", "(II[I)V"⟩
abbrev cX3_sums : ByteArray := prog_5_method_14_code
def yX3_sums : MethodName := ⟨RX3, "sums", "(LEndSums$Pair;)V"⟩
theorem q88 : (Jvm.Cond.initialized "EndSums$Line") ∈ lw_all := lw_g (lw_at lw_m1 4 rfl) rfl
theorem q219 : (Jvm.Cond.fieldLink "EndSums$Line" (116 : Nat) "EndSums$Cell" "p" "J") ∈ lw_all := lw_g (lw_at lw_m1 135 rfl) rfl
theorem q223 : (Jvm.Cond.fieldLink "EndSums$Line" (119 : Nat) "EndSums$Cell" "q" "J") ∈ lw_all := lw_g (lw_at lw_m1 139 rfl) rfl
theorem q232 : (Jvm.Cond.instantiable "EndSums$Line" (3 : Nat)) ∈ lw_all := lw_g (lw_at lw_m1 148 rfl) rfl
theorem q234 : (Jvm.Cond.instanceMethod ({ cls := "EndSums$Line", name := "<init>", desc := "(LEndSums;)V" } : Jvm.MethodName)) ∈ lw_all := lw_g (lw_at lw_m1 150 rfl) rfl
theorem q235 : (Jvm.Cond.code ({ cls := "EndSums$Line", name := "<init>", desc := "(LEndSums;)V" } : Jvm.MethodName) prog_5_method_1_code (2 : Nat) (Option.none : Option Jvm.ClassFile.FieldType)) ∈ lw_all := lw_g (lw_at lw_m1 151 rfl) rfl
theorem q236 : (Jvm.Cond.methodLink "EndSums$Line" (9 : Nat) ({ cls := "java/lang/Object", name := "<init>", desc := "()V" } : Jvm.MethodName)) ∈ lw_all := lw_g (lw_at lw_m1 152 rfl) rfl
theorem q237 : (Jvm.Cond.classLink "EndSums$Line" (15 : Nat) "EndSums$Cell") ∈ lw_all := lw_g (lw_at lw_m1 153 rfl) rfl
theorem q239 : (Jvm.Cond.fieldLink "EndSums$Line" (17 : Nat) "EndSums$Line" "top" "[LEndSums$Cell;") ∈ lw_all := lw_g (lw_at lw_m1 155 rfl) rfl
theorem q241 : (Jvm.Cond.fieldLink "EndSums$Line" (21 : Nat) "EndSums$Line" "many" "[I") ∈ lw_all := lw_g (lw_at lw_m1 157 rfl) rfl
theorem q243 : (Jvm.Cond.fieldLink "EndSums$Line" (3 : Nat) "EndSums$Line" "this$0" "LEndSums;") ∈ lw_all := lw_g (lw_at lw_m1 159 rfl) rfl
theorem q244 : (Jvm.Cond.laysFinal "EndSums$Line" "EndSums$Line" "top" "[LEndSums$Cell;") ∈ lw_all := lw_g (lw_at lw_m1 160 rfl) rfl
theorem q245 : (Jvm.Cond.soleField "EndSums$Line" "top") ∈ lw_all := lw_g (lw_at lw_m1 161 rfl) rfl
theorem q246 : (Jvm.Cond.laysFinal "EndSums$Line" "EndSums$Line" "many" "[I") ∈ lw_all := lw_g (lw_at lw_m1 162 rfl) rfl
theorem q247 : (Jvm.Cond.soleField "EndSums$Line" "many") ∈ lw_all := lw_g (lw_at lw_m1 163 rfl) rfl
theorem q248 : (Jvm.Cond.laysFinal "EndSums$Line" "EndSums$Line" "this$0" "LEndSums;") ∈ lw_all := lw_g (lw_at lw_m1 164 rfl) rfl
theorem q249 : (Jvm.Cond.soleField "EndSums$Line" "this$0") ∈ lw_all := lw_g (lw_at lw_m1 165 rfl) rfl
theorem q250 : (Jvm.Cond.superclass "EndSums$Line" "java/lang/Object") ∈ lw_all := lw_g (lw_at lw_m1 166 rfl) rfl
theorem q267 : (Jvm.Cond.selects "EndSums$Line" ({ cls := "java/lang/Object", name := "getClass", desc := "()Ljava/lang/Class;" } : Jvm.MethodName) ({ cls := "java/lang/Object", name := "getClass", desc := "()Ljava/lang/Class;" } : Jvm.MethodName)) ∈ lw_all := lw_g (lw_at lw_m1 183 rfl) rfl
theorem q519 : (Jvm.Cond.fieldLinkNest "EndSums$Line" (36 : Nat) "EndSums" "work" "J" "EndSums") ∈ lw_tbl := lw_at lw_m2 195 rfl
theorem q521 : (Jvm.Cond.fieldLinkNest "EndSums$Line" (91 : Nat) "EndSums" "rebuilt" "I" "EndSums") ∈ lw_tbl := lw_at lw_m2 197 rfl
theorem q528 : (Jvm.Cond.fieldLinkNest "EndSums$Line" (76 : Nat) "EndSums" "row0" "[I" "EndSums") ∈ lw_tbl := lw_at lw_m2 204 rfl
theorem q530 : (Jvm.Cond.fieldLinkNest "EndSums$Line" (102 : Nat) "EndSums" "row1" "[I" "EndSums") ∈ lw_tbl := lw_at lw_m2 206 rfl
theorem q1103 : (Jvm.Cond.instanceMethod ({ cls := "EndSums$Line", name := "anew", desc := "(I)V" } : Jvm.MethodName)) ∈ lw_all := lw_g (lw_at lw_m5 59 rfl) rfl
theorem q1104 : (Jvm.Cond.selects "EndSums$Line" ({ cls := "EndSums$Line", name := "anew", desc := "(I)V" } : Jvm.MethodName) ({ cls := "EndSums$Line", name := "anew", desc := "(I)V" } : Jvm.MethodName)) ∈ lw_all := lw_g (lw_at lw_m5 60 rfl) rfl
theorem q1105 : (Jvm.Cond.code ({ cls := "EndSums$Line", name := "anew", desc := "(I)V" } : Jvm.MethodName) prog_5_method_8_code (3 : Nat) (Option.none : Option Jvm.ClassFile.FieldType)) ∈ lw_all := lw_g (lw_at lw_m5 61 rfl) rfl
theorem q1106 : (Jvm.Cond.methodLink "EndSums$Line" (79 : Nat) ({ cls := "EndSums$Line", name := "lay", desc := "([I)I" } : Jvm.MethodName)) ∈ lw_all := lw_g (lw_at lw_m5 62 rfl) rfl
theorem q1107 : (Jvm.Cond.instanceMethod ({ cls := "EndSums$Line", name := "lay", desc := "([I)I" } : Jvm.MethodName)) ∈ lw_all := lw_g (lw_at lw_m5 63 rfl) rfl
theorem q1108 : (Jvm.Cond.selects "EndSums$Line" ({ cls := "EndSums$Line", name := "lay", desc := "([I)I" } : Jvm.MethodName) ({ cls := "EndSums$Line", name := "lay", desc := "([I)I" } : Jvm.MethodName)) ∈ lw_all := lw_g (lw_at lw_m5 64 rfl) rfl
theorem q1109 : (Jvm.Cond.code ({ cls := "EndSums$Line", name := "lay", desc := "([I)I" } : Jvm.MethodName) prog_5_method_6_code (6 : Nat) (Option.some Jvm.ClassFile.FieldType.int)) ∈ lw_all := lw_g (lw_at lw_m5 65 rfl) rfl
theorem q1110 : (Jvm.Cond.classLink "EndSums$Line" (48 : Nat) "java/util/ArrayDeque") ∈ lw_all := lw_g (lw_at lw_m5 66 rfl) rfl
theorem q1111 : (Jvm.Cond.methodLink "EndSums$Line" (50 : Nat) ({ cls := "java/util/ArrayDeque", name := "<init>", desc := "()V" } : Jvm.MethodName)) ∈ lw_all := lw_g (lw_at lw_m5 67 rfl) rfl
theorem q1128 : (Jvm.Cond.methodLink "EndSums$Line" (51 : Nat) ({ cls := "java/util/ArrayDeque", name := "push", desc := "(Ljava/lang/Object;)V" } : Jvm.MethodName)) ∈ lw_all := lw_g (lw_at lw_m5 84 rfl) rfl
theorem q1150 : (Jvm.Cond.methodLink "EndSums$Line" (55 : Nat) ({ cls := "java/util/ArrayDeque", name := "iterator", desc := "()Ljava/util/Iterator;" } : Jvm.MethodName)) ∈ lw_all := lw_g (lw_at lw_m5 106 rfl) rfl
theorem q1180 : (Jvm.Cond.interfaceEntry "EndSums$Line" (59 : Nat)) ∈ lw_tbl := lw_at lw_m5 136 rfl
theorem q1181 : (Jvm.Cond.methodLink "EndSums$Line" (59 : Nat) ({ cls := "java/util/Iterator", name := "hasNext", desc := "()Z" } : Jvm.MethodName)) ∈ lw_all := lw_g (lw_at lw_m5 137 rfl) rfl
theorem q1182 : (Jvm.Cond.interfaceEntry "EndSums$Line" (65 : Nat)) ∈ lw_tbl := lw_at lw_m5 138 rfl
theorem q1183 : (Jvm.Cond.methodLink "EndSums$Line" (65 : Nat) ({ cls := "java/util/Iterator", name := "next", desc := "()Ljava/lang/Object;" } : Jvm.MethodName)) ∈ lw_all := lw_g (lw_at lw_m5 139 rfl) rfl
theorem q1184 : (Jvm.Cond.methodLink "EndSums$Line" (83 : Nat) ({ cls := "EndSums$Line", name := "lays", desc := "([IIII)V" } : Jvm.MethodName)) ∈ lw_all := lw_g (lw_at lw_m5 140 rfl) rfl
theorem q1185 : (Jvm.Cond.instanceMethod ({ cls := "EndSums$Line", name := "lays", desc := "([IIII)V" } : Jvm.MethodName)) ∈ lw_all := lw_g (lw_at lw_m5 141 rfl) rfl
theorem q1186 : (Jvm.Cond.selects "EndSums$Line" ({ cls := "EndSums$Line", name := "lays", desc := "([IIII)V" } : Jvm.MethodName) ({ cls := "EndSums$Line", name := "lays", desc := "([IIII)V" } : Jvm.MethodName)) ∈ lw_all := lw_g (lw_at lw_m5 142 rfl) rfl
theorem q1187 : (Jvm.Cond.code ({ cls := "EndSums$Line", name := "lays", desc := "([IIII)V" } : Jvm.MethodName) prog_5_method_7_code (6 : Nat) (Option.none : Option Jvm.ClassFile.FieldType)) ∈ lw_all := lw_g (lw_at lw_m5 143 rfl) rfl
theorem q1188 : (Jvm.Cond.methodLink "EndSums$Line" (69 : Nat) ({ cls := "EndSums$Line", name := "empties", desc := "()V" } : Jvm.MethodName)) ∈ lw_all := lw_g (lw_at lw_m5 144 rfl) rfl
theorem q1189 : (Jvm.Cond.instanceMethod ({ cls := "EndSums$Line", name := "empties", desc := "()V" } : Jvm.MethodName)) ∈ lw_all := lw_g (lw_at lw_m5 145 rfl) rfl
theorem q1190 : (Jvm.Cond.selects "EndSums$Line" ({ cls := "EndSums$Line", name := "empties", desc := "()V" } : Jvm.MethodName) ({ cls := "EndSums$Line", name := "empties", desc := "()V" } : Jvm.MethodName)) ∈ lw_all := lw_g (lw_at lw_m5 146 rfl) rfl
theorem q1191 : (Jvm.Cond.code ({ cls := "EndSums$Line", name := "empties", desc := "()V" } : Jvm.MethodName) prog_5_method_4_code (2 : Nat) (Option.none : Option Jvm.ClassFile.FieldType)) ∈ lw_all := lw_g (lw_at lw_m5 147 rfl) rfl
theorem q1192 : (Jvm.Cond.methodLink "EndSums$Line" (72 : Nat) ({ cls := "EndSums$Line", name := "put", desc := "(II)V" } : Jvm.MethodName)) ∈ lw_all := lw_g (lw_at lw_m5 148 rfl) rfl
theorem q1193 : (Jvm.Cond.instanceMethod ({ cls := "EndSums$Line", name := "put", desc := "(II)V" } : Jvm.MethodName)) ∈ lw_all := lw_g (lw_at lw_m5 149 rfl) rfl
theorem q1194 : (Jvm.Cond.selects "EndSums$Line" ({ cls := "EndSums$Line", name := "put", desc := "(II)V" } : Jvm.MethodName) ({ cls := "EndSums$Line", name := "put", desc := "(II)V" } : Jvm.MethodName)) ∈ lw_all := lw_g (lw_at lw_m5 150 rfl) rfl
theorem q1195 : (Jvm.Cond.code ({ cls := "EndSums$Line", name := "put", desc := "(II)V" } : Jvm.MethodName) prog_5_method_5_code (4 : Nat) (Option.none : Option Jvm.ClassFile.FieldType)) ∈ lw_all := lw_g (lw_at lw_m5 151 rfl) rfl
theorem q1197 : (Jvm.Cond.methodLink "EndSums$Line" (25 : Nat) ({ cls := "EndSums$Cell", name := "<init>", desc := "(ILEndSums$Cell;)V" } : Jvm.MethodName)) ∈ lw_all := lw_g (lw_at lw_m5 153 rfl) rfl
theorem q1202 : (Jvm.Cond.fieldLinkNest "EndSums$Line" (40 : Nat) "EndSums$Cell" "item" "I" "EndSums") ∈ lw_tbl := lw_at lw_m5 158 rfl
theorem q1205 : (Jvm.Cond.fieldLinkNest "EndSums$Line" (44 : Nat) "EndSums$Cell" "below" "LEndSums$Cell;" "EndSums") ∈ lw_tbl := lw_at lw_m5 161 rfl
theorem q1220 : (Jvm.Cond.methodLinkNest "EndSums$Line" (28 : Nat) ({ cls := "EndSums", name := "make", desc := "(LEndSums$Pair;I)V" } : Jvm.MethodName) "EndSums") ∈ lw_tbl := lw_at lw_m5 176 rfl
theorem q1228 : (Jvm.Cond.methodLinkNest "EndSums$Line" (32 : Nat) ({ cls := "EndSums", name := "join", desc := "(LEndSums$Pair;LEndSums$Pair;LEndSums$Pair;)V" } : Jvm.MethodName) "EndSums") ∈ lw_tbl := lw_at lw_m5 184 rfl
theorem q1408 : (Jvm.Cond.instanceMethod ({ cls := "EndSums$Line", name := "size", desc := "()I" } : Jvm.MethodName)) ∈ lw_all := lw_g (lw_at lw_m6 124 rfl) rfl
theorem q1409 : (Jvm.Cond.selects "EndSums$Line" ({ cls := "EndSums$Line", name := "size", desc := "()I" } : Jvm.MethodName) ({ cls := "EndSums$Line", name := "size", desc := "()I" } : Jvm.MethodName)) ∈ lw_all := lw_g (lw_at lw_m6 125 rfl) rfl
theorem q1410 : (Jvm.Cond.code ({ cls := "EndSums$Line", name := "size", desc := "()I" } : Jvm.MethodName) prog_5_method_2_code (1 : Nat) (Option.some Jvm.ClassFile.FieldType.int)) ∈ lw_all := lw_g (lw_at lw_m6 126 rfl) rfl
theorem q1417 : (Jvm.Cond.instanceMethod ({ cls := "EndSums$Line", name := "take", desc := "(I)I" } : Jvm.MethodName)) ∈ lw_all := lw_g (lw_at lw_m6 133 rfl) rfl
theorem q1418 : (Jvm.Cond.selects "EndSums$Line" ({ cls := "EndSums$Line", name := "take", desc := "(I)I" } : Jvm.MethodName) ({ cls := "EndSums$Line", name := "take", desc := "(I)I" } : Jvm.MethodName)) ∈ lw_all := lw_g (lw_at lw_m6 134 rfl) rfl
theorem q1419 : (Jvm.Cond.code ({ cls := "EndSums$Line", name := "take", desc := "(I)I" } : Jvm.MethodName) prog_5_method_9_code (3 : Nat) (Option.some Jvm.ClassFile.FieldType.int)) ∈ lw_all := lw_g (lw_at lw_m6 135 rfl) rfl
theorem q1420 : (Jvm.Cond.methodLink "EndSums$Line" (87 : Nat) ({ cls := "EndSums$Line", name := "size", desc := "()I" } : Jvm.MethodName)) ∈ lw_all := lw_g (lw_at lw_m6 136 rfl) rfl
theorem q1421 : (Jvm.Cond.methodLink "EndSums$Line" (94 : Nat) ({ cls := "EndSums$Line", name := "anew", desc := "(I)V" } : Jvm.MethodName)) ∈ lw_all := lw_g (lw_at lw_m6 137 rfl) rfl
theorem q1427 : (Jvm.Cond.instanceMethod ({ cls := "EndSums$Line", name := "be", desc := "(LEndSums$Line;)V" } : Jvm.MethodName)) ∈ lw_all := lw_g (lw_at lw_m6 143 rfl) rfl
theorem q1428 : (Jvm.Cond.selects "EndSums$Line" ({ cls := "EndSums$Line", name := "be", desc := "(LEndSums$Line;)V" } : Jvm.MethodName) ({ cls := "EndSums$Line", name := "be", desc := "(LEndSums$Line;)V" } : Jvm.MethodName)) ∈ lw_all := lw_g (lw_at lw_m6 144 rfl) rfl
theorem q1429 : (Jvm.Cond.code ({ cls := "EndSums$Line", name := "be", desc := "(LEndSums$Line;)V" } : Jvm.MethodName) prog_5_method_3_code (3 : Nat) (Option.none : Option Jvm.ClassFile.FieldType)) ∈ lw_all := lw_g (lw_at lw_m6 145 rfl) rfl
theorem q1453 : (Jvm.Cond.instanceMethod ({ cls := "EndSums$Line", name := "alters", desc := "(IZZI)I" } : Jvm.MethodName)) ∈ lw_all := lw_g (lw_at lw_m6 169 rfl) rfl
theorem q1454 : (Jvm.Cond.selects "EndSums$Line" ({ cls := "EndSums$Line", name := "alters", desc := "(IZZI)I" } : Jvm.MethodName) ({ cls := "EndSums$Line", name := "alters", desc := "(IZZI)I" } : Jvm.MethodName)) ∈ lw_all := lw_g (lw_at lw_m6 170 rfl) rfl
theorem q1455 : (Jvm.Cond.code ({ cls := "EndSums$Line", name := "alters", desc := "(IZZI)I" } : Jvm.MethodName) prog_5_method_13_code (8 : Nat) (Option.some Jvm.ClassFile.FieldType.int)) ∈ lw_all := lw_g (lw_at lw_m6 171 rfl) rfl
theorem q1456 : (Jvm.Cond.methodLink "EndSums$Line" (98 : Nat) ({ cls := "EndSums$Line", name := "endOf", desc := "(I)I" } : Jvm.MethodName)) ∈ lw_all := lw_g (lw_at lw_m6 172 rfl) rfl
theorem q1457 : (Jvm.Cond.instanceMethod ({ cls := "EndSums$Line", name := "endOf", desc := "(I)I" } : Jvm.MethodName)) ∈ lw_all := lw_g (lw_at lw_m6 173 rfl) rfl
theorem q1458 : (Jvm.Cond.selects "EndSums$Line" ({ cls := "EndSums$Line", name := "endOf", desc := "(I)I" } : Jvm.MethodName) ({ cls := "EndSums$Line", name := "endOf", desc := "(I)I" } : Jvm.MethodName)) ∈ lw_all := lw_g (lw_at lw_m6 174 rfl) rfl
theorem q1459 : (Jvm.Cond.code ({ cls := "EndSums$Line", name := "endOf", desc := "(I)I" } : Jvm.MethodName) prog_5_method_10_code (2 : Nat) (Option.some Jvm.ClassFile.FieldType.int)) ∈ lw_all := lw_g (lw_at lw_m6 175 rfl) rfl
theorem q1460 : (Jvm.Cond.methodLink "EndSums$Line" (105 : Nat) ({ cls := "EndSums$Line", name := "lifts", desc := "(II[I)V" } : Jvm.MethodName)) ∈ lw_all := lw_g (lw_at lw_m6 176 rfl) rfl
theorem q1461 : (Jvm.Cond.privateMethod ({ cls := "EndSums$Line", name := "lifts", desc := "(II[I)V" } : Jvm.MethodName)) ∈ lw_tbl := lw_at lw_m6 177 rfl
theorem q1462 : (Jvm.Cond.instanceMethod ({ cls := "EndSums$Line", name := "lifts", desc := "(II[I)V" } : Jvm.MethodName)) ∈ lw_all := lw_g (lw_at lw_m6 178 rfl) rfl
theorem q1463 : (Jvm.Cond.code ({ cls := "EndSums$Line", name := "lifts", desc := "(II[I)V" } : Jvm.MethodName) prog_5_method_11_code (5 : Nat) (Option.none : Option Jvm.ClassFile.FieldType)) ∈ lw_all := lw_g (lw_at lw_m6 179 rfl) rfl
theorem q1464 : (Jvm.Cond.methodLink "EndSums$Line" (109 : Nat) ({ cls := "EndSums$Line", name := "puts0", desc := "(II[I)V" } : Jvm.MethodName)) ∈ lw_all := lw_g (lw_at lw_m6 180 rfl) rfl
theorem q1465 : (Jvm.Cond.privateMethod ({ cls := "EndSums$Line", name := "puts0", desc := "(II[I)V" } : Jvm.MethodName)) ∈ lw_tbl := lw_at lw_m6 181 rfl
theorem q1466 : (Jvm.Cond.instanceMethod ({ cls := "EndSums$Line", name := "puts0", desc := "(II[I)V" } : Jvm.MethodName)) ∈ lw_all := lw_g (lw_at lw_m6 182 rfl) rfl
theorem q1467 : (Jvm.Cond.code ({ cls := "EndSums$Line", name := "puts0", desc := "(II[I)V" } : Jvm.MethodName) prog_5_method_12_code (5 : Nat) (Option.none : Option Jvm.ClassFile.FieldType)) ∈ lw_all := lw_g (lw_at lw_m6 183 rfl) rfl
theorem q1486 : (Jvm.Cond.instanceMethod ({ cls := "EndSums$Line", name := "sums", desc := "(LEndSums$Pair;)V" } : Jvm.MethodName)) ∈ lw_all := lw_g (lw_at lw_m6 202 rfl) rfl
theorem q1487 : (Jvm.Cond.selects "EndSums$Line" ({ cls := "EndSums$Line", name := "sums", desc := "(LEndSums$Pair;)V" } : Jvm.MethodName) ({ cls := "EndSums$Line", name := "sums", desc := "(LEndSums$Pair;)V" } : Jvm.MethodName)) ∈ lw_all := lw_g (lw_at lw_m6 203 rfl) rfl
theorem q1488 : (Jvm.Cond.code ({ cls := "EndSums$Line", name := "sums", desc := "(LEndSums$Pair;)V" } : Jvm.MethodName) prog_5_method_14_code (2 : Nat) (Option.none : Option Jvm.ClassFile.FieldType)) ∈ lw_all := lw_g (lw_at lw_m6 204 rfl) rfl
theorem q1489 : (Jvm.Cond.methodLinkNest "EndSums$Line" (112 : Nat) ({ cls := "EndSums", name := "empty", desc := "(LEndSums$Pair;)V" } : Jvm.MethodName) "EndSums") ∈ lw_tbl := lw_at lw_m6 205 rfl
theorem q1490 : (Jvm.Cond.methodLink "EndSums$Line" (122 : Nat) ({ cls := "EndSums$Pair", name := "is", desc := "(JJ)V" } : Jvm.MethodName)) ∈ lw_all := lw_g (lw_at lw_m6 206 rfl) rfl
theorem q2161 : (Jvm.Cond.castable "EndSums$Line" "java/lang/Object") ∈ lw_tbl := lw_at lw_m9 157 rfl
theorem in_X3 : ∀ w ∈ wsX30, w ∈ lw_all := lw_in wsX30 [244, 246, 248] (by decide +kernel) (by decide +kernel)
/-! java/util/List -/
def RJ1 : String := "java/util/List"
abbrev cJ1_of : ByteArray := prog_55_method_40_code
def yJ1_of : MethodName := ⟨RJ1, "of", "(Ljava/lang/Object;Ljava/lang/Object;Ljava/lang/Object;Ljava/lang/Object;)Ljava/util/List;"⟩
theorem q89 : (Jvm.Cond.initialized "java/util/List") ∈ lw_all := lw_g (lw_at lw_m1 5 rfl) rfl
theorem q252 : (Jvm.Cond.static ({ cls := "java/util/List", name := "of", desc := "(Ljava/lang/Object;Ljava/lang/Object;Ljava/lang/Object;Ljava/lang/Object;)Ljava/util/List;" } : Jvm.MethodName)) ∈ lw_all := lw_g (lw_at lw_m1 168 rfl) rfl
theorem q253 : (Jvm.Cond.code ({ cls := "java/util/List", name := "of", desc := "(Ljava/lang/Object;Ljava/lang/Object;Ljava/lang/Object;Ljava/lang/Object;)Ljava/util/List;" } : Jvm.MethodName) prog_55_method_40_code (4 : Nat) (Option.some (Jvm.ClassFile.FieldType.object "java/util/List"))) ∈ lw_all := lw_g (lw_at lw_m1 169 rfl) rfl
theorem q254 : (Jvm.Cond.classLink "java/util/List" (103 : Nat) "java/lang/Object") ∈ lw_all := lw_g (lw_at lw_m1 170 rfl) rfl
theorem q256 : (Jvm.Cond.methodLink "java/util/List" (105 : Nat) ({ cls := "java/util/ImmutableCollections", name := "listFromTrustedArray", desc := "([Ljava/lang/Object;)Ljava/util/List;" } : Jvm.MethodName)) ∈ lw_all := lw_g (lw_at lw_m1 172 rfl) rfl
theorem q622 : (Jvm.Cond.interfaceMethod "java/util/List" "java/util/List" "iterator" "()Ljava/util/Iterator;") ∈ lw_tbl := lw_at lw_m3 58 rfl
theorem q623 : (Jvm.Cond.declares ({ cls := "java/util/List", name := "iterator", desc := "()Ljava/util/Iterator;" } : Jvm.MethodName)) ∈ lw_tbl := lw_at lw_m3 59 rfl
theorem q1073 : (Jvm.Cond.interfaceMethod "java/util/List" "java/util/List" "get" "(I)Ljava/lang/Object;") ∈ lw_tbl := lw_at lw_m5 29 rfl
theorem q1074 : (Jvm.Cond.declares ({ cls := "java/util/List", name := "get", desc := "(I)Ljava/lang/Object;" } : Jvm.MethodName)) ∈ lw_tbl := lw_at lw_m5 30 rfl
/-! java/util/ImmutableCollections -/
def RJ2 : String := "java/util/ImmutableCollections"
abbrev cJ2_listFromTrustedArray : ByteArray := prog_45_method_5_code
def yJ2_listFromTrustedArray : MethodName := ⟨RJ2, "listFromTrustedArray", "([Ljava/lang/Object;)Ljava/util/List;"⟩
theorem q90 : (Jvm.Cond.initialized "java/util/ImmutableCollections") ∈ lw_all := lw_g (lw_at lw_m1 6 rfl) rfl
theorem q257 : (Jvm.Cond.static ({ cls := "java/util/ImmutableCollections", name := "listFromTrustedArray", desc := "([Ljava/lang/Object;)Ljava/util/List;" } : Jvm.MethodName)) ∈ lw_all := lw_g (lw_at lw_m1 173 rfl) rfl
theorem q258 : (Jvm.Cond.code ({ cls := "java/util/ImmutableCollections", name := "listFromTrustedArray", desc := "([Ljava/lang/Object;)Ljava/util/List;" } : Jvm.MethodName) prog_45_method_5_code (5 : Nat) (Option.some (Jvm.ClassFile.FieldType.object "java/util/List"))) ∈ lw_all := lw_g (lw_at lw_m1 174 rfl) rfl
theorem q259 : (Jvm.Cond.fieldLink "java/util/ImmutableCollections" (46 : Nat) "java/util/ImmutableCollections" "$assertionsDisabled" "Z") ∈ lw_all := lw_g (lw_at lw_m1 175 rfl) rfl
theorem q260 : (Jvm.Cond.laysStatic "java/util/ImmutableCollections" "$assertionsDisabled" "Z") ∈ lw_tbl := lw_at lw_m1 176 rfl
theorem q261 : (Jvm.Cond.methodLink "java/util/ImmutableCollections" (51 : Nat) ({ cls := "java/lang/Object", name := "getClass", desc := "()Ljava/lang/Class;" } : Jvm.MethodName)) ∈ lw_all := lw_g (lw_at lw_m1 177 rfl) rfl
theorem q285 : (Jvm.Cond.classLink "java/util/ImmutableCollections" (55 : Nat) "[Ljava/lang/Object;") ∈ lw_all := lw_g (lw_at lw_m1 201 rfl) rfl
theorem q286 : (Jvm.Cond.methodLink "java/util/ImmutableCollections" (37 : Nat) ({ cls := "java/util/Objects", name := "requireNonNull", desc := "(Ljava/lang/Object;)Ljava/lang/Object;" } : Jvm.MethodName)) ∈ lw_all := lw_g (lw_at lw_m1 202 rfl) rfl
theorem q289 : (Jvm.Cond.fieldLink "java/util/ImmutableCollections" (60 : Nat) "java/util/ImmutableCollections" "EMPTY_LIST" "Ljava/util/ImmutableCollections$ListN;") ∈ lw_all := lw_g (lw_at lw_m1 205 rfl) rfl
theorem q290 : (Jvm.Cond.laysStatic "java/util/ImmutableCollections" "EMPTY_LIST" "Ljava/util/ImmutableCollections$ListN;") ∈ lw_tbl := lw_at lw_m1 206 rfl
theorem q291 : (Jvm.Cond.classLink "java/util/ImmutableCollections" (10 : Nat) "java/util/ImmutableCollections$List12") ∈ lw_all := lw_g (lw_at lw_m1 207 rfl) rfl
theorem q293 : (Jvm.Cond.methodLink "java/util/ImmutableCollections" (64 : Nat) ({ cls := "java/util/ImmutableCollections$List12", name := "<init>", desc := "(Ljava/lang/Object;)V" } : Jvm.MethodName)) ∈ lw_all := lw_g (lw_at lw_m1 209 rfl) rfl
theorem q308 : (Jvm.Cond.laysStatic "java/util/ImmutableCollections" "EMPTY" "Ljava/lang/Object;") ∈ lw_tbl := lw_at lw_m1 224 rfl
theorem q316 : (Jvm.Cond.methodLink "java/util/ImmutableCollections" (67 : Nat) ({ cls := "java/util/ImmutableCollections$List12", name := "<init>", desc := "(Ljava/lang/Object;Ljava/lang/Object;)V" } : Jvm.MethodName)) ∈ lw_all := lw_g (lw_at lw_m1 232 rfl) rfl
theorem q319 : (Jvm.Cond.classLink "java/util/ImmutableCollections" (12 : Nat) "java/util/ImmutableCollections$ListN") ∈ lw_all := lw_g (lw_at lw_m1 235 rfl) rfl
theorem q321 : (Jvm.Cond.methodLinkNest "java/util/ImmutableCollections" (43 : Nat) ({ cls := "java/util/ImmutableCollections$ListN", name := "<init>", desc := "([Ljava/lang/Object;Z)V" } : Jvm.MethodName) "java/util/ImmutableCollections") ∈ lw_tbl := lw_at lw_m1 237 rfl
/-! java/util/Objects -/
def RJ3 : String := "java/util/Objects"
abbrev cJ3_requireNonNull : ByteArray := prog_58_method_10_code
def yJ3_requireNonNull : MethodName := ⟨RJ3, "requireNonNull", "(Ljava/lang/Object;)Ljava/lang/Object;"⟩
theorem q91 : (Jvm.Cond.initialized "java/util/Objects") ∈ lw_all := lw_g (lw_at lw_m1 7 rfl) rfl
theorem q287 : (Jvm.Cond.static ({ cls := "java/util/Objects", name := "requireNonNull", desc := "(Ljava/lang/Object;)Ljava/lang/Object;" } : Jvm.MethodName)) ∈ lw_all := lw_g (lw_at lw_m1 203 rfl) rfl
theorem q288 : (Jvm.Cond.code ({ cls := "java/util/Objects", name := "requireNonNull", desc := "(Ljava/lang/Object;)Ljava/lang/Object;" } : Jvm.MethodName) prog_58_method_10_code (1 : Nat) (Option.some (Jvm.ClassFile.FieldType.object "java/lang/Object"))) ∈ lw_all := lw_g (lw_at lw_m1 204 rfl) rfl
/-! java/util/AbstractCollection -/
def RJ4 : String := "java/util/AbstractCollection"
abbrev cJ4_init : ByteArray := prog_33_method_1_code
def yJ4_init : MethodName := ⟨RJ4, "<init>", "()V"⟩
abbrev cJ4_isEmpty : ByteArray := prog_33_method_4_code
def yJ4_isEmpty : MethodName := ⟨RJ4, "isEmpty", "()Z"⟩
theorem q92 : (Jvm.Cond.initialized "java/util/AbstractCollection") ∈ lw_all := lw_g (lw_at lw_m1 8 rfl) rfl
theorem q303 : (Jvm.Cond.instanceMethod ({ cls := "java/util/AbstractCollection", name := "<init>", desc := "()V" } : Jvm.MethodName)) ∈ lw_all := lw_g (lw_at lw_m1 219 rfl) rfl
theorem q304 : (Jvm.Cond.code ({ cls := "java/util/AbstractCollection", name := "<init>", desc := "()V" } : Jvm.MethodName) prog_33_method_1_code (1 : Nat) (Option.none : Option Jvm.ClassFile.FieldType)) ∈ lw_all := lw_g (lw_at lw_m1 220 rfl) rfl
theorem q305 : (Jvm.Cond.methodLink "java/util/AbstractCollection" (1 : Nat) ({ cls := "java/lang/Object", name := "<init>", desc := "()V" } : Jvm.MethodName)) ∈ lw_all := lw_g (lw_at lw_m1 221 rfl) rfl
theorem q634 : (Jvm.Cond.declares ({ cls := "java/util/AbstractCollection", name := "size", desc := "()I" } : Jvm.MethodName)) ∈ lw_tbl := lw_at lw_m3 70 rfl
theorem q1567 : (Jvm.Cond.declares ({ cls := "java/util/AbstractCollection", name := "isEmpty", desc := "()Z" } : Jvm.MethodName)) ∈ lw_tbl := lw_at lw_m7 43 rfl
theorem q1569 : (Jvm.Cond.instanceMethod ({ cls := "java/util/AbstractCollection", name := "isEmpty", desc := "()Z" } : Jvm.MethodName)) ∈ lw_all := lw_g (lw_at lw_m7 45 rfl) rfl
theorem q1570 : (Jvm.Cond.code ({ cls := "java/util/AbstractCollection", name := "isEmpty", desc := "()Z" } : Jvm.MethodName) prog_33_method_4_code (1 : Nat) (Option.some Jvm.ClassFile.FieldType.boolean)) ∈ lw_all := lw_g (lw_at lw_m7 46 rfl) rfl
theorem q1571 : (Jvm.Cond.methodLink "java/util/AbstractCollection" (7 : Nat) ({ cls := "java/util/AbstractCollection", name := "size", desc := "()I" } : Jvm.MethodName)) ∈ lw_all := lw_g (lw_at lw_m7 47 rfl) rfl
theorem q2150 : (Jvm.Cond.sameMethod "java/util/AbstractCollection" "java/util/AbstractCollection" "size" "()I") ∈ lw_all := lw_g (lw_at lw_m9 146 rfl) rfl
/-! java/util/ImmutableCollections$AbstractImmutableCollection -/
def RJ5 : String := "java/util/ImmutableCollections$AbstractImmutableCollection"
abbrev cJ5_init : ByteArray := prog_46_method_1_code
def yJ5_init : MethodName := ⟨RJ5, "<init>", "()V"⟩
theorem q93 : (Jvm.Cond.initialized "java/util/ImmutableCollections$AbstractImmutableCollection") ∈ lw_all := lw_g (lw_at lw_m1 9 rfl) rfl
theorem q300 : (Jvm.Cond.instanceMethod ({ cls := "java/util/ImmutableCollections$AbstractImmutableCollection", name := "<init>", desc := "()V" } : Jvm.MethodName)) ∈ lw_all := lw_g (lw_at lw_m1 216 rfl) rfl
theorem q301 : (Jvm.Cond.code ({ cls := "java/util/ImmutableCollections$AbstractImmutableCollection", name := "<init>", desc := "()V" } : Jvm.MethodName) prog_46_method_1_code (1 : Nat) (Option.none : Option Jvm.ClassFile.FieldType)) ∈ lw_all := lw_g (lw_at lw_m1 217 rfl) rfl
theorem q302 : (Jvm.Cond.methodLink "java/util/ImmutableCollections$AbstractImmutableCollection" (1 : Nat) ({ cls := "java/util/AbstractCollection", name := "<init>", desc := "()V" } : Jvm.MethodName)) ∈ lw_all := lw_g (lw_at lw_m1 218 rfl) rfl
/-! java/util/ImmutableCollections$AbstractImmutableList -/
def RJ6 : String := "java/util/ImmutableCollections$AbstractImmutableList"
abbrev cJ6_init : ByteArray := prog_47_method_1_code
def yJ6_init : MethodName := ⟨RJ6, "<init>", "()V"⟩
abbrev cJ6_iterator : ByteArray := prog_47_method_10_code
def yJ6_iterator : MethodName := ⟨RJ6, "iterator", "()Ljava/util/Iterator;"⟩
theorem q94 : (Jvm.Cond.initialized "java/util/ImmutableCollections$AbstractImmutableList") ∈ lw_all := lw_g (lw_at lw_m1 10 rfl) rfl
theorem q297 : (Jvm.Cond.instanceMethod ({ cls := "java/util/ImmutableCollections$AbstractImmutableList", name := "<init>", desc := "()V" } : Jvm.MethodName)) ∈ lw_all := lw_g (lw_at lw_m1 213 rfl) rfl
theorem q298 : (Jvm.Cond.code ({ cls := "java/util/ImmutableCollections$AbstractImmutableList", name := "<init>", desc := "()V" } : Jvm.MethodName) prog_47_method_1_code (1 : Nat) (Option.none : Option Jvm.ClassFile.FieldType)) ∈ lw_all := lw_g (lw_at lw_m1 214 rfl) rfl
theorem q299 : (Jvm.Cond.methodLink "java/util/ImmutableCollections$AbstractImmutableList" (1 : Nat) ({ cls := "java/util/ImmutableCollections$AbstractImmutableCollection", name := "<init>", desc := "()V" } : Jvm.MethodName)) ∈ lw_all := lw_g (lw_at lw_m1 215 rfl) rfl
theorem q627 : (Jvm.Cond.instanceMethod ({ cls := "java/util/ImmutableCollections$AbstractImmutableList", name := "iterator", desc := "()Ljava/util/Iterator;" } : Jvm.MethodName)) ∈ lw_all := lw_g (lw_at lw_m3 63 rfl) rfl
theorem q628 : (Jvm.Cond.publicMethod ({ cls := "java/util/ImmutableCollections$AbstractImmutableList", name := "iterator", desc := "()Ljava/util/Iterator;" } : Jvm.MethodName)) ∈ lw_tbl := lw_at lw_m3 64 rfl
theorem q629 : (Jvm.Cond.code ({ cls := "java/util/ImmutableCollections$AbstractImmutableList", name := "iterator", desc := "()Ljava/util/Iterator;" } : Jvm.MethodName) prog_47_method_10_code (1 : Nat) (Option.some (Jvm.ClassFile.FieldType.object "java/util/Iterator"))) ∈ lw_all := lw_g (lw_at lw_m3 65 rfl) rfl
theorem q630 : (Jvm.Cond.classLink "java/util/ImmutableCollections$AbstractImmutableList" (61 : Nat) "java/util/ImmutableCollections$ListItr") ∈ lw_all := lw_g (lw_at lw_m3 66 rfl) rfl
theorem q632 : (Jvm.Cond.methodLink "java/util/ImmutableCollections$AbstractImmutableList" (13 : Nat) ({ cls := "java/util/ImmutableCollections$AbstractImmutableList", name := "size", desc := "()I" } : Jvm.MethodName)) ∈ lw_all := lw_g (lw_at lw_m3 68 rfl) rfl
theorem q633 : (Jvm.Cond.sameMethod "java/util/ImmutableCollections$AbstractImmutableList" "java/util/AbstractCollection" "size" "()I") ∈ lw_all := lw_g (lw_at lw_m3 69 rfl) rfl
theorem q641 : (Jvm.Cond.methodLink "java/util/ImmutableCollections$AbstractImmutableList" (63 : Nat) ({ cls := "java/util/ImmutableCollections$ListItr", name := "<init>", desc := "(Ljava/util/List;I)V" } : Jvm.MethodName)) ∈ lw_all := lw_g (lw_at lw_m3 77 rfl) rfl
/-! java/util/ImmutableCollections$List12 -/
def RJ7 : String := "java/util/ImmutableCollections$List12"
def TJ7 : u_T := fun k => match k with
  | 0 => ("java/util/ImmutableCollections$List12", "e0", "Ljava/lang/Object;", true)
  | _ => ("java/util/ImmutableCollections$List12", "e1", "Ljava/lang/Object;", true)
def tyJ7 : Nat → FieldType := fun k => match k with
  | 0 => .object "java/lang/Object"
  | _ => .object "java/lang/Object"
abbrev wsJ70 : List Cond := u_ws RJ7 TJ7 2
theorem nmJ7 : ∀ a, a < 2 → ∀ b, b < 2 → a ≠ b → (TJ7 a).2.1 ≠ (TJ7 b).2.1 := by decide +kernel
theorem tyJ7_ok : ∀ k, k < 2 → parseFieldDescriptor (TJ7 k).2.2.1 = some (tyJ7 k) := by decide +kernel
abbrev cJ7_init : ByteArray := prog_48_method_1_code
def yJ7_init : MethodName := ⟨RJ7, "<init>", "(Ljava/lang/Object;)V"⟩
abbrev cJ7_init_2 : ByteArray := prog_48_method_2_code
def yJ7_init_2 : MethodName := ⟨RJ7, "<init>", "(Ljava/lang/Object;Ljava/lang/Object;)V"⟩
abbrev cJ7_toArray : ByteArray := prog_48_method_10_code
def yJ7_toArray : MethodName := ⟨RJ7, "toArray", "()[Ljava/lang/Object;"⟩
abbrev cJ7_size : ByteArray := prog_48_method_3_code
def yJ7_size : MethodName := ⟨RJ7, "size", "()I"⟩
abbrev cJ7_get : ByteArray := prog_48_method_5_code
def yJ7_get : MethodName := ⟨RJ7, "get", "(I)Ljava/lang/Object;"⟩
theorem q95 : (Jvm.Cond.initialized "java/util/ImmutableCollections$List12") ∈ lw_all := lw_g (lw_at lw_m1 11 rfl) rfl
theorem q277 : (Jvm.Cond.selects "java/util/ImmutableCollections$List12" ({ cls := "java/lang/Object", name := "getClass", desc := "()Ljava/lang/Class;" } : Jvm.MethodName) ({ cls := "java/lang/Object", name := "getClass", desc := "()Ljava/lang/Class;" } : Jvm.MethodName)) ∈ lw_all := lw_g (lw_at lw_m1 193 rfl) rfl
theorem q292 : (Jvm.Cond.instantiable "java/util/ImmutableCollections$List12" (2 : Nat)) ∈ lw_all := lw_g (lw_at lw_m1 208 rfl) rfl
theorem q294 : (Jvm.Cond.instanceMethod ({ cls := "java/util/ImmutableCollections$List12", name := "<init>", desc := "(Ljava/lang/Object;)V" } : Jvm.MethodName)) ∈ lw_all := lw_g (lw_at lw_m1 210 rfl) rfl
theorem q295 : (Jvm.Cond.code ({ cls := "java/util/ImmutableCollections$List12", name := "<init>", desc := "(Ljava/lang/Object;)V" } : Jvm.MethodName) prog_48_method_1_code (2 : Nat) (Option.none : Option Jvm.ClassFile.FieldType)) ∈ lw_all := lw_g (lw_at lw_m1 211 rfl) rfl
theorem q296 : (Jvm.Cond.methodLink "java/util/ImmutableCollections$List12" (1 : Nat) ({ cls := "java/util/ImmutableCollections$AbstractImmutableList", name := "<init>", desc := "()V" } : Jvm.MethodName)) ∈ lw_all := lw_g (lw_at lw_m1 212 rfl) rfl
theorem q306 : (Jvm.Cond.methodLink "java/util/ImmutableCollections$List12" (7 : Nat) ({ cls := "java/util/Objects", name := "requireNonNull", desc := "(Ljava/lang/Object;)Ljava/lang/Object;" } : Jvm.MethodName)) ∈ lw_all := lw_g (lw_at lw_m1 222 rfl) rfl
theorem q307 : (Jvm.Cond.fieldLinkNest "java/util/ImmutableCollections$List12" (19 : Nat) "java/util/ImmutableCollections" "EMPTY" "Ljava/lang/Object;" "java/util/ImmutableCollections") ∈ lw_tbl := lw_at lw_m1 223 rfl
theorem q309 : (Jvm.Cond.fieldLink "java/util/ImmutableCollections$List12" (13 : Nat) "java/util/ImmutableCollections$List12" "e0" "Ljava/lang/Object;") ∈ lw_all := lw_g (lw_at lw_m1 225 rfl) rfl
theorem q310 : (Jvm.Cond.fieldLink "java/util/ImmutableCollections$List12" (24 : Nat) "java/util/ImmutableCollections$List12" "e1" "Ljava/lang/Object;") ∈ lw_all := lw_g (lw_at lw_m1 226 rfl) rfl
theorem q311 : (Jvm.Cond.laysFinal "java/util/ImmutableCollections$List12" "java/util/ImmutableCollections$List12" "e0" "Ljava/lang/Object;") ∈ lw_all := lw_g (lw_at lw_m1 227 rfl) rfl
theorem q312 : (Jvm.Cond.soleField "java/util/ImmutableCollections$List12" "e0") ∈ lw_all := lw_g (lw_at lw_m1 228 rfl) rfl
theorem q313 : (Jvm.Cond.laysFinal "java/util/ImmutableCollections$List12" "java/util/ImmutableCollections$List12" "e1" "Ljava/lang/Object;") ∈ lw_all := lw_g (lw_at lw_m1 229 rfl) rfl
theorem q314 : (Jvm.Cond.soleField "java/util/ImmutableCollections$List12" "e1") ∈ lw_all := lw_g (lw_at lw_m1 230 rfl) rfl
theorem q315 : (Jvm.Cond.superclass "java/util/ImmutableCollections$List12" "java/util/ImmutableCollections$AbstractImmutableList") ∈ lw_all := lw_g (lw_at lw_m1 231 rfl) rfl
theorem q317 : (Jvm.Cond.instanceMethod ({ cls := "java/util/ImmutableCollections$List12", name := "<init>", desc := "(Ljava/lang/Object;Ljava/lang/Object;)V" } : Jvm.MethodName)) ∈ lw_all := lw_g (lw_at lw_m1 233 rfl) rfl
theorem q318 : (Jvm.Cond.code ({ cls := "java/util/ImmutableCollections$List12", name := "<init>", desc := "(Ljava/lang/Object;Ljava/lang/Object;)V" } : Jvm.MethodName) prog_48_method_2_code (3 : Nat) (Option.none : Option Jvm.ClassFile.FieldType)) ∈ lw_all := lw_g (lw_at lw_m1 234 rfl) rfl
theorem q435 : (Jvm.Cond.castable "java/util/ImmutableCollections$List12" "java/util/Collection") ∈ lw_tbl := lw_at lw_m2 111 rfl
theorem q436 : (Jvm.Cond.selects "java/util/ImmutableCollections$List12" ({ cls := "java/util/Collection", name := "toArray", desc := "()[Ljava/lang/Object;" } : Jvm.MethodName) ({ cls := "java/util/ImmutableCollections$List12", name := "toArray", desc := "()[Ljava/lang/Object;" } : Jvm.MethodName)) ∈ lw_all := lw_g (lw_at lw_m2 112 rfl) rfl
theorem q437 : (Jvm.Cond.unhidden "java/util/ImmutableCollections$List12" "toArray" "()[Ljava/lang/Object;") ∈ lw_tbl := lw_at lw_m2 113 rfl
theorem q438 : (Jvm.Cond.instanceMethod ({ cls := "java/util/ImmutableCollections$List12", name := "toArray", desc := "()[Ljava/lang/Object;" } : Jvm.MethodName)) ∈ lw_all := lw_g (lw_at lw_m2 114 rfl) rfl
theorem q439 : (Jvm.Cond.publicMethod ({ cls := "java/util/ImmutableCollections$List12", name := "toArray", desc := "()[Ljava/lang/Object;" } : Jvm.MethodName)) ∈ lw_tbl := lw_at lw_m2 115 rfl
theorem q440 : (Jvm.Cond.code ({ cls := "java/util/ImmutableCollections$List12", name := "toArray", desc := "()[Ljava/lang/Object;" } : Jvm.MethodName) prog_48_method_10_code (1 : Nat) (Option.some (Jvm.ClassFile.FieldType.array (Jvm.ClassFile.FieldType.object "java/lang/Object")))) ∈ lw_all := lw_g (lw_at lw_m2 116 rfl) rfl
theorem q441 : (Jvm.Cond.classLink "java/util/ImmutableCollections$List12" (32 : Nat) "java/lang/Object") ∈ lw_all := lw_g (lw_at lw_m2 117 rfl) rfl
theorem q624 : (Jvm.Cond.castable "java/util/ImmutableCollections$List12" "java/util/List") ∈ lw_tbl := lw_at lw_m3 60 rfl
theorem q625 : (Jvm.Cond.selects "java/util/ImmutableCollections$List12" ({ cls := "java/util/List", name := "iterator", desc := "()Ljava/util/Iterator;" } : Jvm.MethodName) ({ cls := "java/util/ImmutableCollections$AbstractImmutableList", name := "iterator", desc := "()Ljava/util/Iterator;" } : Jvm.MethodName)) ∈ lw_all := lw_g (lw_at lw_m3 61 rfl) rfl
theorem q626 : (Jvm.Cond.unhidden "java/util/ImmutableCollections$List12" "iterator" "()Ljava/util/Iterator;") ∈ lw_tbl := lw_at lw_m3 62 rfl
theorem q635 : (Jvm.Cond.selects "java/util/ImmutableCollections$List12" ({ cls := "java/util/ImmutableCollections$AbstractImmutableList", name := "size", desc := "()I" } : Jvm.MethodName) ({ cls := "java/util/ImmutableCollections$List12", name := "size", desc := "()I" } : Jvm.MethodName)) ∈ lw_all := lw_g (lw_at lw_m3 71 rfl) rfl
theorem q636 : (Jvm.Cond.instanceMethod ({ cls := "java/util/ImmutableCollections$List12", name := "size", desc := "()I" } : Jvm.MethodName)) ∈ lw_all := lw_g (lw_at lw_m3 72 rfl) rfl
theorem q637 : (Jvm.Cond.code ({ cls := "java/util/ImmutableCollections$List12", name := "size", desc := "()I" } : Jvm.MethodName) prog_48_method_3_code (1 : Nat) (Option.some Jvm.ClassFile.FieldType.int)) ∈ lw_all := lw_g (lw_at lw_m3 73 rfl) rfl
theorem q1075 : (Jvm.Cond.selects "java/util/ImmutableCollections$List12" ({ cls := "java/util/List", name := "get", desc := "(I)Ljava/lang/Object;" } : Jvm.MethodName) ({ cls := "java/util/ImmutableCollections$List12", name := "get", desc := "(I)Ljava/lang/Object;" } : Jvm.MethodName)) ∈ lw_all := lw_g (lw_at lw_m5 31 rfl) rfl
theorem q1076 : (Jvm.Cond.unhidden "java/util/ImmutableCollections$List12" "get" "(I)Ljava/lang/Object;") ∈ lw_tbl := lw_at lw_m5 32 rfl
theorem q1077 : (Jvm.Cond.instanceMethod ({ cls := "java/util/ImmutableCollections$List12", name := "get", desc := "(I)Ljava/lang/Object;" } : Jvm.MethodName)) ∈ lw_all := lw_g (lw_at lw_m5 33 rfl) rfl
theorem q1078 : (Jvm.Cond.publicMethod ({ cls := "java/util/ImmutableCollections$List12", name := "get", desc := "(I)Ljava/lang/Object;" } : Jvm.MethodName)) ∈ lw_tbl := lw_at lw_m5 34 rfl
theorem q1079 : (Jvm.Cond.code ({ cls := "java/util/ImmutableCollections$List12", name := "get", desc := "(I)Ljava/lang/Object;" } : Jvm.MethodName) prog_48_method_5_code (2 : Nat) (Option.some (Jvm.ClassFile.FieldType.object "java/lang/Object"))) ∈ lw_all := lw_g (lw_at lw_m5 35 rfl) rfl
theorem q2152 : (Jvm.Cond.selects "java/util/ImmutableCollections$List12" ({ cls := "java/util/AbstractCollection", name := "size", desc := "()I" } : Jvm.MethodName) ({ cls := "java/util/ImmutableCollections$List12", name := "size", desc := "()I" } : Jvm.MethodName)) ∈ lw_all := lw_g (lw_at lw_m9 148 rfl) rfl
theorem q2163 : (Jvm.Cond.castable "java/util/ImmutableCollections$List12" "java/lang/Object") ∈ lw_tbl := lw_at lw_m9 159 rfl
theorem in_J7 : ∀ w ∈ wsJ70, w ∈ lw_all := lw_in wsJ70 [311, 313] (by decide +kernel) (by decide +kernel)
/-! java/util/ImmutableCollections$ListN -/
def RJ8 : String := "java/util/ImmutableCollections$ListN"
def TJ8 : u_T := fun k => match k with
  | 0 => ("java/util/ImmutableCollections$ListN", "elements", "[Ljava/lang/Object;", true)
  | _ => ("java/util/ImmutableCollections$ListN", "allowNulls", "Z", true)
def tyJ8 : Nat → FieldType := fun k => match k with
  | 0 => .array (.object "java/lang/Object")
  | _ => .boolean
abbrev wsJ80 : List Cond := u_ws RJ8 TJ8 2
theorem nmJ8 : ∀ a, a < 2 → ∀ b, b < 2 → a ≠ b → (TJ8 a).2.1 ≠ (TJ8 b).2.1 := by decide +kernel
theorem tyJ8_ok : ∀ k, k < 2 → parseFieldDescriptor (TJ8 k).2.2.1 = some (tyJ8 k) := by decide +kernel
abbrev cJ8_init : ByteArray := prog_50_method_1_code
def yJ8_init : MethodName := ⟨RJ8, "<init>", "([Ljava/lang/Object;Z)V"⟩
abbrev cJ8_toArray : ByteArray := prog_50_method_7_code
def yJ8_toArray : MethodName := ⟨RJ8, "toArray", "()[Ljava/lang/Object;"⟩
abbrev cJ8_size : ByteArray := prog_50_method_3_code
def yJ8_size : MethodName := ⟨RJ8, "size", "()I"⟩
abbrev cJ8_get : ByteArray := prog_50_method_4_code
def yJ8_get : MethodName := ⟨RJ8, "get", "(I)Ljava/lang/Object;"⟩
theorem q96 : (Jvm.Cond.initialized "java/util/ImmutableCollections$ListN") ∈ lw_all := lw_g (lw_at lw_m1 12 rfl) rfl
theorem q279 : (Jvm.Cond.selects "java/util/ImmutableCollections$ListN" ({ cls := "java/lang/Object", name := "getClass", desc := "()Ljava/lang/Class;" } : Jvm.MethodName) ({ cls := "java/lang/Object", name := "getClass", desc := "()Ljava/lang/Class;" } : Jvm.MethodName)) ∈ lw_all := lw_g (lw_at lw_m1 195 rfl) rfl
theorem q320 : (Jvm.Cond.instantiable "java/util/ImmutableCollections$ListN" (2 : Nat)) ∈ lw_all := lw_g (lw_at lw_m1 236 rfl) rfl
theorem q322 : (Jvm.Cond.instanceMethod ({ cls := "java/util/ImmutableCollections$ListN", name := "<init>", desc := "([Ljava/lang/Object;Z)V" } : Jvm.MethodName)) ∈ lw_all := lw_g (lw_at lw_m1 238 rfl) rfl
theorem q323 : (Jvm.Cond.code ({ cls := "java/util/ImmutableCollections$ListN", name := "<init>", desc := "([Ljava/lang/Object;Z)V" } : Jvm.MethodName) prog_50_method_1_code (3 : Nat) (Option.none : Option Jvm.ClassFile.FieldType)) ∈ lw_all := lw_g (lw_at lw_m1 239 rfl) rfl
theorem q324 : (Jvm.Cond.methodLink "java/util/ImmutableCollections$ListN" (1 : Nat) ({ cls := "java/util/ImmutableCollections$AbstractImmutableList", name := "<init>", desc := "()V" } : Jvm.MethodName)) ∈ lw_all := lw_g (lw_at lw_m2 0 rfl) rfl
theorem q325 : (Jvm.Cond.fieldLink "java/util/ImmutableCollections$ListN" (7 : Nat) "java/util/ImmutableCollections$ListN" "elements" "[Ljava/lang/Object;") ∈ lw_all := lw_g (lw_at lw_m2 1 rfl) rfl
theorem q326 : (Jvm.Cond.fieldLink "java/util/ImmutableCollections$ListN" (13 : Nat) "java/util/ImmutableCollections$ListN" "allowNulls" "Z") ∈ lw_all := lw_g (lw_at lw_m2 2 rfl) rfl
theorem q327 : (Jvm.Cond.laysFinal "java/util/ImmutableCollections$ListN" "java/util/ImmutableCollections$ListN" "elements" "[Ljava/lang/Object;") ∈ lw_all := lw_g (lw_at lw_m2 3 rfl) rfl
theorem q328 : (Jvm.Cond.soleField "java/util/ImmutableCollections$ListN" "elements") ∈ lw_all := lw_g (lw_at lw_m2 4 rfl) rfl
theorem q329 : (Jvm.Cond.laysFinal "java/util/ImmutableCollections$ListN" "java/util/ImmutableCollections$ListN" "allowNulls" "Z") ∈ lw_all := lw_g (lw_at lw_m2 5 rfl) rfl
theorem q330 : (Jvm.Cond.soleField "java/util/ImmutableCollections$ListN" "allowNulls") ∈ lw_all := lw_g (lw_at lw_m2 6 rfl) rfl
theorem q331 : (Jvm.Cond.superclass "java/util/ImmutableCollections$ListN" "java/util/ImmutableCollections$AbstractImmutableList") ∈ lw_all := lw_g (lw_at lw_m2 7 rfl) rfl
theorem q442 : (Jvm.Cond.castable "java/util/ImmutableCollections$ListN" "java/util/Collection") ∈ lw_tbl := lw_at lw_m2 118 rfl
theorem q443 : (Jvm.Cond.selects "java/util/ImmutableCollections$ListN" ({ cls := "java/util/Collection", name := "toArray", desc := "()[Ljava/lang/Object;" } : Jvm.MethodName) ({ cls := "java/util/ImmutableCollections$ListN", name := "toArray", desc := "()[Ljava/lang/Object;" } : Jvm.MethodName)) ∈ lw_all := lw_g (lw_at lw_m2 119 rfl) rfl
theorem q444 : (Jvm.Cond.unhidden "java/util/ImmutableCollections$ListN" "toArray" "()[Ljava/lang/Object;") ∈ lw_tbl := lw_at lw_m2 120 rfl
theorem q445 : (Jvm.Cond.instanceMethod ({ cls := "java/util/ImmutableCollections$ListN", name := "toArray", desc := "()[Ljava/lang/Object;" } : Jvm.MethodName)) ∈ lw_all := lw_g (lw_at lw_m2 121 rfl) rfl
theorem q446 : (Jvm.Cond.publicMethod ({ cls := "java/util/ImmutableCollections$ListN", name := "toArray", desc := "()[Ljava/lang/Object;" } : Jvm.MethodName)) ∈ lw_tbl := lw_at lw_m2 122 rfl
theorem q447 : (Jvm.Cond.code ({ cls := "java/util/ImmutableCollections$ListN", name := "toArray", desc := "()[Ljava/lang/Object;" } : Jvm.MethodName) prog_50_method_7_code (1 : Nat) (Option.some (Jvm.ClassFile.FieldType.array (Jvm.ClassFile.FieldType.object "java/lang/Object")))) ∈ lw_all := lw_g (lw_at lw_m2 123 rfl) rfl
theorem q448 : (Jvm.Cond.methodLink "java/util/ImmutableCollections$ListN" (29 : Nat) ({ cls := "java/util/Arrays", name := "copyOf", desc := "([Ljava/lang/Object;I)[Ljava/lang/Object;" } : Jvm.MethodName)) ∈ lw_all := lw_g (lw_at lw_m2 124 rfl) rfl
theorem q638 : (Jvm.Cond.selects "java/util/ImmutableCollections$ListN" ({ cls := "java/util/ImmutableCollections$AbstractImmutableList", name := "size", desc := "()I" } : Jvm.MethodName) ({ cls := "java/util/ImmutableCollections$ListN", name := "size", desc := "()I" } : Jvm.MethodName)) ∈ lw_all := lw_g (lw_at lw_m3 74 rfl) rfl
theorem q639 : (Jvm.Cond.instanceMethod ({ cls := "java/util/ImmutableCollections$ListN", name := "size", desc := "()I" } : Jvm.MethodName)) ∈ lw_all := lw_g (lw_at lw_m3 75 rfl) rfl
theorem q640 : (Jvm.Cond.code ({ cls := "java/util/ImmutableCollections$ListN", name := "size", desc := "()I" } : Jvm.MethodName) prog_50_method_3_code (1 : Nat) (Option.some Jvm.ClassFile.FieldType.int)) ∈ lw_all := lw_g (lw_at lw_m3 76 rfl) rfl
theorem q658 : (Jvm.Cond.castable "java/util/ImmutableCollections$ListN" "java/util/List") ∈ lw_tbl := lw_at lw_m3 94 rfl
theorem q659 : (Jvm.Cond.selects "java/util/ImmutableCollections$ListN" ({ cls := "java/util/List", name := "iterator", desc := "()Ljava/util/Iterator;" } : Jvm.MethodName) ({ cls := "java/util/ImmutableCollections$AbstractImmutableList", name := "iterator", desc := "()Ljava/util/Iterator;" } : Jvm.MethodName)) ∈ lw_all := lw_g (lw_at lw_m3 95 rfl) rfl
theorem q660 : (Jvm.Cond.unhidden "java/util/ImmutableCollections$ListN" "iterator" "()Ljava/util/Iterator;") ∈ lw_tbl := lw_at lw_m3 96 rfl
theorem q1080 : (Jvm.Cond.selects "java/util/ImmutableCollections$ListN" ({ cls := "java/util/List", name := "get", desc := "(I)Ljava/lang/Object;" } : Jvm.MethodName) ({ cls := "java/util/ImmutableCollections$ListN", name := "get", desc := "(I)Ljava/lang/Object;" } : Jvm.MethodName)) ∈ lw_all := lw_g (lw_at lw_m5 36 rfl) rfl
theorem q1081 : (Jvm.Cond.unhidden "java/util/ImmutableCollections$ListN" "get" "(I)Ljava/lang/Object;") ∈ lw_tbl := lw_at lw_m5 37 rfl
theorem q1082 : (Jvm.Cond.instanceMethod ({ cls := "java/util/ImmutableCollections$ListN", name := "get", desc := "(I)Ljava/lang/Object;" } : Jvm.MethodName)) ∈ lw_all := lw_g (lw_at lw_m5 38 rfl) rfl
theorem q1083 : (Jvm.Cond.publicMethod ({ cls := "java/util/ImmutableCollections$ListN", name := "get", desc := "(I)Ljava/lang/Object;" } : Jvm.MethodName)) ∈ lw_tbl := lw_at lw_m5 39 rfl
theorem q1084 : (Jvm.Cond.code ({ cls := "java/util/ImmutableCollections$ListN", name := "get", desc := "(I)Ljava/lang/Object;" } : Jvm.MethodName) prog_50_method_4_code (2 : Nat) (Option.some (Jvm.ClassFile.FieldType.object "java/lang/Object"))) ∈ lw_all := lw_g (lw_at lw_m5 40 rfl) rfl
theorem q2153 : (Jvm.Cond.selects "java/util/ImmutableCollections$ListN" ({ cls := "java/util/AbstractCollection", name := "size", desc := "()I" } : Jvm.MethodName) ({ cls := "java/util/ImmutableCollections$ListN", name := "size", desc := "()I" } : Jvm.MethodName)) ∈ lw_all := lw_g (lw_at lw_m9 149 rfl) rfl
theorem q2162 : (Jvm.Cond.castable "java/util/ImmutableCollections$ListN" "java/lang/Object") ∈ lw_tbl := lw_at lw_m9 158 rfl
theorem in_J8 : ∀ w ∈ wsJ80, w ∈ lw_all := lw_in wsJ80 [327, 329] (by decide +kernel) (by decide +kernel)
/-! java/util/AbstractList -/
def RJ9 : String := "java/util/AbstractList"
abbrev cJ9_init : ByteArray := prog_34_method_1_code
def yJ9_init : MethodName := ⟨RJ9, "<init>", "()V"⟩
abbrev cJ9_listIterator : ByteArray := prog_34_method_12_code
def yJ9_listIterator : MethodName := ⟨RJ9, "listIterator", "()Ljava/util/ListIterator;"⟩
theorem q97 : (Jvm.Cond.initialized "java/util/AbstractList") ∈ lw_all := lw_g (lw_at lw_m1 13 rfl) rfl
theorem q370 : (Jvm.Cond.instanceMethod ({ cls := "java/util/AbstractList", name := "<init>", desc := "()V" } : Jvm.MethodName)) ∈ lw_all := lw_g (lw_at lw_m2 46 rfl) rfl
theorem q371 : (Jvm.Cond.code ({ cls := "java/util/AbstractList", name := "<init>", desc := "()V" } : Jvm.MethodName) prog_34_method_1_code (1 : Nat) (Option.none : Option Jvm.ClassFile.FieldType)) ∈ lw_all := lw_g (lw_at lw_m2 47 rfl) rfl
theorem q372 : (Jvm.Cond.methodLink "java/util/AbstractList" (1 : Nat) ({ cls := "java/util/AbstractCollection", name := "<init>", desc := "()V" } : Jvm.MethodName)) ∈ lw_all := lw_g (lw_at lw_m2 48 rfl) rfl
theorem q377 : (Jvm.Cond.fieldLink "java/util/AbstractList" (7 : Nat) "java/util/AbstractList" "modCount" "I") ∈ lw_all := lw_g (lw_at lw_m2 53 rfl) rfl
theorem q389 : (Jvm.Cond.soleField "java/util/AbstractList" "modCount") ∈ lw_all := lw_g (lw_at lw_m2 65 rfl) rfl
theorem q669 : (Jvm.Cond.declares ({ cls := "java/util/AbstractList", name := "listIterator", desc := "()Ljava/util/ListIterator;" } : Jvm.MethodName)) ∈ lw_tbl := lw_at lw_m3 105 rfl
theorem q671 : (Jvm.Cond.instanceMethod ({ cls := "java/util/AbstractList", name := "listIterator", desc := "()Ljava/util/ListIterator;" } : Jvm.MethodName)) ∈ lw_all := lw_g (lw_at lw_m3 107 rfl) rfl
theorem q672 : (Jvm.Cond.code ({ cls := "java/util/AbstractList", name := "listIterator", desc := "()Ljava/util/ListIterator;" } : Jvm.MethodName) prog_34_method_12_code (1 : Nat) (Option.some (Jvm.ClassFile.FieldType.object "java/util/ListIterator"))) ∈ lw_all := lw_g (lw_at lw_m3 108 rfl) rfl
theorem q673 : (Jvm.Cond.methodLink "java/util/AbstractList" (47 : Nat) ({ cls := "java/util/AbstractList", name := "listIterator", desc := "(I)Ljava/util/ListIterator;" } : Jvm.MethodName)) ∈ lw_all := lw_g (lw_at lw_m3 109 rfl) rfl
theorem q674 : (Jvm.Cond.instanceMethod ({ cls := "java/util/AbstractList", name := "listIterator", desc := "(I)Ljava/util/ListIterator;" } : Jvm.MethodName)) ∈ lw_all := lw_g (lw_at lw_m3 110 rfl) rfl
theorem q675 : (Jvm.Cond.sameMethod "java/util/AbstractList" "java/util/AbstractList" "listIterator" "(I)Ljava/util/ListIterator;") ∈ lw_all := lw_g (lw_at lw_m3 111 rfl) rfl
theorem q702 : (Jvm.Cond.declares ({ cls := "java/util/AbstractList", name := "listIterator", desc := "(I)Ljava/util/ListIterator;" } : Jvm.MethodName)) ∈ lw_tbl := lw_at lw_m3 138 rfl
theorem q714 : (Jvm.Cond.sameMethod "java/util/AbstractList" "java/util/AbstractCollection" "size" "()I") ∈ lw_all := lw_g (lw_at lw_m3 150 rfl) rfl
theorem q751 : (Jvm.Cond.declares ({ cls := "java/util/AbstractList", name := "get", desc := "(I)Ljava/lang/Object;" } : Jvm.MethodName)) ∈ lw_tbl := lw_at lw_m3 187 rfl
theorem q752 : (Jvm.Cond.sameMethod "java/util/AbstractList" "java/util/AbstractList" "get" "(I)Ljava/lang/Object;") ∈ lw_all := lw_g (lw_at lw_m3 188 rfl) rfl
/-! java/util/AbstractSequentialList -/
def RJ10 : String := "java/util/AbstractSequentialList"
abbrev cJ10_init : ByteArray := prog_37_method_1_code
def yJ10_init : MethodName := ⟨RJ10, "<init>", "()V"⟩
abbrev cJ10_iterator : ByteArray := prog_37_method_7_code
def yJ10_iterator : MethodName := ⟨RJ10, "iterator", "()Ljava/util/Iterator;"⟩
theorem q98 : (Jvm.Cond.initialized "java/util/AbstractSequentialList") ∈ lw_all := lw_g (lw_at lw_m1 14 rfl) rfl
theorem q367 : (Jvm.Cond.instanceMethod ({ cls := "java/util/AbstractSequentialList", name := "<init>", desc := "()V" } : Jvm.MethodName)) ∈ lw_all := lw_g (lw_at lw_m2 43 rfl) rfl
theorem q368 : (Jvm.Cond.code ({ cls := "java/util/AbstractSequentialList", name := "<init>", desc := "()V" } : Jvm.MethodName) prog_37_method_1_code (1 : Nat) (Option.none : Option Jvm.ClassFile.FieldType)) ∈ lw_all := lw_g (lw_at lw_m2 44 rfl) rfl
theorem q369 : (Jvm.Cond.methodLink "java/util/AbstractSequentialList" (1 : Nat) ({ cls := "java/util/AbstractList", name := "<init>", desc := "()V" } : Jvm.MethodName)) ∈ lw_all := lw_g (lw_at lw_m2 45 rfl) rfl
theorem q664 : (Jvm.Cond.instanceMethod ({ cls := "java/util/AbstractSequentialList", name := "iterator", desc := "()Ljava/util/Iterator;" } : Jvm.MethodName)) ∈ lw_all := lw_g (lw_at lw_m3 100 rfl) rfl
theorem q665 : (Jvm.Cond.publicMethod ({ cls := "java/util/AbstractSequentialList", name := "iterator", desc := "()Ljava/util/Iterator;" } : Jvm.MethodName)) ∈ lw_tbl := lw_at lw_m3 101 rfl
theorem q666 : (Jvm.Cond.code ({ cls := "java/util/AbstractSequentialList", name := "iterator", desc := "()Ljava/util/Iterator;" } : Jvm.MethodName) prog_37_method_7_code (1 : Nat) (Option.some (Jvm.ClassFile.FieldType.object "java/util/Iterator"))) ∈ lw_all := lw_g (lw_at lw_m3 102 rfl) rfl
theorem q667 : (Jvm.Cond.methodLink "java/util/AbstractSequentialList" (65 : Nat) ({ cls := "java/util/AbstractSequentialList", name := "listIterator", desc := "()Ljava/util/ListIterator;" } : Jvm.MethodName)) ∈ lw_all := lw_g (lw_at lw_m3 103 rfl) rfl
theorem q668 : (Jvm.Cond.sameMethod "java/util/AbstractSequentialList" "java/util/AbstractList" "listIterator" "()Ljava/util/ListIterator;") ∈ lw_all := lw_g (lw_at lw_m3 104 rfl) rfl
/-! java/util/LinkedList -/
def RJ11 : String := "java/util/LinkedList"
def TJ11 : u_T := fun k => match k with
  | 0 => ("java/util/AbstractList", "modCount", "I", false)
  | 1 => ("java/util/LinkedList", "size", "I", false)
  | 2 => ("java/util/LinkedList", "first", "Ljava/util/LinkedList$Node;", false)
  | _ => ("java/util/LinkedList", "last", "Ljava/util/LinkedList$Node;", false)
def tyJ11 : Nat → FieldType := fun k => match k with
  | 0 => .int
  | 1 => .int
  | 2 => .object "java/util/LinkedList$Node"
  | _ => .object "java/util/LinkedList$Node"
abbrev wsJ110 : List Cond := u_ws RJ11 TJ11 4
theorem nmJ11 : ∀ a, a < 4 → ∀ b, b < 4 → a ≠ b → (TJ11 a).2.1 ≠ (TJ11 b).2.1 := by decide +kernel
theorem tyJ11_ok : ∀ k, k < 4 → parseFieldDescriptor (TJ11 k).2.2.1 = some (tyJ11 k) := by decide +kernel
abbrev cJ11_init : ByteArray := prog_52_method_2_code
def yJ11_init : MethodName := ⟨RJ11, "<init>", "(Ljava/util/Collection;)V"⟩
abbrev cJ11_init_2 : ByteArray := prog_52_method_1_code
def yJ11_init_2 : MethodName := ⟨RJ11, "<init>", "()V"⟩
abbrev cJ11_addAll : ByteArray := prog_52_method_19_code
def yJ11_addAll : MethodName := ⟨RJ11, "addAll", "(Ljava/util/Collection;)Z"⟩
abbrev cJ11_addAll_2 : ByteArray := prog_52_method_20_code
def yJ11_addAll_2 : MethodName := ⟨RJ11, "addAll", "(ILjava/util/Collection;)Z"⟩
abbrev cJ11_checkPositionIndex : ByteArray := prog_52_method_30_code
def yJ11_checkPositionIndex : MethodName := ⟨RJ11, "checkPositionIndex", "(I)V"⟩
abbrev cJ11_isPositionIndex : ByteArray := prog_52_method_27_code
def yJ11_isPositionIndex : MethodName := ⟨RJ11, "isPositionIndex", "(I)Z"⟩
abbrev cJ11_toArray : ByteArray := prog_52_method_53_code
def yJ11_toArray : MethodName := ⟨RJ11, "toArray", "()[Ljava/lang/Object;"⟩
abbrev cJ11_node : ByteArray := prog_52_method_31_code
def yJ11_node : MethodName := ⟨RJ11, "node", "(I)Ljava/util/LinkedList$Node;"⟩
abbrev cJ11_remove : ByteArray := prog_52_method_25_code
def yJ11_remove : MethodName := ⟨RJ11, "remove", "(I)Ljava/lang/Object;"⟩
abbrev cJ11_checkElementIndex : ByteArray := prog_52_method_29_code
def yJ11_checkElementIndex : MethodName := ⟨RJ11, "checkElementIndex", "(I)V"⟩
abbrev cJ11_isElementIndex : ByteArray := prog_52_method_26_code
def yJ11_isElementIndex : MethodName := ⟨RJ11, "isElementIndex", "(I)Z"⟩
abbrev cJ11_unlink : ByteArray := prog_52_method_8_code
def yJ11_unlink : MethodName := ⟨RJ11, "unlink", "(Ljava/util/LinkedList$Node;)Ljava/lang/Object;"⟩
abbrev cJ11_listIterator : ByteArray := prog_52_method_49_code
def yJ11_listIterator : MethodName := ⟨RJ11, "listIterator", "(I)Ljava/util/ListIterator;"⟩
abbrev cJ11_size : ByteArray := prog_52_method_16_code
def yJ11_size : MethodName := ⟨RJ11, "size", "()I"⟩
abbrev cJ11_get : ByteArray := prog_52_method_22_code
def yJ11_get : MethodName := ⟨RJ11, "get", "(I)Ljava/lang/Object;"⟩
abbrev cJ11_add : ByteArray := prog_52_method_17_code
def yJ11_add : MethodName := ⟨RJ11, "add", "(Ljava/lang/Object;)Z"⟩
abbrev cJ11_linkLast : ByteArray := prog_52_method_4_code
def yJ11_linkLast : MethodName := ⟨RJ11, "linkLast", "(Ljava/lang/Object;)V"⟩
abbrev cJ11_poll : ByteArray := prog_52_method_36_code
def yJ11_poll : MethodName := ⟨RJ11, "poll", "()Ljava/lang/Object;"⟩
abbrev cJ11_unlinkFirst : ByteArray := prog_52_method_6_code
def yJ11_unlinkFirst : MethodName := ⟨RJ11, "unlinkFirst", "(Ljava/util/LinkedList$Node;)Ljava/lang/Object;"⟩
theorem q99 : (Jvm.Cond.initialized "java/util/LinkedList") ∈ lw_all := lw_g (lw_at lw_m1 15 rfl) rfl
theorem q280 : (Jvm.Cond.selects "java/util/LinkedList" ({ cls := "java/lang/Object", name := "getClass", desc := "()Ljava/lang/Class;" } : Jvm.MethodName) ({ cls := "java/lang/Object", name := "getClass", desc := "()Ljava/lang/Class;" } : Jvm.MethodName)) ∈ lw_all := lw_g (lw_at lw_m1 196 rfl) rfl
theorem q337 : (Jvm.Cond.instantiable "java/util/LinkedList" (4 : Nat)) ∈ lw_all := lw_g (lw_at lw_m2 13 rfl) rfl
theorem q361 : (Jvm.Cond.instanceMethod ({ cls := "java/util/LinkedList", name := "<init>", desc := "(Ljava/util/Collection;)V" } : Jvm.MethodName)) ∈ lw_all := lw_g (lw_at lw_m2 37 rfl) rfl
theorem q362 : (Jvm.Cond.code ({ cls := "java/util/LinkedList", name := "<init>", desc := "(Ljava/util/Collection;)V" } : Jvm.MethodName) prog_52_method_2_code (2 : Nat) (Option.none : Option Jvm.ClassFile.FieldType)) ∈ lw_all := lw_g (lw_at lw_m2 38 rfl) rfl
theorem q363 : (Jvm.Cond.methodLink "java/util/LinkedList" (13 : Nat) ({ cls := "java/util/LinkedList", name := "<init>", desc := "()V" } : Jvm.MethodName)) ∈ lw_all := lw_g (lw_at lw_m2 39 rfl) rfl
theorem q364 : (Jvm.Cond.instanceMethod ({ cls := "java/util/LinkedList", name := "<init>", desc := "()V" } : Jvm.MethodName)) ∈ lw_all := lw_g (lw_at lw_m2 40 rfl) rfl
theorem q365 : (Jvm.Cond.code ({ cls := "java/util/LinkedList", name := "<init>", desc := "()V" } : Jvm.MethodName) prog_52_method_1_code (1 : Nat) (Option.none : Option Jvm.ClassFile.FieldType)) ∈ lw_all := lw_g (lw_at lw_m2 41 rfl) rfl
theorem q366 : (Jvm.Cond.methodLink "java/util/LinkedList" (1 : Nat) ({ cls := "java/util/AbstractSequentialList", name := "<init>", desc := "()V" } : Jvm.MethodName)) ∈ lw_all := lw_g (lw_at lw_m2 42 rfl) rfl
theorem q373 : (Jvm.Cond.fieldLink "java/util/LinkedList" (7 : Nat) "java/util/LinkedList" "size" "I") ∈ lw_all := lw_g (lw_at lw_m2 49 rfl) rfl
theorem q375 : (Jvm.Cond.fieldLink "java/util/LinkedList" (18 : Nat) "java/util/LinkedList" "first" "Ljava/util/LinkedList$Node;") ∈ lw_all := lw_g (lw_at lw_m2 51 rfl) rfl
theorem q376 : (Jvm.Cond.fieldLink "java/util/LinkedList" (27 : Nat) "java/util/LinkedList" "last" "Ljava/util/LinkedList$Node;") ∈ lw_all := lw_g (lw_at lw_m2 52 rfl) rfl
theorem q379 : (Jvm.Cond.sameField "java/util/LinkedList" "java/util/AbstractList" "modCount" "I") ∈ lw_all := lw_g (lw_at lw_m2 55 rfl) rfl
theorem q381 : (Jvm.Cond.fieldLink "java/util/LinkedList" (33 : Nat) "java/util/LinkedList" "modCount" "I") ∈ lw_all := lw_g (lw_at lw_m2 57 rfl) rfl
theorem q382 : (Jvm.Cond.lays "java/util/LinkedList" "java/util/LinkedList" "size" "I") ∈ lw_all := lw_g (lw_at lw_m2 58 rfl) rfl
theorem q383 : (Jvm.Cond.soleField "java/util/LinkedList" "size") ∈ lw_all := lw_g (lw_at lw_m2 59 rfl) rfl
theorem q384 : (Jvm.Cond.lays "java/util/LinkedList" "java/util/LinkedList" "first" "Ljava/util/LinkedList$Node;") ∈ lw_all := lw_g (lw_at lw_m2 60 rfl) rfl
theorem q385 : (Jvm.Cond.soleField "java/util/LinkedList" "first") ∈ lw_all := lw_g (lw_at lw_m2 61 rfl) rfl
theorem q386 : (Jvm.Cond.lays "java/util/LinkedList" "java/util/LinkedList" "last" "Ljava/util/LinkedList$Node;") ∈ lw_all := lw_g (lw_at lw_m2 62 rfl) rfl
theorem q387 : (Jvm.Cond.soleField "java/util/LinkedList" "last") ∈ lw_all := lw_g (lw_at lw_m2 63 rfl) rfl
theorem q388 : (Jvm.Cond.lays "java/util/LinkedList" "java/util/AbstractList" "modCount" "I") ∈ lw_all := lw_g (lw_at lw_m2 64 rfl) rfl
theorem q390 : (Jvm.Cond.superclass "java/util/LinkedList" "java/util/AbstractSequentialList") ∈ lw_all := lw_g (lw_at lw_m2 66 rfl) rfl
theorem q391 : (Jvm.Cond.methodLink "java/util/LinkedList" (14 : Nat) ({ cls := "java/util/LinkedList", name := "addAll", desc := "(Ljava/util/Collection;)Z" } : Jvm.MethodName)) ∈ lw_all := lw_g (lw_at lw_m2 67 rfl) rfl
theorem q392 : (Jvm.Cond.instanceMethod ({ cls := "java/util/LinkedList", name := "addAll", desc := "(Ljava/util/Collection;)Z" } : Jvm.MethodName)) ∈ lw_all := lw_g (lw_at lw_m2 68 rfl) rfl
theorem q393 : (Jvm.Cond.selects "java/util/LinkedList" ({ cls := "java/util/LinkedList", name := "addAll", desc := "(Ljava/util/Collection;)Z" } : Jvm.MethodName) ({ cls := "java/util/LinkedList", name := "addAll", desc := "(Ljava/util/Collection;)Z" } : Jvm.MethodName)) ∈ lw_all := lw_g (lw_at lw_m2 69 rfl) rfl
theorem q394 : (Jvm.Cond.code ({ cls := "java/util/LinkedList", name := "addAll", desc := "(Ljava/util/Collection;)Z" } : Jvm.MethodName) prog_52_method_19_code (2 : Nat) (Option.some Jvm.ClassFile.FieldType.boolean)) ∈ lw_all := lw_g (lw_at lw_m2 70 rfl) rfl
theorem q395 : (Jvm.Cond.methodLink "java/util/LinkedList" (73 : Nat) ({ cls := "java/util/LinkedList", name := "addAll", desc := "(ILjava/util/Collection;)Z" } : Jvm.MethodName)) ∈ lw_all := lw_g (lw_at lw_m2 71 rfl) rfl
theorem q396 : (Jvm.Cond.instanceMethod ({ cls := "java/util/LinkedList", name := "addAll", desc := "(ILjava/util/Collection;)Z" } : Jvm.MethodName)) ∈ lw_all := lw_g (lw_at lw_m2 72 rfl) rfl
theorem q397 : (Jvm.Cond.selects "java/util/LinkedList" ({ cls := "java/util/LinkedList", name := "addAll", desc := "(ILjava/util/Collection;)Z" } : Jvm.MethodName) ({ cls := "java/util/LinkedList", name := "addAll", desc := "(ILjava/util/Collection;)Z" } : Jvm.MethodName)) ∈ lw_all := lw_g (lw_at lw_m2 73 rfl) rfl
theorem q398 : (Jvm.Cond.code ({ cls := "java/util/LinkedList", name := "addAll", desc := "(ILjava/util/Collection;)Z" } : Jvm.MethodName) prog_52_method_20_code (13 : Nat) (Option.some Jvm.ClassFile.FieldType.boolean)) ∈ lw_all := lw_g (lw_at lw_m2 74 rfl) rfl
theorem q399 : (Jvm.Cond.methodLink "java/util/LinkedList" (76 : Nat) ({ cls := "java/util/LinkedList", name := "checkPositionIndex", desc := "(I)V" } : Jvm.MethodName)) ∈ lw_all := lw_g (lw_at lw_m2 75 rfl) rfl
theorem q400 : (Jvm.Cond.privateMethod ({ cls := "java/util/LinkedList", name := "checkPositionIndex", desc := "(I)V" } : Jvm.MethodName)) ∈ lw_tbl := lw_at lw_m2 76 rfl
theorem q401 : (Jvm.Cond.instanceMethod ({ cls := "java/util/LinkedList", name := "checkPositionIndex", desc := "(I)V" } : Jvm.MethodName)) ∈ lw_all := lw_g (lw_at lw_m2 77 rfl) rfl
theorem q402 : (Jvm.Cond.code ({ cls := "java/util/LinkedList", name := "checkPositionIndex", desc := "(I)V" } : Jvm.MethodName) prog_52_method_30_code (2 : Nat) (Option.none : Option Jvm.ClassFile.FieldType)) ∈ lw_all := lw_g (lw_at lw_m2 78 rfl) rfl
theorem q403 : (Jvm.Cond.methodLink "java/util/LinkedList" (128 : Nat) ({ cls := "java/util/LinkedList", name := "isPositionIndex", desc := "(I)Z" } : Jvm.MethodName)) ∈ lw_all := lw_g (lw_at lw_m2 79 rfl) rfl
theorem q404 : (Jvm.Cond.privateMethod ({ cls := "java/util/LinkedList", name := "isPositionIndex", desc := "(I)Z" } : Jvm.MethodName)) ∈ lw_tbl := lw_at lw_m2 80 rfl
theorem q405 : (Jvm.Cond.instanceMethod ({ cls := "java/util/LinkedList", name := "isPositionIndex", desc := "(I)Z" } : Jvm.MethodName)) ∈ lw_all := lw_g (lw_at lw_m2 81 rfl) rfl
theorem q406 : (Jvm.Cond.code ({ cls := "java/util/LinkedList", name := "isPositionIndex", desc := "(I)Z" } : Jvm.MethodName) prog_52_method_27_code (2 : Nat) (Option.some Jvm.ClassFile.FieldType.boolean)) ∈ lw_all := lw_g (lw_at lw_m2 82 rfl) rfl
theorem q407 : (Jvm.Cond.interfaceEntry "java/util/LinkedList" (80 : Nat)) ∈ lw_tbl := lw_at lw_m2 83 rfl
theorem q408 : (Jvm.Cond.methodLink "java/util/LinkedList" (80 : Nat) ({ cls := "java/util/Collection", name := "toArray", desc := "()[Ljava/lang/Object;" } : Jvm.MethodName)) ∈ lw_all := lw_g (lw_at lw_m2 84 rfl) rfl
theorem q455 : (Jvm.Cond.castable "java/util/LinkedList" "java/util/Collection") ∈ lw_tbl := lw_at lw_m2 131 rfl
theorem q456 : (Jvm.Cond.selects "java/util/LinkedList" ({ cls := "java/util/Collection", name := "toArray", desc := "()[Ljava/lang/Object;" } : Jvm.MethodName) ({ cls := "java/util/LinkedList", name := "toArray", desc := "()[Ljava/lang/Object;" } : Jvm.MethodName)) ∈ lw_all := lw_g (lw_at lw_m2 132 rfl) rfl
theorem q457 : (Jvm.Cond.unhidden "java/util/LinkedList" "toArray" "()[Ljava/lang/Object;") ∈ lw_tbl := lw_at lw_m2 133 rfl
theorem q458 : (Jvm.Cond.instanceMethod ({ cls := "java/util/LinkedList", name := "toArray", desc := "()[Ljava/lang/Object;" } : Jvm.MethodName)) ∈ lw_all := lw_g (lw_at lw_m2 134 rfl) rfl
theorem q459 : (Jvm.Cond.publicMethod ({ cls := "java/util/LinkedList", name := "toArray", desc := "()[Ljava/lang/Object;" } : Jvm.MethodName)) ∈ lw_tbl := lw_at lw_m2 135 rfl
theorem q460 : (Jvm.Cond.code ({ cls := "java/util/LinkedList", name := "toArray", desc := "()[Ljava/lang/Object;" } : Jvm.MethodName) prog_52_method_53_code (4 : Nat) (Option.some (Jvm.ClassFile.FieldType.array (Jvm.ClassFile.FieldType.object "java/lang/Object")))) ∈ lw_all := lw_g (lw_at lw_m2 136 rfl) rfl
theorem q461 : (Jvm.Cond.classLink "java/util/LinkedList" (68 : Nat) "java/lang/Object") ∈ lw_all := lw_g (lw_at lw_m2 137 rfl) rfl
theorem q462 : (Jvm.Cond.methodLink "java/util/LinkedList" (86 : Nat) ({ cls := "java/util/LinkedList", name := "node", desc := "(I)Ljava/util/LinkedList$Node;" } : Jvm.MethodName)) ∈ lw_all := lw_g (lw_at lw_m2 138 rfl) rfl
theorem q463 : (Jvm.Cond.instanceMethod ({ cls := "java/util/LinkedList", name := "node", desc := "(I)Ljava/util/LinkedList$Node;" } : Jvm.MethodName)) ∈ lw_all := lw_g (lw_at lw_m2 139 rfl) rfl
theorem q464 : (Jvm.Cond.selects "java/util/LinkedList" ({ cls := "java/util/LinkedList", name := "node", desc := "(I)Ljava/util/LinkedList$Node;" } : Jvm.MethodName) ({ cls := "java/util/LinkedList", name := "node", desc := "(I)Ljava/util/LinkedList$Node;" } : Jvm.MethodName)) ∈ lw_all := lw_g (lw_at lw_m2 140 rfl) rfl
theorem q465 : (Jvm.Cond.code ({ cls := "java/util/LinkedList", name := "node", desc := "(I)Ljava/util/LinkedList$Node;" } : Jvm.MethodName) prog_52_method_31_code (4 : Nat) (Option.some (Jvm.ClassFile.FieldType.object "java/util/LinkedList$Node"))) ∈ lw_all := lw_g (lw_at lw_m2 141 rfl) rfl
theorem q466 : (Jvm.Cond.classLink "java/util/LinkedList" (22 : Nat) "java/util/LinkedList$Node") ∈ lw_all := lw_g (lw_at lw_m2 142 rfl) rfl
theorem q468 : (Jvm.Cond.methodLink "java/util/LinkedList" (24 : Nat) ({ cls := "java/util/LinkedList$Node", name := "<init>", desc := "(Ljava/util/LinkedList$Node;Ljava/lang/Object;Ljava/util/LinkedList$Node;)V" } : Jvm.MethodName)) ∈ lw_all := lw_g (lw_at lw_m2 144 rfl) rfl
theorem q474 : (Jvm.Cond.fieldLink "java/util/LinkedList" (39 : Nat) "java/util/LinkedList$Node" "item" "Ljava/lang/Object;") ∈ lw_all := lw_g (lw_at lw_m2 150 rfl) rfl
theorem q477 : (Jvm.Cond.fieldLink "java/util/LinkedList" (36 : Nat) "java/util/LinkedList$Node" "next" "Ljava/util/LinkedList$Node;") ∈ lw_all := lw_g (lw_at lw_m2 153 rfl) rfl
theorem q479 : (Jvm.Cond.fieldLink "java/util/LinkedList" (30 : Nat) "java/util/LinkedList$Node" "prev" "Ljava/util/LinkedList$Node;") ∈ lw_all := lw_g (lw_at lw_m2 155 rfl) rfl
theorem q488 : (Jvm.Cond.instanceMethod ({ cls := "java/util/LinkedList", name := "remove", desc := "(I)Ljava/lang/Object;" } : Jvm.MethodName)) ∈ lw_all := lw_g (lw_at lw_m2 164 rfl) rfl
theorem q489 : (Jvm.Cond.selects "java/util/LinkedList" ({ cls := "java/util/LinkedList", name := "remove", desc := "(I)Ljava/lang/Object;" } : Jvm.MethodName) ({ cls := "java/util/LinkedList", name := "remove", desc := "(I)Ljava/lang/Object;" } : Jvm.MethodName)) ∈ lw_all := lw_g (lw_at lw_m2 165 rfl) rfl
theorem q490 : (Jvm.Cond.code ({ cls := "java/util/LinkedList", name := "remove", desc := "(I)Ljava/lang/Object;" } : Jvm.MethodName) prog_52_method_25_code (2 : Nat) (Option.some (Jvm.ClassFile.FieldType.object "java/lang/Object"))) ∈ lw_all := lw_g (lw_at lw_m2 166 rfl) rfl
theorem q491 : (Jvm.Cond.methodLink "java/util/LinkedList" (90 : Nat) ({ cls := "java/util/LinkedList", name := "checkElementIndex", desc := "(I)V" } : Jvm.MethodName)) ∈ lw_all := lw_g (lw_at lw_m2 167 rfl) rfl
theorem q492 : (Jvm.Cond.privateMethod ({ cls := "java/util/LinkedList", name := "checkElementIndex", desc := "(I)V" } : Jvm.MethodName)) ∈ lw_tbl := lw_at lw_m2 168 rfl
theorem q493 : (Jvm.Cond.instanceMethod ({ cls := "java/util/LinkedList", name := "checkElementIndex", desc := "(I)V" } : Jvm.MethodName)) ∈ lw_all := lw_g (lw_at lw_m2 169 rfl) rfl
theorem q494 : (Jvm.Cond.code ({ cls := "java/util/LinkedList", name := "checkElementIndex", desc := "(I)V" } : Jvm.MethodName) prog_52_method_29_code (2 : Nat) (Option.none : Option Jvm.ClassFile.FieldType)) ∈ lw_all := lw_g (lw_at lw_m2 170 rfl) rfl
theorem q495 : (Jvm.Cond.methodLink "java/util/LinkedList" (115 : Nat) ({ cls := "java/util/LinkedList", name := "isElementIndex", desc := "(I)Z" } : Jvm.MethodName)) ∈ lw_all := lw_g (lw_at lw_m2 171 rfl) rfl
theorem q496 : (Jvm.Cond.privateMethod ({ cls := "java/util/LinkedList", name := "isElementIndex", desc := "(I)Z" } : Jvm.MethodName)) ∈ lw_tbl := lw_at lw_m2 172 rfl
theorem q497 : (Jvm.Cond.instanceMethod ({ cls := "java/util/LinkedList", name := "isElementIndex", desc := "(I)Z" } : Jvm.MethodName)) ∈ lw_all := lw_g (lw_at lw_m2 173 rfl) rfl
theorem q498 : (Jvm.Cond.code ({ cls := "java/util/LinkedList", name := "isElementIndex", desc := "(I)Z" } : Jvm.MethodName) prog_52_method_26_code (2 : Nat) (Option.some Jvm.ClassFile.FieldType.boolean)) ∈ lw_all := lw_g (lw_at lw_m2 174 rfl) rfl
theorem q499 : (Jvm.Cond.methodLink "java/util/LinkedList" (64 : Nat) ({ cls := "java/util/LinkedList", name := "unlink", desc := "(Ljava/util/LinkedList$Node;)Ljava/lang/Object;" } : Jvm.MethodName)) ∈ lw_all := lw_g (lw_at lw_m2 175 rfl) rfl
theorem q500 : (Jvm.Cond.instanceMethod ({ cls := "java/util/LinkedList", name := "unlink", desc := "(Ljava/util/LinkedList$Node;)Ljava/lang/Object;" } : Jvm.MethodName)) ∈ lw_all := lw_g (lw_at lw_m2 176 rfl) rfl
theorem q501 : (Jvm.Cond.selects "java/util/LinkedList" ({ cls := "java/util/LinkedList", name := "unlink", desc := "(Ljava/util/LinkedList$Node;)Ljava/lang/Object;" } : Jvm.MethodName) ({ cls := "java/util/LinkedList", name := "unlink", desc := "(Ljava/util/LinkedList$Node;)Ljava/lang/Object;" } : Jvm.MethodName)) ∈ lw_all := lw_g (lw_at lw_m2 177 rfl) rfl
theorem q502 : (Jvm.Cond.code ({ cls := "java/util/LinkedList", name := "unlink", desc := "(Ljava/util/LinkedList$Node;)Ljava/lang/Object;" } : Jvm.MethodName) prog_52_method_8_code (5 : Nat) (Option.some (Jvm.ClassFile.FieldType.object "java/lang/Object"))) ∈ lw_all := lw_g (lw_at lw_m2 178 rfl) rfl
theorem q661 : (Jvm.Cond.castable "java/util/LinkedList" "java/util/List") ∈ lw_tbl := lw_at lw_m3 97 rfl
theorem q662 : (Jvm.Cond.selects "java/util/LinkedList" ({ cls := "java/util/List", name := "iterator", desc := "()Ljava/util/Iterator;" } : Jvm.MethodName) ({ cls := "java/util/AbstractSequentialList", name := "iterator", desc := "()Ljava/util/Iterator;" } : Jvm.MethodName)) ∈ lw_all := lw_g (lw_at lw_m3 98 rfl) rfl
theorem q663 : (Jvm.Cond.unhidden "java/util/LinkedList" "iterator" "()Ljava/util/Iterator;") ∈ lw_tbl := lw_at lw_m3 99 rfl
theorem q670 : (Jvm.Cond.selects "java/util/LinkedList" ({ cls := "java/util/AbstractSequentialList", name := "listIterator", desc := "()Ljava/util/ListIterator;" } : Jvm.MethodName) ({ cls := "java/util/AbstractList", name := "listIterator", desc := "()Ljava/util/ListIterator;" } : Jvm.MethodName)) ∈ lw_all := lw_g (lw_at lw_m3 106 rfl) rfl
theorem q676 : (Jvm.Cond.selects "java/util/LinkedList" ({ cls := "java/util/AbstractList", name := "listIterator", desc := "(I)Ljava/util/ListIterator;" } : Jvm.MethodName) ({ cls := "java/util/LinkedList", name := "listIterator", desc := "(I)Ljava/util/ListIterator;" } : Jvm.MethodName)) ∈ lw_all := lw_g (lw_at lw_m3 112 rfl) rfl
theorem q677 : (Jvm.Cond.instanceMethod ({ cls := "java/util/LinkedList", name := "listIterator", desc := "(I)Ljava/util/ListIterator;" } : Jvm.MethodName)) ∈ lw_all := lw_g (lw_at lw_m3 113 rfl) rfl
theorem q678 : (Jvm.Cond.code ({ cls := "java/util/LinkedList", name := "listIterator", desc := "(I)Ljava/util/ListIterator;" } : Jvm.MethodName) prog_52_method_49_code (2 : Nat) (Option.some (Jvm.ClassFile.FieldType.object "java/util/ListIterator"))) ∈ lw_all := lw_g (lw_at lw_m3 114 rfl) rfl
theorem q679 : (Jvm.Cond.classLink "java/util/LinkedList" (150 : Nat) "java/util/LinkedList$ListItr") ∈ lw_all := lw_g (lw_at lw_m3 115 rfl) rfl
theorem q681 : (Jvm.Cond.methodLink "java/util/LinkedList" (152 : Nat) ({ cls := "java/util/LinkedList$ListItr", name := "<init>", desc := "(Ljava/util/LinkedList;I)V" } : Jvm.MethodName)) ∈ lw_all := lw_g (lw_at lw_m3 117 rfl) rfl
theorem q715 : (Jvm.Cond.selects "java/util/LinkedList" ({ cls := "java/util/AbstractList", name := "size", desc := "()I" } : Jvm.MethodName) ({ cls := "java/util/LinkedList", name := "size", desc := "()I" } : Jvm.MethodName)) ∈ lw_all := lw_g (lw_at lw_m3 151 rfl) rfl
theorem q716 : (Jvm.Cond.instanceMethod ({ cls := "java/util/LinkedList", name := "size", desc := "()I" } : Jvm.MethodName)) ∈ lw_all := lw_g (lw_at lw_m3 152 rfl) rfl
theorem q717 : (Jvm.Cond.code ({ cls := "java/util/LinkedList", name := "size", desc := "()I" } : Jvm.MethodName) prog_52_method_16_code (1 : Nat) (Option.some Jvm.ClassFile.FieldType.int)) ∈ lw_all := lw_g (lw_at lw_m3 153 rfl) rfl
theorem q753 : (Jvm.Cond.selects "java/util/LinkedList" ({ cls := "java/util/AbstractList", name := "get", desc := "(I)Ljava/lang/Object;" } : Jvm.MethodName) ({ cls := "java/util/LinkedList", name := "get", desc := "(I)Ljava/lang/Object;" } : Jvm.MethodName)) ∈ lw_all := lw_g (lw_at lw_m3 189 rfl) rfl
theorem q754 : (Jvm.Cond.instanceMethod ({ cls := "java/util/LinkedList", name := "get", desc := "(I)Ljava/lang/Object;" } : Jvm.MethodName)) ∈ lw_all := lw_g (lw_at lw_m3 190 rfl) rfl
theorem q755 : (Jvm.Cond.code ({ cls := "java/util/LinkedList", name := "get", desc := "(I)Ljava/lang/Object;" } : Jvm.MethodName) prog_52_method_22_code (2 : Nat) (Option.some (Jvm.ClassFile.FieldType.object "java/lang/Object"))) ∈ lw_all := lw_g (lw_at lw_m3 191 rfl) rfl
theorem q1085 : (Jvm.Cond.selects "java/util/LinkedList" ({ cls := "java/util/List", name := "get", desc := "(I)Ljava/lang/Object;" } : Jvm.MethodName) ({ cls := "java/util/LinkedList", name := "get", desc := "(I)Ljava/lang/Object;" } : Jvm.MethodName)) ∈ lw_all := lw_g (lw_at lw_m5 41 rfl) rfl
theorem q1086 : (Jvm.Cond.unhidden "java/util/LinkedList" "get" "(I)Ljava/lang/Object;") ∈ lw_tbl := lw_at lw_m5 42 rfl
theorem q1087 : (Jvm.Cond.publicMethod ({ cls := "java/util/LinkedList", name := "get", desc := "(I)Ljava/lang/Object;" } : Jvm.MethodName)) ∈ lw_tbl := lw_at lw_m5 43 rfl
theorem q1558 : (Jvm.Cond.instanceMethod ({ cls := "java/util/LinkedList", name := "add", desc := "(Ljava/lang/Object;)Z" } : Jvm.MethodName)) ∈ lw_all := lw_g (lw_at lw_m7 34 rfl) rfl
theorem q1559 : (Jvm.Cond.selects "java/util/LinkedList" ({ cls := "java/util/LinkedList", name := "add", desc := "(Ljava/lang/Object;)Z" } : Jvm.MethodName) ({ cls := "java/util/LinkedList", name := "add", desc := "(Ljava/lang/Object;)Z" } : Jvm.MethodName)) ∈ lw_all := lw_g (lw_at lw_m7 35 rfl) rfl
theorem q1560 : (Jvm.Cond.code ({ cls := "java/util/LinkedList", name := "add", desc := "(Ljava/lang/Object;)Z" } : Jvm.MethodName) prog_52_method_17_code (2 : Nat) (Option.some Jvm.ClassFile.FieldType.boolean)) ∈ lw_all := lw_g (lw_at lw_m7 36 rfl) rfl
theorem q1561 : (Jvm.Cond.methodLink "java/util/LinkedList" (57 : Nat) ({ cls := "java/util/LinkedList", name := "linkLast", desc := "(Ljava/lang/Object;)V" } : Jvm.MethodName)) ∈ lw_all := lw_g (lw_at lw_m7 37 rfl) rfl
theorem q1562 : (Jvm.Cond.instanceMethod ({ cls := "java/util/LinkedList", name := "linkLast", desc := "(Ljava/lang/Object;)V" } : Jvm.MethodName)) ∈ lw_all := lw_g (lw_at lw_m7 38 rfl) rfl
theorem q1563 : (Jvm.Cond.selects "java/util/LinkedList" ({ cls := "java/util/LinkedList", name := "linkLast", desc := "(Ljava/lang/Object;)V" } : Jvm.MethodName) ({ cls := "java/util/LinkedList", name := "linkLast", desc := "(Ljava/lang/Object;)V" } : Jvm.MethodName)) ∈ lw_all := lw_g (lw_at lw_m7 39 rfl) rfl
theorem q1564 : (Jvm.Cond.code ({ cls := "java/util/LinkedList", name := "linkLast", desc := "(Ljava/lang/Object;)V" } : Jvm.MethodName) prog_52_method_4_code (4 : Nat) (Option.none : Option Jvm.ClassFile.FieldType)) ∈ lw_all := lw_g (lw_at lw_m7 40 rfl) rfl
theorem q1566 : (Jvm.Cond.sameMethod "java/util/LinkedList" "java/util/AbstractCollection" "isEmpty" "()Z") ∈ lw_all := lw_g (lw_at lw_m7 42 rfl) rfl
theorem q1568 : (Jvm.Cond.selects "java/util/LinkedList" ({ cls := "java/util/LinkedList", name := "isEmpty", desc := "()Z" } : Jvm.MethodName) ({ cls := "java/util/AbstractCollection", name := "isEmpty", desc := "()Z" } : Jvm.MethodName)) ∈ lw_all := lw_g (lw_at lw_m7 44 rfl) rfl
theorem q1573 : (Jvm.Cond.instanceMethod ({ cls := "java/util/LinkedList", name := "poll", desc := "()Ljava/lang/Object;" } : Jvm.MethodName)) ∈ lw_all := lw_g (lw_at lw_m7 49 rfl) rfl
theorem q1574 : (Jvm.Cond.selects "java/util/LinkedList" ({ cls := "java/util/LinkedList", name := "poll", desc := "()Ljava/lang/Object;" } : Jvm.MethodName) ({ cls := "java/util/LinkedList", name := "poll", desc := "()Ljava/lang/Object;" } : Jvm.MethodName)) ∈ lw_all := lw_g (lw_at lw_m7 50 rfl) rfl
theorem q1575 : (Jvm.Cond.code ({ cls := "java/util/LinkedList", name := "poll", desc := "()Ljava/lang/Object;" } : Jvm.MethodName) prog_52_method_36_code (2 : Nat) (Option.some (Jvm.ClassFile.FieldType.object "java/lang/Object"))) ∈ lw_all := lw_g (lw_at lw_m7 51 rfl) rfl
theorem q1576 : (Jvm.Cond.methodLink "java/util/LinkedList" (46 : Nat) ({ cls := "java/util/LinkedList", name := "unlinkFirst", desc := "(Ljava/util/LinkedList$Node;)Ljava/lang/Object;" } : Jvm.MethodName)) ∈ lw_all := lw_g (lw_at lw_m7 52 rfl) rfl
theorem q1577 : (Jvm.Cond.privateMethod ({ cls := "java/util/LinkedList", name := "unlinkFirst", desc := "(Ljava/util/LinkedList$Node;)Ljava/lang/Object;" } : Jvm.MethodName)) ∈ lw_tbl := lw_at lw_m7 53 rfl
theorem q1578 : (Jvm.Cond.instanceMethod ({ cls := "java/util/LinkedList", name := "unlinkFirst", desc := "(Ljava/util/LinkedList$Node;)Ljava/lang/Object;" } : Jvm.MethodName)) ∈ lw_all := lw_g (lw_at lw_m7 54 rfl) rfl
theorem q1579 : (Jvm.Cond.code ({ cls := "java/util/LinkedList", name := "unlinkFirst", desc := "(Ljava/util/LinkedList$Node;)Ljava/lang/Object;" } : Jvm.MethodName) prog_52_method_6_code (4 : Nat) (Option.some (Jvm.ClassFile.FieldType.object "java/lang/Object"))) ∈ lw_all := lw_g (lw_at lw_m7 55 rfl) rfl
theorem q2154 : (Jvm.Cond.selects "java/util/LinkedList" ({ cls := "java/util/AbstractCollection", name := "size", desc := "()I" } : Jvm.MethodName) ({ cls := "java/util/LinkedList", name := "size", desc := "()I" } : Jvm.MethodName)) ∈ lw_all := lw_g (lw_at lw_m9 150 rfl) rfl
theorem q2164 : (Jvm.Cond.castable "java/util/LinkedList" "java/lang/Object") ∈ lw_tbl := lw_at lw_m9 160 rfl
theorem in_J11 : ∀ w ∈ wsJ110, w ∈ lw_all := lw_in wsJ110 [388, 382, 384, 386] (by decide +kernel) (by decide +kernel)
/-! java/lang/Number -/
def RJ12 : String := "java/lang/Number"
abbrev cJ12_init : ByteArray := prog_23_method_1_code
def yJ12_init : MethodName := ⟨RJ12, "<init>", "()V"⟩
theorem q100 : (Jvm.Cond.initialized "java/lang/Number") ∈ lw_all := lw_g (lw_at lw_m1 16 rfl) rfl
theorem q351 : (Jvm.Cond.instanceMethod ({ cls := "java/lang/Number", name := "<init>", desc := "()V" } : Jvm.MethodName)) ∈ lw_all := lw_g (lw_at lw_m2 27 rfl) rfl
theorem q352 : (Jvm.Cond.code ({ cls := "java/lang/Number", name := "<init>", desc := "()V" } : Jvm.MethodName) prog_23_method_1_code (1 : Nat) (Option.none : Option Jvm.ClassFile.FieldType)) ∈ lw_all := lw_g (lw_at lw_m2 28 rfl) rfl
theorem q353 : (Jvm.Cond.methodLink "java/lang/Number" (1 : Nat) ({ cls := "java/lang/Object", name := "<init>", desc := "()V" } : Jvm.MethodName)) ∈ lw_all := lw_g (lw_at lw_m2 29 rfl) rfl
/-! java/lang/Integer -/
def RJ13 : String := "java/lang/Integer"
def TJ13 : u_T := fun k => match k with
  | _ => ("java/lang/Integer", "value", "I", true)
def tyJ13 : Nat → FieldType := fun k => match k with
  | _ => .int
abbrev wsJ130 : List Cond := u_ws RJ13 TJ13 1
theorem nmJ13 : ∀ a, a < 1 → ∀ b, b < 1 → a ≠ b → (TJ13 a).2.1 ≠ (TJ13 b).2.1 := by decide +kernel
theorem tyJ13_ok : ∀ k, k < 1 → parseFieldDescriptor (TJ13 k).2.2.1 = some (tyJ13 k) := by decide +kernel
abbrev cJ13_valueOf : ByteArray := prog_18_method_22_code
def yJ13_valueOf : MethodName := ⟨RJ13, "valueOf", "(I)Ljava/lang/Integer;"⟩
abbrev cJ13_init : ByteArray := prog_18_method_23_code
def yJ13_init : MethodName := ⟨RJ13, "<init>", "(I)V"⟩
abbrev cJ13_intValue : ByteArray := prog_18_method_27_code
def yJ13_intValue : MethodName := ⟨RJ13, "intValue", "()I"⟩
abbrev cJ13_numberOfTrailingZeros : ByteArray := prog_18_method_48_code
def yJ13_numberOfTrailingZeros : MethodName := ⟨RJ13, "numberOfTrailingZeros", "(I)I"⟩
abbrev cJ13_numberOfLeadingZeros : ByteArray := prog_18_method_47_code
def yJ13_numberOfLeadingZeros : MethodName := ⟨RJ13, "numberOfLeadingZeros", "(I)I"⟩
abbrev cJ13_bitCount : ByteArray := prog_18_method_49_code
def yJ13_bitCount : MethodName := ⟨RJ13, "bitCount", "(I)I"⟩
theorem q101 : (Jvm.Cond.initialized "java/lang/Integer") ∈ lw_all := lw_g (lw_at lw_m1 17 rfl) rfl
theorem q270 : (Jvm.Cond.selects "java/lang/Integer" ({ cls := "java/lang/Object", name := "getClass", desc := "()Ljava/lang/Class;" } : Jvm.MethodName) ({ cls := "java/lang/Object", name := "getClass", desc := "()Ljava/lang/Class;" } : Jvm.MethodName)) ∈ lw_all := lw_g (lw_at lw_m1 186 rfl) rfl
theorem q339 : (Jvm.Cond.static ({ cls := "java/lang/Integer", name := "valueOf", desc := "(I)Ljava/lang/Integer;" } : Jvm.MethodName)) ∈ lw_all := lw_g (lw_at lw_m2 15 rfl) rfl
theorem q340 : (Jvm.Cond.code ({ cls := "java/lang/Integer", name := "valueOf", desc := "(I)Ljava/lang/Integer;" } : Jvm.MethodName) prog_18_method_22_code (1 : Nat) (Option.some (Jvm.ClassFile.FieldType.object "java/lang/Integer"))) ∈ lw_all := lw_g (lw_at lw_m2 16 rfl) rfl
theorem q341 : (Jvm.Cond.fieldLink "java/lang/Integer" (191 : Nat) "java/lang/Integer$IntegerCache" "high" "I") ∈ lw_all := lw_g (lw_at lw_m2 17 rfl) rfl
theorem q343 : (Jvm.Cond.fieldLink "java/lang/Integer" (195 : Nat) "java/lang/Integer$IntegerCache" "cache" "[Ljava/lang/Integer;") ∈ lw_all := lw_g (lw_at lw_m2 19 rfl) rfl
theorem q345 : (Jvm.Cond.classLink "java/lang/Integer" (1 : Nat) "java/lang/Integer") ∈ lw_all := lw_g (lw_at lw_m2 21 rfl) rfl
theorem q346 : (Jvm.Cond.instantiable "java/lang/Integer" (1 : Nat)) ∈ lw_all := lw_g (lw_at lw_m2 22 rfl) rfl
theorem q347 : (Jvm.Cond.methodLink "java/lang/Integer" (199 : Nat) ({ cls := "java/lang/Integer", name := "<init>", desc := "(I)V" } : Jvm.MethodName)) ∈ lw_all := lw_g (lw_at lw_m2 23 rfl) rfl
theorem q348 : (Jvm.Cond.instanceMethod ({ cls := "java/lang/Integer", name := "<init>", desc := "(I)V" } : Jvm.MethodName)) ∈ lw_all := lw_g (lw_at lw_m2 24 rfl) rfl
theorem q349 : (Jvm.Cond.code ({ cls := "java/lang/Integer", name := "<init>", desc := "(I)V" } : Jvm.MethodName) prog_18_method_23_code (2 : Nat) (Option.none : Option Jvm.ClassFile.FieldType)) ∈ lw_all := lw_g (lw_at lw_m2 25 rfl) rfl
theorem q350 : (Jvm.Cond.methodLink "java/lang/Integer" (202 : Nat) ({ cls := "java/lang/Number", name := "<init>", desc := "()V" } : Jvm.MethodName)) ∈ lw_all := lw_g (lw_at lw_m2 26 rfl) rfl
theorem q354 : (Jvm.Cond.fieldLink "java/lang/Integer" (205 : Nat) "java/lang/Integer" "value" "I") ∈ lw_all := lw_g (lw_at lw_m2 30 rfl) rfl
theorem q355 : (Jvm.Cond.laysFinal "java/lang/Integer" "java/lang/Integer" "value" "I") ∈ lw_all := lw_g (lw_at lw_m2 31 rfl) rfl
theorem q356 : (Jvm.Cond.soleField "java/lang/Integer" "value") ∈ lw_all := lw_g (lw_at lw_m2 32 rfl) rfl
theorem q357 : (Jvm.Cond.superclass "java/lang/Integer" "java/lang/Number") ∈ lw_all := lw_g (lw_at lw_m2 33 rfl) rfl
theorem q505 : (Jvm.Cond.instanceMethod ({ cls := "java/lang/Integer", name := "intValue", desc := "()I" } : Jvm.MethodName)) ∈ lw_all := lw_g (lw_at lw_m2 181 rfl) rfl
theorem q506 : (Jvm.Cond.selects "java/lang/Integer" ({ cls := "java/lang/Integer", name := "intValue", desc := "()I" } : Jvm.MethodName) ({ cls := "java/lang/Integer", name := "intValue", desc := "()I" } : Jvm.MethodName)) ∈ lw_all := lw_g (lw_at lw_m2 182 rfl) rfl
theorem q507 : (Jvm.Cond.code ({ cls := "java/lang/Integer", name := "intValue", desc := "()I" } : Jvm.MethodName) prog_18_method_27_code (1 : Nat) (Option.some Jvm.ClassFile.FieldType.int)) ∈ lw_all := lw_g (lw_at lw_m2 183 rfl) rfl
theorem q1349 : (Jvm.Cond.static ({ cls := "java/lang/Integer", name := "numberOfTrailingZeros", desc := "(I)I" } : Jvm.MethodName)) ∈ lw_all := lw_g (lw_at lw_m6 65 rfl) rfl
theorem q1350 : (Jvm.Cond.code ({ cls := "java/lang/Integer", name := "numberOfTrailingZeros", desc := "(I)I" } : Jvm.MethodName) prog_18_method_48_code (2 : Nat) (Option.some Jvm.ClassFile.FieldType.int)) ∈ lw_all := lw_g (lw_at lw_m6 66 rfl) rfl
theorem q1351 : (Jvm.Cond.constant "java/lang/Integer" (264 : Nat) (65536 : Int32)) ∈ lw_all := lw_g (lw_at lw_m6 67 rfl) rfl
theorem q1378 : (Jvm.Cond.static ({ cls := "java/lang/Integer", name := "numberOfLeadingZeros", desc := "(I)I" } : Jvm.MethodName)) ∈ lw_all := lw_g (lw_at lw_m6 94 rfl) rfl
theorem q1379 : (Jvm.Cond.code ({ cls := "java/lang/Integer", name := "numberOfLeadingZeros", desc := "(I)I" } : Jvm.MethodName) prog_18_method_47_code (2 : Nat) (Option.some Jvm.ClassFile.FieldType.int)) ∈ lw_all := lw_g (lw_at lw_m6 95 rfl) rfl
theorem q1646 : (Jvm.Cond.static ({ cls := "java/lang/Integer", name := "bitCount", desc := "(I)I" } : Jvm.MethodName)) ∈ lw_all := lw_g (lw_at lw_m7 122 rfl) rfl
theorem q1647 : (Jvm.Cond.code ({ cls := "java/lang/Integer", name := "bitCount", desc := "(I)I" } : Jvm.MethodName) prog_18_method_49_code (1 : Nat) (Option.some Jvm.ClassFile.FieldType.int)) ∈ lw_all := lw_g (lw_at lw_m7 123 rfl) rfl
theorem q1648 : (Jvm.Cond.constant "java/lang/Integer" (265 : Nat) (1431655765 : Int32)) ∈ lw_all := lw_g (lw_at lw_m7 124 rfl) rfl
theorem q1649 : (Jvm.Cond.constant "java/lang/Integer" (266 : Nat) (858993459 : Int32)) ∈ lw_all := lw_g (lw_at lw_m7 125 rfl) rfl
theorem q1650 : (Jvm.Cond.constant "java/lang/Integer" (267 : Nat) (252645135 : Int32)) ∈ lw_all := lw_g (lw_at lw_m7 126 rfl) rfl
theorem q2165 : (Jvm.Cond.castable "java/lang/Integer" "java/lang/Object") ∈ lw_tbl := lw_at lw_m9 161 rfl
theorem in_J13 : ∀ w ∈ wsJ130, w ∈ lw_all := lw_in wsJ130 [355] (by decide +kernel) (by decide +kernel)
/-! java/util/Arrays -/
def RJ14 : String := "java/util/Arrays"
abbrev cJ14_copyOfRange : ByteArray := prog_41_method_130_code
def yJ14_copyOfRange : MethodName := ⟨RJ14, "copyOfRange", "([Ljava/lang/Object;IILjava/lang/Class;)[Ljava/lang/Object;"⟩
abbrev cJ14_copyOf : ByteArray := prog_41_method_119_code
def yJ14_copyOf : MethodName := ⟨RJ14, "copyOf", "([Ljava/lang/Object;I)[Ljava/lang/Object;"⟩
abbrev cJ14_copyOf_2 : ByteArray := prog_41_method_120_code
def yJ14_copyOf_2 : MethodName := ⟨RJ14, "copyOf", "([Ljava/lang/Object;ILjava/lang/Class;)[Ljava/lang/Object;"⟩
abbrev cJ14_copyOf_3 : ByteArray := prog_41_method_121_code
def yJ14_copyOf_3 : MethodName := ⟨RJ14, "copyOf", "([BI)[B"⟩
abbrev cJ14_copyOfRange_2 : ByteArray := prog_41_method_132_code
def yJ14_copyOfRange_2 : MethodName := ⟨RJ14, "copyOfRange", "([BII)[B"⟩
abbrev cJ14_copyOfRangeByte : ByteArray := prog_41_method_133_code
def yJ14_copyOfRangeByte : MethodName := ⟨RJ14, "copyOfRangeByte", "([BII)[B"⟩
abbrev cJ14_checkLength : ByteArray := prog_41_method_131_code
def yJ14_checkLength : MethodName := ⟨RJ14, "checkLength", "(II)V"⟩
abbrev cJ14_copyOf_4 : ByteArray := prog_41_method_124_code
def yJ14_copyOf_4 : MethodName := ⟨RJ14, "copyOf", "([JI)[J"⟩
theorem q103 : (Jvm.Cond.initialized "java/util/Arrays") ∈ lw_all := lw_g (lw_at lw_m1 19 rfl) rfl
theorem q424 : (Jvm.Cond.static ({ cls := "java/util/Arrays", name := "copyOfRange", desc := "([Ljava/lang/Object;IILjava/lang/Class;)[Ljava/lang/Object;" } : Jvm.MethodName)) ∈ lw_all := lw_g (lw_at lw_m2 100 rfl) rfl
theorem q425 : (Jvm.Cond.code ({ cls := "java/util/Arrays", name := "copyOfRange", desc := "([Ljava/lang/Object;IILjava/lang/Class;)[Ljava/lang/Object;" } : Jvm.MethodName) prog_41_method_130_code (6 : Nat) (Option.some (Jvm.ClassFile.FieldType.array (Jvm.ClassFile.FieldType.object "java/lang/Object")))) ∈ lw_all := lw_g (lw_at lw_m2 101 rfl) rfl
theorem q426 : (Jvm.Cond.classLink "java/util/Arrays" (110 : Nat) "[Ljava/lang/Object;") ∈ lw_all := lw_g (lw_at lw_m2 102 rfl) rfl
theorem q427 : (Jvm.Cond.classLink "java/util/Arrays" (2 : Nat) "java/lang/Object") ∈ lw_all := lw_g (lw_at lw_m2 103 rfl) rfl
theorem q428 : (Jvm.Cond.methodLink "java/util/Arrays" (304 : Nat) ({ cls := "java/lang/Math", name := "min", desc := "(II)I" } : Jvm.MethodName)) ∈ lw_all := lw_g (lw_at lw_m2 104 rfl) rfl
theorem q431 : (Jvm.Cond.methodLink "java/util/Arrays" (150 : Nat) ({ cls := "java/lang/System", name := "arraycopy", desc := "(Ljava/lang/Object;ILjava/lang/Object;II)V" } : Jvm.MethodName)) ∈ lw_all := lw_g (lw_at lw_m2 107 rfl) rfl
theorem q449 : (Jvm.Cond.static ({ cls := "java/util/Arrays", name := "copyOf", desc := "([Ljava/lang/Object;I)[Ljava/lang/Object;" } : Jvm.MethodName)) ∈ lw_all := lw_g (lw_at lw_m2 125 rfl) rfl
theorem q450 : (Jvm.Cond.code ({ cls := "java/util/Arrays", name := "copyOf", desc := "([Ljava/lang/Object;I)[Ljava/lang/Object;" } : Jvm.MethodName) prog_41_method_119_code (2 : Nat) (Option.some (Jvm.ClassFile.FieldType.array (Jvm.ClassFile.FieldType.object "java/lang/Object")))) ∈ lw_all := lw_g (lw_at lw_m2 126 rfl) rfl
theorem q451 : (Jvm.Cond.methodLink "java/util/Arrays" (86 : Nat) ({ cls := "java/lang/Object", name := "getClass", desc := "()Ljava/lang/Class;" } : Jvm.MethodName)) ∈ lw_all := lw_g (lw_at lw_m2 127 rfl) rfl
theorem q452 : (Jvm.Cond.methodLink "java/util/Arrays" (300 : Nat) ({ cls := "java/util/Arrays", name := "copyOf", desc := "([Ljava/lang/Object;ILjava/lang/Class;)[Ljava/lang/Object;" } : Jvm.MethodName)) ∈ lw_all := lw_g (lw_at lw_m2 128 rfl) rfl
theorem q453 : (Jvm.Cond.static ({ cls := "java/util/Arrays", name := "copyOf", desc := "([Ljava/lang/Object;ILjava/lang/Class;)[Ljava/lang/Object;" } : Jvm.MethodName)) ∈ lw_all := lw_g (lw_at lw_m2 129 rfl) rfl
theorem q454 : (Jvm.Cond.code ({ cls := "java/util/Arrays", name := "copyOf", desc := "([Ljava/lang/Object;ILjava/lang/Class;)[Ljava/lang/Object;" } : Jvm.MethodName) prog_41_method_120_code (4 : Nat) (Option.some (Jvm.ClassFile.FieldType.array (Jvm.ClassFile.FieldType.object "java/lang/Object")))) ∈ lw_all := lw_g (lw_at lw_m2 130 rfl) rfl
theorem q887 : (Jvm.Cond.static ({ cls := "java/util/Arrays", name := "copyOf", desc := "([BI)[B" } : Jvm.MethodName)) ∈ lw_all := lw_g (lw_at lw_m4 83 rfl) rfl
theorem q888 : (Jvm.Cond.code ({ cls := "java/util/Arrays", name := "copyOf", desc := "([BI)[B" } : Jvm.MethodName) prog_41_method_121_code (3 : Nat) (Option.some (Jvm.ClassFile.FieldType.array Jvm.ClassFile.FieldType.byte))) ∈ lw_all := lw_g (lw_at lw_m4 84 rfl) rfl
theorem q889 : (Jvm.Cond.methodLink "java/util/Arrays" (310 : Nat) ({ cls := "[B", name := "clone", desc := "()Ljava/lang/Object;" } : Jvm.MethodName)) ∈ lw_all := lw_g (lw_at lw_m4 85 rfl) rfl
theorem q895 : (Jvm.Cond.classLink "java/util/Arrays" (311 : Nat) "[B") ∈ lw_all := lw_g (lw_at lw_m4 91 rfl) rfl
theorem q999 : (Jvm.Cond.static ({ cls := "java/util/Arrays", name := "copyOfRange", desc := "([BII)[B" } : Jvm.MethodName)) ∈ lw_all := lw_g (lw_at lw_m4 195 rfl) rfl
theorem q1000 : (Jvm.Cond.code ({ cls := "java/util/Arrays", name := "copyOfRange", desc := "([BII)[B" } : Jvm.MethodName) prog_41_method_132_code (3 : Nat) (Option.some (Jvm.ClassFile.FieldType.array Jvm.ClassFile.FieldType.byte))) ∈ lw_all := lw_g (lw_at lw_m4 196 rfl) rfl
theorem q1001 : (Jvm.Cond.methodLink "java/util/Arrays" (339 : Nat) ({ cls := "java/util/Arrays", name := "copyOfRangeByte", desc := "([BII)[B" } : Jvm.MethodName)) ∈ lw_all := lw_g (lw_at lw_m4 197 rfl) rfl
theorem q1002 : (Jvm.Cond.static ({ cls := "java/util/Arrays", name := "copyOfRangeByte", desc := "([BII)[B" } : Jvm.MethodName)) ∈ lw_all := lw_g (lw_at lw_m4 198 rfl) rfl
theorem q1003 : (Jvm.Cond.code ({ cls := "java/util/Arrays", name := "copyOfRangeByte", desc := "([BII)[B" } : Jvm.MethodName) prog_41_method_133_code (5 : Nat) (Option.some (Jvm.ClassFile.FieldType.array Jvm.ClassFile.FieldType.byte))) ∈ lw_all := lw_g (lw_at lw_m4 199 rfl) rfl
theorem q1004 : (Jvm.Cond.methodLink "java/util/Arrays" (343 : Nat) ({ cls := "java/util/Arrays", name := "checkLength", desc := "(II)V" } : Jvm.MethodName)) ∈ lw_all := lw_g (lw_at lw_m4 200 rfl) rfl
theorem q1005 : (Jvm.Cond.static ({ cls := "java/util/Arrays", name := "checkLength", desc := "(II)V" } : Jvm.MethodName)) ∈ lw_all := lw_g (lw_at lw_m4 201 rfl) rfl
theorem q1006 : (Jvm.Cond.code ({ cls := "java/util/Arrays", name := "checkLength", desc := "(II)V" } : Jvm.MethodName) prog_41_method_131_code (2 : Nat) (Option.none : Option Jvm.ClassFile.FieldType)) ∈ lw_all := lw_g (lw_at lw_m4 202 rfl) rfl
theorem q1319 : (Jvm.Cond.static ({ cls := "java/util/Arrays", name := "copyOf", desc := "([JI)[J" } : Jvm.MethodName)) ∈ lw_all := lw_g (lw_at lw_m6 35 rfl) rfl
theorem q1320 : (Jvm.Cond.code ({ cls := "java/util/Arrays", name := "copyOf", desc := "([JI)[J" } : Jvm.MethodName) prog_41_method_124_code (3 : Nat) (Option.some (Jvm.ClassFile.FieldType.array Jvm.ClassFile.FieldType.long))) ∈ lw_all := lw_g (lw_at lw_m6 36 rfl) rfl
theorem q1321 : (Jvm.Cond.methodLink "java/util/Arrays" (319 : Nat) ({ cls := "[J", name := "clone", desc := "()Ljava/lang/Object;" } : Jvm.MethodName)) ∈ lw_all := lw_g (lw_at lw_m6 37 rfl) rfl
theorem q1325 : (Jvm.Cond.classLink "java/util/Arrays" (320 : Nat) "[J") ∈ lw_all := lw_g (lw_at lw_m6 41 rfl) rfl
/-! java/util/LinkedList$Node -/
def RJ15 : String := "java/util/LinkedList$Node"
def TJ15 : u_T := fun k => match k with
  | 0 => ("java/util/LinkedList$Node", "item", "Ljava/lang/Object;", false)
  | 1 => ("java/util/LinkedList$Node", "next", "Ljava/util/LinkedList$Node;", false)
  | _ => ("java/util/LinkedList$Node", "prev", "Ljava/util/LinkedList$Node;", false)
def tyJ15 : Nat → FieldType := fun k => match k with
  | 0 => .object "java/lang/Object"
  | 1 => .object "java/util/LinkedList$Node"
  | _ => .object "java/util/LinkedList$Node"
abbrev wsJ150 : List Cond := u_ws RJ15 TJ15 3
theorem nmJ15 : ∀ a, a < 3 → ∀ b, b < 3 → a ≠ b → (TJ15 a).2.1 ≠ (TJ15 b).2.1 := by decide +kernel
theorem tyJ15_ok : ∀ k, k < 3 → parseFieldDescriptor (TJ15 k).2.2.1 = some (tyJ15 k) := by decide +kernel
abbrev cJ15_init : ByteArray := prog_54_method_1_code
def yJ15_init : MethodName := ⟨RJ15, "<init>", "(Ljava/util/LinkedList$Node;Ljava/lang/Object;Ljava/util/LinkedList$Node;)V"⟩
theorem q105 : (Jvm.Cond.initialized "java/util/LinkedList$Node") ∈ lw_all := lw_g (lw_at lw_m1 21 rfl) rfl
theorem q282 : (Jvm.Cond.selects "java/util/LinkedList$Node" ({ cls := "java/lang/Object", name := "getClass", desc := "()Ljava/lang/Class;" } : Jvm.MethodName) ({ cls := "java/lang/Object", name := "getClass", desc := "()Ljava/lang/Class;" } : Jvm.MethodName)) ∈ lw_all := lw_g (lw_at lw_m1 198 rfl) rfl
theorem q467 : (Jvm.Cond.instantiable "java/util/LinkedList$Node" (3 : Nat)) ∈ lw_all := lw_g (lw_at lw_m2 143 rfl) rfl
theorem q469 : (Jvm.Cond.instanceMethod ({ cls := "java/util/LinkedList$Node", name := "<init>", desc := "(Ljava/util/LinkedList$Node;Ljava/lang/Object;Ljava/util/LinkedList$Node;)V" } : Jvm.MethodName)) ∈ lw_all := lw_g (lw_at lw_m2 145 rfl) rfl
theorem q470 : (Jvm.Cond.code ({ cls := "java/util/LinkedList$Node", name := "<init>", desc := "(Ljava/util/LinkedList$Node;Ljava/lang/Object;Ljava/util/LinkedList$Node;)V" } : Jvm.MethodName) prog_54_method_1_code (4 : Nat) (Option.none : Option Jvm.ClassFile.FieldType)) ∈ lw_all := lw_g (lw_at lw_m2 146 rfl) rfl
theorem q471 : (Jvm.Cond.methodLink "java/util/LinkedList$Node" (1 : Nat) ({ cls := "java/lang/Object", name := "<init>", desc := "()V" } : Jvm.MethodName)) ∈ lw_all := lw_g (lw_at lw_m2 147 rfl) rfl
theorem q472 : (Jvm.Cond.fieldLink "java/util/LinkedList$Node" (7 : Nat) "java/util/LinkedList$Node" "item" "Ljava/lang/Object;") ∈ lw_all := lw_g (lw_at lw_m2 148 rfl) rfl
theorem q475 : (Jvm.Cond.fieldLink "java/util/LinkedList$Node" (13 : Nat) "java/util/LinkedList$Node" "next" "Ljava/util/LinkedList$Node;") ∈ lw_all := lw_g (lw_at lw_m2 151 rfl) rfl
theorem q478 : (Jvm.Cond.fieldLink "java/util/LinkedList$Node" (17 : Nat) "java/util/LinkedList$Node" "prev" "Ljava/util/LinkedList$Node;") ∈ lw_all := lw_g (lw_at lw_m2 154 rfl) rfl
theorem q480 : (Jvm.Cond.lays "java/util/LinkedList$Node" "java/util/LinkedList$Node" "item" "Ljava/lang/Object;") ∈ lw_all := lw_g (lw_at lw_m2 156 rfl) rfl
theorem q481 : (Jvm.Cond.soleField "java/util/LinkedList$Node" "item") ∈ lw_all := lw_g (lw_at lw_m2 157 rfl) rfl
theorem q482 : (Jvm.Cond.lays "java/util/LinkedList$Node" "java/util/LinkedList$Node" "next" "Ljava/util/LinkedList$Node;") ∈ lw_all := lw_g (lw_at lw_m2 158 rfl) rfl
theorem q483 : (Jvm.Cond.soleField "java/util/LinkedList$Node" "next") ∈ lw_all := lw_g (lw_at lw_m2 159 rfl) rfl
theorem q484 : (Jvm.Cond.lays "java/util/LinkedList$Node" "java/util/LinkedList$Node" "prev" "Ljava/util/LinkedList$Node;") ∈ lw_all := lw_g (lw_at lw_m2 160 rfl) rfl
theorem q485 : (Jvm.Cond.soleField "java/util/LinkedList$Node" "prev") ∈ lw_all := lw_g (lw_at lw_m2 161 rfl) rfl
theorem q486 : (Jvm.Cond.superclass "java/util/LinkedList$Node" "java/lang/Object") ∈ lw_all := lw_g (lw_at lw_m2 162 rfl) rfl
theorem q2166 : (Jvm.Cond.castable "java/util/LinkedList$Node" "java/lang/Object") ∈ lw_tbl := lw_at lw_m9 162 rfl
theorem in_J15 : ∀ w ∈ wsJ150, w ∈ lw_all := lw_in wsJ150 [480, 482, 484] (by decide +kernel) (by decide +kernel)
/-! EndSumsModel -/
def RX4 : String := "EndSumsModel"
def TX4 : u_T := fun k => match k with
  | 0 => ("EndSumsModel", "thrown", "I", false)
  | 1 => ("EndSumsModel", "told", "I", false)
  | 2 => ("EndSumsModel", "row", "[J", true)
  | 3 => ("EndSumsModel", "tape", "[I", true)
  | 4 => ("EndSumsModel", "taped", "I", false)
  | 5 => ("EndSumsModel", "at", "I", false)
  | 6 => ("EndSumsModel", "to", "I", false)
  | 7 => ("EndSumsModel", "rule", "I", false)
  | 8 => ("EndSumsModel", "wide", "I", false)
  | 9 => ("EndSumsModel", "neutral", "I", false)
  | 10 => ("EndSumsModel", "table", "[I", true)
  | 11 => ("EndSumsModel", "p", "J", false)
  | 12 => ("EndSumsModel", "q", "J", false)
  | 13 => ("EndSumsModel", "places", "[I", true)
  | 14 => ("EndSumsModel", "others", "[I", true)
  | 15 => ("EndSumsModel", "made", "[I", true)
  | 16 => ("EndSumsModel", "sumP", "[J", true)
  | 17 => ("EndSumsModel", "sumQ", "[J", true)
  | 18 => ("EndSumsModel", "many", "[I", true)
  | 19 => ("EndSumsModel", "cell", "[I", true)
  | 20 => ("EndSumsModel", "item", "[I", true)
  | 21 => ("EndSumsModel", "cellP", "[J", true)
  | 22 => ("EndSumsModel", "cellQ", "[J", true)
  | 23 => ("EndSumsModel", "work", "I", false)
  | 24 => ("EndSumsModel", "rebuilt", "I", false)
  | 25 => ("EndSumsModel", "items", "[I", true)
  | 26 => ("EndSumsModel", "readTable", "[I", true)
  | 27 => ("EndSumsModel", "readWide", "I", false)
  | 28 => ("EndSumsModel", "act", "[I", true)
  | 29 => ("EndSumsModel", "actItem", "[I", true)
  | 30 => ("EndSumsModel", "front", "I", false)
  | _ => ("EndSumsModel", "back", "I", false)
def tyX4 : Nat → FieldType := fun k => match k with
  | 0 => .int
  | 1 => .int
  | 2 => .array .long
  | 3 => .array .int
  | 4 => .int
  | 5 => .int
  | 6 => .int
  | 7 => .int
  | 8 => .int
  | 9 => .int
  | 10 => .array .int
  | 11 => .long
  | 12 => .long
  | 13 => .array .int
  | 14 => .array .int
  | 15 => .array .int
  | 16 => .array .long
  | 17 => .array .long
  | 18 => .array .int
  | 19 => .array .int
  | 20 => .array .int
  | 21 => .array .long
  | 22 => .array .long
  | 23 => .int
  | 24 => .int
  | 25 => .array .int
  | 26 => .array .int
  | 27 => .int
  | 28 => .array .int
  | 29 => .array .int
  | 30 => .int
  | _ => .int
abbrev wsX40 : List Cond := u_ws RX4 TX4 32
theorem nmX4 : ∀ a, a < 32 → ∀ b, b < 32 → a ≠ b → (TX4 a).2.1 ≠ (TX4 b).2.1 := by decide +kernel
theorem tyX4_ok : ∀ k, k < 32 → parseFieldDescriptor (TX4 k).2.2.1 = some (tyX4 k) := by decide +kernel
abbrev cX4_thrown : ByteArray := prog_9_method_1_code
def yX4_thrown : MethodName := ⟨RX4, "thrown", "()I"⟩
abbrev cX4_sign : ByteArray := prog_9_method_5_code
def yX4_sign : MethodName := ⟨RX4, "sign", "(I)I"⟩
abbrev cX4_end : ByteArray := prog_9_method_6_code
def yX4_end : MethodName := ⟨RX4, "end", "(I)Z"⟩
abbrev cX4_in : ByteArray := prog_9_method_2_code
def yX4_in : MethodName := ⟨RX4, "in", "(JJJ)Z"⟩
abbrev cX4_init : ByteArray := prog_9_method_10_code
def yX4_init : MethodName := ⟨RX4, "<init>", "()V"⟩
abbrev cX4_commutes : ByteArray := prog_9_method_22_code
def yX4_commutes : MethodName := ⟨RX4, "commutes", "(II)I"⟩
abbrev cX4_isItem : ByteArray := prog_9_method_20_code
def yX4_isItem : MethodName := ⟨RX4, "isItem", "(I)Z"⟩
abbrev cX4_joinsTwo : ByteArray := prog_9_method_21_code
def yX4_joinsTwo : MethodName := ⟨RX4, "joinsTwo", "(II)V"⟩
abbrev cX4_element : ByteArray := prog_9_method_13_code
def yX4_element : MethodName := ⟨RX4, "element", "(I)V"⟩
abbrev cX4_is : ByteArray := prog_9_method_11_code
def yX4_is : MethodName := ⟨RX4, "is", "(JJ)V"⟩
abbrev cX4_leaps : ByteArray := prog_9_method_17_code
def yX4_leaps : MethodName := ⟨RX4, "leaps", "(I)I"⟩
abbrev cX4_lays : ByteArray := prog_9_method_15_code
def yX4_lays : MethodName := ⟨RX4, "lays", "(I[I)V"⟩
abbrev cX4_flag : ByteArray := prog_9_method_3_code
def yX4_flag : MethodName := ⟨RX4, "flag", "(Z)I"⟩
abbrev cX4_join : ByteArray := prog_9_method_19_code
def yX4_join : MethodName := ⟨RX4, "join", "(JJJJ)V"⟩
abbrev cX4_common : ByteArray := prog_9_method_14_code
def yX4_common : MethodName := ⟨RX4, "common", "(JJ)J"⟩
abbrev cX4_arrangedBy : ByteArray := prog_9_method_18_code
def yX4_arrangedBy : MethodName := ⟨RX4, "arrangedBy", "(II)I"⟩
abbrev cX4_numberOf : ByteArray := prog_9_method_16_code
def yX4_numberOf : MethodName := ⟨RX4, "numberOf", "([I)I"⟩
abbrev cX4_enters : ByteArray := prog_9_method_4_code
def yX4_enters : MethodName := ⟨RX4, "enters", "(J)V"⟩
abbrev cX4_powers : ByteArray := prog_9_method_24_code
def yX4_powers : MethodName := ⟨RX4, "powers", "(II)I"⟩
abbrev cX4_power : ByteArray := prog_9_method_23_code
def yX4_power : MethodName := ⟨RX4, "power", "(II)I"⟩
abbrev cX4_empty : ByteArray := prog_9_method_12_code
def yX4_empty : MethodName := ⟨RX4, "empty", "()V"⟩
abbrev cX4_order : ByteArray := prog_9_method_25_code
def yX4_order : MethodName := ⟨RX4, "order", "(I)I"⟩
abbrev cX4_undoes : ByteArray := prog_9_method_26_code
def yX4_undoes : MethodName := ⟨RX4, "undoes", "(I)I"⟩
abbrev cX4_rule : ByteArray := prog_9_method_39_code
def yX4_rule : MethodName := ⟨RX4, "rule", "(I)I"⟩
abbrev cX4_laysAll : ByteArray := prog_9_method_36_code
def yX4_laysAll : MethodName := ⟨RX4, "laysAll", "()V"⟩
abbrev cX4_takesItems : ByteArray := prog_9_method_34_code
def yX4_takesItems : MethodName := ⟨RX4, "takesItems", "(I)I"⟩
abbrev cX4_sizeOf : ByteArray := prog_9_method_29_code
def yX4_sizeOf : MethodName := ⟨RX4, "sizeOf", "(I)I"⟩
abbrev cX4_itemAt : ByteArray := prog_9_method_32_code
def yX4_itemAt : MethodName := ⟨RX4, "itemAt", "(II)I"⟩
abbrev cX4_placeOf : ByteArray := prog_9_method_31_code
def yX4_placeOf : MethodName := ⟨RX4, "placeOf", "(II)I"⟩
abbrev cX4_place : ByteArray := prog_9_method_30_code
def yX4_place : MethodName := ⟨RX4, "place", "(II)I"⟩
abbrev cX4_lays_2 : ByteArray := prog_9_method_35_code
def yX4_lays_2 : MethodName := ⟨RX4, "lays", "(IIII)V"⟩
abbrev cX4_makes : ByteArray := prog_9_method_33_code
def yX4_makes : MethodName := ⟨RX4, "makes", "(II)V"⟩
abbrev cX4_table : ByteArray := prog_9_method_44_code
def yX4_table : MethodName := ⟨RX4, "table", "()I"⟩
abbrev cX4_reads : ByteArray := prog_9_method_7_code
def yX4_reads : MethodName := ⟨RX4, "reads", "()V"⟩
abbrev cX4_readsTable : ByteArray := prog_9_method_40_code
def yX4_readsTable : MethodName := ⟨RX4, "readsTable", "()Z"⟩
abbrev cX4_takesSign : ByteArray := prog_9_method_8_code
def yX4_takesSign : MethodName := ⟨RX4, "takesSign", "(I)Z"⟩
abbrev cX4_isDigit : ByteArray := prog_9_method_9_code
def yX4_isDigit : MethodName := ⟨RX4, "isDigit", "()Z"⟩
abbrev cX4_hasUnlike : ByteArray := prog_9_method_42_code
def yX4_hasUnlike : MethodName := ⟨RX4, "hasUnlike", "()Z"⟩
abbrev cX4_read : ByteArray := prog_9_method_41_code
def yX4_read : MethodName := ⟨RX4, "read", "(II)I"⟩
abbrev cX4_isNeutral : ByteArray := prog_9_method_43_code
def yX4_isNeutral : MethodName := ⟨RX4, "isNeutral", "(I)Z"⟩
abbrev cX4_puts : ByteArray := prog_9_method_45_code
def yX4_puts : MethodName := ⟨RX4, "puts", "(III)I"⟩
abbrev cX4_isLine : ByteArray := prog_9_method_27_code
def yX4_isLine : MethodName := ⟨RX4, "isLine", "(I)Z"⟩
abbrev cX4_isEnd : ByteArray := prog_9_method_28_code
def yX4_isEnd : MethodName := ⟨RX4, "isEnd", "(I)Z"⟩
abbrev cX4_takes : ByteArray := prog_9_method_47_code
def yX4_takes : MethodName := ⟨RX4, "takes", "(II)I"⟩
abbrev cX4_takesOne : ByteArray := prog_9_method_37_code
def yX4_takesOne : MethodName := ⟨RX4, "takesOne", "(II)I"⟩
abbrev cX4_tellsWork : ByteArray := prog_9_method_46_code
def yX4_tellsWork : MethodName := ⟨RX4, "tellsWork", "(II)I"⟩
abbrev cX4_copies : ByteArray := prog_9_method_48_code
def yX4_copies : MethodName := ⟨RX4, "copies", "(II)I"⟩
abbrev cX4_copiesTo : ByteArray := prog_9_method_38_code
def yX4_copiesTo : MethodName := ⟨RX4, "copiesTo", "(II)V"⟩
abbrev cX4_joins : ByteArray := prog_9_method_49_code
def yX4_joins : MethodName := ⟨RX4, "joins", "(II)I"⟩
abbrev cX4_parts : ByteArray := prog_9_method_50_code
def yX4_parts : MethodName := ⟨RX4, "parts", "(III)I"⟩
abbrev cX4_reverses : ByteArray := prog_9_method_51_code
def yX4_reverses : MethodName := ⟨RX4, "reverses", "(I)I"⟩
abbrev cX4_turns : ByteArray := prog_9_method_52_code
def yX4_turns : MethodName := ⟨RX4, "turns", "(I)I"⟩
abbrev cX4_changes : ByteArray := prog_9_method_55_code
def yX4_changes : MethodName := ⟨RX4, "changes", "(III)I"⟩
abbrev cX4_isAt : ByteArray := prog_9_method_54_code
def yX4_isAt : MethodName := ⟨RX4, "isAt", "(II)Z"⟩
abbrev cX4_makesAgain : ByteArray := prog_9_method_53_code
def yX4_makesAgain : MethodName := ⟨RX4, "makesAgain", "(IZII)V"⟩
abbrev cX4_slips : ByteArray := prog_9_method_56_code
def yX4_slips : MethodName := ⟨RX4, "slips", "(III)I"⟩
abbrev cX4_drops : ByteArray := prog_9_method_57_code
def yX4_drops : MethodName := ⟨RX4, "drops", "(II)I"⟩
abbrev cX4_shifts : ByteArray := prog_9_method_60_code
def yX4_shifts : MethodName := ⟨RX4, "shifts", "(III)I"⟩
abbrev cX4_entersSummary : ByteArray := prog_9_method_59_code
def yX4_entersSummary : MethodName := ⟨RX4, "entersSummary", "(I)V"⟩
abbrev cX4_summary : ByteArray := prog_9_method_58_code
def yX4_summary : MethodName := ⟨RX4, "summary", "(I)V"⟩
abbrev cX4_clears : ByteArray := prog_9_method_61_code
def yX4_clears : MethodName := ⟨RX4, "clears", "(I)I"⟩
abbrev cX4_run : ByteArray := prog_9_method_65_code
def yX4_run : MethodName := ⟨RX4, "run", "(I)I"⟩
abbrev cX4_passes : ByteArray := prog_9_method_62_code
def yX4_passes : MethodName := ⟨RX4, "passes", "()V"⟩
abbrev cX4_readsAct : ByteArray := prog_9_method_63_code
def yX4_readsAct : MethodName := ⟨RX4, "readsAct", "(I)Z"⟩
abbrev cX4_does : ByteArray := prog_9_method_64_code
def yX4_does : MethodName := ⟨RX4, "does", "(II)Z"⟩
abbrev cX4_sum : ByteArray := prog_9_method_66_code
def yX4_sum : MethodName := ⟨RX4, "sum", "(I)I"⟩
abbrev cX4_item : ByteArray := prog_9_method_67_code
def yX4_item : MethodName := ⟨RX4, "item", "(II)I"⟩
abbrev cX4_part : ByteArray := prog_9_method_69_code
def yX4_part : MethodName := ⟨RX4, "part", "(III)I"⟩
abbrev cX4_sums : ByteArray := prog_9_method_68_code
def yX4_sums : MethodName := ⟨RX4, "sums", "(III)V"⟩
abbrev cX4_windows : ByteArray := prog_9_method_70_code
def yX4_windows : MethodName := ⟨RX4, "windows", "(II)I"⟩
abbrev cX4_first : ByteArray := prog_9_method_71_code
def yX4_first : MethodName := ⟨RX4, "first", "(II)I"⟩
abbrev cX4_longest : ByteArray := prog_9_method_72_code
def yX4_longest : MethodName := ⟨RX4, "longest", "(II)I"⟩
abbrev cX4_greatest : ByteArray := prog_9_method_73_code
def yX4_greatest : MethodName := ⟨RX4, "greatest", "(II)I"⟩
abbrev cX4_finds : ByteArray := prog_9_method_74_code
def yX4_finds : MethodName := ⟨RX4, "finds", "(III)I"⟩
abbrev cX4_drains : ByteArray := prog_9_method_78_code
def yX4_drains : MethodName := ⟨RX4, "drains", "(I)I"⟩
abbrev cX4_drainsBy : ByteArray := prog_9_method_77_code
def yX4_drainsBy : MethodName := ⟨RX4, "drainsBy", "(II)I"⟩
abbrev cX4_begins : ByteArray := prog_9_method_76_code
def yX4_begins : MethodName := ⟨RX4, "begins", "(I)V"⟩
abbrev cX4_costs : ByteArray := prog_9_method_75_code
def yX4_costs : MethodName := ⟨RX4, "costs", "(I)I"⟩
abbrev cX4_would : ByteArray := prog_9_method_79_code
def yX4_would : MethodName := ⟨RX4, "would", "(II)I"⟩
abbrev cX4_dearest : ByteArray := prog_9_method_80_code
def yX4_dearest : MethodName := ⟨RX4, "dearest", "(II)I"⟩
abbrev cX4_unlike : ByteArray := prog_9_method_81_code
def yX4_unlike : MethodName := ⟨RX4, "unlike", "(I)I"⟩
abbrev cX4_same : ByteArray := prog_9_method_83_code
def yX4_same : MethodName := ⟨RX4, "same", "(II)I"⟩
abbrev cX4_hasCell : ByteArray := prog_9_method_82_code
def yX4_hasCell : MethodName := ⟨RX4, "hasCell", "(II)Z"⟩
abbrev cX4_shared : ByteArray := prog_9_method_84_code
def yX4_shared : MethodName := ⟨RX4, "shared", "()I"⟩
abbrev cX4_count : ByteArray := prog_9_method_85_code
def yX4_count : MethodName := ⟨RX4, "count", "(I)I"⟩
abbrev cX4_row : ByteArray := prog_9_method_86_code
def yX4_row : MethodName := ⟨RX4, "row", "(I)J"⟩
theorem q106 : (Jvm.Cond.initialized "EndSumsModel") ∈ lw_all := lw_g (lw_at lw_m1 22 rfl) rfl
theorem q269 : (Jvm.Cond.selects "EndSumsModel" ({ cls := "java/lang/Object", name := "getClass", desc := "()Ljava/lang/Class;" } : Jvm.MethodName) ({ cls := "java/lang/Object", name := "getClass", desc := "()Ljava/lang/Class;" } : Jvm.MethodName)) ∈ lw_all := lw_g (lw_at lw_m1 185 rfl) rfl
theorem q1691 : (Jvm.Cond.instanceMethod ({ cls := "EndSumsModel", name := "thrown", desc := "()I" } : Jvm.MethodName)) ∈ lw_all := lw_g (lw_at lw_m7 167 rfl) rfl
theorem q1692 : (Jvm.Cond.selects "EndSumsModel" ({ cls := "EndSumsModel", name := "thrown", desc := "()I" } : Jvm.MethodName) ({ cls := "EndSumsModel", name := "thrown", desc := "()I" } : Jvm.MethodName)) ∈ lw_all := lw_g (lw_at lw_m7 168 rfl) rfl
theorem q1693 : (Jvm.Cond.code ({ cls := "EndSumsModel", name := "thrown", desc := "()I" } : Jvm.MethodName) prog_9_method_1_code (1 : Nat) (Option.some Jvm.ClassFile.FieldType.int)) ∈ lw_all := lw_g (lw_at lw_m7 169 rfl) rfl
theorem q1695 : (Jvm.Cond.instanceMethod ({ cls := "EndSumsModel", name := "sign", desc := "(I)I" } : Jvm.MethodName)) ∈ lw_all := lw_g (lw_at lw_m7 171 rfl) rfl
theorem q1696 : (Jvm.Cond.selects "EndSumsModel" ({ cls := "EndSumsModel", name := "sign", desc := "(I)I" } : Jvm.MethodName) ({ cls := "EndSumsModel", name := "sign", desc := "(I)I" } : Jvm.MethodName)) ∈ lw_all := lw_g (lw_at lw_m7 172 rfl) rfl
theorem q1697 : (Jvm.Cond.code ({ cls := "EndSumsModel", name := "sign", desc := "(I)I" } : Jvm.MethodName) prog_9_method_5_code (3 : Nat) (Option.some Jvm.ClassFile.FieldType.int)) ∈ lw_all := lw_g (lw_at lw_m7 173 rfl) rfl
theorem q1699 : (Jvm.Cond.instanceMethod ({ cls := "EndSumsModel", name := "end", desc := "(I)Z" } : Jvm.MethodName)) ∈ lw_all := lw_g (lw_at lw_m7 175 rfl) rfl
theorem q1700 : (Jvm.Cond.selects "EndSumsModel" ({ cls := "EndSumsModel", name := "end", desc := "(I)Z" } : Jvm.MethodName) ({ cls := "EndSumsModel", name := "end", desc := "(I)Z" } : Jvm.MethodName)) ∈ lw_all := lw_g (lw_at lw_m7 176 rfl) rfl
theorem q1701 : (Jvm.Cond.code ({ cls := "EndSumsModel", name := "end", desc := "(I)Z" } : Jvm.MethodName) prog_9_method_6_code (2 : Nat) (Option.some Jvm.ClassFile.FieldType.boolean)) ∈ lw_all := lw_g (lw_at lw_m7 177 rfl) rfl
theorem q1702 : (Jvm.Cond.methodLink "EndSumsModel" (21 : Nat) ({ cls := "EndSumsModel", name := "in", desc := "(JJJ)Z" } : Jvm.MethodName)) ∈ lw_all := lw_g (lw_at lw_m7 178 rfl) rfl
theorem q1703 : (Jvm.Cond.static ({ cls := "EndSumsModel", name := "in", desc := "(JJJ)Z" } : Jvm.MethodName)) ∈ lw_all := lw_g (lw_at lw_m7 179 rfl) rfl
theorem q1704 : (Jvm.Cond.code ({ cls := "EndSumsModel", name := "in", desc := "(JJJ)Z" } : Jvm.MethodName) prog_9_method_2_code (6 : Nat) (Option.some Jvm.ClassFile.FieldType.boolean)) ∈ lw_all := lw_g (lw_at lw_m7 180 rfl) rfl
theorem q1706 : (Jvm.Cond.instantiable "EndSumsModel" (32 : Nat)) ∈ lw_all := lw_g (lw_at lw_m7 182 rfl) rfl
theorem q1708 : (Jvm.Cond.instanceMethod ({ cls := "EndSumsModel", name := "<init>", desc := "()V" } : Jvm.MethodName)) ∈ lw_all := lw_g (lw_at lw_m7 184 rfl) rfl
theorem q1709 : (Jvm.Cond.code ({ cls := "EndSumsModel", name := "<init>", desc := "()V" } : Jvm.MethodName) prog_9_method_10_code (1 : Nat) (Option.none : Option Jvm.ClassFile.FieldType)) ∈ lw_all := lw_g (lw_at lw_m7 185 rfl) rfl
theorem q1710 : (Jvm.Cond.methodLink "EndSumsModel" (39 : Nat) ({ cls := "java/lang/Object", name := "<init>", desc := "()V" } : Jvm.MethodName)) ∈ lw_all := lw_g (lw_at lw_m7 186 rfl) rfl
theorem q1711 : (Jvm.Cond.fieldLink "EndSumsModel" (1 : Nat) "EndSumsModel" "thrown" "I") ∈ lw_all := lw_g (lw_at lw_m7 187 rfl) rfl
theorem q1712 : (Jvm.Cond.fieldLink "EndSumsModel" (11 : Nat) "EndSumsModel" "told" "I") ∈ lw_all := lw_g (lw_at lw_m7 188 rfl) rfl
theorem q1713 : (Jvm.Cond.fieldLink "EndSumsModel" (7 : Nat) "EndSumsModel" "row" "[J") ∈ lw_all := lw_g (lw_at lw_m7 189 rfl) rfl
theorem q1714 : (Jvm.Cond.fieldLink "EndSumsModel" (17 : Nat) "EndSumsModel" "tape" "[I") ∈ lw_all := lw_g (lw_at lw_m7 190 rfl) rfl
theorem q1715 : (Jvm.Cond.fieldLink "EndSumsModel" (14 : Nat) "EndSumsModel" "taped" "I") ∈ lw_all := lw_g (lw_at lw_m7 191 rfl) rfl
theorem q1716 : (Jvm.Cond.fieldLink "EndSumsModel" (28 : Nat) "EndSumsModel" "at" "I") ∈ lw_all := lw_g (lw_at lw_m7 192 rfl) rfl
theorem q1717 : (Jvm.Cond.fieldLink "EndSumsModel" (25 : Nat) "EndSumsModel" "to" "I") ∈ lw_all := lw_g (lw_at lw_m7 193 rfl) rfl
theorem q1718 : (Jvm.Cond.fieldLink "EndSumsModel" (93 : Nat) "EndSumsModel" "rule" "I") ∈ lw_all := lw_g (lw_at lw_m7 194 rfl) rfl
theorem q1719 : (Jvm.Cond.fieldLink "EndSumsModel" (45 : Nat) "EndSumsModel" "wide" "I") ∈ lw_all := lw_g (lw_at lw_m7 195 rfl) rfl
theorem q1720 : (Jvm.Cond.fieldLink "EndSumsModel" (111 : Nat) "EndSumsModel" "neutral" "I") ∈ lw_all := lw_g (lw_at lw_m7 196 rfl) rfl
theorem q1721 : (Jvm.Cond.fieldLink "EndSumsModel" (48 : Nat) "EndSumsModel" "table" "[I") ∈ lw_all := lw_g (lw_at lw_m7 197 rfl) rfl
theorem q1722 : (Jvm.Cond.fieldLink "EndSumsModel" (96 : Nat) "EndSumsModel" "p" "J") ∈ lw_all := lw_g (lw_at lw_m7 198 rfl) rfl
theorem q1723 : (Jvm.Cond.fieldLink "EndSumsModel" (100 : Nat) "EndSumsModel" "q" "J") ∈ lw_all := lw_g (lw_at lw_m7 199 rfl) rfl
theorem q1724 : (Jvm.Cond.fieldLink "EndSumsModel" (51 : Nat) "EndSumsModel" "places" "[I") ∈ lw_all := lw_g (lw_at lw_m7 200 rfl) rfl
theorem q1725 : (Jvm.Cond.fieldLink "EndSumsModel" (54 : Nat) "EndSumsModel" "others" "[I") ∈ lw_all := lw_g (lw_at lw_m7 201 rfl) rfl
theorem q1726 : (Jvm.Cond.fieldLink "EndSumsModel" (57 : Nat) "EndSumsModel" "made" "[I") ∈ lw_all := lw_g (lw_at lw_m7 202 rfl) rfl
theorem q1727 : (Jvm.Cond.fieldLink "EndSumsModel" (60 : Nat) "EndSumsModel" "sumP" "[J") ∈ lw_all := lw_g (lw_at lw_m7 203 rfl) rfl
theorem q1728 : (Jvm.Cond.fieldLink "EndSumsModel" (63 : Nat) "EndSumsModel" "sumQ" "[J") ∈ lw_all := lw_g (lw_at lw_m7 204 rfl) rfl
theorem q1729 : (Jvm.Cond.fieldLink "EndSumsModel" (66 : Nat) "EndSumsModel" "many" "[I") ∈ lw_all := lw_g (lw_at lw_m7 205 rfl) rfl
theorem q1730 : (Jvm.Cond.fieldLink "EndSumsModel" (69 : Nat) "EndSumsModel" "cell" "[I") ∈ lw_all := lw_g (lw_at lw_m7 206 rfl) rfl
theorem q1731 : (Jvm.Cond.fieldLink "EndSumsModel" (72 : Nat) "EndSumsModel" "item" "[I") ∈ lw_all := lw_g (lw_at lw_m7 207 rfl) rfl
theorem q1732 : (Jvm.Cond.fieldLink "EndSumsModel" (75 : Nat) "EndSumsModel" "cellP" "[J") ∈ lw_all := lw_g (lw_at lw_m7 208 rfl) rfl
theorem q1733 : (Jvm.Cond.fieldLink "EndSumsModel" (78 : Nat) "EndSumsModel" "cellQ" "[J") ∈ lw_all := lw_g (lw_at lw_m7 209 rfl) rfl
theorem q1734 : (Jvm.Cond.fieldLink "EndSumsModel" (184 : Nat) "EndSumsModel" "work" "I") ∈ lw_all := lw_g (lw_at lw_m7 210 rfl) rfl
theorem q1735 : (Jvm.Cond.fieldLink "EndSumsModel" (202 : Nat) "EndSumsModel" "rebuilt" "I") ∈ lw_all := lw_g (lw_at lw_m7 211 rfl) rfl
theorem q1736 : (Jvm.Cond.fieldLink "EndSumsModel" (81 : Nat) "EndSumsModel" "items" "[I") ∈ lw_all := lw_g (lw_at lw_m7 212 rfl) rfl
theorem q1737 : (Jvm.Cond.fieldLink "EndSumsModel" (84 : Nat) "EndSumsModel" "readTable" "[I") ∈ lw_all := lw_g (lw_at lw_m7 213 rfl) rfl
theorem q1738 : (Jvm.Cond.fieldLink "EndSumsModel" (210 : Nat) "EndSumsModel" "readWide" "I") ∈ lw_all := lw_g (lw_at lw_m7 214 rfl) rfl
theorem q1739 : (Jvm.Cond.fieldLink "EndSumsModel" (87 : Nat) "EndSumsModel" "act" "[I") ∈ lw_all := lw_g (lw_at lw_m7 215 rfl) rfl
theorem q1740 : (Jvm.Cond.fieldLink "EndSumsModel" (90 : Nat) "EndSumsModel" "actItem" "[I") ∈ lw_all := lw_g (lw_at lw_m7 216 rfl) rfl
theorem q1741 : (Jvm.Cond.fieldLink "EndSumsModel" (284 : Nat) "EndSumsModel" "front" "I") ∈ lw_all := lw_g (lw_at lw_m7 217 rfl) rfl
theorem q1742 : (Jvm.Cond.fieldLink "EndSumsModel" (287 : Nat) "EndSumsModel" "back" "I") ∈ lw_all := lw_g (lw_at lw_m7 218 rfl) rfl
theorem q1743 : (Jvm.Cond.lays "EndSumsModel" "EndSumsModel" "thrown" "I") ∈ lw_all := lw_g (lw_at lw_m7 219 rfl) rfl
theorem q1744 : (Jvm.Cond.soleField "EndSumsModel" "thrown") ∈ lw_all := lw_g (lw_at lw_m7 220 rfl) rfl
theorem q1745 : (Jvm.Cond.lays "EndSumsModel" "EndSumsModel" "told" "I") ∈ lw_all := lw_g (lw_at lw_m7 221 rfl) rfl
theorem q1746 : (Jvm.Cond.soleField "EndSumsModel" "told") ∈ lw_all := lw_g (lw_at lw_m7 222 rfl) rfl
theorem q1747 : (Jvm.Cond.laysFinal "EndSumsModel" "EndSumsModel" "row" "[J") ∈ lw_all := lw_g (lw_at lw_m7 223 rfl) rfl
theorem q1748 : (Jvm.Cond.soleField "EndSumsModel" "row") ∈ lw_all := lw_g (lw_at lw_m7 224 rfl) rfl
theorem q1749 : (Jvm.Cond.laysFinal "EndSumsModel" "EndSumsModel" "tape" "[I") ∈ lw_all := lw_g (lw_at lw_m7 225 rfl) rfl
theorem q1750 : (Jvm.Cond.soleField "EndSumsModel" "tape") ∈ lw_all := lw_g (lw_at lw_m7 226 rfl) rfl
theorem q1751 : (Jvm.Cond.lays "EndSumsModel" "EndSumsModel" "taped" "I") ∈ lw_all := lw_g (lw_at lw_m7 227 rfl) rfl
theorem q1752 : (Jvm.Cond.soleField "EndSumsModel" "taped") ∈ lw_all := lw_g (lw_at lw_m7 228 rfl) rfl
theorem q1753 : (Jvm.Cond.lays "EndSumsModel" "EndSumsModel" "at" "I") ∈ lw_all := lw_g (lw_at lw_m7 229 rfl) rfl
theorem q1754 : (Jvm.Cond.soleField "EndSumsModel" "at") ∈ lw_all := lw_g (lw_at lw_m7 230 rfl) rfl
theorem q1755 : (Jvm.Cond.lays "EndSumsModel" "EndSumsModel" "to" "I") ∈ lw_all := lw_g (lw_at lw_m7 231 rfl) rfl
theorem q1756 : (Jvm.Cond.soleField "EndSumsModel" "to") ∈ lw_all := lw_g (lw_at lw_m7 232 rfl) rfl
theorem q1757 : (Jvm.Cond.lays "EndSumsModel" "EndSumsModel" "rule" "I") ∈ lw_all := lw_g (lw_at lw_m7 233 rfl) rfl
theorem q1758 : (Jvm.Cond.soleField "EndSumsModel" "rule") ∈ lw_all := lw_g (lw_at lw_m7 234 rfl) rfl
theorem q1759 : (Jvm.Cond.lays "EndSumsModel" "EndSumsModel" "wide" "I") ∈ lw_all := lw_g (lw_at lw_m7 235 rfl) rfl
theorem q1760 : (Jvm.Cond.soleField "EndSumsModel" "wide") ∈ lw_all := lw_g (lw_at lw_m7 236 rfl) rfl
theorem q1761 : (Jvm.Cond.lays "EndSumsModel" "EndSumsModel" "neutral" "I") ∈ lw_all := lw_g (lw_at lw_m7 237 rfl) rfl
theorem q1762 : (Jvm.Cond.soleField "EndSumsModel" "neutral") ∈ lw_all := lw_g (lw_at lw_m7 238 rfl) rfl
theorem q1763 : (Jvm.Cond.laysFinal "EndSumsModel" "EndSumsModel" "table" "[I") ∈ lw_all := lw_g (lw_at lw_m7 239 rfl) rfl
theorem q1764 : (Jvm.Cond.soleField "EndSumsModel" "table") ∈ lw_all := lw_g (lw_at lw_m8 0 rfl) rfl
theorem q1765 : (Jvm.Cond.lays "EndSumsModel" "EndSumsModel" "p" "J") ∈ lw_all := lw_g (lw_at lw_m8 1 rfl) rfl
theorem q1766 : (Jvm.Cond.soleField "EndSumsModel" "p") ∈ lw_all := lw_g (lw_at lw_m8 2 rfl) rfl
theorem q1767 : (Jvm.Cond.lays "EndSumsModel" "EndSumsModel" "q" "J") ∈ lw_all := lw_g (lw_at lw_m8 3 rfl) rfl
theorem q1768 : (Jvm.Cond.soleField "EndSumsModel" "q") ∈ lw_all := lw_g (lw_at lw_m8 4 rfl) rfl
theorem q1769 : (Jvm.Cond.laysFinal "EndSumsModel" "EndSumsModel" "places" "[I") ∈ lw_all := lw_g (lw_at lw_m8 5 rfl) rfl
theorem q1770 : (Jvm.Cond.soleField "EndSumsModel" "places") ∈ lw_all := lw_g (lw_at lw_m8 6 rfl) rfl
theorem q1771 : (Jvm.Cond.laysFinal "EndSumsModel" "EndSumsModel" "others" "[I") ∈ lw_all := lw_g (lw_at lw_m8 7 rfl) rfl
theorem q1772 : (Jvm.Cond.soleField "EndSumsModel" "others") ∈ lw_all := lw_g (lw_at lw_m8 8 rfl) rfl
theorem q1773 : (Jvm.Cond.laysFinal "EndSumsModel" "EndSumsModel" "made" "[I") ∈ lw_all := lw_g (lw_at lw_m8 9 rfl) rfl
theorem q1774 : (Jvm.Cond.soleField "EndSumsModel" "made") ∈ lw_all := lw_g (lw_at lw_m8 10 rfl) rfl
theorem q1775 : (Jvm.Cond.laysFinal "EndSumsModel" "EndSumsModel" "sumP" "[J") ∈ lw_all := lw_g (lw_at lw_m8 11 rfl) rfl
theorem q1776 : (Jvm.Cond.soleField "EndSumsModel" "sumP") ∈ lw_all := lw_g (lw_at lw_m8 12 rfl) rfl
theorem q1777 : (Jvm.Cond.laysFinal "EndSumsModel" "EndSumsModel" "sumQ" "[J") ∈ lw_all := lw_g (lw_at lw_m8 13 rfl) rfl
theorem q1778 : (Jvm.Cond.soleField "EndSumsModel" "sumQ") ∈ lw_all := lw_g (lw_at lw_m8 14 rfl) rfl
theorem q1779 : (Jvm.Cond.laysFinal "EndSumsModel" "EndSumsModel" "many" "[I") ∈ lw_all := lw_g (lw_at lw_m8 15 rfl) rfl
theorem q1780 : (Jvm.Cond.soleField "EndSumsModel" "many") ∈ lw_all := lw_g (lw_at lw_m8 16 rfl) rfl
theorem q1781 : (Jvm.Cond.laysFinal "EndSumsModel" "EndSumsModel" "cell" "[I") ∈ lw_all := lw_g (lw_at lw_m8 17 rfl) rfl
theorem q1782 : (Jvm.Cond.soleField "EndSumsModel" "cell") ∈ lw_all := lw_g (lw_at lw_m8 18 rfl) rfl
theorem q1783 : (Jvm.Cond.laysFinal "EndSumsModel" "EndSumsModel" "item" "[I") ∈ lw_all := lw_g (lw_at lw_m8 19 rfl) rfl
theorem q1784 : (Jvm.Cond.soleField "EndSumsModel" "item") ∈ lw_all := lw_g (lw_at lw_m8 20 rfl) rfl
theorem q1785 : (Jvm.Cond.laysFinal "EndSumsModel" "EndSumsModel" "cellP" "[J") ∈ lw_all := lw_g (lw_at lw_m8 21 rfl) rfl
theorem q1786 : (Jvm.Cond.soleField "EndSumsModel" "cellP") ∈ lw_all := lw_g (lw_at lw_m8 22 rfl) rfl
theorem q1787 : (Jvm.Cond.laysFinal "EndSumsModel" "EndSumsModel" "cellQ" "[J") ∈ lw_all := lw_g (lw_at lw_m8 23 rfl) rfl
theorem q1788 : (Jvm.Cond.soleField "EndSumsModel" "cellQ") ∈ lw_all := lw_g (lw_at lw_m8 24 rfl) rfl
theorem q1789 : (Jvm.Cond.lays "EndSumsModel" "EndSumsModel" "work" "I") ∈ lw_all := lw_g (lw_at lw_m8 25 rfl) rfl
theorem q1790 : (Jvm.Cond.soleField "EndSumsModel" "work") ∈ lw_all := lw_g (lw_at lw_m8 26 rfl) rfl
theorem q1791 : (Jvm.Cond.lays "EndSumsModel" "EndSumsModel" "rebuilt" "I") ∈ lw_all := lw_g (lw_at lw_m8 27 rfl) rfl
theorem q1792 : (Jvm.Cond.soleField "EndSumsModel" "rebuilt") ∈ lw_all := lw_g (lw_at lw_m8 28 rfl) rfl
theorem q1793 : (Jvm.Cond.laysFinal "EndSumsModel" "EndSumsModel" "items" "[I") ∈ lw_all := lw_g (lw_at lw_m8 29 rfl) rfl
theorem q1794 : (Jvm.Cond.soleField "EndSumsModel" "items") ∈ lw_all := lw_g (lw_at lw_m8 30 rfl) rfl
theorem q1795 : (Jvm.Cond.laysFinal "EndSumsModel" "EndSumsModel" "readTable" "[I") ∈ lw_all := lw_g (lw_at lw_m8 31 rfl) rfl
theorem q1796 : (Jvm.Cond.soleField "EndSumsModel" "readTable") ∈ lw_all := lw_g (lw_at lw_m8 32 rfl) rfl
theorem q1797 : (Jvm.Cond.lays "EndSumsModel" "EndSumsModel" "readWide" "I") ∈ lw_all := lw_g (lw_at lw_m8 33 rfl) rfl
theorem q1798 : (Jvm.Cond.soleField "EndSumsModel" "readWide") ∈ lw_all := lw_g (lw_at lw_m8 34 rfl) rfl
theorem q1799 : (Jvm.Cond.laysFinal "EndSumsModel" "EndSumsModel" "act" "[I") ∈ lw_all := lw_g (lw_at lw_m8 35 rfl) rfl
theorem q1800 : (Jvm.Cond.soleField "EndSumsModel" "act") ∈ lw_all := lw_g (lw_at lw_m8 36 rfl) rfl
theorem q1801 : (Jvm.Cond.laysFinal "EndSumsModel" "EndSumsModel" "actItem" "[I") ∈ lw_all := lw_g (lw_at lw_m8 37 rfl) rfl
theorem q1802 : (Jvm.Cond.soleField "EndSumsModel" "actItem") ∈ lw_all := lw_g (lw_at lw_m8 38 rfl) rfl
theorem q1803 : (Jvm.Cond.lays "EndSumsModel" "EndSumsModel" "front" "I") ∈ lw_all := lw_g (lw_at lw_m8 39 rfl) rfl
theorem q1804 : (Jvm.Cond.soleField "EndSumsModel" "front") ∈ lw_all := lw_g (lw_at lw_m8 40 rfl) rfl
theorem q1805 : (Jvm.Cond.lays "EndSumsModel" "EndSumsModel" "back" "I") ∈ lw_all := lw_g (lw_at lw_m8 41 rfl) rfl
theorem q1806 : (Jvm.Cond.soleField "EndSumsModel" "back") ∈ lw_all := lw_g (lw_at lw_m8 42 rfl) rfl
theorem q1807 : (Jvm.Cond.superclass "EndSumsModel" "java/lang/Object") ∈ lw_all := lw_g (lw_at lw_m8 43 rfl) rfl
theorem q1809 : (Jvm.Cond.instanceMethod ({ cls := "EndSumsModel", name := "commutes", desc := "(II)I" } : Jvm.MethodName)) ∈ lw_all := lw_g (lw_at lw_m8 45 rfl) rfl
theorem q1810 : (Jvm.Cond.selects "EndSumsModel" ({ cls := "EndSumsModel", name := "commutes", desc := "(II)I" } : Jvm.MethodName) ({ cls := "EndSumsModel", name := "commutes", desc := "(II)I" } : Jvm.MethodName)) ∈ lw_all := lw_g (lw_at lw_m8 46 rfl) rfl
theorem q1811 : (Jvm.Cond.code ({ cls := "EndSumsModel", name := "commutes", desc := "(II)I" } : Jvm.MethodName) prog_9_method_22_code (7 : Nat) (Option.some Jvm.ClassFile.FieldType.int)) ∈ lw_all := lw_g (lw_at lw_m8 47 rfl) rfl
theorem q1812 : (Jvm.Cond.methodLink "EndSumsModel" (156 : Nat) ({ cls := "EndSumsModel", name := "isItem", desc := "(I)Z" } : Jvm.MethodName)) ∈ lw_all := lw_g (lw_at lw_m8 48 rfl) rfl
theorem q1813 : (Jvm.Cond.static ({ cls := "EndSumsModel", name := "isItem", desc := "(I)Z" } : Jvm.MethodName)) ∈ lw_all := lw_g (lw_at lw_m8 49 rfl) rfl
theorem q1814 : (Jvm.Cond.code ({ cls := "EndSumsModel", name := "isItem", desc := "(I)Z" } : Jvm.MethodName) prog_9_method_20_code (1 : Nat) (Option.some Jvm.ClassFile.FieldType.boolean)) ∈ lw_all := lw_g (lw_at lw_m8 50 rfl) rfl
theorem q1815 : (Jvm.Cond.constantLong "EndSumsModel" (146 : Nat) (9999 : Int64)) ∈ lw_all := lw_g (lw_at lw_m8 51 rfl) rfl
theorem q1816 : (Jvm.Cond.methodLink "EndSumsModel" (160 : Nat) ({ cls := "EndSumsModel", name := "joinsTwo", desc := "(II)V" } : Jvm.MethodName)) ∈ lw_all := lw_g (lw_at lw_m8 52 rfl) rfl
theorem q1817 : (Jvm.Cond.privateMethod ({ cls := "EndSumsModel", name := "joinsTwo", desc := "(II)V" } : Jvm.MethodName)) ∈ lw_tbl := lw_at lw_m8 53 rfl
theorem q1818 : (Jvm.Cond.instanceMethod ({ cls := "EndSumsModel", name := "joinsTwo", desc := "(II)V" } : Jvm.MethodName)) ∈ lw_all := lw_g (lw_at lw_m8 54 rfl) rfl
theorem q1819 : (Jvm.Cond.code ({ cls := "EndSumsModel", name := "joinsTwo", desc := "(II)V" } : Jvm.MethodName) prog_9_method_21_code (7 : Nat) (Option.none : Option Jvm.ClassFile.FieldType)) ∈ lw_all := lw_g (lw_at lw_m8 55 rfl) rfl
theorem q1820 : (Jvm.Cond.methodLink "EndSumsModel" (148 : Nat) ({ cls := "EndSumsModel", name := "element", desc := "(I)V" } : Jvm.MethodName)) ∈ lw_all := lw_g (lw_at lw_m8 56 rfl) rfl
theorem q1821 : (Jvm.Cond.privateMethod ({ cls := "EndSumsModel", name := "element", desc := "(I)V" } : Jvm.MethodName)) ∈ lw_tbl := lw_at lw_m8 57 rfl
theorem q1822 : (Jvm.Cond.instanceMethod ({ cls := "EndSumsModel", name := "element", desc := "(I)V" } : Jvm.MethodName)) ∈ lw_all := lw_g (lw_at lw_m8 58 rfl) rfl
theorem q1823 : (Jvm.Cond.code ({ cls := "EndSumsModel", name := "element", desc := "(I)V" } : Jvm.MethodName) prog_9_method_13_code (2 : Nat) (Option.none : Option Jvm.ClassFile.FieldType)) ∈ lw_all := lw_g (lw_at lw_m8 59 rfl) rfl
theorem q1824 : (Jvm.Cond.methodLink "EndSumsModel" (107 : Nat) ({ cls := "EndSumsModel", name := "is", desc := "(JJ)V" } : Jvm.MethodName)) ∈ lw_all := lw_g (lw_at lw_m8 60 rfl) rfl
theorem q1825 : (Jvm.Cond.privateMethod ({ cls := "EndSumsModel", name := "is", desc := "(JJ)V" } : Jvm.MethodName)) ∈ lw_tbl := lw_at lw_m8 61 rfl
theorem q1826 : (Jvm.Cond.instanceMethod ({ cls := "EndSumsModel", name := "is", desc := "(JJ)V" } : Jvm.MethodName)) ∈ lw_all := lw_g (lw_at lw_m8 62 rfl) rfl
theorem q1827 : (Jvm.Cond.code ({ cls := "EndSumsModel", name := "is", desc := "(JJ)V" } : Jvm.MethodName) prog_9_method_11_code (5 : Nat) (Option.none : Option Jvm.ClassFile.FieldType)) ∈ lw_all := lw_g (lw_at lw_m8 63 rfl) rfl
theorem q1828 : (Jvm.Cond.methodLink "EndSumsModel" (114 : Nat) ({ cls := "EndSumsModel", name := "leaps", desc := "(I)I" } : Jvm.MethodName)) ∈ lw_all := lw_g (lw_at lw_m8 64 rfl) rfl
theorem q1829 : (Jvm.Cond.privateMethod ({ cls := "EndSumsModel", name := "leaps", desc := "(I)I" } : Jvm.MethodName)) ∈ lw_tbl := lw_at lw_m8 65 rfl
theorem q1830 : (Jvm.Cond.instanceMethod ({ cls := "EndSumsModel", name := "leaps", desc := "(I)I" } : Jvm.MethodName)) ∈ lw_all := lw_g (lw_at lw_m8 66 rfl) rfl
theorem q1831 : (Jvm.Cond.code ({ cls := "EndSumsModel", name := "leaps", desc := "(I)I" } : Jvm.MethodName) prog_9_method_17_code (5 : Nat) (Option.some Jvm.ClassFile.FieldType.int)) ∈ lw_all := lw_g (lw_at lw_m8 67 rfl) rfl
theorem q1832 : (Jvm.Cond.methodLink "EndSumsModel" (118 : Nat) ({ cls := "EndSumsModel", name := "lays", desc := "(I[I)V" } : Jvm.MethodName)) ∈ lw_all := lw_g (lw_at lw_m8 68 rfl) rfl
theorem q1833 : (Jvm.Cond.static ({ cls := "EndSumsModel", name := "lays", desc := "(I[I)V" } : Jvm.MethodName)) ∈ lw_all := lw_g (lw_at lw_m8 69 rfl) rfl
theorem q1834 : (Jvm.Cond.code ({ cls := "EndSumsModel", name := "lays", desc := "(I[I)V" } : Jvm.MethodName) prog_9_method_15_code (8 : Nat) (Option.none : Option Jvm.ClassFile.FieldType)) ∈ lw_all := lw_g (lw_at lw_m8 70 rfl) rfl
theorem q1835 : (Jvm.Cond.methodLink "EndSumsModel" (31 : Nat) ({ cls := "EndSumsModel", name := "flag", desc := "(Z)I" } : Jvm.MethodName)) ∈ lw_all := lw_g (lw_at lw_m8 71 rfl) rfl
theorem q1836 : (Jvm.Cond.static ({ cls := "EndSumsModel", name := "flag", desc := "(Z)I" } : Jvm.MethodName)) ∈ lw_all := lw_g (lw_at lw_m8 72 rfl) rfl
theorem q1837 : (Jvm.Cond.code ({ cls := "EndSumsModel", name := "flag", desc := "(Z)I" } : Jvm.MethodName) prog_9_method_3_code (1 : Nat) (Option.some Jvm.ClassFile.FieldType.int)) ∈ lw_all := lw_g (lw_at lw_m8 73 rfl) rfl
theorem q1838 : (Jvm.Cond.methodLink "EndSumsModel" (152 : Nat) ({ cls := "EndSumsModel", name := "join", desc := "(JJJJ)V" } : Jvm.MethodName)) ∈ lw_all := lw_g (lw_at lw_m8 74 rfl) rfl
theorem q1839 : (Jvm.Cond.privateMethod ({ cls := "EndSumsModel", name := "join", desc := "(JJJJ)V" } : Jvm.MethodName)) ∈ lw_tbl := lw_at lw_m8 75 rfl
theorem q1840 : (Jvm.Cond.instanceMethod ({ cls := "EndSumsModel", name := "join", desc := "(JJJJ)V" } : Jvm.MethodName)) ∈ lw_all := lw_g (lw_at lw_m8 76 rfl) rfl
theorem q1841 : (Jvm.Cond.code ({ cls := "EndSumsModel", name := "join", desc := "(JJJJ)V" } : Jvm.MethodName) prog_9_method_19_code (11 : Nat) (Option.none : Option Jvm.ClassFile.FieldType)) ∈ lw_all := lw_g (lw_at lw_m8 77 rfl) rfl
theorem q1842 : (Jvm.Cond.methodLink "EndSumsModel" (126 : Nat) ({ cls := "java/lang/Math", name := "min", desc := "(JJ)J" } : Jvm.MethodName)) ∈ lw_all := lw_g (lw_at lw_m8 78 rfl) rfl
theorem q1843 : (Jvm.Cond.methodLink "EndSumsModel" (132 : Nat) ({ cls := "java/lang/Math", name := "max", desc := "(JJ)J" } : Jvm.MethodName)) ∈ lw_all := lw_g (lw_at lw_m8 79 rfl) rfl
theorem q1844 : (Jvm.Cond.methodLink "EndSumsModel" (135 : Nat) ({ cls := "EndSumsModel", name := "common", desc := "(JJ)J" } : Jvm.MethodName)) ∈ lw_all := lw_g (lw_at lw_m8 80 rfl) rfl
theorem q1845 : (Jvm.Cond.static ({ cls := "EndSumsModel", name := "common", desc := "(JJ)J" } : Jvm.MethodName)) ∈ lw_all := lw_g (lw_at lw_m8 81 rfl) rfl
theorem q1846 : (Jvm.Cond.code ({ cls := "EndSumsModel", name := "common", desc := "(JJ)J" } : Jvm.MethodName) prog_9_method_14_code (10 : Nat) (Option.some Jvm.ClassFile.FieldType.long)) ∈ lw_all := lw_g (lw_at lw_m8 82 rfl) rfl
theorem q1847 : (Jvm.Cond.constantLong "EndSumsModel" (138 : Nat) (101 : Int64)) ∈ lw_all := lw_g (lw_at lw_m8 83 rfl) rfl
theorem q1848 : (Jvm.Cond.methodLink "EndSumsModel" (140 : Nat) ({ cls := "EndSumsModel", name := "arrangedBy", desc := "(II)I" } : Jvm.MethodName)) ∈ lw_all := lw_g (lw_at lw_m8 84 rfl) rfl
theorem q1849 : (Jvm.Cond.privateMethod ({ cls := "EndSumsModel", name := "arrangedBy", desc := "(II)I" } : Jvm.MethodName)) ∈ lw_tbl := lw_at lw_m8 85 rfl
theorem q1850 : (Jvm.Cond.instanceMethod ({ cls := "EndSumsModel", name := "arrangedBy", desc := "(II)I" } : Jvm.MethodName)) ∈ lw_all := lw_g (lw_at lw_m8 86 rfl) rfl
theorem q1851 : (Jvm.Cond.code ({ cls := "EndSumsModel", name := "arrangedBy", desc := "(II)I" } : Jvm.MethodName) prog_9_method_18_code (4 : Nat) (Option.some Jvm.ClassFile.FieldType.int)) ∈ lw_all := lw_g (lw_at lw_m8 87 rfl) rfl
theorem q1852 : (Jvm.Cond.methodLink "EndSumsModel" (122 : Nat) ({ cls := "EndSumsModel", name := "numberOf", desc := "([I)I" } : Jvm.MethodName)) ∈ lw_all := lw_g (lw_at lw_m8 88 rfl) rfl
theorem q1853 : (Jvm.Cond.static ({ cls := "EndSumsModel", name := "numberOf", desc := "([I)I" } : Jvm.MethodName)) ∈ lw_all := lw_g (lw_at lw_m8 89 rfl) rfl
theorem q1854 : (Jvm.Cond.code ({ cls := "EndSumsModel", name := "numberOf", desc := "([I)I" } : Jvm.MethodName) prog_9_method_16_code (6 : Nat) (Option.some Jvm.ClassFile.FieldType.int)) ∈ lw_all := lw_g (lw_at lw_m8 90 rfl) rfl
theorem q1855 : (Jvm.Cond.constantLong "EndSumsModel" (144 : Nat) (2 : Int64)) ∈ lw_all := lw_g (lw_at lw_m8 91 rfl) rfl
theorem q1856 : (Jvm.Cond.methodLink "EndSumsModel" (164 : Nat) ({ cls := "EndSumsModel", name := "enters", desc := "(J)V" } : Jvm.MethodName)) ∈ lw_all := lw_g (lw_at lw_m8 92 rfl) rfl
theorem q1857 : (Jvm.Cond.privateMethod ({ cls := "EndSumsModel", name := "enters", desc := "(J)V" } : Jvm.MethodName)) ∈ lw_tbl := lw_at lw_m8 93 rfl
theorem q1858 : (Jvm.Cond.instanceMethod ({ cls := "EndSumsModel", name := "enters", desc := "(J)V" } : Jvm.MethodName)) ∈ lw_all := lw_g (lw_at lw_m8 94 rfl) rfl
theorem q1859 : (Jvm.Cond.code ({ cls := "EndSumsModel", name := "enters", desc := "(J)V" } : Jvm.MethodName) prog_9_method_4_code (3 : Nat) (Option.none : Option Jvm.ClassFile.FieldType)) ∈ lw_all := lw_g (lw_at lw_m8 95 rfl) rfl
theorem q1861 : (Jvm.Cond.instanceMethod ({ cls := "EndSumsModel", name := "powers", desc := "(II)I" } : Jvm.MethodName)) ∈ lw_all := lw_g (lw_at lw_m8 97 rfl) rfl
theorem q1862 : (Jvm.Cond.selects "EndSumsModel" ({ cls := "EndSumsModel", name := "powers", desc := "(II)I" } : Jvm.MethodName) ({ cls := "EndSumsModel", name := "powers", desc := "(II)I" } : Jvm.MethodName)) ∈ lw_all := lw_g (lw_at lw_m8 98 rfl) rfl
theorem q1863 : (Jvm.Cond.code ({ cls := "EndSumsModel", name := "powers", desc := "(II)I" } : Jvm.MethodName) prog_9_method_24_code (4 : Nat) (Option.some Jvm.ClassFile.FieldType.int)) ∈ lw_all := lw_g (lw_at lw_m8 99 rfl) rfl
theorem q1864 : (Jvm.Cond.constantLong "EndSumsModel" (174 : Nat) (1000000000 : Int64)) ∈ lw_all := lw_g (lw_at lw_m8 100 rfl) rfl
theorem q1865 : (Jvm.Cond.methodLink "EndSumsModel" (171 : Nat) ({ cls := "EndSumsModel", name := "power", desc := "(II)I" } : Jvm.MethodName)) ∈ lw_all := lw_g (lw_at lw_m8 101 rfl) rfl
theorem q1866 : (Jvm.Cond.privateMethod ({ cls := "EndSumsModel", name := "power", desc := "(II)I" } : Jvm.MethodName)) ∈ lw_tbl := lw_at lw_m8 102 rfl
theorem q1867 : (Jvm.Cond.instanceMethod ({ cls := "EndSumsModel", name := "power", desc := "(II)I" } : Jvm.MethodName)) ∈ lw_all := lw_g (lw_at lw_m8 103 rfl) rfl
theorem q1868 : (Jvm.Cond.code ({ cls := "EndSumsModel", name := "power", desc := "(II)I" } : Jvm.MethodName) prog_9_method_23_code (8 : Nat) (Option.some Jvm.ClassFile.FieldType.int)) ∈ lw_all := lw_g (lw_at lw_m8 104 rfl) rfl
theorem q1869 : (Jvm.Cond.methodLink "EndSumsModel" (168 : Nat) ({ cls := "EndSumsModel", name := "empty", desc := "()V" } : Jvm.MethodName)) ∈ lw_all := lw_g (lw_at lw_m8 105 rfl) rfl
theorem q1870 : (Jvm.Cond.privateMethod ({ cls := "EndSumsModel", name := "empty", desc := "()V" } : Jvm.MethodName)) ∈ lw_tbl := lw_at lw_m8 106 rfl
theorem q1871 : (Jvm.Cond.instanceMethod ({ cls := "EndSumsModel", name := "empty", desc := "()V" } : Jvm.MethodName)) ∈ lw_all := lw_g (lw_at lw_m8 107 rfl) rfl
theorem q1872 : (Jvm.Cond.code ({ cls := "EndSumsModel", name := "empty", desc := "()V" } : Jvm.MethodName) prog_9_method_12_code (1 : Nat) (Option.none : Option Jvm.ClassFile.FieldType)) ∈ lw_all := lw_g (lw_at lw_m8 108 rfl) rfl
theorem q1873 : (Jvm.Cond.constantLong "EndSumsModel" (103 : Nat) (10000 : Int64)) ∈ lw_all := lw_g (lw_at lw_m8 109 rfl) rfl
theorem q1874 : (Jvm.Cond.constantLong "EndSumsModel" (105 : Nat) (-1 : Int64)) ∈ lw_all := lw_g (lw_at lw_m8 110 rfl) rfl
theorem q1876 : (Jvm.Cond.instanceMethod ({ cls := "EndSumsModel", name := "order", desc := "(I)I" } : Jvm.MethodName)) ∈ lw_all := lw_g (lw_at lw_m8 112 rfl) rfl
theorem q1877 : (Jvm.Cond.selects "EndSumsModel" ({ cls := "EndSumsModel", name := "order", desc := "(I)I" } : Jvm.MethodName) ({ cls := "EndSumsModel", name := "order", desc := "(I)I" } : Jvm.MethodName)) ∈ lw_all := lw_g (lw_at lw_m8 113 rfl) rfl
theorem q1878 : (Jvm.Cond.code ({ cls := "EndSumsModel", name := "order", desc := "(I)I" } : Jvm.MethodName) prog_9_method_25_code (8 : Nat) (Option.some Jvm.ClassFile.FieldType.int)) ∈ lw_all := lw_g (lw_at lw_m8 114 rfl) rfl
theorem q1880 : (Jvm.Cond.instanceMethod ({ cls := "EndSumsModel", name := "undoes", desc := "(I)I" } : Jvm.MethodName)) ∈ lw_all := lw_g (lw_at lw_m8 116 rfl) rfl
theorem q1881 : (Jvm.Cond.selects "EndSumsModel" ({ cls := "EndSumsModel", name := "undoes", desc := "(I)I" } : Jvm.MethodName) ({ cls := "EndSumsModel", name := "undoes", desc := "(I)I" } : Jvm.MethodName)) ∈ lw_all := lw_g (lw_at lw_m8 117 rfl) rfl
theorem q1882 : (Jvm.Cond.code ({ cls := "EndSumsModel", name := "undoes", desc := "(I)I" } : Jvm.MethodName) prog_9_method_26_code (8 : Nat) (Option.some Jvm.ClassFile.FieldType.int)) ∈ lw_all := lw_g (lw_at lw_m8 118 rfl) rfl
theorem q1884 : (Jvm.Cond.instanceMethod ({ cls := "EndSumsModel", name := "rule", desc := "(I)I" } : Jvm.MethodName)) ∈ lw_all := lw_g (lw_at lw_m8 120 rfl) rfl
theorem q1885 : (Jvm.Cond.selects "EndSumsModel" ({ cls := "EndSumsModel", name := "rule", desc := "(I)I" } : Jvm.MethodName) ({ cls := "EndSumsModel", name := "rule", desc := "(I)I" } : Jvm.MethodName)) ∈ lw_all := lw_g (lw_at lw_m8 121 rfl) rfl
theorem q1886 : (Jvm.Cond.code ({ cls := "EndSumsModel", name := "rule", desc := "(I)I" } : Jvm.MethodName) prog_9_method_39_code (3 : Nat) (Option.some Jvm.ClassFile.FieldType.int)) ∈ lw_all := lw_g (lw_at lw_m8 122 rfl) rfl
theorem q1887 : (Jvm.Cond.constantLong "EndSumsModel" (205 : Nat) (7 : Int64)) ∈ lw_all := lw_g (lw_at lw_m8 123 rfl) rfl
theorem q1888 : (Jvm.Cond.methodLink "EndSumsModel" (207 : Nat) ({ cls := "EndSumsModel", name := "laysAll", desc := "()V" } : Jvm.MethodName)) ∈ lw_all := lw_g (lw_at lw_m8 124 rfl) rfl
theorem q1889 : (Jvm.Cond.privateMethod ({ cls := "EndSumsModel", name := "laysAll", desc := "()V" } : Jvm.MethodName)) ∈ lw_tbl := lw_at lw_m8 125 rfl
theorem q1890 : (Jvm.Cond.instanceMethod ({ cls := "EndSumsModel", name := "laysAll", desc := "()V" } : Jvm.MethodName)) ∈ lw_all := lw_g (lw_at lw_m8 126 rfl) rfl
theorem q1891 : (Jvm.Cond.code ({ cls := "EndSumsModel", name := "laysAll", desc := "()V" } : Jvm.MethodName) prog_9_method_36_code (4 : Nat) (Option.none : Option Jvm.ClassFile.FieldType)) ∈ lw_all := lw_g (lw_at lw_m8 127 rfl) rfl
theorem q1892 : (Jvm.Cond.methodLink "EndSumsModel" (196 : Nat) ({ cls := "EndSumsModel", name := "takesItems", desc := "(I)I" } : Jvm.MethodName)) ∈ lw_all := lw_g (lw_at lw_m8 128 rfl) rfl
theorem q1893 : (Jvm.Cond.privateMethod ({ cls := "EndSumsModel", name := "takesItems", desc := "(I)I" } : Jvm.MethodName)) ∈ lw_tbl := lw_at lw_m8 129 rfl
theorem q1894 : (Jvm.Cond.instanceMethod ({ cls := "EndSumsModel", name := "takesItems", desc := "(I)I" } : Jvm.MethodName)) ∈ lw_all := lw_g (lw_at lw_m8 130 rfl) rfl
theorem q1895 : (Jvm.Cond.code ({ cls := "EndSumsModel", name := "takesItems", desc := "(I)I" } : Jvm.MethodName) prog_9_method_34_code (4 : Nat) (Option.some Jvm.ClassFile.FieldType.int)) ∈ lw_all := lw_g (lw_at lw_m8 131 rfl) rfl
theorem q1896 : (Jvm.Cond.methodLink "EndSumsModel" (187 : Nat) ({ cls := "EndSumsModel", name := "sizeOf", desc := "(I)I" } : Jvm.MethodName)) ∈ lw_all := lw_g (lw_at lw_m8 132 rfl) rfl
theorem q1897 : (Jvm.Cond.privateMethod ({ cls := "EndSumsModel", name := "sizeOf", desc := "(I)I" } : Jvm.MethodName)) ∈ lw_tbl := lw_at lw_m8 133 rfl
theorem q1898 : (Jvm.Cond.instanceMethod ({ cls := "EndSumsModel", name := "sizeOf", desc := "(I)I" } : Jvm.MethodName)) ∈ lw_all := lw_g (lw_at lw_m8 134 rfl) rfl
theorem q1899 : (Jvm.Cond.code ({ cls := "EndSumsModel", name := "sizeOf", desc := "(I)I" } : Jvm.MethodName) prog_9_method_29_code (2 : Nat) (Option.some Jvm.ClassFile.FieldType.int)) ∈ lw_all := lw_g (lw_at lw_m8 135 rfl) rfl
theorem q1900 : (Jvm.Cond.methodLink "EndSumsModel" (190 : Nat) ({ cls := "EndSumsModel", name := "itemAt", desc := "(II)I" } : Jvm.MethodName)) ∈ lw_all := lw_g (lw_at lw_m8 136 rfl) rfl
theorem q1901 : (Jvm.Cond.privateMethod ({ cls := "EndSumsModel", name := "itemAt", desc := "(II)I" } : Jvm.MethodName)) ∈ lw_tbl := lw_at lw_m8 137 rfl
theorem q1902 : (Jvm.Cond.instanceMethod ({ cls := "EndSumsModel", name := "itemAt", desc := "(II)I" } : Jvm.MethodName)) ∈ lw_all := lw_g (lw_at lw_m8 138 rfl) rfl
theorem q1903 : (Jvm.Cond.code ({ cls := "EndSumsModel", name := "itemAt", desc := "(II)I" } : Jvm.MethodName) prog_9_method_32_code (3 : Nat) (Option.some Jvm.ClassFile.FieldType.int)) ∈ lw_all := lw_g (lw_at lw_m8 139 rfl) rfl
theorem q1904 : (Jvm.Cond.methodLink "EndSumsModel" (181 : Nat) ({ cls := "EndSumsModel", name := "placeOf", desc := "(II)I" } : Jvm.MethodName)) ∈ lw_all := lw_g (lw_at lw_m8 140 rfl) rfl
theorem q1905 : (Jvm.Cond.privateMethod ({ cls := "EndSumsModel", name := "placeOf", desc := "(II)I" } : Jvm.MethodName)) ∈ lw_tbl := lw_at lw_m8 141 rfl
theorem q1906 : (Jvm.Cond.instanceMethod ({ cls := "EndSumsModel", name := "placeOf", desc := "(II)I" } : Jvm.MethodName)) ∈ lw_all := lw_g (lw_at lw_m8 142 rfl) rfl
theorem q1907 : (Jvm.Cond.code ({ cls := "EndSumsModel", name := "placeOf", desc := "(II)I" } : Jvm.MethodName) prog_9_method_31_code (4 : Nat) (Option.some Jvm.ClassFile.FieldType.int)) ∈ lw_all := lw_g (lw_at lw_m8 143 rfl) rfl
theorem q1908 : (Jvm.Cond.methodLink "EndSumsModel" (178 : Nat) ({ cls := "EndSumsModel", name := "place", desc := "(II)I" } : Jvm.MethodName)) ∈ lw_all := lw_g (lw_at lw_m8 144 rfl) rfl
theorem q1909 : (Jvm.Cond.static ({ cls := "EndSumsModel", name := "place", desc := "(II)I" } : Jvm.MethodName)) ∈ lw_all := lw_g (lw_at lw_m8 145 rfl) rfl
theorem q1910 : (Jvm.Cond.code ({ cls := "EndSumsModel", name := "place", desc := "(II)I" } : Jvm.MethodName) prog_9_method_30_code (2 : Nat) (Option.some Jvm.ClassFile.FieldType.int)) ∈ lw_all := lw_g (lw_at lw_m8 146 rfl) rfl
theorem q1911 : (Jvm.Cond.methodLink "EndSumsModel" (199 : Nat) ({ cls := "EndSumsModel", name := "lays", desc := "(IIII)V" } : Jvm.MethodName)) ∈ lw_all := lw_g (lw_at lw_m8 147 rfl) rfl
theorem q1912 : (Jvm.Cond.privateMethod ({ cls := "EndSumsModel", name := "lays", desc := "(IIII)V" } : Jvm.MethodName)) ∈ lw_tbl := lw_at lw_m8 148 rfl
theorem q1913 : (Jvm.Cond.instanceMethod ({ cls := "EndSumsModel", name := "lays", desc := "(IIII)V" } : Jvm.MethodName)) ∈ lw_all := lw_g (lw_at lw_m8 149 rfl) rfl
theorem q1914 : (Jvm.Cond.code ({ cls := "EndSumsModel", name := "lays", desc := "(IIII)V" } : Jvm.MethodName) prog_9_method_35_code (6 : Nat) (Option.none : Option Jvm.ClassFile.FieldType)) ∈ lw_all := lw_g (lw_at lw_m8 150 rfl) rfl
theorem q1915 : (Jvm.Cond.methodLink "EndSumsModel" (193 : Nat) ({ cls := "EndSumsModel", name := "makes", desc := "(II)V" } : Jvm.MethodName)) ∈ lw_all := lw_g (lw_at lw_m8 151 rfl) rfl
theorem q1916 : (Jvm.Cond.privateMethod ({ cls := "EndSumsModel", name := "makes", desc := "(II)V" } : Jvm.MethodName)) ∈ lw_tbl := lw_at lw_m8 152 rfl
theorem q1917 : (Jvm.Cond.instanceMethod ({ cls := "EndSumsModel", name := "makes", desc := "(II)V" } : Jvm.MethodName)) ∈ lw_all := lw_g (lw_at lw_m8 153 rfl) rfl
theorem q1918 : (Jvm.Cond.code ({ cls := "EndSumsModel", name := "makes", desc := "(II)V" } : Jvm.MethodName) prog_9_method_33_code (8 : Nat) (Option.none : Option Jvm.ClassFile.FieldType)) ∈ lw_all := lw_g (lw_at lw_m8 154 rfl) rfl
theorem q1920 : (Jvm.Cond.instanceMethod ({ cls := "EndSumsModel", name := "table", desc := "()I" } : Jvm.MethodName)) ∈ lw_all := lw_g (lw_at lw_m8 156 rfl) rfl
theorem q1921 : (Jvm.Cond.selects "EndSumsModel" ({ cls := "EndSumsModel", name := "table", desc := "()I" } : Jvm.MethodName) ({ cls := "EndSumsModel", name := "table", desc := "()I" } : Jvm.MethodName)) ∈ lw_all := lw_g (lw_at lw_m8 157 rfl) rfl
theorem q1922 : (Jvm.Cond.code ({ cls := "EndSumsModel", name := "table", desc := "()I" } : Jvm.MethodName) prog_9_method_44_code (3 : Nat) (Option.some Jvm.ClassFile.FieldType.int)) ∈ lw_all := lw_g (lw_at lw_m8 158 rfl) rfl
theorem q1923 : (Jvm.Cond.methodLink "EndSumsModel" (225 : Nat) ({ cls := "EndSumsModel", name := "reads", desc := "()V" } : Jvm.MethodName)) ∈ lw_all := lw_g (lw_at lw_m8 159 rfl) rfl
theorem q1924 : (Jvm.Cond.privateMethod ({ cls := "EndSumsModel", name := "reads", desc := "()V" } : Jvm.MethodName)) ∈ lw_tbl := lw_at lw_m8 160 rfl
theorem q1925 : (Jvm.Cond.instanceMethod ({ cls := "EndSumsModel", name := "reads", desc := "()V" } : Jvm.MethodName)) ∈ lw_all := lw_g (lw_at lw_m8 161 rfl) rfl
theorem q1926 : (Jvm.Cond.code ({ cls := "EndSumsModel", name := "reads", desc := "()V" } : Jvm.MethodName) prog_9_method_7_code (1 : Nat) (Option.none : Option Jvm.ClassFile.FieldType)) ∈ lw_all := lw_g (lw_at lw_m8 162 rfl) rfl
theorem q1927 : (Jvm.Cond.methodLink "EndSumsModel" (228 : Nat) ({ cls := "EndSumsModel", name := "readsTable", desc := "()Z" } : Jvm.MethodName)) ∈ lw_all := lw_g (lw_at lw_m8 163 rfl) rfl
theorem q1928 : (Jvm.Cond.privateMethod ({ cls := "EndSumsModel", name := "readsTable", desc := "()Z" } : Jvm.MethodName)) ∈ lw_tbl := lw_at lw_m8 164 rfl
theorem q1929 : (Jvm.Cond.instanceMethod ({ cls := "EndSumsModel", name := "readsTable", desc := "()Z" } : Jvm.MethodName)) ∈ lw_all := lw_g (lw_at lw_m8 165 rfl) rfl
theorem q1930 : (Jvm.Cond.code ({ cls := "EndSumsModel", name := "readsTable", desc := "()Z" } : Jvm.MethodName) prog_9_method_40_code (3 : Nat) (Option.some Jvm.ClassFile.FieldType.boolean)) ∈ lw_all := lw_g (lw_at lw_m8 166 rfl) rfl
theorem q1931 : (Jvm.Cond.constantLong "EndSumsModel" (35 : Nat) (48 : Int64)) ∈ lw_all := lw_g (lw_at lw_m8 167 rfl) rfl
theorem q1932 : (Jvm.Cond.constantLong "EndSumsModel" (213 : Nat) (52 : Int64)) ∈ lw_all := lw_g (lw_at lw_m8 168 rfl) rfl
theorem q1933 : (Jvm.Cond.methodLink "EndSumsModel" (215 : Nat) ({ cls := "EndSumsModel", name := "takesSign", desc := "(I)Z" } : Jvm.MethodName)) ∈ lw_all := lw_g (lw_at lw_m8 169 rfl) rfl
theorem q1934 : (Jvm.Cond.privateMethod ({ cls := "EndSumsModel", name := "takesSign", desc := "(I)Z" } : Jvm.MethodName)) ∈ lw_tbl := lw_at lw_m8 170 rfl
theorem q1935 : (Jvm.Cond.instanceMethod ({ cls := "EndSumsModel", name := "takesSign", desc := "(I)Z" } : Jvm.MethodName)) ∈ lw_all := lw_g (lw_at lw_m8 171 rfl) rfl
theorem q1936 : (Jvm.Cond.code ({ cls := "EndSumsModel", name := "takesSign", desc := "(I)Z" } : Jvm.MethodName) prog_9_method_8_code (3 : Nat) (Option.some Jvm.ClassFile.FieldType.boolean)) ∈ lw_all := lw_g (lw_at lw_m8 172 rfl) rfl
theorem q1937 : (Jvm.Cond.methodLink "EndSumsModel" (218 : Nat) ({ cls := "EndSumsModel", name := "isDigit", desc := "()Z" } : Jvm.MethodName)) ∈ lw_all := lw_g (lw_at lw_m8 173 rfl) rfl
theorem q1938 : (Jvm.Cond.privateMethod ({ cls := "EndSumsModel", name := "isDigit", desc := "()Z" } : Jvm.MethodName)) ∈ lw_tbl := lw_at lw_m8 174 rfl
theorem q1939 : (Jvm.Cond.instanceMethod ({ cls := "EndSumsModel", name := "isDigit", desc := "()Z" } : Jvm.MethodName)) ∈ lw_all := lw_g (lw_at lw_m8 175 rfl) rfl
theorem q1940 : (Jvm.Cond.code ({ cls := "EndSumsModel", name := "isDigit", desc := "()Z" } : Jvm.MethodName) prog_9_method_9_code (1 : Nat) (Option.some Jvm.ClassFile.FieldType.boolean)) ∈ lw_all := lw_g (lw_at lw_m8 176 rfl) rfl
theorem q1941 : (Jvm.Cond.constantLong "EndSumsModel" (37 : Nat) (57 : Int64)) ∈ lw_all := lw_g (lw_at lw_m8 177 rfl) rfl
theorem q1942 : (Jvm.Cond.methodLink "EndSumsModel" (231 : Nat) ({ cls := "EndSumsModel", name := "hasUnlike", desc := "()Z" } : Jvm.MethodName)) ∈ lw_all := lw_g (lw_at lw_m8 178 rfl) rfl
theorem q1943 : (Jvm.Cond.privateMethod ({ cls := "EndSumsModel", name := "hasUnlike", desc := "()Z" } : Jvm.MethodName)) ∈ lw_tbl := lw_at lw_m8 179 rfl
theorem q1944 : (Jvm.Cond.instanceMethod ({ cls := "EndSumsModel", name := "hasUnlike", desc := "()Z" } : Jvm.MethodName)) ∈ lw_all := lw_g (lw_at lw_m8 180 rfl) rfl
theorem q1945 : (Jvm.Cond.code ({ cls := "EndSumsModel", name := "hasUnlike", desc := "()Z" } : Jvm.MethodName) prog_9_method_42_code (4 : Nat) (Option.some Jvm.ClassFile.FieldType.boolean)) ∈ lw_all := lw_g (lw_at lw_m8 181 rfl) rfl
theorem q1946 : (Jvm.Cond.methodLink "EndSumsModel" (222 : Nat) ({ cls := "EndSumsModel", name := "read", desc := "(II)I" } : Jvm.MethodName)) ∈ lw_all := lw_g (lw_at lw_m8 182 rfl) rfl
theorem q1947 : (Jvm.Cond.privateMethod ({ cls := "EndSumsModel", name := "read", desc := "(II)I" } : Jvm.MethodName)) ∈ lw_tbl := lw_at lw_m8 183 rfl
theorem q1948 : (Jvm.Cond.instanceMethod ({ cls := "EndSumsModel", name := "read", desc := "(II)I" } : Jvm.MethodName)) ∈ lw_all := lw_g (lw_at lw_m8 184 rfl) rfl
theorem q1949 : (Jvm.Cond.code ({ cls := "EndSumsModel", name := "read", desc := "(II)I" } : Jvm.MethodName) prog_9_method_41_code (3 : Nat) (Option.some Jvm.ClassFile.FieldType.int)) ∈ lw_all := lw_g (lw_at lw_m8 185 rfl) rfl
theorem q1950 : (Jvm.Cond.methodLink "EndSumsModel" (234 : Nat) ({ cls := "EndSumsModel", name := "isNeutral", desc := "(I)Z" } : Jvm.MethodName)) ∈ lw_all := lw_g (lw_at lw_m8 186 rfl) rfl
theorem q1951 : (Jvm.Cond.privateMethod ({ cls := "EndSumsModel", name := "isNeutral", desc := "(I)Z" } : Jvm.MethodName)) ∈ lw_tbl := lw_at lw_m8 187 rfl
theorem q1952 : (Jvm.Cond.instanceMethod ({ cls := "EndSumsModel", name := "isNeutral", desc := "(I)Z" } : Jvm.MethodName)) ∈ lw_all := lw_g (lw_at lw_m8 188 rfl) rfl
theorem q1953 : (Jvm.Cond.code ({ cls := "EndSumsModel", name := "isNeutral", desc := "(I)Z" } : Jvm.MethodName) prog_9_method_43_code (4 : Nat) (Option.some Jvm.ClassFile.FieldType.boolean)) ∈ lw_all := lw_g (lw_at lw_m8 189 rfl) rfl
theorem q1955 : (Jvm.Cond.instanceMethod ({ cls := "EndSumsModel", name := "puts", desc := "(III)I" } : Jvm.MethodName)) ∈ lw_all := lw_g (lw_at lw_m8 191 rfl) rfl
theorem q1956 : (Jvm.Cond.selects "EndSumsModel" ({ cls := "EndSumsModel", name := "puts", desc := "(III)I" } : Jvm.MethodName) ({ cls := "EndSumsModel", name := "puts", desc := "(III)I" } : Jvm.MethodName)) ∈ lw_all := lw_g (lw_at lw_m8 192 rfl) rfl
theorem q1957 : (Jvm.Cond.code ({ cls := "EndSumsModel", name := "puts", desc := "(III)I" } : Jvm.MethodName) prog_9_method_45_code (4 : Nat) (Option.some Jvm.ClassFile.FieldType.int)) ∈ lw_all := lw_g (lw_at lw_m8 193 rfl) rfl
theorem q1958 : (Jvm.Cond.methodLink "EndSumsModel" (237 : Nat) ({ cls := "EndSumsModel", name := "isLine", desc := "(I)Z" } : Jvm.MethodName)) ∈ lw_all := lw_g (lw_at lw_m8 194 rfl) rfl
theorem q1959 : (Jvm.Cond.static ({ cls := "EndSumsModel", name := "isLine", desc := "(I)Z" } : Jvm.MethodName)) ∈ lw_all := lw_g (lw_at lw_m8 195 rfl) rfl
theorem q1960 : (Jvm.Cond.code ({ cls := "EndSumsModel", name := "isLine", desc := "(I)Z" } : Jvm.MethodName) prog_9_method_27_code (1 : Nat) (Option.some Jvm.ClassFile.FieldType.boolean)) ∈ lw_all := lw_g (lw_at lw_m8 196 rfl) rfl
theorem q1961 : (Jvm.Cond.constantLong "EndSumsModel" (176 : Nat) (3 : Int64)) ∈ lw_all := lw_g (lw_at lw_m8 197 rfl) rfl
theorem q1962 : (Jvm.Cond.methodLink "EndSumsModel" (240 : Nat) ({ cls := "EndSumsModel", name := "isEnd", desc := "(I)Z" } : Jvm.MethodName)) ∈ lw_all := lw_g (lw_at lw_m8 198 rfl) rfl
theorem q1963 : (Jvm.Cond.static ({ cls := "EndSumsModel", name := "isEnd", desc := "(I)Z" } : Jvm.MethodName)) ∈ lw_all := lw_g (lw_at lw_m8 199 rfl) rfl
theorem q1964 : (Jvm.Cond.code ({ cls := "EndSumsModel", name := "isEnd", desc := "(I)Z" } : Jvm.MethodName) prog_9_method_28_code (1 : Nat) (Option.some Jvm.ClassFile.FieldType.boolean)) ∈ lw_all := lw_g (lw_at lw_m8 200 rfl) rfl
theorem q1966 : (Jvm.Cond.instanceMethod ({ cls := "EndSumsModel", name := "takes", desc := "(II)I" } : Jvm.MethodName)) ∈ lw_all := lw_g (lw_at lw_m8 202 rfl) rfl
theorem q1967 : (Jvm.Cond.selects "EndSumsModel" ({ cls := "EndSumsModel", name := "takes", desc := "(II)I" } : Jvm.MethodName) ({ cls := "EndSumsModel", name := "takes", desc := "(II)I" } : Jvm.MethodName)) ∈ lw_all := lw_g (lw_at lw_m8 203 rfl) rfl
theorem q1968 : (Jvm.Cond.code ({ cls := "EndSumsModel", name := "takes", desc := "(II)I" } : Jvm.MethodName) prog_9_method_47_code (5 : Nat) (Option.some Jvm.ClassFile.FieldType.int)) ∈ lw_all := lw_g (lw_at lw_m8 204 rfl) rfl
theorem q1969 : (Jvm.Cond.methodLink "EndSumsModel" (243 : Nat) ({ cls := "EndSumsModel", name := "takesOne", desc := "(II)I" } : Jvm.MethodName)) ∈ lw_all := lw_g (lw_at lw_m8 205 rfl) rfl
theorem q1970 : (Jvm.Cond.privateMethod ({ cls := "EndSumsModel", name := "takesOne", desc := "(II)I" } : Jvm.MethodName)) ∈ lw_tbl := lw_at lw_m8 206 rfl
theorem q1971 : (Jvm.Cond.instanceMethod ({ cls := "EndSumsModel", name := "takesOne", desc := "(II)I" } : Jvm.MethodName)) ∈ lw_all := lw_g (lw_at lw_m8 207 rfl) rfl
theorem q1972 : (Jvm.Cond.code ({ cls := "EndSumsModel", name := "takesOne", desc := "(II)I" } : Jvm.MethodName) prog_9_method_37_code (6 : Nat) (Option.some Jvm.ClassFile.FieldType.int)) ∈ lw_all := lw_g (lw_at lw_m8 208 rfl) rfl
theorem q1973 : (Jvm.Cond.methodLink "EndSumsModel" (246 : Nat) ({ cls := "EndSumsModel", name := "tellsWork", desc := "(II)I" } : Jvm.MethodName)) ∈ lw_all := lw_g (lw_at lw_m8 209 rfl) rfl
theorem q1974 : (Jvm.Cond.privateMethod ({ cls := "EndSumsModel", name := "tellsWork", desc := "(II)I" } : Jvm.MethodName)) ∈ lw_tbl := lw_at lw_m8 210 rfl
theorem q1975 : (Jvm.Cond.instanceMethod ({ cls := "EndSumsModel", name := "tellsWork", desc := "(II)I" } : Jvm.MethodName)) ∈ lw_all := lw_g (lw_at lw_m8 211 rfl) rfl
theorem q1976 : (Jvm.Cond.code ({ cls := "EndSumsModel", name := "tellsWork", desc := "(II)I" } : Jvm.MethodName) prog_9_method_46_code (3 : Nat) (Option.some Jvm.ClassFile.FieldType.int)) ∈ lw_all := lw_g (lw_at lw_m8 212 rfl) rfl
theorem q1978 : (Jvm.Cond.instanceMethod ({ cls := "EndSumsModel", name := "copies", desc := "(II)I" } : Jvm.MethodName)) ∈ lw_all := lw_g (lw_at lw_m8 214 rfl) rfl
theorem q1979 : (Jvm.Cond.selects "EndSumsModel" ({ cls := "EndSumsModel", name := "copies", desc := "(II)I" } : Jvm.MethodName) ({ cls := "EndSumsModel", name := "copies", desc := "(II)I" } : Jvm.MethodName)) ∈ lw_all := lw_g (lw_at lw_m8 215 rfl) rfl
theorem q1980 : (Jvm.Cond.code ({ cls := "EndSumsModel", name := "copies", desc := "(II)I" } : Jvm.MethodName) prog_9_method_48_code (3 : Nat) (Option.some Jvm.ClassFile.FieldType.int)) ∈ lw_all := lw_g (lw_at lw_m8 216 rfl) rfl
theorem q1981 : (Jvm.Cond.methodLink "EndSumsModel" (249 : Nat) ({ cls := "EndSumsModel", name := "copiesTo", desc := "(II)V" } : Jvm.MethodName)) ∈ lw_all := lw_g (lw_at lw_m8 217 rfl) rfl
theorem q1982 : (Jvm.Cond.privateMethod ({ cls := "EndSumsModel", name := "copiesTo", desc := "(II)V" } : Jvm.MethodName)) ∈ lw_tbl := lw_at lw_m8 218 rfl
theorem q1983 : (Jvm.Cond.instanceMethod ({ cls := "EndSumsModel", name := "copiesTo", desc := "(II)V" } : Jvm.MethodName)) ∈ lw_all := lw_g (lw_at lw_m8 219 rfl) rfl
theorem q1984 : (Jvm.Cond.code ({ cls := "EndSumsModel", name := "copiesTo", desc := "(II)V" } : Jvm.MethodName) prog_9_method_38_code (7 : Nat) (Option.none : Option Jvm.ClassFile.FieldType)) ∈ lw_all := lw_g (lw_at lw_m8 220 rfl) rfl
theorem q1986 : (Jvm.Cond.instanceMethod ({ cls := "EndSumsModel", name := "joins", desc := "(II)I" } : Jvm.MethodName)) ∈ lw_all := lw_g (lw_at lw_m8 222 rfl) rfl
theorem q1987 : (Jvm.Cond.selects "EndSumsModel" ({ cls := "EndSumsModel", name := "joins", desc := "(II)I" } : Jvm.MethodName) ({ cls := "EndSumsModel", name := "joins", desc := "(II)I" } : Jvm.MethodName)) ∈ lw_all := lw_g (lw_at lw_m8 223 rfl) rfl
theorem q1988 : (Jvm.Cond.code ({ cls := "EndSumsModel", name := "joins", desc := "(II)I" } : Jvm.MethodName) prog_9_method_49_code (5 : Nat) (Option.some Jvm.ClassFile.FieldType.int)) ∈ lw_all := lw_g (lw_at lw_m8 224 rfl) rfl
theorem q1990 : (Jvm.Cond.instanceMethod ({ cls := "EndSumsModel", name := "parts", desc := "(III)I" } : Jvm.MethodName)) ∈ lw_all := lw_g (lw_at lw_m8 226 rfl) rfl
theorem q1991 : (Jvm.Cond.selects "EndSumsModel" ({ cls := "EndSumsModel", name := "parts", desc := "(III)I" } : Jvm.MethodName) ({ cls := "EndSumsModel", name := "parts", desc := "(III)I" } : Jvm.MethodName)) ∈ lw_all := lw_g (lw_at lw_m8 227 rfl) rfl
theorem q1992 : (Jvm.Cond.code ({ cls := "EndSumsModel", name := "parts", desc := "(III)I" } : Jvm.MethodName) prog_9_method_50_code (5 : Nat) (Option.some Jvm.ClassFile.FieldType.int)) ∈ lw_all := lw_g (lw_at lw_m8 228 rfl) rfl
theorem q1994 : (Jvm.Cond.instanceMethod ({ cls := "EndSumsModel", name := "reverses", desc := "(I)I" } : Jvm.MethodName)) ∈ lw_all := lw_g (lw_at lw_m8 230 rfl) rfl
theorem q1995 : (Jvm.Cond.selects "EndSumsModel" ({ cls := "EndSumsModel", name := "reverses", desc := "(I)I" } : Jvm.MethodName) ({ cls := "EndSumsModel", name := "reverses", desc := "(I)I" } : Jvm.MethodName)) ∈ lw_all := lw_g (lw_at lw_m8 231 rfl) rfl
theorem q1996 : (Jvm.Cond.code ({ cls := "EndSumsModel", name := "reverses", desc := "(I)I" } : Jvm.MethodName) prog_9_method_51_code (2 : Nat) (Option.some Jvm.ClassFile.FieldType.int)) ∈ lw_all := lw_g (lw_at lw_m8 232 rfl) rfl
theorem q1997 : (Jvm.Cond.methodLink "EndSumsModel" (252 : Nat) ({ cls := "EndSumsModel", name := "turns", desc := "(I)I" } : Jvm.MethodName)) ∈ lw_all := lw_g (lw_at lw_m8 233 rfl) rfl
theorem q1998 : (Jvm.Cond.privateMethod ({ cls := "EndSumsModel", name := "turns", desc := "(I)I" } : Jvm.MethodName)) ∈ lw_tbl := lw_at lw_m8 234 rfl
theorem q1999 : (Jvm.Cond.instanceMethod ({ cls := "EndSumsModel", name := "turns", desc := "(I)I" } : Jvm.MethodName)) ∈ lw_all := lw_g (lw_at lw_m8 235 rfl) rfl
theorem q2000 : (Jvm.Cond.code ({ cls := "EndSumsModel", name := "turns", desc := "(I)I" } : Jvm.MethodName) prog_9_method_52_code (6 : Nat) (Option.some Jvm.ClassFile.FieldType.int)) ∈ lw_all := lw_g (lw_at lw_m8 236 rfl) rfl
theorem q2002 : (Jvm.Cond.instanceMethod ({ cls := "EndSumsModel", name := "changes", desc := "(III)I" } : Jvm.MethodName)) ∈ lw_all := lw_g (lw_at lw_m8 238 rfl) rfl
theorem q2003 : (Jvm.Cond.selects "EndSumsModel" ({ cls := "EndSumsModel", name := "changes", desc := "(III)I" } : Jvm.MethodName) ({ cls := "EndSumsModel", name := "changes", desc := "(III)I" } : Jvm.MethodName)) ∈ lw_all := lw_g (lw_at lw_m8 239 rfl) rfl
theorem q2004 : (Jvm.Cond.code ({ cls := "EndSumsModel", name := "changes", desc := "(III)I" } : Jvm.MethodName) prog_9_method_55_code (8 : Nat) (Option.some Jvm.ClassFile.FieldType.int)) ∈ lw_all := lw_g (lw_at lw_m9 0 rfl) rfl
theorem q2005 : (Jvm.Cond.methodLink "EndSumsModel" (255 : Nat) ({ cls := "EndSumsModel", name := "isAt", desc := "(II)Z" } : Jvm.MethodName)) ∈ lw_all := lw_g (lw_at lw_m9 1 rfl) rfl
theorem q2006 : (Jvm.Cond.privateMethod ({ cls := "EndSumsModel", name := "isAt", desc := "(II)Z" } : Jvm.MethodName)) ∈ lw_tbl := lw_at lw_m9 2 rfl
theorem q2007 : (Jvm.Cond.instanceMethod ({ cls := "EndSumsModel", name := "isAt", desc := "(II)Z" } : Jvm.MethodName)) ∈ lw_all := lw_g (lw_at lw_m9 3 rfl) rfl
theorem q2008 : (Jvm.Cond.code ({ cls := "EndSumsModel", name := "isAt", desc := "(II)Z" } : Jvm.MethodName) prog_9_method_54_code (3 : Nat) (Option.some Jvm.ClassFile.FieldType.boolean)) ∈ lw_all := lw_g (lw_at lw_m9 4 rfl) rfl
theorem q2009 : (Jvm.Cond.methodLink "EndSumsModel" (259 : Nat) ({ cls := "EndSumsModel", name := "makesAgain", desc := "(IZII)V" } : Jvm.MethodName)) ∈ lw_all := lw_g (lw_at lw_m9 5 rfl) rfl
theorem q2010 : (Jvm.Cond.privateMethod ({ cls := "EndSumsModel", name := "makesAgain", desc := "(IZII)V" } : Jvm.MethodName)) ∈ lw_tbl := lw_at lw_m9 6 rfl
theorem q2011 : (Jvm.Cond.instanceMethod ({ cls := "EndSumsModel", name := "makesAgain", desc := "(IZII)V" } : Jvm.MethodName)) ∈ lw_all := lw_g (lw_at lw_m9 7 rfl) rfl
theorem q2012 : (Jvm.Cond.code ({ cls := "EndSumsModel", name := "makesAgain", desc := "(IZII)V" } : Jvm.MethodName) prog_9_method_53_code (7 : Nat) (Option.none : Option Jvm.ClassFile.FieldType)) ∈ lw_all := lw_g (lw_at lw_m9 8 rfl) rfl
theorem q2014 : (Jvm.Cond.instanceMethod ({ cls := "EndSumsModel", name := "slips", desc := "(III)I" } : Jvm.MethodName)) ∈ lw_all := lw_g (lw_at lw_m9 10 rfl) rfl
theorem q2015 : (Jvm.Cond.selects "EndSumsModel" ({ cls := "EndSumsModel", name := "slips", desc := "(III)I" } : Jvm.MethodName) ({ cls := "EndSumsModel", name := "slips", desc := "(III)I" } : Jvm.MethodName)) ∈ lw_all := lw_g (lw_at lw_m9 11 rfl) rfl
theorem q2016 : (Jvm.Cond.code ({ cls := "EndSumsModel", name := "slips", desc := "(III)I" } : Jvm.MethodName) prog_9_method_56_code (7 : Nat) (Option.some Jvm.ClassFile.FieldType.int)) ∈ lw_all := lw_g (lw_at lw_m9 12 rfl) rfl
theorem q2018 : (Jvm.Cond.instanceMethod ({ cls := "EndSumsModel", name := "drops", desc := "(II)I" } : Jvm.MethodName)) ∈ lw_all := lw_g (lw_at lw_m9 14 rfl) rfl
theorem q2019 : (Jvm.Cond.selects "EndSumsModel" ({ cls := "EndSumsModel", name := "drops", desc := "(II)I" } : Jvm.MethodName) ({ cls := "EndSumsModel", name := "drops", desc := "(II)I" } : Jvm.MethodName)) ∈ lw_all := lw_g (lw_at lw_m9 15 rfl) rfl
theorem q2020 : (Jvm.Cond.code ({ cls := "EndSumsModel", name := "drops", desc := "(II)I" } : Jvm.MethodName) prog_9_method_57_code (8 : Nat) (Option.some Jvm.ClassFile.FieldType.int)) ∈ lw_all := lw_g (lw_at lw_m9 16 rfl) rfl
theorem q2022 : (Jvm.Cond.instanceMethod ({ cls := "EndSumsModel", name := "shifts", desc := "(III)I" } : Jvm.MethodName)) ∈ lw_all := lw_g (lw_at lw_m9 18 rfl) rfl
theorem q2023 : (Jvm.Cond.selects "EndSumsModel" ({ cls := "EndSumsModel", name := "shifts", desc := "(III)I" } : Jvm.MethodName) ({ cls := "EndSumsModel", name := "shifts", desc := "(III)I" } : Jvm.MethodName)) ∈ lw_all := lw_g (lw_at lw_m9 19 rfl) rfl
theorem q2024 : (Jvm.Cond.code ({ cls := "EndSumsModel", name := "shifts", desc := "(III)I" } : Jvm.MethodName) prog_9_method_60_code (7 : Nat) (Option.some Jvm.ClassFile.FieldType.int)) ∈ lw_all := lw_g (lw_at lw_m9 20 rfl) rfl
theorem q2025 : (Jvm.Cond.constantLong "EndSumsModel" (266 : Nat) (64 : Int64)) ∈ lw_all := lw_g (lw_at lw_m9 21 rfl) rfl
theorem q2026 : (Jvm.Cond.methodLink "EndSumsModel" (268 : Nat) ({ cls := "EndSumsModel", name := "entersSummary", desc := "(I)V" } : Jvm.MethodName)) ∈ lw_all := lw_g (lw_at lw_m9 22 rfl) rfl
theorem q2027 : (Jvm.Cond.privateMethod ({ cls := "EndSumsModel", name := "entersSummary", desc := "(I)V" } : Jvm.MethodName)) ∈ lw_tbl := lw_at lw_m9 23 rfl
theorem q2028 : (Jvm.Cond.instanceMethod ({ cls := "EndSumsModel", name := "entersSummary", desc := "(I)V" } : Jvm.MethodName)) ∈ lw_all := lw_g (lw_at lw_m9 24 rfl) rfl
theorem q2029 : (Jvm.Cond.code ({ cls := "EndSumsModel", name := "entersSummary", desc := "(I)V" } : Jvm.MethodName) prog_9_method_59_code (2 : Nat) (Option.none : Option Jvm.ClassFile.FieldType)) ∈ lw_all := lw_g (lw_at lw_m9 25 rfl) rfl
theorem q2030 : (Jvm.Cond.methodLink "EndSumsModel" (263 : Nat) ({ cls := "EndSumsModel", name := "summary", desc := "(I)V" } : Jvm.MethodName)) ∈ lw_all := lw_g (lw_at lw_m9 26 rfl) rfl
theorem q2031 : (Jvm.Cond.privateMethod ({ cls := "EndSumsModel", name := "summary", desc := "(I)V" } : Jvm.MethodName)) ∈ lw_tbl := lw_at lw_m9 27 rfl
theorem q2032 : (Jvm.Cond.instanceMethod ({ cls := "EndSumsModel", name := "summary", desc := "(I)V" } : Jvm.MethodName)) ∈ lw_all := lw_g (lw_at lw_m9 28 rfl) rfl
theorem q2033 : (Jvm.Cond.code ({ cls := "EndSumsModel", name := "summary", desc := "(I)V" } : Jvm.MethodName) prog_9_method_58_code (6 : Nat) (Option.none : Option Jvm.ClassFile.FieldType)) ∈ lw_all := lw_g (lw_at lw_m9 29 rfl) rfl
theorem q2035 : (Jvm.Cond.instanceMethod ({ cls := "EndSumsModel", name := "clears", desc := "(I)I" } : Jvm.MethodName)) ∈ lw_all := lw_g (lw_at lw_m9 31 rfl) rfl
theorem q2036 : (Jvm.Cond.selects "EndSumsModel" ({ cls := "EndSumsModel", name := "clears", desc := "(I)I" } : Jvm.MethodName) ({ cls := "EndSumsModel", name := "clears", desc := "(I)I" } : Jvm.MethodName)) ∈ lw_all := lw_g (lw_at lw_m9 32 rfl) rfl
theorem q2037 : (Jvm.Cond.code ({ cls := "EndSumsModel", name := "clears", desc := "(I)I" } : Jvm.MethodName) prog_9_method_61_code (3 : Nat) (Option.some Jvm.ClassFile.FieldType.int)) ∈ lw_all := lw_g (lw_at lw_m9 33 rfl) rfl
theorem q2039 : (Jvm.Cond.instanceMethod ({ cls := "EndSumsModel", name := "run", desc := "(I)I" } : Jvm.MethodName)) ∈ lw_all := lw_g (lw_at lw_m9 35 rfl) rfl
theorem q2040 : (Jvm.Cond.selects "EndSumsModel" ({ cls := "EndSumsModel", name := "run", desc := "(I)I" } : Jvm.MethodName) ({ cls := "EndSumsModel", name := "run", desc := "(I)I" } : Jvm.MethodName)) ∈ lw_all := lw_g (lw_at lw_m9 36 rfl) rfl
theorem q2041 : (Jvm.Cond.code ({ cls := "EndSumsModel", name := "run", desc := "(I)I" } : Jvm.MethodName) prog_9_method_65_code (5 : Nat) (Option.some Jvm.ClassFile.FieldType.int)) ∈ lw_all := lw_g (lw_at lw_m9 37 rfl) rfl
theorem q2042 : (Jvm.Cond.methodLink "EndSumsModel" (271 : Nat) ({ cls := "EndSumsModel", name := "passes", desc := "()V" } : Jvm.MethodName)) ∈ lw_all := lw_g (lw_at lw_m9 38 rfl) rfl
theorem q2043 : (Jvm.Cond.privateMethod ({ cls := "EndSumsModel", name := "passes", desc := "()V" } : Jvm.MethodName)) ∈ lw_tbl := lw_at lw_m9 39 rfl
theorem q2044 : (Jvm.Cond.instanceMethod ({ cls := "EndSumsModel", name := "passes", desc := "()V" } : Jvm.MethodName)) ∈ lw_all := lw_g (lw_at lw_m9 40 rfl) rfl
theorem q2045 : (Jvm.Cond.code ({ cls := "EndSumsModel", name := "passes", desc := "()V" } : Jvm.MethodName) prog_9_method_62_code (1 : Nat) (Option.none : Option Jvm.ClassFile.FieldType)) ∈ lw_all := lw_g (lw_at lw_m9 41 rfl) rfl
theorem q2046 : (Jvm.Cond.methodLink "EndSumsModel" (274 : Nat) ({ cls := "EndSumsModel", name := "readsAct", desc := "(I)Z" } : Jvm.MethodName)) ∈ lw_all := lw_g (lw_at lw_m9 42 rfl) rfl
theorem q2047 : (Jvm.Cond.privateMethod ({ cls := "EndSumsModel", name := "readsAct", desc := "(I)Z" } : Jvm.MethodName)) ∈ lw_tbl := lw_at lw_m9 43 rfl
theorem q2048 : (Jvm.Cond.instanceMethod ({ cls := "EndSumsModel", name := "readsAct", desc := "(I)Z" } : Jvm.MethodName)) ∈ lw_all := lw_g (lw_at lw_m9 44 rfl) rfl
theorem q2049 : (Jvm.Cond.code ({ cls := "EndSumsModel", name := "readsAct", desc := "(I)Z" } : Jvm.MethodName) prog_9_method_63_code (6 : Nat) (Option.some Jvm.ClassFile.FieldType.boolean)) ∈ lw_all := lw_g (lw_at lw_m9 45 rfl) rfl
theorem q2050 : (Jvm.Cond.methodLink "EndSumsModel" (277 : Nat) ({ cls := "EndSumsModel", name := "does", desc := "(II)Z" } : Jvm.MethodName)) ∈ lw_all := lw_g (lw_at lw_m9 46 rfl) rfl
theorem q2051 : (Jvm.Cond.privateMethod ({ cls := "EndSumsModel", name := "does", desc := "(II)Z" } : Jvm.MethodName)) ∈ lw_tbl := lw_at lw_m9 47 rfl
theorem q2052 : (Jvm.Cond.instanceMethod ({ cls := "EndSumsModel", name := "does", desc := "(II)Z" } : Jvm.MethodName)) ∈ lw_all := lw_g (lw_at lw_m9 48 rfl) rfl
theorem q2053 : (Jvm.Cond.code ({ cls := "EndSumsModel", name := "does", desc := "(II)Z" } : Jvm.MethodName) prog_9_method_64_code (3 : Nat) (Option.some Jvm.ClassFile.FieldType.boolean)) ∈ lw_all := lw_g (lw_at lw_m9 49 rfl) rfl
theorem q2055 : (Jvm.Cond.instanceMethod ({ cls := "EndSumsModel", name := "sum", desc := "(I)I" } : Jvm.MethodName)) ∈ lw_all := lw_g (lw_at lw_m9 51 rfl) rfl
theorem q2056 : (Jvm.Cond.selects "EndSumsModel" ({ cls := "EndSumsModel", name := "sum", desc := "(I)I" } : Jvm.MethodName) ({ cls := "EndSumsModel", name := "sum", desc := "(I)I" } : Jvm.MethodName)) ∈ lw_all := lw_g (lw_at lw_m9 52 rfl) rfl
theorem q2057 : (Jvm.Cond.code ({ cls := "EndSumsModel", name := "sum", desc := "(I)I" } : Jvm.MethodName) prog_9_method_66_code (2 : Nat) (Option.some Jvm.ClassFile.FieldType.int)) ∈ lw_all := lw_g (lw_at lw_m9 53 rfl) rfl
theorem q2059 : (Jvm.Cond.instanceMethod ({ cls := "EndSumsModel", name := "item", desc := "(II)I" } : Jvm.MethodName)) ∈ lw_all := lw_g (lw_at lw_m9 55 rfl) rfl
theorem q2060 : (Jvm.Cond.selects "EndSumsModel" ({ cls := "EndSumsModel", name := "item", desc := "(II)I" } : Jvm.MethodName) ({ cls := "EndSumsModel", name := "item", desc := "(II)I" } : Jvm.MethodName)) ∈ lw_all := lw_g (lw_at lw_m9 56 rfl) rfl
theorem q2061 : (Jvm.Cond.code ({ cls := "EndSumsModel", name := "item", desc := "(II)I" } : Jvm.MethodName) prog_9_method_67_code (5 : Nat) (Option.some Jvm.ClassFile.FieldType.int)) ∈ lw_all := lw_g (lw_at lw_m9 57 rfl) rfl
theorem q2063 : (Jvm.Cond.instanceMethod ({ cls := "EndSumsModel", name := "part", desc := "(III)I" } : Jvm.MethodName)) ∈ lw_all := lw_g (lw_at lw_m9 59 rfl) rfl
theorem q2064 : (Jvm.Cond.selects "EndSumsModel" ({ cls := "EndSumsModel", name := "part", desc := "(III)I" } : Jvm.MethodName) ({ cls := "EndSumsModel", name := "part", desc := "(III)I" } : Jvm.MethodName)) ∈ lw_all := lw_g (lw_at lw_m9 60 rfl) rfl
theorem q2065 : (Jvm.Cond.code ({ cls := "EndSumsModel", name := "part", desc := "(III)I" } : Jvm.MethodName) prog_9_method_69_code (4 : Nat) (Option.some Jvm.ClassFile.FieldType.int)) ∈ lw_all := lw_g (lw_at lw_m9 61 rfl) rfl
theorem q2066 : (Jvm.Cond.methodLink "EndSumsModel" (280 : Nat) ({ cls := "EndSumsModel", name := "sums", desc := "(III)V" } : Jvm.MethodName)) ∈ lw_all := lw_g (lw_at lw_m9 62 rfl) rfl
theorem q2067 : (Jvm.Cond.privateMethod ({ cls := "EndSumsModel", name := "sums", desc := "(III)V" } : Jvm.MethodName)) ∈ lw_tbl := lw_at lw_m9 63 rfl
theorem q2068 : (Jvm.Cond.instanceMethod ({ cls := "EndSumsModel", name := "sums", desc := "(III)V" } : Jvm.MethodName)) ∈ lw_all := lw_g (lw_at lw_m9 64 rfl) rfl
theorem q2069 : (Jvm.Cond.code ({ cls := "EndSumsModel", name := "sums", desc := "(III)V" } : Jvm.MethodName) prog_9_method_68_code (9 : Nat) (Option.none : Option Jvm.ClassFile.FieldType)) ∈ lw_all := lw_g (lw_at lw_m9 65 rfl) rfl
theorem q2071 : (Jvm.Cond.instanceMethod ({ cls := "EndSumsModel", name := "windows", desc := "(II)I" } : Jvm.MethodName)) ∈ lw_all := lw_g (lw_at lw_m9 67 rfl) rfl
theorem q2072 : (Jvm.Cond.selects "EndSumsModel" ({ cls := "EndSumsModel", name := "windows", desc := "(II)I" } : Jvm.MethodName) ({ cls := "EndSumsModel", name := "windows", desc := "(II)I" } : Jvm.MethodName)) ∈ lw_all := lw_g (lw_at lw_m9 68 rfl) rfl
theorem q2073 : (Jvm.Cond.code ({ cls := "EndSumsModel", name := "windows", desc := "(II)I" } : Jvm.MethodName) prog_9_method_70_code (5 : Nat) (Option.some Jvm.ClassFile.FieldType.int)) ∈ lw_all := lw_g (lw_at lw_m9 69 rfl) rfl
theorem q2075 : (Jvm.Cond.instanceMethod ({ cls := "EndSumsModel", name := "first", desc := "(II)I" } : Jvm.MethodName)) ∈ lw_all := lw_g (lw_at lw_m9 71 rfl) rfl
theorem q2076 : (Jvm.Cond.selects "EndSumsModel" ({ cls := "EndSumsModel", name := "first", desc := "(II)I" } : Jvm.MethodName) ({ cls := "EndSumsModel", name := "first", desc := "(II)I" } : Jvm.MethodName)) ∈ lw_all := lw_g (lw_at lw_m9 72 rfl) rfl
theorem q2077 : (Jvm.Cond.code ({ cls := "EndSumsModel", name := "first", desc := "(II)I" } : Jvm.MethodName) prog_9_method_71_code (4 : Nat) (Option.some Jvm.ClassFile.FieldType.int)) ∈ lw_all := lw_g (lw_at lw_m9 73 rfl) rfl
theorem q2079 : (Jvm.Cond.instanceMethod ({ cls := "EndSumsModel", name := "longest", desc := "(II)I" } : Jvm.MethodName)) ∈ lw_all := lw_g (lw_at lw_m9 75 rfl) rfl
theorem q2080 : (Jvm.Cond.selects "EndSumsModel" ({ cls := "EndSumsModel", name := "longest", desc := "(II)I" } : Jvm.MethodName) ({ cls := "EndSumsModel", name := "longest", desc := "(II)I" } : Jvm.MethodName)) ∈ lw_all := lw_g (lw_at lw_m9 76 rfl) rfl
theorem q2081 : (Jvm.Cond.code ({ cls := "EndSumsModel", name := "longest", desc := "(II)I" } : Jvm.MethodName) prog_9_method_72_code (6 : Nat) (Option.some Jvm.ClassFile.FieldType.int)) ∈ lw_all := lw_g (lw_at lw_m9 77 rfl) rfl
theorem q2083 : (Jvm.Cond.instanceMethod ({ cls := "EndSumsModel", name := "greatest", desc := "(II)I" } : Jvm.MethodName)) ∈ lw_all := lw_g (lw_at lw_m9 79 rfl) rfl
theorem q2084 : (Jvm.Cond.selects "EndSumsModel" ({ cls := "EndSumsModel", name := "greatest", desc := "(II)I" } : Jvm.MethodName) ({ cls := "EndSumsModel", name := "greatest", desc := "(II)I" } : Jvm.MethodName)) ∈ lw_all := lw_g (lw_at lw_m9 80 rfl) rfl
theorem q2085 : (Jvm.Cond.code ({ cls := "EndSumsModel", name := "greatest", desc := "(II)I" } : Jvm.MethodName) prog_9_method_73_code (10 : Nat) (Option.some Jvm.ClassFile.FieldType.int)) ∈ lw_all := lw_g (lw_at lw_m9 81 rfl) rfl
theorem q2087 : (Jvm.Cond.instanceMethod ({ cls := "EndSumsModel", name := "finds", desc := "(III)I" } : Jvm.MethodName)) ∈ lw_all := lw_g (lw_at lw_m9 83 rfl) rfl
theorem q2088 : (Jvm.Cond.selects "EndSumsModel" ({ cls := "EndSumsModel", name := "finds", desc := "(III)I" } : Jvm.MethodName) ({ cls := "EndSumsModel", name := "finds", desc := "(III)I" } : Jvm.MethodName)) ∈ lw_all := lw_g (lw_at lw_m9 84 rfl) rfl
theorem q2089 : (Jvm.Cond.code ({ cls := "EndSumsModel", name := "finds", desc := "(III)I" } : Jvm.MethodName) prog_9_method_74_code (10 : Nat) (Option.some Jvm.ClassFile.FieldType.int)) ∈ lw_all := lw_g (lw_at lw_m9 85 rfl) rfl
theorem q2091 : (Jvm.Cond.instanceMethod ({ cls := "EndSumsModel", name := "drains", desc := "(I)I" } : Jvm.MethodName)) ∈ lw_all := lw_g (lw_at lw_m9 87 rfl) rfl
theorem q2092 : (Jvm.Cond.selects "EndSumsModel" ({ cls := "EndSumsModel", name := "drains", desc := "(I)I" } : Jvm.MethodName) ({ cls := "EndSumsModel", name := "drains", desc := "(I)I" } : Jvm.MethodName)) ∈ lw_all := lw_g (lw_at lw_m9 88 rfl) rfl
theorem q2093 : (Jvm.Cond.code ({ cls := "EndSumsModel", name := "drains", desc := "(I)I" } : Jvm.MethodName) prog_9_method_78_code (4 : Nat) (Option.some Jvm.ClassFile.FieldType.int)) ∈ lw_all := lw_g (lw_at lw_m9 89 rfl) rfl
theorem q2094 : (Jvm.Cond.methodLink "EndSumsModel" (296 : Nat) ({ cls := "EndSumsModel", name := "drainsBy", desc := "(II)I" } : Jvm.MethodName)) ∈ lw_all := lw_g (lw_at lw_m9 90 rfl) rfl
theorem q2095 : (Jvm.Cond.privateMethod ({ cls := "EndSumsModel", name := "drainsBy", desc := "(II)I" } : Jvm.MethodName)) ∈ lw_tbl := lw_at lw_m9 91 rfl
theorem q2096 : (Jvm.Cond.instanceMethod ({ cls := "EndSumsModel", name := "drainsBy", desc := "(II)I" } : Jvm.MethodName)) ∈ lw_all := lw_g (lw_at lw_m9 92 rfl) rfl
theorem q2097 : (Jvm.Cond.code ({ cls := "EndSumsModel", name := "drainsBy", desc := "(II)I" } : Jvm.MethodName) prog_9_method_77_code (4 : Nat) (Option.some Jvm.ClassFile.FieldType.int)) ∈ lw_all := lw_g (lw_at lw_m9 93 rfl) rfl
theorem q2098 : (Jvm.Cond.methodLink "EndSumsModel" (290 : Nat) ({ cls := "EndSumsModel", name := "begins", desc := "(I)V" } : Jvm.MethodName)) ∈ lw_all := lw_g (lw_at lw_m9 94 rfl) rfl
theorem q2099 : (Jvm.Cond.privateMethod ({ cls := "EndSumsModel", name := "begins", desc := "(I)V" } : Jvm.MethodName)) ∈ lw_tbl := lw_at lw_m9 95 rfl
theorem q2100 : (Jvm.Cond.instanceMethod ({ cls := "EndSumsModel", name := "begins", desc := "(I)V" } : Jvm.MethodName)) ∈ lw_all := lw_g (lw_at lw_m9 96 rfl) rfl
theorem q2101 : (Jvm.Cond.code ({ cls := "EndSumsModel", name := "begins", desc := "(I)V" } : Jvm.MethodName) prog_9_method_76_code (2 : Nat) (Option.none : Option Jvm.ClassFile.FieldType)) ∈ lw_all := lw_g (lw_at lw_m9 97 rfl) rfl
theorem q2102 : (Jvm.Cond.methodLink "EndSumsModel" (293 : Nat) ({ cls := "EndSumsModel", name := "costs", desc := "(I)I" } : Jvm.MethodName)) ∈ lw_all := lw_g (lw_at lw_m9 98 rfl) rfl
theorem q2103 : (Jvm.Cond.privateMethod ({ cls := "EndSumsModel", name := "costs", desc := "(I)I" } : Jvm.MethodName)) ∈ lw_tbl := lw_at lw_m9 99 rfl
theorem q2104 : (Jvm.Cond.instanceMethod ({ cls := "EndSumsModel", name := "costs", desc := "(I)I" } : Jvm.MethodName)) ∈ lw_all := lw_g (lw_at lw_m9 100 rfl) rfl
theorem q2105 : (Jvm.Cond.code ({ cls := "EndSumsModel", name := "costs", desc := "(I)I" } : Jvm.MethodName) prog_9_method_75_code (5 : Nat) (Option.some Jvm.ClassFile.FieldType.int)) ∈ lw_all := lw_g (lw_at lw_m9 101 rfl) rfl
theorem q2106 : (Jvm.Cond.methodLink "EndSumsModel" (299 : Nat) ({ cls := "java/lang/Math", name := "min", desc := "(II)I" } : Jvm.MethodName)) ∈ lw_all := lw_g (lw_at lw_m9 102 rfl) rfl
theorem q2108 : (Jvm.Cond.instanceMethod ({ cls := "EndSumsModel", name := "would", desc := "(II)I" } : Jvm.MethodName)) ∈ lw_all := lw_g (lw_at lw_m9 104 rfl) rfl
theorem q2109 : (Jvm.Cond.selects "EndSumsModel" ({ cls := "EndSumsModel", name := "would", desc := "(II)I" } : Jvm.MethodName) ({ cls := "EndSumsModel", name := "would", desc := "(II)I" } : Jvm.MethodName)) ∈ lw_all := lw_g (lw_at lw_m9 105 rfl) rfl
theorem q2110 : (Jvm.Cond.code ({ cls := "EndSumsModel", name := "would", desc := "(II)I" } : Jvm.MethodName) prog_9_method_79_code (4 : Nat) (Option.some Jvm.ClassFile.FieldType.int)) ∈ lw_all := lw_g (lw_at lw_m9 106 rfl) rfl
theorem q2112 : (Jvm.Cond.instanceMethod ({ cls := "EndSumsModel", name := "dearest", desc := "(II)I" } : Jvm.MethodName)) ∈ lw_all := lw_g (lw_at lw_m9 108 rfl) rfl
theorem q2113 : (Jvm.Cond.selects "EndSumsModel" ({ cls := "EndSumsModel", name := "dearest", desc := "(II)I" } : Jvm.MethodName) ({ cls := "EndSumsModel", name := "dearest", desc := "(II)I" } : Jvm.MethodName)) ∈ lw_all := lw_g (lw_at lw_m9 109 rfl) rfl
theorem q2114 : (Jvm.Cond.code ({ cls := "EndSumsModel", name := "dearest", desc := "(II)I" } : Jvm.MethodName) prog_9_method_80_code (8 : Nat) (Option.some Jvm.ClassFile.FieldType.int)) ∈ lw_all := lw_g (lw_at lw_m9 110 rfl) rfl
theorem q2115 : (Jvm.Cond.constantLong "EndSumsModel" (301 : Nat) (12 : Int64)) ∈ lw_all := lw_g (lw_at lw_m9 111 rfl) rfl
theorem q2117 : (Jvm.Cond.instanceMethod ({ cls := "EndSumsModel", name := "unlike", desc := "(I)I" } : Jvm.MethodName)) ∈ lw_all := lw_g (lw_at lw_m9 113 rfl) rfl
theorem q2118 : (Jvm.Cond.selects "EndSumsModel" ({ cls := "EndSumsModel", name := "unlike", desc := "(I)I" } : Jvm.MethodName) ({ cls := "EndSumsModel", name := "unlike", desc := "(I)I" } : Jvm.MethodName)) ∈ lw_all := lw_g (lw_at lw_m9 114 rfl) rfl
theorem q2119 : (Jvm.Cond.code ({ cls := "EndSumsModel", name := "unlike", desc := "(I)I" } : Jvm.MethodName) prog_9_method_81_code (11 : Nat) (Option.some Jvm.ClassFile.FieldType.int)) ∈ lw_all := lw_g (lw_at lw_m9 115 rfl) rfl
theorem q2120 : (Jvm.Cond.methodLink "EndSumsModel" (303 : Nat) ({ cls := "java/lang/Math", name := "max", desc := "(II)I" } : Jvm.MethodName)) ∈ lw_all := lw_g (lw_at lw_m9 116 rfl) rfl
theorem q2122 : (Jvm.Cond.instanceMethod ({ cls := "EndSumsModel", name := "same", desc := "(II)I" } : Jvm.MethodName)) ∈ lw_all := lw_g (lw_at lw_m9 118 rfl) rfl
theorem q2123 : (Jvm.Cond.selects "EndSumsModel" ({ cls := "EndSumsModel", name := "same", desc := "(II)I" } : Jvm.MethodName) ({ cls := "EndSumsModel", name := "same", desc := "(II)I" } : Jvm.MethodName)) ∈ lw_all := lw_g (lw_at lw_m9 119 rfl) rfl
theorem q2124 : (Jvm.Cond.code ({ cls := "EndSumsModel", name := "same", desc := "(II)I" } : Jvm.MethodName) prog_9_method_83_code (9 : Nat) (Option.some Jvm.ClassFile.FieldType.int)) ∈ lw_all := lw_g (lw_at lw_m9 120 rfl) rfl
theorem q2125 : (Jvm.Cond.methodLink "EndSumsModel" (305 : Nat) ({ cls := "EndSumsModel", name := "hasCell", desc := "(II)Z" } : Jvm.MethodName)) ∈ lw_all := lw_g (lw_at lw_m9 121 rfl) rfl
theorem q2126 : (Jvm.Cond.privateMethod ({ cls := "EndSumsModel", name := "hasCell", desc := "(II)Z" } : Jvm.MethodName)) ∈ lw_tbl := lw_at lw_m9 122 rfl
theorem q2127 : (Jvm.Cond.instanceMethod ({ cls := "EndSumsModel", name := "hasCell", desc := "(II)Z" } : Jvm.MethodName)) ∈ lw_all := lw_g (lw_at lw_m9 123 rfl) rfl
theorem q2128 : (Jvm.Cond.code ({ cls := "EndSumsModel", name := "hasCell", desc := "(II)Z" } : Jvm.MethodName) prog_9_method_82_code (4 : Nat) (Option.some Jvm.ClassFile.FieldType.boolean)) ∈ lw_all := lw_g (lw_at lw_m9 124 rfl) rfl
theorem q2130 : (Jvm.Cond.instanceMethod ({ cls := "EndSumsModel", name := "shared", desc := "()I" } : Jvm.MethodName)) ∈ lw_all := lw_g (lw_at lw_m9 126 rfl) rfl
theorem q2131 : (Jvm.Cond.selects "EndSumsModel" ({ cls := "EndSumsModel", name := "shared", desc := "()I" } : Jvm.MethodName) ({ cls := "EndSumsModel", name := "shared", desc := "()I" } : Jvm.MethodName)) ∈ lw_all := lw_g (lw_at lw_m9 127 rfl) rfl
theorem q2132 : (Jvm.Cond.code ({ cls := "EndSumsModel", name := "shared", desc := "()I" } : Jvm.MethodName) prog_9_method_84_code (11 : Nat) (Option.some Jvm.ClassFile.FieldType.int)) ∈ lw_all := lw_g (lw_at lw_m9 128 rfl) rfl
theorem q2134 : (Jvm.Cond.instanceMethod ({ cls := "EndSumsModel", name := "count", desc := "(I)I" } : Jvm.MethodName)) ∈ lw_all := lw_g (lw_at lw_m9 130 rfl) rfl
theorem q2135 : (Jvm.Cond.selects "EndSumsModel" ({ cls := "EndSumsModel", name := "count", desc := "(I)I" } : Jvm.MethodName) ({ cls := "EndSumsModel", name := "count", desc := "(I)I" } : Jvm.MethodName)) ∈ lw_all := lw_g (lw_at lw_m9 131 rfl) rfl
theorem q2136 : (Jvm.Cond.code ({ cls := "EndSumsModel", name := "count", desc := "(I)I" } : Jvm.MethodName) prog_9_method_85_code (2 : Nat) (Option.some Jvm.ClassFile.FieldType.int)) ∈ lw_all := lw_g (lw_at lw_m9 132 rfl) rfl
theorem q2138 : (Jvm.Cond.instanceMethod ({ cls := "EndSumsModel", name := "row", desc := "(I)J" } : Jvm.MethodName)) ∈ lw_all := lw_g (lw_at lw_m9 134 rfl) rfl
theorem q2139 : (Jvm.Cond.selects "EndSumsModel" ({ cls := "EndSumsModel", name := "row", desc := "(I)J" } : Jvm.MethodName) ({ cls := "EndSumsModel", name := "row", desc := "(I)J" } : Jvm.MethodName)) ∈ lw_all := lw_g (lw_at lw_m9 135 rfl) rfl
theorem q2140 : (Jvm.Cond.code ({ cls := "EndSumsModel", name := "row", desc := "(I)J" } : Jvm.MethodName) prog_9_method_86_code (2 : Nat) (Option.some Jvm.ClassFile.FieldType.long)) ∈ lw_all := lw_g (lw_at lw_m9 136 rfl) rfl
theorem q2167 : (Jvm.Cond.castable "EndSumsModel" "java/lang/Object") ∈ lw_tbl := lw_at lw_m9 163 rfl
theorem in_X4 : ∀ w ∈ wsX40, w ∈ lw_all := lw_in wsX40 [1743, 1745, 1747, 1749, 1751, 1753, 1755, 1757, 1759, 1761, 1763, 1765, 1767, 1769, 1771, 1773, 1775, 1777, 1779, 1781, 1783, 1785, 1787, 1789, 1791, 1793, 1795, 1797, 1799, 1801, 1803, 1805] (by decide +kernel) (by decide +kernel)
/-! java/util/ImmutableCollections$ListItr -/
def RJ16 : String := "java/util/ImmutableCollections$ListItr"
def TJ16 : u_T := fun k => match k with
  | 0 => ("java/util/ImmutableCollections$ListItr", "list", "Ljava/util/List;", true)
  | 1 => ("java/util/ImmutableCollections$ListItr", "size", "I", true)
  | 2 => ("java/util/ImmutableCollections$ListItr", "isListIterator", "Z", true)
  | _ => ("java/util/ImmutableCollections$ListItr", "cursor", "I", false)
def tyJ16 : Nat → FieldType := fun k => match k with
  | 0 => .object "java/util/List"
  | 1 => .int
  | 2 => .boolean
  | _ => .int
abbrev wsJ160 : List Cond := u_ws RJ16 TJ16 4
theorem nmJ16 : ∀ a, a < 4 → ∀ b, b < 4 → a ≠ b → (TJ16 a).2.1 ≠ (TJ16 b).2.1 := by decide +kernel
theorem tyJ16_ok : ∀ k, k < 4 → parseFieldDescriptor (TJ16 k).2.2.1 = some (tyJ16 k) := by decide +kernel
abbrev cJ16_init : ByteArray := prog_49_method_1_code
def yJ16_init : MethodName := ⟨RJ16, "<init>", "(Ljava/util/List;I)V"⟩
abbrev cJ16_hasNext : ByteArray := prog_49_method_3_code
def yJ16_hasNext : MethodName := ⟨RJ16, "hasNext", "()Z"⟩
abbrev cJ16_next : ByteArray := prog_49_method_4_code
def yJ16_next : MethodName := ⟨RJ16, "next", "()Ljava/lang/Object;"⟩
theorem q107 : (Jvm.Cond.initialized "java/util/ImmutableCollections$ListItr") ∈ lw_all := lw_g (lw_at lw_m1 23 rfl) rfl
theorem q278 : (Jvm.Cond.selects "java/util/ImmutableCollections$ListItr" ({ cls := "java/lang/Object", name := "getClass", desc := "()Ljava/lang/Class;" } : Jvm.MethodName) ({ cls := "java/lang/Object", name := "getClass", desc := "()Ljava/lang/Class;" } : Jvm.MethodName)) ∈ lw_all := lw_g (lw_at lw_m1 194 rfl) rfl
theorem q631 : (Jvm.Cond.instantiable "java/util/ImmutableCollections$ListItr" (4 : Nat)) ∈ lw_all := lw_g (lw_at lw_m3 67 rfl) rfl
theorem q642 : (Jvm.Cond.instanceMethod ({ cls := "java/util/ImmutableCollections$ListItr", name := "<init>", desc := "(Ljava/util/List;I)V" } : Jvm.MethodName)) ∈ lw_all := lw_g (lw_at lw_m3 78 rfl) rfl
theorem q643 : (Jvm.Cond.code ({ cls := "java/util/ImmutableCollections$ListItr", name := "<init>", desc := "(Ljava/util/List;I)V" } : Jvm.MethodName) prog_49_method_1_code (3 : Nat) (Option.none : Option Jvm.ClassFile.FieldType)) ∈ lw_all := lw_g (lw_at lw_m3 79 rfl) rfl
theorem q644 : (Jvm.Cond.methodLink "java/util/ImmutableCollections$ListItr" (1 : Nat) ({ cls := "java/lang/Object", name := "<init>", desc := "()V" } : Jvm.MethodName)) ∈ lw_all := lw_g (lw_at lw_m3 80 rfl) rfl
theorem q645 : (Jvm.Cond.fieldLink "java/util/ImmutableCollections$ListItr" (7 : Nat) "java/util/ImmutableCollections$ListItr" "list" "Ljava/util/List;") ∈ lw_all := lw_g (lw_at lw_m3 81 rfl) rfl
theorem q646 : (Jvm.Cond.fieldLink "java/util/ImmutableCollections$ListItr" (13 : Nat) "java/util/ImmutableCollections$ListItr" "size" "I") ∈ lw_all := lw_g (lw_at lw_m3 82 rfl) rfl
theorem q647 : (Jvm.Cond.fieldLink "java/util/ImmutableCollections$ListItr" (20 : Nat) "java/util/ImmutableCollections$ListItr" "isListIterator" "Z") ∈ lw_all := lw_g (lw_at lw_m3 83 rfl) rfl
theorem q648 : (Jvm.Cond.fieldLink "java/util/ImmutableCollections$ListItr" (17 : Nat) "java/util/ImmutableCollections$ListItr" "cursor" "I") ∈ lw_all := lw_g (lw_at lw_m3 84 rfl) rfl
theorem q649 : (Jvm.Cond.laysFinal "java/util/ImmutableCollections$ListItr" "java/util/ImmutableCollections$ListItr" "list" "Ljava/util/List;") ∈ lw_all := lw_g (lw_at lw_m3 85 rfl) rfl
theorem q650 : (Jvm.Cond.soleField "java/util/ImmutableCollections$ListItr" "list") ∈ lw_all := lw_g (lw_at lw_m3 86 rfl) rfl
theorem q651 : (Jvm.Cond.laysFinal "java/util/ImmutableCollections$ListItr" "java/util/ImmutableCollections$ListItr" "size" "I") ∈ lw_all := lw_g (lw_at lw_m3 87 rfl) rfl
theorem q652 : (Jvm.Cond.soleField "java/util/ImmutableCollections$ListItr" "size") ∈ lw_all := lw_g (lw_at lw_m3 88 rfl) rfl
theorem q653 : (Jvm.Cond.laysFinal "java/util/ImmutableCollections$ListItr" "java/util/ImmutableCollections$ListItr" "isListIterator" "Z") ∈ lw_all := lw_g (lw_at lw_m3 89 rfl) rfl
theorem q654 : (Jvm.Cond.soleField "java/util/ImmutableCollections$ListItr" "isListIterator") ∈ lw_all := lw_g (lw_at lw_m3 90 rfl) rfl
theorem q655 : (Jvm.Cond.lays "java/util/ImmutableCollections$ListItr" "java/util/ImmutableCollections$ListItr" "cursor" "I") ∈ lw_all := lw_g (lw_at lw_m3 91 rfl) rfl
theorem q656 : (Jvm.Cond.soleField "java/util/ImmutableCollections$ListItr" "cursor") ∈ lw_all := lw_g (lw_at lw_m3 92 rfl) rfl
theorem q657 : (Jvm.Cond.superclass "java/util/ImmutableCollections$ListItr" "java/lang/Object") ∈ lw_all := lw_g (lw_at lw_m3 93 rfl) rfl
theorem q724 : (Jvm.Cond.castable "java/util/ImmutableCollections$ListItr" "java/util/Iterator") ∈ lw_tbl := lw_at lw_m3 160 rfl
theorem q725 : (Jvm.Cond.selects "java/util/ImmutableCollections$ListItr" ({ cls := "java/util/Iterator", name := "hasNext", desc := "()Z" } : Jvm.MethodName) ({ cls := "java/util/ImmutableCollections$ListItr", name := "hasNext", desc := "()Z" } : Jvm.MethodName)) ∈ lw_all := lw_g (lw_at lw_m3 161 rfl) rfl
theorem q726 : (Jvm.Cond.unhidden "java/util/ImmutableCollections$ListItr" "hasNext" "()Z") ∈ lw_tbl := lw_at lw_m3 162 rfl
theorem q727 : (Jvm.Cond.instanceMethod ({ cls := "java/util/ImmutableCollections$ListItr", name := "hasNext", desc := "()Z" } : Jvm.MethodName)) ∈ lw_all := lw_g (lw_at lw_m3 163 rfl) rfl
theorem q728 : (Jvm.Cond.publicMethod ({ cls := "java/util/ImmutableCollections$ListItr", name := "hasNext", desc := "()Z" } : Jvm.MethodName)) ∈ lw_tbl := lw_at lw_m3 164 rfl
theorem q729 : (Jvm.Cond.code ({ cls := "java/util/ImmutableCollections$ListItr", name := "hasNext", desc := "()Z" } : Jvm.MethodName) prog_49_method_3_code (1 : Nat) (Option.some Jvm.ClassFile.FieldType.boolean)) ∈ lw_all := lw_g (lw_at lw_m3 165 rfl) rfl
theorem q1066 : (Jvm.Cond.selects "java/util/ImmutableCollections$ListItr" ({ cls := "java/util/Iterator", name := "next", desc := "()Ljava/lang/Object;" } : Jvm.MethodName) ({ cls := "java/util/ImmutableCollections$ListItr", name := "next", desc := "()Ljava/lang/Object;" } : Jvm.MethodName)) ∈ lw_all := lw_g (lw_at lw_m5 22 rfl) rfl
theorem q1067 : (Jvm.Cond.unhidden "java/util/ImmutableCollections$ListItr" "next" "()Ljava/lang/Object;") ∈ lw_tbl := lw_at lw_m5 23 rfl
theorem q1068 : (Jvm.Cond.instanceMethod ({ cls := "java/util/ImmutableCollections$ListItr", name := "next", desc := "()Ljava/lang/Object;" } : Jvm.MethodName)) ∈ lw_all := lw_g (lw_at lw_m5 24 rfl) rfl
theorem q1069 : (Jvm.Cond.publicMethod ({ cls := "java/util/ImmutableCollections$ListItr", name := "next", desc := "()Ljava/lang/Object;" } : Jvm.MethodName)) ∈ lw_tbl := lw_at lw_m5 25 rfl
theorem q1070 : (Jvm.Cond.codeWith ({ cls := "java/util/ImmutableCollections$ListItr", name := "next", desc := "()Ljava/lang/Object;" } : Jvm.MethodName) prog_49_method_4_code (3 : Nat) (Option.some (Jvm.ClassFile.FieldType.object "java/lang/Object")) [((0 : Nat), (24 : Nat), (25 : Nat), (30 : Nat))]) ∈ lw_all := lw_g (lw_at lw_m5 26 rfl) rfl
theorem q1071 : (Jvm.Cond.interfaceEntry "java/util/ImmutableCollections$ListItr" (24 : Nat)) ∈ lw_tbl := lw_at lw_m5 27 rfl
theorem q1072 : (Jvm.Cond.methodLink "java/util/ImmutableCollections$ListItr" (24 : Nat) ({ cls := "java/util/List", name := "get", desc := "(I)Ljava/lang/Object;" } : Jvm.MethodName)) ∈ lw_all := lw_g (lw_at lw_m5 28 rfl) rfl
theorem q1088 : (Jvm.Cond.classLink "java/util/ImmutableCollections$ListItr" (32 : Nat) "java/util/NoSuchElementException") ∈ lw_all := lw_g (lw_at lw_m5 44 rfl) rfl
theorem q1089 : (Jvm.Cond.methodLink "java/util/ImmutableCollections$ListItr" (34 : Nat) ({ cls := "java/util/NoSuchElementException", name := "<init>", desc := "()V" } : Jvm.MethodName)) ∈ lw_all := lw_g (lw_at lw_m5 45 rfl) rfl
theorem q2168 : (Jvm.Cond.castable "java/util/ImmutableCollections$ListItr" "java/lang/Object") ∈ lw_tbl := lw_at lw_m9 164 rfl
theorem in_J16 : ∀ w ∈ wsJ160, w ∈ lw_all := lw_in wsJ160 [649, 651, 653, 655] (by decide +kernel) (by decide +kernel)
/-! java/util/AbstractList$Itr -/
def RJ17 : String := "java/util/AbstractList$Itr"
abbrev cJ17_hasNext : ByteArray := prog_35_method_2_code
def yJ17_hasNext : MethodName := ⟨RJ17, "hasNext", "()Z"⟩
abbrev cJ17_next : ByteArray := prog_35_method_3_code
def yJ17_next : MethodName := ⟨RJ17, "next", "()Ljava/lang/Object;"⟩
abbrev cJ17_checkForComodification : ByteArray := prog_35_method_5_code
def yJ17_checkForComodification : MethodName := ⟨RJ17, "checkForComodification", "()V"⟩
theorem q108 : (Jvm.Cond.initialized "java/util/AbstractList$Itr") ∈ lw_all := lw_g (lw_at lw_m1 24 rfl) rfl
theorem q380 : (Jvm.Cond.fieldLink "java/util/AbstractList$Itr" (20 : Nat) "java/util/AbstractList" "modCount" "I") ∈ lw_all := lw_g (lw_at lw_m2 56 rfl) rfl
theorem q710 : (Jvm.Cond.instanceMethod ({ cls := "java/util/AbstractList$Itr", name := "hasNext", desc := "()Z" } : Jvm.MethodName)) ∈ lw_all := lw_g (lw_at lw_m3 146 rfl) rfl
theorem q711 : (Jvm.Cond.publicMethod ({ cls := "java/util/AbstractList$Itr", name := "hasNext", desc := "()Z" } : Jvm.MethodName)) ∈ lw_tbl := lw_at lw_m3 147 rfl
theorem q712 : (Jvm.Cond.code ({ cls := "java/util/AbstractList$Itr", name := "hasNext", desc := "()Z" } : Jvm.MethodName) prog_35_method_2_code (1 : Nat) (Option.some Jvm.ClassFile.FieldType.boolean)) ∈ lw_all := lw_g (lw_at lw_m3 148 rfl) rfl
theorem q713 : (Jvm.Cond.methodLink "java/util/AbstractList$Itr" (28 : Nat) ({ cls := "java/util/AbstractList", name := "size", desc := "()I" } : Jvm.MethodName)) ∈ lw_all := lw_g (lw_at lw_m3 149 rfl) rfl
theorem q742 : (Jvm.Cond.instanceMethod ({ cls := "java/util/AbstractList$Itr", name := "next", desc := "()Ljava/lang/Object;" } : Jvm.MethodName)) ∈ lw_all := lw_g (lw_at lw_m3 178 rfl) rfl
theorem q743 : (Jvm.Cond.publicMethod ({ cls := "java/util/AbstractList$Itr", name := "next", desc := "()Ljava/lang/Object;" } : Jvm.MethodName)) ∈ lw_tbl := lw_at lw_m3 179 rfl
theorem q744 : (Jvm.Cond.codeWith ({ cls := "java/util/AbstractList$Itr", name := "next", desc := "()Ljava/lang/Object;" } : Jvm.MethodName) prog_35_method_3_code (3 : Nat) (Option.some (Jvm.ClassFile.FieldType.object "java/lang/Object")) [((4 : Nat), (31 : Nat), (32 : Nat), (39 : Nat))]) ∈ lw_all := lw_g (lw_at lw_m3 180 rfl) rfl
theorem q745 : (Jvm.Cond.methodLink "java/util/AbstractList$Itr" (32 : Nat) ({ cls := "java/util/AbstractList$Itr", name := "checkForComodification", desc := "()V" } : Jvm.MethodName)) ∈ lw_all := lw_g (lw_at lw_m3 181 rfl) rfl
theorem q746 : (Jvm.Cond.instanceMethod ({ cls := "java/util/AbstractList$Itr", name := "checkForComodification", desc := "()V" } : Jvm.MethodName)) ∈ lw_all := lw_g (lw_at lw_m3 182 rfl) rfl
theorem q747 : (Jvm.Cond.sameMethod "java/util/AbstractList$Itr" "java/util/AbstractList$Itr" "checkForComodification" "()V") ∈ lw_all := lw_g (lw_at lw_m3 183 rfl) rfl
theorem q749 : (Jvm.Cond.code ({ cls := "java/util/AbstractList$Itr", name := "checkForComodification", desc := "()V" } : Jvm.MethodName) prog_35_method_5_code (1 : Nat) (Option.none : Option Jvm.ClassFile.FieldType)) ∈ lw_all := lw_g (lw_at lw_m3 185 rfl) rfl
theorem q750 : (Jvm.Cond.methodLink "java/util/AbstractList$Itr" (35 : Nat) ({ cls := "java/util/AbstractList", name := "get", desc := "(I)Ljava/lang/Object;" } : Jvm.MethodName)) ∈ lw_all := lw_g (lw_at lw_m3 186 rfl) rfl
theorem q756 : (Jvm.Cond.classLink "java/util/AbstractList$Itr" (41 : Nat) "java/util/NoSuchElementException") ∈ lw_all := lw_g (lw_at lw_m3 192 rfl) rfl
theorem q796 : (Jvm.Cond.methodLink "java/util/AbstractList$Itr" (43 : Nat) ({ cls := "java/util/NoSuchElementException", name := "<init>", desc := "(Ljava/lang/Throwable;)V" } : Jvm.MethodName)) ∈ lw_all := lw_g (lw_at lw_m3 232 rfl) rfl
theorem q2191 : (Jvm.Cond.fieldLink "java/util/AbstractList$Itr" (1 : Nat) "java/util/AbstractList$Itr" "this$0" "Ljava/util/AbstractList;") ∈ lw_all := lw_g (lw_at lw_m9 187 rfl) rfl
theorem q2192 : (Jvm.Cond.fieldLink "java/util/AbstractList$Itr" (13 : Nat) "java/util/AbstractList$Itr" "cursor" "I") ∈ lw_all := lw_g (lw_at lw_m9 188 rfl) rfl
theorem q2193 : (Jvm.Cond.fieldLink "java/util/AbstractList$Itr" (17 : Nat) "java/util/AbstractList$Itr" "lastRet" "I") ∈ lw_all := lw_g (lw_at lw_m9 189 rfl) rfl
theorem q2194 : (Jvm.Cond.fieldLink "java/util/AbstractList$Itr" (25 : Nat) "java/util/AbstractList$Itr" "expectedModCount" "I") ∈ lw_all := lw_g (lw_at lw_m9 190 rfl) rfl
/-! java/util/LinkedList$ListItr -/
def RJ18 : String := "java/util/LinkedList$ListItr"
def TJ18 : u_T := fun k => match k with
  | 0 => ("java/util/LinkedList$ListItr", "lastReturned", "Ljava/util/LinkedList$Node;", false)
  | 1 => ("java/util/LinkedList$ListItr", "next", "Ljava/util/LinkedList$Node;", false)
  | 2 => ("java/util/LinkedList$ListItr", "nextIndex", "I", false)
  | 3 => ("java/util/LinkedList$ListItr", "expectedModCount", "I", false)
  | _ => ("java/util/LinkedList$ListItr", "this$0", "Ljava/util/LinkedList;", true)
def tyJ18 : Nat → FieldType := fun k => match k with
  | 0 => .object "java/util/LinkedList$Node"
  | 1 => .object "java/util/LinkedList$Node"
  | 2 => .int
  | 3 => .int
  | _ => .object "java/util/LinkedList"
abbrev wsJ180 : List Cond := u_ws RJ18 TJ18 5
theorem nmJ18 : ∀ a, a < 5 → ∀ b, b < 5 → a ≠ b → (TJ18 a).2.1 ≠ (TJ18 b).2.1 := by decide +kernel
theorem tyJ18_ok : ∀ k, k < 5 → parseFieldDescriptor (TJ18 k).2.2.1 = some (tyJ18 k) := by decide +kernel
abbrev cJ18_init : ByteArray := prog_53_method_1_code
def yJ18_init : MethodName := ⟨RJ18, "<init>", "(Ljava/util/LinkedList;I)V"⟩
abbrev cJ18_hasNext : ByteArray := prog_53_method_2_code
def yJ18_hasNext : MethodName := ⟨RJ18, "hasNext", "()Z"⟩
abbrev cJ18_next : ByteArray := prog_53_method_3_code
def yJ18_next : MethodName := ⟨RJ18, "next", "()Ljava/lang/Object;"⟩
abbrev cJ18_checkForComodification : ByteArray := prog_53_method_12_code
def yJ18_checkForComodification : MethodName := ⟨RJ18, "checkForComodification", "()V"⟩
theorem q110 : (Jvm.Cond.initialized "java/util/LinkedList$ListItr") ∈ lw_all := lw_g (lw_at lw_m1 26 rfl) rfl
theorem q281 : (Jvm.Cond.selects "java/util/LinkedList$ListItr" ({ cls := "java/lang/Object", name := "getClass", desc := "()Ljava/lang/Class;" } : Jvm.MethodName) ({ cls := "java/lang/Object", name := "getClass", desc := "()Ljava/lang/Class;" } : Jvm.MethodName)) ∈ lw_all := lw_g (lw_at lw_m1 197 rfl) rfl
theorem q374 : (Jvm.Cond.fieldLink "java/util/LinkedList$ListItr" (22 : Nat) "java/util/LinkedList" "size" "I") ∈ lw_all := lw_g (lw_at lw_m2 50 rfl) rfl
theorem q378 : (Jvm.Cond.fieldLink "java/util/LinkedList$ListItr" (13 : Nat) "java/util/LinkedList" "modCount" "I") ∈ lw_all := lw_g (lw_at lw_m2 54 rfl) rfl
theorem q473 : (Jvm.Cond.fieldLink "java/util/LinkedList$ListItr" (52 : Nat) "java/util/LinkedList$Node" "item" "Ljava/lang/Object;") ∈ lw_all := lw_g (lw_at lw_m2 149 rfl) rfl
theorem q476 : (Jvm.Cond.fieldLink "java/util/LinkedList$ListItr" (49 : Nat) "java/util/LinkedList$Node" "next" "Ljava/util/LinkedList$Node;") ∈ lw_all := lw_g (lw_at lw_m2 152 rfl) rfl
theorem q680 : (Jvm.Cond.instantiable "java/util/LinkedList$ListItr" (5 : Nat)) ∈ lw_all := lw_g (lw_at lw_m3 116 rfl) rfl
theorem q682 : (Jvm.Cond.instanceMethod ({ cls := "java/util/LinkedList$ListItr", name := "<init>", desc := "(Ljava/util/LinkedList;I)V" } : Jvm.MethodName)) ∈ lw_all := lw_g (lw_at lw_m3 118 rfl) rfl
theorem q683 : (Jvm.Cond.code ({ cls := "java/util/LinkedList$ListItr", name := "<init>", desc := "(Ljava/util/LinkedList;I)V" } : Jvm.MethodName) prog_53_method_1_code (3 : Nat) (Option.none : Option Jvm.ClassFile.FieldType)) ∈ lw_all := lw_g (lw_at lw_m3 119 rfl) rfl
theorem q684 : (Jvm.Cond.methodLink "java/util/LinkedList$ListItr" (7 : Nat) ({ cls := "java/lang/Object", name := "<init>", desc := "()V" } : Jvm.MethodName)) ∈ lw_all := lw_g (lw_at lw_m3 120 rfl) rfl
theorem q685 : (Jvm.Cond.methodLink "java/util/LinkedList$ListItr" (25 : Nat) ({ cls := "java/util/LinkedList", name := "node", desc := "(I)Ljava/util/LinkedList$Node;" } : Jvm.MethodName)) ∈ lw_all := lw_g (lw_at lw_m3 121 rfl) rfl
theorem q686 : (Jvm.Cond.fieldLink "java/util/LinkedList$ListItr" (46 : Nat) "java/util/LinkedList$ListItr" "lastReturned" "Ljava/util/LinkedList$Node;") ∈ lw_all := lw_g (lw_at lw_m3 122 rfl) rfl
theorem q687 : (Jvm.Cond.fieldLink "java/util/LinkedList$ListItr" (29 : Nat) "java/util/LinkedList$ListItr" "next" "Ljava/util/LinkedList$Node;") ∈ lw_all := lw_g (lw_at lw_m3 123 rfl) rfl
theorem q688 : (Jvm.Cond.fieldLink "java/util/LinkedList$ListItr" (33 : Nat) "java/util/LinkedList$ListItr" "nextIndex" "I") ∈ lw_all := lw_g (lw_at lw_m3 124 rfl) rfl
theorem q689 : (Jvm.Cond.fieldLink "java/util/LinkedList$ListItr" (19 : Nat) "java/util/LinkedList$ListItr" "expectedModCount" "I") ∈ lw_all := lw_g (lw_at lw_m3 125 rfl) rfl
theorem q690 : (Jvm.Cond.fieldLink "java/util/LinkedList$ListItr" (1 : Nat) "java/util/LinkedList$ListItr" "this$0" "Ljava/util/LinkedList;") ∈ lw_all := lw_g (lw_at lw_m3 126 rfl) rfl
theorem q691 : (Jvm.Cond.lays "java/util/LinkedList$ListItr" "java/util/LinkedList$ListItr" "lastReturned" "Ljava/util/LinkedList$Node;") ∈ lw_all := lw_g (lw_at lw_m3 127 rfl) rfl
theorem q692 : (Jvm.Cond.soleField "java/util/LinkedList$ListItr" "lastReturned") ∈ lw_all := lw_g (lw_at lw_m3 128 rfl) rfl
theorem q693 : (Jvm.Cond.lays "java/util/LinkedList$ListItr" "java/util/LinkedList$ListItr" "next" "Ljava/util/LinkedList$Node;") ∈ lw_all := lw_g (lw_at lw_m3 129 rfl) rfl
theorem q694 : (Jvm.Cond.soleField "java/util/LinkedList$ListItr" "next") ∈ lw_all := lw_g (lw_at lw_m3 130 rfl) rfl
theorem q695 : (Jvm.Cond.lays "java/util/LinkedList$ListItr" "java/util/LinkedList$ListItr" "nextIndex" "I") ∈ lw_all := lw_g (lw_at lw_m3 131 rfl) rfl
theorem q696 : (Jvm.Cond.soleField "java/util/LinkedList$ListItr" "nextIndex") ∈ lw_all := lw_g (lw_at lw_m3 132 rfl) rfl
theorem q697 : (Jvm.Cond.lays "java/util/LinkedList$ListItr" "java/util/LinkedList$ListItr" "expectedModCount" "I") ∈ lw_all := lw_g (lw_at lw_m3 133 rfl) rfl
theorem q698 : (Jvm.Cond.soleField "java/util/LinkedList$ListItr" "expectedModCount") ∈ lw_all := lw_g (lw_at lw_m3 134 rfl) rfl
theorem q699 : (Jvm.Cond.laysFinal "java/util/LinkedList$ListItr" "java/util/LinkedList$ListItr" "this$0" "Ljava/util/LinkedList;") ∈ lw_all := lw_g (lw_at lw_m3 135 rfl) rfl
theorem q700 : (Jvm.Cond.soleField "java/util/LinkedList$ListItr" "this$0") ∈ lw_all := lw_g (lw_at lw_m3 136 rfl) rfl
theorem q701 : (Jvm.Cond.superclass "java/util/LinkedList$ListItr" "java/lang/Object") ∈ lw_all := lw_g (lw_at lw_m3 137 rfl) rfl
theorem q730 : (Jvm.Cond.castable "java/util/LinkedList$ListItr" "java/util/Iterator") ∈ lw_tbl := lw_at lw_m3 166 rfl
theorem q731 : (Jvm.Cond.selects "java/util/LinkedList$ListItr" ({ cls := "java/util/Iterator", name := "hasNext", desc := "()Z" } : Jvm.MethodName) ({ cls := "java/util/LinkedList$ListItr", name := "hasNext", desc := "()Z" } : Jvm.MethodName)) ∈ lw_all := lw_g (lw_at lw_m3 167 rfl) rfl
theorem q732 : (Jvm.Cond.unhidden "java/util/LinkedList$ListItr" "hasNext" "()Z") ∈ lw_tbl := lw_at lw_m3 168 rfl
theorem q733 : (Jvm.Cond.instanceMethod ({ cls := "java/util/LinkedList$ListItr", name := "hasNext", desc := "()Z" } : Jvm.MethodName)) ∈ lw_all := lw_g (lw_at lw_m3 169 rfl) rfl
theorem q734 : (Jvm.Cond.publicMethod ({ cls := "java/util/LinkedList$ListItr", name := "hasNext", desc := "()Z" } : Jvm.MethodName)) ∈ lw_tbl := lw_at lw_m3 170 rfl
theorem q735 : (Jvm.Cond.code ({ cls := "java/util/LinkedList$ListItr", name := "hasNext", desc := "()Z" } : Jvm.MethodName) prog_53_method_2_code (1 : Nat) (Option.some Jvm.ClassFile.FieldType.boolean)) ∈ lw_all := lw_g (lw_at lw_m3 171 rfl) rfl
theorem q1090 : (Jvm.Cond.selects "java/util/LinkedList$ListItr" ({ cls := "java/util/Iterator", name := "next", desc := "()Ljava/lang/Object;" } : Jvm.MethodName) ({ cls := "java/util/LinkedList$ListItr", name := "next", desc := "()Ljava/lang/Object;" } : Jvm.MethodName)) ∈ lw_all := lw_g (lw_at lw_m5 46 rfl) rfl
theorem q1091 : (Jvm.Cond.unhidden "java/util/LinkedList$ListItr" "next" "()Ljava/lang/Object;") ∈ lw_tbl := lw_at lw_m5 47 rfl
theorem q1092 : (Jvm.Cond.instanceMethod ({ cls := "java/util/LinkedList$ListItr", name := "next", desc := "()Ljava/lang/Object;" } : Jvm.MethodName)) ∈ lw_all := lw_g (lw_at lw_m5 48 rfl) rfl
theorem q1093 : (Jvm.Cond.publicMethod ({ cls := "java/util/LinkedList$ListItr", name := "next", desc := "()Ljava/lang/Object;" } : Jvm.MethodName)) ∈ lw_tbl := lw_at lw_m5 49 rfl
theorem q1094 : (Jvm.Cond.code ({ cls := "java/util/LinkedList$ListItr", name := "next", desc := "()Ljava/lang/Object;" } : Jvm.MethodName) prog_53_method_3_code (1 : Nat) (Option.some (Jvm.ClassFile.FieldType.object "java/lang/Object"))) ∈ lw_all := lw_g (lw_at lw_m5 50 rfl) rfl
theorem q1095 : (Jvm.Cond.methodLink "java/util/LinkedList$ListItr" (36 : Nat) ({ cls := "java/util/LinkedList$ListItr", name := "checkForComodification", desc := "()V" } : Jvm.MethodName)) ∈ lw_all := lw_g (lw_at lw_m5 51 rfl) rfl
theorem q1096 : (Jvm.Cond.instanceMethod ({ cls := "java/util/LinkedList$ListItr", name := "checkForComodification", desc := "()V" } : Jvm.MethodName)) ∈ lw_all := lw_g (lw_at lw_m5 52 rfl) rfl
theorem q1097 : (Jvm.Cond.selects "java/util/LinkedList$ListItr" ({ cls := "java/util/LinkedList$ListItr", name := "checkForComodification", desc := "()V" } : Jvm.MethodName) ({ cls := "java/util/LinkedList$ListItr", name := "checkForComodification", desc := "()V" } : Jvm.MethodName)) ∈ lw_all := lw_g (lw_at lw_m5 53 rfl) rfl
theorem q1098 : (Jvm.Cond.code ({ cls := "java/util/LinkedList$ListItr", name := "checkForComodification", desc := "()V" } : Jvm.MethodName) prog_53_method_12_code (1 : Nat) (Option.none : Option Jvm.ClassFile.FieldType)) ∈ lw_all := lw_g (lw_at lw_m5 54 rfl) rfl
theorem q1099 : (Jvm.Cond.methodLink "java/util/LinkedList$ListItr" (39 : Nat) ({ cls := "java/util/LinkedList$ListItr", name := "hasNext", desc := "()Z" } : Jvm.MethodName)) ∈ lw_all := lw_g (lw_at lw_m5 55 rfl) rfl
theorem q1100 : (Jvm.Cond.classLink "java/util/LinkedList$ListItr" (43 : Nat) "java/util/NoSuchElementException") ∈ lw_all := lw_g (lw_at lw_m5 56 rfl) rfl
theorem q1101 : (Jvm.Cond.methodLink "java/util/LinkedList$ListItr" (45 : Nat) ({ cls := "java/util/NoSuchElementException", name := "<init>", desc := "()V" } : Jvm.MethodName)) ∈ lw_all := lw_g (lw_at lw_m5 57 rfl) rfl
theorem q2149 : (Jvm.Cond.selects "java/util/LinkedList$ListItr" ({ cls := "java/util/LinkedList$ListItr", name := "hasNext", desc := "()Z" } : Jvm.MethodName) ({ cls := "java/util/LinkedList$ListItr", name := "hasNext", desc := "()Z" } : Jvm.MethodName)) ∈ lw_all := lw_g (lw_at lw_m9 145 rfl) rfl
theorem q2170 : (Jvm.Cond.castable "java/util/LinkedList$ListItr" "java/lang/Object") ∈ lw_tbl := lw_at lw_m9 166 rfl
theorem in_J18 : ∀ w ∈ wsJ180, w ∈ lw_all := lw_in wsJ180 [691, 693, 695, 697, 699] (by decide +kernel) (by decide +kernel)
/-! java/lang/Throwable -/
def RJ19 : String := "java/lang/Throwable"
def TJ19 : u_T := fun k => match k with
  | 0 => ("java/lang/Throwable", "cause", "Ljava/lang/Throwable;", false)
  | 1 => ("java/lang/Throwable", "stackTrace", "[Ljava/lang/StackTraceElement;", false)
  | 2 => ("java/lang/Throwable", "suppressedExceptions", "Ljava/util/List;", false)
  | 3 => ("java/lang/Throwable", "detailMessage", "Ljava/lang/String;", false)
  | _ => ("java/lang/Throwable", "backtrace", "Ljava/lang/Object;", false)
def tyJ19 : Nat → FieldType := fun k => match k with
  | 0 => .object "java/lang/Throwable"
  | 1 => .array (.object "java/lang/StackTraceElement")
  | 2 => .object "java/util/List"
  | 3 => .object "java/lang/String"
  | _ => .object "java/lang/Object"
abbrev wsJ190 : List Cond := u_ws RJ19 TJ19 5
theorem nmJ19 : ∀ a, a < 5 → ∀ b, b < 5 → a ≠ b → (TJ19 a).2.1 ≠ (TJ19 b).2.1 := by decide +kernel
theorem tyJ19_ok : ∀ k, k < 5 → parseFieldDescriptor (TJ19 k).2.2.1 = some (tyJ19 k) := by decide +kernel
abbrev cJ19_init : ByteArray := prog_30_method_1_code
def yJ19_init : MethodName := ⟨RJ19, "<init>", "()V"⟩
abbrev cJ19_init_2 : ByteArray := prog_30_method_4_code
def yJ19_init_2 : MethodName := ⟨RJ19, "<init>", "(Ljava/lang/Throwable;)V"⟩
abbrev cJ19_toString : ByteArray := prog_30_method_11_code
def yJ19_toString : MethodName := ⟨RJ19, "toString", "()Ljava/lang/String;"⟩
abbrev cJ19_getLocalizedMessage : ByteArray := prog_30_method_7_code
def yJ19_getLocalizedMessage : MethodName := ⟨RJ19, "getLocalizedMessage", "()Ljava/lang/String;"⟩
abbrev cJ19_getMessage : ByteArray := prog_30_method_6_code
def yJ19_getMessage : MethodName := ⟨RJ19, "getMessage", "()Ljava/lang/String;"⟩
theorem q111 : (Jvm.Cond.initialized "java/lang/Throwable") ∈ lw_all := lw_g (lw_at lw_m1 27 rfl) rfl
theorem q763 : (Jvm.Cond.declares ({ cls := "java/lang/Throwable", name := "<init>", desc := "()V" } : Jvm.MethodName)) ∈ lw_tbl := lw_at lw_m3 199 rfl
theorem q764 : (Jvm.Cond.declares ({ cls := "java/lang/Throwable", name := "<init>", desc := "(Ljava/lang/String;)V" } : Jvm.MethodName)) ∈ lw_tbl := lw_at lw_m3 200 rfl
theorem q768 : (Jvm.Cond.lays "java/lang/Throwable" "java/lang/Throwable" "cause" "Ljava/lang/Throwable;") ∈ lw_all := lw_g (lw_at lw_m3 204 rfl) rfl
theorem q770 : (Jvm.Cond.lays "java/lang/Throwable" "java/lang/Throwable" "stackTrace" "[Ljava/lang/StackTraceElement;") ∈ lw_all := lw_g (lw_at lw_m3 206 rfl) rfl
theorem q772 : (Jvm.Cond.lays "java/lang/Throwable" "java/lang/Throwable" "suppressedExceptions" "Ljava/util/List;") ∈ lw_all := lw_g (lw_at lw_m3 208 rfl) rfl
theorem q774 : (Jvm.Cond.lays "java/lang/Throwable" "java/lang/Throwable" "detailMessage" "Ljava/lang/String;") ∈ lw_all := lw_g (lw_at lw_m3 210 rfl) rfl
theorem q776 : (Jvm.Cond.lays "java/lang/Throwable" "java/lang/Throwable" "backtrace" "Ljava/lang/Object;") ∈ lw_all := lw_g (lw_at lw_m3 212 rfl) rfl
theorem q777 : (Jvm.Cond.fieldLink "java/lang/Throwable" (198 : Nat) "java/lang/Throwable" "backtrace" "Ljava/lang/Object;") ∈ lw_all := lw_g (lw_at lw_m3 213 rfl) rfl
theorem q778 : (Jvm.Cond.superclass "java/lang/Throwable" "java/lang/Object") ∈ lw_all := lw_g (lw_at lw_m3 214 rfl) rfl
theorem q779 : (Jvm.Cond.instanceMethod ({ cls := "java/lang/Throwable", name := "<init>", desc := "()V" } : Jvm.MethodName)) ∈ lw_all := lw_g (lw_at lw_m3 215 rfl) rfl
theorem q780 : (Jvm.Cond.code ({ cls := "java/lang/Throwable", name := "<init>", desc := "()V" } : Jvm.MethodName) prog_30_method_1_code (1 : Nat) (Option.none : Option Jvm.ClassFile.FieldType)) ∈ lw_all := lw_g (lw_at lw_m3 216 rfl) rfl
theorem q781 : (Jvm.Cond.methodLink "java/lang/Throwable" (1 : Nat) ({ cls := "java/lang/Object", name := "<init>", desc := "()V" } : Jvm.MethodName)) ∈ lw_all := lw_g (lw_at lw_m3 217 rfl) rfl
theorem q782 : (Jvm.Cond.fieldLink "java/lang/Throwable" (13 : Nat) "java/lang/Throwable" "UNASSIGNED_STACK" "[Ljava/lang/StackTraceElement;") ∈ lw_all := lw_g (lw_at lw_m3 218 rfl) rfl
theorem q783 : (Jvm.Cond.laysStatic "java/lang/Throwable" "UNASSIGNED_STACK" "[Ljava/lang/StackTraceElement;") ∈ lw_tbl := lw_at lw_m3 219 rfl
theorem q784 : (Jvm.Cond.fieldLink "java/lang/Throwable" (20 : Nat) "java/lang/Throwable" "SUPPRESSED_SENTINEL" "Ljava/util/List;") ∈ lw_all := lw_g (lw_at lw_m3 220 rfl) rfl
theorem q785 : (Jvm.Cond.laysStatic "java/lang/Throwable" "SUPPRESSED_SENTINEL" "Ljava/util/List;") ∈ lw_tbl := lw_at lw_m3 221 rfl
theorem q786 : (Jvm.Cond.methodLink "java/lang/Throwable" (27 : Nat) ({ cls := "java/lang/Throwable", name := "fillInStackTrace", desc := "()Ljava/lang/Throwable;" } : Jvm.MethodName)) ∈ lw_all := lw_g (lw_at lw_m3 222 rfl) rfl
theorem q787 : (Jvm.Cond.instanceMethod ({ cls := "java/lang/Throwable", name := "fillInStackTrace", desc := "()Ljava/lang/Throwable;" } : Jvm.MethodName)) ∈ lw_all := lw_g (lw_at lw_m3 223 rfl) rfl
theorem q788 : (Jvm.Cond.sameMethod "java/lang/Throwable" "java/lang/Throwable" "fillInStackTrace" "()Ljava/lang/Throwable;") ∈ lw_all := lw_g (lw_at lw_m3 224 rfl) rfl
theorem q790 : (Jvm.Cond.codeSync ({ cls := "java/lang/Throwable", name := "fillInStackTrace", desc := "()Ljava/lang/Throwable;" } : Jvm.MethodName) prog_30_method_18_code (1 : Nat) (Option.some (Jvm.ClassFile.FieldType.object "java/lang/Throwable"))) ∈ lw_all := lw_g (lw_at lw_m3 226 rfl) rfl
theorem q791 : (Jvm.Cond.methodLink "java/lang/Throwable" (202 : Nat) ({ cls := "java/lang/Throwable", name := "fillInStackTrace", desc := "(I)Ljava/lang/Throwable;" } : Jvm.MethodName)) ∈ lw_all := lw_g (lw_at lw_m3 227 rfl) rfl
theorem q792 : (Jvm.Cond.privateMethod ({ cls := "java/lang/Throwable", name := "fillInStackTrace", desc := "(I)Ljava/lang/Throwable;" } : Jvm.MethodName)) ∈ lw_tbl := lw_at lw_m3 228 rfl
theorem q793 : (Jvm.Cond.instanceMethod ({ cls := "java/lang/Throwable", name := "fillInStackTrace", desc := "(I)Ljava/lang/Throwable;" } : Jvm.MethodName)) ∈ lw_all := lw_g (lw_at lw_m3 229 rfl) rfl
theorem q794 : (Jvm.Cond.instantiable "java/lang/Throwable" (6 : Nat)) ∈ lw_all := lw_g (lw_at lw_m3 230 rfl) rfl
theorem q795 : (Jvm.Cond.native ({ cls := "java/lang/Throwable", name := "fillInStackTrace", desc := "(I)Ljava/lang/Throwable;" } : Jvm.MethodName)) ∈ lw_all := lw_g (lw_at lw_m3 231 rfl) rfl
theorem q806 : (Jvm.Cond.instanceMethod ({ cls := "java/lang/Throwable", name := "<init>", desc := "(Ljava/lang/Throwable;)V" } : Jvm.MethodName)) ∈ lw_all := lw_g (lw_at lw_m4 2 rfl) rfl
theorem q807 : (Jvm.Cond.code ({ cls := "java/lang/Throwable", name := "<init>", desc := "(Ljava/lang/Throwable;)V" } : Jvm.MethodName) prog_30_method_4_code (2 : Nat) (Option.none : Option Jvm.ClassFile.FieldType)) ∈ lw_all := lw_g (lw_at lw_m4 3 rfl) rfl
theorem q808 : (Jvm.Cond.methodLink "java/lang/Throwable" (35 : Nat) ({ cls := "java/lang/Throwable", name := "toString", desc := "()Ljava/lang/String;" } : Jvm.MethodName)) ∈ lw_all := lw_g (lw_at lw_m4 4 rfl) rfl
theorem q809 : (Jvm.Cond.instanceMethod ({ cls := "java/lang/Throwable", name := "toString", desc := "()Ljava/lang/String;" } : Jvm.MethodName)) ∈ lw_all := lw_g (lw_at lw_m4 5 rfl) rfl
theorem q810 : (Jvm.Cond.sameMethod "java/lang/Throwable" "java/lang/Throwable" "toString" "()Ljava/lang/String;") ∈ lw_all := lw_g (lw_at lw_m4 6 rfl) rfl
theorem q813 : (Jvm.Cond.code ({ cls := "java/lang/Throwable", name := "toString", desc := "()Ljava/lang/String;" } : Jvm.MethodName) prog_30_method_11_code (3 : Nat) (Option.some (Jvm.ClassFile.FieldType.object "java/lang/String"))) ∈ lw_all := lw_g (lw_at lw_m4 9 rfl) rfl
theorem q814 : (Jvm.Cond.methodLink "java/lang/Throwable" (69 : Nat) ({ cls := "java/lang/Object", name := "getClass", desc := "()Ljava/lang/Class;" } : Jvm.MethodName)) ∈ lw_all := lw_g (lw_at lw_m4 10 rfl) rfl
theorem q815 : (Jvm.Cond.methodLink "java/lang/Throwable" (78 : Nat) ({ cls := "java/lang/Throwable", name := "getLocalizedMessage", desc := "()Ljava/lang/String;" } : Jvm.MethodName)) ∈ lw_all := lw_g (lw_at lw_m4 11 rfl) rfl
theorem q816 : (Jvm.Cond.instanceMethod ({ cls := "java/lang/Throwable", name := "getLocalizedMessage", desc := "()Ljava/lang/String;" } : Jvm.MethodName)) ∈ lw_all := lw_g (lw_at lw_m4 12 rfl) rfl
theorem q817 : (Jvm.Cond.sameMethod "java/lang/Throwable" "java/lang/Throwable" "getLocalizedMessage" "()Ljava/lang/String;") ∈ lw_all := lw_g (lw_at lw_m4 13 rfl) rfl
theorem q820 : (Jvm.Cond.code ({ cls := "java/lang/Throwable", name := "getLocalizedMessage", desc := "()Ljava/lang/String;" } : Jvm.MethodName) prog_30_method_7_code (1 : Nat) (Option.some (Jvm.ClassFile.FieldType.object "java/lang/String"))) ∈ lw_all := lw_g (lw_at lw_m4 16 rfl) rfl
theorem q821 : (Jvm.Cond.methodLink "java/lang/Throwable" (39 : Nat) ({ cls := "java/lang/Throwable", name := "getMessage", desc := "()Ljava/lang/String;" } : Jvm.MethodName)) ∈ lw_all := lw_g (lw_at lw_m4 17 rfl) rfl
theorem q822 : (Jvm.Cond.instanceMethod ({ cls := "java/lang/Throwable", name := "getMessage", desc := "()Ljava/lang/String;" } : Jvm.MethodName)) ∈ lw_all := lw_g (lw_at lw_m4 18 rfl) rfl
theorem q823 : (Jvm.Cond.sameMethod "java/lang/Throwable" "java/lang/Throwable" "getMessage" "()Ljava/lang/String;") ∈ lw_all := lw_g (lw_at lw_m4 19 rfl) rfl
theorem q826 : (Jvm.Cond.code ({ cls := "java/lang/Throwable", name := "getMessage", desc := "()Ljava/lang/String;" } : Jvm.MethodName) prog_30_method_6_code (1 : Nat) (Option.some (Jvm.ClassFile.FieldType.object "java/lang/String"))) ∈ lw_all := lw_g (lw_at lw_m4 22 rfl) rfl
theorem q827 : (Jvm.Cond.classLink "java/lang/Throwable" (44 : Nat) "java/lang/StringBuilder") ∈ lw_all := lw_g (lw_at lw_m4 23 rfl) rfl
theorem q829 : (Jvm.Cond.methodLink "java/lang/Throwable" (46 : Nat) ({ cls := "java/lang/StringBuilder", name := "<init>", desc := "()V" } : Jvm.MethodName)) ∈ lw_all := lw_g (lw_at lw_m4 25 rfl) rfl
theorem q858 : (Jvm.Cond.methodLink "java/lang/Throwable" (49 : Nat) ({ cls := "java/lang/StringBuilder", name := "append", desc := "(Ljava/lang/String;)Ljava/lang/StringBuilder;" } : Jvm.MethodName)) ∈ lw_all := lw_g (lw_at lw_m4 54 rfl) rfl
theorem q970 : (Jvm.Cond.stringRef "java/lang/Throwable" (81 : Nat) ": ") ∈ lw_tbl := lw_at lw_m4 166 rfl
theorem q971 : (Jvm.Cond.methodLink "java/lang/Throwable" (60 : Nat) ({ cls := "java/lang/StringBuilder", name := "toString", desc := "()Ljava/lang/String;" } : Jvm.MethodName)) ∈ lw_all := lw_g (lw_at lw_m4 167 rfl) rfl
theorem q1031 : (Jvm.Cond.fieldLink "java/lang/Throwable" (198 : Nat) "java/lang/Throwable" "backtrace" "Ljava/lang/Object;") ∈ lw_all := lw_g (lw_at lw_m4 227 rfl) rfl
theorem q1032 : (Jvm.Cond.fieldLink "java/lang/Throwable" (31 : Nat) "java/lang/Throwable" "detailMessage" "Ljava/lang/String;") ∈ lw_all := lw_g (lw_at lw_m4 228 rfl) rfl
theorem q1033 : (Jvm.Cond.fieldLink "java/lang/Throwable" (7 : Nat) "java/lang/Throwable" "cause" "Ljava/lang/Throwable;") ∈ lw_all := lw_g (lw_at lw_m4 229 rfl) rfl
theorem q1034 : (Jvm.Cond.fieldLink "java/lang/Throwable" (17 : Nat) "java/lang/Throwable" "stackTrace" "[Ljava/lang/StackTraceElement;") ∈ lw_all := lw_g (lw_at lw_m4 230 rfl) rfl
theorem q1035 : (Jvm.Cond.fieldLink "java/lang/Throwable" (24 : Nat) "java/lang/Throwable" "suppressedExceptions" "Ljava/util/List;") ∈ lw_all := lw_g (lw_at lw_m4 231 rfl) rfl
theorem q1036 : (Jvm.Cond.soleField "java/lang/Throwable" "backtrace") ∈ lw_all := lw_g (lw_at lw_m4 232 rfl) rfl
theorem q1037 : (Jvm.Cond.soleField "java/lang/Throwable" "detailMessage") ∈ lw_all := lw_g (lw_at lw_m4 233 rfl) rfl
theorem q1038 : (Jvm.Cond.soleField "java/lang/Throwable" "cause") ∈ lw_all := lw_g (lw_at lw_m4 234 rfl) rfl
theorem q1039 : (Jvm.Cond.soleField "java/lang/Throwable" "stackTrace") ∈ lw_all := lw_g (lw_at lw_m4 235 rfl) rfl
theorem q1041 : (Jvm.Cond.soleField "java/lang/Throwable" "depth") ∈ lw_all := lw_g (lw_at lw_m4 237 rfl) rfl
theorem q1042 : (Jvm.Cond.soleField "java/lang/Throwable" "suppressedExceptions") ∈ lw_all := lw_g (lw_at lw_m4 238 rfl) rfl
theorem q2141 : (Jvm.Cond.sameMethod "java/lang/Throwable" "java/lang/Throwable" "fillInStackTrace" "(I)Ljava/lang/Throwable;") ∈ lw_all := lw_g (lw_at lw_m9 137 rfl) rfl
theorem q2178 : (Jvm.Cond.castable "java/lang/Throwable" "java/lang/Object") ∈ lw_tbl := lw_at lw_m9 174 rfl
theorem in_J19 : ∀ w ∈ wsJ190, w ∈ lw_all := lw_in wsJ190 [768, 770, 772, 774, 776] (by decide +kernel) (by decide +kernel)
/-! java/lang/Exception -/
def RJ20 : String := "java/lang/Exception"
abbrev cJ20_init : ByteArray := prog_17_method_4_code
def yJ20_init : MethodName := ⟨RJ20, "<init>", "(Ljava/lang/Throwable;)V"⟩
abbrev cJ20_init_2 : ByteArray := prog_17_method_1_code
def yJ20_init_2 : MethodName := ⟨RJ20, "<init>", "()V"⟩
theorem q112 : (Jvm.Cond.initialized "java/lang/Exception") ∈ lw_all := lw_g (lw_at lw_m1 28 rfl) rfl
theorem q761 : (Jvm.Cond.declares ({ cls := "java/lang/Exception", name := "<init>", desc := "()V" } : Jvm.MethodName)) ∈ lw_tbl := lw_at lw_m3 197 rfl
theorem q762 : (Jvm.Cond.declares ({ cls := "java/lang/Exception", name := "<init>", desc := "(Ljava/lang/String;)V" } : Jvm.MethodName)) ∈ lw_tbl := lw_at lw_m3 198 rfl
theorem q803 : (Jvm.Cond.instanceMethod ({ cls := "java/lang/Exception", name := "<init>", desc := "(Ljava/lang/Throwable;)V" } : Jvm.MethodName)) ∈ lw_all := lw_g (lw_at lw_m3 239 rfl) rfl
theorem q804 : (Jvm.Cond.code ({ cls := "java/lang/Exception", name := "<init>", desc := "(Ljava/lang/Throwable;)V" } : Jvm.MethodName) prog_17_method_4_code (2 : Nat) (Option.none : Option Jvm.ClassFile.FieldType)) ∈ lw_all := lw_g (lw_at lw_m4 0 rfl) rfl
theorem q805 : (Jvm.Cond.methodLink "java/lang/Exception" (13 : Nat) ({ cls := "java/lang/Throwable", name := "<init>", desc := "(Ljava/lang/Throwable;)V" } : Jvm.MethodName)) ∈ lw_all := lw_g (lw_at lw_m4 1 rfl) rfl
theorem q1057 : (Jvm.Cond.instanceMethod ({ cls := "java/lang/Exception", name := "<init>", desc := "()V" } : Jvm.MethodName)) ∈ lw_all := lw_g (lw_at lw_m5 13 rfl) rfl
theorem q1058 : (Jvm.Cond.code ({ cls := "java/lang/Exception", name := "<init>", desc := "()V" } : Jvm.MethodName) prog_17_method_1_code (1 : Nat) (Option.none : Option Jvm.ClassFile.FieldType)) ∈ lw_all := lw_g (lw_at lw_m5 14 rfl) rfl
theorem q1059 : (Jvm.Cond.methodLink "java/lang/Exception" (1 : Nat) ({ cls := "java/lang/Throwable", name := "<init>", desc := "()V" } : Jvm.MethodName)) ∈ lw_all := lw_g (lw_at lw_m5 15 rfl) rfl
/-! java/lang/RuntimeException -/
def RJ21 : String := "java/lang/RuntimeException"
abbrev cJ21_init : ByteArray := prog_24_method_4_code
def yJ21_init : MethodName := ⟨RJ21, "<init>", "(Ljava/lang/Throwable;)V"⟩
abbrev cJ21_init_2 : ByteArray := prog_24_method_1_code
def yJ21_init_2 : MethodName := ⟨RJ21, "<init>", "()V"⟩
theorem q113 : (Jvm.Cond.initialized "java/lang/RuntimeException") ∈ lw_all := lw_g (lw_at lw_m1 29 rfl) rfl
theorem q759 : (Jvm.Cond.declares ({ cls := "java/lang/RuntimeException", name := "<init>", desc := "()V" } : Jvm.MethodName)) ∈ lw_tbl := lw_at lw_m3 195 rfl
theorem q760 : (Jvm.Cond.declares ({ cls := "java/lang/RuntimeException", name := "<init>", desc := "(Ljava/lang/String;)V" } : Jvm.MethodName)) ∈ lw_tbl := lw_at lw_m3 196 rfl
theorem q800 : (Jvm.Cond.instanceMethod ({ cls := "java/lang/RuntimeException", name := "<init>", desc := "(Ljava/lang/Throwable;)V" } : Jvm.MethodName)) ∈ lw_all := lw_g (lw_at lw_m3 236 rfl) rfl
theorem q801 : (Jvm.Cond.code ({ cls := "java/lang/RuntimeException", name := "<init>", desc := "(Ljava/lang/Throwable;)V" } : Jvm.MethodName) prog_24_method_4_code (2 : Nat) (Option.none : Option Jvm.ClassFile.FieldType)) ∈ lw_all := lw_g (lw_at lw_m3 237 rfl) rfl
theorem q802 : (Jvm.Cond.methodLink "java/lang/RuntimeException" (13 : Nat) ({ cls := "java/lang/Exception", name := "<init>", desc := "(Ljava/lang/Throwable;)V" } : Jvm.MethodName)) ∈ lw_all := lw_g (lw_at lw_m3 238 rfl) rfl
theorem q1054 : (Jvm.Cond.instanceMethod ({ cls := "java/lang/RuntimeException", name := "<init>", desc := "()V" } : Jvm.MethodName)) ∈ lw_all := lw_g (lw_at lw_m5 10 rfl) rfl
theorem q1055 : (Jvm.Cond.code ({ cls := "java/lang/RuntimeException", name := "<init>", desc := "()V" } : Jvm.MethodName) prog_24_method_1_code (1 : Nat) (Option.none : Option Jvm.ClassFile.FieldType)) ∈ lw_all := lw_g (lw_at lw_m5 11 rfl) rfl
theorem q1056 : (Jvm.Cond.methodLink "java/lang/RuntimeException" (1 : Nat) ({ cls := "java/lang/Exception", name := "<init>", desc := "()V" } : Jvm.MethodName)) ∈ lw_all := lw_g (lw_at lw_m5 12 rfl) rfl
/-! java/util/NoSuchElementException -/
def RJ22 : String := "java/util/NoSuchElementException"
def TJ22 : u_T := fun k => match k with
  | 0 => ("java/lang/Throwable", "cause", "Ljava/lang/Throwable;", false)
  | 1 => ("java/lang/Throwable", "stackTrace", "[Ljava/lang/StackTraceElement;", false)
  | 2 => ("java/lang/Throwable", "suppressedExceptions", "Ljava/util/List;", false)
  | 3 => ("java/lang/Throwable", "detailMessage", "Ljava/lang/String;", false)
  | 4 => ("java/lang/Throwable", "backtrace", "Ljava/lang/Object;", false)
  | _ => ("java/lang/Throwable", "depth", "I", false)
def tyJ22 : Nat → FieldType := fun k => match k with
  | 0 => .object "java/lang/Throwable"
  | 1 => .array (.object "java/lang/StackTraceElement")
  | 2 => .object "java/util/List"
  | 3 => .object "java/lang/String"
  | 4 => .object "java/lang/Object"
  | _ => .int
abbrev wsJ220 : List Cond := u_ws RJ22 TJ22 6
theorem nmJ22 : ∀ a, a < 6 → ∀ b, b < 6 → a ≠ b → (TJ22 a).2.1 ≠ (TJ22 b).2.1 := by decide +kernel
theorem tyJ22_ok : ∀ k, k < 6 → parseFieldDescriptor (TJ22 k).2.2.1 = some (tyJ22 k) := by decide +kernel
abbrev cJ22_init : ByteArray := prog_57_method_3_code
def yJ22_init : MethodName := ⟨RJ22, "<init>", "(Ljava/lang/Throwable;)V"⟩
abbrev cJ22_init_2 : ByteArray := prog_57_method_1_code
def yJ22_init_2 : MethodName := ⟨RJ22, "<init>", "()V"⟩
theorem q114 : (Jvm.Cond.initialized "java/util/NoSuchElementException") ∈ lw_all := lw_g (lw_at lw_m1 30 rfl) rfl
theorem q283 : (Jvm.Cond.selects "java/util/NoSuchElementException" ({ cls := "java/lang/Object", name := "getClass", desc := "()Ljava/lang/Class;" } : Jvm.MethodName) ({ cls := "java/lang/Object", name := "getClass", desc := "()Ljava/lang/Class;" } : Jvm.MethodName)) ∈ lw_all := lw_g (lw_at lw_m1 199 rfl) rfl
theorem q757 : (Jvm.Cond.instantiable "java/util/NoSuchElementException" (6 : Nat)) ∈ lw_all := lw_g (lw_at lw_m3 193 rfl) rfl
theorem q758 : (Jvm.Cond.castable "java/util/NoSuchElementException" "java/util/NoSuchElementException") ∈ lw_tbl := lw_at lw_m3 194 rfl
theorem q765 : (Jvm.Cond.selects "java/util/NoSuchElementException" ({ cls := "java/lang/Throwable", name := "fillInStackTrace", desc := "(I)Ljava/lang/Throwable;" } : Jvm.MethodName) ({ cls := "java/lang/Throwable", name := "fillInStackTrace", desc := "(I)Ljava/lang/Throwable;" } : Jvm.MethodName)) ∈ lw_all := lw_g (lw_at lw_m3 201 rfl) rfl
theorem q766 : (Jvm.Cond.selects "java/util/NoSuchElementException" ({ cls := "java/lang/Throwable", name := "fillInStackTrace", desc := "()Ljava/lang/Throwable;" } : Jvm.MethodName) ({ cls := "java/lang/Throwable", name := "fillInStackTrace", desc := "()Ljava/lang/Throwable;" } : Jvm.MethodName)) ∈ lw_all := lw_g (lw_at lw_m3 202 rfl) rfl
theorem q767 : (Jvm.Cond.lays "java/util/NoSuchElementException" "java/lang/Throwable" "cause" "Ljava/lang/Throwable;") ∈ lw_all := lw_g (lw_at lw_m3 203 rfl) rfl
theorem q769 : (Jvm.Cond.lays "java/util/NoSuchElementException" "java/lang/Throwable" "stackTrace" "[Ljava/lang/StackTraceElement;") ∈ lw_all := lw_g (lw_at lw_m3 205 rfl) rfl
theorem q771 : (Jvm.Cond.lays "java/util/NoSuchElementException" "java/lang/Throwable" "suppressedExceptions" "Ljava/util/List;") ∈ lw_all := lw_g (lw_at lw_m3 207 rfl) rfl
theorem q773 : (Jvm.Cond.lays "java/util/NoSuchElementException" "java/lang/Throwable" "detailMessage" "Ljava/lang/String;") ∈ lw_all := lw_g (lw_at lw_m3 209 rfl) rfl
theorem q775 : (Jvm.Cond.lays "java/util/NoSuchElementException" "java/lang/Throwable" "backtrace" "Ljava/lang/Object;") ∈ lw_all := lw_g (lw_at lw_m3 211 rfl) rfl
theorem q797 : (Jvm.Cond.instanceMethod ({ cls := "java/util/NoSuchElementException", name := "<init>", desc := "(Ljava/lang/Throwable;)V" } : Jvm.MethodName)) ∈ lw_all := lw_g (lw_at lw_m3 233 rfl) rfl
theorem q798 : (Jvm.Cond.code ({ cls := "java/util/NoSuchElementException", name := "<init>", desc := "(Ljava/lang/Throwable;)V" } : Jvm.MethodName) prog_57_method_3_code (2 : Nat) (Option.none : Option Jvm.ClassFile.FieldType)) ∈ lw_all := lw_g (lw_at lw_m3 234 rfl) rfl
theorem q799 : (Jvm.Cond.methodLink "java/util/NoSuchElementException" (10 : Nat) ({ cls := "java/lang/RuntimeException", name := "<init>", desc := "(Ljava/lang/Throwable;)V" } : Jvm.MethodName)) ∈ lw_all := lw_g (lw_at lw_m3 235 rfl) rfl
theorem q812 : (Jvm.Cond.selects "java/util/NoSuchElementException" ({ cls := "java/lang/Throwable", name := "toString", desc := "()Ljava/lang/String;" } : Jvm.MethodName) ({ cls := "java/lang/Throwable", name := "toString", desc := "()Ljava/lang/String;" } : Jvm.MethodName)) ∈ lw_all := lw_g (lw_at lw_m4 8 rfl) rfl
theorem q819 : (Jvm.Cond.selects "java/util/NoSuchElementException" ({ cls := "java/lang/Throwable", name := "getLocalizedMessage", desc := "()Ljava/lang/String;" } : Jvm.MethodName) ({ cls := "java/lang/Throwable", name := "getLocalizedMessage", desc := "()Ljava/lang/String;" } : Jvm.MethodName)) ∈ lw_all := lw_g (lw_at lw_m4 15 rfl) rfl
theorem q825 : (Jvm.Cond.selects "java/util/NoSuchElementException" ({ cls := "java/lang/Throwable", name := "getMessage", desc := "()Ljava/lang/String;" } : Jvm.MethodName) ({ cls := "java/lang/Throwable", name := "getMessage", desc := "()Ljava/lang/String;" } : Jvm.MethodName)) ∈ lw_all := lw_g (lw_at lw_m4 21 rfl) rfl
theorem q1040 : (Jvm.Cond.lays "java/util/NoSuchElementException" "java/lang/Throwable" "depth" "I") ∈ lw_all := lw_g (lw_at lw_m4 236 rfl) rfl
theorem q1043 : (Jvm.Cond.superclass "java/util/NoSuchElementException" "java/lang/RuntimeException") ∈ lw_all := lw_g (lw_at lw_m4 239 rfl) rfl
theorem q1051 : (Jvm.Cond.instanceMethod ({ cls := "java/util/NoSuchElementException", name := "<init>", desc := "()V" } : Jvm.MethodName)) ∈ lw_all := lw_g (lw_at lw_m5 7 rfl) rfl
theorem q1052 : (Jvm.Cond.code ({ cls := "java/util/NoSuchElementException", name := "<init>", desc := "()V" } : Jvm.MethodName) prog_57_method_1_code (1 : Nat) (Option.none : Option Jvm.ClassFile.FieldType)) ∈ lw_all := lw_g (lw_at lw_m5 8 rfl) rfl
theorem q1053 : (Jvm.Cond.methodLink "java/util/NoSuchElementException" (1 : Nat) ({ cls := "java/lang/RuntimeException", name := "<init>", desc := "()V" } : Jvm.MethodName)) ∈ lw_all := lw_g (lw_at lw_m5 9 rfl) rfl
theorem q2171 : (Jvm.Cond.castable "java/util/NoSuchElementException" "java/lang/Object") ∈ lw_tbl := lw_at lw_m9 167 rfl
theorem in_J22 : ∀ w ∈ wsJ220, w ∈ lw_all := lw_in wsJ220 [767, 769, 771, 773, 775, 1040] (by decide +kernel) (by decide +kernel)
/-! java/lang/AbstractStringBuilder -/
def RJ23 : String := "java/lang/AbstractStringBuilder"
abbrev cJ23_init : ByteArray := prog_11_method_2_code
def yJ23_init : MethodName := ⟨RJ23, "<init>", "(I)V"⟩
abbrev cJ23_append : ByteArray := prog_11_method_22_code
def yJ23_append : MethodName := ⟨RJ23, "append", "(Ljava/lang/String;)Ljava/lang/AbstractStringBuilder;"⟩
abbrev cJ23_appendNull : ByteArray := prog_11_method_26_code
def yJ23_appendNull : MethodName := ⟨RJ23, "appendNull", "()Ljava/lang/AbstractStringBuilder;"⟩
abbrev cJ23_ensureCapacityInternal : ByteArray := prog_11_method_9_code
def yJ23_ensureCapacityInternal : MethodName := ⟨RJ23, "ensureCapacityInternal", "(I)V"⟩
abbrev cJ23_newCapacity : ByteArray := prog_11_method_10_code
def yJ23_newCapacity : MethodName := ⟨RJ23, "newCapacity", "(I)I"⟩
abbrev cJ23_isLatin1 : ByteArray := prog_11_method_68_code
def yJ23_isLatin1 : MethodName := ⟨RJ23, "isLatin1", "()Z"⟩
abbrev cJ23_putStringAt : ByteArray := prog_11_method_73_code
def yJ23_putStringAt : MethodName := ⟨RJ23, "putStringAt", "(ILjava/lang/String;)V"⟩
abbrev cJ23_inflateIfNeededFor : ByteArray := prog_11_method_71_code
def yJ23_inflateIfNeededFor : MethodName := ⟨RJ23, "inflateIfNeededFor", "(Ljava/lang/String;)V"⟩
abbrev cJ23_inflate : ByteArray := prog_11_method_11_code
def yJ23_inflate : MethodName := ⟨RJ23, "inflate", "()V"⟩
abbrev cJ23_getValue : ByteArray := prog_11_method_64_code
def yJ23_getValue : MethodName := ⟨RJ23, "getValue", "()[B"⟩
abbrev cJ23_length : ByteArray := prog_11_method_6_code
def yJ23_length : MethodName := ⟨RJ23, "length", "()I"⟩
theorem q115 : (Jvm.Cond.initialized "java/lang/AbstractStringBuilder") ∈ lw_all := lw_g (lw_at lw_m1 31 rfl) rfl
theorem q833 : (Jvm.Cond.instanceMethod ({ cls := "java/lang/AbstractStringBuilder", name := "<init>", desc := "(I)V" } : Jvm.MethodName)) ∈ lw_all := lw_g (lw_at lw_m4 29 rfl) rfl
theorem q834 : (Jvm.Cond.code ({ cls := "java/lang/AbstractStringBuilder", name := "<init>", desc := "(I)V" } : Jvm.MethodName) prog_11_method_2_code (2 : Nat) (Option.none : Option Jvm.ClassFile.FieldType)) ∈ lw_all := lw_g (lw_at lw_m4 30 rfl) rfl
theorem q835 : (Jvm.Cond.methodLink "java/lang/AbstractStringBuilder" (3 : Nat) ({ cls := "java/lang/Object", name := "<init>", desc := "()V" } : Jvm.MethodName)) ∈ lw_all := lw_g (lw_at lw_m4 31 rfl) rfl
theorem q836 : (Jvm.Cond.fieldLink "java/lang/AbstractStringBuilder" (18 : Nat) "java/lang/String" "COMPACT_STRINGS" "Z") ∈ lw_all := lw_g (lw_at lw_m4 32 rfl) rfl
theorem q838 : (Jvm.Cond.methodLink "java/lang/AbstractStringBuilder" (26 : Nat) ({ cls := "java/lang/StringUTF16", name := "newBytesFor", desc := "(I)[B" } : Jvm.MethodName)) ∈ lw_all := lw_g (lw_at lw_m4 34 rfl) rfl
theorem q845 : (Jvm.Cond.fieldLink "java/lang/AbstractStringBuilder" (15 : Nat) "java/lang/AbstractStringBuilder" "value" "[B") ∈ lw_all := lw_g (lw_at lw_m4 41 rfl) rfl
theorem q846 : (Jvm.Cond.fieldLink "java/lang/AbstractStringBuilder" (22 : Nat) "java/lang/AbstractStringBuilder" "coder" "B") ∈ lw_all := lw_g (lw_at lw_m4 42 rfl) rfl
theorem q848 : (Jvm.Cond.fieldLink "java/lang/AbstractStringBuilder" (79 : Nat) "java/lang/AbstractStringBuilder" "count" "I") ∈ lw_all := lw_g (lw_at lw_m4 44 rfl) rfl
theorem q850 : (Jvm.Cond.soleField "java/lang/AbstractStringBuilder" "value") ∈ lw_all := lw_g (lw_at lw_m4 46 rfl) rfl
theorem q852 : (Jvm.Cond.soleField "java/lang/AbstractStringBuilder" "coder") ∈ lw_all := lw_g (lw_at lw_m4 48 rfl) rfl
theorem q854 : (Jvm.Cond.soleField "java/lang/AbstractStringBuilder" "maybeLatin1") ∈ lw_all := lw_g (lw_at lw_m4 50 rfl) rfl
theorem q856 : (Jvm.Cond.soleField "java/lang/AbstractStringBuilder" "count") ∈ lw_all := lw_g (lw_at lw_m4 52 rfl) rfl
theorem q863 : (Jvm.Cond.instanceMethod ({ cls := "java/lang/AbstractStringBuilder", name := "append", desc := "(Ljava/lang/String;)Ljava/lang/AbstractStringBuilder;" } : Jvm.MethodName)) ∈ lw_all := lw_g (lw_at lw_m4 59 rfl) rfl
theorem q864 : (Jvm.Cond.code ({ cls := "java/lang/AbstractStringBuilder", name := "append", desc := "(Ljava/lang/String;)Ljava/lang/AbstractStringBuilder;" } : Jvm.MethodName) prog_11_method_22_code (3 : Nat) (Option.some (Jvm.ClassFile.FieldType.object "java/lang/AbstractStringBuilder"))) ∈ lw_all := lw_g (lw_at lw_m4 60 rfl) rfl
theorem q865 : (Jvm.Cond.methodLink "java/lang/AbstractStringBuilder" (204 : Nat) ({ cls := "java/lang/AbstractStringBuilder", name := "appendNull", desc := "()Ljava/lang/AbstractStringBuilder;" } : Jvm.MethodName)) ∈ lw_all := lw_g (lw_at lw_m4 61 rfl) rfl
theorem q866 : (Jvm.Cond.privateMethod ({ cls := "java/lang/AbstractStringBuilder", name := "appendNull", desc := "()Ljava/lang/AbstractStringBuilder;" } : Jvm.MethodName)) ∈ lw_tbl := lw_at lw_m4 62 rfl
theorem q867 : (Jvm.Cond.instanceMethod ({ cls := "java/lang/AbstractStringBuilder", name := "appendNull", desc := "()Ljava/lang/AbstractStringBuilder;" } : Jvm.MethodName)) ∈ lw_all := lw_g (lw_at lw_m4 63 rfl) rfl
theorem q868 : (Jvm.Cond.code ({ cls := "java/lang/AbstractStringBuilder", name := "appendNull", desc := "()Ljava/lang/AbstractStringBuilder;" } : Jvm.MethodName) prog_11_method_26_code (3 : Nat) (Option.some (Jvm.ClassFile.FieldType.object "java/lang/AbstractStringBuilder"))) ∈ lw_all := lw_g (lw_at lw_m4 64 rfl) rfl
theorem q869 : (Jvm.Cond.methodLink "java/lang/AbstractStringBuilder" (100 : Nat) ({ cls := "java/lang/AbstractStringBuilder", name := "ensureCapacityInternal", desc := "(I)V" } : Jvm.MethodName)) ∈ lw_all := lw_g (lw_at lw_m4 65 rfl) rfl
theorem q870 : (Jvm.Cond.privateMethod ({ cls := "java/lang/AbstractStringBuilder", name := "ensureCapacityInternal", desc := "(I)V" } : Jvm.MethodName)) ∈ lw_tbl := lw_at lw_m4 66 rfl
theorem q871 : (Jvm.Cond.instanceMethod ({ cls := "java/lang/AbstractStringBuilder", name := "ensureCapacityInternal", desc := "(I)V" } : Jvm.MethodName)) ∈ lw_all := lw_g (lw_at lw_m4 67 rfl) rfl
theorem q872 : (Jvm.Cond.code ({ cls := "java/lang/AbstractStringBuilder", name := "ensureCapacityInternal", desc := "(I)V" } : Jvm.MethodName) prog_11_method_9_code (3 : Nat) (Option.none : Option Jvm.ClassFile.FieldType)) ∈ lw_all := lw_g (lw_at lw_m4 68 rfl) rfl
theorem q873 : (Jvm.Cond.methodLink "java/lang/AbstractStringBuilder" (104 : Nat) ({ cls := "java/lang/AbstractStringBuilder", name := "newCapacity", desc := "(I)I" } : Jvm.MethodName)) ∈ lw_all := lw_g (lw_at lw_m4 69 rfl) rfl
theorem q874 : (Jvm.Cond.privateMethod ({ cls := "java/lang/AbstractStringBuilder", name := "newCapacity", desc := "(I)I" } : Jvm.MethodName)) ∈ lw_tbl := lw_at lw_m4 70 rfl
theorem q875 : (Jvm.Cond.instanceMethod ({ cls := "java/lang/AbstractStringBuilder", name := "newCapacity", desc := "(I)I" } : Jvm.MethodName)) ∈ lw_all := lw_g (lw_at lw_m4 71 rfl) rfl
theorem q876 : (Jvm.Cond.code ({ cls := "java/lang/AbstractStringBuilder", name := "newCapacity", desc := "(I)I" } : Jvm.MethodName) prog_11_method_10_code (6 : Nat) (Option.some Jvm.ClassFile.FieldType.int)) ∈ lw_all := lw_g (lw_at lw_m4 72 rfl) rfl
theorem q877 : (Jvm.Cond.methodLink "java/lang/AbstractStringBuilder" (114 : Nat) ({ cls := "jdk/internal/util/ArraysSupport", name := "newLength", desc := "(III)I" } : Jvm.MethodName)) ∈ lw_all := lw_g (lw_at lw_m4 73 rfl) rfl
theorem q885 : (Jvm.Cond.constant "java/lang/AbstractStringBuilder" (39 : Nat) (2147483647 : Int32)) ∈ lw_all := lw_g (lw_at lw_m4 81 rfl) rfl
theorem q886 : (Jvm.Cond.methodLink "java/lang/AbstractStringBuilder" (108 : Nat) ({ cls := "java/util/Arrays", name := "copyOf", desc := "([BI)[B" } : Jvm.MethodName)) ∈ lw_all := lw_g (lw_at lw_m4 82 rfl) rfl
theorem q896 : (Jvm.Cond.methodLink "java/lang/AbstractStringBuilder" (83 : Nat) ({ cls := "java/lang/AbstractStringBuilder", name := "isLatin1", desc := "()Z" } : Jvm.MethodName)) ∈ lw_all := lw_g (lw_at lw_m4 92 rfl) rfl
theorem q897 : (Jvm.Cond.instanceMethod ({ cls := "java/lang/AbstractStringBuilder", name := "isLatin1", desc := "()Z" } : Jvm.MethodName)) ∈ lw_all := lw_g (lw_at lw_m4 93 rfl) rfl
theorem q898 : (Jvm.Cond.sameMethod "java/lang/AbstractStringBuilder" "java/lang/AbstractStringBuilder" "isLatin1" "()Z") ∈ lw_all := lw_g (lw_at lw_m4 94 rfl) rfl
theorem q900 : (Jvm.Cond.code ({ cls := "java/lang/AbstractStringBuilder", name := "isLatin1", desc := "()Z" } : Jvm.MethodName) prog_11_method_68_code (1 : Nat) (Option.some Jvm.ClassFile.FieldType.boolean)) ∈ lw_all := lw_g (lw_at lw_m4 96 rfl) rfl
theorem q901 : (Jvm.Cond.methodLink "java/lang/AbstractStringBuilder" (226 : Nat) ({ cls := "java/lang/StringUTF16", name := "putCharsAt", desc := "([BICCCC)I" } : Jvm.MethodName)) ∈ lw_all := lw_g (lw_at lw_m4 97 rfl) rfl
theorem q927 : (Jvm.Cond.methodLink "java/lang/AbstractStringBuilder" (32 : Nat) ({ cls := "java/lang/String", name := "length", desc := "()I" } : Jvm.MethodName)) ∈ lw_all := lw_g (lw_at lw_m4 123 rfl) rfl
theorem q936 : (Jvm.Cond.methodLink "java/lang/AbstractStringBuilder" (208 : Nat) ({ cls := "java/lang/AbstractStringBuilder", name := "putStringAt", desc := "(ILjava/lang/String;)V" } : Jvm.MethodName)) ∈ lw_all := lw_g (lw_at lw_m4 132 rfl) rfl
theorem q937 : (Jvm.Cond.privateMethod ({ cls := "java/lang/AbstractStringBuilder", name := "putStringAt", desc := "(ILjava/lang/String;)V" } : Jvm.MethodName)) ∈ lw_tbl := lw_at lw_m4 133 rfl
theorem q938 : (Jvm.Cond.instanceMethod ({ cls := "java/lang/AbstractStringBuilder", name := "putStringAt", desc := "(ILjava/lang/String;)V" } : Jvm.MethodName)) ∈ lw_all := lw_g (lw_at lw_m4 134 rfl) rfl
theorem q939 : (Jvm.Cond.code ({ cls := "java/lang/AbstractStringBuilder", name := "putStringAt", desc := "(ILjava/lang/String;)V" } : Jvm.MethodName) prog_11_method_73_code (3 : Nat) (Option.none : Option Jvm.ClassFile.FieldType)) ∈ lw_all := lw_g (lw_at lw_m4 135 rfl) rfl
theorem q940 : (Jvm.Cond.methodLink "java/lang/AbstractStringBuilder" (397 : Nat) ({ cls := "java/lang/AbstractStringBuilder", name := "inflateIfNeededFor", desc := "(Ljava/lang/String;)V" } : Jvm.MethodName)) ∈ lw_all := lw_g (lw_at lw_m4 136 rfl) rfl
theorem q941 : (Jvm.Cond.privateMethod ({ cls := "java/lang/AbstractStringBuilder", name := "inflateIfNeededFor", desc := "(Ljava/lang/String;)V" } : Jvm.MethodName)) ∈ lw_tbl := lw_at lw_m4 137 rfl
theorem q942 : (Jvm.Cond.instanceMethod ({ cls := "java/lang/AbstractStringBuilder", name := "inflateIfNeededFor", desc := "(Ljava/lang/String;)V" } : Jvm.MethodName)) ∈ lw_all := lw_g (lw_at lw_m4 138 rfl) rfl
theorem q943 : (Jvm.Cond.code ({ cls := "java/lang/AbstractStringBuilder", name := "inflateIfNeededFor", desc := "(Ljava/lang/String;)V" } : Jvm.MethodName) prog_11_method_71_code (2 : Nat) (Option.none : Option Jvm.ClassFile.FieldType)) ∈ lw_all := lw_g (lw_at lw_m4 139 rfl) rfl
theorem q944 : (Jvm.Cond.methodLink "java/lang/AbstractStringBuilder" (40 : Nat) ({ cls := "java/lang/String", name := "coder", desc := "()B" } : Jvm.MethodName)) ∈ lw_all := lw_g (lw_at lw_m4 140 rfl) rfl
theorem q945 : (Jvm.Cond.methodLink "java/lang/AbstractStringBuilder" (195 : Nat) ({ cls := "java/lang/AbstractStringBuilder", name := "inflate", desc := "()V" } : Jvm.MethodName)) ∈ lw_all := lw_g (lw_at lw_m4 141 rfl) rfl
theorem q946 : (Jvm.Cond.privateMethod ({ cls := "java/lang/AbstractStringBuilder", name := "inflate", desc := "()V" } : Jvm.MethodName)) ∈ lw_tbl := lw_at lw_m4 142 rfl
theorem q947 : (Jvm.Cond.instanceMethod ({ cls := "java/lang/AbstractStringBuilder", name := "inflate", desc := "()V" } : Jvm.MethodName)) ∈ lw_all := lw_g (lw_at lw_m4 143 rfl) rfl
theorem q948 : (Jvm.Cond.code ({ cls := "java/lang/AbstractStringBuilder", name := "inflate", desc := "()V" } : Jvm.MethodName) prog_11_method_11_code (2 : Nat) (Option.none : Option Jvm.ClassFile.FieldType)) ∈ lw_all := lw_g (lw_at lw_m4 144 rfl) rfl
theorem q949 : (Jvm.Cond.methodLink "java/lang/AbstractStringBuilder" (125 : Nat) ({ cls := "java/lang/StringLatin1", name := "inflate", desc := "([BI[BII)V" } : Jvm.MethodName)) ∈ lw_all := lw_g (lw_at lw_m4 145 rfl) rfl
theorem q964 : (Jvm.Cond.methodLink "java/lang/AbstractStringBuilder" (399 : Nat) ({ cls := "java/lang/String", name := "getBytes", desc := "([BIB)V" } : Jvm.MethodName)) ∈ lw_all := lw_g (lw_at lw_m4 160 rfl) rfl
theorem q985 : (Jvm.Cond.instanceMethod ({ cls := "java/lang/AbstractStringBuilder", name := "getValue", desc := "()[B" } : Jvm.MethodName)) ∈ lw_all := lw_g (lw_at lw_m4 181 rfl) rfl
theorem q986 : (Jvm.Cond.sameMethod "java/lang/AbstractStringBuilder" "java/lang/AbstractStringBuilder" "getValue" "()[B") ∈ lw_all := lw_g (lw_at lw_m4 182 rfl) rfl
theorem q988 : (Jvm.Cond.code ({ cls := "java/lang/AbstractStringBuilder", name := "getValue", desc := "()[B" } : Jvm.MethodName) prog_11_method_64_code (1 : Nat) (Option.some (Jvm.ClassFile.FieldType.array Jvm.ClassFile.FieldType.byte))) ∈ lw_all := lw_g (lw_at lw_m4 184 rfl) rfl
theorem q990 : (Jvm.Cond.instanceMethod ({ cls := "java/lang/AbstractStringBuilder", name := "length", desc := "()I" } : Jvm.MethodName)) ∈ lw_all := lw_g (lw_at lw_m4 186 rfl) rfl
theorem q991 : (Jvm.Cond.sameMethod "java/lang/AbstractStringBuilder" "java/lang/AbstractStringBuilder" "length" "()I") ∈ lw_all := lw_g (lw_at lw_m4 187 rfl) rfl
theorem q996 : (Jvm.Cond.code ({ cls := "java/lang/AbstractStringBuilder", name := "length", desc := "()I" } : Jvm.MethodName) prog_11_method_6_code (1 : Nat) (Option.some Jvm.ClassFile.FieldType.int)) ∈ lw_all := lw_g (lw_at lw_m4 192 rfl) rfl
theorem q2142 : (Jvm.Cond.sameMethod "java/lang/AbstractStringBuilder" "java/lang/AbstractStringBuilder" "append" "(Ljava/lang/String;)Ljava/lang/AbstractStringBuilder;") ∈ lw_all := lw_g (lw_at lw_m9 138 rfl) rfl
theorem q2143 : (Jvm.Cond.sameMethod "java/lang/AbstractStringBuilder" "java/lang/AbstractStringBuilder" "appendNull" "()Ljava/lang/AbstractStringBuilder;") ∈ lw_all := lw_g (lw_at lw_m9 139 rfl) rfl
theorem q2144 : (Jvm.Cond.sameMethod "java/lang/AbstractStringBuilder" "java/lang/AbstractStringBuilder" "ensureCapacityInternal" "(I)V") ∈ lw_all := lw_g (lw_at lw_m9 140 rfl) rfl
theorem q2145 : (Jvm.Cond.sameMethod "java/lang/AbstractStringBuilder" "java/lang/AbstractStringBuilder" "newCapacity" "(I)I") ∈ lw_all := lw_g (lw_at lw_m9 141 rfl) rfl
theorem q2146 : (Jvm.Cond.sameMethod "java/lang/AbstractStringBuilder" "java/lang/AbstractStringBuilder" "putStringAt" "(ILjava/lang/String;)V") ∈ lw_all := lw_g (lw_at lw_m9 142 rfl) rfl
theorem q2147 : (Jvm.Cond.sameMethod "java/lang/AbstractStringBuilder" "java/lang/AbstractStringBuilder" "inflateIfNeededFor" "(Ljava/lang/String;)V") ∈ lw_all := lw_g (lw_at lw_m9 143 rfl) rfl
theorem q2148 : (Jvm.Cond.sameMethod "java/lang/AbstractStringBuilder" "java/lang/AbstractStringBuilder" "inflate" "()V") ∈ lw_all := lw_g (lw_at lw_m9 144 rfl) rfl
/-! java/lang/StringBuilder -/
def RJ24 : String := "java/lang/StringBuilder"
def TJ24 : u_T := fun k => match k with
  | 0 => ("java/lang/AbstractStringBuilder", "value", "[B", false)
  | 1 => ("java/lang/AbstractStringBuilder", "coder", "B", false)
  | 2 => ("java/lang/AbstractStringBuilder", "maybeLatin1", "Z", false)
  | _ => ("java/lang/AbstractStringBuilder", "count", "I", false)
def tyJ24 : Nat → FieldType := fun k => match k with
  | 0 => .array .byte
  | 1 => .byte
  | 2 => .boolean
  | _ => .int
abbrev wsJ240 : List Cond := u_ws RJ24 TJ24 4
theorem nmJ24 : ∀ a, a < 4 → ∀ b, b < 4 → a ≠ b → (TJ24 a).2.1 ≠ (TJ24 b).2.1 := by decide +kernel
theorem tyJ24_ok : ∀ k, k < 4 → parseFieldDescriptor (TJ24 k).2.2.1 = some (tyJ24 k) := by decide +kernel
abbrev cJ24_init : ByteArray := prog_26_method_1_code
def yJ24_init : MethodName := ⟨RJ24, "<init>", "()V"⟩
abbrev cJ24_append : ByteArray := prog_26_method_7_code
def yJ24_append : MethodName := ⟨RJ24, "append", "(Ljava/lang/String;)Ljava/lang/StringBuilder;"⟩
abbrev cJ24_toString : ByteArray := prog_26_method_42_code
def yJ24_toString : MethodName := ⟨RJ24, "toString", "()Ljava/lang/String;"⟩
abbrev cJ24_length : ByteArray := prog_26_method_93_code
def yJ24_length : MethodName := ⟨RJ24, "length", "()I"⟩
theorem q116 : (Jvm.Cond.initialized "java/lang/StringBuilder") ∈ lw_all := lw_g (lw_at lw_m1 32 rfl) rfl
theorem q272 : (Jvm.Cond.selects "java/lang/StringBuilder" ({ cls := "java/lang/Object", name := "getClass", desc := "()Ljava/lang/Class;" } : Jvm.MethodName) ({ cls := "java/lang/Object", name := "getClass", desc := "()Ljava/lang/Class;" } : Jvm.MethodName)) ∈ lw_all := lw_g (lw_at lw_m1 188 rfl) rfl
theorem q828 : (Jvm.Cond.instantiable "java/lang/StringBuilder" (4 : Nat)) ∈ lw_all := lw_g (lw_at lw_m4 24 rfl) rfl
theorem q830 : (Jvm.Cond.instanceMethod ({ cls := "java/lang/StringBuilder", name := "<init>", desc := "()V" } : Jvm.MethodName)) ∈ lw_all := lw_g (lw_at lw_m4 26 rfl) rfl
theorem q831 : (Jvm.Cond.code ({ cls := "java/lang/StringBuilder", name := "<init>", desc := "()V" } : Jvm.MethodName) prog_26_method_1_code (1 : Nat) (Option.none : Option Jvm.ClassFile.FieldType)) ∈ lw_all := lw_g (lw_at lw_m4 27 rfl) rfl
theorem q832 : (Jvm.Cond.methodLink "java/lang/StringBuilder" (1 : Nat) ({ cls := "java/lang/AbstractStringBuilder", name := "<init>", desc := "(I)V" } : Jvm.MethodName)) ∈ lw_all := lw_g (lw_at lw_m4 28 rfl) rfl
theorem q849 : (Jvm.Cond.lays "java/lang/StringBuilder" "java/lang/AbstractStringBuilder" "value" "[B") ∈ lw_all := lw_g (lw_at lw_m4 45 rfl) rfl
theorem q851 : (Jvm.Cond.lays "java/lang/StringBuilder" "java/lang/AbstractStringBuilder" "coder" "B") ∈ lw_all := lw_g (lw_at lw_m4 47 rfl) rfl
theorem q853 : (Jvm.Cond.lays "java/lang/StringBuilder" "java/lang/AbstractStringBuilder" "maybeLatin1" "Z") ∈ lw_all := lw_g (lw_at lw_m4 49 rfl) rfl
theorem q855 : (Jvm.Cond.lays "java/lang/StringBuilder" "java/lang/AbstractStringBuilder" "count" "I") ∈ lw_all := lw_g (lw_at lw_m4 51 rfl) rfl
theorem q857 : (Jvm.Cond.superclass "java/lang/StringBuilder" "java/lang/AbstractStringBuilder") ∈ lw_all := lw_g (lw_at lw_m4 53 rfl) rfl
theorem q859 : (Jvm.Cond.instanceMethod ({ cls := "java/lang/StringBuilder", name := "append", desc := "(Ljava/lang/String;)Ljava/lang/StringBuilder;" } : Jvm.MethodName)) ∈ lw_all := lw_g (lw_at lw_m4 55 rfl) rfl
theorem q860 : (Jvm.Cond.selects "java/lang/StringBuilder" ({ cls := "java/lang/StringBuilder", name := "append", desc := "(Ljava/lang/String;)Ljava/lang/StringBuilder;" } : Jvm.MethodName) ({ cls := "java/lang/StringBuilder", name := "append", desc := "(Ljava/lang/String;)Ljava/lang/StringBuilder;" } : Jvm.MethodName)) ∈ lw_all := lw_g (lw_at lw_m4 56 rfl) rfl
theorem q861 : (Jvm.Cond.code ({ cls := "java/lang/StringBuilder", name := "append", desc := "(Ljava/lang/String;)Ljava/lang/StringBuilder;" } : Jvm.MethodName) prog_26_method_7_code (2 : Nat) (Option.some (Jvm.ClassFile.FieldType.object "java/lang/StringBuilder"))) ∈ lw_all := lw_g (lw_at lw_m4 57 rfl) rfl
theorem q862 : (Jvm.Cond.methodLink "java/lang/StringBuilder" (29 : Nat) ({ cls := "java/lang/AbstractStringBuilder", name := "append", desc := "(Ljava/lang/String;)Ljava/lang/AbstractStringBuilder;" } : Jvm.MethodName)) ∈ lw_all := lw_g (lw_at lw_m4 58 rfl) rfl
theorem q899 : (Jvm.Cond.selects "java/lang/StringBuilder" ({ cls := "java/lang/AbstractStringBuilder", name := "isLatin1", desc := "()Z" } : Jvm.MethodName) ({ cls := "java/lang/AbstractStringBuilder", name := "isLatin1", desc := "()Z" } : Jvm.MethodName)) ∈ lw_all := lw_g (lw_at lw_m4 95 rfl) rfl
theorem q972 : (Jvm.Cond.instanceMethod ({ cls := "java/lang/StringBuilder", name := "toString", desc := "()Ljava/lang/String;" } : Jvm.MethodName)) ∈ lw_all := lw_g (lw_at lw_m4 168 rfl) rfl
theorem q973 : (Jvm.Cond.selects "java/lang/StringBuilder" ({ cls := "java/lang/StringBuilder", name := "toString", desc := "()Ljava/lang/String;" } : Jvm.MethodName) ({ cls := "java/lang/StringBuilder", name := "toString", desc := "()Ljava/lang/String;" } : Jvm.MethodName)) ∈ lw_all := lw_g (lw_at lw_m4 169 rfl) rfl
theorem q974 : (Jvm.Cond.code ({ cls := "java/lang/StringBuilder", name := "toString", desc := "()Ljava/lang/String;" } : Jvm.MethodName) prog_26_method_42_code (1 : Nat) (Option.some (Jvm.ClassFile.FieldType.object "java/lang/String"))) ∈ lw_all := lw_g (lw_at lw_m4 170 rfl) rfl
theorem q975 : (Jvm.Cond.classLink "java/lang/StringBuilder" (18 : Nat) "java/lang/String") ∈ lw_all := lw_g (lw_at lw_m4 171 rfl) rfl
theorem q977 : (Jvm.Cond.methodLink "java/lang/StringBuilder" (137 : Nat) ({ cls := "java/lang/String", name := "<init>", desc := "(Ljava/lang/StringBuilder;)V" } : Jvm.MethodName)) ∈ lw_all := lw_g (lw_at lw_m4 173 rfl) rfl
theorem q987 : (Jvm.Cond.selects "java/lang/StringBuilder" ({ cls := "java/lang/AbstractStringBuilder", name := "getValue", desc := "()[B" } : Jvm.MethodName) ({ cls := "java/lang/AbstractStringBuilder", name := "getValue", desc := "()[B" } : Jvm.MethodName)) ∈ lw_all := lw_g (lw_at lw_m4 183 rfl) rfl
theorem q992 : (Jvm.Cond.selects "java/lang/StringBuilder" ({ cls := "java/lang/AbstractStringBuilder", name := "length", desc := "()I" } : Jvm.MethodName) ({ cls := "java/lang/StringBuilder", name := "length", desc := "()I" } : Jvm.MethodName)) ∈ lw_all := lw_g (lw_at lw_m4 188 rfl) rfl
theorem q993 : (Jvm.Cond.instanceMethod ({ cls := "java/lang/StringBuilder", name := "length", desc := "()I" } : Jvm.MethodName)) ∈ lw_all := lw_g (lw_at lw_m4 189 rfl) rfl
theorem q994 : (Jvm.Cond.code ({ cls := "java/lang/StringBuilder", name := "length", desc := "()I" } : Jvm.MethodName) prog_26_method_93_code (1 : Nat) (Option.some Jvm.ClassFile.FieldType.int)) ∈ lw_all := lw_g (lw_at lw_m4 190 rfl) rfl
theorem q995 : (Jvm.Cond.methodLink "java/lang/StringBuilder" (343 : Nat) ({ cls := "java/lang/AbstractStringBuilder", name := "length", desc := "()I" } : Jvm.MethodName)) ∈ lw_all := lw_g (lw_at lw_m4 191 rfl) rfl
theorem q2172 : (Jvm.Cond.castable "java/lang/StringBuilder" "java/lang/Object") ∈ lw_tbl := lw_at lw_m9 168 rfl
theorem in_J24 : ∀ w ∈ wsJ240, w ∈ lw_all := lw_in wsJ240 [849, 851, 853, 855] (by decide +kernel) (by decide +kernel)
/-! java/lang/String -/
def RJ25 : String := "java/lang/String"
def TJ25 : u_T := fun k => match k with
  | 0 => ("java/lang/String", "value", "[B", true)
  | 1 => ("java/lang/String", "coder", "B", true)
  | 2 => ("java/lang/String", "hash", "I", false)
  | _ => ("java/lang/String", "hashIsZero", "Z", false)
def tyJ25 : Nat → FieldType := fun k => match k with
  | 0 => .array .byte
  | 1 => .byte
  | 2 => .int
  | _ => .boolean
abbrev wsJ250 : List Cond := u_ws RJ25 TJ25 4
theorem nmJ25 : ∀ a, a < 4 → ∀ b, b < 4 → a ≠ b → (TJ25 a).2.1 ≠ (TJ25 b).2.1 := by decide +kernel
theorem tyJ25_ok : ∀ k, k < 4 → parseFieldDescriptor (TJ25 k).2.2.1 = some (tyJ25 k) := by decide +kernel
abbrev cJ25_checkBoundsBeginEnd : ByteArray := prog_25_method_158_code
def yJ25_checkBoundsBeginEnd : MethodName := ⟨RJ25, "checkBoundsBeginEnd", "(III)V"⟩
abbrev cJ25_length : ByteArray := prog_25_method_54_code
def yJ25_length : MethodName := ⟨RJ25, "length", "()I"⟩
abbrev cJ25_coder : ByteArray := prog_25_method_152_code
def yJ25_coder : MethodName := ⟨RJ25, "coder", "()B"⟩
abbrev cJ25_checkBoundsOffCount : ByteArray := prog_25_method_157_code
def yJ25_checkBoundsOffCount : MethodName := ⟨RJ25, "checkBoundsOffCount", "(III)I"⟩
abbrev cJ25_getBytes : ByteArray := prog_25_method_147_code
def yJ25_getBytes : MethodName := ⟨RJ25, "getBytes", "([BIB)V"⟩
abbrev cJ25_init : ByteArray := prog_25_method_53_code
def yJ25_init : MethodName := ⟨RJ25, "<init>", "(Ljava/lang/StringBuilder;)V"⟩
abbrev cJ25_init_2 : ByteArray := prog_25_method_150_code
def yJ25_init_2 : MethodName := ⟨RJ25, "<init>", "(Ljava/lang/AbstractStringBuilder;Ljava/lang/Void;)V"⟩
abbrev cJ25_indexOf : ByteArray := prog_25_method_79_code
def yJ25_indexOf : MethodName := ⟨RJ25, "indexOf", "(I)I"⟩
abbrev cJ25_indexOf_2 : ByteArray := prog_25_method_80_code
def yJ25_indexOf_2 : MethodName := ⟨RJ25, "indexOf", "(II)I"⟩
abbrev cJ25_isLatin1 : ByteArray := prog_25_method_154_code
def yJ25_isLatin1 : MethodName := ⟨RJ25, "isLatin1", "()Z"⟩
theorem q117 : (Jvm.Cond.initialized "java/lang/String") ∈ lw_all := lw_g (lw_at lw_m1 33 rfl) rfl
theorem q271 : (Jvm.Cond.selects "java/lang/String" ({ cls := "java/lang/Object", name := "getClass", desc := "()Ljava/lang/Class;" } : Jvm.MethodName) ({ cls := "java/lang/Object", name := "getClass", desc := "()Ljava/lang/Class;" } : Jvm.MethodName)) ∈ lw_all := lw_g (lw_at lw_m1 187 rfl) rfl
theorem q837 : (Jvm.Cond.laysStatic "java/lang/String" "COMPACT_STRINGS" "Z") ∈ lw_tbl := lw_at lw_m4 33 rfl
theorem q847 : (Jvm.Cond.fieldLink "java/lang/String" (1048 : Nat) "java/lang/AbstractStringBuilder" "maybeLatin1" "Z") ∈ lw_all := lw_g (lw_at lw_m4 43 rfl) rfl
theorem q911 : (Jvm.Cond.static ({ cls := "java/lang/String", name := "checkBoundsBeginEnd", desc := "(III)V" } : Jvm.MethodName)) ∈ lw_all := lw_g (lw_at lw_m4 107 rfl) rfl
theorem q912 : (Jvm.Cond.code ({ cls := "java/lang/String", name := "checkBoundsBeginEnd", desc := "(III)V" } : Jvm.MethodName) prog_25_method_158_code (3 : Nat) (Option.none : Option Jvm.ClassFile.FieldType)) ∈ lw_all := lw_g (lw_at lw_m4 108 rfl) rfl
theorem q913 : (Jvm.Cond.fieldLink "java/lang/String" (1053 : Nat) "jdk/internal/util/Preconditions" "SIOOBE_FORMATTER" "Ljava/util/function/BiFunction;") ∈ lw_all := lw_g (lw_at lw_m4 109 rfl) rfl
theorem q915 : (Jvm.Cond.methodLink "java/lang/String" (1062 : Nat) ({ cls := "jdk/internal/util/Preconditions", name := "checkFromToIndex", desc := "(IIILjava/util/function/BiFunction;)I" } : Jvm.MethodName)) ∈ lw_all := lw_g (lw_at lw_m4 111 rfl) rfl
theorem q928 : (Jvm.Cond.instanceMethod ({ cls := "java/lang/String", name := "length", desc := "()I" } : Jvm.MethodName)) ∈ lw_all := lw_g (lw_at lw_m4 124 rfl) rfl
theorem q929 : (Jvm.Cond.selects "java/lang/String" ({ cls := "java/lang/String", name := "length", desc := "()I" } : Jvm.MethodName) ({ cls := "java/lang/String", name := "length", desc := "()I" } : Jvm.MethodName)) ∈ lw_all := lw_g (lw_at lw_m4 125 rfl) rfl
theorem q930 : (Jvm.Cond.code ({ cls := "java/lang/String", name := "length", desc := "()I" } : Jvm.MethodName) prog_25_method_54_code (1 : Nat) (Option.some Jvm.ClassFile.FieldType.int)) ∈ lw_all := lw_g (lw_at lw_m4 126 rfl) rfl
theorem q931 : (Jvm.Cond.methodLink "java/lang/String" (335 : Nat) ({ cls := "java/lang/String", name := "coder", desc := "()B" } : Jvm.MethodName)) ∈ lw_all := lw_g (lw_at lw_m4 127 rfl) rfl
theorem q932 : (Jvm.Cond.instanceMethod ({ cls := "java/lang/String", name := "coder", desc := "()B" } : Jvm.MethodName)) ∈ lw_all := lw_g (lw_at lw_m4 128 rfl) rfl
theorem q933 : (Jvm.Cond.selects "java/lang/String" ({ cls := "java/lang/String", name := "coder", desc := "()B" } : Jvm.MethodName) ({ cls := "java/lang/String", name := "coder", desc := "()B" } : Jvm.MethodName)) ∈ lw_all := lw_g (lw_at lw_m4 129 rfl) rfl
theorem q934 : (Jvm.Cond.code ({ cls := "java/lang/String", name := "coder", desc := "()B" } : Jvm.MethodName) prog_25_method_152_code (1 : Nat) (Option.some Jvm.ClassFile.FieldType.byte)) ∈ lw_all := lw_g (lw_at lw_m4 130 rfl) rfl
theorem q935 : (Jvm.Cond.fieldLink "java/lang/String" (38 : Nat) "java/lang/String" "COMPACT_STRINGS" "Z") ∈ lw_all := lw_g (lw_at lw_m4 131 rfl) rfl
theorem q959 : (Jvm.Cond.static ({ cls := "java/lang/String", name := "checkBoundsOffCount", desc := "(III)I" } : Jvm.MethodName)) ∈ lw_all := lw_g (lw_at lw_m4 155 rfl) rfl
theorem q960 : (Jvm.Cond.code ({ cls := "java/lang/String", name := "checkBoundsOffCount", desc := "(III)I" } : Jvm.MethodName) prog_25_method_157_code (3 : Nat) (Option.some Jvm.ClassFile.FieldType.int)) ∈ lw_all := lw_g (lw_at lw_m4 156 rfl) rfl
theorem q961 : (Jvm.Cond.methodLink "java/lang/String" (1065 : Nat) ({ cls := "jdk/internal/util/Preconditions", name := "checkFromIndexSize", desc := "(IIILjava/util/function/BiFunction;)I" } : Jvm.MethodName)) ∈ lw_all := lw_g (lw_at lw_m4 157 rfl) rfl
theorem q965 : (Jvm.Cond.instanceMethod ({ cls := "java/lang/String", name := "getBytes", desc := "([BIB)V" } : Jvm.MethodName)) ∈ lw_all := lw_g (lw_at lw_m4 161 rfl) rfl
theorem q966 : (Jvm.Cond.selects "java/lang/String" ({ cls := "java/lang/String", name := "getBytes", desc := "([BIB)V" } : Jvm.MethodName) ({ cls := "java/lang/String", name := "getBytes", desc := "([BIB)V" } : Jvm.MethodName)) ∈ lw_all := lw_g (lw_at lw_m4 162 rfl) rfl
theorem q967 : (Jvm.Cond.code ({ cls := "java/lang/String", name := "getBytes", desc := "([BIB)V" } : Jvm.MethodName) prog_25_method_147_code (4 : Nat) (Option.none : Option Jvm.ClassFile.FieldType)) ∈ lw_all := lw_g (lw_at lw_m4 163 rfl) rfl
theorem q968 : (Jvm.Cond.methodLink "java/lang/String" (212 : Nat) ({ cls := "java/lang/System", name := "arraycopy", desc := "(Ljava/lang/Object;ILjava/lang/Object;II)V" } : Jvm.MethodName)) ∈ lw_all := lw_g (lw_at lw_m4 164 rfl) rfl
theorem q969 : (Jvm.Cond.methodLink "java/lang/String" (106 : Nat) ({ cls := "java/lang/StringLatin1", name := "inflate", desc := "([BI[BII)V" } : Jvm.MethodName)) ∈ lw_all := lw_g (lw_at lw_m4 165 rfl) rfl
theorem q976 : (Jvm.Cond.instantiable "java/lang/String" (4 : Nat)) ∈ lw_all := lw_g (lw_at lw_m4 172 rfl) rfl
theorem q978 : (Jvm.Cond.instanceMethod ({ cls := "java/lang/String", name := "<init>", desc := "(Ljava/lang/StringBuilder;)V" } : Jvm.MethodName)) ∈ lw_all := lw_g (lw_at lw_m4 174 rfl) rfl
theorem q979 : (Jvm.Cond.code ({ cls := "java/lang/String", name := "<init>", desc := "(Ljava/lang/StringBuilder;)V" } : Jvm.MethodName) prog_25_method_53_code (2 : Nat) (Option.none : Option Jvm.ClassFile.FieldType)) ∈ lw_all := lw_g (lw_at lw_m4 175 rfl) rfl
theorem q980 : (Jvm.Cond.methodLink "java/lang/String" (489 : Nat) ({ cls := "java/lang/String", name := "<init>", desc := "(Ljava/lang/AbstractStringBuilder;Ljava/lang/Void;)V" } : Jvm.MethodName)) ∈ lw_all := lw_g (lw_at lw_m4 176 rfl) rfl
theorem q981 : (Jvm.Cond.instanceMethod ({ cls := "java/lang/String", name := "<init>", desc := "(Ljava/lang/AbstractStringBuilder;Ljava/lang/Void;)V" } : Jvm.MethodName)) ∈ lw_all := lw_g (lw_at lw_m4 177 rfl) rfl
theorem q982 : (Jvm.Cond.code ({ cls := "java/lang/String", name := "<init>", desc := "(Ljava/lang/AbstractStringBuilder;Ljava/lang/Void;)V" } : Jvm.MethodName) prog_25_method_150_code (5 : Nat) (Option.none : Option Jvm.ClassFile.FieldType)) ∈ lw_all := lw_g (lw_at lw_m4 178 rfl) rfl
theorem q983 : (Jvm.Cond.methodLink "java/lang/String" (1 : Nat) ({ cls := "java/lang/Object", name := "<init>", desc := "()V" } : Jvm.MethodName)) ∈ lw_all := lw_g (lw_at lw_m4 179 rfl) rfl
theorem q984 : (Jvm.Cond.methodLink "java/lang/String" (552 : Nat) ({ cls := "java/lang/AbstractStringBuilder", name := "getValue", desc := "()[B" } : Jvm.MethodName)) ∈ lw_all := lw_g (lw_at lw_m4 180 rfl) rfl
theorem q989 : (Jvm.Cond.methodLink "java/lang/String" (549 : Nat) ({ cls := "java/lang/AbstractStringBuilder", name := "length", desc := "()I" } : Jvm.MethodName)) ∈ lw_all := lw_g (lw_at lw_m4 185 rfl) rfl
theorem q997 : (Jvm.Cond.methodLink "java/lang/String" (1047 : Nat) ({ cls := "java/lang/AbstractStringBuilder", name := "isLatin1", desc := "()Z" } : Jvm.MethodName)) ∈ lw_all := lw_g (lw_at lw_m4 193 rfl) rfl
theorem q998 : (Jvm.Cond.methodLink "java/lang/String" (54 : Nat) ({ cls := "java/util/Arrays", name := "copyOfRange", desc := "([BII)[B" } : Jvm.MethodName)) ∈ lw_all := lw_g (lw_at lw_m4 194 rfl) rfl
theorem q1007 : (Jvm.Cond.methodLink "java/lang/String" (1051 : Nat) ({ cls := "java/lang/StringUTF16", name := "compress", desc := "([BII)[B" } : Jvm.MethodName)) ∈ lw_all := lw_g (lw_at lw_m4 203 rfl) rfl
theorem q1017 : (Jvm.Cond.methodLink "java/lang/String" (47 : Nat) ({ cls := "java/lang/StringUTF16", name := "coderFromArrayLen", desc := "([BI)B" } : Jvm.MethodName)) ∈ lw_all := lw_g (lw_at lw_m4 213 rfl) rfl
theorem q1020 : (Jvm.Cond.fieldLink "java/lang/String" (9 : Nat) "java/lang/String" "value" "[B") ∈ lw_all := lw_g (lw_at lw_m4 216 rfl) rfl
theorem q1021 : (Jvm.Cond.fieldLink "java/lang/String" (15 : Nat) "java/lang/String" "coder" "B") ∈ lw_all := lw_g (lw_at lw_m4 217 rfl) rfl
theorem q1022 : (Jvm.Cond.laysFinal "java/lang/String" "java/lang/String" "value" "[B") ∈ lw_all := lw_g (lw_at lw_m4 218 rfl) rfl
theorem q1023 : (Jvm.Cond.soleField "java/lang/String" "value") ∈ lw_all := lw_g (lw_at lw_m4 219 rfl) rfl
theorem q1024 : (Jvm.Cond.laysFinal "java/lang/String" "java/lang/String" "coder" "B") ∈ lw_all := lw_g (lw_at lw_m4 220 rfl) rfl
theorem q1025 : (Jvm.Cond.soleField "java/lang/String" "coder") ∈ lw_all := lw_g (lw_at lw_m4 221 rfl) rfl
theorem q1026 : (Jvm.Cond.lays "java/lang/String" "java/lang/String" "hash" "I") ∈ lw_all := lw_g (lw_at lw_m4 222 rfl) rfl
theorem q1027 : (Jvm.Cond.soleField "java/lang/String" "hash") ∈ lw_all := lw_g (lw_at lw_m4 223 rfl) rfl
theorem q1028 : (Jvm.Cond.lays "java/lang/String" "java/lang/String" "hashIsZero" "Z") ∈ lw_all := lw_g (lw_at lw_m4 224 rfl) rfl
theorem q1029 : (Jvm.Cond.soleField "java/lang/String" "hashIsZero") ∈ lw_all := lw_g (lw_at lw_m4 225 rfl) rfl
theorem q1030 : (Jvm.Cond.superclass "java/lang/String" "java/lang/Object") ∈ lw_all := lw_g (lw_at lw_m4 226 rfl) rfl
theorem q1507 : (Jvm.Cond.instanceMethod ({ cls := "java/lang/String", name := "indexOf", desc := "(I)I" } : Jvm.MethodName)) ∈ lw_all := lw_g (lw_at lw_m6 223 rfl) rfl
theorem q1508 : (Jvm.Cond.selects "java/lang/String" ({ cls := "java/lang/String", name := "indexOf", desc := "(I)I" } : Jvm.MethodName) ({ cls := "java/lang/String", name := "indexOf", desc := "(I)I" } : Jvm.MethodName)) ∈ lw_all := lw_g (lw_at lw_m6 224 rfl) rfl
theorem q1509 : (Jvm.Cond.code ({ cls := "java/lang/String", name := "indexOf", desc := "(I)I" } : Jvm.MethodName) prog_25_method_79_code (2 : Nat) (Option.some Jvm.ClassFile.FieldType.int)) ∈ lw_all := lw_g (lw_at lw_m6 225 rfl) rfl
theorem q1510 : (Jvm.Cond.methodLink "java/lang/String" (633 : Nat) ({ cls := "java/lang/String", name := "indexOf", desc := "(II)I" } : Jvm.MethodName)) ∈ lw_all := lw_g (lw_at lw_m6 226 rfl) rfl
theorem q1511 : (Jvm.Cond.instanceMethod ({ cls := "java/lang/String", name := "indexOf", desc := "(II)I" } : Jvm.MethodName)) ∈ lw_all := lw_g (lw_at lw_m6 227 rfl) rfl
theorem q1512 : (Jvm.Cond.selects "java/lang/String" ({ cls := "java/lang/String", name := "indexOf", desc := "(II)I" } : Jvm.MethodName) ({ cls := "java/lang/String", name := "indexOf", desc := "(II)I" } : Jvm.MethodName)) ∈ lw_all := lw_g (lw_at lw_m6 228 rfl) rfl
theorem q1513 : (Jvm.Cond.code ({ cls := "java/lang/String", name := "indexOf", desc := "(II)I" } : Jvm.MethodName) prog_25_method_80_code (3 : Nat) (Option.some Jvm.ClassFile.FieldType.int)) ∈ lw_all := lw_g (lw_at lw_m6 229 rfl) rfl
theorem q1514 : (Jvm.Cond.methodLink "java/lang/String" (492 : Nat) ({ cls := "java/lang/String", name := "isLatin1", desc := "()Z" } : Jvm.MethodName)) ∈ lw_all := lw_g (lw_at lw_m6 230 rfl) rfl
theorem q1515 : (Jvm.Cond.instanceMethod ({ cls := "java/lang/String", name := "isLatin1", desc := "()Z" } : Jvm.MethodName)) ∈ lw_all := lw_g (lw_at lw_m6 231 rfl) rfl
theorem q1516 : (Jvm.Cond.selects "java/lang/String" ({ cls := "java/lang/String", name := "isLatin1", desc := "()Z" } : Jvm.MethodName) ({ cls := "java/lang/String", name := "isLatin1", desc := "()Z" } : Jvm.MethodName)) ∈ lw_all := lw_g (lw_at lw_m6 232 rfl) rfl
theorem q1517 : (Jvm.Cond.code ({ cls := "java/lang/String", name := "isLatin1", desc := "()Z" } : Jvm.MethodName) prog_25_method_154_code (1 : Nat) (Option.some Jvm.ClassFile.FieldType.boolean)) ∈ lw_all := lw_g (lw_at lw_m6 233 rfl) rfl
theorem q1518 : (Jvm.Cond.methodLink "java/lang/String" (505 : Nat) ({ cls := "java/lang/String", name := "length", desc := "()I" } : Jvm.MethodName)) ∈ lw_all := lw_g (lw_at lw_m6 234 rfl) rfl
theorem q1519 : (Jvm.Cond.methodLink "java/lang/String" (637 : Nat) ({ cls := "java/lang/StringLatin1", name := "indexOf", desc := "([BIII)I" } : Jvm.MethodName)) ∈ lw_all := lw_g (lw_at lw_m6 235 rfl) rfl
theorem q1530 : (Jvm.Cond.methodLink "java/lang/String" (640 : Nat) ({ cls := "java/lang/StringUTF16", name := "indexOf", desc := "([BIII)I" } : Jvm.MethodName)) ∈ lw_all := lw_g (lw_at lw_m7 6 rfl) rfl
theorem q2173 : (Jvm.Cond.castable "java/lang/String" "java/lang/Object") ∈ lw_tbl := lw_at lw_m9 169 rfl
theorem in_J25 : ∀ w ∈ wsJ250, w ∈ lw_all := lw_in wsJ250 [1022, 1024, 1026, 1028] (by decide +kernel) (by decide +kernel)
/-! java/lang/StringUTF16 -/
def RJ26 : String := "java/lang/StringUTF16"
abbrev cJ26_newBytesFor : ByteArray := prog_28_method_2_code
def yJ26_newBytesFor : MethodName := ⟨RJ26, "newBytesFor", "(I)[B"⟩
abbrev cJ26_newBytesLength : ByteArray := prog_28_method_3_code
def yJ26_newBytesLength : MethodName := ⟨RJ26, "newBytesLength", "(I)I"⟩
abbrev cJ26_putCharsAt : ByteArray := prog_28_method_81_code
def yJ26_putCharsAt : MethodName := ⟨RJ26, "putCharsAt", "([BICCCC)I"⟩
abbrev cJ26_checkBoundsBeginEnd : ByteArray := prog_28_method_93_code
def yJ26_checkBoundsBeginEnd : MethodName := ⟨RJ26, "checkBoundsBeginEnd", "(II[B)V"⟩
abbrev cJ26_length : ByteArray := prog_28_method_6_code
def yJ26_length : MethodName := ⟨RJ26, "length", "([B)I"⟩
abbrev cJ26_putChar : ByteArray := prog_28_method_4_code
def yJ26_putChar : MethodName := ⟨RJ26, "putChar", "([BII)V"⟩
abbrev cJ26_inflate : ByteArray := prog_28_method_86_code
def yJ26_inflate : MethodName := ⟨RJ26, "inflate", "([BI[BII)V"⟩
abbrev cJ26_checkBoundsOffCount : ByteArray := prog_28_method_94_code
def yJ26_checkBoundsOffCount : MethodName := ⟨RJ26, "checkBoundsOffCount", "(II[B)V"⟩
abbrev cJ26_compress : ByteArray := prog_28_method_17_code
def yJ26_compress : MethodName := ⟨RJ26, "compress", "([BII)[B"⟩
abbrev cJ26_compress_2 : ByteArray := prog_28_method_22_code
def yJ26_compress_2 : MethodName := ⟨RJ26, "compress", "([BI[BII)I"⟩
abbrev cJ26_getChar : ByteArray := prog_28_method_5_code
def yJ26_getChar : MethodName := ⟨RJ26, "getChar", "([BI)C"⟩
abbrev cJ26_coderFromArrayLen : ByteArray := prog_28_method_15_code
def yJ26_coderFromArrayLen : MethodName := ⟨RJ26, "coderFromArrayLen", "([BI)B"⟩
abbrev cJ26_indexOf : ByteArray := prog_28_method_40_code
def yJ26_indexOf : MethodName := ⟨RJ26, "indexOf", "([BIII)I"⟩
abbrev cJ26_indexOfChar : ByteArray := prog_28_method_47_code
def yJ26_indexOfChar : MethodName := ⟨RJ26, "indexOfChar", "([BIII)I"⟩
abbrev cJ26_indexOfCharUnsafe : ByteArray := prog_28_method_48_code
def yJ26_indexOfCharUnsafe : MethodName := ⟨RJ26, "indexOfCharUnsafe", "([BIII)I"⟩
abbrev cJ26_indexOfSupplementary : ByteArray := prog_28_method_49_code
def yJ26_indexOfSupplementary : MethodName := ⟨RJ26, "indexOfSupplementary", "([BIII)I"⟩
theorem q118 : (Jvm.Cond.initialized "java/lang/StringUTF16") ∈ lw_all := lw_g (lw_at lw_m1 34 rfl) rfl
theorem q839 : (Jvm.Cond.static ({ cls := "java/lang/StringUTF16", name := "newBytesFor", desc := "(I)[B" } : Jvm.MethodName)) ∈ lw_all := lw_g (lw_at lw_m4 35 rfl) rfl
theorem q840 : (Jvm.Cond.code ({ cls := "java/lang/StringUTF16", name := "newBytesFor", desc := "(I)[B" } : Jvm.MethodName) prog_28_method_2_code (1 : Nat) (Option.some (Jvm.ClassFile.FieldType.array Jvm.ClassFile.FieldType.byte))) ∈ lw_all := lw_g (lw_at lw_m4 36 rfl) rfl
theorem q841 : (Jvm.Cond.methodLink "java/lang/StringUTF16" (11 : Nat) ({ cls := "java/lang/StringUTF16", name := "newBytesLength", desc := "(I)I" } : Jvm.MethodName)) ∈ lw_all := lw_g (lw_at lw_m4 37 rfl) rfl
theorem q842 : (Jvm.Cond.static ({ cls := "java/lang/StringUTF16", name := "newBytesLength", desc := "(I)I" } : Jvm.MethodName)) ∈ lw_all := lw_g (lw_at lw_m4 38 rfl) rfl
theorem q843 : (Jvm.Cond.code ({ cls := "java/lang/StringUTF16", name := "newBytesLength", desc := "(I)I" } : Jvm.MethodName) prog_28_method_3_code (1 : Nat) (Option.some Jvm.ClassFile.FieldType.int)) ∈ lw_all := lw_g (lw_at lw_m4 39 rfl) rfl
theorem q844 : (Jvm.Cond.constant "java/lang/StringUTF16" (20 : Nat) (1073741823 : Int32)) ∈ lw_all := lw_g (lw_at lw_m4 40 rfl) rfl
theorem q902 : (Jvm.Cond.static ({ cls := "java/lang/StringUTF16", name := "putCharsAt", desc := "([BICCCC)I" } : Jvm.MethodName)) ∈ lw_all := lw_g (lw_at lw_m4 98 rfl) rfl
theorem q903 : (Jvm.Cond.code ({ cls := "java/lang/StringUTF16", name := "putCharsAt", desc := "([BICCCC)I" } : Jvm.MethodName) prog_28_method_81_code (7 : Nat) (Option.some Jvm.ClassFile.FieldType.int)) ∈ lw_all := lw_g (lw_at lw_m4 99 rfl) rfl
theorem q904 : (Jvm.Cond.methodLink "java/lang/StringUTF16" (96 : Nat) ({ cls := "java/lang/StringUTF16", name := "checkBoundsBeginEnd", desc := "(II[B)V" } : Jvm.MethodName)) ∈ lw_all := lw_g (lw_at lw_m4 100 rfl) rfl
theorem q905 : (Jvm.Cond.static ({ cls := "java/lang/StringUTF16", name := "checkBoundsBeginEnd", desc := "(II[B)V" } : Jvm.MethodName)) ∈ lw_all := lw_g (lw_at lw_m4 101 rfl) rfl
theorem q906 : (Jvm.Cond.code ({ cls := "java/lang/StringUTF16", name := "checkBoundsBeginEnd", desc := "(II[B)V" } : Jvm.MethodName) prog_28_method_93_code (3 : Nat) (Option.none : Option Jvm.ClassFile.FieldType)) ∈ lw_all := lw_g (lw_at lw_m4 102 rfl) rfl
theorem q907 : (Jvm.Cond.methodLink "java/lang/StringUTF16" (48 : Nat) ({ cls := "java/lang/StringUTF16", name := "length", desc := "([B)I" } : Jvm.MethodName)) ∈ lw_all := lw_g (lw_at lw_m4 103 rfl) rfl
theorem q908 : (Jvm.Cond.static ({ cls := "java/lang/StringUTF16", name := "length", desc := "([B)I" } : Jvm.MethodName)) ∈ lw_all := lw_g (lw_at lw_m4 104 rfl) rfl
theorem q909 : (Jvm.Cond.code ({ cls := "java/lang/StringUTF16", name := "length", desc := "([B)I" } : Jvm.MethodName) prog_28_method_6_code (1 : Nat) (Option.some Jvm.ClassFile.FieldType.int)) ∈ lw_all := lw_g (lw_at lw_m4 105 rfl) rfl
theorem q910 : (Jvm.Cond.methodLink "java/lang/StringUTF16" (241 : Nat) ({ cls := "java/lang/String", name := "checkBoundsBeginEnd", desc := "(III)V" } : Jvm.MethodName)) ∈ lw_all := lw_g (lw_at lw_m4 106 rfl) rfl
theorem q918 : (Jvm.Cond.methodLink "java/lang/StringUTF16" (111 : Nat) ({ cls := "java/lang/StringUTF16", name := "putChar", desc := "([BII)V" } : Jvm.MethodName)) ∈ lw_all := lw_g (lw_at lw_m4 114 rfl) rfl
theorem q919 : (Jvm.Cond.static ({ cls := "java/lang/StringUTF16", name := "putChar", desc := "([BII)V" } : Jvm.MethodName)) ∈ lw_all := lw_g (lw_at lw_m4 115 rfl) rfl
theorem q920 : (Jvm.Cond.code ({ cls := "java/lang/StringUTF16", name := "putChar", desc := "([BII)V" } : Jvm.MethodName) prog_28_method_4_code (3 : Nat) (Option.none : Option Jvm.ClassFile.FieldType)) ∈ lw_all := lw_g (lw_at lw_m4 116 rfl) rfl
theorem q921 : (Jvm.Cond.fieldLink "java/lang/StringUTF16" (44 : Nat) "java/lang/StringUTF16" "$assertionsDisabled" "Z") ∈ lw_all := lw_g (lw_at lw_m4 117 rfl) rfl
theorem q922 : (Jvm.Cond.laysStatic "java/lang/StringUTF16" "$assertionsDisabled" "Z") ∈ lw_tbl := lw_at lw_m4 118 rfl
theorem q923 : (Jvm.Cond.fieldLink "java/lang/StringUTF16" (59 : Nat) "java/lang/StringUTF16" "HI_BYTE_SHIFT" "I") ∈ lw_all := lw_g (lw_at lw_m4 119 rfl) rfl
theorem q924 : (Jvm.Cond.laysStatic "java/lang/StringUTF16" "HI_BYTE_SHIFT" "I") ∈ lw_tbl := lw_at lw_m4 120 rfl
theorem q925 : (Jvm.Cond.fieldLink "java/lang/StringUTF16" (63 : Nat) "java/lang/StringUTF16" "LO_BYTE_SHIFT" "I") ∈ lw_all := lw_g (lw_at lw_m4 121 rfl) rfl
theorem q926 : (Jvm.Cond.laysStatic "java/lang/StringUTF16" "LO_BYTE_SHIFT" "I") ∈ lw_tbl := lw_at lw_m4 122 rfl
theorem q953 : (Jvm.Cond.static ({ cls := "java/lang/StringUTF16", name := "inflate", desc := "([BI[BII)V" } : Jvm.MethodName)) ∈ lw_all := lw_g (lw_at lw_m4 149 rfl) rfl
theorem q954 : (Jvm.Cond.code ({ cls := "java/lang/StringUTF16", name := "inflate", desc := "([BI[BII)V" } : Jvm.MethodName) prog_28_method_86_code (6 : Nat) (Option.none : Option Jvm.ClassFile.FieldType)) ∈ lw_all := lw_g (lw_at lw_m4 150 rfl) rfl
theorem q955 : (Jvm.Cond.methodLink "java/lang/StringUTF16" (173 : Nat) ({ cls := "java/lang/StringUTF16", name := "checkBoundsOffCount", desc := "(II[B)V" } : Jvm.MethodName)) ∈ lw_all := lw_g (lw_at lw_m4 151 rfl) rfl
theorem q956 : (Jvm.Cond.static ({ cls := "java/lang/StringUTF16", name := "checkBoundsOffCount", desc := "(II[B)V" } : Jvm.MethodName)) ∈ lw_all := lw_g (lw_at lw_m4 152 rfl) rfl
theorem q957 : (Jvm.Cond.code ({ cls := "java/lang/StringUTF16", name := "checkBoundsOffCount", desc := "(II[B)V" } : Jvm.MethodName) prog_28_method_94_code (3 : Nat) (Option.none : Option Jvm.ClassFile.FieldType)) ∈ lw_all := lw_g (lw_at lw_m4 153 rfl) rfl
theorem q958 : (Jvm.Cond.methodLink "java/lang/StringUTF16" (419 : Nat) ({ cls := "java/lang/String", name := "checkBoundsOffCount", desc := "(III)I" } : Jvm.MethodName)) ∈ lw_all := lw_g (lw_at lw_m4 154 rfl) rfl
theorem q1008 : (Jvm.Cond.static ({ cls := "java/lang/StringUTF16", name := "compress", desc := "([BII)[B" } : Jvm.MethodName)) ∈ lw_all := lw_g (lw_at lw_m4 204 rfl) rfl
theorem q1009 : (Jvm.Cond.code ({ cls := "java/lang/StringUTF16", name := "compress", desc := "([BII)[B" } : Jvm.MethodName) prog_28_method_17_code (6 : Nat) (Option.some (Jvm.ClassFile.FieldType.array Jvm.ClassFile.FieldType.byte))) ∈ lw_all := lw_g (lw_at lw_m4 205 rfl) rfl
theorem q1010 : (Jvm.Cond.methodLink "java/lang/StringUTF16" (123 : Nat) ({ cls := "java/lang/StringUTF16", name := "compress", desc := "([BI[BII)I" } : Jvm.MethodName)) ∈ lw_all := lw_g (lw_at lw_m4 206 rfl) rfl
theorem q1011 : (Jvm.Cond.static ({ cls := "java/lang/StringUTF16", name := "compress", desc := "([BI[BII)I" } : Jvm.MethodName)) ∈ lw_all := lw_g (lw_at lw_m4 207 rfl) rfl
theorem q1012 : (Jvm.Cond.code ({ cls := "java/lang/StringUTF16", name := "compress", desc := "([BI[BII)I" } : Jvm.MethodName) prog_28_method_22_code (7 : Nat) (Option.some Jvm.ClassFile.FieldType.int)) ∈ lw_all := lw_g (lw_at lw_m4 208 rfl) rfl
theorem q1013 : (Jvm.Cond.methodLink "java/lang/StringUTF16" (71 : Nat) ({ cls := "java/lang/StringUTF16", name := "getChar", desc := "([BI)C" } : Jvm.MethodName)) ∈ lw_all := lw_g (lw_at lw_m4 209 rfl) rfl
theorem q1014 : (Jvm.Cond.static ({ cls := "java/lang/StringUTF16", name := "getChar", desc := "([BI)C" } : Jvm.MethodName)) ∈ lw_all := lw_g (lw_at lw_m4 210 rfl) rfl
theorem q1015 : (Jvm.Cond.code ({ cls := "java/lang/StringUTF16", name := "getChar", desc := "([BI)C" } : Jvm.MethodName) prog_28_method_5_code (2 : Nat) (Option.some Jvm.ClassFile.FieldType.char)) ∈ lw_all := lw_g (lw_at lw_m4 211 rfl) rfl
theorem q1016 : (Jvm.Cond.methodLink "java/lang/StringUTF16" (126 : Nat) ({ cls := "java/util/Arrays", name := "copyOfRange", desc := "([BII)[B" } : Jvm.MethodName)) ∈ lw_all := lw_g (lw_at lw_m4 212 rfl) rfl
theorem q1018 : (Jvm.Cond.static ({ cls := "java/lang/StringUTF16", name := "coderFromArrayLen", desc := "([BI)B" } : Jvm.MethodName)) ∈ lw_all := lw_g (lw_at lw_m4 214 rfl) rfl
theorem q1019 : (Jvm.Cond.code ({ cls := "java/lang/StringUTF16", name := "coderFromArrayLen", desc := "([BI)B" } : Jvm.MethodName) prog_28_method_15_code (2 : Nat) (Option.some Jvm.ClassFile.FieldType.byte)) ∈ lw_all := lw_g (lw_at lw_m4 215 rfl) rfl
theorem q1531 : (Jvm.Cond.static ({ cls := "java/lang/StringUTF16", name := "indexOf", desc := "([BIII)I" } : Jvm.MethodName)) ∈ lw_all := lw_g (lw_at lw_m7 7 rfl) rfl
theorem q1532 : (Jvm.Cond.code ({ cls := "java/lang/StringUTF16", name := "indexOf", desc := "([BIII)I" } : Jvm.MethodName) prog_28_method_40_code (4 : Nat) (Option.some Jvm.ClassFile.FieldType.int)) ∈ lw_all := lw_g (lw_at lw_m7 8 rfl) rfl
theorem q1533 : (Jvm.Cond.methodLink "java/lang/StringUTF16" (224 : Nat) ({ cls := "java/lang/Math", name := "max", desc := "(II)I" } : Jvm.MethodName)) ∈ lw_all := lw_g (lw_at lw_m7 9 rfl) rfl
theorem q1534 : (Jvm.Cond.methodLink "java/lang/StringUTF16" (183 : Nat) ({ cls := "java/lang/Math", name := "min", desc := "(II)I" } : Jvm.MethodName)) ∈ lw_all := lw_g (lw_at lw_m7 10 rfl) rfl
theorem q1535 : (Jvm.Cond.constant "java/lang/StringUTF16" (227 : Nat) (65536 : Int32)) ∈ lw_all := lw_g (lw_at lw_m7 11 rfl) rfl
theorem q1536 : (Jvm.Cond.methodLink "java/lang/StringUTF16" (228 : Nat) ({ cls := "java/lang/StringUTF16", name := "indexOfChar", desc := "([BIII)I" } : Jvm.MethodName)) ∈ lw_all := lw_g (lw_at lw_m7 12 rfl) rfl
theorem q1537 : (Jvm.Cond.static ({ cls := "java/lang/StringUTF16", name := "indexOfChar", desc := "([BIII)I" } : Jvm.MethodName)) ∈ lw_all := lw_g (lw_at lw_m7 13 rfl) rfl
theorem q1538 : (Jvm.Cond.code ({ cls := "java/lang/StringUTF16", name := "indexOfChar", desc := "([BIII)I" } : Jvm.MethodName) prog_28_method_47_code (4 : Nat) (Option.some Jvm.ClassFile.FieldType.int)) ∈ lw_all := lw_g (lw_at lw_m7 14 rfl) rfl
theorem q1539 : (Jvm.Cond.methodLink "java/lang/StringUTF16" (244 : Nat) ({ cls := "java/lang/StringUTF16", name := "indexOfCharUnsafe", desc := "([BIII)I" } : Jvm.MethodName)) ∈ lw_all := lw_g (lw_at lw_m7 15 rfl) rfl
theorem q1540 : (Jvm.Cond.static ({ cls := "java/lang/StringUTF16", name := "indexOfCharUnsafe", desc := "([BIII)I" } : Jvm.MethodName)) ∈ lw_all := lw_g (lw_at lw_m7 16 rfl) rfl
theorem q1541 : (Jvm.Cond.code ({ cls := "java/lang/StringUTF16", name := "indexOfCharUnsafe", desc := "([BIII)I" } : Jvm.MethodName) prog_28_method_48_code (5 : Nat) (Option.some Jvm.ClassFile.FieldType.int)) ∈ lw_all := lw_g (lw_at lw_m7 17 rfl) rfl
theorem q1542 : (Jvm.Cond.methodLink "java/lang/StringUTF16" (232 : Nat) ({ cls := "java/lang/StringUTF16", name := "indexOfSupplementary", desc := "([BIII)I" } : Jvm.MethodName)) ∈ lw_all := lw_g (lw_at lw_m7 18 rfl) rfl
theorem q1543 : (Jvm.Cond.static ({ cls := "java/lang/StringUTF16", name := "indexOfSupplementary", desc := "([BIII)I" } : Jvm.MethodName)) ∈ lw_all := lw_g (lw_at lw_m7 19 rfl) rfl
theorem q1544 : (Jvm.Cond.code ({ cls := "java/lang/StringUTF16", name := "indexOfSupplementary", desc := "([BIII)I" } : Jvm.MethodName) prog_28_method_49_code (7 : Nat) (Option.some Jvm.ClassFile.FieldType.int)) ∈ lw_all := lw_g (lw_at lw_m7 20 rfl) rfl
theorem q1545 : (Jvm.Cond.methodLink "java/lang/StringUTF16" (164 : Nat) ({ cls := "java/lang/Character", name := "isValidCodePoint", desc := "(I)Z" } : Jvm.MethodName)) ∈ lw_all := lw_g (lw_at lw_m7 21 rfl) rfl
theorem q1548 : (Jvm.Cond.methodLink "java/lang/StringUTF16" (157 : Nat) ({ cls := "java/lang/Character", name := "highSurrogate", desc := "(I)C" } : Jvm.MethodName)) ∈ lw_all := lw_g (lw_at lw_m7 24 rfl) rfl
theorem q1552 : (Jvm.Cond.methodLink "java/lang/StringUTF16" (161 : Nat) ({ cls := "java/lang/Character", name := "lowSurrogate", desc := "(I)C" } : Jvm.MethodName)) ∈ lw_all := lw_g (lw_at lw_m7 28 rfl) rfl
/-! jdk/internal/util/ArraysSupport -/
def RJ27 : String := "jdk/internal/util/ArraysSupport"
abbrev cJ27_newLength : ByteArray := prog_62_method_27_code
def yJ27_newLength : MethodName := ⟨RJ27, "newLength", "(III)I"⟩
abbrev cJ27_hugeLength : ByteArray := prog_62_method_28_code
def yJ27_hugeLength : MethodName := ⟨RJ27, "hugeLength", "(II)I"⟩
theorem q119 : (Jvm.Cond.initialized "jdk/internal/util/ArraysSupport") ∈ lw_all := lw_g (lw_at lw_m1 35 rfl) rfl
theorem q878 : (Jvm.Cond.static ({ cls := "jdk/internal/util/ArraysSupport", name := "newLength", desc := "(III)I" } : Jvm.MethodName)) ∈ lw_all := lw_g (lw_at lw_m4 74 rfl) rfl
theorem q879 : (Jvm.Cond.code ({ cls := "jdk/internal/util/ArraysSupport", name := "newLength", desc := "(III)I" } : Jvm.MethodName) prog_62_method_27_code (4 : Nat) (Option.some Jvm.ClassFile.FieldType.int)) ∈ lw_all := lw_g (lw_at lw_m4 75 rfl) rfl
theorem q880 : (Jvm.Cond.methodLink "jdk/internal/util/ArraysSupport" (194 : Nat) ({ cls := "java/lang/Math", name := "max", desc := "(II)I" } : Jvm.MethodName)) ∈ lw_all := lw_g (lw_at lw_m4 76 rfl) rfl
theorem q881 : (Jvm.Cond.constant "jdk/internal/util/ArraysSupport" (200 : Nat) (2147483639 : Int32)) ∈ lw_all := lw_g (lw_at lw_m4 77 rfl) rfl
theorem q882 : (Jvm.Cond.methodLink "jdk/internal/util/ArraysSupport" (201 : Nat) ({ cls := "jdk/internal/util/ArraysSupport", name := "hugeLength", desc := "(II)I" } : Jvm.MethodName)) ∈ lw_all := lw_g (lw_at lw_m4 78 rfl) rfl
theorem q883 : (Jvm.Cond.static ({ cls := "jdk/internal/util/ArraysSupport", name := "hugeLength", desc := "(II)I" } : Jvm.MethodName)) ∈ lw_all := lw_g (lw_at lw_m4 79 rfl) rfl
theorem q884 : (Jvm.Cond.code ({ cls := "jdk/internal/util/ArraysSupport", name := "hugeLength", desc := "(II)I" } : Jvm.MethodName) prog_62_method_28_code (3 : Nat) (Option.some Jvm.ClassFile.FieldType.int)) ∈ lw_all := lw_g (lw_at lw_m4 80 rfl) rfl
/-! jdk/internal/util/Preconditions -/
def RJ28 : String := "jdk/internal/util/Preconditions"
abbrev cJ28_checkFromToIndex : ByteArray := prog_63_method_12_code
def yJ28_checkFromToIndex : MethodName := ⟨RJ28, "checkFromToIndex", "(IIILjava/util/function/BiFunction;)I"⟩
abbrev cJ28_checkFromIndexSize : ByteArray := prog_63_method_13_code
def yJ28_checkFromIndexSize : MethodName := ⟨RJ28, "checkFromIndexSize", "(IIILjava/util/function/BiFunction;)I"⟩
theorem q120 : (Jvm.Cond.initialized "jdk/internal/util/Preconditions") ∈ lw_all := lw_g (lw_at lw_m1 36 rfl) rfl
theorem q914 : (Jvm.Cond.laysStatic "jdk/internal/util/Preconditions" "SIOOBE_FORMATTER" "Ljava/util/function/BiFunction;") ∈ lw_tbl := lw_at lw_m4 110 rfl
theorem q916 : (Jvm.Cond.static ({ cls := "jdk/internal/util/Preconditions", name := "checkFromToIndex", desc := "(IIILjava/util/function/BiFunction;)I" } : Jvm.MethodName)) ∈ lw_all := lw_g (lw_at lw_m4 112 rfl) rfl
theorem q917 : (Jvm.Cond.code ({ cls := "jdk/internal/util/Preconditions", name := "checkFromToIndex", desc := "(IIILjava/util/function/BiFunction;)I" } : Jvm.MethodName) prog_63_method_12_code (4 : Nat) (Option.some Jvm.ClassFile.FieldType.int)) ∈ lw_all := lw_g (lw_at lw_m4 113 rfl) rfl
theorem q962 : (Jvm.Cond.static ({ cls := "jdk/internal/util/Preconditions", name := "checkFromIndexSize", desc := "(IIILjava/util/function/BiFunction;)I" } : Jvm.MethodName)) ∈ lw_all := lw_g (lw_at lw_m4 158 rfl) rfl
theorem q963 : (Jvm.Cond.code ({ cls := "jdk/internal/util/Preconditions", name := "checkFromIndexSize", desc := "(IIILjava/util/function/BiFunction;)I" } : Jvm.MethodName) prog_63_method_13_code (4 : Nat) (Option.some Jvm.ClassFile.FieldType.int)) ∈ lw_all := lw_g (lw_at lw_m4 159 rfl) rfl
/-! java/lang/StringLatin1 -/
def RJ29 : String := "java/lang/StringLatin1"
abbrev cJ29_inflate : ByteArray := prog_27_method_50_code
def yJ29_inflate : MethodName := ⟨RJ29, "inflate", "([BI[BII)V"⟩
abbrev cJ29_indexOf : ByteArray := prog_27_method_22_code
def yJ29_indexOf : MethodName := ⟨RJ29, "indexOf", "([BIII)I"⟩
abbrev cJ29_canEncode : ByteArray := prog_27_method_4_code
def yJ29_canEncode : MethodName := ⟨RJ29, "canEncode", "(I)Z"⟩
abbrev cJ29_indexOfChar : ByteArray := prog_27_method_23_code
def yJ29_indexOfChar : MethodName := ⟨RJ29, "indexOfChar", "([BIII)I"⟩
theorem q121 : (Jvm.Cond.initialized "java/lang/StringLatin1") ∈ lw_all := lw_g (lw_at lw_m1 37 rfl) rfl
theorem q950 : (Jvm.Cond.static ({ cls := "java/lang/StringLatin1", name := "inflate", desc := "([BI[BII)V" } : Jvm.MethodName)) ∈ lw_all := lw_g (lw_at lw_m4 146 rfl) rfl
theorem q951 : (Jvm.Cond.code ({ cls := "java/lang/StringLatin1", name := "inflate", desc := "([BI[BII)V" } : Jvm.MethodName) prog_27_method_50_code (5 : Nat) (Option.none : Option Jvm.ClassFile.FieldType)) ∈ lw_all := lw_g (lw_at lw_m4 147 rfl) rfl
theorem q952 : (Jvm.Cond.methodLink "java/lang/StringLatin1" (240 : Nat) ({ cls := "java/lang/StringUTF16", name := "inflate", desc := "([BI[BII)V" } : Jvm.MethodName)) ∈ lw_all := lw_g (lw_at lw_m4 148 rfl) rfl
theorem q1520 : (Jvm.Cond.static ({ cls := "java/lang/StringLatin1", name := "indexOf", desc := "([BIII)I" } : Jvm.MethodName)) ∈ lw_all := lw_g (lw_at lw_m6 236 rfl) rfl
theorem q1521 : (Jvm.Cond.code ({ cls := "java/lang/StringLatin1", name := "indexOf", desc := "([BIII)I" } : Jvm.MethodName) prog_27_method_22_code (4 : Nat) (Option.some Jvm.ClassFile.FieldType.int)) ∈ lw_all := lw_g (lw_at lw_m6 237 rfl) rfl
theorem q1522 : (Jvm.Cond.methodLink "java/lang/StringLatin1" (88 : Nat) ({ cls := "java/lang/StringLatin1", name := "canEncode", desc := "(I)Z" } : Jvm.MethodName)) ∈ lw_all := lw_g (lw_at lw_m6 238 rfl) rfl
theorem q1523 : (Jvm.Cond.static ({ cls := "java/lang/StringLatin1", name := "canEncode", desc := "(I)Z" } : Jvm.MethodName)) ∈ lw_all := lw_g (lw_at lw_m6 239 rfl) rfl
theorem q1524 : (Jvm.Cond.code ({ cls := "java/lang/StringLatin1", name := "canEncode", desc := "(I)Z" } : Jvm.MethodName) prog_27_method_4_code (1 : Nat) (Option.some Jvm.ClassFile.FieldType.boolean)) ∈ lw_all := lw_g (lw_at lw_m7 0 rfl) rfl
theorem q1525 : (Jvm.Cond.methodLink "java/lang/StringLatin1" (92 : Nat) ({ cls := "java/lang/Math", name := "max", desc := "(II)I" } : Jvm.MethodName)) ∈ lw_all := lw_g (lw_at lw_m7 1 rfl) rfl
theorem q1526 : (Jvm.Cond.methodLink "java/lang/StringLatin1" (38 : Nat) ({ cls := "java/lang/Math", name := "min", desc := "(II)I" } : Jvm.MethodName)) ∈ lw_all := lw_g (lw_at lw_m7 2 rfl) rfl
theorem q1527 : (Jvm.Cond.methodLink "java/lang/StringLatin1" (95 : Nat) ({ cls := "java/lang/StringLatin1", name := "indexOfChar", desc := "([BIII)I" } : Jvm.MethodName)) ∈ lw_all := lw_g (lw_at lw_m7 3 rfl) rfl
theorem q1528 : (Jvm.Cond.static ({ cls := "java/lang/StringLatin1", name := "indexOfChar", desc := "([BIII)I" } : Jvm.MethodName)) ∈ lw_all := lw_g (lw_at lw_m7 4 rfl) rfl
theorem q1529 : (Jvm.Cond.code ({ cls := "java/lang/StringLatin1", name := "indexOfChar", desc := "([BIII)I" } : Jvm.MethodName) prog_27_method_23_code (6 : Nat) (Option.some Jvm.ClassFile.FieldType.int)) ∈ lw_all := lw_g (lw_at lw_m7 5 rfl) rfl
/-! java/util/ArrayDeque -/
def RJ30 : String := "java/util/ArrayDeque"
def TJ30 : u_T := fun k => match k with
  | 0 => ("java/util/ArrayDeque", "elements", "[Ljava/lang/Object;", false)
  | 1 => ("java/util/ArrayDeque", "head", "I", false)
  | _ => ("java/util/ArrayDeque", "tail", "I", false)
def tyJ30 : Nat → FieldType := fun k => match k with
  | 0 => .array (.object "java/lang/Object")
  | 1 => .int
  | _ => .int
abbrev wsJ300 : List Cond := u_ws RJ30 TJ30 3
theorem nmJ30 : ∀ a, a < 3 → ∀ b, b < 3 → a ≠ b → (TJ30 a).2.1 ≠ (TJ30 b).2.1 := by decide +kernel
theorem tyJ30_ok : ∀ k, k < 3 → parseFieldDescriptor (TJ30 k).2.2.1 = some (tyJ30 k) := by decide +kernel
abbrev cJ30_toArray : ByteArray := prog_38_method_55_code
def yJ30_toArray : MethodName := ⟨RJ30, "toArray", "()[Ljava/lang/Object;"⟩
abbrev cJ30_toArray_2 : ByteArray := prog_38_method_56_code
def yJ30_toArray_2 : MethodName := ⟨RJ30, "toArray", "(Ljava/lang/Class;)[Ljava/lang/Object;"⟩
abbrev cJ30_nonNullElementAt : ByteArray := prog_38_method_11_code
def yJ30_nonNullElementAt : MethodName := ⟨RJ30, "nonNullElementAt", "([Ljava/lang/Object;I)Ljava/lang/Object;"⟩
abbrev cJ30_inc : ByteArray := prog_38_method_6_code
def yJ30_inc : MethodName := ⟨RJ30, "inc", "(II)I"⟩
abbrev cJ30_init : ByteArray := prog_38_method_3_code
def yJ30_init : MethodName := ⟨RJ30, "<init>", "()V"⟩
abbrev cJ30_push : ByteArray := prog_38_method_34_code
def yJ30_push : MethodName := ⟨RJ30, "push", "(Ljava/lang/Object;)V"⟩
abbrev cJ30_addFirst : ByteArray := prog_38_method_12_code
def yJ30_addFirst : MethodName := ⟨RJ30, "addFirst", "(Ljava/lang/Object;)V"⟩
abbrev cJ30_dec : ByteArray := prog_38_method_7_code
def yJ30_dec : MethodName := ⟨RJ30, "dec", "(II)I"⟩
abbrev cJ30_grow : ByteArray := prog_38_method_1_code
def yJ30_grow : MethodName := ⟨RJ30, "grow", "(I)V"⟩
abbrev cJ30_newCapacity : ByteArray := prog_38_method_2_code
def yJ30_newCapacity : MethodName := ⟨RJ30, "newCapacity", "(II)I"⟩
abbrev cJ30_iterator : ByteArray := prog_38_method_39_code
def yJ30_iterator : MethodName := ⟨RJ30, "iterator", "()Ljava/util/Iterator;"⟩
abbrev cJ30_size : ByteArray := prog_38_method_37_code
def yJ30_size : MethodName := ⟨RJ30, "size", "()I"⟩
abbrev cJ30_sub : ByteArray := prog_38_method_9_code
def yJ30_sub : MethodName := ⟨RJ30, "sub", "(III)I"⟩
theorem q122 : (Jvm.Cond.initialized "java/util/ArrayDeque") ∈ lw_all := lw_g (lw_at lw_m1 38 rfl) rfl
theorem q274 : (Jvm.Cond.selects "java/util/ArrayDeque" ({ cls := "java/lang/Object", name := "getClass", desc := "()Ljava/lang/Class;" } : Jvm.MethodName) ({ cls := "java/lang/Object", name := "getClass", desc := "()Ljava/lang/Class;" } : Jvm.MethodName)) ∈ lw_all := lw_g (lw_at lw_m1 190 rfl) rfl
theorem q411 : (Jvm.Cond.castable "java/util/ArrayDeque" "java/util/Collection") ∈ lw_tbl := lw_at lw_m2 87 rfl
theorem q412 : (Jvm.Cond.selects "java/util/ArrayDeque" ({ cls := "java/util/Collection", name := "toArray", desc := "()[Ljava/lang/Object;" } : Jvm.MethodName) ({ cls := "java/util/ArrayDeque", name := "toArray", desc := "()[Ljava/lang/Object;" } : Jvm.MethodName)) ∈ lw_all := lw_g (lw_at lw_m2 88 rfl) rfl
theorem q413 : (Jvm.Cond.unhidden "java/util/ArrayDeque" "toArray" "()[Ljava/lang/Object;") ∈ lw_tbl := lw_at lw_m2 89 rfl
theorem q414 : (Jvm.Cond.instanceMethod ({ cls := "java/util/ArrayDeque", name := "toArray", desc := "()[Ljava/lang/Object;" } : Jvm.MethodName)) ∈ lw_all := lw_g (lw_at lw_m2 90 rfl) rfl
theorem q415 : (Jvm.Cond.publicMethod ({ cls := "java/util/ArrayDeque", name := "toArray", desc := "()[Ljava/lang/Object;" } : Jvm.MethodName)) ∈ lw_tbl := lw_at lw_m2 91 rfl
theorem q416 : (Jvm.Cond.code ({ cls := "java/util/ArrayDeque", name := "toArray", desc := "()[Ljava/lang/Object;" } : Jvm.MethodName) prog_38_method_55_code (1 : Nat) (Option.some (Jvm.ClassFile.FieldType.array (Jvm.ClassFile.FieldType.object "java/lang/Object")))) ∈ lw_all := lw_g (lw_at lw_m2 92 rfl) rfl
theorem q417 : (Jvm.Cond.classLink "java/util/ArrayDeque" (188 : Nat) "[Ljava/lang/Object;") ∈ lw_all := lw_g (lw_at lw_m2 93 rfl) rfl
theorem q418 : (Jvm.Cond.methodLink "java/util/ArrayDeque" (189 : Nat) ({ cls := "java/util/ArrayDeque", name := "toArray", desc := "(Ljava/lang/Class;)[Ljava/lang/Object;" } : Jvm.MethodName)) ∈ lw_all := lw_g (lw_at lw_m2 94 rfl) rfl
theorem q419 : (Jvm.Cond.privateMethod ({ cls := "java/util/ArrayDeque", name := "toArray", desc := "(Ljava/lang/Class;)[Ljava/lang/Object;" } : Jvm.MethodName)) ∈ lw_tbl := lw_at lw_m2 95 rfl
theorem q420 : (Jvm.Cond.instanceMethod ({ cls := "java/util/ArrayDeque", name := "toArray", desc := "(Ljava/lang/Class;)[Ljava/lang/Object;" } : Jvm.MethodName)) ∈ lw_all := lw_g (lw_at lw_m2 96 rfl) rfl
theorem q421 : (Jvm.Cond.instantiable "java/util/ArrayDeque" (3 : Nat)) ∈ lw_all := lw_g (lw_at lw_m2 97 rfl) rfl
theorem q422 : (Jvm.Cond.code ({ cls := "java/util/ArrayDeque", name := "toArray", desc := "(Ljava/lang/Class;)[Ljava/lang/Object;" } : Jvm.MethodName) prog_38_method_56_code (7 : Nat) (Option.some (Jvm.ClassFile.FieldType.array (Jvm.ClassFile.FieldType.object "java/lang/Object")))) ∈ lw_all := lw_g (lw_at lw_m2 98 rfl) rfl
theorem q423 : (Jvm.Cond.methodLink "java/util/ArrayDeque" (193 : Nat) ({ cls := "java/util/Arrays", name := "copyOfRange", desc := "([Ljava/lang/Object;IILjava/lang/Class;)[Ljava/lang/Object;" } : Jvm.MethodName)) ∈ lw_all := lw_g (lw_at lw_m2 99 rfl) rfl
theorem q434 : (Jvm.Cond.methodLink "java/util/ArrayDeque" (27 : Nat) ({ cls := "java/lang/System", name := "arraycopy", desc := "(Ljava/lang/Object;ILjava/lang/Object;II)V" } : Jvm.MethodName)) ∈ lw_all := lw_g (lw_at lw_m2 110 rfl) rfl
theorem q1061 : (Jvm.Cond.static ({ cls := "java/util/ArrayDeque", name := "nonNullElementAt", desc := "([Ljava/lang/Object;I)Ljava/lang/Object;" } : Jvm.MethodName)) ∈ lw_all := lw_g (lw_at lw_m5 17 rfl) rfl
theorem q1062 : (Jvm.Cond.code ({ cls := "java/util/ArrayDeque", name := "nonNullElementAt", desc := "([Ljava/lang/Object;I)Ljava/lang/Object;" } : Jvm.MethodName) prog_38_method_11_code (3 : Nat) (Option.some (Jvm.ClassFile.FieldType.object "java/lang/Object"))) ∈ lw_all := lw_g (lw_at lw_m5 18 rfl) rfl
theorem q1064 : (Jvm.Cond.static ({ cls := "java/util/ArrayDeque", name := "inc", desc := "(II)I" } : Jvm.MethodName)) ∈ lw_all := lw_g (lw_at lw_m5 20 rfl) rfl
theorem q1065 : (Jvm.Cond.code ({ cls := "java/util/ArrayDeque", name := "inc", desc := "(II)I" } : Jvm.MethodName) prog_38_method_6_code (2 : Nat) (Option.some Jvm.ClassFile.FieldType.int)) ∈ lw_all := lw_g (lw_at lw_m5 21 rfl) rfl
theorem q1112 : (Jvm.Cond.instanceMethod ({ cls := "java/util/ArrayDeque", name := "<init>", desc := "()V" } : Jvm.MethodName)) ∈ lw_all := lw_g (lw_at lw_m5 68 rfl) rfl
theorem q1113 : (Jvm.Cond.code ({ cls := "java/util/ArrayDeque", name := "<init>", desc := "()V" } : Jvm.MethodName) prog_38_method_3_code (1 : Nat) (Option.none : Option Jvm.ClassFile.FieldType)) ∈ lw_all := lw_g (lw_at lw_m5 69 rfl) rfl
theorem q1114 : (Jvm.Cond.methodLink "java/util/ArrayDeque" (42 : Nat) ({ cls := "java/util/AbstractCollection", name := "<init>", desc := "()V" } : Jvm.MethodName)) ∈ lw_all := lw_g (lw_at lw_m5 70 rfl) rfl
theorem q1115 : (Jvm.Cond.classLink "java/util/ArrayDeque" (47 : Nat) "java/lang/Object") ∈ lw_all := lw_g (lw_at lw_m5 71 rfl) rfl
theorem q1116 : (Jvm.Cond.fieldLink "java/util/ArrayDeque" (3 : Nat) "java/util/ArrayDeque" "elements" "[Ljava/lang/Object;") ∈ lw_all := lw_g (lw_at lw_m5 72 rfl) rfl
theorem q1119 : (Jvm.Cond.fieldLink "java/util/ArrayDeque" (24 : Nat) "java/util/ArrayDeque" "head" "I") ∈ lw_all := lw_g (lw_at lw_m5 75 rfl) rfl
theorem q1120 : (Jvm.Cond.fieldLink "java/util/ArrayDeque" (20 : Nat) "java/util/ArrayDeque" "tail" "I") ∈ lw_all := lw_g (lw_at lw_m5 76 rfl) rfl
theorem q1121 : (Jvm.Cond.lays "java/util/ArrayDeque" "java/util/ArrayDeque" "elements" "[Ljava/lang/Object;") ∈ lw_all := lw_g (lw_at lw_m5 77 rfl) rfl
theorem q1122 : (Jvm.Cond.soleField "java/util/ArrayDeque" "elements") ∈ lw_all := lw_g (lw_at lw_m5 78 rfl) rfl
theorem q1123 : (Jvm.Cond.lays "java/util/ArrayDeque" "java/util/ArrayDeque" "head" "I") ∈ lw_all := lw_g (lw_at lw_m5 79 rfl) rfl
theorem q1124 : (Jvm.Cond.soleField "java/util/ArrayDeque" "head") ∈ lw_all := lw_g (lw_at lw_m5 80 rfl) rfl
theorem q1125 : (Jvm.Cond.lays "java/util/ArrayDeque" "java/util/ArrayDeque" "tail" "I") ∈ lw_all := lw_g (lw_at lw_m5 81 rfl) rfl
theorem q1126 : (Jvm.Cond.soleField "java/util/ArrayDeque" "tail") ∈ lw_all := lw_g (lw_at lw_m5 82 rfl) rfl
theorem q1127 : (Jvm.Cond.superclass "java/util/ArrayDeque" "java/util/AbstractCollection") ∈ lw_all := lw_g (lw_at lw_m5 83 rfl) rfl
theorem q1129 : (Jvm.Cond.instanceMethod ({ cls := "java/util/ArrayDeque", name := "push", desc := "(Ljava/lang/Object;)V" } : Jvm.MethodName)) ∈ lw_all := lw_g (lw_at lw_m5 85 rfl) rfl
theorem q1130 : (Jvm.Cond.selects "java/util/ArrayDeque" ({ cls := "java/util/ArrayDeque", name := "push", desc := "(Ljava/lang/Object;)V" } : Jvm.MethodName) ({ cls := "java/util/ArrayDeque", name := "push", desc := "(Ljava/lang/Object;)V" } : Jvm.MethodName)) ∈ lw_all := lw_g (lw_at lw_m5 86 rfl) rfl
theorem q1131 : (Jvm.Cond.code ({ cls := "java/util/ArrayDeque", name := "push", desc := "(Ljava/lang/Object;)V" } : Jvm.MethodName) prog_38_method_34_code (2 : Nat) (Option.none : Option Jvm.ClassFile.FieldType)) ∈ lw_all := lw_g (lw_at lw_m5 87 rfl) rfl
theorem q1132 : (Jvm.Cond.methodLink "java/util/ArrayDeque" (86 : Nat) ({ cls := "java/util/ArrayDeque", name := "addFirst", desc := "(Ljava/lang/Object;)V" } : Jvm.MethodName)) ∈ lw_all := lw_g (lw_at lw_m5 88 rfl) rfl
theorem q1133 : (Jvm.Cond.instanceMethod ({ cls := "java/util/ArrayDeque", name := "addFirst", desc := "(Ljava/lang/Object;)V" } : Jvm.MethodName)) ∈ lw_all := lw_g (lw_at lw_m5 89 rfl) rfl
theorem q1134 : (Jvm.Cond.selects "java/util/ArrayDeque" ({ cls := "java/util/ArrayDeque", name := "addFirst", desc := "(Ljava/lang/Object;)V" } : Jvm.MethodName) ({ cls := "java/util/ArrayDeque", name := "addFirst", desc := "(Ljava/lang/Object;)V" } : Jvm.MethodName)) ∈ lw_all := lw_g (lw_at lw_m5 90 rfl) rfl
theorem q1135 : (Jvm.Cond.code ({ cls := "java/util/ArrayDeque", name := "addFirst", desc := "(Ljava/lang/Object;)V" } : Jvm.MethodName) prog_38_method_12_code (3 : Nat) (Option.none : Option Jvm.ClassFile.FieldType)) ∈ lw_all := lw_g (lw_at lw_m5 91 rfl) rfl
theorem q1136 : (Jvm.Cond.methodLink "java/util/ArrayDeque" (68 : Nat) ({ cls := "java/util/ArrayDeque", name := "dec", desc := "(II)I" } : Jvm.MethodName)) ∈ lw_all := lw_g (lw_at lw_m5 92 rfl) rfl
theorem q1137 : (Jvm.Cond.static ({ cls := "java/util/ArrayDeque", name := "dec", desc := "(II)I" } : Jvm.MethodName)) ∈ lw_all := lw_g (lw_at lw_m5 93 rfl) rfl
theorem q1138 : (Jvm.Cond.code ({ cls := "java/util/ArrayDeque", name := "dec", desc := "(II)I" } : Jvm.MethodName) prog_38_method_7_code (2 : Nat) (Option.some Jvm.ClassFile.FieldType.int)) ∈ lw_all := lw_g (lw_at lw_m5 94 rfl) rfl
theorem q1139 : (Jvm.Cond.methodLink "java/util/ArrayDeque" (71 : Nat) ({ cls := "java/util/ArrayDeque", name := "grow", desc := "(I)V" } : Jvm.MethodName)) ∈ lw_all := lw_g (lw_at lw_m5 95 rfl) rfl
theorem q1140 : (Jvm.Cond.privateMethod ({ cls := "java/util/ArrayDeque", name := "grow", desc := "(I)V" } : Jvm.MethodName)) ∈ lw_tbl := lw_at lw_m5 96 rfl
theorem q1141 : (Jvm.Cond.instanceMethod ({ cls := "java/util/ArrayDeque", name := "grow", desc := "(I)V" } : Jvm.MethodName)) ∈ lw_all := lw_g (lw_at lw_m5 97 rfl) rfl
theorem q1142 : (Jvm.Cond.code ({ cls := "java/util/ArrayDeque", name := "grow", desc := "(I)V" } : Jvm.MethodName) prog_38_method_1_code (9 : Nat) (Option.none : Option Jvm.ClassFile.FieldType)) ∈ lw_all := lw_g (lw_at lw_m5 98 rfl) rfl
theorem q1143 : (Jvm.Cond.constant "java/util/ArrayDeque" (9 : Nat) (2147483639 : Int32)) ∈ lw_all := lw_g (lw_at lw_m5 99 rfl) rfl
theorem q1144 : (Jvm.Cond.methodLink "java/util/ArrayDeque" (10 : Nat) ({ cls := "java/util/ArrayDeque", name := "newCapacity", desc := "(II)I" } : Jvm.MethodName)) ∈ lw_all := lw_g (lw_at lw_m5 100 rfl) rfl
theorem q1145 : (Jvm.Cond.privateMethod ({ cls := "java/util/ArrayDeque", name := "newCapacity", desc := "(II)I" } : Jvm.MethodName)) ∈ lw_tbl := lw_at lw_m5 101 rfl
theorem q1146 : (Jvm.Cond.instanceMethod ({ cls := "java/util/ArrayDeque", name := "newCapacity", desc := "(II)I" } : Jvm.MethodName)) ∈ lw_all := lw_g (lw_at lw_m5 102 rfl) rfl
theorem q1147 : (Jvm.Cond.code ({ cls := "java/util/ArrayDeque", name := "newCapacity", desc := "(II)I" } : Jvm.MethodName) prog_38_method_2_code (5 : Nat) (Option.some Jvm.ClassFile.FieldType.int)) ∈ lw_all := lw_g (lw_at lw_m5 103 rfl) rfl
theorem q1148 : (Jvm.Cond.constant "java/util/ArrayDeque" (41 : Nat) (2147483647 : Int32)) ∈ lw_all := lw_g (lw_at lw_m5 104 rfl) rfl
theorem q1149 : (Jvm.Cond.methodLink "java/util/ArrayDeque" (14 : Nat) ({ cls := "java/util/Arrays", name := "copyOf", desc := "([Ljava/lang/Object;I)[Ljava/lang/Object;" } : Jvm.MethodName)) ∈ lw_all := lw_g (lw_at lw_m5 105 rfl) rfl
theorem q1151 : (Jvm.Cond.instanceMethod ({ cls := "java/util/ArrayDeque", name := "iterator", desc := "()Ljava/util/Iterator;" } : Jvm.MethodName)) ∈ lw_all := lw_g (lw_at lw_m5 107 rfl) rfl
theorem q1152 : (Jvm.Cond.selects "java/util/ArrayDeque" ({ cls := "java/util/ArrayDeque", name := "iterator", desc := "()Ljava/util/Iterator;" } : Jvm.MethodName) ({ cls := "java/util/ArrayDeque", name := "iterator", desc := "()Ljava/util/Iterator;" } : Jvm.MethodName)) ∈ lw_all := lw_g (lw_at lw_m5 108 rfl) rfl
theorem q1153 : (Jvm.Cond.code ({ cls := "java/util/ArrayDeque", name := "iterator", desc := "()Ljava/util/Iterator;" } : Jvm.MethodName) prog_38_method_39_code (1 : Nat) (Option.some (Jvm.ClassFile.FieldType.object "java/util/Iterator"))) ∈ lw_all := lw_g (lw_at lw_m5 109 rfl) rfl
theorem q1154 : (Jvm.Cond.classLink "java/util/ArrayDeque" (131 : Nat) "java/util/ArrayDeque$DeqIterator") ∈ lw_all := lw_g (lw_at lw_m5 110 rfl) rfl
theorem q1156 : (Jvm.Cond.methodLink "java/util/ArrayDeque" (133 : Nat) ({ cls := "java/util/ArrayDeque$DeqIterator", name := "<init>", desc := "(Ljava/util/ArrayDeque;)V" } : Jvm.MethodName)) ∈ lw_all := lw_g (lw_at lw_m5 112 rfl) rfl
theorem q1161 : (Jvm.Cond.instanceMethod ({ cls := "java/util/ArrayDeque", name := "size", desc := "()I" } : Jvm.MethodName)) ∈ lw_all := lw_g (lw_at lw_m5 117 rfl) rfl
theorem q1162 : (Jvm.Cond.selects "java/util/ArrayDeque" ({ cls := "java/util/ArrayDeque", name := "size", desc := "()I" } : Jvm.MethodName) ({ cls := "java/util/ArrayDeque", name := "size", desc := "()I" } : Jvm.MethodName)) ∈ lw_all := lw_g (lw_at lw_m5 118 rfl) rfl
theorem q1163 : (Jvm.Cond.code ({ cls := "java/util/ArrayDeque", name := "size", desc := "()I" } : Jvm.MethodName) prog_38_method_37_code (1 : Nat) (Option.some Jvm.ClassFile.FieldType.int)) ∈ lw_all := lw_g (lw_at lw_m5 119 rfl) rfl
theorem q1164 : (Jvm.Cond.methodLink "java/util/ArrayDeque" (127 : Nat) ({ cls := "java/util/ArrayDeque", name := "sub", desc := "(III)I" } : Jvm.MethodName)) ∈ lw_all := lw_g (lw_at lw_m5 120 rfl) rfl
theorem q1165 : (Jvm.Cond.static ({ cls := "java/util/ArrayDeque", name := "sub", desc := "(III)I" } : Jvm.MethodName)) ∈ lw_all := lw_g (lw_at lw_m5 121 rfl) rfl
theorem q1166 : (Jvm.Cond.code ({ cls := "java/util/ArrayDeque", name := "sub", desc := "(III)I" } : Jvm.MethodName) prog_38_method_9_code (3 : Nat) (Option.some Jvm.ClassFile.FieldType.int)) ∈ lw_all := lw_g (lw_at lw_m5 122 rfl) rfl
theorem q2151 : (Jvm.Cond.selects "java/util/ArrayDeque" ({ cls := "java/util/AbstractCollection", name := "size", desc := "()I" } : Jvm.MethodName) ({ cls := "java/util/ArrayDeque", name := "size", desc := "()I" } : Jvm.MethodName)) ∈ lw_all := lw_g (lw_at lw_m9 147 rfl) rfl
theorem q2174 : (Jvm.Cond.castable "java/util/ArrayDeque" "java/lang/Object") ∈ lw_tbl := lw_at lw_m9 170 rfl
theorem in_J30 : ∀ w ∈ wsJ300, w ∈ lw_all := lw_in wsJ300 [1121, 1123, 1125] (by decide +kernel) (by decide +kernel)
/-! java/util/ArrayDeque$DeqIterator -/
def RJ31 : String := "java/util/ArrayDeque$DeqIterator"
def TJ31 : u_T := fun k => match k with
  | 0 => ("java/util/ArrayDeque$DeqIterator", "cursor", "I", false)
  | 1 => ("java/util/ArrayDeque$DeqIterator", "remaining", "I", false)
  | 2 => ("java/util/ArrayDeque$DeqIterator", "lastRet", "I", false)
  | _ => ("java/util/ArrayDeque$DeqIterator", "this$0", "Ljava/util/ArrayDeque;", true)
def tyJ31 : Nat → FieldType := fun k => match k with
  | 0 => .int
  | 1 => .int
  | 2 => .int
  | _ => .object "java/util/ArrayDeque"
abbrev wsJ310 : List Cond := u_ws RJ31 TJ31 4
theorem nmJ31 : ∀ a, a < 4 → ∀ b, b < 4 → a ≠ b → (TJ31 a).2.1 ≠ (TJ31 b).2.1 := by decide +kernel
theorem tyJ31_ok : ∀ k, k < 4 → parseFieldDescriptor (TJ31 k).2.2.1 = some (tyJ31 k) := by decide +kernel
abbrev cJ31_hasNext : ByteArray := prog_39_method_2_code
def yJ31_hasNext : MethodName := ⟨RJ31, "hasNext", "()Z"⟩
abbrev cJ31_next : ByteArray := prog_39_method_3_code
def yJ31_next : MethodName := ⟨RJ31, "next", "()Ljava/lang/Object;"⟩
abbrev cJ31_init : ByteArray := prog_39_method_1_code
def yJ31_init : MethodName := ⟨RJ31, "<init>", "(Ljava/util/ArrayDeque;)V"⟩
theorem q123 : (Jvm.Cond.initialized "java/util/ArrayDeque$DeqIterator") ∈ lw_all := lw_g (lw_at lw_m1 39 rfl) rfl
theorem q275 : (Jvm.Cond.selects "java/util/ArrayDeque$DeqIterator" ({ cls := "java/lang/Object", name := "getClass", desc := "()Ljava/lang/Class;" } : Jvm.MethodName) ({ cls := "java/lang/Object", name := "getClass", desc := "()Ljava/lang/Class;" } : Jvm.MethodName)) ∈ lw_all := lw_g (lw_at lw_m1 191 rfl) rfl
theorem q718 : (Jvm.Cond.castable "java/util/ArrayDeque$DeqIterator" "java/util/Iterator") ∈ lw_tbl := lw_at lw_m3 154 rfl
theorem q719 : (Jvm.Cond.selects "java/util/ArrayDeque$DeqIterator" ({ cls := "java/util/Iterator", name := "hasNext", desc := "()Z" } : Jvm.MethodName) ({ cls := "java/util/ArrayDeque$DeqIterator", name := "hasNext", desc := "()Z" } : Jvm.MethodName)) ∈ lw_all := lw_g (lw_at lw_m3 155 rfl) rfl
theorem q720 : (Jvm.Cond.unhidden "java/util/ArrayDeque$DeqIterator" "hasNext" "()Z") ∈ lw_tbl := lw_at lw_m3 156 rfl
theorem q721 : (Jvm.Cond.instanceMethod ({ cls := "java/util/ArrayDeque$DeqIterator", name := "hasNext", desc := "()Z" } : Jvm.MethodName)) ∈ lw_all := lw_g (lw_at lw_m3 157 rfl) rfl
theorem q722 : (Jvm.Cond.publicMethod ({ cls := "java/util/ArrayDeque$DeqIterator", name := "hasNext", desc := "()Z" } : Jvm.MethodName)) ∈ lw_tbl := lw_at lw_m3 158 rfl
theorem q723 : (Jvm.Cond.code ({ cls := "java/util/ArrayDeque$DeqIterator", name := "hasNext", desc := "()Z" } : Jvm.MethodName) prog_39_method_2_code (1 : Nat) (Option.some Jvm.ClassFile.FieldType.boolean)) ∈ lw_all := lw_g (lw_at lw_m3 159 rfl) rfl
theorem q1044 : (Jvm.Cond.selects "java/util/ArrayDeque$DeqIterator" ({ cls := "java/util/Iterator", name := "next", desc := "()Ljava/lang/Object;" } : Jvm.MethodName) ({ cls := "java/util/ArrayDeque$DeqIterator", name := "next", desc := "()Ljava/lang/Object;" } : Jvm.MethodName)) ∈ lw_all := lw_g (lw_at lw_m5 0 rfl) rfl
theorem q1045 : (Jvm.Cond.unhidden "java/util/ArrayDeque$DeqIterator" "next" "()Ljava/lang/Object;") ∈ lw_tbl := lw_at lw_m5 1 rfl
theorem q1046 : (Jvm.Cond.instanceMethod ({ cls := "java/util/ArrayDeque$DeqIterator", name := "next", desc := "()Ljava/lang/Object;" } : Jvm.MethodName)) ∈ lw_all := lw_g (lw_at lw_m5 2 rfl) rfl
theorem q1047 : (Jvm.Cond.publicMethod ({ cls := "java/util/ArrayDeque$DeqIterator", name := "next", desc := "()Ljava/lang/Object;" } : Jvm.MethodName)) ∈ lw_tbl := lw_at lw_m5 3 rfl
theorem q1048 : (Jvm.Cond.code ({ cls := "java/util/ArrayDeque$DeqIterator", name := "next", desc := "()Ljava/lang/Object;" } : Jvm.MethodName) prog_39_method_3_code (3 : Nat) (Option.some (Jvm.ClassFile.FieldType.object "java/lang/Object"))) ∈ lw_all := lw_g (lw_at lw_m5 4 rfl) rfl
theorem q1049 : (Jvm.Cond.classLink "java/util/ArrayDeque$DeqIterator" (32 : Nat) "java/util/NoSuchElementException") ∈ lw_all := lw_g (lw_at lw_m5 5 rfl) rfl
theorem q1050 : (Jvm.Cond.methodLink "java/util/ArrayDeque$DeqIterator" (34 : Nat) ({ cls := "java/util/NoSuchElementException", name := "<init>", desc := "()V" } : Jvm.MethodName)) ∈ lw_all := lw_g (lw_at lw_m5 6 rfl) rfl
theorem q1060 : (Jvm.Cond.methodLink "java/util/ArrayDeque$DeqIterator" (39 : Nat) ({ cls := "java/util/ArrayDeque", name := "nonNullElementAt", desc := "([Ljava/lang/Object;I)Ljava/lang/Object;" } : Jvm.MethodName)) ∈ lw_all := lw_g (lw_at lw_m5 16 rfl) rfl
theorem q1063 : (Jvm.Cond.methodLink "java/util/ArrayDeque$DeqIterator" (43 : Nat) ({ cls := "java/util/ArrayDeque", name := "inc", desc := "(II)I" } : Jvm.MethodName)) ∈ lw_all := lw_g (lw_at lw_m5 19 rfl) rfl
theorem q1117 : (Jvm.Cond.fieldLink "java/util/ArrayDeque$DeqIterator" (35 : Nat) "java/util/ArrayDeque" "elements" "[Ljava/lang/Object;") ∈ lw_all := lw_g (lw_at lw_m5 73 rfl) rfl
theorem q1118 : (Jvm.Cond.fieldLink "java/util/ArrayDeque$DeqIterator" (26 : Nat) "java/util/ArrayDeque" "head" "I") ∈ lw_all := lw_g (lw_at lw_m5 74 rfl) rfl
theorem q1155 : (Jvm.Cond.instantiable "java/util/ArrayDeque$DeqIterator" (4 : Nat)) ∈ lw_all := lw_g (lw_at lw_m5 111 rfl) rfl
theorem q1157 : (Jvm.Cond.instanceMethod ({ cls := "java/util/ArrayDeque$DeqIterator", name := "<init>", desc := "(Ljava/util/ArrayDeque;)V" } : Jvm.MethodName)) ∈ lw_all := lw_g (lw_at lw_m5 113 rfl) rfl
theorem q1158 : (Jvm.Cond.code ({ cls := "java/util/ArrayDeque$DeqIterator", name := "<init>", desc := "(Ljava/util/ArrayDeque;)V" } : Jvm.MethodName) prog_39_method_1_code (2 : Nat) (Option.none : Option Jvm.ClassFile.FieldType)) ∈ lw_all := lw_g (lw_at lw_m5 114 rfl) rfl
theorem q1159 : (Jvm.Cond.methodLink "java/util/ArrayDeque$DeqIterator" (7 : Nat) ({ cls := "java/lang/Object", name := "<init>", desc := "()V" } : Jvm.MethodName)) ∈ lw_all := lw_g (lw_at lw_m5 115 rfl) rfl
theorem q1160 : (Jvm.Cond.methodLink "java/util/ArrayDeque$DeqIterator" (13 : Nat) ({ cls := "java/util/ArrayDeque", name := "size", desc := "()I" } : Jvm.MethodName)) ∈ lw_all := lw_g (lw_at lw_m5 116 rfl) rfl
theorem q1167 : (Jvm.Cond.fieldLink "java/util/ArrayDeque$DeqIterator" (29 : Nat) "java/util/ArrayDeque$DeqIterator" "cursor" "I") ∈ lw_all := lw_g (lw_at lw_m5 123 rfl) rfl
theorem q1168 : (Jvm.Cond.fieldLink "java/util/ArrayDeque$DeqIterator" (19 : Nat) "java/util/ArrayDeque$DeqIterator" "remaining" "I") ∈ lw_all := lw_g (lw_at lw_m5 124 rfl) rfl
theorem q1169 : (Jvm.Cond.fieldLink "java/util/ArrayDeque$DeqIterator" (23 : Nat) "java/util/ArrayDeque$DeqIterator" "lastRet" "I") ∈ lw_all := lw_g (lw_at lw_m5 125 rfl) rfl
theorem q1170 : (Jvm.Cond.fieldLink "java/util/ArrayDeque$DeqIterator" (1 : Nat) "java/util/ArrayDeque$DeqIterator" "this$0" "Ljava/util/ArrayDeque;") ∈ lw_all := lw_g (lw_at lw_m5 126 rfl) rfl
theorem q1171 : (Jvm.Cond.lays "java/util/ArrayDeque$DeqIterator" "java/util/ArrayDeque$DeqIterator" "cursor" "I") ∈ lw_all := lw_g (lw_at lw_m5 127 rfl) rfl
theorem q1172 : (Jvm.Cond.soleField "java/util/ArrayDeque$DeqIterator" "cursor") ∈ lw_all := lw_g (lw_at lw_m5 128 rfl) rfl
theorem q1173 : (Jvm.Cond.lays "java/util/ArrayDeque$DeqIterator" "java/util/ArrayDeque$DeqIterator" "remaining" "I") ∈ lw_all := lw_g (lw_at lw_m5 129 rfl) rfl
theorem q1174 : (Jvm.Cond.soleField "java/util/ArrayDeque$DeqIterator" "remaining") ∈ lw_all := lw_g (lw_at lw_m5 130 rfl) rfl
theorem q1175 : (Jvm.Cond.lays "java/util/ArrayDeque$DeqIterator" "java/util/ArrayDeque$DeqIterator" "lastRet" "I") ∈ lw_all := lw_g (lw_at lw_m5 131 rfl) rfl
theorem q1176 : (Jvm.Cond.soleField "java/util/ArrayDeque$DeqIterator" "lastRet") ∈ lw_all := lw_g (lw_at lw_m5 132 rfl) rfl
theorem q1177 : (Jvm.Cond.laysFinal "java/util/ArrayDeque$DeqIterator" "java/util/ArrayDeque$DeqIterator" "this$0" "Ljava/util/ArrayDeque;") ∈ lw_all := lw_g (lw_at lw_m5 133 rfl) rfl
theorem q1178 : (Jvm.Cond.soleField "java/util/ArrayDeque$DeqIterator" "this$0") ∈ lw_all := lw_g (lw_at lw_m5 134 rfl) rfl
theorem q1179 : (Jvm.Cond.superclass "java/util/ArrayDeque$DeqIterator" "java/lang/Object") ∈ lw_all := lw_g (lw_at lw_m5 135 rfl) rfl
theorem q2175 : (Jvm.Cond.castable "java/util/ArrayDeque$DeqIterator" "java/lang/Object") ∈ lw_tbl := lw_at lw_m9 171 rfl
theorem in_J31 : ∀ w ∈ wsJ310, w ∈ lw_all := lw_in wsJ310 [1171, 1173, 1175, 1177] (by decide +kernel) (by decide +kernel)
/-! EndSums$Cell -/
def RX5 : String := "EndSums$Cell"
def TX5 : u_T := fun k => match k with
  | 0 => ("EndSums$Pair", "p", "J", false)
  | 1 => ("EndSums$Pair", "q", "J", false)
  | 2 => ("EndSums$Cell", "item", "I", true)
  | 3 => ("EndSums$Cell", "below", "LEndSums$Cell;", true)
  | 4 => ("EndSums$Cell", "lines", "I", false)
  | _ => ("EndSums$Cell", "round", "I", false)
def tyX5 : Nat → FieldType := fun k => match k with
  | 0 => .long
  | 1 => .long
  | 2 => .int
  | 3 => .object "EndSums$Cell"
  | 4 => .int
  | _ => .int
abbrev wsX50 : List Cond := u_ws RX5 TX5 6
theorem nmX5 : ∀ a, a < 6 → ∀ b, b < 6 → a ≠ b → (TX5 a).2.1 ≠ (TX5 b).2.1 := by decide +kernel
theorem tyX5_ok : ∀ k, k < 6 → parseFieldDescriptor (TX5 k).2.2.1 = some (tyX5 k) := by decide +kernel
abbrev cX5_init : ByteArray := prog_2_method_1_code
def yX5_init : MethodName := ⟨RX5, "<init>", "(ILEndSums$Cell;)V"⟩
theorem q124 : (Jvm.Cond.initialized "EndSums$Cell") ∈ lw_all := lw_g (lw_at lw_m1 40 rfl) rfl
theorem q145 : (Jvm.Cond.selects "EndSums$Cell" ({ cls := "EndSums$Pair", name := "is", desc := "(JJ)V" } : Jvm.MethodName) ({ cls := "EndSums$Pair", name := "is", desc := "(JJ)V" } : Jvm.MethodName)) ∈ lw_all := lw_g (lw_at lw_m1 61 rfl) rfl
theorem q220 : (Jvm.Cond.sameField "EndSums$Cell" "EndSums$Pair" "p" "J") ∈ lw_all := lw_g (lw_at lw_m1 136 rfl) rfl
theorem q224 : (Jvm.Cond.sameField "EndSums$Cell" "EndSums$Pair" "q" "J") ∈ lw_all := lw_g (lw_at lw_m1 140 rfl) rfl
theorem q265 : (Jvm.Cond.selects "EndSums$Cell" ({ cls := "java/lang/Object", name := "getClass", desc := "()Ljava/lang/Class;" } : Jvm.MethodName) ({ cls := "java/lang/Object", name := "getClass", desc := "()Ljava/lang/Class;" } : Jvm.MethodName)) ∈ lw_all := lw_g (lw_at lw_m1 181 rfl) rfl
theorem q1196 : (Jvm.Cond.instantiable "EndSums$Cell" (6 : Nat)) ∈ lw_all := lw_g (lw_at lw_m5 152 rfl) rfl
theorem q1198 : (Jvm.Cond.instanceMethod ({ cls := "EndSums$Cell", name := "<init>", desc := "(ILEndSums$Cell;)V" } : Jvm.MethodName)) ∈ lw_all := lw_g (lw_at lw_m5 154 rfl) rfl
theorem q1199 : (Jvm.Cond.code ({ cls := "EndSums$Cell", name := "<init>", desc := "(ILEndSums$Cell;)V" } : Jvm.MethodName) prog_2_method_1_code (3 : Nat) (Option.none : Option Jvm.ClassFile.FieldType)) ∈ lw_all := lw_g (lw_at lw_m5 155 rfl) rfl
theorem q1200 : (Jvm.Cond.methodLinkNest "EndSums$Cell" (1 : Nat) ({ cls := "EndSums$Pair", name := "<init>", desc := "()V" } : Jvm.MethodName) "EndSums") ∈ lw_tbl := lw_at lw_m5 156 rfl
theorem q1201 : (Jvm.Cond.fieldLink "EndSums$Cell" (7 : Nat) "EndSums$Cell" "item" "I") ∈ lw_all := lw_g (lw_at lw_m5 157 rfl) rfl
theorem q1204 : (Jvm.Cond.fieldLink "EndSums$Cell" (13 : Nat) "EndSums$Cell" "below" "LEndSums$Cell;") ∈ lw_all := lw_g (lw_at lw_m5 160 rfl) rfl
theorem q1209 : (Jvm.Cond.laysFinal "EndSums$Cell" "EndSums$Cell" "item" "I") ∈ lw_all := lw_g (lw_at lw_m5 165 rfl) rfl
theorem q1210 : (Jvm.Cond.soleField "EndSums$Cell" "item") ∈ lw_all := lw_g (lw_at lw_m5 166 rfl) rfl
theorem q1211 : (Jvm.Cond.laysFinal "EndSums$Cell" "EndSums$Cell" "below" "LEndSums$Cell;") ∈ lw_all := lw_g (lw_at lw_m5 167 rfl) rfl
theorem q1212 : (Jvm.Cond.soleField "EndSums$Cell" "below") ∈ lw_all := lw_g (lw_at lw_m5 168 rfl) rfl
theorem q1213 : (Jvm.Cond.lays "EndSums$Cell" "EndSums$Cell" "lines" "I") ∈ lw_all := lw_g (lw_at lw_m5 169 rfl) rfl
theorem q1214 : (Jvm.Cond.soleField "EndSums$Cell" "lines") ∈ lw_all := lw_g (lw_at lw_m5 170 rfl) rfl
theorem q1215 : (Jvm.Cond.lays "EndSums$Cell" "EndSums$Cell" "round" "I") ∈ lw_all := lw_g (lw_at lw_m5 171 rfl) rfl
theorem q1216 : (Jvm.Cond.soleField "EndSums$Cell" "round") ∈ lw_all := lw_g (lw_at lw_m5 172 rfl) rfl
theorem q1217 : (Jvm.Cond.lays "EndSums$Cell" "EndSums$Pair" "p" "J") ∈ lw_all := lw_g (lw_at lw_m5 173 rfl) rfl
theorem q1218 : (Jvm.Cond.lays "EndSums$Cell" "EndSums$Pair" "q" "J") ∈ lw_all := lw_g (lw_at lw_m5 174 rfl) rfl
theorem q1219 : (Jvm.Cond.superclass "EndSums$Cell" "EndSums$Pair") ∈ lw_all := lw_g (lw_at lw_m5 175 rfl) rfl
theorem q1392 : (Jvm.Cond.selects "EndSums$Cell" ({ cls := "EndSums$Pair", name := "isLike", desc := "(LEndSums$Pair;)Z" } : Jvm.MethodName) ({ cls := "EndSums$Pair", name := "isLike", desc := "(LEndSums$Pair;)Z" } : Jvm.MethodName)) ∈ lw_all := lw_g (lw_at lw_m6 108 rfl) rfl
theorem q2158 : (Jvm.Cond.castable "EndSums$Cell" "java/lang/Object") ∈ lw_tbl := lw_at lw_m9 154 rfl
theorem in_X5 : ∀ w ∈ wsX50, w ∈ lw_all := lw_in wsX50 [1217, 1218, 1209, 1211, 1213, 1215] (by decide +kernel) (by decide +kernel)
/-! EndSums$Fault -/
def RX6 : String := "EndSums$Fault"
def TX6 : u_T := fun k => match k with
  | 0 => ("java/lang/Throwable", "cause", "Ljava/lang/Throwable;", false)
  | 1 => ("java/lang/Throwable", "stackTrace", "[Ljava/lang/StackTraceElement;", false)
  | 2 => ("java/lang/Throwable", "suppressedExceptions", "Ljava/util/List;", false)
  | 3 => ("java/lang/Throwable", "detailMessage", "Ljava/lang/String;", false)
  | 4 => ("java/lang/Throwable", "backtrace", "Ljava/lang/Object;", false)
  | 5 => ("java/lang/Throwable", "depth", "I", false)
  | _ => ("EndSums$Fault", "at", "I", true)
def tyX6 : Nat → FieldType := fun k => match k with
  | 0 => .object "java/lang/Throwable"
  | 1 => .array (.object "java/lang/StackTraceElement")
  | 2 => .object "java/util/List"
  | 3 => .object "java/lang/String"
  | 4 => .object "java/lang/Object"
  | 5 => .int
  | _ => .int
abbrev wsX60 : List Cond := u_ws RX6 TX6 7
theorem nmX6 : ∀ a, a < 7 → ∀ b, b < 7 → a ≠ b → (TX6 a).2.1 ≠ (TX6 b).2.1 := by decide +kernel
theorem tyX6_ok : ∀ k, k < 7 → parseFieldDescriptor (TX6 k).2.2.1 = some (tyX6 k) := by decide +kernel
abbrev cX6_init : ByteArray := prog_3_method_1_code
def yX6_init : MethodName := ⟨RX6, "<init>", "(I)V"⟩
theorem q125 : (Jvm.Cond.initialized "EndSums$Fault") ∈ lw_all := lw_g (lw_at lw_m1 41 rfl) rfl
theorem q266 : (Jvm.Cond.selects "EndSums$Fault" ({ cls := "java/lang/Object", name := "getClass", desc := "()Ljava/lang/Class;" } : Jvm.MethodName) ({ cls := "java/lang/Object", name := "getClass", desc := "()Ljava/lang/Class;" } : Jvm.MethodName)) ∈ lw_all := lw_g (lw_at lw_m1 182 rfl) rfl
theorem q789 : (Jvm.Cond.selects "EndSums$Fault" ({ cls := "java/lang/Throwable", name := "fillInStackTrace", desc := "()Ljava/lang/Throwable;" } : Jvm.MethodName) ({ cls := "java/lang/Throwable", name := "fillInStackTrace", desc := "()Ljava/lang/Throwable;" } : Jvm.MethodName)) ∈ lw_all := lw_g (lw_at lw_m3 225 rfl) rfl
theorem q811 : (Jvm.Cond.selects "EndSums$Fault" ({ cls := "java/lang/Throwable", name := "toString", desc := "()Ljava/lang/String;" } : Jvm.MethodName) ({ cls := "java/lang/Throwable", name := "toString", desc := "()Ljava/lang/String;" } : Jvm.MethodName)) ∈ lw_all := lw_g (lw_at lw_m4 7 rfl) rfl
theorem q818 : (Jvm.Cond.selects "EndSums$Fault" ({ cls := "java/lang/Throwable", name := "getLocalizedMessage", desc := "()Ljava/lang/String;" } : Jvm.MethodName) ({ cls := "java/lang/Throwable", name := "getLocalizedMessage", desc := "()Ljava/lang/String;" } : Jvm.MethodName)) ∈ lw_all := lw_g (lw_at lw_m4 14 rfl) rfl
theorem q824 : (Jvm.Cond.selects "EndSums$Fault" ({ cls := "java/lang/Throwable", name := "getMessage", desc := "()Ljava/lang/String;" } : Jvm.MethodName) ({ cls := "java/lang/Throwable", name := "getMessage", desc := "()Ljava/lang/String;" } : Jvm.MethodName)) ∈ lw_all := lw_g (lw_at lw_m4 20 rfl) rfl
theorem q1251 : (Jvm.Cond.instantiable "EndSums$Fault" (7 : Nat)) ∈ lw_all := lw_g (lw_at lw_m5 207 rfl) rfl
theorem q1252 : (Jvm.Cond.castable "EndSums$Fault" "EndSums$Fault") ∈ lw_tbl := lw_at lw_m5 208 rfl
theorem q1253 : (Jvm.Cond.selects "EndSums$Fault" ({ cls := "java/lang/Throwable", name := "fillInStackTrace", desc := "(I)Ljava/lang/Throwable;" } : Jvm.MethodName) ({ cls := "java/lang/Throwable", name := "fillInStackTrace", desc := "(I)Ljava/lang/Throwable;" } : Jvm.MethodName)) ∈ lw_all := lw_g (lw_at lw_m5 209 rfl) rfl
theorem q1254 : (Jvm.Cond.lays "EndSums$Fault" "java/lang/Throwable" "cause" "Ljava/lang/Throwable;") ∈ lw_all := lw_g (lw_at lw_m5 210 rfl) rfl
theorem q1255 : (Jvm.Cond.lays "EndSums$Fault" "java/lang/Throwable" "stackTrace" "[Ljava/lang/StackTraceElement;") ∈ lw_all := lw_g (lw_at lw_m5 211 rfl) rfl
theorem q1256 : (Jvm.Cond.lays "EndSums$Fault" "java/lang/Throwable" "suppressedExceptions" "Ljava/util/List;") ∈ lw_all := lw_g (lw_at lw_m5 212 rfl) rfl
theorem q1257 : (Jvm.Cond.lays "EndSums$Fault" "java/lang/Throwable" "detailMessage" "Ljava/lang/String;") ∈ lw_all := lw_g (lw_at lw_m5 213 rfl) rfl
theorem q1258 : (Jvm.Cond.lays "EndSums$Fault" "java/lang/Throwable" "backtrace" "Ljava/lang/Object;") ∈ lw_all := lw_g (lw_at lw_m5 214 rfl) rfl
theorem q1260 : (Jvm.Cond.instanceMethod ({ cls := "EndSums$Fault", name := "<init>", desc := "(I)V" } : Jvm.MethodName)) ∈ lw_all := lw_g (lw_at lw_m5 216 rfl) rfl
theorem q1261 : (Jvm.Cond.code ({ cls := "EndSums$Fault", name := "<init>", desc := "(I)V" } : Jvm.MethodName) prog_3_method_1_code (2 : Nat) (Option.none : Option Jvm.ClassFile.FieldType)) ∈ lw_all := lw_g (lw_at lw_m5 217 rfl) rfl
theorem q1262 : (Jvm.Cond.methodLink "EndSums$Fault" (1 : Nat) ({ cls := "java/lang/Exception", name := "<init>", desc := "()V" } : Jvm.MethodName)) ∈ lw_all := lw_g (lw_at lw_m5 218 rfl) rfl
theorem q1263 : (Jvm.Cond.fieldLink "EndSums$Fault" (7 : Nat) "EndSums$Fault" "at" "I") ∈ lw_all := lw_g (lw_at lw_m5 219 rfl) rfl
theorem q1265 : (Jvm.Cond.laysFinal "EndSums$Fault" "EndSums$Fault" "at" "I") ∈ lw_all := lw_g (lw_at lw_m5 221 rfl) rfl
theorem q1266 : (Jvm.Cond.soleField "EndSums$Fault" "at") ∈ lw_all := lw_g (lw_at lw_m5 222 rfl) rfl
theorem q1267 : (Jvm.Cond.lays "EndSums$Fault" "java/lang/Throwable" "depth" "I") ∈ lw_all := lw_g (lw_at lw_m5 223 rfl) rfl
theorem q1268 : (Jvm.Cond.superclass "EndSums$Fault" "java/lang/Exception") ∈ lw_all := lw_g (lw_at lw_m5 224 rfl) rfl
theorem q2176 : (Jvm.Cond.castable "EndSums$Fault" "java/lang/Object") ∈ lw_tbl := lw_at lw_m9 172 rfl
theorem in_X6 : ∀ w ∈ wsX60, w ∈ lw_all := lw_in wsX60 [1254, 1255, 1256, 1257, 1258, 1267, 1265] (by decide +kernel) (by decide +kernel)
/-! java/util/BitSet -/
def RJ32 : String := "java/util/BitSet"
def TJ32 : u_T := fun k => match k with
  | 0 => ("java/util/BitSet", "words", "[J", false)
  | 1 => ("java/util/BitSet", "wordsInUse", "I", false)
  | _ => ("java/util/BitSet", "sizeIsSticky", "Z", false)
def tyJ32 : Nat → FieldType := fun k => match k with
  | 0 => .array .long
  | 1 => .int
  | _ => .boolean
abbrev wsJ320 : List Cond := u_ws RJ32 TJ32 3
theorem nmJ32 : ∀ a, a < 3 → ∀ b, b < 3 → a ≠ b → (TJ32 a).2.1 ≠ (TJ32 b).2.1 := by decide +kernel
theorem tyJ32_ok : ∀ k, k < 3 → parseFieldDescriptor (TJ32 k).2.2.1 = some (tyJ32 k) := by decide +kernel
abbrev cJ32_init : ByteArray := prog_42_method_5_code
def yJ32_init : MethodName := ⟨RJ32, "<init>", "(I)V"⟩
abbrev cJ32_initWords : ByteArray := prog_42_method_6_code
def yJ32_initWords : MethodName := ⟨RJ32, "initWords", "(I)V"⟩
abbrev cJ32_wordIndex : ByteArray := prog_42_method_1_code
def yJ32_wordIndex : MethodName := ⟨RJ32, "wordIndex", "(I)I"⟩
abbrev cJ32_set : ByteArray := prog_42_method_21_code
def yJ32_set : MethodName := ⟨RJ32, "set", "(II)V"⟩
abbrev cJ32_checkRange : ByteArray := prog_42_method_16_code
def yJ32_checkRange : MethodName := ⟨RJ32, "checkRange", "(II)V"⟩
abbrev cJ32_expandTo : ByteArray := prog_42_method_15_code
def yJ32_expandTo : MethodName := ⟨RJ32, "expandTo", "(I)V"⟩
abbrev cJ32_ensureCapacity : ByteArray := prog_42_method_14_code
def yJ32_ensureCapacity : MethodName := ⟨RJ32, "ensureCapacity", "(I)V"⟩
abbrev cJ32_checkInvariants : ByteArray := prog_42_method_2_code
def yJ32_checkInvariants : MethodName := ⟨RJ32, "checkInvariants", "()V"⟩
abbrev cJ32_clear : ByteArray := prog_42_method_23_code
def yJ32_clear : MethodName := ⟨RJ32, "clear", "(I)V"⟩
abbrev cJ32_recalculateWordsInUse : ByteArray := prog_42_method_3_code
def yJ32_recalculateWordsInUse : MethodName := ⟨RJ32, "recalculateWordsInUse", "()V"⟩
abbrev cJ32_nextSetBit : ByteArray := prog_42_method_28_code
def yJ32_nextSetBit : MethodName := ⟨RJ32, "nextSetBit", "(I)I"⟩
theorem q126 : (Jvm.Cond.initialized "java/util/BitSet") ∈ lw_all := lw_g (lw_at lw_m1 42 rfl) rfl
theorem q276 : (Jvm.Cond.selects "java/util/BitSet" ({ cls := "java/lang/Object", name := "getClass", desc := "()Ljava/lang/Class;" } : Jvm.MethodName) ({ cls := "java/lang/Object", name := "getClass", desc := "()Ljava/lang/Class;" } : Jvm.MethodName)) ∈ lw_all := lw_g (lw_at lw_m1 192 rfl) rfl
theorem q1280 : (Jvm.Cond.instantiable "java/util/BitSet" (3 : Nat)) ∈ lw_all := lw_g (lw_at lw_m5 236 rfl) rfl
theorem q1282 : (Jvm.Cond.instanceMethod ({ cls := "java/util/BitSet", name := "<init>", desc := "(I)V" } : Jvm.MethodName)) ∈ lw_all := lw_g (lw_at lw_m5 238 rfl) rfl
theorem q1283 : (Jvm.Cond.code ({ cls := "java/util/BitSet", name := "<init>", desc := "(I)V" } : Jvm.MethodName) prog_42_method_5_code (2 : Nat) (Option.none : Option Jvm.ClassFile.FieldType)) ∈ lw_all := lw_g (lw_at lw_m5 239 rfl) rfl
theorem q1284 : (Jvm.Cond.methodLink "java/util/BitSet" (21 : Nat) ({ cls := "java/lang/Object", name := "<init>", desc := "()V" } : Jvm.MethodName)) ∈ lw_all := lw_g (lw_at lw_m6 0 rfl) rfl
theorem q1285 : (Jvm.Cond.methodLink "java/util/BitSet" (27 : Nat) ({ cls := "java/util/BitSet", name := "initWords", desc := "(I)V" } : Jvm.MethodName)) ∈ lw_all := lw_g (lw_at lw_m6 1 rfl) rfl
theorem q1286 : (Jvm.Cond.privateMethod ({ cls := "java/util/BitSet", name := "initWords", desc := "(I)V" } : Jvm.MethodName)) ∈ lw_tbl := lw_at lw_m6 2 rfl
theorem q1287 : (Jvm.Cond.instanceMethod ({ cls := "java/util/BitSet", name := "initWords", desc := "(I)V" } : Jvm.MethodName)) ∈ lw_all := lw_g (lw_at lw_m6 3 rfl) rfl
theorem q1288 : (Jvm.Cond.code ({ cls := "java/util/BitSet", name := "initWords", desc := "(I)V" } : Jvm.MethodName) prog_42_method_6_code (2 : Nat) (Option.none : Option Jvm.ClassFile.FieldType)) ∈ lw_all := lw_g (lw_at lw_m6 4 rfl) rfl
theorem q1289 : (Jvm.Cond.methodLink "java/util/BitSet" (52 : Nat) ({ cls := "java/util/BitSet", name := "wordIndex", desc := "(I)I" } : Jvm.MethodName)) ∈ lw_all := lw_g (lw_at lw_m6 5 rfl) rfl
theorem q1290 : (Jvm.Cond.static ({ cls := "java/util/BitSet", name := "wordIndex", desc := "(I)I" } : Jvm.MethodName)) ∈ lw_all := lw_g (lw_at lw_m6 6 rfl) rfl
theorem q1291 : (Jvm.Cond.code ({ cls := "java/util/BitSet", name := "wordIndex", desc := "(I)I" } : Jvm.MethodName) prog_42_method_1_code (1 : Nat) (Option.some Jvm.ClassFile.FieldType.int)) ∈ lw_all := lw_g (lw_at lw_m6 7 rfl) rfl
theorem q1292 : (Jvm.Cond.fieldLink "java/util/BitSet" (11 : Nat) "java/util/BitSet" "words" "[J") ∈ lw_all := lw_g (lw_at lw_m6 8 rfl) rfl
theorem q1293 : (Jvm.Cond.fieldLink "java/util/BitSet" (7 : Nat) "java/util/BitSet" "wordsInUse" "I") ∈ lw_all := lw_g (lw_at lw_m6 9 rfl) rfl
theorem q1294 : (Jvm.Cond.fieldLink "java/util/BitSet" (24 : Nat) "java/util/BitSet" "sizeIsSticky" "Z") ∈ lw_all := lw_g (lw_at lw_m6 10 rfl) rfl
theorem q1295 : (Jvm.Cond.lays "java/util/BitSet" "java/util/BitSet" "words" "[J") ∈ lw_all := lw_g (lw_at lw_m6 11 rfl) rfl
theorem q1296 : (Jvm.Cond.soleField "java/util/BitSet" "words") ∈ lw_all := lw_g (lw_at lw_m6 12 rfl) rfl
theorem q1297 : (Jvm.Cond.lays "java/util/BitSet" "java/util/BitSet" "wordsInUse" "I") ∈ lw_all := lw_g (lw_at lw_m6 13 rfl) rfl
theorem q1298 : (Jvm.Cond.soleField "java/util/BitSet" "wordsInUse") ∈ lw_all := lw_g (lw_at lw_m6 14 rfl) rfl
theorem q1299 : (Jvm.Cond.lays "java/util/BitSet" "java/util/BitSet" "sizeIsSticky" "Z") ∈ lw_all := lw_g (lw_at lw_m6 15 rfl) rfl
theorem q1300 : (Jvm.Cond.soleField "java/util/BitSet" "sizeIsSticky") ∈ lw_all := lw_g (lw_at lw_m6 16 rfl) rfl
theorem q1301 : (Jvm.Cond.superclass "java/util/BitSet" "java/lang/Object") ∈ lw_all := lw_g (lw_at lw_m6 17 rfl) rfl
theorem q1303 : (Jvm.Cond.instanceMethod ({ cls := "java/util/BitSet", name := "set", desc := "(II)V" } : Jvm.MethodName)) ∈ lw_all := lw_g (lw_at lw_m6 19 rfl) rfl
theorem q1304 : (Jvm.Cond.selects "java/util/BitSet" ({ cls := "java/util/BitSet", name := "set", desc := "(II)V" } : Jvm.MethodName) ({ cls := "java/util/BitSet", name := "set", desc := "(II)V" } : Jvm.MethodName)) ∈ lw_all := lw_g (lw_at lw_m6 20 rfl) rfl
theorem q1305 : (Jvm.Cond.code ({ cls := "java/util/BitSet", name := "set", desc := "(II)V" } : Jvm.MethodName) prog_42_method_21_code (10 : Nat) (Option.none : Option Jvm.ClassFile.FieldType)) ∈ lw_all := lw_g (lw_at lw_m6 21 rfl) rfl
theorem q1306 : (Jvm.Cond.methodLink "java/util/BitSet" (161 : Nat) ({ cls := "java/util/BitSet", name := "checkRange", desc := "(II)V" } : Jvm.MethodName)) ∈ lw_all := lw_g (lw_at lw_m6 22 rfl) rfl
theorem q1307 : (Jvm.Cond.static ({ cls := "java/util/BitSet", name := "checkRange", desc := "(II)V" } : Jvm.MethodName)) ∈ lw_all := lw_g (lw_at lw_m6 23 rfl) rfl
theorem q1308 : (Jvm.Cond.code ({ cls := "java/util/BitSet", name := "checkRange", desc := "(II)V" } : Jvm.MethodName) prog_42_method_16_code (2 : Nat) (Option.none : Option Jvm.ClassFile.FieldType)) ∈ lw_all := lw_g (lw_at lw_m6 24 rfl) rfl
theorem q1309 : (Jvm.Cond.methodLink "java/util/BitSet" (155 : Nat) ({ cls := "java/util/BitSet", name := "expandTo", desc := "(I)V" } : Jvm.MethodName)) ∈ lw_all := lw_g (lw_at lw_m6 25 rfl) rfl
theorem q1310 : (Jvm.Cond.privateMethod ({ cls := "java/util/BitSet", name := "expandTo", desc := "(I)V" } : Jvm.MethodName)) ∈ lw_tbl := lw_at lw_m6 26 rfl
theorem q1311 : (Jvm.Cond.instanceMethod ({ cls := "java/util/BitSet", name := "expandTo", desc := "(I)V" } : Jvm.MethodName)) ∈ lw_all := lw_g (lw_at lw_m6 27 rfl) rfl
theorem q1312 : (Jvm.Cond.code ({ cls := "java/util/BitSet", name := "expandTo", desc := "(I)V" } : Jvm.MethodName) prog_42_method_15_code (3 : Nat) (Option.none : Option Jvm.ClassFile.FieldType)) ∈ lw_all := lw_g (lw_at lw_m6 28 rfl) rfl
theorem q1313 : (Jvm.Cond.methodLink "java/util/BitSet" (139 : Nat) ({ cls := "java/util/BitSet", name := "ensureCapacity", desc := "(I)V" } : Jvm.MethodName)) ∈ lw_all := lw_g (lw_at lw_m6 29 rfl) rfl
theorem q1314 : (Jvm.Cond.privateMethod ({ cls := "java/util/BitSet", name := "ensureCapacity", desc := "(I)V" } : Jvm.MethodName)) ∈ lw_tbl := lw_at lw_m6 30 rfl
theorem q1315 : (Jvm.Cond.instanceMethod ({ cls := "java/util/BitSet", name := "ensureCapacity", desc := "(I)V" } : Jvm.MethodName)) ∈ lw_all := lw_g (lw_at lw_m6 31 rfl) rfl
theorem q1316 : (Jvm.Cond.code ({ cls := "java/util/BitSet", name := "ensureCapacity", desc := "(I)V" } : Jvm.MethodName) prog_42_method_14_code (3 : Nat) (Option.none : Option Jvm.ClassFile.FieldType)) ∈ lw_all := lw_g (lw_at lw_m6 32 rfl) rfl
theorem q1317 : (Jvm.Cond.methodLink "java/util/BitSet" (133 : Nat) ({ cls := "java/lang/Math", name := "max", desc := "(II)I" } : Jvm.MethodName)) ∈ lw_all := lw_g (lw_at lw_m6 33 rfl) rfl
theorem q1318 : (Jvm.Cond.methodLink "java/util/BitSet" (59 : Nat) ({ cls := "java/util/Arrays", name := "copyOf", desc := "([JI)[J" } : Jvm.MethodName)) ∈ lw_all := lw_g (lw_at lw_m6 34 rfl) rfl
theorem q1326 : (Jvm.Cond.constantLong "java/util/BitSet" (165 : Nat) (-1 : Int64)) ∈ lw_all := lw_g (lw_at lw_m6 42 rfl) rfl
theorem q1327 : (Jvm.Cond.methodLink "java/util/BitSet" (56 : Nat) ({ cls := "java/util/BitSet", name := "checkInvariants", desc := "()V" } : Jvm.MethodName)) ∈ lw_all := lw_g (lw_at lw_m6 43 rfl) rfl
theorem q1328 : (Jvm.Cond.privateMethod ({ cls := "java/util/BitSet", name := "checkInvariants", desc := "()V" } : Jvm.MethodName)) ∈ lw_tbl := lw_at lw_m6 44 rfl
theorem q1329 : (Jvm.Cond.instanceMethod ({ cls := "java/util/BitSet", name := "checkInvariants", desc := "()V" } : Jvm.MethodName)) ∈ lw_all := lw_g (lw_at lw_m6 45 rfl) rfl
theorem q1330 : (Jvm.Cond.code ({ cls := "java/util/BitSet", name := "checkInvariants", desc := "()V" } : Jvm.MethodName) prog_42_method_2_code (1 : Nat) (Option.none : Option Jvm.ClassFile.FieldType)) ∈ lw_all := lw_g (lw_at lw_m6 46 rfl) rfl
theorem q1331 : (Jvm.Cond.fieldLink "java/util/BitSet" (3 : Nat) "java/util/BitSet" "$assertionsDisabled" "Z") ∈ lw_all := lw_g (lw_at lw_m6 47 rfl) rfl
theorem q1332 : (Jvm.Cond.laysStatic "java/util/BitSet" "$assertionsDisabled" "Z") ∈ lw_tbl := lw_at lw_m6 48 rfl
theorem q1334 : (Jvm.Cond.instanceMethod ({ cls := "java/util/BitSet", name := "clear", desc := "(I)V" } : Jvm.MethodName)) ∈ lw_all := lw_g (lw_at lw_m6 50 rfl) rfl
theorem q1335 : (Jvm.Cond.selects "java/util/BitSet" ({ cls := "java/util/BitSet", name := "clear", desc := "(I)V" } : Jvm.MethodName) ({ cls := "java/util/BitSet", name := "clear", desc := "(I)V" } : Jvm.MethodName)) ∈ lw_all := lw_g (lw_at lw_m6 51 rfl) rfl
theorem q1336 : (Jvm.Cond.code ({ cls := "java/util/BitSet", name := "clear", desc := "(I)V" } : Jvm.MethodName) prog_42_method_23_code (3 : Nat) (Option.none : Option Jvm.ClassFile.FieldType)) ∈ lw_all := lw_g (lw_at lw_m6 52 rfl) rfl
theorem q1337 : (Jvm.Cond.methodLink "java/util/BitSet" (158 : Nat) ({ cls := "java/util/BitSet", name := "recalculateWordsInUse", desc := "()V" } : Jvm.MethodName)) ∈ lw_all := lw_g (lw_at lw_m6 53 rfl) rfl
theorem q1338 : (Jvm.Cond.privateMethod ({ cls := "java/util/BitSet", name := "recalculateWordsInUse", desc := "()V" } : Jvm.MethodName)) ∈ lw_tbl := lw_at lw_m6 54 rfl
theorem q1339 : (Jvm.Cond.instanceMethod ({ cls := "java/util/BitSet", name := "recalculateWordsInUse", desc := "()V" } : Jvm.MethodName)) ∈ lw_all := lw_g (lw_at lw_m6 55 rfl) rfl
theorem q1340 : (Jvm.Cond.code ({ cls := "java/util/BitSet", name := "recalculateWordsInUse", desc := "()V" } : Jvm.MethodName) prog_42_method_3_code (2 : Nat) (Option.none : Option Jvm.ClassFile.FieldType)) ∈ lw_all := lw_g (lw_at lw_m6 56 rfl) rfl
theorem q1342 : (Jvm.Cond.instanceMethod ({ cls := "java/util/BitSet", name := "nextSetBit", desc := "(I)I" } : Jvm.MethodName)) ∈ lw_all := lw_g (lw_at lw_m6 58 rfl) rfl
theorem q1343 : (Jvm.Cond.selects "java/util/BitSet" ({ cls := "java/util/BitSet", name := "nextSetBit", desc := "(I)I" } : Jvm.MethodName) ({ cls := "java/util/BitSet", name := "nextSetBit", desc := "(I)I" } : Jvm.MethodName)) ∈ lw_all := lw_g (lw_at lw_m6 59 rfl) rfl
theorem q1344 : (Jvm.Cond.code ({ cls := "java/util/BitSet", name := "nextSetBit", desc := "(I)I" } : Jvm.MethodName) prog_42_method_28_code (5 : Nat) (Option.some Jvm.ClassFile.FieldType.int)) ∈ lw_all := lw_g (lw_at lw_m6 60 rfl) rfl
theorem q1345 : (Jvm.Cond.methodLink "java/util/BitSet" (182 : Nat) ({ cls := "java/lang/Long", name := "numberOfTrailingZeros", desc := "(J)I" } : Jvm.MethodName)) ∈ lw_all := lw_g (lw_at lw_m6 61 rfl) rfl
theorem q2177 : (Jvm.Cond.castable "java/util/BitSet" "java/lang/Object") ∈ lw_tbl := lw_at lw_m9 173 rfl
theorem in_J32 : ∀ w ∈ wsJ320, w ∈ lw_all := lw_in wsJ320 [1295, 1297, 1299] (by decide +kernel) (by decide +kernel)
/-! java/lang/Long -/
def RJ33 : String := "java/lang/Long"
abbrev cJ33_numberOfTrailingZeros : ByteArray := prog_21_method_49_code
def yJ33_numberOfTrailingZeros : MethodName := ⟨RJ33, "numberOfTrailingZeros", "(J)I"⟩
theorem q127 : (Jvm.Cond.initialized "java/lang/Long") ∈ lw_all := lw_g (lw_at lw_m1 43 rfl) rfl
theorem q1346 : (Jvm.Cond.static ({ cls := "java/lang/Long", name := "numberOfTrailingZeros", desc := "(J)I" } : Jvm.MethodName)) ∈ lw_all := lw_g (lw_at lw_m6 62 rfl) rfl
theorem q1347 : (Jvm.Cond.code ({ cls := "java/lang/Long", name := "numberOfTrailingZeros", desc := "(J)I" } : Jvm.MethodName) prog_21_method_49_code (3 : Nat) (Option.some Jvm.ClassFile.FieldType.int)) ∈ lw_all := lw_g (lw_at lw_m6 63 rfl) rfl
theorem q1348 : (Jvm.Cond.methodLink "java/lang/Long" (311 : Nat) ({ cls := "java/lang/Integer", name := "numberOfTrailingZeros", desc := "(I)I" } : Jvm.MethodName)) ∈ lw_all := lw_g (lw_at lw_m6 64 rfl) rfl
/-! java/lang/Character -/
def RJ34 : String := "java/lang/Character"
abbrev cJ34_isValidCodePoint : ByteArray := prog_14_method_11_code
def yJ34_isValidCodePoint : MethodName := ⟨RJ34, "isValidCodePoint", "(I)Z"⟩
abbrev cJ34_highSurrogate : ByteArray := prog_14_method_28_code
def yJ34_highSurrogate : MethodName := ⟨RJ34, "highSurrogate", "(I)C"⟩
abbrev cJ34_lowSurrogate : ByteArray := prog_14_method_29_code
def yJ34_lowSurrogate : MethodName := ⟨RJ34, "lowSurrogate", "(I)C"⟩
theorem q128 : (Jvm.Cond.initialized "java/lang/Character") ∈ lw_all := lw_g (lw_at lw_m1 44 rfl) rfl
theorem q1546 : (Jvm.Cond.static ({ cls := "java/lang/Character", name := "isValidCodePoint", desc := "(I)Z" } : Jvm.MethodName)) ∈ lw_all := lw_g (lw_at lw_m7 22 rfl) rfl
theorem q1547 : (Jvm.Cond.code ({ cls := "java/lang/Character", name := "isValidCodePoint", desc := "(I)Z" } : Jvm.MethodName) prog_14_method_11_code (2 : Nat) (Option.some Jvm.ClassFile.FieldType.boolean)) ∈ lw_all := lw_g (lw_at lw_m7 23 rfl) rfl
theorem q1549 : (Jvm.Cond.static ({ cls := "java/lang/Character", name := "highSurrogate", desc := "(I)C" } : Jvm.MethodName)) ∈ lw_all := lw_g (lw_at lw_m7 25 rfl) rfl
theorem q1550 : (Jvm.Cond.code ({ cls := "java/lang/Character", name := "highSurrogate", desc := "(I)C" } : Jvm.MethodName) prog_14_method_28_code (1 : Nat) (Option.some Jvm.ClassFile.FieldType.char)) ∈ lw_all := lw_g (lw_at lw_m7 26 rfl) rfl
theorem q1551 : (Jvm.Cond.constant "java/lang/Character" (110 : Nat) (55232 : Int32)) ∈ lw_all := lw_g (lw_at lw_m7 27 rfl) rfl
theorem q1553 : (Jvm.Cond.static ({ cls := "java/lang/Character", name := "lowSurrogate", desc := "(I)C" } : Jvm.MethodName)) ∈ lw_all := lw_g (lw_at lw_m7 29 rfl) rfl
theorem q1554 : (Jvm.Cond.code ({ cls := "java/lang/Character", name := "lowSurrogate", desc := "(I)C" } : Jvm.MethodName) prog_14_method_29_code (1 : Nat) (Option.some Jvm.ClassFile.FieldType.char)) ∈ lw_all := lw_g (lw_at lw_m7 30 rfl) rfl
theorem q1555 : (Jvm.Cond.constant "java/lang/Character" (76 : Nat) (56320 : Int32)) ∈ lw_all := lw_g (lw_at lw_m7 31 rfl) rfl
/-! java/lang/Object -/
def RJ35 : String := "java/lang/Object"
abbrev cJ35_init : ByteArray := object_method_1_code
def yJ35_init : MethodName := ⟨RJ35, "<init>", "()V"⟩
theorem q135 : (Jvm.Cond.instanceMethod ({ cls := "java/lang/Object", name := "<init>", desc := "()V" } : Jvm.MethodName)) ∈ lw_all := lw_g (lw_at lw_m1 51 rfl) rfl
theorem q136 : (Jvm.Cond.code ({ cls := "java/lang/Object", name := "<init>", desc := "()V" } : Jvm.MethodName) object_method_1_code (1 : Nat) (Option.none : Option Jvm.ClassFile.FieldType)) ∈ lw_all := lw_g (lw_at lw_m1 52 rfl) rfl
theorem q262 : (Jvm.Cond.instanceMethod ({ cls := "java/lang/Object", name := "getClass", desc := "()Ljava/lang/Class;" } : Jvm.MethodName)) ∈ lw_all := lw_g (lw_at lw_m1 178 rfl) rfl
theorem q263 : (Jvm.Cond.sameMethod "java/lang/Object" "java/lang/Object" "getClass" "()Ljava/lang/Class;") ∈ lw_all := lw_g (lw_at lw_m1 179 rfl) rfl
theorem q284 : (Jvm.Cond.native ({ cls := "java/lang/Object", name := "getClass", desc := "()Ljava/lang/Class;" } : Jvm.MethodName)) ∈ lw_all := lw_g (lw_at lw_m1 200 rfl) rfl
theorem q891 : (Jvm.Cond.native ({ cls := "java/lang/Object", name := "clone", desc := "()Ljava/lang/Object;" } : Jvm.MethodName)) ∈ lw_all := lw_g (lw_at lw_m4 87 rfl) rfl
theorem q892 : (Jvm.Cond.instanceMethod ({ cls := "java/lang/Object", name := "clone", desc := "()Ljava/lang/Object;" } : Jvm.MethodName)) ∈ lw_all := lw_g (lw_at lw_m4 88 rfl) rfl
theorem q2155 : (Jvm.Cond.initialized "java/lang/Object") ∈ lw_all := lw_g (lw_at lw_m9 151 rfl) rfl
theorem q2181 : (Jvm.Cond.declares ({ cls := "java/lang/Object", name := "getClass", desc := "()Ljava/lang/Class;" } : Jvm.MethodName)) ∈ lw_tbl := lw_at lw_m9 177 rfl
theorem q2197 : (Jvm.Cond.instantiable "java/lang/Object" (0 : Nat)) ∈ lw_all := lw_g (lw_at lw_m9 193 rfl) rfl
/-! the law's own entry -/
abbrev cL_law : ByteArray := code
theorem q138 : (Jvm.Cond.arrayOver (Jvm.ClassFile.FieldType.object "EndSums$Make")) ∈ lw_tbl := lw_at lw_m1 54 rfl
theorem q169 : (Jvm.Cond.arrayOver (Jvm.ClassFile.FieldType.object "EndSums$Join")) ∈ lw_tbl := lw_at lw_m1 85 rfl
theorem q210 : (Jvm.Cond.arrayOver (Jvm.ClassFile.FieldType.array Jvm.ClassFile.FieldType.int)) ∈ lw_tbl := lw_at lw_m1 126 rfl
theorem q230 : (Jvm.Cond.arrayClass Jvm.ClassFile.FieldType.int) ∈ lw_all := lw_g (lw_at lw_m1 146 rfl) rfl
theorem q238 : (Jvm.Cond.arrayOver (Jvm.ClassFile.FieldType.object "EndSums$Cell")) ∈ lw_tbl := lw_at lw_m1 154 rfl
theorem q255 : (Jvm.Cond.arrayOver (Jvm.ClassFile.FieldType.object "java/lang/Object")) ∈ lw_tbl := lw_at lw_m1 171 rfl
theorem q358 : (Jvm.Cond.arrayClass Jvm.ClassFile.FieldType.byte) ∈ lw_all := lw_g (lw_at lw_m2 34 rfl) rfl
theorem q359 : (Jvm.Cond.arrayClass Jvm.ClassFile.FieldType.long) ∈ lw_all := lw_g (lw_at lw_m2 35 rfl) rfl
theorem q102 : (Jvm.Cond.initialized "java/lang/Integer$IntegerCache") ∈ lw_all := lw_g (lw_at lw_m1 18 rfl) rfl
theorem q342 : (Jvm.Cond.laysStatic "java/lang/Integer$IntegerCache" "high" "I") ∈ lw_tbl := lw_at lw_m2 18 rfl
theorem q344 : (Jvm.Cond.laysStatic "java/lang/Integer$IntegerCache" "cache" "[Ljava/lang/Integer;") ∈ lw_tbl := lw_at lw_m2 20 rfl
theorem q104 : (Jvm.Cond.initialized "java/lang/System") ∈ lw_all := lw_g (lw_at lw_m1 20 rfl) rfl
theorem q432 : (Jvm.Cond.static ({ cls := "java/lang/System", name := "arraycopy", desc := "(Ljava/lang/Object;ILjava/lang/Object;II)V" } : Jvm.MethodName)) ∈ lw_all := lw_g (lw_at lw_m2 108 rfl) rfl
theorem q433 : (Jvm.Cond.native ({ cls := "java/lang/System", name := "arraycopy", desc := "(Ljava/lang/Object;ILjava/lang/Object;II)V" } : Jvm.MethodName)) ∈ lw_all := lw_g (lw_at lw_m2 109 rfl) rfl
theorem q109 : (Jvm.Cond.initialized "java/util/AbstractList$ListItr") ∈ lw_all := lw_g (lw_at lw_m1 25 rfl) rfl
theorem q273 : (Jvm.Cond.selects "java/util/AbstractList$ListItr" ({ cls := "java/lang/Object", name := "getClass", desc := "()Ljava/lang/Class;" } : Jvm.MethodName) ({ cls := "java/lang/Object", name := "getClass", desc := "()Ljava/lang/Class;" } : Jvm.MethodName)) ∈ lw_all := lw_g (lw_at lw_m1 189 rfl) rfl
theorem q707 : (Jvm.Cond.castable "java/util/AbstractList$ListItr" "java/util/Iterator") ∈ lw_tbl := lw_at lw_m3 143 rfl
theorem q708 : (Jvm.Cond.selects "java/util/AbstractList$ListItr" ({ cls := "java/util/Iterator", name := "hasNext", desc := "()Z" } : Jvm.MethodName) ({ cls := "java/util/AbstractList$Itr", name := "hasNext", desc := "()Z" } : Jvm.MethodName)) ∈ lw_all := lw_g (lw_at lw_m3 144 rfl) rfl
theorem q709 : (Jvm.Cond.unhidden "java/util/AbstractList$ListItr" "hasNext" "()Z") ∈ lw_tbl := lw_at lw_m3 145 rfl
theorem q740 : (Jvm.Cond.selects "java/util/AbstractList$ListItr" ({ cls := "java/util/Iterator", name := "next", desc := "()Ljava/lang/Object;" } : Jvm.MethodName) ({ cls := "java/util/AbstractList$Itr", name := "next", desc := "()Ljava/lang/Object;" } : Jvm.MethodName)) ∈ lw_all := lw_g (lw_at lw_m3 176 rfl) rfl
theorem q741 : (Jvm.Cond.unhidden "java/util/AbstractList$ListItr" "next" "()Ljava/lang/Object;") ∈ lw_tbl := lw_at lw_m3 177 rfl
theorem q748 : (Jvm.Cond.selects "java/util/AbstractList$ListItr" ({ cls := "java/util/AbstractList$Itr", name := "checkForComodification", desc := "()V" } : Jvm.MethodName) ({ cls := "java/util/AbstractList$Itr", name := "checkForComodification", desc := "()V" } : Jvm.MethodName)) ∈ lw_all := lw_g (lw_at lw_m3 184 rfl) rfl
theorem q2169 : (Jvm.Cond.castable "java/util/AbstractList$ListItr" "java/lang/Object") ∈ lw_tbl := lw_at lw_m9 165 rfl
theorem q2190 : (Jvm.Cond.fieldLink "java/util/AbstractList$ListItr" (1 : Nat) "java/util/AbstractList$ListItr" "this$0" "Ljava/util/AbstractList;") ∈ lw_all := lw_g (lw_at lw_m9 186 rfl) rfl
theorem q2195 : (Jvm.Cond.fieldLink "java/util/AbstractList$ListItr" (13 : Nat) "java/util/AbstractList$ListItr" "cursor" "I") ∈ lw_all := lw_g (lw_at lw_m9 191 rfl) rfl
theorem q2196 : (Jvm.Cond.sameField "java/util/AbstractList$ListItr" "java/util/AbstractList$Itr" "cursor" "I") ∈ lw_all := lw_g (lw_at lw_m9 192 rfl) rfl
theorem q409 : (Jvm.Cond.interfaceMethod "java/util/Collection" "java/util/Collection" "toArray" "()[Ljava/lang/Object;") ∈ lw_tbl := lw_at lw_m2 85 rfl
theorem q410 : (Jvm.Cond.declares ({ cls := "java/util/Collection", name := "toArray", desc := "()[Ljava/lang/Object;" } : Jvm.MethodName)) ∈ lw_tbl := lw_at lw_m2 86 rfl
theorem q705 : (Jvm.Cond.interfaceMethod "java/util/Iterator" "java/util/Iterator" "hasNext" "()Z") ∈ lw_tbl := lw_at lw_m3 141 rfl
theorem q706 : (Jvm.Cond.declares ({ cls := "java/util/Iterator", name := "hasNext", desc := "()Z" } : Jvm.MethodName)) ∈ lw_tbl := lw_at lw_m3 142 rfl
theorem q738 : (Jvm.Cond.interfaceMethod "java/util/Iterator" "java/util/Iterator" "next" "()Ljava/lang/Object;") ∈ lw_tbl := lw_at lw_m3 174 rfl
theorem q739 : (Jvm.Cond.declares ({ cls := "java/util/Iterator", name := "next", desc := "()Ljava/lang/Object;" } : Jvm.MethodName)) ∈ lw_tbl := lw_at lw_m3 175 rfl
theorem q890 : (Jvm.Cond.sameMethod "[B" "java/lang/Object" "clone" "()Ljava/lang/Object;") ∈ lw_all := lw_g (lw_at lw_m4 86 rfl) rfl
theorem q893 : (Jvm.Cond.selects "[B" ({ cls := "[B", name := "clone", desc := "()Ljava/lang/Object;" } : Jvm.MethodName) ({ cls := "java/lang/Object", name := "clone", desc := "()Ljava/lang/Object;" } : Jvm.MethodName)) ∈ lw_all := lw_g (lw_at lw_m4 89 rfl) rfl
theorem q894 : (Jvm.Cond.castable "[B" "java/lang/Cloneable") ∈ lw_tbl := lw_at lw_m4 90 rfl
theorem q2188 : (Jvm.Cond.castable "[B" "java/lang/Object") ∈ lw_tbl := lw_at lw_m9 184 rfl
theorem q1226 : (Jvm.Cond.interfaceMethod "EndSums$Make" "EndSums$Make" "of" "(LEndSums$Pair;I)V") ∈ lw_tbl := lw_at lw_m5 182 rfl
theorem q1227 : (Jvm.Cond.declares ({ cls := "EndSums$Make", name := "of", desc := "(LEndSums$Pair;I)V" } : Jvm.MethodName)) ∈ lw_tbl := lw_at lw_m5 183 rfl
theorem q2156 : (Jvm.Cond.castable "EndSums$Make" "java/lang/Object") ∈ lw_tbl := lw_at lw_m9 152 rfl
theorem q1234 : (Jvm.Cond.interfaceMethod "EndSums$Join" "EndSums$Join" "of" "(LEndSums$Pair;LEndSums$Pair;LEndSums$Pair;)V") ∈ lw_tbl := lw_at lw_m5 190 rfl
theorem q1235 : (Jvm.Cond.declares ({ cls := "EndSums$Join", name := "of", desc := "(LEndSums$Pair;LEndSums$Pair;LEndSums$Pair;)V" } : Jvm.MethodName)) ∈ lw_tbl := lw_at lw_m5 191 rfl
theorem q2157 : (Jvm.Cond.castable "EndSums$Join" "java/lang/Object") ∈ lw_tbl := lw_at lw_m9 153 rfl
theorem q1322 : (Jvm.Cond.sameMethod "[J" "java/lang/Object" "clone" "()Ljava/lang/Object;") ∈ lw_all := lw_g (lw_at lw_m6 38 rfl) rfl
theorem q1323 : (Jvm.Cond.selects "[J" ({ cls := "[J", name := "clone", desc := "()Ljava/lang/Object;" } : Jvm.MethodName) ({ cls := "java/lang/Object", name := "clone", desc := "()Ljava/lang/Object;" } : Jvm.MethodName)) ∈ lw_all := lw_g (lw_at lw_m6 39 rfl) rfl
theorem q1324 : (Jvm.Cond.castable "[J" "java/lang/Cloneable") ∈ lw_tbl := lw_at lw_m6 40 rfl
theorem q2189 : (Jvm.Cond.castable "[J" "java/lang/Object") ∈ lw_tbl := lw_at lw_m9 185 rfl
theorem q2179 : (Jvm.Cond.sameMethod "[Ljava/lang/Object;" "java/lang/Object" "getClass" "()Ljava/lang/Class;") ∈ lw_all := lw_g (lw_at lw_m9 175 rfl) rfl
theorem q2180 : (Jvm.Cond.selects "[Ljava/lang/Object;" ({ cls := "java/lang/Object", name := "getClass", desc := "()Ljava/lang/Class;" } : Jvm.MethodName) ({ cls := "java/lang/Object", name := "getClass", desc := "()Ljava/lang/Class;" } : Jvm.MethodName)) ∈ lw_all := lw_g (lw_at lw_m9 176 rfl) rfl
theorem q2187 : (Jvm.Cond.castable "[Ljava/lang/Object;" "java/lang/Object") ∈ lw_tbl := lw_at lw_m9 183 rfl
theorem q2182 : (Jvm.Cond.castable "[LEndSums$Make;" "java/lang/Object") ∈ lw_tbl := lw_at lw_m9 178 rfl
theorem q2183 : (Jvm.Cond.castable "[LEndSums$Join;" "java/lang/Object") ∈ lw_tbl := lw_at lw_m9 179 rfl
theorem q2184 : (Jvm.Cond.castable "[[I" "java/lang/Object") ∈ lw_tbl := lw_at lw_m9 180 rfl
theorem q2185 : (Jvm.Cond.castable "[I" "java/lang/Object") ∈ lw_tbl := lw_at lw_m9 181 rfl
theorem q2186 : (Jvm.Cond.castable "[LEndSums$Cell;" "java/lang/Object") ∈ lw_tbl := lw_at lw_m9 182 rfl
