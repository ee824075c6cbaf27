/-! DECODE ROWS BY BYTES: one lemma an opcode; a method's code is cut into short pieces once, and a row reads its own piece alone. -/
set_option maxRecDepth 100000
/-- the code has just these bytes from pc on -/
def DkAt (code : ByteArray) (pc : Nat) (bs : List UInt8) : Prop := ∀ (j : Nat) (b : UInt8), bs[j]? = some b → code.data.toList[pc + j]? = some b
/-- the piece W has the bytes bs from its place j on -/
def dkIn (W : List UInt8) (j : Nat) (bs : List UInt8) : Bool := decide ((W.drop j).take bs.length = bs)
theorem dk_seg {l W T : List UInt8} {o o2 : Nat} (h : l.drop o = W ++ T) (n : Nat) (hn : W.length = n) (ho : o + n = o2) : l.drop o2 = T := by
  subst ho
  rw [← List.drop_drop, h, List.drop_left' hn]
theorem dk_at {code : ByteArray} {W T bs : List UInt8} {o pc : Nat} (h : code.data.toList.drop o = W ++ T) (j : Nat) (hp : o + j = pc) (hw : dkIn W j bs = true) : DkAt code pc bs := by
  subst hp
  intro i b e
  have h1 := of_decide_eq_true hw
  have h2 : i < bs.length := (List.getElem?_eq_some_iff.mp e).1
  have h3 : W[j + i]? = some b := by
    rw [← h1, List.getElem?_take, if_pos h2, List.getElem?_drop] at e
    exact e
  have h4 : j + i < W.length := (List.getElem?_eq_some_iff.mp h3).1
  have h5 : (code.data.toList.drop o)[j + i]? = some b := by
    rw [h, List.getElem?_append_left h4]
    exact h3
  rw [List.getElem?_drop, ← Nat.add_assoc] at h5
  exact h5
theorem dk_u1 {A : ByteArray} {p : Nat} {b : UInt8} (h : A.data.toList[p]? = some b) : (Reader.u1 : Reader DecodeError Nat) A p = .ok (b.toNat, p + 1) := by
  obtain ⟨h1, h2⟩ := List.getElem?_eq_some_iff.mp h
  have h3 : p < A.size := by simpa using h1
  have h4 : A[p]'h3 = b := h2
  have e : (Reader.u1 : Reader DecodeError Nat) A p = (if h : p < A.size then .ok (A[p].toNat, p + 1) else .error (HasTruncated.truncated p)) := by
    show (do if h : p < A.size then do set (p + 1); Pure.pure A[p].toNat else MonadExcept.throw (HasTruncated.truncated p) : Reader DecodeError Nat) A p = _
    by_cases hi : p < A.size
    · rw [dif_pos hi, dif_pos hi]; rfl
    · rw [dif_neg hi, dif_neg hi]; rfl
  rw [e, dif_pos h3, h4]
theorem dk_bind {α β : Type} {r : Reader DecodeError α} {f : α → Reader DecodeError β} {A : ByteArray} {p s : Nat} {a : α} (h : r A p = .ok (a, s)) : (r >>= f) A p = f a A s := by
  show (do let (a, s) ← r A p; f a A s : Except DecodeError (β × Nat)) = _
  rw [h]
  rfl
theorem dk_map {α β : Type} {r : Reader DecodeError α} {g : α → β} {A : ByteArray} {p s : Nat} {a : α} (h : r A p = .ok (a, s)) : (g <$> r) A p = .ok (g a, s) := by
  show (do let (a, s) ← r A p; .ok (g a, s) : Except DecodeError (β × Nat)) = _
  rw [h]
  rfl
theorem dk_u2 {A : ByteArray} {p : Nat} {a b : UInt8} (h : A.data.toList[p]? = some a) (h2 : A.data.toList[p + 1]? = some b) : (Reader.u2 : Reader DecodeError Nat) A p = .ok (a.toNat * 256 + b.toNat, p + 2) := by
  show (Reader.u1 >>= fun hi => Reader.u1 >>= fun lo => Pure.pure (hi * 256 + lo) : Reader DecodeError Nat) A p = _
  rw [dk_bind (dk_u1 h), dk_bind (dk_u1 h2)]
  rfl
theorem dk_of {code : ByteArray} {pc n : Nat} {i : Instr} (h : Decoder.instr pc code pc = .ok (i, pc + n)) : decode code pc = .ok (i, n) := by
  have e : decode code pc = (match Decoder.instr pc code pc with | .error x => .error x | .ok (j, s) => .ok (j, s - pc)) := by
    show (do let (j, s) ← Decoder.instr pc code pc; Pure.pure (j, s - pc) : Except DecodeError (Instr × Nat)) = _
    cases Decoder.instr pc code pc <;> rfl
  rw [e, h]
  show Except.ok (i, pc + n - pc) = _
  rw [Nat.add_sub_cancel_left]
theorem dk_1 {code : ByteArray} {pc : Nat} (h : DkAt code pc [1]) : decode code pc = .ok (.aconst_null, 1) := dk_of ((dk_bind (dk_u1 (h 0 _ rfl))).trans rfl)
theorem dk_2 {code : ByteArray} {pc : Nat} (h : DkAt code pc [2]) : decode code pc = .ok (.iconst (-1), 1) := dk_of ((dk_bind (dk_u1 (h 0 _ rfl))).trans rfl)
theorem dk_3 {code : ByteArray} {pc : Nat} (h : DkAt code pc [3]) : decode code pc = .ok (.iconst 0, 1) := dk_of ((dk_bind (dk_u1 (h 0 _ rfl))).trans rfl)
theorem dk_4 {code : ByteArray} {pc : Nat} (h : DkAt code pc [4]) : decode code pc = .ok (.iconst 1, 1) := dk_of ((dk_bind (dk_u1 (h 0 _ rfl))).trans rfl)
theorem dk_5 {code : ByteArray} {pc : Nat} (h : DkAt code pc [5]) : decode code pc = .ok (.iconst 2, 1) := dk_of ((dk_bind (dk_u1 (h 0 _ rfl))).trans rfl)
theorem dk_6 {code : ByteArray} {pc : Nat} (h : DkAt code pc [6]) : decode code pc = .ok (.iconst 3, 1) := dk_of ((dk_bind (dk_u1 (h 0 _ rfl))).trans rfl)
theorem dk_7 {code : ByteArray} {pc : Nat} (h : DkAt code pc [7]) : decode code pc = .ok (.iconst 4, 1) := dk_of ((dk_bind (dk_u1 (h 0 _ rfl))).trans rfl)
theorem dk_8 {code : ByteArray} {pc : Nat} (h : DkAt code pc [8]) : decode code pc = .ok (.iconst 5, 1) := dk_of ((dk_bind (dk_u1 (h 0 _ rfl))).trans rfl)
theorem dk_9 {code : ByteArray} {pc : Nat} (h : DkAt code pc [9]) : decode code pc = .ok (.lconst 0, 1) := dk_of ((dk_bind (dk_u1 (h 0 _ rfl))).trans rfl)
theorem dk_10 {code : ByteArray} {pc : Nat} (h : DkAt code pc [10]) : decode code pc = .ok (.lconst 1, 1) := dk_of ((dk_bind (dk_u1 (h 0 _ rfl))).trans rfl)
theorem dk_16 {code : ByteArray} {pc : Nat} (a : UInt8) (h : DkAt code pc [16, a]) : decode code pc = .ok (.bipush (Reader.signed 8 a.toNat), 2) := dk_of ((dk_bind (dk_u1 (h 0 _ rfl))).trans ((dk_bind (dk_map (dk_u1 (h 1 _ rfl)))).trans rfl))
theorem dk_17 {code : ByteArray} {pc : Nat} (a b : UInt8) (h : DkAt code pc [17, a, b]) : decode code pc = .ok (.sipush (Reader.signed 16 (a.toNat * 256 + b.toNat)), 3) := dk_of ((dk_bind (dk_u1 (h 0 _ rfl))).trans ((dk_bind (dk_map (dk_u2 (h 1 _ rfl) (h 2 _ rfl)))).trans rfl))
theorem dk_18 {code : ByteArray} {pc : Nat} (a : UInt8) (h : DkAt code pc [18, a]) : decode code pc = .ok (.ldc a.toNat, 2) := dk_of ((dk_bind (dk_u1 (h 0 _ rfl))).trans ((dk_bind (dk_u1 (h 1 _ rfl))).trans rfl))
theorem dk_19 {code : ByteArray} {pc : Nat} (a b : UInt8) (h : DkAt code pc [19, a, b]) : decode code pc = .ok (.ldc_w (a.toNat * 256 + b.toNat), 3) := dk_of ((dk_bind (dk_u1 (h 0 _ rfl))).trans ((dk_bind (dk_u2 (h 1 _ rfl) (h 2 _ rfl))).trans rfl))
theorem dk_20 {code : ByteArray} {pc : Nat} (a b : UInt8) (h : DkAt code pc [20, a, b]) : decode code pc = .ok (.ldc2_w (a.toNat * 256 + b.toNat), 3) := dk_of ((dk_bind (dk_u1 (h 0 _ rfl))).trans ((dk_bind (dk_u2 (h 1 _ rfl) (h 2 _ rfl))).trans rfl))
theorem dk_21 {code : ByteArray} {pc : Nat} (a : UInt8) (h : DkAt code pc [21, a]) : decode code pc = .ok (.iload a.toNat, 2) := dk_of ((dk_bind (dk_u1 (h 0 _ rfl))).trans ((dk_bind (dk_u1 (h 1 _ rfl))).trans rfl))
theorem dk_25 {code : ByteArray} {pc : Nat} (a : UInt8) (h : DkAt code pc [25, a]) : decode code pc = .ok (.aload a.toNat, 2) := dk_of ((dk_bind (dk_u1 (h 0 _ rfl))).trans ((dk_bind (dk_u1 (h 1 _ rfl))).trans rfl))
theorem dk_26 {code : ByteArray} {pc : Nat} (h : DkAt code pc [26]) : decode code pc = .ok (.iload_n 0, 1) := dk_of ((dk_bind (dk_u1 (h 0 _ rfl))).trans rfl)
theorem dk_27 {code : ByteArray} {pc : Nat} (h : DkAt code pc [27]) : decode code pc = .ok (.iload_n 1, 1) := dk_of ((dk_bind (dk_u1 (h 0 _ rfl))).trans rfl)
theorem dk_28 {code : ByteArray} {pc : Nat} (h : DkAt code pc [28]) : decode code pc = .ok (.iload_n 2, 1) := dk_of ((dk_bind (dk_u1 (h 0 _ rfl))).trans rfl)
theorem dk_29 {code : ByteArray} {pc : Nat} (h : DkAt code pc [29]) : decode code pc = .ok (.iload_n 3, 1) := dk_of ((dk_bind (dk_u1 (h 0 _ rfl))).trans rfl)
theorem dk_30 {code : ByteArray} {pc : Nat} (h : DkAt code pc [30]) : decode code pc = .ok (.lload_n 0, 1) := dk_of ((dk_bind (dk_u1 (h 0 _ rfl))).trans rfl)
theorem dk_33 {code : ByteArray} {pc : Nat} (h : DkAt code pc [33]) : decode code pc = .ok (.lload_n 3, 1) := dk_of ((dk_bind (dk_u1 (h 0 _ rfl))).trans rfl)
theorem dk_42 {code : ByteArray} {pc : Nat} (h : DkAt code pc [42]) : decode code pc = .ok (.aload_n 0, 1) := dk_of ((dk_bind (dk_u1 (h 0 _ rfl))).trans rfl)
theorem dk_43 {code : ByteArray} {pc : Nat} (h : DkAt code pc [43]) : decode code pc = .ok (.aload_n 1, 1) := dk_of ((dk_bind (dk_u1 (h 0 _ rfl))).trans rfl)
theorem dk_44 {code : ByteArray} {pc : Nat} (h : DkAt code pc [44]) : decode code pc = .ok (.aload_n 2, 1) := dk_of ((dk_bind (dk_u1 (h 0 _ rfl))).trans rfl)
theorem dk_45 {code : ByteArray} {pc : Nat} (h : DkAt code pc [45]) : decode code pc = .ok (.aload_n 3, 1) := dk_of ((dk_bind (dk_u1 (h 0 _ rfl))).trans rfl)
theorem dk_46 {code : ByteArray} {pc : Nat} (h : DkAt code pc [46]) : decode code pc = .ok (.iaload, 1) := dk_of ((dk_bind (dk_u1 (h 0 _ rfl))).trans rfl)
theorem dk_47 {code : ByteArray} {pc : Nat} (h : DkAt code pc [47]) : decode code pc = .ok (.laload, 1) := dk_of ((dk_bind (dk_u1 (h 0 _ rfl))).trans rfl)
theorem dk_50 {code : ByteArray} {pc : Nat} (h : DkAt code pc [50]) : decode code pc = .ok (.aaload, 1) := dk_of ((dk_bind (dk_u1 (h 0 _ rfl))).trans rfl)
theorem dk_51 {code : ByteArray} {pc : Nat} (h : DkAt code pc [51]) : decode code pc = .ok (.baload, 1) := dk_of ((dk_bind (dk_u1 (h 0 _ rfl))).trans rfl)
theorem dk_54 {code : ByteArray} {pc : Nat} (a : UInt8) (h : DkAt code pc [54, a]) : decode code pc = .ok (.istore a.toNat, 2) := dk_of ((dk_bind (dk_u1 (h 0 _ rfl))).trans ((dk_bind (dk_u1 (h 1 _ rfl))).trans rfl))
theorem dk_58 {code : ByteArray} {pc : Nat} (a : UInt8) (h : DkAt code pc [58, a]) : decode code pc = .ok (.astore a.toNat, 2) := dk_of ((dk_bind (dk_u1 (h 0 _ rfl))).trans ((dk_bind (dk_u1 (h 1 _ rfl))).trans rfl))
theorem dk_59 {code : ByteArray} {pc : Nat} (h : DkAt code pc [59]) : decode code pc = .ok (.istore_n 0, 1) := dk_of ((dk_bind (dk_u1 (h 0 _ rfl))).trans rfl)
theorem dk_60 {code : ByteArray} {pc : Nat} (h : DkAt code pc [60]) : decode code pc = .ok (.istore_n 1, 1) := dk_of ((dk_bind (dk_u1 (h 0 _ rfl))).trans rfl)
theorem dk_61 {code : ByteArray} {pc : Nat} (h : DkAt code pc [61]) : decode code pc = .ok (.istore_n 2, 1) := dk_of ((dk_bind (dk_u1 (h 0 _ rfl))).trans rfl)
theorem dk_62 {code : ByteArray} {pc : Nat} (h : DkAt code pc [62]) : decode code pc = .ok (.istore_n 3, 1) := dk_of ((dk_bind (dk_u1 (h 0 _ rfl))).trans rfl)
theorem dk_63 {code : ByteArray} {pc : Nat} (h : DkAt code pc [63]) : decode code pc = .ok (.lstore_n 0, 1) := dk_of ((dk_bind (dk_u1 (h 0 _ rfl))).trans rfl)
theorem dk_66 {code : ByteArray} {pc : Nat} (h : DkAt code pc [66]) : decode code pc = .ok (.lstore_n 3, 1) := dk_of ((dk_bind (dk_u1 (h 0 _ rfl))).trans rfl)
theorem dk_76 {code : ByteArray} {pc : Nat} (h : DkAt code pc [76]) : decode code pc = .ok (.astore_n 1, 1) := dk_of ((dk_bind (dk_u1 (h 0 _ rfl))).trans rfl)
theorem dk_77 {code : ByteArray} {pc : Nat} (h : DkAt code pc [77]) : decode code pc = .ok (.astore_n 2, 1) := dk_of ((dk_bind (dk_u1 (h 0 _ rfl))).trans rfl)
theorem dk_78 {code : ByteArray} {pc : Nat} (h : DkAt code pc [78]) : decode code pc = .ok (.astore_n 3, 1) := dk_of ((dk_bind (dk_u1 (h 0 _ rfl))).trans rfl)
theorem dk_79 {code : ByteArray} {pc : Nat} (h : DkAt code pc [79]) : decode code pc = .ok (.iastore, 1) := dk_of ((dk_bind (dk_u1 (h 0 _ rfl))).trans rfl)
theorem dk_80 {code : ByteArray} {pc : Nat} (h : DkAt code pc [80]) : decode code pc = .ok (.lastore, 1) := dk_of ((dk_bind (dk_u1 (h 0 _ rfl))).trans rfl)
theorem dk_83 {code : ByteArray} {pc : Nat} (h : DkAt code pc [83]) : decode code pc = .ok (.aastore, 1) := dk_of ((dk_bind (dk_u1 (h 0 _ rfl))).trans rfl)
theorem dk_84 {code : ByteArray} {pc : Nat} (h : DkAt code pc [84]) : decode code pc = .ok (.bastore, 1) := dk_of ((dk_bind (dk_u1 (h 0 _ rfl))).trans rfl)
theorem dk_87 {code : ByteArray} {pc : Nat} (h : DkAt code pc [87]) : decode code pc = .ok (.pop, 1) := dk_of ((dk_bind (dk_u1 (h 0 _ rfl))).trans rfl)
theorem dk_89 {code : ByteArray} {pc : Nat} (h : DkAt code pc [89]) : decode code pc = .ok (.dup, 1) := dk_of ((dk_bind (dk_u1 (h 0 _ rfl))).trans rfl)
theorem dk_90 {code : ByteArray} {pc : Nat} (h : DkAt code pc [90]) : decode code pc = .ok (.dup_x1, 1) := dk_of ((dk_bind (dk_u1 (h 0 _ rfl))).trans rfl)
theorem dk_92 {code : ByteArray} {pc : Nat} (h : DkAt code pc [92]) : decode code pc = .ok (.dup2, 1) := dk_of ((dk_bind (dk_u1 (h 0 _ rfl))).trans rfl)
theorem dk_96 {code : ByteArray} {pc : Nat} (h : DkAt code pc [96]) : decode code pc = .ok (.iadd, 1) := dk_of ((dk_bind (dk_u1 (h 0 _ rfl))).trans rfl)
theorem dk_97 {code : ByteArray} {pc : Nat} (h : DkAt code pc [97]) : decode code pc = .ok (.ladd, 1) := dk_of ((dk_bind (dk_u1 (h 0 _ rfl))).trans rfl)
theorem dk_100 {code : ByteArray} {pc : Nat} (h : DkAt code pc [100]) : decode code pc = .ok (.isub, 1) := dk_of ((dk_bind (dk_u1 (h 0 _ rfl))).trans rfl)
theorem dk_101 {code : ByteArray} {pc : Nat} (h : DkAt code pc [101]) : decode code pc = .ok (.lsub, 1) := dk_of ((dk_bind (dk_u1 (h 0 _ rfl))).trans rfl)
theorem dk_104 {code : ByteArray} {pc : Nat} (h : DkAt code pc [104]) : decode code pc = .ok (.imul, 1) := dk_of ((dk_bind (dk_u1 (h 0 _ rfl))).trans rfl)
theorem dk_105 {code : ByteArray} {pc : Nat} (h : DkAt code pc [105]) : decode code pc = .ok (.lmul, 1) := dk_of ((dk_bind (dk_u1 (h 0 _ rfl))).trans rfl)
theorem dk_108 {code : ByteArray} {pc : Nat} (h : DkAt code pc [108]) : decode code pc = .ok (.idiv, 1) := dk_of ((dk_bind (dk_u1 (h 0 _ rfl))).trans rfl)
theorem dk_112 {code : ByteArray} {pc : Nat} (h : DkAt code pc [112]) : decode code pc = .ok (.irem, 1) := dk_of ((dk_bind (dk_u1 (h 0 _ rfl))).trans rfl)
theorem dk_113 {code : ByteArray} {pc : Nat} (h : DkAt code pc [113]) : decode code pc = .ok (.lrem, 1) := dk_of ((dk_bind (dk_u1 (h 0 _ rfl))).trans rfl)
theorem dk_116 {code : ByteArray} {pc : Nat} (h : DkAt code pc [116]) : decode code pc = .ok (.ineg, 1) := dk_of ((dk_bind (dk_u1 (h 0 _ rfl))).trans rfl)
theorem dk_120 {code : ByteArray} {pc : Nat} (h : DkAt code pc [120]) : decode code pc = .ok (.ishl, 1) := dk_of ((dk_bind (dk_u1 (h 0 _ rfl))).trans rfl)
theorem dk_121 {code : ByteArray} {pc : Nat} (h : DkAt code pc [121]) : decode code pc = .ok (.lshl, 1) := dk_of ((dk_bind (dk_u1 (h 0 _ rfl))).trans rfl)
theorem dk_122 {code : ByteArray} {pc : Nat} (h : DkAt code pc [122]) : decode code pc = .ok (.ishr, 1) := dk_of ((dk_bind (dk_u1 (h 0 _ rfl))).trans rfl)
theorem dk_124 {code : ByteArray} {pc : Nat} (h : DkAt code pc [124]) : decode code pc = .ok (.iushr, 1) := dk_of ((dk_bind (dk_u1 (h 0 _ rfl))).trans rfl)
theorem dk_125 {code : ByteArray} {pc : Nat} (h : DkAt code pc [125]) : decode code pc = .ok (.lushr, 1) := dk_of ((dk_bind (dk_u1 (h 0 _ rfl))).trans rfl)
theorem dk_126 {code : ByteArray} {pc : Nat} (h : DkAt code pc [126]) : decode code pc = .ok (.iand, 1) := dk_of ((dk_bind (dk_u1 (h 0 _ rfl))).trans rfl)
theorem dk_127 {code : ByteArray} {pc : Nat} (h : DkAt code pc [127]) : decode code pc = .ok (.land, 1) := dk_of ((dk_bind (dk_u1 (h 0 _ rfl))).trans rfl)
theorem dk_128 {code : ByteArray} {pc : Nat} (h : DkAt code pc [128]) : decode code pc = .ok (.ior, 1) := dk_of ((dk_bind (dk_u1 (h 0 _ rfl))).trans rfl)
theorem dk_129 {code : ByteArray} {pc : Nat} (h : DkAt code pc [129]) : decode code pc = .ok (.lor, 1) := dk_of ((dk_bind (dk_u1 (h 0 _ rfl))).trans rfl)
theorem dk_130 {code : ByteArray} {pc : Nat} (h : DkAt code pc [130]) : decode code pc = .ok (.ixor, 1) := dk_of ((dk_bind (dk_u1 (h 0 _ rfl))).trans rfl)
theorem dk_131 {code : ByteArray} {pc : Nat} (h : DkAt code pc [131]) : decode code pc = .ok (.lxor, 1) := dk_of ((dk_bind (dk_u1 (h 0 _ rfl))).trans rfl)
theorem dk_132 {code : ByteArray} {pc : Nat} (a b : UInt8) (h : DkAt code pc [132, a, b]) : decode code pc = .ok (.iinc a.toNat (Reader.signed 8 b.toNat), 3) := dk_of ((dk_bind (dk_u1 (h 0 _ rfl))).trans ((dk_bind (dk_u1 (h 1 _ rfl))).trans ((dk_bind (dk_map (dk_u1 (h 2 _ rfl)))).trans rfl)))
theorem dk_133 {code : ByteArray} {pc : Nat} (h : DkAt code pc [133]) : decode code pc = .ok (.i2l, 1) := dk_of ((dk_bind (dk_u1 (h 0 _ rfl))).trans rfl)
theorem dk_136 {code : ByteArray} {pc : Nat} (h : DkAt code pc [136]) : decode code pc = .ok (.l2i, 1) := dk_of ((dk_bind (dk_u1 (h 0 _ rfl))).trans rfl)
theorem dk_145 {code : ByteArray} {pc : Nat} (h : DkAt code pc [145]) : decode code pc = .ok (.i2b, 1) := dk_of ((dk_bind (dk_u1 (h 0 _ rfl))).trans rfl)
theorem dk_146 {code : ByteArray} {pc : Nat} (h : DkAt code pc [146]) : decode code pc = .ok (.i2c, 1) := dk_of ((dk_bind (dk_u1 (h 0 _ rfl))).trans rfl)
theorem dk_148 {code : ByteArray} {pc : Nat} (h : DkAt code pc [148]) : decode code pc = .ok (.lcmp, 1) := dk_of ((dk_bind (dk_u1 (h 0 _ rfl))).trans rfl)
theorem dk_153 {code : ByteArray} {pc : Nat} (a b : UInt8) (h : DkAt code pc [153, a, b]) : decode code pc = .ok (.ifCond .eq (Reader.signed 16 (a.toNat * 256 + b.toNat)), 3) := dk_of ((dk_bind (dk_u1 (h 0 _ rfl))).trans ((dk_bind (dk_map (dk_u2 (h 1 _ rfl) (h 2 _ rfl)))).trans rfl))
theorem dk_154 {code : ByteArray} {pc : Nat} (a b : UInt8) (h : DkAt code pc [154, a, b]) : decode code pc = .ok (.ifCond .ne (Reader.signed 16 (a.toNat * 256 + b.toNat)), 3) := dk_of ((dk_bind (dk_u1 (h 0 _ rfl))).trans ((dk_bind (dk_map (dk_u2 (h 1 _ rfl) (h 2 _ rfl)))).trans rfl))
theorem dk_155 {code : ByteArray} {pc : Nat} (a b : UInt8) (h : DkAt code pc [155, a, b]) : decode code pc = .ok (.ifCond .lt (Reader.signed 16 (a.toNat * 256 + b.toNat)), 3) := dk_of ((dk_bind (dk_u1 (h 0 _ rfl))).trans ((dk_bind (dk_map (dk_u2 (h 1 _ rfl) (h 2 _ rfl)))).trans rfl))
theorem dk_156 {code : ByteArray} {pc : Nat} (a b : UInt8) (h : DkAt code pc [156, a, b]) : decode code pc = .ok (.ifCond .ge (Reader.signed 16 (a.toNat * 256 + b.toNat)), 3) := dk_of ((dk_bind (dk_u1 (h 0 _ rfl))).trans ((dk_bind (dk_map (dk_u2 (h 1 _ rfl) (h 2 _ rfl)))).trans rfl))
theorem dk_157 {code : ByteArray} {pc : Nat} (a b : UInt8) (h : DkAt code pc [157, a, b]) : decode code pc = .ok (.ifCond .gt (Reader.signed 16 (a.toNat * 256 + b.toNat)), 3) := dk_of ((dk_bind (dk_u1 (h 0 _ rfl))).trans ((dk_bind (dk_map (dk_u2 (h 1 _ rfl) (h 2 _ rfl)))).trans rfl))
theorem dk_158 {code : ByteArray} {pc : Nat} (a b : UInt8) (h : DkAt code pc [158, a, b]) : decode code pc = .ok (.ifCond .le (Reader.signed 16 (a.toNat * 256 + b.toNat)), 3) := dk_of ((dk_bind (dk_u1 (h 0 _ rfl))).trans ((dk_bind (dk_map (dk_u2 (h 1 _ rfl) (h 2 _ rfl)))).trans rfl))
theorem dk_159 {code : ByteArray} {pc : Nat} (a b : UInt8) (h : DkAt code pc [159, a, b]) : decode code pc = .ok (.if_icmp .eq (Reader.signed 16 (a.toNat * 256 + b.toNat)), 3) := dk_of ((dk_bind (dk_u1 (h 0 _ rfl))).trans ((dk_bind (dk_map (dk_u2 (h 1 _ rfl) (h 2 _ rfl)))).trans rfl))
theorem dk_160 {code : ByteArray} {pc : Nat} (a b : UInt8) (h : DkAt code pc [160, a, b]) : decode code pc = .ok (.if_icmp .ne (Reader.signed 16 (a.toNat * 256 + b.toNat)), 3) := dk_of ((dk_bind (dk_u1 (h 0 _ rfl))).trans ((dk_bind (dk_map (dk_u2 (h 1 _ rfl) (h 2 _ rfl)))).trans rfl))
theorem dk_161 {code : ByteArray} {pc : Nat} (a b : UInt8) (h : DkAt code pc [161, a, b]) : decode code pc = .ok (.if_icmp .lt (Reader.signed 16 (a.toNat * 256 + b.toNat)), 3) := dk_of ((dk_bind (dk_u1 (h 0 _ rfl))).trans ((dk_bind (dk_map (dk_u2 (h 1 _ rfl) (h 2 _ rfl)))).trans rfl))
theorem dk_162 {code : ByteArray} {pc : Nat} (a b : UInt8) (h : DkAt code pc [162, a, b]) : decode code pc = .ok (.if_icmp .ge (Reader.signed 16 (a.toNat * 256 + b.toNat)), 3) := dk_of ((dk_bind (dk_u1 (h 0 _ rfl))).trans ((dk_bind (dk_map (dk_u2 (h 1 _ rfl) (h 2 _ rfl)))).trans rfl))
theorem dk_163 {code : ByteArray} {pc : Nat} (a b : UInt8) (h : DkAt code pc [163, a, b]) : decode code pc = .ok (.if_icmp .gt (Reader.signed 16 (a.toNat * 256 + b.toNat)), 3) := dk_of ((dk_bind (dk_u1 (h 0 _ rfl))).trans ((dk_bind (dk_map (dk_u2 (h 1 _ rfl) (h 2 _ rfl)))).trans rfl))
theorem dk_164 {code : ByteArray} {pc : Nat} (a b : UInt8) (h : DkAt code pc [164, a, b]) : decode code pc = .ok (.if_icmp .le (Reader.signed 16 (a.toNat * 256 + b.toNat)), 3) := dk_of ((dk_bind (dk_u1 (h 0 _ rfl))).trans ((dk_bind (dk_map (dk_u2 (h 1 _ rfl) (h 2 _ rfl)))).trans rfl))
theorem dk_165 {code : ByteArray} {pc : Nat} (a b : UInt8) (h : DkAt code pc [165, a, b]) : decode code pc = .ok (.if_acmp .eq (Reader.signed 16 (a.toNat * 256 + b.toNat)), 3) := dk_of ((dk_bind (dk_u1 (h 0 _ rfl))).trans ((dk_bind (dk_map (dk_u2 (h 1 _ rfl) (h 2 _ rfl)))).trans rfl))
theorem dk_166 {code : ByteArray} {pc : Nat} (a b : UInt8) (h : DkAt code pc [166, a, b]) : decode code pc = .ok (.if_acmp .ne (Reader.signed 16 (a.toNat * 256 + b.toNat)), 3) := dk_of ((dk_bind (dk_u1 (h 0 _ rfl))).trans ((dk_bind (dk_map (dk_u2 (h 1 _ rfl) (h 2 _ rfl)))).trans rfl))
theorem dk_167 {code : ByteArray} {pc : Nat} (a b : UInt8) (h : DkAt code pc [167, a, b]) : decode code pc = .ok (.goto (Reader.signed 16 (a.toNat * 256 + b.toNat)), 3) := dk_of ((dk_bind (dk_u1 (h 0 _ rfl))).trans ((dk_bind (dk_map (dk_u2 (h 1 _ rfl) (h 2 _ rfl)))).trans rfl))
theorem dk_172 {code : ByteArray} {pc : Nat} (h : DkAt code pc [172]) : decode code pc = .ok (.ireturn, 1) := dk_of ((dk_bind (dk_u1 (h 0 _ rfl))).trans rfl)
theorem dk_176 {code : ByteArray} {pc : Nat} (h : DkAt code pc [176]) : decode code pc = .ok (.areturn, 1) := dk_of ((dk_bind (dk_u1 (h 0 _ rfl))).trans rfl)
theorem dk_177 {code : ByteArray} {pc : Nat} (h : DkAt code pc [177]) : decode code pc = .ok (.return_, 1) := dk_of ((dk_bind (dk_u1 (h 0 _ rfl))).trans rfl)
theorem dk_178 {code : ByteArray} {pc : Nat} (a b : UInt8) (h : DkAt code pc [178, a, b]) : decode code pc = .ok (.getstatic (a.toNat * 256 + b.toNat), 3) := dk_of ((dk_bind (dk_u1 (h 0 _ rfl))).trans ((dk_bind (dk_u2 (h 1 _ rfl) (h 2 _ rfl))).trans rfl))
theorem dk_180 {code : ByteArray} {pc : Nat} (a b : UInt8) (h : DkAt code pc [180, a, b]) : decode code pc = .ok (.getfield (a.toNat * 256 + b.toNat), 3) := dk_of ((dk_bind (dk_u1 (h 0 _ rfl))).trans ((dk_bind (dk_u2 (h 1 _ rfl) (h 2 _ rfl))).trans rfl))
theorem dk_181 {code : ByteArray} {pc : Nat} (a b : UInt8) (h : DkAt code pc [181, a, b]) : decode code pc = .ok (.putfield (a.toNat * 256 + b.toNat), 3) := dk_of ((dk_bind (dk_u1 (h 0 _ rfl))).trans ((dk_bind (dk_u2 (h 1 _ rfl) (h 2 _ rfl))).trans rfl))
theorem dk_182 {code : ByteArray} {pc : Nat} (a b : UInt8) (h : DkAt code pc [182, a, b]) : decode code pc = .ok (.invokevirtual (a.toNat * 256 + b.toNat), 3) := dk_of ((dk_bind (dk_u1 (h 0 _ rfl))).trans ((dk_bind (dk_u2 (h 1 _ rfl) (h 2 _ rfl))).trans rfl))
theorem dk_183 {code : ByteArray} {pc : Nat} (a b : UInt8) (h : DkAt code pc [183, a, b]) : decode code pc = .ok (.invokespecial (a.toNat * 256 + b.toNat), 3) := dk_of ((dk_bind (dk_u1 (h 0 _ rfl))).trans ((dk_bind (dk_u2 (h 1 _ rfl) (h 2 _ rfl))).trans rfl))
theorem dk_184 {code : ByteArray} {pc : Nat} (a b : UInt8) (h : DkAt code pc [184, a, b]) : decode code pc = .ok (.invokestatic (a.toNat * 256 + b.toNat), 3) := dk_of ((dk_bind (dk_u1 (h 0 _ rfl))).trans ((dk_bind (dk_u2 (h 1 _ rfl) (h 2 _ rfl))).trans rfl))
theorem dk_187 {code : ByteArray} {pc : Nat} (a b : UInt8) (h : DkAt code pc [187, a, b]) : decode code pc = .ok (.new (a.toNat * 256 + b.toNat), 3) := dk_of ((dk_bind (dk_u1 (h 0 _ rfl))).trans ((dk_bind (dk_u2 (h 1 _ rfl) (h 2 _ rfl))).trans rfl))
theorem dk_188_4 {code : ByteArray} {pc : Nat} (h : DkAt code pc [188, 4]) : decode code pc = .ok (.newarray .boolean, 2) := dk_of ((dk_bind (dk_u1 (h 0 _ rfl))).trans ((dk_bind (dk_u1 (h 1 _ rfl))).trans rfl))
theorem dk_188_8 {code : ByteArray} {pc : Nat} (h : DkAt code pc [188, 8]) : decode code pc = .ok (.newarray .byte, 2) := dk_of ((dk_bind (dk_u1 (h 0 _ rfl))).trans ((dk_bind (dk_u1 (h 1 _ rfl))).trans rfl))
theorem dk_188_10 {code : ByteArray} {pc : Nat} (h : DkAt code pc [188, 10]) : decode code pc = .ok (.newarray .int, 2) := dk_of ((dk_bind (dk_u1 (h 0 _ rfl))).trans ((dk_bind (dk_u1 (h 1 _ rfl))).trans rfl))
theorem dk_188_11 {code : ByteArray} {pc : Nat} (h : DkAt code pc [188, 11]) : decode code pc = .ok (.newarray .long, 2) := dk_of ((dk_bind (dk_u1 (h 0 _ rfl))).trans ((dk_bind (dk_u1 (h 1 _ rfl))).trans rfl))
theorem dk_189 {code : ByteArray} {pc : Nat} (a b : UInt8) (h : DkAt code pc [189, a, b]) : decode code pc = .ok (.anewarray (a.toNat * 256 + b.toNat), 3) := dk_of ((dk_bind (dk_u1 (h 0 _ rfl))).trans ((dk_bind (dk_u2 (h 1 _ rfl) (h 2 _ rfl))).trans rfl))
theorem dk_190 {code : ByteArray} {pc : Nat} (h : DkAt code pc [190]) : decode code pc = .ok (.arraylength, 1) := dk_of ((dk_bind (dk_u1 (h 0 _ rfl))).trans rfl)
theorem dk_191 {code : ByteArray} {pc : Nat} (h : DkAt code pc [191]) : decode code pc = .ok (.athrow, 1) := dk_of ((dk_bind (dk_u1 (h 0 _ rfl))).trans rfl)
theorem dk_192 {code : ByteArray} {pc : Nat} (a b : UInt8) (h : DkAt code pc [192, a, b]) : decode code pc = .ok (.checkcast (a.toNat * 256 + b.toNat), 3) := dk_of ((dk_bind (dk_u1 (h 0 _ rfl))).trans ((dk_bind (dk_u2 (h 1 _ rfl) (h 2 _ rfl))).trans rfl))
theorem dk_198 {code : ByteArray} {pc : Nat} (a b : UInt8) (h : DkAt code pc [198, a, b]) : decode code pc = .ok (.ifnull (Reader.signed 16 (a.toNat * 256 + b.toNat)), 3) := dk_of ((dk_bind (dk_u1 (h 0 _ rfl))).trans ((dk_bind (dk_map (dk_u2 (h 1 _ rfl) (h 2 _ rfl)))).trans rfl))
theorem dk_199 {code : ByteArray} {pc : Nat} (a b : UInt8) (h : DkAt code pc [199, a, b]) : decode code pc = .ok (.ifnonnull (Reader.signed 16 (a.toNat * 256 + b.toNat)), 3) := dk_of ((dk_bind (dk_u1 (h 0 _ rfl))).trans ((dk_bind (dk_map (dk_u2 (h 1 _ rfl) (h 2 _ rfl)))).trans rfl))
/-! java/util/AbstractCollection -/
set_option maxRecDepth 100000
def RJ0 : String := "java/util/AbstractCollection"
abbrev cJ0_init : ByteArray := prog_41_method_1_code
def yJ0_init : MethodName := ⟨RJ0, "<init>", "()V"⟩
theorem dJ0_init_0 : decode cJ0_init 0 = .ok (.aload_n 0, 1) := by decide +kernel
theorem dJ0_init_1 : decode cJ0_init 1 = .ok (.invokespecial 1, 3) := by decide +kernel
theorem dJ0_init_4 : decode cJ0_init 4 = .ok (.return_, 1) := by decide +kernel
abbrev cJ0_isEmpty : ByteArray := prog_41_method_4_code
def yJ0_isEmpty : MethodName := ⟨RJ0, "isEmpty", "()Z"⟩
def dkwJ0_isEmpty_0 : List UInt8 := [42, 182, 0, 7, 154, 0, 7, 4, 167, 0, 4, 3, 172]
abbrev dktJ0_isEmpty_0 : List UInt8 := dkwJ0_isEmpty_0 ++ []
theorem dksJ0_isEmpty_0 : cJ0_isEmpty.data.toList.drop 0 = dktJ0_isEmpty_0 := by decide +kernel
theorem dJ0_isEmpty_0 : decode cJ0_isEmpty 0 = .ok (.aload_n 0, 1) := dk_42 (dk_at dksJ0_isEmpty_0 0 rfl rfl)
theorem dJ0_isEmpty_1 : decode cJ0_isEmpty 1 = .ok (.invokevirtual 7, 3) := dk_182 0 7 (dk_at dksJ0_isEmpty_0 1 rfl rfl)
theorem dJ0_isEmpty_4 : decode cJ0_isEmpty 4 = .ok (.ifCond .ne 7, 3) := dk_154 0 7 (dk_at dksJ0_isEmpty_0 4 rfl rfl)
theorem dJ0_isEmpty_7 : decode cJ0_isEmpty 7 = .ok (.iconst 1, 1) := dk_4 (dk_at dksJ0_isEmpty_0 7 rfl rfl)
theorem dJ0_isEmpty_8 : decode cJ0_isEmpty 8 = .ok (.goto 4, 3) := dk_167 0 4 (dk_at dksJ0_isEmpty_0 8 rfl rfl)
theorem dJ0_isEmpty_11 : decode cJ0_isEmpty 11 = .ok (.iconst 0, 1) := dk_3 (dk_at dksJ0_isEmpty_0 11 rfl rfl)
theorem dJ0_isEmpty_12 : decode cJ0_isEmpty 12 = .ok (.ireturn, 1) := dk_172 (dk_at dksJ0_isEmpty_0 12 rfl rfl)
theorem q73 : (Jvm.Cond.initialized "java/util/AbstractCollection") ∈ lw_all := lw_g (lw_at lw_m1 3 rfl) rfl
theorem q147 : (Jvm.Cond.instanceMethod ({ cls := "java/util/AbstractCollection", name := "<init>", desc := "()V" } : Jvm.MethodName)) ∈ lw_all := lw_g (lw_at lw_m1 77 rfl) rfl
theorem q148 : (Jvm.Cond.code ({ cls := "java/util/AbstractCollection", name := "<init>", desc := "()V" } : Jvm.MethodName) prog_41_method_1_code (1 : Nat) (Option.none : Option Jvm.ClassFile.FieldType)) ∈ lw_all := lw_g (lw_at lw_m1 78 rfl) rfl
theorem q149 : (Jvm.Cond.methodLink "java/util/AbstractCollection" (1 : Nat) ({ cls := "java/lang/Object", name := "<init>", desc := "()V" } : Jvm.MethodName)) ∈ lw_all := lw_g (lw_at lw_m1 79 rfl) rfl
theorem q1191 : (Jvm.Cond.instanceMethod ({ cls := "java/util/AbstractCollection", name := "isEmpty", desc := "()Z" } : Jvm.MethodName)) ∈ lw_all := lw_g (lw_at lw_m5 161 rfl) rfl
theorem q1192 : (Jvm.Cond.publicMethod ({ cls := "java/util/AbstractCollection", name := "isEmpty", desc := "()Z" } : Jvm.MethodName)) ∈ lw_tbl := lw_at lw_m5 162 rfl
theorem q1193 : (Jvm.Cond.code ({ cls := "java/util/AbstractCollection", name := "isEmpty", desc := "()Z" } : Jvm.MethodName) prog_41_method_4_code (1 : Nat) (Option.some Jvm.ClassFile.FieldType.boolean)) ∈ lw_all := lw_g (lw_at lw_m5 163 rfl) rfl
theorem q1194 : (Jvm.Cond.methodLink "java/util/AbstractCollection" (7 : Nat) ({ cls := "java/util/AbstractCollection", name := "size", desc := "()I" } : Jvm.MethodName)) ∈ lw_all := lw_g (lw_at lw_m5 164 rfl) rfl
theorem q1195 : (Jvm.Cond.declares ({ cls := "java/util/AbstractCollection", name := "size", desc := "()I" } : Jvm.MethodName)) ∈ lw_tbl := lw_at lw_m5 165 rfl
theorem q1196 : (Jvm.Cond.sameMethod "java/util/AbstractCollection" "java/util/AbstractCollection" "size" "()I") ∈ lw_all := lw_g (lw_at lw_m5 166 rfl) rfl
/-! java/util/AbstractList -/
set_option maxRecDepth 100000
def RJ1 : String := "java/util/AbstractList"
abbrev cJ1_init : ByteArray := prog_42_method_1_code
def yJ1_init : MethodName := ⟨RJ1, "<init>", "()V"⟩
def dkwJ1_init_0 : List UInt8 := [42, 183, 0, 1, 42, 3, 181, 0, 7, 177]
abbrev dktJ1_init_0 : List UInt8 := dkwJ1_init_0 ++ []
theorem dksJ1_init_0 : cJ1_init.data.toList.drop 0 = dktJ1_init_0 := by decide +kernel
theorem dJ1_init_0 : decode cJ1_init 0 = .ok (.aload_n 0, 1) := dk_42 (dk_at dksJ1_init_0 0 rfl rfl)
theorem dJ1_init_1 : decode cJ1_init 1 = .ok (.invokespecial 1, 3) := dk_183 0 1 (dk_at dksJ1_init_0 1 rfl rfl)
theorem dJ1_init_4 : decode cJ1_init 4 = .ok (.aload_n 0, 1) := dk_42 (dk_at dksJ1_init_0 4 rfl rfl)
theorem dJ1_init_5 : decode cJ1_init 5 = .ok (.iconst 0, 1) := dk_3 (dk_at dksJ1_init_0 5 rfl rfl)
theorem dJ1_init_6 : decode cJ1_init 6 = .ok (.putfield 7, 3) := dk_181 0 7 (dk_at dksJ1_init_0 6 rfl rfl)
theorem dJ1_init_9 : decode cJ1_init 9 = .ok (.return_, 1) := dk_177 (dk_at dksJ1_init_0 9 rfl rfl)
abbrev cJ1_listIterator : ByteArray := prog_42_method_12_code
def yJ1_listIterator : MethodName := ⟨RJ1, "listIterator", "()Ljava/util/ListIterator;"⟩
def dkwJ1_listIterator_0 : List UInt8 := [42, 3, 182, 0, 47, 176]
abbrev dktJ1_listIterator_0 : List UInt8 := dkwJ1_listIterator_0 ++ []
theorem dksJ1_listIterator_0 : cJ1_listIterator.data.toList.drop 0 = dktJ1_listIterator_0 := by decide +kernel
theorem dJ1_listIterator_0 : decode cJ1_listIterator 0 = .ok (.aload_n 0, 1) := dk_42 (dk_at dksJ1_listIterator_0 0 rfl rfl)
theorem dJ1_listIterator_1 : decode cJ1_listIterator 1 = .ok (.iconst 0, 1) := dk_3 (dk_at dksJ1_listIterator_0 1 rfl rfl)
theorem dJ1_listIterator_2 : decode cJ1_listIterator 2 = .ok (.invokevirtual 47, 3) := dk_182 0 47 (dk_at dksJ1_listIterator_0 2 rfl rfl)
theorem dJ1_listIterator_5 : decode cJ1_listIterator 5 = .ok (.areturn, 1) := dk_176 (dk_at dksJ1_listIterator_0 5 rfl rfl)
theorem q74 : (Jvm.Cond.initialized "java/util/AbstractList") ∈ lw_all := lw_g (lw_at lw_m1 4 rfl) rfl
theorem q144 : (Jvm.Cond.instanceMethod ({ cls := "java/util/AbstractList", name := "<init>", desc := "()V" } : Jvm.MethodName)) ∈ lw_all := lw_g (lw_at lw_m1 74 rfl) rfl
theorem q145 : (Jvm.Cond.code ({ cls := "java/util/AbstractList", name := "<init>", desc := "()V" } : Jvm.MethodName) prog_42_method_1_code (1 : Nat) (Option.none : Option Jvm.ClassFile.FieldType)) ∈ lw_all := lw_g (lw_at lw_m1 75 rfl) rfl
theorem q146 : (Jvm.Cond.methodLink "java/util/AbstractList" (1 : Nat) ({ cls := "java/util/AbstractCollection", name := "<init>", desc := "()V" } : Jvm.MethodName)) ∈ lw_all := lw_g (lw_at lw_m1 76 rfl) rfl
theorem q473 : (Jvm.Cond.fieldLink "java/util/AbstractList" (7 : Nat) "java/util/AbstractList" "modCount" "I") ∈ lw_all := lw_g (lw_at lw_m2 163 rfl) rfl
theorem q486 : (Jvm.Cond.soleField "java/util/AbstractList" "modCount") ∈ lw_all := lw_g (lw_at lw_m2 176 rfl) rfl
theorem q1463 : (Jvm.Cond.sameMethod "java/util/AbstractList" "java/util/AbstractCollection" "size" "()I") ∈ lw_all := lw_g (lw_at lw_m6 193 rfl) rfl
theorem q1503 : (Jvm.Cond.declares ({ cls := "java/util/AbstractList", name := "get", desc := "(I)Ljava/lang/Object;" } : Jvm.MethodName)) ∈ lw_tbl := lw_at lw_m6 233 rfl
theorem q1504 : (Jvm.Cond.sameMethod "java/util/AbstractList" "java/util/AbstractList" "get" "(I)Ljava/lang/Object;") ∈ lw_all := lw_g (lw_at lw_m6 234 rfl) rfl
theorem q2086 : (Jvm.Cond.declares ({ cls := "java/util/AbstractList", name := "listIterator", desc := "()Ljava/util/ListIterator;" } : Jvm.MethodName)) ∈ lw_tbl := lw_at lw_m9 96 rfl
theorem q2088 : (Jvm.Cond.instanceMethod ({ cls := "java/util/AbstractList", name := "listIterator", desc := "()Ljava/util/ListIterator;" } : Jvm.MethodName)) ∈ lw_all := lw_g (lw_at lw_m9 98 rfl) rfl
theorem q2089 : (Jvm.Cond.code ({ cls := "java/util/AbstractList", name := "listIterator", desc := "()Ljava/util/ListIterator;" } : Jvm.MethodName) prog_42_method_12_code (1 : Nat) (Option.some (Jvm.ClassFile.FieldType.object "java/util/ListIterator"))) ∈ lw_all := lw_g (lw_at lw_m9 99 rfl) rfl
theorem q2090 : (Jvm.Cond.methodLink "java/util/AbstractList" (47 : Nat) ({ cls := "java/util/AbstractList", name := "listIterator", desc := "(I)Ljava/util/ListIterator;" } : Jvm.MethodName)) ∈ lw_all := lw_g (lw_at lw_m9 100 rfl) rfl
theorem q2091 : (Jvm.Cond.instanceMethod ({ cls := "java/util/AbstractList", name := "listIterator", desc := "(I)Ljava/util/ListIterator;" } : Jvm.MethodName)) ∈ lw_all := lw_g (lw_at lw_m9 101 rfl) rfl
theorem q2092 : (Jvm.Cond.sameMethod "java/util/AbstractList" "java/util/AbstractList" "listIterator" "(I)Ljava/util/ListIterator;") ∈ lw_all := lw_g (lw_at lw_m9 102 rfl) rfl
theorem q2148 : (Jvm.Cond.declares ({ cls := "java/util/AbstractList", name := "listIterator", desc := "(I)Ljava/util/ListIterator;" } : Jvm.MethodName)) ∈ lw_tbl := lw_at lw_m9 158 rfl
theorem q2166 : (Jvm.Cond.instanceMethod ({ cls := "java/util/AbstractList", name := "remove", desc := "(I)Ljava/lang/Object;" } : Jvm.MethodName)) ∈ lw_all := lw_g (lw_at lw_m9 176 rfl) rfl
theorem q2167 : (Jvm.Cond.sameMethod "java/util/AbstractList" "java/util/AbstractList" "remove" "(I)Ljava/lang/Object;") ∈ lw_all := lw_g (lw_at lw_m9 177 rfl) rfl
theorem q2183 : (Jvm.Cond.declares ({ cls := "java/util/AbstractList", name := "remove", desc := "(I)Ljava/lang/Object;" } : Jvm.MethodName)) ∈ lw_tbl := lw_at lw_m9 193 rfl
/-! java/util/ArrayList -/
set_option maxRecDepth 100000
def RJ2 : String := "java/util/ArrayList"
def TJ2 : u_T := fun k => match k with
  | 0 => ("java/util/AbstractList", "modCount", "I", false)
  | 1 => ("java/util/ArrayList", "elementData", "[Ljava/lang/Object;", false)
  | _ => ("java/util/ArrayList", "size", "I", false)
def tyJ2 : Nat → FieldType := fun k => match k with
  | 0 => .int
  | 1 => .array (.object "java/lang/Object")
  | _ => .int
abbrev wsJ20 : List Cond := u_ws RJ2 TJ2 3
theorem nmJ2 : ∀ a, a < 3 → ∀ b, b < 3 → a ≠ b → (TJ2 a).2.1 ≠ (TJ2 b).2.1 := by decide +kernel
theorem tyJ2_ok : ∀ k, k < 3 → parseFieldDescriptor (TJ2 k).2.2.1 = some (tyJ2 k) := by decide +kernel
abbrev cJ2_init : ByteArray := prog_47_method_1_code
def yJ2_init : MethodName := ⟨RJ2, "<init>", "(I)V"⟩
def dkwJ2_init_2 : List UInt8 := [182, 0, 25, 27, 182, 0, 29, 182, 0, 32, 183, 0, 36, 191, 177]
abbrev dktJ2_init_2 : List UInt8 := dkwJ2_init_2 ++ []
def dkwJ2_init_1 : List UInt8 := [178, 0, 15, 181, 0, 9, 167, 0, 30, 187, 0, 18, 89, 187, 0, 20, 89, 183, 0, 22, 18, 23]
abbrev dktJ2_init_1 : List UInt8 := dkwJ2_init_1 ++ dktJ2_init_2
def dkwJ2_init_0 : List UInt8 := [42, 183, 0, 1, 27, 158, 0, 14, 42, 27, 189, 0, 7, 181, 0, 9, 167, 0, 44, 27, 154, 0, 13, 42]
abbrev dktJ2_init_0 : List UInt8 := dkwJ2_init_0 ++ dktJ2_init_1
theorem dksJ2_init_0 : cJ2_init.data.toList.drop 0 = dktJ2_init_0 := by decide +kernel
theorem dksJ2_init_1 : cJ2_init.data.toList.drop 24 = dktJ2_init_1 := dk_seg dksJ2_init_0 24 rfl rfl
theorem dksJ2_init_2 : cJ2_init.data.toList.drop 46 = dktJ2_init_2 := dk_seg dksJ2_init_1 22 rfl rfl
theorem dJ2_init_0 : decode cJ2_init 0 = .ok (.aload_n 0, 1) := dk_42 (dk_at dksJ2_init_0 0 rfl rfl)
theorem dJ2_init_1 : decode cJ2_init 1 = .ok (.invokespecial 1, 3) := dk_183 0 1 (dk_at dksJ2_init_0 1 rfl rfl)
theorem dJ2_init_4 : decode cJ2_init 4 = .ok (.iload_n 1, 1) := dk_27 (dk_at dksJ2_init_0 4 rfl rfl)
theorem dJ2_init_5 : decode cJ2_init 5 = .ok (.ifCond .le 14, 3) := dk_158 0 14 (dk_at dksJ2_init_0 5 rfl rfl)
theorem dJ2_init_8 : decode cJ2_init 8 = .ok (.aload_n 0, 1) := dk_42 (dk_at dksJ2_init_0 8 rfl rfl)
theorem dJ2_init_9 : decode cJ2_init 9 = .ok (.iload_n 1, 1) := dk_27 (dk_at dksJ2_init_0 9 rfl rfl)
theorem dJ2_init_10 : decode cJ2_init 10 = .ok (.anewarray 7, 3) := dk_189 0 7 (dk_at dksJ2_init_0 10 rfl rfl)
theorem dJ2_init_13 : decode cJ2_init 13 = .ok (.putfield 9, 3) := dk_181 0 9 (dk_at dksJ2_init_0 13 rfl rfl)
theorem dJ2_init_16 : decode cJ2_init 16 = .ok (.goto 44, 3) := dk_167 0 44 (dk_at dksJ2_init_0 16 rfl rfl)
theorem dJ2_init_19 : decode cJ2_init 19 = .ok (.iload_n 1, 1) := dk_27 (dk_at dksJ2_init_0 19 rfl rfl)
theorem dJ2_init_20 : decode cJ2_init 20 = .ok (.ifCond .ne 13, 3) := dk_154 0 13 (dk_at dksJ2_init_0 20 rfl rfl)
theorem dJ2_init_23 : decode cJ2_init 23 = .ok (.aload_n 0, 1) := dk_42 (dk_at dksJ2_init_0 23 rfl rfl)
theorem dJ2_init_24 : decode cJ2_init 24 = .ok (.getstatic 15, 3) := dk_178 0 15 (dk_at dksJ2_init_1 0 rfl rfl)
theorem dJ2_init_27 : decode cJ2_init 27 = .ok (.putfield 9, 3) := dk_181 0 9 (dk_at dksJ2_init_1 3 rfl rfl)
theorem dJ2_init_30 : decode cJ2_init 30 = .ok (.goto 30, 3) := dk_167 0 30 (dk_at dksJ2_init_1 6 rfl rfl)
theorem dJ2_init_33 : decode cJ2_init 33 = .ok (.new 18, 3) := dk_187 0 18 (dk_at dksJ2_init_1 9 rfl rfl)
theorem dJ2_init_36 : decode cJ2_init 36 = .ok (.dup, 1) := dk_89 (dk_at dksJ2_init_1 12 rfl rfl)
theorem dJ2_init_37 : decode cJ2_init 37 = .ok (.new 20, 3) := dk_187 0 20 (dk_at dksJ2_init_1 13 rfl rfl)
theorem dJ2_init_40 : decode cJ2_init 40 = .ok (.dup, 1) := dk_89 (dk_at dksJ2_init_1 16 rfl rfl)
theorem dJ2_init_41 : decode cJ2_init 41 = .ok (.invokespecial 22, 3) := dk_183 0 22 (dk_at dksJ2_init_1 17 rfl rfl)
theorem dJ2_init_44 : decode cJ2_init 44 = .ok (.ldc 23, 2) := dk_18 23 (dk_at dksJ2_init_1 20 rfl rfl)
theorem dJ2_init_46 : decode cJ2_init 46 = .ok (.invokevirtual 25, 3) := dk_182 0 25 (dk_at dksJ2_init_2 0 rfl rfl)
theorem dJ2_init_49 : decode cJ2_init 49 = .ok (.iload_n 1, 1) := dk_27 (dk_at dksJ2_init_2 3 rfl rfl)
theorem dJ2_init_50 : decode cJ2_init 50 = .ok (.invokevirtual 29, 3) := dk_182 0 29 (dk_at dksJ2_init_2 4 rfl rfl)
theorem dJ2_init_53 : decode cJ2_init 53 = .ok (.invokevirtual 32, 3) := dk_182 0 32 (dk_at dksJ2_init_2 7 rfl rfl)
theorem dJ2_init_56 : decode cJ2_init 56 = .ok (.invokespecial 36, 3) := dk_183 0 36 (dk_at dksJ2_init_2 10 rfl rfl)
theorem dJ2_init_59 : decode cJ2_init 59 = .ok (.athrow, 1) := dk_191 (dk_at dksJ2_init_2 13 rfl rfl)
theorem dJ2_init_60 : decode cJ2_init 60 = .ok (.return_, 1) := dk_177 (dk_at dksJ2_init_2 14 rfl rfl)
abbrev cJ2_init_2 : ByteArray := prog_47_method_2_code
def yJ2_init_2 : MethodName := ⟨RJ2, "<init>", "()V"⟩
def dkwJ2_init_2_0 : List UInt8 := [42, 183, 0, 1, 42, 178, 0, 39, 181, 0, 9, 177]
abbrev dktJ2_init_2_0 : List UInt8 := dkwJ2_init_2_0 ++ []
theorem dksJ2_init_2_0 : cJ2_init_2.data.toList.drop 0 = dktJ2_init_2_0 := by decide +kernel
theorem dJ2_init_2_0 : decode cJ2_init_2 0 = .ok (.aload_n 0, 1) := dk_42 (dk_at dksJ2_init_2_0 0 rfl rfl)
theorem dJ2_init_2_1 : decode cJ2_init_2 1 = .ok (.invokespecial 1, 3) := dk_183 0 1 (dk_at dksJ2_init_2_0 1 rfl rfl)
theorem dJ2_init_2_4 : decode cJ2_init_2 4 = .ok (.aload_n 0, 1) := dk_42 (dk_at dksJ2_init_2_0 4 rfl rfl)
theorem dJ2_init_2_5 : decode cJ2_init_2 5 = .ok (.getstatic 39, 3) := dk_178 0 39 (dk_at dksJ2_init_2_0 5 rfl rfl)
theorem dJ2_init_2_8 : decode cJ2_init_2 8 = .ok (.putfield 9, 3) := dk_181 0 9 (dk_at dksJ2_init_2_0 8 rfl rfl)
theorem dJ2_init_2_11 : decode cJ2_init_2 11 = .ok (.return_, 1) := dk_177 (dk_at dksJ2_init_2_0 11 rfl rfl)
abbrev cJ2_size : ByteArray := prog_47_method_8_code
def yJ2_size : MethodName := ⟨RJ2, "size", "()I"⟩
theorem dJ2_size_0 : decode cJ2_size 0 = .ok (.aload_n 0, 1) := by decide +kernel
theorem dJ2_size_1 : decode cJ2_size 1 = .ok (.getfield 48, 3) := by decide +kernel
theorem dJ2_size_4 : decode cJ2_size 4 = .ok (.ireturn, 1) := by decide +kernel
abbrev cJ2_add : ByteArray := prog_47_method_25_code
def yJ2_add : MethodName := ⟨RJ2, "add", "(Ljava/lang/Object;)Z"⟩
def dkwJ2_add_1 : List UInt8 := [172]
abbrev dktJ2_add_1 : List UInt8 := dkwJ2_add_1 ++ []
def dkwJ2_add_0 : List UInt8 := [42, 89, 180, 0, 63, 4, 96, 181, 0, 63, 42, 43, 42, 180, 0, 9, 42, 180, 0, 48, 182, 0, 131, 4]
abbrev dktJ2_add_0 : List UInt8 := dkwJ2_add_0 ++ dktJ2_add_1
theorem dksJ2_add_0 : cJ2_add.data.toList.drop 0 = dktJ2_add_0 := by decide +kernel
theorem dksJ2_add_1 : cJ2_add.data.toList.drop 24 = dktJ2_add_1 := dk_seg dksJ2_add_0 24 rfl rfl
theorem dJ2_add_0 : decode cJ2_add 0 = .ok (.aload_n 0, 1) := dk_42 (dk_at dksJ2_add_0 0 rfl rfl)
theorem dJ2_add_1 : decode cJ2_add 1 = .ok (.dup, 1) := dk_89 (dk_at dksJ2_add_0 1 rfl rfl)
theorem dJ2_add_2 : decode cJ2_add 2 = .ok (.getfield 63, 3) := dk_180 0 63 (dk_at dksJ2_add_0 2 rfl rfl)
theorem dJ2_add_5 : decode cJ2_add 5 = .ok (.iconst 1, 1) := dk_4 (dk_at dksJ2_add_0 5 rfl rfl)
theorem dJ2_add_6 : decode cJ2_add 6 = .ok (.iadd, 1) := dk_96 (dk_at dksJ2_add_0 6 rfl rfl)
theorem dJ2_add_7 : decode cJ2_add 7 = .ok (.putfield 63, 3) := dk_181 0 63 (dk_at dksJ2_add_0 7 rfl rfl)
theorem dJ2_add_10 : decode cJ2_add 10 = .ok (.aload_n 0, 1) := dk_42 (dk_at dksJ2_add_0 10 rfl rfl)
theorem dJ2_add_11 : decode cJ2_add 11 = .ok (.aload_n 1, 1) := dk_43 (dk_at dksJ2_add_0 11 rfl rfl)
theorem dJ2_add_12 : decode cJ2_add 12 = .ok (.aload_n 0, 1) := dk_42 (dk_at dksJ2_add_0 12 rfl rfl)
theorem dJ2_add_13 : decode cJ2_add 13 = .ok (.getfield 9, 3) := dk_180 0 9 (dk_at dksJ2_add_0 13 rfl rfl)
theorem dJ2_add_16 : decode cJ2_add 16 = .ok (.aload_n 0, 1) := dk_42 (dk_at dksJ2_add_0 16 rfl rfl)
theorem dJ2_add_17 : decode cJ2_add 17 = .ok (.getfield 48, 3) := dk_180 0 48 (dk_at dksJ2_add_0 17 rfl rfl)
theorem dJ2_add_20 : decode cJ2_add 20 = .ok (.invokevirtual 131, 3) := dk_182 0 131 (dk_at dksJ2_add_0 20 rfl rfl)
theorem dJ2_add_23 : decode cJ2_add 23 = .ok (.iconst 1, 1) := dk_4 (dk_at dksJ2_add_0 23 rfl rfl)
theorem dJ2_add_24 : decode cJ2_add 24 = .ok (.ireturn, 1) := dk_172 (dk_at dksJ2_add_1 0 rfl rfl)
abbrev cJ2_add_2 : ByteArray := prog_47_method_24_code
def yJ2_add_2 : MethodName := ⟨RJ2, "add", "(Ljava/lang/Object;[Ljava/lang/Object;I)V"⟩
def dkwJ2_add_2_0 : List UInt8 := [29, 44, 190, 160, 0, 8, 42, 182, 0, 129, 77, 44, 29, 43, 83, 42, 29, 4, 96, 181, 0, 48, 177]
abbrev dktJ2_add_2_0 : List UInt8 := dkwJ2_add_2_0 ++ []
theorem dksJ2_add_2_0 : cJ2_add_2.data.toList.drop 0 = dktJ2_add_2_0 := by decide +kernel
theorem dJ2_add_2_0 : decode cJ2_add_2 0 = .ok (.iload_n 3, 1) := dk_29 (dk_at dksJ2_add_2_0 0 rfl rfl)
theorem dJ2_add_2_1 : decode cJ2_add_2 1 = .ok (.aload_n 2, 1) := dk_44 (dk_at dksJ2_add_2_0 1 rfl rfl)
theorem dJ2_add_2_2 : decode cJ2_add_2 2 = .ok (.arraylength, 1) := dk_190 (dk_at dksJ2_add_2_0 2 rfl rfl)
theorem dJ2_add_2_3 : decode cJ2_add_2 3 = .ok (.if_icmp .ne 8, 3) := dk_160 0 8 (dk_at dksJ2_add_2_0 3 rfl rfl)
theorem dJ2_add_2_6 : decode cJ2_add_2 6 = .ok (.aload_n 0, 1) := dk_42 (dk_at dksJ2_add_2_0 6 rfl rfl)
theorem dJ2_add_2_7 : decode cJ2_add_2 7 = .ok (.invokevirtual 129, 3) := dk_182 0 129 (dk_at dksJ2_add_2_0 7 rfl rfl)
theorem dJ2_add_2_10 : decode cJ2_add_2 10 = .ok (.astore_n 2, 1) := dk_77 (dk_at dksJ2_add_2_0 10 rfl rfl)
theorem dJ2_add_2_11 : decode cJ2_add_2 11 = .ok (.aload_n 2, 1) := dk_44 (dk_at dksJ2_add_2_0 11 rfl rfl)
theorem dJ2_add_2_12 : decode cJ2_add_2 12 = .ok (.iload_n 3, 1) := dk_29 (dk_at dksJ2_add_2_0 12 rfl rfl)
theorem dJ2_add_2_13 : decode cJ2_add_2 13 = .ok (.aload_n 1, 1) := dk_43 (dk_at dksJ2_add_2_0 13 rfl rfl)
theorem dJ2_add_2_14 : decode cJ2_add_2 14 = .ok (.aastore, 1) := dk_83 (dk_at dksJ2_add_2_0 14 rfl rfl)
theorem dJ2_add_2_15 : decode cJ2_add_2 15 = .ok (.aload_n 0, 1) := dk_42 (dk_at dksJ2_add_2_0 15 rfl rfl)
theorem dJ2_add_2_16 : decode cJ2_add_2 16 = .ok (.iload_n 3, 1) := dk_29 (dk_at dksJ2_add_2_0 16 rfl rfl)
theorem dJ2_add_2_17 : decode cJ2_add_2 17 = .ok (.iconst 1, 1) := dk_4 (dk_at dksJ2_add_2_0 17 rfl rfl)
theorem dJ2_add_2_18 : decode cJ2_add_2 18 = .ok (.iadd, 1) := dk_96 (dk_at dksJ2_add_2_0 18 rfl rfl)
theorem dJ2_add_2_19 : decode cJ2_add_2 19 = .ok (.putfield 48, 3) := dk_181 0 48 (dk_at dksJ2_add_2_0 19 rfl rfl)
theorem dJ2_add_2_22 : decode cJ2_add_2 22 = .ok (.return_, 1) := dk_177 (dk_at dksJ2_add_2_0 22 rfl rfl)
abbrev cJ2_grow : ByteArray := prog_47_method_7_code
def yJ2_grow : MethodName := ⟨RJ2, "grow", "()[Ljava/lang/Object;"⟩
def dkwJ2_grow_0 : List UInt8 := [42, 42, 180, 0, 48, 4, 96, 182, 0, 69, 176]
abbrev dktJ2_grow_0 : List UInt8 := dkwJ2_grow_0 ++ []
theorem dksJ2_grow_0 : cJ2_grow.data.toList.drop 0 = dktJ2_grow_0 := by decide +kernel
theorem dJ2_grow_0 : decode cJ2_grow 0 = .ok (.aload_n 0, 1) := dk_42 (dk_at dksJ2_grow_0 0 rfl rfl)
theorem dJ2_grow_1 : decode cJ2_grow 1 = .ok (.aload_n 0, 1) := dk_42 (dk_at dksJ2_grow_0 1 rfl rfl)
theorem dJ2_grow_2 : decode cJ2_grow 2 = .ok (.getfield 48, 3) := dk_180 0 48 (dk_at dksJ2_grow_0 2 rfl rfl)
theorem dJ2_grow_5 : decode cJ2_grow 5 = .ok (.iconst 1, 1) := dk_4 (dk_at dksJ2_grow_0 5 rfl rfl)
theorem dJ2_grow_6 : decode cJ2_grow 6 = .ok (.iadd, 1) := dk_96 (dk_at dksJ2_grow_0 6 rfl rfl)
theorem dJ2_grow_7 : decode cJ2_grow 7 = .ok (.invokevirtual 69, 3) := dk_182 0 69 (dk_at dksJ2_grow_0 7 rfl rfl)
theorem dJ2_grow_10 : decode cJ2_grow 10 = .ok (.areturn, 1) := dk_176 (dk_at dksJ2_grow_0 10 rfl rfl)
abbrev cJ2_grow_2 : ByteArray := prog_47_method_6_code
def yJ2_grow_2 : MethodName := ⟨RJ2, "grow", "(I)[Ljava/lang/Object;"⟩
def dkwJ2_grow_2_2 : List UInt8 := [27, 184, 0, 79, 189, 0, 7, 90, 181, 0, 9, 176]
abbrev dktJ2_grow_2_2 : List UInt8 := dkwJ2_grow_2_2 ++ []
def dkwJ2_grow_2_1 : List UInt8 := [28, 4, 122, 184, 0, 73, 62, 42, 42, 180, 0, 9, 29, 184, 0, 66, 90, 181, 0, 9, 176, 42, 16, 10]
abbrev dktJ2_grow_2_1 : List UInt8 := dkwJ2_grow_2_1 ++ dktJ2_grow_2_2
def dkwJ2_grow_2_0 : List UInt8 := [42, 180, 0, 9, 190, 61, 28, 157, 0, 13, 42, 180, 0, 9, 178, 0, 39, 165, 0, 28, 28, 27, 28, 100]
abbrev dktJ2_grow_2_0 : List UInt8 := dkwJ2_grow_2_0 ++ dktJ2_grow_2_1
theorem dksJ2_grow_2_0 : cJ2_grow_2.data.toList.drop 0 = dktJ2_grow_2_0 := by decide +kernel
theorem dksJ2_grow_2_1 : cJ2_grow_2.data.toList.drop 24 = dktJ2_grow_2_1 := dk_seg dksJ2_grow_2_0 24 rfl rfl
theorem dksJ2_grow_2_2 : cJ2_grow_2.data.toList.drop 48 = dktJ2_grow_2_2 := dk_seg dksJ2_grow_2_1 24 rfl rfl
theorem dJ2_grow_2_0 : decode cJ2_grow_2 0 = .ok (.aload_n 0, 1) := dk_42 (dk_at dksJ2_grow_2_0 0 rfl rfl)
theorem dJ2_grow_2_1 : decode cJ2_grow_2 1 = .ok (.getfield 9, 3) := dk_180 0 9 (dk_at dksJ2_grow_2_0 1 rfl rfl)
theorem dJ2_grow_2_4 : decode cJ2_grow_2 4 = .ok (.arraylength, 1) := dk_190 (dk_at dksJ2_grow_2_0 4 rfl rfl)
theorem dJ2_grow_2_5 : decode cJ2_grow_2 5 = .ok (.istore_n 2, 1) := dk_61 (dk_at dksJ2_grow_2_0 5 rfl rfl)
theorem dJ2_grow_2_6 : decode cJ2_grow_2 6 = .ok (.iload_n 2, 1) := dk_28 (dk_at dksJ2_grow_2_0 6 rfl rfl)
theorem dJ2_grow_2_7 : decode cJ2_grow_2 7 = .ok (.ifCond .gt 13, 3) := dk_157 0 13 (dk_at dksJ2_grow_2_0 7 rfl rfl)
theorem dJ2_grow_2_10 : decode cJ2_grow_2 10 = .ok (.aload_n 0, 1) := dk_42 (dk_at dksJ2_grow_2_0 10 rfl rfl)
theorem dJ2_grow_2_11 : decode cJ2_grow_2 11 = .ok (.getfield 9, 3) := dk_180 0 9 (dk_at dksJ2_grow_2_0 11 rfl rfl)
theorem dJ2_grow_2_14 : decode cJ2_grow_2 14 = .ok (.getstatic 39, 3) := dk_178 0 39 (dk_at dksJ2_grow_2_0 14 rfl rfl)
theorem dJ2_grow_2_17 : decode cJ2_grow_2 17 = .ok (.if_acmp .eq 28, 3) := dk_165 0 28 (dk_at dksJ2_grow_2_0 17 rfl rfl)
theorem dJ2_grow_2_20 : decode cJ2_grow_2 20 = .ok (.iload_n 2, 1) := dk_28 (dk_at dksJ2_grow_2_0 20 rfl rfl)
theorem dJ2_grow_2_21 : decode cJ2_grow_2 21 = .ok (.iload_n 1, 1) := dk_27 (dk_at dksJ2_grow_2_0 21 rfl rfl)
theorem dJ2_grow_2_22 : decode cJ2_grow_2 22 = .ok (.iload_n 2, 1) := dk_28 (dk_at dksJ2_grow_2_0 22 rfl rfl)
theorem dJ2_grow_2_23 : decode cJ2_grow_2 23 = .ok (.isub, 1) := dk_100 (dk_at dksJ2_grow_2_0 23 rfl rfl)
theorem dJ2_grow_2_24 : decode cJ2_grow_2 24 = .ok (.iload_n 2, 1) := dk_28 (dk_at dksJ2_grow_2_1 0 rfl rfl)
theorem dJ2_grow_2_25 : decode cJ2_grow_2 25 = .ok (.iconst 1, 1) := dk_4 (dk_at dksJ2_grow_2_1 1 rfl rfl)
theorem dJ2_grow_2_26 : decode cJ2_grow_2 26 = .ok (.ishr, 1) := dk_122 (dk_at dksJ2_grow_2_1 2 rfl rfl)
theorem dJ2_grow_2_27 : decode cJ2_grow_2 27 = .ok (.invokestatic 73, 3) := dk_184 0 73 (dk_at dksJ2_grow_2_1 3 rfl rfl)
theorem dJ2_grow_2_30 : decode cJ2_grow_2 30 = .ok (.istore_n 3, 1) := dk_62 (dk_at dksJ2_grow_2_1 6 rfl rfl)
theorem dJ2_grow_2_31 : decode cJ2_grow_2 31 = .ok (.aload_n 0, 1) := dk_42 (dk_at dksJ2_grow_2_1 7 rfl rfl)
theorem dJ2_grow_2_32 : decode cJ2_grow_2 32 = .ok (.aload_n 0, 1) := dk_42 (dk_at dksJ2_grow_2_1 8 rfl rfl)
theorem dJ2_grow_2_33 : decode cJ2_grow_2 33 = .ok (.getfield 9, 3) := dk_180 0 9 (dk_at dksJ2_grow_2_1 9 rfl rfl)
theorem dJ2_grow_2_36 : decode cJ2_grow_2 36 = .ok (.iload_n 3, 1) := dk_29 (dk_at dksJ2_grow_2_1 12 rfl rfl)
theorem dJ2_grow_2_37 : decode cJ2_grow_2 37 = .ok (.invokestatic 66, 3) := dk_184 0 66 (dk_at dksJ2_grow_2_1 13 rfl rfl)
theorem dJ2_grow_2_40 : decode cJ2_grow_2 40 = .ok (.dup_x1, 1) := dk_90 (dk_at dksJ2_grow_2_1 16 rfl rfl)
theorem dJ2_grow_2_41 : decode cJ2_grow_2 41 = .ok (.putfield 9, 3) := dk_181 0 9 (dk_at dksJ2_grow_2_1 17 rfl rfl)
theorem dJ2_grow_2_44 : decode cJ2_grow_2 44 = .ok (.areturn, 1) := dk_176 (dk_at dksJ2_grow_2_1 20 rfl rfl)
theorem dJ2_grow_2_45 : decode cJ2_grow_2 45 = .ok (.aload_n 0, 1) := dk_42 (dk_at dksJ2_grow_2_1 21 rfl rfl)
theorem dJ2_grow_2_46 : decode cJ2_grow_2 46 = .ok (.bipush 10, 2) := dk_16 10 (dk_at dksJ2_grow_2_1 22 rfl rfl)
theorem dJ2_grow_2_48 : decode cJ2_grow_2 48 = .ok (.iload_n 1, 1) := dk_27 (dk_at dksJ2_grow_2_2 0 rfl rfl)
theorem dJ2_grow_2_49 : decode cJ2_grow_2 49 = .ok (.invokestatic 79, 3) := dk_184 0 79 (dk_at dksJ2_grow_2_2 1 rfl rfl)
theorem dJ2_grow_2_52 : decode cJ2_grow_2 52 = .ok (.anewarray 7, 3) := dk_189 0 7 (dk_at dksJ2_grow_2_2 4 rfl rfl)
theorem dJ2_grow_2_55 : decode cJ2_grow_2 55 = .ok (.dup_x1, 1) := dk_90 (dk_at dksJ2_grow_2_2 7 rfl rfl)
theorem dJ2_grow_2_56 : decode cJ2_grow_2 56 = .ok (.putfield 9, 3) := dk_181 0 9 (dk_at dksJ2_grow_2_2 8 rfl rfl)
theorem dJ2_grow_2_59 : decode cJ2_grow_2 59 = .ok (.areturn, 1) := dk_176 (dk_at dksJ2_grow_2_2 11 rfl rfl)
abbrev cJ2_get : ByteArray := prog_47_method_20_code
def yJ2_get : MethodName := ⟨RJ2, "get", "(I)Ljava/lang/Object;"⟩
def dkwJ2_get_0 : List UInt8 := [27, 42, 180, 0, 48, 184, 0, 118, 87, 42, 27, 182, 0, 123, 176]
abbrev dktJ2_get_0 : List UInt8 := dkwJ2_get_0 ++ []
theorem dksJ2_get_0 : cJ2_get.data.toList.drop 0 = dktJ2_get_0 := by decide +kernel
theorem dJ2_get_0 : decode cJ2_get 0 = .ok (.iload_n 1, 1) := dk_27 (dk_at dksJ2_get_0 0 rfl rfl)
theorem dJ2_get_1 : decode cJ2_get 1 = .ok (.aload_n 0, 1) := dk_42 (dk_at dksJ2_get_0 1 rfl rfl)
theorem dJ2_get_2 : decode cJ2_get 2 = .ok (.getfield 48, 3) := dk_180 0 48 (dk_at dksJ2_get_0 2 rfl rfl)
theorem dJ2_get_5 : decode cJ2_get 5 = .ok (.invokestatic 118, 3) := dk_184 0 118 (dk_at dksJ2_get_0 5 rfl rfl)
theorem dJ2_get_8 : decode cJ2_get 8 = .ok (.pop, 1) := dk_87 (dk_at dksJ2_get_0 8 rfl rfl)
theorem dJ2_get_9 : decode cJ2_get 9 = .ok (.aload_n 0, 1) := dk_42 (dk_at dksJ2_get_0 9 rfl rfl)
theorem dJ2_get_10 : decode cJ2_get 10 = .ok (.iload_n 1, 1) := dk_27 (dk_at dksJ2_get_0 10 rfl rfl)
theorem dJ2_get_11 : decode cJ2_get 11 = .ok (.invokevirtual 123, 3) := dk_182 0 123 (dk_at dksJ2_get_0 11 rfl rfl)
theorem dJ2_get_14 : decode cJ2_get 14 = .ok (.areturn, 1) := dk_176 (dk_at dksJ2_get_0 14 rfl rfl)
abbrev cJ2_elementData : ByteArray := prog_47_method_18_code
def yJ2_elementData : MethodName := ⟨RJ2, "elementData", "(I)Ljava/lang/Object;"⟩
def dkwJ2_elementData_0 : List UInt8 := [42, 180, 0, 9, 27, 50, 176]
abbrev dktJ2_elementData_0 : List UInt8 := dkwJ2_elementData_0 ++ []
theorem dksJ2_elementData_0 : cJ2_elementData.data.toList.drop 0 = dktJ2_elementData_0 := by decide +kernel
theorem dJ2_elementData_0 : decode cJ2_elementData 0 = .ok (.aload_n 0, 1) := dk_42 (dk_at dksJ2_elementData_0 0 rfl rfl)
theorem dJ2_elementData_1 : decode cJ2_elementData 1 = .ok (.getfield 9, 3) := dk_180 0 9 (dk_at dksJ2_elementData_0 1 rfl rfl)
theorem dJ2_elementData_4 : decode cJ2_elementData 4 = .ok (.iload_n 1, 1) := dk_27 (dk_at dksJ2_elementData_0 4 rfl rfl)
theorem dJ2_elementData_5 : decode cJ2_elementData 5 = .ok (.aaload, 1) := dk_50 (dk_at dksJ2_elementData_0 5 rfl rfl)
theorem dJ2_elementData_6 : decode cJ2_elementData 6 = .ok (.areturn, 1) := dk_176 (dk_at dksJ2_elementData_0 6 rfl rfl)
abbrev cJ2_isEmpty : ByteArray := prog_47_method_9_code
def yJ2_isEmpty : MethodName := ⟨RJ2, "isEmpty", "()Z"⟩
def dkwJ2_isEmpty_0 : List UInt8 := [42, 180, 0, 48, 154, 0, 7, 4, 167, 0, 4, 3, 172]
abbrev dktJ2_isEmpty_0 : List UInt8 := dkwJ2_isEmpty_0 ++ []
theorem dksJ2_isEmpty_0 : cJ2_isEmpty.data.toList.drop 0 = dktJ2_isEmpty_0 := by decide +kernel
theorem dJ2_isEmpty_0 : decode cJ2_isEmpty 0 = .ok (.aload_n 0, 1) := dk_42 (dk_at dksJ2_isEmpty_0 0 rfl rfl)
theorem dJ2_isEmpty_1 : decode cJ2_isEmpty 1 = .ok (.getfield 48, 3) := dk_180 0 48 (dk_at dksJ2_isEmpty_0 1 rfl rfl)
theorem dJ2_isEmpty_4 : decode cJ2_isEmpty 4 = .ok (.ifCond .ne 7, 3) := dk_154 0 7 (dk_at dksJ2_isEmpty_0 4 rfl rfl)
theorem dJ2_isEmpty_7 : decode cJ2_isEmpty 7 = .ok (.iconst 1, 1) := dk_4 (dk_at dksJ2_isEmpty_0 7 rfl rfl)
theorem dJ2_isEmpty_8 : decode cJ2_isEmpty 8 = .ok (.goto 4, 3) := dk_167 0 4 (dk_at dksJ2_isEmpty_0 8 rfl rfl)
theorem dJ2_isEmpty_11 : decode cJ2_isEmpty 11 = .ok (.iconst 0, 1) := dk_3 (dk_at dksJ2_isEmpty_0 11 rfl rfl)
theorem dJ2_isEmpty_12 : decode cJ2_isEmpty 12 = .ok (.ireturn, 1) := dk_172 (dk_at dksJ2_isEmpty_0 12 rfl rfl)
abbrev cJ2_listIterator : ByteArray := prog_47_method_53_code
def yJ2_listIterator : MethodName := ⟨RJ2, "listIterator", "(I)Ljava/util/ListIterator;"⟩
def dkwJ2_listIterator_0 : List UInt8 := [42, 27, 182, 0, 135, 187, 1, 6, 89, 42, 27, 183, 1, 8, 176]
abbrev dktJ2_listIterator_0 : List UInt8 := dkwJ2_listIterator_0 ++ []
theorem dksJ2_listIterator_0 : cJ2_listIterator.data.toList.drop 0 = dktJ2_listIterator_0 := by decide +kernel
theorem dJ2_listIterator_0 : decode cJ2_listIterator 0 = .ok (.aload_n 0, 1) := dk_42 (dk_at dksJ2_listIterator_0 0 rfl rfl)
theorem dJ2_listIterator_1 : decode cJ2_listIterator 1 = .ok (.iload_n 1, 1) := dk_27 (dk_at dksJ2_listIterator_0 1 rfl rfl)
theorem dJ2_listIterator_2 : decode cJ2_listIterator 2 = .ok (.invokevirtual 135, 3) := dk_182 0 135 (dk_at dksJ2_listIterator_0 2 rfl rfl)
theorem dJ2_listIterator_5 : decode cJ2_listIterator 5 = .ok (.new 262, 3) := dk_187 1 6 (dk_at dksJ2_listIterator_0 5 rfl rfl)
theorem dJ2_listIterator_8 : decode cJ2_listIterator 8 = .ok (.dup, 1) := dk_89 (dk_at dksJ2_listIterator_0 8 rfl rfl)
theorem dJ2_listIterator_9 : decode cJ2_listIterator 9 = .ok (.aload_n 0, 1) := dk_42 (dk_at dksJ2_listIterator_0 9 rfl rfl)
theorem dJ2_listIterator_10 : decode cJ2_listIterator 10 = .ok (.iload_n 1, 1) := dk_27 (dk_at dksJ2_listIterator_0 10 rfl rfl)
theorem dJ2_listIterator_11 : decode cJ2_listIterator 11 = .ok (.invokespecial 264, 3) := dk_183 1 8 (dk_at dksJ2_listIterator_0 11 rfl rfl)
theorem dJ2_listIterator_14 : decode cJ2_listIterator 14 = .ok (.areturn, 1) := dk_176 (dk_at dksJ2_listIterator_0 14 rfl rfl)
abbrev cJ2_rangeCheckForAdd : ByteArray := prog_47_method_45_code
def yJ2_rangeCheckForAdd : MethodName := ⟨RJ2, "rangeCheckForAdd", "(I)V"⟩
def dkwJ2_rangeCheckForAdd_1 : List UInt8 := [191, 177]
abbrev dktJ2_rangeCheckForAdd_1 : List UInt8 := dkwJ2_rangeCheckForAdd_1 ++ []
def dkwJ2_rangeCheckForAdd_0 : List UInt8 := [27, 42, 180, 0, 48, 163, 0, 7, 27, 156, 0, 16, 187, 0, 187, 89, 42, 27, 182, 0, 198, 183, 0, 193]
abbrev dktJ2_rangeCheckForAdd_0 : List UInt8 := dkwJ2_rangeCheckForAdd_0 ++ dktJ2_rangeCheckForAdd_1
theorem dksJ2_rangeCheckForAdd_0 : cJ2_rangeCheckForAdd.data.toList.drop 0 = dktJ2_rangeCheckForAdd_0 := by decide +kernel
theorem dksJ2_rangeCheckForAdd_1 : cJ2_rangeCheckForAdd.data.toList.drop 24 = dktJ2_rangeCheckForAdd_1 := dk_seg dksJ2_rangeCheckForAdd_0 24 rfl rfl
theorem dJ2_rangeCheckForAdd_0 : decode cJ2_rangeCheckForAdd 0 = .ok (.iload_n 1, 1) := dk_27 (dk_at dksJ2_rangeCheckForAdd_0 0 rfl rfl)
theorem dJ2_rangeCheckForAdd_1 : decode cJ2_rangeCheckForAdd 1 = .ok (.aload_n 0, 1) := dk_42 (dk_at dksJ2_rangeCheckForAdd_0 1 rfl rfl)
theorem dJ2_rangeCheckForAdd_2 : decode cJ2_rangeCheckForAdd 2 = .ok (.getfield 48, 3) := dk_180 0 48 (dk_at dksJ2_rangeCheckForAdd_0 2 rfl rfl)
theorem dJ2_rangeCheckForAdd_5 : decode cJ2_rangeCheckForAdd 5 = .ok (.if_icmp .gt 7, 3) := dk_163 0 7 (dk_at dksJ2_rangeCheckForAdd_0 5 rfl rfl)
theorem dJ2_rangeCheckForAdd_8 : decode cJ2_rangeCheckForAdd 8 = .ok (.iload_n 1, 1) := dk_27 (dk_at dksJ2_rangeCheckForAdd_0 8 rfl rfl)
theorem dJ2_rangeCheckForAdd_9 : decode cJ2_rangeCheckForAdd 9 = .ok (.ifCond .ge 16, 3) := dk_156 0 16 (dk_at dksJ2_rangeCheckForAdd_0 9 rfl rfl)
theorem dJ2_rangeCheckForAdd_12 : decode cJ2_rangeCheckForAdd 12 = .ok (.new 187, 3) := dk_187 0 187 (dk_at dksJ2_rangeCheckForAdd_0 12 rfl rfl)
theorem dJ2_rangeCheckForAdd_15 : decode cJ2_rangeCheckForAdd 15 = .ok (.dup, 1) := dk_89 (dk_at dksJ2_rangeCheckForAdd_0 15 rfl rfl)
theorem dJ2_rangeCheckForAdd_16 : decode cJ2_rangeCheckForAdd 16 = .ok (.aload_n 0, 1) := dk_42 (dk_at dksJ2_rangeCheckForAdd_0 16 rfl rfl)
theorem dJ2_rangeCheckForAdd_17 : decode cJ2_rangeCheckForAdd 17 = .ok (.iload_n 1, 1) := dk_27 (dk_at dksJ2_rangeCheckForAdd_0 17 rfl rfl)
theorem dJ2_rangeCheckForAdd_18 : decode cJ2_rangeCheckForAdd 18 = .ok (.invokevirtual 198, 3) := dk_182 0 198 (dk_at dksJ2_rangeCheckForAdd_0 18 rfl rfl)
theorem dJ2_rangeCheckForAdd_21 : decode cJ2_rangeCheckForAdd 21 = .ok (.invokespecial 193, 3) := dk_183 0 193 (dk_at dksJ2_rangeCheckForAdd_0 21 rfl rfl)
theorem dJ2_rangeCheckForAdd_24 : decode cJ2_rangeCheckForAdd 24 = .ok (.athrow, 1) := dk_191 (dk_at dksJ2_rangeCheckForAdd_1 0 rfl rfl)
theorem dJ2_rangeCheckForAdd_25 : decode cJ2_rangeCheckForAdd 25 = .ok (.return_, 1) := dk_177 (dk_at dksJ2_rangeCheckForAdd_1 1 rfl rfl)
abbrev cJ2_outOfBoundsMsg : ByteArray := prog_47_method_46_code
def yJ2_outOfBoundsMsg : MethodName := ⟨RJ2, "outOfBoundsMsg", "(I)Ljava/lang/String;"⟩
def dkwJ2_outOfBoundsMsg_1 : List UInt8 := [180, 0, 48, 182, 0, 29, 182, 0, 32, 176]
abbrev dktJ2_outOfBoundsMsg_1 : List UInt8 := dkwJ2_outOfBoundsMsg_1 ++ []
def dkwJ2_outOfBoundsMsg_0 : List UInt8 := [187, 0, 20, 89, 183, 0, 22, 18, 201, 182, 0, 25, 27, 182, 0, 29, 18, 203, 182, 0, 25, 42]
abbrev dktJ2_outOfBoundsMsg_0 : List UInt8 := dkwJ2_outOfBoundsMsg_0 ++ dktJ2_outOfBoundsMsg_1
theorem dksJ2_outOfBoundsMsg_0 : cJ2_outOfBoundsMsg.data.toList.drop 0 = dktJ2_outOfBoundsMsg_0 := by decide +kernel
theorem dksJ2_outOfBoundsMsg_1 : cJ2_outOfBoundsMsg.data.toList.drop 22 = dktJ2_outOfBoundsMsg_1 := dk_seg dksJ2_outOfBoundsMsg_0 22 rfl rfl
theorem dJ2_outOfBoundsMsg_0 : decode cJ2_outOfBoundsMsg 0 = .ok (.new 20, 3) := dk_187 0 20 (dk_at dksJ2_outOfBoundsMsg_0 0 rfl rfl)
theorem dJ2_outOfBoundsMsg_3 : decode cJ2_outOfBoundsMsg 3 = .ok (.dup, 1) := dk_89 (dk_at dksJ2_outOfBoundsMsg_0 3 rfl rfl)
theorem dJ2_outOfBoundsMsg_4 : decode cJ2_outOfBoundsMsg 4 = .ok (.invokespecial 22, 3) := dk_183 0 22 (dk_at dksJ2_outOfBoundsMsg_0 4 rfl rfl)
theorem dJ2_outOfBoundsMsg_7 : decode cJ2_outOfBoundsMsg 7 = .ok (.ldc 201, 2) := dk_18 201 (dk_at dksJ2_outOfBoundsMsg_0 7 rfl rfl)
theorem dJ2_outOfBoundsMsg_9 : decode cJ2_outOfBoundsMsg 9 = .ok (.invokevirtual 25, 3) := dk_182 0 25 (dk_at dksJ2_outOfBoundsMsg_0 9 rfl rfl)
theorem dJ2_outOfBoundsMsg_12 : decode cJ2_outOfBoundsMsg 12 = .ok (.iload_n 1, 1) := dk_27 (dk_at dksJ2_outOfBoundsMsg_0 12 rfl rfl)
theorem dJ2_outOfBoundsMsg_13 : decode cJ2_outOfBoundsMsg 13 = .ok (.invokevirtual 29, 3) := dk_182 0 29 (dk_at dksJ2_outOfBoundsMsg_0 13 rfl rfl)
theorem dJ2_outOfBoundsMsg_16 : decode cJ2_outOfBoundsMsg 16 = .ok (.ldc 203, 2) := dk_18 203 (dk_at dksJ2_outOfBoundsMsg_0 16 rfl rfl)
theorem dJ2_outOfBoundsMsg_18 : decode cJ2_outOfBoundsMsg 18 = .ok (.invokevirtual 25, 3) := dk_182 0 25 (dk_at dksJ2_outOfBoundsMsg_0 18 rfl rfl)
theorem dJ2_outOfBoundsMsg_21 : decode cJ2_outOfBoundsMsg 21 = .ok (.aload_n 0, 1) := dk_42 (dk_at dksJ2_outOfBoundsMsg_0 21 rfl rfl)
theorem dJ2_outOfBoundsMsg_22 : decode cJ2_outOfBoundsMsg 22 = .ok (.getfield 48, 3) := dk_180 0 48 (dk_at dksJ2_outOfBoundsMsg_1 0 rfl rfl)
theorem dJ2_outOfBoundsMsg_25 : decode cJ2_outOfBoundsMsg 25 = .ok (.invokevirtual 29, 3) := dk_182 0 29 (dk_at dksJ2_outOfBoundsMsg_1 3 rfl rfl)
theorem dJ2_outOfBoundsMsg_28 : decode cJ2_outOfBoundsMsg 28 = .ok (.invokevirtual 32, 3) := dk_182 0 32 (dk_at dksJ2_outOfBoundsMsg_1 6 rfl rfl)
theorem dJ2_outOfBoundsMsg_31 : decode cJ2_outOfBoundsMsg 31 = .ok (.areturn, 1) := dk_176 (dk_at dksJ2_outOfBoundsMsg_1 9 rfl rfl)
abbrev cJ2_remove : ByteArray := prog_47_method_29_code
def yJ2_remove : MethodName := ⟨RJ2, "remove", "(I)Ljava/lang/Object;"⟩
def dkwJ2_remove_1 : List UInt8 := [45, 176]
abbrev dktJ2_remove_1 : List UInt8 := dkwJ2_remove_1 ++ []
def dkwJ2_remove_0 : List UInt8 := [27, 42, 180, 0, 48, 184, 0, 118, 87, 42, 180, 0, 9, 77, 44, 27, 50, 78, 42, 44, 27, 182, 0, 144]
abbrev dktJ2_remove_0 : List UInt8 := dkwJ2_remove_0 ++ dktJ2_remove_1
theorem dksJ2_remove_0 : cJ2_remove.data.toList.drop 0 = dktJ2_remove_0 := by decide +kernel
theorem dksJ2_remove_1 : cJ2_remove.data.toList.drop 24 = dktJ2_remove_1 := dk_seg dksJ2_remove_0 24 rfl rfl
theorem dJ2_remove_0 : decode cJ2_remove 0 = .ok (.iload_n 1, 1) := dk_27 (dk_at dksJ2_remove_0 0 rfl rfl)
theorem dJ2_remove_1 : decode cJ2_remove 1 = .ok (.aload_n 0, 1) := dk_42 (dk_at dksJ2_remove_0 1 rfl rfl)
theorem dJ2_remove_2 : decode cJ2_remove 2 = .ok (.getfield 48, 3) := dk_180 0 48 (dk_at dksJ2_remove_0 2 rfl rfl)
theorem dJ2_remove_5 : decode cJ2_remove 5 = .ok (.invokestatic 118, 3) := dk_184 0 118 (dk_at dksJ2_remove_0 5 rfl rfl)
theorem dJ2_remove_8 : decode cJ2_remove 8 = .ok (.pop, 1) := dk_87 (dk_at dksJ2_remove_0 8 rfl rfl)
theorem dJ2_remove_9 : decode cJ2_remove 9 = .ok (.aload_n 0, 1) := dk_42 (dk_at dksJ2_remove_0 9 rfl rfl)
theorem dJ2_remove_10 : decode cJ2_remove 10 = .ok (.getfield 9, 3) := dk_180 0 9 (dk_at dksJ2_remove_0 10 rfl rfl)
theorem dJ2_remove_13 : decode cJ2_remove 13 = .ok (.astore_n 2, 1) := dk_77 (dk_at dksJ2_remove_0 13 rfl rfl)
theorem dJ2_remove_14 : decode cJ2_remove 14 = .ok (.aload_n 2, 1) := dk_44 (dk_at dksJ2_remove_0 14 rfl rfl)
theorem dJ2_remove_15 : decode cJ2_remove 15 = .ok (.iload_n 1, 1) := dk_27 (dk_at dksJ2_remove_0 15 rfl rfl)
theorem dJ2_remove_16 : decode cJ2_remove 16 = .ok (.aaload, 1) := dk_50 (dk_at dksJ2_remove_0 16 rfl rfl)
theorem dJ2_remove_17 : decode cJ2_remove 17 = .ok (.astore_n 3, 1) := dk_78 (dk_at dksJ2_remove_0 17 rfl rfl)
theorem dJ2_remove_18 : decode cJ2_remove 18 = .ok (.aload_n 0, 1) := dk_42 (dk_at dksJ2_remove_0 18 rfl rfl)
theorem dJ2_remove_19 : decode cJ2_remove 19 = .ok (.aload_n 2, 1) := dk_44 (dk_at dksJ2_remove_0 19 rfl rfl)
theorem dJ2_remove_20 : decode cJ2_remove 20 = .ok (.iload_n 1, 1) := dk_27 (dk_at dksJ2_remove_0 20 rfl rfl)
theorem dJ2_remove_21 : decode cJ2_remove 21 = .ok (.invokevirtual 144, 3) := dk_182 0 144 (dk_at dksJ2_remove_0 21 rfl rfl)
theorem dJ2_remove_24 : decode cJ2_remove 24 = .ok (.aload_n 3, 1) := dk_45 (dk_at dksJ2_remove_1 0 rfl rfl)
theorem dJ2_remove_25 : decode cJ2_remove 25 = .ok (.areturn, 1) := dk_176 (dk_at dksJ2_remove_1 1 rfl rfl)
abbrev cJ2_fastRemove : ByteArray := prog_47_method_39_code
def yJ2_fastRemove : MethodName := ⟨RJ2, "fastRemove", "([Ljava/lang/Object;I)V"⟩
def dkwJ2_fastRemove_1 : List UInt8 := [4, 96, 43, 28, 29, 28, 100, 184, 0, 112, 43, 42, 29, 90, 181, 0, 48, 1, 83, 177]
abbrev dktJ2_fastRemove_1 : List UInt8 := dkwJ2_fastRemove_1 ++ []
def dkwJ2_fastRemove_0 : List UInt8 := [42, 89, 180, 0, 63, 4, 96, 181, 0, 63, 42, 180, 0, 48, 4, 100, 89, 62, 28, 164, 0, 15, 43, 28]
abbrev dktJ2_fastRemove_0 : List UInt8 := dkwJ2_fastRemove_0 ++ dktJ2_fastRemove_1
theorem dksJ2_fastRemove_0 : cJ2_fastRemove.data.toList.drop 0 = dktJ2_fastRemove_0 := by decide +kernel
theorem dksJ2_fastRemove_1 : cJ2_fastRemove.data.toList.drop 24 = dktJ2_fastRemove_1 := dk_seg dksJ2_fastRemove_0 24 rfl rfl
theorem dJ2_fastRemove_0 : decode cJ2_fastRemove 0 = .ok (.aload_n 0, 1) := dk_42 (dk_at dksJ2_fastRemove_0 0 rfl rfl)
theorem dJ2_fastRemove_1 : decode cJ2_fastRemove 1 = .ok (.dup, 1) := dk_89 (dk_at dksJ2_fastRemove_0 1 rfl rfl)
theorem dJ2_fastRemove_2 : decode cJ2_fastRemove 2 = .ok (.getfield 63, 3) := dk_180 0 63 (dk_at dksJ2_fastRemove_0 2 rfl rfl)
theorem dJ2_fastRemove_5 : decode cJ2_fastRemove 5 = .ok (.iconst 1, 1) := dk_4 (dk_at dksJ2_fastRemove_0 5 rfl rfl)
theorem dJ2_fastRemove_6 : decode cJ2_fastRemove 6 = .ok (.iadd, 1) := dk_96 (dk_at dksJ2_fastRemove_0 6 rfl rfl)
theorem dJ2_fastRemove_7 : decode cJ2_fastRemove 7 = .ok (.putfield 63, 3) := dk_181 0 63 (dk_at dksJ2_fastRemove_0 7 rfl rfl)
theorem dJ2_fastRemove_10 : decode cJ2_fastRemove 10 = .ok (.aload_n 0, 1) := dk_42 (dk_at dksJ2_fastRemove_0 10 rfl rfl)
theorem dJ2_fastRemove_11 : decode cJ2_fastRemove 11 = .ok (.getfield 48, 3) := dk_180 0 48 (dk_at dksJ2_fastRemove_0 11 rfl rfl)
theorem dJ2_fastRemove_14 : decode cJ2_fastRemove 14 = .ok (.iconst 1, 1) := dk_4 (dk_at dksJ2_fastRemove_0 14 rfl rfl)
theorem dJ2_fastRemove_15 : decode cJ2_fastRemove 15 = .ok (.isub, 1) := dk_100 (dk_at dksJ2_fastRemove_0 15 rfl rfl)
theorem dJ2_fastRemove_16 : decode cJ2_fastRemove 16 = .ok (.dup, 1) := dk_89 (dk_at dksJ2_fastRemove_0 16 rfl rfl)
theorem dJ2_fastRemove_17 : decode cJ2_fastRemove 17 = .ok (.istore_n 3, 1) := dk_62 (dk_at dksJ2_fastRemove_0 17 rfl rfl)
theorem dJ2_fastRemove_18 : decode cJ2_fastRemove 18 = .ok (.iload_n 2, 1) := dk_28 (dk_at dksJ2_fastRemove_0 18 rfl rfl)
theorem dJ2_fastRemove_19 : decode cJ2_fastRemove 19 = .ok (.if_icmp .le 15, 3) := dk_164 0 15 (dk_at dksJ2_fastRemove_0 19 rfl rfl)
theorem dJ2_fastRemove_22 : decode cJ2_fastRemove 22 = .ok (.aload_n 1, 1) := dk_43 (dk_at dksJ2_fastRemove_0 22 rfl rfl)
theorem dJ2_fastRemove_23 : decode cJ2_fastRemove 23 = .ok (.iload_n 2, 1) := dk_28 (dk_at dksJ2_fastRemove_0 23 rfl rfl)
theorem dJ2_fastRemove_24 : decode cJ2_fastRemove 24 = .ok (.iconst 1, 1) := dk_4 (dk_at dksJ2_fastRemove_1 0 rfl rfl)
theorem dJ2_fastRemove_25 : decode cJ2_fastRemove 25 = .ok (.iadd, 1) := dk_96 (dk_at dksJ2_fastRemove_1 1 rfl rfl)
theorem dJ2_fastRemove_26 : decode cJ2_fastRemove 26 = .ok (.aload_n 1, 1) := dk_43 (dk_at dksJ2_fastRemove_1 2 rfl rfl)
theorem dJ2_fastRemove_27 : decode cJ2_fastRemove 27 = .ok (.iload_n 2, 1) := dk_28 (dk_at dksJ2_fastRemove_1 3 rfl rfl)
theorem dJ2_fastRemove_28 : decode cJ2_fastRemove 28 = .ok (.iload_n 3, 1) := dk_29 (dk_at dksJ2_fastRemove_1 4 rfl rfl)
theorem dJ2_fastRemove_29 : decode cJ2_fastRemove 29 = .ok (.iload_n 2, 1) := dk_28 (dk_at dksJ2_fastRemove_1 5 rfl rfl)
theorem dJ2_fastRemove_30 : decode cJ2_fastRemove 30 = .ok (.isub, 1) := dk_100 (dk_at dksJ2_fastRemove_1 6 rfl rfl)
theorem dJ2_fastRemove_31 : decode cJ2_fastRemove 31 = .ok (.invokestatic 112, 3) := dk_184 0 112 (dk_at dksJ2_fastRemove_1 7 rfl rfl)
theorem dJ2_fastRemove_34 : decode cJ2_fastRemove 34 = .ok (.aload_n 1, 1) := dk_43 (dk_at dksJ2_fastRemove_1 10 rfl rfl)
theorem dJ2_fastRemove_35 : decode cJ2_fastRemove 35 = .ok (.aload_n 0, 1) := dk_42 (dk_at dksJ2_fastRemove_1 11 rfl rfl)
theorem dJ2_fastRemove_36 : decode cJ2_fastRemove 36 = .ok (.iload_n 3, 1) := dk_29 (dk_at dksJ2_fastRemove_1 12 rfl rfl)
theorem dJ2_fastRemove_37 : decode cJ2_fastRemove 37 = .ok (.dup_x1, 1) := dk_90 (dk_at dksJ2_fastRemove_1 13 rfl rfl)
theorem dJ2_fastRemove_38 : decode cJ2_fastRemove 38 = .ok (.putfield 48, 3) := dk_181 0 48 (dk_at dksJ2_fastRemove_1 14 rfl rfl)
theorem dJ2_fastRemove_41 : decode cJ2_fastRemove 41 = .ok (.aconst_null, 1) := dk_1 (dk_at dksJ2_fastRemove_1 17 rfl rfl)
theorem dJ2_fastRemove_42 : decode cJ2_fastRemove 42 = .ok (.aastore, 1) := dk_83 (dk_at dksJ2_fastRemove_1 18 rfl rfl)
theorem dJ2_fastRemove_43 : decode cJ2_fastRemove 43 = .ok (.return_, 1) := dk_177 (dk_at dksJ2_fastRemove_1 19 rfl rfl)
theorem q75 : (Jvm.Cond.initialized "java/util/ArrayList") ∈ lw_all := lw_g (lw_at lw_m1 5 rfl) rfl
theorem q139 : (Jvm.Cond.instantiable "java/util/ArrayList" (3 : Nat)) ∈ lw_all := lw_g (lw_at lw_m1 69 rfl) rfl
theorem q141 : (Jvm.Cond.instanceMethod ({ cls := "java/util/ArrayList", name := "<init>", desc := "(I)V" } : Jvm.MethodName)) ∈ lw_all := lw_g (lw_at lw_m1 71 rfl) rfl
theorem q142 : (Jvm.Cond.code ({ cls := "java/util/ArrayList", name := "<init>", desc := "(I)V" } : Jvm.MethodName) prog_47_method_1_code (2 : Nat) (Option.none : Option Jvm.ClassFile.FieldType)) ∈ lw_all := lw_g (lw_at lw_m1 72 rfl) rfl
theorem q143 : (Jvm.Cond.methodLink "java/util/ArrayList" (1 : Nat) ({ cls := "java/util/AbstractList", name := "<init>", desc := "()V" } : Jvm.MethodName)) ∈ lw_all := lw_g (lw_at lw_m1 73 rfl) rfl
theorem q150 : (Jvm.Cond.classLink "java/util/ArrayList" (7 : Nat) "java/lang/Object") ∈ lw_all := lw_g (lw_at lw_m1 80 rfl) rfl
theorem q152 : (Jvm.Cond.fieldLink "java/util/ArrayList" (15 : Nat) "java/util/ArrayList" "EMPTY_ELEMENTDATA" "[Ljava/lang/Object;") ∈ lw_all := lw_g (lw_at lw_m1 82 rfl) rfl
theorem q153 : (Jvm.Cond.laysStatic "java/util/ArrayList" "EMPTY_ELEMENTDATA" "[Ljava/lang/Object;") ∈ lw_tbl := lw_at lw_m1 83 rfl
theorem q154 : (Jvm.Cond.classLink "java/util/ArrayList" (18 : Nat) "java/lang/IllegalArgumentException") ∈ lw_all := lw_g (lw_at lw_m1 84 rfl) rfl
theorem q198 : (Jvm.Cond.classLink "java/util/ArrayList" (20 : Nat) "java/lang/StringBuilder") ∈ lw_all := lw_g (lw_at lw_m1 128 rfl) rfl
theorem q200 : (Jvm.Cond.methodLink "java/util/ArrayList" (22 : Nat) ({ cls := "java/lang/StringBuilder", name := "<init>", desc := "()V" } : Jvm.MethodName)) ∈ lw_all := lw_g (lw_at lw_m1 130 rfl) rfl
theorem q230 : (Jvm.Cond.stringRef "java/util/ArrayList" (23 : Nat) "Illegal Capacity: ") ∈ lw_tbl := lw_at lw_m1 160 rfl
theorem q231 : (Jvm.Cond.methodLink "java/util/ArrayList" (25 : Nat) ({ cls := "java/lang/StringBuilder", name := "append", desc := "(Ljava/lang/String;)Ljava/lang/StringBuilder;" } : Jvm.MethodName)) ∈ lw_all := lw_g (lw_at lw_m1 161 rfl) rfl
theorem q351 : (Jvm.Cond.methodLink "java/util/ArrayList" (29 : Nat) ({ cls := "java/lang/StringBuilder", name := "append", desc := "(I)Ljava/lang/StringBuilder;" } : Jvm.MethodName)) ∈ lw_all := lw_g (lw_at lw_m2 41 rfl) rfl
theorem q376 : (Jvm.Cond.methodLink "java/util/ArrayList" (32 : Nat) ({ cls := "java/lang/StringBuilder", name := "toString", desc := "()Ljava/lang/String;" } : Jvm.MethodName)) ∈ lw_all := lw_g (lw_at lw_m2 66 rfl) rfl
theorem q468 : (Jvm.Cond.methodLink "java/util/ArrayList" (36 : Nat) ({ cls := "java/lang/IllegalArgumentException", name := "<init>", desc := "(Ljava/lang/String;)V" } : Jvm.MethodName)) ∈ lw_all := lw_g (lw_at lw_m2 158 rfl) rfl
theorem q469 : (Jvm.Cond.fieldLink "java/util/ArrayList" (9 : Nat) "java/util/ArrayList" "elementData" "[Ljava/lang/Object;") ∈ lw_all := lw_g (lw_at lw_m2 159 rfl) rfl
theorem q472 : (Jvm.Cond.fieldLink "java/util/ArrayList" (48 : Nat) "java/util/ArrayList" "size" "I") ∈ lw_all := lw_g (lw_at lw_m2 162 rfl) rfl
theorem q477 : (Jvm.Cond.sameField "java/util/ArrayList" "java/util/AbstractList" "modCount" "I") ∈ lw_all := lw_g (lw_at lw_m2 167 rfl) rfl
theorem q480 : (Jvm.Cond.fieldLink "java/util/ArrayList" (63 : Nat) "java/util/ArrayList" "modCount" "I") ∈ lw_all := lw_g (lw_at lw_m2 170 rfl) rfl
theorem q481 : (Jvm.Cond.lays "java/util/ArrayList" "java/util/ArrayList" "elementData" "[Ljava/lang/Object;") ∈ lw_all := lw_g (lw_at lw_m2 171 rfl) rfl
theorem q482 : (Jvm.Cond.soleField "java/util/ArrayList" "elementData") ∈ lw_all := lw_g (lw_at lw_m2 172 rfl) rfl
theorem q483 : (Jvm.Cond.lays "java/util/ArrayList" "java/util/ArrayList" "size" "I") ∈ lw_all := lw_g (lw_at lw_m2 173 rfl) rfl
theorem q484 : (Jvm.Cond.soleField "java/util/ArrayList" "size") ∈ lw_all := lw_g (lw_at lw_m2 174 rfl) rfl
theorem q485 : (Jvm.Cond.lays "java/util/ArrayList" "java/util/AbstractList" "modCount" "I") ∈ lw_all := lw_g (lw_at lw_m2 175 rfl) rfl
theorem q487 : (Jvm.Cond.superclass "java/util/ArrayList" "java/util/AbstractList") ∈ lw_all := lw_g (lw_at lw_m2 177 rfl) rfl
theorem q497 : (Jvm.Cond.instanceMethod ({ cls := "java/util/ArrayList", name := "<init>", desc := "()V" } : Jvm.MethodName)) ∈ lw_all := lw_g (lw_at lw_m2 187 rfl) rfl
theorem q498 : (Jvm.Cond.code ({ cls := "java/util/ArrayList", name := "<init>", desc := "()V" } : Jvm.MethodName) prog_47_method_2_code (1 : Nat) (Option.none : Option Jvm.ClassFile.FieldType)) ∈ lw_all := lw_g (lw_at lw_m2 188 rfl) rfl
theorem q499 : (Jvm.Cond.fieldLink "java/util/ArrayList" (39 : Nat) "java/util/ArrayList" "DEFAULTCAPACITY_EMPTY_ELEMENTDATA" "[Ljava/lang/Object;") ∈ lw_all := lw_g (lw_at lw_m2 189 rfl) rfl
theorem q500 : (Jvm.Cond.laysStatic "java/util/ArrayList" "DEFAULTCAPACITY_EMPTY_ELEMENTDATA" "[Ljava/lang/Object;") ∈ lw_tbl := lw_at lw_m2 190 rfl
theorem q770 : (Jvm.Cond.castable "java/util/ArrayList" "java/util/List") ∈ lw_tbl := lw_at lw_m3 220 rfl
theorem q771 : (Jvm.Cond.selects "java/util/ArrayList" ({ cls := "java/util/List", name := "size", desc := "()I" } : Jvm.MethodName) ({ cls := "java/util/ArrayList", name := "size", desc := "()I" } : Jvm.MethodName)) ∈ lw_all := lw_g (lw_at lw_m3 221 rfl) rfl
theorem q772 : (Jvm.Cond.unhidden "java/util/ArrayList" "size" "()I") ∈ lw_tbl := lw_at lw_m3 222 rfl
theorem q773 : (Jvm.Cond.instanceMethod ({ cls := "java/util/ArrayList", name := "size", desc := "()I" } : Jvm.MethodName)) ∈ lw_all := lw_g (lw_at lw_m3 223 rfl) rfl
theorem q774 : (Jvm.Cond.publicMethod ({ cls := "java/util/ArrayList", name := "size", desc := "()I" } : Jvm.MethodName)) ∈ lw_tbl := lw_at lw_m3 224 rfl
theorem q775 : (Jvm.Cond.code ({ cls := "java/util/ArrayList", name := "size", desc := "()I" } : Jvm.MethodName) prog_47_method_8_code (1 : Nat) (Option.some Jvm.ClassFile.FieldType.int)) ∈ lw_all := lw_g (lw_at lw_m3 225 rfl) rfl
theorem q873 : (Jvm.Cond.selects "java/util/ArrayList" ({ cls := "java/util/List", name := "add", desc := "(Ljava/lang/Object;)Z" } : Jvm.MethodName) ({ cls := "java/util/ArrayList", name := "add", desc := "(Ljava/lang/Object;)Z" } : Jvm.MethodName)) ∈ lw_all := lw_g (lw_at lw_m4 83 rfl) rfl
theorem q874 : (Jvm.Cond.unhidden "java/util/ArrayList" "add" "(Ljava/lang/Object;)Z") ∈ lw_tbl := lw_at lw_m4 84 rfl
theorem q875 : (Jvm.Cond.instanceMethod ({ cls := "java/util/ArrayList", name := "add", desc := "(Ljava/lang/Object;)Z" } : Jvm.MethodName)) ∈ lw_all := lw_g (lw_at lw_m4 85 rfl) rfl
theorem q876 : (Jvm.Cond.publicMethod ({ cls := "java/util/ArrayList", name := "add", desc := "(Ljava/lang/Object;)Z" } : Jvm.MethodName)) ∈ lw_tbl := lw_at lw_m4 86 rfl
theorem q877 : (Jvm.Cond.code ({ cls := "java/util/ArrayList", name := "add", desc := "(Ljava/lang/Object;)Z" } : Jvm.MethodName) prog_47_method_25_code (2 : Nat) (Option.some Jvm.ClassFile.FieldType.boolean)) ∈ lw_all := lw_g (lw_at lw_m4 87 rfl) rfl
theorem q878 : (Jvm.Cond.methodLink "java/util/ArrayList" (131 : Nat) ({ cls := "java/util/ArrayList", name := "add", desc := "(Ljava/lang/Object;[Ljava/lang/Object;I)V" } : Jvm.MethodName)) ∈ lw_all := lw_g (lw_at lw_m4 88 rfl) rfl
theorem q879 : (Jvm.Cond.privateMethod ({ cls := "java/util/ArrayList", name := "add", desc := "(Ljava/lang/Object;[Ljava/lang/Object;I)V" } : Jvm.MethodName)) ∈ lw_tbl := lw_at lw_m4 89 rfl
theorem q880 : (Jvm.Cond.instanceMethod ({ cls := "java/util/ArrayList", name := "add", desc := "(Ljava/lang/Object;[Ljava/lang/Object;I)V" } : Jvm.MethodName)) ∈ lw_all := lw_g (lw_at lw_m4 90 rfl) rfl
theorem q881 : (Jvm.Cond.code ({ cls := "java/util/ArrayList", name := "add", desc := "(Ljava/lang/Object;[Ljava/lang/Object;I)V" } : Jvm.MethodName) prog_47_method_24_code (4 : Nat) (Option.none : Option Jvm.ClassFile.FieldType)) ∈ lw_all := lw_g (lw_at lw_m4 91 rfl) rfl
theorem q882 : (Jvm.Cond.methodLink "java/util/ArrayList" (129 : Nat) ({ cls := "java/util/ArrayList", name := "grow", desc := "()[Ljava/lang/Object;" } : Jvm.MethodName)) ∈ lw_all := lw_g (lw_at lw_m4 92 rfl) rfl
theorem q883 : (Jvm.Cond.privateMethod ({ cls := "java/util/ArrayList", name := "grow", desc := "()[Ljava/lang/Object;" } : Jvm.MethodName)) ∈ lw_tbl := lw_at lw_m4 93 rfl
theorem q884 : (Jvm.Cond.instanceMethod ({ cls := "java/util/ArrayList", name := "grow", desc := "()[Ljava/lang/Object;" } : Jvm.MethodName)) ∈ lw_all := lw_g (lw_at lw_m4 94 rfl) rfl
theorem q885 : (Jvm.Cond.code ({ cls := "java/util/ArrayList", name := "grow", desc := "()[Ljava/lang/Object;" } : Jvm.MethodName) prog_47_method_7_code (1 : Nat) (Option.some (Jvm.ClassFile.FieldType.array (Jvm.ClassFile.FieldType.object "java/lang/Object")))) ∈ lw_all := lw_g (lw_at lw_m4 95 rfl) rfl
theorem q886 : (Jvm.Cond.methodLink "java/util/ArrayList" (69 : Nat) ({ cls := "java/util/ArrayList", name := "grow", desc := "(I)[Ljava/lang/Object;" } : Jvm.MethodName)) ∈ lw_all := lw_g (lw_at lw_m4 96 rfl) rfl
theorem q887 : (Jvm.Cond.privateMethod ({ cls := "java/util/ArrayList", name := "grow", desc := "(I)[Ljava/lang/Object;" } : Jvm.MethodName)) ∈ lw_tbl := lw_at lw_m4 97 rfl
theorem q888 : (Jvm.Cond.instanceMethod ({ cls := "java/util/ArrayList", name := "grow", desc := "(I)[Ljava/lang/Object;" } : Jvm.MethodName)) ∈ lw_all := lw_g (lw_at lw_m4 98 rfl) rfl
theorem q889 : (Jvm.Cond.code ({ cls := "java/util/ArrayList", name := "grow", desc := "(I)[Ljava/lang/Object;" } : Jvm.MethodName) prog_47_method_6_code (4 : Nat) (Option.some (Jvm.ClassFile.FieldType.array (Jvm.ClassFile.FieldType.object "java/lang/Object")))) ∈ lw_all := lw_g (lw_at lw_m4 99 rfl) rfl
theorem q890 : (Jvm.Cond.methodLink "java/util/ArrayList" (73 : Nat) ({ cls := "jdk/internal/util/ArraysSupport", name := "newLength", desc := "(III)I" } : Jvm.MethodName)) ∈ lw_all := lw_g (lw_at lw_m4 100 rfl) rfl
theorem q891 : (Jvm.Cond.methodLink "java/util/ArrayList" (66 : Nat) ({ cls := "java/util/Arrays", name := "copyOf", desc := "([Ljava/lang/Object;I)[Ljava/lang/Object;" } : Jvm.MethodName)) ∈ lw_all := lw_g (lw_at lw_m4 101 rfl) rfl
theorem q919 : (Jvm.Cond.selects "java/util/ArrayList" ({ cls := "java/lang/Object", name := "getClass", desc := "()Ljava/lang/Class;" } : Jvm.MethodName) ({ cls := "java/lang/Object", name := "getClass", desc := "()Ljava/lang/Class;" } : Jvm.MethodName)) ∈ lw_all := lw_g (lw_at lw_m4 129 rfl) rfl
theorem q934 : (Jvm.Cond.methodLink "java/util/ArrayList" (79 : Nat) ({ cls := "java/lang/Math", name := "max", desc := "(II)I" } : Jvm.MethodName)) ∈ lw_all := lw_g (lw_at lw_m4 144 rfl) rfl
theorem q995 : (Jvm.Cond.selects "java/util/ArrayList" ({ cls := "java/util/List", name := "get", desc := "(I)Ljava/lang/Object;" } : Jvm.MethodName) ({ cls := "java/util/ArrayList", name := "get", desc := "(I)Ljava/lang/Object;" } : Jvm.MethodName)) ∈ lw_all := lw_g (lw_at lw_m4 205 rfl) rfl
theorem q996 : (Jvm.Cond.unhidden "java/util/ArrayList" "get" "(I)Ljava/lang/Object;") ∈ lw_tbl := lw_at lw_m4 206 rfl
theorem q997 : (Jvm.Cond.instanceMethod ({ cls := "java/util/ArrayList", name := "get", desc := "(I)Ljava/lang/Object;" } : Jvm.MethodName)) ∈ lw_all := lw_g (lw_at lw_m4 207 rfl) rfl
theorem q998 : (Jvm.Cond.publicMethod ({ cls := "java/util/ArrayList", name := "get", desc := "(I)Ljava/lang/Object;" } : Jvm.MethodName)) ∈ lw_tbl := lw_at lw_m4 208 rfl
theorem q999 : (Jvm.Cond.code ({ cls := "java/util/ArrayList", name := "get", desc := "(I)Ljava/lang/Object;" } : Jvm.MethodName) prog_47_method_20_code (2 : Nat) (Option.some (Jvm.ClassFile.FieldType.object "java/lang/Object"))) ∈ lw_all := lw_g (lw_at lw_m4 209 rfl) rfl
theorem q1000 : (Jvm.Cond.methodLink "java/util/ArrayList" (118 : Nat) ({ cls := "java/util/Objects", name := "checkIndex", desc := "(II)I" } : Jvm.MethodName)) ∈ lw_all := lw_g (lw_at lw_m4 210 rfl) rfl
theorem q1006 : (Jvm.Cond.methodLink "java/util/ArrayList" (123 : Nat) ({ cls := "java/util/ArrayList", name := "elementData", desc := "(I)Ljava/lang/Object;" } : Jvm.MethodName)) ∈ lw_all := lw_g (lw_at lw_m4 216 rfl) rfl
theorem q1007 : (Jvm.Cond.instanceMethod ({ cls := "java/util/ArrayList", name := "elementData", desc := "(I)Ljava/lang/Object;" } : Jvm.MethodName)) ∈ lw_all := lw_g (lw_at lw_m4 217 rfl) rfl
theorem q1008 : (Jvm.Cond.selects "java/util/ArrayList" ({ cls := "java/util/ArrayList", name := "elementData", desc := "(I)Ljava/lang/Object;" } : Jvm.MethodName) ({ cls := "java/util/ArrayList", name := "elementData", desc := "(I)Ljava/lang/Object;" } : Jvm.MethodName)) ∈ lw_all := lw_g (lw_at lw_m4 218 rfl) rfl
theorem q1009 : (Jvm.Cond.code ({ cls := "java/util/ArrayList", name := "elementData", desc := "(I)Ljava/lang/Object;" } : Jvm.MethodName) prog_47_method_18_code (2 : Nat) (Option.some (Jvm.ClassFile.FieldType.object "java/lang/Object"))) ∈ lw_all := lw_g (lw_at lw_m4 219 rfl) rfl
theorem q1184 : (Jvm.Cond.selects "java/util/ArrayList" ({ cls := "java/util/List", name := "isEmpty", desc := "()Z" } : Jvm.MethodName) ({ cls := "java/util/ArrayList", name := "isEmpty", desc := "()Z" } : Jvm.MethodName)) ∈ lw_all := lw_g (lw_at lw_m5 154 rfl) rfl
theorem q1185 : (Jvm.Cond.unhidden "java/util/ArrayList" "isEmpty" "()Z") ∈ lw_tbl := lw_at lw_m5 155 rfl
theorem q1186 : (Jvm.Cond.instanceMethod ({ cls := "java/util/ArrayList", name := "isEmpty", desc := "()Z" } : Jvm.MethodName)) ∈ lw_all := lw_g (lw_at lw_m5 156 rfl) rfl
theorem q1187 : (Jvm.Cond.publicMethod ({ cls := "java/util/ArrayList", name := "isEmpty", desc := "()Z" } : Jvm.MethodName)) ∈ lw_tbl := lw_at lw_m5 157 rfl
theorem q1188 : (Jvm.Cond.code ({ cls := "java/util/ArrayList", name := "isEmpty", desc := "()Z" } : Jvm.MethodName) prog_47_method_9_code (1 : Nat) (Option.some Jvm.ClassFile.FieldType.boolean)) ∈ lw_all := lw_g (lw_at lw_m5 158 rfl) rfl
theorem q1203 : (Jvm.Cond.selects "java/util/ArrayList" ({ cls := "java/util/AbstractCollection", name := "size", desc := "()I" } : Jvm.MethodName) ({ cls := "java/util/ArrayList", name := "size", desc := "()I" } : Jvm.MethodName)) ∈ lw_all := lw_g (lw_at lw_m5 173 rfl) rfl
theorem q1464 : (Jvm.Cond.selects "java/util/ArrayList" ({ cls := "java/util/AbstractList", name := "size", desc := "()I" } : Jvm.MethodName) ({ cls := "java/util/ArrayList", name := "size", desc := "()I" } : Jvm.MethodName)) ∈ lw_all := lw_g (lw_at lw_m6 194 rfl) rfl
theorem q1505 : (Jvm.Cond.selects "java/util/ArrayList" ({ cls := "java/util/AbstractList", name := "get", desc := "(I)Ljava/lang/Object;" } : Jvm.MethodName) ({ cls := "java/util/ArrayList", name := "get", desc := "(I)Ljava/lang/Object;" } : Jvm.MethodName)) ∈ lw_all := lw_g (lw_at lw_m6 235 rfl) rfl
theorem q2093 : (Jvm.Cond.selects "java/util/ArrayList" ({ cls := "java/util/AbstractList", name := "listIterator", desc := "(I)Ljava/util/ListIterator;" } : Jvm.MethodName) ({ cls := "java/util/ArrayList", name := "listIterator", desc := "(I)Ljava/util/ListIterator;" } : Jvm.MethodName)) ∈ lw_all := lw_g (lw_at lw_m9 103 rfl) rfl
theorem q2094 : (Jvm.Cond.instanceMethod ({ cls := "java/util/ArrayList", name := "listIterator", desc := "(I)Ljava/util/ListIterator;" } : Jvm.MethodName)) ∈ lw_all := lw_g (lw_at lw_m9 104 rfl) rfl
theorem q2095 : (Jvm.Cond.code ({ cls := "java/util/ArrayList", name := "listIterator", desc := "(I)Ljava/util/ListIterator;" } : Jvm.MethodName) prog_47_method_53_code (2 : Nat) (Option.some (Jvm.ClassFile.FieldType.object "java/util/ListIterator"))) ∈ lw_all := lw_g (lw_at lw_m9 105 rfl) rfl
theorem q2096 : (Jvm.Cond.methodLink "java/util/ArrayList" (135 : Nat) ({ cls := "java/util/ArrayList", name := "rangeCheckForAdd", desc := "(I)V" } : Jvm.MethodName)) ∈ lw_all := lw_g (lw_at lw_m9 106 rfl) rfl
theorem q2097 : (Jvm.Cond.privateMethod ({ cls := "java/util/ArrayList", name := "rangeCheckForAdd", desc := "(I)V" } : Jvm.MethodName)) ∈ lw_tbl := lw_at lw_m9 107 rfl
theorem q2098 : (Jvm.Cond.instanceMethod ({ cls := "java/util/ArrayList", name := "rangeCheckForAdd", desc := "(I)V" } : Jvm.MethodName)) ∈ lw_all := lw_g (lw_at lw_m9 108 rfl) rfl
theorem q2099 : (Jvm.Cond.code ({ cls := "java/util/ArrayList", name := "rangeCheckForAdd", desc := "(I)V" } : Jvm.MethodName) prog_47_method_45_code (2 : Nat) (Option.none : Option Jvm.ClassFile.FieldType)) ∈ lw_all := lw_g (lw_at lw_m9 109 rfl) rfl
theorem q2100 : (Jvm.Cond.classLink "java/util/ArrayList" (187 : Nat) "java/lang/IndexOutOfBoundsException") ∈ lw_all := lw_g (lw_at lw_m9 110 rfl) rfl
theorem q2101 : (Jvm.Cond.methodLink "java/util/ArrayList" (198 : Nat) ({ cls := "java/util/ArrayList", name := "outOfBoundsMsg", desc := "(I)Ljava/lang/String;" } : Jvm.MethodName)) ∈ lw_all := lw_g (lw_at lw_m9 111 rfl) rfl
theorem q2102 : (Jvm.Cond.privateMethod ({ cls := "java/util/ArrayList", name := "outOfBoundsMsg", desc := "(I)Ljava/lang/String;" } : Jvm.MethodName)) ∈ lw_tbl := lw_at lw_m9 112 rfl
theorem q2103 : (Jvm.Cond.instanceMethod ({ cls := "java/util/ArrayList", name := "outOfBoundsMsg", desc := "(I)Ljava/lang/String;" } : Jvm.MethodName)) ∈ lw_all := lw_g (lw_at lw_m9 113 rfl) rfl
theorem q2104 : (Jvm.Cond.code ({ cls := "java/util/ArrayList", name := "outOfBoundsMsg", desc := "(I)Ljava/lang/String;" } : Jvm.MethodName) prog_47_method_46_code (2 : Nat) (Option.some (Jvm.ClassFile.FieldType.object "java/lang/String"))) ∈ lw_all := lw_g (lw_at lw_m9 114 rfl) rfl
theorem q2105 : (Jvm.Cond.stringRef "java/util/ArrayList" (201 : Nat) "Index: ") ∈ lw_tbl := lw_at lw_m9 115 rfl
theorem q2106 : (Jvm.Cond.stringRef "java/util/ArrayList" (203 : Nat) ", Size: ") ∈ lw_tbl := lw_at lw_m9 116 rfl
theorem q2107 : (Jvm.Cond.methodLink "java/util/ArrayList" (193 : Nat) ({ cls := "java/lang/IndexOutOfBoundsException", name := "<init>", desc := "(Ljava/lang/String;)V" } : Jvm.MethodName)) ∈ lw_all := lw_g (lw_at lw_m9 117 rfl) rfl
theorem q2108 : (Jvm.Cond.classLink "java/util/ArrayList" (262 : Nat) "java/util/ArrayList$ListItr") ∈ lw_all := lw_g (lw_at lw_m9 118 rfl) rfl
theorem q2110 : (Jvm.Cond.methodLink "java/util/ArrayList" (264 : Nat) ({ cls := "java/util/ArrayList$ListItr", name := "<init>", desc := "(Ljava/util/ArrayList;I)V" } : Jvm.MethodName)) ∈ lw_all := lw_g (lw_at lw_m9 120 rfl) rfl
theorem q2168 : (Jvm.Cond.selects "java/util/ArrayList" ({ cls := "java/util/AbstractList", name := "remove", desc := "(I)Ljava/lang/Object;" } : Jvm.MethodName) ({ cls := "java/util/ArrayList", name := "remove", desc := "(I)Ljava/lang/Object;" } : Jvm.MethodName)) ∈ lw_all := lw_g (lw_at lw_m9 178 rfl) rfl
theorem q2169 : (Jvm.Cond.instanceMethod ({ cls := "java/util/ArrayList", name := "remove", desc := "(I)Ljava/lang/Object;" } : Jvm.MethodName)) ∈ lw_all := lw_g (lw_at lw_m9 179 rfl) rfl
theorem q2170 : (Jvm.Cond.code ({ cls := "java/util/ArrayList", name := "remove", desc := "(I)Ljava/lang/Object;" } : Jvm.MethodName) prog_47_method_29_code (4 : Nat) (Option.some (Jvm.ClassFile.FieldType.object "java/lang/Object"))) ∈ lw_all := lw_g (lw_at lw_m9 180 rfl) rfl
theorem q2171 : (Jvm.Cond.methodLink "java/util/ArrayList" (144 : Nat) ({ cls := "java/util/ArrayList", name := "fastRemove", desc := "([Ljava/lang/Object;I)V" } : Jvm.MethodName)) ∈ lw_all := lw_g (lw_at lw_m9 181 rfl) rfl
theorem q2172 : (Jvm.Cond.privateMethod ({ cls := "java/util/ArrayList", name := "fastRemove", desc := "([Ljava/lang/Object;I)V" } : Jvm.MethodName)) ∈ lw_tbl := lw_at lw_m9 182 rfl
theorem q2173 : (Jvm.Cond.instanceMethod ({ cls := "java/util/ArrayList", name := "fastRemove", desc := "([Ljava/lang/Object;I)V" } : Jvm.MethodName)) ∈ lw_all := lw_g (lw_at lw_m9 183 rfl) rfl
theorem q2174 : (Jvm.Cond.code ({ cls := "java/util/ArrayList", name := "fastRemove", desc := "([Ljava/lang/Object;I)V" } : Jvm.MethodName) prog_47_method_39_code (4 : Nat) (Option.none : Option Jvm.ClassFile.FieldType)) ∈ lw_all := lw_g (lw_at lw_m9 184 rfl) rfl
theorem q2175 : (Jvm.Cond.methodLink "java/util/ArrayList" (112 : Nat) ({ cls := "java/lang/System", name := "arraycopy", desc := "(Ljava/lang/Object;ILjava/lang/Object;II)V" } : Jvm.MethodName)) ∈ lw_all := lw_g (lw_at lw_m9 185 rfl) rfl
theorem q3043 : (Jvm.Cond.selects "java/util/ArrayList" ({ cls := "java/util/ArrayList", name := "remove", desc := "(I)Ljava/lang/Object;" } : Jvm.MethodName) ({ cls := "java/util/ArrayList", name := "remove", desc := "(I)Ljava/lang/Object;" } : Jvm.MethodName)) ∈ lw_all := lw_g (lw_at lw_m13 93 rfl) rfl
theorem q3052 : (Jvm.Cond.castable "java/util/ArrayList" "java/lang/Object") ∈ lw_tbl := lw_at lw_m13 102 rfl
theorem in_J2 : ∀ w ∈ wsJ20, w ∈ lw_all := lw_in wsJ20 [485, 481, 483] (by decide +kernel) (by decide +kernel)
/-! java/lang/Throwable -/
set_option maxRecDepth 100000
def RJ3 : String := "java/lang/Throwable"
def TJ3 : u_T := fun k => match k with
  | 0 => ("java/lang/Throwable", "cause", "Ljava/lang/Throwable;", false)
  | 1 => ("java/lang/Throwable", "stackTrace", "[Ljava/lang/StackTraceElement;", false)
  | 2 => ("java/lang/Throwable", "suppressedExceptions", "Ljava/util/List;", false)
  | 3 => ("java/lang/Throwable", "detailMessage", "Ljava/lang/String;", false)
  | _ => ("java/lang/Throwable", "backtrace", "Ljava/lang/Object;", false)
def tyJ3 : Nat → FieldType := fun k => match k with
  | 0 => .object "java/lang/Throwable"
  | 1 => .array (.object "java/lang/StackTraceElement")
  | 2 => .object "java/util/List"
  | 3 => .object "java/lang/String"
  | _ => .object "java/lang/Object"
abbrev wsJ30 : List Cond := u_ws RJ3 TJ3 5
theorem nmJ3 : ∀ a, a < 5 → ∀ b, b < 5 → a ≠ b → (TJ3 a).2.1 ≠ (TJ3 b).2.1 := by decide +kernel
theorem tyJ3_ok : ∀ k, k < 5 → parseFieldDescriptor (TJ3 k).2.2.1 = some (tyJ3 k) := by decide +kernel
abbrev cJ3_init : ByteArray := prog_38_method_1_code
def yJ3_init : MethodName := ⟨RJ3, "<init>", "()V"⟩
def dkwJ3_init_1 : List UInt8 := [182, 0, 27, 87, 177]
abbrev dktJ3_init_1 : List UInt8 := dkwJ3_init_1 ++ []
def dkwJ3_init_0 : List UInt8 := [42, 183, 0, 1, 42, 42, 181, 0, 7, 42, 178, 0, 13, 181, 0, 17, 42, 178, 0, 20, 181, 0, 24, 42]
abbrev dktJ3_init_0 : List UInt8 := dkwJ3_init_0 ++ dktJ3_init_1
theorem dksJ3_init_0 : cJ3_init.data.toList.drop 0 = dktJ3_init_0 := by decide +kernel
theorem dksJ3_init_1 : cJ3_init.data.toList.drop 24 = dktJ3_init_1 := dk_seg dksJ3_init_0 24 rfl rfl
theorem dJ3_init_0 : decode cJ3_init 0 = .ok (.aload_n 0, 1) := dk_42 (dk_at dksJ3_init_0 0 rfl rfl)
theorem dJ3_init_1 : decode cJ3_init 1 = .ok (.invokespecial 1, 3) := dk_183 0 1 (dk_at dksJ3_init_0 1 rfl rfl)
theorem dJ3_init_4 : decode cJ3_init 4 = .ok (.aload_n 0, 1) := dk_42 (dk_at dksJ3_init_0 4 rfl rfl)
theorem dJ3_init_5 : decode cJ3_init 5 = .ok (.aload_n 0, 1) := dk_42 (dk_at dksJ3_init_0 5 rfl rfl)
theorem dJ3_init_6 : decode cJ3_init 6 = .ok (.putfield 7, 3) := dk_181 0 7 (dk_at dksJ3_init_0 6 rfl rfl)
theorem dJ3_init_9 : decode cJ3_init 9 = .ok (.aload_n 0, 1) := dk_42 (dk_at dksJ3_init_0 9 rfl rfl)
theorem dJ3_init_10 : decode cJ3_init 10 = .ok (.getstatic 13, 3) := dk_178 0 13 (dk_at dksJ3_init_0 10 rfl rfl)
theorem dJ3_init_13 : decode cJ3_init 13 = .ok (.putfield 17, 3) := dk_181 0 17 (dk_at dksJ3_init_0 13 rfl rfl)
theorem dJ3_init_16 : decode cJ3_init 16 = .ok (.aload_n 0, 1) := dk_42 (dk_at dksJ3_init_0 16 rfl rfl)
theorem dJ3_init_17 : decode cJ3_init 17 = .ok (.getstatic 20, 3) := dk_178 0 20 (dk_at dksJ3_init_0 17 rfl rfl)
theorem dJ3_init_20 : decode cJ3_init 20 = .ok (.putfield 24, 3) := dk_181 0 24 (dk_at dksJ3_init_0 20 rfl rfl)
theorem dJ3_init_23 : decode cJ3_init 23 = .ok (.aload_n 0, 1) := dk_42 (dk_at dksJ3_init_0 23 rfl rfl)
theorem dJ3_init_24 : decode cJ3_init 24 = .ok (.invokevirtual 27, 3) := dk_182 0 27 (dk_at dksJ3_init_1 0 rfl rfl)
theorem dJ3_init_27 : decode cJ3_init 27 = .ok (.pop, 1) := dk_87 (dk_at dksJ3_init_1 3 rfl rfl)
theorem dJ3_init_28 : decode cJ3_init 28 = .ok (.return_, 1) := dk_177 (dk_at dksJ3_init_1 4 rfl rfl)
abbrev cJ3_init_2 : ByteArray := prog_38_method_2_code
def yJ3_init_2 : MethodName := ⟨RJ3, "<init>", "(Ljava/lang/String;)V"⟩
def dkwJ3_init_2_1 : List UInt8 := [182, 0, 27, 87, 42, 43, 181, 0, 31, 177]
abbrev dktJ3_init_2_1 : List UInt8 := dkwJ3_init_2_1 ++ []
def dkwJ3_init_2_0 : List UInt8 := [42, 183, 0, 1, 42, 42, 181, 0, 7, 42, 178, 0, 13, 181, 0, 17, 42, 178, 0, 20, 181, 0, 24, 42]
abbrev dktJ3_init_2_0 : List UInt8 := dkwJ3_init_2_0 ++ dktJ3_init_2_1
theorem dksJ3_init_2_0 : cJ3_init_2.data.toList.drop 0 = dktJ3_init_2_0 := by decide +kernel
theorem dksJ3_init_2_1 : cJ3_init_2.data.toList.drop 24 = dktJ3_init_2_1 := dk_seg dksJ3_init_2_0 24 rfl rfl
theorem dJ3_init_2_0 : decode cJ3_init_2 0 = .ok (.aload_n 0, 1) := dk_42 (dk_at dksJ3_init_2_0 0 rfl rfl)
theorem dJ3_init_2_1 : decode cJ3_init_2 1 = .ok (.invokespecial 1, 3) := dk_183 0 1 (dk_at dksJ3_init_2_0 1 rfl rfl)
theorem dJ3_init_2_4 : decode cJ3_init_2 4 = .ok (.aload_n 0, 1) := dk_42 (dk_at dksJ3_init_2_0 4 rfl rfl)
theorem dJ3_init_2_5 : decode cJ3_init_2 5 = .ok (.aload_n 0, 1) := dk_42 (dk_at dksJ3_init_2_0 5 rfl rfl)
theorem dJ3_init_2_6 : decode cJ3_init_2 6 = .ok (.putfield 7, 3) := dk_181 0 7 (dk_at dksJ3_init_2_0 6 rfl rfl)
theorem dJ3_init_2_9 : decode cJ3_init_2 9 = .ok (.aload_n 0, 1) := dk_42 (dk_at dksJ3_init_2_0 9 rfl rfl)
theorem dJ3_init_2_10 : decode cJ3_init_2 10 = .ok (.getstatic 13, 3) := dk_178 0 13 (dk_at dksJ3_init_2_0 10 rfl rfl)
theorem dJ3_init_2_13 : decode cJ3_init_2 13 = .ok (.putfield 17, 3) := dk_181 0 17 (dk_at dksJ3_init_2_0 13 rfl rfl)
theorem dJ3_init_2_16 : decode cJ3_init_2 16 = .ok (.aload_n 0, 1) := dk_42 (dk_at dksJ3_init_2_0 16 rfl rfl)
theorem dJ3_init_2_17 : decode cJ3_init_2 17 = .ok (.getstatic 20, 3) := dk_178 0 20 (dk_at dksJ3_init_2_0 17 rfl rfl)
theorem dJ3_init_2_20 : decode cJ3_init_2 20 = .ok (.putfield 24, 3) := dk_181 0 24 (dk_at dksJ3_init_2_0 20 rfl rfl)
theorem dJ3_init_2_23 : decode cJ3_init_2 23 = .ok (.aload_n 0, 1) := dk_42 (dk_at dksJ3_init_2_0 23 rfl rfl)
theorem dJ3_init_2_24 : decode cJ3_init_2 24 = .ok (.invokevirtual 27, 3) := dk_182 0 27 (dk_at dksJ3_init_2_1 0 rfl rfl)
theorem dJ3_init_2_27 : decode cJ3_init_2 27 = .ok (.pop, 1) := dk_87 (dk_at dksJ3_init_2_1 3 rfl rfl)
theorem dJ3_init_2_28 : decode cJ3_init_2 28 = .ok (.aload_n 0, 1) := dk_42 (dk_at dksJ3_init_2_1 4 rfl rfl)
theorem dJ3_init_2_29 : decode cJ3_init_2 29 = .ok (.aload_n 1, 1) := dk_43 (dk_at dksJ3_init_2_1 5 rfl rfl)
theorem dJ3_init_2_30 : decode cJ3_init_2 30 = .ok (.putfield 31, 3) := dk_181 0 31 (dk_at dksJ3_init_2_1 6 rfl rfl)
theorem dJ3_init_2_33 : decode cJ3_init_2 33 = .ok (.return_, 1) := dk_177 (dk_at dksJ3_init_2_1 9 rfl rfl)
abbrev cJ3_init_3 : ByteArray := prog_38_method_4_code
def yJ3_init_3 : MethodName := ⟨RJ3, "<init>", "(Ljava/lang/Throwable;)V"⟩
def dkwJ3_init_3_2 : List UInt8 := [181, 0, 7, 177]
abbrev dktJ3_init_3_2 : List UInt8 := dkwJ3_init_3_2 ++ []
def dkwJ3_init_3_1 : List UInt8 := [182, 0, 27, 87, 42, 43, 199, 0, 7, 1, 167, 0, 7, 43, 182, 0, 35, 181, 0, 31, 42, 43]
abbrev dktJ3_init_3_1 : List UInt8 := dkwJ3_init_3_1 ++ dktJ3_init_3_2
def dkwJ3_init_3_0 : List UInt8 := [42, 183, 0, 1, 42, 42, 181, 0, 7, 42, 178, 0, 13, 181, 0, 17, 42, 178, 0, 20, 181, 0, 24, 42]
abbrev dktJ3_init_3_0 : List UInt8 := dkwJ3_init_3_0 ++ dktJ3_init_3_1
theorem dksJ3_init_3_0 : cJ3_init_3.data.toList.drop 0 = dktJ3_init_3_0 := by decide +kernel
theorem dksJ3_init_3_1 : cJ3_init_3.data.toList.drop 24 = dktJ3_init_3_1 := dk_seg dksJ3_init_3_0 24 rfl rfl
theorem dksJ3_init_3_2 : cJ3_init_3.data.toList.drop 46 = dktJ3_init_3_2 := dk_seg dksJ3_init_3_1 22 rfl rfl
theorem dJ3_init_3_0 : decode cJ3_init_3 0 = .ok (.aload_n 0, 1) := dk_42 (dk_at dksJ3_init_3_0 0 rfl rfl)
theorem dJ3_init_3_1 : decode cJ3_init_3 1 = .ok (.invokespecial 1, 3) := dk_183 0 1 (dk_at dksJ3_init_3_0 1 rfl rfl)
theorem dJ3_init_3_4 : decode cJ3_init_3 4 = .ok (.aload_n 0, 1) := dk_42 (dk_at dksJ3_init_3_0 4 rfl rfl)
theorem dJ3_init_3_5 : decode cJ3_init_3 5 = .ok (.aload_n 0, 1) := dk_42 (dk_at dksJ3_init_3_0 5 rfl rfl)
theorem dJ3_init_3_6 : decode cJ3_init_3 6 = .ok (.putfield 7, 3) := dk_181 0 7 (dk_at dksJ3_init_3_0 6 rfl rfl)
theorem dJ3_init_3_9 : decode cJ3_init_3 9 = .ok (.aload_n 0, 1) := dk_42 (dk_at dksJ3_init_3_0 9 rfl rfl)
theorem dJ3_init_3_10 : decode cJ3_init_3 10 = .ok (.getstatic 13, 3) := dk_178 0 13 (dk_at dksJ3_init_3_0 10 rfl rfl)
theorem dJ3_init_3_13 : decode cJ3_init_3 13 = .ok (.putfield 17, 3) := dk_181 0 17 (dk_at dksJ3_init_3_0 13 rfl rfl)
theorem dJ3_init_3_16 : decode cJ3_init_3 16 = .ok (.aload_n 0, 1) := dk_42 (dk_at dksJ3_init_3_0 16 rfl rfl)
theorem dJ3_init_3_17 : decode cJ3_init_3 17 = .ok (.getstatic 20, 3) := dk_178 0 20 (dk_at dksJ3_init_3_0 17 rfl rfl)
theorem dJ3_init_3_20 : decode cJ3_init_3 20 = .ok (.putfield 24, 3) := dk_181 0 24 (dk_at dksJ3_init_3_0 20 rfl rfl)
theorem dJ3_init_3_23 : decode cJ3_init_3 23 = .ok (.aload_n 0, 1) := dk_42 (dk_at dksJ3_init_3_0 23 rfl rfl)
theorem dJ3_init_3_24 : decode cJ3_init_3 24 = .ok (.invokevirtual 27, 3) := dk_182 0 27 (dk_at dksJ3_init_3_1 0 rfl rfl)
theorem dJ3_init_3_27 : decode cJ3_init_3 27 = .ok (.pop, 1) := dk_87 (dk_at dksJ3_init_3_1 3 rfl rfl)
theorem dJ3_init_3_28 : decode cJ3_init_3 28 = .ok (.aload_n 0, 1) := dk_42 (dk_at dksJ3_init_3_1 4 rfl rfl)
theorem dJ3_init_3_29 : decode cJ3_init_3 29 = .ok (.aload_n 1, 1) := dk_43 (dk_at dksJ3_init_3_1 5 rfl rfl)
theorem dJ3_init_3_30 : decode cJ3_init_3 30 = .ok (.ifnonnull 7, 3) := dk_199 0 7 (dk_at dksJ3_init_3_1 6 rfl rfl)
theorem dJ3_init_3_33 : decode cJ3_init_3 33 = .ok (.aconst_null, 1) := dk_1 (dk_at dksJ3_init_3_1 9 rfl rfl)
theorem dJ3_init_3_34 : decode cJ3_init_3 34 = .ok (.goto 7, 3) := dk_167 0 7 (dk_at dksJ3_init_3_1 10 rfl rfl)
theorem dJ3_init_3_37 : decode cJ3_init_3 37 = .ok (.aload_n 1, 1) := dk_43 (dk_at dksJ3_init_3_1 13 rfl rfl)
theorem dJ3_init_3_38 : decode cJ3_init_3 38 = .ok (.invokevirtual 35, 3) := dk_182 0 35 (dk_at dksJ3_init_3_1 14 rfl rfl)
theorem dJ3_init_3_41 : decode cJ3_init_3 41 = .ok (.putfield 31, 3) := dk_181 0 31 (dk_at dksJ3_init_3_1 17 rfl rfl)
theorem dJ3_init_3_44 : decode cJ3_init_3 44 = .ok (.aload_n 0, 1) := dk_42 (dk_at dksJ3_init_3_1 20 rfl rfl)
theorem dJ3_init_3_45 : decode cJ3_init_3 45 = .ok (.aload_n 1, 1) := dk_43 (dk_at dksJ3_init_3_1 21 rfl rfl)
theorem dJ3_init_3_46 : decode cJ3_init_3 46 = .ok (.putfield 7, 3) := dk_181 0 7 (dk_at dksJ3_init_3_2 0 rfl rfl)
theorem dJ3_init_3_49 : decode cJ3_init_3 49 = .ok (.return_, 1) := dk_177 (dk_at dksJ3_init_3_2 3 rfl rfl)
abbrev cJ3_toString : ByteArray := prog_38_method_11_code
def yJ3_toString : MethodName := ⟨RJ3, "toString", "()Ljava/lang/String;"⟩
def dkwJ3_toString_1 : List UInt8 := [43, 182, 0, 49, 18, 81, 182, 0, 49, 44, 182, 0, 49, 182, 0, 60, 167, 0, 4, 43, 176]
abbrev dktJ3_toString_1 : List UInt8 := dkwJ3_toString_1 ++ []
def dkwJ3_toString_0 : List UInt8 := [42, 182, 0, 69, 182, 0, 73, 76, 42, 182, 0, 78, 77, 44, 198, 0, 29, 187, 0, 44, 89, 183, 0, 46]
abbrev dktJ3_toString_0 : List UInt8 := dkwJ3_toString_0 ++ dktJ3_toString_1
theorem dksJ3_toString_0 : cJ3_toString.data.toList.drop 0 = dktJ3_toString_0 := by decide +kernel
theorem dksJ3_toString_1 : cJ3_toString.data.toList.drop 24 = dktJ3_toString_1 := dk_seg dksJ3_toString_0 24 rfl rfl
theorem dJ3_toString_0 : decode cJ3_toString 0 = .ok (.aload_n 0, 1) := dk_42 (dk_at dksJ3_toString_0 0 rfl rfl)
theorem dJ3_toString_1 : decode cJ3_toString 1 = .ok (.invokevirtual 69, 3) := dk_182 0 69 (dk_at dksJ3_toString_0 1 rfl rfl)
theorem dJ3_toString_4 : decode cJ3_toString 4 = .ok (.invokevirtual 73, 3) := dk_182 0 73 (dk_at dksJ3_toString_0 4 rfl rfl)
theorem dJ3_toString_7 : decode cJ3_toString 7 = .ok (.astore_n 1, 1) := dk_76 (dk_at dksJ3_toString_0 7 rfl rfl)
theorem dJ3_toString_8 : decode cJ3_toString 8 = .ok (.aload_n 0, 1) := dk_42 (dk_at dksJ3_toString_0 8 rfl rfl)
theorem dJ3_toString_9 : decode cJ3_toString 9 = .ok (.invokevirtual 78, 3) := dk_182 0 78 (dk_at dksJ3_toString_0 9 rfl rfl)
theorem dJ3_toString_12 : decode cJ3_toString 12 = .ok (.astore_n 2, 1) := dk_77 (dk_at dksJ3_toString_0 12 rfl rfl)
theorem dJ3_toString_13 : decode cJ3_toString 13 = .ok (.aload_n 2, 1) := dk_44 (dk_at dksJ3_toString_0 13 rfl rfl)
theorem dJ3_toString_14 : decode cJ3_toString 14 = .ok (.ifnull 29, 3) := dk_198 0 29 (dk_at dksJ3_toString_0 14 rfl rfl)
theorem dJ3_toString_17 : decode cJ3_toString 17 = .ok (.new 44, 3) := dk_187 0 44 (dk_at dksJ3_toString_0 17 rfl rfl)
theorem dJ3_toString_20 : decode cJ3_toString 20 = .ok (.dup, 1) := dk_89 (dk_at dksJ3_toString_0 20 rfl rfl)
theorem dJ3_toString_21 : decode cJ3_toString 21 = .ok (.invokespecial 46, 3) := dk_183 0 46 (dk_at dksJ3_toString_0 21 rfl rfl)
theorem dJ3_toString_24 : decode cJ3_toString 24 = .ok (.aload_n 1, 1) := dk_43 (dk_at dksJ3_toString_1 0 rfl rfl)
theorem dJ3_toString_25 : decode cJ3_toString 25 = .ok (.invokevirtual 49, 3) := dk_182 0 49 (dk_at dksJ3_toString_1 1 rfl rfl)
theorem dJ3_toString_28 : decode cJ3_toString 28 = .ok (.ldc 81, 2) := dk_18 81 (dk_at dksJ3_toString_1 4 rfl rfl)
theorem dJ3_toString_30 : decode cJ3_toString 30 = .ok (.invokevirtual 49, 3) := dk_182 0 49 (dk_at dksJ3_toString_1 6 rfl rfl)
theorem dJ3_toString_33 : decode cJ3_toString 33 = .ok (.aload_n 2, 1) := dk_44 (dk_at dksJ3_toString_1 9 rfl rfl)
theorem dJ3_toString_34 : decode cJ3_toString 34 = .ok (.invokevirtual 49, 3) := dk_182 0 49 (dk_at dksJ3_toString_1 10 rfl rfl)
theorem dJ3_toString_37 : decode cJ3_toString 37 = .ok (.invokevirtual 60, 3) := dk_182 0 60 (dk_at dksJ3_toString_1 13 rfl rfl)
theorem dJ3_toString_40 : decode cJ3_toString 40 = .ok (.goto 4, 3) := dk_167 0 4 (dk_at dksJ3_toString_1 16 rfl rfl)
theorem dJ3_toString_43 : decode cJ3_toString 43 = .ok (.aload_n 1, 1) := dk_43 (dk_at dksJ3_toString_1 19 rfl rfl)
theorem dJ3_toString_44 : decode cJ3_toString 44 = .ok (.areturn, 1) := dk_176 (dk_at dksJ3_toString_1 20 rfl rfl)
abbrev cJ3_getLocalizedMessage : ByteArray := prog_38_method_7_code
def yJ3_getLocalizedMessage : MethodName := ⟨RJ3, "getLocalizedMessage", "()Ljava/lang/String;"⟩
theorem dJ3_getLocalizedMessage_0 : decode cJ3_getLocalizedMessage 0 = .ok (.aload_n 0, 1) := by decide +kernel
theorem dJ3_getLocalizedMessage_1 : decode cJ3_getLocalizedMessage 1 = .ok (.invokevirtual 39, 3) := by decide +kernel
theorem dJ3_getLocalizedMessage_4 : decode cJ3_getLocalizedMessage 4 = .ok (.areturn, 1) := by decide +kernel
abbrev cJ3_getMessage : ByteArray := prog_38_method_6_code
def yJ3_getMessage : MethodName := ⟨RJ3, "getMessage", "()Ljava/lang/String;"⟩
theorem dJ3_getMessage_0 : decode cJ3_getMessage 0 = .ok (.aload_n 0, 1) := by decide +kernel
theorem dJ3_getMessage_1 : decode cJ3_getMessage 1 = .ok (.getfield 31, 3) := by decide +kernel
theorem dJ3_getMessage_4 : decode cJ3_getMessage 4 = .ok (.areturn, 1) := by decide +kernel
theorem q76 : (Jvm.Cond.initialized "java/lang/Throwable") ∈ lw_all := lw_g (lw_at lw_m1 6 rfl) rfl
theorem q161 : (Jvm.Cond.declares ({ cls := "java/lang/Throwable", name := "<init>", desc := "()V" } : Jvm.MethodName)) ∈ lw_tbl := lw_at lw_m1 91 rfl
theorem q162 : (Jvm.Cond.declares ({ cls := "java/lang/Throwable", name := "<init>", desc := "(Ljava/lang/String;)V" } : Jvm.MethodName)) ∈ lw_tbl := lw_at lw_m1 92 rfl
theorem q166 : (Jvm.Cond.lays "java/lang/Throwable" "java/lang/Throwable" "cause" "Ljava/lang/Throwable;") ∈ lw_all := lw_g (lw_at lw_m1 96 rfl) rfl
theorem q168 : (Jvm.Cond.lays "java/lang/Throwable" "java/lang/Throwable" "stackTrace" "[Ljava/lang/StackTraceElement;") ∈ lw_all := lw_g (lw_at lw_m1 98 rfl) rfl
theorem q170 : (Jvm.Cond.lays "java/lang/Throwable" "java/lang/Throwable" "suppressedExceptions" "Ljava/util/List;") ∈ lw_all := lw_g (lw_at lw_m1 100 rfl) rfl
theorem q172 : (Jvm.Cond.lays "java/lang/Throwable" "java/lang/Throwable" "detailMessage" "Ljava/lang/String;") ∈ lw_all := lw_g (lw_at lw_m1 102 rfl) rfl
theorem q174 : (Jvm.Cond.lays "java/lang/Throwable" "java/lang/Throwable" "backtrace" "Ljava/lang/Object;") ∈ lw_all := lw_g (lw_at lw_m1 104 rfl) rfl
theorem q175 : (Jvm.Cond.fieldLink "java/lang/Throwable" (198 : Nat) "java/lang/Throwable" "backtrace" "Ljava/lang/Object;") ∈ lw_all := lw_g (lw_at lw_m1 105 rfl) rfl
theorem q176 : (Jvm.Cond.superclass "java/lang/Throwable" "java/lang/Object") ∈ lw_all := lw_g (lw_at lw_m1 106 rfl) rfl
theorem q177 : (Jvm.Cond.instanceMethod ({ cls := "java/lang/Throwable", name := "<init>", desc := "()V" } : Jvm.MethodName)) ∈ lw_all := lw_g (lw_at lw_m1 107 rfl) rfl
theorem q178 : (Jvm.Cond.code ({ cls := "java/lang/Throwable", name := "<init>", desc := "()V" } : Jvm.MethodName) prog_38_method_1_code (1 : Nat) (Option.none : Option Jvm.ClassFile.FieldType)) ∈ lw_all := lw_g (lw_at lw_m1 108 rfl) rfl
theorem q179 : (Jvm.Cond.methodLink "java/lang/Throwable" (1 : Nat) ({ cls := "java/lang/Object", name := "<init>", desc := "()V" } : Jvm.MethodName)) ∈ lw_all := lw_g (lw_at lw_m1 109 rfl) rfl
theorem q180 : (Jvm.Cond.fieldLink "java/lang/Throwable" (13 : Nat) "java/lang/Throwable" "UNASSIGNED_STACK" "[Ljava/lang/StackTraceElement;") ∈ lw_all := lw_g (lw_at lw_m1 110 rfl) rfl
theorem q181 : (Jvm.Cond.laysStatic "java/lang/Throwable" "UNASSIGNED_STACK" "[Ljava/lang/StackTraceElement;") ∈ lw_tbl := lw_at lw_m1 111 rfl
theorem q182 : (Jvm.Cond.fieldLink "java/lang/Throwable" (20 : Nat) "java/lang/Throwable" "SUPPRESSED_SENTINEL" "Ljava/util/List;") ∈ lw_all := lw_g (lw_at lw_m1 112 rfl) rfl
theorem q183 : (Jvm.Cond.laysStatic "java/lang/Throwable" "SUPPRESSED_SENTINEL" "Ljava/util/List;") ∈ lw_tbl := lw_at lw_m1 113 rfl
theorem q184 : (Jvm.Cond.methodLink "java/lang/Throwable" (27 : Nat) ({ cls := "java/lang/Throwable", name := "fillInStackTrace", desc := "()Ljava/lang/Throwable;" } : Jvm.MethodName)) ∈ lw_all := lw_g (lw_at lw_m1 114 rfl) rfl
theorem q185 : (Jvm.Cond.instanceMethod ({ cls := "java/lang/Throwable", name := "fillInStackTrace", desc := "()Ljava/lang/Throwable;" } : Jvm.MethodName)) ∈ lw_all := lw_g (lw_at lw_m1 115 rfl) rfl
theorem q186 : (Jvm.Cond.sameMethod "java/lang/Throwable" "java/lang/Throwable" "fillInStackTrace" "()Ljava/lang/Throwable;") ∈ lw_all := lw_g (lw_at lw_m1 116 rfl) rfl
theorem q192 : (Jvm.Cond.codeSync ({ cls := "java/lang/Throwable", name := "fillInStackTrace", desc := "()Ljava/lang/Throwable;" } : Jvm.MethodName) prog_38_method_18_code (1 : Nat) (Option.some (Jvm.ClassFile.FieldType.object "java/lang/Throwable"))) ∈ lw_all := lw_g (lw_at lw_m1 122 rfl) rfl
theorem q193 : (Jvm.Cond.methodLink "java/lang/Throwable" (202 : Nat) ({ cls := "java/lang/Throwable", name := "fillInStackTrace", desc := "(I)Ljava/lang/Throwable;" } : Jvm.MethodName)) ∈ lw_all := lw_g (lw_at lw_m1 123 rfl) rfl
theorem q194 : (Jvm.Cond.privateMethod ({ cls := "java/lang/Throwable", name := "fillInStackTrace", desc := "(I)Ljava/lang/Throwable;" } : Jvm.MethodName)) ∈ lw_tbl := lw_at lw_m1 124 rfl
theorem q195 : (Jvm.Cond.instanceMethod ({ cls := "java/lang/Throwable", name := "fillInStackTrace", desc := "(I)Ljava/lang/Throwable;" } : Jvm.MethodName)) ∈ lw_all := lw_g (lw_at lw_m1 125 rfl) rfl
theorem q196 : (Jvm.Cond.instantiable "java/lang/Throwable" (6 : Nat)) ∈ lw_all := lw_g (lw_at lw_m1 126 rfl) rfl
theorem q197 : (Jvm.Cond.native ({ cls := "java/lang/Throwable", name := "fillInStackTrace", desc := "(I)Ljava/lang/Throwable;" } : Jvm.MethodName)) ∈ lw_all := lw_g (lw_at lw_m1 127 rfl) rfl
theorem q429 : (Jvm.Cond.instanceMethod ({ cls := "java/lang/Throwable", name := "<init>", desc := "(Ljava/lang/String;)V" } : Jvm.MethodName)) ∈ lw_all := lw_g (lw_at lw_m2 119 rfl) rfl
theorem q430 : (Jvm.Cond.code ({ cls := "java/lang/Throwable", name := "<init>", desc := "(Ljava/lang/String;)V" } : Jvm.MethodName) prog_38_method_2_code (2 : Nat) (Option.none : Option Jvm.ClassFile.FieldType)) ∈ lw_all := lw_g (lw_at lw_m2 120 rfl) rfl
theorem q431 : (Jvm.Cond.fieldLink "java/lang/Throwable" (198 : Nat) "java/lang/Throwable" "backtrace" "Ljava/lang/Object;") ∈ lw_all := lw_g (lw_at lw_m2 121 rfl) rfl
theorem q432 : (Jvm.Cond.fieldLink "java/lang/Throwable" (31 : Nat) "java/lang/Throwable" "detailMessage" "Ljava/lang/String;") ∈ lw_all := lw_g (lw_at lw_m2 122 rfl) rfl
theorem q433 : (Jvm.Cond.fieldLink "java/lang/Throwable" (7 : Nat) "java/lang/Throwable" "cause" "Ljava/lang/Throwable;") ∈ lw_all := lw_g (lw_at lw_m2 123 rfl) rfl
theorem q434 : (Jvm.Cond.fieldLink "java/lang/Throwable" (17 : Nat) "java/lang/Throwable" "stackTrace" "[Ljava/lang/StackTraceElement;") ∈ lw_all := lw_g (lw_at lw_m2 124 rfl) rfl
theorem q435 : (Jvm.Cond.fieldLink "java/lang/Throwable" (24 : Nat) "java/lang/Throwable" "suppressedExceptions" "Ljava/util/List;") ∈ lw_all := lw_g (lw_at lw_m2 125 rfl) rfl
theorem q436 : (Jvm.Cond.soleField "java/lang/Throwable" "backtrace") ∈ lw_all := lw_g (lw_at lw_m2 126 rfl) rfl
theorem q437 : (Jvm.Cond.soleField "java/lang/Throwable" "detailMessage") ∈ lw_all := lw_g (lw_at lw_m2 127 rfl) rfl
theorem q438 : (Jvm.Cond.soleField "java/lang/Throwable" "cause") ∈ lw_all := lw_g (lw_at lw_m2 128 rfl) rfl
theorem q439 : (Jvm.Cond.soleField "java/lang/Throwable" "stackTrace") ∈ lw_all := lw_g (lw_at lw_m2 129 rfl) rfl
theorem q441 : (Jvm.Cond.soleField "java/lang/Throwable" "depth") ∈ lw_all := lw_g (lw_at lw_m2 131 rfl) rfl
theorem q442 : (Jvm.Cond.soleField "java/lang/Throwable" "suppressedExceptions") ∈ lw_all := lw_g (lw_at lw_m2 132 rfl) rfl
theorem q1526 : (Jvm.Cond.instanceMethod ({ cls := "java/lang/Throwable", name := "<init>", desc := "(Ljava/lang/Throwable;)V" } : Jvm.MethodName)) ∈ lw_all := lw_g (lw_at lw_m7 16 rfl) rfl
theorem q1527 : (Jvm.Cond.code ({ cls := "java/lang/Throwable", name := "<init>", desc := "(Ljava/lang/Throwable;)V" } : Jvm.MethodName) prog_38_method_4_code (2 : Nat) (Option.none : Option Jvm.ClassFile.FieldType)) ∈ lw_all := lw_g (lw_at lw_m7 17 rfl) rfl
theorem q1528 : (Jvm.Cond.methodLink "java/lang/Throwable" (35 : Nat) ({ cls := "java/lang/Throwable", name := "toString", desc := "()Ljava/lang/String;" } : Jvm.MethodName)) ∈ lw_all := lw_g (lw_at lw_m7 18 rfl) rfl
theorem q1529 : (Jvm.Cond.instanceMethod ({ cls := "java/lang/Throwable", name := "toString", desc := "()Ljava/lang/String;" } : Jvm.MethodName)) ∈ lw_all := lw_g (lw_at lw_m7 19 rfl) rfl
theorem q1530 : (Jvm.Cond.sameMethod "java/lang/Throwable" "java/lang/Throwable" "toString" "()Ljava/lang/String;") ∈ lw_all := lw_g (lw_at lw_m7 20 rfl) rfl
theorem q1537 : (Jvm.Cond.code ({ cls := "java/lang/Throwable", name := "toString", desc := "()Ljava/lang/String;" } : Jvm.MethodName) prog_38_method_11_code (3 : Nat) (Option.some (Jvm.ClassFile.FieldType.object "java/lang/String"))) ∈ lw_all := lw_g (lw_at lw_m7 27 rfl) rfl
theorem q1538 : (Jvm.Cond.methodLink "java/lang/Throwable" (69 : Nat) ({ cls := "java/lang/Object", name := "getClass", desc := "()Ljava/lang/Class;" } : Jvm.MethodName)) ∈ lw_all := lw_g (lw_at lw_m7 28 rfl) rfl
theorem q1539 : (Jvm.Cond.methodLink "java/lang/Throwable" (78 : Nat) ({ cls := "java/lang/Throwable", name := "getLocalizedMessage", desc := "()Ljava/lang/String;" } : Jvm.MethodName)) ∈ lw_all := lw_g (lw_at lw_m7 29 rfl) rfl
theorem q1540 : (Jvm.Cond.instanceMethod ({ cls := "java/lang/Throwable", name := "getLocalizedMessage", desc := "()Ljava/lang/String;" } : Jvm.MethodName)) ∈ lw_all := lw_g (lw_at lw_m7 30 rfl) rfl
theorem q1541 : (Jvm.Cond.sameMethod "java/lang/Throwable" "java/lang/Throwable" "getLocalizedMessage" "()Ljava/lang/String;") ∈ lw_all := lw_g (lw_at lw_m7 31 rfl) rfl
theorem q1548 : (Jvm.Cond.code ({ cls := "java/lang/Throwable", name := "getLocalizedMessage", desc := "()Ljava/lang/String;" } : Jvm.MethodName) prog_38_method_7_code (1 : Nat) (Option.some (Jvm.ClassFile.FieldType.object "java/lang/String"))) ∈ lw_all := lw_g (lw_at lw_m7 38 rfl) rfl
theorem q1549 : (Jvm.Cond.methodLink "java/lang/Throwable" (39 : Nat) ({ cls := "java/lang/Throwable", name := "getMessage", desc := "()Ljava/lang/String;" } : Jvm.MethodName)) ∈ lw_all := lw_g (lw_at lw_m7 39 rfl) rfl
theorem q1550 : (Jvm.Cond.instanceMethod ({ cls := "java/lang/Throwable", name := "getMessage", desc := "()Ljava/lang/String;" } : Jvm.MethodName)) ∈ lw_all := lw_g (lw_at lw_m7 40 rfl) rfl
theorem q1551 : (Jvm.Cond.sameMethod "java/lang/Throwable" "java/lang/Throwable" "getMessage" "()Ljava/lang/String;") ∈ lw_all := lw_g (lw_at lw_m7 41 rfl) rfl
theorem q1558 : (Jvm.Cond.code ({ cls := "java/lang/Throwable", name := "getMessage", desc := "()Ljava/lang/String;" } : Jvm.MethodName) prog_38_method_6_code (1 : Nat) (Option.some (Jvm.ClassFile.FieldType.object "java/lang/String"))) ∈ lw_all := lw_g (lw_at lw_m7 48 rfl) rfl
theorem q1559 : (Jvm.Cond.classLink "java/lang/Throwable" (44 : Nat) "java/lang/StringBuilder") ∈ lw_all := lw_g (lw_at lw_m7 49 rfl) rfl
theorem q1560 : (Jvm.Cond.methodLink "java/lang/Throwable" (46 : Nat) ({ cls := "java/lang/StringBuilder", name := "<init>", desc := "()V" } : Jvm.MethodName)) ∈ lw_all := lw_g (lw_at lw_m7 50 rfl) rfl
theorem q1561 : (Jvm.Cond.methodLink "java/lang/Throwable" (49 : Nat) ({ cls := "java/lang/StringBuilder", name := "append", desc := "(Ljava/lang/String;)Ljava/lang/StringBuilder;" } : Jvm.MethodName)) ∈ lw_all := lw_g (lw_at lw_m7 51 rfl) rfl
theorem q1562 : (Jvm.Cond.stringRef "java/lang/Throwable" (81 : Nat) ": ") ∈ lw_tbl := lw_at lw_m7 52 rfl
theorem q1563 : (Jvm.Cond.methodLink "java/lang/Throwable" (60 : Nat) ({ cls := "java/lang/StringBuilder", name := "toString", desc := "()Ljava/lang/String;" } : Jvm.MethodName)) ∈ lw_all := lw_g (lw_at lw_m7 53 rfl) rfl
theorem q3031 : (Jvm.Cond.sameMethod "java/lang/Throwable" "java/lang/Throwable" "fillInStackTrace" "(I)Ljava/lang/Throwable;") ∈ lw_all := lw_g (lw_at lw_m13 81 rfl) rfl
theorem q3079 : (Jvm.Cond.castable "java/lang/Throwable" "java/lang/Object") ∈ lw_tbl := lw_at lw_m13 129 rfl
theorem in_J3 : ∀ w ∈ wsJ30, w ∈ lw_all := lw_in wsJ30 [166, 168, 170, 172, 174] (by decide +kernel) (by decide +kernel)
/-! java/lang/Exception -/
set_option maxRecDepth 100000
def RJ4 : String := "java/lang/Exception"
abbrev cJ4_init : ByteArray := prog_22_method_2_code
def yJ4_init : MethodName := ⟨RJ4, "<init>", "(Ljava/lang/String;)V"⟩
def dkwJ4_init_0 : List UInt8 := [42, 43, 183, 0, 7, 177]
abbrev dktJ4_init_0 : List UInt8 := dkwJ4_init_0 ++ []
theorem dksJ4_init_0 : cJ4_init.data.toList.drop 0 = dktJ4_init_0 := by decide +kernel
theorem dJ4_init_0 : decode cJ4_init 0 = .ok (.aload_n 0, 1) := dk_42 (dk_at dksJ4_init_0 0 rfl rfl)
theorem dJ4_init_1 : decode cJ4_init 1 = .ok (.aload_n 1, 1) := dk_43 (dk_at dksJ4_init_0 1 rfl rfl)
theorem dJ4_init_2 : decode cJ4_init 2 = .ok (.invokespecial 7, 3) := dk_183 0 7 (dk_at dksJ4_init_0 2 rfl rfl)
theorem dJ4_init_5 : decode cJ4_init 5 = .ok (.return_, 1) := dk_177 (dk_at dksJ4_init_0 5 rfl rfl)
abbrev cJ4_init_2 : ByteArray := prog_22_method_1_code
def yJ4_init_2 : MethodName := ⟨RJ4, "<init>", "()V"⟩
theorem dJ4_init_2_0 : decode cJ4_init_2 0 = .ok (.aload_n 0, 1) := by decide +kernel
theorem dJ4_init_2_1 : decode cJ4_init_2 1 = .ok (.invokespecial 1, 3) := by decide +kernel
theorem dJ4_init_2_4 : decode cJ4_init_2 4 = .ok (.return_, 1) := by decide +kernel
abbrev cJ4_init_3 : ByteArray := prog_22_method_4_code
def yJ4_init_3 : MethodName := ⟨RJ4, "<init>", "(Ljava/lang/Throwable;)V"⟩
def dkwJ4_init_3_0 : List UInt8 := [42, 43, 183, 0, 13, 177]
abbrev dktJ4_init_3_0 : List UInt8 := dkwJ4_init_3_0 ++ []
theorem dksJ4_init_3_0 : cJ4_init_3.data.toList.drop 0 = dktJ4_init_3_0 := by decide +kernel
theorem dJ4_init_3_0 : decode cJ4_init_3 0 = .ok (.aload_n 0, 1) := dk_42 (dk_at dksJ4_init_3_0 0 rfl rfl)
theorem dJ4_init_3_1 : decode cJ4_init_3 1 = .ok (.aload_n 1, 1) := dk_43 (dk_at dksJ4_init_3_0 1 rfl rfl)
theorem dJ4_init_3_2 : decode cJ4_init_3 2 = .ok (.invokespecial 13, 3) := dk_183 0 13 (dk_at dksJ4_init_3_0 2 rfl rfl)
theorem dJ4_init_3_5 : decode cJ4_init_3 5 = .ok (.return_, 1) := dk_177 (dk_at dksJ4_init_3_0 5 rfl rfl)
theorem q77 : (Jvm.Cond.initialized "java/lang/Exception") ∈ lw_all := lw_g (lw_at lw_m1 7 rfl) rfl
theorem q159 : (Jvm.Cond.declares ({ cls := "java/lang/Exception", name := "<init>", desc := "()V" } : Jvm.MethodName)) ∈ lw_tbl := lw_at lw_m1 89 rfl
theorem q160 : (Jvm.Cond.declares ({ cls := "java/lang/Exception", name := "<init>", desc := "(Ljava/lang/String;)V" } : Jvm.MethodName)) ∈ lw_tbl := lw_at lw_m1 90 rfl
theorem q426 : (Jvm.Cond.instanceMethod ({ cls := "java/lang/Exception", name := "<init>", desc := "(Ljava/lang/String;)V" } : Jvm.MethodName)) ∈ lw_all := lw_g (lw_at lw_m2 116 rfl) rfl
theorem q427 : (Jvm.Cond.code ({ cls := "java/lang/Exception", name := "<init>", desc := "(Ljava/lang/String;)V" } : Jvm.MethodName) prog_22_method_2_code (2 : Nat) (Option.none : Option Jvm.ClassFile.FieldType)) ∈ lw_all := lw_g (lw_at lw_m2 117 rfl) rfl
theorem q428 : (Jvm.Cond.methodLink "java/lang/Exception" (7 : Nat) ({ cls := "java/lang/Throwable", name := "<init>", desc := "(Ljava/lang/String;)V" } : Jvm.MethodName)) ∈ lw_all := lw_g (lw_at lw_m2 118 rfl) rfl
theorem q818 : (Jvm.Cond.instanceMethod ({ cls := "java/lang/Exception", name := "<init>", desc := "()V" } : Jvm.MethodName)) ∈ lw_all := lw_g (lw_at lw_m4 28 rfl) rfl
theorem q819 : (Jvm.Cond.code ({ cls := "java/lang/Exception", name := "<init>", desc := "()V" } : Jvm.MethodName) prog_22_method_1_code (1 : Nat) (Option.none : Option Jvm.ClassFile.FieldType)) ∈ lw_all := lw_g (lw_at lw_m4 29 rfl) rfl
theorem q820 : (Jvm.Cond.methodLink "java/lang/Exception" (1 : Nat) ({ cls := "java/lang/Throwable", name := "<init>", desc := "()V" } : Jvm.MethodName)) ∈ lw_all := lw_g (lw_at lw_m4 30 rfl) rfl
theorem q1523 : (Jvm.Cond.instanceMethod ({ cls := "java/lang/Exception", name := "<init>", desc := "(Ljava/lang/Throwable;)V" } : Jvm.MethodName)) ∈ lw_all := lw_g (lw_at lw_m7 13 rfl) rfl
theorem q1524 : (Jvm.Cond.code ({ cls := "java/lang/Exception", name := "<init>", desc := "(Ljava/lang/Throwable;)V" } : Jvm.MethodName) prog_22_method_4_code (2 : Nat) (Option.none : Option Jvm.ClassFile.FieldType)) ∈ lw_all := lw_g (lw_at lw_m7 14 rfl) rfl
theorem q1525 : (Jvm.Cond.methodLink "java/lang/Exception" (13 : Nat) ({ cls := "java/lang/Throwable", name := "<init>", desc := "(Ljava/lang/Throwable;)V" } : Jvm.MethodName)) ∈ lw_all := lw_g (lw_at lw_m7 15 rfl) rfl
/-! java/lang/RuntimeException -/
set_option maxRecDepth 100000
def RJ5 : String := "java/lang/RuntimeException"
abbrev cJ5_init : ByteArray := prog_32_method_2_code
def yJ5_init : MethodName := ⟨RJ5, "<init>", "(Ljava/lang/String;)V"⟩
def dkwJ5_init_0 : List UInt8 := [42, 43, 183, 0, 7, 177]
abbrev dktJ5_init_0 : List UInt8 := dkwJ5_init_0 ++ []
theorem dksJ5_init_0 : cJ5_init.data.toList.drop 0 = dktJ5_init_0 := by decide +kernel
theorem dJ5_init_0 : decode cJ5_init 0 = .ok (.aload_n 0, 1) := dk_42 (dk_at dksJ5_init_0 0 rfl rfl)
theorem dJ5_init_1 : decode cJ5_init 1 = .ok (.aload_n 1, 1) := dk_43 (dk_at dksJ5_init_0 1 rfl rfl)
theorem dJ5_init_2 : decode cJ5_init 2 = .ok (.invokespecial 7, 3) := dk_183 0 7 (dk_at dksJ5_init_0 2 rfl rfl)
theorem dJ5_init_5 : decode cJ5_init 5 = .ok (.return_, 1) := dk_177 (dk_at dksJ5_init_0 5 rfl rfl)
abbrev cJ5_init_2 : ByteArray := prog_32_method_1_code
def yJ5_init_2 : MethodName := ⟨RJ5, "<init>", "()V"⟩
theorem dJ5_init_2_0 : decode cJ5_init_2 0 = .ok (.aload_n 0, 1) := by decide +kernel
theorem dJ5_init_2_1 : decode cJ5_init_2 1 = .ok (.invokespecial 1, 3) := by decide +kernel
theorem dJ5_init_2_4 : decode cJ5_init_2 4 = .ok (.return_, 1) := by decide +kernel
abbrev cJ5_init_3 : ByteArray := prog_32_method_4_code
def yJ5_init_3 : MethodName := ⟨RJ5, "<init>", "(Ljava/lang/Throwable;)V"⟩
def dkwJ5_init_3_0 : List UInt8 := [42, 43, 183, 0, 13, 177]
abbrev dktJ5_init_3_0 : List UInt8 := dkwJ5_init_3_0 ++ []
theorem dksJ5_init_3_0 : cJ5_init_3.data.toList.drop 0 = dktJ5_init_3_0 := by decide +kernel
theorem dJ5_init_3_0 : decode cJ5_init_3 0 = .ok (.aload_n 0, 1) := dk_42 (dk_at dksJ5_init_3_0 0 rfl rfl)
theorem dJ5_init_3_1 : decode cJ5_init_3 1 = .ok (.aload_n 1, 1) := dk_43 (dk_at dksJ5_init_3_0 1 rfl rfl)
theorem dJ5_init_3_2 : decode cJ5_init_3 2 = .ok (.invokespecial 13, 3) := dk_183 0 13 (dk_at dksJ5_init_3_0 2 rfl rfl)
theorem dJ5_init_3_5 : decode cJ5_init_3 5 = .ok (.return_, 1) := dk_177 (dk_at dksJ5_init_3_0 5 rfl rfl)
theorem q78 : (Jvm.Cond.initialized "java/lang/RuntimeException") ∈ lw_all := lw_g (lw_at lw_m1 8 rfl) rfl
theorem q157 : (Jvm.Cond.declares ({ cls := "java/lang/RuntimeException", name := "<init>", desc := "()V" } : Jvm.MethodName)) ∈ lw_tbl := lw_at lw_m1 87 rfl
theorem q158 : (Jvm.Cond.declares ({ cls := "java/lang/RuntimeException", name := "<init>", desc := "(Ljava/lang/String;)V" } : Jvm.MethodName)) ∈ lw_tbl := lw_at lw_m1 88 rfl
theorem q423 : (Jvm.Cond.instanceMethod ({ cls := "java/lang/RuntimeException", name := "<init>", desc := "(Ljava/lang/String;)V" } : Jvm.MethodName)) ∈ lw_all := lw_g (lw_at lw_m2 113 rfl) rfl
theorem q424 : (Jvm.Cond.code ({ cls := "java/lang/RuntimeException", name := "<init>", desc := "(Ljava/lang/String;)V" } : Jvm.MethodName) prog_32_method_2_code (2 : Nat) (Option.none : Option Jvm.ClassFile.FieldType)) ∈ lw_all := lw_g (lw_at lw_m2 114 rfl) rfl
theorem q425 : (Jvm.Cond.methodLink "java/lang/RuntimeException" (7 : Nat) ({ cls := "java/lang/Exception", name := "<init>", desc := "(Ljava/lang/String;)V" } : Jvm.MethodName)) ∈ lw_all := lw_g (lw_at lw_m2 115 rfl) rfl
theorem q815 : (Jvm.Cond.instanceMethod ({ cls := "java/lang/RuntimeException", name := "<init>", desc := "()V" } : Jvm.MethodName)) ∈ lw_all := lw_g (lw_at lw_m4 25 rfl) rfl
theorem q816 : (Jvm.Cond.code ({ cls := "java/lang/RuntimeException", name := "<init>", desc := "()V" } : Jvm.MethodName) prog_32_method_1_code (1 : Nat) (Option.none : Option Jvm.ClassFile.FieldType)) ∈ lw_all := lw_g (lw_at lw_m4 26 rfl) rfl
theorem q817 : (Jvm.Cond.methodLink "java/lang/RuntimeException" (1 : Nat) ({ cls := "java/lang/Exception", name := "<init>", desc := "()V" } : Jvm.MethodName)) ∈ lw_all := lw_g (lw_at lw_m4 27 rfl) rfl
theorem q1520 : (Jvm.Cond.instanceMethod ({ cls := "java/lang/RuntimeException", name := "<init>", desc := "(Ljava/lang/Throwable;)V" } : Jvm.MethodName)) ∈ lw_all := lw_g (lw_at lw_m7 10 rfl) rfl
theorem q1521 : (Jvm.Cond.code ({ cls := "java/lang/RuntimeException", name := "<init>", desc := "(Ljava/lang/Throwable;)V" } : Jvm.MethodName) prog_32_method_4_code (2 : Nat) (Option.none : Option Jvm.ClassFile.FieldType)) ∈ lw_all := lw_g (lw_at lw_m7 11 rfl) rfl
theorem q1522 : (Jvm.Cond.methodLink "java/lang/RuntimeException" (13 : Nat) ({ cls := "java/lang/Exception", name := "<init>", desc := "(Ljava/lang/Throwable;)V" } : Jvm.MethodName)) ∈ lw_all := lw_g (lw_at lw_m7 12 rfl) rfl
/-! java/lang/IllegalArgumentException -/
set_option maxRecDepth 100000
def RJ6 : String := "java/lang/IllegalArgumentException"
def TJ6 : u_T := fun k => match k with
  | 0 => ("java/lang/Throwable", "cause", "Ljava/lang/Throwable;", false)
  | 1 => ("java/lang/Throwable", "stackTrace", "[Ljava/lang/StackTraceElement;", false)
  | 2 => ("java/lang/Throwable", "suppressedExceptions", "Ljava/util/List;", false)
  | 3 => ("java/lang/Throwable", "detailMessage", "Ljava/lang/String;", false)
  | 4 => ("java/lang/Throwable", "backtrace", "Ljava/lang/Object;", false)
  | _ => ("java/lang/Throwable", "depth", "I", false)
def tyJ6 : Nat → FieldType := fun k => match k with
  | 0 => .object "java/lang/Throwable"
  | 1 => .array (.object "java/lang/StackTraceElement")
  | 2 => .object "java/util/List"
  | 3 => .object "java/lang/String"
  | 4 => .object "java/lang/Object"
  | _ => .int
abbrev wsJ60 : List Cond := u_ws RJ6 TJ6 6
theorem nmJ6 : ∀ a, a < 6 → ∀ b, b < 6 → a ≠ b → (TJ6 a).2.1 ≠ (TJ6 b).2.1 := by decide +kernel
theorem tyJ6_ok : ∀ k, k < 6 → parseFieldDescriptor (TJ6 k).2.2.1 = some (tyJ6 k) := by decide +kernel
abbrev cJ6_init : ByteArray := prog_23_method_2_code
def yJ6_init : MethodName := ⟨RJ6, "<init>", "(Ljava/lang/String;)V"⟩
def dkwJ6_init_0 : List UInt8 := [42, 43, 183, 0, 7, 177]
abbrev dktJ6_init_0 : List UInt8 := dkwJ6_init_0 ++ []
theorem dksJ6_init_0 : cJ6_init.data.toList.drop 0 = dktJ6_init_0 := by decide +kernel
theorem dJ6_init_0 : decode cJ6_init 0 = .ok (.aload_n 0, 1) := dk_42 (dk_at dksJ6_init_0 0 rfl rfl)
theorem dJ6_init_1 : decode cJ6_init 1 = .ok (.aload_n 1, 1) := dk_43 (dk_at dksJ6_init_0 1 rfl rfl)
theorem dJ6_init_2 : decode cJ6_init 2 = .ok (.invokespecial 7, 3) := dk_183 0 7 (dk_at dksJ6_init_0 2 rfl rfl)
theorem dJ6_init_5 : decode cJ6_init 5 = .ok (.return_, 1) := dk_177 (dk_at dksJ6_init_0 5 rfl rfl)
abbrev cJ6_init_2 : ByteArray := prog_23_method_1_code
def yJ6_init_2 : MethodName := ⟨RJ6, "<init>", "()V"⟩
theorem dJ6_init_2_0 : decode cJ6_init_2 0 = .ok (.aload_n 0, 1) := by decide +kernel
theorem dJ6_init_2_1 : decode cJ6_init_2 1 = .ok (.invokespecial 1, 3) := by decide +kernel
theorem dJ6_init_2_4 : decode cJ6_init_2 4 = .ok (.return_, 1) := by decide +kernel
theorem q79 : (Jvm.Cond.initialized "java/lang/IllegalArgumentException") ∈ lw_all := lw_g (lw_at lw_m1 9 rfl) rfl
theorem q155 : (Jvm.Cond.instantiable "java/lang/IllegalArgumentException" (6 : Nat)) ∈ lw_all := lw_g (lw_at lw_m1 85 rfl) rfl
theorem q156 : (Jvm.Cond.castable "java/lang/IllegalArgumentException" "java/lang/IllegalArgumentException") ∈ lw_tbl := lw_at lw_m1 86 rfl
theorem q163 : (Jvm.Cond.selects "java/lang/IllegalArgumentException" ({ cls := "java/lang/Throwable", name := "fillInStackTrace", desc := "(I)Ljava/lang/Throwable;" } : Jvm.MethodName) ({ cls := "java/lang/Throwable", name := "fillInStackTrace", desc := "(I)Ljava/lang/Throwable;" } : Jvm.MethodName)) ∈ lw_all := lw_g (lw_at lw_m1 93 rfl) rfl
theorem q164 : (Jvm.Cond.selects "java/lang/IllegalArgumentException" ({ cls := "java/lang/Throwable", name := "fillInStackTrace", desc := "()Ljava/lang/Throwable;" } : Jvm.MethodName) ({ cls := "java/lang/Throwable", name := "fillInStackTrace", desc := "()Ljava/lang/Throwable;" } : Jvm.MethodName)) ∈ lw_all := lw_g (lw_at lw_m1 94 rfl) rfl
theorem q165 : (Jvm.Cond.lays "java/lang/IllegalArgumentException" "java/lang/Throwable" "cause" "Ljava/lang/Throwable;") ∈ lw_all := lw_g (lw_at lw_m1 95 rfl) rfl
theorem q167 : (Jvm.Cond.lays "java/lang/IllegalArgumentException" "java/lang/Throwable" "stackTrace" "[Ljava/lang/StackTraceElement;") ∈ lw_all := lw_g (lw_at lw_m1 97 rfl) rfl
theorem q169 : (Jvm.Cond.lays "java/lang/IllegalArgumentException" "java/lang/Throwable" "suppressedExceptions" "Ljava/util/List;") ∈ lw_all := lw_g (lw_at lw_m1 99 rfl) rfl
theorem q171 : (Jvm.Cond.lays "java/lang/IllegalArgumentException" "java/lang/Throwable" "detailMessage" "Ljava/lang/String;") ∈ lw_all := lw_g (lw_at lw_m1 101 rfl) rfl
theorem q173 : (Jvm.Cond.lays "java/lang/IllegalArgumentException" "java/lang/Throwable" "backtrace" "Ljava/lang/Object;") ∈ lw_all := lw_g (lw_at lw_m1 103 rfl) rfl
theorem q420 : (Jvm.Cond.instanceMethod ({ cls := "java/lang/IllegalArgumentException", name := "<init>", desc := "(Ljava/lang/String;)V" } : Jvm.MethodName)) ∈ lw_all := lw_g (lw_at lw_m2 110 rfl) rfl
theorem q421 : (Jvm.Cond.code ({ cls := "java/lang/IllegalArgumentException", name := "<init>", desc := "(Ljava/lang/String;)V" } : Jvm.MethodName) prog_23_method_2_code (2 : Nat) (Option.none : Option Jvm.ClassFile.FieldType)) ∈ lw_all := lw_g (lw_at lw_m2 111 rfl) rfl
theorem q422 : (Jvm.Cond.methodLink "java/lang/IllegalArgumentException" (7 : Nat) ({ cls := "java/lang/RuntimeException", name := "<init>", desc := "(Ljava/lang/String;)V" } : Jvm.MethodName)) ∈ lw_all := lw_g (lw_at lw_m2 112 rfl) rfl
theorem q440 : (Jvm.Cond.lays "java/lang/IllegalArgumentException" "java/lang/Throwable" "depth" "I") ∈ lw_all := lw_g (lw_at lw_m2 130 rfl) rfl
theorem q443 : (Jvm.Cond.superclass "java/lang/IllegalArgumentException" "java/lang/RuntimeException") ∈ lw_all := lw_g (lw_at lw_m2 133 rfl) rfl
theorem q812 : (Jvm.Cond.instanceMethod ({ cls := "java/lang/IllegalArgumentException", name := "<init>", desc := "()V" } : Jvm.MethodName)) ∈ lw_all := lw_g (lw_at lw_m4 22 rfl) rfl
theorem q813 : (Jvm.Cond.code ({ cls := "java/lang/IllegalArgumentException", name := "<init>", desc := "()V" } : Jvm.MethodName) prog_23_method_1_code (1 : Nat) (Option.none : Option Jvm.ClassFile.FieldType)) ∈ lw_all := lw_g (lw_at lw_m4 23 rfl) rfl
theorem q814 : (Jvm.Cond.methodLink "java/lang/IllegalArgumentException" (1 : Nat) ({ cls := "java/lang/RuntimeException", name := "<init>", desc := "()V" } : Jvm.MethodName)) ∈ lw_all := lw_g (lw_at lw_m4 24 rfl) rfl
theorem q911 : (Jvm.Cond.selects "java/lang/IllegalArgumentException" ({ cls := "java/lang/Object", name := "getClass", desc := "()Ljava/lang/Class;" } : Jvm.MethodName) ({ cls := "java/lang/Object", name := "getClass", desc := "()Ljava/lang/Class;" } : Jvm.MethodName)) ∈ lw_all := lw_g (lw_at lw_m4 121 rfl) rfl
theorem q1532 : (Jvm.Cond.selects "java/lang/IllegalArgumentException" ({ cls := "java/lang/Throwable", name := "toString", desc := "()Ljava/lang/String;" } : Jvm.MethodName) ({ cls := "java/lang/Throwable", name := "toString", desc := "()Ljava/lang/String;" } : Jvm.MethodName)) ∈ lw_all := lw_g (lw_at lw_m7 22 rfl) rfl
theorem q1543 : (Jvm.Cond.selects "java/lang/IllegalArgumentException" ({ cls := "java/lang/Throwable", name := "getLocalizedMessage", desc := "()Ljava/lang/String;" } : Jvm.MethodName) ({ cls := "java/lang/Throwable", name := "getLocalizedMessage", desc := "()Ljava/lang/String;" } : Jvm.MethodName)) ∈ lw_all := lw_g (lw_at lw_m7 33 rfl) rfl
theorem q1553 : (Jvm.Cond.selects "java/lang/IllegalArgumentException" ({ cls := "java/lang/Throwable", name := "getMessage", desc := "()Ljava/lang/String;" } : Jvm.MethodName) ({ cls := "java/lang/Throwable", name := "getMessage", desc := "()Ljava/lang/String;" } : Jvm.MethodName)) ∈ lw_all := lw_g (lw_at lw_m7 43 rfl) rfl
theorem q3053 : (Jvm.Cond.castable "java/lang/IllegalArgumentException" "java/lang/Object") ∈ lw_tbl := lw_at lw_m13 103 rfl
theorem in_J6 : ∀ w ∈ wsJ60, w ∈ lw_all := lw_in wsJ60 [165, 167, 169, 171, 173, 440] (by decide +kernel) (by decide +kernel)
/-! jdk/internal/util/ArraysSupport -/
set_option maxRecDepth 100000
def RJ11 : String := "jdk/internal/util/ArraysSupport"
abbrev cJ11_newLength : ByteArray := prog_67_method_27_code
def yJ11_newLength : MethodName := ⟨RJ11, "newLength", "(III)I"⟩
def dkwJ11_newLength_1 : List UInt8 := [184, 0, 201, 172]
abbrev dktJ11_newLength_1 : List UInt8 := dkwJ11_newLength_1 ++ []
def dkwJ11_newLength_0 : List UInt8 := [26, 27, 28, 184, 0, 194, 96, 62, 3, 29, 162, 0, 11, 29, 18, 200, 163, 0, 5, 29, 172, 26, 27]
abbrev dktJ11_newLength_0 : List UInt8 := dkwJ11_newLength_0 ++ dktJ11_newLength_1
theorem dksJ11_newLength_0 : cJ11_newLength.data.toList.drop 0 = dktJ11_newLength_0 := by decide +kernel
theorem dksJ11_newLength_1 : cJ11_newLength.data.toList.drop 23 = dktJ11_newLength_1 := dk_seg dksJ11_newLength_0 23 rfl rfl
theorem dJ11_newLength_0 : decode cJ11_newLength 0 = .ok (.iload_n 0, 1) := dk_26 (dk_at dksJ11_newLength_0 0 rfl rfl)
theorem dJ11_newLength_1 : decode cJ11_newLength 1 = .ok (.iload_n 1, 1) := dk_27 (dk_at dksJ11_newLength_0 1 rfl rfl)
theorem dJ11_newLength_2 : decode cJ11_newLength 2 = .ok (.iload_n 2, 1) := dk_28 (dk_at dksJ11_newLength_0 2 rfl rfl)
theorem dJ11_newLength_3 : decode cJ11_newLength 3 = .ok (.invokestatic 194, 3) := dk_184 0 194 (dk_at dksJ11_newLength_0 3 rfl rfl)
theorem dJ11_newLength_6 : decode cJ11_newLength 6 = .ok (.iadd, 1) := dk_96 (dk_at dksJ11_newLength_0 6 rfl rfl)
theorem dJ11_newLength_7 : decode cJ11_newLength 7 = .ok (.istore_n 3, 1) := dk_62 (dk_at dksJ11_newLength_0 7 rfl rfl)
theorem dJ11_newLength_8 : decode cJ11_newLength 8 = .ok (.iconst 0, 1) := dk_3 (dk_at dksJ11_newLength_0 8 rfl rfl)
theorem dJ11_newLength_9 : decode cJ11_newLength 9 = .ok (.iload_n 3, 1) := dk_29 (dk_at dksJ11_newLength_0 9 rfl rfl)
theorem dJ11_newLength_10 : decode cJ11_newLength 10 = .ok (.if_icmp .ge 11, 3) := dk_162 0 11 (dk_at dksJ11_newLength_0 10 rfl rfl)
theorem dJ11_newLength_13 : decode cJ11_newLength 13 = .ok (.iload_n 3, 1) := dk_29 (dk_at dksJ11_newLength_0 13 rfl rfl)
theorem dJ11_newLength_14 : decode cJ11_newLength 14 = .ok (.ldc 200, 2) := dk_18 200 (dk_at dksJ11_newLength_0 14 rfl rfl)
theorem dJ11_newLength_16 : decode cJ11_newLength 16 = .ok (.if_icmp .gt 5, 3) := dk_163 0 5 (dk_at dksJ11_newLength_0 16 rfl rfl)
theorem dJ11_newLength_19 : decode cJ11_newLength 19 = .ok (.iload_n 3, 1) := dk_29 (dk_at dksJ11_newLength_0 19 rfl rfl)
theorem dJ11_newLength_20 : decode cJ11_newLength 20 = .ok (.ireturn, 1) := dk_172 (dk_at dksJ11_newLength_0 20 rfl rfl)
theorem dJ11_newLength_21 : decode cJ11_newLength 21 = .ok (.iload_n 0, 1) := dk_26 (dk_at dksJ11_newLength_0 21 rfl rfl)
theorem dJ11_newLength_22 : decode cJ11_newLength 22 = .ok (.iload_n 1, 1) := dk_27 (dk_at dksJ11_newLength_0 22 rfl rfl)
theorem dJ11_newLength_23 : decode cJ11_newLength 23 = .ok (.invokestatic 201, 3) := dk_184 0 201 (dk_at dksJ11_newLength_1 0 rfl rfl)
theorem dJ11_newLength_26 : decode cJ11_newLength 26 = .ok (.ireturn, 1) := dk_172 (dk_at dksJ11_newLength_1 3 rfl rfl)
abbrev cJ11_hugeLength : ByteArray := prog_67_method_28_code
def yJ11_hugeLength : MethodName := ⟨RJ11, "hugeLength", "(II)I"⟩
def dkwJ11_hugeLength_2 : List UInt8 := [191, 28, 18, 200, 163, 0, 6, 18, 200, 172, 28, 172]
abbrev dktJ11_hugeLength_2 : List UInt8 := dkwJ11_hugeLength_2 ++ []
def dkwJ11_hugeLength_1 : List UInt8 := [26, 182, 0, 98, 18, 208, 182, 0, 94, 27, 182, 0, 98, 18, 210, 182, 0, 94, 182, 0, 101, 183, 0, 212]
abbrev dktJ11_hugeLength_1 : List UInt8 := dkwJ11_hugeLength_1 ++ dktJ11_hugeLength_2
def dkwJ11_hugeLength_0 : List UInt8 := [26, 27, 96, 61, 28, 156, 0, 44, 187, 0, 204, 89, 187, 0, 89, 89, 183, 0, 91, 18, 206, 182, 0, 94]
abbrev dktJ11_hugeLength_0 : List UInt8 := dkwJ11_hugeLength_0 ++ dktJ11_hugeLength_1
theorem dksJ11_hugeLength_0 : cJ11_hugeLength.data.toList.drop 0 = dktJ11_hugeLength_0 := by decide +kernel
theorem dksJ11_hugeLength_1 : cJ11_hugeLength.data.toList.drop 24 = dktJ11_hugeLength_1 := dk_seg dksJ11_hugeLength_0 24 rfl rfl
theorem dksJ11_hugeLength_2 : cJ11_hugeLength.data.toList.drop 48 = dktJ11_hugeLength_2 := dk_seg dksJ11_hugeLength_1 24 rfl rfl
theorem dJ11_hugeLength_0 : decode cJ11_hugeLength 0 = .ok (.iload_n 0, 1) := dk_26 (dk_at dksJ11_hugeLength_0 0 rfl rfl)
theorem dJ11_hugeLength_1 : decode cJ11_hugeLength 1 = .ok (.iload_n 1, 1) := dk_27 (dk_at dksJ11_hugeLength_0 1 rfl rfl)
theorem dJ11_hugeLength_2 : decode cJ11_hugeLength 2 = .ok (.iadd, 1) := dk_96 (dk_at dksJ11_hugeLength_0 2 rfl rfl)
theorem dJ11_hugeLength_3 : decode cJ11_hugeLength 3 = .ok (.istore_n 2, 1) := dk_61 (dk_at dksJ11_hugeLength_0 3 rfl rfl)
theorem dJ11_hugeLength_4 : decode cJ11_hugeLength 4 = .ok (.iload_n 2, 1) := dk_28 (dk_at dksJ11_hugeLength_0 4 rfl rfl)
theorem dJ11_hugeLength_5 : decode cJ11_hugeLength 5 = .ok (.ifCond .ge 44, 3) := dk_156 0 44 (dk_at dksJ11_hugeLength_0 5 rfl rfl)
theorem dJ11_hugeLength_8 : decode cJ11_hugeLength 8 = .ok (.new 204, 3) := dk_187 0 204 (dk_at dksJ11_hugeLength_0 8 rfl rfl)
theorem dJ11_hugeLength_11 : decode cJ11_hugeLength 11 = .ok (.dup, 1) := dk_89 (dk_at dksJ11_hugeLength_0 11 rfl rfl)
theorem dJ11_hugeLength_12 : decode cJ11_hugeLength 12 = .ok (.new 89, 3) := dk_187 0 89 (dk_at dksJ11_hugeLength_0 12 rfl rfl)
theorem dJ11_hugeLength_15 : decode cJ11_hugeLength 15 = .ok (.dup, 1) := dk_89 (dk_at dksJ11_hugeLength_0 15 rfl rfl)
theorem dJ11_hugeLength_16 : decode cJ11_hugeLength 16 = .ok (.invokespecial 91, 3) := dk_183 0 91 (dk_at dksJ11_hugeLength_0 16 rfl rfl)
theorem dJ11_hugeLength_19 : decode cJ11_hugeLength 19 = .ok (.ldc 206, 2) := dk_18 206 (dk_at dksJ11_hugeLength_0 19 rfl rfl)
theorem dJ11_hugeLength_21 : decode cJ11_hugeLength 21 = .ok (.invokevirtual 94, 3) := dk_182 0 94 (dk_at dksJ11_hugeLength_0 21 rfl rfl)
theorem dJ11_hugeLength_24 : decode cJ11_hugeLength 24 = .ok (.iload_n 0, 1) := dk_26 (dk_at dksJ11_hugeLength_1 0 rfl rfl)
theorem dJ11_hugeLength_25 : decode cJ11_hugeLength 25 = .ok (.invokevirtual 98, 3) := dk_182 0 98 (dk_at dksJ11_hugeLength_1 1 rfl rfl)
theorem dJ11_hugeLength_28 : decode cJ11_hugeLength 28 = .ok (.ldc 208, 2) := dk_18 208 (dk_at dksJ11_hugeLength_1 4 rfl rfl)
theorem dJ11_hugeLength_30 : decode cJ11_hugeLength 30 = .ok (.invokevirtual 94, 3) := dk_182 0 94 (dk_at dksJ11_hugeLength_1 6 rfl rfl)
theorem dJ11_hugeLength_33 : decode cJ11_hugeLength 33 = .ok (.iload_n 1, 1) := dk_27 (dk_at dksJ11_hugeLength_1 9 rfl rfl)
theorem dJ11_hugeLength_34 : decode cJ11_hugeLength 34 = .ok (.invokevirtual 98, 3) := dk_182 0 98 (dk_at dksJ11_hugeLength_1 10 rfl rfl)
theorem dJ11_hugeLength_37 : decode cJ11_hugeLength 37 = .ok (.ldc 210, 2) := dk_18 210 (dk_at dksJ11_hugeLength_1 13 rfl rfl)
theorem dJ11_hugeLength_39 : decode cJ11_hugeLength 39 = .ok (.invokevirtual 94, 3) := dk_182 0 94 (dk_at dksJ11_hugeLength_1 15 rfl rfl)
theorem dJ11_hugeLength_42 : decode cJ11_hugeLength 42 = .ok (.invokevirtual 101, 3) := dk_182 0 101 (dk_at dksJ11_hugeLength_1 18 rfl rfl)
theorem dJ11_hugeLength_45 : decode cJ11_hugeLength 45 = .ok (.invokespecial 212, 3) := dk_183 0 212 (dk_at dksJ11_hugeLength_1 21 rfl rfl)
theorem dJ11_hugeLength_48 : decode cJ11_hugeLength 48 = .ok (.athrow, 1) := dk_191 (dk_at dksJ11_hugeLength_2 0 rfl rfl)
theorem dJ11_hugeLength_49 : decode cJ11_hugeLength 49 = .ok (.iload_n 2, 1) := dk_28 (dk_at dksJ11_hugeLength_2 1 rfl rfl)
theorem dJ11_hugeLength_50 : decode cJ11_hugeLength 50 = .ok (.ldc 200, 2) := dk_18 200 (dk_at dksJ11_hugeLength_2 2 rfl rfl)
theorem dJ11_hugeLength_52 : decode cJ11_hugeLength 52 = .ok (.if_icmp .gt 6, 3) := dk_163 0 6 (dk_at dksJ11_hugeLength_2 4 rfl rfl)
theorem dJ11_hugeLength_55 : decode cJ11_hugeLength 55 = .ok (.ldc 200, 2) := dk_18 200 (dk_at dksJ11_hugeLength_2 7 rfl rfl)
theorem dJ11_hugeLength_57 : decode cJ11_hugeLength 57 = .ok (.ireturn, 1) := dk_172 (dk_at dksJ11_hugeLength_2 9 rfl rfl)
theorem dJ11_hugeLength_58 : decode cJ11_hugeLength 58 = .ok (.iload_n 2, 1) := dk_28 (dk_at dksJ11_hugeLength_2 10 rfl rfl)
theorem dJ11_hugeLength_59 : decode cJ11_hugeLength 59 = .ok (.ireturn, 1) := dk_172 (dk_at dksJ11_hugeLength_2 11 rfl rfl)
theorem q84 : (Jvm.Cond.initialized "jdk/internal/util/ArraysSupport") ∈ lw_all := lw_g (lw_at lw_m1 14 rfl) rfl
theorem q251 : (Jvm.Cond.static ({ cls := "jdk/internal/util/ArraysSupport", name := "newLength", desc := "(III)I" } : Jvm.MethodName)) ∈ lw_all := lw_g (lw_at lw_m1 181 rfl) rfl
theorem q252 : (Jvm.Cond.code ({ cls := "jdk/internal/util/ArraysSupport", name := "newLength", desc := "(III)I" } : Jvm.MethodName) prog_67_method_27_code (4 : Nat) (Option.some Jvm.ClassFile.FieldType.int)) ∈ lw_all := lw_g (lw_at lw_m1 182 rfl) rfl
theorem q253 : (Jvm.Cond.methodLink "jdk/internal/util/ArraysSupport" (194 : Nat) ({ cls := "java/lang/Math", name := "max", desc := "(II)I" } : Jvm.MethodName)) ∈ lw_all := lw_g (lw_at lw_m1 183 rfl) rfl
theorem q256 : (Jvm.Cond.constant "jdk/internal/util/ArraysSupport" (200 : Nat) (2147483639 : Int32)) ∈ lw_all := lw_g (lw_at lw_m1 186 rfl) rfl
theorem q257 : (Jvm.Cond.methodLink "jdk/internal/util/ArraysSupport" (201 : Nat) ({ cls := "jdk/internal/util/ArraysSupport", name := "hugeLength", desc := "(II)I" } : Jvm.MethodName)) ∈ lw_all := lw_g (lw_at lw_m1 187 rfl) rfl
theorem q258 : (Jvm.Cond.static ({ cls := "jdk/internal/util/ArraysSupport", name := "hugeLength", desc := "(II)I" } : Jvm.MethodName)) ∈ lw_all := lw_g (lw_at lw_m1 188 rfl) rfl
theorem q259 : (Jvm.Cond.code ({ cls := "jdk/internal/util/ArraysSupport", name := "hugeLength", desc := "(II)I" } : Jvm.MethodName) prog_67_method_28_code (3 : Nat) (Option.some Jvm.ClassFile.FieldType.int)) ∈ lw_all := lw_g (lw_at lw_m1 189 rfl) rfl
/-! java/lang/Math -/
set_option maxRecDepth 100000
def RJ12 : String := "java/lang/Math"
abbrev cJ12_max : ByteArray := prog_30_method_65_code
def yJ12_max : MethodName := ⟨RJ12, "max", "(II)I"⟩
def dkwJ12_max_0 : List UInt8 := [26, 27, 161, 0, 7, 26, 167, 0, 4, 27, 172]
abbrev dktJ12_max_0 : List UInt8 := dkwJ12_max_0 ++ []
theorem dksJ12_max_0 : cJ12_max.data.toList.drop 0 = dktJ12_max_0 := by decide +kernel
theorem dJ12_max_0 : decode cJ12_max 0 = .ok (.iload_n 0, 1) := dk_26 (dk_at dksJ12_max_0 0 rfl rfl)
theorem dJ12_max_1 : decode cJ12_max 1 = .ok (.iload_n 1, 1) := dk_27 (dk_at dksJ12_max_0 1 rfl rfl)
theorem dJ12_max_2 : decode cJ12_max 2 = .ok (.if_icmp .lt 7, 3) := dk_161 0 7 (dk_at dksJ12_max_0 2 rfl rfl)
theorem dJ12_max_5 : decode cJ12_max 5 = .ok (.iload_n 0, 1) := dk_26 (dk_at dksJ12_max_0 5 rfl rfl)
theorem dJ12_max_6 : decode cJ12_max 6 = .ok (.goto 4, 3) := dk_167 0 4 (dk_at dksJ12_max_0 6 rfl rfl)
theorem dJ12_max_9 : decode cJ12_max 9 = .ok (.iload_n 1, 1) := dk_27 (dk_at dksJ12_max_0 9 rfl rfl)
theorem dJ12_max_10 : decode cJ12_max 10 = .ok (.ireturn, 1) := dk_172 (dk_at dksJ12_max_0 10 rfl rfl)
abbrev cJ12_min : ByteArray := prog_30_method_69_code
def yJ12_min : MethodName := ⟨RJ12, "min", "(II)I"⟩
def dkwJ12_min_0 : List UInt8 := [26, 27, 163, 0, 7, 26, 167, 0, 4, 27, 172]
abbrev dktJ12_min_0 : List UInt8 := dkwJ12_min_0 ++ []
theorem dksJ12_min_0 : cJ12_min.data.toList.drop 0 = dktJ12_min_0 := by decide +kernel
theorem dJ12_min_0 : decode cJ12_min 0 = .ok (.iload_n 0, 1) := dk_26 (dk_at dksJ12_min_0 0 rfl rfl)
theorem dJ12_min_1 : decode cJ12_min 1 = .ok (.iload_n 1, 1) := dk_27 (dk_at dksJ12_min_0 1 rfl rfl)
theorem dJ12_min_2 : decode cJ12_min 2 = .ok (.if_icmp .gt 7, 3) := dk_163 0 7 (dk_at dksJ12_min_0 2 rfl rfl)
theorem dJ12_min_5 : decode cJ12_min 5 = .ok (.iload_n 0, 1) := dk_26 (dk_at dksJ12_min_0 5 rfl rfl)
theorem dJ12_min_6 : decode cJ12_min 6 = .ok (.goto 4, 3) := dk_167 0 4 (dk_at dksJ12_min_0 6 rfl rfl)
theorem dJ12_min_9 : decode cJ12_min 9 = .ok (.iload_n 1, 1) := dk_27 (dk_at dksJ12_min_0 9 rfl rfl)
theorem dJ12_min_10 : decode cJ12_min 10 = .ok (.ireturn, 1) := dk_172 (dk_at dksJ12_min_0 10 rfl rfl)
theorem q85 : (Jvm.Cond.initialized "java/lang/Math") ∈ lw_all := lw_g (lw_at lw_m1 15 rfl) rfl
theorem q254 : (Jvm.Cond.static ({ cls := "java/lang/Math", name := "max", desc := "(II)I" } : Jvm.MethodName)) ∈ lw_all := lw_g (lw_at lw_m1 184 rfl) rfl
theorem q255 : (Jvm.Cond.code ({ cls := "java/lang/Math", name := "max", desc := "(II)I" } : Jvm.MethodName) prog_30_method_65_code (2 : Nat) (Option.some Jvm.ClassFile.FieldType.int)) ∈ lw_all := lw_g (lw_at lw_m1 185 rfl) rfl
theorem q272 : (Jvm.Cond.static ({ cls := "java/lang/Math", name := "min", desc := "(II)I" } : Jvm.MethodName)) ∈ lw_all := lw_g (lw_at lw_m1 202 rfl) rfl
theorem q273 : (Jvm.Cond.code ({ cls := "java/lang/Math", name := "min", desc := "(II)I" } : Jvm.MethodName) prog_30_method_69_code (2 : Nat) (Option.some Jvm.ClassFile.FieldType.int)) ∈ lw_all := lw_g (lw_at lw_m1 203 rfl) rfl
/-! java/util/Arrays -/
set_option maxRecDepth 100000
def RJ13 : String := "java/util/Arrays"
abbrev cJ13_copyOf : ByteArray := prog_50_method_121_code
def yJ13_copyOf : MethodName := ⟨RJ13, "copyOf", "([BI)[B"⟩
def dkwJ13_copyOf_1 : List UInt8 := [27, 184, 1, 48, 184, 0, 150, 44, 176]
abbrev dktJ13_copyOf_1 : List UInt8 := dkwJ13_copyOf_1 ++ []
def dkwJ13_copyOf_0 : List UInt8 := [27, 42, 190, 160, 0, 11, 42, 182, 1, 54, 192, 1, 55, 176, 27, 188, 8, 77, 42, 3, 44, 3, 42, 190]
abbrev dktJ13_copyOf_0 : List UInt8 := dkwJ13_copyOf_0 ++ dktJ13_copyOf_1
theorem dksJ13_copyOf_0 : cJ13_copyOf.data.toList.drop 0 = dktJ13_copyOf_0 := by decide +kernel
theorem dksJ13_copyOf_1 : cJ13_copyOf.data.toList.drop 24 = dktJ13_copyOf_1 := dk_seg dksJ13_copyOf_0 24 rfl rfl
theorem dJ13_copyOf_0 : decode cJ13_copyOf 0 = .ok (.iload_n 1, 1) := dk_27 (dk_at dksJ13_copyOf_0 0 rfl rfl)
theorem dJ13_copyOf_1 : decode cJ13_copyOf 1 = .ok (.aload_n 0, 1) := dk_42 (dk_at dksJ13_copyOf_0 1 rfl rfl)
theorem dJ13_copyOf_2 : decode cJ13_copyOf 2 = .ok (.arraylength, 1) := dk_190 (dk_at dksJ13_copyOf_0 2 rfl rfl)
theorem dJ13_copyOf_3 : decode cJ13_copyOf 3 = .ok (.if_icmp .ne 11, 3) := dk_160 0 11 (dk_at dksJ13_copyOf_0 3 rfl rfl)
theorem dJ13_copyOf_6 : decode cJ13_copyOf 6 = .ok (.aload_n 0, 1) := dk_42 (dk_at dksJ13_copyOf_0 6 rfl rfl)
theorem dJ13_copyOf_7 : decode cJ13_copyOf 7 = .ok (.invokevirtual 310, 3) := dk_182 1 54 (dk_at dksJ13_copyOf_0 7 rfl rfl)
theorem dJ13_copyOf_10 : decode cJ13_copyOf 10 = .ok (.checkcast 311, 3) := dk_192 1 55 (dk_at dksJ13_copyOf_0 10 rfl rfl)
theorem dJ13_copyOf_13 : decode cJ13_copyOf 13 = .ok (.areturn, 1) := dk_176 (dk_at dksJ13_copyOf_0 13 rfl rfl)
theorem dJ13_copyOf_14 : decode cJ13_copyOf 14 = .ok (.iload_n 1, 1) := dk_27 (dk_at dksJ13_copyOf_0 14 rfl rfl)
theorem dJ13_copyOf_15 : decode cJ13_copyOf 15 = .ok (.newarray .byte, 2) := dk_188_8 (dk_at dksJ13_copyOf_0 15 rfl rfl)
theorem dJ13_copyOf_17 : decode cJ13_copyOf 17 = .ok (.astore_n 2, 1) := dk_77 (dk_at dksJ13_copyOf_0 17 rfl rfl)
theorem dJ13_copyOf_18 : decode cJ13_copyOf 18 = .ok (.aload_n 0, 1) := dk_42 (dk_at dksJ13_copyOf_0 18 rfl rfl)
theorem dJ13_copyOf_19 : decode cJ13_copyOf 19 = .ok (.iconst 0, 1) := dk_3 (dk_at dksJ13_copyOf_0 19 rfl rfl)
theorem dJ13_copyOf_20 : decode cJ13_copyOf 20 = .ok (.aload_n 2, 1) := dk_44 (dk_at dksJ13_copyOf_0 20 rfl rfl)
theorem dJ13_copyOf_21 : decode cJ13_copyOf 21 = .ok (.iconst 0, 1) := dk_3 (dk_at dksJ13_copyOf_0 21 rfl rfl)
theorem dJ13_copyOf_22 : decode cJ13_copyOf 22 = .ok (.aload_n 0, 1) := dk_42 (dk_at dksJ13_copyOf_0 22 rfl rfl)
theorem dJ13_copyOf_23 : decode cJ13_copyOf 23 = .ok (.arraylength, 1) := dk_190 (dk_at dksJ13_copyOf_0 23 rfl rfl)
theorem dJ13_copyOf_24 : decode cJ13_copyOf 24 = .ok (.iload_n 1, 1) := dk_27 (dk_at dksJ13_copyOf_1 0 rfl rfl)
theorem dJ13_copyOf_25 : decode cJ13_copyOf 25 = .ok (.invokestatic 304, 3) := dk_184 1 48 (dk_at dksJ13_copyOf_1 1 rfl rfl)
theorem dJ13_copyOf_28 : decode cJ13_copyOf 28 = .ok (.invokestatic 150, 3) := dk_184 0 150 (dk_at dksJ13_copyOf_1 4 rfl rfl)
theorem dJ13_copyOf_31 : decode cJ13_copyOf 31 = .ok (.aload_n 2, 1) := dk_44 (dk_at dksJ13_copyOf_1 7 rfl rfl)
theorem dJ13_copyOf_32 : decode cJ13_copyOf 32 = .ok (.areturn, 1) := dk_176 (dk_at dksJ13_copyOf_1 8 rfl rfl)
abbrev cJ13_copyOfRange : ByteArray := prog_50_method_132_code
def yJ13_copyOfRange : MethodName := ⟨RJ13, "copyOfRange", "([BII)[B"⟩
def dkwJ13_copyOfRange_1 : List UInt8 := [176]
abbrev dktJ13_copyOfRange_1 : List UInt8 := dkwJ13_copyOfRange_1 ++ []
def dkwJ13_copyOfRange_0 : List UInt8 := [27, 154, 0, 9, 28, 42, 190, 159, 0, 10, 42, 27, 28, 184, 1, 83, 176, 42, 182, 1, 54, 192, 1, 55]
abbrev dktJ13_copyOfRange_0 : List UInt8 := dkwJ13_copyOfRange_0 ++ dktJ13_copyOfRange_1
theorem dksJ13_copyOfRange_0 : cJ13_copyOfRange.data.toList.drop 0 = dktJ13_copyOfRange_0 := by decide +kernel
theorem dksJ13_copyOfRange_1 : cJ13_copyOfRange.data.toList.drop 24 = dktJ13_copyOfRange_1 := dk_seg dksJ13_copyOfRange_0 24 rfl rfl
theorem dJ13_copyOfRange_0 : decode cJ13_copyOfRange 0 = .ok (.iload_n 1, 1) := dk_27 (dk_at dksJ13_copyOfRange_0 0 rfl rfl)
theorem dJ13_copyOfRange_1 : decode cJ13_copyOfRange 1 = .ok (.ifCond .ne 9, 3) := dk_154 0 9 (dk_at dksJ13_copyOfRange_0 1 rfl rfl)
theorem dJ13_copyOfRange_4 : decode cJ13_copyOfRange 4 = .ok (.iload_n 2, 1) := dk_28 (dk_at dksJ13_copyOfRange_0 4 rfl rfl)
theorem dJ13_copyOfRange_5 : decode cJ13_copyOfRange 5 = .ok (.aload_n 0, 1) := dk_42 (dk_at dksJ13_copyOfRange_0 5 rfl rfl)
theorem dJ13_copyOfRange_6 : decode cJ13_copyOfRange 6 = .ok (.arraylength, 1) := dk_190 (dk_at dksJ13_copyOfRange_0 6 rfl rfl)
theorem dJ13_copyOfRange_7 : decode cJ13_copyOfRange 7 = .ok (.if_icmp .eq 10, 3) := dk_159 0 10 (dk_at dksJ13_copyOfRange_0 7 rfl rfl)
theorem dJ13_copyOfRange_10 : decode cJ13_copyOfRange 10 = .ok (.aload_n 0, 1) := dk_42 (dk_at dksJ13_copyOfRange_0 10 rfl rfl)
theorem dJ13_copyOfRange_11 : decode cJ13_copyOfRange 11 = .ok (.iload_n 1, 1) := dk_27 (dk_at dksJ13_copyOfRange_0 11 rfl rfl)
theorem dJ13_copyOfRange_12 : decode cJ13_copyOfRange 12 = .ok (.iload_n 2, 1) := dk_28 (dk_at dksJ13_copyOfRange_0 12 rfl rfl)
theorem dJ13_copyOfRange_13 : decode cJ13_copyOfRange 13 = .ok (.invokestatic 339, 3) := dk_184 1 83 (dk_at dksJ13_copyOfRange_0 13 rfl rfl)
theorem dJ13_copyOfRange_16 : decode cJ13_copyOfRange 16 = .ok (.areturn, 1) := dk_176 (dk_at dksJ13_copyOfRange_0 16 rfl rfl)
theorem dJ13_copyOfRange_17 : decode cJ13_copyOfRange 17 = .ok (.aload_n 0, 1) := dk_42 (dk_at dksJ13_copyOfRange_0 17 rfl rfl)
theorem dJ13_copyOfRange_18 : decode cJ13_copyOfRange 18 = .ok (.invokevirtual 310, 3) := dk_182 1 54 (dk_at dksJ13_copyOfRange_0 18 rfl rfl)
theorem dJ13_copyOfRange_21 : decode cJ13_copyOfRange 21 = .ok (.checkcast 311, 3) := dk_192 1 55 (dk_at dksJ13_copyOfRange_0 21 rfl rfl)
theorem dJ13_copyOfRange_24 : decode cJ13_copyOfRange 24 = .ok (.areturn, 1) := dk_176 (dk_at dksJ13_copyOfRange_1 0 rfl rfl)
abbrev cJ13_copyOfRangeByte : ByteArray := prog_50_method_133_code
def yJ13_copyOfRangeByte : MethodName := ⟨RJ13, "copyOfRangeByte", "([BII)[B"⟩
def dkwJ13_copyOfRangeByte_1 : List UInt8 := [184, 1, 48, 184, 0, 150, 25, 4, 176]
abbrev dktJ13_copyOfRangeByte_1 : List UInt8 := dkwJ13_copyOfRangeByte_1 ++ []
def dkwJ13_copyOfRangeByte_0 : List UInt8 := [27, 28, 184, 1, 87, 28, 27, 100, 62, 29, 188, 8, 58, 4, 42, 27, 25, 4, 3, 42, 190, 27, 100, 29]
abbrev dktJ13_copyOfRangeByte_0 : List UInt8 := dkwJ13_copyOfRangeByte_0 ++ dktJ13_copyOfRangeByte_1
theorem dksJ13_copyOfRangeByte_0 : cJ13_copyOfRangeByte.data.toList.drop 0 = dktJ13_copyOfRangeByte_0 := by decide +kernel
theorem dksJ13_copyOfRangeByte_1 : cJ13_copyOfRangeByte.data.toList.drop 24 = dktJ13_copyOfRangeByte_1 := dk_seg dksJ13_copyOfRangeByte_0 24 rfl rfl
theorem dJ13_copyOfRangeByte_0 : decode cJ13_copyOfRangeByte 0 = .ok (.iload_n 1, 1) := dk_27 (dk_at dksJ13_copyOfRangeByte_0 0 rfl rfl)
theorem dJ13_copyOfRangeByte_1 : decode cJ13_copyOfRangeByte 1 = .ok (.iload_n 2, 1) := dk_28 (dk_at dksJ13_copyOfRangeByte_0 1 rfl rfl)
theorem dJ13_copyOfRangeByte_2 : decode cJ13_copyOfRangeByte 2 = .ok (.invokestatic 343, 3) := dk_184 1 87 (dk_at dksJ13_copyOfRangeByte_0 2 rfl rfl)
theorem dJ13_copyOfRangeByte_5 : decode cJ13_copyOfRangeByte 5 = .ok (.iload_n 2, 1) := dk_28 (dk_at dksJ13_copyOfRangeByte_0 5 rfl rfl)
theorem dJ13_copyOfRangeByte_6 : decode cJ13_copyOfRangeByte 6 = .ok (.iload_n 1, 1) := dk_27 (dk_at dksJ13_copyOfRangeByte_0 6 rfl rfl)
theorem dJ13_copyOfRangeByte_7 : decode cJ13_copyOfRangeByte 7 = .ok (.isub, 1) := dk_100 (dk_at dksJ13_copyOfRangeByte_0 7 rfl rfl)
theorem dJ13_copyOfRangeByte_8 : decode cJ13_copyOfRangeByte 8 = .ok (.istore_n 3, 1) := dk_62 (dk_at dksJ13_copyOfRangeByte_0 8 rfl rfl)
theorem dJ13_copyOfRangeByte_9 : decode cJ13_copyOfRangeByte 9 = .ok (.iload_n 3, 1) := dk_29 (dk_at dksJ13_copyOfRangeByte_0 9 rfl rfl)
theorem dJ13_copyOfRangeByte_10 : decode cJ13_copyOfRangeByte 10 = .ok (.newarray .byte, 2) := dk_188_8 (dk_at dksJ13_copyOfRangeByte_0 10 rfl rfl)
theorem dJ13_copyOfRangeByte_12 : decode cJ13_copyOfRangeByte 12 = .ok (.astore 4, 2) := dk_58 4 (dk_at dksJ13_copyOfRangeByte_0 12 rfl rfl)
theorem dJ13_copyOfRangeByte_14 : decode cJ13_copyOfRangeByte 14 = .ok (.aload_n 0, 1) := dk_42 (dk_at dksJ13_copyOfRangeByte_0 14 rfl rfl)
theorem dJ13_copyOfRangeByte_15 : decode cJ13_copyOfRangeByte 15 = .ok (.iload_n 1, 1) := dk_27 (dk_at dksJ13_copyOfRangeByte_0 15 rfl rfl)
theorem dJ13_copyOfRangeByte_16 : decode cJ13_copyOfRangeByte 16 = .ok (.aload 4, 2) := dk_25 4 (dk_at dksJ13_copyOfRangeByte_0 16 rfl rfl)
theorem dJ13_copyOfRangeByte_18 : decode cJ13_copyOfRangeByte 18 = .ok (.iconst 0, 1) := dk_3 (dk_at dksJ13_copyOfRangeByte_0 18 rfl rfl)
theorem dJ13_copyOfRangeByte_19 : decode cJ13_copyOfRangeByte 19 = .ok (.aload_n 0, 1) := dk_42 (dk_at dksJ13_copyOfRangeByte_0 19 rfl rfl)
theorem dJ13_copyOfRangeByte_20 : decode cJ13_copyOfRangeByte 20 = .ok (.arraylength, 1) := dk_190 (dk_at dksJ13_copyOfRangeByte_0 20 rfl rfl)
theorem dJ13_copyOfRangeByte_21 : decode cJ13_copyOfRangeByte 21 = .ok (.iload_n 1, 1) := dk_27 (dk_at dksJ13_copyOfRangeByte_0 21 rfl rfl)
theorem dJ13_copyOfRangeByte_22 : decode cJ13_copyOfRangeByte 22 = .ok (.isub, 1) := dk_100 (dk_at dksJ13_copyOfRangeByte_0 22 rfl rfl)
theorem dJ13_copyOfRangeByte_23 : decode cJ13_copyOfRangeByte 23 = .ok (.iload_n 3, 1) := dk_29 (dk_at dksJ13_copyOfRangeByte_0 23 rfl rfl)
theorem dJ13_copyOfRangeByte_24 : decode cJ13_copyOfRangeByte 24 = .ok (.invokestatic 304, 3) := dk_184 1 48 (dk_at dksJ13_copyOfRangeByte_1 0 rfl rfl)
theorem dJ13_copyOfRangeByte_27 : decode cJ13_copyOfRangeByte 27 = .ok (.invokestatic 150, 3) := dk_184 0 150 (dk_at dksJ13_copyOfRangeByte_1 3 rfl rfl)
theorem dJ13_copyOfRangeByte_30 : decode cJ13_copyOfRangeByte 30 = .ok (.aload 4, 2) := dk_25 4 (dk_at dksJ13_copyOfRangeByte_1 6 rfl rfl)
theorem dJ13_copyOfRangeByte_32 : decode cJ13_copyOfRangeByte 32 = .ok (.areturn, 1) := dk_176 (dk_at dksJ13_copyOfRangeByte_1 8 rfl rfl)
abbrev cJ13_checkLength : ByteArray := prog_50_method_131_code
def yJ13_checkLength : MethodName := ⟨RJ13, "checkLength", "(II)V"⟩
def dkwJ13_checkLength_1 : List UInt8 := [182, 0, 50, 27, 182, 0, 54, 182, 0, 61, 183, 0, 65, 191, 177]
abbrev dktJ13_checkLength_1 : List UInt8 := dkwJ13_checkLength_1 ++ []
def dkwJ13_checkLength_0 : List UInt8 := [27, 26, 162, 0, 35, 187, 0, 43, 89, 187, 0, 45, 89, 183, 0, 47, 26, 182, 0, 54, 19, 1, 81]
abbrev dktJ13_checkLength_0 : List UInt8 := dkwJ13_checkLength_0 ++ dktJ13_checkLength_1
theorem dksJ13_checkLength_0 : cJ13_checkLength.data.toList.drop 0 = dktJ13_checkLength_0 := by decide +kernel
theorem dksJ13_checkLength_1 : cJ13_checkLength.data.toList.drop 23 = dktJ13_checkLength_1 := dk_seg dksJ13_checkLength_0 23 rfl rfl
theorem dJ13_checkLength_0 : decode cJ13_checkLength 0 = .ok (.iload_n 1, 1) := dk_27 (dk_at dksJ13_checkLength_0 0 rfl rfl)
theorem dJ13_checkLength_1 : decode cJ13_checkLength 1 = .ok (.iload_n 0, 1) := dk_26 (dk_at dksJ13_checkLength_0 1 rfl rfl)
theorem dJ13_checkLength_2 : decode cJ13_checkLength 2 = .ok (.if_icmp .ge 35, 3) := dk_162 0 35 (dk_at dksJ13_checkLength_0 2 rfl rfl)
theorem dJ13_checkLength_5 : decode cJ13_checkLength 5 = .ok (.new 43, 3) := dk_187 0 43 (dk_at dksJ13_checkLength_0 5 rfl rfl)
theorem dJ13_checkLength_8 : decode cJ13_checkLength 8 = .ok (.dup, 1) := dk_89 (dk_at dksJ13_checkLength_0 8 rfl rfl)
theorem dJ13_checkLength_9 : decode cJ13_checkLength 9 = .ok (.new 45, 3) := dk_187 0 45 (dk_at dksJ13_checkLength_0 9 rfl rfl)
theorem dJ13_checkLength_12 : decode cJ13_checkLength 12 = .ok (.dup, 1) := dk_89 (dk_at dksJ13_checkLength_0 12 rfl rfl)
theorem dJ13_checkLength_13 : decode cJ13_checkLength 13 = .ok (.invokespecial 47, 3) := dk_183 0 47 (dk_at dksJ13_checkLength_0 13 rfl rfl)
theorem dJ13_checkLength_16 : decode cJ13_checkLength 16 = .ok (.iload_n 0, 1) := dk_26 (dk_at dksJ13_checkLength_0 16 rfl rfl)
theorem dJ13_checkLength_17 : decode cJ13_checkLength 17 = .ok (.invokevirtual 54, 3) := dk_182 0 54 (dk_at dksJ13_checkLength_0 17 rfl rfl)
theorem dJ13_checkLength_20 : decode cJ13_checkLength 20 = .ok (.ldc_w 337, 3) := dk_19 1 81 (dk_at dksJ13_checkLength_0 20 rfl rfl)
theorem dJ13_checkLength_23 : decode cJ13_checkLength 23 = .ok (.invokevirtual 50, 3) := dk_182 0 50 (dk_at dksJ13_checkLength_1 0 rfl rfl)
theorem dJ13_checkLength_26 : decode cJ13_checkLength 26 = .ok (.iload_n 1, 1) := dk_27 (dk_at dksJ13_checkLength_1 3 rfl rfl)
theorem dJ13_checkLength_27 : decode cJ13_checkLength 27 = .ok (.invokevirtual 54, 3) := dk_182 0 54 (dk_at dksJ13_checkLength_1 4 rfl rfl)
theorem dJ13_checkLength_30 : decode cJ13_checkLength 30 = .ok (.invokevirtual 61, 3) := dk_182 0 61 (dk_at dksJ13_checkLength_1 7 rfl rfl)
theorem dJ13_checkLength_33 : decode cJ13_checkLength 33 = .ok (.invokespecial 65, 3) := dk_183 0 65 (dk_at dksJ13_checkLength_1 10 rfl rfl)
theorem dJ13_checkLength_36 : decode cJ13_checkLength 36 = .ok (.athrow, 1) := dk_191 (dk_at dksJ13_checkLength_1 13 rfl rfl)
theorem dJ13_checkLength_37 : decode cJ13_checkLength 37 = .ok (.return_, 1) := dk_177 (dk_at dksJ13_checkLength_1 14 rfl rfl)
abbrev cJ13_copyOf_2 : ByteArray := prog_50_method_124_code
def yJ13_copyOf_2 : MethodName := ⟨RJ13, "copyOf", "([JI)[J"⟩
def dkwJ13_copyOf_2_1 : List UInt8 := [27, 184, 1, 48, 184, 0, 150, 44, 176]
abbrev dktJ13_copyOf_2_1 : List UInt8 := dkwJ13_copyOf_2_1 ++ []
def dkwJ13_copyOf_2_0 : List UInt8 := [27, 42, 190, 160, 0, 11, 42, 182, 1, 63, 192, 1, 64, 176, 27, 188, 11, 77, 42, 3, 44, 3, 42, 190]
abbrev dktJ13_copyOf_2_0 : List UInt8 := dkwJ13_copyOf_2_0 ++ dktJ13_copyOf_2_1
theorem dksJ13_copyOf_2_0 : cJ13_copyOf_2.data.toList.drop 0 = dktJ13_copyOf_2_0 := by decide +kernel
theorem dksJ13_copyOf_2_1 : cJ13_copyOf_2.data.toList.drop 24 = dktJ13_copyOf_2_1 := dk_seg dksJ13_copyOf_2_0 24 rfl rfl
theorem dJ13_copyOf_2_0 : decode cJ13_copyOf_2 0 = .ok (.iload_n 1, 1) := dk_27 (dk_at dksJ13_copyOf_2_0 0 rfl rfl)
theorem dJ13_copyOf_2_1 : decode cJ13_copyOf_2 1 = .ok (.aload_n 0, 1) := dk_42 (dk_at dksJ13_copyOf_2_0 1 rfl rfl)
theorem dJ13_copyOf_2_2 : decode cJ13_copyOf_2 2 = .ok (.arraylength, 1) := dk_190 (dk_at dksJ13_copyOf_2_0 2 rfl rfl)
theorem dJ13_copyOf_2_3 : decode cJ13_copyOf_2 3 = .ok (.if_icmp .ne 11, 3) := dk_160 0 11 (dk_at dksJ13_copyOf_2_0 3 rfl rfl)
theorem dJ13_copyOf_2_6 : decode cJ13_copyOf_2 6 = .ok (.aload_n 0, 1) := dk_42 (dk_at dksJ13_copyOf_2_0 6 rfl rfl)
theorem dJ13_copyOf_2_7 : decode cJ13_copyOf_2 7 = .ok (.invokevirtual 319, 3) := dk_182 1 63 (dk_at dksJ13_copyOf_2_0 7 rfl rfl)
theorem dJ13_copyOf_2_10 : decode cJ13_copyOf_2 10 = .ok (.checkcast 320, 3) := dk_192 1 64 (dk_at dksJ13_copyOf_2_0 10 rfl rfl)
theorem dJ13_copyOf_2_13 : decode cJ13_copyOf_2 13 = .ok (.areturn, 1) := dk_176 (dk_at dksJ13_copyOf_2_0 13 rfl rfl)
theorem dJ13_copyOf_2_14 : decode cJ13_copyOf_2 14 = .ok (.iload_n 1, 1) := dk_27 (dk_at dksJ13_copyOf_2_0 14 rfl rfl)
theorem dJ13_copyOf_2_15 : decode cJ13_copyOf_2 15 = .ok (.newarray .long, 2) := dk_188_11 (dk_at dksJ13_copyOf_2_0 15 rfl rfl)
theorem dJ13_copyOf_2_17 : decode cJ13_copyOf_2 17 = .ok (.astore_n 2, 1) := dk_77 (dk_at dksJ13_copyOf_2_0 17 rfl rfl)
theorem dJ13_copyOf_2_18 : decode cJ13_copyOf_2 18 = .ok (.aload_n 0, 1) := dk_42 (dk_at dksJ13_copyOf_2_0 18 rfl rfl)
theorem dJ13_copyOf_2_19 : decode cJ13_copyOf_2 19 = .ok (.iconst 0, 1) := dk_3 (dk_at dksJ13_copyOf_2_0 19 rfl rfl)
theorem dJ13_copyOf_2_20 : decode cJ13_copyOf_2 20 = .ok (.aload_n 2, 1) := dk_44 (dk_at dksJ13_copyOf_2_0 20 rfl rfl)
theorem dJ13_copyOf_2_21 : decode cJ13_copyOf_2 21 = .ok (.iconst 0, 1) := dk_3 (dk_at dksJ13_copyOf_2_0 21 rfl rfl)
theorem dJ13_copyOf_2_22 : decode cJ13_copyOf_2 22 = .ok (.aload_n 0, 1) := dk_42 (dk_at dksJ13_copyOf_2_0 22 rfl rfl)
theorem dJ13_copyOf_2_23 : decode cJ13_copyOf_2 23 = .ok (.arraylength, 1) := dk_190 (dk_at dksJ13_copyOf_2_0 23 rfl rfl)
theorem dJ13_copyOf_2_24 : decode cJ13_copyOf_2 24 = .ok (.iload_n 1, 1) := dk_27 (dk_at dksJ13_copyOf_2_1 0 rfl rfl)
theorem dJ13_copyOf_2_25 : decode cJ13_copyOf_2 25 = .ok (.invokestatic 304, 3) := dk_184 1 48 (dk_at dksJ13_copyOf_2_1 1 rfl rfl)
theorem dJ13_copyOf_2_28 : decode cJ13_copyOf_2 28 = .ok (.invokestatic 150, 3) := dk_184 0 150 (dk_at dksJ13_copyOf_2_1 4 rfl rfl)
theorem dJ13_copyOf_2_31 : decode cJ13_copyOf_2 31 = .ok (.aload_n 2, 1) := dk_44 (dk_at dksJ13_copyOf_2_1 7 rfl rfl)
theorem dJ13_copyOf_2_32 : decode cJ13_copyOf_2 32 = .ok (.areturn, 1) := dk_176 (dk_at dksJ13_copyOf_2_1 8 rfl rfl)
abbrev cJ13_copyOf_3 : ByteArray := prog_50_method_119_code
def yJ13_copyOf_3 : MethodName := ⟨RJ13, "copyOf", "([Ljava/lang/Object;I)[Ljava/lang/Object;"⟩
def dkwJ13_copyOf_3_0 : List UInt8 := [42, 27, 42, 182, 0, 86, 184, 1, 44, 176]
abbrev dktJ13_copyOf_3_0 : List UInt8 := dkwJ13_copyOf_3_0 ++ []
theorem dksJ13_copyOf_3_0 : cJ13_copyOf_3.data.toList.drop 0 = dktJ13_copyOf_3_0 := by decide +kernel
theorem dJ13_copyOf_3_0 : decode cJ13_copyOf_3 0 = .ok (.aload_n 0, 1) := dk_42 (dk_at dksJ13_copyOf_3_0 0 rfl rfl)
theorem dJ13_copyOf_3_1 : decode cJ13_copyOf_3 1 = .ok (.iload_n 1, 1) := dk_27 (dk_at dksJ13_copyOf_3_0 1 rfl rfl)
theorem dJ13_copyOf_3_2 : decode cJ13_copyOf_3 2 = .ok (.aload_n 0, 1) := dk_42 (dk_at dksJ13_copyOf_3_0 2 rfl rfl)
theorem dJ13_copyOf_3_3 : decode cJ13_copyOf_3 3 = .ok (.invokevirtual 86, 3) := dk_182 0 86 (dk_at dksJ13_copyOf_3_0 3 rfl rfl)
theorem dJ13_copyOf_3_6 : decode cJ13_copyOf_3 6 = .ok (.invokestatic 300, 3) := dk_184 1 44 (dk_at dksJ13_copyOf_3_0 6 rfl rfl)
theorem dJ13_copyOf_3_9 : decode cJ13_copyOf_3 9 = .ok (.areturn, 1) := dk_176 (dk_at dksJ13_copyOf_3_0 9 rfl rfl)
abbrev cJ13_copyOf_4 : ByteArray := prog_50_method_120_code
def yJ13_copyOf_4 : MethodName := ⟨RJ13, "copyOf", "([Ljava/lang/Object;ILjava/lang/Class;)[Ljava/lang/Object;"⟩
def dkwJ13_copyOf_4_1 : List UInt8 := [78, 42, 3, 45, 3, 42, 190, 27, 184, 1, 48, 184, 0, 150, 45, 176]
abbrev dktJ13_copyOf_4_1 : List UInt8 := dkwJ13_copyOf_4_1 ++ []
def dkwJ13_copyOf_4_0 : List UInt8 := [44, 18, 110, 166, 0, 10, 27, 189, 0, 2, 167, 0, 14, 44, 182, 0, 90, 27, 184, 0, 95, 192, 0, 110]
abbrev dktJ13_copyOf_4_0 : List UInt8 := dkwJ13_copyOf_4_0 ++ dktJ13_copyOf_4_1
theorem dksJ13_copyOf_4_0 : cJ13_copyOf_4.data.toList.drop 0 = dktJ13_copyOf_4_0 := by decide +kernel
theorem dksJ13_copyOf_4_1 : cJ13_copyOf_4.data.toList.drop 24 = dktJ13_copyOf_4_1 := dk_seg dksJ13_copyOf_4_0 24 rfl rfl
theorem dJ13_copyOf_4_0 : decode cJ13_copyOf_4 0 = .ok (.aload_n 2, 1) := dk_44 (dk_at dksJ13_copyOf_4_0 0 rfl rfl)
theorem dJ13_copyOf_4_1 : decode cJ13_copyOf_4 1 = .ok (.ldc 110, 2) := dk_18 110 (dk_at dksJ13_copyOf_4_0 1 rfl rfl)
theorem dJ13_copyOf_4_3 : decode cJ13_copyOf_4 3 = .ok (.if_acmp .ne 10, 3) := dk_166 0 10 (dk_at dksJ13_copyOf_4_0 3 rfl rfl)
theorem dJ13_copyOf_4_6 : decode cJ13_copyOf_4 6 = .ok (.iload_n 1, 1) := dk_27 (dk_at dksJ13_copyOf_4_0 6 rfl rfl)
theorem dJ13_copyOf_4_7 : decode cJ13_copyOf_4 7 = .ok (.anewarray 2, 3) := dk_189 0 2 (dk_at dksJ13_copyOf_4_0 7 rfl rfl)
theorem dJ13_copyOf_4_10 : decode cJ13_copyOf_4 10 = .ok (.goto 14, 3) := dk_167 0 14 (dk_at dksJ13_copyOf_4_0 10 rfl rfl)
theorem dJ13_copyOf_4_13 : decode cJ13_copyOf_4 13 = .ok (.aload_n 2, 1) := dk_44 (dk_at dksJ13_copyOf_4_0 13 rfl rfl)
theorem dJ13_copyOf_4_14 : decode cJ13_copyOf_4 14 = .ok (.invokevirtual 90, 3) := dk_182 0 90 (dk_at dksJ13_copyOf_4_0 14 rfl rfl)
theorem dJ13_copyOf_4_17 : decode cJ13_copyOf_4 17 = .ok (.iload_n 1, 1) := dk_27 (dk_at dksJ13_copyOf_4_0 17 rfl rfl)
theorem dJ13_copyOf_4_18 : decode cJ13_copyOf_4 18 = .ok (.invokestatic 95, 3) := dk_184 0 95 (dk_at dksJ13_copyOf_4_0 18 rfl rfl)
theorem dJ13_copyOf_4_21 : decode cJ13_copyOf_4 21 = .ok (.checkcast 110, 3) := dk_192 0 110 (dk_at dksJ13_copyOf_4_0 21 rfl rfl)
theorem dJ13_copyOf_4_24 : decode cJ13_copyOf_4 24 = .ok (.astore_n 3, 1) := dk_78 (dk_at dksJ13_copyOf_4_1 0 rfl rfl)
theorem dJ13_copyOf_4_25 : decode cJ13_copyOf_4 25 = .ok (.aload_n 0, 1) := dk_42 (dk_at dksJ13_copyOf_4_1 1 rfl rfl)
theorem dJ13_copyOf_4_26 : decode cJ13_copyOf_4 26 = .ok (.iconst 0, 1) := dk_3 (dk_at dksJ13_copyOf_4_1 2 rfl rfl)
theorem dJ13_copyOf_4_27 : decode cJ13_copyOf_4 27 = .ok (.aload_n 3, 1) := dk_45 (dk_at dksJ13_copyOf_4_1 3 rfl rfl)
theorem dJ13_copyOf_4_28 : decode cJ13_copyOf_4 28 = .ok (.iconst 0, 1) := dk_3 (dk_at dksJ13_copyOf_4_1 4 rfl rfl)
theorem dJ13_copyOf_4_29 : decode cJ13_copyOf_4 29 = .ok (.aload_n 0, 1) := dk_42 (dk_at dksJ13_copyOf_4_1 5 rfl rfl)
theorem dJ13_copyOf_4_30 : decode cJ13_copyOf_4 30 = .ok (.arraylength, 1) := dk_190 (dk_at dksJ13_copyOf_4_1 6 rfl rfl)
theorem dJ13_copyOf_4_31 : decode cJ13_copyOf_4 31 = .ok (.iload_n 1, 1) := dk_27 (dk_at dksJ13_copyOf_4_1 7 rfl rfl)
theorem dJ13_copyOf_4_32 : decode cJ13_copyOf_4 32 = .ok (.invokestatic 304, 3) := dk_184 1 48 (dk_at dksJ13_copyOf_4_1 8 rfl rfl)
theorem dJ13_copyOf_4_35 : decode cJ13_copyOf_4 35 = .ok (.invokestatic 150, 3) := dk_184 0 150 (dk_at dksJ13_copyOf_4_1 11 rfl rfl)
theorem dJ13_copyOf_4_38 : decode cJ13_copyOf_4 38 = .ok (.aload_n 3, 1) := dk_45 (dk_at dksJ13_copyOf_4_1 14 rfl rfl)
theorem dJ13_copyOf_4_39 : decode cJ13_copyOf_4 39 = .ok (.areturn, 1) := dk_176 (dk_at dksJ13_copyOf_4_1 15 rfl rfl)
theorem q86 : (Jvm.Cond.initialized "java/util/Arrays") ∈ lw_all := lw_g (lw_at lw_m1 16 rfl) rfl
theorem q262 : (Jvm.Cond.static ({ cls := "java/util/Arrays", name := "copyOf", desc := "([BI)[B" } : Jvm.MethodName)) ∈ lw_all := lw_g (lw_at lw_m1 192 rfl) rfl
theorem q263 : (Jvm.Cond.code ({ cls := "java/util/Arrays", name := "copyOf", desc := "([BI)[B" } : Jvm.MethodName) prog_50_method_121_code (3 : Nat) (Option.some (Jvm.ClassFile.FieldType.array Jvm.ClassFile.FieldType.byte))) ∈ lw_all := lw_g (lw_at lw_m1 193 rfl) rfl
theorem q264 : (Jvm.Cond.methodLink "java/util/Arrays" (310 : Nat) ({ cls := "[B", name := "clone", desc := "()Ljava/lang/Object;" } : Jvm.MethodName)) ∈ lw_all := lw_g (lw_at lw_m1 194 rfl) rfl
theorem q270 : (Jvm.Cond.classLink "java/util/Arrays" (311 : Nat) "[B") ∈ lw_all := lw_g (lw_at lw_m1 200 rfl) rfl
theorem q271 : (Jvm.Cond.methodLink "java/util/Arrays" (304 : Nat) ({ cls := "java/lang/Math", name := "min", desc := "(II)I" } : Jvm.MethodName)) ∈ lw_all := lw_g (lw_at lw_m1 201 rfl) rfl
theorem q274 : (Jvm.Cond.methodLink "java/util/Arrays" (150 : Nat) ({ cls := "java/lang/System", name := "arraycopy", desc := "(Ljava/lang/Object;ILjava/lang/Object;II)V" } : Jvm.MethodName)) ∈ lw_all := lw_g (lw_at lw_m1 204 rfl) rfl
theorem q404 : (Jvm.Cond.static ({ cls := "java/util/Arrays", name := "copyOfRange", desc := "([BII)[B" } : Jvm.MethodName)) ∈ lw_all := lw_g (lw_at lw_m2 94 rfl) rfl
theorem q405 : (Jvm.Cond.code ({ cls := "java/util/Arrays", name := "copyOfRange", desc := "([BII)[B" } : Jvm.MethodName) prog_50_method_132_code (3 : Nat) (Option.some (Jvm.ClassFile.FieldType.array Jvm.ClassFile.FieldType.byte))) ∈ lw_all := lw_g (lw_at lw_m2 95 rfl) rfl
theorem q406 : (Jvm.Cond.methodLink "java/util/Arrays" (339 : Nat) ({ cls := "java/util/Arrays", name := "copyOfRangeByte", desc := "([BII)[B" } : Jvm.MethodName)) ∈ lw_all := lw_g (lw_at lw_m2 96 rfl) rfl
theorem q407 : (Jvm.Cond.static ({ cls := "java/util/Arrays", name := "copyOfRangeByte", desc := "([BII)[B" } : Jvm.MethodName)) ∈ lw_all := lw_g (lw_at lw_m2 97 rfl) rfl
theorem q408 : (Jvm.Cond.code ({ cls := "java/util/Arrays", name := "copyOfRangeByte", desc := "([BII)[B" } : Jvm.MethodName) prog_50_method_133_code (5 : Nat) (Option.some (Jvm.ClassFile.FieldType.array Jvm.ClassFile.FieldType.byte))) ∈ lw_all := lw_g (lw_at lw_m2 98 rfl) rfl
theorem q409 : (Jvm.Cond.methodLink "java/util/Arrays" (343 : Nat) ({ cls := "java/util/Arrays", name := "checkLength", desc := "(II)V" } : Jvm.MethodName)) ∈ lw_all := lw_g (lw_at lw_m2 99 rfl) rfl
theorem q410 : (Jvm.Cond.static ({ cls := "java/util/Arrays", name := "checkLength", desc := "(II)V" } : Jvm.MethodName)) ∈ lw_all := lw_g (lw_at lw_m2 100 rfl) rfl
theorem q411 : (Jvm.Cond.code ({ cls := "java/util/Arrays", name := "checkLength", desc := "(II)V" } : Jvm.MethodName) prog_50_method_131_code (2 : Nat) (Option.none : Option Jvm.ClassFile.FieldType)) ∈ lw_all := lw_g (lw_at lw_m2 101 rfl) rfl
theorem q412 : (Jvm.Cond.classLink "java/util/Arrays" (43 : Nat) "java/lang/IllegalArgumentException") ∈ lw_all := lw_g (lw_at lw_m2 102 rfl) rfl
theorem q413 : (Jvm.Cond.classLink "java/util/Arrays" (45 : Nat) "java/lang/StringBuilder") ∈ lw_all := lw_g (lw_at lw_m2 103 rfl) rfl
theorem q414 : (Jvm.Cond.methodLink "java/util/Arrays" (47 : Nat) ({ cls := "java/lang/StringBuilder", name := "<init>", desc := "()V" } : Jvm.MethodName)) ∈ lw_all := lw_g (lw_at lw_m2 104 rfl) rfl
theorem q415 : (Jvm.Cond.methodLink "java/util/Arrays" (54 : Nat) ({ cls := "java/lang/StringBuilder", name := "append", desc := "(I)Ljava/lang/StringBuilder;" } : Jvm.MethodName)) ∈ lw_all := lw_g (lw_at lw_m2 105 rfl) rfl
theorem q416 : (Jvm.Cond.stringRef "java/util/Arrays" (337 : Nat) " > ") ∈ lw_tbl := lw_at lw_m2 106 rfl
theorem q417 : (Jvm.Cond.methodLink "java/util/Arrays" (50 : Nat) ({ cls := "java/lang/StringBuilder", name := "append", desc := "(Ljava/lang/String;)Ljava/lang/StringBuilder;" } : Jvm.MethodName)) ∈ lw_all := lw_g (lw_at lw_m2 107 rfl) rfl
theorem q418 : (Jvm.Cond.methodLink "java/util/Arrays" (61 : Nat) ({ cls := "java/lang/StringBuilder", name := "toString", desc := "()Ljava/lang/String;" } : Jvm.MethodName)) ∈ lw_all := lw_g (lw_at lw_m2 108 rfl) rfl
theorem q419 : (Jvm.Cond.methodLink "java/util/Arrays" (65 : Nat) ({ cls := "java/lang/IllegalArgumentException", name := "<init>", desc := "(Ljava/lang/String;)V" } : Jvm.MethodName)) ∈ lw_all := lw_g (lw_at lw_m2 109 rfl) rfl
theorem q634 : (Jvm.Cond.static ({ cls := "java/util/Arrays", name := "copyOf", desc := "([JI)[J" } : Jvm.MethodName)) ∈ lw_all := lw_g (lw_at lw_m3 84 rfl) rfl
theorem q635 : (Jvm.Cond.code ({ cls := "java/util/Arrays", name := "copyOf", desc := "([JI)[J" } : Jvm.MethodName) prog_50_method_124_code (3 : Nat) (Option.some (Jvm.ClassFile.FieldType.array Jvm.ClassFile.FieldType.long))) ∈ lw_all := lw_g (lw_at lw_m3 85 rfl) rfl
theorem q636 : (Jvm.Cond.methodLink "java/util/Arrays" (319 : Nat) ({ cls := "[J", name := "clone", desc := "()Ljava/lang/Object;" } : Jvm.MethodName)) ∈ lw_all := lw_g (lw_at lw_m3 86 rfl) rfl
theorem q640 : (Jvm.Cond.classLink "java/util/Arrays" (320 : Nat) "[J") ∈ lw_all := lw_g (lw_at lw_m3 90 rfl) rfl
theorem q892 : (Jvm.Cond.static ({ cls := "java/util/Arrays", name := "copyOf", desc := "([Ljava/lang/Object;I)[Ljava/lang/Object;" } : Jvm.MethodName)) ∈ lw_all := lw_g (lw_at lw_m4 102 rfl) rfl
theorem q893 : (Jvm.Cond.code ({ cls := "java/util/Arrays", name := "copyOf", desc := "([Ljava/lang/Object;I)[Ljava/lang/Object;" } : Jvm.MethodName) prog_50_method_119_code (2 : Nat) (Option.some (Jvm.ClassFile.FieldType.array (Jvm.ClassFile.FieldType.object "java/lang/Object")))) ∈ lw_all := lw_g (lw_at lw_m4 103 rfl) rfl
theorem q894 : (Jvm.Cond.methodLink "java/util/Arrays" (86 : Nat) ({ cls := "java/lang/Object", name := "getClass", desc := "()Ljava/lang/Class;" } : Jvm.MethodName)) ∈ lw_all := lw_g (lw_at lw_m4 104 rfl) rfl
theorem q929 : (Jvm.Cond.methodLink "java/util/Arrays" (300 : Nat) ({ cls := "java/util/Arrays", name := "copyOf", desc := "([Ljava/lang/Object;ILjava/lang/Class;)[Ljava/lang/Object;" } : Jvm.MethodName)) ∈ lw_all := lw_g (lw_at lw_m4 139 rfl) rfl
theorem q930 : (Jvm.Cond.static ({ cls := "java/util/Arrays", name := "copyOf", desc := "([Ljava/lang/Object;ILjava/lang/Class;)[Ljava/lang/Object;" } : Jvm.MethodName)) ∈ lw_all := lw_g (lw_at lw_m4 140 rfl) rfl
theorem q931 : (Jvm.Cond.code ({ cls := "java/util/Arrays", name := "copyOf", desc := "([Ljava/lang/Object;ILjava/lang/Class;)[Ljava/lang/Object;" } : Jvm.MethodName) prog_50_method_120_code (4 : Nat) (Option.some (Jvm.ClassFile.FieldType.array (Jvm.ClassFile.FieldType.object "java/lang/Object")))) ∈ lw_all := lw_g (lw_at lw_m4 141 rfl) rfl
theorem q932 : (Jvm.Cond.classLink "java/util/Arrays" (110 : Nat) "[Ljava/lang/Object;") ∈ lw_all := lw_g (lw_at lw_m4 142 rfl) rfl
theorem q933 : (Jvm.Cond.classLink "java/util/Arrays" (2 : Nat) "java/lang/Object") ∈ lw_all := lw_g (lw_at lw_m4 143 rfl) rfl
/-! jdk/internal/util/Preconditions -/
set_option maxRecDepth 100000
def RJ14 : String := "jdk/internal/util/Preconditions"
abbrev cJ14_checkFromToIndex : ByteArray := prog_68_method_12_code
def yJ14_checkFromToIndex : MethodName := ⟨RJ14, "checkFromToIndex", "(IIILjava/util/function/BiFunction;)I"⟩
def dkwJ14_checkFromToIndex_0 : List UInt8 := [26, 155, 0, 13, 26, 27, 163, 0, 8, 27, 28, 164, 0, 11, 45, 26, 27, 28, 184, 0, 99, 191, 26, 172]
abbrev dktJ14_checkFromToIndex_0 : List UInt8 := dkwJ14_checkFromToIndex_0 ++ []
theorem dksJ14_checkFromToIndex_0 : cJ14_checkFromToIndex.data.toList.drop 0 = dktJ14_checkFromToIndex_0 := by decide +kernel
theorem dJ14_checkFromToIndex_0 : decode cJ14_checkFromToIndex 0 = .ok (.iload_n 0, 1) := dk_26 (dk_at dksJ14_checkFromToIndex_0 0 rfl rfl)
theorem dJ14_checkFromToIndex_1 : decode cJ14_checkFromToIndex 1 = .ok (.ifCond .lt 13, 3) := dk_155 0 13 (dk_at dksJ14_checkFromToIndex_0 1 rfl rfl)
theorem dJ14_checkFromToIndex_4 : decode cJ14_checkFromToIndex 4 = .ok (.iload_n 0, 1) := dk_26 (dk_at dksJ14_checkFromToIndex_0 4 rfl rfl)
theorem dJ14_checkFromToIndex_5 : decode cJ14_checkFromToIndex 5 = .ok (.iload_n 1, 1) := dk_27 (dk_at dksJ14_checkFromToIndex_0 5 rfl rfl)
theorem dJ14_checkFromToIndex_6 : decode cJ14_checkFromToIndex 6 = .ok (.if_icmp .gt 8, 3) := dk_163 0 8 (dk_at dksJ14_checkFromToIndex_0 6 rfl rfl)
theorem dJ14_checkFromToIndex_9 : decode cJ14_checkFromToIndex 9 = .ok (.iload_n 1, 1) := dk_27 (dk_at dksJ14_checkFromToIndex_0 9 rfl rfl)
theorem dJ14_checkFromToIndex_10 : decode cJ14_checkFromToIndex 10 = .ok (.iload_n 2, 1) := dk_28 (dk_at dksJ14_checkFromToIndex_0 10 rfl rfl)
theorem dJ14_checkFromToIndex_11 : decode cJ14_checkFromToIndex 11 = .ok (.if_icmp .le 11, 3) := dk_164 0 11 (dk_at dksJ14_checkFromToIndex_0 11 rfl rfl)
theorem dJ14_checkFromToIndex_14 : decode cJ14_checkFromToIndex 14 = .ok (.aload_n 3, 1) := dk_45 (dk_at dksJ14_checkFromToIndex_0 14 rfl rfl)
theorem dJ14_checkFromToIndex_15 : decode cJ14_checkFromToIndex 15 = .ok (.iload_n 0, 1) := dk_26 (dk_at dksJ14_checkFromToIndex_0 15 rfl rfl)
theorem dJ14_checkFromToIndex_16 : decode cJ14_checkFromToIndex 16 = .ok (.iload_n 1, 1) := dk_27 (dk_at dksJ14_checkFromToIndex_0 16 rfl rfl)
theorem dJ14_checkFromToIndex_17 : decode cJ14_checkFromToIndex 17 = .ok (.iload_n 2, 1) := dk_28 (dk_at dksJ14_checkFromToIndex_0 17 rfl rfl)
theorem dJ14_checkFromToIndex_18 : decode cJ14_checkFromToIndex 18 = .ok (.invokestatic 99, 3) := dk_184 0 99 (dk_at dksJ14_checkFromToIndex_0 18 rfl rfl)
theorem dJ14_checkFromToIndex_21 : decode cJ14_checkFromToIndex 21 = .ok (.athrow, 1) := dk_191 (dk_at dksJ14_checkFromToIndex_0 21 rfl rfl)
theorem dJ14_checkFromToIndex_22 : decode cJ14_checkFromToIndex 22 = .ok (.iload_n 0, 1) := dk_26 (dk_at dksJ14_checkFromToIndex_0 22 rfl rfl)
theorem dJ14_checkFromToIndex_23 : decode cJ14_checkFromToIndex 23 = .ok (.ireturn, 1) := dk_172 (dk_at dksJ14_checkFromToIndex_0 23 rfl rfl)
abbrev cJ14_checkFromIndexSize : ByteArray := prog_68_method_13_code
def yJ14_checkFromIndexSize : MethodName := ⟨RJ14, "checkFromIndexSize", "(IIILjava/util/function/BiFunction;)I"⟩
def dkwJ14_checkFromIndexSize_1 : List UInt8 := [172]
abbrev dktJ14_checkFromIndexSize_1 : List UInt8 := dkwJ14_checkFromIndexSize_1 ++ []
def dkwJ14_checkFromIndexSize_0 : List UInt8 := [28, 26, 128, 27, 128, 155, 0, 10, 27, 28, 26, 100, 164, 0, 11, 45, 26, 27, 28, 184, 0, 103, 191, 26]
abbrev dktJ14_checkFromIndexSize_0 : List UInt8 := dkwJ14_checkFromIndexSize_0 ++ dktJ14_checkFromIndexSize_1
theorem dksJ14_checkFromIndexSize_0 : cJ14_checkFromIndexSize.data.toList.drop 0 = dktJ14_checkFromIndexSize_0 := by decide +kernel
theorem dksJ14_checkFromIndexSize_1 : cJ14_checkFromIndexSize.data.toList.drop 24 = dktJ14_checkFromIndexSize_1 := dk_seg dksJ14_checkFromIndexSize_0 24 rfl rfl
theorem dJ14_checkFromIndexSize_0 : decode cJ14_checkFromIndexSize 0 = .ok (.iload_n 2, 1) := dk_28 (dk_at dksJ14_checkFromIndexSize_0 0 rfl rfl)
theorem dJ14_checkFromIndexSize_1 : decode cJ14_checkFromIndexSize 1 = .ok (.iload_n 0, 1) := dk_26 (dk_at dksJ14_checkFromIndexSize_0 1 rfl rfl)
theorem dJ14_checkFromIndexSize_2 : decode cJ14_checkFromIndexSize 2 = .ok (.ior, 1) := dk_128 (dk_at dksJ14_checkFromIndexSize_0 2 rfl rfl)
theorem dJ14_checkFromIndexSize_3 : decode cJ14_checkFromIndexSize 3 = .ok (.iload_n 1, 1) := dk_27 (dk_at dksJ14_checkFromIndexSize_0 3 rfl rfl)
theorem dJ14_checkFromIndexSize_4 : decode cJ14_checkFromIndexSize 4 = .ok (.ior, 1) := dk_128 (dk_at dksJ14_checkFromIndexSize_0 4 rfl rfl)
theorem dJ14_checkFromIndexSize_5 : decode cJ14_checkFromIndexSize 5 = .ok (.ifCond .lt 10, 3) := dk_155 0 10 (dk_at dksJ14_checkFromIndexSize_0 5 rfl rfl)
theorem dJ14_checkFromIndexSize_8 : decode cJ14_checkFromIndexSize 8 = .ok (.iload_n 1, 1) := dk_27 (dk_at dksJ14_checkFromIndexSize_0 8 rfl rfl)
theorem dJ14_checkFromIndexSize_9 : decode cJ14_checkFromIndexSize 9 = .ok (.iload_n 2, 1) := dk_28 (dk_at dksJ14_checkFromIndexSize_0 9 rfl rfl)
theorem dJ14_checkFromIndexSize_10 : decode cJ14_checkFromIndexSize 10 = .ok (.iload_n 0, 1) := dk_26 (dk_at dksJ14_checkFromIndexSize_0 10 rfl rfl)
theorem dJ14_checkFromIndexSize_11 : decode cJ14_checkFromIndexSize 11 = .ok (.isub, 1) := dk_100 (dk_at dksJ14_checkFromIndexSize_0 11 rfl rfl)
theorem dJ14_checkFromIndexSize_12 : decode cJ14_checkFromIndexSize 12 = .ok (.if_icmp .le 11, 3) := dk_164 0 11 (dk_at dksJ14_checkFromIndexSize_0 12 rfl rfl)
theorem dJ14_checkFromIndexSize_15 : decode cJ14_checkFromIndexSize 15 = .ok (.aload_n 3, 1) := dk_45 (dk_at dksJ14_checkFromIndexSize_0 15 rfl rfl)
theorem dJ14_checkFromIndexSize_16 : decode cJ14_checkFromIndexSize 16 = .ok (.iload_n 0, 1) := dk_26 (dk_at dksJ14_checkFromIndexSize_0 16 rfl rfl)
theorem dJ14_checkFromIndexSize_17 : decode cJ14_checkFromIndexSize 17 = .ok (.iload_n 1, 1) := dk_27 (dk_at dksJ14_checkFromIndexSize_0 17 rfl rfl)
theorem dJ14_checkFromIndexSize_18 : decode cJ14_checkFromIndexSize 18 = .ok (.iload_n 2, 1) := dk_28 (dk_at dksJ14_checkFromIndexSize_0 18 rfl rfl)
theorem dJ14_checkFromIndexSize_19 : decode cJ14_checkFromIndexSize 19 = .ok (.invokestatic 103, 3) := dk_184 0 103 (dk_at dksJ14_checkFromIndexSize_0 19 rfl rfl)
theorem dJ14_checkFromIndexSize_22 : decode cJ14_checkFromIndexSize 22 = .ok (.athrow, 1) := dk_191 (dk_at dksJ14_checkFromIndexSize_0 22 rfl rfl)
theorem dJ14_checkFromIndexSize_23 : decode cJ14_checkFromIndexSize 23 = .ok (.iload_n 0, 1) := dk_26 (dk_at dksJ14_checkFromIndexSize_0 23 rfl rfl)
theorem dJ14_checkFromIndexSize_24 : decode cJ14_checkFromIndexSize 24 = .ok (.ireturn, 1) := dk_172 (dk_at dksJ14_checkFromIndexSize_1 0 rfl rfl)
abbrev cJ14_checkIndex : ByteArray := prog_68_method_11_code
def yJ14_checkIndex : MethodName := ⟨RJ14, "checkIndex", "(IILjava/util/function/BiFunction;)I"⟩
def dkwJ14_checkIndex_0 : List UInt8 := [26, 155, 0, 8, 26, 27, 161, 0, 10, 44, 26, 27, 184, 0, 95, 191, 26, 172]
abbrev dktJ14_checkIndex_0 : List UInt8 := dkwJ14_checkIndex_0 ++ []
theorem dksJ14_checkIndex_0 : cJ14_checkIndex.data.toList.drop 0 = dktJ14_checkIndex_0 := by decide +kernel
theorem dJ14_checkIndex_0 : decode cJ14_checkIndex 0 = .ok (.iload_n 0, 1) := dk_26 (dk_at dksJ14_checkIndex_0 0 rfl rfl)
theorem dJ14_checkIndex_1 : decode cJ14_checkIndex 1 = .ok (.ifCond .lt 8, 3) := dk_155 0 8 (dk_at dksJ14_checkIndex_0 1 rfl rfl)
theorem dJ14_checkIndex_4 : decode cJ14_checkIndex 4 = .ok (.iload_n 0, 1) := dk_26 (dk_at dksJ14_checkIndex_0 4 rfl rfl)
theorem dJ14_checkIndex_5 : decode cJ14_checkIndex 5 = .ok (.iload_n 1, 1) := dk_27 (dk_at dksJ14_checkIndex_0 5 rfl rfl)
theorem dJ14_checkIndex_6 : decode cJ14_checkIndex 6 = .ok (.if_icmp .lt 10, 3) := dk_161 0 10 (dk_at dksJ14_checkIndex_0 6 rfl rfl)
theorem dJ14_checkIndex_9 : decode cJ14_checkIndex 9 = .ok (.aload_n 2, 1) := dk_44 (dk_at dksJ14_checkIndex_0 9 rfl rfl)
theorem dJ14_checkIndex_10 : decode cJ14_checkIndex 10 = .ok (.iload_n 0, 1) := dk_26 (dk_at dksJ14_checkIndex_0 10 rfl rfl)
theorem dJ14_checkIndex_11 : decode cJ14_checkIndex 11 = .ok (.iload_n 1, 1) := dk_27 (dk_at dksJ14_checkIndex_0 11 rfl rfl)
theorem dJ14_checkIndex_12 : decode cJ14_checkIndex 12 = .ok (.invokestatic 95, 3) := dk_184 0 95 (dk_at dksJ14_checkIndex_0 12 rfl rfl)
theorem dJ14_checkIndex_15 : decode cJ14_checkIndex 15 = .ok (.athrow, 1) := dk_191 (dk_at dksJ14_checkIndex_0 15 rfl rfl)
theorem dJ14_checkIndex_16 : decode cJ14_checkIndex 16 = .ok (.iload_n 0, 1) := dk_26 (dk_at dksJ14_checkIndex_0 16 rfl rfl)
theorem dJ14_checkIndex_17 : decode cJ14_checkIndex 17 = .ok (.ireturn, 1) := dk_172 (dk_at dksJ14_checkIndex_0 17 rfl rfl)
theorem q88 : (Jvm.Cond.initialized "jdk/internal/util/Preconditions") ∈ lw_all := lw_g (lw_at lw_m1 18 rfl) rfl
theorem q295 : (Jvm.Cond.laysStatic "jdk/internal/util/Preconditions" "SIOOBE_FORMATTER" "Ljava/util/function/BiFunction;") ∈ lw_tbl := lw_at lw_m1 225 rfl
theorem q297 : (Jvm.Cond.static ({ cls := "jdk/internal/util/Preconditions", name := "checkFromToIndex", desc := "(IIILjava/util/function/BiFunction;)I" } : Jvm.MethodName)) ∈ lw_all := lw_g (lw_at lw_m1 227 rfl) rfl
theorem q298 : (Jvm.Cond.code ({ cls := "jdk/internal/util/Preconditions", name := "checkFromToIndex", desc := "(IIILjava/util/function/BiFunction;)I" } : Jvm.MethodName) prog_68_method_12_code (4 : Nat) (Option.some Jvm.ClassFile.FieldType.int)) ∈ lw_all := lw_g (lw_at lw_m1 228 rfl) rfl
theorem q343 : (Jvm.Cond.static ({ cls := "jdk/internal/util/Preconditions", name := "checkFromIndexSize", desc := "(IIILjava/util/function/BiFunction;)I" } : Jvm.MethodName)) ∈ lw_all := lw_g (lw_at lw_m2 33 rfl) rfl
theorem q344 : (Jvm.Cond.code ({ cls := "jdk/internal/util/Preconditions", name := "checkFromIndexSize", desc := "(IIILjava/util/function/BiFunction;)I" } : Jvm.MethodName) prog_68_method_13_code (4 : Nat) (Option.some Jvm.ClassFile.FieldType.int)) ∈ lw_all := lw_g (lw_at lw_m2 34 rfl) rfl
theorem q1004 : (Jvm.Cond.static ({ cls := "jdk/internal/util/Preconditions", name := "checkIndex", desc := "(IILjava/util/function/BiFunction;)I" } : Jvm.MethodName)) ∈ lw_all := lw_g (lw_at lw_m4 214 rfl) rfl
theorem q1005 : (Jvm.Cond.code ({ cls := "jdk/internal/util/Preconditions", name := "checkIndex", desc := "(IILjava/util/function/BiFunction;)I" } : Jvm.MethodName) prog_68_method_11_code (3 : Nat) (Option.some Jvm.ClassFile.FieldType.int)) ∈ lw_all := lw_g (lw_at lw_m4 215 rfl) rfl
/-! java/lang/Number -/
set_option maxRecDepth 100000
def RJ16 : String := "java/lang/Number"
abbrev cJ16_init : ByteArray := prog_31_method_1_code
def yJ16_init : MethodName := ⟨RJ16, "<init>", "()V"⟩
theorem dJ16_init_0 : decode cJ16_init 0 = .ok (.aload_n 0, 1) := by decide +kernel
theorem dJ16_init_1 : decode cJ16_init 1 = .ok (.invokespecial 1, 3) := by decide +kernel
theorem dJ16_init_4 : decode cJ16_init 4 = .ok (.return_, 1) := by decide +kernel
theorem q90 : (Jvm.Cond.initialized "java/lang/Number") ∈ lw_all := lw_g (lw_at lw_m1 20 rfl) rfl
theorem q1254 : (Jvm.Cond.instanceMethod ({ cls := "java/lang/Number", name := "<init>", desc := "()V" } : Jvm.MethodName)) ∈ lw_all := lw_g (lw_at lw_m5 224 rfl) rfl
theorem q1255 : (Jvm.Cond.code ({ cls := "java/lang/Number", name := "<init>", desc := "()V" } : Jvm.MethodName) prog_31_method_1_code (1 : Nat) (Option.none : Option Jvm.ClassFile.FieldType)) ∈ lw_all := lw_g (lw_at lw_m5 225 rfl) rfl
theorem q1256 : (Jvm.Cond.methodLink "java/lang/Number" (1 : Nat) ({ cls := "java/lang/Object", name := "<init>", desc := "()V" } : Jvm.MethodName)) ∈ lw_all := lw_g (lw_at lw_m5 226 rfl) rfl
/-! java/lang/Integer -/
set_option maxRecDepth 100000
def RJ17 : String := "java/lang/Integer"
def TJ17 : u_T := fun k => match k with
  | _ => ("java/lang/Integer", "value", "I", true)
def tyJ17 : Nat → FieldType := fun k => match k with
  | _ => .int
abbrev wsJ170 : List Cond := u_ws RJ17 TJ17 1
theorem nmJ17 : ∀ a, a < 1 → ∀ b, b < 1 → a ≠ b → (TJ17 a).2.1 ≠ (TJ17 b).2.1 := by decide +kernel
theorem tyJ17_ok : ∀ k, k < 1 → parseFieldDescriptor (TJ17 k).2.2.1 = some (tyJ17 k) := by decide +kernel
abbrev cJ17_stringSize : ByteArray := prog_26_method_13_code
def yJ17_stringSize : MethodName := ⟨RJ17, "stringSize", "(I)I"⟩
def dkwJ17_stringSize_1 : List UInt8 := [164, 0, 7, 29, 27, 96, 172, 16, 10, 28, 104, 61, 132, 3, 1, 167, 255, 233, 16, 10, 27, 96, 172]
abbrev dktJ17_stringSize_1 : List UInt8 := dkwJ17_stringSize_1 ++ []
def dkwJ17_stringSize_0 : List UInt8 := [4, 60, 26, 155, 0, 8, 3, 60, 26, 116, 59, 16, 246, 61, 4, 62, 29, 16, 10, 162, 0, 23, 26, 28]
abbrev dktJ17_stringSize_0 : List UInt8 := dkwJ17_stringSize_0 ++ dktJ17_stringSize_1
theorem dksJ17_stringSize_0 : cJ17_stringSize.data.toList.drop 0 = dktJ17_stringSize_0 := by decide +kernel
theorem dksJ17_stringSize_1 : cJ17_stringSize.data.toList.drop 24 = dktJ17_stringSize_1 := dk_seg dksJ17_stringSize_0 24 rfl rfl
theorem dJ17_stringSize_0 : decode cJ17_stringSize 0 = .ok (.iconst 1, 1) := dk_4 (dk_at dksJ17_stringSize_0 0 rfl rfl)
theorem dJ17_stringSize_1 : decode cJ17_stringSize 1 = .ok (.istore_n 1, 1) := dk_60 (dk_at dksJ17_stringSize_0 1 rfl rfl)
theorem dJ17_stringSize_2 : decode cJ17_stringSize 2 = .ok (.iload_n 0, 1) := dk_26 (dk_at dksJ17_stringSize_0 2 rfl rfl)
theorem dJ17_stringSize_3 : decode cJ17_stringSize 3 = .ok (.ifCond .lt 8, 3) := dk_155 0 8 (dk_at dksJ17_stringSize_0 3 rfl rfl)
theorem dJ17_stringSize_6 : decode cJ17_stringSize 6 = .ok (.iconst 0, 1) := dk_3 (dk_at dksJ17_stringSize_0 6 rfl rfl)
theorem dJ17_stringSize_7 : decode cJ17_stringSize 7 = .ok (.istore_n 1, 1) := dk_60 (dk_at dksJ17_stringSize_0 7 rfl rfl)
theorem dJ17_stringSize_8 : decode cJ17_stringSize 8 = .ok (.iload_n 0, 1) := dk_26 (dk_at dksJ17_stringSize_0 8 rfl rfl)
theorem dJ17_stringSize_9 : decode cJ17_stringSize 9 = .ok (.ineg, 1) := dk_116 (dk_at dksJ17_stringSize_0 9 rfl rfl)
theorem dJ17_stringSize_10 : decode cJ17_stringSize 10 = .ok (.istore_n 0, 1) := dk_59 (dk_at dksJ17_stringSize_0 10 rfl rfl)
theorem dJ17_stringSize_11 : decode cJ17_stringSize 11 = .ok (.bipush (-10), 2) := dk_16 246 (dk_at dksJ17_stringSize_0 11 rfl rfl)
theorem dJ17_stringSize_13 : decode cJ17_stringSize 13 = .ok (.istore_n 2, 1) := dk_61 (dk_at dksJ17_stringSize_0 13 rfl rfl)
theorem dJ17_stringSize_14 : decode cJ17_stringSize 14 = .ok (.iconst 1, 1) := dk_4 (dk_at dksJ17_stringSize_0 14 rfl rfl)
theorem dJ17_stringSize_15 : decode cJ17_stringSize 15 = .ok (.istore_n 3, 1) := dk_62 (dk_at dksJ17_stringSize_0 15 rfl rfl)
theorem dJ17_stringSize_16 : decode cJ17_stringSize 16 = .ok (.iload_n 3, 1) := dk_29 (dk_at dksJ17_stringSize_0 16 rfl rfl)
theorem dJ17_stringSize_17 : decode cJ17_stringSize 17 = .ok (.bipush 10, 2) := dk_16 10 (dk_at dksJ17_stringSize_0 17 rfl rfl)
theorem dJ17_stringSize_19 : decode cJ17_stringSize 19 = .ok (.if_icmp .ge 23, 3) := dk_162 0 23 (dk_at dksJ17_stringSize_0 19 rfl rfl)
theorem dJ17_stringSize_22 : decode cJ17_stringSize 22 = .ok (.iload_n 0, 1) := dk_26 (dk_at dksJ17_stringSize_0 22 rfl rfl)
theorem dJ17_stringSize_23 : decode cJ17_stringSize 23 = .ok (.iload_n 2, 1) := dk_28 (dk_at dksJ17_stringSize_0 23 rfl rfl)
theorem dJ17_stringSize_24 : decode cJ17_stringSize 24 = .ok (.if_icmp .le 7, 3) := dk_164 0 7 (dk_at dksJ17_stringSize_1 0 rfl rfl)
theorem dJ17_stringSize_27 : decode cJ17_stringSize 27 = .ok (.iload_n 3, 1) := dk_29 (dk_at dksJ17_stringSize_1 3 rfl rfl)
theorem dJ17_stringSize_28 : decode cJ17_stringSize 28 = .ok (.iload_n 1, 1) := dk_27 (dk_at dksJ17_stringSize_1 4 rfl rfl)
theorem dJ17_stringSize_29 : decode cJ17_stringSize 29 = .ok (.iadd, 1) := dk_96 (dk_at dksJ17_stringSize_1 5 rfl rfl)
theorem dJ17_stringSize_30 : decode cJ17_stringSize 30 = .ok (.ireturn, 1) := dk_172 (dk_at dksJ17_stringSize_1 6 rfl rfl)
theorem dJ17_stringSize_31 : decode cJ17_stringSize 31 = .ok (.bipush 10, 2) := dk_16 10 (dk_at dksJ17_stringSize_1 7 rfl rfl)
theorem dJ17_stringSize_33 : decode cJ17_stringSize 33 = .ok (.iload_n 2, 1) := dk_28 (dk_at dksJ17_stringSize_1 9 rfl rfl)
theorem dJ17_stringSize_34 : decode cJ17_stringSize 34 = .ok (.imul, 1) := dk_104 (dk_at dksJ17_stringSize_1 10 rfl rfl)
theorem dJ17_stringSize_35 : decode cJ17_stringSize 35 = .ok (.istore_n 2, 1) := dk_61 (dk_at dksJ17_stringSize_1 11 rfl rfl)
theorem dJ17_stringSize_36 : decode cJ17_stringSize 36 = .ok (.iinc 3 1, 3) := dk_132 3 1 (dk_at dksJ17_stringSize_1 12 rfl rfl)
theorem dJ17_stringSize_39 : decode cJ17_stringSize 39 = .ok (.goto (-23), 3) := dk_167 255 233 (dk_at dksJ17_stringSize_1 15 rfl rfl)
theorem dJ17_stringSize_42 : decode cJ17_stringSize 42 = .ok (.bipush 10, 2) := dk_16 10 (dk_at dksJ17_stringSize_1 18 rfl rfl)
theorem dJ17_stringSize_44 : decode cJ17_stringSize 44 = .ok (.iload_n 1, 1) := dk_27 (dk_at dksJ17_stringSize_1 20 rfl rfl)
theorem dJ17_stringSize_45 : decode cJ17_stringSize 45 = .ok (.iadd, 1) := dk_96 (dk_at dksJ17_stringSize_1 21 rfl rfl)
theorem dJ17_stringSize_46 : decode cJ17_stringSize 46 = .ok (.ireturn, 1) := dk_172 (dk_at dksJ17_stringSize_1 22 rfl rfl)
abbrev cJ17_getChars : ByteArray := prog_26_method_12_code
def yJ17_getChars : MethodName := ⟨RJ17, "getChars", "(II[B)I"⟩
def dkwJ17_getChars_5 : List UInt8 := [16, 45, 84, 21, 5, 172]
abbrev dktJ17_getChars_5 : List UInt8 := dkwJ17_getChars_5 ++ []
def dkwJ17_getChars_4 : List UInt8 := [132, 5, 255, 21, 5, 178, 0, 87, 26, 116, 51, 84, 21, 6, 153, 0, 12, 44, 132, 5, 255, 21, 5]
abbrev dktJ17_getChars_4 : List UInt8 := dkwJ17_getChars_4 ++ dktJ17_getChars_5
def dkwJ17_getChars_3 : List UInt8 := [167, 255, 209, 44, 132, 5, 255, 21, 5, 178, 0, 83, 26, 116, 51, 84, 26, 16, 247, 162, 0, 16, 44]
abbrev dktJ17_getChars_3 : List UInt8 := dkwJ17_getChars_3 ++ dktJ17_getChars_4
def dkwJ17_getChars_2 : List UInt8 := [21, 5, 178, 0, 83, 21, 4, 51, 84, 44, 132, 5, 255, 21, 5, 178, 0, 87, 21, 4, 51, 84]
abbrev dktJ17_getChars_2 : List UInt8 := dkwJ17_getChars_2 ++ dktJ17_getChars_3
def dkwJ17_getChars_1 : List UInt8 := [16, 156, 163, 0, 47, 26, 16, 100, 108, 62, 29, 16, 100, 104, 26, 100, 54, 4, 29, 59, 44, 132, 5, 255]
abbrev dktJ17_getChars_1 : List UInt8 := dkwJ17_getChars_1 ++ dktJ17_getChars_2
def dkwJ17_getChars_0 : List UInt8 := [27, 54, 5, 26, 156, 0, 7, 4, 167, 0, 4, 3, 54, 6, 21, 6, 154, 0, 6, 26, 116, 59, 26]
abbrev dktJ17_getChars_0 : List UInt8 := dkwJ17_getChars_0 ++ dktJ17_getChars_1
theorem dksJ17_getChars_0 : cJ17_getChars.data.toList.drop 0 = dktJ17_getChars_0 := by decide +kernel
theorem dksJ17_getChars_1 : cJ17_getChars.data.toList.drop 23 = dktJ17_getChars_1 := dk_seg dksJ17_getChars_0 23 rfl rfl
theorem dksJ17_getChars_2 : cJ17_getChars.data.toList.drop 47 = dktJ17_getChars_2 := dk_seg dksJ17_getChars_1 24 rfl rfl
theorem dksJ17_getChars_3 : cJ17_getChars.data.toList.drop 69 = dktJ17_getChars_3 := dk_seg dksJ17_getChars_2 22 rfl rfl
theorem dksJ17_getChars_4 : cJ17_getChars.data.toList.drop 92 = dktJ17_getChars_4 := dk_seg dksJ17_getChars_3 23 rfl rfl
theorem dksJ17_getChars_5 : cJ17_getChars.data.toList.drop 115 = dktJ17_getChars_5 := dk_seg dksJ17_getChars_4 23 rfl rfl
theorem dJ17_getChars_0 : decode cJ17_getChars 0 = .ok (.iload_n 1, 1) := dk_27 (dk_at dksJ17_getChars_0 0 rfl rfl)
theorem dJ17_getChars_1 : decode cJ17_getChars 1 = .ok (.istore 5, 2) := dk_54 5 (dk_at dksJ17_getChars_0 1 rfl rfl)
theorem dJ17_getChars_3 : decode cJ17_getChars 3 = .ok (.iload_n 0, 1) := dk_26 (dk_at dksJ17_getChars_0 3 rfl rfl)
theorem dJ17_getChars_4 : decode cJ17_getChars 4 = .ok (.ifCond .ge 7, 3) := dk_156 0 7 (dk_at dksJ17_getChars_0 4 rfl rfl)
theorem dJ17_getChars_7 : decode cJ17_getChars 7 = .ok (.iconst 1, 1) := dk_4 (dk_at dksJ17_getChars_0 7 rfl rfl)
theorem dJ17_getChars_8 : decode cJ17_getChars 8 = .ok (.goto 4, 3) := dk_167 0 4 (dk_at dksJ17_getChars_0 8 rfl rfl)
theorem dJ17_getChars_11 : decode cJ17_getChars 11 = .ok (.iconst 0, 1) := dk_3 (dk_at dksJ17_getChars_0 11 rfl rfl)
theorem dJ17_getChars_12 : decode cJ17_getChars 12 = .ok (.istore 6, 2) := dk_54 6 (dk_at dksJ17_getChars_0 12 rfl rfl)
theorem dJ17_getChars_14 : decode cJ17_getChars 14 = .ok (.iload 6, 2) := dk_21 6 (dk_at dksJ17_getChars_0 14 rfl rfl)
theorem dJ17_getChars_16 : decode cJ17_getChars 16 = .ok (.ifCond .ne 6, 3) := dk_154 0 6 (dk_at dksJ17_getChars_0 16 rfl rfl)
theorem dJ17_getChars_19 : decode cJ17_getChars 19 = .ok (.iload_n 0, 1) := dk_26 (dk_at dksJ17_getChars_0 19 rfl rfl)
theorem dJ17_getChars_20 : decode cJ17_getChars 20 = .ok (.ineg, 1) := dk_116 (dk_at dksJ17_getChars_0 20 rfl rfl)
theorem dJ17_getChars_21 : decode cJ17_getChars 21 = .ok (.istore_n 0, 1) := dk_59 (dk_at dksJ17_getChars_0 21 rfl rfl)
theorem dJ17_getChars_22 : decode cJ17_getChars 22 = .ok (.iload_n 0, 1) := dk_26 (dk_at dksJ17_getChars_0 22 rfl rfl)
theorem dJ17_getChars_23 : decode cJ17_getChars 23 = .ok (.bipush (-100), 2) := dk_16 156 (dk_at dksJ17_getChars_1 0 rfl rfl)
theorem dJ17_getChars_25 : decode cJ17_getChars 25 = .ok (.if_icmp .gt 47, 3) := dk_163 0 47 (dk_at dksJ17_getChars_1 2 rfl rfl)
theorem dJ17_getChars_28 : decode cJ17_getChars 28 = .ok (.iload_n 0, 1) := dk_26 (dk_at dksJ17_getChars_1 5 rfl rfl)
theorem dJ17_getChars_29 : decode cJ17_getChars 29 = .ok (.bipush 100, 2) := dk_16 100 (dk_at dksJ17_getChars_1 6 rfl rfl)
theorem dJ17_getChars_31 : decode cJ17_getChars 31 = .ok (.idiv, 1) := dk_108 (dk_at dksJ17_getChars_1 8 rfl rfl)
theorem dJ17_getChars_32 : decode cJ17_getChars 32 = .ok (.istore_n 3, 1) := dk_62 (dk_at dksJ17_getChars_1 9 rfl rfl)
theorem dJ17_getChars_33 : decode cJ17_getChars 33 = .ok (.iload_n 3, 1) := dk_29 (dk_at dksJ17_getChars_1 10 rfl rfl)
theorem dJ17_getChars_34 : decode cJ17_getChars 34 = .ok (.bipush 100, 2) := dk_16 100 (dk_at dksJ17_getChars_1 11 rfl rfl)
theorem dJ17_getChars_36 : decode cJ17_getChars 36 = .ok (.imul, 1) := dk_104 (dk_at dksJ17_getChars_1 13 rfl rfl)
theorem dJ17_getChars_37 : decode cJ17_getChars 37 = .ok (.iload_n 0, 1) := dk_26 (dk_at dksJ17_getChars_1 14 rfl rfl)
theorem dJ17_getChars_38 : decode cJ17_getChars 38 = .ok (.isub, 1) := dk_100 (dk_at dksJ17_getChars_1 15 rfl rfl)
theorem dJ17_getChars_39 : decode cJ17_getChars 39 = .ok (.istore 4, 2) := dk_54 4 (dk_at dksJ17_getChars_1 16 rfl rfl)
theorem dJ17_getChars_41 : decode cJ17_getChars 41 = .ok (.iload_n 3, 1) := dk_29 (dk_at dksJ17_getChars_1 18 rfl rfl)
theorem dJ17_getChars_42 : decode cJ17_getChars 42 = .ok (.istore_n 0, 1) := dk_59 (dk_at dksJ17_getChars_1 19 rfl rfl)
theorem dJ17_getChars_43 : decode cJ17_getChars 43 = .ok (.aload_n 2, 1) := dk_44 (dk_at dksJ17_getChars_1 20 rfl rfl)
theorem dJ17_getChars_44 : decode cJ17_getChars 44 = .ok (.iinc 5 (-1), 3) := dk_132 5 255 (dk_at dksJ17_getChars_1 21 rfl rfl)
theorem dJ17_getChars_47 : decode cJ17_getChars 47 = .ok (.iload 5, 2) := dk_21 5 (dk_at dksJ17_getChars_2 0 rfl rfl)
theorem dJ17_getChars_49 : decode cJ17_getChars 49 = .ok (.getstatic 83, 3) := dk_178 0 83 (dk_at dksJ17_getChars_2 2 rfl rfl)
theorem dJ17_getChars_52 : decode cJ17_getChars 52 = .ok (.iload 4, 2) := dk_21 4 (dk_at dksJ17_getChars_2 5 rfl rfl)
theorem dJ17_getChars_54 : decode cJ17_getChars 54 = .ok (.baload, 1) := dk_51 (dk_at dksJ17_getChars_2 7 rfl rfl)
theorem dJ17_getChars_55 : decode cJ17_getChars 55 = .ok (.bastore, 1) := dk_84 (dk_at dksJ17_getChars_2 8 rfl rfl)
theorem dJ17_getChars_56 : decode cJ17_getChars 56 = .ok (.aload_n 2, 1) := dk_44 (dk_at dksJ17_getChars_2 9 rfl rfl)
theorem dJ17_getChars_57 : decode cJ17_getChars 57 = .ok (.iinc 5 (-1), 3) := dk_132 5 255 (dk_at dksJ17_getChars_2 10 rfl rfl)
theorem dJ17_getChars_60 : decode cJ17_getChars 60 = .ok (.iload 5, 2) := dk_21 5 (dk_at dksJ17_getChars_2 13 rfl rfl)
theorem dJ17_getChars_62 : decode cJ17_getChars 62 = .ok (.getstatic 87, 3) := dk_178 0 87 (dk_at dksJ17_getChars_2 15 rfl rfl)
theorem dJ17_getChars_65 : decode cJ17_getChars 65 = .ok (.iload 4, 2) := dk_21 4 (dk_at dksJ17_getChars_2 18 rfl rfl)
theorem dJ17_getChars_67 : decode cJ17_getChars 67 = .ok (.baload, 1) := dk_51 (dk_at dksJ17_getChars_2 20 rfl rfl)
theorem dJ17_getChars_68 : decode cJ17_getChars 68 = .ok (.bastore, 1) := dk_84 (dk_at dksJ17_getChars_2 21 rfl rfl)
theorem dJ17_getChars_69 : decode cJ17_getChars 69 = .ok (.goto (-47), 3) := dk_167 255 209 (dk_at dksJ17_getChars_3 0 rfl rfl)
theorem dJ17_getChars_72 : decode cJ17_getChars 72 = .ok (.aload_n 2, 1) := dk_44 (dk_at dksJ17_getChars_3 3 rfl rfl)
theorem dJ17_getChars_73 : decode cJ17_getChars 73 = .ok (.iinc 5 (-1), 3) := dk_132 5 255 (dk_at dksJ17_getChars_3 4 rfl rfl)
theorem dJ17_getChars_76 : decode cJ17_getChars 76 = .ok (.iload 5, 2) := dk_21 5 (dk_at dksJ17_getChars_3 7 rfl rfl)
theorem dJ17_getChars_78 : decode cJ17_getChars 78 = .ok (.getstatic 83, 3) := dk_178 0 83 (dk_at dksJ17_getChars_3 9 rfl rfl)
theorem dJ17_getChars_81 : decode cJ17_getChars 81 = .ok (.iload_n 0, 1) := dk_26 (dk_at dksJ17_getChars_3 12 rfl rfl)
theorem dJ17_getChars_82 : decode cJ17_getChars 82 = .ok (.ineg, 1) := dk_116 (dk_at dksJ17_getChars_3 13 rfl rfl)
theorem dJ17_getChars_83 : decode cJ17_getChars 83 = .ok (.baload, 1) := dk_51 (dk_at dksJ17_getChars_3 14 rfl rfl)
theorem dJ17_getChars_84 : decode cJ17_getChars 84 = .ok (.bastore, 1) := dk_84 (dk_at dksJ17_getChars_3 15 rfl rfl)
theorem dJ17_getChars_85 : decode cJ17_getChars 85 = .ok (.iload_n 0, 1) := dk_26 (dk_at dksJ17_getChars_3 16 rfl rfl)
theorem dJ17_getChars_86 : decode cJ17_getChars 86 = .ok (.bipush (-9), 2) := dk_16 247 (dk_at dksJ17_getChars_3 17 rfl rfl)
theorem dJ17_getChars_88 : decode cJ17_getChars 88 = .ok (.if_icmp .ge 16, 3) := dk_162 0 16 (dk_at dksJ17_getChars_3 19 rfl rfl)
theorem dJ17_getChars_91 : decode cJ17_getChars 91 = .ok (.aload_n 2, 1) := dk_44 (dk_at dksJ17_getChars_3 22 rfl rfl)
theorem dJ17_getChars_92 : decode cJ17_getChars 92 = .ok (.iinc 5 (-1), 3) := dk_132 5 255 (dk_at dksJ17_getChars_4 0 rfl rfl)
theorem dJ17_getChars_95 : decode cJ17_getChars 95 = .ok (.iload 5, 2) := dk_21 5 (dk_at dksJ17_getChars_4 3 rfl rfl)
theorem dJ17_getChars_97 : decode cJ17_getChars 97 = .ok (.getstatic 87, 3) := dk_178 0 87 (dk_at dksJ17_getChars_4 5 rfl rfl)
theorem dJ17_getChars_100 : decode cJ17_getChars 100 = .ok (.iload_n 0, 1) := dk_26 (dk_at dksJ17_getChars_4 8 rfl rfl)
theorem dJ17_getChars_101 : decode cJ17_getChars 101 = .ok (.ineg, 1) := dk_116 (dk_at dksJ17_getChars_4 9 rfl rfl)
theorem dJ17_getChars_102 : decode cJ17_getChars 102 = .ok (.baload, 1) := dk_51 (dk_at dksJ17_getChars_4 10 rfl rfl)
theorem dJ17_getChars_103 : decode cJ17_getChars 103 = .ok (.bastore, 1) := dk_84 (dk_at dksJ17_getChars_4 11 rfl rfl)
theorem dJ17_getChars_104 : decode cJ17_getChars 104 = .ok (.iload 6, 2) := dk_21 6 (dk_at dksJ17_getChars_4 12 rfl rfl)
theorem dJ17_getChars_106 : decode cJ17_getChars 106 = .ok (.ifCond .eq 12, 3) := dk_153 0 12 (dk_at dksJ17_getChars_4 14 rfl rfl)
theorem dJ17_getChars_109 : decode cJ17_getChars 109 = .ok (.aload_n 2, 1) := dk_44 (dk_at dksJ17_getChars_4 17 rfl rfl)
theorem dJ17_getChars_110 : decode cJ17_getChars 110 = .ok (.iinc 5 (-1), 3) := dk_132 5 255 (dk_at dksJ17_getChars_4 18 rfl rfl)
theorem dJ17_getChars_113 : decode cJ17_getChars 113 = .ok (.iload 5, 2) := dk_21 5 (dk_at dksJ17_getChars_4 21 rfl rfl)
theorem dJ17_getChars_115 : decode cJ17_getChars 115 = .ok (.bipush 45, 2) := dk_16 45 (dk_at dksJ17_getChars_5 0 rfl rfl)
theorem dJ17_getChars_117 : decode cJ17_getChars 117 = .ok (.bastore, 1) := dk_84 (dk_at dksJ17_getChars_5 2 rfl rfl)
theorem dJ17_getChars_118 : decode cJ17_getChars 118 = .ok (.iload 5, 2) := dk_21 5 (dk_at dksJ17_getChars_5 3 rfl rfl)
theorem dJ17_getChars_120 : decode cJ17_getChars 120 = .ok (.ireturn, 1) := dk_172 (dk_at dksJ17_getChars_5 5 rfl rfl)
abbrev cJ17_numberOfTrailingZeros : ByteArray := prog_26_method_48_code
def yJ17_numberOfTrailingZeros : MethodName := ⟨RJ17, "numberOfTrailingZeros", "(I)I"⟩
def dkwJ17_numberOfTrailingZeros_3 : List UInt8 := [5, 124, 59, 27, 26, 4, 124, 96, 172]
abbrev dktJ17_numberOfTrailingZeros_3 : List UInt8 := dkwJ17_numberOfTrailingZeros_3 ++ []
def dkwJ17_numberOfTrailingZeros_2 : List UInt8 := [124, 59, 26, 16, 16, 164, 0, 10, 132, 1, 4, 26, 7, 124, 59, 26, 7, 164, 0, 10, 132, 1, 2, 26]
abbrev dktJ17_numberOfTrailingZeros_2 : List UInt8 := dkwJ17_numberOfTrailingZeros_2 ++ dktJ17_numberOfTrailingZeros_3
def dkwJ17_numberOfTrailingZeros_1 : List UInt8 := [164, 0, 11, 132, 1, 16, 26, 16, 16, 124, 59, 26, 17, 1, 0, 164, 0, 11, 132, 1, 8, 26, 16, 8]
abbrev dktJ17_numberOfTrailingZeros_1 : List UInt8 := dkwJ17_numberOfTrailingZeros_1 ++ dktJ17_numberOfTrailingZeros_2
def dkwJ17_numberOfTrailingZeros_0 : List UInt8 := [26, 2, 130, 26, 4, 100, 126, 59, 26, 157, 0, 8, 26, 16, 32, 126, 172, 4, 60, 26, 19, 1, 8]
abbrev dktJ17_numberOfTrailingZeros_0 : List UInt8 := dkwJ17_numberOfTrailingZeros_0 ++ dktJ17_numberOfTrailingZeros_1
theorem dksJ17_numberOfTrailingZeros_0 : cJ17_numberOfTrailingZeros.data.toList.drop 0 = dktJ17_numberOfTrailingZeros_0 := by decide +kernel
theorem dksJ17_numberOfTrailingZeros_1 : cJ17_numberOfTrailingZeros.data.toList.drop 23 = dktJ17_numberOfTrailingZeros_1 := dk_seg dksJ17_numberOfTrailingZeros_0 23 rfl rfl
theorem dksJ17_numberOfTrailingZeros_2 : cJ17_numberOfTrailingZeros.data.toList.drop 47 = dktJ17_numberOfTrailingZeros_2 := dk_seg dksJ17_numberOfTrailingZeros_1 24 rfl rfl
theorem dksJ17_numberOfTrailingZeros_3 : cJ17_numberOfTrailingZeros.data.toList.drop 71 = dktJ17_numberOfTrailingZeros_3 := dk_seg dksJ17_numberOfTrailingZeros_2 24 rfl rfl
theorem dJ17_numberOfTrailingZeros_0 : decode cJ17_numberOfTrailingZeros 0 = .ok (.iload_n 0, 1) := dk_26 (dk_at dksJ17_numberOfTrailingZeros_0 0 rfl rfl)
theorem dJ17_numberOfTrailingZeros_1 : decode cJ17_numberOfTrailingZeros 1 = .ok (.iconst (-1), 1) := dk_2 (dk_at dksJ17_numberOfTrailingZeros_0 1 rfl rfl)
theorem dJ17_numberOfTrailingZeros_2 : decode cJ17_numberOfTrailingZeros 2 = .ok (.ixor, 1) := dk_130 (dk_at dksJ17_numberOfTrailingZeros_0 2 rfl rfl)
theorem dJ17_numberOfTrailingZeros_3 : decode cJ17_numberOfTrailingZeros 3 = .ok (.iload_n 0, 1) := dk_26 (dk_at dksJ17_numberOfTrailingZeros_0 3 rfl rfl)
theorem dJ17_numberOfTrailingZeros_4 : decode cJ17_numberOfTrailingZeros 4 = .ok (.iconst 1, 1) := dk_4 (dk_at dksJ17_numberOfTrailingZeros_0 4 rfl rfl)
theorem dJ17_numberOfTrailingZeros_5 : decode cJ17_numberOfTrailingZeros 5 = .ok (.isub, 1) := dk_100 (dk_at dksJ17_numberOfTrailingZeros_0 5 rfl rfl)
theorem dJ17_numberOfTrailingZeros_6 : decode cJ17_numberOfTrailingZeros 6 = .ok (.iand, 1) := dk_126 (dk_at dksJ17_numberOfTrailingZeros_0 6 rfl rfl)
theorem dJ17_numberOfTrailingZeros_7 : decode cJ17_numberOfTrailingZeros 7 = .ok (.istore_n 0, 1) := dk_59 (dk_at dksJ17_numberOfTrailingZeros_0 7 rfl rfl)
theorem dJ17_numberOfTrailingZeros_8 : decode cJ17_numberOfTrailingZeros 8 = .ok (.iload_n 0, 1) := dk_26 (dk_at dksJ17_numberOfTrailingZeros_0 8 rfl rfl)
theorem dJ17_numberOfTrailingZeros_9 : decode cJ17_numberOfTrailingZeros 9 = .ok (.ifCond .gt 8, 3) := dk_157 0 8 (dk_at dksJ17_numberOfTrailingZeros_0 9 rfl rfl)
theorem dJ17_numberOfTrailingZeros_12 : decode cJ17_numberOfTrailingZeros 12 = .ok (.iload_n 0, 1) := dk_26 (dk_at dksJ17_numberOfTrailingZeros_0 12 rfl rfl)
theorem dJ17_numberOfTrailingZeros_13 : decode cJ17_numberOfTrailingZeros 13 = .ok (.bipush 32, 2) := dk_16 32 (dk_at dksJ17_numberOfTrailingZeros_0 13 rfl rfl)
theorem dJ17_numberOfTrailingZeros_15 : decode cJ17_numberOfTrailingZeros 15 = .ok (.iand, 1) := dk_126 (dk_at dksJ17_numberOfTrailingZeros_0 15 rfl rfl)
theorem dJ17_numberOfTrailingZeros_16 : decode cJ17_numberOfTrailingZeros 16 = .ok (.ireturn, 1) := dk_172 (dk_at dksJ17_numberOfTrailingZeros_0 16 rfl rfl)
theorem dJ17_numberOfTrailingZeros_17 : decode cJ17_numberOfTrailingZeros 17 = .ok (.iconst 1, 1) := dk_4 (dk_at dksJ17_numberOfTrailingZeros_0 17 rfl rfl)
theorem dJ17_numberOfTrailingZeros_18 : decode cJ17_numberOfTrailingZeros 18 = .ok (.istore_n 1, 1) := dk_60 (dk_at dksJ17_numberOfTrailingZeros_0 18 rfl rfl)
theorem dJ17_numberOfTrailingZeros_19 : decode cJ17_numberOfTrailingZeros 19 = .ok (.iload_n 0, 1) := dk_26 (dk_at dksJ17_numberOfTrailingZeros_0 19 rfl rfl)
theorem dJ17_numberOfTrailingZeros_20 : decode cJ17_numberOfTrailingZeros 20 = .ok (.ldc_w 264, 3) := dk_19 1 8 (dk_at dksJ17_numberOfTrailingZeros_0 20 rfl rfl)
theorem dJ17_numberOfTrailingZeros_23 : decode cJ17_numberOfTrailingZeros 23 = .ok (.if_icmp .le 11, 3) := dk_164 0 11 (dk_at dksJ17_numberOfTrailingZeros_1 0 rfl rfl)
theorem dJ17_numberOfTrailingZeros_26 : decode cJ17_numberOfTrailingZeros 26 = .ok (.iinc 1 16, 3) := dk_132 1 16 (dk_at dksJ17_numberOfTrailingZeros_1 3 rfl rfl)
theorem dJ17_numberOfTrailingZeros_29 : decode cJ17_numberOfTrailingZeros 29 = .ok (.iload_n 0, 1) := dk_26 (dk_at dksJ17_numberOfTrailingZeros_1 6 rfl rfl)
theorem dJ17_numberOfTrailingZeros_30 : decode cJ17_numberOfTrailingZeros 30 = .ok (.bipush 16, 2) := dk_16 16 (dk_at dksJ17_numberOfTrailingZeros_1 7 rfl rfl)
theorem dJ17_numberOfTrailingZeros_32 : decode cJ17_numberOfTrailingZeros 32 = .ok (.iushr, 1) := dk_124 (dk_at dksJ17_numberOfTrailingZeros_1 9 rfl rfl)
theorem dJ17_numberOfTrailingZeros_33 : decode cJ17_numberOfTrailingZeros 33 = .ok (.istore_n 0, 1) := dk_59 (dk_at dksJ17_numberOfTrailingZeros_1 10 rfl rfl)
theorem dJ17_numberOfTrailingZeros_34 : decode cJ17_numberOfTrailingZeros 34 = .ok (.iload_n 0, 1) := dk_26 (dk_at dksJ17_numberOfTrailingZeros_1 11 rfl rfl)
theorem dJ17_numberOfTrailingZeros_35 : decode cJ17_numberOfTrailingZeros 35 = .ok (.sipush 256, 3) := dk_17 1 0 (dk_at dksJ17_numberOfTrailingZeros_1 12 rfl rfl)
theorem dJ17_numberOfTrailingZeros_38 : decode cJ17_numberOfTrailingZeros 38 = .ok (.if_icmp .le 11, 3) := dk_164 0 11 (dk_at dksJ17_numberOfTrailingZeros_1 15 rfl rfl)
theorem dJ17_numberOfTrailingZeros_41 : decode cJ17_numberOfTrailingZeros 41 = .ok (.iinc 1 8, 3) := dk_132 1 8 (dk_at dksJ17_numberOfTrailingZeros_1 18 rfl rfl)
theorem dJ17_numberOfTrailingZeros_44 : decode cJ17_numberOfTrailingZeros 44 = .ok (.iload_n 0, 1) := dk_26 (dk_at dksJ17_numberOfTrailingZeros_1 21 rfl rfl)
theorem dJ17_numberOfTrailingZeros_45 : decode cJ17_numberOfTrailingZeros 45 = .ok (.bipush 8, 2) := dk_16 8 (dk_at dksJ17_numberOfTrailingZeros_1 22 rfl rfl)
theorem dJ17_numberOfTrailingZeros_47 : decode cJ17_numberOfTrailingZeros 47 = .ok (.iushr, 1) := dk_124 (dk_at dksJ17_numberOfTrailingZeros_2 0 rfl rfl)
theorem dJ17_numberOfTrailingZeros_48 : decode cJ17_numberOfTrailingZeros 48 = .ok (.istore_n 0, 1) := dk_59 (dk_at dksJ17_numberOfTrailingZeros_2 1 rfl rfl)
theorem dJ17_numberOfTrailingZeros_49 : decode cJ17_numberOfTrailingZeros 49 = .ok (.iload_n 0, 1) := dk_26 (dk_at dksJ17_numberOfTrailingZeros_2 2 rfl rfl)
theorem dJ17_numberOfTrailingZeros_50 : decode cJ17_numberOfTrailingZeros 50 = .ok (.bipush 16, 2) := dk_16 16 (dk_at dksJ17_numberOfTrailingZeros_2 3 rfl rfl)
theorem dJ17_numberOfTrailingZeros_52 : decode cJ17_numberOfTrailingZeros 52 = .ok (.if_icmp .le 10, 3) := dk_164 0 10 (dk_at dksJ17_numberOfTrailingZeros_2 5 rfl rfl)
theorem dJ17_numberOfTrailingZeros_55 : decode cJ17_numberOfTrailingZeros 55 = .ok (.iinc 1 4, 3) := dk_132 1 4 (dk_at dksJ17_numberOfTrailingZeros_2 8 rfl rfl)
theorem dJ17_numberOfTrailingZeros_58 : decode cJ17_numberOfTrailingZeros 58 = .ok (.iload_n 0, 1) := dk_26 (dk_at dksJ17_numberOfTrailingZeros_2 11 rfl rfl)
theorem dJ17_numberOfTrailingZeros_59 : decode cJ17_numberOfTrailingZeros 59 = .ok (.iconst 4, 1) := dk_7 (dk_at dksJ17_numberOfTrailingZeros_2 12 rfl rfl)
theorem dJ17_numberOfTrailingZeros_60 : decode cJ17_numberOfTrailingZeros 60 = .ok (.iushr, 1) := dk_124 (dk_at dksJ17_numberOfTrailingZeros_2 13 rfl rfl)
theorem dJ17_numberOfTrailingZeros_61 : decode cJ17_numberOfTrailingZeros 61 = .ok (.istore_n 0, 1) := dk_59 (dk_at dksJ17_numberOfTrailingZeros_2 14 rfl rfl)
theorem dJ17_numberOfTrailingZeros_62 : decode cJ17_numberOfTrailingZeros 62 = .ok (.iload_n 0, 1) := dk_26 (dk_at dksJ17_numberOfTrailingZeros_2 15 rfl rfl)
theorem dJ17_numberOfTrailingZeros_63 : decode cJ17_numberOfTrailingZeros 63 = .ok (.iconst 4, 1) := dk_7 (dk_at dksJ17_numberOfTrailingZeros_2 16 rfl rfl)
theorem dJ17_numberOfTrailingZeros_64 : decode cJ17_numberOfTrailingZeros 64 = .ok (.if_icmp .le 10, 3) := dk_164 0 10 (dk_at dksJ17_numberOfTrailingZeros_2 17 rfl rfl)
theorem dJ17_numberOfTrailingZeros_67 : decode cJ17_numberOfTrailingZeros 67 = .ok (.iinc 1 2, 3) := dk_132 1 2 (dk_at dksJ17_numberOfTrailingZeros_2 20 rfl rfl)
theorem dJ17_numberOfTrailingZeros_70 : decode cJ17_numberOfTrailingZeros 70 = .ok (.iload_n 0, 1) := dk_26 (dk_at dksJ17_numberOfTrailingZeros_2 23 rfl rfl)
theorem dJ17_numberOfTrailingZeros_71 : decode cJ17_numberOfTrailingZeros 71 = .ok (.iconst 2, 1) := dk_5 (dk_at dksJ17_numberOfTrailingZeros_3 0 rfl rfl)
theorem dJ17_numberOfTrailingZeros_72 : decode cJ17_numberOfTrailingZeros 72 = .ok (.iushr, 1) := dk_124 (dk_at dksJ17_numberOfTrailingZeros_3 1 rfl rfl)
theorem dJ17_numberOfTrailingZeros_73 : decode cJ17_numberOfTrailingZeros 73 = .ok (.istore_n 0, 1) := dk_59 (dk_at dksJ17_numberOfTrailingZeros_3 2 rfl rfl)
theorem dJ17_numberOfTrailingZeros_74 : decode cJ17_numberOfTrailingZeros 74 = .ok (.iload_n 1, 1) := dk_27 (dk_at dksJ17_numberOfTrailingZeros_3 3 rfl rfl)
theorem dJ17_numberOfTrailingZeros_75 : decode cJ17_numberOfTrailingZeros 75 = .ok (.iload_n 0, 1) := dk_26 (dk_at dksJ17_numberOfTrailingZeros_3 4 rfl rfl)
theorem dJ17_numberOfTrailingZeros_76 : decode cJ17_numberOfTrailingZeros 76 = .ok (.iconst 1, 1) := dk_4 (dk_at dksJ17_numberOfTrailingZeros_3 5 rfl rfl)
theorem dJ17_numberOfTrailingZeros_77 : decode cJ17_numberOfTrailingZeros 77 = .ok (.iushr, 1) := dk_124 (dk_at dksJ17_numberOfTrailingZeros_3 6 rfl rfl)
theorem dJ17_numberOfTrailingZeros_78 : decode cJ17_numberOfTrailingZeros 78 = .ok (.iadd, 1) := dk_96 (dk_at dksJ17_numberOfTrailingZeros_3 7 rfl rfl)
theorem dJ17_numberOfTrailingZeros_79 : decode cJ17_numberOfTrailingZeros 79 = .ok (.ireturn, 1) := dk_172 (dk_at dksJ17_numberOfTrailingZeros_3 8 rfl rfl)
abbrev cJ17_valueOf : ByteArray := prog_26_method_22_code
def yJ17_valueOf : MethodName := ⟨RJ17, "valueOf", "(I)Ljava/lang/Integer;"⟩
def dkwJ17_valueOf_1 : List UInt8 := [187, 0, 1, 89, 26, 183, 0, 199, 176]
abbrev dktJ17_valueOf_1 : List UInt8 := dkwJ17_valueOf_1 ++ []
def dkwJ17_valueOf_0 : List UInt8 := [26, 16, 128, 161, 0, 20, 26, 178, 0, 191, 163, 0, 13, 178, 0, 195, 26, 17, 0, 128, 96, 50, 176]
abbrev dktJ17_valueOf_0 : List UInt8 := dkwJ17_valueOf_0 ++ dktJ17_valueOf_1
theorem dksJ17_valueOf_0 : cJ17_valueOf.data.toList.drop 0 = dktJ17_valueOf_0 := by decide +kernel
theorem dksJ17_valueOf_1 : cJ17_valueOf.data.toList.drop 23 = dktJ17_valueOf_1 := dk_seg dksJ17_valueOf_0 23 rfl rfl
theorem dJ17_valueOf_0 : decode cJ17_valueOf 0 = .ok (.iload_n 0, 1) := dk_26 (dk_at dksJ17_valueOf_0 0 rfl rfl)
theorem dJ17_valueOf_1 : decode cJ17_valueOf 1 = .ok (.bipush (-128), 2) := dk_16 128 (dk_at dksJ17_valueOf_0 1 rfl rfl)
theorem dJ17_valueOf_3 : decode cJ17_valueOf 3 = .ok (.if_icmp .lt 20, 3) := dk_161 0 20 (dk_at dksJ17_valueOf_0 3 rfl rfl)
theorem dJ17_valueOf_6 : decode cJ17_valueOf 6 = .ok (.iload_n 0, 1) := dk_26 (dk_at dksJ17_valueOf_0 6 rfl rfl)
theorem dJ17_valueOf_7 : decode cJ17_valueOf 7 = .ok (.getstatic 191, 3) := dk_178 0 191 (dk_at dksJ17_valueOf_0 7 rfl rfl)
theorem dJ17_valueOf_10 : decode cJ17_valueOf 10 = .ok (.if_icmp .gt 13, 3) := dk_163 0 13 (dk_at dksJ17_valueOf_0 10 rfl rfl)
theorem dJ17_valueOf_13 : decode cJ17_valueOf 13 = .ok (.getstatic 195, 3) := dk_178 0 195 (dk_at dksJ17_valueOf_0 13 rfl rfl)
theorem dJ17_valueOf_16 : decode cJ17_valueOf 16 = .ok (.iload_n 0, 1) := dk_26 (dk_at dksJ17_valueOf_0 16 rfl rfl)
theorem dJ17_valueOf_17 : decode cJ17_valueOf 17 = .ok (.sipush 128, 3) := dk_17 0 128 (dk_at dksJ17_valueOf_0 17 rfl rfl)
theorem dJ17_valueOf_20 : decode cJ17_valueOf 20 = .ok (.iadd, 1) := dk_96 (dk_at dksJ17_valueOf_0 20 rfl rfl)
theorem dJ17_valueOf_21 : decode cJ17_valueOf 21 = .ok (.aaload, 1) := dk_50 (dk_at dksJ17_valueOf_0 21 rfl rfl)
theorem dJ17_valueOf_22 : decode cJ17_valueOf 22 = .ok (.areturn, 1) := dk_176 (dk_at dksJ17_valueOf_0 22 rfl rfl)
theorem dJ17_valueOf_23 : decode cJ17_valueOf 23 = .ok (.new 1, 3) := dk_187 0 1 (dk_at dksJ17_valueOf_1 0 rfl rfl)
theorem dJ17_valueOf_26 : decode cJ17_valueOf 26 = .ok (.dup, 1) := dk_89 (dk_at dksJ17_valueOf_1 3 rfl rfl)
theorem dJ17_valueOf_27 : decode cJ17_valueOf 27 = .ok (.iload_n 0, 1) := dk_26 (dk_at dksJ17_valueOf_1 4 rfl rfl)
theorem dJ17_valueOf_28 : decode cJ17_valueOf 28 = .ok (.invokespecial 199, 3) := dk_183 0 199 (dk_at dksJ17_valueOf_1 5 rfl rfl)
theorem dJ17_valueOf_31 : decode cJ17_valueOf 31 = .ok (.areturn, 1) := dk_176 (dk_at dksJ17_valueOf_1 8 rfl rfl)
abbrev cJ17_init : ByteArray := prog_26_method_23_code
def yJ17_init : MethodName := ⟨RJ17, "<init>", "(I)V"⟩
def dkwJ17_init_0 : List UInt8 := [42, 183, 0, 202, 42, 27, 181, 0, 205, 177]
abbrev dktJ17_init_0 : List UInt8 := dkwJ17_init_0 ++ []
theorem dksJ17_init_0 : cJ17_init.data.toList.drop 0 = dktJ17_init_0 := by decide +kernel
theorem dJ17_init_0 : decode cJ17_init 0 = .ok (.aload_n 0, 1) := dk_42 (dk_at dksJ17_init_0 0 rfl rfl)
theorem dJ17_init_1 : decode cJ17_init 1 = .ok (.invokespecial 202, 3) := dk_183 0 202 (dk_at dksJ17_init_0 1 rfl rfl)
theorem dJ17_init_4 : decode cJ17_init 4 = .ok (.aload_n 0, 1) := dk_42 (dk_at dksJ17_init_0 4 rfl rfl)
theorem dJ17_init_5 : decode cJ17_init 5 = .ok (.iload_n 1, 1) := dk_27 (dk_at dksJ17_init_0 5 rfl rfl)
theorem dJ17_init_6 : decode cJ17_init 6 = .ok (.putfield 205, 3) := dk_181 0 205 (dk_at dksJ17_init_0 6 rfl rfl)
theorem dJ17_init_9 : decode cJ17_init 9 = .ok (.return_, 1) := dk_177 (dk_at dksJ17_init_0 9 rfl rfl)
abbrev cJ17_intValue : ByteArray := prog_26_method_27_code
def yJ17_intValue : MethodName := ⟨RJ17, "intValue", "()I"⟩
theorem dJ17_intValue_0 : decode cJ17_intValue 0 = .ok (.aload_n 0, 1) := by decide +kernel
theorem dJ17_intValue_1 : decode cJ17_intValue 1 = .ok (.getfield 205, 3) := by decide +kernel
theorem dJ17_intValue_4 : decode cJ17_intValue 4 = .ok (.ireturn, 1) := by decide +kernel
theorem q91 : (Jvm.Cond.initialized "java/lang/Integer") ∈ lw_all := lw_g (lw_at lw_m1 21 rfl) rfl
theorem q359 : (Jvm.Cond.static ({ cls := "java/lang/Integer", name := "stringSize", desc := "(I)I" } : Jvm.MethodName)) ∈ lw_all := lw_g (lw_at lw_m2 49 rfl) rfl
theorem q360 : (Jvm.Cond.code ({ cls := "java/lang/Integer", name := "stringSize", desc := "(I)I" } : Jvm.MethodName) prog_26_method_13_code (4 : Nat) (Option.some Jvm.ClassFile.FieldType.int)) ∈ lw_all := lw_g (lw_at lw_m2 50 rfl) rfl
theorem q362 : (Jvm.Cond.static ({ cls := "java/lang/Integer", name := "getChars", desc := "(II[B)I" } : Jvm.MethodName)) ∈ lw_all := lw_g (lw_at lw_m2 52 rfl) rfl
theorem q363 : (Jvm.Cond.code ({ cls := "java/lang/Integer", name := "getChars", desc := "(II[B)I" } : Jvm.MethodName) prog_26_method_12_code (7 : Nat) (Option.some Jvm.ClassFile.FieldType.int)) ∈ lw_all := lw_g (lw_at lw_m2 53 rfl) rfl
theorem q364 : (Jvm.Cond.fieldLink "java/lang/Integer" (83 : Nat) "java/lang/Integer" "DigitOnes" "[B") ∈ lw_all := lw_g (lw_at lw_m2 54 rfl) rfl
theorem q365 : (Jvm.Cond.laysStatic "java/lang/Integer" "DigitOnes" "[B") ∈ lw_tbl := lw_at lw_m2 55 rfl
theorem q366 : (Jvm.Cond.fieldLink "java/lang/Integer" (87 : Nat) "java/lang/Integer" "DigitTens" "[B") ∈ lw_all := lw_g (lw_at lw_m2 56 rfl) rfl
theorem q367 : (Jvm.Cond.laysStatic "java/lang/Integer" "DigitTens" "[B") ∈ lw_tbl := lw_at lw_m2 57 rfl
theorem q914 : (Jvm.Cond.selects "java/lang/Integer" ({ cls := "java/lang/Object", name := "getClass", desc := "()Ljava/lang/Class;" } : Jvm.MethodName) ({ cls := "java/lang/Object", name := "getClass", desc := "()Ljava/lang/Class;" } : Jvm.MethodName)) ∈ lw_all := lw_g (lw_at lw_m4 124 rfl) rfl
theorem q1071 : (Jvm.Cond.static ({ cls := "java/lang/Integer", name := "numberOfTrailingZeros", desc := "(I)I" } : Jvm.MethodName)) ∈ lw_all := lw_g (lw_at lw_m5 41 rfl) rfl
theorem q1072 : (Jvm.Cond.code ({ cls := "java/lang/Integer", name := "numberOfTrailingZeros", desc := "(I)I" } : Jvm.MethodName) prog_26_method_48_code (2 : Nat) (Option.some Jvm.ClassFile.FieldType.int)) ∈ lw_all := lw_g (lw_at lw_m5 42 rfl) rfl
theorem q1073 : (Jvm.Cond.constant "java/lang/Integer" (264 : Nat) (65536 : Int32)) ∈ lw_all := lw_g (lw_at lw_m5 43 rfl) rfl
theorem q1242 : (Jvm.Cond.static ({ cls := "java/lang/Integer", name := "valueOf", desc := "(I)Ljava/lang/Integer;" } : Jvm.MethodName)) ∈ lw_all := lw_g (lw_at lw_m5 212 rfl) rfl
theorem q1243 : (Jvm.Cond.code ({ cls := "java/lang/Integer", name := "valueOf", desc := "(I)Ljava/lang/Integer;" } : Jvm.MethodName) prog_26_method_22_code (1 : Nat) (Option.some (Jvm.ClassFile.FieldType.object "java/lang/Integer"))) ∈ lw_all := lw_g (lw_at lw_m5 213 rfl) rfl
theorem q1244 : (Jvm.Cond.fieldLink "java/lang/Integer" (191 : Nat) "java/lang/Integer$IntegerCache" "high" "I") ∈ lw_all := lw_g (lw_at lw_m5 214 rfl) rfl
theorem q1246 : (Jvm.Cond.fieldLink "java/lang/Integer" (195 : Nat) "java/lang/Integer$IntegerCache" "cache" "[Ljava/lang/Integer;") ∈ lw_all := lw_g (lw_at lw_m5 216 rfl) rfl
theorem q1248 : (Jvm.Cond.classLink "java/lang/Integer" (1 : Nat) "java/lang/Integer") ∈ lw_all := lw_g (lw_at lw_m5 218 rfl) rfl
theorem q1249 : (Jvm.Cond.instantiable "java/lang/Integer" (1 : Nat)) ∈ lw_all := lw_g (lw_at lw_m5 219 rfl) rfl
theorem q1250 : (Jvm.Cond.methodLink "java/lang/Integer" (199 : Nat) ({ cls := "java/lang/Integer", name := "<init>", desc := "(I)V" } : Jvm.MethodName)) ∈ lw_all := lw_g (lw_at lw_m5 220 rfl) rfl
theorem q1251 : (Jvm.Cond.instanceMethod ({ cls := "java/lang/Integer", name := "<init>", desc := "(I)V" } : Jvm.MethodName)) ∈ lw_all := lw_g (lw_at lw_m5 221 rfl) rfl
theorem q1252 : (Jvm.Cond.code ({ cls := "java/lang/Integer", name := "<init>", desc := "(I)V" } : Jvm.MethodName) prog_26_method_23_code (2 : Nat) (Option.none : Option Jvm.ClassFile.FieldType)) ∈ lw_all := lw_g (lw_at lw_m5 222 rfl) rfl
theorem q1253 : (Jvm.Cond.methodLink "java/lang/Integer" (202 : Nat) ({ cls := "java/lang/Number", name := "<init>", desc := "()V" } : Jvm.MethodName)) ∈ lw_all := lw_g (lw_at lw_m5 223 rfl) rfl
theorem q1257 : (Jvm.Cond.fieldLink "java/lang/Integer" (205 : Nat) "java/lang/Integer" "value" "I") ∈ lw_all := lw_g (lw_at lw_m5 227 rfl) rfl
theorem q1258 : (Jvm.Cond.laysFinal "java/lang/Integer" "java/lang/Integer" "value" "I") ∈ lw_all := lw_g (lw_at lw_m5 228 rfl) rfl
theorem q1259 : (Jvm.Cond.soleField "java/lang/Integer" "value") ∈ lw_all := lw_g (lw_at lw_m5 229 rfl) rfl
theorem q1260 : (Jvm.Cond.superclass "java/lang/Integer" "java/lang/Number") ∈ lw_all := lw_g (lw_at lw_m5 230 rfl) rfl
theorem q1334 : (Jvm.Cond.instanceMethod ({ cls := "java/lang/Integer", name := "intValue", desc := "()I" } : Jvm.MethodName)) ∈ lw_all := lw_g (lw_at lw_m6 64 rfl) rfl
theorem q1335 : (Jvm.Cond.selects "java/lang/Integer" ({ cls := "java/lang/Integer", name := "intValue", desc := "()I" } : Jvm.MethodName) ({ cls := "java/lang/Integer", name := "intValue", desc := "()I" } : Jvm.MethodName)) ∈ lw_all := lw_g (lw_at lw_m6 65 rfl) rfl
theorem q1336 : (Jvm.Cond.code ({ cls := "java/lang/Integer", name := "intValue", desc := "()I" } : Jvm.MethodName) prog_26_method_27_code (1 : Nat) (Option.some Jvm.ClassFile.FieldType.int)) ∈ lw_all := lw_g (lw_at lw_m6 66 rfl) rfl
theorem q3066 : (Jvm.Cond.castable "java/lang/Integer" "java/lang/Object") ∈ lw_tbl := lw_at lw_m13 116 rfl
theorem in_J17 : ∀ w ∈ wsJ170, w ∈ lw_all := lw_in wsJ170 [1258] (by decide +kernel) (by decide +kernel)
/-! java/util/BitSet -/
set_option maxRecDepth 100000
def RJ18 : String := "java/util/BitSet"
def TJ18 : u_T := fun k => match k with
  | 0 => ("java/util/BitSet", "words", "[J", false)
  | 1 => ("java/util/BitSet", "wordsInUse", "I", false)
  | _ => ("java/util/BitSet", "sizeIsSticky", "Z", false)
def tyJ18 : Nat → FieldType := fun k => match k with
  | 0 => .array .long
  | 1 => .int
  | _ => .boolean
abbrev wsJ180 : List Cond := u_ws RJ18 TJ18 3
theorem nmJ18 : ∀ a, a < 3 → ∀ b, b < 3 → a ≠ b → (TJ18 a).2.1 ≠ (TJ18 b).2.1 := by decide +kernel
theorem tyJ18_ok : ∀ k, k < 3 → parseFieldDescriptor (TJ18 k).2.2.1 = some (tyJ18 k) := by decide +kernel
abbrev cJ18_init : ByteArray := prog_51_method_4_code
def yJ18_init : MethodName := ⟨RJ18, "<init>", "()V"⟩
def dkwJ18_init_1 : List UInt8 := [181, 0, 24, 177]
abbrev dktJ18_init_1 : List UInt8 := dkwJ18_init_1 ++ []
def dkwJ18_init_0 : List UInt8 := [42, 183, 0, 21, 42, 3, 181, 0, 7, 42, 3, 181, 0, 24, 42, 16, 64, 182, 0, 27, 42, 3]
abbrev dktJ18_init_0 : List UInt8 := dkwJ18_init_0 ++ dktJ18_init_1
theorem dksJ18_init_0 : cJ18_init.data.toList.drop 0 = dktJ18_init_0 := by decide +kernel
theorem dksJ18_init_1 : cJ18_init.data.toList.drop 22 = dktJ18_init_1 := dk_seg dksJ18_init_0 22 rfl rfl
theorem dJ18_init_0 : decode cJ18_init 0 = .ok (.aload_n 0, 1) := dk_42 (dk_at dksJ18_init_0 0 rfl rfl)
theorem dJ18_init_1 : decode cJ18_init 1 = .ok (.invokespecial 21, 3) := dk_183 0 21 (dk_at dksJ18_init_0 1 rfl rfl)
theorem dJ18_init_4 : decode cJ18_init 4 = .ok (.aload_n 0, 1) := dk_42 (dk_at dksJ18_init_0 4 rfl rfl)
theorem dJ18_init_5 : decode cJ18_init 5 = .ok (.iconst 0, 1) := dk_3 (dk_at dksJ18_init_0 5 rfl rfl)
theorem dJ18_init_6 : decode cJ18_init 6 = .ok (.putfield 7, 3) := dk_181 0 7 (dk_at dksJ18_init_0 6 rfl rfl)
theorem dJ18_init_9 : decode cJ18_init 9 = .ok (.aload_n 0, 1) := dk_42 (dk_at dksJ18_init_0 9 rfl rfl)
theorem dJ18_init_10 : decode cJ18_init 10 = .ok (.iconst 0, 1) := dk_3 (dk_at dksJ18_init_0 10 rfl rfl)
theorem dJ18_init_11 : decode cJ18_init 11 = .ok (.putfield 24, 3) := dk_181 0 24 (dk_at dksJ18_init_0 11 rfl rfl)
theorem dJ18_init_14 : decode cJ18_init 14 = .ok (.aload_n 0, 1) := dk_42 (dk_at dksJ18_init_0 14 rfl rfl)
theorem dJ18_init_15 : decode cJ18_init 15 = .ok (.bipush 64, 2) := dk_16 64 (dk_at dksJ18_init_0 15 rfl rfl)
theorem dJ18_init_17 : decode cJ18_init 17 = .ok (.invokevirtual 27, 3) := dk_182 0 27 (dk_at dksJ18_init_0 17 rfl rfl)
theorem dJ18_init_20 : decode cJ18_init 20 = .ok (.aload_n 0, 1) := dk_42 (dk_at dksJ18_init_0 20 rfl rfl)
theorem dJ18_init_21 : decode cJ18_init 21 = .ok (.iconst 0, 1) := dk_3 (dk_at dksJ18_init_0 21 rfl rfl)
theorem dJ18_init_22 : decode cJ18_init 22 = .ok (.putfield 24, 3) := dk_181 0 24 (dk_at dksJ18_init_1 0 rfl rfl)
theorem dJ18_init_25 : decode cJ18_init 25 = .ok (.return_, 1) := dk_177 (dk_at dksJ18_init_1 3 rfl rfl)
abbrev cJ18_initWords : ByteArray := prog_51_method_6_code
def yJ18_initWords : MethodName := ⟨RJ18, "initWords", "(I)V"⟩
def dkwJ18_initWords_0 : List UInt8 := [42, 27, 4, 100, 184, 0, 52, 4, 96, 188, 11, 181, 0, 11, 177]
abbrev dktJ18_initWords_0 : List UInt8 := dkwJ18_initWords_0 ++ []
theorem dksJ18_initWords_0 : cJ18_initWords.data.toList.drop 0 = dktJ18_initWords_0 := by decide +kernel
theorem dJ18_initWords_0 : decode cJ18_initWords 0 = .ok (.aload_n 0, 1) := dk_42 (dk_at dksJ18_initWords_0 0 rfl rfl)
theorem dJ18_initWords_1 : decode cJ18_initWords 1 = .ok (.iload_n 1, 1) := dk_27 (dk_at dksJ18_initWords_0 1 rfl rfl)
theorem dJ18_initWords_2 : decode cJ18_initWords 2 = .ok (.iconst 1, 1) := dk_4 (dk_at dksJ18_initWords_0 2 rfl rfl)
theorem dJ18_initWords_3 : decode cJ18_initWords 3 = .ok (.isub, 1) := dk_100 (dk_at dksJ18_initWords_0 3 rfl rfl)
theorem dJ18_initWords_4 : decode cJ18_initWords 4 = .ok (.invokestatic 52, 3) := dk_184 0 52 (dk_at dksJ18_initWords_0 4 rfl rfl)
theorem dJ18_initWords_7 : decode cJ18_initWords 7 = .ok (.iconst 1, 1) := dk_4 (dk_at dksJ18_initWords_0 7 rfl rfl)
theorem dJ18_initWords_8 : decode cJ18_initWords 8 = .ok (.iadd, 1) := dk_96 (dk_at dksJ18_initWords_0 8 rfl rfl)
theorem dJ18_initWords_9 : decode cJ18_initWords 9 = .ok (.newarray .long, 2) := dk_188_11 (dk_at dksJ18_initWords_0 9 rfl rfl)
theorem dJ18_initWords_11 : decode cJ18_initWords 11 = .ok (.putfield 11, 3) := dk_181 0 11 (dk_at dksJ18_initWords_0 11 rfl rfl)
theorem dJ18_initWords_14 : decode cJ18_initWords 14 = .ok (.return_, 1) := dk_177 (dk_at dksJ18_initWords_0 14 rfl rfl)
abbrev cJ18_wordIndex : ByteArray := prog_51_method_1_code
def yJ18_wordIndex : MethodName := ⟨RJ18, "wordIndex", "(I)I"⟩
def dkwJ18_wordIndex_0 : List UInt8 := [26, 16, 6, 122, 172]
abbrev dktJ18_wordIndex_0 : List UInt8 := dkwJ18_wordIndex_0 ++ []
theorem dksJ18_wordIndex_0 : cJ18_wordIndex.data.toList.drop 0 = dktJ18_wordIndex_0 := by decide +kernel
theorem dJ18_wordIndex_0 : decode cJ18_wordIndex 0 = .ok (.iload_n 0, 1) := dk_26 (dk_at dksJ18_wordIndex_0 0 rfl rfl)
theorem dJ18_wordIndex_1 : decode cJ18_wordIndex 1 = .ok (.bipush 6, 2) := dk_16 6 (dk_at dksJ18_wordIndex_0 1 rfl rfl)
theorem dJ18_wordIndex_3 : decode cJ18_wordIndex 3 = .ok (.ishr, 1) := dk_122 (dk_at dksJ18_wordIndex_0 3 rfl rfl)
theorem dJ18_wordIndex_4 : decode cJ18_wordIndex 4 = .ok (.ireturn, 1) := dk_172 (dk_at dksJ18_wordIndex_0 4 rfl rfl)
abbrev cJ18_set : ByteArray := prog_51_method_19_code
def yJ18_set : MethodName := ⟨RJ18, "set", "(I)V"⟩
def dkwJ18_set_2 : List UInt8 := [10, 27, 121, 129, 80, 42, 182, 0, 56, 177]
abbrev dktJ18_set_2 : List UInt8 := dkwJ18_set_2 ++ []
def dkwJ18_set_1 : List UInt8 := [182, 0, 45, 183, 0, 146, 191, 27, 184, 0, 52, 61, 42, 28, 182, 0, 155, 42, 180, 0, 11, 28, 92, 47]
abbrev dktJ18_set_1 : List UInt8 := dkwJ18_set_1 ++ dktJ18_set_2
def dkwJ18_set_0 : List UInt8 := [27, 156, 0, 30, 187, 0, 142, 89, 187, 0, 33, 89, 183, 0, 35, 18, 153, 182, 0, 38, 27, 182, 0, 42]
abbrev dktJ18_set_0 : List UInt8 := dkwJ18_set_0 ++ dktJ18_set_1
theorem dksJ18_set_0 : cJ18_set.data.toList.drop 0 = dktJ18_set_0 := by decide +kernel
theorem dksJ18_set_1 : cJ18_set.data.toList.drop 24 = dktJ18_set_1 := dk_seg dksJ18_set_0 24 rfl rfl
theorem dksJ18_set_2 : cJ18_set.data.toList.drop 48 = dktJ18_set_2 := dk_seg dksJ18_set_1 24 rfl rfl
theorem dJ18_set_0 : decode cJ18_set 0 = .ok (.iload_n 1, 1) := dk_27 (dk_at dksJ18_set_0 0 rfl rfl)
theorem dJ18_set_1 : decode cJ18_set 1 = .ok (.ifCond .ge 30, 3) := dk_156 0 30 (dk_at dksJ18_set_0 1 rfl rfl)
theorem dJ18_set_4 : decode cJ18_set 4 = .ok (.new 142, 3) := dk_187 0 142 (dk_at dksJ18_set_0 4 rfl rfl)
theorem dJ18_set_7 : decode cJ18_set 7 = .ok (.dup, 1) := dk_89 (dk_at dksJ18_set_0 7 rfl rfl)
theorem dJ18_set_8 : decode cJ18_set 8 = .ok (.new 33, 3) := dk_187 0 33 (dk_at dksJ18_set_0 8 rfl rfl)
theorem dJ18_set_11 : decode cJ18_set 11 = .ok (.dup, 1) := dk_89 (dk_at dksJ18_set_0 11 rfl rfl)
theorem dJ18_set_12 : decode cJ18_set 12 = .ok (.invokespecial 35, 3) := dk_183 0 35 (dk_at dksJ18_set_0 12 rfl rfl)
theorem dJ18_set_15 : decode cJ18_set 15 = .ok (.ldc 153, 2) := dk_18 153 (dk_at dksJ18_set_0 15 rfl rfl)
theorem dJ18_set_17 : decode cJ18_set 17 = .ok (.invokevirtual 38, 3) := dk_182 0 38 (dk_at dksJ18_set_0 17 rfl rfl)
theorem dJ18_set_20 : decode cJ18_set 20 = .ok (.iload_n 1, 1) := dk_27 (dk_at dksJ18_set_0 20 rfl rfl)
theorem dJ18_set_21 : decode cJ18_set 21 = .ok (.invokevirtual 42, 3) := dk_182 0 42 (dk_at dksJ18_set_0 21 rfl rfl)
theorem dJ18_set_24 : decode cJ18_set 24 = .ok (.invokevirtual 45, 3) := dk_182 0 45 (dk_at dksJ18_set_1 0 rfl rfl)
theorem dJ18_set_27 : decode cJ18_set 27 = .ok (.invokespecial 146, 3) := dk_183 0 146 (dk_at dksJ18_set_1 3 rfl rfl)
theorem dJ18_set_30 : decode cJ18_set 30 = .ok (.athrow, 1) := dk_191 (dk_at dksJ18_set_1 6 rfl rfl)
theorem dJ18_set_31 : decode cJ18_set 31 = .ok (.iload_n 1, 1) := dk_27 (dk_at dksJ18_set_1 7 rfl rfl)
theorem dJ18_set_32 : decode cJ18_set 32 = .ok (.invokestatic 52, 3) := dk_184 0 52 (dk_at dksJ18_set_1 8 rfl rfl)
theorem dJ18_set_35 : decode cJ18_set 35 = .ok (.istore_n 2, 1) := dk_61 (dk_at dksJ18_set_1 11 rfl rfl)
theorem dJ18_set_36 : decode cJ18_set 36 = .ok (.aload_n 0, 1) := dk_42 (dk_at dksJ18_set_1 12 rfl rfl)
theorem dJ18_set_37 : decode cJ18_set 37 = .ok (.iload_n 2, 1) := dk_28 (dk_at dksJ18_set_1 13 rfl rfl)
theorem dJ18_set_38 : decode cJ18_set 38 = .ok (.invokevirtual 155, 3) := dk_182 0 155 (dk_at dksJ18_set_1 14 rfl rfl)
theorem dJ18_set_41 : decode cJ18_set 41 = .ok (.aload_n 0, 1) := dk_42 (dk_at dksJ18_set_1 17 rfl rfl)
theorem dJ18_set_42 : decode cJ18_set 42 = .ok (.getfield 11, 3) := dk_180 0 11 (dk_at dksJ18_set_1 18 rfl rfl)
theorem dJ18_set_45 : decode cJ18_set 45 = .ok (.iload_n 2, 1) := dk_28 (dk_at dksJ18_set_1 21 rfl rfl)
theorem dJ18_set_46 : decode cJ18_set 46 = .ok (.dup2, 1) := dk_92 (dk_at dksJ18_set_1 22 rfl rfl)
theorem dJ18_set_47 : decode cJ18_set 47 = .ok (.laload, 1) := dk_47 (dk_at dksJ18_set_1 23 rfl rfl)
theorem dJ18_set_48 : decode cJ18_set 48 = .ok (.lconst 1, 1) := dk_10 (dk_at dksJ18_set_2 0 rfl rfl)
theorem dJ18_set_49 : decode cJ18_set 49 = .ok (.iload_n 1, 1) := dk_27 (dk_at dksJ18_set_2 1 rfl rfl)
theorem dJ18_set_50 : decode cJ18_set 50 = .ok (.lshl, 1) := dk_121 (dk_at dksJ18_set_2 2 rfl rfl)
theorem dJ18_set_51 : decode cJ18_set 51 = .ok (.lor, 1) := dk_129 (dk_at dksJ18_set_2 3 rfl rfl)
theorem dJ18_set_52 : decode cJ18_set 52 = .ok (.lastore, 1) := dk_80 (dk_at dksJ18_set_2 4 rfl rfl)
theorem dJ18_set_53 : decode cJ18_set 53 = .ok (.aload_n 0, 1) := dk_42 (dk_at dksJ18_set_2 5 rfl rfl)
theorem dJ18_set_54 : decode cJ18_set 54 = .ok (.invokevirtual 56, 3) := dk_182 0 56 (dk_at dksJ18_set_2 6 rfl rfl)
theorem dJ18_set_57 : decode cJ18_set 57 = .ok (.return_, 1) := dk_177 (dk_at dksJ18_set_2 9 rfl rfl)
abbrev cJ18_expandTo : ByteArray := prog_51_method_15_code
def yJ18_expandTo : MethodName := ⟨RJ18, "expandTo", "(I)V"⟩
def dkwJ18_expandTo_0 : List UInt8 := [27, 4, 96, 61, 42, 180, 0, 7, 28, 162, 0, 13, 42, 28, 182, 0, 139, 42, 28, 181, 0, 7, 177]
abbrev dktJ18_expandTo_0 : List UInt8 := dkwJ18_expandTo_0 ++ []
theorem dksJ18_expandTo_0 : cJ18_expandTo.data.toList.drop 0 = dktJ18_expandTo_0 := by decide +kernel
theorem dJ18_expandTo_0 : decode cJ18_expandTo 0 = .ok (.iload_n 1, 1) := dk_27 (dk_at dksJ18_expandTo_0 0 rfl rfl)
theorem dJ18_expandTo_1 : decode cJ18_expandTo 1 = .ok (.iconst 1, 1) := dk_4 (dk_at dksJ18_expandTo_0 1 rfl rfl)
theorem dJ18_expandTo_2 : decode cJ18_expandTo 2 = .ok (.iadd, 1) := dk_96 (dk_at dksJ18_expandTo_0 2 rfl rfl)
theorem dJ18_expandTo_3 : decode cJ18_expandTo 3 = .ok (.istore_n 2, 1) := dk_61 (dk_at dksJ18_expandTo_0 3 rfl rfl)
theorem dJ18_expandTo_4 : decode cJ18_expandTo 4 = .ok (.aload_n 0, 1) := dk_42 (dk_at dksJ18_expandTo_0 4 rfl rfl)
theorem dJ18_expandTo_5 : decode cJ18_expandTo 5 = .ok (.getfield 7, 3) := dk_180 0 7 (dk_at dksJ18_expandTo_0 5 rfl rfl)
theorem dJ18_expandTo_8 : decode cJ18_expandTo 8 = .ok (.iload_n 2, 1) := dk_28 (dk_at dksJ18_expandTo_0 8 rfl rfl)
theorem dJ18_expandTo_9 : decode cJ18_expandTo 9 = .ok (.if_icmp .ge 13, 3) := dk_162 0 13 (dk_at dksJ18_expandTo_0 9 rfl rfl)
theorem dJ18_expandTo_12 : decode cJ18_expandTo 12 = .ok (.aload_n 0, 1) := dk_42 (dk_at dksJ18_expandTo_0 12 rfl rfl)
theorem dJ18_expandTo_13 : decode cJ18_expandTo 13 = .ok (.iload_n 2, 1) := dk_28 (dk_at dksJ18_expandTo_0 13 rfl rfl)
theorem dJ18_expandTo_14 : decode cJ18_expandTo 14 = .ok (.invokevirtual 139, 3) := dk_182 0 139 (dk_at dksJ18_expandTo_0 14 rfl rfl)
theorem dJ18_expandTo_17 : decode cJ18_expandTo 17 = .ok (.aload_n 0, 1) := dk_42 (dk_at dksJ18_expandTo_0 17 rfl rfl)
theorem dJ18_expandTo_18 : decode cJ18_expandTo 18 = .ok (.iload_n 2, 1) := dk_28 (dk_at dksJ18_expandTo_0 18 rfl rfl)
theorem dJ18_expandTo_19 : decode cJ18_expandTo 19 = .ok (.putfield 7, 3) := dk_181 0 7 (dk_at dksJ18_expandTo_0 19 rfl rfl)
theorem dJ18_expandTo_22 : decode cJ18_expandTo 22 = .ok (.return_, 1) := dk_177 (dk_at dksJ18_expandTo_0 22 rfl rfl)
abbrev cJ18_ensureCapacity : ByteArray := prog_51_method_14_code
def yJ18_ensureCapacity : MethodName := ⟨RJ18, "ensureCapacity", "(I)V"⟩
def dkwJ18_ensureCapacity_1 : List UInt8 := [180, 0, 11, 28, 184, 0, 59, 181, 0, 11, 42, 3, 181, 0, 24, 177]
abbrev dktJ18_ensureCapacity_1 : List UInt8 := dkwJ18_ensureCapacity_1 ++ []
def dkwJ18_ensureCapacity_0 : List UInt8 := [42, 180, 0, 11, 190, 27, 162, 0, 32, 5, 42, 180, 0, 11, 190, 104, 27, 184, 0, 133, 61, 42, 42]
abbrev dktJ18_ensureCapacity_0 : List UInt8 := dkwJ18_ensureCapacity_0 ++ dktJ18_ensureCapacity_1
theorem dksJ18_ensureCapacity_0 : cJ18_ensureCapacity.data.toList.drop 0 = dktJ18_ensureCapacity_0 := by decide +kernel
theorem dksJ18_ensureCapacity_1 : cJ18_ensureCapacity.data.toList.drop 23 = dktJ18_ensureCapacity_1 := dk_seg dksJ18_ensureCapacity_0 23 rfl rfl
theorem dJ18_ensureCapacity_0 : decode cJ18_ensureCapacity 0 = .ok (.aload_n 0, 1) := dk_42 (dk_at dksJ18_ensureCapacity_0 0 rfl rfl)
theorem dJ18_ensureCapacity_1 : decode cJ18_ensureCapacity 1 = .ok (.getfield 11, 3) := dk_180 0 11 (dk_at dksJ18_ensureCapacity_0 1 rfl rfl)
theorem dJ18_ensureCapacity_4 : decode cJ18_ensureCapacity 4 = .ok (.arraylength, 1) := dk_190 (dk_at dksJ18_ensureCapacity_0 4 rfl rfl)
theorem dJ18_ensureCapacity_5 : decode cJ18_ensureCapacity 5 = .ok (.iload_n 1, 1) := dk_27 (dk_at dksJ18_ensureCapacity_0 5 rfl rfl)
theorem dJ18_ensureCapacity_6 : decode cJ18_ensureCapacity 6 = .ok (.if_icmp .ge 32, 3) := dk_162 0 32 (dk_at dksJ18_ensureCapacity_0 6 rfl rfl)
theorem dJ18_ensureCapacity_9 : decode cJ18_ensureCapacity 9 = .ok (.iconst 2, 1) := dk_5 (dk_at dksJ18_ensureCapacity_0 9 rfl rfl)
theorem dJ18_ensureCapacity_10 : decode cJ18_ensureCapacity 10 = .ok (.aload_n 0, 1) := dk_42 (dk_at dksJ18_ensureCapacity_0 10 rfl rfl)
theorem dJ18_ensureCapacity_11 : decode cJ18_ensureCapacity 11 = .ok (.getfield 11, 3) := dk_180 0 11 (dk_at dksJ18_ensureCapacity_0 11 rfl rfl)
theorem dJ18_ensureCapacity_14 : decode cJ18_ensureCapacity 14 = .ok (.arraylength, 1) := dk_190 (dk_at dksJ18_ensureCapacity_0 14 rfl rfl)
theorem dJ18_ensureCapacity_15 : decode cJ18_ensureCapacity 15 = .ok (.imul, 1) := dk_104 (dk_at dksJ18_ensureCapacity_0 15 rfl rfl)
theorem dJ18_ensureCapacity_16 : decode cJ18_ensureCapacity 16 = .ok (.iload_n 1, 1) := dk_27 (dk_at dksJ18_ensureCapacity_0 16 rfl rfl)
theorem dJ18_ensureCapacity_17 : decode cJ18_ensureCapacity 17 = .ok (.invokestatic 133, 3) := dk_184 0 133 (dk_at dksJ18_ensureCapacity_0 17 rfl rfl)
theorem dJ18_ensureCapacity_20 : decode cJ18_ensureCapacity 20 = .ok (.istore_n 2, 1) := dk_61 (dk_at dksJ18_ensureCapacity_0 20 rfl rfl)
theorem dJ18_ensureCapacity_21 : decode cJ18_ensureCapacity 21 = .ok (.aload_n 0, 1) := dk_42 (dk_at dksJ18_ensureCapacity_0 21 rfl rfl)
theorem dJ18_ensureCapacity_22 : decode cJ18_ensureCapacity 22 = .ok (.aload_n 0, 1) := dk_42 (dk_at dksJ18_ensureCapacity_0 22 rfl rfl)
theorem dJ18_ensureCapacity_23 : decode cJ18_ensureCapacity 23 = .ok (.getfield 11, 3) := dk_180 0 11 (dk_at dksJ18_ensureCapacity_1 0 rfl rfl)
theorem dJ18_ensureCapacity_26 : decode cJ18_ensureCapacity 26 = .ok (.iload_n 2, 1) := dk_28 (dk_at dksJ18_ensureCapacity_1 3 rfl rfl)
theorem dJ18_ensureCapacity_27 : decode cJ18_ensureCapacity 27 = .ok (.invokestatic 59, 3) := dk_184 0 59 (dk_at dksJ18_ensureCapacity_1 4 rfl rfl)
theorem dJ18_ensureCapacity_30 : decode cJ18_ensureCapacity 30 = .ok (.putfield 11, 3) := dk_181 0 11 (dk_at dksJ18_ensureCapacity_1 7 rfl rfl)
theorem dJ18_ensureCapacity_33 : decode cJ18_ensureCapacity 33 = .ok (.aload_n 0, 1) := dk_42 (dk_at dksJ18_ensureCapacity_1 10 rfl rfl)
theorem dJ18_ensureCapacity_34 : decode cJ18_ensureCapacity 34 = .ok (.iconst 0, 1) := dk_3 (dk_at dksJ18_ensureCapacity_1 11 rfl rfl)
theorem dJ18_ensureCapacity_35 : decode cJ18_ensureCapacity 35 = .ok (.putfield 24, 3) := dk_181 0 24 (dk_at dksJ18_ensureCapacity_1 12 rfl rfl)
theorem dJ18_ensureCapacity_38 : decode cJ18_ensureCapacity 38 = .ok (.return_, 1) := dk_177 (dk_at dksJ18_ensureCapacity_1 15 rfl rfl)
abbrev cJ18_checkInvariants : ByteArray := prog_51_method_2_code
def yJ18_checkInvariants : MethodName := ⟨RJ18, "checkInvariants", "()V"⟩
def dkwJ18_checkInvariants_4 : List UInt8 := [180, 0, 7, 47, 9, 148, 153, 0, 11, 187, 0, 15, 89, 183, 0, 17, 191, 177]
abbrev dktJ18_checkInvariants_4 : List UInt8 := dkwJ18_checkInvariants_4 ++ []
def dkwJ18_checkInvariants_3 : List UInt8 := [178, 0, 3, 154, 0, 37, 42, 180, 0, 7, 42, 180, 0, 11, 190, 159, 0, 25, 42, 180, 0, 11, 42]
abbrev dktJ18_checkInvariants_3 : List UInt8 := dkwJ18_checkInvariants_3 ++ dktJ18_checkInvariants_4
def dkwJ18_checkInvariants_2 : List UInt8 := [155, 0, 15, 42, 180, 0, 7, 42, 180, 0, 11, 190, 164, 0, 11, 187, 0, 15, 89, 183, 0, 17, 191]
abbrev dktJ18_checkInvariants_2 : List UInt8 := dkwJ18_checkInvariants_2 ++ dktJ18_checkInvariants_3
def dkwJ18_checkInvariants_1 : List UInt8 := [9, 148, 154, 0, 11, 187, 0, 15, 89, 183, 0, 17, 191, 178, 0, 3, 154, 0, 30, 42, 180, 0, 7]
abbrev dktJ18_checkInvariants_1 : List UInt8 := dkwJ18_checkInvariants_1 ++ dktJ18_checkInvariants_2
def dkwJ18_checkInvariants_0 : List UInt8 := [178, 0, 3, 154, 0, 34, 42, 180, 0, 7, 153, 0, 27, 42, 180, 0, 11, 42, 180, 0, 7, 4, 100, 47]
abbrev dktJ18_checkInvariants_0 : List UInt8 := dkwJ18_checkInvariants_0 ++ dktJ18_checkInvariants_1
theorem dksJ18_checkInvariants_0 : cJ18_checkInvariants.data.toList.drop 0 = dktJ18_checkInvariants_0 := by decide +kernel
theorem dksJ18_checkInvariants_1 : cJ18_checkInvariants.data.toList.drop 24 = dktJ18_checkInvariants_1 := dk_seg dksJ18_checkInvariants_0 24 rfl rfl
theorem dksJ18_checkInvariants_2 : cJ18_checkInvariants.data.toList.drop 47 = dktJ18_checkInvariants_2 := dk_seg dksJ18_checkInvariants_1 23 rfl rfl
theorem dksJ18_checkInvariants_3 : cJ18_checkInvariants.data.toList.drop 70 = dktJ18_checkInvariants_3 := dk_seg dksJ18_checkInvariants_2 23 rfl rfl
theorem dksJ18_checkInvariants_4 : cJ18_checkInvariants.data.toList.drop 93 = dktJ18_checkInvariants_4 := dk_seg dksJ18_checkInvariants_3 23 rfl rfl
theorem dJ18_checkInvariants_0 : decode cJ18_checkInvariants 0 = .ok (.getstatic 3, 3) := dk_178 0 3 (dk_at dksJ18_checkInvariants_0 0 rfl rfl)
theorem dJ18_checkInvariants_3 : decode cJ18_checkInvariants 3 = .ok (.ifCond .ne 34, 3) := dk_154 0 34 (dk_at dksJ18_checkInvariants_0 3 rfl rfl)
theorem dJ18_checkInvariants_6 : decode cJ18_checkInvariants 6 = .ok (.aload_n 0, 1) := dk_42 (dk_at dksJ18_checkInvariants_0 6 rfl rfl)
theorem dJ18_checkInvariants_7 : decode cJ18_checkInvariants 7 = .ok (.getfield 7, 3) := dk_180 0 7 (dk_at dksJ18_checkInvariants_0 7 rfl rfl)
theorem dJ18_checkInvariants_10 : decode cJ18_checkInvariants 10 = .ok (.ifCond .eq 27, 3) := dk_153 0 27 (dk_at dksJ18_checkInvariants_0 10 rfl rfl)
theorem dJ18_checkInvariants_13 : decode cJ18_checkInvariants 13 = .ok (.aload_n 0, 1) := dk_42 (dk_at dksJ18_checkInvariants_0 13 rfl rfl)
theorem dJ18_checkInvariants_14 : decode cJ18_checkInvariants 14 = .ok (.getfield 11, 3) := dk_180 0 11 (dk_at dksJ18_checkInvariants_0 14 rfl rfl)
theorem dJ18_checkInvariants_17 : decode cJ18_checkInvariants 17 = .ok (.aload_n 0, 1) := dk_42 (dk_at dksJ18_checkInvariants_0 17 rfl rfl)
theorem dJ18_checkInvariants_18 : decode cJ18_checkInvariants 18 = .ok (.getfield 7, 3) := dk_180 0 7 (dk_at dksJ18_checkInvariants_0 18 rfl rfl)
theorem dJ18_checkInvariants_21 : decode cJ18_checkInvariants 21 = .ok (.iconst 1, 1) := dk_4 (dk_at dksJ18_checkInvariants_0 21 rfl rfl)
theorem dJ18_checkInvariants_22 : decode cJ18_checkInvariants 22 = .ok (.isub, 1) := dk_100 (dk_at dksJ18_checkInvariants_0 22 rfl rfl)
theorem dJ18_checkInvariants_23 : decode cJ18_checkInvariants 23 = .ok (.laload, 1) := dk_47 (dk_at dksJ18_checkInvariants_0 23 rfl rfl)
theorem dJ18_checkInvariants_24 : decode cJ18_checkInvariants 24 = .ok (.lconst 0, 1) := dk_9 (dk_at dksJ18_checkInvariants_1 0 rfl rfl)
theorem dJ18_checkInvariants_25 : decode cJ18_checkInvariants 25 = .ok (.lcmp, 1) := dk_148 (dk_at dksJ18_checkInvariants_1 1 rfl rfl)
theorem dJ18_checkInvariants_26 : decode cJ18_checkInvariants 26 = .ok (.ifCond .ne 11, 3) := dk_154 0 11 (dk_at dksJ18_checkInvariants_1 2 rfl rfl)
theorem dJ18_checkInvariants_29 : decode cJ18_checkInvariants 29 = .ok (.new 15, 3) := dk_187 0 15 (dk_at dksJ18_checkInvariants_1 5 rfl rfl)
theorem dJ18_checkInvariants_32 : decode cJ18_checkInvariants 32 = .ok (.dup, 1) := dk_89 (dk_at dksJ18_checkInvariants_1 8 rfl rfl)
theorem dJ18_checkInvariants_33 : decode cJ18_checkInvariants 33 = .ok (.invokespecial 17, 3) := dk_183 0 17 (dk_at dksJ18_checkInvariants_1 9 rfl rfl)
theorem dJ18_checkInvariants_36 : decode cJ18_checkInvariants 36 = .ok (.athrow, 1) := dk_191 (dk_at dksJ18_checkInvariants_1 12 rfl rfl)
theorem dJ18_checkInvariants_37 : decode cJ18_checkInvariants 37 = .ok (.getstatic 3, 3) := dk_178 0 3 (dk_at dksJ18_checkInvariants_1 13 rfl rfl)
theorem dJ18_checkInvariants_40 : decode cJ18_checkInvariants 40 = .ok (.ifCond .ne 30, 3) := dk_154 0 30 (dk_at dksJ18_checkInvariants_1 16 rfl rfl)
theorem dJ18_checkInvariants_43 : decode cJ18_checkInvariants 43 = .ok (.aload_n 0, 1) := dk_42 (dk_at dksJ18_checkInvariants_1 19 rfl rfl)
theorem dJ18_checkInvariants_44 : decode cJ18_checkInvariants 44 = .ok (.getfield 7, 3) := dk_180 0 7 (dk_at dksJ18_checkInvariants_1 20 rfl rfl)
theorem dJ18_checkInvariants_47 : decode cJ18_checkInvariants 47 = .ok (.ifCond .lt 15, 3) := dk_155 0 15 (dk_at dksJ18_checkInvariants_2 0 rfl rfl)
theorem dJ18_checkInvariants_50 : decode cJ18_checkInvariants 50 = .ok (.aload_n 0, 1) := dk_42 (dk_at dksJ18_checkInvariants_2 3 rfl rfl)
theorem dJ18_checkInvariants_51 : decode cJ18_checkInvariants 51 = .ok (.getfield 7, 3) := dk_180 0 7 (dk_at dksJ18_checkInvariants_2 4 rfl rfl)
theorem dJ18_checkInvariants_54 : decode cJ18_checkInvariants 54 = .ok (.aload_n 0, 1) := dk_42 (dk_at dksJ18_checkInvariants_2 7 rfl rfl)
theorem dJ18_checkInvariants_55 : decode cJ18_checkInvariants 55 = .ok (.getfield 11, 3) := dk_180 0 11 (dk_at dksJ18_checkInvariants_2 8 rfl rfl)
theorem dJ18_checkInvariants_58 : decode cJ18_checkInvariants 58 = .ok (.arraylength, 1) := dk_190 (dk_at dksJ18_checkInvariants_2 11 rfl rfl)
theorem dJ18_checkInvariants_59 : decode cJ18_checkInvariants 59 = .ok (.if_icmp .le 11, 3) := dk_164 0 11 (dk_at dksJ18_checkInvariants_2 12 rfl rfl)
theorem dJ18_checkInvariants_62 : decode cJ18_checkInvariants 62 = .ok (.new 15, 3) := dk_187 0 15 (dk_at dksJ18_checkInvariants_2 15 rfl rfl)
theorem dJ18_checkInvariants_65 : decode cJ18_checkInvariants 65 = .ok (.dup, 1) := dk_89 (dk_at dksJ18_checkInvariants_2 18 rfl rfl)
theorem dJ18_checkInvariants_66 : decode cJ18_checkInvariants 66 = .ok (.invokespecial 17, 3) := dk_183 0 17 (dk_at dksJ18_checkInvariants_2 19 rfl rfl)
theorem dJ18_checkInvariants_69 : decode cJ18_checkInvariants 69 = .ok (.athrow, 1) := dk_191 (dk_at dksJ18_checkInvariants_2 22 rfl rfl)
theorem dJ18_checkInvariants_70 : decode cJ18_checkInvariants 70 = .ok (.getstatic 3, 3) := dk_178 0 3 (dk_at dksJ18_checkInvariants_3 0 rfl rfl)
theorem dJ18_checkInvariants_73 : decode cJ18_checkInvariants 73 = .ok (.ifCond .ne 37, 3) := dk_154 0 37 (dk_at dksJ18_checkInvariants_3 3 rfl rfl)
theorem dJ18_checkInvariants_76 : decode cJ18_checkInvariants 76 = .ok (.aload_n 0, 1) := dk_42 (dk_at dksJ18_checkInvariants_3 6 rfl rfl)
theorem dJ18_checkInvariants_77 : decode cJ18_checkInvariants 77 = .ok (.getfield 7, 3) := dk_180 0 7 (dk_at dksJ18_checkInvariants_3 7 rfl rfl)
theorem dJ18_checkInvariants_80 : decode cJ18_checkInvariants 80 = .ok (.aload_n 0, 1) := dk_42 (dk_at dksJ18_checkInvariants_3 10 rfl rfl)
theorem dJ18_checkInvariants_81 : decode cJ18_checkInvariants 81 = .ok (.getfield 11, 3) := dk_180 0 11 (dk_at dksJ18_checkInvariants_3 11 rfl rfl)
theorem dJ18_checkInvariants_84 : decode cJ18_checkInvariants 84 = .ok (.arraylength, 1) := dk_190 (dk_at dksJ18_checkInvariants_3 14 rfl rfl)
theorem dJ18_checkInvariants_85 : decode cJ18_checkInvariants 85 = .ok (.if_icmp .eq 25, 3) := dk_159 0 25 (dk_at dksJ18_checkInvariants_3 15 rfl rfl)
theorem dJ18_checkInvariants_88 : decode cJ18_checkInvariants 88 = .ok (.aload_n 0, 1) := dk_42 (dk_at dksJ18_checkInvariants_3 18 rfl rfl)
theorem dJ18_checkInvariants_89 : decode cJ18_checkInvariants 89 = .ok (.getfield 11, 3) := dk_180 0 11 (dk_at dksJ18_checkInvariants_3 19 rfl rfl)
theorem dJ18_checkInvariants_92 : decode cJ18_checkInvariants 92 = .ok (.aload_n 0, 1) := dk_42 (dk_at dksJ18_checkInvariants_3 22 rfl rfl)
theorem dJ18_checkInvariants_93 : decode cJ18_checkInvariants 93 = .ok (.getfield 7, 3) := dk_180 0 7 (dk_at dksJ18_checkInvariants_4 0 rfl rfl)
theorem dJ18_checkInvariants_96 : decode cJ18_checkInvariants 96 = .ok (.laload, 1) := dk_47 (dk_at dksJ18_checkInvariants_4 3 rfl rfl)
theorem dJ18_checkInvariants_97 : decode cJ18_checkInvariants 97 = .ok (.lconst 0, 1) := dk_9 (dk_at dksJ18_checkInvariants_4 4 rfl rfl)
theorem dJ18_checkInvariants_98 : decode cJ18_checkInvariants 98 = .ok (.lcmp, 1) := dk_148 (dk_at dksJ18_checkInvariants_4 5 rfl rfl)
theorem dJ18_checkInvariants_99 : decode cJ18_checkInvariants 99 = .ok (.ifCond .eq 11, 3) := dk_153 0 11 (dk_at dksJ18_checkInvariants_4 6 rfl rfl)
theorem dJ18_checkInvariants_102 : decode cJ18_checkInvariants 102 = .ok (.new 15, 3) := dk_187 0 15 (dk_at dksJ18_checkInvariants_4 9 rfl rfl)
theorem dJ18_checkInvariants_105 : decode cJ18_checkInvariants 105 = .ok (.dup, 1) := dk_89 (dk_at dksJ18_checkInvariants_4 12 rfl rfl)
theorem dJ18_checkInvariants_106 : decode cJ18_checkInvariants 106 = .ok (.invokespecial 17, 3) := dk_183 0 17 (dk_at dksJ18_checkInvariants_4 13 rfl rfl)
theorem dJ18_checkInvariants_109 : decode cJ18_checkInvariants 109 = .ok (.athrow, 1) := dk_191 (dk_at dksJ18_checkInvariants_4 16 rfl rfl)
theorem dJ18_checkInvariants_110 : decode cJ18_checkInvariants 110 = .ok (.return_, 1) := dk_177 (dk_at dksJ18_checkInvariants_4 17 rfl rfl)
abbrev cJ18_get : ByteArray := prog_51_method_26_code
def yJ18_get : MethodName := ⟨RJ18, "get", "(I)Z"⟩
def dkwJ18_get_2 : List UInt8 := [42, 180, 0, 11, 28, 47, 10, 27, 121, 127, 9, 148, 153, 0, 7, 4, 167, 0, 4, 3, 172]
abbrev dktJ18_get_2 : List UInt8 := dkwJ18_get_2 ++ []
def dkwJ18_get_1 : List UInt8 := [182, 0, 45, 183, 0, 146, 191, 42, 182, 0, 56, 27, 184, 0, 52, 61, 28, 42, 180, 0, 7, 162, 0, 22]
abbrev dktJ18_get_1 : List UInt8 := dkwJ18_get_1 ++ dktJ18_get_2
def dkwJ18_get_0 : List UInt8 := [27, 156, 0, 30, 187, 0, 142, 89, 187, 0, 33, 89, 183, 0, 35, 18, 153, 182, 0, 38, 27, 182, 0, 42]
abbrev dktJ18_get_0 : List UInt8 := dkwJ18_get_0 ++ dktJ18_get_1
theorem dksJ18_get_0 : cJ18_get.data.toList.drop 0 = dktJ18_get_0 := by decide +kernel
theorem dksJ18_get_1 : cJ18_get.data.toList.drop 24 = dktJ18_get_1 := dk_seg dksJ18_get_0 24 rfl rfl
theorem dksJ18_get_2 : cJ18_get.data.toList.drop 48 = dktJ18_get_2 := dk_seg dksJ18_get_1 24 rfl rfl
theorem dJ18_get_0 : decode cJ18_get 0 = .ok (.iload_n 1, 1) := dk_27 (dk_at dksJ18_get_0 0 rfl rfl)
theorem dJ18_get_1 : decode cJ18_get 1 = .ok (.ifCond .ge 30, 3) := dk_156 0 30 (dk_at dksJ18_get_0 1 rfl rfl)
theorem dJ18_get_4 : decode cJ18_get 4 = .ok (.new 142, 3) := dk_187 0 142 (dk_at dksJ18_get_0 4 rfl rfl)
theorem dJ18_get_7 : decode cJ18_get 7 = .ok (.dup, 1) := dk_89 (dk_at dksJ18_get_0 7 rfl rfl)
theorem dJ18_get_8 : decode cJ18_get 8 = .ok (.new 33, 3) := dk_187 0 33 (dk_at dksJ18_get_0 8 rfl rfl)
theorem dJ18_get_11 : decode cJ18_get 11 = .ok (.dup, 1) := dk_89 (dk_at dksJ18_get_0 11 rfl rfl)
theorem dJ18_get_12 : decode cJ18_get 12 = .ok (.invokespecial 35, 3) := dk_183 0 35 (dk_at dksJ18_get_0 12 rfl rfl)
theorem dJ18_get_15 : decode cJ18_get 15 = .ok (.ldc 153, 2) := dk_18 153 (dk_at dksJ18_get_0 15 rfl rfl)
theorem dJ18_get_17 : decode cJ18_get 17 = .ok (.invokevirtual 38, 3) := dk_182 0 38 (dk_at dksJ18_get_0 17 rfl rfl)
theorem dJ18_get_20 : decode cJ18_get 20 = .ok (.iload_n 1, 1) := dk_27 (dk_at dksJ18_get_0 20 rfl rfl)
theorem dJ18_get_21 : decode cJ18_get 21 = .ok (.invokevirtual 42, 3) := dk_182 0 42 (dk_at dksJ18_get_0 21 rfl rfl)
theorem dJ18_get_24 : decode cJ18_get 24 = .ok (.invokevirtual 45, 3) := dk_182 0 45 (dk_at dksJ18_get_1 0 rfl rfl)
theorem dJ18_get_27 : decode cJ18_get 27 = .ok (.invokespecial 146, 3) := dk_183 0 146 (dk_at dksJ18_get_1 3 rfl rfl)
theorem dJ18_get_30 : decode cJ18_get 30 = .ok (.athrow, 1) := dk_191 (dk_at dksJ18_get_1 6 rfl rfl)
theorem dJ18_get_31 : decode cJ18_get 31 = .ok (.aload_n 0, 1) := dk_42 (dk_at dksJ18_get_1 7 rfl rfl)
theorem dJ18_get_32 : decode cJ18_get 32 = .ok (.invokevirtual 56, 3) := dk_182 0 56 (dk_at dksJ18_get_1 8 rfl rfl)
theorem dJ18_get_35 : decode cJ18_get 35 = .ok (.iload_n 1, 1) := dk_27 (dk_at dksJ18_get_1 11 rfl rfl)
theorem dJ18_get_36 : decode cJ18_get 36 = .ok (.invokestatic 52, 3) := dk_184 0 52 (dk_at dksJ18_get_1 12 rfl rfl)
theorem dJ18_get_39 : decode cJ18_get 39 = .ok (.istore_n 2, 1) := dk_61 (dk_at dksJ18_get_1 15 rfl rfl)
theorem dJ18_get_40 : decode cJ18_get 40 = .ok (.iload_n 2, 1) := dk_28 (dk_at dksJ18_get_1 16 rfl rfl)
theorem dJ18_get_41 : decode cJ18_get 41 = .ok (.aload_n 0, 1) := dk_42 (dk_at dksJ18_get_1 17 rfl rfl)
theorem dJ18_get_42 : decode cJ18_get 42 = .ok (.getfield 7, 3) := dk_180 0 7 (dk_at dksJ18_get_1 18 rfl rfl)
theorem dJ18_get_45 : decode cJ18_get 45 = .ok (.if_icmp .ge 22, 3) := dk_162 0 22 (dk_at dksJ18_get_1 21 rfl rfl)
theorem dJ18_get_48 : decode cJ18_get 48 = .ok (.aload_n 0, 1) := dk_42 (dk_at dksJ18_get_2 0 rfl rfl)
theorem dJ18_get_49 : decode cJ18_get 49 = .ok (.getfield 11, 3) := dk_180 0 11 (dk_at dksJ18_get_2 1 rfl rfl)
theorem dJ18_get_52 : decode cJ18_get 52 = .ok (.iload_n 2, 1) := dk_28 (dk_at dksJ18_get_2 4 rfl rfl)
theorem dJ18_get_53 : decode cJ18_get 53 = .ok (.laload, 1) := dk_47 (dk_at dksJ18_get_2 5 rfl rfl)
theorem dJ18_get_54 : decode cJ18_get 54 = .ok (.lconst 1, 1) := dk_10 (dk_at dksJ18_get_2 6 rfl rfl)
theorem dJ18_get_55 : decode cJ18_get 55 = .ok (.iload_n 1, 1) := dk_27 (dk_at dksJ18_get_2 7 rfl rfl)
theorem dJ18_get_56 : decode cJ18_get 56 = .ok (.lshl, 1) := dk_121 (dk_at dksJ18_get_2 8 rfl rfl)
theorem dJ18_get_57 : decode cJ18_get 57 = .ok (.land, 1) := dk_127 (dk_at dksJ18_get_2 9 rfl rfl)
theorem dJ18_get_58 : decode cJ18_get 58 = .ok (.lconst 0, 1) := dk_9 (dk_at dksJ18_get_2 10 rfl rfl)
theorem dJ18_get_59 : decode cJ18_get 59 = .ok (.lcmp, 1) := dk_148 (dk_at dksJ18_get_2 11 rfl rfl)
theorem dJ18_get_60 : decode cJ18_get 60 = .ok (.ifCond .eq 7, 3) := dk_153 0 7 (dk_at dksJ18_get_2 12 rfl rfl)
theorem dJ18_get_63 : decode cJ18_get 63 = .ok (.iconst 1, 1) := dk_4 (dk_at dksJ18_get_2 15 rfl rfl)
theorem dJ18_get_64 : decode cJ18_get 64 = .ok (.goto 4, 3) := dk_167 0 4 (dk_at dksJ18_get_2 16 rfl rfl)
theorem dJ18_get_67 : decode cJ18_get 67 = .ok (.iconst 0, 1) := dk_3 (dk_at dksJ18_get_2 19 rfl rfl)
theorem dJ18_get_68 : decode cJ18_get 68 = .ok (.ireturn, 1) := dk_172 (dk_at dksJ18_get_2 20 rfl rfl)
abbrev cJ18_set_2 : ByteArray := prog_51_method_20_code
def yJ18_set_2 : MethodName := ⟨RJ18, "set", "(IZ)V"⟩
def dkwJ18_set_2_0 : List UInt8 := [28, 153, 0, 11, 42, 27, 182, 0, 167, 167, 0, 8, 42, 27, 182, 0, 170, 177]
abbrev dktJ18_set_2_0 : List UInt8 := dkwJ18_set_2_0 ++ []
theorem dksJ18_set_2_0 : cJ18_set_2.data.toList.drop 0 = dktJ18_set_2_0 := by decide +kernel
theorem dJ18_set_2_0 : decode cJ18_set_2 0 = .ok (.iload_n 2, 1) := dk_28 (dk_at dksJ18_set_2_0 0 rfl rfl)
theorem dJ18_set_2_1 : decode cJ18_set_2 1 = .ok (.ifCond .eq 11, 3) := dk_153 0 11 (dk_at dksJ18_set_2_0 1 rfl rfl)
theorem dJ18_set_2_4 : decode cJ18_set_2 4 = .ok (.aload_n 0, 1) := dk_42 (dk_at dksJ18_set_2_0 4 rfl rfl)
theorem dJ18_set_2_5 : decode cJ18_set_2 5 = .ok (.iload_n 1, 1) := dk_27 (dk_at dksJ18_set_2_0 5 rfl rfl)
theorem dJ18_set_2_6 : decode cJ18_set_2 6 = .ok (.invokevirtual 167, 3) := dk_182 0 167 (dk_at dksJ18_set_2_0 6 rfl rfl)
theorem dJ18_set_2_9 : decode cJ18_set_2 9 = .ok (.goto 8, 3) := dk_167 0 8 (dk_at dksJ18_set_2_0 9 rfl rfl)
theorem dJ18_set_2_12 : decode cJ18_set_2 12 = .ok (.aload_n 0, 1) := dk_42 (dk_at dksJ18_set_2_0 12 rfl rfl)
theorem dJ18_set_2_13 : decode cJ18_set_2 13 = .ok (.iload_n 1, 1) := dk_27 (dk_at dksJ18_set_2_0 13 rfl rfl)
theorem dJ18_set_2_14 : decode cJ18_set_2 14 = .ok (.invokevirtual 170, 3) := dk_182 0 170 (dk_at dksJ18_set_2_0 14 rfl rfl)
theorem dJ18_set_2_17 : decode cJ18_set_2 17 = .ok (.return_, 1) := dk_177 (dk_at dksJ18_set_2_0 17 rfl rfl)
abbrev cJ18_clear : ByteArray := prog_51_method_23_code
def yJ18_clear : MethodName := ⟨RJ18, "clear", "(I)V"⟩
def dkwJ18_clear_2 : List UInt8 := [180, 0, 11, 28, 92, 47, 10, 27, 121, 20, 0, 165, 131, 127, 80, 42, 182, 0, 158, 42, 182, 0, 56, 177]
abbrev dktJ18_clear_2 : List UInt8 := dkwJ18_clear_2 ++ []
def dkwJ18_clear_1 : List UInt8 := [182, 0, 45, 183, 0, 146, 191, 27, 184, 0, 52, 61, 28, 42, 180, 0, 7, 161, 0, 4, 177, 42]
abbrev dktJ18_clear_1 : List UInt8 := dkwJ18_clear_1 ++ dktJ18_clear_2
def dkwJ18_clear_0 : List UInt8 := [27, 156, 0, 30, 187, 0, 142, 89, 187, 0, 33, 89, 183, 0, 35, 18, 153, 182, 0, 38, 27, 182, 0, 42]
abbrev dktJ18_clear_0 : List UInt8 := dkwJ18_clear_0 ++ dktJ18_clear_1
theorem dksJ18_clear_0 : cJ18_clear.data.toList.drop 0 = dktJ18_clear_0 := by decide +kernel
theorem dksJ18_clear_1 : cJ18_clear.data.toList.drop 24 = dktJ18_clear_1 := dk_seg dksJ18_clear_0 24 rfl rfl
theorem dksJ18_clear_2 : cJ18_clear.data.toList.drop 46 = dktJ18_clear_2 := dk_seg dksJ18_clear_1 22 rfl rfl
theorem dJ18_clear_0 : decode cJ18_clear 0 = .ok (.iload_n 1, 1) := dk_27 (dk_at dksJ18_clear_0 0 rfl rfl)
theorem dJ18_clear_1 : decode cJ18_clear 1 = .ok (.ifCond .ge 30, 3) := dk_156 0 30 (dk_at dksJ18_clear_0 1 rfl rfl)
theorem dJ18_clear_4 : decode cJ18_clear 4 = .ok (.new 142, 3) := dk_187 0 142 (dk_at dksJ18_clear_0 4 rfl rfl)
theorem dJ18_clear_7 : decode cJ18_clear 7 = .ok (.dup, 1) := dk_89 (dk_at dksJ18_clear_0 7 rfl rfl)
theorem dJ18_clear_8 : decode cJ18_clear 8 = .ok (.new 33, 3) := dk_187 0 33 (dk_at dksJ18_clear_0 8 rfl rfl)
theorem dJ18_clear_11 : decode cJ18_clear 11 = .ok (.dup, 1) := dk_89 (dk_at dksJ18_clear_0 11 rfl rfl)
theorem dJ18_clear_12 : decode cJ18_clear 12 = .ok (.invokespecial 35, 3) := dk_183 0 35 (dk_at dksJ18_clear_0 12 rfl rfl)
theorem dJ18_clear_15 : decode cJ18_clear 15 = .ok (.ldc 153, 2) := dk_18 153 (dk_at dksJ18_clear_0 15 rfl rfl)
theorem dJ18_clear_17 : decode cJ18_clear 17 = .ok (.invokevirtual 38, 3) := dk_182 0 38 (dk_at dksJ18_clear_0 17 rfl rfl)
theorem dJ18_clear_20 : decode cJ18_clear 20 = .ok (.iload_n 1, 1) := dk_27 (dk_at dksJ18_clear_0 20 rfl rfl)
theorem dJ18_clear_21 : decode cJ18_clear 21 = .ok (.invokevirtual 42, 3) := dk_182 0 42 (dk_at dksJ18_clear_0 21 rfl rfl)
theorem dJ18_clear_24 : decode cJ18_clear 24 = .ok (.invokevirtual 45, 3) := dk_182 0 45 (dk_at dksJ18_clear_1 0 rfl rfl)
theorem dJ18_clear_27 : decode cJ18_clear 27 = .ok (.invokespecial 146, 3) := dk_183 0 146 (dk_at dksJ18_clear_1 3 rfl rfl)
theorem dJ18_clear_30 : decode cJ18_clear 30 = .ok (.athrow, 1) := dk_191 (dk_at dksJ18_clear_1 6 rfl rfl)
theorem dJ18_clear_31 : decode cJ18_clear 31 = .ok (.iload_n 1, 1) := dk_27 (dk_at dksJ18_clear_1 7 rfl rfl)
theorem dJ18_clear_32 : decode cJ18_clear 32 = .ok (.invokestatic 52, 3) := dk_184 0 52 (dk_at dksJ18_clear_1 8 rfl rfl)
theorem dJ18_clear_35 : decode cJ18_clear 35 = .ok (.istore_n 2, 1) := dk_61 (dk_at dksJ18_clear_1 11 rfl rfl)
theorem dJ18_clear_36 : decode cJ18_clear 36 = .ok (.iload_n 2, 1) := dk_28 (dk_at dksJ18_clear_1 12 rfl rfl)
theorem dJ18_clear_37 : decode cJ18_clear 37 = .ok (.aload_n 0, 1) := dk_42 (dk_at dksJ18_clear_1 13 rfl rfl)
theorem dJ18_clear_38 : decode cJ18_clear 38 = .ok (.getfield 7, 3) := dk_180 0 7 (dk_at dksJ18_clear_1 14 rfl rfl)
theorem dJ18_clear_41 : decode cJ18_clear 41 = .ok (.if_icmp .lt 4, 3) := dk_161 0 4 (dk_at dksJ18_clear_1 17 rfl rfl)
theorem dJ18_clear_44 : decode cJ18_clear 44 = .ok (.return_, 1) := dk_177 (dk_at dksJ18_clear_1 20 rfl rfl)
theorem dJ18_clear_45 : decode cJ18_clear 45 = .ok (.aload_n 0, 1) := dk_42 (dk_at dksJ18_clear_1 21 rfl rfl)
theorem dJ18_clear_46 : decode cJ18_clear 46 = .ok (.getfield 11, 3) := dk_180 0 11 (dk_at dksJ18_clear_2 0 rfl rfl)
theorem dJ18_clear_49 : decode cJ18_clear 49 = .ok (.iload_n 2, 1) := dk_28 (dk_at dksJ18_clear_2 3 rfl rfl)
theorem dJ18_clear_50 : decode cJ18_clear 50 = .ok (.dup2, 1) := dk_92 (dk_at dksJ18_clear_2 4 rfl rfl)
theorem dJ18_clear_51 : decode cJ18_clear 51 = .ok (.laload, 1) := dk_47 (dk_at dksJ18_clear_2 5 rfl rfl)
theorem dJ18_clear_52 : decode cJ18_clear 52 = .ok (.lconst 1, 1) := dk_10 (dk_at dksJ18_clear_2 6 rfl rfl)
theorem dJ18_clear_53 : decode cJ18_clear 53 = .ok (.iload_n 1, 1) := dk_27 (dk_at dksJ18_clear_2 7 rfl rfl)
theorem dJ18_clear_54 : decode cJ18_clear 54 = .ok (.lshl, 1) := dk_121 (dk_at dksJ18_clear_2 8 rfl rfl)
theorem dJ18_clear_55 : decode cJ18_clear 55 = .ok (.ldc2_w 165, 3) := dk_20 0 165 (dk_at dksJ18_clear_2 9 rfl rfl)
theorem dJ18_clear_58 : decode cJ18_clear 58 = .ok (.lxor, 1) := dk_131 (dk_at dksJ18_clear_2 12 rfl rfl)
theorem dJ18_clear_59 : decode cJ18_clear 59 = .ok (.land, 1) := dk_127 (dk_at dksJ18_clear_2 13 rfl rfl)
theorem dJ18_clear_60 : decode cJ18_clear 60 = .ok (.lastore, 1) := dk_80 (dk_at dksJ18_clear_2 14 rfl rfl)
theorem dJ18_clear_61 : decode cJ18_clear 61 = .ok (.aload_n 0, 1) := dk_42 (dk_at dksJ18_clear_2 15 rfl rfl)
theorem dJ18_clear_62 : decode cJ18_clear 62 = .ok (.invokevirtual 158, 3) := dk_182 0 158 (dk_at dksJ18_clear_2 16 rfl rfl)
theorem dJ18_clear_65 : decode cJ18_clear 65 = .ok (.aload_n 0, 1) := dk_42 (dk_at dksJ18_clear_2 19 rfl rfl)
theorem dJ18_clear_66 : decode cJ18_clear 66 = .ok (.invokevirtual 56, 3) := dk_182 0 56 (dk_at dksJ18_clear_2 20 rfl rfl)
theorem dJ18_clear_69 : decode cJ18_clear 69 = .ok (.return_, 1) := dk_177 (dk_at dksJ18_clear_2 23 rfl rfl)
abbrev cJ18_recalculateWordsInUse : ByteArray := prog_51_method_3_code
def yJ18_recalculateWordsInUse : MethodName := ⟨RJ18, "recalculateWordsInUse", "()V"⟩
def dkwJ18_recalculateWordsInUse_1 : List UInt8 := [167, 0, 9, 132, 1, 255, 167, 255, 235, 42, 27, 4, 96, 181, 0, 7, 177]
abbrev dktJ18_recalculateWordsInUse_1 : List UInt8 := dkwJ18_recalculateWordsInUse_1 ++ []
def dkwJ18_recalculateWordsInUse_0 : List UInt8 := [42, 180, 0, 7, 4, 100, 60, 27, 155, 0, 23, 42, 180, 0, 11, 27, 47, 9, 148, 153, 0, 6]
abbrev dktJ18_recalculateWordsInUse_0 : List UInt8 := dkwJ18_recalculateWordsInUse_0 ++ dktJ18_recalculateWordsInUse_1
theorem dksJ18_recalculateWordsInUse_0 : cJ18_recalculateWordsInUse.data.toList.drop 0 = dktJ18_recalculateWordsInUse_0 := by decide +kernel
theorem dksJ18_recalculateWordsInUse_1 : cJ18_recalculateWordsInUse.data.toList.drop 22 = dktJ18_recalculateWordsInUse_1 := dk_seg dksJ18_recalculateWordsInUse_0 22 rfl rfl
theorem dJ18_recalculateWordsInUse_0 : decode cJ18_recalculateWordsInUse 0 = .ok (.aload_n 0, 1) := dk_42 (dk_at dksJ18_recalculateWordsInUse_0 0 rfl rfl)
theorem dJ18_recalculateWordsInUse_1 : decode cJ18_recalculateWordsInUse 1 = .ok (.getfield 7, 3) := dk_180 0 7 (dk_at dksJ18_recalculateWordsInUse_0 1 rfl rfl)
theorem dJ18_recalculateWordsInUse_4 : decode cJ18_recalculateWordsInUse 4 = .ok (.iconst 1, 1) := dk_4 (dk_at dksJ18_recalculateWordsInUse_0 4 rfl rfl)
theorem dJ18_recalculateWordsInUse_5 : decode cJ18_recalculateWordsInUse 5 = .ok (.isub, 1) := dk_100 (dk_at dksJ18_recalculateWordsInUse_0 5 rfl rfl)
theorem dJ18_recalculateWordsInUse_6 : decode cJ18_recalculateWordsInUse 6 = .ok (.istore_n 1, 1) := dk_60 (dk_at dksJ18_recalculateWordsInUse_0 6 rfl rfl)
theorem dJ18_recalculateWordsInUse_7 : decode cJ18_recalculateWordsInUse 7 = .ok (.iload_n 1, 1) := dk_27 (dk_at dksJ18_recalculateWordsInUse_0 7 rfl rfl)
theorem dJ18_recalculateWordsInUse_8 : decode cJ18_recalculateWordsInUse 8 = .ok (.ifCond .lt 23, 3) := dk_155 0 23 (dk_at dksJ18_recalculateWordsInUse_0 8 rfl rfl)
theorem dJ18_recalculateWordsInUse_11 : decode cJ18_recalculateWordsInUse 11 = .ok (.aload_n 0, 1) := dk_42 (dk_at dksJ18_recalculateWordsInUse_0 11 rfl rfl)
theorem dJ18_recalculateWordsInUse_12 : decode cJ18_recalculateWordsInUse 12 = .ok (.getfield 11, 3) := dk_180 0 11 (dk_at dksJ18_recalculateWordsInUse_0 12 rfl rfl)
theorem dJ18_recalculateWordsInUse_15 : decode cJ18_recalculateWordsInUse 15 = .ok (.iload_n 1, 1) := dk_27 (dk_at dksJ18_recalculateWordsInUse_0 15 rfl rfl)
theorem dJ18_recalculateWordsInUse_16 : decode cJ18_recalculateWordsInUse 16 = .ok (.laload, 1) := dk_47 (dk_at dksJ18_recalculateWordsInUse_0 16 rfl rfl)
theorem dJ18_recalculateWordsInUse_17 : decode cJ18_recalculateWordsInUse 17 = .ok (.lconst 0, 1) := dk_9 (dk_at dksJ18_recalculateWordsInUse_0 17 rfl rfl)
theorem dJ18_recalculateWordsInUse_18 : decode cJ18_recalculateWordsInUse 18 = .ok (.lcmp, 1) := dk_148 (dk_at dksJ18_recalculateWordsInUse_0 18 rfl rfl)
theorem dJ18_recalculateWordsInUse_19 : decode cJ18_recalculateWordsInUse 19 = .ok (.ifCond .eq 6, 3) := dk_153 0 6 (dk_at dksJ18_recalculateWordsInUse_0 19 rfl rfl)
theorem dJ18_recalculateWordsInUse_22 : decode cJ18_recalculateWordsInUse 22 = .ok (.goto 9, 3) := dk_167 0 9 (dk_at dksJ18_recalculateWordsInUse_1 0 rfl rfl)
theorem dJ18_recalculateWordsInUse_25 : decode cJ18_recalculateWordsInUse 25 = .ok (.iinc 1 (-1), 3) := dk_132 1 255 (dk_at dksJ18_recalculateWordsInUse_1 3 rfl rfl)
theorem dJ18_recalculateWordsInUse_28 : decode cJ18_recalculateWordsInUse 28 = .ok (.goto (-21), 3) := dk_167 255 235 (dk_at dksJ18_recalculateWordsInUse_1 6 rfl rfl)
theorem dJ18_recalculateWordsInUse_31 : decode cJ18_recalculateWordsInUse 31 = .ok (.aload_n 0, 1) := dk_42 (dk_at dksJ18_recalculateWordsInUse_1 9 rfl rfl)
theorem dJ18_recalculateWordsInUse_32 : decode cJ18_recalculateWordsInUse 32 = .ok (.iload_n 1, 1) := dk_27 (dk_at dksJ18_recalculateWordsInUse_1 10 rfl rfl)
theorem dJ18_recalculateWordsInUse_33 : decode cJ18_recalculateWordsInUse 33 = .ok (.iconst 1, 1) := dk_4 (dk_at dksJ18_recalculateWordsInUse_1 11 rfl rfl)
theorem dJ18_recalculateWordsInUse_34 : decode cJ18_recalculateWordsInUse 34 = .ok (.iadd, 1) := dk_96 (dk_at dksJ18_recalculateWordsInUse_1 12 rfl rfl)
theorem dJ18_recalculateWordsInUse_35 : decode cJ18_recalculateWordsInUse 35 = .ok (.putfield 7, 3) := dk_181 0 7 (dk_at dksJ18_recalculateWordsInUse_1 13 rfl rfl)
theorem dJ18_recalculateWordsInUse_38 : decode cJ18_recalculateWordsInUse 38 = .ok (.return_, 1) := dk_177 (dk_at dksJ18_recalculateWordsInUse_1 16 rfl rfl)
abbrev cJ18_nextSetBit : ByteArray := prog_51_method_28_code
def yJ18_nextSetBit : MethodName := ⟨RJ18, "nextSetBit", "(I)I"⟩
def dkwJ18_nextSetBit_4 : List UInt8 := [28, 47, 66, 167, 255, 220]
abbrev dktJ18_nextSetBit_4 : List UInt8 := dkwJ18_nextSetBit_4 ++ []
def dkwJ18_nextSetBit_3 : List UInt8 := [104, 33, 184, 0, 182, 96, 172, 132, 2, 1, 28, 42, 180, 0, 7, 160, 0, 5, 2, 172, 42, 180, 0, 11]
abbrev dktJ18_nextSetBit_3 : List UInt8 := dkwJ18_nextSetBit_3 ++ dktJ18_nextSetBit_4
def dkwJ18_nextSetBit_2 : List UInt8 := [2, 172, 42, 180, 0, 11, 28, 47, 20, 0, 165, 27, 121, 127, 66, 33, 9, 148, 153, 0, 13, 28, 16, 64]
abbrev dktJ18_nextSetBit_2 : List UInt8 := dkwJ18_nextSetBit_2 ++ dktJ18_nextSetBit_3
def dkwJ18_nextSetBit_1 : List UInt8 := [182, 0, 45, 183, 0, 146, 191, 42, 182, 0, 56, 27, 184, 0, 52, 61, 28, 42, 180, 0, 7, 161, 0, 5]
abbrev dktJ18_nextSetBit_1 : List UInt8 := dkwJ18_nextSetBit_1 ++ dktJ18_nextSetBit_2
def dkwJ18_nextSetBit_0 : List UInt8 := [27, 156, 0, 30, 187, 0, 142, 89, 187, 0, 33, 89, 183, 0, 35, 18, 144, 182, 0, 38, 27, 182, 0, 42]
abbrev dktJ18_nextSetBit_0 : List UInt8 := dkwJ18_nextSetBit_0 ++ dktJ18_nextSetBit_1
theorem dksJ18_nextSetBit_0 : cJ18_nextSetBit.data.toList.drop 0 = dktJ18_nextSetBit_0 := by decide +kernel
theorem dksJ18_nextSetBit_1 : cJ18_nextSetBit.data.toList.drop 24 = dktJ18_nextSetBit_1 := dk_seg dksJ18_nextSetBit_0 24 rfl rfl
theorem dksJ18_nextSetBit_2 : cJ18_nextSetBit.data.toList.drop 48 = dktJ18_nextSetBit_2 := dk_seg dksJ18_nextSetBit_1 24 rfl rfl
theorem dksJ18_nextSetBit_3 : cJ18_nextSetBit.data.toList.drop 72 = dktJ18_nextSetBit_3 := dk_seg dksJ18_nextSetBit_2 24 rfl rfl
theorem dksJ18_nextSetBit_4 : cJ18_nextSetBit.data.toList.drop 96 = dktJ18_nextSetBit_4 := dk_seg dksJ18_nextSetBit_3 24 rfl rfl
theorem dJ18_nextSetBit_0 : decode cJ18_nextSetBit 0 = .ok (.iload_n 1, 1) := dk_27 (dk_at dksJ18_nextSetBit_0 0 rfl rfl)
theorem dJ18_nextSetBit_1 : decode cJ18_nextSetBit 1 = .ok (.ifCond .ge 30, 3) := dk_156 0 30 (dk_at dksJ18_nextSetBit_0 1 rfl rfl)
theorem dJ18_nextSetBit_4 : decode cJ18_nextSetBit 4 = .ok (.new 142, 3) := dk_187 0 142 (dk_at dksJ18_nextSetBit_0 4 rfl rfl)
theorem dJ18_nextSetBit_7 : decode cJ18_nextSetBit 7 = .ok (.dup, 1) := dk_89 (dk_at dksJ18_nextSetBit_0 7 rfl rfl)
theorem dJ18_nextSetBit_8 : decode cJ18_nextSetBit 8 = .ok (.new 33, 3) := dk_187 0 33 (dk_at dksJ18_nextSetBit_0 8 rfl rfl)
theorem dJ18_nextSetBit_11 : decode cJ18_nextSetBit 11 = .ok (.dup, 1) := dk_89 (dk_at dksJ18_nextSetBit_0 11 rfl rfl)
theorem dJ18_nextSetBit_12 : decode cJ18_nextSetBit 12 = .ok (.invokespecial 35, 3) := dk_183 0 35 (dk_at dksJ18_nextSetBit_0 12 rfl rfl)
theorem dJ18_nextSetBit_15 : decode cJ18_nextSetBit 15 = .ok (.ldc 144, 2) := dk_18 144 (dk_at dksJ18_nextSetBit_0 15 rfl rfl)
theorem dJ18_nextSetBit_17 : decode cJ18_nextSetBit 17 = .ok (.invokevirtual 38, 3) := dk_182 0 38 (dk_at dksJ18_nextSetBit_0 17 rfl rfl)
theorem dJ18_nextSetBit_20 : decode cJ18_nextSetBit 20 = .ok (.iload_n 1, 1) := dk_27 (dk_at dksJ18_nextSetBit_0 20 rfl rfl)
theorem dJ18_nextSetBit_21 : decode cJ18_nextSetBit 21 = .ok (.invokevirtual 42, 3) := dk_182 0 42 (dk_at dksJ18_nextSetBit_0 21 rfl rfl)
theorem dJ18_nextSetBit_24 : decode cJ18_nextSetBit 24 = .ok (.invokevirtual 45, 3) := dk_182 0 45 (dk_at dksJ18_nextSetBit_1 0 rfl rfl)
theorem dJ18_nextSetBit_27 : decode cJ18_nextSetBit 27 = .ok (.invokespecial 146, 3) := dk_183 0 146 (dk_at dksJ18_nextSetBit_1 3 rfl rfl)
theorem dJ18_nextSetBit_30 : decode cJ18_nextSetBit 30 = .ok (.athrow, 1) := dk_191 (dk_at dksJ18_nextSetBit_1 6 rfl rfl)
theorem dJ18_nextSetBit_31 : decode cJ18_nextSetBit 31 = .ok (.aload_n 0, 1) := dk_42 (dk_at dksJ18_nextSetBit_1 7 rfl rfl)
theorem dJ18_nextSetBit_32 : decode cJ18_nextSetBit 32 = .ok (.invokevirtual 56, 3) := dk_182 0 56 (dk_at dksJ18_nextSetBit_1 8 rfl rfl)
theorem dJ18_nextSetBit_35 : decode cJ18_nextSetBit 35 = .ok (.iload_n 1, 1) := dk_27 (dk_at dksJ18_nextSetBit_1 11 rfl rfl)
theorem dJ18_nextSetBit_36 : decode cJ18_nextSetBit 36 = .ok (.invokestatic 52, 3) := dk_184 0 52 (dk_at dksJ18_nextSetBit_1 12 rfl rfl)
theorem dJ18_nextSetBit_39 : decode cJ18_nextSetBit 39 = .ok (.istore_n 2, 1) := dk_61 (dk_at dksJ18_nextSetBit_1 15 rfl rfl)
theorem dJ18_nextSetBit_40 : decode cJ18_nextSetBit 40 = .ok (.iload_n 2, 1) := dk_28 (dk_at dksJ18_nextSetBit_1 16 rfl rfl)
theorem dJ18_nextSetBit_41 : decode cJ18_nextSetBit 41 = .ok (.aload_n 0, 1) := dk_42 (dk_at dksJ18_nextSetBit_1 17 rfl rfl)
theorem dJ18_nextSetBit_42 : decode cJ18_nextSetBit 42 = .ok (.getfield 7, 3) := dk_180 0 7 (dk_at dksJ18_nextSetBit_1 18 rfl rfl)
theorem dJ18_nextSetBit_45 : decode cJ18_nextSetBit 45 = .ok (.if_icmp .lt 5, 3) := dk_161 0 5 (dk_at dksJ18_nextSetBit_1 21 rfl rfl)
theorem dJ18_nextSetBit_48 : decode cJ18_nextSetBit 48 = .ok (.iconst (-1), 1) := dk_2 (dk_at dksJ18_nextSetBit_2 0 rfl rfl)
theorem dJ18_nextSetBit_49 : decode cJ18_nextSetBit 49 = .ok (.ireturn, 1) := dk_172 (dk_at dksJ18_nextSetBit_2 1 rfl rfl)
theorem dJ18_nextSetBit_50 : decode cJ18_nextSetBit 50 = .ok (.aload_n 0, 1) := dk_42 (dk_at dksJ18_nextSetBit_2 2 rfl rfl)
theorem dJ18_nextSetBit_51 : decode cJ18_nextSetBit 51 = .ok (.getfield 11, 3) := dk_180 0 11 (dk_at dksJ18_nextSetBit_2 3 rfl rfl)
theorem dJ18_nextSetBit_54 : decode cJ18_nextSetBit 54 = .ok (.iload_n 2, 1) := dk_28 (dk_at dksJ18_nextSetBit_2 6 rfl rfl)
theorem dJ18_nextSetBit_55 : decode cJ18_nextSetBit 55 = .ok (.laload, 1) := dk_47 (dk_at dksJ18_nextSetBit_2 7 rfl rfl)
theorem dJ18_nextSetBit_56 : decode cJ18_nextSetBit 56 = .ok (.ldc2_w 165, 3) := dk_20 0 165 (dk_at dksJ18_nextSetBit_2 8 rfl rfl)
theorem dJ18_nextSetBit_59 : decode cJ18_nextSetBit 59 = .ok (.iload_n 1, 1) := dk_27 (dk_at dksJ18_nextSetBit_2 11 rfl rfl)
theorem dJ18_nextSetBit_60 : decode cJ18_nextSetBit 60 = .ok (.lshl, 1) := dk_121 (dk_at dksJ18_nextSetBit_2 12 rfl rfl)
theorem dJ18_nextSetBit_61 : decode cJ18_nextSetBit 61 = .ok (.land, 1) := dk_127 (dk_at dksJ18_nextSetBit_2 13 rfl rfl)
theorem dJ18_nextSetBit_62 : decode cJ18_nextSetBit 62 = .ok (.lstore_n 3, 1) := dk_66 (dk_at dksJ18_nextSetBit_2 14 rfl rfl)
theorem dJ18_nextSetBit_63 : decode cJ18_nextSetBit 63 = .ok (.lload_n 3, 1) := dk_33 (dk_at dksJ18_nextSetBit_2 15 rfl rfl)
theorem dJ18_nextSetBit_64 : decode cJ18_nextSetBit 64 = .ok (.lconst 0, 1) := dk_9 (dk_at dksJ18_nextSetBit_2 16 rfl rfl)
theorem dJ18_nextSetBit_65 : decode cJ18_nextSetBit 65 = .ok (.lcmp, 1) := dk_148 (dk_at dksJ18_nextSetBit_2 17 rfl rfl)
theorem dJ18_nextSetBit_66 : decode cJ18_nextSetBit 66 = .ok (.ifCond .eq 13, 3) := dk_153 0 13 (dk_at dksJ18_nextSetBit_2 18 rfl rfl)
theorem dJ18_nextSetBit_69 : decode cJ18_nextSetBit 69 = .ok (.iload_n 2, 1) := dk_28 (dk_at dksJ18_nextSetBit_2 21 rfl rfl)
theorem dJ18_nextSetBit_70 : decode cJ18_nextSetBit 70 = .ok (.bipush 64, 2) := dk_16 64 (dk_at dksJ18_nextSetBit_2 22 rfl rfl)
theorem dJ18_nextSetBit_72 : decode cJ18_nextSetBit 72 = .ok (.imul, 1) := dk_104 (dk_at dksJ18_nextSetBit_3 0 rfl rfl)
theorem dJ18_nextSetBit_73 : decode cJ18_nextSetBit 73 = .ok (.lload_n 3, 1) := dk_33 (dk_at dksJ18_nextSetBit_3 1 rfl rfl)
theorem dJ18_nextSetBit_74 : decode cJ18_nextSetBit 74 = .ok (.invokestatic 182, 3) := dk_184 0 182 (dk_at dksJ18_nextSetBit_3 2 rfl rfl)
theorem dJ18_nextSetBit_77 : decode cJ18_nextSetBit 77 = .ok (.iadd, 1) := dk_96 (dk_at dksJ18_nextSetBit_3 5 rfl rfl)
theorem dJ18_nextSetBit_78 : decode cJ18_nextSetBit 78 = .ok (.ireturn, 1) := dk_172 (dk_at dksJ18_nextSetBit_3 6 rfl rfl)
theorem dJ18_nextSetBit_79 : decode cJ18_nextSetBit 79 = .ok (.iinc 2 1, 3) := dk_132 2 1 (dk_at dksJ18_nextSetBit_3 7 rfl rfl)
theorem dJ18_nextSetBit_82 : decode cJ18_nextSetBit 82 = .ok (.iload_n 2, 1) := dk_28 (dk_at dksJ18_nextSetBit_3 10 rfl rfl)
theorem dJ18_nextSetBit_83 : decode cJ18_nextSetBit 83 = .ok (.aload_n 0, 1) := dk_42 (dk_at dksJ18_nextSetBit_3 11 rfl rfl)
theorem dJ18_nextSetBit_84 : decode cJ18_nextSetBit 84 = .ok (.getfield 7, 3) := dk_180 0 7 (dk_at dksJ18_nextSetBit_3 12 rfl rfl)
theorem dJ18_nextSetBit_87 : decode cJ18_nextSetBit 87 = .ok (.if_icmp .ne 5, 3) := dk_160 0 5 (dk_at dksJ18_nextSetBit_3 15 rfl rfl)
theorem dJ18_nextSetBit_90 : decode cJ18_nextSetBit 90 = .ok (.iconst (-1), 1) := dk_2 (dk_at dksJ18_nextSetBit_3 18 rfl rfl)
theorem dJ18_nextSetBit_91 : decode cJ18_nextSetBit 91 = .ok (.ireturn, 1) := dk_172 (dk_at dksJ18_nextSetBit_3 19 rfl rfl)
theorem dJ18_nextSetBit_92 : decode cJ18_nextSetBit 92 = .ok (.aload_n 0, 1) := dk_42 (dk_at dksJ18_nextSetBit_3 20 rfl rfl)
theorem dJ18_nextSetBit_93 : decode cJ18_nextSetBit 93 = .ok (.getfield 11, 3) := dk_180 0 11 (dk_at dksJ18_nextSetBit_3 21 rfl rfl)
theorem dJ18_nextSetBit_96 : decode cJ18_nextSetBit 96 = .ok (.iload_n 2, 1) := dk_28 (dk_at dksJ18_nextSetBit_4 0 rfl rfl)
theorem dJ18_nextSetBit_97 : decode cJ18_nextSetBit 97 = .ok (.laload, 1) := dk_47 (dk_at dksJ18_nextSetBit_4 1 rfl rfl)
theorem dJ18_nextSetBit_98 : decode cJ18_nextSetBit 98 = .ok (.lstore_n 3, 1) := dk_66 (dk_at dksJ18_nextSetBit_4 2 rfl rfl)
theorem dJ18_nextSetBit_99 : decode cJ18_nextSetBit 99 = .ok (.goto (-36), 3) := dk_167 255 220 (dk_at dksJ18_nextSetBit_4 3 rfl rfl)
abbrev cJ18_clone : ByteArray := prog_51_method_43_code
def yJ18_clone : MethodName := ⟨RJ18, "clone", "()Ljava/lang/Object;"⟩
def dkwJ18_clone_2 : List UInt8 := [191]
abbrev dktJ18_clone_2 : List UInt8 := dkwJ18_clone_2 ++ []
def dkwJ18_clone_1 : List UInt8 := [182, 0, 214, 192, 0, 215, 181, 0, 11, 43, 182, 0, 56, 43, 176, 76, 187, 0, 218, 89, 43, 183, 0, 220]
abbrev dktJ18_clone_1 : List UInt8 := dkwJ18_clone_1 ++ dktJ18_clone_2
def dkwJ18_clone_0 : List UInt8 := [42, 180, 0, 24, 154, 0, 7, 42, 182, 0, 207, 42, 183, 0, 210, 192, 0, 1, 76, 43, 42, 180, 0, 11]
abbrev dktJ18_clone_0 : List UInt8 := dkwJ18_clone_0 ++ dktJ18_clone_1
theorem dksJ18_clone_0 : cJ18_clone.data.toList.drop 0 = dktJ18_clone_0 := by decide +kernel
theorem dksJ18_clone_1 : cJ18_clone.data.toList.drop 24 = dktJ18_clone_1 := dk_seg dksJ18_clone_0 24 rfl rfl
theorem dksJ18_clone_2 : cJ18_clone.data.toList.drop 48 = dktJ18_clone_2 := dk_seg dksJ18_clone_1 24 rfl rfl
theorem dJ18_clone_0 : decode cJ18_clone 0 = .ok (.aload_n 0, 1) := dk_42 (dk_at dksJ18_clone_0 0 rfl rfl)
theorem dJ18_clone_1 : decode cJ18_clone 1 = .ok (.getfield 24, 3) := dk_180 0 24 (dk_at dksJ18_clone_0 1 rfl rfl)
theorem dJ18_clone_4 : decode cJ18_clone 4 = .ok (.ifCond .ne 7, 3) := dk_154 0 7 (dk_at dksJ18_clone_0 4 rfl rfl)
theorem dJ18_clone_7 : decode cJ18_clone 7 = .ok (.aload_n 0, 1) := dk_42 (dk_at dksJ18_clone_0 7 rfl rfl)
theorem dJ18_clone_8 : decode cJ18_clone 8 = .ok (.invokevirtual 207, 3) := dk_182 0 207 (dk_at dksJ18_clone_0 8 rfl rfl)
theorem dJ18_clone_11 : decode cJ18_clone 11 = .ok (.aload_n 0, 1) := dk_42 (dk_at dksJ18_clone_0 11 rfl rfl)
theorem dJ18_clone_12 : decode cJ18_clone 12 = .ok (.invokespecial 210, 3) := dk_183 0 210 (dk_at dksJ18_clone_0 12 rfl rfl)
theorem dJ18_clone_15 : decode cJ18_clone 15 = .ok (.checkcast 1, 3) := dk_192 0 1 (dk_at dksJ18_clone_0 15 rfl rfl)
theorem dJ18_clone_18 : decode cJ18_clone 18 = .ok (.astore_n 1, 1) := dk_76 (dk_at dksJ18_clone_0 18 rfl rfl)
theorem dJ18_clone_19 : decode cJ18_clone 19 = .ok (.aload_n 1, 1) := dk_43 (dk_at dksJ18_clone_0 19 rfl rfl)
theorem dJ18_clone_20 : decode cJ18_clone 20 = .ok (.aload_n 0, 1) := dk_42 (dk_at dksJ18_clone_0 20 rfl rfl)
theorem dJ18_clone_21 : decode cJ18_clone 21 = .ok (.getfield 11, 3) := dk_180 0 11 (dk_at dksJ18_clone_0 21 rfl rfl)
theorem dJ18_clone_24 : decode cJ18_clone 24 = .ok (.invokevirtual 214, 3) := dk_182 0 214 (dk_at dksJ18_clone_1 0 rfl rfl)
theorem dJ18_clone_27 : decode cJ18_clone 27 = .ok (.checkcast 215, 3) := dk_192 0 215 (dk_at dksJ18_clone_1 3 rfl rfl)
theorem dJ18_clone_30 : decode cJ18_clone 30 = .ok (.putfield 11, 3) := dk_181 0 11 (dk_at dksJ18_clone_1 6 rfl rfl)
theorem dJ18_clone_33 : decode cJ18_clone 33 = .ok (.aload_n 1, 1) := dk_43 (dk_at dksJ18_clone_1 9 rfl rfl)
theorem dJ18_clone_34 : decode cJ18_clone 34 = .ok (.invokevirtual 56, 3) := dk_182 0 56 (dk_at dksJ18_clone_1 10 rfl rfl)
theorem dJ18_clone_37 : decode cJ18_clone 37 = .ok (.aload_n 1, 1) := dk_43 (dk_at dksJ18_clone_1 13 rfl rfl)
theorem dJ18_clone_38 : decode cJ18_clone 38 = .ok (.areturn, 1) := dk_176 (dk_at dksJ18_clone_1 14 rfl rfl)
theorem dJ18_clone_39 : decode cJ18_clone 39 = .ok (.astore_n 1, 1) := dk_76 (dk_at dksJ18_clone_1 15 rfl rfl)
theorem dJ18_clone_40 : decode cJ18_clone 40 = .ok (.new 218, 3) := dk_187 0 218 (dk_at dksJ18_clone_1 16 rfl rfl)
theorem dJ18_clone_43 : decode cJ18_clone 43 = .ok (.dup, 1) := dk_89 (dk_at dksJ18_clone_1 19 rfl rfl)
theorem dJ18_clone_44 : decode cJ18_clone 44 = .ok (.aload_n 1, 1) := dk_43 (dk_at dksJ18_clone_1 20 rfl rfl)
theorem dJ18_clone_45 : decode cJ18_clone 45 = .ok (.invokespecial 220, 3) := dk_183 0 220 (dk_at dksJ18_clone_1 21 rfl rfl)
theorem dJ18_clone_48 : decode cJ18_clone 48 = .ok (.athrow, 1) := dk_191 (dk_at dksJ18_clone_2 0 rfl rfl)
abbrev cJ18_trimToSize : ByteArray := prog_51_method_44_code
def yJ18_trimToSize : MethodName := ⟨RJ18, "trimToSize", "()V"⟩
def dkwJ18_trimToSize_1 : List UInt8 := [181, 0, 11, 42, 182, 0, 56, 177]
abbrev dktJ18_trimToSize_1 : List UInt8 := dkwJ18_trimToSize_1 ++ []
def dkwJ18_trimToSize_0 : List UInt8 := [42, 180, 0, 7, 42, 180, 0, 11, 190, 159, 0, 22, 42, 42, 180, 0, 11, 42, 180, 0, 7, 184, 0, 59]
abbrev dktJ18_trimToSize_0 : List UInt8 := dkwJ18_trimToSize_0 ++ dktJ18_trimToSize_1
theorem dksJ18_trimToSize_0 : cJ18_trimToSize.data.toList.drop 0 = dktJ18_trimToSize_0 := by decide +kernel
theorem dksJ18_trimToSize_1 : cJ18_trimToSize.data.toList.drop 24 = dktJ18_trimToSize_1 := dk_seg dksJ18_trimToSize_0 24 rfl rfl
theorem dJ18_trimToSize_0 : decode cJ18_trimToSize 0 = .ok (.aload_n 0, 1) := dk_42 (dk_at dksJ18_trimToSize_0 0 rfl rfl)
theorem dJ18_trimToSize_1 : decode cJ18_trimToSize 1 = .ok (.getfield 7, 3) := dk_180 0 7 (dk_at dksJ18_trimToSize_0 1 rfl rfl)
theorem dJ18_trimToSize_4 : decode cJ18_trimToSize 4 = .ok (.aload_n 0, 1) := dk_42 (dk_at dksJ18_trimToSize_0 4 rfl rfl)
theorem dJ18_trimToSize_5 : decode cJ18_trimToSize 5 = .ok (.getfield 11, 3) := dk_180 0 11 (dk_at dksJ18_trimToSize_0 5 rfl rfl)
theorem dJ18_trimToSize_8 : decode cJ18_trimToSize 8 = .ok (.arraylength, 1) := dk_190 (dk_at dksJ18_trimToSize_0 8 rfl rfl)
theorem dJ18_trimToSize_9 : decode cJ18_trimToSize 9 = .ok (.if_icmp .eq 22, 3) := dk_159 0 22 (dk_at dksJ18_trimToSize_0 9 rfl rfl)
theorem dJ18_trimToSize_12 : decode cJ18_trimToSize 12 = .ok (.aload_n 0, 1) := dk_42 (dk_at dksJ18_trimToSize_0 12 rfl rfl)
theorem dJ18_trimToSize_13 : decode cJ18_trimToSize 13 = .ok (.aload_n 0, 1) := dk_42 (dk_at dksJ18_trimToSize_0 13 rfl rfl)
theorem dJ18_trimToSize_14 : decode cJ18_trimToSize 14 = .ok (.getfield 11, 3) := dk_180 0 11 (dk_at dksJ18_trimToSize_0 14 rfl rfl)
theorem dJ18_trimToSize_17 : decode cJ18_trimToSize 17 = .ok (.aload_n 0, 1) := dk_42 (dk_at dksJ18_trimToSize_0 17 rfl rfl)
theorem dJ18_trimToSize_18 : decode cJ18_trimToSize 18 = .ok (.getfield 7, 3) := dk_180 0 7 (dk_at dksJ18_trimToSize_0 18 rfl rfl)
theorem dJ18_trimToSize_21 : decode cJ18_trimToSize 21 = .ok (.invokestatic 59, 3) := dk_184 0 59 (dk_at dksJ18_trimToSize_0 21 rfl rfl)
theorem dJ18_trimToSize_24 : decode cJ18_trimToSize 24 = .ok (.putfield 11, 3) := dk_181 0 11 (dk_at dksJ18_trimToSize_1 0 rfl rfl)
theorem dJ18_trimToSize_27 : decode cJ18_trimToSize 27 = .ok (.aload_n 0, 1) := dk_42 (dk_at dksJ18_trimToSize_1 3 rfl rfl)
theorem dJ18_trimToSize_28 : decode cJ18_trimToSize 28 = .ok (.invokevirtual 56, 3) := dk_182 0 56 (dk_at dksJ18_trimToSize_1 4 rfl rfl)
theorem dJ18_trimToSize_31 : decode cJ18_trimToSize 31 = .ok (.return_, 1) := dk_177 (dk_at dksJ18_trimToSize_1 7 rfl rfl)
abbrev cJ18_cardinality : ByteArray := prog_51_method_35_code
def yJ18_cardinality : MethodName := ⟨RJ18, "cardinality", "()I"⟩
def dkwJ18_cardinality_1 : List UInt8 := [132, 2, 1, 167, 255, 233, 27, 172]
abbrev dktJ18_cardinality_1 : List UInt8 := dkwJ18_cardinality_1 ++ []
def dkwJ18_cardinality_0 : List UInt8 := [3, 60, 3, 61, 28, 42, 180, 0, 7, 162, 0, 21, 27, 42, 180, 0, 11, 28, 47, 184, 0, 196, 96, 60]
abbrev dktJ18_cardinality_0 : List UInt8 := dkwJ18_cardinality_0 ++ dktJ18_cardinality_1
theorem dksJ18_cardinality_0 : cJ18_cardinality.data.toList.drop 0 = dktJ18_cardinality_0 := by decide +kernel
theorem dksJ18_cardinality_1 : cJ18_cardinality.data.toList.drop 24 = dktJ18_cardinality_1 := dk_seg dksJ18_cardinality_0 24 rfl rfl
theorem dJ18_cardinality_0 : decode cJ18_cardinality 0 = .ok (.iconst 0, 1) := dk_3 (dk_at dksJ18_cardinality_0 0 rfl rfl)
theorem dJ18_cardinality_1 : decode cJ18_cardinality 1 = .ok (.istore_n 1, 1) := dk_60 (dk_at dksJ18_cardinality_0 1 rfl rfl)
theorem dJ18_cardinality_2 : decode cJ18_cardinality 2 = .ok (.iconst 0, 1) := dk_3 (dk_at dksJ18_cardinality_0 2 rfl rfl)
theorem dJ18_cardinality_3 : decode cJ18_cardinality 3 = .ok (.istore_n 2, 1) := dk_61 (dk_at dksJ18_cardinality_0 3 rfl rfl)
theorem dJ18_cardinality_4 : decode cJ18_cardinality 4 = .ok (.iload_n 2, 1) := dk_28 (dk_at dksJ18_cardinality_0 4 rfl rfl)
theorem dJ18_cardinality_5 : decode cJ18_cardinality 5 = .ok (.aload_n 0, 1) := dk_42 (dk_at dksJ18_cardinality_0 5 rfl rfl)
theorem dJ18_cardinality_6 : decode cJ18_cardinality 6 = .ok (.getfield 7, 3) := dk_180 0 7 (dk_at dksJ18_cardinality_0 6 rfl rfl)
theorem dJ18_cardinality_9 : decode cJ18_cardinality 9 = .ok (.if_icmp .ge 21, 3) := dk_162 0 21 (dk_at dksJ18_cardinality_0 9 rfl rfl)
theorem dJ18_cardinality_12 : decode cJ18_cardinality 12 = .ok (.iload_n 1, 1) := dk_27 (dk_at dksJ18_cardinality_0 12 rfl rfl)
theorem dJ18_cardinality_13 : decode cJ18_cardinality 13 = .ok (.aload_n 0, 1) := dk_42 (dk_at dksJ18_cardinality_0 13 rfl rfl)
theorem dJ18_cardinality_14 : decode cJ18_cardinality 14 = .ok (.getfield 11, 3) := dk_180 0 11 (dk_at dksJ18_cardinality_0 14 rfl rfl)
theorem dJ18_cardinality_17 : decode cJ18_cardinality 17 = .ok (.iload_n 2, 1) := dk_28 (dk_at dksJ18_cardinality_0 17 rfl rfl)
theorem dJ18_cardinality_18 : decode cJ18_cardinality 18 = .ok (.laload, 1) := dk_47 (dk_at dksJ18_cardinality_0 18 rfl rfl)
theorem dJ18_cardinality_19 : decode cJ18_cardinality 19 = .ok (.invokestatic 196, 3) := dk_184 0 196 (dk_at dksJ18_cardinality_0 19 rfl rfl)
theorem dJ18_cardinality_22 : decode cJ18_cardinality 22 = .ok (.iadd, 1) := dk_96 (dk_at dksJ18_cardinality_0 22 rfl rfl)
theorem dJ18_cardinality_23 : decode cJ18_cardinality 23 = .ok (.istore_n 1, 1) := dk_60 (dk_at dksJ18_cardinality_0 23 rfl rfl)
theorem dJ18_cardinality_24 : decode cJ18_cardinality 24 = .ok (.iinc 2 1, 3) := dk_132 2 1 (dk_at dksJ18_cardinality_1 0 rfl rfl)
theorem dJ18_cardinality_27 : decode cJ18_cardinality 27 = .ok (.goto (-23), 3) := dk_167 255 233 (dk_at dksJ18_cardinality_1 3 rfl rfl)
theorem dJ18_cardinality_30 : decode cJ18_cardinality 30 = .ok (.iload_n 1, 1) := dk_27 (dk_at dksJ18_cardinality_1 6 rfl rfl)
theorem dJ18_cardinality_31 : decode cJ18_cardinality 31 = .ok (.ireturn, 1) := dk_172 (dk_at dksJ18_cardinality_1 7 rfl rfl)
theorem q92 : (Jvm.Cond.initialized "java/util/BitSet") ∈ lw_all := lw_g (lw_at lw_m1 22 rfl) rfl
theorem q504 : (Jvm.Cond.instantiable "java/util/BitSet" (3 : Nat)) ∈ lw_all := lw_g (lw_at lw_m2 194 rfl) rfl
theorem q506 : (Jvm.Cond.instanceMethod ({ cls := "java/util/BitSet", name := "<init>", desc := "()V" } : Jvm.MethodName)) ∈ lw_all := lw_g (lw_at lw_m2 196 rfl) rfl
theorem q507 : (Jvm.Cond.code ({ cls := "java/util/BitSet", name := "<init>", desc := "()V" } : Jvm.MethodName) prog_51_method_4_code (1 : Nat) (Option.none : Option Jvm.ClassFile.FieldType)) ∈ lw_all := lw_g (lw_at lw_m2 197 rfl) rfl
theorem q508 : (Jvm.Cond.methodLink "java/util/BitSet" (21 : Nat) ({ cls := "java/lang/Object", name := "<init>", desc := "()V" } : Jvm.MethodName)) ∈ lw_all := lw_g (lw_at lw_m2 198 rfl) rfl
theorem q509 : (Jvm.Cond.methodLink "java/util/BitSet" (27 : Nat) ({ cls := "java/util/BitSet", name := "initWords", desc := "(I)V" } : Jvm.MethodName)) ∈ lw_all := lw_g (lw_at lw_m2 199 rfl) rfl
theorem q510 : (Jvm.Cond.privateMethod ({ cls := "java/util/BitSet", name := "initWords", desc := "(I)V" } : Jvm.MethodName)) ∈ lw_tbl := lw_at lw_m2 200 rfl
theorem q511 : (Jvm.Cond.instanceMethod ({ cls := "java/util/BitSet", name := "initWords", desc := "(I)V" } : Jvm.MethodName)) ∈ lw_all := lw_g (lw_at lw_m2 201 rfl) rfl
theorem q512 : (Jvm.Cond.code ({ cls := "java/util/BitSet", name := "initWords", desc := "(I)V" } : Jvm.MethodName) prog_51_method_6_code (2 : Nat) (Option.none : Option Jvm.ClassFile.FieldType)) ∈ lw_all := lw_g (lw_at lw_m2 202 rfl) rfl
theorem q513 : (Jvm.Cond.methodLink "java/util/BitSet" (52 : Nat) ({ cls := "java/util/BitSet", name := "wordIndex", desc := "(I)I" } : Jvm.MethodName)) ∈ lw_all := lw_g (lw_at lw_m2 203 rfl) rfl
theorem q514 : (Jvm.Cond.static ({ cls := "java/util/BitSet", name := "wordIndex", desc := "(I)I" } : Jvm.MethodName)) ∈ lw_all := lw_g (lw_at lw_m2 204 rfl) rfl
theorem q515 : (Jvm.Cond.code ({ cls := "java/util/BitSet", name := "wordIndex", desc := "(I)I" } : Jvm.MethodName) prog_51_method_1_code (1 : Nat) (Option.some Jvm.ClassFile.FieldType.int)) ∈ lw_all := lw_g (lw_at lw_m2 205 rfl) rfl
theorem q516 : (Jvm.Cond.fieldLink "java/util/BitSet" (11 : Nat) "java/util/BitSet" "words" "[J") ∈ lw_all := lw_g (lw_at lw_m2 206 rfl) rfl
theorem q517 : (Jvm.Cond.fieldLink "java/util/BitSet" (7 : Nat) "java/util/BitSet" "wordsInUse" "I") ∈ lw_all := lw_g (lw_at lw_m2 207 rfl) rfl
theorem q518 : (Jvm.Cond.fieldLink "java/util/BitSet" (24 : Nat) "java/util/BitSet" "sizeIsSticky" "Z") ∈ lw_all := lw_g (lw_at lw_m2 208 rfl) rfl
theorem q519 : (Jvm.Cond.lays "java/util/BitSet" "java/util/BitSet" "words" "[J") ∈ lw_all := lw_g (lw_at lw_m2 209 rfl) rfl
theorem q520 : (Jvm.Cond.soleField "java/util/BitSet" "words") ∈ lw_all := lw_g (lw_at lw_m2 210 rfl) rfl
theorem q521 : (Jvm.Cond.lays "java/util/BitSet" "java/util/BitSet" "wordsInUse" "I") ∈ lw_all := lw_g (lw_at lw_m2 211 rfl) rfl
theorem q522 : (Jvm.Cond.soleField "java/util/BitSet" "wordsInUse") ∈ lw_all := lw_g (lw_at lw_m2 212 rfl) rfl
theorem q523 : (Jvm.Cond.lays "java/util/BitSet" "java/util/BitSet" "sizeIsSticky" "Z") ∈ lw_all := lw_g (lw_at lw_m2 213 rfl) rfl
theorem q524 : (Jvm.Cond.soleField "java/util/BitSet" "sizeIsSticky") ∈ lw_all := lw_g (lw_at lw_m2 214 rfl) rfl
theorem q525 : (Jvm.Cond.superclass "java/util/BitSet" "java/lang/Object") ∈ lw_all := lw_g (lw_at lw_m2 215 rfl) rfl
theorem q600 : (Jvm.Cond.instanceMethod ({ cls := "java/util/BitSet", name := "set", desc := "(I)V" } : Jvm.MethodName)) ∈ lw_all := lw_g (lw_at lw_m3 50 rfl) rfl
theorem q601 : (Jvm.Cond.selects "java/util/BitSet" ({ cls := "java/util/BitSet", name := "set", desc := "(I)V" } : Jvm.MethodName) ({ cls := "java/util/BitSet", name := "set", desc := "(I)V" } : Jvm.MethodName)) ∈ lw_all := lw_g (lw_at lw_m3 51 rfl) rfl
theorem q602 : (Jvm.Cond.code ({ cls := "java/util/BitSet", name := "set", desc := "(I)V" } : Jvm.MethodName) prog_51_method_19_code (3 : Nat) (Option.none : Option Jvm.ClassFile.FieldType)) ∈ lw_all := lw_g (lw_at lw_m3 52 rfl) rfl
theorem q603 : (Jvm.Cond.classLink "java/util/BitSet" (142 : Nat) "java/lang/IndexOutOfBoundsException") ∈ lw_all := lw_g (lw_at lw_m3 53 rfl) rfl
theorem q612 : (Jvm.Cond.classLink "java/util/BitSet" (33 : Nat) "java/lang/StringBuilder") ∈ lw_all := lw_g (lw_at lw_m3 62 rfl) rfl
theorem q613 : (Jvm.Cond.methodLink "java/util/BitSet" (35 : Nat) ({ cls := "java/lang/StringBuilder", name := "<init>", desc := "()V" } : Jvm.MethodName)) ∈ lw_all := lw_g (lw_at lw_m3 63 rfl) rfl
theorem q614 : (Jvm.Cond.stringRef "java/util/BitSet" (153 : Nat) "bitIndex < 0: ") ∈ lw_tbl := lw_at lw_m3 64 rfl
theorem q615 : (Jvm.Cond.methodLink "java/util/BitSet" (38 : Nat) ({ cls := "java/lang/StringBuilder", name := "append", desc := "(Ljava/lang/String;)Ljava/lang/StringBuilder;" } : Jvm.MethodName)) ∈ lw_all := lw_g (lw_at lw_m3 65 rfl) rfl
theorem q616 : (Jvm.Cond.methodLink "java/util/BitSet" (42 : Nat) ({ cls := "java/lang/StringBuilder", name := "append", desc := "(I)Ljava/lang/StringBuilder;" } : Jvm.MethodName)) ∈ lw_all := lw_g (lw_at lw_m3 66 rfl) rfl
theorem q617 : (Jvm.Cond.methodLink "java/util/BitSet" (45 : Nat) ({ cls := "java/lang/StringBuilder", name := "toString", desc := "()Ljava/lang/String;" } : Jvm.MethodName)) ∈ lw_all := lw_g (lw_at lw_m3 67 rfl) rfl
theorem q618 : (Jvm.Cond.methodLink "java/util/BitSet" (146 : Nat) ({ cls := "java/lang/IndexOutOfBoundsException", name := "<init>", desc := "(Ljava/lang/String;)V" } : Jvm.MethodName)) ∈ lw_all := lw_g (lw_at lw_m3 68 rfl) rfl
theorem q624 : (Jvm.Cond.methodLink "java/util/BitSet" (155 : Nat) ({ cls := "java/util/BitSet", name := "expandTo", desc := "(I)V" } : Jvm.MethodName)) ∈ lw_all := lw_g (lw_at lw_m3 74 rfl) rfl
theorem q625 : (Jvm.Cond.privateMethod ({ cls := "java/util/BitSet", name := "expandTo", desc := "(I)V" } : Jvm.MethodName)) ∈ lw_tbl := lw_at lw_m3 75 rfl
theorem q626 : (Jvm.Cond.instanceMethod ({ cls := "java/util/BitSet", name := "expandTo", desc := "(I)V" } : Jvm.MethodName)) ∈ lw_all := lw_g (lw_at lw_m3 76 rfl) rfl
theorem q627 : (Jvm.Cond.code ({ cls := "java/util/BitSet", name := "expandTo", desc := "(I)V" } : Jvm.MethodName) prog_51_method_15_code (3 : Nat) (Option.none : Option Jvm.ClassFile.FieldType)) ∈ lw_all := lw_g (lw_at lw_m3 77 rfl) rfl
theorem q628 : (Jvm.Cond.methodLink "java/util/BitSet" (139 : Nat) ({ cls := "java/util/BitSet", name := "ensureCapacity", desc := "(I)V" } : Jvm.MethodName)) ∈ lw_all := lw_g (lw_at lw_m3 78 rfl) rfl
theorem q629 : (Jvm.Cond.privateMethod ({ cls := "java/util/BitSet", name := "ensureCapacity", desc := "(I)V" } : Jvm.MethodName)) ∈ lw_tbl := lw_at lw_m3 79 rfl
theorem q630 : (Jvm.Cond.instanceMethod ({ cls := "java/util/BitSet", name := "ensureCapacity", desc := "(I)V" } : Jvm.MethodName)) ∈ lw_all := lw_g (lw_at lw_m3 80 rfl) rfl
theorem q631 : (Jvm.Cond.code ({ cls := "java/util/BitSet", name := "ensureCapacity", desc := "(I)V" } : Jvm.MethodName) prog_51_method_14_code (3 : Nat) (Option.none : Option Jvm.ClassFile.FieldType)) ∈ lw_all := lw_g (lw_at lw_m3 81 rfl) rfl
theorem q632 : (Jvm.Cond.methodLink "java/util/BitSet" (133 : Nat) ({ cls := "java/lang/Math", name := "max", desc := "(II)I" } : Jvm.MethodName)) ∈ lw_all := lw_g (lw_at lw_m3 82 rfl) rfl
theorem q633 : (Jvm.Cond.methodLink "java/util/BitSet" (59 : Nat) ({ cls := "java/util/Arrays", name := "copyOf", desc := "([JI)[J" } : Jvm.MethodName)) ∈ lw_all := lw_g (lw_at lw_m3 83 rfl) rfl
theorem q641 : (Jvm.Cond.methodLink "java/util/BitSet" (56 : Nat) ({ cls := "java/util/BitSet", name := "checkInvariants", desc := "()V" } : Jvm.MethodName)) ∈ lw_all := lw_g (lw_at lw_m3 91 rfl) rfl
theorem q642 : (Jvm.Cond.privateMethod ({ cls := "java/util/BitSet", name := "checkInvariants", desc := "()V" } : Jvm.MethodName)) ∈ lw_tbl := lw_at lw_m3 92 rfl
theorem q643 : (Jvm.Cond.instanceMethod ({ cls := "java/util/BitSet", name := "checkInvariants", desc := "()V" } : Jvm.MethodName)) ∈ lw_all := lw_g (lw_at lw_m3 93 rfl) rfl
theorem q644 : (Jvm.Cond.code ({ cls := "java/util/BitSet", name := "checkInvariants", desc := "()V" } : Jvm.MethodName) prog_51_method_2_code (1 : Nat) (Option.none : Option Jvm.ClassFile.FieldType)) ∈ lw_all := lw_g (lw_at lw_m3 94 rfl) rfl
theorem q645 : (Jvm.Cond.fieldLink "java/util/BitSet" (3 : Nat) "java/util/BitSet" "$assertionsDisabled" "Z") ∈ lw_all := lw_g (lw_at lw_m3 95 rfl) rfl
theorem q646 : (Jvm.Cond.laysStatic "java/util/BitSet" "$assertionsDisabled" "Z") ∈ lw_tbl := lw_at lw_m3 96 rfl
theorem q921 : (Jvm.Cond.selects "java/util/BitSet" ({ cls := "java/lang/Object", name := "getClass", desc := "()Ljava/lang/Class;" } : Jvm.MethodName) ({ cls := "java/lang/Object", name := "getClass", desc := "()Ljava/lang/Class;" } : Jvm.MethodName)) ∈ lw_all := lw_g (lw_at lw_m4 131 rfl) rfl
theorem q974 : (Jvm.Cond.instanceMethod ({ cls := "java/util/BitSet", name := "get", desc := "(I)Z" } : Jvm.MethodName)) ∈ lw_all := lw_g (lw_at lw_m4 184 rfl) rfl
theorem q975 : (Jvm.Cond.selects "java/util/BitSet" ({ cls := "java/util/BitSet", name := "get", desc := "(I)Z" } : Jvm.MethodName) ({ cls := "java/util/BitSet", name := "get", desc := "(I)Z" } : Jvm.MethodName)) ∈ lw_all := lw_g (lw_at lw_m4 185 rfl) rfl
theorem q976 : (Jvm.Cond.code ({ cls := "java/util/BitSet", name := "get", desc := "(I)Z" } : Jvm.MethodName) prog_51_method_26_code (3 : Nat) (Option.some Jvm.ClassFile.FieldType.boolean)) ∈ lw_all := lw_g (lw_at lw_m4 186 rfl) rfl
theorem q978 : (Jvm.Cond.instanceMethod ({ cls := "java/util/BitSet", name := "set", desc := "(IZ)V" } : Jvm.MethodName)) ∈ lw_all := lw_g (lw_at lw_m4 188 rfl) rfl
theorem q979 : (Jvm.Cond.selects "java/util/BitSet" ({ cls := "java/util/BitSet", name := "set", desc := "(IZ)V" } : Jvm.MethodName) ({ cls := "java/util/BitSet", name := "set", desc := "(IZ)V" } : Jvm.MethodName)) ∈ lw_all := lw_g (lw_at lw_m4 189 rfl) rfl
theorem q980 : (Jvm.Cond.code ({ cls := "java/util/BitSet", name := "set", desc := "(IZ)V" } : Jvm.MethodName) prog_51_method_20_code (3 : Nat) (Option.none : Option Jvm.ClassFile.FieldType)) ∈ lw_all := lw_g (lw_at lw_m4 190 rfl) rfl
theorem q981 : (Jvm.Cond.methodLink "java/util/BitSet" (167 : Nat) ({ cls := "java/util/BitSet", name := "set", desc := "(I)V" } : Jvm.MethodName)) ∈ lw_all := lw_g (lw_at lw_m4 191 rfl) rfl
theorem q982 : (Jvm.Cond.methodLink "java/util/BitSet" (170 : Nat) ({ cls := "java/util/BitSet", name := "clear", desc := "(I)V" } : Jvm.MethodName)) ∈ lw_all := lw_g (lw_at lw_m4 192 rfl) rfl
theorem q983 : (Jvm.Cond.instanceMethod ({ cls := "java/util/BitSet", name := "clear", desc := "(I)V" } : Jvm.MethodName)) ∈ lw_all := lw_g (lw_at lw_m4 193 rfl) rfl
theorem q984 : (Jvm.Cond.selects "java/util/BitSet" ({ cls := "java/util/BitSet", name := "clear", desc := "(I)V" } : Jvm.MethodName) ({ cls := "java/util/BitSet", name := "clear", desc := "(I)V" } : Jvm.MethodName)) ∈ lw_all := lw_g (lw_at lw_m4 194 rfl) rfl
theorem q985 : (Jvm.Cond.code ({ cls := "java/util/BitSet", name := "clear", desc := "(I)V" } : Jvm.MethodName) prog_51_method_23_code (3 : Nat) (Option.none : Option Jvm.ClassFile.FieldType)) ∈ lw_all := lw_g (lw_at lw_m4 195 rfl) rfl
theorem q986 : (Jvm.Cond.constantLong "java/util/BitSet" (165 : Nat) (-1 : Int64)) ∈ lw_all := lw_g (lw_at lw_m4 196 rfl) rfl
theorem q987 : (Jvm.Cond.methodLink "java/util/BitSet" (158 : Nat) ({ cls := "java/util/BitSet", name := "recalculateWordsInUse", desc := "()V" } : Jvm.MethodName)) ∈ lw_all := lw_g (lw_at lw_m4 197 rfl) rfl
theorem q988 : (Jvm.Cond.privateMethod ({ cls := "java/util/BitSet", name := "recalculateWordsInUse", desc := "()V" } : Jvm.MethodName)) ∈ lw_tbl := lw_at lw_m4 198 rfl
theorem q989 : (Jvm.Cond.instanceMethod ({ cls := "java/util/BitSet", name := "recalculateWordsInUse", desc := "()V" } : Jvm.MethodName)) ∈ lw_all := lw_g (lw_at lw_m4 199 rfl) rfl
theorem q990 : (Jvm.Cond.code ({ cls := "java/util/BitSet", name := "recalculateWordsInUse", desc := "()V" } : Jvm.MethodName) prog_51_method_3_code (2 : Nat) (Option.none : Option Jvm.ClassFile.FieldType)) ∈ lw_all := lw_g (lw_at lw_m4 200 rfl) rfl
theorem q1063 : (Jvm.Cond.instanceMethod ({ cls := "java/util/BitSet", name := "nextSetBit", desc := "(I)I" } : Jvm.MethodName)) ∈ lw_all := lw_g (lw_at lw_m5 33 rfl) rfl
theorem q1064 : (Jvm.Cond.selects "java/util/BitSet" ({ cls := "java/util/BitSet", name := "nextSetBit", desc := "(I)I" } : Jvm.MethodName) ({ cls := "java/util/BitSet", name := "nextSetBit", desc := "(I)I" } : Jvm.MethodName)) ∈ lw_all := lw_g (lw_at lw_m5 34 rfl) rfl
theorem q1065 : (Jvm.Cond.code ({ cls := "java/util/BitSet", name := "nextSetBit", desc := "(I)I" } : Jvm.MethodName) prog_51_method_28_code (5 : Nat) (Option.some Jvm.ClassFile.FieldType.int)) ∈ lw_all := lw_g (lw_at lw_m5 35 rfl) rfl
theorem q1066 : (Jvm.Cond.stringRef "java/util/BitSet" (144 : Nat) "fromIndex < 0: ") ∈ lw_tbl := lw_at lw_m5 36 rfl
theorem q1067 : (Jvm.Cond.methodLink "java/util/BitSet" (182 : Nat) ({ cls := "java/lang/Long", name := "numberOfTrailingZeros", desc := "(J)I" } : Jvm.MethodName)) ∈ lw_all := lw_g (lw_at lw_m5 37 rfl) rfl
theorem q2237 : (Jvm.Cond.instanceMethod ({ cls := "java/util/BitSet", name := "clone", desc := "()Ljava/lang/Object;" } : Jvm.MethodName)) ∈ lw_all := lw_g (lw_at lw_m10 7 rfl) rfl
theorem q2238 : (Jvm.Cond.selects "java/util/BitSet" ({ cls := "java/util/BitSet", name := "clone", desc := "()Ljava/lang/Object;" } : Jvm.MethodName) ({ cls := "java/util/BitSet", name := "clone", desc := "()Ljava/lang/Object;" } : Jvm.MethodName)) ∈ lw_all := lw_g (lw_at lw_m10 8 rfl) rfl
theorem q2239 : (Jvm.Cond.codeWith ({ cls := "java/util/BitSet", name := "clone", desc := "()Ljava/lang/Object;" } : Jvm.MethodName) prog_51_method_43_code (2 : Nat) (Option.some (Jvm.ClassFile.FieldType.object "java/lang/Object")) [((11 : Nat), (38 : Nat), (39 : Nat), (216 : Nat))]) ∈ lw_all := lw_g (lw_at lw_m10 9 rfl) rfl
theorem q2240 : (Jvm.Cond.methodLink "java/util/BitSet" (207 : Nat) ({ cls := "java/util/BitSet", name := "trimToSize", desc := "()V" } : Jvm.MethodName)) ∈ lw_all := lw_g (lw_at lw_m10 10 rfl) rfl
theorem q2241 : (Jvm.Cond.privateMethod ({ cls := "java/util/BitSet", name := "trimToSize", desc := "()V" } : Jvm.MethodName)) ∈ lw_tbl := lw_at lw_m10 11 rfl
theorem q2242 : (Jvm.Cond.instanceMethod ({ cls := "java/util/BitSet", name := "trimToSize", desc := "()V" } : Jvm.MethodName)) ∈ lw_all := lw_g (lw_at lw_m10 12 rfl) rfl
theorem q2243 : (Jvm.Cond.code ({ cls := "java/util/BitSet", name := "trimToSize", desc := "()V" } : Jvm.MethodName) prog_51_method_44_code (1 : Nat) (Option.none : Option Jvm.ClassFile.FieldType)) ∈ lw_all := lw_g (lw_at lw_m10 13 rfl) rfl
theorem q2244 : (Jvm.Cond.methodLink "java/util/BitSet" (210 : Nat) ({ cls := "java/lang/Object", name := "clone", desc := "()Ljava/lang/Object;" } : Jvm.MethodName)) ∈ lw_all := lw_g (lw_at lw_m10 14 rfl) rfl
theorem q2245 : (Jvm.Cond.classLink "java/util/BitSet" (1 : Nat) "java/util/BitSet") ∈ lw_all := lw_g (lw_at lw_m10 15 rfl) rfl
theorem q2246 : (Jvm.Cond.methodLink "java/util/BitSet" (214 : Nat) ({ cls := "[J", name := "clone", desc := "()Ljava/lang/Object;" } : Jvm.MethodName)) ∈ lw_all := lw_g (lw_at lw_m10 16 rfl) rfl
theorem q2247 : (Jvm.Cond.classLink "java/util/BitSet" (215 : Nat) "[J") ∈ lw_all := lw_g (lw_at lw_m10 17 rfl) rfl
theorem q2335 : (Jvm.Cond.instanceMethod ({ cls := "java/util/BitSet", name := "cardinality", desc := "()I" } : Jvm.MethodName)) ∈ lw_all := lw_g (lw_at lw_m10 105 rfl) rfl
theorem q2336 : (Jvm.Cond.selects "java/util/BitSet" ({ cls := "java/util/BitSet", name := "cardinality", desc := "()I" } : Jvm.MethodName) ({ cls := "java/util/BitSet", name := "cardinality", desc := "()I" } : Jvm.MethodName)) ∈ lw_all := lw_g (lw_at lw_m10 106 rfl) rfl
theorem q2337 : (Jvm.Cond.code ({ cls := "java/util/BitSet", name := "cardinality", desc := "()I" } : Jvm.MethodName) prog_51_method_35_code (3 : Nat) (Option.some Jvm.ClassFile.FieldType.int)) ∈ lw_all := lw_g (lw_at lw_m10 107 rfl) rfl
theorem q2338 : (Jvm.Cond.methodLink "java/util/BitSet" (196 : Nat) ({ cls := "java/lang/Long", name := "bitCount", desc := "(J)I" } : Jvm.MethodName)) ∈ lw_all := lw_g (lw_at lw_m10 108 rfl) rfl
theorem q3047 : (Jvm.Cond.castable "java/util/BitSet" "java/lang/Cloneable") ∈ lw_tbl := lw_at lw_m13 97 rfl
theorem q3056 : (Jvm.Cond.castable "java/util/BitSet" "java/lang/Object") ∈ lw_tbl := lw_at lw_m13 106 rfl
theorem in_J18 : ∀ w ∈ wsJ180, w ∈ lw_all := lw_in wsJ180 [519, 521, 523] (by decide +kernel) (by decide +kernel)
/-! java/util/AbstractSequentialList -/
set_option maxRecDepth 100000
def RJ19 : String := "java/util/AbstractSequentialList"
abbrev cJ19_init : ByteArray := prog_45_method_1_code
def yJ19_init : MethodName := ⟨RJ19, "<init>", "()V"⟩
theorem dJ19_init_0 : decode cJ19_init 0 = .ok (.aload_n 0, 1) := by decide +kernel
theorem dJ19_init_1 : decode cJ19_init 1 = .ok (.invokespecial 1, 3) := by decide +kernel
theorem dJ19_init_4 : decode cJ19_init 4 = .ok (.return_, 1) := by decide +kernel
abbrev cJ19_iterator : ByteArray := prog_45_method_7_code
def yJ19_iterator : MethodName := ⟨RJ19, "iterator", "()Ljava/util/Iterator;"⟩
theorem dJ19_iterator_0 : decode cJ19_iterator 0 = .ok (.aload_n 0, 1) := by decide +kernel
theorem dJ19_iterator_1 : decode cJ19_iterator 1 = .ok (.invokevirtual 65, 3) := by decide +kernel
theorem dJ19_iterator_4 : decode cJ19_iterator 4 = .ok (.areturn, 1) := by decide +kernel
theorem q94 : (Jvm.Cond.initialized "java/util/AbstractSequentialList") ∈ lw_all := lw_g (lw_at lw_m1 24 rfl) rfl
theorem q541 : (Jvm.Cond.instanceMethod ({ cls := "java/util/AbstractSequentialList", name := "<init>", desc := "()V" } : Jvm.MethodName)) ∈ lw_all := lw_g (lw_at lw_m2 231 rfl) rfl
theorem q542 : (Jvm.Cond.code ({ cls := "java/util/AbstractSequentialList", name := "<init>", desc := "()V" } : Jvm.MethodName) prog_45_method_1_code (1 : Nat) (Option.none : Option Jvm.ClassFile.FieldType)) ∈ lw_all := lw_g (lw_at lw_m2 232 rfl) rfl
theorem q543 : (Jvm.Cond.methodLink "java/util/AbstractSequentialList" (1 : Nat) ({ cls := "java/util/AbstractList", name := "<init>", desc := "()V" } : Jvm.MethodName)) ∈ lw_all := lw_g (lw_at lw_m2 233 rfl) rfl
theorem q2080 : (Jvm.Cond.declares ({ cls := "java/util/AbstractSequentialList", name := "iterator", desc := "()Ljava/util/Iterator;" } : Jvm.MethodName)) ∈ lw_tbl := lw_at lw_m9 90 rfl
theorem q2082 : (Jvm.Cond.instanceMethod ({ cls := "java/util/AbstractSequentialList", name := "iterator", desc := "()Ljava/util/Iterator;" } : Jvm.MethodName)) ∈ lw_all := lw_g (lw_at lw_m9 92 rfl) rfl
theorem q2083 : (Jvm.Cond.code ({ cls := "java/util/AbstractSequentialList", name := "iterator", desc := "()Ljava/util/Iterator;" } : Jvm.MethodName) prog_45_method_7_code (1 : Nat) (Option.some (Jvm.ClassFile.FieldType.object "java/util/Iterator"))) ∈ lw_all := lw_g (lw_at lw_m9 93 rfl) rfl
theorem q2084 : (Jvm.Cond.methodLink "java/util/AbstractSequentialList" (65 : Nat) ({ cls := "java/util/AbstractSequentialList", name := "listIterator", desc := "()Ljava/util/ListIterator;" } : Jvm.MethodName)) ∈ lw_all := lw_g (lw_at lw_m9 94 rfl) rfl
theorem q2085 : (Jvm.Cond.sameMethod "java/util/AbstractSequentialList" "java/util/AbstractList" "listIterator" "()Ljava/util/ListIterator;") ∈ lw_all := lw_g (lw_at lw_m9 95 rfl) rfl
/-! java/util/LinkedList -/
set_option maxRecDepth 100000
def RJ20 : String := "java/util/LinkedList"
def TJ20 : u_T := fun k => match k with
  | 0 => ("java/util/AbstractList", "modCount", "I", false)
  | 1 => ("java/util/LinkedList", "size", "I", false)
  | 2 => ("java/util/LinkedList", "first", "Ljava/util/LinkedList$Node;", false)
  | _ => ("java/util/LinkedList", "last", "Ljava/util/LinkedList$Node;", false)
def tyJ20 : Nat → FieldType := fun k => match k with
  | 0 => .int
  | 1 => .int
  | 2 => .object "java/util/LinkedList$Node"
  | _ => .object "java/util/LinkedList$Node"
abbrev wsJ200 : List Cond := u_ws RJ20 TJ20 4
theorem nmJ20 : ∀ a, a < 4 → ∀ b, b < 4 → a ≠ b → (TJ20 a).2.1 ≠ (TJ20 b).2.1 := by decide +kernel
theorem tyJ20_ok : ∀ k, k < 4 → parseFieldDescriptor (TJ20 k).2.2.1 = some (tyJ20 k) := by decide +kernel
abbrev cJ20_init : ByteArray := prog_56_method_1_code
def yJ20_init : MethodName := ⟨RJ20, "<init>", "()V"⟩
def dkwJ20_init_0 : List UInt8 := [42, 183, 0, 1, 42, 3, 181, 0, 7, 177]
abbrev dktJ20_init_0 : List UInt8 := dkwJ20_init_0 ++ []
theorem dksJ20_init_0 : cJ20_init.data.toList.drop 0 = dktJ20_init_0 := by decide +kernel
theorem dJ20_init_0 : decode cJ20_init 0 = .ok (.aload_n 0, 1) := dk_42 (dk_at dksJ20_init_0 0 rfl rfl)
theorem dJ20_init_1 : decode cJ20_init 1 = .ok (.invokespecial 1, 3) := dk_183 0 1 (dk_at dksJ20_init_0 1 rfl rfl)
theorem dJ20_init_4 : decode cJ20_init 4 = .ok (.aload_n 0, 1) := dk_42 (dk_at dksJ20_init_0 4 rfl rfl)
theorem dJ20_init_5 : decode cJ20_init 5 = .ok (.iconst 0, 1) := dk_3 (dk_at dksJ20_init_0 5 rfl rfl)
theorem dJ20_init_6 : decode cJ20_init 6 = .ok (.putfield 7, 3) := dk_181 0 7 (dk_at dksJ20_init_0 6 rfl rfl)
theorem dJ20_init_9 : decode cJ20_init 9 = .ok (.return_, 1) := dk_177 (dk_at dksJ20_init_0 9 rfl rfl)
abbrev cJ20_size : ByteArray := prog_56_method_16_code
def yJ20_size : MethodName := ⟨RJ20, "size", "()I"⟩
theorem dJ20_size_0 : decode cJ20_size 0 = .ok (.aload_n 0, 1) := by decide +kernel
theorem dJ20_size_1 : decode cJ20_size 1 = .ok (.getfield 7, 3) := by decide +kernel
theorem dJ20_size_4 : decode cJ20_size 4 = .ok (.ireturn, 1) := by decide +kernel
abbrev cJ20_add : ByteArray := prog_56_method_17_code
def yJ20_add : MethodName := ⟨RJ20, "add", "(Ljava/lang/Object;)Z"⟩
def dkwJ20_add_0 : List UInt8 := [42, 43, 182, 0, 57, 4, 172]
abbrev dktJ20_add_0 : List UInt8 := dkwJ20_add_0 ++ []
theorem dksJ20_add_0 : cJ20_add.data.toList.drop 0 = dktJ20_add_0 := by decide +kernel
theorem dJ20_add_0 : decode cJ20_add 0 = .ok (.aload_n 0, 1) := dk_42 (dk_at dksJ20_add_0 0 rfl rfl)
theorem dJ20_add_1 : decode cJ20_add 1 = .ok (.aload_n 1, 1) := dk_43 (dk_at dksJ20_add_0 1 rfl rfl)
theorem dJ20_add_2 : decode cJ20_add 2 = .ok (.invokevirtual 57, 3) := dk_182 0 57 (dk_at dksJ20_add_0 2 rfl rfl)
theorem dJ20_add_5 : decode cJ20_add 5 = .ok (.iconst 1, 1) := dk_4 (dk_at dksJ20_add_0 5 rfl rfl)
theorem dJ20_add_6 : decode cJ20_add 6 = .ok (.ireturn, 1) := dk_172 (dk_at dksJ20_add_0 6 rfl rfl)
abbrev cJ20_linkLast : ByteArray := prog_56_method_4_code
def yJ20_linkLast : MethodName := ⟨RJ20, "linkLast", "(Ljava/lang/Object;)V"⟩
def dkwJ20_linkLast_2 : List UInt8 := [181, 0, 7, 42, 89, 180, 0, 33, 4, 96, 181, 0, 33, 177]
abbrev dktJ20_linkLast_2 : List UInt8 := dkwJ20_linkLast_2 ++ []
def dkwJ20_linkLast_1 : List UInt8 := [199, 0, 11, 42, 45, 181, 0, 18, 167, 0, 8, 44, 45, 181, 0, 36, 42, 89, 180, 0, 7, 4, 96]
abbrev dktJ20_linkLast_1 : List UInt8 := dkwJ20_linkLast_1 ++ dktJ20_linkLast_2
def dkwJ20_linkLast_0 : List UInt8 := [42, 180, 0, 27, 77, 187, 0, 22, 89, 44, 43, 1, 183, 0, 24, 78, 42, 45, 181, 0, 27, 44]
abbrev dktJ20_linkLast_0 : List UInt8 := dkwJ20_linkLast_0 ++ dktJ20_linkLast_1
theorem dksJ20_linkLast_0 : cJ20_linkLast.data.toList.drop 0 = dktJ20_linkLast_0 := by decide +kernel
theorem dksJ20_linkLast_1 : cJ20_linkLast.data.toList.drop 22 = dktJ20_linkLast_1 := dk_seg dksJ20_linkLast_0 22 rfl rfl
theorem dksJ20_linkLast_2 : cJ20_linkLast.data.toList.drop 45 = dktJ20_linkLast_2 := dk_seg dksJ20_linkLast_1 23 rfl rfl
theorem dJ20_linkLast_0 : decode cJ20_linkLast 0 = .ok (.aload_n 0, 1) := dk_42 (dk_at dksJ20_linkLast_0 0 rfl rfl)
theorem dJ20_linkLast_1 : decode cJ20_linkLast 1 = .ok (.getfield 27, 3) := dk_180 0 27 (dk_at dksJ20_linkLast_0 1 rfl rfl)
theorem dJ20_linkLast_4 : decode cJ20_linkLast 4 = .ok (.astore_n 2, 1) := dk_77 (dk_at dksJ20_linkLast_0 4 rfl rfl)
theorem dJ20_linkLast_5 : decode cJ20_linkLast 5 = .ok (.new 22, 3) := dk_187 0 22 (dk_at dksJ20_linkLast_0 5 rfl rfl)
theorem dJ20_linkLast_8 : decode cJ20_linkLast 8 = .ok (.dup, 1) := dk_89 (dk_at dksJ20_linkLast_0 8 rfl rfl)
theorem dJ20_linkLast_9 : decode cJ20_linkLast 9 = .ok (.aload_n 2, 1) := dk_44 (dk_at dksJ20_linkLast_0 9 rfl rfl)
theorem dJ20_linkLast_10 : decode cJ20_linkLast 10 = .ok (.aload_n 1, 1) := dk_43 (dk_at dksJ20_linkLast_0 10 rfl rfl)
theorem dJ20_linkLast_11 : decode cJ20_linkLast 11 = .ok (.aconst_null, 1) := dk_1 (dk_at dksJ20_linkLast_0 11 rfl rfl)
theorem dJ20_linkLast_12 : decode cJ20_linkLast 12 = .ok (.invokespecial 24, 3) := dk_183 0 24 (dk_at dksJ20_linkLast_0 12 rfl rfl)
theorem dJ20_linkLast_15 : decode cJ20_linkLast 15 = .ok (.astore_n 3, 1) := dk_78 (dk_at dksJ20_linkLast_0 15 rfl rfl)
theorem dJ20_linkLast_16 : decode cJ20_linkLast 16 = .ok (.aload_n 0, 1) := dk_42 (dk_at dksJ20_linkLast_0 16 rfl rfl)
theorem dJ20_linkLast_17 : decode cJ20_linkLast 17 = .ok (.aload_n 3, 1) := dk_45 (dk_at dksJ20_linkLast_0 17 rfl rfl)
theorem dJ20_linkLast_18 : decode cJ20_linkLast 18 = .ok (.putfield 27, 3) := dk_181 0 27 (dk_at dksJ20_linkLast_0 18 rfl rfl)
theorem dJ20_linkLast_21 : decode cJ20_linkLast 21 = .ok (.aload_n 2, 1) := dk_44 (dk_at dksJ20_linkLast_0 21 rfl rfl)
theorem dJ20_linkLast_22 : decode cJ20_linkLast 22 = .ok (.ifnonnull 11, 3) := dk_199 0 11 (dk_at dksJ20_linkLast_1 0 rfl rfl)
theorem dJ20_linkLast_25 : decode cJ20_linkLast 25 = .ok (.aload_n 0, 1) := dk_42 (dk_at dksJ20_linkLast_1 3 rfl rfl)
theorem dJ20_linkLast_26 : decode cJ20_linkLast 26 = .ok (.aload_n 3, 1) := dk_45 (dk_at dksJ20_linkLast_1 4 rfl rfl)
theorem dJ20_linkLast_27 : decode cJ20_linkLast 27 = .ok (.putfield 18, 3) := dk_181 0 18 (dk_at dksJ20_linkLast_1 5 rfl rfl)
theorem dJ20_linkLast_30 : decode cJ20_linkLast 30 = .ok (.goto 8, 3) := dk_167 0 8 (dk_at dksJ20_linkLast_1 8 rfl rfl)
theorem dJ20_linkLast_33 : decode cJ20_linkLast 33 = .ok (.aload_n 2, 1) := dk_44 (dk_at dksJ20_linkLast_1 11 rfl rfl)
theorem dJ20_linkLast_34 : decode cJ20_linkLast 34 = .ok (.aload_n 3, 1) := dk_45 (dk_at dksJ20_linkLast_1 12 rfl rfl)
theorem dJ20_linkLast_35 : decode cJ20_linkLast 35 = .ok (.putfield 36, 3) := dk_181 0 36 (dk_at dksJ20_linkLast_1 13 rfl rfl)
theorem dJ20_linkLast_38 : decode cJ20_linkLast 38 = .ok (.aload_n 0, 1) := dk_42 (dk_at dksJ20_linkLast_1 16 rfl rfl)
theorem dJ20_linkLast_39 : decode cJ20_linkLast 39 = .ok (.dup, 1) := dk_89 (dk_at dksJ20_linkLast_1 17 rfl rfl)
theorem dJ20_linkLast_40 : decode cJ20_linkLast 40 = .ok (.getfield 7, 3) := dk_180 0 7 (dk_at dksJ20_linkLast_1 18 rfl rfl)
theorem dJ20_linkLast_43 : decode cJ20_linkLast 43 = .ok (.iconst 1, 1) := dk_4 (dk_at dksJ20_linkLast_1 21 rfl rfl)
theorem dJ20_linkLast_44 : decode cJ20_linkLast 44 = .ok (.iadd, 1) := dk_96 (dk_at dksJ20_linkLast_1 22 rfl rfl)
theorem dJ20_linkLast_45 : decode cJ20_linkLast 45 = .ok (.putfield 7, 3) := dk_181 0 7 (dk_at dksJ20_linkLast_2 0 rfl rfl)
theorem dJ20_linkLast_48 : decode cJ20_linkLast 48 = .ok (.aload_n 0, 1) := dk_42 (dk_at dksJ20_linkLast_2 3 rfl rfl)
theorem dJ20_linkLast_49 : decode cJ20_linkLast 49 = .ok (.dup, 1) := dk_89 (dk_at dksJ20_linkLast_2 4 rfl rfl)
theorem dJ20_linkLast_50 : decode cJ20_linkLast 50 = .ok (.getfield 33, 3) := dk_180 0 33 (dk_at dksJ20_linkLast_2 5 rfl rfl)
theorem dJ20_linkLast_53 : decode cJ20_linkLast 53 = .ok (.iconst 1, 1) := dk_4 (dk_at dksJ20_linkLast_2 8 rfl rfl)
theorem dJ20_linkLast_54 : decode cJ20_linkLast 54 = .ok (.iadd, 1) := dk_96 (dk_at dksJ20_linkLast_2 9 rfl rfl)
theorem dJ20_linkLast_55 : decode cJ20_linkLast 55 = .ok (.putfield 33, 3) := dk_181 0 33 (dk_at dksJ20_linkLast_2 10 rfl rfl)
theorem dJ20_linkLast_58 : decode cJ20_linkLast 58 = .ok (.return_, 1) := dk_177 (dk_at dksJ20_linkLast_2 13 rfl rfl)
abbrev cJ20_get : ByteArray := prog_56_method_22_code
def yJ20_get : MethodName := ⟨RJ20, "get", "(I)Ljava/lang/Object;"⟩
def dkwJ20_get_0 : List UInt8 := [42, 27, 182, 0, 90, 42, 27, 182, 0, 86, 180, 0, 39, 176]
abbrev dktJ20_get_0 : List UInt8 := dkwJ20_get_0 ++ []
theorem dksJ20_get_0 : cJ20_get.data.toList.drop 0 = dktJ20_get_0 := by decide +kernel
theorem dJ20_get_0 : decode cJ20_get 0 = .ok (.aload_n 0, 1) := dk_42 (dk_at dksJ20_get_0 0 rfl rfl)
theorem dJ20_get_1 : decode cJ20_get 1 = .ok (.iload_n 1, 1) := dk_27 (dk_at dksJ20_get_0 1 rfl rfl)
theorem dJ20_get_2 : decode cJ20_get 2 = .ok (.invokevirtual 90, 3) := dk_182 0 90 (dk_at dksJ20_get_0 2 rfl rfl)
theorem dJ20_get_5 : decode cJ20_get 5 = .ok (.aload_n 0, 1) := dk_42 (dk_at dksJ20_get_0 5 rfl rfl)
theorem dJ20_get_6 : decode cJ20_get 6 = .ok (.iload_n 1, 1) := dk_27 (dk_at dksJ20_get_0 6 rfl rfl)
theorem dJ20_get_7 : decode cJ20_get 7 = .ok (.invokevirtual 86, 3) := dk_182 0 86 (dk_at dksJ20_get_0 7 rfl rfl)
theorem dJ20_get_10 : decode cJ20_get 10 = .ok (.getfield 39, 3) := dk_180 0 39 (dk_at dksJ20_get_0 10 rfl rfl)
theorem dJ20_get_13 : decode cJ20_get 13 = .ok (.areturn, 1) := dk_176 (dk_at dksJ20_get_0 13 rfl rfl)
abbrev cJ20_checkElementIndex : ByteArray := prog_56_method_29_code
def yJ20_checkElementIndex : MethodName := ⟨RJ20, "checkElementIndex", "(I)V"⟩
def dkwJ20_checkElementIndex_0 : List UInt8 := [42, 27, 182, 0, 115, 154, 0, 16, 187, 0, 119, 89, 42, 27, 182, 0, 121, 183, 0, 125, 191, 177]
abbrev dktJ20_checkElementIndex_0 : List UInt8 := dkwJ20_checkElementIndex_0 ++ []
theorem dksJ20_checkElementIndex_0 : cJ20_checkElementIndex.data.toList.drop 0 = dktJ20_checkElementIndex_0 := by decide +kernel
theorem dJ20_checkElementIndex_0 : decode cJ20_checkElementIndex 0 = .ok (.aload_n 0, 1) := dk_42 (dk_at dksJ20_checkElementIndex_0 0 rfl rfl)
theorem dJ20_checkElementIndex_1 : decode cJ20_checkElementIndex 1 = .ok (.iload_n 1, 1) := dk_27 (dk_at dksJ20_checkElementIndex_0 1 rfl rfl)
theorem dJ20_checkElementIndex_2 : decode cJ20_checkElementIndex 2 = .ok (.invokevirtual 115, 3) := dk_182 0 115 (dk_at dksJ20_checkElementIndex_0 2 rfl rfl)
theorem dJ20_checkElementIndex_5 : decode cJ20_checkElementIndex 5 = .ok (.ifCond .ne 16, 3) := dk_154 0 16 (dk_at dksJ20_checkElementIndex_0 5 rfl rfl)
theorem dJ20_checkElementIndex_8 : decode cJ20_checkElementIndex 8 = .ok (.new 119, 3) := dk_187 0 119 (dk_at dksJ20_checkElementIndex_0 8 rfl rfl)
theorem dJ20_checkElementIndex_11 : decode cJ20_checkElementIndex 11 = .ok (.dup, 1) := dk_89 (dk_at dksJ20_checkElementIndex_0 11 rfl rfl)
theorem dJ20_checkElementIndex_12 : decode cJ20_checkElementIndex 12 = .ok (.aload_n 0, 1) := dk_42 (dk_at dksJ20_checkElementIndex_0 12 rfl rfl)
theorem dJ20_checkElementIndex_13 : decode cJ20_checkElementIndex 13 = .ok (.iload_n 1, 1) := dk_27 (dk_at dksJ20_checkElementIndex_0 13 rfl rfl)
theorem dJ20_checkElementIndex_14 : decode cJ20_checkElementIndex 14 = .ok (.invokevirtual 121, 3) := dk_182 0 121 (dk_at dksJ20_checkElementIndex_0 14 rfl rfl)
theorem dJ20_checkElementIndex_17 : decode cJ20_checkElementIndex 17 = .ok (.invokespecial 125, 3) := dk_183 0 125 (dk_at dksJ20_checkElementIndex_0 17 rfl rfl)
theorem dJ20_checkElementIndex_20 : decode cJ20_checkElementIndex 20 = .ok (.athrow, 1) := dk_191 (dk_at dksJ20_checkElementIndex_0 20 rfl rfl)
theorem dJ20_checkElementIndex_21 : decode cJ20_checkElementIndex 21 = .ok (.return_, 1) := dk_177 (dk_at dksJ20_checkElementIndex_0 21 rfl rfl)
abbrev cJ20_isElementIndex : ByteArray := prog_56_method_26_code
def yJ20_isElementIndex : MethodName := ⟨RJ20, "isElementIndex", "(I)Z"⟩
def dkwJ20_isElementIndex_0 : List UInt8 := [27, 155, 0, 15, 27, 42, 180, 0, 7, 162, 0, 7, 4, 167, 0, 4, 3, 172]
abbrev dktJ20_isElementIndex_0 : List UInt8 := dkwJ20_isElementIndex_0 ++ []
theorem dksJ20_isElementIndex_0 : cJ20_isElementIndex.data.toList.drop 0 = dktJ20_isElementIndex_0 := by decide +kernel
theorem dJ20_isElementIndex_0 : decode cJ20_isElementIndex 0 = .ok (.iload_n 1, 1) := dk_27 (dk_at dksJ20_isElementIndex_0 0 rfl rfl)
theorem dJ20_isElementIndex_1 : decode cJ20_isElementIndex 1 = .ok (.ifCond .lt 15, 3) := dk_155 0 15 (dk_at dksJ20_isElementIndex_0 1 rfl rfl)
theorem dJ20_isElementIndex_4 : decode cJ20_isElementIndex 4 = .ok (.iload_n 1, 1) := dk_27 (dk_at dksJ20_isElementIndex_0 4 rfl rfl)
theorem dJ20_isElementIndex_5 : decode cJ20_isElementIndex 5 = .ok (.aload_n 0, 1) := dk_42 (dk_at dksJ20_isElementIndex_0 5 rfl rfl)
theorem dJ20_isElementIndex_6 : decode cJ20_isElementIndex 6 = .ok (.getfield 7, 3) := dk_180 0 7 (dk_at dksJ20_isElementIndex_0 6 rfl rfl)
theorem dJ20_isElementIndex_9 : decode cJ20_isElementIndex 9 = .ok (.if_icmp .ge 7, 3) := dk_162 0 7 (dk_at dksJ20_isElementIndex_0 9 rfl rfl)
theorem dJ20_isElementIndex_12 : decode cJ20_isElementIndex 12 = .ok (.iconst 1, 1) := dk_4 (dk_at dksJ20_isElementIndex_0 12 rfl rfl)
theorem dJ20_isElementIndex_13 : decode cJ20_isElementIndex 13 = .ok (.goto 4, 3) := dk_167 0 4 (dk_at dksJ20_isElementIndex_0 13 rfl rfl)
theorem dJ20_isElementIndex_16 : decode cJ20_isElementIndex 16 = .ok (.iconst 0, 1) := dk_3 (dk_at dksJ20_isElementIndex_0 16 rfl rfl)
theorem dJ20_isElementIndex_17 : decode cJ20_isElementIndex 17 = .ok (.ireturn, 1) := dk_172 (dk_at dksJ20_isElementIndex_0 17 rfl rfl)
abbrev cJ20_outOfBoundsMsg : ByteArray := prog_56_method_28_code
def yJ20_outOfBoundsMsg : MethodName := ⟨RJ20, "outOfBoundsMsg", "(I)Ljava/lang/String;"⟩
def dkwJ20_outOfBoundsMsg_1 : List UInt8 := [180, 0, 7, 182, 0, 106, 182, 0, 111, 176]
abbrev dktJ20_outOfBoundsMsg_1 : List UInt8 := dkwJ20_outOfBoundsMsg_1 ++ []
def dkwJ20_outOfBoundsMsg_0 : List UInt8 := [187, 0, 97, 89, 183, 0, 99, 18, 100, 182, 0, 102, 27, 182, 0, 106, 18, 109, 182, 0, 102, 42]
abbrev dktJ20_outOfBoundsMsg_0 : List UInt8 := dkwJ20_outOfBoundsMsg_0 ++ dktJ20_outOfBoundsMsg_1
theorem dksJ20_outOfBoundsMsg_0 : cJ20_outOfBoundsMsg.data.toList.drop 0 = dktJ20_outOfBoundsMsg_0 := by decide +kernel
theorem dksJ20_outOfBoundsMsg_1 : cJ20_outOfBoundsMsg.data.toList.drop 22 = dktJ20_outOfBoundsMsg_1 := dk_seg dksJ20_outOfBoundsMsg_0 22 rfl rfl
theorem dJ20_outOfBoundsMsg_0 : decode cJ20_outOfBoundsMsg 0 = .ok (.new 97, 3) := dk_187 0 97 (dk_at dksJ20_outOfBoundsMsg_0 0 rfl rfl)
theorem dJ20_outOfBoundsMsg_3 : decode cJ20_outOfBoundsMsg 3 = .ok (.dup, 1) := dk_89 (dk_at dksJ20_outOfBoundsMsg_0 3 rfl rfl)
theorem dJ20_outOfBoundsMsg_4 : decode cJ20_outOfBoundsMsg 4 = .ok (.invokespecial 99, 3) := dk_183 0 99 (dk_at dksJ20_outOfBoundsMsg_0 4 rfl rfl)
theorem dJ20_outOfBoundsMsg_7 : decode cJ20_outOfBoundsMsg 7 = .ok (.ldc 100, 2) := dk_18 100 (dk_at dksJ20_outOfBoundsMsg_0 7 rfl rfl)
theorem dJ20_outOfBoundsMsg_9 : decode cJ20_outOfBoundsMsg 9 = .ok (.invokevirtual 102, 3) := dk_182 0 102 (dk_at dksJ20_outOfBoundsMsg_0 9 rfl rfl)
theorem dJ20_outOfBoundsMsg_12 : decode cJ20_outOfBoundsMsg 12 = .ok (.iload_n 1, 1) := dk_27 (dk_at dksJ20_outOfBoundsMsg_0 12 rfl rfl)
theorem dJ20_outOfBoundsMsg_13 : decode cJ20_outOfBoundsMsg 13 = .ok (.invokevirtual 106, 3) := dk_182 0 106 (dk_at dksJ20_outOfBoundsMsg_0 13 rfl rfl)
theorem dJ20_outOfBoundsMsg_16 : decode cJ20_outOfBoundsMsg 16 = .ok (.ldc 109, 2) := dk_18 109 (dk_at dksJ20_outOfBoundsMsg_0 16 rfl rfl)
theorem dJ20_outOfBoundsMsg_18 : decode cJ20_outOfBoundsMsg 18 = .ok (.invokevirtual 102, 3) := dk_182 0 102 (dk_at dksJ20_outOfBoundsMsg_0 18 rfl rfl)
theorem dJ20_outOfBoundsMsg_21 : decode cJ20_outOfBoundsMsg 21 = .ok (.aload_n 0, 1) := dk_42 (dk_at dksJ20_outOfBoundsMsg_0 21 rfl rfl)
theorem dJ20_outOfBoundsMsg_22 : decode cJ20_outOfBoundsMsg 22 = .ok (.getfield 7, 3) := dk_180 0 7 (dk_at dksJ20_outOfBoundsMsg_1 0 rfl rfl)
theorem dJ20_outOfBoundsMsg_25 : decode cJ20_outOfBoundsMsg 25 = .ok (.invokevirtual 106, 3) := dk_182 0 106 (dk_at dksJ20_outOfBoundsMsg_1 3 rfl rfl)
theorem dJ20_outOfBoundsMsg_28 : decode cJ20_outOfBoundsMsg 28 = .ok (.invokevirtual 111, 3) := dk_182 0 111 (dk_at dksJ20_outOfBoundsMsg_1 6 rfl rfl)
theorem dJ20_outOfBoundsMsg_31 : decode cJ20_outOfBoundsMsg 31 = .ok (.areturn, 1) := dk_176 (dk_at dksJ20_outOfBoundsMsg_1 9 rfl rfl)
abbrev cJ20_node : ByteArray := prog_56_method_31_code
def yJ20_node : MethodName := ⟨RJ20, "node", "(I)Ljava/util/LinkedList$Node;"⟩
def dkwJ20_node_2 : List UInt8 := [29, 27, 164, 0, 14, 44, 180, 0, 30, 77, 132, 3, 255, 167, 255, 243, 44, 176]
abbrev dktJ20_node_2 : List UInt8 := dkwJ20_node_2 ++ []
def dkwJ20_node_1 : List UInt8 := [180, 0, 36, 77, 132, 3, 1, 167, 255, 243, 44, 176, 42, 180, 0, 27, 77, 42, 180, 0, 7, 4, 100, 62]
abbrev dktJ20_node_1 : List UInt8 := dkwJ20_node_1 ++ dktJ20_node_2
def dkwJ20_node_0 : List UInt8 := [27, 42, 180, 0, 7, 4, 122, 162, 0, 28, 42, 180, 0, 18, 77, 3, 62, 29, 27, 162, 0, 14, 44]
abbrev dktJ20_node_0 : List UInt8 := dkwJ20_node_0 ++ dktJ20_node_1
theorem dksJ20_node_0 : cJ20_node.data.toList.drop 0 = dktJ20_node_0 := by decide +kernel
theorem dksJ20_node_1 : cJ20_node.data.toList.drop 23 = dktJ20_node_1 := dk_seg dksJ20_node_0 23 rfl rfl
theorem dksJ20_node_2 : cJ20_node.data.toList.drop 47 = dktJ20_node_2 := dk_seg dksJ20_node_1 24 rfl rfl
theorem dJ20_node_0 : decode cJ20_node 0 = .ok (.iload_n 1, 1) := dk_27 (dk_at dksJ20_node_0 0 rfl rfl)
theorem dJ20_node_1 : decode cJ20_node 1 = .ok (.aload_n 0, 1) := dk_42 (dk_at dksJ20_node_0 1 rfl rfl)
theorem dJ20_node_2 : decode cJ20_node 2 = .ok (.getfield 7, 3) := dk_180 0 7 (dk_at dksJ20_node_0 2 rfl rfl)
theorem dJ20_node_5 : decode cJ20_node 5 = .ok (.iconst 1, 1) := dk_4 (dk_at dksJ20_node_0 5 rfl rfl)
theorem dJ20_node_6 : decode cJ20_node 6 = .ok (.ishr, 1) := dk_122 (dk_at dksJ20_node_0 6 rfl rfl)
theorem dJ20_node_7 : decode cJ20_node 7 = .ok (.if_icmp .ge 28, 3) := dk_162 0 28 (dk_at dksJ20_node_0 7 rfl rfl)
theorem dJ20_node_10 : decode cJ20_node 10 = .ok (.aload_n 0, 1) := dk_42 (dk_at dksJ20_node_0 10 rfl rfl)
theorem dJ20_node_11 : decode cJ20_node 11 = .ok (.getfield 18, 3) := dk_180 0 18 (dk_at dksJ20_node_0 11 rfl rfl)
theorem dJ20_node_14 : decode cJ20_node 14 = .ok (.astore_n 2, 1) := dk_77 (dk_at dksJ20_node_0 14 rfl rfl)
theorem dJ20_node_15 : decode cJ20_node 15 = .ok (.iconst 0, 1) := dk_3 (dk_at dksJ20_node_0 15 rfl rfl)
theorem dJ20_node_16 : decode cJ20_node 16 = .ok (.istore_n 3, 1) := dk_62 (dk_at dksJ20_node_0 16 rfl rfl)
theorem dJ20_node_17 : decode cJ20_node 17 = .ok (.iload_n 3, 1) := dk_29 (dk_at dksJ20_node_0 17 rfl rfl)
theorem dJ20_node_18 : decode cJ20_node 18 = .ok (.iload_n 1, 1) := dk_27 (dk_at dksJ20_node_0 18 rfl rfl)
theorem dJ20_node_19 : decode cJ20_node 19 = .ok (.if_icmp .ge 14, 3) := dk_162 0 14 (dk_at dksJ20_node_0 19 rfl rfl)
theorem dJ20_node_22 : decode cJ20_node 22 = .ok (.aload_n 2, 1) := dk_44 (dk_at dksJ20_node_0 22 rfl rfl)
theorem dJ20_node_23 : decode cJ20_node 23 = .ok (.getfield 36, 3) := dk_180 0 36 (dk_at dksJ20_node_1 0 rfl rfl)
theorem dJ20_node_26 : decode cJ20_node 26 = .ok (.astore_n 2, 1) := dk_77 (dk_at dksJ20_node_1 3 rfl rfl)
theorem dJ20_node_27 : decode cJ20_node 27 = .ok (.iinc 3 1, 3) := dk_132 3 1 (dk_at dksJ20_node_1 4 rfl rfl)
theorem dJ20_node_30 : decode cJ20_node 30 = .ok (.goto (-13), 3) := dk_167 255 243 (dk_at dksJ20_node_1 7 rfl rfl)
theorem dJ20_node_33 : decode cJ20_node 33 = .ok (.aload_n 2, 1) := dk_44 (dk_at dksJ20_node_1 10 rfl rfl)
theorem dJ20_node_34 : decode cJ20_node 34 = .ok (.areturn, 1) := dk_176 (dk_at dksJ20_node_1 11 rfl rfl)
theorem dJ20_node_35 : decode cJ20_node 35 = .ok (.aload_n 0, 1) := dk_42 (dk_at dksJ20_node_1 12 rfl rfl)
theorem dJ20_node_36 : decode cJ20_node 36 = .ok (.getfield 27, 3) := dk_180 0 27 (dk_at dksJ20_node_1 13 rfl rfl)
theorem dJ20_node_39 : decode cJ20_node 39 = .ok (.astore_n 2, 1) := dk_77 (dk_at dksJ20_node_1 16 rfl rfl)
theorem dJ20_node_40 : decode cJ20_node 40 = .ok (.aload_n 0, 1) := dk_42 (dk_at dksJ20_node_1 17 rfl rfl)
theorem dJ20_node_41 : decode cJ20_node 41 = .ok (.getfield 7, 3) := dk_180 0 7 (dk_at dksJ20_node_1 18 rfl rfl)
theorem dJ20_node_44 : decode cJ20_node 44 = .ok (.iconst 1, 1) := dk_4 (dk_at dksJ20_node_1 21 rfl rfl)
theorem dJ20_node_45 : decode cJ20_node 45 = .ok (.isub, 1) := dk_100 (dk_at dksJ20_node_1 22 rfl rfl)
theorem dJ20_node_46 : decode cJ20_node 46 = .ok (.istore_n 3, 1) := dk_62 (dk_at dksJ20_node_1 23 rfl rfl)
theorem dJ20_node_47 : decode cJ20_node 47 = .ok (.iload_n 3, 1) := dk_29 (dk_at dksJ20_node_2 0 rfl rfl)
theorem dJ20_node_48 : decode cJ20_node 48 = .ok (.iload_n 1, 1) := dk_27 (dk_at dksJ20_node_2 1 rfl rfl)
theorem dJ20_node_49 : decode cJ20_node 49 = .ok (.if_icmp .le 14, 3) := dk_164 0 14 (dk_at dksJ20_node_2 2 rfl rfl)
theorem dJ20_node_52 : decode cJ20_node 52 = .ok (.aload_n 2, 1) := dk_44 (dk_at dksJ20_node_2 5 rfl rfl)
theorem dJ20_node_53 : decode cJ20_node 53 = .ok (.getfield 30, 3) := dk_180 0 30 (dk_at dksJ20_node_2 6 rfl rfl)
theorem dJ20_node_56 : decode cJ20_node 56 = .ok (.astore_n 2, 1) := dk_77 (dk_at dksJ20_node_2 9 rfl rfl)
theorem dJ20_node_57 : decode cJ20_node 57 = .ok (.iinc 3 (-1), 3) := dk_132 3 255 (dk_at dksJ20_node_2 10 rfl rfl)
theorem dJ20_node_60 : decode cJ20_node 60 = .ok (.goto (-13), 3) := dk_167 255 243 (dk_at dksJ20_node_2 13 rfl rfl)
theorem dJ20_node_63 : decode cJ20_node 63 = .ok (.aload_n 2, 1) := dk_44 (dk_at dksJ20_node_2 16 rfl rfl)
theorem dJ20_node_64 : decode cJ20_node 64 = .ok (.areturn, 1) := dk_176 (dk_at dksJ20_node_2 17 rfl rfl)
abbrev cJ20_poll : ByteArray := prog_56_method_36_code
def yJ20_poll : MethodName := ⟨RJ20, "poll", "()Ljava/lang/Object;"⟩
def dkwJ20_poll_0 : List UInt8 := [42, 180, 0, 18, 76, 43, 199, 0, 7, 1, 167, 0, 8, 42, 43, 182, 0, 46, 176]
abbrev dktJ20_poll_0 : List UInt8 := dkwJ20_poll_0 ++ []
theorem dksJ20_poll_0 : cJ20_poll.data.toList.drop 0 = dktJ20_poll_0 := by decide +kernel
theorem dJ20_poll_0 : decode cJ20_poll 0 = .ok (.aload_n 0, 1) := dk_42 (dk_at dksJ20_poll_0 0 rfl rfl)
theorem dJ20_poll_1 : decode cJ20_poll 1 = .ok (.getfield 18, 3) := dk_180 0 18 (dk_at dksJ20_poll_0 1 rfl rfl)
theorem dJ20_poll_4 : decode cJ20_poll 4 = .ok (.astore_n 1, 1) := dk_76 (dk_at dksJ20_poll_0 4 rfl rfl)
theorem dJ20_poll_5 : decode cJ20_poll 5 = .ok (.aload_n 1, 1) := dk_43 (dk_at dksJ20_poll_0 5 rfl rfl)
theorem dJ20_poll_6 : decode cJ20_poll 6 = .ok (.ifnonnull 7, 3) := dk_199 0 7 (dk_at dksJ20_poll_0 6 rfl rfl)
theorem dJ20_poll_9 : decode cJ20_poll 9 = .ok (.aconst_null, 1) := dk_1 (dk_at dksJ20_poll_0 9 rfl rfl)
theorem dJ20_poll_10 : decode cJ20_poll 10 = .ok (.goto 8, 3) := dk_167 0 8 (dk_at dksJ20_poll_0 10 rfl rfl)
theorem dJ20_poll_13 : decode cJ20_poll 13 = .ok (.aload_n 0, 1) := dk_42 (dk_at dksJ20_poll_0 13 rfl rfl)
theorem dJ20_poll_14 : decode cJ20_poll 14 = .ok (.aload_n 1, 1) := dk_43 (dk_at dksJ20_poll_0 14 rfl rfl)
theorem dJ20_poll_15 : decode cJ20_poll 15 = .ok (.invokevirtual 46, 3) := dk_182 0 46 (dk_at dksJ20_poll_0 15 rfl rfl)
theorem dJ20_poll_18 : decode cJ20_poll 18 = .ok (.areturn, 1) := dk_176 (dk_at dksJ20_poll_0 18 rfl rfl)
abbrev cJ20_unlinkFirst : ByteArray := prog_56_method_6_code
def yJ20_unlinkFirst : MethodName := ⟨RJ20, "unlinkFirst", "(Ljava/util/LinkedList$Node;)Ljava/lang/Object;"⟩
def dkwJ20_unlinkFirst_2 : List UInt8 := [180, 0, 7, 4, 100, 181, 0, 7, 42, 89, 180, 0, 33, 4, 96, 181, 0, 33, 44, 176]
abbrev dktJ20_unlinkFirst_2 : List UInt8 := dkwJ20_unlinkFirst_2 ++ []
def dkwJ20_unlinkFirst_1 : List UInt8 := [181, 0, 18, 45, 199, 0, 11, 42, 1, 181, 0, 27, 167, 0, 8, 45, 1, 181, 0, 30, 42, 89]
abbrev dktJ20_unlinkFirst_1 : List UInt8 := dkwJ20_unlinkFirst_1 ++ dktJ20_unlinkFirst_2
def dkwJ20_unlinkFirst_0 : List UInt8 := [43, 180, 0, 39, 77, 43, 180, 0, 36, 78, 43, 1, 181, 0, 39, 43, 1, 181, 0, 36, 42, 45]
abbrev dktJ20_unlinkFirst_0 : List UInt8 := dkwJ20_unlinkFirst_0 ++ dktJ20_unlinkFirst_1
theorem dksJ20_unlinkFirst_0 : cJ20_unlinkFirst.data.toList.drop 0 = dktJ20_unlinkFirst_0 := by decide +kernel
theorem dksJ20_unlinkFirst_1 : cJ20_unlinkFirst.data.toList.drop 22 = dktJ20_unlinkFirst_1 := dk_seg dksJ20_unlinkFirst_0 22 rfl rfl
theorem dksJ20_unlinkFirst_2 : cJ20_unlinkFirst.data.toList.drop 44 = dktJ20_unlinkFirst_2 := dk_seg dksJ20_unlinkFirst_1 22 rfl rfl
theorem dJ20_unlinkFirst_0 : decode cJ20_unlinkFirst 0 = .ok (.aload_n 1, 1) := dk_43 (dk_at dksJ20_unlinkFirst_0 0 rfl rfl)
theorem dJ20_unlinkFirst_1 : decode cJ20_unlinkFirst 1 = .ok (.getfield 39, 3) := dk_180 0 39 (dk_at dksJ20_unlinkFirst_0 1 rfl rfl)
theorem dJ20_unlinkFirst_4 : decode cJ20_unlinkFirst 4 = .ok (.astore_n 2, 1) := dk_77 (dk_at dksJ20_unlinkFirst_0 4 rfl rfl)
theorem dJ20_unlinkFirst_5 : decode cJ20_unlinkFirst 5 = .ok (.aload_n 1, 1) := dk_43 (dk_at dksJ20_unlinkFirst_0 5 rfl rfl)
theorem dJ20_unlinkFirst_6 : decode cJ20_unlinkFirst 6 = .ok (.getfield 36, 3) := dk_180 0 36 (dk_at dksJ20_unlinkFirst_0 6 rfl rfl)
theorem dJ20_unlinkFirst_9 : decode cJ20_unlinkFirst 9 = .ok (.astore_n 3, 1) := dk_78 (dk_at dksJ20_unlinkFirst_0 9 rfl rfl)
theorem dJ20_unlinkFirst_10 : decode cJ20_unlinkFirst 10 = .ok (.aload_n 1, 1) := dk_43 (dk_at dksJ20_unlinkFirst_0 10 rfl rfl)
theorem dJ20_unlinkFirst_11 : decode cJ20_unlinkFirst 11 = .ok (.aconst_null, 1) := dk_1 (dk_at dksJ20_unlinkFirst_0 11 rfl rfl)
theorem dJ20_unlinkFirst_12 : decode cJ20_unlinkFirst 12 = .ok (.putfield 39, 3) := dk_181 0 39 (dk_at dksJ20_unlinkFirst_0 12 rfl rfl)
theorem dJ20_unlinkFirst_15 : decode cJ20_unlinkFirst 15 = .ok (.aload_n 1, 1) := dk_43 (dk_at dksJ20_unlinkFirst_0 15 rfl rfl)
theorem dJ20_unlinkFirst_16 : decode cJ20_unlinkFirst 16 = .ok (.aconst_null, 1) := dk_1 (dk_at dksJ20_unlinkFirst_0 16 rfl rfl)
theorem dJ20_unlinkFirst_17 : decode cJ20_unlinkFirst 17 = .ok (.putfield 36, 3) := dk_181 0 36 (dk_at dksJ20_unlinkFirst_0 17 rfl rfl)
theorem dJ20_unlinkFirst_20 : decode cJ20_unlinkFirst 20 = .ok (.aload_n 0, 1) := dk_42 (dk_at dksJ20_unlinkFirst_0 20 rfl rfl)
theorem dJ20_unlinkFirst_21 : decode cJ20_unlinkFirst 21 = .ok (.aload_n 3, 1) := dk_45 (dk_at dksJ20_unlinkFirst_0 21 rfl rfl)
theorem dJ20_unlinkFirst_22 : decode cJ20_unlinkFirst 22 = .ok (.putfield 18, 3) := dk_181 0 18 (dk_at dksJ20_unlinkFirst_1 0 rfl rfl)
theorem dJ20_unlinkFirst_25 : decode cJ20_unlinkFirst 25 = .ok (.aload_n 3, 1) := dk_45 (dk_at dksJ20_unlinkFirst_1 3 rfl rfl)
theorem dJ20_unlinkFirst_26 : decode cJ20_unlinkFirst 26 = .ok (.ifnonnull 11, 3) := dk_199 0 11 (dk_at dksJ20_unlinkFirst_1 4 rfl rfl)
theorem dJ20_unlinkFirst_29 : decode cJ20_unlinkFirst 29 = .ok (.aload_n 0, 1) := dk_42 (dk_at dksJ20_unlinkFirst_1 7 rfl rfl)
theorem dJ20_unlinkFirst_30 : decode cJ20_unlinkFirst 30 = .ok (.aconst_null, 1) := dk_1 (dk_at dksJ20_unlinkFirst_1 8 rfl rfl)
theorem dJ20_unlinkFirst_31 : decode cJ20_unlinkFirst 31 = .ok (.putfield 27, 3) := dk_181 0 27 (dk_at dksJ20_unlinkFirst_1 9 rfl rfl)
theorem dJ20_unlinkFirst_34 : decode cJ20_unlinkFirst 34 = .ok (.goto 8, 3) := dk_167 0 8 (dk_at dksJ20_unlinkFirst_1 12 rfl rfl)
theorem dJ20_unlinkFirst_37 : decode cJ20_unlinkFirst 37 = .ok (.aload_n 3, 1) := dk_45 (dk_at dksJ20_unlinkFirst_1 15 rfl rfl)
theorem dJ20_unlinkFirst_38 : decode cJ20_unlinkFirst 38 = .ok (.aconst_null, 1) := dk_1 (dk_at dksJ20_unlinkFirst_1 16 rfl rfl)
theorem dJ20_unlinkFirst_39 : decode cJ20_unlinkFirst 39 = .ok (.putfield 30, 3) := dk_181 0 30 (dk_at dksJ20_unlinkFirst_1 17 rfl rfl)
theorem dJ20_unlinkFirst_42 : decode cJ20_unlinkFirst 42 = .ok (.aload_n 0, 1) := dk_42 (dk_at dksJ20_unlinkFirst_1 20 rfl rfl)
theorem dJ20_unlinkFirst_43 : decode cJ20_unlinkFirst 43 = .ok (.dup, 1) := dk_89 (dk_at dksJ20_unlinkFirst_1 21 rfl rfl)
theorem dJ20_unlinkFirst_44 : decode cJ20_unlinkFirst 44 = .ok (.getfield 7, 3) := dk_180 0 7 (dk_at dksJ20_unlinkFirst_2 0 rfl rfl)
theorem dJ20_unlinkFirst_47 : decode cJ20_unlinkFirst 47 = .ok (.iconst 1, 1) := dk_4 (dk_at dksJ20_unlinkFirst_2 3 rfl rfl)
theorem dJ20_unlinkFirst_48 : decode cJ20_unlinkFirst 48 = .ok (.isub, 1) := dk_100 (dk_at dksJ20_unlinkFirst_2 4 rfl rfl)
theorem dJ20_unlinkFirst_49 : decode cJ20_unlinkFirst 49 = .ok (.putfield 7, 3) := dk_181 0 7 (dk_at dksJ20_unlinkFirst_2 5 rfl rfl)
theorem dJ20_unlinkFirst_52 : decode cJ20_unlinkFirst 52 = .ok (.aload_n 0, 1) := dk_42 (dk_at dksJ20_unlinkFirst_2 8 rfl rfl)
theorem dJ20_unlinkFirst_53 : decode cJ20_unlinkFirst 53 = .ok (.dup, 1) := dk_89 (dk_at dksJ20_unlinkFirst_2 9 rfl rfl)
theorem dJ20_unlinkFirst_54 : decode cJ20_unlinkFirst 54 = .ok (.getfield 33, 3) := dk_180 0 33 (dk_at dksJ20_unlinkFirst_2 10 rfl rfl)
theorem dJ20_unlinkFirst_57 : decode cJ20_unlinkFirst 57 = .ok (.iconst 1, 1) := dk_4 (dk_at dksJ20_unlinkFirst_2 13 rfl rfl)
theorem dJ20_unlinkFirst_58 : decode cJ20_unlinkFirst 58 = .ok (.iadd, 1) := dk_96 (dk_at dksJ20_unlinkFirst_2 14 rfl rfl)
theorem dJ20_unlinkFirst_59 : decode cJ20_unlinkFirst 59 = .ok (.putfield 33, 3) := dk_181 0 33 (dk_at dksJ20_unlinkFirst_2 15 rfl rfl)
theorem dJ20_unlinkFirst_62 : decode cJ20_unlinkFirst 62 = .ok (.aload_n 2, 1) := dk_44 (dk_at dksJ20_unlinkFirst_2 18 rfl rfl)
theorem dJ20_unlinkFirst_63 : decode cJ20_unlinkFirst 63 = .ok (.areturn, 1) := dk_176 (dk_at dksJ20_unlinkFirst_2 19 rfl rfl)
abbrev cJ20_descendingIterator : ByteArray := prog_56_method_50_code
def yJ20_descendingIterator : MethodName := ⟨RJ20, "descendingIterator", "()Ljava/util/Iterator;"⟩
def dkwJ20_descendingIterator_0 : List UInt8 := [187, 0, 155, 89, 42, 183, 0, 157, 176]
abbrev dktJ20_descendingIterator_0 : List UInt8 := dkwJ20_descendingIterator_0 ++ []
theorem dksJ20_descendingIterator_0 : cJ20_descendingIterator.data.toList.drop 0 = dktJ20_descendingIterator_0 := by decide +kernel
theorem dJ20_descendingIterator_0 : decode cJ20_descendingIterator 0 = .ok (.new 155, 3) := dk_187 0 155 (dk_at dksJ20_descendingIterator_0 0 rfl rfl)
theorem dJ20_descendingIterator_3 : decode cJ20_descendingIterator 3 = .ok (.dup, 1) := dk_89 (dk_at dksJ20_descendingIterator_0 3 rfl rfl)
theorem dJ20_descendingIterator_4 : decode cJ20_descendingIterator 4 = .ok (.aload_n 0, 1) := dk_42 (dk_at dksJ20_descendingIterator_0 4 rfl rfl)
theorem dJ20_descendingIterator_5 : decode cJ20_descendingIterator 5 = .ok (.invokespecial 157, 3) := dk_183 0 157 (dk_at dksJ20_descendingIterator_0 5 rfl rfl)
theorem dJ20_descendingIterator_8 : decode cJ20_descendingIterator 8 = .ok (.areturn, 1) := dk_176 (dk_at dksJ20_descendingIterator_0 8 rfl rfl)
abbrev cJ20_listIterator : ByteArray := prog_56_method_49_code
def yJ20_listIterator : MethodName := ⟨RJ20, "listIterator", "(I)Ljava/util/ListIterator;"⟩
def dkwJ20_listIterator_0 : List UInt8 := [42, 27, 182, 0, 76, 187, 0, 150, 89, 42, 27, 183, 0, 152, 176]
abbrev dktJ20_listIterator_0 : List UInt8 := dkwJ20_listIterator_0 ++ []
theorem dksJ20_listIterator_0 : cJ20_listIterator.data.toList.drop 0 = dktJ20_listIterator_0 := by decide +kernel
theorem dJ20_listIterator_0 : decode cJ20_listIterator 0 = .ok (.aload_n 0, 1) := dk_42 (dk_at dksJ20_listIterator_0 0 rfl rfl)
theorem dJ20_listIterator_1 : decode cJ20_listIterator 1 = .ok (.iload_n 1, 1) := dk_27 (dk_at dksJ20_listIterator_0 1 rfl rfl)
theorem dJ20_listIterator_2 : decode cJ20_listIterator 2 = .ok (.invokevirtual 76, 3) := dk_182 0 76 (dk_at dksJ20_listIterator_0 2 rfl rfl)
theorem dJ20_listIterator_5 : decode cJ20_listIterator 5 = .ok (.new 150, 3) := dk_187 0 150 (dk_at dksJ20_listIterator_0 5 rfl rfl)
theorem dJ20_listIterator_8 : decode cJ20_listIterator 8 = .ok (.dup, 1) := dk_89 (dk_at dksJ20_listIterator_0 8 rfl rfl)
theorem dJ20_listIterator_9 : decode cJ20_listIterator 9 = .ok (.aload_n 0, 1) := dk_42 (dk_at dksJ20_listIterator_0 9 rfl rfl)
theorem dJ20_listIterator_10 : decode cJ20_listIterator 10 = .ok (.iload_n 1, 1) := dk_27 (dk_at dksJ20_listIterator_0 10 rfl rfl)
theorem dJ20_listIterator_11 : decode cJ20_listIterator 11 = .ok (.invokespecial 152, 3) := dk_183 0 152 (dk_at dksJ20_listIterator_0 11 rfl rfl)
theorem dJ20_listIterator_14 : decode cJ20_listIterator 14 = .ok (.areturn, 1) := dk_176 (dk_at dksJ20_listIterator_0 14 rfl rfl)
abbrev cJ20_checkPositionIndex : ByteArray := prog_56_method_30_code
def yJ20_checkPositionIndex : MethodName := ⟨RJ20, "checkPositionIndex", "(I)V"⟩
def dkwJ20_checkPositionIndex_0 : List UInt8 := [42, 27, 182, 0, 128, 154, 0, 16, 187, 0, 119, 89, 42, 27, 182, 0, 121, 183, 0, 125, 191, 177]
abbrev dktJ20_checkPositionIndex_0 : List UInt8 := dkwJ20_checkPositionIndex_0 ++ []
theorem dksJ20_checkPositionIndex_0 : cJ20_checkPositionIndex.data.toList.drop 0 = dktJ20_checkPositionIndex_0 := by decide +kernel
theorem dJ20_checkPositionIndex_0 : decode cJ20_checkPositionIndex 0 = .ok (.aload_n 0, 1) := dk_42 (dk_at dksJ20_checkPositionIndex_0 0 rfl rfl)
theorem dJ20_checkPositionIndex_1 : decode cJ20_checkPositionIndex 1 = .ok (.iload_n 1, 1) := dk_27 (dk_at dksJ20_checkPositionIndex_0 1 rfl rfl)
theorem dJ20_checkPositionIndex_2 : decode cJ20_checkPositionIndex 2 = .ok (.invokevirtual 128, 3) := dk_182 0 128 (dk_at dksJ20_checkPositionIndex_0 2 rfl rfl)
theorem dJ20_checkPositionIndex_5 : decode cJ20_checkPositionIndex 5 = .ok (.ifCond .ne 16, 3) := dk_154 0 16 (dk_at dksJ20_checkPositionIndex_0 5 rfl rfl)
theorem dJ20_checkPositionIndex_8 : decode cJ20_checkPositionIndex 8 = .ok (.new 119, 3) := dk_187 0 119 (dk_at dksJ20_checkPositionIndex_0 8 rfl rfl)
theorem dJ20_checkPositionIndex_11 : decode cJ20_checkPositionIndex 11 = .ok (.dup, 1) := dk_89 (dk_at dksJ20_checkPositionIndex_0 11 rfl rfl)
theorem dJ20_checkPositionIndex_12 : decode cJ20_checkPositionIndex 12 = .ok (.aload_n 0, 1) := dk_42 (dk_at dksJ20_checkPositionIndex_0 12 rfl rfl)
theorem dJ20_checkPositionIndex_13 : decode cJ20_checkPositionIndex 13 = .ok (.iload_n 1, 1) := dk_27 (dk_at dksJ20_checkPositionIndex_0 13 rfl rfl)
theorem dJ20_checkPositionIndex_14 : decode cJ20_checkPositionIndex 14 = .ok (.invokevirtual 121, 3) := dk_182 0 121 (dk_at dksJ20_checkPositionIndex_0 14 rfl rfl)
theorem dJ20_checkPositionIndex_17 : decode cJ20_checkPositionIndex 17 = .ok (.invokespecial 125, 3) := dk_183 0 125 (dk_at dksJ20_checkPositionIndex_0 17 rfl rfl)
theorem dJ20_checkPositionIndex_20 : decode cJ20_checkPositionIndex 20 = .ok (.athrow, 1) := dk_191 (dk_at dksJ20_checkPositionIndex_0 20 rfl rfl)
theorem dJ20_checkPositionIndex_21 : decode cJ20_checkPositionIndex 21 = .ok (.return_, 1) := dk_177 (dk_at dksJ20_checkPositionIndex_0 21 rfl rfl)
abbrev cJ20_isPositionIndex : ByteArray := prog_56_method_27_code
def yJ20_isPositionIndex : MethodName := ⟨RJ20, "isPositionIndex", "(I)Z"⟩
def dkwJ20_isPositionIndex_0 : List UInt8 := [27, 155, 0, 15, 27, 42, 180, 0, 7, 163, 0, 7, 4, 167, 0, 4, 3, 172]
abbrev dktJ20_isPositionIndex_0 : List UInt8 := dkwJ20_isPositionIndex_0 ++ []
theorem dksJ20_isPositionIndex_0 : cJ20_isPositionIndex.data.toList.drop 0 = dktJ20_isPositionIndex_0 := by decide +kernel
theorem dJ20_isPositionIndex_0 : decode cJ20_isPositionIndex 0 = .ok (.iload_n 1, 1) := dk_27 (dk_at dksJ20_isPositionIndex_0 0 rfl rfl)
theorem dJ20_isPositionIndex_1 : decode cJ20_isPositionIndex 1 = .ok (.ifCond .lt 15, 3) := dk_155 0 15 (dk_at dksJ20_isPositionIndex_0 1 rfl rfl)
theorem dJ20_isPositionIndex_4 : decode cJ20_isPositionIndex 4 = .ok (.iload_n 1, 1) := dk_27 (dk_at dksJ20_isPositionIndex_0 4 rfl rfl)
theorem dJ20_isPositionIndex_5 : decode cJ20_isPositionIndex 5 = .ok (.aload_n 0, 1) := dk_42 (dk_at dksJ20_isPositionIndex_0 5 rfl rfl)
theorem dJ20_isPositionIndex_6 : decode cJ20_isPositionIndex 6 = .ok (.getfield 7, 3) := dk_180 0 7 (dk_at dksJ20_isPositionIndex_0 6 rfl rfl)
theorem dJ20_isPositionIndex_9 : decode cJ20_isPositionIndex 9 = .ok (.if_icmp .gt 7, 3) := dk_163 0 7 (dk_at dksJ20_isPositionIndex_0 9 rfl rfl)
theorem dJ20_isPositionIndex_12 : decode cJ20_isPositionIndex 12 = .ok (.iconst 1, 1) := dk_4 (dk_at dksJ20_isPositionIndex_0 12 rfl rfl)
theorem dJ20_isPositionIndex_13 : decode cJ20_isPositionIndex 13 = .ok (.goto 4, 3) := dk_167 0 4 (dk_at dksJ20_isPositionIndex_0 13 rfl rfl)
theorem dJ20_isPositionIndex_16 : decode cJ20_isPositionIndex 16 = .ok (.iconst 0, 1) := dk_3 (dk_at dksJ20_isPositionIndex_0 16 rfl rfl)
theorem dJ20_isPositionIndex_17 : decode cJ20_isPositionIndex 17 = .ok (.ireturn, 1) := dk_172 (dk_at dksJ20_isPositionIndex_0 17 rfl rfl)
abbrev cJ20_remove : ByteArray := prog_56_method_25_code
def yJ20_remove : MethodName := ⟨RJ20, "remove", "(I)Ljava/lang/Object;"⟩
def dkwJ20_remove_0 : List UInt8 := [42, 27, 182, 0, 90, 42, 42, 27, 182, 0, 86, 182, 0, 64, 176]
abbrev dktJ20_remove_0 : List UInt8 := dkwJ20_remove_0 ++ []
theorem dksJ20_remove_0 : cJ20_remove.data.toList.drop 0 = dktJ20_remove_0 := by decide +kernel
theorem dJ20_remove_0 : decode cJ20_remove 0 = .ok (.aload_n 0, 1) := dk_42 (dk_at dksJ20_remove_0 0 rfl rfl)
theorem dJ20_remove_1 : decode cJ20_remove 1 = .ok (.iload_n 1, 1) := dk_27 (dk_at dksJ20_remove_0 1 rfl rfl)
theorem dJ20_remove_2 : decode cJ20_remove 2 = .ok (.invokevirtual 90, 3) := dk_182 0 90 (dk_at dksJ20_remove_0 2 rfl rfl)
theorem dJ20_remove_5 : decode cJ20_remove 5 = .ok (.aload_n 0, 1) := dk_42 (dk_at dksJ20_remove_0 5 rfl rfl)
theorem dJ20_remove_6 : decode cJ20_remove 6 = .ok (.aload_n 0, 1) := dk_42 (dk_at dksJ20_remove_0 6 rfl rfl)
theorem dJ20_remove_7 : decode cJ20_remove 7 = .ok (.iload_n 1, 1) := dk_27 (dk_at dksJ20_remove_0 7 rfl rfl)
theorem dJ20_remove_8 : decode cJ20_remove 8 = .ok (.invokevirtual 86, 3) := dk_182 0 86 (dk_at dksJ20_remove_0 8 rfl rfl)
theorem dJ20_remove_11 : decode cJ20_remove 11 = .ok (.invokevirtual 64, 3) := dk_182 0 64 (dk_at dksJ20_remove_0 11 rfl rfl)
theorem dJ20_remove_14 : decode cJ20_remove 14 = .ok (.areturn, 1) := dk_176 (dk_at dksJ20_remove_0 14 rfl rfl)
abbrev cJ20_unlink : ByteArray := prog_56_method_8_code
def yJ20_unlink : MethodName := ⟨RJ20, "unlink", "(Ljava/util/LinkedList$Node;)Ljava/lang/Object;"⟩
def dkwJ20_unlink_3 : List UInt8 := [180, 0, 7, 4, 100, 181, 0, 7, 42, 89, 180, 0, 33, 4, 96, 181, 0, 33, 44, 176]
abbrev dktJ20_unlink_3 : List UInt8 := dkwJ20_unlink_3 ++ []
def dkwJ20_unlink_2 : List UInt8 := [181, 0, 27, 167, 0, 14, 45, 25, 4, 181, 0, 30, 43, 1, 181, 0, 36, 43, 1, 181, 0, 39, 42, 89]
abbrev dktJ20_unlink_2 : List UInt8 := dkwJ20_unlink_2 ++ dktJ20_unlink_3
def dkwJ20_unlink_1 : List UInt8 := [181, 0, 18, 167, 0, 14, 25, 4, 45, 181, 0, 36, 43, 1, 181, 0, 30, 45, 199, 0, 12, 42, 25, 4]
abbrev dktJ20_unlink_1 : List UInt8 := dkwJ20_unlink_1 ++ dktJ20_unlink_2
def dkwJ20_unlink_0 : List UInt8 := [43, 180, 0, 39, 77, 43, 180, 0, 36, 78, 43, 180, 0, 30, 58, 4, 25, 4, 199, 0, 11, 42, 45]
abbrev dktJ20_unlink_0 : List UInt8 := dkwJ20_unlink_0 ++ dktJ20_unlink_1
theorem dksJ20_unlink_0 : cJ20_unlink.data.toList.drop 0 = dktJ20_unlink_0 := by decide +kernel
theorem dksJ20_unlink_1 : cJ20_unlink.data.toList.drop 23 = dktJ20_unlink_1 := dk_seg dksJ20_unlink_0 23 rfl rfl
theorem dksJ20_unlink_2 : cJ20_unlink.data.toList.drop 47 = dktJ20_unlink_2 := dk_seg dksJ20_unlink_1 24 rfl rfl
theorem dksJ20_unlink_3 : cJ20_unlink.data.toList.drop 71 = dktJ20_unlink_3 := dk_seg dksJ20_unlink_2 24 rfl rfl
theorem dJ20_unlink_0 : decode cJ20_unlink 0 = .ok (.aload_n 1, 1) := dk_43 (dk_at dksJ20_unlink_0 0 rfl rfl)
theorem dJ20_unlink_1 : decode cJ20_unlink 1 = .ok (.getfield 39, 3) := dk_180 0 39 (dk_at dksJ20_unlink_0 1 rfl rfl)
theorem dJ20_unlink_4 : decode cJ20_unlink 4 = .ok (.astore_n 2, 1) := dk_77 (dk_at dksJ20_unlink_0 4 rfl rfl)
theorem dJ20_unlink_5 : decode cJ20_unlink 5 = .ok (.aload_n 1, 1) := dk_43 (dk_at dksJ20_unlink_0 5 rfl rfl)
theorem dJ20_unlink_6 : decode cJ20_unlink 6 = .ok (.getfield 36, 3) := dk_180 0 36 (dk_at dksJ20_unlink_0 6 rfl rfl)
theorem dJ20_unlink_9 : decode cJ20_unlink 9 = .ok (.astore_n 3, 1) := dk_78 (dk_at dksJ20_unlink_0 9 rfl rfl)
theorem dJ20_unlink_10 : decode cJ20_unlink 10 = .ok (.aload_n 1, 1) := dk_43 (dk_at dksJ20_unlink_0 10 rfl rfl)
theorem dJ20_unlink_11 : decode cJ20_unlink 11 = .ok (.getfield 30, 3) := dk_180 0 30 (dk_at dksJ20_unlink_0 11 rfl rfl)
theorem dJ20_unlink_14 : decode cJ20_unlink 14 = .ok (.astore 4, 2) := dk_58 4 (dk_at dksJ20_unlink_0 14 rfl rfl)
theorem dJ20_unlink_16 : decode cJ20_unlink 16 = .ok (.aload 4, 2) := dk_25 4 (dk_at dksJ20_unlink_0 16 rfl rfl)
theorem dJ20_unlink_18 : decode cJ20_unlink 18 = .ok (.ifnonnull 11, 3) := dk_199 0 11 (dk_at dksJ20_unlink_0 18 rfl rfl)
theorem dJ20_unlink_21 : decode cJ20_unlink 21 = .ok (.aload_n 0, 1) := dk_42 (dk_at dksJ20_unlink_0 21 rfl rfl)
theorem dJ20_unlink_22 : decode cJ20_unlink 22 = .ok (.aload_n 3, 1) := dk_45 (dk_at dksJ20_unlink_0 22 rfl rfl)
theorem dJ20_unlink_23 : decode cJ20_unlink 23 = .ok (.putfield 18, 3) := dk_181 0 18 (dk_at dksJ20_unlink_1 0 rfl rfl)
theorem dJ20_unlink_26 : decode cJ20_unlink 26 = .ok (.goto 14, 3) := dk_167 0 14 (dk_at dksJ20_unlink_1 3 rfl rfl)
theorem dJ20_unlink_29 : decode cJ20_unlink 29 = .ok (.aload 4, 2) := dk_25 4 (dk_at dksJ20_unlink_1 6 rfl rfl)
theorem dJ20_unlink_31 : decode cJ20_unlink 31 = .ok (.aload_n 3, 1) := dk_45 (dk_at dksJ20_unlink_1 8 rfl rfl)
theorem dJ20_unlink_32 : decode cJ20_unlink 32 = .ok (.putfield 36, 3) := dk_181 0 36 (dk_at dksJ20_unlink_1 9 rfl rfl)
theorem dJ20_unlink_35 : decode cJ20_unlink 35 = .ok (.aload_n 1, 1) := dk_43 (dk_at dksJ20_unlink_1 12 rfl rfl)
theorem dJ20_unlink_36 : decode cJ20_unlink 36 = .ok (.aconst_null, 1) := dk_1 (dk_at dksJ20_unlink_1 13 rfl rfl)
theorem dJ20_unlink_37 : decode cJ20_unlink 37 = .ok (.putfield 30, 3) := dk_181 0 30 (dk_at dksJ20_unlink_1 14 rfl rfl)
theorem dJ20_unlink_40 : decode cJ20_unlink 40 = .ok (.aload_n 3, 1) := dk_45 (dk_at dksJ20_unlink_1 17 rfl rfl)
theorem dJ20_unlink_41 : decode cJ20_unlink 41 = .ok (.ifnonnull 12, 3) := dk_199 0 12 (dk_at dksJ20_unlink_1 18 rfl rfl)
theorem dJ20_unlink_44 : decode cJ20_unlink 44 = .ok (.aload_n 0, 1) := dk_42 (dk_at dksJ20_unlink_1 21 rfl rfl)
theorem dJ20_unlink_45 : decode cJ20_unlink 45 = .ok (.aload 4, 2) := dk_25 4 (dk_at dksJ20_unlink_1 22 rfl rfl)
theorem dJ20_unlink_47 : decode cJ20_unlink 47 = .ok (.putfield 27, 3) := dk_181 0 27 (dk_at dksJ20_unlink_2 0 rfl rfl)
theorem dJ20_unlink_50 : decode cJ20_unlink 50 = .ok (.goto 14, 3) := dk_167 0 14 (dk_at dksJ20_unlink_2 3 rfl rfl)
theorem dJ20_unlink_53 : decode cJ20_unlink 53 = .ok (.aload_n 3, 1) := dk_45 (dk_at dksJ20_unlink_2 6 rfl rfl)
theorem dJ20_unlink_54 : decode cJ20_unlink 54 = .ok (.aload 4, 2) := dk_25 4 (dk_at dksJ20_unlink_2 7 rfl rfl)
theorem dJ20_unlink_56 : decode cJ20_unlink 56 = .ok (.putfield 30, 3) := dk_181 0 30 (dk_at dksJ20_unlink_2 9 rfl rfl)
theorem dJ20_unlink_59 : decode cJ20_unlink 59 = .ok (.aload_n 1, 1) := dk_43 (dk_at dksJ20_unlink_2 12 rfl rfl)
theorem dJ20_unlink_60 : decode cJ20_unlink 60 = .ok (.aconst_null, 1) := dk_1 (dk_at dksJ20_unlink_2 13 rfl rfl)
theorem dJ20_unlink_61 : decode cJ20_unlink 61 = .ok (.putfield 36, 3) := dk_181 0 36 (dk_at dksJ20_unlink_2 14 rfl rfl)
theorem dJ20_unlink_64 : decode cJ20_unlink 64 = .ok (.aload_n 1, 1) := dk_43 (dk_at dksJ20_unlink_2 17 rfl rfl)
theorem dJ20_unlink_65 : decode cJ20_unlink 65 = .ok (.aconst_null, 1) := dk_1 (dk_at dksJ20_unlink_2 18 rfl rfl)
theorem dJ20_unlink_66 : decode cJ20_unlink 66 = .ok (.putfield 39, 3) := dk_181 0 39 (dk_at dksJ20_unlink_2 19 rfl rfl)
theorem dJ20_unlink_69 : decode cJ20_unlink 69 = .ok (.aload_n 0, 1) := dk_42 (dk_at dksJ20_unlink_2 22 rfl rfl)
theorem dJ20_unlink_70 : decode cJ20_unlink 70 = .ok (.dup, 1) := dk_89 (dk_at dksJ20_unlink_2 23 rfl rfl)
theorem dJ20_unlink_71 : decode cJ20_unlink 71 = .ok (.getfield 7, 3) := dk_180 0 7 (dk_at dksJ20_unlink_3 0 rfl rfl)
theorem dJ20_unlink_74 : decode cJ20_unlink 74 = .ok (.iconst 1, 1) := dk_4 (dk_at dksJ20_unlink_3 3 rfl rfl)
theorem dJ20_unlink_75 : decode cJ20_unlink 75 = .ok (.isub, 1) := dk_100 (dk_at dksJ20_unlink_3 4 rfl rfl)
theorem dJ20_unlink_76 : decode cJ20_unlink 76 = .ok (.putfield 7, 3) := dk_181 0 7 (dk_at dksJ20_unlink_3 5 rfl rfl)
theorem dJ20_unlink_79 : decode cJ20_unlink 79 = .ok (.aload_n 0, 1) := dk_42 (dk_at dksJ20_unlink_3 8 rfl rfl)
theorem dJ20_unlink_80 : decode cJ20_unlink 80 = .ok (.dup, 1) := dk_89 (dk_at dksJ20_unlink_3 9 rfl rfl)
theorem dJ20_unlink_81 : decode cJ20_unlink 81 = .ok (.getfield 33, 3) := dk_180 0 33 (dk_at dksJ20_unlink_3 10 rfl rfl)
theorem dJ20_unlink_84 : decode cJ20_unlink 84 = .ok (.iconst 1, 1) := dk_4 (dk_at dksJ20_unlink_3 13 rfl rfl)
theorem dJ20_unlink_85 : decode cJ20_unlink 85 = .ok (.iadd, 1) := dk_96 (dk_at dksJ20_unlink_3 14 rfl rfl)
theorem dJ20_unlink_86 : decode cJ20_unlink 86 = .ok (.putfield 33, 3) := dk_181 0 33 (dk_at dksJ20_unlink_3 15 rfl rfl)
theorem dJ20_unlink_89 : decode cJ20_unlink 89 = .ok (.aload_n 2, 1) := dk_44 (dk_at dksJ20_unlink_3 18 rfl rfl)
theorem dJ20_unlink_90 : decode cJ20_unlink 90 = .ok (.areturn, 1) := dk_176 (dk_at dksJ20_unlink_3 19 rfl rfl)
theorem q95 : (Jvm.Cond.initialized "java/util/LinkedList") ∈ lw_all := lw_g (lw_at lw_m1 25 rfl) rfl
theorem q475 : (Jvm.Cond.sameField "java/util/LinkedList" "java/util/AbstractList" "modCount" "I") ∈ lw_all := lw_g (lw_at lw_m2 165 rfl) rfl
theorem q479 : (Jvm.Cond.fieldLink "java/util/LinkedList" (33 : Nat) "java/util/LinkedList" "modCount" "I") ∈ lw_all := lw_g (lw_at lw_m2 169 rfl) rfl
theorem q536 : (Jvm.Cond.instantiable "java/util/LinkedList" (4 : Nat)) ∈ lw_all := lw_g (lw_at lw_m2 226 rfl) rfl
theorem q538 : (Jvm.Cond.instanceMethod ({ cls := "java/util/LinkedList", name := "<init>", desc := "()V" } : Jvm.MethodName)) ∈ lw_all := lw_g (lw_at lw_m2 228 rfl) rfl
theorem q539 : (Jvm.Cond.code ({ cls := "java/util/LinkedList", name := "<init>", desc := "()V" } : Jvm.MethodName) prog_56_method_1_code (1 : Nat) (Option.none : Option Jvm.ClassFile.FieldType)) ∈ lw_all := lw_g (lw_at lw_m2 229 rfl) rfl
theorem q540 : (Jvm.Cond.methodLink "java/util/LinkedList" (1 : Nat) ({ cls := "java/util/AbstractSequentialList", name := "<init>", desc := "()V" } : Jvm.MethodName)) ∈ lw_all := lw_g (lw_at lw_m2 230 rfl) rfl
theorem q544 : (Jvm.Cond.fieldLink "java/util/LinkedList" (7 : Nat) "java/util/LinkedList" "size" "I") ∈ lw_all := lw_g (lw_at lw_m2 234 rfl) rfl
theorem q546 : (Jvm.Cond.fieldLink "java/util/LinkedList" (18 : Nat) "java/util/LinkedList" "first" "Ljava/util/LinkedList$Node;") ∈ lw_all := lw_g (lw_at lw_m2 236 rfl) rfl
theorem q547 : (Jvm.Cond.fieldLink "java/util/LinkedList" (27 : Nat) "java/util/LinkedList" "last" "Ljava/util/LinkedList$Node;") ∈ lw_all := lw_g (lw_at lw_m2 237 rfl) rfl
theorem q549 : (Jvm.Cond.lays "java/util/LinkedList" "java/util/LinkedList" "size" "I") ∈ lw_all := lw_g (lw_at lw_m2 239 rfl) rfl
theorem q550 : (Jvm.Cond.soleField "java/util/LinkedList" "size") ∈ lw_all := lw_g (lw_at lw_m3 0 rfl) rfl
theorem q551 : (Jvm.Cond.lays "java/util/LinkedList" "java/util/LinkedList" "first" "Ljava/util/LinkedList$Node;") ∈ lw_all := lw_g (lw_at lw_m3 1 rfl) rfl
theorem q552 : (Jvm.Cond.soleField "java/util/LinkedList" "first") ∈ lw_all := lw_g (lw_at lw_m3 2 rfl) rfl
theorem q553 : (Jvm.Cond.lays "java/util/LinkedList" "java/util/LinkedList" "last" "Ljava/util/LinkedList$Node;") ∈ lw_all := lw_g (lw_at lw_m3 3 rfl) rfl
theorem q554 : (Jvm.Cond.soleField "java/util/LinkedList" "last") ∈ lw_all := lw_g (lw_at lw_m3 4 rfl) rfl
theorem q555 : (Jvm.Cond.lays "java/util/LinkedList" "java/util/AbstractList" "modCount" "I") ∈ lw_all := lw_g (lw_at lw_m3 5 rfl) rfl
theorem q556 : (Jvm.Cond.superclass "java/util/LinkedList" "java/util/AbstractSequentialList") ∈ lw_all := lw_g (lw_at lw_m3 6 rfl) rfl
theorem q776 : (Jvm.Cond.castable "java/util/LinkedList" "java/util/List") ∈ lw_tbl := lw_at lw_m3 226 rfl
theorem q777 : (Jvm.Cond.selects "java/util/LinkedList" ({ cls := "java/util/List", name := "size", desc := "()I" } : Jvm.MethodName) ({ cls := "java/util/LinkedList", name := "size", desc := "()I" } : Jvm.MethodName)) ∈ lw_all := lw_g (lw_at lw_m3 227 rfl) rfl
theorem q778 : (Jvm.Cond.unhidden "java/util/LinkedList" "size" "()I") ∈ lw_tbl := lw_at lw_m3 228 rfl
theorem q779 : (Jvm.Cond.instanceMethod ({ cls := "java/util/LinkedList", name := "size", desc := "()I" } : Jvm.MethodName)) ∈ lw_all := lw_g (lw_at lw_m3 229 rfl) rfl
theorem q780 : (Jvm.Cond.publicMethod ({ cls := "java/util/LinkedList", name := "size", desc := "()I" } : Jvm.MethodName)) ∈ lw_tbl := lw_at lw_m3 230 rfl
theorem q781 : (Jvm.Cond.code ({ cls := "java/util/LinkedList", name := "size", desc := "()I" } : Jvm.MethodName) prog_56_method_16_code (1 : Nat) (Option.some Jvm.ClassFile.FieldType.int)) ∈ lw_all := lw_g (lw_at lw_m3 231 rfl) rfl
theorem q923 : (Jvm.Cond.selects "java/util/LinkedList" ({ cls := "java/lang/Object", name := "getClass", desc := "()Ljava/lang/Class;" } : Jvm.MethodName) ({ cls := "java/lang/Object", name := "getClass", desc := "()Ljava/lang/Class;" } : Jvm.MethodName)) ∈ lw_all := lw_g (lw_at lw_m4 133 rfl) rfl
theorem q935 : (Jvm.Cond.selects "java/util/LinkedList" ({ cls := "java/util/List", name := "add", desc := "(Ljava/lang/Object;)Z" } : Jvm.MethodName) ({ cls := "java/util/LinkedList", name := "add", desc := "(Ljava/lang/Object;)Z" } : Jvm.MethodName)) ∈ lw_all := lw_g (lw_at lw_m4 145 rfl) rfl
theorem q936 : (Jvm.Cond.unhidden "java/util/LinkedList" "add" "(Ljava/lang/Object;)Z") ∈ lw_tbl := lw_at lw_m4 146 rfl
theorem q937 : (Jvm.Cond.instanceMethod ({ cls := "java/util/LinkedList", name := "add", desc := "(Ljava/lang/Object;)Z" } : Jvm.MethodName)) ∈ lw_all := lw_g (lw_at lw_m4 147 rfl) rfl
theorem q938 : (Jvm.Cond.publicMethod ({ cls := "java/util/LinkedList", name := "add", desc := "(Ljava/lang/Object;)Z" } : Jvm.MethodName)) ∈ lw_tbl := lw_at lw_m4 148 rfl
theorem q939 : (Jvm.Cond.code ({ cls := "java/util/LinkedList", name := "add", desc := "(Ljava/lang/Object;)Z" } : Jvm.MethodName) prog_56_method_17_code (2 : Nat) (Option.some Jvm.ClassFile.FieldType.boolean)) ∈ lw_all := lw_g (lw_at lw_m4 149 rfl) rfl
theorem q940 : (Jvm.Cond.methodLink "java/util/LinkedList" (57 : Nat) ({ cls := "java/util/LinkedList", name := "linkLast", desc := "(Ljava/lang/Object;)V" } : Jvm.MethodName)) ∈ lw_all := lw_g (lw_at lw_m4 150 rfl) rfl
theorem q941 : (Jvm.Cond.instanceMethod ({ cls := "java/util/LinkedList", name := "linkLast", desc := "(Ljava/lang/Object;)V" } : Jvm.MethodName)) ∈ lw_all := lw_g (lw_at lw_m4 151 rfl) rfl
theorem q942 : (Jvm.Cond.selects "java/util/LinkedList" ({ cls := "java/util/LinkedList", name := "linkLast", desc := "(Ljava/lang/Object;)V" } : Jvm.MethodName) ({ cls := "java/util/LinkedList", name := "linkLast", desc := "(Ljava/lang/Object;)V" } : Jvm.MethodName)) ∈ lw_all := lw_g (lw_at lw_m4 152 rfl) rfl
theorem q943 : (Jvm.Cond.code ({ cls := "java/util/LinkedList", name := "linkLast", desc := "(Ljava/lang/Object;)V" } : Jvm.MethodName) prog_56_method_4_code (4 : Nat) (Option.none : Option Jvm.ClassFile.FieldType)) ∈ lw_all := lw_g (lw_at lw_m4 153 rfl) rfl
theorem q944 : (Jvm.Cond.classLink "java/util/LinkedList" (22 : Nat) "java/util/LinkedList$Node") ∈ lw_all := lw_g (lw_at lw_m4 154 rfl) rfl
theorem q946 : (Jvm.Cond.methodLink "java/util/LinkedList" (24 : Nat) ({ cls := "java/util/LinkedList$Node", name := "<init>", desc := "(Ljava/util/LinkedList$Node;Ljava/lang/Object;Ljava/util/LinkedList$Node;)V" } : Jvm.MethodName)) ∈ lw_all := lw_g (lw_at lw_m4 156 rfl) rfl
theorem q952 : (Jvm.Cond.fieldLink "java/util/LinkedList" (39 : Nat) "java/util/LinkedList$Node" "item" "Ljava/lang/Object;") ∈ lw_all := lw_g (lw_at lw_m4 162 rfl) rfl
theorem q955 : (Jvm.Cond.fieldLink "java/util/LinkedList" (36 : Nat) "java/util/LinkedList$Node" "next" "Ljava/util/LinkedList$Node;") ∈ lw_all := lw_g (lw_at lw_m4 165 rfl) rfl
theorem q958 : (Jvm.Cond.fieldLink "java/util/LinkedList" (30 : Nat) "java/util/LinkedList$Node" "prev" "Ljava/util/LinkedList$Node;") ∈ lw_all := lw_g (lw_at lw_m4 168 rfl) rfl
theorem q1010 : (Jvm.Cond.selects "java/util/LinkedList" ({ cls := "java/util/List", name := "get", desc := "(I)Ljava/lang/Object;" } : Jvm.MethodName) ({ cls := "java/util/LinkedList", name := "get", desc := "(I)Ljava/lang/Object;" } : Jvm.MethodName)) ∈ lw_all := lw_g (lw_at lw_m4 220 rfl) rfl
theorem q1011 : (Jvm.Cond.unhidden "java/util/LinkedList" "get" "(I)Ljava/lang/Object;") ∈ lw_tbl := lw_at lw_m4 221 rfl
theorem q1012 : (Jvm.Cond.instanceMethod ({ cls := "java/util/LinkedList", name := "get", desc := "(I)Ljava/lang/Object;" } : Jvm.MethodName)) ∈ lw_all := lw_g (lw_at lw_m4 222 rfl) rfl
theorem q1013 : (Jvm.Cond.publicMethod ({ cls := "java/util/LinkedList", name := "get", desc := "(I)Ljava/lang/Object;" } : Jvm.MethodName)) ∈ lw_tbl := lw_at lw_m4 223 rfl
theorem q1014 : (Jvm.Cond.code ({ cls := "java/util/LinkedList", name := "get", desc := "(I)Ljava/lang/Object;" } : Jvm.MethodName) prog_56_method_22_code (2 : Nat) (Option.some (Jvm.ClassFile.FieldType.object "java/lang/Object"))) ∈ lw_all := lw_g (lw_at lw_m4 224 rfl) rfl
theorem q1015 : (Jvm.Cond.methodLink "java/util/LinkedList" (90 : Nat) ({ cls := "java/util/LinkedList", name := "checkElementIndex", desc := "(I)V" } : Jvm.MethodName)) ∈ lw_all := lw_g (lw_at lw_m4 225 rfl) rfl
theorem q1016 : (Jvm.Cond.privateMethod ({ cls := "java/util/LinkedList", name := "checkElementIndex", desc := "(I)V" } : Jvm.MethodName)) ∈ lw_tbl := lw_at lw_m4 226 rfl
theorem q1017 : (Jvm.Cond.instanceMethod ({ cls := "java/util/LinkedList", name := "checkElementIndex", desc := "(I)V" } : Jvm.MethodName)) ∈ lw_all := lw_g (lw_at lw_m4 227 rfl) rfl
theorem q1018 : (Jvm.Cond.code ({ cls := "java/util/LinkedList", name := "checkElementIndex", desc := "(I)V" } : Jvm.MethodName) prog_56_method_29_code (2 : Nat) (Option.none : Option Jvm.ClassFile.FieldType)) ∈ lw_all := lw_g (lw_at lw_m4 228 rfl) rfl
theorem q1019 : (Jvm.Cond.methodLink "java/util/LinkedList" (115 : Nat) ({ cls := "java/util/LinkedList", name := "isElementIndex", desc := "(I)Z" } : Jvm.MethodName)) ∈ lw_all := lw_g (lw_at lw_m4 229 rfl) rfl
theorem q1020 : (Jvm.Cond.privateMethod ({ cls := "java/util/LinkedList", name := "isElementIndex", desc := "(I)Z" } : Jvm.MethodName)) ∈ lw_tbl := lw_at lw_m4 230 rfl
theorem q1021 : (Jvm.Cond.instanceMethod ({ cls := "java/util/LinkedList", name := "isElementIndex", desc := "(I)Z" } : Jvm.MethodName)) ∈ lw_all := lw_g (lw_at lw_m4 231 rfl) rfl
theorem q1022 : (Jvm.Cond.code ({ cls := "java/util/LinkedList", name := "isElementIndex", desc := "(I)Z" } : Jvm.MethodName) prog_56_method_26_code (2 : Nat) (Option.some Jvm.ClassFile.FieldType.boolean)) ∈ lw_all := lw_g (lw_at lw_m4 232 rfl) rfl
theorem q1023 : (Jvm.Cond.classLink "java/util/LinkedList" (119 : Nat) "java/lang/IndexOutOfBoundsException") ∈ lw_all := lw_g (lw_at lw_m4 233 rfl) rfl
theorem q1024 : (Jvm.Cond.methodLink "java/util/LinkedList" (121 : Nat) ({ cls := "java/util/LinkedList", name := "outOfBoundsMsg", desc := "(I)Ljava/lang/String;" } : Jvm.MethodName)) ∈ lw_all := lw_g (lw_at lw_m4 234 rfl) rfl
theorem q1025 : (Jvm.Cond.privateMethod ({ cls := "java/util/LinkedList", name := "outOfBoundsMsg", desc := "(I)Ljava/lang/String;" } : Jvm.MethodName)) ∈ lw_tbl := lw_at lw_m4 235 rfl
theorem q1026 : (Jvm.Cond.instanceMethod ({ cls := "java/util/LinkedList", name := "outOfBoundsMsg", desc := "(I)Ljava/lang/String;" } : Jvm.MethodName)) ∈ lw_all := lw_g (lw_at lw_m4 236 rfl) rfl
theorem q1027 : (Jvm.Cond.code ({ cls := "java/util/LinkedList", name := "outOfBoundsMsg", desc := "(I)Ljava/lang/String;" } : Jvm.MethodName) prog_56_method_28_code (2 : Nat) (Option.some (Jvm.ClassFile.FieldType.object "java/lang/String"))) ∈ lw_all := lw_g (lw_at lw_m4 237 rfl) rfl
theorem q1028 : (Jvm.Cond.classLink "java/util/LinkedList" (97 : Nat) "java/lang/StringBuilder") ∈ lw_all := lw_g (lw_at lw_m4 238 rfl) rfl
theorem q1029 : (Jvm.Cond.methodLink "java/util/LinkedList" (99 : Nat) ({ cls := "java/lang/StringBuilder", name := "<init>", desc := "()V" } : Jvm.MethodName)) ∈ lw_all := lw_g (lw_at lw_m4 239 rfl) rfl
theorem q1030 : (Jvm.Cond.stringRef "java/util/LinkedList" (100 : Nat) "Index: ") ∈ lw_tbl := lw_at lw_m5 0 rfl
theorem q1031 : (Jvm.Cond.methodLink "java/util/LinkedList" (102 : Nat) ({ cls := "java/lang/StringBuilder", name := "append", desc := "(Ljava/lang/String;)Ljava/lang/StringBuilder;" } : Jvm.MethodName)) ∈ lw_all := lw_g (lw_at lw_m5 1 rfl) rfl
theorem q1032 : (Jvm.Cond.methodLink "java/util/LinkedList" (106 : Nat) ({ cls := "java/lang/StringBuilder", name := "append", desc := "(I)Ljava/lang/StringBuilder;" } : Jvm.MethodName)) ∈ lw_all := lw_g (lw_at lw_m5 2 rfl) rfl
theorem q1033 : (Jvm.Cond.stringRef "java/util/LinkedList" (109 : Nat) ", Size: ") ∈ lw_tbl := lw_at lw_m5 3 rfl
theorem q1034 : (Jvm.Cond.methodLink "java/util/LinkedList" (111 : Nat) ({ cls := "java/lang/StringBuilder", name := "toString", desc := "()Ljava/lang/String;" } : Jvm.MethodName)) ∈ lw_all := lw_g (lw_at lw_m5 4 rfl) rfl
theorem q1035 : (Jvm.Cond.methodLink "java/util/LinkedList" (125 : Nat) ({ cls := "java/lang/IndexOutOfBoundsException", name := "<init>", desc := "(Ljava/lang/String;)V" } : Jvm.MethodName)) ∈ lw_all := lw_g (lw_at lw_m5 5 rfl) rfl
theorem q1036 : (Jvm.Cond.methodLink "java/util/LinkedList" (86 : Nat) ({ cls := "java/util/LinkedList", name := "node", desc := "(I)Ljava/util/LinkedList$Node;" } : Jvm.MethodName)) ∈ lw_all := lw_g (lw_at lw_m5 6 rfl) rfl
theorem q1037 : (Jvm.Cond.instanceMethod ({ cls := "java/util/LinkedList", name := "node", desc := "(I)Ljava/util/LinkedList$Node;" } : Jvm.MethodName)) ∈ lw_all := lw_g (lw_at lw_m5 7 rfl) rfl
theorem q1038 : (Jvm.Cond.selects "java/util/LinkedList" ({ cls := "java/util/LinkedList", name := "node", desc := "(I)Ljava/util/LinkedList$Node;" } : Jvm.MethodName) ({ cls := "java/util/LinkedList", name := "node", desc := "(I)Ljava/util/LinkedList$Node;" } : Jvm.MethodName)) ∈ lw_all := lw_g (lw_at lw_m5 8 rfl) rfl
theorem q1039 : (Jvm.Cond.code ({ cls := "java/util/LinkedList", name := "node", desc := "(I)Ljava/util/LinkedList$Node;" } : Jvm.MethodName) prog_56_method_31_code (4 : Nat) (Option.some (Jvm.ClassFile.FieldType.object "java/util/LinkedList$Node"))) ∈ lw_all := lw_g (lw_at lw_m5 9 rfl) rfl
theorem q1189 : (Jvm.Cond.selects "java/util/LinkedList" ({ cls := "java/util/List", name := "isEmpty", desc := "()Z" } : Jvm.MethodName) ({ cls := "java/util/AbstractCollection", name := "isEmpty", desc := "()Z" } : Jvm.MethodName)) ∈ lw_all := lw_g (lw_at lw_m5 159 rfl) rfl
theorem q1190 : (Jvm.Cond.unhidden "java/util/LinkedList" "isEmpty" "()Z") ∈ lw_tbl := lw_at lw_m5 160 rfl
theorem q1204 : (Jvm.Cond.selects "java/util/LinkedList" ({ cls := "java/util/AbstractCollection", name := "size", desc := "()I" } : Jvm.MethodName) ({ cls := "java/util/LinkedList", name := "size", desc := "()I" } : Jvm.MethodName)) ∈ lw_all := lw_g (lw_at lw_m5 174 rfl) rfl
theorem q1296 : (Jvm.Cond.castable "java/util/LinkedList" "java/util/Deque") ∈ lw_tbl := lw_at lw_m6 26 rfl
theorem q1297 : (Jvm.Cond.selects "java/util/LinkedList" ({ cls := "java/util/Deque", name := "add", desc := "(Ljava/lang/Object;)Z" } : Jvm.MethodName) ({ cls := "java/util/LinkedList", name := "add", desc := "(Ljava/lang/Object;)Z" } : Jvm.MethodName)) ∈ lw_all := lw_g (lw_at lw_m6 27 rfl) rfl
theorem q1306 : (Jvm.Cond.selects "java/util/LinkedList" ({ cls := "java/util/Collection", name := "isEmpty", desc := "()Z" } : Jvm.MethodName) ({ cls := "java/util/AbstractCollection", name := "isEmpty", desc := "()Z" } : Jvm.MethodName)) ∈ lw_all := lw_g (lw_at lw_m6 36 rfl) rfl
theorem q1323 : (Jvm.Cond.selects "java/util/LinkedList" ({ cls := "java/util/Deque", name := "poll", desc := "()Ljava/lang/Object;" } : Jvm.MethodName) ({ cls := "java/util/LinkedList", name := "poll", desc := "()Ljava/lang/Object;" } : Jvm.MethodName)) ∈ lw_all := lw_g (lw_at lw_m6 53 rfl) rfl
theorem q1324 : (Jvm.Cond.unhidden "java/util/LinkedList" "poll" "()Ljava/lang/Object;") ∈ lw_tbl := lw_at lw_m6 54 rfl
theorem q1325 : (Jvm.Cond.instanceMethod ({ cls := "java/util/LinkedList", name := "poll", desc := "()Ljava/lang/Object;" } : Jvm.MethodName)) ∈ lw_all := lw_g (lw_at lw_m6 55 rfl) rfl
theorem q1326 : (Jvm.Cond.publicMethod ({ cls := "java/util/LinkedList", name := "poll", desc := "()Ljava/lang/Object;" } : Jvm.MethodName)) ∈ lw_tbl := lw_at lw_m6 56 rfl
theorem q1327 : (Jvm.Cond.code ({ cls := "java/util/LinkedList", name := "poll", desc := "()Ljava/lang/Object;" } : Jvm.MethodName) prog_56_method_36_code (2 : Nat) (Option.some (Jvm.ClassFile.FieldType.object "java/lang/Object"))) ∈ lw_all := lw_g (lw_at lw_m6 57 rfl) rfl
theorem q1328 : (Jvm.Cond.methodLink "java/util/LinkedList" (46 : Nat) ({ cls := "java/util/LinkedList", name := "unlinkFirst", desc := "(Ljava/util/LinkedList$Node;)Ljava/lang/Object;" } : Jvm.MethodName)) ∈ lw_all := lw_g (lw_at lw_m6 58 rfl) rfl
theorem q1329 : (Jvm.Cond.privateMethod ({ cls := "java/util/LinkedList", name := "unlinkFirst", desc := "(Ljava/util/LinkedList$Node;)Ljava/lang/Object;" } : Jvm.MethodName)) ∈ lw_tbl := lw_at lw_m6 59 rfl
theorem q1330 : (Jvm.Cond.instanceMethod ({ cls := "java/util/LinkedList", name := "unlinkFirst", desc := "(Ljava/util/LinkedList$Node;)Ljava/lang/Object;" } : Jvm.MethodName)) ∈ lw_all := lw_g (lw_at lw_m6 60 rfl) rfl
theorem q1331 : (Jvm.Cond.code ({ cls := "java/util/LinkedList", name := "unlinkFirst", desc := "(Ljava/util/LinkedList$Node;)Ljava/lang/Object;" } : Jvm.MethodName) prog_56_method_6_code (4 : Nat) (Option.some (Jvm.ClassFile.FieldType.object "java/lang/Object"))) ∈ lw_all := lw_g (lw_at lw_m6 61 rfl) rfl
theorem q1412 : (Jvm.Cond.instanceMethod ({ cls := "java/util/LinkedList", name := "descendingIterator", desc := "()Ljava/util/Iterator;" } : Jvm.MethodName)) ∈ lw_all := lw_g (lw_at lw_m6 142 rfl) rfl
theorem q1413 : (Jvm.Cond.selects "java/util/LinkedList" ({ cls := "java/util/LinkedList", name := "descendingIterator", desc := "()Ljava/util/Iterator;" } : Jvm.MethodName) ({ cls := "java/util/LinkedList", name := "descendingIterator", desc := "()Ljava/util/Iterator;" } : Jvm.MethodName)) ∈ lw_all := lw_g (lw_at lw_m6 143 rfl) rfl
theorem q1414 : (Jvm.Cond.code ({ cls := "java/util/LinkedList", name := "descendingIterator", desc := "()Ljava/util/Iterator;" } : Jvm.MethodName) prog_56_method_50_code (1 : Nat) (Option.some (Jvm.ClassFile.FieldType.object "java/util/Iterator"))) ∈ lw_all := lw_g (lw_at lw_m6 144 rfl) rfl
theorem q1415 : (Jvm.Cond.classLink "java/util/LinkedList" (155 : Nat) "java/util/LinkedList$DescendingIterator") ∈ lw_all := lw_g (lw_at lw_m6 145 rfl) rfl
theorem q1417 : (Jvm.Cond.methodLinkNest "java/util/LinkedList" (157 : Nat) ({ cls := "java/util/LinkedList$DescendingIterator", name := "<init>", desc := "(Ljava/util/LinkedList;)V" } : Jvm.MethodName) "java/util/LinkedList") ∈ lw_tbl := lw_at lw_m6 147 rfl
theorem q1465 : (Jvm.Cond.selects "java/util/LinkedList" ({ cls := "java/util/AbstractList", name := "size", desc := "()I" } : Jvm.MethodName) ({ cls := "java/util/LinkedList", name := "size", desc := "()I" } : Jvm.MethodName)) ∈ lw_all := lw_g (lw_at lw_m6 195 rfl) rfl
theorem q1506 : (Jvm.Cond.selects "java/util/LinkedList" ({ cls := "java/util/AbstractList", name := "get", desc := "(I)Ljava/lang/Object;" } : Jvm.MethodName) ({ cls := "java/util/LinkedList", name := "get", desc := "(I)Ljava/lang/Object;" } : Jvm.MethodName)) ∈ lw_all := lw_g (lw_at lw_m6 236 rfl) rfl
theorem q2079 : (Jvm.Cond.sameMethod "java/util/LinkedList" "java/util/AbstractSequentialList" "iterator" "()Ljava/util/Iterator;") ∈ lw_all := lw_g (lw_at lw_m9 89 rfl) rfl
theorem q2081 : (Jvm.Cond.selects "java/util/LinkedList" ({ cls := "java/util/LinkedList", name := "iterator", desc := "()Ljava/util/Iterator;" } : Jvm.MethodName) ({ cls := "java/util/AbstractSequentialList", name := "iterator", desc := "()Ljava/util/Iterator;" } : Jvm.MethodName)) ∈ lw_all := lw_g (lw_at lw_m9 91 rfl) rfl
theorem q2087 : (Jvm.Cond.selects "java/util/LinkedList" ({ cls := "java/util/AbstractSequentialList", name := "listIterator", desc := "()Ljava/util/ListIterator;" } : Jvm.MethodName) ({ cls := "java/util/AbstractList", name := "listIterator", desc := "()Ljava/util/ListIterator;" } : Jvm.MethodName)) ∈ lw_all := lw_g (lw_at lw_m9 97 rfl) rfl
theorem q2135 : (Jvm.Cond.selects "java/util/LinkedList" ({ cls := "java/util/AbstractList", name := "listIterator", desc := "(I)Ljava/util/ListIterator;" } : Jvm.MethodName) ({ cls := "java/util/LinkedList", name := "listIterator", desc := "(I)Ljava/util/ListIterator;" } : Jvm.MethodName)) ∈ lw_all := lw_g (lw_at lw_m9 145 rfl) rfl
theorem q2136 : (Jvm.Cond.instanceMethod ({ cls := "java/util/LinkedList", name := "listIterator", desc := "(I)Ljava/util/ListIterator;" } : Jvm.MethodName)) ∈ lw_all := lw_g (lw_at lw_m9 146 rfl) rfl
theorem q2137 : (Jvm.Cond.code ({ cls := "java/util/LinkedList", name := "listIterator", desc := "(I)Ljava/util/ListIterator;" } : Jvm.MethodName) prog_56_method_49_code (2 : Nat) (Option.some (Jvm.ClassFile.FieldType.object "java/util/ListIterator"))) ∈ lw_all := lw_g (lw_at lw_m9 147 rfl) rfl
theorem q2138 : (Jvm.Cond.methodLink "java/util/LinkedList" (76 : Nat) ({ cls := "java/util/LinkedList", name := "checkPositionIndex", desc := "(I)V" } : Jvm.MethodName)) ∈ lw_all := lw_g (lw_at lw_m9 148 rfl) rfl
theorem q2139 : (Jvm.Cond.privateMethod ({ cls := "java/util/LinkedList", name := "checkPositionIndex", desc := "(I)V" } : Jvm.MethodName)) ∈ lw_tbl := lw_at lw_m9 149 rfl
theorem q2140 : (Jvm.Cond.instanceMethod ({ cls := "java/util/LinkedList", name := "checkPositionIndex", desc := "(I)V" } : Jvm.MethodName)) ∈ lw_all := lw_g (lw_at lw_m9 150 rfl) rfl
theorem q2141 : (Jvm.Cond.code ({ cls := "java/util/LinkedList", name := "checkPositionIndex", desc := "(I)V" } : Jvm.MethodName) prog_56_method_30_code (2 : Nat) (Option.none : Option Jvm.ClassFile.FieldType)) ∈ lw_all := lw_g (lw_at lw_m9 151 rfl) rfl
theorem q2142 : (Jvm.Cond.methodLink "java/util/LinkedList" (128 : Nat) ({ cls := "java/util/LinkedList", name := "isPositionIndex", desc := "(I)Z" } : Jvm.MethodName)) ∈ lw_all := lw_g (lw_at lw_m9 152 rfl) rfl
theorem q2143 : (Jvm.Cond.privateMethod ({ cls := "java/util/LinkedList", name := "isPositionIndex", desc := "(I)Z" } : Jvm.MethodName)) ∈ lw_tbl := lw_at lw_m9 153 rfl
theorem q2144 : (Jvm.Cond.instanceMethod ({ cls := "java/util/LinkedList", name := "isPositionIndex", desc := "(I)Z" } : Jvm.MethodName)) ∈ lw_all := lw_g (lw_at lw_m9 154 rfl) rfl
theorem q2145 : (Jvm.Cond.code ({ cls := "java/util/LinkedList", name := "isPositionIndex", desc := "(I)Z" } : Jvm.MethodName) prog_56_method_27_code (2 : Nat) (Option.some Jvm.ClassFile.FieldType.boolean)) ∈ lw_all := lw_g (lw_at lw_m9 155 rfl) rfl
theorem q2146 : (Jvm.Cond.classLink "java/util/LinkedList" (150 : Nat) "java/util/LinkedList$ListItr") ∈ lw_all := lw_g (lw_at lw_m9 156 rfl) rfl
theorem q2147 : (Jvm.Cond.methodLink "java/util/LinkedList" (152 : Nat) ({ cls := "java/util/LinkedList$ListItr", name := "<init>", desc := "(Ljava/util/LinkedList;I)V" } : Jvm.MethodName)) ∈ lw_all := lw_g (lw_at lw_m9 157 rfl) rfl
theorem q2176 : (Jvm.Cond.selects "java/util/LinkedList" ({ cls := "java/util/AbstractList", name := "remove", desc := "(I)Ljava/lang/Object;" } : Jvm.MethodName) ({ cls := "java/util/LinkedList", name := "remove", desc := "(I)Ljava/lang/Object;" } : Jvm.MethodName)) ∈ lw_all := lw_g (lw_at lw_m9 186 rfl) rfl
theorem q2177 : (Jvm.Cond.instanceMethod ({ cls := "java/util/LinkedList", name := "remove", desc := "(I)Ljava/lang/Object;" } : Jvm.MethodName)) ∈ lw_all := lw_g (lw_at lw_m9 187 rfl) rfl
theorem q2178 : (Jvm.Cond.code ({ cls := "java/util/LinkedList", name := "remove", desc := "(I)Ljava/lang/Object;" } : Jvm.MethodName) prog_56_method_25_code (2 : Nat) (Option.some (Jvm.ClassFile.FieldType.object "java/lang/Object"))) ∈ lw_all := lw_g (lw_at lw_m9 188 rfl) rfl
theorem q2179 : (Jvm.Cond.methodLink "java/util/LinkedList" (64 : Nat) ({ cls := "java/util/LinkedList", name := "unlink", desc := "(Ljava/util/LinkedList$Node;)Ljava/lang/Object;" } : Jvm.MethodName)) ∈ lw_all := lw_g (lw_at lw_m9 189 rfl) rfl
theorem q2180 : (Jvm.Cond.instanceMethod ({ cls := "java/util/LinkedList", name := "unlink", desc := "(Ljava/util/LinkedList$Node;)Ljava/lang/Object;" } : Jvm.MethodName)) ∈ lw_all := lw_g (lw_at lw_m9 190 rfl) rfl
theorem q2181 : (Jvm.Cond.selects "java/util/LinkedList" ({ cls := "java/util/LinkedList", name := "unlink", desc := "(Ljava/util/LinkedList$Node;)Ljava/lang/Object;" } : Jvm.MethodName) ({ cls := "java/util/LinkedList", name := "unlink", desc := "(Ljava/util/LinkedList$Node;)Ljava/lang/Object;" } : Jvm.MethodName)) ∈ lw_all := lw_g (lw_at lw_m9 191 rfl) rfl
theorem q2182 : (Jvm.Cond.code ({ cls := "java/util/LinkedList", name := "unlink", desc := "(Ljava/util/LinkedList$Node;)Ljava/lang/Object;" } : Jvm.MethodName) prog_56_method_8_code (5 : Nat) (Option.some (Jvm.ClassFile.FieldType.object "java/lang/Object"))) ∈ lw_all := lw_g (lw_at lw_m9 192 rfl) rfl
theorem q3040 : (Jvm.Cond.selects "java/util/LinkedList" ({ cls := "java/util/LinkedList", name := "add", desc := "(Ljava/lang/Object;)Z" } : Jvm.MethodName) ({ cls := "java/util/LinkedList", name := "add", desc := "(Ljava/lang/Object;)Z" } : Jvm.MethodName)) ∈ lw_all := lw_g (lw_at lw_m13 90 rfl) rfl
theorem q3041 : (Jvm.Cond.selects "java/util/LinkedList" ({ cls := "java/util/LinkedList", name := "size", desc := "()I" } : Jvm.MethodName) ({ cls := "java/util/LinkedList", name := "size", desc := "()I" } : Jvm.MethodName)) ∈ lw_all := lw_g (lw_at lw_m13 91 rfl) rfl
theorem q3057 : (Jvm.Cond.castable "java/util/LinkedList" "java/lang/Object") ∈ lw_tbl := lw_at lw_m13 107 rfl
theorem in_J20 : ∀ w ∈ wsJ200, w ∈ lw_all := lw_in wsJ200 [555, 549, 551, 553] (by decide +kernel) (by decide +kernel)
/-! java/lang/IndexOutOfBoundsException -/
set_option maxRecDepth 100000
def RJ21 : String := "java/lang/IndexOutOfBoundsException"
def TJ21 : u_T := fun k => match k with
  | 0 => ("java/lang/Throwable", "cause", "Ljava/lang/Throwable;", false)
  | 1 => ("java/lang/Throwable", "stackTrace", "[Ljava/lang/StackTraceElement;", false)
  | 2 => ("java/lang/Throwable", "suppressedExceptions", "Ljava/util/List;", false)
  | 3 => ("java/lang/Throwable", "detailMessage", "Ljava/lang/String;", false)
  | 4 => ("java/lang/Throwable", "backtrace", "Ljava/lang/Object;", false)
  | _ => ("java/lang/Throwable", "depth", "I", false)
def tyJ21 : Nat → FieldType := fun k => match k with
  | 0 => .object "java/lang/Throwable"
  | 1 => .array (.object "java/lang/StackTraceElement")
  | 2 => .object "java/util/List"
  | 3 => .object "java/lang/String"
  | 4 => .object "java/lang/Object"
  | _ => .int
abbrev wsJ210 : List Cond := u_ws RJ21 TJ21 6
theorem nmJ21 : ∀ a, a < 6 → ∀ b, b < 6 → a ≠ b → (TJ21 a).2.1 ≠ (TJ21 b).2.1 := by decide +kernel
theorem tyJ21_ok : ∀ k, k < 6 → parseFieldDescriptor (TJ21 k).2.2.1 = some (tyJ21 k) := by decide +kernel
abbrev cJ21_init : ByteArray := prog_25_method_2_code
def yJ21_init : MethodName := ⟨RJ21, "<init>", "(Ljava/lang/String;)V"⟩
def dkwJ21_init_0 : List UInt8 := [42, 43, 183, 0, 7, 177]
abbrev dktJ21_init_0 : List UInt8 := dkwJ21_init_0 ++ []
theorem dksJ21_init_0 : cJ21_init.data.toList.drop 0 = dktJ21_init_0 := by decide +kernel
theorem dJ21_init_0 : decode cJ21_init 0 = .ok (.aload_n 0, 1) := dk_42 (dk_at dksJ21_init_0 0 rfl rfl)
theorem dJ21_init_1 : decode cJ21_init 1 = .ok (.aload_n 1, 1) := dk_43 (dk_at dksJ21_init_0 1 rfl rfl)
theorem dJ21_init_2 : decode cJ21_init 2 = .ok (.invokespecial 7, 3) := dk_183 0 7 (dk_at dksJ21_init_0 2 rfl rfl)
theorem dJ21_init_5 : decode cJ21_init 5 = .ok (.return_, 1) := dk_177 (dk_at dksJ21_init_0 5 rfl rfl)
abbrev cJ21_init_2 : ByteArray := prog_25_method_1_code
def yJ21_init_2 : MethodName := ⟨RJ21, "<init>", "()V"⟩
theorem dJ21_init_2_0 : decode cJ21_init_2 0 = .ok (.aload_n 0, 1) := by decide +kernel
theorem dJ21_init_2_1 : decode cJ21_init_2 1 = .ok (.invokespecial 1, 3) := by decide +kernel
theorem dJ21_init_2_4 : decode cJ21_init_2 4 = .ok (.return_, 1) := by decide +kernel
theorem q96 : (Jvm.Cond.initialized "java/lang/IndexOutOfBoundsException") ∈ lw_all := lw_g (lw_at lw_m1 26 rfl) rfl
theorem q189 : (Jvm.Cond.selects "java/lang/IndexOutOfBoundsException" ({ cls := "java/lang/Throwable", name := "fillInStackTrace", desc := "()Ljava/lang/Throwable;" } : Jvm.MethodName) ({ cls := "java/lang/Throwable", name := "fillInStackTrace", desc := "()Ljava/lang/Throwable;" } : Jvm.MethodName)) ∈ lw_all := lw_g (lw_at lw_m1 119 rfl) rfl
theorem q604 : (Jvm.Cond.instantiable "java/lang/IndexOutOfBoundsException" (6 : Nat)) ∈ lw_all := lw_g (lw_at lw_m3 54 rfl) rfl
theorem q605 : (Jvm.Cond.castable "java/lang/IndexOutOfBoundsException" "java/lang/IndexOutOfBoundsException") ∈ lw_tbl := lw_at lw_m3 55 rfl
theorem q606 : (Jvm.Cond.selects "java/lang/IndexOutOfBoundsException" ({ cls := "java/lang/Throwable", name := "fillInStackTrace", desc := "(I)Ljava/lang/Throwable;" } : Jvm.MethodName) ({ cls := "java/lang/Throwable", name := "fillInStackTrace", desc := "(I)Ljava/lang/Throwable;" } : Jvm.MethodName)) ∈ lw_all := lw_g (lw_at lw_m3 56 rfl) rfl
theorem q607 : (Jvm.Cond.lays "java/lang/IndexOutOfBoundsException" "java/lang/Throwable" "cause" "Ljava/lang/Throwable;") ∈ lw_all := lw_g (lw_at lw_m3 57 rfl) rfl
theorem q608 : (Jvm.Cond.lays "java/lang/IndexOutOfBoundsException" "java/lang/Throwable" "stackTrace" "[Ljava/lang/StackTraceElement;") ∈ lw_all := lw_g (lw_at lw_m3 58 rfl) rfl
theorem q609 : (Jvm.Cond.lays "java/lang/IndexOutOfBoundsException" "java/lang/Throwable" "suppressedExceptions" "Ljava/util/List;") ∈ lw_all := lw_g (lw_at lw_m3 59 rfl) rfl
theorem q610 : (Jvm.Cond.lays "java/lang/IndexOutOfBoundsException" "java/lang/Throwable" "detailMessage" "Ljava/lang/String;") ∈ lw_all := lw_g (lw_at lw_m3 60 rfl) rfl
theorem q611 : (Jvm.Cond.lays "java/lang/IndexOutOfBoundsException" "java/lang/Throwable" "backtrace" "Ljava/lang/Object;") ∈ lw_all := lw_g (lw_at lw_m3 61 rfl) rfl
theorem q619 : (Jvm.Cond.instanceMethod ({ cls := "java/lang/IndexOutOfBoundsException", name := "<init>", desc := "(Ljava/lang/String;)V" } : Jvm.MethodName)) ∈ lw_all := lw_g (lw_at lw_m3 69 rfl) rfl
theorem q620 : (Jvm.Cond.code ({ cls := "java/lang/IndexOutOfBoundsException", name := "<init>", desc := "(Ljava/lang/String;)V" } : Jvm.MethodName) prog_25_method_2_code (2 : Nat) (Option.none : Option Jvm.ClassFile.FieldType)) ∈ lw_all := lw_g (lw_at lw_m3 70 rfl) rfl
theorem q621 : (Jvm.Cond.methodLink "java/lang/IndexOutOfBoundsException" (7 : Nat) ({ cls := "java/lang/RuntimeException", name := "<init>", desc := "(Ljava/lang/String;)V" } : Jvm.MethodName)) ∈ lw_all := lw_g (lw_at lw_m3 71 rfl) rfl
theorem q622 : (Jvm.Cond.lays "java/lang/IndexOutOfBoundsException" "java/lang/Throwable" "depth" "I") ∈ lw_all := lw_g (lw_at lw_m3 72 rfl) rfl
theorem q623 : (Jvm.Cond.superclass "java/lang/IndexOutOfBoundsException" "java/lang/RuntimeException") ∈ lw_all := lw_g (lw_at lw_m3 73 rfl) rfl
theorem q913 : (Jvm.Cond.selects "java/lang/IndexOutOfBoundsException" ({ cls := "java/lang/Object", name := "getClass", desc := "()Ljava/lang/Class;" } : Jvm.MethodName) ({ cls := "java/lang/Object", name := "getClass", desc := "()Ljava/lang/Class;" } : Jvm.MethodName)) ∈ lw_all := lw_g (lw_at lw_m4 123 rfl) rfl
theorem q1095 : (Jvm.Cond.declares ({ cls := "java/lang/IndexOutOfBoundsException", name := "<init>", desc := "()V" } : Jvm.MethodName)) ∈ lw_tbl := lw_at lw_m5 65 rfl
theorem q1096 : (Jvm.Cond.declares ({ cls := "java/lang/IndexOutOfBoundsException", name := "<init>", desc := "(Ljava/lang/String;)V" } : Jvm.MethodName)) ∈ lw_tbl := lw_at lw_m5 66 rfl
theorem q1111 : (Jvm.Cond.instanceMethod ({ cls := "java/lang/IndexOutOfBoundsException", name := "<init>", desc := "()V" } : Jvm.MethodName)) ∈ lw_all := lw_g (lw_at lw_m5 81 rfl) rfl
theorem q1112 : (Jvm.Cond.code ({ cls := "java/lang/IndexOutOfBoundsException", name := "<init>", desc := "()V" } : Jvm.MethodName) prog_25_method_1_code (1 : Nat) (Option.none : Option Jvm.ClassFile.FieldType)) ∈ lw_all := lw_g (lw_at lw_m5 82 rfl) rfl
theorem q1113 : (Jvm.Cond.methodLink "java/lang/IndexOutOfBoundsException" (1 : Nat) ({ cls := "java/lang/RuntimeException", name := "<init>", desc := "()V" } : Jvm.MethodName)) ∈ lw_all := lw_g (lw_at lw_m5 83 rfl) rfl
theorem q1534 : (Jvm.Cond.selects "java/lang/IndexOutOfBoundsException" ({ cls := "java/lang/Throwable", name := "toString", desc := "()Ljava/lang/String;" } : Jvm.MethodName) ({ cls := "java/lang/Throwable", name := "toString", desc := "()Ljava/lang/String;" } : Jvm.MethodName)) ∈ lw_all := lw_g (lw_at lw_m7 24 rfl) rfl
theorem q1545 : (Jvm.Cond.selects "java/lang/IndexOutOfBoundsException" ({ cls := "java/lang/Throwable", name := "getLocalizedMessage", desc := "()Ljava/lang/String;" } : Jvm.MethodName) ({ cls := "java/lang/Throwable", name := "getLocalizedMessage", desc := "()Ljava/lang/String;" } : Jvm.MethodName)) ∈ lw_all := lw_g (lw_at lw_m7 35 rfl) rfl
theorem q1555 : (Jvm.Cond.selects "java/lang/IndexOutOfBoundsException" ({ cls := "java/lang/Throwable", name := "getMessage", desc := "()Ljava/lang/String;" } : Jvm.MethodName) ({ cls := "java/lang/Throwable", name := "getMessage", desc := "()Ljava/lang/String;" } : Jvm.MethodName)) ∈ lw_all := lw_g (lw_at lw_m7 45 rfl) rfl
theorem q3058 : (Jvm.Cond.castable "java/lang/IndexOutOfBoundsException" "java/lang/Object") ∈ lw_tbl := lw_at lw_m13 108 rfl
theorem in_J21 : ∀ w ∈ wsJ210, w ∈ lw_all := lw_in wsJ210 [607, 608, 609, 610, 611, 622] (by decide +kernel) (by decide +kernel)
/-! java/lang/IllegalStateException -/
set_option maxRecDepth 100000
def RJ22 : String := "java/lang/IllegalStateException"
def TJ22 : u_T := fun k => match k with
  | 0 => ("java/lang/Throwable", "cause", "Ljava/lang/Throwable;", false)
  | 1 => ("java/lang/Throwable", "stackTrace", "[Ljava/lang/StackTraceElement;", false)
  | 2 => ("java/lang/Throwable", "suppressedExceptions", "Ljava/util/List;", false)
  | 3 => ("java/lang/Throwable", "detailMessage", "Ljava/lang/String;", false)
  | 4 => ("java/lang/Throwable", "backtrace", "Ljava/lang/Object;", false)
  | _ => ("java/lang/Throwable", "depth", "I", false)
def tyJ22 : Nat → FieldType := fun k => match k with
  | 0 => .object "java/lang/Throwable"
  | 1 => .array (.object "java/lang/StackTraceElement")
  | 2 => .object "java/util/List"
  | 3 => .object "java/lang/String"
  | 4 => .object "java/lang/Object"
  | _ => .int
abbrev wsJ220 : List Cond := u_ws RJ22 TJ22 6
theorem nmJ22 : ∀ a, a < 6 → ∀ b, b < 6 → a ≠ b → (TJ22 a).2.1 ≠ (TJ22 b).2.1 := by decide +kernel
theorem tyJ22_ok : ∀ k, k < 6 → parseFieldDescriptor (TJ22 k).2.2.1 = some (tyJ22 k) := by decide +kernel
abbrev cJ22_init : ByteArray := prog_24_method_1_code
def yJ22_init : MethodName := ⟨RJ22, "<init>", "()V"⟩
theorem dJ22_init_0 : decode cJ22_init 0 = .ok (.aload_n 0, 1) := by decide +kernel
theorem dJ22_init_1 : decode cJ22_init 1 = .ok (.invokespecial 1, 3) := by decide +kernel
theorem dJ22_init_4 : decode cJ22_init 4 = .ok (.return_, 1) := by decide +kernel
abbrev cJ22_init_2 : ByteArray := prog_24_method_2_code
def yJ22_init_2 : MethodName := ⟨RJ22, "<init>", "(Ljava/lang/String;)V"⟩
def dkwJ22_init_2_0 : List UInt8 := [42, 43, 183, 0, 7, 177]
abbrev dktJ22_init_2_0 : List UInt8 := dkwJ22_init_2_0 ++ []
theorem dksJ22_init_2_0 : cJ22_init_2.data.toList.drop 0 = dktJ22_init_2_0 := by decide +kernel
theorem dJ22_init_2_0 : decode cJ22_init_2 0 = .ok (.aload_n 0, 1) := dk_42 (dk_at dksJ22_init_2_0 0 rfl rfl)
theorem dJ22_init_2_1 : decode cJ22_init_2 1 = .ok (.aload_n 1, 1) := dk_43 (dk_at dksJ22_init_2_0 1 rfl rfl)
theorem dJ22_init_2_2 : decode cJ22_init_2 2 = .ok (.invokespecial 7, 3) := dk_183 0 7 (dk_at dksJ22_init_2_0 2 rfl rfl)
theorem dJ22_init_2_5 : decode cJ22_init_2 5 = .ok (.return_, 1) := dk_177 (dk_at dksJ22_init_2_0 5 rfl rfl)
theorem q99 : (Jvm.Cond.initialized "java/lang/IllegalStateException") ∈ lw_all := lw_g (lw_at lw_m1 29 rfl) rfl
theorem q188 : (Jvm.Cond.selects "java/lang/IllegalStateException" ({ cls := "java/lang/Throwable", name := "fillInStackTrace", desc := "()Ljava/lang/Throwable;" } : Jvm.MethodName) ({ cls := "java/lang/Throwable", name := "fillInStackTrace", desc := "()Ljava/lang/Throwable;" } : Jvm.MethodName)) ∈ lw_all := lw_g (lw_at lw_m1 118 rfl) rfl
theorem q825 : (Jvm.Cond.instantiable "java/lang/IllegalStateException" (6 : Nat)) ∈ lw_all := lw_g (lw_at lw_m4 35 rfl) rfl
theorem q826 : (Jvm.Cond.castable "java/lang/IllegalStateException" "java/lang/IllegalStateException") ∈ lw_tbl := lw_at lw_m4 36 rfl
theorem q827 : (Jvm.Cond.selects "java/lang/IllegalStateException" ({ cls := "java/lang/Throwable", name := "fillInStackTrace", desc := "(I)Ljava/lang/Throwable;" } : Jvm.MethodName) ({ cls := "java/lang/Throwable", name := "fillInStackTrace", desc := "(I)Ljava/lang/Throwable;" } : Jvm.MethodName)) ∈ lw_all := lw_g (lw_at lw_m4 37 rfl) rfl
theorem q828 : (Jvm.Cond.lays "java/lang/IllegalStateException" "java/lang/Throwable" "cause" "Ljava/lang/Throwable;") ∈ lw_all := lw_g (lw_at lw_m4 38 rfl) rfl
theorem q829 : (Jvm.Cond.lays "java/lang/IllegalStateException" "java/lang/Throwable" "stackTrace" "[Ljava/lang/StackTraceElement;") ∈ lw_all := lw_g (lw_at lw_m4 39 rfl) rfl
theorem q830 : (Jvm.Cond.lays "java/lang/IllegalStateException" "java/lang/Throwable" "suppressedExceptions" "Ljava/util/List;") ∈ lw_all := lw_g (lw_at lw_m4 40 rfl) rfl
theorem q831 : (Jvm.Cond.lays "java/lang/IllegalStateException" "java/lang/Throwable" "detailMessage" "Ljava/lang/String;") ∈ lw_all := lw_g (lw_at lw_m4 41 rfl) rfl
theorem q832 : (Jvm.Cond.lays "java/lang/IllegalStateException" "java/lang/Throwable" "backtrace" "Ljava/lang/Object;") ∈ lw_all := lw_g (lw_at lw_m4 42 rfl) rfl
theorem q834 : (Jvm.Cond.instanceMethod ({ cls := "java/lang/IllegalStateException", name := "<init>", desc := "()V" } : Jvm.MethodName)) ∈ lw_all := lw_g (lw_at lw_m4 44 rfl) rfl
theorem q835 : (Jvm.Cond.code ({ cls := "java/lang/IllegalStateException", name := "<init>", desc := "()V" } : Jvm.MethodName) prog_24_method_1_code (1 : Nat) (Option.none : Option Jvm.ClassFile.FieldType)) ∈ lw_all := lw_g (lw_at lw_m4 45 rfl) rfl
theorem q836 : (Jvm.Cond.methodLink "java/lang/IllegalStateException" (1 : Nat) ({ cls := "java/lang/RuntimeException", name := "<init>", desc := "()V" } : Jvm.MethodName)) ∈ lw_all := lw_g (lw_at lw_m4 46 rfl) rfl
theorem q837 : (Jvm.Cond.lays "java/lang/IllegalStateException" "java/lang/Throwable" "depth" "I") ∈ lw_all := lw_g (lw_at lw_m4 47 rfl) rfl
theorem q838 : (Jvm.Cond.superclass "java/lang/IllegalStateException" "java/lang/RuntimeException") ∈ lw_all := lw_g (lw_at lw_m4 48 rfl) rfl
theorem q912 : (Jvm.Cond.selects "java/lang/IllegalStateException" ({ cls := "java/lang/Object", name := "getClass", desc := "()Ljava/lang/Class;" } : Jvm.MethodName) ({ cls := "java/lang/Object", name := "getClass", desc := "()Ljava/lang/Class;" } : Jvm.MethodName)) ∈ lw_all := lw_g (lw_at lw_m4 122 rfl) rfl
theorem q1290 : (Jvm.Cond.instanceMethod ({ cls := "java/lang/IllegalStateException", name := "<init>", desc := "(Ljava/lang/String;)V" } : Jvm.MethodName)) ∈ lw_all := lw_g (lw_at lw_m6 20 rfl) rfl
theorem q1291 : (Jvm.Cond.code ({ cls := "java/lang/IllegalStateException", name := "<init>", desc := "(Ljava/lang/String;)V" } : Jvm.MethodName) prog_24_method_2_code (2 : Nat) (Option.none : Option Jvm.ClassFile.FieldType)) ∈ lw_all := lw_g (lw_at lw_m6 21 rfl) rfl
theorem q1292 : (Jvm.Cond.methodLink "java/lang/IllegalStateException" (7 : Nat) ({ cls := "java/lang/RuntimeException", name := "<init>", desc := "(Ljava/lang/String;)V" } : Jvm.MethodName)) ∈ lw_all := lw_g (lw_at lw_m6 22 rfl) rfl
theorem q1533 : (Jvm.Cond.selects "java/lang/IllegalStateException" ({ cls := "java/lang/Throwable", name := "toString", desc := "()Ljava/lang/String;" } : Jvm.MethodName) ({ cls := "java/lang/Throwable", name := "toString", desc := "()Ljava/lang/String;" } : Jvm.MethodName)) ∈ lw_all := lw_g (lw_at lw_m7 23 rfl) rfl
theorem q1544 : (Jvm.Cond.selects "java/lang/IllegalStateException" ({ cls := "java/lang/Throwable", name := "getLocalizedMessage", desc := "()Ljava/lang/String;" } : Jvm.MethodName) ({ cls := "java/lang/Throwable", name := "getLocalizedMessage", desc := "()Ljava/lang/String;" } : Jvm.MethodName)) ∈ lw_all := lw_g (lw_at lw_m7 34 rfl) rfl
theorem q1554 : (Jvm.Cond.selects "java/lang/IllegalStateException" ({ cls := "java/lang/Throwable", name := "getMessage", desc := "()Ljava/lang/String;" } : Jvm.MethodName) ({ cls := "java/lang/Throwable", name := "getMessage", desc := "()Ljava/lang/String;" } : Jvm.MethodName)) ∈ lw_all := lw_g (lw_at lw_m7 44 rfl) rfl
theorem q3060 : (Jvm.Cond.castable "java/lang/IllegalStateException" "java/lang/Object") ∈ lw_tbl := lw_at lw_m13 110 rfl
theorem in_J22 : ∀ w ∈ wsJ220, w ∈ lw_all := lw_in wsJ220 [828, 829, 830, 831, 832, 837] (by decide +kernel) (by decide +kernel)
/-! java/util/LinkedList$Node -/
set_option maxRecDepth 100000
def RJ23 : String := "java/util/LinkedList$Node"
def TJ23 : u_T := fun k => match k with
  | 0 => ("java/util/LinkedList$Node", "item", "Ljava/lang/Object;", false)
  | 1 => ("java/util/LinkedList$Node", "next", "Ljava/util/LinkedList$Node;", false)
  | _ => ("java/util/LinkedList$Node", "prev", "Ljava/util/LinkedList$Node;", false)
def tyJ23 : Nat → FieldType := fun k => match k with
  | 0 => .object "java/lang/Object"
  | 1 => .object "java/util/LinkedList$Node"
  | _ => .object "java/util/LinkedList$Node"
abbrev wsJ230 : List Cond := u_ws RJ23 TJ23 3
theorem nmJ23 : ∀ a, a < 3 → ∀ b, b < 3 → a ≠ b → (TJ23 a).2.1 ≠ (TJ23 b).2.1 := by decide +kernel
theorem tyJ23_ok : ∀ k, k < 3 → parseFieldDescriptor (TJ23 k).2.2.1 = some (tyJ23 k) := by decide +kernel
abbrev cJ23_init : ByteArray := prog_59_method_1_code
def yJ23_init : MethodName := ⟨RJ23, "<init>", "(Ljava/util/LinkedList$Node;Ljava/lang/Object;Ljava/util/LinkedList$Node;)V"⟩
def dkwJ23_init_0 : List UInt8 := [42, 183, 0, 1, 42, 44, 181, 0, 7, 42, 45, 181, 0, 13, 42, 43, 181, 0, 17, 177]
abbrev dktJ23_init_0 : List UInt8 := dkwJ23_init_0 ++ []
theorem dksJ23_init_0 : cJ23_init.data.toList.drop 0 = dktJ23_init_0 := by decide +kernel
theorem dJ23_init_0 : decode cJ23_init 0 = .ok (.aload_n 0, 1) := dk_42 (dk_at dksJ23_init_0 0 rfl rfl)
theorem dJ23_init_1 : decode cJ23_init 1 = .ok (.invokespecial 1, 3) := dk_183 0 1 (dk_at dksJ23_init_0 1 rfl rfl)
theorem dJ23_init_4 : decode cJ23_init 4 = .ok (.aload_n 0, 1) := dk_42 (dk_at dksJ23_init_0 4 rfl rfl)
theorem dJ23_init_5 : decode cJ23_init 5 = .ok (.aload_n 2, 1) := dk_44 (dk_at dksJ23_init_0 5 rfl rfl)
theorem dJ23_init_6 : decode cJ23_init 6 = .ok (.putfield 7, 3) := dk_181 0 7 (dk_at dksJ23_init_0 6 rfl rfl)
theorem dJ23_init_9 : decode cJ23_init 9 = .ok (.aload_n 0, 1) := dk_42 (dk_at dksJ23_init_0 9 rfl rfl)
theorem dJ23_init_10 : decode cJ23_init 10 = .ok (.aload_n 3, 1) := dk_45 (dk_at dksJ23_init_0 10 rfl rfl)
theorem dJ23_init_11 : decode cJ23_init 11 = .ok (.putfield 13, 3) := dk_181 0 13 (dk_at dksJ23_init_0 11 rfl rfl)
theorem dJ23_init_14 : decode cJ23_init 14 = .ok (.aload_n 0, 1) := dk_42 (dk_at dksJ23_init_0 14 rfl rfl)
theorem dJ23_init_15 : decode cJ23_init 15 = .ok (.aload_n 1, 1) := dk_43 (dk_at dksJ23_init_0 15 rfl rfl)
theorem dJ23_init_16 : decode cJ23_init 16 = .ok (.putfield 17, 3) := dk_181 0 17 (dk_at dksJ23_init_0 16 rfl rfl)
theorem dJ23_init_19 : decode cJ23_init 19 = .ok (.return_, 1) := dk_177 (dk_at dksJ23_init_0 19 rfl rfl)
theorem q101 : (Jvm.Cond.initialized "java/util/LinkedList$Node") ∈ lw_all := lw_g (lw_at lw_m1 31 rfl) rfl
theorem q926 : (Jvm.Cond.selects "java/util/LinkedList$Node" ({ cls := "java/lang/Object", name := "getClass", desc := "()Ljava/lang/Class;" } : Jvm.MethodName) ({ cls := "java/lang/Object", name := "getClass", desc := "()Ljava/lang/Class;" } : Jvm.MethodName)) ∈ lw_all := lw_g (lw_at lw_m4 136 rfl) rfl
theorem q945 : (Jvm.Cond.instantiable "java/util/LinkedList$Node" (3 : Nat)) ∈ lw_all := lw_g (lw_at lw_m4 155 rfl) rfl
theorem q947 : (Jvm.Cond.instanceMethod ({ cls := "java/util/LinkedList$Node", name := "<init>", desc := "(Ljava/util/LinkedList$Node;Ljava/lang/Object;Ljava/util/LinkedList$Node;)V" } : Jvm.MethodName)) ∈ lw_all := lw_g (lw_at lw_m4 157 rfl) rfl
theorem q948 : (Jvm.Cond.code ({ cls := "java/util/LinkedList$Node", name := "<init>", desc := "(Ljava/util/LinkedList$Node;Ljava/lang/Object;Ljava/util/LinkedList$Node;)V" } : Jvm.MethodName) prog_59_method_1_code (4 : Nat) (Option.none : Option Jvm.ClassFile.FieldType)) ∈ lw_all := lw_g (lw_at lw_m4 158 rfl) rfl
theorem q949 : (Jvm.Cond.methodLink "java/util/LinkedList$Node" (1 : Nat) ({ cls := "java/lang/Object", name := "<init>", desc := "()V" } : Jvm.MethodName)) ∈ lw_all := lw_g (lw_at lw_m4 159 rfl) rfl
theorem q950 : (Jvm.Cond.fieldLink "java/util/LinkedList$Node" (7 : Nat) "java/util/LinkedList$Node" "item" "Ljava/lang/Object;") ∈ lw_all := lw_g (lw_at lw_m4 160 rfl) rfl
theorem q953 : (Jvm.Cond.fieldLink "java/util/LinkedList$Node" (13 : Nat) "java/util/LinkedList$Node" "next" "Ljava/util/LinkedList$Node;") ∈ lw_all := lw_g (lw_at lw_m4 163 rfl) rfl
theorem q956 : (Jvm.Cond.fieldLink "java/util/LinkedList$Node" (17 : Nat) "java/util/LinkedList$Node" "prev" "Ljava/util/LinkedList$Node;") ∈ lw_all := lw_g (lw_at lw_m4 166 rfl) rfl
theorem q959 : (Jvm.Cond.lays "java/util/LinkedList$Node" "java/util/LinkedList$Node" "item" "Ljava/lang/Object;") ∈ lw_all := lw_g (lw_at lw_m4 169 rfl) rfl
theorem q960 : (Jvm.Cond.soleField "java/util/LinkedList$Node" "item") ∈ lw_all := lw_g (lw_at lw_m4 170 rfl) rfl
theorem q961 : (Jvm.Cond.lays "java/util/LinkedList$Node" "java/util/LinkedList$Node" "next" "Ljava/util/LinkedList$Node;") ∈ lw_all := lw_g (lw_at lw_m4 171 rfl) rfl
theorem q962 : (Jvm.Cond.soleField "java/util/LinkedList$Node" "next") ∈ lw_all := lw_g (lw_at lw_m4 172 rfl) rfl
theorem q963 : (Jvm.Cond.lays "java/util/LinkedList$Node" "java/util/LinkedList$Node" "prev" "Ljava/util/LinkedList$Node;") ∈ lw_all := lw_g (lw_at lw_m4 173 rfl) rfl
theorem q964 : (Jvm.Cond.soleField "java/util/LinkedList$Node" "prev") ∈ lw_all := lw_g (lw_at lw_m4 174 rfl) rfl
theorem q965 : (Jvm.Cond.superclass "java/util/LinkedList$Node" "java/lang/Object") ∈ lw_all := lw_g (lw_at lw_m4 175 rfl) rfl
theorem q3062 : (Jvm.Cond.castable "java/util/LinkedList$Node" "java/lang/Object") ∈ lw_tbl := lw_at lw_m13 112 rfl
theorem in_J23 : ∀ w ∈ wsJ230, w ∈ lw_all := lw_in wsJ230 [959, 961, 963] (by decide +kernel) (by decide +kernel)
/-! java/util/Objects -/
set_option maxRecDepth 100000
def RJ24 : String := "java/util/Objects"
abbrev cJ24_checkIndex : ByteArray := prog_63_method_17_code
def yJ24_checkIndex : MethodName := ⟨RJ24, "checkIndex", "(II)I"⟩
def dkwJ24_checkIndex_0 : List UInt8 := [26, 27, 1, 184, 0, 105, 172]
abbrev dktJ24_checkIndex_0 : List UInt8 := dkwJ24_checkIndex_0 ++ []
theorem dksJ24_checkIndex_0 : cJ24_checkIndex.data.toList.drop 0 = dktJ24_checkIndex_0 := by decide +kernel
theorem dJ24_checkIndex_0 : decode cJ24_checkIndex 0 = .ok (.iload_n 0, 1) := dk_26 (dk_at dksJ24_checkIndex_0 0 rfl rfl)
theorem dJ24_checkIndex_1 : decode cJ24_checkIndex 1 = .ok (.iload_n 1, 1) := dk_27 (dk_at dksJ24_checkIndex_0 1 rfl rfl)
theorem dJ24_checkIndex_2 : decode cJ24_checkIndex 2 = .ok (.aconst_null, 1) := dk_1 (dk_at dksJ24_checkIndex_0 2 rfl rfl)
theorem dJ24_checkIndex_3 : decode cJ24_checkIndex 3 = .ok (.invokestatic 105, 3) := dk_184 0 105 (dk_at dksJ24_checkIndex_0 3 rfl rfl)
theorem dJ24_checkIndex_6 : decode cJ24_checkIndex 6 = .ok (.ireturn, 1) := dk_172 (dk_at dksJ24_checkIndex_0 6 rfl rfl)
theorem q102 : (Jvm.Cond.initialized "java/util/Objects") ∈ lw_all := lw_g (lw_at lw_m1 32 rfl) rfl
theorem q1001 : (Jvm.Cond.static ({ cls := "java/util/Objects", name := "checkIndex", desc := "(II)I" } : Jvm.MethodName)) ∈ lw_all := lw_g (lw_at lw_m4 211 rfl) rfl
theorem q1002 : (Jvm.Cond.code ({ cls := "java/util/Objects", name := "checkIndex", desc := "(II)I" } : Jvm.MethodName) prog_63_method_17_code (2 : Nat) (Option.some Jvm.ClassFile.FieldType.int)) ∈ lw_all := lw_g (lw_at lw_m4 212 rfl) rfl
theorem q1003 : (Jvm.Cond.methodLink "java/util/Objects" (105 : Nat) ({ cls := "jdk/internal/util/Preconditions", name := "checkIndex", desc := "(IILjava/util/function/BiFunction;)I" } : Jvm.MethodName)) ∈ lw_all := lw_g (lw_at lw_m4 213 rfl) rfl
/-! java/lang/Long -/
set_option maxRecDepth 100000
def RJ25 : String := "java/lang/Long"
abbrev cJ25_numberOfTrailingZeros : ByteArray := prog_29_method_49_code
def yJ25_numberOfTrailingZeros : MethodName := ⟨RJ25, "numberOfTrailingZeros", "(J)I"⟩
def dkwJ25_numberOfTrailingZeros_1 : List UInt8 := [184, 1, 55, 172]
abbrev dktJ25_numberOfTrailingZeros_1 : List UInt8 := dkwJ25_numberOfTrailingZeros_1 ++ []
def dkwJ25_numberOfTrailingZeros_0 : List UInt8 := [30, 136, 61, 28, 154, 0, 17, 16, 32, 30, 16, 32, 125, 136, 184, 1, 55, 96, 167, 0, 7, 28]
abbrev dktJ25_numberOfTrailingZeros_0 : List UInt8 := dkwJ25_numberOfTrailingZeros_0 ++ dktJ25_numberOfTrailingZeros_1
theorem dksJ25_numberOfTrailingZeros_0 : cJ25_numberOfTrailingZeros.data.toList.drop 0 = dktJ25_numberOfTrailingZeros_0 := by decide +kernel
theorem dksJ25_numberOfTrailingZeros_1 : cJ25_numberOfTrailingZeros.data.toList.drop 22 = dktJ25_numberOfTrailingZeros_1 := dk_seg dksJ25_numberOfTrailingZeros_0 22 rfl rfl
theorem dJ25_numberOfTrailingZeros_0 : decode cJ25_numberOfTrailingZeros 0 = .ok (.lload_n 0, 1) := dk_30 (dk_at dksJ25_numberOfTrailingZeros_0 0 rfl rfl)
theorem dJ25_numberOfTrailingZeros_1 : decode cJ25_numberOfTrailingZeros 1 = .ok (.l2i, 1) := dk_136 (dk_at dksJ25_numberOfTrailingZeros_0 1 rfl rfl)
theorem dJ25_numberOfTrailingZeros_2 : decode cJ25_numberOfTrailingZeros 2 = .ok (.istore_n 2, 1) := dk_61 (dk_at dksJ25_numberOfTrailingZeros_0 2 rfl rfl)
theorem dJ25_numberOfTrailingZeros_3 : decode cJ25_numberOfTrailingZeros 3 = .ok (.iload_n 2, 1) := dk_28 (dk_at dksJ25_numberOfTrailingZeros_0 3 rfl rfl)
theorem dJ25_numberOfTrailingZeros_4 : decode cJ25_numberOfTrailingZeros 4 = .ok (.ifCond .ne 17, 3) := dk_154 0 17 (dk_at dksJ25_numberOfTrailingZeros_0 4 rfl rfl)
theorem dJ25_numberOfTrailingZeros_7 : decode cJ25_numberOfTrailingZeros 7 = .ok (.bipush 32, 2) := dk_16 32 (dk_at dksJ25_numberOfTrailingZeros_0 7 rfl rfl)
theorem dJ25_numberOfTrailingZeros_9 : decode cJ25_numberOfTrailingZeros 9 = .ok (.lload_n 0, 1) := dk_30 (dk_at dksJ25_numberOfTrailingZeros_0 9 rfl rfl)
theorem dJ25_numberOfTrailingZeros_10 : decode cJ25_numberOfTrailingZeros 10 = .ok (.bipush 32, 2) := dk_16 32 (dk_at dksJ25_numberOfTrailingZeros_0 10 rfl rfl)
theorem dJ25_numberOfTrailingZeros_12 : decode cJ25_numberOfTrailingZeros 12 = .ok (.lushr, 1) := dk_125 (dk_at dksJ25_numberOfTrailingZeros_0 12 rfl rfl)
theorem dJ25_numberOfTrailingZeros_13 : decode cJ25_numberOfTrailingZeros 13 = .ok (.l2i, 1) := dk_136 (dk_at dksJ25_numberOfTrailingZeros_0 13 rfl rfl)
theorem dJ25_numberOfTrailingZeros_14 : decode cJ25_numberOfTrailingZeros 14 = .ok (.invokestatic 311, 3) := dk_184 1 55 (dk_at dksJ25_numberOfTrailingZeros_0 14 rfl rfl)
theorem dJ25_numberOfTrailingZeros_17 : decode cJ25_numberOfTrailingZeros 17 = .ok (.iadd, 1) := dk_96 (dk_at dksJ25_numberOfTrailingZeros_0 17 rfl rfl)
theorem dJ25_numberOfTrailingZeros_18 : decode cJ25_numberOfTrailingZeros 18 = .ok (.goto 7, 3) := dk_167 0 7 (dk_at dksJ25_numberOfTrailingZeros_0 18 rfl rfl)
theorem dJ25_numberOfTrailingZeros_21 : decode cJ25_numberOfTrailingZeros 21 = .ok (.iload_n 2, 1) := dk_28 (dk_at dksJ25_numberOfTrailingZeros_0 21 rfl rfl)
theorem dJ25_numberOfTrailingZeros_22 : decode cJ25_numberOfTrailingZeros 22 = .ok (.invokestatic 311, 3) := dk_184 1 55 (dk_at dksJ25_numberOfTrailingZeros_1 0 rfl rfl)
theorem dJ25_numberOfTrailingZeros_25 : decode cJ25_numberOfTrailingZeros 25 = .ok (.ireturn, 1) := dk_172 (dk_at dksJ25_numberOfTrailingZeros_1 3 rfl rfl)
abbrev cJ25_bitCount : ByteArray := prog_29_method_50_code
def yJ25_bitCount : MethodName := ⟨RJ25, "bitCount", "(J)I"⟩
def dkwJ25_bitCount_2 : List UInt8 := [30, 30, 16, 32, 125, 97, 63, 30, 136, 16, 127, 126, 172]
abbrev dktJ25_bitCount_2 : List UInt8 := dkwJ25_bitCount_2 ++ []
def dkwJ25_bitCount_1 : List UInt8 := [30, 30, 7, 125, 97, 20, 1, 62, 127, 63, 30, 30, 16, 8, 125, 97, 63, 30, 30, 16, 16, 125, 97, 63]
abbrev dktJ25_bitCount_1 : List UInt8 := dkwJ25_bitCount_1 ++ dktJ25_bitCount_2
def dkwJ25_bitCount_0 : List UInt8 := [30, 30, 4, 125, 20, 1, 58, 127, 101, 63, 30, 20, 1, 60, 127, 30, 5, 125, 20, 1, 60, 127, 97, 63]
abbrev dktJ25_bitCount_0 : List UInt8 := dkwJ25_bitCount_0 ++ dktJ25_bitCount_1
theorem dksJ25_bitCount_0 : cJ25_bitCount.data.toList.drop 0 = dktJ25_bitCount_0 := by decide +kernel
theorem dksJ25_bitCount_1 : cJ25_bitCount.data.toList.drop 24 = dktJ25_bitCount_1 := dk_seg dksJ25_bitCount_0 24 rfl rfl
theorem dksJ25_bitCount_2 : cJ25_bitCount.data.toList.drop 48 = dktJ25_bitCount_2 := dk_seg dksJ25_bitCount_1 24 rfl rfl
theorem dJ25_bitCount_0 : decode cJ25_bitCount 0 = .ok (.lload_n 0, 1) := dk_30 (dk_at dksJ25_bitCount_0 0 rfl rfl)
theorem dJ25_bitCount_1 : decode cJ25_bitCount 1 = .ok (.lload_n 0, 1) := dk_30 (dk_at dksJ25_bitCount_0 1 rfl rfl)
theorem dJ25_bitCount_2 : decode cJ25_bitCount 2 = .ok (.iconst 1, 1) := dk_4 (dk_at dksJ25_bitCount_0 2 rfl rfl)
theorem dJ25_bitCount_3 : decode cJ25_bitCount 3 = .ok (.lushr, 1) := dk_125 (dk_at dksJ25_bitCount_0 3 rfl rfl)
theorem dJ25_bitCount_4 : decode cJ25_bitCount 4 = .ok (.ldc2_w 314, 3) := dk_20 1 58 (dk_at dksJ25_bitCount_0 4 rfl rfl)
theorem dJ25_bitCount_7 : decode cJ25_bitCount 7 = .ok (.land, 1) := dk_127 (dk_at dksJ25_bitCount_0 7 rfl rfl)
theorem dJ25_bitCount_8 : decode cJ25_bitCount 8 = .ok (.lsub, 1) := dk_101 (dk_at dksJ25_bitCount_0 8 rfl rfl)
theorem dJ25_bitCount_9 : decode cJ25_bitCount 9 = .ok (.lstore_n 0, 1) := dk_63 (dk_at dksJ25_bitCount_0 9 rfl rfl)
theorem dJ25_bitCount_10 : decode cJ25_bitCount 10 = .ok (.lload_n 0, 1) := dk_30 (dk_at dksJ25_bitCount_0 10 rfl rfl)
theorem dJ25_bitCount_11 : decode cJ25_bitCount 11 = .ok (.ldc2_w 316, 3) := dk_20 1 60 (dk_at dksJ25_bitCount_0 11 rfl rfl)
theorem dJ25_bitCount_14 : decode cJ25_bitCount 14 = .ok (.land, 1) := dk_127 (dk_at dksJ25_bitCount_0 14 rfl rfl)
theorem dJ25_bitCount_15 : decode cJ25_bitCount 15 = .ok (.lload_n 0, 1) := dk_30 (dk_at dksJ25_bitCount_0 15 rfl rfl)
theorem dJ25_bitCount_16 : decode cJ25_bitCount 16 = .ok (.iconst 2, 1) := dk_5 (dk_at dksJ25_bitCount_0 16 rfl rfl)
theorem dJ25_bitCount_17 : decode cJ25_bitCount 17 = .ok (.lushr, 1) := dk_125 (dk_at dksJ25_bitCount_0 17 rfl rfl)
theorem dJ25_bitCount_18 : decode cJ25_bitCount 18 = .ok (.ldc2_w 316, 3) := dk_20 1 60 (dk_at dksJ25_bitCount_0 18 rfl rfl)
theorem dJ25_bitCount_21 : decode cJ25_bitCount 21 = .ok (.land, 1) := dk_127 (dk_at dksJ25_bitCount_0 21 rfl rfl)
theorem dJ25_bitCount_22 : decode cJ25_bitCount 22 = .ok (.ladd, 1) := dk_97 (dk_at dksJ25_bitCount_0 22 rfl rfl)
theorem dJ25_bitCount_23 : decode cJ25_bitCount 23 = .ok (.lstore_n 0, 1) := dk_63 (dk_at dksJ25_bitCount_0 23 rfl rfl)
theorem dJ25_bitCount_24 : decode cJ25_bitCount 24 = .ok (.lload_n 0, 1) := dk_30 (dk_at dksJ25_bitCount_1 0 rfl rfl)
theorem dJ25_bitCount_25 : decode cJ25_bitCount 25 = .ok (.lload_n 0, 1) := dk_30 (dk_at dksJ25_bitCount_1 1 rfl rfl)
theorem dJ25_bitCount_26 : decode cJ25_bitCount 26 = .ok (.iconst 4, 1) := dk_7 (dk_at dksJ25_bitCount_1 2 rfl rfl)
theorem dJ25_bitCount_27 : decode cJ25_bitCount 27 = .ok (.lushr, 1) := dk_125 (dk_at dksJ25_bitCount_1 3 rfl rfl)
theorem dJ25_bitCount_28 : decode cJ25_bitCount 28 = .ok (.ladd, 1) := dk_97 (dk_at dksJ25_bitCount_1 4 rfl rfl)
theorem dJ25_bitCount_29 : decode cJ25_bitCount 29 = .ok (.ldc2_w 318, 3) := dk_20 1 62 (dk_at dksJ25_bitCount_1 5 rfl rfl)
theorem dJ25_bitCount_32 : decode cJ25_bitCount 32 = .ok (.land, 1) := dk_127 (dk_at dksJ25_bitCount_1 8 rfl rfl)
theorem dJ25_bitCount_33 : decode cJ25_bitCount 33 = .ok (.lstore_n 0, 1) := dk_63 (dk_at dksJ25_bitCount_1 9 rfl rfl)
theorem dJ25_bitCount_34 : decode cJ25_bitCount 34 = .ok (.lload_n 0, 1) := dk_30 (dk_at dksJ25_bitCount_1 10 rfl rfl)
theorem dJ25_bitCount_35 : decode cJ25_bitCount 35 = .ok (.lload_n 0, 1) := dk_30 (dk_at dksJ25_bitCount_1 11 rfl rfl)
theorem dJ25_bitCount_36 : decode cJ25_bitCount 36 = .ok (.bipush 8, 2) := dk_16 8 (dk_at dksJ25_bitCount_1 12 rfl rfl)
theorem dJ25_bitCount_38 : decode cJ25_bitCount 38 = .ok (.lushr, 1) := dk_125 (dk_at dksJ25_bitCount_1 14 rfl rfl)
theorem dJ25_bitCount_39 : decode cJ25_bitCount 39 = .ok (.ladd, 1) := dk_97 (dk_at dksJ25_bitCount_1 15 rfl rfl)
theorem dJ25_bitCount_40 : decode cJ25_bitCount 40 = .ok (.lstore_n 0, 1) := dk_63 (dk_at dksJ25_bitCount_1 16 rfl rfl)
theorem dJ25_bitCount_41 : decode cJ25_bitCount 41 = .ok (.lload_n 0, 1) := dk_30 (dk_at dksJ25_bitCount_1 17 rfl rfl)
theorem dJ25_bitCount_42 : decode cJ25_bitCount 42 = .ok (.lload_n 0, 1) := dk_30 (dk_at dksJ25_bitCount_1 18 rfl rfl)
theorem dJ25_bitCount_43 : decode cJ25_bitCount 43 = .ok (.bipush 16, 2) := dk_16 16 (dk_at dksJ25_bitCount_1 19 rfl rfl)
theorem dJ25_bitCount_45 : decode cJ25_bitCount 45 = .ok (.lushr, 1) := dk_125 (dk_at dksJ25_bitCount_1 21 rfl rfl)
theorem dJ25_bitCount_46 : decode cJ25_bitCount 46 = .ok (.ladd, 1) := dk_97 (dk_at dksJ25_bitCount_1 22 rfl rfl)
theorem dJ25_bitCount_47 : decode cJ25_bitCount 47 = .ok (.lstore_n 0, 1) := dk_63 (dk_at dksJ25_bitCount_1 23 rfl rfl)
theorem dJ25_bitCount_48 : decode cJ25_bitCount 48 = .ok (.lload_n 0, 1) := dk_30 (dk_at dksJ25_bitCount_2 0 rfl rfl)
theorem dJ25_bitCount_49 : decode cJ25_bitCount 49 = .ok (.lload_n 0, 1) := dk_30 (dk_at dksJ25_bitCount_2 1 rfl rfl)
theorem dJ25_bitCount_50 : decode cJ25_bitCount 50 = .ok (.bipush 32, 2) := dk_16 32 (dk_at dksJ25_bitCount_2 2 rfl rfl)
theorem dJ25_bitCount_52 : decode cJ25_bitCount 52 = .ok (.lushr, 1) := dk_125 (dk_at dksJ25_bitCount_2 4 rfl rfl)
theorem dJ25_bitCount_53 : decode cJ25_bitCount 53 = .ok (.ladd, 1) := dk_97 (dk_at dksJ25_bitCount_2 5 rfl rfl)
theorem dJ25_bitCount_54 : decode cJ25_bitCount 54 = .ok (.lstore_n 0, 1) := dk_63 (dk_at dksJ25_bitCount_2 6 rfl rfl)
theorem dJ25_bitCount_55 : decode cJ25_bitCount 55 = .ok (.lload_n 0, 1) := dk_30 (dk_at dksJ25_bitCount_2 7 rfl rfl)
theorem dJ25_bitCount_56 : decode cJ25_bitCount 56 = .ok (.l2i, 1) := dk_136 (dk_at dksJ25_bitCount_2 8 rfl rfl)
theorem dJ25_bitCount_57 : decode cJ25_bitCount 57 = .ok (.bipush 127, 2) := dk_16 127 (dk_at dksJ25_bitCount_2 9 rfl rfl)
theorem dJ25_bitCount_59 : decode cJ25_bitCount 59 = .ok (.iand, 1) := dk_126 (dk_at dksJ25_bitCount_2 11 rfl rfl)
theorem dJ25_bitCount_60 : decode cJ25_bitCount 60 = .ok (.ireturn, 1) := dk_172 (dk_at dksJ25_bitCount_2 12 rfl rfl)
theorem q103 : (Jvm.Cond.initialized "java/lang/Long") ∈ lw_all := lw_g (lw_at lw_m1 33 rfl) rfl
theorem q1068 : (Jvm.Cond.static ({ cls := "java/lang/Long", name := "numberOfTrailingZeros", desc := "(J)I" } : Jvm.MethodName)) ∈ lw_all := lw_g (lw_at lw_m5 38 rfl) rfl
theorem q1069 : (Jvm.Cond.code ({ cls := "java/lang/Long", name := "numberOfTrailingZeros", desc := "(J)I" } : Jvm.MethodName) prog_29_method_49_code (3 : Nat) (Option.some Jvm.ClassFile.FieldType.int)) ∈ lw_all := lw_g (lw_at lw_m5 39 rfl) rfl
theorem q1070 : (Jvm.Cond.methodLink "java/lang/Long" (311 : Nat) ({ cls := "java/lang/Integer", name := "numberOfTrailingZeros", desc := "(I)I" } : Jvm.MethodName)) ∈ lw_all := lw_g (lw_at lw_m5 40 rfl) rfl
theorem q2339 : (Jvm.Cond.static ({ cls := "java/lang/Long", name := "bitCount", desc := "(J)I" } : Jvm.MethodName)) ∈ lw_all := lw_g (lw_at lw_m10 109 rfl) rfl
theorem q2340 : (Jvm.Cond.code ({ cls := "java/lang/Long", name := "bitCount", desc := "(J)I" } : Jvm.MethodName) prog_29_method_50_code (2 : Nat) (Option.some Jvm.ClassFile.FieldType.int)) ∈ lw_all := lw_g (lw_at lw_m10 110 rfl) rfl
theorem q2341 : (Jvm.Cond.constantLong "java/lang/Long" (314 : Nat) (6148914691236517205 : Int64)) ∈ lw_all := lw_g (lw_at lw_m10 111 rfl) rfl
theorem q2342 : (Jvm.Cond.constantLong "java/lang/Long" (316 : Nat) (3689348814741910323 : Int64)) ∈ lw_all := lw_g (lw_at lw_m10 112 rfl) rfl
theorem q2343 : (Jvm.Cond.constantLong "java/lang/Long" (318 : Nat) (1085102592571150095 : Int64)) ∈ lw_all := lw_g (lw_at lw_m10 113 rfl) rfl
/-! java/util/ArrayDeque -/
set_option maxRecDepth 100000
def RJ27 : String := "java/util/ArrayDeque"
def TJ27 : u_T := fun k => match k with
  | 0 => ("java/util/ArrayDeque", "elements", "[Ljava/lang/Object;", false)
  | 1 => ("java/util/ArrayDeque", "head", "I", false)
  | _ => ("java/util/ArrayDeque", "tail", "I", false)
def tyJ27 : Nat → FieldType := fun k => match k with
  | 0 => .array (.object "java/lang/Object")
  | 1 => .int
  | _ => .int
abbrev wsJ270 : List Cond := u_ws RJ27 TJ27 3
theorem nmJ27 : ∀ a, a < 3 → ∀ b, b < 3 → a ≠ b → (TJ27 a).2.1 ≠ (TJ27 b).2.1 := by decide +kernel
theorem tyJ27_ok : ∀ k, k < 3 → parseFieldDescriptor (TJ27 k).2.2.1 = some (tyJ27 k) := by decide +kernel
abbrev cJ27_size : ByteArray := prog_46_method_37_code
def yJ27_size : MethodName := ⟨RJ27, "size", "()I"⟩
def dkwJ27_size_0 : List UInt8 := [42, 180, 0, 20, 42, 180, 0, 24, 42, 180, 0, 3, 190, 184, 0, 127, 172]
abbrev dktJ27_size_0 : List UInt8 := dkwJ27_size_0 ++ []
theorem dksJ27_size_0 : cJ27_size.data.toList.drop 0 = dktJ27_size_0 := by decide +kernel
theorem dJ27_size_0 : decode cJ27_size 0 = .ok (.aload_n 0, 1) := dk_42 (dk_at dksJ27_size_0 0 rfl rfl)
theorem dJ27_size_1 : decode cJ27_size 1 = .ok (.getfield 20, 3) := dk_180 0 20 (dk_at dksJ27_size_0 1 rfl rfl)
theorem dJ27_size_4 : decode cJ27_size 4 = .ok (.aload_n 0, 1) := dk_42 (dk_at dksJ27_size_0 4 rfl rfl)
theorem dJ27_size_5 : decode cJ27_size 5 = .ok (.getfield 24, 3) := dk_180 0 24 (dk_at dksJ27_size_0 5 rfl rfl)
theorem dJ27_size_8 : decode cJ27_size 8 = .ok (.aload_n 0, 1) := dk_42 (dk_at dksJ27_size_0 8 rfl rfl)
theorem dJ27_size_9 : decode cJ27_size 9 = .ok (.getfield 3, 3) := dk_180 0 3 (dk_at dksJ27_size_0 9 rfl rfl)
theorem dJ27_size_12 : decode cJ27_size 12 = .ok (.arraylength, 1) := dk_190 (dk_at dksJ27_size_0 12 rfl rfl)
theorem dJ27_size_13 : decode cJ27_size 13 = .ok (.invokestatic 127, 3) := dk_184 0 127 (dk_at dksJ27_size_0 13 rfl rfl)
theorem dJ27_size_16 : decode cJ27_size 16 = .ok (.ireturn, 1) := dk_172 (dk_at dksJ27_size_0 16 rfl rfl)
abbrev cJ27_sub : ByteArray := prog_46_method_9_code
def yJ27_sub : MethodName := ⟨RJ27, "sub", "(III)I"⟩
def dkwJ27_sub_0 : List UInt8 := [26, 27, 100, 89, 59, 156, 0, 7, 26, 28, 96, 59, 26, 172]
abbrev dktJ27_sub_0 : List UInt8 := dkwJ27_sub_0 ++ []
theorem dksJ27_sub_0 : cJ27_sub.data.toList.drop 0 = dktJ27_sub_0 := by decide +kernel
theorem dJ27_sub_0 : decode cJ27_sub 0 = .ok (.iload_n 0, 1) := dk_26 (dk_at dksJ27_sub_0 0 rfl rfl)
theorem dJ27_sub_1 : decode cJ27_sub 1 = .ok (.iload_n 1, 1) := dk_27 (dk_at dksJ27_sub_0 1 rfl rfl)
theorem dJ27_sub_2 : decode cJ27_sub 2 = .ok (.isub, 1) := dk_100 (dk_at dksJ27_sub_0 2 rfl rfl)
theorem dJ27_sub_3 : decode cJ27_sub 3 = .ok (.dup, 1) := dk_89 (dk_at dksJ27_sub_0 3 rfl rfl)
theorem dJ27_sub_4 : decode cJ27_sub 4 = .ok (.istore_n 0, 1) := dk_59 (dk_at dksJ27_sub_0 4 rfl rfl)
theorem dJ27_sub_5 : decode cJ27_sub 5 = .ok (.ifCond .ge 7, 3) := dk_156 0 7 (dk_at dksJ27_sub_0 5 rfl rfl)
theorem dJ27_sub_8 : decode cJ27_sub 8 = .ok (.iload_n 0, 1) := dk_26 (dk_at dksJ27_sub_0 8 rfl rfl)
theorem dJ27_sub_9 : decode cJ27_sub 9 = .ok (.iload_n 2, 1) := dk_28 (dk_at dksJ27_sub_0 9 rfl rfl)
theorem dJ27_sub_10 : decode cJ27_sub 10 = .ok (.iadd, 1) := dk_96 (dk_at dksJ27_sub_0 10 rfl rfl)
theorem dJ27_sub_11 : decode cJ27_sub 11 = .ok (.istore_n 0, 1) := dk_59 (dk_at dksJ27_sub_0 11 rfl rfl)
theorem dJ27_sub_12 : decode cJ27_sub 12 = .ok (.iload_n 0, 1) := dk_26 (dk_at dksJ27_sub_0 12 rfl rfl)
theorem dJ27_sub_13 : decode cJ27_sub 13 = .ok (.ireturn, 1) := dk_172 (dk_at dksJ27_sub_0 13 rfl rfl)
abbrev cJ27_init : ByteArray := prog_46_method_3_code
def yJ27_init : MethodName := ⟨RJ27, "<init>", "()V"⟩
def dkwJ27_init_0 : List UInt8 := [42, 183, 0, 42, 42, 16, 17, 189, 0, 47, 181, 0, 3, 177]
abbrev dktJ27_init_0 : List UInt8 := dkwJ27_init_0 ++ []
theorem dksJ27_init_0 : cJ27_init.data.toList.drop 0 = dktJ27_init_0 := by decide +kernel
theorem dJ27_init_0 : decode cJ27_init 0 = .ok (.aload_n 0, 1) := dk_42 (dk_at dksJ27_init_0 0 rfl rfl)
theorem dJ27_init_1 : decode cJ27_init 1 = .ok (.invokespecial 42, 3) := dk_183 0 42 (dk_at dksJ27_init_0 1 rfl rfl)
theorem dJ27_init_4 : decode cJ27_init 4 = .ok (.aload_n 0, 1) := dk_42 (dk_at dksJ27_init_0 4 rfl rfl)
theorem dJ27_init_5 : decode cJ27_init 5 = .ok (.bipush 17, 2) := dk_16 17 (dk_at dksJ27_init_0 5 rfl rfl)
theorem dJ27_init_7 : decode cJ27_init 7 = .ok (.anewarray 47, 3) := dk_189 0 47 (dk_at dksJ27_init_0 7 rfl rfl)
theorem dJ27_init_10 : decode cJ27_init 10 = .ok (.putfield 3, 3) := dk_181 0 3 (dk_at dksJ27_init_0 10 rfl rfl)
theorem dJ27_init_13 : decode cJ27_init 13 = .ok (.return_, 1) := dk_177 (dk_at dksJ27_init_0 13 rfl rfl)
abbrev cJ27_add : ByteArray := prog_46_method_28_code
def yJ27_add : MethodName := ⟨RJ27, "add", "(Ljava/lang/Object;)Z"⟩
def dkwJ27_add_0 : List UInt8 := [42, 43, 182, 0, 90, 4, 172]
abbrev dktJ27_add_0 : List UInt8 := dkwJ27_add_0 ++ []
theorem dksJ27_add_0 : cJ27_add.data.toList.drop 0 = dktJ27_add_0 := by decide +kernel
theorem dJ27_add_0 : decode cJ27_add 0 = .ok (.aload_n 0, 1) := dk_42 (dk_at dksJ27_add_0 0 rfl rfl)
theorem dJ27_add_1 : decode cJ27_add 1 = .ok (.aload_n 1, 1) := dk_43 (dk_at dksJ27_add_0 1 rfl rfl)
theorem dJ27_add_2 : decode cJ27_add 2 = .ok (.invokevirtual 90, 3) := dk_182 0 90 (dk_at dksJ27_add_0 2 rfl rfl)
theorem dJ27_add_5 : decode cJ27_add 5 = .ok (.iconst 1, 1) := dk_4 (dk_at dksJ27_add_0 5 rfl rfl)
theorem dJ27_add_6 : decode cJ27_add 6 = .ok (.ireturn, 1) := dk_172 (dk_at dksJ27_add_0 6 rfl rfl)
abbrev cJ27_addLast : ByteArray := prog_46_method_13_code
def yJ27_addLast : MethodName := ⟨RJ27, "addLast", "(Ljava/lang/Object;)V"⟩
def dkwJ27_addLast_2 : List UInt8 := [182, 0, 71, 177]
abbrev dktJ27_addLast_2 : List UInt8 := dkwJ27_addLast_2 ++ []
def dkwJ27_addLast_1 : List UInt8 := [42, 180, 0, 24, 42, 42, 180, 0, 20, 44, 190, 184, 0, 74, 90, 181, 0, 20, 160, 0, 8, 42, 4]
abbrev dktJ27_addLast_1 : List UInt8 := dkwJ27_addLast_1 ++ dktJ27_addLast_2
def dkwJ27_addLast_0 : List UInt8 := [43, 199, 0, 11, 187, 0, 65, 89, 183, 0, 67, 191, 42, 180, 0, 3, 77, 44, 42, 180, 0, 20, 43, 83]
abbrev dktJ27_addLast_0 : List UInt8 := dkwJ27_addLast_0 ++ dktJ27_addLast_1
theorem dksJ27_addLast_0 : cJ27_addLast.data.toList.drop 0 = dktJ27_addLast_0 := by decide +kernel
theorem dksJ27_addLast_1 : cJ27_addLast.data.toList.drop 24 = dktJ27_addLast_1 := dk_seg dksJ27_addLast_0 24 rfl rfl
theorem dksJ27_addLast_2 : cJ27_addLast.data.toList.drop 47 = dktJ27_addLast_2 := dk_seg dksJ27_addLast_1 23 rfl rfl
theorem dJ27_addLast_0 : decode cJ27_addLast 0 = .ok (.aload_n 1, 1) := dk_43 (dk_at dksJ27_addLast_0 0 rfl rfl)
theorem dJ27_addLast_1 : decode cJ27_addLast 1 = .ok (.ifnonnull 11, 3) := dk_199 0 11 (dk_at dksJ27_addLast_0 1 rfl rfl)
theorem dJ27_addLast_4 : decode cJ27_addLast 4 = .ok (.new 65, 3) := dk_187 0 65 (dk_at dksJ27_addLast_0 4 rfl rfl)
theorem dJ27_addLast_7 : decode cJ27_addLast 7 = .ok (.dup, 1) := dk_89 (dk_at dksJ27_addLast_0 7 rfl rfl)
theorem dJ27_addLast_8 : decode cJ27_addLast 8 = .ok (.invokespecial 67, 3) := dk_183 0 67 (dk_at dksJ27_addLast_0 8 rfl rfl)
theorem dJ27_addLast_11 : decode cJ27_addLast 11 = .ok (.athrow, 1) := dk_191 (dk_at dksJ27_addLast_0 11 rfl rfl)
theorem dJ27_addLast_12 : decode cJ27_addLast 12 = .ok (.aload_n 0, 1) := dk_42 (dk_at dksJ27_addLast_0 12 rfl rfl)
theorem dJ27_addLast_13 : decode cJ27_addLast 13 = .ok (.getfield 3, 3) := dk_180 0 3 (dk_at dksJ27_addLast_0 13 rfl rfl)
theorem dJ27_addLast_16 : decode cJ27_addLast 16 = .ok (.astore_n 2, 1) := dk_77 (dk_at dksJ27_addLast_0 16 rfl rfl)
theorem dJ27_addLast_17 : decode cJ27_addLast 17 = .ok (.aload_n 2, 1) := dk_44 (dk_at dksJ27_addLast_0 17 rfl rfl)
theorem dJ27_addLast_18 : decode cJ27_addLast 18 = .ok (.aload_n 0, 1) := dk_42 (dk_at dksJ27_addLast_0 18 rfl rfl)
theorem dJ27_addLast_19 : decode cJ27_addLast 19 = .ok (.getfield 20, 3) := dk_180 0 20 (dk_at dksJ27_addLast_0 19 rfl rfl)
theorem dJ27_addLast_22 : decode cJ27_addLast 22 = .ok (.aload_n 1, 1) := dk_43 (dk_at dksJ27_addLast_0 22 rfl rfl)
theorem dJ27_addLast_23 : decode cJ27_addLast 23 = .ok (.aastore, 1) := dk_83 (dk_at dksJ27_addLast_0 23 rfl rfl)
theorem dJ27_addLast_24 : decode cJ27_addLast 24 = .ok (.aload_n 0, 1) := dk_42 (dk_at dksJ27_addLast_1 0 rfl rfl)
theorem dJ27_addLast_25 : decode cJ27_addLast 25 = .ok (.getfield 24, 3) := dk_180 0 24 (dk_at dksJ27_addLast_1 1 rfl rfl)
theorem dJ27_addLast_28 : decode cJ27_addLast 28 = .ok (.aload_n 0, 1) := dk_42 (dk_at dksJ27_addLast_1 4 rfl rfl)
theorem dJ27_addLast_29 : decode cJ27_addLast 29 = .ok (.aload_n 0, 1) := dk_42 (dk_at dksJ27_addLast_1 5 rfl rfl)
theorem dJ27_addLast_30 : decode cJ27_addLast 30 = .ok (.getfield 20, 3) := dk_180 0 20 (dk_at dksJ27_addLast_1 6 rfl rfl)
theorem dJ27_addLast_33 : decode cJ27_addLast 33 = .ok (.aload_n 2, 1) := dk_44 (dk_at dksJ27_addLast_1 9 rfl rfl)
theorem dJ27_addLast_34 : decode cJ27_addLast 34 = .ok (.arraylength, 1) := dk_190 (dk_at dksJ27_addLast_1 10 rfl rfl)
theorem dJ27_addLast_35 : decode cJ27_addLast 35 = .ok (.invokestatic 74, 3) := dk_184 0 74 (dk_at dksJ27_addLast_1 11 rfl rfl)
theorem dJ27_addLast_38 : decode cJ27_addLast 38 = .ok (.dup_x1, 1) := dk_90 (dk_at dksJ27_addLast_1 14 rfl rfl)
theorem dJ27_addLast_39 : decode cJ27_addLast 39 = .ok (.putfield 20, 3) := dk_181 0 20 (dk_at dksJ27_addLast_1 15 rfl rfl)
theorem dJ27_addLast_42 : decode cJ27_addLast 42 = .ok (.if_icmp .ne 8, 3) := dk_160 0 8 (dk_at dksJ27_addLast_1 18 rfl rfl)
theorem dJ27_addLast_45 : decode cJ27_addLast 45 = .ok (.aload_n 0, 1) := dk_42 (dk_at dksJ27_addLast_1 21 rfl rfl)
theorem dJ27_addLast_46 : decode cJ27_addLast 46 = .ok (.iconst 1, 1) := dk_4 (dk_at dksJ27_addLast_1 22 rfl rfl)
theorem dJ27_addLast_47 : decode cJ27_addLast 47 = .ok (.invokevirtual 71, 3) := dk_182 0 71 (dk_at dksJ27_addLast_2 0 rfl rfl)
theorem dJ27_addLast_50 : decode cJ27_addLast 50 = .ok (.return_, 1) := dk_177 (dk_at dksJ27_addLast_2 3 rfl rfl)
abbrev cJ27_inc : ByteArray := prog_46_method_6_code
def yJ27_inc : MethodName := ⟨RJ27, "inc", "(II)I"⟩
def dkwJ27_inc_0 : List UInt8 := [132, 0, 1, 26, 27, 161, 0, 5, 3, 59, 26, 172]
abbrev dktJ27_inc_0 : List UInt8 := dkwJ27_inc_0 ++ []
theorem dksJ27_inc_0 : cJ27_inc.data.toList.drop 0 = dktJ27_inc_0 := by decide +kernel
theorem dJ27_inc_0 : decode cJ27_inc 0 = .ok (.iinc 0 1, 3) := dk_132 0 1 (dk_at dksJ27_inc_0 0 rfl rfl)
theorem dJ27_inc_3 : decode cJ27_inc 3 = .ok (.iload_n 0, 1) := dk_26 (dk_at dksJ27_inc_0 3 rfl rfl)
theorem dJ27_inc_4 : decode cJ27_inc 4 = .ok (.iload_n 1, 1) := dk_27 (dk_at dksJ27_inc_0 4 rfl rfl)
theorem dJ27_inc_5 : decode cJ27_inc 5 = .ok (.if_icmp .lt 5, 3) := dk_161 0 5 (dk_at dksJ27_inc_0 5 rfl rfl)
theorem dJ27_inc_8 : decode cJ27_inc 8 = .ok (.iconst 0, 1) := dk_3 (dk_at dksJ27_inc_0 8 rfl rfl)
theorem dJ27_inc_9 : decode cJ27_inc 9 = .ok (.istore_n 0, 1) := dk_59 (dk_at dksJ27_inc_0 9 rfl rfl)
theorem dJ27_inc_10 : decode cJ27_inc 10 = .ok (.iload_n 0, 1) := dk_26 (dk_at dksJ27_inc_0 10 rfl rfl)
theorem dJ27_inc_11 : decode cJ27_inc 11 = .ok (.ireturn, 1) := dk_172 (dk_at dksJ27_inc_0 11 rfl rfl)
abbrev cJ27_grow : ByteArray := prog_46_method_1_code
def yJ27_grow : MethodName := ⟨RJ27, "grow", "(I)V"⟩
def dkwJ27_grow_7 : List UInt8 := [177]
abbrev dktJ27_grow_7 : List UInt8 := dkwJ27_grow_7 ++ []
def dkwJ27_grow_6 : List UInt8 := [181, 0, 24, 54, 8, 21, 7, 21, 8, 162, 0, 15, 25, 5, 21, 7, 1, 83, 132, 7, 1, 167, 255, 240]
abbrev dktJ27_grow_6 : List UInt8 := dkwJ27_grow_6 ++ dktJ27_grow_7
def dkwJ27_grow_5 : List UInt8 := [42, 180, 0, 24, 100, 184, 0, 27, 42, 180, 0, 24, 54, 7, 42, 89, 180, 0, 24, 21, 6, 96, 90]
abbrev dktJ27_grow_5 : List UInt8 := dkwJ27_grow_5 ++ dktJ27_grow_6
def dkwJ27_grow_4 : List UInt8 := [198, 0, 71, 29, 28, 100, 54, 6, 25, 5, 42, 180, 0, 24, 25, 5, 42, 180, 0, 24, 21, 6, 96, 28]
abbrev dktJ27_grow_4 : List UInt8 := dkwJ27_grow_4 ++ dktJ27_grow_5
def dkwJ27_grow_3 : List UInt8 := [180, 0, 24, 161, 0, 24, 42, 180, 0, 20, 42, 180, 0, 24, 160, 0, 81, 25, 5, 42, 180, 0, 24, 50]
abbrev dktJ27_grow_3 : List UInt8 := dkwJ27_grow_3 ++ dktJ27_grow_4
def dkwJ27_grow_2 : List UInt8 := [182, 0, 10, 62, 42, 42, 180, 0, 3, 29, 184, 0, 14, 90, 181, 0, 3, 58, 5, 42, 180, 0, 20, 42]
abbrev dktJ27_grow_2 : List UInt8 := dkwJ27_grow_2 ++ dktJ27_grow_3
def dkwJ27_grow_1 : List UInt8 := [21, 4, 27, 161, 0, 15, 28, 21, 4, 96, 89, 62, 18, 9, 100, 158, 0, 11, 42, 27, 21, 4]
abbrev dktJ27_grow_1 : List UInt8 := dkwJ27_grow_1 ++ dktJ27_grow_2
def dkwJ27_grow_0 : List UInt8 := [42, 180, 0, 3, 190, 61, 28, 16, 64, 162, 0, 9, 28, 5, 96, 167, 0, 6, 28, 4, 122, 54, 4]
abbrev dktJ27_grow_0 : List UInt8 := dkwJ27_grow_0 ++ dktJ27_grow_1
theorem dksJ27_grow_0 : cJ27_grow.data.toList.drop 0 = dktJ27_grow_0 := by decide +kernel
theorem dksJ27_grow_1 : cJ27_grow.data.toList.drop 23 = dktJ27_grow_1 := dk_seg dksJ27_grow_0 23 rfl rfl
theorem dksJ27_grow_2 : cJ27_grow.data.toList.drop 45 = dktJ27_grow_2 := dk_seg dksJ27_grow_1 22 rfl rfl
theorem dksJ27_grow_3 : cJ27_grow.data.toList.drop 69 = dktJ27_grow_3 := dk_seg dksJ27_grow_2 24 rfl rfl
theorem dksJ27_grow_4 : cJ27_grow.data.toList.drop 93 = dktJ27_grow_4 := dk_seg dksJ27_grow_3 24 rfl rfl
theorem dksJ27_grow_5 : cJ27_grow.data.toList.drop 117 = dktJ27_grow_5 := dk_seg dksJ27_grow_4 24 rfl rfl
theorem dksJ27_grow_6 : cJ27_grow.data.toList.drop 140 = dktJ27_grow_6 := dk_seg dksJ27_grow_5 23 rfl rfl
theorem dksJ27_grow_7 : cJ27_grow.data.toList.drop 164 = dktJ27_grow_7 := dk_seg dksJ27_grow_6 24 rfl rfl
theorem dJ27_grow_0 : decode cJ27_grow 0 = .ok (.aload_n 0, 1) := dk_42 (dk_at dksJ27_grow_0 0 rfl rfl)
theorem dJ27_grow_1 : decode cJ27_grow 1 = .ok (.getfield 3, 3) := dk_180 0 3 (dk_at dksJ27_grow_0 1 rfl rfl)
theorem dJ27_grow_4 : decode cJ27_grow 4 = .ok (.arraylength, 1) := dk_190 (dk_at dksJ27_grow_0 4 rfl rfl)
theorem dJ27_grow_5 : decode cJ27_grow 5 = .ok (.istore_n 2, 1) := dk_61 (dk_at dksJ27_grow_0 5 rfl rfl)
theorem dJ27_grow_6 : decode cJ27_grow 6 = .ok (.iload_n 2, 1) := dk_28 (dk_at dksJ27_grow_0 6 rfl rfl)
theorem dJ27_grow_7 : decode cJ27_grow 7 = .ok (.bipush 64, 2) := dk_16 64 (dk_at dksJ27_grow_0 7 rfl rfl)
theorem dJ27_grow_9 : decode cJ27_grow 9 = .ok (.if_icmp .ge 9, 3) := dk_162 0 9 (dk_at dksJ27_grow_0 9 rfl rfl)
theorem dJ27_grow_12 : decode cJ27_grow 12 = .ok (.iload_n 2, 1) := dk_28 (dk_at dksJ27_grow_0 12 rfl rfl)
theorem dJ27_grow_13 : decode cJ27_grow 13 = .ok (.iconst 2, 1) := dk_5 (dk_at dksJ27_grow_0 13 rfl rfl)
theorem dJ27_grow_14 : decode cJ27_grow 14 = .ok (.iadd, 1) := dk_96 (dk_at dksJ27_grow_0 14 rfl rfl)
theorem dJ27_grow_15 : decode cJ27_grow 15 = .ok (.goto 6, 3) := dk_167 0 6 (dk_at dksJ27_grow_0 15 rfl rfl)
theorem dJ27_grow_18 : decode cJ27_grow 18 = .ok (.iload_n 2, 1) := dk_28 (dk_at dksJ27_grow_0 18 rfl rfl)
theorem dJ27_grow_19 : decode cJ27_grow 19 = .ok (.iconst 1, 1) := dk_4 (dk_at dksJ27_grow_0 19 rfl rfl)
theorem dJ27_grow_20 : decode cJ27_grow 20 = .ok (.ishr, 1) := dk_122 (dk_at dksJ27_grow_0 20 rfl rfl)
theorem dJ27_grow_21 : decode cJ27_grow 21 = .ok (.istore 4, 2) := dk_54 4 (dk_at dksJ27_grow_0 21 rfl rfl)
theorem dJ27_grow_23 : decode cJ27_grow 23 = .ok (.iload 4, 2) := dk_21 4 (dk_at dksJ27_grow_1 0 rfl rfl)
theorem dJ27_grow_25 : decode cJ27_grow 25 = .ok (.iload_n 1, 1) := dk_27 (dk_at dksJ27_grow_1 2 rfl rfl)
theorem dJ27_grow_26 : decode cJ27_grow 26 = .ok (.if_icmp .lt 15, 3) := dk_161 0 15 (dk_at dksJ27_grow_1 3 rfl rfl)
theorem dJ27_grow_29 : decode cJ27_grow 29 = .ok (.iload_n 2, 1) := dk_28 (dk_at dksJ27_grow_1 6 rfl rfl)
theorem dJ27_grow_30 : decode cJ27_grow 30 = .ok (.iload 4, 2) := dk_21 4 (dk_at dksJ27_grow_1 7 rfl rfl)
theorem dJ27_grow_32 : decode cJ27_grow 32 = .ok (.iadd, 1) := dk_96 (dk_at dksJ27_grow_1 9 rfl rfl)
theorem dJ27_grow_33 : decode cJ27_grow 33 = .ok (.dup, 1) := dk_89 (dk_at dksJ27_grow_1 10 rfl rfl)
theorem dJ27_grow_34 : decode cJ27_grow 34 = .ok (.istore_n 3, 1) := dk_62 (dk_at dksJ27_grow_1 11 rfl rfl)
theorem dJ27_grow_35 : decode cJ27_grow 35 = .ok (.ldc 9, 2) := dk_18 9 (dk_at dksJ27_grow_1 12 rfl rfl)
theorem dJ27_grow_37 : decode cJ27_grow 37 = .ok (.isub, 1) := dk_100 (dk_at dksJ27_grow_1 14 rfl rfl)
theorem dJ27_grow_38 : decode cJ27_grow 38 = .ok (.ifCond .le 11, 3) := dk_158 0 11 (dk_at dksJ27_grow_1 15 rfl rfl)
theorem dJ27_grow_41 : decode cJ27_grow 41 = .ok (.aload_n 0, 1) := dk_42 (dk_at dksJ27_grow_1 18 rfl rfl)
theorem dJ27_grow_42 : decode cJ27_grow 42 = .ok (.iload_n 1, 1) := dk_27 (dk_at dksJ27_grow_1 19 rfl rfl)
theorem dJ27_grow_43 : decode cJ27_grow 43 = .ok (.iload 4, 2) := dk_21 4 (dk_at dksJ27_grow_1 20 rfl rfl)
theorem dJ27_grow_45 : decode cJ27_grow 45 = .ok (.invokevirtual 10, 3) := dk_182 0 10 (dk_at dksJ27_grow_2 0 rfl rfl)
theorem dJ27_grow_48 : decode cJ27_grow 48 = .ok (.istore_n 3, 1) := dk_62 (dk_at dksJ27_grow_2 3 rfl rfl)
theorem dJ27_grow_49 : decode cJ27_grow 49 = .ok (.aload_n 0, 1) := dk_42 (dk_at dksJ27_grow_2 4 rfl rfl)
theorem dJ27_grow_50 : decode cJ27_grow 50 = .ok (.aload_n 0, 1) := dk_42 (dk_at dksJ27_grow_2 5 rfl rfl)
theorem dJ27_grow_51 : decode cJ27_grow 51 = .ok (.getfield 3, 3) := dk_180 0 3 (dk_at dksJ27_grow_2 6 rfl rfl)
theorem dJ27_grow_54 : decode cJ27_grow 54 = .ok (.iload_n 3, 1) := dk_29 (dk_at dksJ27_grow_2 9 rfl rfl)
theorem dJ27_grow_55 : decode cJ27_grow 55 = .ok (.invokestatic 14, 3) := dk_184 0 14 (dk_at dksJ27_grow_2 10 rfl rfl)
theorem dJ27_grow_58 : decode cJ27_grow 58 = .ok (.dup_x1, 1) := dk_90 (dk_at dksJ27_grow_2 13 rfl rfl)
theorem dJ27_grow_59 : decode cJ27_grow 59 = .ok (.putfield 3, 3) := dk_181 0 3 (dk_at dksJ27_grow_2 14 rfl rfl)
theorem dJ27_grow_62 : decode cJ27_grow 62 = .ok (.astore 5, 2) := dk_58 5 (dk_at dksJ27_grow_2 17 rfl rfl)
theorem dJ27_grow_64 : decode cJ27_grow 64 = .ok (.aload_n 0, 1) := dk_42 (dk_at dksJ27_grow_2 19 rfl rfl)
theorem dJ27_grow_65 : decode cJ27_grow 65 = .ok (.getfield 20, 3) := dk_180 0 20 (dk_at dksJ27_grow_2 20 rfl rfl)
theorem dJ27_grow_68 : decode cJ27_grow 68 = .ok (.aload_n 0, 1) := dk_42 (dk_at dksJ27_grow_2 23 rfl rfl)
theorem dJ27_grow_69 : decode cJ27_grow 69 = .ok (.getfield 24, 3) := dk_180 0 24 (dk_at dksJ27_grow_3 0 rfl rfl)
theorem dJ27_grow_72 : decode cJ27_grow 72 = .ok (.if_icmp .lt 24, 3) := dk_161 0 24 (dk_at dksJ27_grow_3 3 rfl rfl)
theorem dJ27_grow_75 : decode cJ27_grow 75 = .ok (.aload_n 0, 1) := dk_42 (dk_at dksJ27_grow_3 6 rfl rfl)
theorem dJ27_grow_76 : decode cJ27_grow 76 = .ok (.getfield 20, 3) := dk_180 0 20 (dk_at dksJ27_grow_3 7 rfl rfl)
theorem dJ27_grow_79 : decode cJ27_grow 79 = .ok (.aload_n 0, 1) := dk_42 (dk_at dksJ27_grow_3 10 rfl rfl)
theorem dJ27_grow_80 : decode cJ27_grow 80 = .ok (.getfield 24, 3) := dk_180 0 24 (dk_at dksJ27_grow_3 11 rfl rfl)
theorem dJ27_grow_83 : decode cJ27_grow 83 = .ok (.if_icmp .ne 81, 3) := dk_160 0 81 (dk_at dksJ27_grow_3 14 rfl rfl)
theorem dJ27_grow_86 : decode cJ27_grow 86 = .ok (.aload 5, 2) := dk_25 5 (dk_at dksJ27_grow_3 17 rfl rfl)
theorem dJ27_grow_88 : decode cJ27_grow 88 = .ok (.aload_n 0, 1) := dk_42 (dk_at dksJ27_grow_3 19 rfl rfl)
theorem dJ27_grow_89 : decode cJ27_grow 89 = .ok (.getfield 24, 3) := dk_180 0 24 (dk_at dksJ27_grow_3 20 rfl rfl)
theorem dJ27_grow_92 : decode cJ27_grow 92 = .ok (.aaload, 1) := dk_50 (dk_at dksJ27_grow_3 23 rfl rfl)
theorem dJ27_grow_93 : decode cJ27_grow 93 = .ok (.ifnull 71, 3) := dk_198 0 71 (dk_at dksJ27_grow_4 0 rfl rfl)
theorem dJ27_grow_96 : decode cJ27_grow 96 = .ok (.iload_n 3, 1) := dk_29 (dk_at dksJ27_grow_4 3 rfl rfl)
theorem dJ27_grow_97 : decode cJ27_grow 97 = .ok (.iload_n 2, 1) := dk_28 (dk_at dksJ27_grow_4 4 rfl rfl)
theorem dJ27_grow_98 : decode cJ27_grow 98 = .ok (.isub, 1) := dk_100 (dk_at dksJ27_grow_4 5 rfl rfl)
theorem dJ27_grow_99 : decode cJ27_grow 99 = .ok (.istore 6, 2) := dk_54 6 (dk_at dksJ27_grow_4 6 rfl rfl)
theorem dJ27_grow_101 : decode cJ27_grow 101 = .ok (.aload 5, 2) := dk_25 5 (dk_at dksJ27_grow_4 8 rfl rfl)
theorem dJ27_grow_103 : decode cJ27_grow 103 = .ok (.aload_n 0, 1) := dk_42 (dk_at dksJ27_grow_4 10 rfl rfl)
theorem dJ27_grow_104 : decode cJ27_grow 104 = .ok (.getfield 24, 3) := dk_180 0 24 (dk_at dksJ27_grow_4 11 rfl rfl)
theorem dJ27_grow_107 : decode cJ27_grow 107 = .ok (.aload 5, 2) := dk_25 5 (dk_at dksJ27_grow_4 14 rfl rfl)
theorem dJ27_grow_109 : decode cJ27_grow 109 = .ok (.aload_n 0, 1) := dk_42 (dk_at dksJ27_grow_4 16 rfl rfl)
theorem dJ27_grow_110 : decode cJ27_grow 110 = .ok (.getfield 24, 3) := dk_180 0 24 (dk_at dksJ27_grow_4 17 rfl rfl)
theorem dJ27_grow_113 : decode cJ27_grow 113 = .ok (.iload 6, 2) := dk_21 6 (dk_at dksJ27_grow_4 20 rfl rfl)
theorem dJ27_grow_115 : decode cJ27_grow 115 = .ok (.iadd, 1) := dk_96 (dk_at dksJ27_grow_4 22 rfl rfl)
theorem dJ27_grow_116 : decode cJ27_grow 116 = .ok (.iload_n 2, 1) := dk_28 (dk_at dksJ27_grow_4 23 rfl rfl)
theorem dJ27_grow_117 : decode cJ27_grow 117 = .ok (.aload_n 0, 1) := dk_42 (dk_at dksJ27_grow_5 0 rfl rfl)
theorem dJ27_grow_118 : decode cJ27_grow 118 = .ok (.getfield 24, 3) := dk_180 0 24 (dk_at dksJ27_grow_5 1 rfl rfl)
theorem dJ27_grow_121 : decode cJ27_grow 121 = .ok (.isub, 1) := dk_100 (dk_at dksJ27_grow_5 4 rfl rfl)
theorem dJ27_grow_122 : decode cJ27_grow 122 = .ok (.invokestatic 27, 3) := dk_184 0 27 (dk_at dksJ27_grow_5 5 rfl rfl)
theorem dJ27_grow_125 : decode cJ27_grow 125 = .ok (.aload_n 0, 1) := dk_42 (dk_at dksJ27_grow_5 8 rfl rfl)
theorem dJ27_grow_126 : decode cJ27_grow 126 = .ok (.getfield 24, 3) := dk_180 0 24 (dk_at dksJ27_grow_5 9 rfl rfl)
theorem dJ27_grow_129 : decode cJ27_grow 129 = .ok (.istore 7, 2) := dk_54 7 (dk_at dksJ27_grow_5 12 rfl rfl)
theorem dJ27_grow_131 : decode cJ27_grow 131 = .ok (.aload_n 0, 1) := dk_42 (dk_at dksJ27_grow_5 14 rfl rfl)
theorem dJ27_grow_132 : decode cJ27_grow 132 = .ok (.dup, 1) := dk_89 (dk_at dksJ27_grow_5 15 rfl rfl)
theorem dJ27_grow_133 : decode cJ27_grow 133 = .ok (.getfield 24, 3) := dk_180 0 24 (dk_at dksJ27_grow_5 16 rfl rfl)
theorem dJ27_grow_136 : decode cJ27_grow 136 = .ok (.iload 6, 2) := dk_21 6 (dk_at dksJ27_grow_5 19 rfl rfl)
theorem dJ27_grow_138 : decode cJ27_grow 138 = .ok (.iadd, 1) := dk_96 (dk_at dksJ27_grow_5 21 rfl rfl)
theorem dJ27_grow_139 : decode cJ27_grow 139 = .ok (.dup_x1, 1) := dk_90 (dk_at dksJ27_grow_5 22 rfl rfl)
theorem dJ27_grow_140 : decode cJ27_grow 140 = .ok (.putfield 24, 3) := dk_181 0 24 (dk_at dksJ27_grow_6 0 rfl rfl)
theorem dJ27_grow_143 : decode cJ27_grow 143 = .ok (.istore 8, 2) := dk_54 8 (dk_at dksJ27_grow_6 3 rfl rfl)
theorem dJ27_grow_145 : decode cJ27_grow 145 = .ok (.iload 7, 2) := dk_21 7 (dk_at dksJ27_grow_6 5 rfl rfl)
theorem dJ27_grow_147 : decode cJ27_grow 147 = .ok (.iload 8, 2) := dk_21 8 (dk_at dksJ27_grow_6 7 rfl rfl)
theorem dJ27_grow_149 : decode cJ27_grow 149 = .ok (.if_icmp .ge 15, 3) := dk_162 0 15 (dk_at dksJ27_grow_6 9 rfl rfl)
theorem dJ27_grow_152 : decode cJ27_grow 152 = .ok (.aload 5, 2) := dk_25 5 (dk_at dksJ27_grow_6 12 rfl rfl)
theorem dJ27_grow_154 : decode cJ27_grow 154 = .ok (.iload 7, 2) := dk_21 7 (dk_at dksJ27_grow_6 14 rfl rfl)
theorem dJ27_grow_156 : decode cJ27_grow 156 = .ok (.aconst_null, 1) := dk_1 (dk_at dksJ27_grow_6 16 rfl rfl)
theorem dJ27_grow_157 : decode cJ27_grow 157 = .ok (.aastore, 1) := dk_83 (dk_at dksJ27_grow_6 17 rfl rfl)
theorem dJ27_grow_158 : decode cJ27_grow 158 = .ok (.iinc 7 1, 3) := dk_132 7 1 (dk_at dksJ27_grow_6 18 rfl rfl)
theorem dJ27_grow_161 : decode cJ27_grow 161 = .ok (.goto (-16), 3) := dk_167 255 240 (dk_at dksJ27_grow_6 21 rfl rfl)
theorem dJ27_grow_164 : decode cJ27_grow 164 = .ok (.return_, 1) := dk_177 (dk_at dksJ27_grow_7 0 rfl rfl)
abbrev cJ27_newCapacity : ByteArray := prog_46_method_2_code
def yJ27_newCapacity : MethodName := ⟨RJ27, "newCapacity", "(II)I"⟩
def dkwJ27_newCapacity_2 : List UInt8 := [18, 9, 100, 156, 0, 9, 29, 28, 96, 167, 0, 5, 18, 9, 172]
abbrev dktJ27_newCapacity_2 : List UInt8 := dkwJ27_newCapacity_2 ++ []
def dkwJ27_newCapacity_1 : List UInt8 := [187, 0, 33, 89, 18, 35, 183, 0, 37, 191, 18, 41, 172, 27, 28, 164, 0, 6, 21, 4, 172, 29, 28, 96]
abbrev dktJ27_newCapacity_1 : List UInt8 := dkwJ27_newCapacity_1 ++ dktJ27_newCapacity_2
def dkwJ27_newCapacity_0 : List UInt8 := [42, 180, 0, 3, 190, 62, 29, 27, 96, 89, 54, 4, 18, 9, 100, 158, 0, 21, 21, 4, 156, 0, 13]
abbrev dktJ27_newCapacity_0 : List UInt8 := dkwJ27_newCapacity_0 ++ dktJ27_newCapacity_1
theorem dksJ27_newCapacity_0 : cJ27_newCapacity.data.toList.drop 0 = dktJ27_newCapacity_0 := by decide +kernel
theorem dksJ27_newCapacity_1 : cJ27_newCapacity.data.toList.drop 23 = dktJ27_newCapacity_1 := dk_seg dksJ27_newCapacity_0 23 rfl rfl
theorem dksJ27_newCapacity_2 : cJ27_newCapacity.data.toList.drop 47 = dktJ27_newCapacity_2 := dk_seg dksJ27_newCapacity_1 24 rfl rfl
theorem dJ27_newCapacity_0 : decode cJ27_newCapacity 0 = .ok (.aload_n 0, 1) := dk_42 (dk_at dksJ27_newCapacity_0 0 rfl rfl)
theorem dJ27_newCapacity_1 : decode cJ27_newCapacity 1 = .ok (.getfield 3, 3) := dk_180 0 3 (dk_at dksJ27_newCapacity_0 1 rfl rfl)
theorem dJ27_newCapacity_4 : decode cJ27_newCapacity 4 = .ok (.arraylength, 1) := dk_190 (dk_at dksJ27_newCapacity_0 4 rfl rfl)
theorem dJ27_newCapacity_5 : decode cJ27_newCapacity 5 = .ok (.istore_n 3, 1) := dk_62 (dk_at dksJ27_newCapacity_0 5 rfl rfl)
theorem dJ27_newCapacity_6 : decode cJ27_newCapacity 6 = .ok (.iload_n 3, 1) := dk_29 (dk_at dksJ27_newCapacity_0 6 rfl rfl)
theorem dJ27_newCapacity_7 : decode cJ27_newCapacity 7 = .ok (.iload_n 1, 1) := dk_27 (dk_at dksJ27_newCapacity_0 7 rfl rfl)
theorem dJ27_newCapacity_8 : decode cJ27_newCapacity 8 = .ok (.iadd, 1) := dk_96 (dk_at dksJ27_newCapacity_0 8 rfl rfl)
theorem dJ27_newCapacity_9 : decode cJ27_newCapacity 9 = .ok (.dup, 1) := dk_89 (dk_at dksJ27_newCapacity_0 9 rfl rfl)
theorem dJ27_newCapacity_10 : decode cJ27_newCapacity 10 = .ok (.istore 4, 2) := dk_54 4 (dk_at dksJ27_newCapacity_0 10 rfl rfl)
theorem dJ27_newCapacity_12 : decode cJ27_newCapacity 12 = .ok (.ldc 9, 2) := dk_18 9 (dk_at dksJ27_newCapacity_0 12 rfl rfl)
theorem dJ27_newCapacity_14 : decode cJ27_newCapacity 14 = .ok (.isub, 1) := dk_100 (dk_at dksJ27_newCapacity_0 14 rfl rfl)
theorem dJ27_newCapacity_15 : decode cJ27_newCapacity 15 = .ok (.ifCond .le 21, 3) := dk_158 0 21 (dk_at dksJ27_newCapacity_0 15 rfl rfl)
theorem dJ27_newCapacity_18 : decode cJ27_newCapacity 18 = .ok (.iload 4, 2) := dk_21 4 (dk_at dksJ27_newCapacity_0 18 rfl rfl)
theorem dJ27_newCapacity_20 : decode cJ27_newCapacity 20 = .ok (.ifCond .ge 13, 3) := dk_156 0 13 (dk_at dksJ27_newCapacity_0 20 rfl rfl)
theorem dJ27_newCapacity_23 : decode cJ27_newCapacity 23 = .ok (.new 33, 3) := dk_187 0 33 (dk_at dksJ27_newCapacity_1 0 rfl rfl)
theorem dJ27_newCapacity_26 : decode cJ27_newCapacity 26 = .ok (.dup, 1) := dk_89 (dk_at dksJ27_newCapacity_1 3 rfl rfl)
theorem dJ27_newCapacity_27 : decode cJ27_newCapacity 27 = .ok (.ldc 35, 2) := dk_18 35 (dk_at dksJ27_newCapacity_1 4 rfl rfl)
theorem dJ27_newCapacity_29 : decode cJ27_newCapacity 29 = .ok (.invokespecial 37, 3) := dk_183 0 37 (dk_at dksJ27_newCapacity_1 6 rfl rfl)
theorem dJ27_newCapacity_32 : decode cJ27_newCapacity 32 = .ok (.athrow, 1) := dk_191 (dk_at dksJ27_newCapacity_1 9 rfl rfl)
theorem dJ27_newCapacity_33 : decode cJ27_newCapacity 33 = .ok (.ldc 41, 2) := dk_18 41 (dk_at dksJ27_newCapacity_1 10 rfl rfl)
theorem dJ27_newCapacity_35 : decode cJ27_newCapacity 35 = .ok (.ireturn, 1) := dk_172 (dk_at dksJ27_newCapacity_1 12 rfl rfl)
theorem dJ27_newCapacity_36 : decode cJ27_newCapacity 36 = .ok (.iload_n 1, 1) := dk_27 (dk_at dksJ27_newCapacity_1 13 rfl rfl)
theorem dJ27_newCapacity_37 : decode cJ27_newCapacity 37 = .ok (.iload_n 2, 1) := dk_28 (dk_at dksJ27_newCapacity_1 14 rfl rfl)
theorem dJ27_newCapacity_38 : decode cJ27_newCapacity 38 = .ok (.if_icmp .le 6, 3) := dk_164 0 6 (dk_at dksJ27_newCapacity_1 15 rfl rfl)
theorem dJ27_newCapacity_41 : decode cJ27_newCapacity 41 = .ok (.iload 4, 2) := dk_21 4 (dk_at dksJ27_newCapacity_1 18 rfl rfl)
theorem dJ27_newCapacity_43 : decode cJ27_newCapacity 43 = .ok (.ireturn, 1) := dk_172 (dk_at dksJ27_newCapacity_1 20 rfl rfl)
theorem dJ27_newCapacity_44 : decode cJ27_newCapacity 44 = .ok (.iload_n 3, 1) := dk_29 (dk_at dksJ27_newCapacity_1 21 rfl rfl)
theorem dJ27_newCapacity_45 : decode cJ27_newCapacity 45 = .ok (.iload_n 2, 1) := dk_28 (dk_at dksJ27_newCapacity_1 22 rfl rfl)
theorem dJ27_newCapacity_46 : decode cJ27_newCapacity 46 = .ok (.iadd, 1) := dk_96 (dk_at dksJ27_newCapacity_1 23 rfl rfl)
theorem dJ27_newCapacity_47 : decode cJ27_newCapacity 47 = .ok (.ldc 9, 2) := dk_18 9 (dk_at dksJ27_newCapacity_2 0 rfl rfl)
theorem dJ27_newCapacity_49 : decode cJ27_newCapacity 49 = .ok (.isub, 1) := dk_100 (dk_at dksJ27_newCapacity_2 2 rfl rfl)
theorem dJ27_newCapacity_50 : decode cJ27_newCapacity 50 = .ok (.ifCond .ge 9, 3) := dk_156 0 9 (dk_at dksJ27_newCapacity_2 3 rfl rfl)
theorem dJ27_newCapacity_53 : decode cJ27_newCapacity 53 = .ok (.iload_n 3, 1) := dk_29 (dk_at dksJ27_newCapacity_2 6 rfl rfl)
theorem dJ27_newCapacity_54 : decode cJ27_newCapacity 54 = .ok (.iload_n 2, 1) := dk_28 (dk_at dksJ27_newCapacity_2 7 rfl rfl)
theorem dJ27_newCapacity_55 : decode cJ27_newCapacity 55 = .ok (.iadd, 1) := dk_96 (dk_at dksJ27_newCapacity_2 8 rfl rfl)
theorem dJ27_newCapacity_56 : decode cJ27_newCapacity 56 = .ok (.goto 5, 3) := dk_167 0 5 (dk_at dksJ27_newCapacity_2 9 rfl rfl)
theorem dJ27_newCapacity_59 : decode cJ27_newCapacity 59 = .ok (.ldc 9, 2) := dk_18 9 (dk_at dksJ27_newCapacity_2 12 rfl rfl)
theorem dJ27_newCapacity_61 : decode cJ27_newCapacity 61 = .ok (.ireturn, 1) := dk_172 (dk_at dksJ27_newCapacity_2 14 rfl rfl)
abbrev cJ27_isEmpty : ByteArray := prog_46_method_38_code
def yJ27_isEmpty : MethodName := ⟨RJ27, "isEmpty", "()Z"⟩
def dkwJ27_isEmpty_0 : List UInt8 := [42, 180, 0, 24, 42, 180, 0, 20, 160, 0, 7, 4, 167, 0, 4, 3, 172]
abbrev dktJ27_isEmpty_0 : List UInt8 := dkwJ27_isEmpty_0 ++ []
theorem dksJ27_isEmpty_0 : cJ27_isEmpty.data.toList.drop 0 = dktJ27_isEmpty_0 := by decide +kernel
theorem dJ27_isEmpty_0 : decode cJ27_isEmpty 0 = .ok (.aload_n 0, 1) := dk_42 (dk_at dksJ27_isEmpty_0 0 rfl rfl)
theorem dJ27_isEmpty_1 : decode cJ27_isEmpty 1 = .ok (.getfield 24, 3) := dk_180 0 24 (dk_at dksJ27_isEmpty_0 1 rfl rfl)
theorem dJ27_isEmpty_4 : decode cJ27_isEmpty 4 = .ok (.aload_n 0, 1) := dk_42 (dk_at dksJ27_isEmpty_0 4 rfl rfl)
theorem dJ27_isEmpty_5 : decode cJ27_isEmpty 5 = .ok (.getfield 20, 3) := dk_180 0 20 (dk_at dksJ27_isEmpty_0 5 rfl rfl)
theorem dJ27_isEmpty_8 : decode cJ27_isEmpty 8 = .ok (.if_icmp .ne 7, 3) := dk_160 0 7 (dk_at dksJ27_isEmpty_0 8 rfl rfl)
theorem dJ27_isEmpty_11 : decode cJ27_isEmpty 11 = .ok (.iconst 1, 1) := dk_4 (dk_at dksJ27_isEmpty_0 11 rfl rfl)
theorem dJ27_isEmpty_12 : decode cJ27_isEmpty 12 = .ok (.goto 4, 3) := dk_167 0 4 (dk_at dksJ27_isEmpty_0 12 rfl rfl)
theorem dJ27_isEmpty_15 : decode cJ27_isEmpty 15 = .ok (.iconst 0, 1) := dk_3 (dk_at dksJ27_isEmpty_0 15 rfl rfl)
theorem dJ27_isEmpty_16 : decode cJ27_isEmpty 16 = .ok (.ireturn, 1) := dk_172 (dk_at dksJ27_isEmpty_0 16 rfl rfl)
abbrev cJ27_poll : ByteArray := prog_46_method_31_code
def yJ27_poll : MethodName := ⟨RJ27, "poll", "()Ljava/lang/Object;"⟩
theorem dJ27_poll_0 : decode cJ27_poll 0 = .ok (.aload_n 0, 1) := by decide +kernel
theorem dJ27_poll_1 : decode cJ27_poll 1 = .ok (.invokevirtual 93, 3) := by decide +kernel
theorem dJ27_poll_4 : decode cJ27_poll 4 = .ok (.areturn, 1) := by decide +kernel
abbrev cJ27_pollFirst : ByteArray := prog_46_method_20_code
def yJ27_pollFirst : MethodName := ⟨RJ27, "pollFirst", "()Ljava/lang/Object;"⟩
def dkwJ27_pollFirst_1 : List UInt8 := [42, 28, 43, 190, 184, 0, 74, 181, 0, 24, 45, 176]
abbrev dktJ27_pollFirst_1 : List UInt8 := dkwJ27_pollFirst_1 ++ []
def dkwJ27_pollFirst_0 : List UInt8 := [42, 180, 0, 3, 89, 76, 42, 180, 0, 24, 89, 61, 184, 0, 103, 78, 45, 198, 0, 17, 43, 28, 1, 83]
abbrev dktJ27_pollFirst_0 : List UInt8 := dkwJ27_pollFirst_0 ++ dktJ27_pollFirst_1
theorem dksJ27_pollFirst_0 : cJ27_pollFirst.data.toList.drop 0 = dktJ27_pollFirst_0 := by decide +kernel
theorem dksJ27_pollFirst_1 : cJ27_pollFirst.data.toList.drop 24 = dktJ27_pollFirst_1 := dk_seg dksJ27_pollFirst_0 24 rfl rfl
theorem dJ27_pollFirst_0 : decode cJ27_pollFirst 0 = .ok (.aload_n 0, 1) := dk_42 (dk_at dksJ27_pollFirst_0 0 rfl rfl)
theorem dJ27_pollFirst_1 : decode cJ27_pollFirst 1 = .ok (.getfield 3, 3) := dk_180 0 3 (dk_at dksJ27_pollFirst_0 1 rfl rfl)
theorem dJ27_pollFirst_4 : decode cJ27_pollFirst 4 = .ok (.dup, 1) := dk_89 (dk_at dksJ27_pollFirst_0 4 rfl rfl)
theorem dJ27_pollFirst_5 : decode cJ27_pollFirst 5 = .ok (.astore_n 1, 1) := dk_76 (dk_at dksJ27_pollFirst_0 5 rfl rfl)
theorem dJ27_pollFirst_6 : decode cJ27_pollFirst 6 = .ok (.aload_n 0, 1) := dk_42 (dk_at dksJ27_pollFirst_0 6 rfl rfl)
theorem dJ27_pollFirst_7 : decode cJ27_pollFirst 7 = .ok (.getfield 24, 3) := dk_180 0 24 (dk_at dksJ27_pollFirst_0 7 rfl rfl)
theorem dJ27_pollFirst_10 : decode cJ27_pollFirst 10 = .ok (.dup, 1) := dk_89 (dk_at dksJ27_pollFirst_0 10 rfl rfl)
theorem dJ27_pollFirst_11 : decode cJ27_pollFirst 11 = .ok (.istore_n 2, 1) := dk_61 (dk_at dksJ27_pollFirst_0 11 rfl rfl)
theorem dJ27_pollFirst_12 : decode cJ27_pollFirst 12 = .ok (.invokestatic 103, 3) := dk_184 0 103 (dk_at dksJ27_pollFirst_0 12 rfl rfl)
theorem dJ27_pollFirst_15 : decode cJ27_pollFirst 15 = .ok (.astore_n 3, 1) := dk_78 (dk_at dksJ27_pollFirst_0 15 rfl rfl)
theorem dJ27_pollFirst_16 : decode cJ27_pollFirst 16 = .ok (.aload_n 3, 1) := dk_45 (dk_at dksJ27_pollFirst_0 16 rfl rfl)
theorem dJ27_pollFirst_17 : decode cJ27_pollFirst 17 = .ok (.ifnull 17, 3) := dk_198 0 17 (dk_at dksJ27_pollFirst_0 17 rfl rfl)
theorem dJ27_pollFirst_20 : decode cJ27_pollFirst 20 = .ok (.aload_n 1, 1) := dk_43 (dk_at dksJ27_pollFirst_0 20 rfl rfl)
theorem dJ27_pollFirst_21 : decode cJ27_pollFirst 21 = .ok (.iload_n 2, 1) := dk_28 (dk_at dksJ27_pollFirst_0 21 rfl rfl)
theorem dJ27_pollFirst_22 : decode cJ27_pollFirst 22 = .ok (.aconst_null, 1) := dk_1 (dk_at dksJ27_pollFirst_0 22 rfl rfl)
theorem dJ27_pollFirst_23 : decode cJ27_pollFirst 23 = .ok (.aastore, 1) := dk_83 (dk_at dksJ27_pollFirst_0 23 rfl rfl)
theorem dJ27_pollFirst_24 : decode cJ27_pollFirst 24 = .ok (.aload_n 0, 1) := dk_42 (dk_at dksJ27_pollFirst_1 0 rfl rfl)
theorem dJ27_pollFirst_25 : decode cJ27_pollFirst 25 = .ok (.iload_n 2, 1) := dk_28 (dk_at dksJ27_pollFirst_1 1 rfl rfl)
theorem dJ27_pollFirst_26 : decode cJ27_pollFirst 26 = .ok (.aload_n 1, 1) := dk_43 (dk_at dksJ27_pollFirst_1 2 rfl rfl)
theorem dJ27_pollFirst_27 : decode cJ27_pollFirst 27 = .ok (.arraylength, 1) := dk_190 (dk_at dksJ27_pollFirst_1 3 rfl rfl)
theorem dJ27_pollFirst_28 : decode cJ27_pollFirst 28 = .ok (.invokestatic 74, 3) := dk_184 0 74 (dk_at dksJ27_pollFirst_1 4 rfl rfl)
theorem dJ27_pollFirst_31 : decode cJ27_pollFirst 31 = .ok (.putfield 24, 3) := dk_181 0 24 (dk_at dksJ27_pollFirst_1 7 rfl rfl)
theorem dJ27_pollFirst_34 : decode cJ27_pollFirst 34 = .ok (.aload_n 3, 1) := dk_45 (dk_at dksJ27_pollFirst_1 10 rfl rfl)
theorem dJ27_pollFirst_35 : decode cJ27_pollFirst 35 = .ok (.areturn, 1) := dk_176 (dk_at dksJ27_pollFirst_1 11 rfl rfl)
abbrev cJ27_elementAt : ByteArray := prog_46_method_10_code
def yJ27_elementAt : MethodName := ⟨RJ27, "elementAt", "([Ljava/lang/Object;I)Ljava/lang/Object;"⟩
def dkwJ27_elementAt_0 : List UInt8 := [42, 27, 50, 176]
abbrev dktJ27_elementAt_0 : List UInt8 := dkwJ27_elementAt_0 ++ []
theorem dksJ27_elementAt_0 : cJ27_elementAt.data.toList.drop 0 = dktJ27_elementAt_0 := by decide +kernel
theorem dJ27_elementAt_0 : decode cJ27_elementAt 0 = .ok (.aload_n 0, 1) := dk_42 (dk_at dksJ27_elementAt_0 0 rfl rfl)
theorem dJ27_elementAt_1 : decode cJ27_elementAt 1 = .ok (.iload_n 1, 1) := dk_27 (dk_at dksJ27_elementAt_0 1 rfl rfl)
theorem dJ27_elementAt_2 : decode cJ27_elementAt 2 = .ok (.aaload, 1) := dk_50 (dk_at dksJ27_elementAt_0 2 rfl rfl)
theorem dJ27_elementAt_3 : decode cJ27_elementAt 3 = .ok (.areturn, 1) := dk_176 (dk_at dksJ27_elementAt_0 3 rfl rfl)
theorem q106 : (Jvm.Cond.initialized "java/util/ArrayDeque") ∈ lw_all := lw_g (lw_at lw_m1 36 rfl) rfl
theorem q918 : (Jvm.Cond.selects "java/util/ArrayDeque" ({ cls := "java/lang/Object", name := "getClass", desc := "()Ljava/lang/Class;" } : Jvm.MethodName) ({ cls := "java/lang/Object", name := "getClass", desc := "()Ljava/lang/Class;" } : Jvm.MethodName)) ∈ lw_all := lw_g (lw_at lw_m4 128 rfl) rfl
theorem q1197 : (Jvm.Cond.selects "java/util/ArrayDeque" ({ cls := "java/util/AbstractCollection", name := "size", desc := "()I" } : Jvm.MethodName) ({ cls := "java/util/ArrayDeque", name := "size", desc := "()I" } : Jvm.MethodName)) ∈ lw_all := lw_g (lw_at lw_m5 167 rfl) rfl
theorem q1198 : (Jvm.Cond.instanceMethod ({ cls := "java/util/ArrayDeque", name := "size", desc := "()I" } : Jvm.MethodName)) ∈ lw_all := lw_g (lw_at lw_m5 168 rfl) rfl
theorem q1199 : (Jvm.Cond.code ({ cls := "java/util/ArrayDeque", name := "size", desc := "()I" } : Jvm.MethodName) prog_46_method_37_code (1 : Nat) (Option.some Jvm.ClassFile.FieldType.int)) ∈ lw_all := lw_g (lw_at lw_m5 169 rfl) rfl
theorem q1200 : (Jvm.Cond.methodLink "java/util/ArrayDeque" (127 : Nat) ({ cls := "java/util/ArrayDeque", name := "sub", desc := "(III)I" } : Jvm.MethodName)) ∈ lw_all := lw_g (lw_at lw_m5 170 rfl) rfl
theorem q1201 : (Jvm.Cond.static ({ cls := "java/util/ArrayDeque", name := "sub", desc := "(III)I" } : Jvm.MethodName)) ∈ lw_all := lw_g (lw_at lw_m5 171 rfl) rfl
theorem q1202 : (Jvm.Cond.code ({ cls := "java/util/ArrayDeque", name := "sub", desc := "(III)I" } : Jvm.MethodName) prog_46_method_9_code (3 : Nat) (Option.some Jvm.ClassFile.FieldType.int)) ∈ lw_all := lw_g (lw_at lw_m5 172 rfl) rfl
theorem q1225 : (Jvm.Cond.instantiable "java/util/ArrayDeque" (3 : Nat)) ∈ lw_all := lw_g (lw_at lw_m5 195 rfl) rfl
theorem q1227 : (Jvm.Cond.instanceMethod ({ cls := "java/util/ArrayDeque", name := "<init>", desc := "()V" } : Jvm.MethodName)) ∈ lw_all := lw_g (lw_at lw_m5 197 rfl) rfl
theorem q1228 : (Jvm.Cond.code ({ cls := "java/util/ArrayDeque", name := "<init>", desc := "()V" } : Jvm.MethodName) prog_46_method_3_code (1 : Nat) (Option.none : Option Jvm.ClassFile.FieldType)) ∈ lw_all := lw_g (lw_at lw_m5 198 rfl) rfl
theorem q1229 : (Jvm.Cond.methodLink "java/util/ArrayDeque" (42 : Nat) ({ cls := "java/util/AbstractCollection", name := "<init>", desc := "()V" } : Jvm.MethodName)) ∈ lw_all := lw_g (lw_at lw_m5 199 rfl) rfl
theorem q1230 : (Jvm.Cond.classLink "java/util/ArrayDeque" (47 : Nat) "java/lang/Object") ∈ lw_all := lw_g (lw_at lw_m5 200 rfl) rfl
theorem q1231 : (Jvm.Cond.fieldLink "java/util/ArrayDeque" (3 : Nat) "java/util/ArrayDeque" "elements" "[Ljava/lang/Object;") ∈ lw_all := lw_g (lw_at lw_m5 201 rfl) rfl
theorem q1232 : (Jvm.Cond.fieldLink "java/util/ArrayDeque" (24 : Nat) "java/util/ArrayDeque" "head" "I") ∈ lw_all := lw_g (lw_at lw_m5 202 rfl) rfl
theorem q1233 : (Jvm.Cond.fieldLink "java/util/ArrayDeque" (20 : Nat) "java/util/ArrayDeque" "tail" "I") ∈ lw_all := lw_g (lw_at lw_m5 203 rfl) rfl
theorem q1234 : (Jvm.Cond.lays "java/util/ArrayDeque" "java/util/ArrayDeque" "elements" "[Ljava/lang/Object;") ∈ lw_all := lw_g (lw_at lw_m5 204 rfl) rfl
theorem q1235 : (Jvm.Cond.soleField "java/util/ArrayDeque" "elements") ∈ lw_all := lw_g (lw_at lw_m5 205 rfl) rfl
theorem q1236 : (Jvm.Cond.lays "java/util/ArrayDeque" "java/util/ArrayDeque" "head" "I") ∈ lw_all := lw_g (lw_at lw_m5 206 rfl) rfl
theorem q1237 : (Jvm.Cond.soleField "java/util/ArrayDeque" "head") ∈ lw_all := lw_g (lw_at lw_m5 207 rfl) rfl
theorem q1238 : (Jvm.Cond.lays "java/util/ArrayDeque" "java/util/ArrayDeque" "tail" "I") ∈ lw_all := lw_g (lw_at lw_m5 208 rfl) rfl
theorem q1239 : (Jvm.Cond.soleField "java/util/ArrayDeque" "tail") ∈ lw_all := lw_g (lw_at lw_m5 209 rfl) rfl
theorem q1240 : (Jvm.Cond.superclass "java/util/ArrayDeque" "java/util/AbstractCollection") ∈ lw_all := lw_g (lw_at lw_m5 210 rfl) rfl
theorem q1265 : (Jvm.Cond.castable "java/util/ArrayDeque" "java/util/Deque") ∈ lw_tbl := lw_at lw_m5 235 rfl
theorem q1266 : (Jvm.Cond.selects "java/util/ArrayDeque" ({ cls := "java/util/Deque", name := "add", desc := "(Ljava/lang/Object;)Z" } : Jvm.MethodName) ({ cls := "java/util/ArrayDeque", name := "add", desc := "(Ljava/lang/Object;)Z" } : Jvm.MethodName)) ∈ lw_all := lw_g (lw_at lw_m5 236 rfl) rfl
theorem q1267 : (Jvm.Cond.unhidden "java/util/ArrayDeque" "add" "(Ljava/lang/Object;)Z") ∈ lw_tbl := lw_at lw_m5 237 rfl
theorem q1268 : (Jvm.Cond.instanceMethod ({ cls := "java/util/ArrayDeque", name := "add", desc := "(Ljava/lang/Object;)Z" } : Jvm.MethodName)) ∈ lw_all := lw_g (lw_at lw_m5 238 rfl) rfl
theorem q1269 : (Jvm.Cond.publicMethod ({ cls := "java/util/ArrayDeque", name := "add", desc := "(Ljava/lang/Object;)Z" } : Jvm.MethodName)) ∈ lw_tbl := lw_at lw_m5 239 rfl
theorem q1270 : (Jvm.Cond.code ({ cls := "java/util/ArrayDeque", name := "add", desc := "(Ljava/lang/Object;)Z" } : Jvm.MethodName) prog_46_method_28_code (2 : Nat) (Option.some Jvm.ClassFile.FieldType.boolean)) ∈ lw_all := lw_g (lw_at lw_m6 0 rfl) rfl
theorem q1271 : (Jvm.Cond.methodLink "java/util/ArrayDeque" (90 : Nat) ({ cls := "java/util/ArrayDeque", name := "addLast", desc := "(Ljava/lang/Object;)V" } : Jvm.MethodName)) ∈ lw_all := lw_g (lw_at lw_m6 1 rfl) rfl
theorem q1272 : (Jvm.Cond.instanceMethod ({ cls := "java/util/ArrayDeque", name := "addLast", desc := "(Ljava/lang/Object;)V" } : Jvm.MethodName)) ∈ lw_all := lw_g (lw_at lw_m6 2 rfl) rfl
theorem q1273 : (Jvm.Cond.selects "java/util/ArrayDeque" ({ cls := "java/util/ArrayDeque", name := "addLast", desc := "(Ljava/lang/Object;)V" } : Jvm.MethodName) ({ cls := "java/util/ArrayDeque", name := "addLast", desc := "(Ljava/lang/Object;)V" } : Jvm.MethodName)) ∈ lw_all := lw_g (lw_at lw_m6 3 rfl) rfl
theorem q1274 : (Jvm.Cond.code ({ cls := "java/util/ArrayDeque", name := "addLast", desc := "(Ljava/lang/Object;)V" } : Jvm.MethodName) prog_46_method_13_code (3 : Nat) (Option.none : Option Jvm.ClassFile.FieldType)) ∈ lw_all := lw_g (lw_at lw_m6 4 rfl) rfl
theorem q1275 : (Jvm.Cond.methodLink "java/util/ArrayDeque" (74 : Nat) ({ cls := "java/util/ArrayDeque", name := "inc", desc := "(II)I" } : Jvm.MethodName)) ∈ lw_all := lw_g (lw_at lw_m6 5 rfl) rfl
theorem q1276 : (Jvm.Cond.static ({ cls := "java/util/ArrayDeque", name := "inc", desc := "(II)I" } : Jvm.MethodName)) ∈ lw_all := lw_g (lw_at lw_m6 6 rfl) rfl
theorem q1277 : (Jvm.Cond.code ({ cls := "java/util/ArrayDeque", name := "inc", desc := "(II)I" } : Jvm.MethodName) prog_46_method_6_code (2 : Nat) (Option.some Jvm.ClassFile.FieldType.int)) ∈ lw_all := lw_g (lw_at lw_m6 7 rfl) rfl
theorem q1278 : (Jvm.Cond.methodLink "java/util/ArrayDeque" (71 : Nat) ({ cls := "java/util/ArrayDeque", name := "grow", desc := "(I)V" } : Jvm.MethodName)) ∈ lw_all := lw_g (lw_at lw_m6 8 rfl) rfl
theorem q1279 : (Jvm.Cond.privateMethod ({ cls := "java/util/ArrayDeque", name := "grow", desc := "(I)V" } : Jvm.MethodName)) ∈ lw_tbl := lw_at lw_m6 9 rfl
theorem q1280 : (Jvm.Cond.instanceMethod ({ cls := "java/util/ArrayDeque", name := "grow", desc := "(I)V" } : Jvm.MethodName)) ∈ lw_all := lw_g (lw_at lw_m6 10 rfl) rfl
theorem q1281 : (Jvm.Cond.code ({ cls := "java/util/ArrayDeque", name := "grow", desc := "(I)V" } : Jvm.MethodName) prog_46_method_1_code (9 : Nat) (Option.none : Option Jvm.ClassFile.FieldType)) ∈ lw_all := lw_g (lw_at lw_m6 11 rfl) rfl
theorem q1282 : (Jvm.Cond.constant "java/util/ArrayDeque" (9 : Nat) (2147483639 : Int32)) ∈ lw_all := lw_g (lw_at lw_m6 12 rfl) rfl
theorem q1283 : (Jvm.Cond.methodLink "java/util/ArrayDeque" (10 : Nat) ({ cls := "java/util/ArrayDeque", name := "newCapacity", desc := "(II)I" } : Jvm.MethodName)) ∈ lw_all := lw_g (lw_at lw_m6 13 rfl) rfl
theorem q1284 : (Jvm.Cond.privateMethod ({ cls := "java/util/ArrayDeque", name := "newCapacity", desc := "(II)I" } : Jvm.MethodName)) ∈ lw_tbl := lw_at lw_m6 14 rfl
theorem q1285 : (Jvm.Cond.instanceMethod ({ cls := "java/util/ArrayDeque", name := "newCapacity", desc := "(II)I" } : Jvm.MethodName)) ∈ lw_all := lw_g (lw_at lw_m6 15 rfl) rfl
theorem q1286 : (Jvm.Cond.code ({ cls := "java/util/ArrayDeque", name := "newCapacity", desc := "(II)I" } : Jvm.MethodName) prog_46_method_2_code (5 : Nat) (Option.some Jvm.ClassFile.FieldType.int)) ∈ lw_all := lw_g (lw_at lw_m6 16 rfl) rfl
theorem q1287 : (Jvm.Cond.classLink "java/util/ArrayDeque" (33 : Nat) "java/lang/IllegalStateException") ∈ lw_all := lw_g (lw_at lw_m6 17 rfl) rfl
theorem q1288 : (Jvm.Cond.stringRef "java/util/ArrayDeque" (35 : Nat) "Sorry, deque too big") ∈ lw_tbl := lw_at lw_m6 18 rfl
theorem q1289 : (Jvm.Cond.methodLink "java/util/ArrayDeque" (37 : Nat) ({ cls := "java/lang/IllegalStateException", name := "<init>", desc := "(Ljava/lang/String;)V" } : Jvm.MethodName)) ∈ lw_all := lw_g (lw_at lw_m6 19 rfl) rfl
theorem q1293 : (Jvm.Cond.constant "java/util/ArrayDeque" (41 : Nat) (2147483647 : Int32)) ∈ lw_all := lw_g (lw_at lw_m6 23 rfl) rfl
theorem q1294 : (Jvm.Cond.methodLink "java/util/ArrayDeque" (14 : Nat) ({ cls := "java/util/Arrays", name := "copyOf", desc := "([Ljava/lang/Object;I)[Ljava/lang/Object;" } : Jvm.MethodName)) ∈ lw_all := lw_g (lw_at lw_m6 24 rfl) rfl
theorem q1295 : (Jvm.Cond.methodLink "java/util/ArrayDeque" (27 : Nat) ({ cls := "java/lang/System", name := "arraycopy", desc := "(Ljava/lang/Object;ILjava/lang/Object;II)V" } : Jvm.MethodName)) ∈ lw_all := lw_g (lw_at lw_m6 25 rfl) rfl
theorem q1301 : (Jvm.Cond.selects "java/util/ArrayDeque" ({ cls := "java/util/Collection", name := "isEmpty", desc := "()Z" } : Jvm.MethodName) ({ cls := "java/util/ArrayDeque", name := "isEmpty", desc := "()Z" } : Jvm.MethodName)) ∈ lw_all := lw_g (lw_at lw_m6 31 rfl) rfl
theorem q1302 : (Jvm.Cond.unhidden "java/util/ArrayDeque" "isEmpty" "()Z") ∈ lw_tbl := lw_at lw_m6 32 rfl
theorem q1303 : (Jvm.Cond.instanceMethod ({ cls := "java/util/ArrayDeque", name := "isEmpty", desc := "()Z" } : Jvm.MethodName)) ∈ lw_all := lw_g (lw_at lw_m6 33 rfl) rfl
theorem q1304 : (Jvm.Cond.publicMethod ({ cls := "java/util/ArrayDeque", name := "isEmpty", desc := "()Z" } : Jvm.MethodName)) ∈ lw_tbl := lw_at lw_m6 34 rfl
theorem q1305 : (Jvm.Cond.code ({ cls := "java/util/ArrayDeque", name := "isEmpty", desc := "()Z" } : Jvm.MethodName) prog_46_method_38_code (1 : Nat) (Option.some Jvm.ClassFile.FieldType.boolean)) ∈ lw_all := lw_g (lw_at lw_m6 35 rfl) rfl
theorem q1311 : (Jvm.Cond.selects "java/util/ArrayDeque" ({ cls := "java/util/Deque", name := "poll", desc := "()Ljava/lang/Object;" } : Jvm.MethodName) ({ cls := "java/util/ArrayDeque", name := "poll", desc := "()Ljava/lang/Object;" } : Jvm.MethodName)) ∈ lw_all := lw_g (lw_at lw_m6 41 rfl) rfl
theorem q1312 : (Jvm.Cond.unhidden "java/util/ArrayDeque" "poll" "()Ljava/lang/Object;") ∈ lw_tbl := lw_at lw_m6 42 rfl
theorem q1313 : (Jvm.Cond.instanceMethod ({ cls := "java/util/ArrayDeque", name := "poll", desc := "()Ljava/lang/Object;" } : Jvm.MethodName)) ∈ lw_all := lw_g (lw_at lw_m6 43 rfl) rfl
theorem q1314 : (Jvm.Cond.publicMethod ({ cls := "java/util/ArrayDeque", name := "poll", desc := "()Ljava/lang/Object;" } : Jvm.MethodName)) ∈ lw_tbl := lw_at lw_m6 44 rfl
theorem q1315 : (Jvm.Cond.code ({ cls := "java/util/ArrayDeque", name := "poll", desc := "()Ljava/lang/Object;" } : Jvm.MethodName) prog_46_method_31_code (1 : Nat) (Option.some (Jvm.ClassFile.FieldType.object "java/lang/Object"))) ∈ lw_all := lw_g (lw_at lw_m6 45 rfl) rfl
theorem q1316 : (Jvm.Cond.methodLink "java/util/ArrayDeque" (93 : Nat) ({ cls := "java/util/ArrayDeque", name := "pollFirst", desc := "()Ljava/lang/Object;" } : Jvm.MethodName)) ∈ lw_all := lw_g (lw_at lw_m6 46 rfl) rfl
theorem q1317 : (Jvm.Cond.instanceMethod ({ cls := "java/util/ArrayDeque", name := "pollFirst", desc := "()Ljava/lang/Object;" } : Jvm.MethodName)) ∈ lw_all := lw_g (lw_at lw_m6 47 rfl) rfl
theorem q1318 : (Jvm.Cond.selects "java/util/ArrayDeque" ({ cls := "java/util/ArrayDeque", name := "pollFirst", desc := "()Ljava/lang/Object;" } : Jvm.MethodName) ({ cls := "java/util/ArrayDeque", name := "pollFirst", desc := "()Ljava/lang/Object;" } : Jvm.MethodName)) ∈ lw_all := lw_g (lw_at lw_m6 48 rfl) rfl
theorem q1319 : (Jvm.Cond.code ({ cls := "java/util/ArrayDeque", name := "pollFirst", desc := "()Ljava/lang/Object;" } : Jvm.MethodName) prog_46_method_20_code (4 : Nat) (Option.some (Jvm.ClassFile.FieldType.object "java/lang/Object"))) ∈ lw_all := lw_g (lw_at lw_m6 49 rfl) rfl
theorem q1320 : (Jvm.Cond.methodLink "java/util/ArrayDeque" (103 : Nat) ({ cls := "java/util/ArrayDeque", name := "elementAt", desc := "([Ljava/lang/Object;I)Ljava/lang/Object;" } : Jvm.MethodName)) ∈ lw_all := lw_g (lw_at lw_m6 50 rfl) rfl
theorem q1321 : (Jvm.Cond.static ({ cls := "java/util/ArrayDeque", name := "elementAt", desc := "([Ljava/lang/Object;I)Ljava/lang/Object;" } : Jvm.MethodName)) ∈ lw_all := lw_g (lw_at lw_m6 51 rfl) rfl
theorem q1322 : (Jvm.Cond.code ({ cls := "java/util/ArrayDeque", name := "elementAt", desc := "([Ljava/lang/Object;I)Ljava/lang/Object;" } : Jvm.MethodName) prog_46_method_10_code (2 : Nat) (Option.some (Jvm.ClassFile.FieldType.object "java/lang/Object"))) ∈ lw_all := lw_g (lw_at lw_m6 52 rfl) rfl
theorem q3065 : (Jvm.Cond.castable "java/util/ArrayDeque" "java/lang/Object") ∈ lw_tbl := lw_at lw_m13 115 rfl
theorem in_J27 : ∀ w ∈ wsJ270, w ∈ lw_all := lw_in wsJ270 [1234, 1236, 1238] (by decide +kernel) (by decide +kernel)
/-! java/util/LinkedList$DescendingIterator -/
set_option maxRecDepth 100000
def RJ28 : String := "java/util/LinkedList$DescendingIterator"
def TJ28 : u_T := fun k => match k with
  | 0 => ("java/util/LinkedList$DescendingIterator", "itr", "Ljava/util/LinkedList$ListItr;", true)
  | _ => ("java/util/LinkedList$DescendingIterator", "this$0", "Ljava/util/LinkedList;", true)
def tyJ28 : Nat → FieldType := fun k => match k with
  | 0 => .object "java/util/LinkedList$ListItr"
  | _ => .object "java/util/LinkedList"
abbrev wsJ280 : List Cond := u_ws RJ28 TJ28 2
theorem nmJ28 : ∀ a, a < 2 → ∀ b, b < 2 → a ≠ b → (TJ28 a).2.1 ≠ (TJ28 b).2.1 := by decide +kernel
theorem tyJ28_ok : ∀ k, k < 2 → parseFieldDescriptor (TJ28 k).2.2.1 = some (tyJ28 k) := by decide +kernel
abbrev cJ28_init : ByteArray := prog_57_method_1_code
def yJ28_init : MethodName := ⟨RJ28, "<init>", "(Ljava/util/LinkedList;)V"⟩
def dkwJ28_init_1 : List UInt8 := [182, 0, 15, 183, 0, 21, 181, 0, 24, 177]
abbrev dktJ28_init_1 : List UInt8 := dkwJ28_init_1 ++ []
def dkwJ28_init_0 : List UInt8 := [42, 43, 181, 0, 1, 42, 183, 0, 7, 42, 187, 0, 13, 89, 42, 180, 0, 1, 42, 180, 0, 1]
abbrev dktJ28_init_0 : List UInt8 := dkwJ28_init_0 ++ dktJ28_init_1
theorem dksJ28_init_0 : cJ28_init.data.toList.drop 0 = dktJ28_init_0 := by decide +kernel
theorem dksJ28_init_1 : cJ28_init.data.toList.drop 22 = dktJ28_init_1 := dk_seg dksJ28_init_0 22 rfl rfl
theorem dJ28_init_0 : decode cJ28_init 0 = .ok (.aload_n 0, 1) := dk_42 (dk_at dksJ28_init_0 0 rfl rfl)
theorem dJ28_init_1 : decode cJ28_init 1 = .ok (.aload_n 1, 1) := dk_43 (dk_at dksJ28_init_0 1 rfl rfl)
theorem dJ28_init_2 : decode cJ28_init 2 = .ok (.putfield 1, 3) := dk_181 0 1 (dk_at dksJ28_init_0 2 rfl rfl)
theorem dJ28_init_5 : decode cJ28_init 5 = .ok (.aload_n 0, 1) := dk_42 (dk_at dksJ28_init_0 5 rfl rfl)
theorem dJ28_init_6 : decode cJ28_init 6 = .ok (.invokespecial 7, 3) := dk_183 0 7 (dk_at dksJ28_init_0 6 rfl rfl)
theorem dJ28_init_9 : decode cJ28_init 9 = .ok (.aload_n 0, 1) := dk_42 (dk_at dksJ28_init_0 9 rfl rfl)
theorem dJ28_init_10 : decode cJ28_init 10 = .ok (.new 13, 3) := dk_187 0 13 (dk_at dksJ28_init_0 10 rfl rfl)
theorem dJ28_init_13 : decode cJ28_init 13 = .ok (.dup, 1) := dk_89 (dk_at dksJ28_init_0 13 rfl rfl)
theorem dJ28_init_14 : decode cJ28_init 14 = .ok (.aload_n 0, 1) := dk_42 (dk_at dksJ28_init_0 14 rfl rfl)
theorem dJ28_init_15 : decode cJ28_init 15 = .ok (.getfield 1, 3) := dk_180 0 1 (dk_at dksJ28_init_0 15 rfl rfl)
theorem dJ28_init_18 : decode cJ28_init 18 = .ok (.aload_n 0, 1) := dk_42 (dk_at dksJ28_init_0 18 rfl rfl)
theorem dJ28_init_19 : decode cJ28_init 19 = .ok (.getfield 1, 3) := dk_180 0 1 (dk_at dksJ28_init_0 19 rfl rfl)
theorem dJ28_init_22 : decode cJ28_init 22 = .ok (.invokevirtual 15, 3) := dk_182 0 15 (dk_at dksJ28_init_1 0 rfl rfl)
theorem dJ28_init_25 : decode cJ28_init 25 = .ok (.invokespecial 21, 3) := dk_183 0 21 (dk_at dksJ28_init_1 3 rfl rfl)
theorem dJ28_init_28 : decode cJ28_init 28 = .ok (.putfield 24, 3) := dk_181 0 24 (dk_at dksJ28_init_1 6 rfl rfl)
theorem dJ28_init_31 : decode cJ28_init 31 = .ok (.return_, 1) := dk_177 (dk_at dksJ28_init_1 9 rfl rfl)
abbrev cJ28_hasNext : ByteArray := prog_57_method_2_code
def yJ28_hasNext : MethodName := ⟨RJ28, "hasNext", "()Z"⟩
def dkwJ28_hasNext_0 : List UInt8 := [42, 180, 0, 24, 182, 0, 28, 172]
abbrev dktJ28_hasNext_0 : List UInt8 := dkwJ28_hasNext_0 ++ []
theorem dksJ28_hasNext_0 : cJ28_hasNext.data.toList.drop 0 = dktJ28_hasNext_0 := by decide +kernel
theorem dJ28_hasNext_0 : decode cJ28_hasNext 0 = .ok (.aload_n 0, 1) := dk_42 (dk_at dksJ28_hasNext_0 0 rfl rfl)
theorem dJ28_hasNext_1 : decode cJ28_hasNext 1 = .ok (.getfield 24, 3) := dk_180 0 24 (dk_at dksJ28_hasNext_0 1 rfl rfl)
theorem dJ28_hasNext_4 : decode cJ28_hasNext 4 = .ok (.invokevirtual 28, 3) := dk_182 0 28 (dk_at dksJ28_hasNext_0 4 rfl rfl)
theorem dJ28_hasNext_7 : decode cJ28_hasNext 7 = .ok (.ireturn, 1) := dk_172 (dk_at dksJ28_hasNext_0 7 rfl rfl)
abbrev cJ28_next : ByteArray := prog_57_method_3_code
def yJ28_next : MethodName := ⟨RJ28, "next", "()Ljava/lang/Object;"⟩
def dkwJ28_next_0 : List UInt8 := [42, 180, 0, 24, 182, 0, 32, 176]
abbrev dktJ28_next_0 : List UInt8 := dkwJ28_next_0 ++ []
theorem dksJ28_next_0 : cJ28_next.data.toList.drop 0 = dktJ28_next_0 := by decide +kernel
theorem dJ28_next_0 : decode cJ28_next 0 = .ok (.aload_n 0, 1) := dk_42 (dk_at dksJ28_next_0 0 rfl rfl)
theorem dJ28_next_1 : decode cJ28_next 1 = .ok (.getfield 24, 3) := dk_180 0 24 (dk_at dksJ28_next_0 1 rfl rfl)
theorem dJ28_next_4 : decode cJ28_next 4 = .ok (.invokevirtual 32, 3) := dk_182 0 32 (dk_at dksJ28_next_0 4 rfl rfl)
theorem dJ28_next_7 : decode cJ28_next 7 = .ok (.areturn, 1) := dk_176 (dk_at dksJ28_next_0 7 rfl rfl)
abbrev cJ28_remove : ByteArray := prog_57_method_4_code
def yJ28_remove : MethodName := ⟨RJ28, "remove", "()V"⟩
def dkwJ28_remove_0 : List UInt8 := [42, 180, 0, 24, 182, 0, 36, 177]
abbrev dktJ28_remove_0 : List UInt8 := dkwJ28_remove_0 ++ []
theorem dksJ28_remove_0 : cJ28_remove.data.toList.drop 0 = dktJ28_remove_0 := by decide +kernel
theorem dJ28_remove_0 : decode cJ28_remove 0 = .ok (.aload_n 0, 1) := dk_42 (dk_at dksJ28_remove_0 0 rfl rfl)
theorem dJ28_remove_1 : decode cJ28_remove 1 = .ok (.getfield 24, 3) := dk_180 0 24 (dk_at dksJ28_remove_0 1 rfl rfl)
theorem dJ28_remove_4 : decode cJ28_remove 4 = .ok (.invokevirtual 36, 3) := dk_182 0 36 (dk_at dksJ28_remove_0 4 rfl rfl)
theorem dJ28_remove_7 : decode cJ28_remove 7 = .ok (.return_, 1) := dk_177 (dk_at dksJ28_remove_0 7 rfl rfl)
theorem q109 : (Jvm.Cond.initialized "java/util/LinkedList$DescendingIterator") ∈ lw_all := lw_g (lw_at lw_m1 39 rfl) rfl
theorem q924 : (Jvm.Cond.selects "java/util/LinkedList$DescendingIterator" ({ cls := "java/lang/Object", name := "getClass", desc := "()Ljava/lang/Class;" } : Jvm.MethodName) ({ cls := "java/lang/Object", name := "getClass", desc := "()Ljava/lang/Class;" } : Jvm.MethodName)) ∈ lw_all := lw_g (lw_at lw_m4 134 rfl) rfl
theorem q1416 : (Jvm.Cond.instantiable "java/util/LinkedList$DescendingIterator" (2 : Nat)) ∈ lw_all := lw_g (lw_at lw_m6 146 rfl) rfl
theorem q1418 : (Jvm.Cond.instanceMethod ({ cls := "java/util/LinkedList$DescendingIterator", name := "<init>", desc := "(Ljava/util/LinkedList;)V" } : Jvm.MethodName)) ∈ lw_all := lw_g (lw_at lw_m6 148 rfl) rfl
theorem q1419 : (Jvm.Cond.code ({ cls := "java/util/LinkedList$DescendingIterator", name := "<init>", desc := "(Ljava/util/LinkedList;)V" } : Jvm.MethodName) prog_57_method_1_code (2 : Nat) (Option.none : Option Jvm.ClassFile.FieldType)) ∈ lw_all := lw_g (lw_at lw_m6 149 rfl) rfl
theorem q1420 : (Jvm.Cond.methodLink "java/util/LinkedList$DescendingIterator" (7 : Nat) ({ cls := "java/lang/Object", name := "<init>", desc := "()V" } : Jvm.MethodName)) ∈ lw_all := lw_g (lw_at lw_m6 150 rfl) rfl
theorem q1421 : (Jvm.Cond.classLink "java/util/LinkedList$DescendingIterator" (13 : Nat) "java/util/LinkedList$ListItr") ∈ lw_all := lw_g (lw_at lw_m6 151 rfl) rfl
theorem q1423 : (Jvm.Cond.methodLink "java/util/LinkedList$DescendingIterator" (15 : Nat) ({ cls := "java/util/LinkedList", name := "size", desc := "()I" } : Jvm.MethodName)) ∈ lw_all := lw_g (lw_at lw_m6 153 rfl) rfl
theorem q1424 : (Jvm.Cond.methodLink "java/util/LinkedList$DescendingIterator" (21 : Nat) ({ cls := "java/util/LinkedList$ListItr", name := "<init>", desc := "(Ljava/util/LinkedList;I)V" } : Jvm.MethodName)) ∈ lw_all := lw_g (lw_at lw_m6 154 rfl) rfl
theorem q1445 : (Jvm.Cond.fieldLink "java/util/LinkedList$DescendingIterator" (24 : Nat) "java/util/LinkedList$DescendingIterator" "itr" "Ljava/util/LinkedList$ListItr;") ∈ lw_all := lw_g (lw_at lw_m6 175 rfl) rfl
theorem q1446 : (Jvm.Cond.fieldLink "java/util/LinkedList$DescendingIterator" (1 : Nat) "java/util/LinkedList$DescendingIterator" "this$0" "Ljava/util/LinkedList;") ∈ lw_all := lw_g (lw_at lw_m6 176 rfl) rfl
theorem q1447 : (Jvm.Cond.laysFinal "java/util/LinkedList$DescendingIterator" "java/util/LinkedList$DescendingIterator" "itr" "Ljava/util/LinkedList$ListItr;") ∈ lw_all := lw_g (lw_at lw_m6 177 rfl) rfl
theorem q1448 : (Jvm.Cond.soleField "java/util/LinkedList$DescendingIterator" "itr") ∈ lw_all := lw_g (lw_at lw_m6 178 rfl) rfl
theorem q1449 : (Jvm.Cond.laysFinal "java/util/LinkedList$DescendingIterator" "java/util/LinkedList$DescendingIterator" "this$0" "Ljava/util/LinkedList;") ∈ lw_all := lw_g (lw_at lw_m6 179 rfl) rfl
theorem q1450 : (Jvm.Cond.soleField "java/util/LinkedList$DescendingIterator" "this$0") ∈ lw_all := lw_g (lw_at lw_m6 180 rfl) rfl
theorem q1451 : (Jvm.Cond.superclass "java/util/LinkedList$DescendingIterator" "java/lang/Object") ∈ lw_all := lw_g (lw_at lw_m6 181 rfl) rfl
theorem q1472 : (Jvm.Cond.castable "java/util/LinkedList$DescendingIterator" "java/util/Iterator") ∈ lw_tbl := lw_at lw_m6 202 rfl
theorem q1473 : (Jvm.Cond.selects "java/util/LinkedList$DescendingIterator" ({ cls := "java/util/Iterator", name := "hasNext", desc := "()Z" } : Jvm.MethodName) ({ cls := "java/util/LinkedList$DescendingIterator", name := "hasNext", desc := "()Z" } : Jvm.MethodName)) ∈ lw_all := lw_g (lw_at lw_m6 203 rfl) rfl
theorem q1474 : (Jvm.Cond.unhidden "java/util/LinkedList$DescendingIterator" "hasNext" "()Z") ∈ lw_tbl := lw_at lw_m6 204 rfl
theorem q1475 : (Jvm.Cond.instanceMethod ({ cls := "java/util/LinkedList$DescendingIterator", name := "hasNext", desc := "()Z" } : Jvm.MethodName)) ∈ lw_all := lw_g (lw_at lw_m6 205 rfl) rfl
theorem q1476 : (Jvm.Cond.publicMethod ({ cls := "java/util/LinkedList$DescendingIterator", name := "hasNext", desc := "()Z" } : Jvm.MethodName)) ∈ lw_tbl := lw_at lw_m6 206 rfl
theorem q1477 : (Jvm.Cond.code ({ cls := "java/util/LinkedList$DescendingIterator", name := "hasNext", desc := "()Z" } : Jvm.MethodName) prog_57_method_2_code (1 : Nat) (Option.some Jvm.ClassFile.FieldType.boolean)) ∈ lw_all := lw_g (lw_at lw_m6 207 rfl) rfl
theorem q1478 : (Jvm.Cond.methodLink "java/util/LinkedList$DescendingIterator" (28 : Nat) ({ cls := "java/util/LinkedList$ListItr", name := "hasPrevious", desc := "()Z" } : Jvm.MethodName)) ∈ lw_all := lw_g (lw_at lw_m6 208 rfl) rfl
theorem q1576 : (Jvm.Cond.selects "java/util/LinkedList$DescendingIterator" ({ cls := "java/util/Iterator", name := "next", desc := "()Ljava/lang/Object;" } : Jvm.MethodName) ({ cls := "java/util/LinkedList$DescendingIterator", name := "next", desc := "()Ljava/lang/Object;" } : Jvm.MethodName)) ∈ lw_all := lw_g (lw_at lw_m7 66 rfl) rfl
theorem q1577 : (Jvm.Cond.unhidden "java/util/LinkedList$DescendingIterator" "next" "()Ljava/lang/Object;") ∈ lw_tbl := lw_at lw_m7 67 rfl
theorem q1578 : (Jvm.Cond.instanceMethod ({ cls := "java/util/LinkedList$DescendingIterator", name := "next", desc := "()Ljava/lang/Object;" } : Jvm.MethodName)) ∈ lw_all := lw_g (lw_at lw_m7 68 rfl) rfl
theorem q1579 : (Jvm.Cond.publicMethod ({ cls := "java/util/LinkedList$DescendingIterator", name := "next", desc := "()Ljava/lang/Object;" } : Jvm.MethodName)) ∈ lw_tbl := lw_at lw_m7 69 rfl
theorem q1580 : (Jvm.Cond.code ({ cls := "java/util/LinkedList$DescendingIterator", name := "next", desc := "()Ljava/lang/Object;" } : Jvm.MethodName) prog_57_method_3_code (1 : Nat) (Option.some (Jvm.ClassFile.FieldType.object "java/lang/Object"))) ∈ lw_all := lw_g (lw_at lw_m7 70 rfl) rfl
theorem q1581 : (Jvm.Cond.methodLink "java/util/LinkedList$DescendingIterator" (32 : Nat) ({ cls := "java/util/LinkedList$ListItr", name := "previous", desc := "()Ljava/lang/Object;" } : Jvm.MethodName)) ∈ lw_all := lw_g (lw_at lw_m7 71 rfl) rfl
theorem q2209 : (Jvm.Cond.selects "java/util/LinkedList$DescendingIterator" ({ cls := "java/util/Iterator", name := "remove", desc := "()V" } : Jvm.MethodName) ({ cls := "java/util/LinkedList$DescendingIterator", name := "remove", desc := "()V" } : Jvm.MethodName)) ∈ lw_all := lw_g (lw_at lw_m9 219 rfl) rfl
theorem q2210 : (Jvm.Cond.unhidden "java/util/LinkedList$DescendingIterator" "remove" "()V") ∈ lw_tbl := lw_at lw_m9 220 rfl
theorem q2211 : (Jvm.Cond.instanceMethod ({ cls := "java/util/LinkedList$DescendingIterator", name := "remove", desc := "()V" } : Jvm.MethodName)) ∈ lw_all := lw_g (lw_at lw_m9 221 rfl) rfl
theorem q2212 : (Jvm.Cond.publicMethod ({ cls := "java/util/LinkedList$DescendingIterator", name := "remove", desc := "()V" } : Jvm.MethodName)) ∈ lw_tbl := lw_at lw_m9 222 rfl
theorem q2213 : (Jvm.Cond.code ({ cls := "java/util/LinkedList$DescendingIterator", name := "remove", desc := "()V" } : Jvm.MethodName) prog_57_method_4_code (1 : Nat) (Option.none : Option Jvm.ClassFile.FieldType)) ∈ lw_all := lw_g (lw_at lw_m9 223 rfl) rfl
theorem q2214 : (Jvm.Cond.methodLink "java/util/LinkedList$DescendingIterator" (36 : Nat) ({ cls := "java/util/LinkedList$ListItr", name := "remove", desc := "()V" } : Jvm.MethodName)) ∈ lw_all := lw_g (lw_at lw_m9 224 rfl) rfl
theorem q3068 : (Jvm.Cond.castable "java/util/LinkedList$DescendingIterator" "java/lang/Object") ∈ lw_tbl := lw_at lw_m13 118 rfl
theorem in_J28 : ∀ w ∈ wsJ280, w ∈ lw_all := lw_in wsJ280 [1447, 1449] (by decide +kernel) (by decide +kernel)
/-! java/util/LinkedList$ListItr -/
set_option maxRecDepth 100000
def RJ29 : String := "java/util/LinkedList$ListItr"
def TJ29 : u_T := fun k => match k with
  | 0 => ("java/util/LinkedList$ListItr", "lastReturned", "Ljava/util/LinkedList$Node;", false)
  | 1 => ("java/util/LinkedList$ListItr", "next", "Ljava/util/LinkedList$Node;", false)
  | 2 => ("java/util/LinkedList$ListItr", "nextIndex", "I", false)
  | 3 => ("java/util/LinkedList$ListItr", "expectedModCount", "I", false)
  | _ => ("java/util/LinkedList$ListItr", "this$0", "Ljava/util/LinkedList;", true)
def tyJ29 : Nat → FieldType := fun k => match k with
  | 0 => .object "java/util/LinkedList$Node"
  | 1 => .object "java/util/LinkedList$Node"
  | 2 => .int
  | 3 => .int
  | _ => .object "java/util/LinkedList"
abbrev wsJ290 : List Cond := u_ws RJ29 TJ29 5
theorem nmJ29 : ∀ a, a < 5 → ∀ b, b < 5 → a ≠ b → (TJ29 a).2.1 ≠ (TJ29 b).2.1 := by decide +kernel
theorem tyJ29_ok : ∀ k, k < 5 → parseFieldDescriptor (TJ29 k).2.2.1 = some (tyJ29 k) := by decide +kernel
abbrev cJ29_init : ByteArray := prog_58_method_1_code
def yJ29_init : MethodName := ⟨RJ29, "<init>", "(Ljava/util/LinkedList;I)V"⟩
def dkwJ29_init_1 : List UInt8 := [180, 0, 22, 160, 0, 7, 1, 167, 0, 8, 43, 28, 182, 0, 25, 181, 0, 29, 42, 28, 181, 0, 33, 177]
abbrev dktJ29_init_1 : List UInt8 := dkwJ29_init_1 ++ []
def dkwJ29_init_0 : List UInt8 := [42, 43, 181, 0, 1, 42, 183, 0, 7, 42, 42, 180, 0, 1, 180, 0, 13, 181, 0, 19, 42, 28, 43]
abbrev dktJ29_init_0 : List UInt8 := dkwJ29_init_0 ++ dktJ29_init_1
theorem dksJ29_init_0 : cJ29_init.data.toList.drop 0 = dktJ29_init_0 := by decide +kernel
theorem dksJ29_init_1 : cJ29_init.data.toList.drop 23 = dktJ29_init_1 := dk_seg dksJ29_init_0 23 rfl rfl
theorem dJ29_init_0 : decode cJ29_init 0 = .ok (.aload_n 0, 1) := dk_42 (dk_at dksJ29_init_0 0 rfl rfl)
theorem dJ29_init_1 : decode cJ29_init 1 = .ok (.aload_n 1, 1) := dk_43 (dk_at dksJ29_init_0 1 rfl rfl)
theorem dJ29_init_2 : decode cJ29_init 2 = .ok (.putfield 1, 3) := dk_181 0 1 (dk_at dksJ29_init_0 2 rfl rfl)
theorem dJ29_init_5 : decode cJ29_init 5 = .ok (.aload_n 0, 1) := dk_42 (dk_at dksJ29_init_0 5 rfl rfl)
theorem dJ29_init_6 : decode cJ29_init 6 = .ok (.invokespecial 7, 3) := dk_183 0 7 (dk_at dksJ29_init_0 6 rfl rfl)
theorem dJ29_init_9 : decode cJ29_init 9 = .ok (.aload_n 0, 1) := dk_42 (dk_at dksJ29_init_0 9 rfl rfl)
theorem dJ29_init_10 : decode cJ29_init 10 = .ok (.aload_n 0, 1) := dk_42 (dk_at dksJ29_init_0 10 rfl rfl)
theorem dJ29_init_11 : decode cJ29_init 11 = .ok (.getfield 1, 3) := dk_180 0 1 (dk_at dksJ29_init_0 11 rfl rfl)
theorem dJ29_init_14 : decode cJ29_init 14 = .ok (.getfield 13, 3) := dk_180 0 13 (dk_at dksJ29_init_0 14 rfl rfl)
theorem dJ29_init_17 : decode cJ29_init 17 = .ok (.putfield 19, 3) := dk_181 0 19 (dk_at dksJ29_init_0 17 rfl rfl)
theorem dJ29_init_20 : decode cJ29_init 20 = .ok (.aload_n 0, 1) := dk_42 (dk_at dksJ29_init_0 20 rfl rfl)
theorem dJ29_init_21 : decode cJ29_init 21 = .ok (.iload_n 2, 1) := dk_28 (dk_at dksJ29_init_0 21 rfl rfl)
theorem dJ29_init_22 : decode cJ29_init 22 = .ok (.aload_n 1, 1) := dk_43 (dk_at dksJ29_init_0 22 rfl rfl)
theorem dJ29_init_23 : decode cJ29_init 23 = .ok (.getfield 22, 3) := dk_180 0 22 (dk_at dksJ29_init_1 0 rfl rfl)
theorem dJ29_init_26 : decode cJ29_init 26 = .ok (.if_icmp .ne 7, 3) := dk_160 0 7 (dk_at dksJ29_init_1 3 rfl rfl)
theorem dJ29_init_29 : decode cJ29_init 29 = .ok (.aconst_null, 1) := dk_1 (dk_at dksJ29_init_1 6 rfl rfl)
theorem dJ29_init_30 : decode cJ29_init 30 = .ok (.goto 8, 3) := dk_167 0 8 (dk_at dksJ29_init_1 7 rfl rfl)
theorem dJ29_init_33 : decode cJ29_init 33 = .ok (.aload_n 1, 1) := dk_43 (dk_at dksJ29_init_1 10 rfl rfl)
theorem dJ29_init_34 : decode cJ29_init 34 = .ok (.iload_n 2, 1) := dk_28 (dk_at dksJ29_init_1 11 rfl rfl)
theorem dJ29_init_35 : decode cJ29_init 35 = .ok (.invokevirtual 25, 3) := dk_182 0 25 (dk_at dksJ29_init_1 12 rfl rfl)
theorem dJ29_init_38 : decode cJ29_init 38 = .ok (.putfield 29, 3) := dk_181 0 29 (dk_at dksJ29_init_1 15 rfl rfl)
theorem dJ29_init_41 : decode cJ29_init 41 = .ok (.aload_n 0, 1) := dk_42 (dk_at dksJ29_init_1 18 rfl rfl)
theorem dJ29_init_42 : decode cJ29_init 42 = .ok (.iload_n 2, 1) := dk_28 (dk_at dksJ29_init_1 19 rfl rfl)
theorem dJ29_init_43 : decode cJ29_init 43 = .ok (.putfield 33, 3) := dk_181 0 33 (dk_at dksJ29_init_1 20 rfl rfl)
theorem dJ29_init_46 : decode cJ29_init 46 = .ok (.return_, 1) := dk_177 (dk_at dksJ29_init_1 23 rfl rfl)
abbrev cJ29_hasPrevious : ByteArray := prog_58_method_4_code
def yJ29_hasPrevious : MethodName := ⟨RJ29, "hasPrevious", "()Z"⟩
def dkwJ29_hasPrevious_0 : List UInt8 := [42, 180, 0, 33, 158, 0, 7, 4, 167, 0, 4, 3, 172]
abbrev dktJ29_hasPrevious_0 : List UInt8 := dkwJ29_hasPrevious_0 ++ []
theorem dksJ29_hasPrevious_0 : cJ29_hasPrevious.data.toList.drop 0 = dktJ29_hasPrevious_0 := by decide +kernel
theorem dJ29_hasPrevious_0 : decode cJ29_hasPrevious 0 = .ok (.aload_n 0, 1) := dk_42 (dk_at dksJ29_hasPrevious_0 0 rfl rfl)
theorem dJ29_hasPrevious_1 : decode cJ29_hasPrevious 1 = .ok (.getfield 33, 3) := dk_180 0 33 (dk_at dksJ29_hasPrevious_0 1 rfl rfl)
theorem dJ29_hasPrevious_4 : decode cJ29_hasPrevious 4 = .ok (.ifCond .le 7, 3) := dk_158 0 7 (dk_at dksJ29_hasPrevious_0 4 rfl rfl)
theorem dJ29_hasPrevious_7 : decode cJ29_hasPrevious 7 = .ok (.iconst 1, 1) := dk_4 (dk_at dksJ29_hasPrevious_0 7 rfl rfl)
theorem dJ29_hasPrevious_8 : decode cJ29_hasPrevious 8 = .ok (.goto 4, 3) := dk_167 0 4 (dk_at dksJ29_hasPrevious_0 8 rfl rfl)
theorem dJ29_hasPrevious_11 : decode cJ29_hasPrevious 11 = .ok (.iconst 0, 1) := dk_3 (dk_at dksJ29_hasPrevious_0 11 rfl rfl)
theorem dJ29_hasPrevious_12 : decode cJ29_hasPrevious 12 = .ok (.ireturn, 1) := dk_172 (dk_at dksJ29_hasPrevious_0 12 rfl rfl)
abbrev cJ29_hasNext : ByteArray := prog_58_method_2_code
def yJ29_hasNext : MethodName := ⟨RJ29, "hasNext", "()Z"⟩
def dkwJ29_hasNext_0 : List UInt8 := [42, 180, 0, 33, 42, 180, 0, 1, 180, 0, 22, 162, 0, 7, 4, 167, 0, 4, 3, 172]
abbrev dktJ29_hasNext_0 : List UInt8 := dkwJ29_hasNext_0 ++ []
theorem dksJ29_hasNext_0 : cJ29_hasNext.data.toList.drop 0 = dktJ29_hasNext_0 := by decide +kernel
theorem dJ29_hasNext_0 : decode cJ29_hasNext 0 = .ok (.aload_n 0, 1) := dk_42 (dk_at dksJ29_hasNext_0 0 rfl rfl)
theorem dJ29_hasNext_1 : decode cJ29_hasNext 1 = .ok (.getfield 33, 3) := dk_180 0 33 (dk_at dksJ29_hasNext_0 1 rfl rfl)
theorem dJ29_hasNext_4 : decode cJ29_hasNext 4 = .ok (.aload_n 0, 1) := dk_42 (dk_at dksJ29_hasNext_0 4 rfl rfl)
theorem dJ29_hasNext_5 : decode cJ29_hasNext 5 = .ok (.getfield 1, 3) := dk_180 0 1 (dk_at dksJ29_hasNext_0 5 rfl rfl)
theorem dJ29_hasNext_8 : decode cJ29_hasNext 8 = .ok (.getfield 22, 3) := dk_180 0 22 (dk_at dksJ29_hasNext_0 8 rfl rfl)
theorem dJ29_hasNext_11 : decode cJ29_hasNext 11 = .ok (.if_icmp .ge 7, 3) := dk_162 0 7 (dk_at dksJ29_hasNext_0 11 rfl rfl)
theorem dJ29_hasNext_14 : decode cJ29_hasNext 14 = .ok (.iconst 1, 1) := dk_4 (dk_at dksJ29_hasNext_0 14 rfl rfl)
theorem dJ29_hasNext_15 : decode cJ29_hasNext 15 = .ok (.goto 4, 3) := dk_167 0 4 (dk_at dksJ29_hasNext_0 15 rfl rfl)
theorem dJ29_hasNext_18 : decode cJ29_hasNext 18 = .ok (.iconst 0, 1) := dk_3 (dk_at dksJ29_hasNext_0 18 rfl rfl)
theorem dJ29_hasNext_19 : decode cJ29_hasNext 19 = .ok (.ireturn, 1) := dk_172 (dk_at dksJ29_hasNext_0 19 rfl rfl)
abbrev cJ29_previous : ByteArray := prog_58_method_5_code
def yJ29_previous : MethodName := ⟨RJ29, "previous", "()Ljava/lang/Object;"⟩
def dkwJ29_previous_2 : List UInt8 := [181, 0, 29, 181, 0, 46, 42, 89, 180, 0, 33, 4, 100, 181, 0, 33, 42, 180, 0, 46, 180, 0, 52, 176]
abbrev dktJ29_previous_2 : List UInt8 := dkwJ29_previous_2 ++ []
def dkwJ29_previous_1 : List UInt8 := [180, 0, 29, 199, 0, 13, 42, 180, 0, 1, 180, 0, 59, 167, 0, 10, 42, 180, 0, 29, 180, 0, 62, 90]
abbrev dktJ29_previous_1 : List UInt8 := dkwJ29_previous_1 ++ dktJ29_previous_2
def dkwJ29_previous_0 : List UInt8 := [42, 182, 0, 36, 42, 182, 0, 56, 154, 0, 11, 187, 0, 43, 89, 183, 0, 45, 191, 42, 42, 42]
abbrev dktJ29_previous_0 : List UInt8 := dkwJ29_previous_0 ++ dktJ29_previous_1
theorem dksJ29_previous_0 : cJ29_previous.data.toList.drop 0 = dktJ29_previous_0 := by decide +kernel
theorem dksJ29_previous_1 : cJ29_previous.data.toList.drop 22 = dktJ29_previous_1 := dk_seg dksJ29_previous_0 22 rfl rfl
theorem dksJ29_previous_2 : cJ29_previous.data.toList.drop 46 = dktJ29_previous_2 := dk_seg dksJ29_previous_1 24 rfl rfl
theorem dJ29_previous_0 : decode cJ29_previous 0 = .ok (.aload_n 0, 1) := dk_42 (dk_at dksJ29_previous_0 0 rfl rfl)
theorem dJ29_previous_1 : decode cJ29_previous 1 = .ok (.invokevirtual 36, 3) := dk_182 0 36 (dk_at dksJ29_previous_0 1 rfl rfl)
theorem dJ29_previous_4 : decode cJ29_previous 4 = .ok (.aload_n 0, 1) := dk_42 (dk_at dksJ29_previous_0 4 rfl rfl)
theorem dJ29_previous_5 : decode cJ29_previous 5 = .ok (.invokevirtual 56, 3) := dk_182 0 56 (dk_at dksJ29_previous_0 5 rfl rfl)
theorem dJ29_previous_8 : decode cJ29_previous 8 = .ok (.ifCond .ne 11, 3) := dk_154 0 11 (dk_at dksJ29_previous_0 8 rfl rfl)
theorem dJ29_previous_11 : decode cJ29_previous 11 = .ok (.new 43, 3) := dk_187 0 43 (dk_at dksJ29_previous_0 11 rfl rfl)
theorem dJ29_previous_14 : decode cJ29_previous 14 = .ok (.dup, 1) := dk_89 (dk_at dksJ29_previous_0 14 rfl rfl)
theorem dJ29_previous_15 : decode cJ29_previous 15 = .ok (.invokespecial 45, 3) := dk_183 0 45 (dk_at dksJ29_previous_0 15 rfl rfl)
theorem dJ29_previous_18 : decode cJ29_previous 18 = .ok (.athrow, 1) := dk_191 (dk_at dksJ29_previous_0 18 rfl rfl)
theorem dJ29_previous_19 : decode cJ29_previous 19 = .ok (.aload_n 0, 1) := dk_42 (dk_at dksJ29_previous_0 19 rfl rfl)
theorem dJ29_previous_20 : decode cJ29_previous 20 = .ok (.aload_n 0, 1) := dk_42 (dk_at dksJ29_previous_0 20 rfl rfl)
theorem dJ29_previous_21 : decode cJ29_previous 21 = .ok (.aload_n 0, 1) := dk_42 (dk_at dksJ29_previous_0 21 rfl rfl)
theorem dJ29_previous_22 : decode cJ29_previous 22 = .ok (.getfield 29, 3) := dk_180 0 29 (dk_at dksJ29_previous_1 0 rfl rfl)
theorem dJ29_previous_25 : decode cJ29_previous 25 = .ok (.ifnonnull 13, 3) := dk_199 0 13 (dk_at dksJ29_previous_1 3 rfl rfl)
theorem dJ29_previous_28 : decode cJ29_previous 28 = .ok (.aload_n 0, 1) := dk_42 (dk_at dksJ29_previous_1 6 rfl rfl)
theorem dJ29_previous_29 : decode cJ29_previous 29 = .ok (.getfield 1, 3) := dk_180 0 1 (dk_at dksJ29_previous_1 7 rfl rfl)
theorem dJ29_previous_32 : decode cJ29_previous 32 = .ok (.getfield 59, 3) := dk_180 0 59 (dk_at dksJ29_previous_1 10 rfl rfl)
theorem dJ29_previous_35 : decode cJ29_previous 35 = .ok (.goto 10, 3) := dk_167 0 10 (dk_at dksJ29_previous_1 13 rfl rfl)
theorem dJ29_previous_38 : decode cJ29_previous 38 = .ok (.aload_n 0, 1) := dk_42 (dk_at dksJ29_previous_1 16 rfl rfl)
theorem dJ29_previous_39 : decode cJ29_previous 39 = .ok (.getfield 29, 3) := dk_180 0 29 (dk_at dksJ29_previous_1 17 rfl rfl)
theorem dJ29_previous_42 : decode cJ29_previous 42 = .ok (.getfield 62, 3) := dk_180 0 62 (dk_at dksJ29_previous_1 20 rfl rfl)
theorem dJ29_previous_45 : decode cJ29_previous 45 = .ok (.dup_x1, 1) := dk_90 (dk_at dksJ29_previous_1 23 rfl rfl)
theorem dJ29_previous_46 : decode cJ29_previous 46 = .ok (.putfield 29, 3) := dk_181 0 29 (dk_at dksJ29_previous_2 0 rfl rfl)
theorem dJ29_previous_49 : decode cJ29_previous 49 = .ok (.putfield 46, 3) := dk_181 0 46 (dk_at dksJ29_previous_2 3 rfl rfl)
theorem dJ29_previous_52 : decode cJ29_previous 52 = .ok (.aload_n 0, 1) := dk_42 (dk_at dksJ29_previous_2 6 rfl rfl)
theorem dJ29_previous_53 : decode cJ29_previous 53 = .ok (.dup, 1) := dk_89 (dk_at dksJ29_previous_2 7 rfl rfl)
theorem dJ29_previous_54 : decode cJ29_previous 54 = .ok (.getfield 33, 3) := dk_180 0 33 (dk_at dksJ29_previous_2 8 rfl rfl)
theorem dJ29_previous_57 : decode cJ29_previous 57 = .ok (.iconst 1, 1) := dk_4 (dk_at dksJ29_previous_2 11 rfl rfl)
theorem dJ29_previous_58 : decode cJ29_previous 58 = .ok (.isub, 1) := dk_100 (dk_at dksJ29_previous_2 12 rfl rfl)
theorem dJ29_previous_59 : decode cJ29_previous 59 = .ok (.putfield 33, 3) := dk_181 0 33 (dk_at dksJ29_previous_2 13 rfl rfl)
theorem dJ29_previous_62 : decode cJ29_previous 62 = .ok (.aload_n 0, 1) := dk_42 (dk_at dksJ29_previous_2 16 rfl rfl)
theorem dJ29_previous_63 : decode cJ29_previous 63 = .ok (.getfield 46, 3) := dk_180 0 46 (dk_at dksJ29_previous_2 17 rfl rfl)
theorem dJ29_previous_66 : decode cJ29_previous 66 = .ok (.getfield 52, 3) := dk_180 0 52 (dk_at dksJ29_previous_2 20 rfl rfl)
theorem dJ29_previous_69 : decode cJ29_previous 69 = .ok (.areturn, 1) := dk_176 (dk_at dksJ29_previous_2 23 rfl rfl)
abbrev cJ29_checkForComodification : ByteArray := prog_58_method_12_code
def yJ29_checkForComodification : MethodName := ⟨RJ29, "checkForComodification", "()V"⟩
def dkwJ29_checkForComodification_0 : List UInt8 := [42, 180, 0, 1, 180, 0, 13, 42, 180, 0, 19, 159, 0, 11, 187, 0, 91, 89, 183, 0, 93, 191, 177]
abbrev dktJ29_checkForComodification_0 : List UInt8 := dkwJ29_checkForComodification_0 ++ []
theorem dksJ29_checkForComodification_0 : cJ29_checkForComodification.data.toList.drop 0 = dktJ29_checkForComodification_0 := by decide +kernel
theorem dJ29_checkForComodification_0 : decode cJ29_checkForComodification 0 = .ok (.aload_n 0, 1) := dk_42 (dk_at dksJ29_checkForComodification_0 0 rfl rfl)
theorem dJ29_checkForComodification_1 : decode cJ29_checkForComodification 1 = .ok (.getfield 1, 3) := dk_180 0 1 (dk_at dksJ29_checkForComodification_0 1 rfl rfl)
theorem dJ29_checkForComodification_4 : decode cJ29_checkForComodification 4 = .ok (.getfield 13, 3) := dk_180 0 13 (dk_at dksJ29_checkForComodification_0 4 rfl rfl)
theorem dJ29_checkForComodification_7 : decode cJ29_checkForComodification 7 = .ok (.aload_n 0, 1) := dk_42 (dk_at dksJ29_checkForComodification_0 7 rfl rfl)
theorem dJ29_checkForComodification_8 : decode cJ29_checkForComodification 8 = .ok (.getfield 19, 3) := dk_180 0 19 (dk_at dksJ29_checkForComodification_0 8 rfl rfl)
theorem dJ29_checkForComodification_11 : decode cJ29_checkForComodification 11 = .ok (.if_icmp .eq 11, 3) := dk_159 0 11 (dk_at dksJ29_checkForComodification_0 11 rfl rfl)
theorem dJ29_checkForComodification_14 : decode cJ29_checkForComodification 14 = .ok (.new 91, 3) := dk_187 0 91 (dk_at dksJ29_checkForComodification_0 14 rfl rfl)
theorem dJ29_checkForComodification_17 : decode cJ29_checkForComodification 17 = .ok (.dup, 1) := dk_89 (dk_at dksJ29_checkForComodification_0 17 rfl rfl)
theorem dJ29_checkForComodification_18 : decode cJ29_checkForComodification 18 = .ok (.invokespecial 93, 3) := dk_183 0 93 (dk_at dksJ29_checkForComodification_0 18 rfl rfl)
theorem dJ29_checkForComodification_21 : decode cJ29_checkForComodification 21 = .ok (.athrow, 1) := dk_191 (dk_at dksJ29_checkForComodification_0 21 rfl rfl)
theorem dJ29_checkForComodification_22 : decode cJ29_checkForComodification 22 = .ok (.return_, 1) := dk_177 (dk_at dksJ29_checkForComodification_0 22 rfl rfl)
abbrev cJ29_next : ByteArray := prog_58_method_3_code
def yJ29_next : MethodName := ⟨RJ29, "next", "()Ljava/lang/Object;"⟩
def dkwJ29_next_2 : List UInt8 := [42, 180, 0, 46, 180, 0, 52, 176]
abbrev dktJ29_next_2 : List UInt8 := dkwJ29_next_2 ++ []
def dkwJ29_next_1 : List UInt8 := [181, 0, 46, 42, 42, 180, 0, 29, 180, 0, 49, 181, 0, 29, 42, 89, 180, 0, 33, 4, 96, 181, 0, 33]
abbrev dktJ29_next_1 : List UInt8 := dkwJ29_next_1 ++ dktJ29_next_2
def dkwJ29_next_0 : List UInt8 := [42, 182, 0, 36, 42, 182, 0, 39, 154, 0, 11, 187, 0, 43, 89, 183, 0, 45, 191, 42, 42, 180, 0, 29]
abbrev dktJ29_next_0 : List UInt8 := dkwJ29_next_0 ++ dktJ29_next_1
theorem dksJ29_next_0 : cJ29_next.data.toList.drop 0 = dktJ29_next_0 := by decide +kernel
theorem dksJ29_next_1 : cJ29_next.data.toList.drop 24 = dktJ29_next_1 := dk_seg dksJ29_next_0 24 rfl rfl
theorem dksJ29_next_2 : cJ29_next.data.toList.drop 48 = dktJ29_next_2 := dk_seg dksJ29_next_1 24 rfl rfl
theorem dJ29_next_0 : decode cJ29_next 0 = .ok (.aload_n 0, 1) := dk_42 (dk_at dksJ29_next_0 0 rfl rfl)
theorem dJ29_next_1 : decode cJ29_next 1 = .ok (.invokevirtual 36, 3) := dk_182 0 36 (dk_at dksJ29_next_0 1 rfl rfl)
theorem dJ29_next_4 : decode cJ29_next 4 = .ok (.aload_n 0, 1) := dk_42 (dk_at dksJ29_next_0 4 rfl rfl)
theorem dJ29_next_5 : decode cJ29_next 5 = .ok (.invokevirtual 39, 3) := dk_182 0 39 (dk_at dksJ29_next_0 5 rfl rfl)
theorem dJ29_next_8 : decode cJ29_next 8 = .ok (.ifCond .ne 11, 3) := dk_154 0 11 (dk_at dksJ29_next_0 8 rfl rfl)
theorem dJ29_next_11 : decode cJ29_next 11 = .ok (.new 43, 3) := dk_187 0 43 (dk_at dksJ29_next_0 11 rfl rfl)
theorem dJ29_next_14 : decode cJ29_next 14 = .ok (.dup, 1) := dk_89 (dk_at dksJ29_next_0 14 rfl rfl)
theorem dJ29_next_15 : decode cJ29_next 15 = .ok (.invokespecial 45, 3) := dk_183 0 45 (dk_at dksJ29_next_0 15 rfl rfl)
theorem dJ29_next_18 : decode cJ29_next 18 = .ok (.athrow, 1) := dk_191 (dk_at dksJ29_next_0 18 rfl rfl)
theorem dJ29_next_19 : decode cJ29_next 19 = .ok (.aload_n 0, 1) := dk_42 (dk_at dksJ29_next_0 19 rfl rfl)
theorem dJ29_next_20 : decode cJ29_next 20 = .ok (.aload_n 0, 1) := dk_42 (dk_at dksJ29_next_0 20 rfl rfl)
theorem dJ29_next_21 : decode cJ29_next 21 = .ok (.getfield 29, 3) := dk_180 0 29 (dk_at dksJ29_next_0 21 rfl rfl)
theorem dJ29_next_24 : decode cJ29_next 24 = .ok (.putfield 46, 3) := dk_181 0 46 (dk_at dksJ29_next_1 0 rfl rfl)
theorem dJ29_next_27 : decode cJ29_next 27 = .ok (.aload_n 0, 1) := dk_42 (dk_at dksJ29_next_1 3 rfl rfl)
theorem dJ29_next_28 : decode cJ29_next 28 = .ok (.aload_n 0, 1) := dk_42 (dk_at dksJ29_next_1 4 rfl rfl)
theorem dJ29_next_29 : decode cJ29_next 29 = .ok (.getfield 29, 3) := dk_180 0 29 (dk_at dksJ29_next_1 5 rfl rfl)
theorem dJ29_next_32 : decode cJ29_next 32 = .ok (.getfield 49, 3) := dk_180 0 49 (dk_at dksJ29_next_1 8 rfl rfl)
theorem dJ29_next_35 : decode cJ29_next 35 = .ok (.putfield 29, 3) := dk_181 0 29 (dk_at dksJ29_next_1 11 rfl rfl)
theorem dJ29_next_38 : decode cJ29_next 38 = .ok (.aload_n 0, 1) := dk_42 (dk_at dksJ29_next_1 14 rfl rfl)
theorem dJ29_next_39 : decode cJ29_next 39 = .ok (.dup, 1) := dk_89 (dk_at dksJ29_next_1 15 rfl rfl)
theorem dJ29_next_40 : decode cJ29_next 40 = .ok (.getfield 33, 3) := dk_180 0 33 (dk_at dksJ29_next_1 16 rfl rfl)
theorem dJ29_next_43 : decode cJ29_next 43 = .ok (.iconst 1, 1) := dk_4 (dk_at dksJ29_next_1 19 rfl rfl)
theorem dJ29_next_44 : decode cJ29_next 44 = .ok (.iadd, 1) := dk_96 (dk_at dksJ29_next_1 20 rfl rfl)
theorem dJ29_next_45 : decode cJ29_next 45 = .ok (.putfield 33, 3) := dk_181 0 33 (dk_at dksJ29_next_1 21 rfl rfl)
theorem dJ29_next_48 : decode cJ29_next 48 = .ok (.aload_n 0, 1) := dk_42 (dk_at dksJ29_next_2 0 rfl rfl)
theorem dJ29_next_49 : decode cJ29_next 49 = .ok (.getfield 46, 3) := dk_180 0 46 (dk_at dksJ29_next_2 1 rfl rfl)
theorem dJ29_next_52 : decode cJ29_next 52 = .ok (.getfield 52, 3) := dk_180 0 52 (dk_at dksJ29_next_2 4 rfl rfl)
theorem dJ29_next_55 : decode cJ29_next 55 = .ok (.areturn, 1) := dk_176 (dk_at dksJ29_next_2 7 rfl rfl)
abbrev cJ29_remove : ByteArray := prog_58_method_8_code
def yJ29_remove : MethodName := ⟨RJ29, "remove", "()V"⟩
def dkwJ29_remove_3 : List UInt8 := [181, 0, 46, 42, 89, 180, 0, 19, 4, 96, 181, 0, 19, 177]
abbrev dktJ29_remove_3 : List UInt8 := dkwJ29_remove_3 ++ []
def dkwJ29_remove_2 : List UInt8 := [166, 0, 11, 42, 43, 181, 0, 29, 167, 0, 13, 42, 89, 180, 0, 33, 4, 100, 181, 0, 33, 42, 1]
abbrev dktJ29_remove_2 : List UInt8 := dkwJ29_remove_2 ++ dktJ29_remove_3
def dkwJ29_remove_1 : List UInt8 := [180, 0, 49, 76, 42, 180, 0, 1, 42, 180, 0, 46, 182, 0, 68, 87, 42, 180, 0, 29, 42, 180, 0, 46]
abbrev dktJ29_remove_1 : List UInt8 := dkwJ29_remove_1 ++ dktJ29_remove_2
def dkwJ29_remove_0 : List UInt8 := [42, 182, 0, 36, 42, 180, 0, 46, 199, 0, 11, 187, 0, 65, 89, 183, 0, 67, 191, 42, 180, 0, 46]
abbrev dktJ29_remove_0 : List UInt8 := dkwJ29_remove_0 ++ dktJ29_remove_1
theorem dksJ29_remove_0 : cJ29_remove.data.toList.drop 0 = dktJ29_remove_0 := by decide +kernel
theorem dksJ29_remove_1 : cJ29_remove.data.toList.drop 23 = dktJ29_remove_1 := dk_seg dksJ29_remove_0 23 rfl rfl
theorem dksJ29_remove_2 : cJ29_remove.data.toList.drop 47 = dktJ29_remove_2 := dk_seg dksJ29_remove_1 24 rfl rfl
theorem dksJ29_remove_3 : cJ29_remove.data.toList.drop 70 = dktJ29_remove_3 := dk_seg dksJ29_remove_2 23 rfl rfl
theorem dJ29_remove_0 : decode cJ29_remove 0 = .ok (.aload_n 0, 1) := dk_42 (dk_at dksJ29_remove_0 0 rfl rfl)
theorem dJ29_remove_1 : decode cJ29_remove 1 = .ok (.invokevirtual 36, 3) := dk_182 0 36 (dk_at dksJ29_remove_0 1 rfl rfl)
theorem dJ29_remove_4 : decode cJ29_remove 4 = .ok (.aload_n 0, 1) := dk_42 (dk_at dksJ29_remove_0 4 rfl rfl)
theorem dJ29_remove_5 : decode cJ29_remove 5 = .ok (.getfield 46, 3) := dk_180 0 46 (dk_at dksJ29_remove_0 5 rfl rfl)
theorem dJ29_remove_8 : decode cJ29_remove 8 = .ok (.ifnonnull 11, 3) := dk_199 0 11 (dk_at dksJ29_remove_0 8 rfl rfl)
theorem dJ29_remove_11 : decode cJ29_remove 11 = .ok (.new 65, 3) := dk_187 0 65 (dk_at dksJ29_remove_0 11 rfl rfl)
theorem dJ29_remove_14 : decode cJ29_remove 14 = .ok (.dup, 1) := dk_89 (dk_at dksJ29_remove_0 14 rfl rfl)
theorem dJ29_remove_15 : decode cJ29_remove 15 = .ok (.invokespecial 67, 3) := dk_183 0 67 (dk_at dksJ29_remove_0 15 rfl rfl)
theorem dJ29_remove_18 : decode cJ29_remove 18 = .ok (.athrow, 1) := dk_191 (dk_at dksJ29_remove_0 18 rfl rfl)
theorem dJ29_remove_19 : decode cJ29_remove 19 = .ok (.aload_n 0, 1) := dk_42 (dk_at dksJ29_remove_0 19 rfl rfl)
theorem dJ29_remove_20 : decode cJ29_remove 20 = .ok (.getfield 46, 3) := dk_180 0 46 (dk_at dksJ29_remove_0 20 rfl rfl)
theorem dJ29_remove_23 : decode cJ29_remove 23 = .ok (.getfield 49, 3) := dk_180 0 49 (dk_at dksJ29_remove_1 0 rfl rfl)
theorem dJ29_remove_26 : decode cJ29_remove 26 = .ok (.astore_n 1, 1) := dk_76 (dk_at dksJ29_remove_1 3 rfl rfl)
theorem dJ29_remove_27 : decode cJ29_remove 27 = .ok (.aload_n 0, 1) := dk_42 (dk_at dksJ29_remove_1 4 rfl rfl)
theorem dJ29_remove_28 : decode cJ29_remove 28 = .ok (.getfield 1, 3) := dk_180 0 1 (dk_at dksJ29_remove_1 5 rfl rfl)
theorem dJ29_remove_31 : decode cJ29_remove 31 = .ok (.aload_n 0, 1) := dk_42 (dk_at dksJ29_remove_1 8 rfl rfl)
theorem dJ29_remove_32 : decode cJ29_remove 32 = .ok (.getfield 46, 3) := dk_180 0 46 (dk_at dksJ29_remove_1 9 rfl rfl)
theorem dJ29_remove_35 : decode cJ29_remove 35 = .ok (.invokevirtual 68, 3) := dk_182 0 68 (dk_at dksJ29_remove_1 12 rfl rfl)
theorem dJ29_remove_38 : decode cJ29_remove 38 = .ok (.pop, 1) := dk_87 (dk_at dksJ29_remove_1 15 rfl rfl)
theorem dJ29_remove_39 : decode cJ29_remove 39 = .ok (.aload_n 0, 1) := dk_42 (dk_at dksJ29_remove_1 16 rfl rfl)
theorem dJ29_remove_40 : decode cJ29_remove 40 = .ok (.getfield 29, 3) := dk_180 0 29 (dk_at dksJ29_remove_1 17 rfl rfl)
theorem dJ29_remove_43 : decode cJ29_remove 43 = .ok (.aload_n 0, 1) := dk_42 (dk_at dksJ29_remove_1 20 rfl rfl)
theorem dJ29_remove_44 : decode cJ29_remove 44 = .ok (.getfield 46, 3) := dk_180 0 46 (dk_at dksJ29_remove_1 21 rfl rfl)
theorem dJ29_remove_47 : decode cJ29_remove 47 = .ok (.if_acmp .ne 11, 3) := dk_166 0 11 (dk_at dksJ29_remove_2 0 rfl rfl)
theorem dJ29_remove_50 : decode cJ29_remove 50 = .ok (.aload_n 0, 1) := dk_42 (dk_at dksJ29_remove_2 3 rfl rfl)
theorem dJ29_remove_51 : decode cJ29_remove 51 = .ok (.aload_n 1, 1) := dk_43 (dk_at dksJ29_remove_2 4 rfl rfl)
theorem dJ29_remove_52 : decode cJ29_remove 52 = .ok (.putfield 29, 3) := dk_181 0 29 (dk_at dksJ29_remove_2 5 rfl rfl)
theorem dJ29_remove_55 : decode cJ29_remove 55 = .ok (.goto 13, 3) := dk_167 0 13 (dk_at dksJ29_remove_2 8 rfl rfl)
theorem dJ29_remove_58 : decode cJ29_remove 58 = .ok (.aload_n 0, 1) := dk_42 (dk_at dksJ29_remove_2 11 rfl rfl)
theorem dJ29_remove_59 : decode cJ29_remove 59 = .ok (.dup, 1) := dk_89 (dk_at dksJ29_remove_2 12 rfl rfl)
theorem dJ29_remove_60 : decode cJ29_remove 60 = .ok (.getfield 33, 3) := dk_180 0 33 (dk_at dksJ29_remove_2 13 rfl rfl)
theorem dJ29_remove_63 : decode cJ29_remove 63 = .ok (.iconst 1, 1) := dk_4 (dk_at dksJ29_remove_2 16 rfl rfl)
theorem dJ29_remove_64 : decode cJ29_remove 64 = .ok (.isub, 1) := dk_100 (dk_at dksJ29_remove_2 17 rfl rfl)
theorem dJ29_remove_65 : decode cJ29_remove 65 = .ok (.putfield 33, 3) := dk_181 0 33 (dk_at dksJ29_remove_2 18 rfl rfl)
theorem dJ29_remove_68 : decode cJ29_remove 68 = .ok (.aload_n 0, 1) := dk_42 (dk_at dksJ29_remove_2 21 rfl rfl)
theorem dJ29_remove_69 : decode cJ29_remove 69 = .ok (.aconst_null, 1) := dk_1 (dk_at dksJ29_remove_2 22 rfl rfl)
theorem dJ29_remove_70 : decode cJ29_remove 70 = .ok (.putfield 46, 3) := dk_181 0 46 (dk_at dksJ29_remove_3 0 rfl rfl)
theorem dJ29_remove_73 : decode cJ29_remove 73 = .ok (.aload_n 0, 1) := dk_42 (dk_at dksJ29_remove_3 3 rfl rfl)
theorem dJ29_remove_74 : decode cJ29_remove 74 = .ok (.dup, 1) := dk_89 (dk_at dksJ29_remove_3 4 rfl rfl)
theorem dJ29_remove_75 : decode cJ29_remove 75 = .ok (.getfield 19, 3) := dk_180 0 19 (dk_at dksJ29_remove_3 5 rfl rfl)
theorem dJ29_remove_78 : decode cJ29_remove 78 = .ok (.iconst 1, 1) := dk_4 (dk_at dksJ29_remove_3 8 rfl rfl)
theorem dJ29_remove_79 : decode cJ29_remove 79 = .ok (.iadd, 1) := dk_96 (dk_at dksJ29_remove_3 9 rfl rfl)
theorem dJ29_remove_80 : decode cJ29_remove 80 = .ok (.putfield 19, 3) := dk_181 0 19 (dk_at dksJ29_remove_3 10 rfl rfl)
theorem dJ29_remove_83 : decode cJ29_remove 83 = .ok (.return_, 1) := dk_177 (dk_at dksJ29_remove_3 13 rfl rfl)
theorem q110 : (Jvm.Cond.initialized "java/util/LinkedList$ListItr") ∈ lw_all := lw_g (lw_at lw_m1 40 rfl) rfl
theorem q474 : (Jvm.Cond.fieldLink "java/util/LinkedList$ListItr" (13 : Nat) "java/util/LinkedList" "modCount" "I") ∈ lw_all := lw_g (lw_at lw_m2 164 rfl) rfl
theorem q545 : (Jvm.Cond.fieldLink "java/util/LinkedList$ListItr" (22 : Nat) "java/util/LinkedList" "size" "I") ∈ lw_all := lw_g (lw_at lw_m2 235 rfl) rfl
theorem q548 : (Jvm.Cond.fieldLink "java/util/LinkedList$ListItr" (59 : Nat) "java/util/LinkedList" "last" "Ljava/util/LinkedList$Node;") ∈ lw_all := lw_g (lw_at lw_m2 238 rfl) rfl
theorem q925 : (Jvm.Cond.selects "java/util/LinkedList$ListItr" ({ cls := "java/lang/Object", name := "getClass", desc := "()Ljava/lang/Class;" } : Jvm.MethodName) ({ cls := "java/lang/Object", name := "getClass", desc := "()Ljava/lang/Class;" } : Jvm.MethodName)) ∈ lw_all := lw_g (lw_at lw_m4 135 rfl) rfl
theorem q951 : (Jvm.Cond.fieldLink "java/util/LinkedList$ListItr" (52 : Nat) "java/util/LinkedList$Node" "item" "Ljava/lang/Object;") ∈ lw_all := lw_g (lw_at lw_m4 161 rfl) rfl
theorem q954 : (Jvm.Cond.fieldLink "java/util/LinkedList$ListItr" (49 : Nat) "java/util/LinkedList$Node" "next" "Ljava/util/LinkedList$Node;") ∈ lw_all := lw_g (lw_at lw_m4 164 rfl) rfl
theorem q957 : (Jvm.Cond.fieldLink "java/util/LinkedList$ListItr" (62 : Nat) "java/util/LinkedList$Node" "prev" "Ljava/util/LinkedList$Node;") ∈ lw_all := lw_g (lw_at lw_m4 167 rfl) rfl
theorem q1422 : (Jvm.Cond.instantiable "java/util/LinkedList$ListItr" (5 : Nat)) ∈ lw_all := lw_g (lw_at lw_m6 152 rfl) rfl
theorem q1425 : (Jvm.Cond.instanceMethod ({ cls := "java/util/LinkedList$ListItr", name := "<init>", desc := "(Ljava/util/LinkedList;I)V" } : Jvm.MethodName)) ∈ lw_all := lw_g (lw_at lw_m6 155 rfl) rfl
theorem q1426 : (Jvm.Cond.code ({ cls := "java/util/LinkedList$ListItr", name := "<init>", desc := "(Ljava/util/LinkedList;I)V" } : Jvm.MethodName) prog_58_method_1_code (3 : Nat) (Option.none : Option Jvm.ClassFile.FieldType)) ∈ lw_all := lw_g (lw_at lw_m6 156 rfl) rfl
theorem q1427 : (Jvm.Cond.methodLink "java/util/LinkedList$ListItr" (7 : Nat) ({ cls := "java/lang/Object", name := "<init>", desc := "()V" } : Jvm.MethodName)) ∈ lw_all := lw_g (lw_at lw_m6 157 rfl) rfl
theorem q1428 : (Jvm.Cond.methodLink "java/util/LinkedList$ListItr" (25 : Nat) ({ cls := "java/util/LinkedList", name := "node", desc := "(I)Ljava/util/LinkedList$Node;" } : Jvm.MethodName)) ∈ lw_all := lw_g (lw_at lw_m6 158 rfl) rfl
theorem q1429 : (Jvm.Cond.fieldLink "java/util/LinkedList$ListItr" (46 : Nat) "java/util/LinkedList$ListItr" "lastReturned" "Ljava/util/LinkedList$Node;") ∈ lw_all := lw_g (lw_at lw_m6 159 rfl) rfl
theorem q1430 : (Jvm.Cond.fieldLink "java/util/LinkedList$ListItr" (29 : Nat) "java/util/LinkedList$ListItr" "next" "Ljava/util/LinkedList$Node;") ∈ lw_all := lw_g (lw_at lw_m6 160 rfl) rfl
theorem q1431 : (Jvm.Cond.fieldLink "java/util/LinkedList$ListItr" (33 : Nat) "java/util/LinkedList$ListItr" "nextIndex" "I") ∈ lw_all := lw_g (lw_at lw_m6 161 rfl) rfl
theorem q1432 : (Jvm.Cond.fieldLink "java/util/LinkedList$ListItr" (19 : Nat) "java/util/LinkedList$ListItr" "expectedModCount" "I") ∈ lw_all := lw_g (lw_at lw_m6 162 rfl) rfl
theorem q1433 : (Jvm.Cond.fieldLink "java/util/LinkedList$ListItr" (1 : Nat) "java/util/LinkedList$ListItr" "this$0" "Ljava/util/LinkedList;") ∈ lw_all := lw_g (lw_at lw_m6 163 rfl) rfl
theorem q1434 : (Jvm.Cond.lays "java/util/LinkedList$ListItr" "java/util/LinkedList$ListItr" "lastReturned" "Ljava/util/LinkedList$Node;") ∈ lw_all := lw_g (lw_at lw_m6 164 rfl) rfl
theorem q1435 : (Jvm.Cond.soleField "java/util/LinkedList$ListItr" "lastReturned") ∈ lw_all := lw_g (lw_at lw_m6 165 rfl) rfl
theorem q1436 : (Jvm.Cond.lays "java/util/LinkedList$ListItr" "java/util/LinkedList$ListItr" "next" "Ljava/util/LinkedList$Node;") ∈ lw_all := lw_g (lw_at lw_m6 166 rfl) rfl
theorem q1437 : (Jvm.Cond.soleField "java/util/LinkedList$ListItr" "next") ∈ lw_all := lw_g (lw_at lw_m6 167 rfl) rfl
theorem q1438 : (Jvm.Cond.lays "java/util/LinkedList$ListItr" "java/util/LinkedList$ListItr" "nextIndex" "I") ∈ lw_all := lw_g (lw_at lw_m6 168 rfl) rfl
theorem q1439 : (Jvm.Cond.soleField "java/util/LinkedList$ListItr" "nextIndex") ∈ lw_all := lw_g (lw_at lw_m6 169 rfl) rfl
theorem q1440 : (Jvm.Cond.lays "java/util/LinkedList$ListItr" "java/util/LinkedList$ListItr" "expectedModCount" "I") ∈ lw_all := lw_g (lw_at lw_m6 170 rfl) rfl
theorem q1441 : (Jvm.Cond.soleField "java/util/LinkedList$ListItr" "expectedModCount") ∈ lw_all := lw_g (lw_at lw_m6 171 rfl) rfl
theorem q1442 : (Jvm.Cond.laysFinal "java/util/LinkedList$ListItr" "java/util/LinkedList$ListItr" "this$0" "Ljava/util/LinkedList;") ∈ lw_all := lw_g (lw_at lw_m6 172 rfl) rfl
theorem q1443 : (Jvm.Cond.soleField "java/util/LinkedList$ListItr" "this$0") ∈ lw_all := lw_g (lw_at lw_m6 173 rfl) rfl
theorem q1444 : (Jvm.Cond.superclass "java/util/LinkedList$ListItr" "java/lang/Object") ∈ lw_all := lw_g (lw_at lw_m6 174 rfl) rfl
theorem q1479 : (Jvm.Cond.instanceMethod ({ cls := "java/util/LinkedList$ListItr", name := "hasPrevious", desc := "()Z" } : Jvm.MethodName)) ∈ lw_all := lw_g (lw_at lw_m6 209 rfl) rfl
theorem q1480 : (Jvm.Cond.selects "java/util/LinkedList$ListItr" ({ cls := "java/util/LinkedList$ListItr", name := "hasPrevious", desc := "()Z" } : Jvm.MethodName) ({ cls := "java/util/LinkedList$ListItr", name := "hasPrevious", desc := "()Z" } : Jvm.MethodName)) ∈ lw_all := lw_g (lw_at lw_m6 210 rfl) rfl
theorem q1481 : (Jvm.Cond.code ({ cls := "java/util/LinkedList$ListItr", name := "hasPrevious", desc := "()Z" } : Jvm.MethodName) prog_58_method_4_code (1 : Nat) (Option.some Jvm.ClassFile.FieldType.boolean)) ∈ lw_all := lw_g (lw_at lw_m6 211 rfl) rfl
theorem q1482 : (Jvm.Cond.castable "java/util/LinkedList$ListItr" "java/util/Iterator") ∈ lw_tbl := lw_at lw_m6 212 rfl
theorem q1483 : (Jvm.Cond.selects "java/util/LinkedList$ListItr" ({ cls := "java/util/Iterator", name := "hasNext", desc := "()Z" } : Jvm.MethodName) ({ cls := "java/util/LinkedList$ListItr", name := "hasNext", desc := "()Z" } : Jvm.MethodName)) ∈ lw_all := lw_g (lw_at lw_m6 213 rfl) rfl
theorem q1484 : (Jvm.Cond.unhidden "java/util/LinkedList$ListItr" "hasNext" "()Z") ∈ lw_tbl := lw_at lw_m6 214 rfl
theorem q1485 : (Jvm.Cond.instanceMethod ({ cls := "java/util/LinkedList$ListItr", name := "hasNext", desc := "()Z" } : Jvm.MethodName)) ∈ lw_all := lw_g (lw_at lw_m6 215 rfl) rfl
theorem q1486 : (Jvm.Cond.publicMethod ({ cls := "java/util/LinkedList$ListItr", name := "hasNext", desc := "()Z" } : Jvm.MethodName)) ∈ lw_tbl := lw_at lw_m6 216 rfl
theorem q1487 : (Jvm.Cond.code ({ cls := "java/util/LinkedList$ListItr", name := "hasNext", desc := "()Z" } : Jvm.MethodName) prog_58_method_2_code (1 : Nat) (Option.some Jvm.ClassFile.FieldType.boolean)) ∈ lw_all := lw_g (lw_at lw_m6 217 rfl) rfl
theorem q1582 : (Jvm.Cond.instanceMethod ({ cls := "java/util/LinkedList$ListItr", name := "previous", desc := "()Ljava/lang/Object;" } : Jvm.MethodName)) ∈ lw_all := lw_g (lw_at lw_m7 72 rfl) rfl
theorem q1583 : (Jvm.Cond.selects "java/util/LinkedList$ListItr" ({ cls := "java/util/LinkedList$ListItr", name := "previous", desc := "()Ljava/lang/Object;" } : Jvm.MethodName) ({ cls := "java/util/LinkedList$ListItr", name := "previous", desc := "()Ljava/lang/Object;" } : Jvm.MethodName)) ∈ lw_all := lw_g (lw_at lw_m7 73 rfl) rfl
theorem q1584 : (Jvm.Cond.code ({ cls := "java/util/LinkedList$ListItr", name := "previous", desc := "()Ljava/lang/Object;" } : Jvm.MethodName) prog_58_method_5_code (1 : Nat) (Option.some (Jvm.ClassFile.FieldType.object "java/lang/Object"))) ∈ lw_all := lw_g (lw_at lw_m7 74 rfl) rfl
theorem q1585 : (Jvm.Cond.methodLink "java/util/LinkedList$ListItr" (36 : Nat) ({ cls := "java/util/LinkedList$ListItr", name := "checkForComodification", desc := "()V" } : Jvm.MethodName)) ∈ lw_all := lw_g (lw_at lw_m7 75 rfl) rfl
theorem q1586 : (Jvm.Cond.instanceMethod ({ cls := "java/util/LinkedList$ListItr", name := "checkForComodification", desc := "()V" } : Jvm.MethodName)) ∈ lw_all := lw_g (lw_at lw_m7 76 rfl) rfl
theorem q1587 : (Jvm.Cond.selects "java/util/LinkedList$ListItr" ({ cls := "java/util/LinkedList$ListItr", name := "checkForComodification", desc := "()V" } : Jvm.MethodName) ({ cls := "java/util/LinkedList$ListItr", name := "checkForComodification", desc := "()V" } : Jvm.MethodName)) ∈ lw_all := lw_g (lw_at lw_m7 77 rfl) rfl
theorem q1588 : (Jvm.Cond.code ({ cls := "java/util/LinkedList$ListItr", name := "checkForComodification", desc := "()V" } : Jvm.MethodName) prog_58_method_12_code (1 : Nat) (Option.none : Option Jvm.ClassFile.FieldType)) ∈ lw_all := lw_g (lw_at lw_m7 78 rfl) rfl
theorem q1589 : (Jvm.Cond.methodLink "java/util/LinkedList$ListItr" (56 : Nat) ({ cls := "java/util/LinkedList$ListItr", name := "hasPrevious", desc := "()Z" } : Jvm.MethodName)) ∈ lw_all := lw_g (lw_at lw_m7 79 rfl) rfl
theorem q1590 : (Jvm.Cond.selects "java/util/LinkedList$ListItr" ({ cls := "java/util/Iterator", name := "next", desc := "()Ljava/lang/Object;" } : Jvm.MethodName) ({ cls := "java/util/LinkedList$ListItr", name := "next", desc := "()Ljava/lang/Object;" } : Jvm.MethodName)) ∈ lw_all := lw_g (lw_at lw_m7 80 rfl) rfl
theorem q1591 : (Jvm.Cond.unhidden "java/util/LinkedList$ListItr" "next" "()Ljava/lang/Object;") ∈ lw_tbl := lw_at lw_m7 81 rfl
theorem q1592 : (Jvm.Cond.instanceMethod ({ cls := "java/util/LinkedList$ListItr", name := "next", desc := "()Ljava/lang/Object;" } : Jvm.MethodName)) ∈ lw_all := lw_g (lw_at lw_m7 82 rfl) rfl
theorem q1593 : (Jvm.Cond.publicMethod ({ cls := "java/util/LinkedList$ListItr", name := "next", desc := "()Ljava/lang/Object;" } : Jvm.MethodName)) ∈ lw_tbl := lw_at lw_m7 83 rfl
theorem q1594 : (Jvm.Cond.code ({ cls := "java/util/LinkedList$ListItr", name := "next", desc := "()Ljava/lang/Object;" } : Jvm.MethodName) prog_58_method_3_code (1 : Nat) (Option.some (Jvm.ClassFile.FieldType.object "java/lang/Object"))) ∈ lw_all := lw_g (lw_at lw_m7 84 rfl) rfl
theorem q1595 : (Jvm.Cond.methodLink "java/util/LinkedList$ListItr" (39 : Nat) ({ cls := "java/util/LinkedList$ListItr", name := "hasNext", desc := "()Z" } : Jvm.MethodName)) ∈ lw_all := lw_g (lw_at lw_m7 85 rfl) rfl
theorem q2215 : (Jvm.Cond.instanceMethod ({ cls := "java/util/LinkedList$ListItr", name := "remove", desc := "()V" } : Jvm.MethodName)) ∈ lw_all := lw_g (lw_at lw_m9 225 rfl) rfl
theorem q2216 : (Jvm.Cond.selects "java/util/LinkedList$ListItr" ({ cls := "java/util/LinkedList$ListItr", name := "remove", desc := "()V" } : Jvm.MethodName) ({ cls := "java/util/LinkedList$ListItr", name := "remove", desc := "()V" } : Jvm.MethodName)) ∈ lw_all := lw_g (lw_at lw_m9 226 rfl) rfl
theorem q2217 : (Jvm.Cond.code ({ cls := "java/util/LinkedList$ListItr", name := "remove", desc := "()V" } : Jvm.MethodName) prog_58_method_8_code (2 : Nat) (Option.none : Option Jvm.ClassFile.FieldType)) ∈ lw_all := lw_g (lw_at lw_m9 227 rfl) rfl
theorem q2218 : (Jvm.Cond.classLink "java/util/LinkedList$ListItr" (65 : Nat) "java/lang/IllegalStateException") ∈ lw_all := lw_g (lw_at lw_m9 228 rfl) rfl
theorem q2219 : (Jvm.Cond.methodLink "java/util/LinkedList$ListItr" (67 : Nat) ({ cls := "java/lang/IllegalStateException", name := "<init>", desc := "()V" } : Jvm.MethodName)) ∈ lw_all := lw_g (lw_at lw_m9 229 rfl) rfl
theorem q2220 : (Jvm.Cond.methodLink "java/util/LinkedList$ListItr" (68 : Nat) ({ cls := "java/util/LinkedList", name := "unlink", desc := "(Ljava/util/LinkedList$Node;)Ljava/lang/Object;" } : Jvm.MethodName)) ∈ lw_all := lw_g (lw_at lw_m9 230 rfl) rfl
theorem q2221 : (Jvm.Cond.selects "java/util/LinkedList$ListItr" ({ cls := "java/util/Iterator", name := "remove", desc := "()V" } : Jvm.MethodName) ({ cls := "java/util/LinkedList$ListItr", name := "remove", desc := "()V" } : Jvm.MethodName)) ∈ lw_all := lw_g (lw_at lw_m9 231 rfl) rfl
theorem q2222 : (Jvm.Cond.unhidden "java/util/LinkedList$ListItr" "remove" "()V") ∈ lw_tbl := lw_at lw_m9 232 rfl
theorem q2223 : (Jvm.Cond.publicMethod ({ cls := "java/util/LinkedList$ListItr", name := "remove", desc := "()V" } : Jvm.MethodName)) ∈ lw_tbl := lw_at lw_m9 233 rfl
theorem q3042 : (Jvm.Cond.selects "java/util/LinkedList$ListItr" ({ cls := "java/util/LinkedList$ListItr", name := "hasNext", desc := "()Z" } : Jvm.MethodName) ({ cls := "java/util/LinkedList$ListItr", name := "hasNext", desc := "()Z" } : Jvm.MethodName)) ∈ lw_all := lw_g (lw_at lw_m13 92 rfl) rfl
theorem q3069 : (Jvm.Cond.castable "java/util/LinkedList$ListItr" "java/lang/Object") ∈ lw_tbl := lw_at lw_m13 119 rfl
theorem in_J29 : ∀ w ∈ wsJ290, w ∈ lw_all := lw_in wsJ290 [1434, 1436, 1438, 1440, 1442] (by decide +kernel) (by decide +kernel)
/-! java/lang/Object -/
set_option maxRecDepth 100000
def RJ35 : String := "java/lang/Object"
abbrev cJ35_init : ByteArray := object_method_1_code
def yJ35_init : MethodName := ⟨RJ35, "<init>", "()V"⟩
theorem dJ35_init_0 : decode cJ35_init 0 = .ok (.return_, 1) := by decide +kernel
theorem q128 : (Jvm.Cond.instanceMethod ({ cls := "java/lang/Object", name := "<init>", desc := "()V" } : Jvm.MethodName)) ∈ lw_all := lw_g (lw_at lw_m1 58 rfl) rfl
theorem q129 : (Jvm.Cond.code ({ cls := "java/lang/Object", name := "<init>", desc := "()V" } : Jvm.MethodName) object_method_1_code (1 : Nat) (Option.none : Option Jvm.ClassFile.FieldType)) ∈ lw_all := lw_g (lw_at lw_m1 59 rfl) rfl
theorem q266 : (Jvm.Cond.native ({ cls := "java/lang/Object", name := "clone", desc := "()Ljava/lang/Object;" } : Jvm.MethodName)) ∈ lw_all := lw_g (lw_at lw_m1 196 rfl) rfl
theorem q267 : (Jvm.Cond.instanceMethod ({ cls := "java/lang/Object", name := "clone", desc := "()Ljava/lang/Object;" } : Jvm.MethodName)) ∈ lw_all := lw_g (lw_at lw_m1 197 rfl) rfl
theorem q895 : (Jvm.Cond.instanceMethod ({ cls := "java/lang/Object", name := "getClass", desc := "()Ljava/lang/Class;" } : Jvm.MethodName)) ∈ lw_all := lw_g (lw_at lw_m4 105 rfl) rfl
theorem q896 : (Jvm.Cond.sameMethod "java/lang/Object" "java/lang/Object" "getClass" "()Ljava/lang/Class;") ∈ lw_all := lw_g (lw_at lw_m4 106 rfl) rfl
theorem q928 : (Jvm.Cond.native ({ cls := "java/lang/Object", name := "getClass", desc := "()Ljava/lang/Class;" } : Jvm.MethodName)) ∈ lw_all := lw_g (lw_at lw_m4 138 rfl) rfl
theorem q3044 : (Jvm.Cond.sameMethod "java/lang/Object" "java/lang/Object" "clone" "()Ljava/lang/Object;") ∈ lw_all := lw_g (lw_at lw_m13 94 rfl) rfl
theorem q3045 : (Jvm.Cond.initialized "java/lang/Object") ∈ lw_all := lw_g (lw_at lw_m13 95 rfl) rfl
theorem q3080 : (Jvm.Cond.noSuperclass "java/lang/Object") ∈ lw_all := lw_g (lw_at lw_m13 130 rfl) rfl
theorem q3083 : (Jvm.Cond.declares ({ cls := "java/lang/Object", name := "getClass", desc := "()Ljava/lang/Class;" } : Jvm.MethodName)) ∈ lw_tbl := lw_at lw_m13 133 rfl
theorem q265 : (Jvm.Cond.sameMethod "[B" "java/lang/Object" "clone" "()Ljava/lang/Object;") ∈ lw_all := lw_g (lw_at lw_m1 195 rfl) rfl
set_option maxRecDepth 100000
theorem q268 : (Jvm.Cond.selects "[B" ({ cls := "[B", name := "clone", desc := "()Ljava/lang/Object;" } : Jvm.MethodName) ({ cls := "java/lang/Object", name := "clone", desc := "()Ljava/lang/Object;" } : Jvm.MethodName)) ∈ lw_all := lw_g (lw_at lw_m1 198 rfl) rfl
theorem q269 : (Jvm.Cond.castable "[B" "java/lang/Cloneable") ∈ lw_tbl := lw_at lw_m1 199 rfl
theorem q3086 : (Jvm.Cond.castable "[B" "java/lang/Object") ∈ lw_tbl := lw_at lw_m13 136 rfl
theorem q1611 : (Jvm.Cond.sameMethod "[I" "java/lang/Object" "clone" "()Ljava/lang/Object;") ∈ lw_all := lw_g (lw_at lw_m7 101 rfl) rfl
set_option maxRecDepth 100000
theorem q1612 : (Jvm.Cond.selects "[I" ({ cls := "[I", name := "clone", desc := "()Ljava/lang/Object;" } : Jvm.MethodName) ({ cls := "java/lang/Object", name := "clone", desc := "()Ljava/lang/Object;" } : Jvm.MethodName)) ∈ lw_all := lw_g (lw_at lw_m7 102 rfl) rfl
theorem q1613 : (Jvm.Cond.castable "[I" "java/lang/Cloneable") ∈ lw_tbl := lw_at lw_m7 103 rfl
theorem q3088 : (Jvm.Cond.castable "[I" "java/lang/Object") ∈ lw_tbl := lw_at lw_m13 138 rfl
theorem q637 : (Jvm.Cond.sameMethod "[J" "java/lang/Object" "clone" "()Ljava/lang/Object;") ∈ lw_all := lw_g (lw_at lw_m3 87 rfl) rfl
set_option maxRecDepth 100000
theorem q638 : (Jvm.Cond.selects "[J" ({ cls := "[J", name := "clone", desc := "()Ljava/lang/Object;" } : Jvm.MethodName) ({ cls := "java/lang/Object", name := "clone", desc := "()Ljava/lang/Object;" } : Jvm.MethodName)) ∈ lw_all := lw_g (lw_at lw_m3 88 rfl) rfl
theorem q639 : (Jvm.Cond.castable "[J" "java/lang/Cloneable") ∈ lw_tbl := lw_at lw_m3 89 rfl
theorem q3089 : (Jvm.Cond.castable "[J" "java/lang/Object") ∈ lw_tbl := lw_at lw_m13 139 rfl
theorem q3084 : (Jvm.Cond.castable "[LKeyringCourt$Person;" "java/lang/Object") ∈ lw_tbl := lw_at lw_m13 134 rfl
set_option maxRecDepth 100000
theorem q3087 : (Jvm.Cond.castable "[LKeyringCourt$Service;" "java/lang/Object") ∈ lw_tbl := lw_at lw_m13 137 rfl
set_option maxRecDepth 100000
theorem q3081 : (Jvm.Cond.sameMethod "[Ljava/lang/Object;" "java/lang/Object" "getClass" "()Ljava/lang/Class;") ∈ lw_all := lw_g (lw_at lw_m13 131 rfl) rfl
set_option maxRecDepth 100000
theorem q3082 : (Jvm.Cond.selects "[Ljava/lang/Object;" ({ cls := "java/lang/Object", name := "getClass", desc := "()Ljava/lang/Class;" } : Jvm.MethodName) ({ cls := "java/lang/Object", name := "getClass", desc := "()Ljava/lang/Class;" } : Jvm.MethodName)) ∈ lw_all := lw_g (lw_at lw_m13 132 rfl) rfl
theorem q3085 : (Jvm.Cond.castable "[Ljava/lang/Object;" "java/lang/Object") ∈ lw_tbl := lw_at lw_m13 135 rfl
theorem q3090 : (Jvm.Cond.castable "[Z" "java/lang/Object") ∈ lw_tbl := lw_at lw_m13 140 rfl
set_option maxRecDepth 100000
theorem q107 : (Jvm.Cond.initialized "java/lang/Integer$IntegerCache") ∈ lw_all := lw_g (lw_at lw_m1 37 rfl) rfl
set_option maxRecDepth 100000
theorem q1245 : (Jvm.Cond.laysStatic "java/lang/Integer$IntegerCache" "high" "I") ∈ lw_tbl := lw_at lw_m5 215 rfl
theorem q1247 : (Jvm.Cond.laysStatic "java/lang/Integer$IntegerCache" "cache" "[Ljava/lang/Integer;") ∈ lw_tbl := lw_at lw_m5 217 rfl
theorem q87 : (Jvm.Cond.initialized "java/lang/System") ∈ lw_all := lw_g (lw_at lw_m1 17 rfl) rfl
set_option maxRecDepth 100000
theorem q275 : (Jvm.Cond.static ({ cls := "java/lang/System", name := "arraycopy", desc := "(Ljava/lang/Object;ILjava/lang/Object;II)V" } : Jvm.MethodName)) ∈ lw_all := lw_g (lw_at lw_m1 205 rfl) rfl
theorem q276 : (Jvm.Cond.native ({ cls := "java/lang/System", name := "arraycopy", desc := "(Ljava/lang/Object;ILjava/lang/Object;II)V" } : Jvm.MethodName)) ∈ lw_all := lw_g (lw_at lw_m1 206 rfl) rfl
theorem q117 : (Jvm.Cond.initialized "java/util/AbstractList$ListItr") ∈ lw_all := lw_g (lw_at lw_m1 47 rfl) rfl
set_option maxRecDepth 100000
theorem q917 : (Jvm.Cond.selects "java/util/AbstractList$ListItr" ({ cls := "java/lang/Object", name := "getClass", desc := "()Ljava/lang/Class;" } : Jvm.MethodName) ({ cls := "java/lang/Object", name := "getClass", desc := "()Ljava/lang/Class;" } : Jvm.MethodName)) ∈ lw_all := lw_g (lw_at lw_m4 127 rfl) rfl
theorem q1456 : (Jvm.Cond.castable "java/util/AbstractList$ListItr" "java/util/Iterator") ∈ lw_tbl := lw_at lw_m6 186 rfl
theorem q1457 : (Jvm.Cond.selects "java/util/AbstractList$ListItr" ({ cls := "java/util/Iterator", name := "hasNext", desc := "()Z" } : Jvm.MethodName) ({ cls := "java/util/AbstractList$Itr", name := "hasNext", desc := "()Z" } : Jvm.MethodName)) ∈ lw_all := lw_g (lw_at lw_m6 187 rfl) rfl
theorem q1458 : (Jvm.Cond.unhidden "java/util/AbstractList$ListItr" "hasNext" "()Z") ∈ lw_tbl := lw_at lw_m6 188 rfl
theorem q1492 : (Jvm.Cond.selects "java/util/AbstractList$ListItr" ({ cls := "java/util/Iterator", name := "next", desc := "()Ljava/lang/Object;" } : Jvm.MethodName) ({ cls := "java/util/AbstractList$Itr", name := "next", desc := "()Ljava/lang/Object;" } : Jvm.MethodName)) ∈ lw_all := lw_g (lw_at lw_m6 222 rfl) rfl
theorem q1493 : (Jvm.Cond.unhidden "java/util/AbstractList$ListItr" "next" "()Ljava/lang/Object;") ∈ lw_tbl := lw_at lw_m6 223 rfl
theorem q1500 : (Jvm.Cond.selects "java/util/AbstractList$ListItr" ({ cls := "java/util/AbstractList$Itr", name := "checkForComodification", desc := "()V" } : Jvm.MethodName) ({ cls := "java/util/AbstractList$Itr", name := "checkForComodification", desc := "()V" } : Jvm.MethodName)) ∈ lw_all := lw_g (lw_at lw_m6 230 rfl) rfl
theorem q2158 : (Jvm.Cond.selects "java/util/AbstractList$ListItr" ({ cls := "java/util/Iterator", name := "remove", desc := "()V" } : Jvm.MethodName) ({ cls := "java/util/AbstractList$Itr", name := "remove", desc := "()V" } : Jvm.MethodName)) ∈ lw_all := lw_g (lw_at lw_m9 168 rfl) rfl
theorem q2159 : (Jvm.Cond.unhidden "java/util/AbstractList$ListItr" "remove" "()V") ∈ lw_tbl := lw_at lw_m9 169 rfl
theorem q3074 : (Jvm.Cond.castable "java/util/AbstractList$ListItr" "java/lang/Object") ∈ lw_tbl := lw_at lw_m13 124 rfl
theorem q3095 : (Jvm.Cond.fieldLink "java/util/AbstractList$ListItr" (1 : Nat) "java/util/AbstractList$ListItr" "this$0" "Ljava/util/AbstractList;") ∈ lw_all := lw_g (lw_at lw_m13 145 rfl) rfl
theorem q3096 : (Jvm.Cond.fieldLink "java/util/AbstractList$ListItr" (13 : Nat) "java/util/AbstractList$ListItr" "cursor" "I") ∈ lw_all := lw_g (lw_at lw_m13 146 rfl) rfl
theorem q3097 : (Jvm.Cond.sameField "java/util/AbstractList$ListItr" "java/util/AbstractList$Itr" "cursor" "I") ∈ lw_all := lw_g (lw_at lw_m13 147 rfl) rfl
theorem q1299 : (Jvm.Cond.publicMethod ({ cls := "java/util/Collection", name := "isEmpty", desc := "()Z" } : Jvm.MethodName)) ∈ lw_tbl := lw_at lw_m6 29 rfl
set_option maxRecDepth 100000
theorem q1300 : (Jvm.Cond.declares ({ cls := "java/util/Collection", name := "isEmpty", desc := "()Z" } : Jvm.MethodName)) ∈ lw_tbl := lw_at lw_m6 30 rfl
theorem q1263 : (Jvm.Cond.interfaceMethod "java/util/Deque" "java/util/Deque" "add" "(Ljava/lang/Object;)Z") ∈ lw_tbl := lw_at lw_m5 233 rfl
set_option maxRecDepth 100000
theorem q1264 : (Jvm.Cond.declares ({ cls := "java/util/Deque", name := "add", desc := "(Ljava/lang/Object;)Z" } : Jvm.MethodName)) ∈ lw_tbl := lw_at lw_m5 234 rfl
theorem q1309 : (Jvm.Cond.interfaceMethod "java/util/Deque" "java/util/Deque" "poll" "()Ljava/lang/Object;") ∈ lw_tbl := lw_at lw_m6 39 rfl
theorem q1310 : (Jvm.Cond.declares ({ cls := "java/util/Deque", name := "poll", desc := "()Ljava/lang/Object;" } : Jvm.MethodName)) ∈ lw_tbl := lw_at lw_m6 40 rfl
theorem q1454 : (Jvm.Cond.interfaceMethod "java/util/Iterator" "java/util/Iterator" "hasNext" "()Z") ∈ lw_tbl := lw_at lw_m6 184 rfl
set_option maxRecDepth 100000
theorem q1455 : (Jvm.Cond.declares ({ cls := "java/util/Iterator", name := "hasNext", desc := "()Z" } : Jvm.MethodName)) ∈ lw_tbl := lw_at lw_m6 185 rfl
theorem q1490 : (Jvm.Cond.interfaceMethod "java/util/Iterator" "java/util/Iterator" "next" "()Ljava/lang/Object;") ∈ lw_tbl := lw_at lw_m6 220 rfl
theorem q1491 : (Jvm.Cond.declares ({ cls := "java/util/Iterator", name := "next", desc := "()Ljava/lang/Object;" } : Jvm.MethodName)) ∈ lw_tbl := lw_at lw_m6 221 rfl
theorem q2156 : (Jvm.Cond.interfaceMethod "java/util/Iterator" "java/util/Iterator" "remove" "()V") ∈ lw_tbl := lw_at lw_m9 166 rfl
theorem q2157 : (Jvm.Cond.declares ({ cls := "java/util/Iterator", name := "remove", desc := "()V" } : Jvm.MethodName)) ∈ lw_tbl := lw_at lw_m9 167 rfl
theorem q768 : (Jvm.Cond.interfaceMethod "java/util/List" "java/util/List" "size" "()I") ∈ lw_tbl := lw_at lw_m3 218 rfl
set_option maxRecDepth 100000
theorem q769 : (Jvm.Cond.declares ({ cls := "java/util/List", name := "size", desc := "()I" } : Jvm.MethodName)) ∈ lw_tbl := lw_at lw_m3 219 rfl
theorem q871 : (Jvm.Cond.interfaceMethod "java/util/List" "java/util/List" "add" "(Ljava/lang/Object;)Z") ∈ lw_tbl := lw_at lw_m4 81 rfl
theorem q872 : (Jvm.Cond.declares ({ cls := "java/util/List", name := "add", desc := "(Ljava/lang/Object;)Z" } : Jvm.MethodName)) ∈ lw_tbl := lw_at lw_m4 82 rfl
theorem q993 : (Jvm.Cond.interfaceMethod "java/util/List" "java/util/List" "get" "(I)Ljava/lang/Object;") ∈ lw_tbl := lw_at lw_m4 203 rfl
theorem q994 : (Jvm.Cond.declares ({ cls := "java/util/List", name := "get", desc := "(I)Ljava/lang/Object;" } : Jvm.MethodName)) ∈ lw_tbl := lw_at lw_m4 204 rfl
theorem q1182 : (Jvm.Cond.interfaceMethod "java/util/List" "java/util/List" "isEmpty" "()Z") ∈ lw_tbl := lw_at lw_m5 152 rfl
theorem q1183 : (Jvm.Cond.declares ({ cls := "java/util/List", name := "isEmpty", desc := "()Z" } : Jvm.MethodName)) ∈ lw_tbl := lw_at lw_m5 153 rfl
theorem q131 : (Jvm.Cond.arrayOver (Jvm.ClassFile.FieldType.object "KeyringCourt$Person")) ∈ lw_tbl := lw_at lw_m1 61 rfl
set_option maxRecDepth 100000
theorem q151 : (Jvm.Cond.arrayOver (Jvm.ClassFile.FieldType.object "java/lang/Object")) ∈ lw_tbl := lw_at lw_m1 81 rfl
theorem q229 : (Jvm.Cond.arrayClass Jvm.ClassFile.FieldType.byte) ∈ lw_all := lw_g (lw_at lw_m1 159 rfl) rfl
theorem q502 : (Jvm.Cond.arrayOver (Jvm.ClassFile.FieldType.object "KeyringCourt$Service")) ∈ lw_tbl := lw_at lw_m2 192 rfl
theorem q526 : (Jvm.Cond.arrayClass Jvm.ClassFile.FieldType.int) ∈ lw_all := lw_g (lw_at lw_m2 216 rfl) rfl
theorem q527 : (Jvm.Cond.arrayClass Jvm.ClassFile.FieldType.long) ∈ lw_all := lw_g (lw_at lw_m2 217 rfl) rfl
theorem q2666 : (Jvm.Cond.arrayClass Jvm.ClassFile.FieldType.boolean) ∈ lw_all := lw_g (lw_at lw_m11 196 rfl) rfl
