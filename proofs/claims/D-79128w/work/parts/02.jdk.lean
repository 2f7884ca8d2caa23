/-! DECODE ROWS BY BYTES: one lemma an opcode; a method's code is cut into short pieces once, and a row reads its own piece alone. -/
set_option maxRecDepth 100000
/-- the code has just these bytes from pc on -/
def DkAt (code : ByteArray) (pc : Nat) (bs : List UInt8) : Prop := ∀ (j : Nat) (b : UInt8), bs[j]? = some b → code.data.toList[pc + j]? = some b
/-- the piece W has the bytes bs from its place j on -/
def dkIn (W : List UInt8) (j : Nat) (bs : List UInt8) : Bool := decide ((W.drop j).take bs.length = bs)
theorem dk_seg {l W T : List UInt8} {o o2 : Nat} (h : l.drop o = W ++ T) (n : Nat) (hn : W.length = n) (ho : o + n = o2) : l.drop o2 = T := by
  subst ho
  rw [← List.drop_drop, h, List.drop_left' hn]
theorem dk_at {code : ByteArray} {W T bs : List UInt8} {o pc : Nat} (h : code.data.toList.drop o = W ++ T) (j : Nat) (hp : o + j = pc) (hw : dkIn W j bs = true) : DkAt code pc bs := by
  subst hp
  intro i b e
  have h1 := of_decide_eq_true hw
  have h2 : i < bs.length := (List.getElem?_eq_some_iff.mp e).1
  have h3 : W[j + i]? = some b := by
    rw [← h1, List.getElem?_take, if_pos h2, List.getElem?_drop] at e
    exact e
  have h4 : j + i < W.length := (List.getElem?_eq_some_iff.mp h3).1
  have h5 : (code.data.toList.drop o)[j + i]? = some b := by
    rw [h, List.getElem?_append_left h4]
    exact h3
  rw [List.getElem?_drop, ← Nat.add_assoc] at h5
  exact h5
theorem dk_u1 {A : ByteArray} {p : Nat} {b : UInt8} (h : A.data.toList[p]? = some b) : (Reader.u1 : Reader DecodeError Nat) A p = .ok (b.toNat, p + 1) := by
  obtain ⟨h1, h2⟩ := List.getElem?_eq_some_iff.mp h
  have h3 : p < A.size := by simpa using h1
  have h4 : A[p]'h3 = b := h2
  have e : (Reader.u1 : Reader DecodeError Nat) A p = (if h : p < A.size then .ok (A[p].toNat, p + 1) else .error (HasTruncated.truncated p)) := by
    show (do if h : p < A.size then do set (p + 1); Pure.pure A[p].toNat else MonadExcept.throw (HasTruncated.truncated p) : Reader DecodeError Nat) A p = _
    by_cases hi : p < A.size
    · rw [dif_pos hi, dif_pos hi]; rfl
    · rw [dif_neg hi, dif_neg hi]; rfl
  rw [e, dif_pos h3, h4]
theorem dk_bind {α β : Type} {r : Reader DecodeError α} {f : α → Reader DecodeError β} {A : ByteArray} {p s : Nat} {a : α} (h : r A p = .ok (a, s)) : (r >>= f) A p = f a A s := by
  show (do let (a, s) ← r A p; f a A s : Except DecodeError (β × Nat)) = _
  rw [h]
  rfl
theorem dk_map {α β : Type} {r : Reader DecodeError α} {g : α → β} {A : ByteArray} {p s : Nat} {a : α} (h : r A p = .ok (a, s)) : (g <$> r) A p = .ok (g a, s) := by
  show (do let (a, s) ← r A p; .ok (g a, s) : Except DecodeError (β × Nat)) = _
  rw [h]
  rfl
theorem dk_u2 {A : ByteArray} {p : Nat} {a b : UInt8} (h : A.data.toList[p]? = some a) (h2 : A.data.toList[p + 1]? = some b) : (Reader.u2 : Reader DecodeError Nat) A p = .ok (a.toNat * 256 + b.toNat, p + 2) := by
  show (Reader.u1 >>= fun hi => Reader.u1 >>= fun lo => Pure.pure (hi * 256 + lo) : Reader DecodeError Nat) A p = _
  rw [dk_bind (dk_u1 h), dk_bind (dk_u1 h2)]
  rfl
theorem dk_of {code : ByteArray} {pc n : Nat} {i : Instr} (h : Decoder.instr pc code pc = .ok (i, pc + n)) : decode code pc = .ok (i, n) := by
  have e : decode code pc = (match Decoder.instr pc code pc with | .error x => .error x | .ok (j, s) => .ok (j, s - pc)) := by
    show (do let (j, s) ← Decoder.instr pc code pc; Pure.pure (j, s - pc) : Except DecodeError (Instr × Nat)) = _
    cases Decoder.instr pc code pc <;> rfl
  rw [e, h]
  show Except.ok (i, pc + n - pc) = _
  rw [Nat.add_sub_cancel_left]
theorem dk_1 {code : ByteArray} {pc : Nat} (h : DkAt code pc [1]) : decode code pc = .ok (.aconst_null, 1) := dk_of ((dk_bind (dk_u1 (h 0 _ rfl))).trans rfl)
theorem dk_2 {code : ByteArray} {pc : Nat} (h : DkAt code pc [2]) : decode code pc = .ok (.iconst (-1), 1) := dk_of ((dk_bind (dk_u1 (h 0 _ rfl))).trans rfl)
theorem dk_3 {code : ByteArray} {pc : Nat} (h : DkAt code pc [3]) : decode code pc = .ok (.iconst 0, 1) := dk_of ((dk_bind (dk_u1 (h 0 _ rfl))).trans rfl)
theorem dk_4 {code : ByteArray} {pc : Nat} (h : DkAt code pc [4]) : decode code pc = .ok (.iconst 1, 1) := dk_of ((dk_bind (dk_u1 (h 0 _ rfl))).trans rfl)
theorem dk_5 {code : ByteArray} {pc : Nat} (h : DkAt code pc [5]) : decode code pc = .ok (.iconst 2, 1) := dk_of ((dk_bind (dk_u1 (h 0 _ rfl))).trans rfl)
theorem dk_6 {code : ByteArray} {pc : Nat} (h : DkAt code pc [6]) : decode code pc = .ok (.iconst 3, 1) := dk_of ((dk_bind (dk_u1 (h 0 _ rfl))).trans rfl)
theorem dk_7 {code : ByteArray} {pc : Nat} (h : DkAt code pc [7]) : decode code pc = .ok (.iconst 4, 1) := dk_of ((dk_bind (dk_u1 (h 0 _ rfl))).trans rfl)
theorem dk_8 {code : ByteArray} {pc : Nat} (h : DkAt code pc [8]) : decode code pc = .ok (.iconst 5, 1) := dk_of ((dk_bind (dk_u1 (h 0 _ rfl))).trans rfl)
theorem dk_14 {code : ByteArray} {pc : Nat} (h : DkAt code pc [14]) : decode code pc = .ok (.dconst 0, 1) := dk_of ((dk_bind (dk_u1 (h 0 _ rfl))).trans rfl)
theorem dk_16 {code : ByteArray} {pc : Nat} (a : UInt8) (h : DkAt code pc [16, a]) : decode code pc = .ok (.bipush (Reader.signed 8 a.toNat), 2) := dk_of ((dk_bind (dk_u1 (h 0 _ rfl))).trans ((dk_bind (dk_map (dk_u1 (h 1 _ rfl)))).trans rfl))
theorem dk_17 {code : ByteArray} {pc : Nat} (a b : UInt8) (h : DkAt code pc [17, a, b]) : decode code pc = .ok (.sipush (Reader.signed 16 (a.toNat * 256 + b.toNat)), 3) := dk_of ((dk_bind (dk_u1 (h 0 _ rfl))).trans ((dk_bind (dk_map (dk_u2 (h 1 _ rfl) (h 2 _ rfl)))).trans rfl))
theorem dk_18 {code : ByteArray} {pc : Nat} (a : UInt8) (h : DkAt code pc [18, a]) : decode code pc = .ok (.ldc a.toNat, 2) := dk_of ((dk_bind (dk_u1 (h 0 _ rfl))).trans ((dk_bind (dk_u1 (h 1 _ rfl))).trans rfl))
theorem dk_19 {code : ByteArray} {pc : Nat} (a b : UInt8) (h : DkAt code pc [19, a, b]) : decode code pc = .ok (.ldc_w (a.toNat * 256 + b.toNat), 3) := dk_of ((dk_bind (dk_u1 (h 0 _ rfl))).trans ((dk_bind (dk_u2 (h 1 _ rfl) (h 2 _ rfl))).trans rfl))
theorem dk_21 {code : ByteArray} {pc : Nat} (a : UInt8) (h : DkAt code pc [21, a]) : decode code pc = .ok (.iload a.toNat, 2) := dk_of ((dk_bind (dk_u1 (h 0 _ rfl))).trans ((dk_bind (dk_u1 (h 1 _ rfl))).trans rfl))
theorem dk_24 {code : ByteArray} {pc : Nat} (a : UInt8) (h : DkAt code pc [24, a]) : decode code pc = .ok (.dload a.toNat, 2) := dk_of ((dk_bind (dk_u1 (h 0 _ rfl))).trans ((dk_bind (dk_u1 (h 1 _ rfl))).trans rfl))
theorem dk_25 {code : ByteArray} {pc : Nat} (a : UInt8) (h : DkAt code pc [25, a]) : decode code pc = .ok (.aload a.toNat, 2) := dk_of ((dk_bind (dk_u1 (h 0 _ rfl))).trans ((dk_bind (dk_u1 (h 1 _ rfl))).trans rfl))
theorem dk_26 {code : ByteArray} {pc : Nat} (h : DkAt code pc [26]) : decode code pc = .ok (.iload_n 0, 1) := dk_of ((dk_bind (dk_u1 (h 0 _ rfl))).trans rfl)
theorem dk_27 {code : ByteArray} {pc : Nat} (h : DkAt code pc [27]) : decode code pc = .ok (.iload_n 1, 1) := dk_of ((dk_bind (dk_u1 (h 0 _ rfl))).trans rfl)
theorem dk_28 {code : ByteArray} {pc : Nat} (h : DkAt code pc [28]) : decode code pc = .ok (.iload_n 2, 1) := dk_of ((dk_bind (dk_u1 (h 0 _ rfl))).trans rfl)
theorem dk_29 {code : ByteArray} {pc : Nat} (h : DkAt code pc [29]) : decode code pc = .ok (.iload_n 3, 1) := dk_of ((dk_bind (dk_u1 (h 0 _ rfl))).trans rfl)
theorem dk_42 {code : ByteArray} {pc : Nat} (h : DkAt code pc [42]) : decode code pc = .ok (.aload_n 0, 1) := dk_of ((dk_bind (dk_u1 (h 0 _ rfl))).trans rfl)
theorem dk_43 {code : ByteArray} {pc : Nat} (h : DkAt code pc [43]) : decode code pc = .ok (.aload_n 1, 1) := dk_of ((dk_bind (dk_u1 (h 0 _ rfl))).trans rfl)
theorem dk_44 {code : ByteArray} {pc : Nat} (h : DkAt code pc [44]) : decode code pc = .ok (.aload_n 2, 1) := dk_of ((dk_bind (dk_u1 (h 0 _ rfl))).trans rfl)
theorem dk_45 {code : ByteArray} {pc : Nat} (h : DkAt code pc [45]) : decode code pc = .ok (.aload_n 3, 1) := dk_of ((dk_bind (dk_u1 (h 0 _ rfl))).trans rfl)
theorem dk_46 {code : ByteArray} {pc : Nat} (h : DkAt code pc [46]) : decode code pc = .ok (.iaload, 1) := dk_of ((dk_bind (dk_u1 (h 0 _ rfl))).trans rfl)
theorem dk_47 {code : ByteArray} {pc : Nat} (h : DkAt code pc [47]) : decode code pc = .ok (.laload, 1) := dk_of ((dk_bind (dk_u1 (h 0 _ rfl))).trans rfl)
theorem dk_49 {code : ByteArray} {pc : Nat} (h : DkAt code pc [49]) : decode code pc = .ok (.daload, 1) := dk_of ((dk_bind (dk_u1 (h 0 _ rfl))).trans rfl)
theorem dk_50 {code : ByteArray} {pc : Nat} (h : DkAt code pc [50]) : decode code pc = .ok (.aaload, 1) := dk_of ((dk_bind (dk_u1 (h 0 _ rfl))).trans rfl)
theorem dk_51 {code : ByteArray} {pc : Nat} (h : DkAt code pc [51]) : decode code pc = .ok (.baload, 1) := dk_of ((dk_bind (dk_u1 (h 0 _ rfl))).trans rfl)
theorem dk_52 {code : ByteArray} {pc : Nat} (h : DkAt code pc [52]) : decode code pc = .ok (.caload, 1) := dk_of ((dk_bind (dk_u1 (h 0 _ rfl))).trans rfl)
theorem dk_53 {code : ByteArray} {pc : Nat} (h : DkAt code pc [53]) : decode code pc = .ok (.saload, 1) := dk_of ((dk_bind (dk_u1 (h 0 _ rfl))).trans rfl)
theorem dk_54 {code : ByteArray} {pc : Nat} (a : UInt8) (h : DkAt code pc [54, a]) : decode code pc = .ok (.istore a.toNat, 2) := dk_of ((dk_bind (dk_u1 (h 0 _ rfl))).trans ((dk_bind (dk_u1 (h 1 _ rfl))).trans rfl))
theorem dk_57 {code : ByteArray} {pc : Nat} (a : UInt8) (h : DkAt code pc [57, a]) : decode code pc = .ok (.dstore a.toNat, 2) := dk_of ((dk_bind (dk_u1 (h 0 _ rfl))).trans ((dk_bind (dk_u1 (h 1 _ rfl))).trans rfl))
theorem dk_58 {code : ByteArray} {pc : Nat} (a : UInt8) (h : DkAt code pc [58, a]) : decode code pc = .ok (.astore a.toNat, 2) := dk_of ((dk_bind (dk_u1 (h 0 _ rfl))).trans ((dk_bind (dk_u1 (h 1 _ rfl))).trans rfl))
theorem dk_59 {code : ByteArray} {pc : Nat} (h : DkAt code pc [59]) : decode code pc = .ok (.istore_n 0, 1) := dk_of ((dk_bind (dk_u1 (h 0 _ rfl))).trans rfl)
theorem dk_60 {code : ByteArray} {pc : Nat} (h : DkAt code pc [60]) : decode code pc = .ok (.istore_n 1, 1) := dk_of ((dk_bind (dk_u1 (h 0 _ rfl))).trans rfl)
theorem dk_61 {code : ByteArray} {pc : Nat} (h : DkAt code pc [61]) : decode code pc = .ok (.istore_n 2, 1) := dk_of ((dk_bind (dk_u1 (h 0 _ rfl))).trans rfl)
theorem dk_62 {code : ByteArray} {pc : Nat} (h : DkAt code pc [62]) : decode code pc = .ok (.istore_n 3, 1) := dk_of ((dk_bind (dk_u1 (h 0 _ rfl))).trans rfl)
theorem dk_76 {code : ByteArray} {pc : Nat} (h : DkAt code pc [76]) : decode code pc = .ok (.astore_n 1, 1) := dk_of ((dk_bind (dk_u1 (h 0 _ rfl))).trans rfl)
theorem dk_77 {code : ByteArray} {pc : Nat} (h : DkAt code pc [77]) : decode code pc = .ok (.astore_n 2, 1) := dk_of ((dk_bind (dk_u1 (h 0 _ rfl))).trans rfl)
theorem dk_78 {code : ByteArray} {pc : Nat} (h : DkAt code pc [78]) : decode code pc = .ok (.astore_n 3, 1) := dk_of ((dk_bind (dk_u1 (h 0 _ rfl))).trans rfl)
theorem dk_79 {code : ByteArray} {pc : Nat} (h : DkAt code pc [79]) : decode code pc = .ok (.iastore, 1) := dk_of ((dk_bind (dk_u1 (h 0 _ rfl))).trans rfl)
theorem dk_80 {code : ByteArray} {pc : Nat} (h : DkAt code pc [80]) : decode code pc = .ok (.lastore, 1) := dk_of ((dk_bind (dk_u1 (h 0 _ rfl))).trans rfl)
theorem dk_82 {code : ByteArray} {pc : Nat} (h : DkAt code pc [82]) : decode code pc = .ok (.dastore, 1) := dk_of ((dk_bind (dk_u1 (h 0 _ rfl))).trans rfl)
theorem dk_83 {code : ByteArray} {pc : Nat} (h : DkAt code pc [83]) : decode code pc = .ok (.aastore, 1) := dk_of ((dk_bind (dk_u1 (h 0 _ rfl))).trans rfl)
theorem dk_84 {code : ByteArray} {pc : Nat} (h : DkAt code pc [84]) : decode code pc = .ok (.bastore, 1) := dk_of ((dk_bind (dk_u1 (h 0 _ rfl))).trans rfl)
theorem dk_87 {code : ByteArray} {pc : Nat} (h : DkAt code pc [87]) : decode code pc = .ok (.pop, 1) := dk_of ((dk_bind (dk_u1 (h 0 _ rfl))).trans rfl)
theorem dk_89 {code : ByteArray} {pc : Nat} (h : DkAt code pc [89]) : decode code pc = .ok (.dup, 1) := dk_of ((dk_bind (dk_u1 (h 0 _ rfl))).trans rfl)
theorem dk_90 {code : ByteArray} {pc : Nat} (h : DkAt code pc [90]) : decode code pc = .ok (.dup_x1, 1) := dk_of ((dk_bind (dk_u1 (h 0 _ rfl))).trans rfl)
theorem dk_92 {code : ByteArray} {pc : Nat} (h : DkAt code pc [92]) : decode code pc = .ok (.dup2, 1) := dk_of ((dk_bind (dk_u1 (h 0 _ rfl))).trans rfl)
theorem dk_96 {code : ByteArray} {pc : Nat} (h : DkAt code pc [96]) : decode code pc = .ok (.iadd, 1) := dk_of ((dk_bind (dk_u1 (h 0 _ rfl))).trans rfl)
theorem dk_100 {code : ByteArray} {pc : Nat} (h : DkAt code pc [100]) : decode code pc = .ok (.isub, 1) := dk_of ((dk_bind (dk_u1 (h 0 _ rfl))).trans rfl)
theorem dk_104 {code : ByteArray} {pc : Nat} (h : DkAt code pc [104]) : decode code pc = .ok (.imul, 1) := dk_of ((dk_bind (dk_u1 (h 0 _ rfl))).trans rfl)
theorem dk_108 {code : ByteArray} {pc : Nat} (h : DkAt code pc [108]) : decode code pc = .ok (.idiv, 1) := dk_of ((dk_bind (dk_u1 (h 0 _ rfl))).trans rfl)
theorem dk_111 {code : ByteArray} {pc : Nat} (h : DkAt code pc [111]) : decode code pc = .ok (.ddiv, 1) := dk_of ((dk_bind (dk_u1 (h 0 _ rfl))).trans rfl)
theorem dk_112 {code : ByteArray} {pc : Nat} (h : DkAt code pc [112]) : decode code pc = .ok (.irem, 1) := dk_of ((dk_bind (dk_u1 (h 0 _ rfl))).trans rfl)
theorem dk_116 {code : ByteArray} {pc : Nat} (h : DkAt code pc [116]) : decode code pc = .ok (.ineg, 1) := dk_of ((dk_bind (dk_u1 (h 0 _ rfl))).trans rfl)
theorem dk_120 {code : ByteArray} {pc : Nat} (h : DkAt code pc [120]) : decode code pc = .ok (.ishl, 1) := dk_of ((dk_bind (dk_u1 (h 0 _ rfl))).trans rfl)
theorem dk_122 {code : ByteArray} {pc : Nat} (h : DkAt code pc [122]) : decode code pc = .ok (.ishr, 1) := dk_of ((dk_bind (dk_u1 (h 0 _ rfl))).trans rfl)
theorem dk_124 {code : ByteArray} {pc : Nat} (h : DkAt code pc [124]) : decode code pc = .ok (.iushr, 1) := dk_of ((dk_bind (dk_u1 (h 0 _ rfl))).trans rfl)
theorem dk_126 {code : ByteArray} {pc : Nat} (h : DkAt code pc [126]) : decode code pc = .ok (.iand, 1) := dk_of ((dk_bind (dk_u1 (h 0 _ rfl))).trans rfl)
theorem dk_128 {code : ByteArray} {pc : Nat} (h : DkAt code pc [128]) : decode code pc = .ok (.ior, 1) := dk_of ((dk_bind (dk_u1 (h 0 _ rfl))).trans rfl)
theorem dk_132 {code : ByteArray} {pc : Nat} (a b : UInt8) (h : DkAt code pc [132, a, b]) : decode code pc = .ok (.iinc a.toNat (Reader.signed 8 b.toNat), 3) := dk_of ((dk_bind (dk_u1 (h 0 _ rfl))).trans ((dk_bind (dk_u1 (h 1 _ rfl))).trans ((dk_bind (dk_map (dk_u1 (h 2 _ rfl)))).trans rfl)))
theorem dk_133 {code : ByteArray} {pc : Nat} (h : DkAt code pc [133]) : decode code pc = .ok (.i2l, 1) := dk_of ((dk_bind (dk_u1 (h 0 _ rfl))).trans rfl)
theorem dk_135 {code : ByteArray} {pc : Nat} (h : DkAt code pc [135]) : decode code pc = .ok (.i2d, 1) := dk_of ((dk_bind (dk_u1 (h 0 _ rfl))).trans rfl)
theorem dk_145 {code : ByteArray} {pc : Nat} (h : DkAt code pc [145]) : decode code pc = .ok (.i2b, 1) := dk_of ((dk_bind (dk_u1 (h 0 _ rfl))).trans rfl)
theorem dk_146 {code : ByteArray} {pc : Nat} (h : DkAt code pc [146]) : decode code pc = .ok (.i2c, 1) := dk_of ((dk_bind (dk_u1 (h 0 _ rfl))).trans rfl)
theorem dk_148 {code : ByteArray} {pc : Nat} (h : DkAt code pc [148]) : decode code pc = .ok (.lcmp, 1) := dk_of ((dk_bind (dk_u1 (h 0 _ rfl))).trans rfl)
theorem dk_151 {code : ByteArray} {pc : Nat} (h : DkAt code pc [151]) : decode code pc = .ok (.dcmp .l, 1) := dk_of ((dk_bind (dk_u1 (h 0 _ rfl))).trans rfl)
theorem dk_153 {code : ByteArray} {pc : Nat} (a b : UInt8) (h : DkAt code pc [153, a, b]) : decode code pc = .ok (.ifCond .eq (Reader.signed 16 (a.toNat * 256 + b.toNat)), 3) := dk_of ((dk_bind (dk_u1 (h 0 _ rfl))).trans ((dk_bind (dk_map (dk_u2 (h 1 _ rfl) (h 2 _ rfl)))).trans rfl))
theorem dk_154 {code : ByteArray} {pc : Nat} (a b : UInt8) (h : DkAt code pc [154, a, b]) : decode code pc = .ok (.ifCond .ne (Reader.signed 16 (a.toNat * 256 + b.toNat)), 3) := dk_of ((dk_bind (dk_u1 (h 0 _ rfl))).trans ((dk_bind (dk_map (dk_u2 (h 1 _ rfl) (h 2 _ rfl)))).trans rfl))
theorem dk_155 {code : ByteArray} {pc : Nat} (a b : UInt8) (h : DkAt code pc [155, a, b]) : decode code pc = .ok (.ifCond .lt (Reader.signed 16 (a.toNat * 256 + b.toNat)), 3) := dk_of ((dk_bind (dk_u1 (h 0 _ rfl))).trans ((dk_bind (dk_map (dk_u2 (h 1 _ rfl) (h 2 _ rfl)))).trans rfl))
theorem dk_156 {code : ByteArray} {pc : Nat} (a b : UInt8) (h : DkAt code pc [156, a, b]) : decode code pc = .ok (.ifCond .ge (Reader.signed 16 (a.toNat * 256 + b.toNat)), 3) := dk_of ((dk_bind (dk_u1 (h 0 _ rfl))).trans ((dk_bind (dk_map (dk_u2 (h 1 _ rfl) (h 2 _ rfl)))).trans rfl))
theorem dk_157 {code : ByteArray} {pc : Nat} (a b : UInt8) (h : DkAt code pc [157, a, b]) : decode code pc = .ok (.ifCond .gt (Reader.signed 16 (a.toNat * 256 + b.toNat)), 3) := dk_of ((dk_bind (dk_u1 (h 0 _ rfl))).trans ((dk_bind (dk_map (dk_u2 (h 1 _ rfl) (h 2 _ rfl)))).trans rfl))
theorem dk_158 {code : ByteArray} {pc : Nat} (a b : UInt8) (h : DkAt code pc [158, a, b]) : decode code pc = .ok (.ifCond .le (Reader.signed 16 (a.toNat * 256 + b.toNat)), 3) := dk_of ((dk_bind (dk_u1 (h 0 _ rfl))).trans ((dk_bind (dk_map (dk_u2 (h 1 _ rfl) (h 2 _ rfl)))).trans rfl))
theorem dk_159 {code : ByteArray} {pc : Nat} (a b : UInt8) (h : DkAt code pc [159, a, b]) : decode code pc = .ok (.if_icmp .eq (Reader.signed 16 (a.toNat * 256 + b.toNat)), 3) := dk_of ((dk_bind (dk_u1 (h 0 _ rfl))).trans ((dk_bind (dk_map (dk_u2 (h 1 _ rfl) (h 2 _ rfl)))).trans rfl))
theorem dk_160 {code : ByteArray} {pc : Nat} (a b : UInt8) (h : DkAt code pc [160, a, b]) : decode code pc = .ok (.if_icmp .ne (Reader.signed 16 (a.toNat * 256 + b.toNat)), 3) := dk_of ((dk_bind (dk_u1 (h 0 _ rfl))).trans ((dk_bind (dk_map (dk_u2 (h 1 _ rfl) (h 2 _ rfl)))).trans rfl))
theorem dk_161 {code : ByteArray} {pc : Nat} (a b : UInt8) (h : DkAt code pc [161, a, b]) : decode code pc = .ok (.if_icmp .lt (Reader.signed 16 (a.toNat * 256 + b.toNat)), 3) := dk_of ((dk_bind (dk_u1 (h 0 _ rfl))).trans ((dk_bind (dk_map (dk_u2 (h 1 _ rfl) (h 2 _ rfl)))).trans rfl))
theorem dk_162 {code : ByteArray} {pc : Nat} (a b : UInt8) (h : DkAt code pc [162, a, b]) : decode code pc = .ok (.if_icmp .ge (Reader.signed 16 (a.toNat * 256 + b.toNat)), 3) := dk_of ((dk_bind (dk_u1 (h 0 _ rfl))).trans ((dk_bind (dk_map (dk_u2 (h 1 _ rfl) (h 2 _ rfl)))).trans rfl))
theorem dk_163 {code : ByteArray} {pc : Nat} (a b : UInt8) (h : DkAt code pc [163, a, b]) : decode code pc = .ok (.if_icmp .gt (Reader.signed 16 (a.toNat * 256 + b.toNat)), 3) := dk_of ((dk_bind (dk_u1 (h 0 _ rfl))).trans ((dk_bind (dk_map (dk_u2 (h 1 _ rfl) (h 2 _ rfl)))).trans rfl))
theorem dk_164 {code : ByteArray} {pc : Nat} (a b : UInt8) (h : DkAt code pc [164, a, b]) : decode code pc = .ok (.if_icmp .le (Reader.signed 16 (a.toNat * 256 + b.toNat)), 3) := dk_of ((dk_bind (dk_u1 (h 0 _ rfl))).trans ((dk_bind (dk_map (dk_u2 (h 1 _ rfl) (h 2 _ rfl)))).trans rfl))
theorem dk_165 {code : ByteArray} {pc : Nat} (a b : UInt8) (h : DkAt code pc [165, a, b]) : decode code pc = .ok (.if_acmp .eq (Reader.signed 16 (a.toNat * 256 + b.toNat)), 3) := dk_of ((dk_bind (dk_u1 (h 0 _ rfl))).trans ((dk_bind (dk_map (dk_u2 (h 1 _ rfl) (h 2 _ rfl)))).trans rfl))
theorem dk_166 {code : ByteArray} {pc : Nat} (a b : UInt8) (h : DkAt code pc [166, a, b]) : decode code pc = .ok (.if_acmp .ne (Reader.signed 16 (a.toNat * 256 + b.toNat)), 3) := dk_of ((dk_bind (dk_u1 (h 0 _ rfl))).trans ((dk_bind (dk_map (dk_u2 (h 1 _ rfl) (h 2 _ rfl)))).trans rfl))
theorem dk_167 {code : ByteArray} {pc : Nat} (a b : UInt8) (h : DkAt code pc [167, a, b]) : decode code pc = .ok (.goto (Reader.signed 16 (a.toNat * 256 + b.toNat)), 3) := dk_of ((dk_bind (dk_u1 (h 0 _ rfl))).trans ((dk_bind (dk_map (dk_u2 (h 1 _ rfl) (h 2 _ rfl)))).trans rfl))
theorem dk_172 {code : ByteArray} {pc : Nat} (h : DkAt code pc [172]) : decode code pc = .ok (.ireturn, 1) := dk_of ((dk_bind (dk_u1 (h 0 _ rfl))).trans rfl)
theorem dk_175 {code : ByteArray} {pc : Nat} (h : DkAt code pc [175]) : decode code pc = .ok (.dreturn, 1) := dk_of ((dk_bind (dk_u1 (h 0 _ rfl))).trans rfl)
theorem dk_176 {code : ByteArray} {pc : Nat} (h : DkAt code pc [176]) : decode code pc = .ok (.areturn, 1) := dk_of ((dk_bind (dk_u1 (h 0 _ rfl))).trans rfl)
theorem dk_177 {code : ByteArray} {pc : Nat} (h : DkAt code pc [177]) : decode code pc = .ok (.return_, 1) := dk_of ((dk_bind (dk_u1 (h 0 _ rfl))).trans rfl)
theorem dk_178 {code : ByteArray} {pc : Nat} (a b : UInt8) (h : DkAt code pc [178, a, b]) : decode code pc = .ok (.getstatic (a.toNat * 256 + b.toNat), 3) := dk_of ((dk_bind (dk_u1 (h 0 _ rfl))).trans ((dk_bind (dk_u2 (h 1 _ rfl) (h 2 _ rfl))).trans rfl))
theorem dk_180 {code : ByteArray} {pc : Nat} (a b : UInt8) (h : DkAt code pc [180, a, b]) : decode code pc = .ok (.getfield (a.toNat * 256 + b.toNat), 3) := dk_of ((dk_bind (dk_u1 (h 0 _ rfl))).trans ((dk_bind (dk_u2 (h 1 _ rfl) (h 2 _ rfl))).trans rfl))
theorem dk_181 {code : ByteArray} {pc : Nat} (a b : UInt8) (h : DkAt code pc [181, a, b]) : decode code pc = .ok (.putfield (a.toNat * 256 + b.toNat), 3) := dk_of ((dk_bind (dk_u1 (h 0 _ rfl))).trans ((dk_bind (dk_u2 (h 1 _ rfl) (h 2 _ rfl))).trans rfl))
theorem dk_182 {code : ByteArray} {pc : Nat} (a b : UInt8) (h : DkAt code pc [182, a, b]) : decode code pc = .ok (.invokevirtual (a.toNat * 256 + b.toNat), 3) := dk_of ((dk_bind (dk_u1 (h 0 _ rfl))).trans ((dk_bind (dk_u2 (h 1 _ rfl) (h 2 _ rfl))).trans rfl))
theorem dk_183 {code : ByteArray} {pc : Nat} (a b : UInt8) (h : DkAt code pc [183, a, b]) : decode code pc = .ok (.invokespecial (a.toNat * 256 + b.toNat), 3) := dk_of ((dk_bind (dk_u1 (h 0 _ rfl))).trans ((dk_bind (dk_u2 (h 1 _ rfl) (h 2 _ rfl))).trans rfl))
theorem dk_184 {code : ByteArray} {pc : Nat} (a b : UInt8) (h : DkAt code pc [184, a, b]) : decode code pc = .ok (.invokestatic (a.toNat * 256 + b.toNat), 3) := dk_of ((dk_bind (dk_u1 (h 0 _ rfl))).trans ((dk_bind (dk_u2 (h 1 _ rfl) (h 2 _ rfl))).trans rfl))
theorem dk_187 {code : ByteArray} {pc : Nat} (a b : UInt8) (h : DkAt code pc [187, a, b]) : decode code pc = .ok (.new (a.toNat * 256 + b.toNat), 3) := dk_of ((dk_bind (dk_u1 (h 0 _ rfl))).trans ((dk_bind (dk_u2 (h 1 _ rfl) (h 2 _ rfl))).trans rfl))
theorem dk_188_7 {code : ByteArray} {pc : Nat} (h : DkAt code pc [188, 7]) : decode code pc = .ok (.newarray .double, 2) := dk_of ((dk_bind (dk_u1 (h 0 _ rfl))).trans ((dk_bind (dk_u1 (h 1 _ rfl))).trans rfl))
theorem dk_188_8 {code : ByteArray} {pc : Nat} (h : DkAt code pc [188, 8]) : decode code pc = .ok (.newarray .byte, 2) := dk_of ((dk_bind (dk_u1 (h 0 _ rfl))).trans ((dk_bind (dk_u1 (h 1 _ rfl))).trans rfl))
theorem dk_188_10 {code : ByteArray} {pc : Nat} (h : DkAt code pc [188, 10]) : decode code pc = .ok (.newarray .int, 2) := dk_of ((dk_bind (dk_u1 (h 0 _ rfl))).trans ((dk_bind (dk_u1 (h 1 _ rfl))).trans rfl))
theorem dk_188_11 {code : ByteArray} {pc : Nat} (h : DkAt code pc [188, 11]) : decode code pc = .ok (.newarray .long, 2) := dk_of ((dk_bind (dk_u1 (h 0 _ rfl))).trans ((dk_bind (dk_u1 (h 1 _ rfl))).trans rfl))
theorem dk_189 {code : ByteArray} {pc : Nat} (a b : UInt8) (h : DkAt code pc [189, a, b]) : decode code pc = .ok (.anewarray (a.toNat * 256 + b.toNat), 3) := dk_of ((dk_bind (dk_u1 (h 0 _ rfl))).trans ((dk_bind (dk_u2 (h 1 _ rfl) (h 2 _ rfl))).trans rfl))
theorem dk_190 {code : ByteArray} {pc : Nat} (h : DkAt code pc [190]) : decode code pc = .ok (.arraylength, 1) := dk_of ((dk_bind (dk_u1 (h 0 _ rfl))).trans rfl)
theorem dk_191 {code : ByteArray} {pc : Nat} (h : DkAt code pc [191]) : decode code pc = .ok (.athrow, 1) := dk_of ((dk_bind (dk_u1 (h 0 _ rfl))).trans rfl)
theorem dk_192 {code : ByteArray} {pc : Nat} (a b : UInt8) (h : DkAt code pc [192, a, b]) : decode code pc = .ok (.checkcast (a.toNat * 256 + b.toNat), 3) := dk_of ((dk_bind (dk_u1 (h 0 _ rfl))).trans ((dk_bind (dk_u2 (h 1 _ rfl) (h 2 _ rfl))).trans rfl))
theorem dk_193 {code : ByteArray} {pc : Nat} (a b : UInt8) (h : DkAt code pc [193, a, b]) : decode code pc = .ok (.instanceof (a.toNat * 256 + b.toNat), 3) := dk_of ((dk_bind (dk_u1 (h 0 _ rfl))).trans ((dk_bind (dk_u2 (h 1 _ rfl) (h 2 _ rfl))).trans rfl))
theorem dk_198 {code : ByteArray} {pc : Nat} (a b : UInt8) (h : DkAt code pc [198, a, b]) : decode code pc = .ok (.ifnull (Reader.signed 16 (a.toNat * 256 + b.toNat)), 3) := dk_of ((dk_bind (dk_u1 (h 0 _ rfl))).trans ((dk_bind (dk_map (dk_u2 (h 1 _ rfl) (h 2 _ rfl)))).trans rfl))
theorem dk_199 {code : ByteArray} {pc : Nat} (a b : UInt8) (h : DkAt code pc [199, a, b]) : decode code pc = .ok (.ifnonnull (Reader.signed 16 (a.toNat * 256 + b.toNat)), 3) := dk_of ((dk_bind (dk_u1 (h 0 _ rfl))).trans ((dk_bind (dk_map (dk_u2 (h 1 _ rfl) (h 2 _ rfl)))).trans rfl))
theorem q1075 : (Jvm.Cond.interfaceMethod "DairyBook$Chosen" "DairyBook$Chosen" "holds" "(LDairyBook$Cow;)Z") ∈ lw_tbl := lw_at lw_m5 54 rfl
set_option maxRecDepth 100000
theorem q1076 : (Jvm.Cond.declares ({ cls := "DairyBook$Chosen", name := "holds", desc := "(LDairyBook$Cow;)Z" } : Jvm.MethodName)) ∈ lw_tbl := lw_at lw_m5 55 rfl
theorem q1089 : (Jvm.Cond.interfaceMethod "DairyBook$Measure" "DairyBook$Measure" "of" "(LDairyBook$Cow;)I") ∈ lw_tbl := lw_at lw_m5 68 rfl
set_option maxRecDepth 100000
theorem q1090 : (Jvm.Cond.declares ({ cls := "DairyBook$Measure", name := "of", desc := "(LDairyBook$Cow;)I" } : Jvm.MethodName)) ∈ lw_tbl := lw_at lw_m5 69 rfl
theorem q601 : (Jvm.Cond.sameMethod "[B" "java/lang/Object" "clone" "()Ljava/lang/Object;") ∈ lw_all := lw_g (lw_at lw_m3 60 rfl) rfl
set_option maxRecDepth 100000
theorem q604 : (Jvm.Cond.selects "[B" ({ cls := "[B", name := "clone", desc := "()Ljava/lang/Object;" } : Jvm.MethodName) ({ cls := "java/lang/Object", name := "clone", desc := "()Ljava/lang/Object;" } : Jvm.MethodName)) ∈ lw_all := lw_g (lw_at lw_m3 63 rfl) rfl
theorem q605 : (Jvm.Cond.castable "[B" "java/lang/Cloneable") ∈ lw_tbl := lw_at lw_m3 64 rfl
theorem q2255 : (Jvm.Cond.castable "[B" "java/lang/Object") ∈ lw_tbl := lw_at lw_m10 34 rfl
theorem q2257 : (Jvm.Cond.castable "[D" "java/lang/Object") ∈ lw_tbl := lw_at lw_m10 36 rfl
set_option maxRecDepth 100000
theorem q2253 : (Jvm.Cond.castable "[I" "java/lang/Object") ∈ lw_tbl := lw_at lw_m10 32 rfl
set_option maxRecDepth 100000
theorem q2256 : (Jvm.Cond.castable "[J" "java/lang/Object") ∈ lw_tbl := lw_at lw_m10 35 rfl
set_option maxRecDepth 100000
theorem q2250 : (Jvm.Cond.sameMethod "[Ljava/lang/Object;" "java/lang/Object" "getClass" "()Ljava/lang/Class;") ∈ lw_all := lw_g (lw_at lw_m10 29 rfl) rfl
set_option maxRecDepth 100000
theorem q2251 : (Jvm.Cond.selects "[Ljava/lang/Object;" ({ cls := "java/lang/Object", name := "getClass", desc := "()Ljava/lang/Class;" } : Jvm.MethodName) ({ cls := "java/lang/Object", name := "getClass", desc := "()Ljava/lang/Class;" } : Jvm.MethodName)) ∈ lw_all := lw_g (lw_at lw_m10 30 rfl) rfl
theorem q2254 : (Jvm.Cond.castable "[Ljava/lang/Object;" "java/lang/Object") ∈ lw_tbl := lw_at lw_m10 33 rfl
theorem q86 : (Jvm.Cond.initialized "java/lang/Number") ∈ lw_all := lw_g (lw_at lw_m1 25 rfl) rfl
set_option maxRecDepth 100000
theorem q85 : (Jvm.Cond.initialized "java/lang/System") ∈ lw_all := lw_g (lw_at lw_m1 24 rfl) rfl
set_option maxRecDepth 100000
theorem q540 : (Jvm.Cond.static ({ cls := "java/lang/System", name := "arraycopy", desc := "(Ljava/lang/Object;ILjava/lang/Object;II)V" } : Jvm.MethodName)) ∈ lw_all := lw_g (lw_at lw_m2 239 rfl) rfl
theorem q541 : (Jvm.Cond.native ({ cls := "java/lang/System", name := "arraycopy", desc := "(Ljava/lang/Object;ILjava/lang/Object;II)V" } : Jvm.MethodName)) ∈ lw_all := lw_g (lw_at lw_m3 0 rfl) rfl
theorem q550 : (Jvm.Cond.interfaceMethod "java/util/Collection" "java/util/Collection" "toArray" "()[Ljava/lang/Object;") ∈ lw_tbl := lw_at lw_m3 9 rfl
set_option maxRecDepth 100000
theorem q551 : (Jvm.Cond.declares ({ cls := "java/util/Collection", name := "toArray", desc := "()[Ljava/lang/Object;" } : Jvm.MethodName)) ∈ lw_tbl := lw_at lw_m3 10 rfl
theorem q321 : (Jvm.Cond.interfaceMethod "java/util/Iterator" "java/util/Iterator" "hasNext" "()Z") ∈ lw_tbl := lw_at lw_m2 20 rfl
set_option maxRecDepth 100000
theorem q322 : (Jvm.Cond.declares ({ cls := "java/util/Iterator", name := "hasNext", desc := "()Z" } : Jvm.MethodName)) ∈ lw_tbl := lw_at lw_m2 21 rfl
theorem q331 : (Jvm.Cond.interfaceMethod "java/util/Iterator" "java/util/Iterator" "next" "()Ljava/lang/Object;") ∈ lw_tbl := lw_at lw_m2 30 rfl
theorem q332 : (Jvm.Cond.declares ({ cls := "java/util/Iterator", name := "next", desc := "()Ljava/lang/Object;" } : Jvm.MethodName)) ∈ lw_tbl := lw_at lw_m2 31 rfl
theorem q1596 : (Jvm.Cond.interfaceMethod "jdk/internal/access/JavaLangAccess" "jdk/internal/access/JavaLangAccess" "getUTF16Char" "([BI)C") ∈ lw_tbl := lw_at lw_m7 95 rfl
set_option maxRecDepth 100000
theorem q1597 : (Jvm.Cond.declares ({ cls := "jdk/internal/access/JavaLangAccess", name := "getUTF16Char", desc := "([BI)C" } : Jvm.MethodName)) ∈ lw_tbl := lw_at lw_m7 96 rfl
theorem q195 : (Jvm.Cond.arrayClass Jvm.ClassFile.FieldType.int) ∈ lw_all := lw_g (lw_at lw_m1 134 rfl) rfl
set_option maxRecDepth 100000
theorem q203 : (Jvm.Cond.arrayOver (Jvm.ClassFile.FieldType.object "java/lang/Object")) ∈ lw_tbl := lw_at lw_m1 142 rfl
theorem q246 : (Jvm.Cond.arrayClass Jvm.ClassFile.FieldType.byte) ∈ lw_all := lw_g (lw_at lw_m1 185 rfl) rfl
theorem q2206 : (Jvm.Cond.arrayClass Jvm.ClassFile.FieldType.long) ∈ lw_all := lw_g (lw_at lw_m9 225 rfl) rfl
theorem q2207 : (Jvm.Cond.arrayClass Jvm.ClassFile.FieldType.double) ∈ lw_all := lw_g (lw_at lw_m9 226 rfl) rfl
theorem q2258 : (Jvm.Cond.arrayClass Jvm.ClassFile.FieldType.char) ∈ lw_all := lw_g (lw_at lw_m10 37 rfl) rfl
theorem q2259 : (Jvm.Cond.arrayClass Jvm.ClassFile.FieldType.short) ∈ lw_all := lw_g (lw_at lw_m10 38 rfl) rfl
/-! java/util/AbstractCollection -/
set_option maxRecDepth 100000
def RJ0 : String := "java/util/AbstractCollection"
abbrev cJ0_init : ByteArray := prog_44_method_1_code
def yJ0_init : MethodName := ⟨RJ0, "<init>", "()V"⟩
theorem dJ0_init_0 : decode cJ0_init 0 = .ok (.aload_n 0, 1) := by decide +kernel
theorem dJ0_init_1 : decode cJ0_init 1 = .ok (.invokespecial 1, 3) := by decide +kernel
theorem dJ0_init_4 : decode cJ0_init 4 = .ok (.return_, 1) := by decide +kernel
theorem q64 : (Jvm.Cond.initialized "java/util/AbstractCollection") ∈ lw_all := lw_g (lw_at lw_m1 3 rfl) rfl
theorem q126 : (Jvm.Cond.instanceMethod ({ cls := "java/util/AbstractCollection", name := "<init>", desc := "()V" } : Jvm.MethodName)) ∈ lw_all := lw_g (lw_at lw_m1 65 rfl) rfl
theorem q127 : (Jvm.Cond.code ({ cls := "java/util/AbstractCollection", name := "<init>", desc := "()V" } : Jvm.MethodName) prog_44_method_1_code (1 : Nat) (Option.none : Option Jvm.ClassFile.FieldType)) ∈ lw_all := lw_g (lw_at lw_m1 66 rfl) rfl
theorem q128 : (Jvm.Cond.methodLink "java/util/AbstractCollection" (1 : Nat) ({ cls := "java/lang/Object", name := "<init>", desc := "()V" } : Jvm.MethodName)) ∈ lw_all := lw_g (lw_at lw_m1 67 rfl) rfl
/-! java/util/AbstractList -/
set_option maxRecDepth 100000
def RJ1 : String := "java/util/AbstractList"
abbrev cJ1_init : ByteArray := prog_45_method_1_code
def yJ1_init : MethodName := ⟨RJ1, "<init>", "()V"⟩
def dkwJ1_init_0 : List UInt8 := [42, 183, 0, 1, 42, 3, 181, 0, 7, 177]
abbrev dktJ1_init_0 : List UInt8 := dkwJ1_init_0 ++ []
theorem dksJ1_init_0 : cJ1_init.data.toList.drop 0 = dktJ1_init_0 := by decide +kernel
theorem dJ1_init_0 : decode cJ1_init 0 = .ok (.aload_n 0, 1) := dk_42 (dk_at dksJ1_init_0 0 rfl rfl)
theorem dJ1_init_1 : decode cJ1_init 1 = .ok (.invokespecial 1, 3) := dk_183 0 1 (dk_at dksJ1_init_0 1 rfl rfl)
theorem dJ1_init_4 : decode cJ1_init 4 = .ok (.aload_n 0, 1) := dk_42 (dk_at dksJ1_init_0 4 rfl rfl)
theorem dJ1_init_5 : decode cJ1_init 5 = .ok (.iconst 0, 1) := dk_3 (dk_at dksJ1_init_0 5 rfl rfl)
theorem dJ1_init_6 : decode cJ1_init 6 = .ok (.putfield 7, 3) := dk_181 0 7 (dk_at dksJ1_init_0 6 rfl rfl)
theorem dJ1_init_9 : decode cJ1_init 9 = .ok (.return_, 1) := dk_177 (dk_at dksJ1_init_0 9 rfl rfl)
theorem q65 : (Jvm.Cond.initialized "java/util/AbstractList") ∈ lw_all := lw_g (lw_at lw_m1 4 rfl) rfl
theorem q123 : (Jvm.Cond.instanceMethod ({ cls := "java/util/AbstractList", name := "<init>", desc := "()V" } : Jvm.MethodName)) ∈ lw_all := lw_g (lw_at lw_m1 62 rfl) rfl
theorem q124 : (Jvm.Cond.code ({ cls := "java/util/AbstractList", name := "<init>", desc := "()V" } : Jvm.MethodName) prog_45_method_1_code (1 : Nat) (Option.none : Option Jvm.ClassFile.FieldType)) ∈ lw_all := lw_g (lw_at lw_m1 63 rfl) rfl
theorem q125 : (Jvm.Cond.methodLink "java/util/AbstractList" (1 : Nat) ({ cls := "java/util/AbstractCollection", name := "<init>", desc := "()V" } : Jvm.MethodName)) ∈ lw_all := lw_g (lw_at lw_m1 64 rfl) rfl
theorem q135 : (Jvm.Cond.fieldLink "java/util/AbstractList" (7 : Nat) "java/util/AbstractList" "modCount" "I") ∈ lw_all := lw_g (lw_at lw_m1 74 rfl) rfl
theorem q144 : (Jvm.Cond.soleField "java/util/AbstractList" "modCount") ∈ lw_all := lw_g (lw_at lw_m1 83 rfl) rfl
/-! java/util/ArrayList -/
set_option maxRecDepth 100000
def RJ2 : String := "java/util/ArrayList"
def TJ2 : u_T := fun k => match k with
  | 0 => ("java/util/AbstractList", "modCount", "I", false)
  | 1 => ("java/util/ArrayList", "elementData", "[Ljava/lang/Object;", false)
  | _ => ("java/util/ArrayList", "size", "I", false)
def tyJ2 : Nat → FieldType := fun k => match k with
  | 0 => .int
  | 1 => .array (.object "java/lang/Object")
  | _ => .int
abbrev wsJ20 : List Cond := u_ws RJ2 TJ2 3
theorem nmJ2 : ∀ a, a < 3 → ∀ b, b < 3 → a ≠ b → (TJ2 a).2.1 ≠ (TJ2 b).2.1 := by decide +kernel
theorem tyJ2_ok : ∀ k, k < 3 → parseFieldDescriptor (TJ2 k).2.2.1 = some (tyJ2 k) := by decide +kernel
abbrev cJ2_init : ByteArray := prog_47_method_2_code
def yJ2_init : MethodName := ⟨RJ2, "<init>", "()V"⟩
def dkwJ2_init_0 : List UInt8 := [42, 183, 0, 1, 42, 178, 0, 39, 181, 0, 9, 177]
abbrev dktJ2_init_0 : List UInt8 := dkwJ2_init_0 ++ []
theorem dksJ2_init_0 : cJ2_init.data.toList.drop 0 = dktJ2_init_0 := by decide +kernel
theorem dJ2_init_0 : decode cJ2_init 0 = .ok (.aload_n 0, 1) := dk_42 (dk_at dksJ2_init_0 0 rfl rfl)
theorem dJ2_init_1 : decode cJ2_init 1 = .ok (.invokespecial 1, 3) := dk_183 0 1 (dk_at dksJ2_init_0 1 rfl rfl)
theorem dJ2_init_4 : decode cJ2_init 4 = .ok (.aload_n 0, 1) := dk_42 (dk_at dksJ2_init_0 4 rfl rfl)
theorem dJ2_init_5 : decode cJ2_init 5 = .ok (.getstatic 39, 3) := dk_178 0 39 (dk_at dksJ2_init_0 5 rfl rfl)
theorem dJ2_init_8 : decode cJ2_init 8 = .ok (.putfield 9, 3) := dk_181 0 9 (dk_at dksJ2_init_0 8 rfl rfl)
theorem dJ2_init_11 : decode cJ2_init 11 = .ok (.return_, 1) := dk_177 (dk_at dksJ2_init_0 11 rfl rfl)
abbrev cJ2_clear : ByteArray := prog_47_method_40_code
def yJ2_clear : MethodName := ⟨RJ2, "clear", "()V"⟩
def dkwJ2_clear_1 : List UInt8 := [181, 0, 48, 62, 29, 28, 162, 0, 13, 43, 29, 1, 83, 132, 3, 1, 167, 255, 244, 177]
abbrev dktJ2_clear_1 : List UInt8 := dkwJ2_clear_1 ++ []
def dkwJ2_clear_0 : List UInt8 := [42, 89, 180, 0, 63, 4, 96, 181, 0, 63, 42, 180, 0, 9, 76, 42, 180, 0, 48, 61, 42, 3, 90]
abbrev dktJ2_clear_0 : List UInt8 := dkwJ2_clear_0 ++ dktJ2_clear_1
theorem dksJ2_clear_0 : cJ2_clear.data.toList.drop 0 = dktJ2_clear_0 := by decide +kernel
theorem dksJ2_clear_1 : cJ2_clear.data.toList.drop 23 = dktJ2_clear_1 := dk_seg dksJ2_clear_0 23 rfl rfl
theorem dJ2_clear_0 : decode cJ2_clear 0 = .ok (.aload_n 0, 1) := dk_42 (dk_at dksJ2_clear_0 0 rfl rfl)
theorem dJ2_clear_1 : decode cJ2_clear 1 = .ok (.dup, 1) := dk_89 (dk_at dksJ2_clear_0 1 rfl rfl)
theorem dJ2_clear_2 : decode cJ2_clear 2 = .ok (.getfield 63, 3) := dk_180 0 63 (dk_at dksJ2_clear_0 2 rfl rfl)
theorem dJ2_clear_5 : decode cJ2_clear 5 = .ok (.iconst 1, 1) := dk_4 (dk_at dksJ2_clear_0 5 rfl rfl)
theorem dJ2_clear_6 : decode cJ2_clear 6 = .ok (.iadd, 1) := dk_96 (dk_at dksJ2_clear_0 6 rfl rfl)
theorem dJ2_clear_7 : decode cJ2_clear 7 = .ok (.putfield 63, 3) := dk_181 0 63 (dk_at dksJ2_clear_0 7 rfl rfl)
theorem dJ2_clear_10 : decode cJ2_clear 10 = .ok (.aload_n 0, 1) := dk_42 (dk_at dksJ2_clear_0 10 rfl rfl)
theorem dJ2_clear_11 : decode cJ2_clear 11 = .ok (.getfield 9, 3) := dk_180 0 9 (dk_at dksJ2_clear_0 11 rfl rfl)
theorem dJ2_clear_14 : decode cJ2_clear 14 = .ok (.astore_n 1, 1) := dk_76 (dk_at dksJ2_clear_0 14 rfl rfl)
theorem dJ2_clear_15 : decode cJ2_clear 15 = .ok (.aload_n 0, 1) := dk_42 (dk_at dksJ2_clear_0 15 rfl rfl)
theorem dJ2_clear_16 : decode cJ2_clear 16 = .ok (.getfield 48, 3) := dk_180 0 48 (dk_at dksJ2_clear_0 16 rfl rfl)
theorem dJ2_clear_19 : decode cJ2_clear 19 = .ok (.istore_n 2, 1) := dk_61 (dk_at dksJ2_clear_0 19 rfl rfl)
theorem dJ2_clear_20 : decode cJ2_clear 20 = .ok (.aload_n 0, 1) := dk_42 (dk_at dksJ2_clear_0 20 rfl rfl)
theorem dJ2_clear_21 : decode cJ2_clear 21 = .ok (.iconst 0, 1) := dk_3 (dk_at dksJ2_clear_0 21 rfl rfl)
theorem dJ2_clear_22 : decode cJ2_clear 22 = .ok (.dup_x1, 1) := dk_90 (dk_at dksJ2_clear_0 22 rfl rfl)
theorem dJ2_clear_23 : decode cJ2_clear 23 = .ok (.putfield 48, 3) := dk_181 0 48 (dk_at dksJ2_clear_1 0 rfl rfl)
theorem dJ2_clear_26 : decode cJ2_clear 26 = .ok (.istore_n 3, 1) := dk_62 (dk_at dksJ2_clear_1 3 rfl rfl)
theorem dJ2_clear_27 : decode cJ2_clear 27 = .ok (.iload_n 3, 1) := dk_29 (dk_at dksJ2_clear_1 4 rfl rfl)
theorem dJ2_clear_28 : decode cJ2_clear 28 = .ok (.iload_n 2, 1) := dk_28 (dk_at dksJ2_clear_1 5 rfl rfl)
theorem dJ2_clear_29 : decode cJ2_clear 29 = .ok (.if_icmp .ge 13, 3) := dk_162 0 13 (dk_at dksJ2_clear_1 6 rfl rfl)
theorem dJ2_clear_32 : decode cJ2_clear 32 = .ok (.aload_n 1, 1) := dk_43 (dk_at dksJ2_clear_1 9 rfl rfl)
theorem dJ2_clear_33 : decode cJ2_clear 33 = .ok (.iload_n 3, 1) := dk_29 (dk_at dksJ2_clear_1 10 rfl rfl)
theorem dJ2_clear_34 : decode cJ2_clear 34 = .ok (.aconst_null, 1) := dk_1 (dk_at dksJ2_clear_1 11 rfl rfl)
theorem dJ2_clear_35 : decode cJ2_clear 35 = .ok (.aastore, 1) := dk_83 (dk_at dksJ2_clear_1 12 rfl rfl)
theorem dJ2_clear_36 : decode cJ2_clear 36 = .ok (.iinc 3 1, 3) := dk_132 3 1 (dk_at dksJ2_clear_1 13 rfl rfl)
theorem dJ2_clear_39 : decode cJ2_clear 39 = .ok (.goto (-12), 3) := dk_167 255 244 (dk_at dksJ2_clear_1 16 rfl rfl)
theorem dJ2_clear_42 : decode cJ2_clear 42 = .ok (.return_, 1) := dk_177 (dk_at dksJ2_clear_1 19 rfl rfl)
abbrev cJ2_iterator : ByteArray := prog_47_method_55_code
def yJ2_iterator : MethodName := ⟨RJ2, "iterator", "()Ljava/util/Iterator;"⟩
def dkwJ2_iterator_0 : List UInt8 := [187, 1, 11, 89, 42, 183, 1, 13, 176]
abbrev dktJ2_iterator_0 : List UInt8 := dkwJ2_iterator_0 ++ []
theorem dksJ2_iterator_0 : cJ2_iterator.data.toList.drop 0 = dktJ2_iterator_0 := by decide +kernel
theorem dJ2_iterator_0 : decode cJ2_iterator 0 = .ok (.new 267, 3) := dk_187 1 11 (dk_at dksJ2_iterator_0 0 rfl rfl)
theorem dJ2_iterator_3 : decode cJ2_iterator 3 = .ok (.dup, 1) := dk_89 (dk_at dksJ2_iterator_0 3 rfl rfl)
theorem dJ2_iterator_4 : decode cJ2_iterator 4 = .ok (.aload_n 0, 1) := dk_42 (dk_at dksJ2_iterator_0 4 rfl rfl)
theorem dJ2_iterator_5 : decode cJ2_iterator 5 = .ok (.invokespecial 269, 3) := dk_183 1 13 (dk_at dksJ2_iterator_0 5 rfl rfl)
theorem dJ2_iterator_8 : decode cJ2_iterator 8 = .ok (.areturn, 1) := dk_176 (dk_at dksJ2_iterator_0 8 rfl rfl)
abbrev cJ2_add : ByteArray := prog_47_method_25_code
def yJ2_add : MethodName := ⟨RJ2, "add", "(Ljava/lang/Object;)Z"⟩
def dkwJ2_add_1 : List UInt8 := [172]
abbrev dktJ2_add_1 : List UInt8 := dkwJ2_add_1 ++ []
def dkwJ2_add_0 : List UInt8 := [42, 89, 180, 0, 63, 4, 96, 181, 0, 63, 42, 43, 42, 180, 0, 9, 42, 180, 0, 48, 182, 0, 131, 4]
abbrev dktJ2_add_0 : List UInt8 := dkwJ2_add_0 ++ dktJ2_add_1
theorem dksJ2_add_0 : cJ2_add.data.toList.drop 0 = dktJ2_add_0 := by decide +kernel
theorem dksJ2_add_1 : cJ2_add.data.toList.drop 24 = dktJ2_add_1 := dk_seg dksJ2_add_0 24 rfl rfl
theorem dJ2_add_0 : decode cJ2_add 0 = .ok (.aload_n 0, 1) := dk_42 (dk_at dksJ2_add_0 0 rfl rfl)
theorem dJ2_add_1 : decode cJ2_add 1 = .ok (.dup, 1) := dk_89 (dk_at dksJ2_add_0 1 rfl rfl)
theorem dJ2_add_2 : decode cJ2_add 2 = .ok (.getfield 63, 3) := dk_180 0 63 (dk_at dksJ2_add_0 2 rfl rfl)
theorem dJ2_add_5 : decode cJ2_add 5 = .ok (.iconst 1, 1) := dk_4 (dk_at dksJ2_add_0 5 rfl rfl)
theorem dJ2_add_6 : decode cJ2_add 6 = .ok (.iadd, 1) := dk_96 (dk_at dksJ2_add_0 6 rfl rfl)
theorem dJ2_add_7 : decode cJ2_add 7 = .ok (.putfield 63, 3) := dk_181 0 63 (dk_at dksJ2_add_0 7 rfl rfl)
theorem dJ2_add_10 : decode cJ2_add 10 = .ok (.aload_n 0, 1) := dk_42 (dk_at dksJ2_add_0 10 rfl rfl)
theorem dJ2_add_11 : decode cJ2_add 11 = .ok (.aload_n 1, 1) := dk_43 (dk_at dksJ2_add_0 11 rfl rfl)
theorem dJ2_add_12 : decode cJ2_add 12 = .ok (.aload_n 0, 1) := dk_42 (dk_at dksJ2_add_0 12 rfl rfl)
theorem dJ2_add_13 : decode cJ2_add 13 = .ok (.getfield 9, 3) := dk_180 0 9 (dk_at dksJ2_add_0 13 rfl rfl)
theorem dJ2_add_16 : decode cJ2_add 16 = .ok (.aload_n 0, 1) := dk_42 (dk_at dksJ2_add_0 16 rfl rfl)
theorem dJ2_add_17 : decode cJ2_add 17 = .ok (.getfield 48, 3) := dk_180 0 48 (dk_at dksJ2_add_0 17 rfl rfl)
theorem dJ2_add_20 : decode cJ2_add 20 = .ok (.invokevirtual 131, 3) := dk_182 0 131 (dk_at dksJ2_add_0 20 rfl rfl)
theorem dJ2_add_23 : decode cJ2_add 23 = .ok (.iconst 1, 1) := dk_4 (dk_at dksJ2_add_0 23 rfl rfl)
theorem dJ2_add_24 : decode cJ2_add 24 = .ok (.ireturn, 1) := dk_172 (dk_at dksJ2_add_1 0 rfl rfl)
abbrev cJ2_add_2 : ByteArray := prog_47_method_24_code
def yJ2_add_2 : MethodName := ⟨RJ2, "add", "(Ljava/lang/Object;[Ljava/lang/Object;I)V"⟩
def dkwJ2_add_2_0 : List UInt8 := [29, 44, 190, 160, 0, 8, 42, 182, 0, 129, 77, 44, 29, 43, 83, 42, 29, 4, 96, 181, 0, 48, 177]
abbrev dktJ2_add_2_0 : List UInt8 := dkwJ2_add_2_0 ++ []
theorem dksJ2_add_2_0 : cJ2_add_2.data.toList.drop 0 = dktJ2_add_2_0 := by decide +kernel
theorem dJ2_add_2_0 : decode cJ2_add_2 0 = .ok (.iload_n 3, 1) := dk_29 (dk_at dksJ2_add_2_0 0 rfl rfl)
theorem dJ2_add_2_1 : decode cJ2_add_2 1 = .ok (.aload_n 2, 1) := dk_44 (dk_at dksJ2_add_2_0 1 rfl rfl)
theorem dJ2_add_2_2 : decode cJ2_add_2 2 = .ok (.arraylength, 1) := dk_190 (dk_at dksJ2_add_2_0 2 rfl rfl)
theorem dJ2_add_2_3 : decode cJ2_add_2 3 = .ok (.if_icmp .ne 8, 3) := dk_160 0 8 (dk_at dksJ2_add_2_0 3 rfl rfl)
theorem dJ2_add_2_6 : decode cJ2_add_2 6 = .ok (.aload_n 0, 1) := dk_42 (dk_at dksJ2_add_2_0 6 rfl rfl)
theorem dJ2_add_2_7 : decode cJ2_add_2 7 = .ok (.invokevirtual 129, 3) := dk_182 0 129 (dk_at dksJ2_add_2_0 7 rfl rfl)
theorem dJ2_add_2_10 : decode cJ2_add_2 10 = .ok (.astore_n 2, 1) := dk_77 (dk_at dksJ2_add_2_0 10 rfl rfl)
theorem dJ2_add_2_11 : decode cJ2_add_2 11 = .ok (.aload_n 2, 1) := dk_44 (dk_at dksJ2_add_2_0 11 rfl rfl)
theorem dJ2_add_2_12 : decode cJ2_add_2 12 = .ok (.iload_n 3, 1) := dk_29 (dk_at dksJ2_add_2_0 12 rfl rfl)
theorem dJ2_add_2_13 : decode cJ2_add_2 13 = .ok (.aload_n 1, 1) := dk_43 (dk_at dksJ2_add_2_0 13 rfl rfl)
theorem dJ2_add_2_14 : decode cJ2_add_2 14 = .ok (.aastore, 1) := dk_83 (dk_at dksJ2_add_2_0 14 rfl rfl)
theorem dJ2_add_2_15 : decode cJ2_add_2 15 = .ok (.aload_n 0, 1) := dk_42 (dk_at dksJ2_add_2_0 15 rfl rfl)
theorem dJ2_add_2_16 : decode cJ2_add_2 16 = .ok (.iload_n 3, 1) := dk_29 (dk_at dksJ2_add_2_0 16 rfl rfl)
theorem dJ2_add_2_17 : decode cJ2_add_2 17 = .ok (.iconst 1, 1) := dk_4 (dk_at dksJ2_add_2_0 17 rfl rfl)
theorem dJ2_add_2_18 : decode cJ2_add_2 18 = .ok (.iadd, 1) := dk_96 (dk_at dksJ2_add_2_0 18 rfl rfl)
theorem dJ2_add_2_19 : decode cJ2_add_2 19 = .ok (.putfield 48, 3) := dk_181 0 48 (dk_at dksJ2_add_2_0 19 rfl rfl)
theorem dJ2_add_2_22 : decode cJ2_add_2 22 = .ok (.return_, 1) := dk_177 (dk_at dksJ2_add_2_0 22 rfl rfl)
abbrev cJ2_grow : ByteArray := prog_47_method_7_code
def yJ2_grow : MethodName := ⟨RJ2, "grow", "()[Ljava/lang/Object;"⟩
def dkwJ2_grow_0 : List UInt8 := [42, 42, 180, 0, 48, 4, 96, 182, 0, 69, 176]
abbrev dktJ2_grow_0 : List UInt8 := dkwJ2_grow_0 ++ []
theorem dksJ2_grow_0 : cJ2_grow.data.toList.drop 0 = dktJ2_grow_0 := by decide +kernel
theorem dJ2_grow_0 : decode cJ2_grow 0 = .ok (.aload_n 0, 1) := dk_42 (dk_at dksJ2_grow_0 0 rfl rfl)
theorem dJ2_grow_1 : decode cJ2_grow 1 = .ok (.aload_n 0, 1) := dk_42 (dk_at dksJ2_grow_0 1 rfl rfl)
theorem dJ2_grow_2 : decode cJ2_grow 2 = .ok (.getfield 48, 3) := dk_180 0 48 (dk_at dksJ2_grow_0 2 rfl rfl)
theorem dJ2_grow_5 : decode cJ2_grow 5 = .ok (.iconst 1, 1) := dk_4 (dk_at dksJ2_grow_0 5 rfl rfl)
theorem dJ2_grow_6 : decode cJ2_grow 6 = .ok (.iadd, 1) := dk_96 (dk_at dksJ2_grow_0 6 rfl rfl)
theorem dJ2_grow_7 : decode cJ2_grow 7 = .ok (.invokevirtual 69, 3) := dk_182 0 69 (dk_at dksJ2_grow_0 7 rfl rfl)
theorem dJ2_grow_10 : decode cJ2_grow 10 = .ok (.areturn, 1) := dk_176 (dk_at dksJ2_grow_0 10 rfl rfl)
abbrev cJ2_grow_2 : ByteArray := prog_47_method_6_code
def yJ2_grow_2 : MethodName := ⟨RJ2, "grow", "(I)[Ljava/lang/Object;"⟩
def dkwJ2_grow_2_2 : List UInt8 := [27, 184, 0, 79, 189, 0, 7, 90, 181, 0, 9, 176]
abbrev dktJ2_grow_2_2 : List UInt8 := dkwJ2_grow_2_2 ++ []
def dkwJ2_grow_2_1 : List UInt8 := [28, 4, 122, 184, 0, 73, 62, 42, 42, 180, 0, 9, 29, 184, 0, 66, 90, 181, 0, 9, 176, 42, 16, 10]
abbrev dktJ2_grow_2_1 : List UInt8 := dkwJ2_grow_2_1 ++ dktJ2_grow_2_2
def dkwJ2_grow_2_0 : List UInt8 := [42, 180, 0, 9, 190, 61, 28, 157, 0, 13, 42, 180, 0, 9, 178, 0, 39, 165, 0, 28, 28, 27, 28, 100]
abbrev dktJ2_grow_2_0 : List UInt8 := dkwJ2_grow_2_0 ++ dktJ2_grow_2_1
theorem dksJ2_grow_2_0 : cJ2_grow_2.data.toList.drop 0 = dktJ2_grow_2_0 := by decide +kernel
theorem dksJ2_grow_2_1 : cJ2_grow_2.data.toList.drop 24 = dktJ2_grow_2_1 := dk_seg dksJ2_grow_2_0 24 rfl rfl
theorem dksJ2_grow_2_2 : cJ2_grow_2.data.toList.drop 48 = dktJ2_grow_2_2 := dk_seg dksJ2_grow_2_1 24 rfl rfl
theorem dJ2_grow_2_0 : decode cJ2_grow_2 0 = .ok (.aload_n 0, 1) := dk_42 (dk_at dksJ2_grow_2_0 0 rfl rfl)
theorem dJ2_grow_2_1 : decode cJ2_grow_2 1 = .ok (.getfield 9, 3) := dk_180 0 9 (dk_at dksJ2_grow_2_0 1 rfl rfl)
theorem dJ2_grow_2_4 : decode cJ2_grow_2 4 = .ok (.arraylength, 1) := dk_190 (dk_at dksJ2_grow_2_0 4 rfl rfl)
theorem dJ2_grow_2_5 : decode cJ2_grow_2 5 = .ok (.istore_n 2, 1) := dk_61 (dk_at dksJ2_grow_2_0 5 rfl rfl)
theorem dJ2_grow_2_6 : decode cJ2_grow_2 6 = .ok (.iload_n 2, 1) := dk_28 (dk_at dksJ2_grow_2_0 6 rfl rfl)
theorem dJ2_grow_2_7 : decode cJ2_grow_2 7 = .ok (.ifCond .gt 13, 3) := dk_157 0 13 (dk_at dksJ2_grow_2_0 7 rfl rfl)
theorem dJ2_grow_2_10 : decode cJ2_grow_2 10 = .ok (.aload_n 0, 1) := dk_42 (dk_at dksJ2_grow_2_0 10 rfl rfl)
theorem dJ2_grow_2_11 : decode cJ2_grow_2 11 = .ok (.getfield 9, 3) := dk_180 0 9 (dk_at dksJ2_grow_2_0 11 rfl rfl)
theorem dJ2_grow_2_14 : decode cJ2_grow_2 14 = .ok (.getstatic 39, 3) := dk_178 0 39 (dk_at dksJ2_grow_2_0 14 rfl rfl)
theorem dJ2_grow_2_17 : decode cJ2_grow_2 17 = .ok (.if_acmp .eq 28, 3) := dk_165 0 28 (dk_at dksJ2_grow_2_0 17 rfl rfl)
theorem dJ2_grow_2_20 : decode cJ2_grow_2 20 = .ok (.iload_n 2, 1) := dk_28 (dk_at dksJ2_grow_2_0 20 rfl rfl)
theorem dJ2_grow_2_21 : decode cJ2_grow_2 21 = .ok (.iload_n 1, 1) := dk_27 (dk_at dksJ2_grow_2_0 21 rfl rfl)
theorem dJ2_grow_2_22 : decode cJ2_grow_2 22 = .ok (.iload_n 2, 1) := dk_28 (dk_at dksJ2_grow_2_0 22 rfl rfl)
theorem dJ2_grow_2_23 : decode cJ2_grow_2 23 = .ok (.isub, 1) := dk_100 (dk_at dksJ2_grow_2_0 23 rfl rfl)
theorem dJ2_grow_2_24 : decode cJ2_grow_2 24 = .ok (.iload_n 2, 1) := dk_28 (dk_at dksJ2_grow_2_1 0 rfl rfl)
theorem dJ2_grow_2_25 : decode cJ2_grow_2 25 = .ok (.iconst 1, 1) := dk_4 (dk_at dksJ2_grow_2_1 1 rfl rfl)
theorem dJ2_grow_2_26 : decode cJ2_grow_2 26 = .ok (.ishr, 1) := dk_122 (dk_at dksJ2_grow_2_1 2 rfl rfl)
theorem dJ2_grow_2_27 : decode cJ2_grow_2 27 = .ok (.invokestatic 73, 3) := dk_184 0 73 (dk_at dksJ2_grow_2_1 3 rfl rfl)
theorem dJ2_grow_2_30 : decode cJ2_grow_2 30 = .ok (.istore_n 3, 1) := dk_62 (dk_at dksJ2_grow_2_1 6 rfl rfl)
theorem dJ2_grow_2_31 : decode cJ2_grow_2 31 = .ok (.aload_n 0, 1) := dk_42 (dk_at dksJ2_grow_2_1 7 rfl rfl)
theorem dJ2_grow_2_32 : decode cJ2_grow_2 32 = .ok (.aload_n 0, 1) := dk_42 (dk_at dksJ2_grow_2_1 8 rfl rfl)
theorem dJ2_grow_2_33 : decode cJ2_grow_2 33 = .ok (.getfield 9, 3) := dk_180 0 9 (dk_at dksJ2_grow_2_1 9 rfl rfl)
theorem dJ2_grow_2_36 : decode cJ2_grow_2 36 = .ok (.iload_n 3, 1) := dk_29 (dk_at dksJ2_grow_2_1 12 rfl rfl)
theorem dJ2_grow_2_37 : decode cJ2_grow_2 37 = .ok (.invokestatic 66, 3) := dk_184 0 66 (dk_at dksJ2_grow_2_1 13 rfl rfl)
theorem dJ2_grow_2_40 : decode cJ2_grow_2 40 = .ok (.dup_x1, 1) := dk_90 (dk_at dksJ2_grow_2_1 16 rfl rfl)
theorem dJ2_grow_2_41 : decode cJ2_grow_2 41 = .ok (.putfield 9, 3) := dk_181 0 9 (dk_at dksJ2_grow_2_1 17 rfl rfl)
theorem dJ2_grow_2_44 : decode cJ2_grow_2 44 = .ok (.areturn, 1) := dk_176 (dk_at dksJ2_grow_2_1 20 rfl rfl)
theorem dJ2_grow_2_45 : decode cJ2_grow_2 45 = .ok (.aload_n 0, 1) := dk_42 (dk_at dksJ2_grow_2_1 21 rfl rfl)
theorem dJ2_grow_2_46 : decode cJ2_grow_2 46 = .ok (.bipush 10, 2) := dk_16 10 (dk_at dksJ2_grow_2_1 22 rfl rfl)
theorem dJ2_grow_2_48 : decode cJ2_grow_2 48 = .ok (.iload_n 1, 1) := dk_27 (dk_at dksJ2_grow_2_2 0 rfl rfl)
theorem dJ2_grow_2_49 : decode cJ2_grow_2 49 = .ok (.invokestatic 79, 3) := dk_184 0 79 (dk_at dksJ2_grow_2_2 1 rfl rfl)
theorem dJ2_grow_2_52 : decode cJ2_grow_2 52 = .ok (.anewarray 7, 3) := dk_189 0 7 (dk_at dksJ2_grow_2_2 4 rfl rfl)
theorem dJ2_grow_2_55 : decode cJ2_grow_2 55 = .ok (.dup_x1, 1) := dk_90 (dk_at dksJ2_grow_2_2 7 rfl rfl)
theorem dJ2_grow_2_56 : decode cJ2_grow_2 56 = .ok (.putfield 9, 3) := dk_181 0 9 (dk_at dksJ2_grow_2_2 8 rfl rfl)
theorem dJ2_grow_2_59 : decode cJ2_grow_2 59 = .ok (.areturn, 1) := dk_176 (dk_at dksJ2_grow_2_2 11 rfl rfl)
abbrev cJ2_addAll : ByteArray := prog_47_method_41_code
def yJ2_addAll : MethodName := ⟨RJ2, "addAll", "(Ljava/util/Collection;)Z"⟩
def dkwJ2_addAll_3 : List UInt8 := [181, 0, 48, 4, 172]
abbrev dktJ2_addAll_3 : List UInt8 := dkwJ2_addAll_3 ++ []
def dkwJ2_addAll_2 : List UInt8 := [21, 5, 29, 96, 182, 0, 69, 58, 4, 44, 3, 25, 4, 21, 5, 29, 184, 0, 112, 42, 21, 5, 29, 96]
abbrev dktJ2_addAll_2 : List UInt8 := dkwJ2_addAll_2 ++ dktJ2_addAll_3
def dkwJ2_addAll_1 : List UInt8 := [3, 172, 29, 42, 180, 0, 9, 89, 58, 4, 190, 42, 180, 0, 48, 89, 54, 5, 100, 164, 0, 13, 42]
abbrev dktJ2_addAll_1 : List UInt8 := dkwJ2_addAll_1 ++ dktJ2_addAll_2
def dkwJ2_addAll_0 : List UInt8 := [43, 185, 0, 42, 1, 0, 77, 42, 89, 180, 0, 63, 4, 96, 181, 0, 63, 44, 190, 62, 29, 154, 0, 5]
abbrev dktJ2_addAll_0 : List UInt8 := dkwJ2_addAll_0 ++ dktJ2_addAll_1
theorem dksJ2_addAll_0 : cJ2_addAll.data.toList.drop 0 = dktJ2_addAll_0 := by decide +kernel
theorem dksJ2_addAll_1 : cJ2_addAll.data.toList.drop 24 = dktJ2_addAll_1 := dk_seg dksJ2_addAll_0 24 rfl rfl
theorem dksJ2_addAll_2 : cJ2_addAll.data.toList.drop 47 = dktJ2_addAll_2 := dk_seg dksJ2_addAll_1 23 rfl rfl
theorem dksJ2_addAll_3 : cJ2_addAll.data.toList.drop 71 = dktJ2_addAll_3 := dk_seg dksJ2_addAll_2 24 rfl rfl
theorem dJ2_addAll_0 : decode cJ2_addAll 0 = .ok (.aload_n 1, 1) := dk_43 (dk_at dksJ2_addAll_0 0 rfl rfl)
theorem dJ2_addAll_1 : decode cJ2_addAll 1 = .ok (.invokeinterface 42 1, 5) := by decide +kernel
theorem dJ2_addAll_6 : decode cJ2_addAll 6 = .ok (.astore_n 2, 1) := dk_77 (dk_at dksJ2_addAll_0 6 rfl rfl)
theorem dJ2_addAll_7 : decode cJ2_addAll 7 = .ok (.aload_n 0, 1) := dk_42 (dk_at dksJ2_addAll_0 7 rfl rfl)
theorem dJ2_addAll_8 : decode cJ2_addAll 8 = .ok (.dup, 1) := dk_89 (dk_at dksJ2_addAll_0 8 rfl rfl)
theorem dJ2_addAll_9 : decode cJ2_addAll 9 = .ok (.getfield 63, 3) := dk_180 0 63 (dk_at dksJ2_addAll_0 9 rfl rfl)
theorem dJ2_addAll_12 : decode cJ2_addAll 12 = .ok (.iconst 1, 1) := dk_4 (dk_at dksJ2_addAll_0 12 rfl rfl)
theorem dJ2_addAll_13 : decode cJ2_addAll 13 = .ok (.iadd, 1) := dk_96 (dk_at dksJ2_addAll_0 13 rfl rfl)
theorem dJ2_addAll_14 : decode cJ2_addAll 14 = .ok (.putfield 63, 3) := dk_181 0 63 (dk_at dksJ2_addAll_0 14 rfl rfl)
theorem dJ2_addAll_17 : decode cJ2_addAll 17 = .ok (.aload_n 2, 1) := dk_44 (dk_at dksJ2_addAll_0 17 rfl rfl)
theorem dJ2_addAll_18 : decode cJ2_addAll 18 = .ok (.arraylength, 1) := dk_190 (dk_at dksJ2_addAll_0 18 rfl rfl)
theorem dJ2_addAll_19 : decode cJ2_addAll 19 = .ok (.istore_n 3, 1) := dk_62 (dk_at dksJ2_addAll_0 19 rfl rfl)
theorem dJ2_addAll_20 : decode cJ2_addAll 20 = .ok (.iload_n 3, 1) := dk_29 (dk_at dksJ2_addAll_0 20 rfl rfl)
theorem dJ2_addAll_21 : decode cJ2_addAll 21 = .ok (.ifCond .ne 5, 3) := dk_154 0 5 (dk_at dksJ2_addAll_0 21 rfl rfl)
theorem dJ2_addAll_24 : decode cJ2_addAll 24 = .ok (.iconst 0, 1) := dk_3 (dk_at dksJ2_addAll_1 0 rfl rfl)
theorem dJ2_addAll_25 : decode cJ2_addAll 25 = .ok (.ireturn, 1) := dk_172 (dk_at dksJ2_addAll_1 1 rfl rfl)
theorem dJ2_addAll_26 : decode cJ2_addAll 26 = .ok (.iload_n 3, 1) := dk_29 (dk_at dksJ2_addAll_1 2 rfl rfl)
theorem dJ2_addAll_27 : decode cJ2_addAll 27 = .ok (.aload_n 0, 1) := dk_42 (dk_at dksJ2_addAll_1 3 rfl rfl)
theorem dJ2_addAll_28 : decode cJ2_addAll 28 = .ok (.getfield 9, 3) := dk_180 0 9 (dk_at dksJ2_addAll_1 4 rfl rfl)
theorem dJ2_addAll_31 : decode cJ2_addAll 31 = .ok (.dup, 1) := dk_89 (dk_at dksJ2_addAll_1 7 rfl rfl)
theorem dJ2_addAll_32 : decode cJ2_addAll 32 = .ok (.astore 4, 2) := dk_58 4 (dk_at dksJ2_addAll_1 8 rfl rfl)
theorem dJ2_addAll_34 : decode cJ2_addAll 34 = .ok (.arraylength, 1) := dk_190 (dk_at dksJ2_addAll_1 10 rfl rfl)
theorem dJ2_addAll_35 : decode cJ2_addAll 35 = .ok (.aload_n 0, 1) := dk_42 (dk_at dksJ2_addAll_1 11 rfl rfl)
theorem dJ2_addAll_36 : decode cJ2_addAll 36 = .ok (.getfield 48, 3) := dk_180 0 48 (dk_at dksJ2_addAll_1 12 rfl rfl)
theorem dJ2_addAll_39 : decode cJ2_addAll 39 = .ok (.dup, 1) := dk_89 (dk_at dksJ2_addAll_1 15 rfl rfl)
theorem dJ2_addAll_40 : decode cJ2_addAll 40 = .ok (.istore 5, 2) := dk_54 5 (dk_at dksJ2_addAll_1 16 rfl rfl)
theorem dJ2_addAll_42 : decode cJ2_addAll 42 = .ok (.isub, 1) := dk_100 (dk_at dksJ2_addAll_1 18 rfl rfl)
theorem dJ2_addAll_43 : decode cJ2_addAll 43 = .ok (.if_icmp .le 13, 3) := dk_164 0 13 (dk_at dksJ2_addAll_1 19 rfl rfl)
theorem dJ2_addAll_46 : decode cJ2_addAll 46 = .ok (.aload_n 0, 1) := dk_42 (dk_at dksJ2_addAll_1 22 rfl rfl)
theorem dJ2_addAll_47 : decode cJ2_addAll 47 = .ok (.iload 5, 2) := dk_21 5 (dk_at dksJ2_addAll_2 0 rfl rfl)
theorem dJ2_addAll_49 : decode cJ2_addAll 49 = .ok (.iload_n 3, 1) := dk_29 (dk_at dksJ2_addAll_2 2 rfl rfl)
theorem dJ2_addAll_50 : decode cJ2_addAll 50 = .ok (.iadd, 1) := dk_96 (dk_at dksJ2_addAll_2 3 rfl rfl)
theorem dJ2_addAll_51 : decode cJ2_addAll 51 = .ok (.invokevirtual 69, 3) := dk_182 0 69 (dk_at dksJ2_addAll_2 4 rfl rfl)
theorem dJ2_addAll_54 : decode cJ2_addAll 54 = .ok (.astore 4, 2) := dk_58 4 (dk_at dksJ2_addAll_2 7 rfl rfl)
theorem dJ2_addAll_56 : decode cJ2_addAll 56 = .ok (.aload_n 2, 1) := dk_44 (dk_at dksJ2_addAll_2 9 rfl rfl)
theorem dJ2_addAll_57 : decode cJ2_addAll 57 = .ok (.iconst 0, 1) := dk_3 (dk_at dksJ2_addAll_2 10 rfl rfl)
theorem dJ2_addAll_58 : decode cJ2_addAll 58 = .ok (.aload 4, 2) := dk_25 4 (dk_at dksJ2_addAll_2 11 rfl rfl)
theorem dJ2_addAll_60 : decode cJ2_addAll 60 = .ok (.iload 5, 2) := dk_21 5 (dk_at dksJ2_addAll_2 13 rfl rfl)
theorem dJ2_addAll_62 : decode cJ2_addAll 62 = .ok (.iload_n 3, 1) := dk_29 (dk_at dksJ2_addAll_2 15 rfl rfl)
theorem dJ2_addAll_63 : decode cJ2_addAll 63 = .ok (.invokestatic 112, 3) := dk_184 0 112 (dk_at dksJ2_addAll_2 16 rfl rfl)
theorem dJ2_addAll_66 : decode cJ2_addAll 66 = .ok (.aload_n 0, 1) := dk_42 (dk_at dksJ2_addAll_2 19 rfl rfl)
theorem dJ2_addAll_67 : decode cJ2_addAll 67 = .ok (.iload 5, 2) := dk_21 5 (dk_at dksJ2_addAll_2 20 rfl rfl)
theorem dJ2_addAll_69 : decode cJ2_addAll 69 = .ok (.iload_n 3, 1) := dk_29 (dk_at dksJ2_addAll_2 22 rfl rfl)
theorem dJ2_addAll_70 : decode cJ2_addAll 70 = .ok (.iadd, 1) := dk_96 (dk_at dksJ2_addAll_2 23 rfl rfl)
theorem dJ2_addAll_71 : decode cJ2_addAll 71 = .ok (.putfield 48, 3) := dk_181 0 48 (dk_at dksJ2_addAll_3 0 rfl rfl)
theorem dJ2_addAll_74 : decode cJ2_addAll 74 = .ok (.iconst 1, 1) := dk_4 (dk_at dksJ2_addAll_3 3 rfl rfl)
theorem dJ2_addAll_75 : decode cJ2_addAll 75 = .ok (.ireturn, 1) := dk_172 (dk_at dksJ2_addAll_3 4 rfl rfl)
abbrev cJ2_toArray : ByteArray := prog_47_method_16_code
def yJ2_toArray : MethodName := ⟨RJ2, "toArray", "()[Ljava/lang/Object;"⟩
def dkwJ2_toArray_0 : List UInt8 := [42, 180, 0, 9, 42, 180, 0, 48, 184, 0, 66, 176]
abbrev dktJ2_toArray_0 : List UInt8 := dkwJ2_toArray_0 ++ []
theorem dksJ2_toArray_0 : cJ2_toArray.data.toList.drop 0 = dktJ2_toArray_0 := by decide +kernel
theorem dJ2_toArray_0 : decode cJ2_toArray 0 = .ok (.aload_n 0, 1) := dk_42 (dk_at dksJ2_toArray_0 0 rfl rfl)
theorem dJ2_toArray_1 : decode cJ2_toArray 1 = .ok (.getfield 9, 3) := dk_180 0 9 (dk_at dksJ2_toArray_0 1 rfl rfl)
theorem dJ2_toArray_4 : decode cJ2_toArray 4 = .ok (.aload_n 0, 1) := dk_42 (dk_at dksJ2_toArray_0 4 rfl rfl)
theorem dJ2_toArray_5 : decode cJ2_toArray 5 = .ok (.getfield 48, 3) := dk_180 0 48 (dk_at dksJ2_toArray_0 5 rfl rfl)
theorem dJ2_toArray_8 : decode cJ2_toArray 8 = .ok (.invokestatic 66, 3) := dk_184 0 66 (dk_at dksJ2_toArray_0 8 rfl rfl)
theorem dJ2_toArray_11 : decode cJ2_toArray 11 = .ok (.areturn, 1) := dk_176 (dk_at dksJ2_toArray_0 11 rfl rfl)
abbrev cJ2_size : ByteArray := prog_47_method_8_code
def yJ2_size : MethodName := ⟨RJ2, "size", "()I"⟩
theorem dJ2_size_0 : decode cJ2_size 0 = .ok (.aload_n 0, 1) := by decide +kernel
theorem dJ2_size_1 : decode cJ2_size 1 = .ok (.getfield 48, 3) := by decide +kernel
theorem dJ2_size_4 : decode cJ2_size 4 = .ok (.ireturn, 1) := by decide +kernel
abbrev cJ2_get : ByteArray := prog_47_method_20_code
def yJ2_get : MethodName := ⟨RJ2, "get", "(I)Ljava/lang/Object;"⟩
def dkwJ2_get_0 : List UInt8 := [27, 42, 180, 0, 48, 184, 0, 118, 87, 42, 27, 182, 0, 123, 176]
abbrev dktJ2_get_0 : List UInt8 := dkwJ2_get_0 ++ []
theorem dksJ2_get_0 : cJ2_get.data.toList.drop 0 = dktJ2_get_0 := by decide +kernel
theorem dJ2_get_0 : decode cJ2_get 0 = .ok (.iload_n 1, 1) := dk_27 (dk_at dksJ2_get_0 0 rfl rfl)
theorem dJ2_get_1 : decode cJ2_get 1 = .ok (.aload_n 0, 1) := dk_42 (dk_at dksJ2_get_0 1 rfl rfl)
theorem dJ2_get_2 : decode cJ2_get 2 = .ok (.getfield 48, 3) := dk_180 0 48 (dk_at dksJ2_get_0 2 rfl rfl)
theorem dJ2_get_5 : decode cJ2_get 5 = .ok (.invokestatic 118, 3) := dk_184 0 118 (dk_at dksJ2_get_0 5 rfl rfl)
theorem dJ2_get_8 : decode cJ2_get 8 = .ok (.pop, 1) := dk_87 (dk_at dksJ2_get_0 8 rfl rfl)
theorem dJ2_get_9 : decode cJ2_get 9 = .ok (.aload_n 0, 1) := dk_42 (dk_at dksJ2_get_0 9 rfl rfl)
theorem dJ2_get_10 : decode cJ2_get 10 = .ok (.iload_n 1, 1) := dk_27 (dk_at dksJ2_get_0 10 rfl rfl)
theorem dJ2_get_11 : decode cJ2_get 11 = .ok (.invokevirtual 123, 3) := dk_182 0 123 (dk_at dksJ2_get_0 11 rfl rfl)
theorem dJ2_get_14 : decode cJ2_get 14 = .ok (.areturn, 1) := dk_176 (dk_at dksJ2_get_0 14 rfl rfl)
abbrev cJ2_elementData : ByteArray := prog_47_method_18_code
def yJ2_elementData : MethodName := ⟨RJ2, "elementData", "(I)Ljava/lang/Object;"⟩
def dkwJ2_elementData_0 : List UInt8 := [42, 180, 0, 9, 27, 50, 176]
abbrev dktJ2_elementData_0 : List UInt8 := dkwJ2_elementData_0 ++ []
theorem dksJ2_elementData_0 : cJ2_elementData.data.toList.drop 0 = dktJ2_elementData_0 := by decide +kernel
theorem dJ2_elementData_0 : decode cJ2_elementData 0 = .ok (.aload_n 0, 1) := dk_42 (dk_at dksJ2_elementData_0 0 rfl rfl)
theorem dJ2_elementData_1 : decode cJ2_elementData 1 = .ok (.getfield 9, 3) := dk_180 0 9 (dk_at dksJ2_elementData_0 1 rfl rfl)
theorem dJ2_elementData_4 : decode cJ2_elementData 4 = .ok (.iload_n 1, 1) := dk_27 (dk_at dksJ2_elementData_0 4 rfl rfl)
theorem dJ2_elementData_5 : decode cJ2_elementData 5 = .ok (.aaload, 1) := dk_50 (dk_at dksJ2_elementData_0 5 rfl rfl)
theorem dJ2_elementData_6 : decode cJ2_elementData 6 = .ok (.areturn, 1) := dk_176 (dk_at dksJ2_elementData_0 6 rfl rfl)
abbrev cJ2_set : ByteArray := prog_47_method_23_code
def yJ2_set : MethodName := ⟨RJ2, "set", "(ILjava/lang/Object;)Ljava/lang/Object;"⟩
def dkwJ2_set_0 : List UInt8 := [27, 42, 180, 0, 48, 184, 0, 118, 87, 42, 27, 182, 0, 123, 78, 42, 180, 0, 9, 27, 44, 83, 45, 176]
abbrev dktJ2_set_0 : List UInt8 := dkwJ2_set_0 ++ []
theorem dksJ2_set_0 : cJ2_set.data.toList.drop 0 = dktJ2_set_0 := by decide +kernel
theorem dJ2_set_0 : decode cJ2_set 0 = .ok (.iload_n 1, 1) := dk_27 (dk_at dksJ2_set_0 0 rfl rfl)
theorem dJ2_set_1 : decode cJ2_set 1 = .ok (.aload_n 0, 1) := dk_42 (dk_at dksJ2_set_0 1 rfl rfl)
theorem dJ2_set_2 : decode cJ2_set 2 = .ok (.getfield 48, 3) := dk_180 0 48 (dk_at dksJ2_set_0 2 rfl rfl)
theorem dJ2_set_5 : decode cJ2_set 5 = .ok (.invokestatic 118, 3) := dk_184 0 118 (dk_at dksJ2_set_0 5 rfl rfl)
theorem dJ2_set_8 : decode cJ2_set 8 = .ok (.pop, 1) := dk_87 (dk_at dksJ2_set_0 8 rfl rfl)
theorem dJ2_set_9 : decode cJ2_set 9 = .ok (.aload_n 0, 1) := dk_42 (dk_at dksJ2_set_0 9 rfl rfl)
theorem dJ2_set_10 : decode cJ2_set 10 = .ok (.iload_n 1, 1) := dk_27 (dk_at dksJ2_set_0 10 rfl rfl)
theorem dJ2_set_11 : decode cJ2_set 11 = .ok (.invokevirtual 123, 3) := dk_182 0 123 (dk_at dksJ2_set_0 11 rfl rfl)
theorem dJ2_set_14 : decode cJ2_set 14 = .ok (.astore_n 3, 1) := dk_78 (dk_at dksJ2_set_0 14 rfl rfl)
theorem dJ2_set_15 : decode cJ2_set 15 = .ok (.aload_n 0, 1) := dk_42 (dk_at dksJ2_set_0 15 rfl rfl)
theorem dJ2_set_16 : decode cJ2_set 16 = .ok (.getfield 9, 3) := dk_180 0 9 (dk_at dksJ2_set_0 16 rfl rfl)
theorem dJ2_set_19 : decode cJ2_set 19 = .ok (.iload_n 1, 1) := dk_27 (dk_at dksJ2_set_0 19 rfl rfl)
theorem dJ2_set_20 : decode cJ2_set 20 = .ok (.aload_n 2, 1) := dk_44 (dk_at dksJ2_set_0 20 rfl rfl)
theorem dJ2_set_21 : decode cJ2_set 21 = .ok (.aastore, 1) := dk_83 (dk_at dksJ2_set_0 21 rfl rfl)
theorem dJ2_set_22 : decode cJ2_set 22 = .ok (.aload_n 3, 1) := dk_45 (dk_at dksJ2_set_0 22 rfl rfl)
theorem dJ2_set_23 : decode cJ2_set 23 = .ok (.areturn, 1) := dk_176 (dk_at dksJ2_set_0 23 rfl rfl)
abbrev cJ2_add_3 : ByteArray := prog_47_method_26_code
def yJ2_add_3 : MethodName := ⟨RJ2, "add", "(ILjava/lang/Object;)V"⟩
def dkwJ2_add_3_2 : List UInt8 := [29, 27, 100, 184, 0, 112, 25, 4, 27, 44, 83, 42, 29, 4, 96, 181, 0, 48, 177]
abbrev dktJ2_add_3_2 : List UInt8 := dkwJ2_add_3_2 ++ []
def dkwJ2_add_3_1 : List UInt8 := [180, 0, 9, 89, 58, 4, 190, 160, 0, 9, 42, 182, 0, 129, 58, 4, 25, 4, 27, 25, 4, 27, 4, 96]
abbrev dktJ2_add_3_1 : List UInt8 := dkwJ2_add_3_1 ++ dktJ2_add_3_2
def dkwJ2_add_3_0 : List UInt8 := [42, 27, 182, 0, 135, 42, 89, 180, 0, 63, 4, 96, 181, 0, 63, 42, 180, 0, 48, 89, 62, 42]
abbrev dktJ2_add_3_0 : List UInt8 := dkwJ2_add_3_0 ++ dktJ2_add_3_1
theorem dksJ2_add_3_0 : cJ2_add_3.data.toList.drop 0 = dktJ2_add_3_0 := by decide +kernel
theorem dksJ2_add_3_1 : cJ2_add_3.data.toList.drop 22 = dktJ2_add_3_1 := dk_seg dksJ2_add_3_0 22 rfl rfl
theorem dksJ2_add_3_2 : cJ2_add_3.data.toList.drop 46 = dktJ2_add_3_2 := dk_seg dksJ2_add_3_1 24 rfl rfl
theorem dJ2_add_3_0 : decode cJ2_add_3 0 = .ok (.aload_n 0, 1) := dk_42 (dk_at dksJ2_add_3_0 0 rfl rfl)
theorem dJ2_add_3_1 : decode cJ2_add_3 1 = .ok (.iload_n 1, 1) := dk_27 (dk_at dksJ2_add_3_0 1 rfl rfl)
theorem dJ2_add_3_2 : decode cJ2_add_3 2 = .ok (.invokevirtual 135, 3) := dk_182 0 135 (dk_at dksJ2_add_3_0 2 rfl rfl)
theorem dJ2_add_3_5 : decode cJ2_add_3 5 = .ok (.aload_n 0, 1) := dk_42 (dk_at dksJ2_add_3_0 5 rfl rfl)
theorem dJ2_add_3_6 : decode cJ2_add_3 6 = .ok (.dup, 1) := dk_89 (dk_at dksJ2_add_3_0 6 rfl rfl)
theorem dJ2_add_3_7 : decode cJ2_add_3 7 = .ok (.getfield 63, 3) := dk_180 0 63 (dk_at dksJ2_add_3_0 7 rfl rfl)
theorem dJ2_add_3_10 : decode cJ2_add_3 10 = .ok (.iconst 1, 1) := dk_4 (dk_at dksJ2_add_3_0 10 rfl rfl)
theorem dJ2_add_3_11 : decode cJ2_add_3 11 = .ok (.iadd, 1) := dk_96 (dk_at dksJ2_add_3_0 11 rfl rfl)
theorem dJ2_add_3_12 : decode cJ2_add_3 12 = .ok (.putfield 63, 3) := dk_181 0 63 (dk_at dksJ2_add_3_0 12 rfl rfl)
theorem dJ2_add_3_15 : decode cJ2_add_3 15 = .ok (.aload_n 0, 1) := dk_42 (dk_at dksJ2_add_3_0 15 rfl rfl)
theorem dJ2_add_3_16 : decode cJ2_add_3 16 = .ok (.getfield 48, 3) := dk_180 0 48 (dk_at dksJ2_add_3_0 16 rfl rfl)
theorem dJ2_add_3_19 : decode cJ2_add_3 19 = .ok (.dup, 1) := dk_89 (dk_at dksJ2_add_3_0 19 rfl rfl)
theorem dJ2_add_3_20 : decode cJ2_add_3 20 = .ok (.istore_n 3, 1) := dk_62 (dk_at dksJ2_add_3_0 20 rfl rfl)
theorem dJ2_add_3_21 : decode cJ2_add_3 21 = .ok (.aload_n 0, 1) := dk_42 (dk_at dksJ2_add_3_0 21 rfl rfl)
theorem dJ2_add_3_22 : decode cJ2_add_3 22 = .ok (.getfield 9, 3) := dk_180 0 9 (dk_at dksJ2_add_3_1 0 rfl rfl)
theorem dJ2_add_3_25 : decode cJ2_add_3 25 = .ok (.dup, 1) := dk_89 (dk_at dksJ2_add_3_1 3 rfl rfl)
theorem dJ2_add_3_26 : decode cJ2_add_3 26 = .ok (.astore 4, 2) := dk_58 4 (dk_at dksJ2_add_3_1 4 rfl rfl)
theorem dJ2_add_3_28 : decode cJ2_add_3 28 = .ok (.arraylength, 1) := dk_190 (dk_at dksJ2_add_3_1 6 rfl rfl)
theorem dJ2_add_3_29 : decode cJ2_add_3 29 = .ok (.if_icmp .ne 9, 3) := dk_160 0 9 (dk_at dksJ2_add_3_1 7 rfl rfl)
theorem dJ2_add_3_32 : decode cJ2_add_3 32 = .ok (.aload_n 0, 1) := dk_42 (dk_at dksJ2_add_3_1 10 rfl rfl)
theorem dJ2_add_3_33 : decode cJ2_add_3 33 = .ok (.invokevirtual 129, 3) := dk_182 0 129 (dk_at dksJ2_add_3_1 11 rfl rfl)
theorem dJ2_add_3_36 : decode cJ2_add_3 36 = .ok (.astore 4, 2) := dk_58 4 (dk_at dksJ2_add_3_1 14 rfl rfl)
theorem dJ2_add_3_38 : decode cJ2_add_3 38 = .ok (.aload 4, 2) := dk_25 4 (dk_at dksJ2_add_3_1 16 rfl rfl)
theorem dJ2_add_3_40 : decode cJ2_add_3 40 = .ok (.iload_n 1, 1) := dk_27 (dk_at dksJ2_add_3_1 18 rfl rfl)
theorem dJ2_add_3_41 : decode cJ2_add_3 41 = .ok (.aload 4, 2) := dk_25 4 (dk_at dksJ2_add_3_1 19 rfl rfl)
theorem dJ2_add_3_43 : decode cJ2_add_3 43 = .ok (.iload_n 1, 1) := dk_27 (dk_at dksJ2_add_3_1 21 rfl rfl)
theorem dJ2_add_3_44 : decode cJ2_add_3 44 = .ok (.iconst 1, 1) := dk_4 (dk_at dksJ2_add_3_1 22 rfl rfl)
theorem dJ2_add_3_45 : decode cJ2_add_3 45 = .ok (.iadd, 1) := dk_96 (dk_at dksJ2_add_3_1 23 rfl rfl)
theorem dJ2_add_3_46 : decode cJ2_add_3 46 = .ok (.iload_n 3, 1) := dk_29 (dk_at dksJ2_add_3_2 0 rfl rfl)
theorem dJ2_add_3_47 : decode cJ2_add_3 47 = .ok (.iload_n 1, 1) := dk_27 (dk_at dksJ2_add_3_2 1 rfl rfl)
theorem dJ2_add_3_48 : decode cJ2_add_3 48 = .ok (.isub, 1) := dk_100 (dk_at dksJ2_add_3_2 2 rfl rfl)
theorem dJ2_add_3_49 : decode cJ2_add_3 49 = .ok (.invokestatic 112, 3) := dk_184 0 112 (dk_at dksJ2_add_3_2 3 rfl rfl)
theorem dJ2_add_3_52 : decode cJ2_add_3 52 = .ok (.aload 4, 2) := dk_25 4 (dk_at dksJ2_add_3_2 6 rfl rfl)
theorem dJ2_add_3_54 : decode cJ2_add_3 54 = .ok (.iload_n 1, 1) := dk_27 (dk_at dksJ2_add_3_2 8 rfl rfl)
theorem dJ2_add_3_55 : decode cJ2_add_3 55 = .ok (.aload_n 2, 1) := dk_44 (dk_at dksJ2_add_3_2 9 rfl rfl)
theorem dJ2_add_3_56 : decode cJ2_add_3 56 = .ok (.aastore, 1) := dk_83 (dk_at dksJ2_add_3_2 10 rfl rfl)
theorem dJ2_add_3_57 : decode cJ2_add_3 57 = .ok (.aload_n 0, 1) := dk_42 (dk_at dksJ2_add_3_2 11 rfl rfl)
theorem dJ2_add_3_58 : decode cJ2_add_3 58 = .ok (.iload_n 3, 1) := dk_29 (dk_at dksJ2_add_3_2 12 rfl rfl)
theorem dJ2_add_3_59 : decode cJ2_add_3 59 = .ok (.iconst 1, 1) := dk_4 (dk_at dksJ2_add_3_2 13 rfl rfl)
theorem dJ2_add_3_60 : decode cJ2_add_3 60 = .ok (.iadd, 1) := dk_96 (dk_at dksJ2_add_3_2 14 rfl rfl)
theorem dJ2_add_3_61 : decode cJ2_add_3 61 = .ok (.putfield 48, 3) := dk_181 0 48 (dk_at dksJ2_add_3_2 15 rfl rfl)
theorem dJ2_add_3_64 : decode cJ2_add_3 64 = .ok (.return_, 1) := dk_177 (dk_at dksJ2_add_3_2 18 rfl rfl)
abbrev cJ2_rangeCheckForAdd : ByteArray := prog_47_method_45_code
def yJ2_rangeCheckForAdd : MethodName := ⟨RJ2, "rangeCheckForAdd", "(I)V"⟩
def dkwJ2_rangeCheckForAdd_1 : List UInt8 := [191, 177]
abbrev dktJ2_rangeCheckForAdd_1 : List UInt8 := dkwJ2_rangeCheckForAdd_1 ++ []
def dkwJ2_rangeCheckForAdd_0 : List UInt8 := [27, 42, 180, 0, 48, 163, 0, 7, 27, 156, 0, 16, 187, 0, 187, 89, 42, 27, 182, 0, 198, 183, 0, 193]
abbrev dktJ2_rangeCheckForAdd_0 : List UInt8 := dkwJ2_rangeCheckForAdd_0 ++ dktJ2_rangeCheckForAdd_1
theorem dksJ2_rangeCheckForAdd_0 : cJ2_rangeCheckForAdd.data.toList.drop 0 = dktJ2_rangeCheckForAdd_0 := by decide +kernel
theorem dksJ2_rangeCheckForAdd_1 : cJ2_rangeCheckForAdd.data.toList.drop 24 = dktJ2_rangeCheckForAdd_1 := dk_seg dksJ2_rangeCheckForAdd_0 24 rfl rfl
theorem dJ2_rangeCheckForAdd_0 : decode cJ2_rangeCheckForAdd 0 = .ok (.iload_n 1, 1) := dk_27 (dk_at dksJ2_rangeCheckForAdd_0 0 rfl rfl)
theorem dJ2_rangeCheckForAdd_1 : decode cJ2_rangeCheckForAdd 1 = .ok (.aload_n 0, 1) := dk_42 (dk_at dksJ2_rangeCheckForAdd_0 1 rfl rfl)
theorem dJ2_rangeCheckForAdd_2 : decode cJ2_rangeCheckForAdd 2 = .ok (.getfield 48, 3) := dk_180 0 48 (dk_at dksJ2_rangeCheckForAdd_0 2 rfl rfl)
theorem dJ2_rangeCheckForAdd_5 : decode cJ2_rangeCheckForAdd 5 = .ok (.if_icmp .gt 7, 3) := dk_163 0 7 (dk_at dksJ2_rangeCheckForAdd_0 5 rfl rfl)
theorem dJ2_rangeCheckForAdd_8 : decode cJ2_rangeCheckForAdd 8 = .ok (.iload_n 1, 1) := dk_27 (dk_at dksJ2_rangeCheckForAdd_0 8 rfl rfl)
theorem dJ2_rangeCheckForAdd_9 : decode cJ2_rangeCheckForAdd 9 = .ok (.ifCond .ge 16, 3) := dk_156 0 16 (dk_at dksJ2_rangeCheckForAdd_0 9 rfl rfl)
theorem dJ2_rangeCheckForAdd_12 : decode cJ2_rangeCheckForAdd 12 = .ok (.new 187, 3) := dk_187 0 187 (dk_at dksJ2_rangeCheckForAdd_0 12 rfl rfl)
theorem dJ2_rangeCheckForAdd_15 : decode cJ2_rangeCheckForAdd 15 = .ok (.dup, 1) := dk_89 (dk_at dksJ2_rangeCheckForAdd_0 15 rfl rfl)
theorem dJ2_rangeCheckForAdd_16 : decode cJ2_rangeCheckForAdd 16 = .ok (.aload_n 0, 1) := dk_42 (dk_at dksJ2_rangeCheckForAdd_0 16 rfl rfl)
theorem dJ2_rangeCheckForAdd_17 : decode cJ2_rangeCheckForAdd 17 = .ok (.iload_n 1, 1) := dk_27 (dk_at dksJ2_rangeCheckForAdd_0 17 rfl rfl)
theorem dJ2_rangeCheckForAdd_18 : decode cJ2_rangeCheckForAdd 18 = .ok (.invokevirtual 198, 3) := dk_182 0 198 (dk_at dksJ2_rangeCheckForAdd_0 18 rfl rfl)
theorem dJ2_rangeCheckForAdd_21 : decode cJ2_rangeCheckForAdd 21 = .ok (.invokespecial 193, 3) := dk_183 0 193 (dk_at dksJ2_rangeCheckForAdd_0 21 rfl rfl)
theorem dJ2_rangeCheckForAdd_24 : decode cJ2_rangeCheckForAdd 24 = .ok (.athrow, 1) := dk_191 (dk_at dksJ2_rangeCheckForAdd_1 0 rfl rfl)
theorem dJ2_rangeCheckForAdd_25 : decode cJ2_rangeCheckForAdd 25 = .ok (.return_, 1) := dk_177 (dk_at dksJ2_rangeCheckForAdd_1 1 rfl rfl)
abbrev cJ2_outOfBoundsMsg : ByteArray := prog_47_method_46_code
def yJ2_outOfBoundsMsg : MethodName := ⟨RJ2, "outOfBoundsMsg", "(I)Ljava/lang/String;"⟩
def dkwJ2_outOfBoundsMsg_1 : List UInt8 := [180, 0, 48, 182, 0, 29, 182, 0, 32, 176]
abbrev dktJ2_outOfBoundsMsg_1 : List UInt8 := dkwJ2_outOfBoundsMsg_1 ++ []
def dkwJ2_outOfBoundsMsg_0 : List UInt8 := [187, 0, 20, 89, 183, 0, 22, 18, 201, 182, 0, 25, 27, 182, 0, 29, 18, 203, 182, 0, 25, 42]
abbrev dktJ2_outOfBoundsMsg_0 : List UInt8 := dkwJ2_outOfBoundsMsg_0 ++ dktJ2_outOfBoundsMsg_1
theorem dksJ2_outOfBoundsMsg_0 : cJ2_outOfBoundsMsg.data.toList.drop 0 = dktJ2_outOfBoundsMsg_0 := by decide +kernel
theorem dksJ2_outOfBoundsMsg_1 : cJ2_outOfBoundsMsg.data.toList.drop 22 = dktJ2_outOfBoundsMsg_1 := dk_seg dksJ2_outOfBoundsMsg_0 22 rfl rfl
theorem dJ2_outOfBoundsMsg_0 : decode cJ2_outOfBoundsMsg 0 = .ok (.new 20, 3) := dk_187 0 20 (dk_at dksJ2_outOfBoundsMsg_0 0 rfl rfl)
theorem dJ2_outOfBoundsMsg_3 : decode cJ2_outOfBoundsMsg 3 = .ok (.dup, 1) := dk_89 (dk_at dksJ2_outOfBoundsMsg_0 3 rfl rfl)
theorem dJ2_outOfBoundsMsg_4 : decode cJ2_outOfBoundsMsg 4 = .ok (.invokespecial 22, 3) := dk_183 0 22 (dk_at dksJ2_outOfBoundsMsg_0 4 rfl rfl)
theorem dJ2_outOfBoundsMsg_7 : decode cJ2_outOfBoundsMsg 7 = .ok (.ldc 201, 2) := dk_18 201 (dk_at dksJ2_outOfBoundsMsg_0 7 rfl rfl)
theorem dJ2_outOfBoundsMsg_9 : decode cJ2_outOfBoundsMsg 9 = .ok (.invokevirtual 25, 3) := dk_182 0 25 (dk_at dksJ2_outOfBoundsMsg_0 9 rfl rfl)
theorem dJ2_outOfBoundsMsg_12 : decode cJ2_outOfBoundsMsg 12 = .ok (.iload_n 1, 1) := dk_27 (dk_at dksJ2_outOfBoundsMsg_0 12 rfl rfl)
theorem dJ2_outOfBoundsMsg_13 : decode cJ2_outOfBoundsMsg 13 = .ok (.invokevirtual 29, 3) := dk_182 0 29 (dk_at dksJ2_outOfBoundsMsg_0 13 rfl rfl)
theorem dJ2_outOfBoundsMsg_16 : decode cJ2_outOfBoundsMsg 16 = .ok (.ldc 203, 2) := dk_18 203 (dk_at dksJ2_outOfBoundsMsg_0 16 rfl rfl)
theorem dJ2_outOfBoundsMsg_18 : decode cJ2_outOfBoundsMsg 18 = .ok (.invokevirtual 25, 3) := dk_182 0 25 (dk_at dksJ2_outOfBoundsMsg_0 18 rfl rfl)
theorem dJ2_outOfBoundsMsg_21 : decode cJ2_outOfBoundsMsg 21 = .ok (.aload_n 0, 1) := dk_42 (dk_at dksJ2_outOfBoundsMsg_0 21 rfl rfl)
theorem dJ2_outOfBoundsMsg_22 : decode cJ2_outOfBoundsMsg 22 = .ok (.getfield 48, 3) := dk_180 0 48 (dk_at dksJ2_outOfBoundsMsg_1 0 rfl rfl)
theorem dJ2_outOfBoundsMsg_25 : decode cJ2_outOfBoundsMsg 25 = .ok (.invokevirtual 29, 3) := dk_182 0 29 (dk_at dksJ2_outOfBoundsMsg_1 3 rfl rfl)
theorem dJ2_outOfBoundsMsg_28 : decode cJ2_outOfBoundsMsg 28 = .ok (.invokevirtual 32, 3) := dk_182 0 32 (dk_at dksJ2_outOfBoundsMsg_1 6 rfl rfl)
theorem dJ2_outOfBoundsMsg_31 : decode cJ2_outOfBoundsMsg 31 = .ok (.areturn, 1) := dk_176 (dk_at dksJ2_outOfBoundsMsg_1 9 rfl rfl)
abbrev cJ2_remove : ByteArray := prog_47_method_29_code
def yJ2_remove : MethodName := ⟨RJ2, "remove", "(I)Ljava/lang/Object;"⟩
def dkwJ2_remove_1 : List UInt8 := [45, 176]
abbrev dktJ2_remove_1 : List UInt8 := dkwJ2_remove_1 ++ []
def dkwJ2_remove_0 : List UInt8 := [27, 42, 180, 0, 48, 184, 0, 118, 87, 42, 180, 0, 9, 77, 44, 27, 50, 78, 42, 44, 27, 182, 0, 144]
abbrev dktJ2_remove_0 : List UInt8 := dkwJ2_remove_0 ++ dktJ2_remove_1
theorem dksJ2_remove_0 : cJ2_remove.data.toList.drop 0 = dktJ2_remove_0 := by decide +kernel
theorem dksJ2_remove_1 : cJ2_remove.data.toList.drop 24 = dktJ2_remove_1 := dk_seg dksJ2_remove_0 24 rfl rfl
theorem dJ2_remove_0 : decode cJ2_remove 0 = .ok (.iload_n 1, 1) := dk_27 (dk_at dksJ2_remove_0 0 rfl rfl)
theorem dJ2_remove_1 : decode cJ2_remove 1 = .ok (.aload_n 0, 1) := dk_42 (dk_at dksJ2_remove_0 1 rfl rfl)
theorem dJ2_remove_2 : decode cJ2_remove 2 = .ok (.getfield 48, 3) := dk_180 0 48 (dk_at dksJ2_remove_0 2 rfl rfl)
theorem dJ2_remove_5 : decode cJ2_remove 5 = .ok (.invokestatic 118, 3) := dk_184 0 118 (dk_at dksJ2_remove_0 5 rfl rfl)
theorem dJ2_remove_8 : decode cJ2_remove 8 = .ok (.pop, 1) := dk_87 (dk_at dksJ2_remove_0 8 rfl rfl)
theorem dJ2_remove_9 : decode cJ2_remove 9 = .ok (.aload_n 0, 1) := dk_42 (dk_at dksJ2_remove_0 9 rfl rfl)
theorem dJ2_remove_10 : decode cJ2_remove 10 = .ok (.getfield 9, 3) := dk_180 0 9 (dk_at dksJ2_remove_0 10 rfl rfl)
theorem dJ2_remove_13 : decode cJ2_remove 13 = .ok (.astore_n 2, 1) := dk_77 (dk_at dksJ2_remove_0 13 rfl rfl)
theorem dJ2_remove_14 : decode cJ2_remove 14 = .ok (.aload_n 2, 1) := dk_44 (dk_at dksJ2_remove_0 14 rfl rfl)
theorem dJ2_remove_15 : decode cJ2_remove 15 = .ok (.iload_n 1, 1) := dk_27 (dk_at dksJ2_remove_0 15 rfl rfl)
theorem dJ2_remove_16 : decode cJ2_remove 16 = .ok (.aaload, 1) := dk_50 (dk_at dksJ2_remove_0 16 rfl rfl)
theorem dJ2_remove_17 : decode cJ2_remove 17 = .ok (.astore_n 3, 1) := dk_78 (dk_at dksJ2_remove_0 17 rfl rfl)
theorem dJ2_remove_18 : decode cJ2_remove 18 = .ok (.aload_n 0, 1) := dk_42 (dk_at dksJ2_remove_0 18 rfl rfl)
theorem dJ2_remove_19 : decode cJ2_remove 19 = .ok (.aload_n 2, 1) := dk_44 (dk_at dksJ2_remove_0 19 rfl rfl)
theorem dJ2_remove_20 : decode cJ2_remove 20 = .ok (.iload_n 1, 1) := dk_27 (dk_at dksJ2_remove_0 20 rfl rfl)
theorem dJ2_remove_21 : decode cJ2_remove 21 = .ok (.invokevirtual 144, 3) := dk_182 0 144 (dk_at dksJ2_remove_0 21 rfl rfl)
theorem dJ2_remove_24 : decode cJ2_remove 24 = .ok (.aload_n 3, 1) := dk_45 (dk_at dksJ2_remove_1 0 rfl rfl)
theorem dJ2_remove_25 : decode cJ2_remove 25 = .ok (.areturn, 1) := dk_176 (dk_at dksJ2_remove_1 1 rfl rfl)
abbrev cJ2_fastRemove : ByteArray := prog_47_method_39_code
def yJ2_fastRemove : MethodName := ⟨RJ2, "fastRemove", "([Ljava/lang/Object;I)V"⟩
def dkwJ2_fastRemove_1 : List UInt8 := [4, 96, 43, 28, 29, 28, 100, 184, 0, 112, 43, 42, 29, 90, 181, 0, 48, 1, 83, 177]
abbrev dktJ2_fastRemove_1 : List UInt8 := dkwJ2_fastRemove_1 ++ []
def dkwJ2_fastRemove_0 : List UInt8 := [42, 89, 180, 0, 63, 4, 96, 181, 0, 63, 42, 180, 0, 48, 4, 100, 89, 62, 28, 164, 0, 15, 43, 28]
abbrev dktJ2_fastRemove_0 : List UInt8 := dkwJ2_fastRemove_0 ++ dktJ2_fastRemove_1
theorem dksJ2_fastRemove_0 : cJ2_fastRemove.data.toList.drop 0 = dktJ2_fastRemove_0 := by decide +kernel
theorem dksJ2_fastRemove_1 : cJ2_fastRemove.data.toList.drop 24 = dktJ2_fastRemove_1 := dk_seg dksJ2_fastRemove_0 24 rfl rfl
theorem dJ2_fastRemove_0 : decode cJ2_fastRemove 0 = .ok (.aload_n 0, 1) := dk_42 (dk_at dksJ2_fastRemove_0 0 rfl rfl)
theorem dJ2_fastRemove_1 : decode cJ2_fastRemove 1 = .ok (.dup, 1) := dk_89 (dk_at dksJ2_fastRemove_0 1 rfl rfl)
theorem dJ2_fastRemove_2 : decode cJ2_fastRemove 2 = .ok (.getfield 63, 3) := dk_180 0 63 (dk_at dksJ2_fastRemove_0 2 rfl rfl)
theorem dJ2_fastRemove_5 : decode cJ2_fastRemove 5 = .ok (.iconst 1, 1) := dk_4 (dk_at dksJ2_fastRemove_0 5 rfl rfl)
theorem dJ2_fastRemove_6 : decode cJ2_fastRemove 6 = .ok (.iadd, 1) := dk_96 (dk_at dksJ2_fastRemove_0 6 rfl rfl)
theorem dJ2_fastRemove_7 : decode cJ2_fastRemove 7 = .ok (.putfield 63, 3) := dk_181 0 63 (dk_at dksJ2_fastRemove_0 7 rfl rfl)
theorem dJ2_fastRemove_10 : decode cJ2_fastRemove 10 = .ok (.aload_n 0, 1) := dk_42 (dk_at dksJ2_fastRemove_0 10 rfl rfl)
theorem dJ2_fastRemove_11 : decode cJ2_fastRemove 11 = .ok (.getfield 48, 3) := dk_180 0 48 (dk_at dksJ2_fastRemove_0 11 rfl rfl)
theorem dJ2_fastRemove_14 : decode cJ2_fastRemove 14 = .ok (.iconst 1, 1) := dk_4 (dk_at dksJ2_fastRemove_0 14 rfl rfl)
theorem dJ2_fastRemove_15 : decode cJ2_fastRemove 15 = .ok (.isub, 1) := dk_100 (dk_at dksJ2_fastRemove_0 15 rfl rfl)
theorem dJ2_fastRemove_16 : decode cJ2_fastRemove 16 = .ok (.dup, 1) := dk_89 (dk_at dksJ2_fastRemove_0 16 rfl rfl)
theorem dJ2_fastRemove_17 : decode cJ2_fastRemove 17 = .ok (.istore_n 3, 1) := dk_62 (dk_at dksJ2_fastRemove_0 17 rfl rfl)
theorem dJ2_fastRemove_18 : decode cJ2_fastRemove 18 = .ok (.iload_n 2, 1) := dk_28 (dk_at dksJ2_fastRemove_0 18 rfl rfl)
theorem dJ2_fastRemove_19 : decode cJ2_fastRemove 19 = .ok (.if_icmp .le 15, 3) := dk_164 0 15 (dk_at dksJ2_fastRemove_0 19 rfl rfl)
theorem dJ2_fastRemove_22 : decode cJ2_fastRemove 22 = .ok (.aload_n 1, 1) := dk_43 (dk_at dksJ2_fastRemove_0 22 rfl rfl)
theorem dJ2_fastRemove_23 : decode cJ2_fastRemove 23 = .ok (.iload_n 2, 1) := dk_28 (dk_at dksJ2_fastRemove_0 23 rfl rfl)
theorem dJ2_fastRemove_24 : decode cJ2_fastRemove 24 = .ok (.iconst 1, 1) := dk_4 (dk_at dksJ2_fastRemove_1 0 rfl rfl)
theorem dJ2_fastRemove_25 : decode cJ2_fastRemove 25 = .ok (.iadd, 1) := dk_96 (dk_at dksJ2_fastRemove_1 1 rfl rfl)
theorem dJ2_fastRemove_26 : decode cJ2_fastRemove 26 = .ok (.aload_n 1, 1) := dk_43 (dk_at dksJ2_fastRemove_1 2 rfl rfl)
theorem dJ2_fastRemove_27 : decode cJ2_fastRemove 27 = .ok (.iload_n 2, 1) := dk_28 (dk_at dksJ2_fastRemove_1 3 rfl rfl)
theorem dJ2_fastRemove_28 : decode cJ2_fastRemove 28 = .ok (.iload_n 3, 1) := dk_29 (dk_at dksJ2_fastRemove_1 4 rfl rfl)
theorem dJ2_fastRemove_29 : decode cJ2_fastRemove 29 = .ok (.iload_n 2, 1) := dk_28 (dk_at dksJ2_fastRemove_1 5 rfl rfl)
theorem dJ2_fastRemove_30 : decode cJ2_fastRemove 30 = .ok (.isub, 1) := dk_100 (dk_at dksJ2_fastRemove_1 6 rfl rfl)
theorem dJ2_fastRemove_31 : decode cJ2_fastRemove 31 = .ok (.invokestatic 112, 3) := dk_184 0 112 (dk_at dksJ2_fastRemove_1 7 rfl rfl)
theorem dJ2_fastRemove_34 : decode cJ2_fastRemove 34 = .ok (.aload_n 1, 1) := dk_43 (dk_at dksJ2_fastRemove_1 10 rfl rfl)
theorem dJ2_fastRemove_35 : decode cJ2_fastRemove 35 = .ok (.aload_n 0, 1) := dk_42 (dk_at dksJ2_fastRemove_1 11 rfl rfl)
theorem dJ2_fastRemove_36 : decode cJ2_fastRemove 36 = .ok (.iload_n 3, 1) := dk_29 (dk_at dksJ2_fastRemove_1 12 rfl rfl)
theorem dJ2_fastRemove_37 : decode cJ2_fastRemove 37 = .ok (.dup_x1, 1) := dk_90 (dk_at dksJ2_fastRemove_1 13 rfl rfl)
theorem dJ2_fastRemove_38 : decode cJ2_fastRemove 38 = .ok (.putfield 48, 3) := dk_181 0 48 (dk_at dksJ2_fastRemove_1 14 rfl rfl)
theorem dJ2_fastRemove_41 : decode cJ2_fastRemove 41 = .ok (.aconst_null, 1) := dk_1 (dk_at dksJ2_fastRemove_1 17 rfl rfl)
theorem dJ2_fastRemove_42 : decode cJ2_fastRemove 42 = .ok (.aastore, 1) := dk_83 (dk_at dksJ2_fastRemove_1 18 rfl rfl)
theorem dJ2_fastRemove_43 : decode cJ2_fastRemove 43 = .ok (.return_, 1) := dk_177 (dk_at dksJ2_fastRemove_1 19 rfl rfl)
abbrev cJ2_isEmpty : ByteArray := prog_47_method_9_code
def yJ2_isEmpty : MethodName := ⟨RJ2, "isEmpty", "()Z"⟩
def dkwJ2_isEmpty_0 : List UInt8 := [42, 180, 0, 48, 154, 0, 7, 4, 167, 0, 4, 3, 172]
abbrev dktJ2_isEmpty_0 : List UInt8 := dkwJ2_isEmpty_0 ++ []
theorem dksJ2_isEmpty_0 : cJ2_isEmpty.data.toList.drop 0 = dktJ2_isEmpty_0 := by decide +kernel
theorem dJ2_isEmpty_0 : decode cJ2_isEmpty 0 = .ok (.aload_n 0, 1) := dk_42 (dk_at dksJ2_isEmpty_0 0 rfl rfl)
theorem dJ2_isEmpty_1 : decode cJ2_isEmpty 1 = .ok (.getfield 48, 3) := dk_180 0 48 (dk_at dksJ2_isEmpty_0 1 rfl rfl)
theorem dJ2_isEmpty_4 : decode cJ2_isEmpty 4 = .ok (.ifCond .ne 7, 3) := dk_154 0 7 (dk_at dksJ2_isEmpty_0 4 rfl rfl)
theorem dJ2_isEmpty_7 : decode cJ2_isEmpty 7 = .ok (.iconst 1, 1) := dk_4 (dk_at dksJ2_isEmpty_0 7 rfl rfl)
theorem dJ2_isEmpty_8 : decode cJ2_isEmpty 8 = .ok (.goto 4, 3) := dk_167 0 4 (dk_at dksJ2_isEmpty_0 8 rfl rfl)
theorem dJ2_isEmpty_11 : decode cJ2_isEmpty 11 = .ok (.iconst 0, 1) := dk_3 (dk_at dksJ2_isEmpty_0 11 rfl rfl)
theorem dJ2_isEmpty_12 : decode cJ2_isEmpty 12 = .ok (.ireturn, 1) := dk_172 (dk_at dksJ2_isEmpty_0 12 rfl rfl)
theorem q66 : (Jvm.Cond.initialized "java/util/ArrayList") ∈ lw_all := lw_g (lw_at lw_m1 5 rfl) rfl
theorem q118 : (Jvm.Cond.instantiable "java/util/ArrayList" (3 : Nat)) ∈ lw_all := lw_g (lw_at lw_m1 57 rfl) rfl
theorem q120 : (Jvm.Cond.instanceMethod ({ cls := "java/util/ArrayList", name := "<init>", desc := "()V" } : Jvm.MethodName)) ∈ lw_all := lw_g (lw_at lw_m1 59 rfl) rfl
theorem q121 : (Jvm.Cond.code ({ cls := "java/util/ArrayList", name := "<init>", desc := "()V" } : Jvm.MethodName) prog_47_method_2_code (1 : Nat) (Option.none : Option Jvm.ClassFile.FieldType)) ∈ lw_all := lw_g (lw_at lw_m1 60 rfl) rfl
theorem q122 : (Jvm.Cond.methodLink "java/util/ArrayList" (1 : Nat) ({ cls := "java/util/AbstractList", name := "<init>", desc := "()V" } : Jvm.MethodName)) ∈ lw_all := lw_g (lw_at lw_m1 61 rfl) rfl
theorem q129 : (Jvm.Cond.fieldLink "java/util/ArrayList" (39 : Nat) "java/util/ArrayList" "DEFAULTCAPACITY_EMPTY_ELEMENTDATA" "[Ljava/lang/Object;") ∈ lw_all := lw_g (lw_at lw_m1 68 rfl) rfl
theorem q130 : (Jvm.Cond.laysStatic "java/util/ArrayList" "DEFAULTCAPACITY_EMPTY_ELEMENTDATA" "[Ljava/lang/Object;") ∈ lw_tbl := lw_at lw_m1 69 rfl
theorem q131 : (Jvm.Cond.fieldLink "java/util/ArrayList" (9 : Nat) "java/util/ArrayList" "elementData" "[Ljava/lang/Object;") ∈ lw_all := lw_g (lw_at lw_m1 70 rfl) rfl
theorem q134 : (Jvm.Cond.fieldLink "java/util/ArrayList" (48 : Nat) "java/util/ArrayList" "size" "I") ∈ lw_all := lw_g (lw_at lw_m1 73 rfl) rfl
theorem q137 : (Jvm.Cond.sameField "java/util/ArrayList" "java/util/AbstractList" "modCount" "I") ∈ lw_all := lw_g (lw_at lw_m1 76 rfl) rfl
theorem q138 : (Jvm.Cond.fieldLink "java/util/ArrayList" (63 : Nat) "java/util/ArrayList" "modCount" "I") ∈ lw_all := lw_g (lw_at lw_m1 77 rfl) rfl
theorem q139 : (Jvm.Cond.lays "java/util/ArrayList" "java/util/ArrayList" "elementData" "[Ljava/lang/Object;") ∈ lw_all := lw_g (lw_at lw_m1 78 rfl) rfl
theorem q140 : (Jvm.Cond.soleField "java/util/ArrayList" "elementData") ∈ lw_all := lw_g (lw_at lw_m1 79 rfl) rfl
theorem q141 : (Jvm.Cond.lays "java/util/ArrayList" "java/util/ArrayList" "size" "I") ∈ lw_all := lw_g (lw_at lw_m1 80 rfl) rfl
theorem q142 : (Jvm.Cond.soleField "java/util/ArrayList" "size") ∈ lw_all := lw_g (lw_at lw_m1 81 rfl) rfl
theorem q143 : (Jvm.Cond.lays "java/util/ArrayList" "java/util/AbstractList" "modCount" "I") ∈ lw_all := lw_g (lw_at lw_m1 82 rfl) rfl
theorem q145 : (Jvm.Cond.superclass "java/util/ArrayList" "java/util/AbstractList") ∈ lw_all := lw_g (lw_at lw_m1 84 rfl) rfl
theorem q293 : (Jvm.Cond.instanceMethod ({ cls := "java/util/ArrayList", name := "clear", desc := "()V" } : Jvm.MethodName)) ∈ lw_all := lw_g (lw_at lw_m1 232 rfl) rfl
theorem q294 : (Jvm.Cond.selects "java/util/ArrayList" ({ cls := "java/util/ArrayList", name := "clear", desc := "()V" } : Jvm.MethodName) ({ cls := "java/util/ArrayList", name := "clear", desc := "()V" } : Jvm.MethodName)) ∈ lw_all := lw_g (lw_at lw_m1 233 rfl) rfl
theorem q295 : (Jvm.Cond.code ({ cls := "java/util/ArrayList", name := "clear", desc := "()V" } : Jvm.MethodName) prog_47_method_40_code (4 : Nat) (Option.none : Option Jvm.ClassFile.FieldType)) ∈ lw_all := lw_g (lw_at lw_m1 234 rfl) rfl
theorem q297 : (Jvm.Cond.instanceMethod ({ cls := "java/util/ArrayList", name := "iterator", desc := "()Ljava/util/Iterator;" } : Jvm.MethodName)) ∈ lw_all := lw_g (lw_at lw_m1 236 rfl) rfl
theorem q298 : (Jvm.Cond.selects "java/util/ArrayList" ({ cls := "java/util/ArrayList", name := "iterator", desc := "()Ljava/util/Iterator;" } : Jvm.MethodName) ({ cls := "java/util/ArrayList", name := "iterator", desc := "()Ljava/util/Iterator;" } : Jvm.MethodName)) ∈ lw_all := lw_g (lw_at lw_m1 237 rfl) rfl
theorem q299 : (Jvm.Cond.code ({ cls := "java/util/ArrayList", name := "iterator", desc := "()Ljava/util/Iterator;" } : Jvm.MethodName) prog_47_method_55_code (1 : Nat) (Option.some (Jvm.ClassFile.FieldType.object "java/util/Iterator"))) ∈ lw_all := lw_g (lw_at lw_m1 238 rfl) rfl
theorem q300 : (Jvm.Cond.classLink "java/util/ArrayList" (267 : Nat) "java/util/ArrayList$Itr") ∈ lw_all := lw_g (lw_at lw_m1 239 rfl) rfl
theorem q302 : (Jvm.Cond.methodLink "java/util/ArrayList" (269 : Nat) ({ cls := "java/util/ArrayList$Itr", name := "<init>", desc := "(Ljava/util/ArrayList;)V" } : Jvm.MethodName)) ∈ lw_all := lw_g (lw_at lw_m2 1 rfl) rfl
theorem q474 : (Jvm.Cond.instanceMethod ({ cls := "java/util/ArrayList", name := "add", desc := "(Ljava/lang/Object;)Z" } : Jvm.MethodName)) ∈ lw_all := lw_g (lw_at lw_m2 173 rfl) rfl
theorem q475 : (Jvm.Cond.selects "java/util/ArrayList" ({ cls := "java/util/ArrayList", name := "add", desc := "(Ljava/lang/Object;)Z" } : Jvm.MethodName) ({ cls := "java/util/ArrayList", name := "add", desc := "(Ljava/lang/Object;)Z" } : Jvm.MethodName)) ∈ lw_all := lw_g (lw_at lw_m2 174 rfl) rfl
theorem q476 : (Jvm.Cond.code ({ cls := "java/util/ArrayList", name := "add", desc := "(Ljava/lang/Object;)Z" } : Jvm.MethodName) prog_47_method_25_code (2 : Nat) (Option.some Jvm.ClassFile.FieldType.boolean)) ∈ lw_all := lw_g (lw_at lw_m2 175 rfl) rfl
theorem q477 : (Jvm.Cond.methodLink "java/util/ArrayList" (131 : Nat) ({ cls := "java/util/ArrayList", name := "add", desc := "(Ljava/lang/Object;[Ljava/lang/Object;I)V" } : Jvm.MethodName)) ∈ lw_all := lw_g (lw_at lw_m2 176 rfl) rfl
theorem q478 : (Jvm.Cond.privateMethod ({ cls := "java/util/ArrayList", name := "add", desc := "(Ljava/lang/Object;[Ljava/lang/Object;I)V" } : Jvm.MethodName)) ∈ lw_tbl := lw_at lw_m2 177 rfl
theorem q479 : (Jvm.Cond.instanceMethod ({ cls := "java/util/ArrayList", name := "add", desc := "(Ljava/lang/Object;[Ljava/lang/Object;I)V" } : Jvm.MethodName)) ∈ lw_all := lw_g (lw_at lw_m2 178 rfl) rfl
theorem q480 : (Jvm.Cond.code ({ cls := "java/util/ArrayList", name := "add", desc := "(Ljava/lang/Object;[Ljava/lang/Object;I)V" } : Jvm.MethodName) prog_47_method_24_code (4 : Nat) (Option.none : Option Jvm.ClassFile.FieldType)) ∈ lw_all := lw_g (lw_at lw_m2 179 rfl) rfl
theorem q481 : (Jvm.Cond.methodLink "java/util/ArrayList" (129 : Nat) ({ cls := "java/util/ArrayList", name := "grow", desc := "()[Ljava/lang/Object;" } : Jvm.MethodName)) ∈ lw_all := lw_g (lw_at lw_m2 180 rfl) rfl
theorem q482 : (Jvm.Cond.privateMethod ({ cls := "java/util/ArrayList", name := "grow", desc := "()[Ljava/lang/Object;" } : Jvm.MethodName)) ∈ lw_tbl := lw_at lw_m2 181 rfl
theorem q483 : (Jvm.Cond.instanceMethod ({ cls := "java/util/ArrayList", name := "grow", desc := "()[Ljava/lang/Object;" } : Jvm.MethodName)) ∈ lw_all := lw_g (lw_at lw_m2 182 rfl) rfl
theorem q484 : (Jvm.Cond.code ({ cls := "java/util/ArrayList", name := "grow", desc := "()[Ljava/lang/Object;" } : Jvm.MethodName) prog_47_method_7_code (1 : Nat) (Option.some (Jvm.ClassFile.FieldType.array (Jvm.ClassFile.FieldType.object "java/lang/Object")))) ∈ lw_all := lw_g (lw_at lw_m2 183 rfl) rfl
theorem q485 : (Jvm.Cond.methodLink "java/util/ArrayList" (69 : Nat) ({ cls := "java/util/ArrayList", name := "grow", desc := "(I)[Ljava/lang/Object;" } : Jvm.MethodName)) ∈ lw_all := lw_g (lw_at lw_m2 184 rfl) rfl
theorem q486 : (Jvm.Cond.privateMethod ({ cls := "java/util/ArrayList", name := "grow", desc := "(I)[Ljava/lang/Object;" } : Jvm.MethodName)) ∈ lw_tbl := lw_at lw_m2 185 rfl
theorem q487 : (Jvm.Cond.instanceMethod ({ cls := "java/util/ArrayList", name := "grow", desc := "(I)[Ljava/lang/Object;" } : Jvm.MethodName)) ∈ lw_all := lw_g (lw_at lw_m2 186 rfl) rfl
theorem q488 : (Jvm.Cond.code ({ cls := "java/util/ArrayList", name := "grow", desc := "(I)[Ljava/lang/Object;" } : Jvm.MethodName) prog_47_method_6_code (4 : Nat) (Option.some (Jvm.ClassFile.FieldType.array (Jvm.ClassFile.FieldType.object "java/lang/Object")))) ∈ lw_all := lw_g (lw_at lw_m2 187 rfl) rfl
theorem q489 : (Jvm.Cond.methodLink "java/util/ArrayList" (73 : Nat) ({ cls := "jdk/internal/util/ArraysSupport", name := "newLength", desc := "(III)I" } : Jvm.MethodName)) ∈ lw_all := lw_g (lw_at lw_m2 188 rfl) rfl
theorem q499 : (Jvm.Cond.methodLink "java/util/ArrayList" (66 : Nat) ({ cls := "java/util/Arrays", name := "copyOf", desc := "([Ljava/lang/Object;I)[Ljava/lang/Object;" } : Jvm.MethodName)) ∈ lw_all := lw_g (lw_at lw_m2 198 rfl) rfl
theorem q527 : (Jvm.Cond.selects "java/util/ArrayList" ({ cls := "java/lang/Object", name := "getClass", desc := "()Ljava/lang/Class;" } : Jvm.MethodName) ({ cls := "java/lang/Object", name := "getClass", desc := "()Ljava/lang/Class;" } : Jvm.MethodName)) ∈ lw_all := lw_g (lw_at lw_m2 226 rfl) rfl
theorem q542 : (Jvm.Cond.methodLink "java/util/ArrayList" (79 : Nat) ({ cls := "java/lang/Math", name := "max", desc := "(II)I" } : Jvm.MethodName)) ∈ lw_all := lw_g (lw_at lw_m3 1 rfl) rfl
theorem q543 : (Jvm.Cond.classLink "java/util/ArrayList" (7 : Nat) "java/lang/Object") ∈ lw_all := lw_g (lw_at lw_m3 2 rfl) rfl
theorem q545 : (Jvm.Cond.instanceMethod ({ cls := "java/util/ArrayList", name := "addAll", desc := "(Ljava/util/Collection;)Z" } : Jvm.MethodName)) ∈ lw_all := lw_g (lw_at lw_m3 4 rfl) rfl
theorem q546 : (Jvm.Cond.selects "java/util/ArrayList" ({ cls := "java/util/ArrayList", name := "addAll", desc := "(Ljava/util/Collection;)Z" } : Jvm.MethodName) ({ cls := "java/util/ArrayList", name := "addAll", desc := "(Ljava/util/Collection;)Z" } : Jvm.MethodName)) ∈ lw_all := lw_g (lw_at lw_m3 5 rfl) rfl
theorem q547 : (Jvm.Cond.code ({ cls := "java/util/ArrayList", name := "addAll", desc := "(Ljava/util/Collection;)Z" } : Jvm.MethodName) prog_47_method_41_code (6 : Nat) (Option.some Jvm.ClassFile.FieldType.boolean)) ∈ lw_all := lw_g (lw_at lw_m3 6 rfl) rfl
theorem q548 : (Jvm.Cond.interfaceEntry "java/util/ArrayList" (42 : Nat)) ∈ lw_tbl := lw_at lw_m3 7 rfl
theorem q549 : (Jvm.Cond.methodLink "java/util/ArrayList" (42 : Nat) ({ cls := "java/util/Collection", name := "toArray", desc := "()[Ljava/lang/Object;" } : Jvm.MethodName)) ∈ lw_all := lw_g (lw_at lw_m3 8 rfl) rfl
theorem q785 : (Jvm.Cond.castable "java/util/ArrayList" "java/util/Collection") ∈ lw_tbl := lw_at lw_m4 4 rfl
theorem q786 : (Jvm.Cond.selects "java/util/ArrayList" ({ cls := "java/util/Collection", name := "toArray", desc := "()[Ljava/lang/Object;" } : Jvm.MethodName) ({ cls := "java/util/ArrayList", name := "toArray", desc := "()[Ljava/lang/Object;" } : Jvm.MethodName)) ∈ lw_all := lw_g (lw_at lw_m4 5 rfl) rfl
theorem q787 : (Jvm.Cond.unhidden "java/util/ArrayList" "toArray" "()[Ljava/lang/Object;") ∈ lw_tbl := lw_at lw_m4 6 rfl
theorem q788 : (Jvm.Cond.instanceMethod ({ cls := "java/util/ArrayList", name := "toArray", desc := "()[Ljava/lang/Object;" } : Jvm.MethodName)) ∈ lw_all := lw_g (lw_at lw_m4 7 rfl) rfl
theorem q789 : (Jvm.Cond.publicMethod ({ cls := "java/util/ArrayList", name := "toArray", desc := "()[Ljava/lang/Object;" } : Jvm.MethodName)) ∈ lw_tbl := lw_at lw_m4 8 rfl
theorem q790 : (Jvm.Cond.code ({ cls := "java/util/ArrayList", name := "toArray", desc := "()[Ljava/lang/Object;" } : Jvm.MethodName) prog_47_method_16_code (1 : Nat) (Option.some (Jvm.ClassFile.FieldType.array (Jvm.ClassFile.FieldType.object "java/lang/Object")))) ∈ lw_all := lw_g (lw_at lw_m4 9 rfl) rfl
theorem q791 : (Jvm.Cond.methodLink "java/util/ArrayList" (112 : Nat) ({ cls := "java/lang/System", name := "arraycopy", desc := "(Ljava/lang/Object;ILjava/lang/Object;II)V" } : Jvm.MethodName)) ∈ lw_all := lw_g (lw_at lw_m4 10 rfl) rfl
theorem q818 : (Jvm.Cond.instanceMethod ({ cls := "java/util/ArrayList", name := "size", desc := "()I" } : Jvm.MethodName)) ∈ lw_all := lw_g (lw_at lw_m4 37 rfl) rfl
theorem q819 : (Jvm.Cond.selects "java/util/ArrayList" ({ cls := "java/util/ArrayList", name := "size", desc := "()I" } : Jvm.MethodName) ({ cls := "java/util/ArrayList", name := "size", desc := "()I" } : Jvm.MethodName)) ∈ lw_all := lw_g (lw_at lw_m4 38 rfl) rfl
theorem q820 : (Jvm.Cond.code ({ cls := "java/util/ArrayList", name := "size", desc := "()I" } : Jvm.MethodName) prog_47_method_8_code (1 : Nat) (Option.some Jvm.ClassFile.FieldType.int)) ∈ lw_all := lw_g (lw_at lw_m4 39 rfl) rfl
theorem q964 : (Jvm.Cond.instanceMethod ({ cls := "java/util/ArrayList", name := "get", desc := "(I)Ljava/lang/Object;" } : Jvm.MethodName)) ∈ lw_all := lw_g (lw_at lw_m4 183 rfl) rfl
theorem q965 : (Jvm.Cond.selects "java/util/ArrayList" ({ cls := "java/util/ArrayList", name := "get", desc := "(I)Ljava/lang/Object;" } : Jvm.MethodName) ({ cls := "java/util/ArrayList", name := "get", desc := "(I)Ljava/lang/Object;" } : Jvm.MethodName)) ∈ lw_all := lw_g (lw_at lw_m4 184 rfl) rfl
theorem q966 : (Jvm.Cond.code ({ cls := "java/util/ArrayList", name := "get", desc := "(I)Ljava/lang/Object;" } : Jvm.MethodName) prog_47_method_20_code (2 : Nat) (Option.some (Jvm.ClassFile.FieldType.object "java/lang/Object"))) ∈ lw_all := lw_g (lw_at lw_m4 185 rfl) rfl
theorem q967 : (Jvm.Cond.methodLink "java/util/ArrayList" (118 : Nat) ({ cls := "java/util/Objects", name := "checkIndex", desc := "(II)I" } : Jvm.MethodName)) ∈ lw_all := lw_g (lw_at lw_m4 186 rfl) rfl
theorem q973 : (Jvm.Cond.methodLink "java/util/ArrayList" (123 : Nat) ({ cls := "java/util/ArrayList", name := "elementData", desc := "(I)Ljava/lang/Object;" } : Jvm.MethodName)) ∈ lw_all := lw_g (lw_at lw_m4 192 rfl) rfl
theorem q974 : (Jvm.Cond.instanceMethod ({ cls := "java/util/ArrayList", name := "elementData", desc := "(I)Ljava/lang/Object;" } : Jvm.MethodName)) ∈ lw_all := lw_g (lw_at lw_m4 193 rfl) rfl
theorem q975 : (Jvm.Cond.selects "java/util/ArrayList" ({ cls := "java/util/ArrayList", name := "elementData", desc := "(I)Ljava/lang/Object;" } : Jvm.MethodName) ({ cls := "java/util/ArrayList", name := "elementData", desc := "(I)Ljava/lang/Object;" } : Jvm.MethodName)) ∈ lw_all := lw_g (lw_at lw_m4 194 rfl) rfl
theorem q976 : (Jvm.Cond.code ({ cls := "java/util/ArrayList", name := "elementData", desc := "(I)Ljava/lang/Object;" } : Jvm.MethodName) prog_47_method_18_code (2 : Nat) (Option.some (Jvm.ClassFile.FieldType.object "java/lang/Object"))) ∈ lw_all := lw_g (lw_at lw_m4 195 rfl) rfl
theorem q1132 : (Jvm.Cond.instanceMethod ({ cls := "java/util/ArrayList", name := "set", desc := "(ILjava/lang/Object;)Ljava/lang/Object;" } : Jvm.MethodName)) ∈ lw_all := lw_g (lw_at lw_m5 111 rfl) rfl
theorem q1133 : (Jvm.Cond.selects "java/util/ArrayList" ({ cls := "java/util/ArrayList", name := "set", desc := "(ILjava/lang/Object;)Ljava/lang/Object;" } : Jvm.MethodName) ({ cls := "java/util/ArrayList", name := "set", desc := "(ILjava/lang/Object;)Ljava/lang/Object;" } : Jvm.MethodName)) ∈ lw_all := lw_g (lw_at lw_m5 112 rfl) rfl
theorem q1134 : (Jvm.Cond.code ({ cls := "java/util/ArrayList", name := "set", desc := "(ILjava/lang/Object;)Ljava/lang/Object;" } : Jvm.MethodName) prog_47_method_23_code (4 : Nat) (Option.some (Jvm.ClassFile.FieldType.object "java/lang/Object"))) ∈ lw_all := lw_g (lw_at lw_m5 113 rfl) rfl
theorem q1136 : (Jvm.Cond.instanceMethod ({ cls := "java/util/ArrayList", name := "add", desc := "(ILjava/lang/Object;)V" } : Jvm.MethodName)) ∈ lw_all := lw_g (lw_at lw_m5 115 rfl) rfl
theorem q1137 : (Jvm.Cond.selects "java/util/ArrayList" ({ cls := "java/util/ArrayList", name := "add", desc := "(ILjava/lang/Object;)V" } : Jvm.MethodName) ({ cls := "java/util/ArrayList", name := "add", desc := "(ILjava/lang/Object;)V" } : Jvm.MethodName)) ∈ lw_all := lw_g (lw_at lw_m5 116 rfl) rfl
theorem q1138 : (Jvm.Cond.code ({ cls := "java/util/ArrayList", name := "add", desc := "(ILjava/lang/Object;)V" } : Jvm.MethodName) prog_47_method_26_code (5 : Nat) (Option.none : Option Jvm.ClassFile.FieldType)) ∈ lw_all := lw_g (lw_at lw_m5 117 rfl) rfl
theorem q1139 : (Jvm.Cond.methodLink "java/util/ArrayList" (135 : Nat) ({ cls := "java/util/ArrayList", name := "rangeCheckForAdd", desc := "(I)V" } : Jvm.MethodName)) ∈ lw_all := lw_g (lw_at lw_m5 118 rfl) rfl
theorem q1140 : (Jvm.Cond.privateMethod ({ cls := "java/util/ArrayList", name := "rangeCheckForAdd", desc := "(I)V" } : Jvm.MethodName)) ∈ lw_tbl := lw_at lw_m5 119 rfl
theorem q1141 : (Jvm.Cond.instanceMethod ({ cls := "java/util/ArrayList", name := "rangeCheckForAdd", desc := "(I)V" } : Jvm.MethodName)) ∈ lw_all := lw_g (lw_at lw_m5 120 rfl) rfl
theorem q1142 : (Jvm.Cond.code ({ cls := "java/util/ArrayList", name := "rangeCheckForAdd", desc := "(I)V" } : Jvm.MethodName) prog_47_method_45_code (2 : Nat) (Option.none : Option Jvm.ClassFile.FieldType)) ∈ lw_all := lw_g (lw_at lw_m5 121 rfl) rfl
theorem q1143 : (Jvm.Cond.classLink "java/util/ArrayList" (187 : Nat) "java/lang/IndexOutOfBoundsException") ∈ lw_all := lw_g (lw_at lw_m5 122 rfl) rfl
theorem q1144 : (Jvm.Cond.methodLink "java/util/ArrayList" (198 : Nat) ({ cls := "java/util/ArrayList", name := "outOfBoundsMsg", desc := "(I)Ljava/lang/String;" } : Jvm.MethodName)) ∈ lw_all := lw_g (lw_at lw_m5 123 rfl) rfl
theorem q1145 : (Jvm.Cond.privateMethod ({ cls := "java/util/ArrayList", name := "outOfBoundsMsg", desc := "(I)Ljava/lang/String;" } : Jvm.MethodName)) ∈ lw_tbl := lw_at lw_m5 124 rfl
theorem q1146 : (Jvm.Cond.instanceMethod ({ cls := "java/util/ArrayList", name := "outOfBoundsMsg", desc := "(I)Ljava/lang/String;" } : Jvm.MethodName)) ∈ lw_all := lw_g (lw_at lw_m5 125 rfl) rfl
theorem q1147 : (Jvm.Cond.code ({ cls := "java/util/ArrayList", name := "outOfBoundsMsg", desc := "(I)Ljava/lang/String;" } : Jvm.MethodName) prog_47_method_46_code (2 : Nat) (Option.some (Jvm.ClassFile.FieldType.object "java/lang/String"))) ∈ lw_all := lw_g (lw_at lw_m5 126 rfl) rfl
theorem q1148 : (Jvm.Cond.classLink "java/util/ArrayList" (20 : Nat) "java/lang/StringBuilder") ∈ lw_all := lw_g (lw_at lw_m5 127 rfl) rfl
theorem q1149 : (Jvm.Cond.methodLink "java/util/ArrayList" (22 : Nat) ({ cls := "java/lang/StringBuilder", name := "<init>", desc := "()V" } : Jvm.MethodName)) ∈ lw_all := lw_g (lw_at lw_m5 128 rfl) rfl
theorem q1150 : (Jvm.Cond.stringRef "java/util/ArrayList" (201 : Nat) "Index: ") ∈ lw_tbl := lw_at lw_m5 129 rfl
theorem q1151 : (Jvm.Cond.methodLink "java/util/ArrayList" (25 : Nat) ({ cls := "java/lang/StringBuilder", name := "append", desc := "(Ljava/lang/String;)Ljava/lang/StringBuilder;" } : Jvm.MethodName)) ∈ lw_all := lw_g (lw_at lw_m5 130 rfl) rfl
theorem q1152 : (Jvm.Cond.methodLink "java/util/ArrayList" (29 : Nat) ({ cls := "java/lang/StringBuilder", name := "append", desc := "(I)Ljava/lang/StringBuilder;" } : Jvm.MethodName)) ∈ lw_all := lw_g (lw_at lw_m5 131 rfl) rfl
theorem q1153 : (Jvm.Cond.stringRef "java/util/ArrayList" (203 : Nat) ", Size: ") ∈ lw_tbl := lw_at lw_m5 132 rfl
theorem q1154 : (Jvm.Cond.methodLink "java/util/ArrayList" (32 : Nat) ({ cls := "java/lang/StringBuilder", name := "toString", desc := "()Ljava/lang/String;" } : Jvm.MethodName)) ∈ lw_all := lw_g (lw_at lw_m5 133 rfl) rfl
theorem q1155 : (Jvm.Cond.methodLink "java/util/ArrayList" (193 : Nat) ({ cls := "java/lang/IndexOutOfBoundsException", name := "<init>", desc := "(Ljava/lang/String;)V" } : Jvm.MethodName)) ∈ lw_all := lw_g (lw_at lw_m5 134 rfl) rfl
theorem q1280 : (Jvm.Cond.instanceMethod ({ cls := "java/util/ArrayList", name := "remove", desc := "(I)Ljava/lang/Object;" } : Jvm.MethodName)) ∈ lw_all := lw_g (lw_at lw_m6 19 rfl) rfl
theorem q1281 : (Jvm.Cond.selects "java/util/ArrayList" ({ cls := "java/util/ArrayList", name := "remove", desc := "(I)Ljava/lang/Object;" } : Jvm.MethodName) ({ cls := "java/util/ArrayList", name := "remove", desc := "(I)Ljava/lang/Object;" } : Jvm.MethodName)) ∈ lw_all := lw_g (lw_at lw_m6 20 rfl) rfl
theorem q1282 : (Jvm.Cond.code ({ cls := "java/util/ArrayList", name := "remove", desc := "(I)Ljava/lang/Object;" } : Jvm.MethodName) prog_47_method_29_code (4 : Nat) (Option.some (Jvm.ClassFile.FieldType.object "java/lang/Object"))) ∈ lw_all := lw_g (lw_at lw_m6 21 rfl) rfl
theorem q1283 : (Jvm.Cond.methodLink "java/util/ArrayList" (144 : Nat) ({ cls := "java/util/ArrayList", name := "fastRemove", desc := "([Ljava/lang/Object;I)V" } : Jvm.MethodName)) ∈ lw_all := lw_g (lw_at lw_m6 22 rfl) rfl
theorem q1284 : (Jvm.Cond.privateMethod ({ cls := "java/util/ArrayList", name := "fastRemove", desc := "([Ljava/lang/Object;I)V" } : Jvm.MethodName)) ∈ lw_tbl := lw_at lw_m6 23 rfl
theorem q1285 : (Jvm.Cond.instanceMethod ({ cls := "java/util/ArrayList", name := "fastRemove", desc := "([Ljava/lang/Object;I)V" } : Jvm.MethodName)) ∈ lw_all := lw_g (lw_at lw_m6 24 rfl) rfl
theorem q1286 : (Jvm.Cond.code ({ cls := "java/util/ArrayList", name := "fastRemove", desc := "([Ljava/lang/Object;I)V" } : Jvm.MethodName) prog_47_method_39_code (4 : Nat) (Option.none : Option Jvm.ClassFile.FieldType)) ∈ lw_all := lw_g (lw_at lw_m6 25 rfl) rfl
theorem q1381 : (Jvm.Cond.instanceMethod ({ cls := "java/util/ArrayList", name := "isEmpty", desc := "()Z" } : Jvm.MethodName)) ∈ lw_all := lw_g (lw_at lw_m6 120 rfl) rfl
theorem q1382 : (Jvm.Cond.selects "java/util/ArrayList" ({ cls := "java/util/ArrayList", name := "isEmpty", desc := "()Z" } : Jvm.MethodName) ({ cls := "java/util/ArrayList", name := "isEmpty", desc := "()Z" } : Jvm.MethodName)) ∈ lw_all := lw_g (lw_at lw_m6 121 rfl) rfl
theorem q1383 : (Jvm.Cond.code ({ cls := "java/util/ArrayList", name := "isEmpty", desc := "()Z" } : Jvm.MethodName) prog_47_method_9_code (1 : Nat) (Option.some Jvm.ClassFile.FieldType.boolean)) ∈ lw_all := lw_g (lw_at lw_m6 122 rfl) rfl
theorem q2226 : (Jvm.Cond.castable "java/util/ArrayList" "java/lang/Object") ∈ lw_tbl := lw_at lw_m10 5 rfl
theorem in_J2 : ∀ w ∈ wsJ20, w ∈ lw_all := lw_in wsJ20 [143, 139, 141] (by decide +kernel) (by decide +kernel)
/-! java/util/ArrayDeque -/
set_option maxRecDepth 100000
def RJ3 : String := "java/util/ArrayDeque"
def TJ3 : u_T := fun k => match k with
  | 0 => ("java/util/ArrayDeque", "elements", "[Ljava/lang/Object;", false)
  | 1 => ("java/util/ArrayDeque", "head", "I", false)
  | _ => ("java/util/ArrayDeque", "tail", "I", false)
def tyJ3 : Nat → FieldType := fun k => match k with
  | 0 => .array (.object "java/lang/Object")
  | 1 => .int
  | _ => .int
abbrev wsJ30 : List Cond := u_ws RJ3 TJ3 3
theorem nmJ3 : ∀ a, a < 3 → ∀ b, b < 3 → a ≠ b → (TJ3 a).2.1 ≠ (TJ3 b).2.1 := by decide +kernel
theorem tyJ3_ok : ∀ k, k < 3 → parseFieldDescriptor (TJ3 k).2.2.1 = some (tyJ3 k) := by decide +kernel
abbrev cJ3_init : ByteArray := prog_46_method_3_code
def yJ3_init : MethodName := ⟨RJ3, "<init>", "()V"⟩
def dkwJ3_init_0 : List UInt8 := [42, 183, 0, 42, 42, 16, 17, 189, 0, 47, 181, 0, 3, 177]
abbrev dktJ3_init_0 : List UInt8 := dkwJ3_init_0 ++ []
theorem dksJ3_init_0 : cJ3_init.data.toList.drop 0 = dktJ3_init_0 := by decide +kernel
theorem dJ3_init_0 : decode cJ3_init 0 = .ok (.aload_n 0, 1) := dk_42 (dk_at dksJ3_init_0 0 rfl rfl)
theorem dJ3_init_1 : decode cJ3_init 1 = .ok (.invokespecial 42, 3) := dk_183 0 42 (dk_at dksJ3_init_0 1 rfl rfl)
theorem dJ3_init_4 : decode cJ3_init 4 = .ok (.aload_n 0, 1) := dk_42 (dk_at dksJ3_init_0 4 rfl rfl)
theorem dJ3_init_5 : decode cJ3_init 5 = .ok (.bipush 17, 2) := dk_16 17 (dk_at dksJ3_init_0 5 rfl rfl)
theorem dJ3_init_7 : decode cJ3_init 7 = .ok (.anewarray 47, 3) := dk_189 0 47 (dk_at dksJ3_init_0 7 rfl rfl)
theorem dJ3_init_10 : decode cJ3_init 10 = .ok (.putfield 3, 3) := dk_181 0 3 (dk_at dksJ3_init_0 10 rfl rfl)
theorem dJ3_init_13 : decode cJ3_init 13 = .ok (.return_, 1) := dk_177 (dk_at dksJ3_init_0 13 rfl rfl)
abbrev cJ3_toArray : ByteArray := prog_46_method_55_code
def yJ3_toArray : MethodName := ⟨RJ3, "toArray", "()[Ljava/lang/Object;"⟩
def dkwJ3_toArray_0 : List UInt8 := [42, 18, 188, 182, 0, 189, 176]
abbrev dktJ3_toArray_0 : List UInt8 := dkwJ3_toArray_0 ++ []
theorem dksJ3_toArray_0 : cJ3_toArray.data.toList.drop 0 = dktJ3_toArray_0 := by decide +kernel
theorem dJ3_toArray_0 : decode cJ3_toArray 0 = .ok (.aload_n 0, 1) := dk_42 (dk_at dksJ3_toArray_0 0 rfl rfl)
theorem dJ3_toArray_1 : decode cJ3_toArray 1 = .ok (.ldc 188, 2) := dk_18 188 (dk_at dksJ3_toArray_0 1 rfl rfl)
theorem dJ3_toArray_3 : decode cJ3_toArray 3 = .ok (.invokevirtual 189, 3) := dk_182 0 189 (dk_at dksJ3_toArray_0 3 rfl rfl)
theorem dJ3_toArray_6 : decode cJ3_toArray 6 = .ok (.areturn, 1) := dk_176 (dk_at dksJ3_toArray_0 6 rfl rfl)
abbrev cJ3_toArray_2 : ByteArray := prog_46_method_56_code
def yJ3_toArray_2 : MethodName := ⟨RJ3, "toArray", "(Ljava/lang/Class;)[Ljava/lang/Object;"⟩
def dkwJ3_toArray_2_4 : List UInt8 := [21, 5, 184, 0, 27, 45, 176]
abbrev dktJ3_toArray_2_4 : List UInt8 := dkwJ3_toArray_2_4 ++ []
def dkwJ3_toArray_2_3 : List UInt8 := [44, 190, 21, 4, 100, 184, 0, 27, 21, 6, 21, 5, 159, 0, 16, 44, 3, 45, 44, 190, 21, 4, 100]
abbrev dktJ3_toArray_2_3 : List UInt8 := dkwJ3_toArray_2_3 ++ dktJ3_toArray_2_4
def dkwJ3_toArray_2_2 : List UInt8 := [184, 0, 193, 78, 167, 0, 28, 44, 3, 21, 6, 21, 4, 100, 43, 184, 0, 193, 78, 44, 21, 4, 45, 3]
abbrev dktJ3_toArray_2_2 : List UInt8 := dkwJ3_toArray_2_2 ++ dktJ3_toArray_2_3
def dkwJ3_toArray_2_1 : List UInt8 := [163, 0, 7, 3, 167, 0, 5, 44, 190, 96, 89, 54, 6, 155, 0, 16, 44, 21, 4, 21, 6, 43]
abbrev dktJ3_toArray_2_1 : List UInt8 := dkwJ3_toArray_2_1 ++ dktJ3_toArray_2_2
def dkwJ3_toArray_2_0 : List UInt8 := [42, 180, 0, 3, 77, 42, 180, 0, 24, 54, 4, 42, 180, 0, 20, 54, 5, 21, 5, 21, 4, 21, 5]
abbrev dktJ3_toArray_2_0 : List UInt8 := dkwJ3_toArray_2_0 ++ dktJ3_toArray_2_1
theorem dksJ3_toArray_2_0 : cJ3_toArray_2.data.toList.drop 0 = dktJ3_toArray_2_0 := by decide +kernel
theorem dksJ3_toArray_2_1 : cJ3_toArray_2.data.toList.drop 23 = dktJ3_toArray_2_1 := dk_seg dksJ3_toArray_2_0 23 rfl rfl
theorem dksJ3_toArray_2_2 : cJ3_toArray_2.data.toList.drop 45 = dktJ3_toArray_2_2 := dk_seg dksJ3_toArray_2_1 22 rfl rfl
theorem dksJ3_toArray_2_3 : cJ3_toArray_2.data.toList.drop 69 = dktJ3_toArray_2_3 := dk_seg dksJ3_toArray_2_2 24 rfl rfl
theorem dksJ3_toArray_2_4 : cJ3_toArray_2.data.toList.drop 92 = dktJ3_toArray_2_4 := dk_seg dksJ3_toArray_2_3 23 rfl rfl
theorem dJ3_toArray_2_0 : decode cJ3_toArray_2 0 = .ok (.aload_n 0, 1) := dk_42 (dk_at dksJ3_toArray_2_0 0 rfl rfl)
theorem dJ3_toArray_2_1 : decode cJ3_toArray_2 1 = .ok (.getfield 3, 3) := dk_180 0 3 (dk_at dksJ3_toArray_2_0 1 rfl rfl)
theorem dJ3_toArray_2_4 : decode cJ3_toArray_2 4 = .ok (.astore_n 2, 1) := dk_77 (dk_at dksJ3_toArray_2_0 4 rfl rfl)
theorem dJ3_toArray_2_5 : decode cJ3_toArray_2 5 = .ok (.aload_n 0, 1) := dk_42 (dk_at dksJ3_toArray_2_0 5 rfl rfl)
theorem dJ3_toArray_2_6 : decode cJ3_toArray_2 6 = .ok (.getfield 24, 3) := dk_180 0 24 (dk_at dksJ3_toArray_2_0 6 rfl rfl)
theorem dJ3_toArray_2_9 : decode cJ3_toArray_2 9 = .ok (.istore 4, 2) := dk_54 4 (dk_at dksJ3_toArray_2_0 9 rfl rfl)
theorem dJ3_toArray_2_11 : decode cJ3_toArray_2 11 = .ok (.aload_n 0, 1) := dk_42 (dk_at dksJ3_toArray_2_0 11 rfl rfl)
theorem dJ3_toArray_2_12 : decode cJ3_toArray_2 12 = .ok (.getfield 20, 3) := dk_180 0 20 (dk_at dksJ3_toArray_2_0 12 rfl rfl)
theorem dJ3_toArray_2_15 : decode cJ3_toArray_2 15 = .ok (.istore 5, 2) := dk_54 5 (dk_at dksJ3_toArray_2_0 15 rfl rfl)
theorem dJ3_toArray_2_17 : decode cJ3_toArray_2 17 = .ok (.iload 5, 2) := dk_21 5 (dk_at dksJ3_toArray_2_0 17 rfl rfl)
theorem dJ3_toArray_2_19 : decode cJ3_toArray_2 19 = .ok (.iload 4, 2) := dk_21 4 (dk_at dksJ3_toArray_2_0 19 rfl rfl)
theorem dJ3_toArray_2_21 : decode cJ3_toArray_2 21 = .ok (.iload 5, 2) := dk_21 5 (dk_at dksJ3_toArray_2_0 21 rfl rfl)
theorem dJ3_toArray_2_23 : decode cJ3_toArray_2 23 = .ok (.if_icmp .gt 7, 3) := dk_163 0 7 (dk_at dksJ3_toArray_2_1 0 rfl rfl)
theorem dJ3_toArray_2_26 : decode cJ3_toArray_2 26 = .ok (.iconst 0, 1) := dk_3 (dk_at dksJ3_toArray_2_1 3 rfl rfl)
theorem dJ3_toArray_2_27 : decode cJ3_toArray_2 27 = .ok (.goto 5, 3) := dk_167 0 5 (dk_at dksJ3_toArray_2_1 4 rfl rfl)
theorem dJ3_toArray_2_30 : decode cJ3_toArray_2 30 = .ok (.aload_n 2, 1) := dk_44 (dk_at dksJ3_toArray_2_1 7 rfl rfl)
theorem dJ3_toArray_2_31 : decode cJ3_toArray_2 31 = .ok (.arraylength, 1) := dk_190 (dk_at dksJ3_toArray_2_1 8 rfl rfl)
theorem dJ3_toArray_2_32 : decode cJ3_toArray_2 32 = .ok (.iadd, 1) := dk_96 (dk_at dksJ3_toArray_2_1 9 rfl rfl)
theorem dJ3_toArray_2_33 : decode cJ3_toArray_2 33 = .ok (.dup, 1) := dk_89 (dk_at dksJ3_toArray_2_1 10 rfl rfl)
theorem dJ3_toArray_2_34 : decode cJ3_toArray_2 34 = .ok (.istore 6, 2) := dk_54 6 (dk_at dksJ3_toArray_2_1 11 rfl rfl)
theorem dJ3_toArray_2_36 : decode cJ3_toArray_2 36 = .ok (.ifCond .lt 16, 3) := dk_155 0 16 (dk_at dksJ3_toArray_2_1 13 rfl rfl)
theorem dJ3_toArray_2_39 : decode cJ3_toArray_2 39 = .ok (.aload_n 2, 1) := dk_44 (dk_at dksJ3_toArray_2_1 16 rfl rfl)
theorem dJ3_toArray_2_40 : decode cJ3_toArray_2 40 = .ok (.iload 4, 2) := dk_21 4 (dk_at dksJ3_toArray_2_1 17 rfl rfl)
theorem dJ3_toArray_2_42 : decode cJ3_toArray_2 42 = .ok (.iload 6, 2) := dk_21 6 (dk_at dksJ3_toArray_2_1 19 rfl rfl)
theorem dJ3_toArray_2_44 : decode cJ3_toArray_2 44 = .ok (.aload_n 1, 1) := dk_43 (dk_at dksJ3_toArray_2_1 21 rfl rfl)
theorem dJ3_toArray_2_45 : decode cJ3_toArray_2 45 = .ok (.invokestatic 193, 3) := dk_184 0 193 (dk_at dksJ3_toArray_2_2 0 rfl rfl)
theorem dJ3_toArray_2_48 : decode cJ3_toArray_2 48 = .ok (.astore_n 3, 1) := dk_78 (dk_at dksJ3_toArray_2_2 3 rfl rfl)
theorem dJ3_toArray_2_49 : decode cJ3_toArray_2 49 = .ok (.goto 28, 3) := dk_167 0 28 (dk_at dksJ3_toArray_2_2 4 rfl rfl)
theorem dJ3_toArray_2_52 : decode cJ3_toArray_2 52 = .ok (.aload_n 2, 1) := dk_44 (dk_at dksJ3_toArray_2_2 7 rfl rfl)
theorem dJ3_toArray_2_53 : decode cJ3_toArray_2 53 = .ok (.iconst 0, 1) := dk_3 (dk_at dksJ3_toArray_2_2 8 rfl rfl)
theorem dJ3_toArray_2_54 : decode cJ3_toArray_2 54 = .ok (.iload 6, 2) := dk_21 6 (dk_at dksJ3_toArray_2_2 9 rfl rfl)
theorem dJ3_toArray_2_56 : decode cJ3_toArray_2 56 = .ok (.iload 4, 2) := dk_21 4 (dk_at dksJ3_toArray_2_2 11 rfl rfl)
theorem dJ3_toArray_2_58 : decode cJ3_toArray_2 58 = .ok (.isub, 1) := dk_100 (dk_at dksJ3_toArray_2_2 13 rfl rfl)
theorem dJ3_toArray_2_59 : decode cJ3_toArray_2 59 = .ok (.aload_n 1, 1) := dk_43 (dk_at dksJ3_toArray_2_2 14 rfl rfl)
theorem dJ3_toArray_2_60 : decode cJ3_toArray_2 60 = .ok (.invokestatic 193, 3) := dk_184 0 193 (dk_at dksJ3_toArray_2_2 15 rfl rfl)
theorem dJ3_toArray_2_63 : decode cJ3_toArray_2 63 = .ok (.astore_n 3, 1) := dk_78 (dk_at dksJ3_toArray_2_2 18 rfl rfl)
theorem dJ3_toArray_2_64 : decode cJ3_toArray_2 64 = .ok (.aload_n 2, 1) := dk_44 (dk_at dksJ3_toArray_2_2 19 rfl rfl)
theorem dJ3_toArray_2_65 : decode cJ3_toArray_2 65 = .ok (.iload 4, 2) := dk_21 4 (dk_at dksJ3_toArray_2_2 20 rfl rfl)
theorem dJ3_toArray_2_67 : decode cJ3_toArray_2 67 = .ok (.aload_n 3, 1) := dk_45 (dk_at dksJ3_toArray_2_2 22 rfl rfl)
theorem dJ3_toArray_2_68 : decode cJ3_toArray_2 68 = .ok (.iconst 0, 1) := dk_3 (dk_at dksJ3_toArray_2_2 23 rfl rfl)
theorem dJ3_toArray_2_69 : decode cJ3_toArray_2 69 = .ok (.aload_n 2, 1) := dk_44 (dk_at dksJ3_toArray_2_3 0 rfl rfl)
theorem dJ3_toArray_2_70 : decode cJ3_toArray_2 70 = .ok (.arraylength, 1) := dk_190 (dk_at dksJ3_toArray_2_3 1 rfl rfl)
theorem dJ3_toArray_2_71 : decode cJ3_toArray_2 71 = .ok (.iload 4, 2) := dk_21 4 (dk_at dksJ3_toArray_2_3 2 rfl rfl)
theorem dJ3_toArray_2_73 : decode cJ3_toArray_2 73 = .ok (.isub, 1) := dk_100 (dk_at dksJ3_toArray_2_3 4 rfl rfl)
theorem dJ3_toArray_2_74 : decode cJ3_toArray_2 74 = .ok (.invokestatic 27, 3) := dk_184 0 27 (dk_at dksJ3_toArray_2_3 5 rfl rfl)
theorem dJ3_toArray_2_77 : decode cJ3_toArray_2 77 = .ok (.iload 6, 2) := dk_21 6 (dk_at dksJ3_toArray_2_3 8 rfl rfl)
theorem dJ3_toArray_2_79 : decode cJ3_toArray_2 79 = .ok (.iload 5, 2) := dk_21 5 (dk_at dksJ3_toArray_2_3 10 rfl rfl)
theorem dJ3_toArray_2_81 : decode cJ3_toArray_2 81 = .ok (.if_icmp .eq 16, 3) := dk_159 0 16 (dk_at dksJ3_toArray_2_3 12 rfl rfl)
theorem dJ3_toArray_2_84 : decode cJ3_toArray_2 84 = .ok (.aload_n 2, 1) := dk_44 (dk_at dksJ3_toArray_2_3 15 rfl rfl)
theorem dJ3_toArray_2_85 : decode cJ3_toArray_2 85 = .ok (.iconst 0, 1) := dk_3 (dk_at dksJ3_toArray_2_3 16 rfl rfl)
theorem dJ3_toArray_2_86 : decode cJ3_toArray_2 86 = .ok (.aload_n 3, 1) := dk_45 (dk_at dksJ3_toArray_2_3 17 rfl rfl)
theorem dJ3_toArray_2_87 : decode cJ3_toArray_2 87 = .ok (.aload_n 2, 1) := dk_44 (dk_at dksJ3_toArray_2_3 18 rfl rfl)
theorem dJ3_toArray_2_88 : decode cJ3_toArray_2 88 = .ok (.arraylength, 1) := dk_190 (dk_at dksJ3_toArray_2_3 19 rfl rfl)
theorem dJ3_toArray_2_89 : decode cJ3_toArray_2 89 = .ok (.iload 4, 2) := dk_21 4 (dk_at dksJ3_toArray_2_3 20 rfl rfl)
theorem dJ3_toArray_2_91 : decode cJ3_toArray_2 91 = .ok (.isub, 1) := dk_100 (dk_at dksJ3_toArray_2_3 22 rfl rfl)
theorem dJ3_toArray_2_92 : decode cJ3_toArray_2 92 = .ok (.iload 5, 2) := dk_21 5 (dk_at dksJ3_toArray_2_4 0 rfl rfl)
theorem dJ3_toArray_2_94 : decode cJ3_toArray_2 94 = .ok (.invokestatic 27, 3) := dk_184 0 27 (dk_at dksJ3_toArray_2_4 2 rfl rfl)
theorem dJ3_toArray_2_97 : decode cJ3_toArray_2 97 = .ok (.aload_n 3, 1) := dk_45 (dk_at dksJ3_toArray_2_4 5 rfl rfl)
theorem dJ3_toArray_2_98 : decode cJ3_toArray_2 98 = .ok (.areturn, 1) := dk_176 (dk_at dksJ3_toArray_2_4 6 rfl rfl)
abbrev cJ3_size : ByteArray := prog_46_method_37_code
def yJ3_size : MethodName := ⟨RJ3, "size", "()I"⟩
def dkwJ3_size_0 : List UInt8 := [42, 180, 0, 20, 42, 180, 0, 24, 42, 180, 0, 3, 190, 184, 0, 127, 172]
abbrev dktJ3_size_0 : List UInt8 := dkwJ3_size_0 ++ []
theorem dksJ3_size_0 : cJ3_size.data.toList.drop 0 = dktJ3_size_0 := by decide +kernel
theorem dJ3_size_0 : decode cJ3_size 0 = .ok (.aload_n 0, 1) := dk_42 (dk_at dksJ3_size_0 0 rfl rfl)
theorem dJ3_size_1 : decode cJ3_size 1 = .ok (.getfield 20, 3) := dk_180 0 20 (dk_at dksJ3_size_0 1 rfl rfl)
theorem dJ3_size_4 : decode cJ3_size 4 = .ok (.aload_n 0, 1) := dk_42 (dk_at dksJ3_size_0 4 rfl rfl)
theorem dJ3_size_5 : decode cJ3_size 5 = .ok (.getfield 24, 3) := dk_180 0 24 (dk_at dksJ3_size_0 5 rfl rfl)
theorem dJ3_size_8 : decode cJ3_size 8 = .ok (.aload_n 0, 1) := dk_42 (dk_at dksJ3_size_0 8 rfl rfl)
theorem dJ3_size_9 : decode cJ3_size 9 = .ok (.getfield 3, 3) := dk_180 0 3 (dk_at dksJ3_size_0 9 rfl rfl)
theorem dJ3_size_12 : decode cJ3_size 12 = .ok (.arraylength, 1) := dk_190 (dk_at dksJ3_size_0 12 rfl rfl)
theorem dJ3_size_13 : decode cJ3_size 13 = .ok (.invokestatic 127, 3) := dk_184 0 127 (dk_at dksJ3_size_0 13 rfl rfl)
theorem dJ3_size_16 : decode cJ3_size 16 = .ok (.ireturn, 1) := dk_172 (dk_at dksJ3_size_0 16 rfl rfl)
abbrev cJ3_sub : ByteArray := prog_46_method_9_code
def yJ3_sub : MethodName := ⟨RJ3, "sub", "(III)I"⟩
def dkwJ3_sub_0 : List UInt8 := [26, 27, 100, 89, 59, 156, 0, 7, 26, 28, 96, 59, 26, 172]
abbrev dktJ3_sub_0 : List UInt8 := dkwJ3_sub_0 ++ []
theorem dksJ3_sub_0 : cJ3_sub.data.toList.drop 0 = dktJ3_sub_0 := by decide +kernel
theorem dJ3_sub_0 : decode cJ3_sub 0 = .ok (.iload_n 0, 1) := dk_26 (dk_at dksJ3_sub_0 0 rfl rfl)
theorem dJ3_sub_1 : decode cJ3_sub 1 = .ok (.iload_n 1, 1) := dk_27 (dk_at dksJ3_sub_0 1 rfl rfl)
theorem dJ3_sub_2 : decode cJ3_sub 2 = .ok (.isub, 1) := dk_100 (dk_at dksJ3_sub_0 2 rfl rfl)
theorem dJ3_sub_3 : decode cJ3_sub 3 = .ok (.dup, 1) := dk_89 (dk_at dksJ3_sub_0 3 rfl rfl)
theorem dJ3_sub_4 : decode cJ3_sub 4 = .ok (.istore_n 0, 1) := dk_59 (dk_at dksJ3_sub_0 4 rfl rfl)
theorem dJ3_sub_5 : decode cJ3_sub 5 = .ok (.ifCond .ge 7, 3) := dk_156 0 7 (dk_at dksJ3_sub_0 5 rfl rfl)
theorem dJ3_sub_8 : decode cJ3_sub 8 = .ok (.iload_n 0, 1) := dk_26 (dk_at dksJ3_sub_0 8 rfl rfl)
theorem dJ3_sub_9 : decode cJ3_sub 9 = .ok (.iload_n 2, 1) := dk_28 (dk_at dksJ3_sub_0 9 rfl rfl)
theorem dJ3_sub_10 : decode cJ3_sub 10 = .ok (.iadd, 1) := dk_96 (dk_at dksJ3_sub_0 10 rfl rfl)
theorem dJ3_sub_11 : decode cJ3_sub 11 = .ok (.istore_n 0, 1) := dk_59 (dk_at dksJ3_sub_0 11 rfl rfl)
theorem dJ3_sub_12 : decode cJ3_sub 12 = .ok (.iload_n 0, 1) := dk_26 (dk_at dksJ3_sub_0 12 rfl rfl)
theorem dJ3_sub_13 : decode cJ3_sub 13 = .ok (.ireturn, 1) := dk_172 (dk_at dksJ3_sub_0 13 rfl rfl)
abbrev cJ3_pollFirst : ByteArray := prog_46_method_20_code
def yJ3_pollFirst : MethodName := ⟨RJ3, "pollFirst", "()Ljava/lang/Object;"⟩
def dkwJ3_pollFirst_1 : List UInt8 := [42, 28, 43, 190, 184, 0, 74, 181, 0, 24, 45, 176]
abbrev dktJ3_pollFirst_1 : List UInt8 := dkwJ3_pollFirst_1 ++ []
def dkwJ3_pollFirst_0 : List UInt8 := [42, 180, 0, 3, 89, 76, 42, 180, 0, 24, 89, 61, 184, 0, 103, 78, 45, 198, 0, 17, 43, 28, 1, 83]
abbrev dktJ3_pollFirst_0 : List UInt8 := dkwJ3_pollFirst_0 ++ dktJ3_pollFirst_1
theorem dksJ3_pollFirst_0 : cJ3_pollFirst.data.toList.drop 0 = dktJ3_pollFirst_0 := by decide +kernel
theorem dksJ3_pollFirst_1 : cJ3_pollFirst.data.toList.drop 24 = dktJ3_pollFirst_1 := dk_seg dksJ3_pollFirst_0 24 rfl rfl
theorem dJ3_pollFirst_0 : decode cJ3_pollFirst 0 = .ok (.aload_n 0, 1) := dk_42 (dk_at dksJ3_pollFirst_0 0 rfl rfl)
theorem dJ3_pollFirst_1 : decode cJ3_pollFirst 1 = .ok (.getfield 3, 3) := dk_180 0 3 (dk_at dksJ3_pollFirst_0 1 rfl rfl)
theorem dJ3_pollFirst_4 : decode cJ3_pollFirst 4 = .ok (.dup, 1) := dk_89 (dk_at dksJ3_pollFirst_0 4 rfl rfl)
theorem dJ3_pollFirst_5 : decode cJ3_pollFirst 5 = .ok (.astore_n 1, 1) := dk_76 (dk_at dksJ3_pollFirst_0 5 rfl rfl)
theorem dJ3_pollFirst_6 : decode cJ3_pollFirst 6 = .ok (.aload_n 0, 1) := dk_42 (dk_at dksJ3_pollFirst_0 6 rfl rfl)
theorem dJ3_pollFirst_7 : decode cJ3_pollFirst 7 = .ok (.getfield 24, 3) := dk_180 0 24 (dk_at dksJ3_pollFirst_0 7 rfl rfl)
theorem dJ3_pollFirst_10 : decode cJ3_pollFirst 10 = .ok (.dup, 1) := dk_89 (dk_at dksJ3_pollFirst_0 10 rfl rfl)
theorem dJ3_pollFirst_11 : decode cJ3_pollFirst 11 = .ok (.istore_n 2, 1) := dk_61 (dk_at dksJ3_pollFirst_0 11 rfl rfl)
theorem dJ3_pollFirst_12 : decode cJ3_pollFirst 12 = .ok (.invokestatic 103, 3) := dk_184 0 103 (dk_at dksJ3_pollFirst_0 12 rfl rfl)
theorem dJ3_pollFirst_15 : decode cJ3_pollFirst 15 = .ok (.astore_n 3, 1) := dk_78 (dk_at dksJ3_pollFirst_0 15 rfl rfl)
theorem dJ3_pollFirst_16 : decode cJ3_pollFirst 16 = .ok (.aload_n 3, 1) := dk_45 (dk_at dksJ3_pollFirst_0 16 rfl rfl)
theorem dJ3_pollFirst_17 : decode cJ3_pollFirst 17 = .ok (.ifnull 17, 3) := dk_198 0 17 (dk_at dksJ3_pollFirst_0 17 rfl rfl)
theorem dJ3_pollFirst_20 : decode cJ3_pollFirst 20 = .ok (.aload_n 1, 1) := dk_43 (dk_at dksJ3_pollFirst_0 20 rfl rfl)
theorem dJ3_pollFirst_21 : decode cJ3_pollFirst 21 = .ok (.iload_n 2, 1) := dk_28 (dk_at dksJ3_pollFirst_0 21 rfl rfl)
theorem dJ3_pollFirst_22 : decode cJ3_pollFirst 22 = .ok (.aconst_null, 1) := dk_1 (dk_at dksJ3_pollFirst_0 22 rfl rfl)
theorem dJ3_pollFirst_23 : decode cJ3_pollFirst 23 = .ok (.aastore, 1) := dk_83 (dk_at dksJ3_pollFirst_0 23 rfl rfl)
theorem dJ3_pollFirst_24 : decode cJ3_pollFirst 24 = .ok (.aload_n 0, 1) := dk_42 (dk_at dksJ3_pollFirst_1 0 rfl rfl)
theorem dJ3_pollFirst_25 : decode cJ3_pollFirst 25 = .ok (.iload_n 2, 1) := dk_28 (dk_at dksJ3_pollFirst_1 1 rfl rfl)
theorem dJ3_pollFirst_26 : decode cJ3_pollFirst 26 = .ok (.aload_n 1, 1) := dk_43 (dk_at dksJ3_pollFirst_1 2 rfl rfl)
theorem dJ3_pollFirst_27 : decode cJ3_pollFirst 27 = .ok (.arraylength, 1) := dk_190 (dk_at dksJ3_pollFirst_1 3 rfl rfl)
theorem dJ3_pollFirst_28 : decode cJ3_pollFirst 28 = .ok (.invokestatic 74, 3) := dk_184 0 74 (dk_at dksJ3_pollFirst_1 4 rfl rfl)
theorem dJ3_pollFirst_31 : decode cJ3_pollFirst 31 = .ok (.putfield 24, 3) := dk_181 0 24 (dk_at dksJ3_pollFirst_1 7 rfl rfl)
theorem dJ3_pollFirst_34 : decode cJ3_pollFirst 34 = .ok (.aload_n 3, 1) := dk_45 (dk_at dksJ3_pollFirst_1 10 rfl rfl)
theorem dJ3_pollFirst_35 : decode cJ3_pollFirst 35 = .ok (.areturn, 1) := dk_176 (dk_at dksJ3_pollFirst_1 11 rfl rfl)
abbrev cJ3_elementAt : ByteArray := prog_46_method_10_code
def yJ3_elementAt : MethodName := ⟨RJ3, "elementAt", "([Ljava/lang/Object;I)Ljava/lang/Object;"⟩
def dkwJ3_elementAt_0 : List UInt8 := [42, 27, 50, 176]
abbrev dktJ3_elementAt_0 : List UInt8 := dkwJ3_elementAt_0 ++ []
theorem dksJ3_elementAt_0 : cJ3_elementAt.data.toList.drop 0 = dktJ3_elementAt_0 := by decide +kernel
theorem dJ3_elementAt_0 : decode cJ3_elementAt 0 = .ok (.aload_n 0, 1) := dk_42 (dk_at dksJ3_elementAt_0 0 rfl rfl)
theorem dJ3_elementAt_1 : decode cJ3_elementAt 1 = .ok (.iload_n 1, 1) := dk_27 (dk_at dksJ3_elementAt_0 1 rfl rfl)
theorem dJ3_elementAt_2 : decode cJ3_elementAt 2 = .ok (.aaload, 1) := dk_50 (dk_at dksJ3_elementAt_0 2 rfl rfl)
theorem dJ3_elementAt_3 : decode cJ3_elementAt 3 = .ok (.areturn, 1) := dk_176 (dk_at dksJ3_elementAt_0 3 rfl rfl)
abbrev cJ3_inc : ByteArray := prog_46_method_6_code
def yJ3_inc : MethodName := ⟨RJ3, "inc", "(II)I"⟩
def dkwJ3_inc_0 : List UInt8 := [132, 0, 1, 26, 27, 161, 0, 5, 3, 59, 26, 172]
abbrev dktJ3_inc_0 : List UInt8 := dkwJ3_inc_0 ++ []
theorem dksJ3_inc_0 : cJ3_inc.data.toList.drop 0 = dktJ3_inc_0 := by decide +kernel
theorem dJ3_inc_0 : decode cJ3_inc 0 = .ok (.iinc 0 1, 3) := dk_132 0 1 (dk_at dksJ3_inc_0 0 rfl rfl)
theorem dJ3_inc_3 : decode cJ3_inc 3 = .ok (.iload_n 0, 1) := dk_26 (dk_at dksJ3_inc_0 3 rfl rfl)
theorem dJ3_inc_4 : decode cJ3_inc 4 = .ok (.iload_n 1, 1) := dk_27 (dk_at dksJ3_inc_0 4 rfl rfl)
theorem dJ3_inc_5 : decode cJ3_inc 5 = .ok (.if_icmp .lt 5, 3) := dk_161 0 5 (dk_at dksJ3_inc_0 5 rfl rfl)
theorem dJ3_inc_8 : decode cJ3_inc 8 = .ok (.iconst 0, 1) := dk_3 (dk_at dksJ3_inc_0 8 rfl rfl)
theorem dJ3_inc_9 : decode cJ3_inc 9 = .ok (.istore_n 0, 1) := dk_59 (dk_at dksJ3_inc_0 9 rfl rfl)
theorem dJ3_inc_10 : decode cJ3_inc 10 = .ok (.iload_n 0, 1) := dk_26 (dk_at dksJ3_inc_0 10 rfl rfl)
theorem dJ3_inc_11 : decode cJ3_inc 11 = .ok (.ireturn, 1) := dk_172 (dk_at dksJ3_inc_0 11 rfl rfl)
abbrev cJ3_addLast : ByteArray := prog_46_method_13_code
def yJ3_addLast : MethodName := ⟨RJ3, "addLast", "(Ljava/lang/Object;)V"⟩
def dkwJ3_addLast_2 : List UInt8 := [182, 0, 71, 177]
abbrev dktJ3_addLast_2 : List UInt8 := dkwJ3_addLast_2 ++ []
def dkwJ3_addLast_1 : List UInt8 := [42, 180, 0, 24, 42, 42, 180, 0, 20, 44, 190, 184, 0, 74, 90, 181, 0, 20, 160, 0, 8, 42, 4]
abbrev dktJ3_addLast_1 : List UInt8 := dkwJ3_addLast_1 ++ dktJ3_addLast_2
def dkwJ3_addLast_0 : List UInt8 := [43, 199, 0, 11, 187, 0, 65, 89, 183, 0, 67, 191, 42, 180, 0, 3, 77, 44, 42, 180, 0, 20, 43, 83]
abbrev dktJ3_addLast_0 : List UInt8 := dkwJ3_addLast_0 ++ dktJ3_addLast_1
theorem dksJ3_addLast_0 : cJ3_addLast.data.toList.drop 0 = dktJ3_addLast_0 := by decide +kernel
theorem dksJ3_addLast_1 : cJ3_addLast.data.toList.drop 24 = dktJ3_addLast_1 := dk_seg dksJ3_addLast_0 24 rfl rfl
theorem dksJ3_addLast_2 : cJ3_addLast.data.toList.drop 47 = dktJ3_addLast_2 := dk_seg dksJ3_addLast_1 23 rfl rfl
theorem dJ3_addLast_0 : decode cJ3_addLast 0 = .ok (.aload_n 1, 1) := dk_43 (dk_at dksJ3_addLast_0 0 rfl rfl)
theorem dJ3_addLast_1 : decode cJ3_addLast 1 = .ok (.ifnonnull 11, 3) := dk_199 0 11 (dk_at dksJ3_addLast_0 1 rfl rfl)
theorem dJ3_addLast_4 : decode cJ3_addLast 4 = .ok (.new 65, 3) := dk_187 0 65 (dk_at dksJ3_addLast_0 4 rfl rfl)
theorem dJ3_addLast_7 : decode cJ3_addLast 7 = .ok (.dup, 1) := dk_89 (dk_at dksJ3_addLast_0 7 rfl rfl)
theorem dJ3_addLast_8 : decode cJ3_addLast 8 = .ok (.invokespecial 67, 3) := dk_183 0 67 (dk_at dksJ3_addLast_0 8 rfl rfl)
theorem dJ3_addLast_11 : decode cJ3_addLast 11 = .ok (.athrow, 1) := dk_191 (dk_at dksJ3_addLast_0 11 rfl rfl)
theorem dJ3_addLast_12 : decode cJ3_addLast 12 = .ok (.aload_n 0, 1) := dk_42 (dk_at dksJ3_addLast_0 12 rfl rfl)
theorem dJ3_addLast_13 : decode cJ3_addLast 13 = .ok (.getfield 3, 3) := dk_180 0 3 (dk_at dksJ3_addLast_0 13 rfl rfl)
theorem dJ3_addLast_16 : decode cJ3_addLast 16 = .ok (.astore_n 2, 1) := dk_77 (dk_at dksJ3_addLast_0 16 rfl rfl)
theorem dJ3_addLast_17 : decode cJ3_addLast 17 = .ok (.aload_n 2, 1) := dk_44 (dk_at dksJ3_addLast_0 17 rfl rfl)
theorem dJ3_addLast_18 : decode cJ3_addLast 18 = .ok (.aload_n 0, 1) := dk_42 (dk_at dksJ3_addLast_0 18 rfl rfl)
theorem dJ3_addLast_19 : decode cJ3_addLast 19 = .ok (.getfield 20, 3) := dk_180 0 20 (dk_at dksJ3_addLast_0 19 rfl rfl)
theorem dJ3_addLast_22 : decode cJ3_addLast 22 = .ok (.aload_n 1, 1) := dk_43 (dk_at dksJ3_addLast_0 22 rfl rfl)
theorem dJ3_addLast_23 : decode cJ3_addLast 23 = .ok (.aastore, 1) := dk_83 (dk_at dksJ3_addLast_0 23 rfl rfl)
theorem dJ3_addLast_24 : decode cJ3_addLast 24 = .ok (.aload_n 0, 1) := dk_42 (dk_at dksJ3_addLast_1 0 rfl rfl)
theorem dJ3_addLast_25 : decode cJ3_addLast 25 = .ok (.getfield 24, 3) := dk_180 0 24 (dk_at dksJ3_addLast_1 1 rfl rfl)
theorem dJ3_addLast_28 : decode cJ3_addLast 28 = .ok (.aload_n 0, 1) := dk_42 (dk_at dksJ3_addLast_1 4 rfl rfl)
theorem dJ3_addLast_29 : decode cJ3_addLast 29 = .ok (.aload_n 0, 1) := dk_42 (dk_at dksJ3_addLast_1 5 rfl rfl)
theorem dJ3_addLast_30 : decode cJ3_addLast 30 = .ok (.getfield 20, 3) := dk_180 0 20 (dk_at dksJ3_addLast_1 6 rfl rfl)
theorem dJ3_addLast_33 : decode cJ3_addLast 33 = .ok (.aload_n 2, 1) := dk_44 (dk_at dksJ3_addLast_1 9 rfl rfl)
theorem dJ3_addLast_34 : decode cJ3_addLast 34 = .ok (.arraylength, 1) := dk_190 (dk_at dksJ3_addLast_1 10 rfl rfl)
theorem dJ3_addLast_35 : decode cJ3_addLast 35 = .ok (.invokestatic 74, 3) := dk_184 0 74 (dk_at dksJ3_addLast_1 11 rfl rfl)
theorem dJ3_addLast_38 : decode cJ3_addLast 38 = .ok (.dup_x1, 1) := dk_90 (dk_at dksJ3_addLast_1 14 rfl rfl)
theorem dJ3_addLast_39 : decode cJ3_addLast 39 = .ok (.putfield 20, 3) := dk_181 0 20 (dk_at dksJ3_addLast_1 15 rfl rfl)
theorem dJ3_addLast_42 : decode cJ3_addLast 42 = .ok (.if_icmp .ne 8, 3) := dk_160 0 8 (dk_at dksJ3_addLast_1 18 rfl rfl)
theorem dJ3_addLast_45 : decode cJ3_addLast 45 = .ok (.aload_n 0, 1) := dk_42 (dk_at dksJ3_addLast_1 21 rfl rfl)
theorem dJ3_addLast_46 : decode cJ3_addLast 46 = .ok (.iconst 1, 1) := dk_4 (dk_at dksJ3_addLast_1 22 rfl rfl)
theorem dJ3_addLast_47 : decode cJ3_addLast 47 = .ok (.invokevirtual 71, 3) := dk_182 0 71 (dk_at dksJ3_addLast_2 0 rfl rfl)
theorem dJ3_addLast_50 : decode cJ3_addLast 50 = .ok (.return_, 1) := dk_177 (dk_at dksJ3_addLast_2 3 rfl rfl)
abbrev cJ3_grow : ByteArray := prog_46_method_1_code
def yJ3_grow : MethodName := ⟨RJ3, "grow", "(I)V"⟩
def dkwJ3_grow_7 : List UInt8 := [177]
abbrev dktJ3_grow_7 : List UInt8 := dkwJ3_grow_7 ++ []
def dkwJ3_grow_6 : List UInt8 := [181, 0, 24, 54, 8, 21, 7, 21, 8, 162, 0, 15, 25, 5, 21, 7, 1, 83, 132, 7, 1, 167, 255, 240]
abbrev dktJ3_grow_6 : List UInt8 := dkwJ3_grow_6 ++ dktJ3_grow_7
def dkwJ3_grow_5 : List UInt8 := [42, 180, 0, 24, 100, 184, 0, 27, 42, 180, 0, 24, 54, 7, 42, 89, 180, 0, 24, 21, 6, 96, 90]
abbrev dktJ3_grow_5 : List UInt8 := dkwJ3_grow_5 ++ dktJ3_grow_6
def dkwJ3_grow_4 : List UInt8 := [198, 0, 71, 29, 28, 100, 54, 6, 25, 5, 42, 180, 0, 24, 25, 5, 42, 180, 0, 24, 21, 6, 96, 28]
abbrev dktJ3_grow_4 : List UInt8 := dkwJ3_grow_4 ++ dktJ3_grow_5
def dkwJ3_grow_3 : List UInt8 := [180, 0, 24, 161, 0, 24, 42, 180, 0, 20, 42, 180, 0, 24, 160, 0, 81, 25, 5, 42, 180, 0, 24, 50]
abbrev dktJ3_grow_3 : List UInt8 := dkwJ3_grow_3 ++ dktJ3_grow_4
def dkwJ3_grow_2 : List UInt8 := [182, 0, 10, 62, 42, 42, 180, 0, 3, 29, 184, 0, 14, 90, 181, 0, 3, 58, 5, 42, 180, 0, 20, 42]
abbrev dktJ3_grow_2 : List UInt8 := dkwJ3_grow_2 ++ dktJ3_grow_3
def dkwJ3_grow_1 : List UInt8 := [21, 4, 27, 161, 0, 15, 28, 21, 4, 96, 89, 62, 18, 9, 100, 158, 0, 11, 42, 27, 21, 4]
abbrev dktJ3_grow_1 : List UInt8 := dkwJ3_grow_1 ++ dktJ3_grow_2
def dkwJ3_grow_0 : List UInt8 := [42, 180, 0, 3, 190, 61, 28, 16, 64, 162, 0, 9, 28, 5, 96, 167, 0, 6, 28, 4, 122, 54, 4]
abbrev dktJ3_grow_0 : List UInt8 := dkwJ3_grow_0 ++ dktJ3_grow_1
theorem dksJ3_grow_0 : cJ3_grow.data.toList.drop 0 = dktJ3_grow_0 := by decide +kernel
theorem dksJ3_grow_1 : cJ3_grow.data.toList.drop 23 = dktJ3_grow_1 := dk_seg dksJ3_grow_0 23 rfl rfl
theorem dksJ3_grow_2 : cJ3_grow.data.toList.drop 45 = dktJ3_grow_2 := dk_seg dksJ3_grow_1 22 rfl rfl
theorem dksJ3_grow_3 : cJ3_grow.data.toList.drop 69 = dktJ3_grow_3 := dk_seg dksJ3_grow_2 24 rfl rfl
theorem dksJ3_grow_4 : cJ3_grow.data.toList.drop 93 = dktJ3_grow_4 := dk_seg dksJ3_grow_3 24 rfl rfl
theorem dksJ3_grow_5 : cJ3_grow.data.toList.drop 117 = dktJ3_grow_5 := dk_seg dksJ3_grow_4 24 rfl rfl
theorem dksJ3_grow_6 : cJ3_grow.data.toList.drop 140 = dktJ3_grow_6 := dk_seg dksJ3_grow_5 23 rfl rfl
theorem dksJ3_grow_7 : cJ3_grow.data.toList.drop 164 = dktJ3_grow_7 := dk_seg dksJ3_grow_6 24 rfl rfl
theorem dJ3_grow_0 : decode cJ3_grow 0 = .ok (.aload_n 0, 1) := dk_42 (dk_at dksJ3_grow_0 0 rfl rfl)
theorem dJ3_grow_1 : decode cJ3_grow 1 = .ok (.getfield 3, 3) := dk_180 0 3 (dk_at dksJ3_grow_0 1 rfl rfl)
theorem dJ3_grow_4 : decode cJ3_grow 4 = .ok (.arraylength, 1) := dk_190 (dk_at dksJ3_grow_0 4 rfl rfl)
theorem dJ3_grow_5 : decode cJ3_grow 5 = .ok (.istore_n 2, 1) := dk_61 (dk_at dksJ3_grow_0 5 rfl rfl)
theorem dJ3_grow_6 : decode cJ3_grow 6 = .ok (.iload_n 2, 1) := dk_28 (dk_at dksJ3_grow_0 6 rfl rfl)
theorem dJ3_grow_7 : decode cJ3_grow 7 = .ok (.bipush 64, 2) := dk_16 64 (dk_at dksJ3_grow_0 7 rfl rfl)
theorem dJ3_grow_9 : decode cJ3_grow 9 = .ok (.if_icmp .ge 9, 3) := dk_162 0 9 (dk_at dksJ3_grow_0 9 rfl rfl)
theorem dJ3_grow_12 : decode cJ3_grow 12 = .ok (.iload_n 2, 1) := dk_28 (dk_at dksJ3_grow_0 12 rfl rfl)
theorem dJ3_grow_13 : decode cJ3_grow 13 = .ok (.iconst 2, 1) := dk_5 (dk_at dksJ3_grow_0 13 rfl rfl)
theorem dJ3_grow_14 : decode cJ3_grow 14 = .ok (.iadd, 1) := dk_96 (dk_at dksJ3_grow_0 14 rfl rfl)
theorem dJ3_grow_15 : decode cJ3_grow 15 = .ok (.goto 6, 3) := dk_167 0 6 (dk_at dksJ3_grow_0 15 rfl rfl)
theorem dJ3_grow_18 : decode cJ3_grow 18 = .ok (.iload_n 2, 1) := dk_28 (dk_at dksJ3_grow_0 18 rfl rfl)
theorem dJ3_grow_19 : decode cJ3_grow 19 = .ok (.iconst 1, 1) := dk_4 (dk_at dksJ3_grow_0 19 rfl rfl)
theorem dJ3_grow_20 : decode cJ3_grow 20 = .ok (.ishr, 1) := dk_122 (dk_at dksJ3_grow_0 20 rfl rfl)
theorem dJ3_grow_21 : decode cJ3_grow 21 = .ok (.istore 4, 2) := dk_54 4 (dk_at dksJ3_grow_0 21 rfl rfl)
theorem dJ3_grow_23 : decode cJ3_grow 23 = .ok (.iload 4, 2) := dk_21 4 (dk_at dksJ3_grow_1 0 rfl rfl)
theorem dJ3_grow_25 : decode cJ3_grow 25 = .ok (.iload_n 1, 1) := dk_27 (dk_at dksJ3_grow_1 2 rfl rfl)
theorem dJ3_grow_26 : decode cJ3_grow 26 = .ok (.if_icmp .lt 15, 3) := dk_161 0 15 (dk_at dksJ3_grow_1 3 rfl rfl)
theorem dJ3_grow_29 : decode cJ3_grow 29 = .ok (.iload_n 2, 1) := dk_28 (dk_at dksJ3_grow_1 6 rfl rfl)
theorem dJ3_grow_30 : decode cJ3_grow 30 = .ok (.iload 4, 2) := dk_21 4 (dk_at dksJ3_grow_1 7 rfl rfl)
theorem dJ3_grow_32 : decode cJ3_grow 32 = .ok (.iadd, 1) := dk_96 (dk_at dksJ3_grow_1 9 rfl rfl)
theorem dJ3_grow_33 : decode cJ3_grow 33 = .ok (.dup, 1) := dk_89 (dk_at dksJ3_grow_1 10 rfl rfl)
theorem dJ3_grow_34 : decode cJ3_grow 34 = .ok (.istore_n 3, 1) := dk_62 (dk_at dksJ3_grow_1 11 rfl rfl)
theorem dJ3_grow_35 : decode cJ3_grow 35 = .ok (.ldc 9, 2) := dk_18 9 (dk_at dksJ3_grow_1 12 rfl rfl)
theorem dJ3_grow_37 : decode cJ3_grow 37 = .ok (.isub, 1) := dk_100 (dk_at dksJ3_grow_1 14 rfl rfl)
theorem dJ3_grow_38 : decode cJ3_grow 38 = .ok (.ifCond .le 11, 3) := dk_158 0 11 (dk_at dksJ3_grow_1 15 rfl rfl)
theorem dJ3_grow_41 : decode cJ3_grow 41 = .ok (.aload_n 0, 1) := dk_42 (dk_at dksJ3_grow_1 18 rfl rfl)
theorem dJ3_grow_42 : decode cJ3_grow 42 = .ok (.iload_n 1, 1) := dk_27 (dk_at dksJ3_grow_1 19 rfl rfl)
theorem dJ3_grow_43 : decode cJ3_grow 43 = .ok (.iload 4, 2) := dk_21 4 (dk_at dksJ3_grow_1 20 rfl rfl)
theorem dJ3_grow_45 : decode cJ3_grow 45 = .ok (.invokevirtual 10, 3) := dk_182 0 10 (dk_at dksJ3_grow_2 0 rfl rfl)
theorem dJ3_grow_48 : decode cJ3_grow 48 = .ok (.istore_n 3, 1) := dk_62 (dk_at dksJ3_grow_2 3 rfl rfl)
theorem dJ3_grow_49 : decode cJ3_grow 49 = .ok (.aload_n 0, 1) := dk_42 (dk_at dksJ3_grow_2 4 rfl rfl)
theorem dJ3_grow_50 : decode cJ3_grow 50 = .ok (.aload_n 0, 1) := dk_42 (dk_at dksJ3_grow_2 5 rfl rfl)
theorem dJ3_grow_51 : decode cJ3_grow 51 = .ok (.getfield 3, 3) := dk_180 0 3 (dk_at dksJ3_grow_2 6 rfl rfl)
theorem dJ3_grow_54 : decode cJ3_grow 54 = .ok (.iload_n 3, 1) := dk_29 (dk_at dksJ3_grow_2 9 rfl rfl)
theorem dJ3_grow_55 : decode cJ3_grow 55 = .ok (.invokestatic 14, 3) := dk_184 0 14 (dk_at dksJ3_grow_2 10 rfl rfl)
theorem dJ3_grow_58 : decode cJ3_grow 58 = .ok (.dup_x1, 1) := dk_90 (dk_at dksJ3_grow_2 13 rfl rfl)
theorem dJ3_grow_59 : decode cJ3_grow 59 = .ok (.putfield 3, 3) := dk_181 0 3 (dk_at dksJ3_grow_2 14 rfl rfl)
theorem dJ3_grow_62 : decode cJ3_grow 62 = .ok (.astore 5, 2) := dk_58 5 (dk_at dksJ3_grow_2 17 rfl rfl)
theorem dJ3_grow_64 : decode cJ3_grow 64 = .ok (.aload_n 0, 1) := dk_42 (dk_at dksJ3_grow_2 19 rfl rfl)
theorem dJ3_grow_65 : decode cJ3_grow 65 = .ok (.getfield 20, 3) := dk_180 0 20 (dk_at dksJ3_grow_2 20 rfl rfl)
theorem dJ3_grow_68 : decode cJ3_grow 68 = .ok (.aload_n 0, 1) := dk_42 (dk_at dksJ3_grow_2 23 rfl rfl)
theorem dJ3_grow_69 : decode cJ3_grow 69 = .ok (.getfield 24, 3) := dk_180 0 24 (dk_at dksJ3_grow_3 0 rfl rfl)
theorem dJ3_grow_72 : decode cJ3_grow 72 = .ok (.if_icmp .lt 24, 3) := dk_161 0 24 (dk_at dksJ3_grow_3 3 rfl rfl)
theorem dJ3_grow_75 : decode cJ3_grow 75 = .ok (.aload_n 0, 1) := dk_42 (dk_at dksJ3_grow_3 6 rfl rfl)
theorem dJ3_grow_76 : decode cJ3_grow 76 = .ok (.getfield 20, 3) := dk_180 0 20 (dk_at dksJ3_grow_3 7 rfl rfl)
theorem dJ3_grow_79 : decode cJ3_grow 79 = .ok (.aload_n 0, 1) := dk_42 (dk_at dksJ3_grow_3 10 rfl rfl)
theorem dJ3_grow_80 : decode cJ3_grow 80 = .ok (.getfield 24, 3) := dk_180 0 24 (dk_at dksJ3_grow_3 11 rfl rfl)
theorem dJ3_grow_83 : decode cJ3_grow 83 = .ok (.if_icmp .ne 81, 3) := dk_160 0 81 (dk_at dksJ3_grow_3 14 rfl rfl)
theorem dJ3_grow_86 : decode cJ3_grow 86 = .ok (.aload 5, 2) := dk_25 5 (dk_at dksJ3_grow_3 17 rfl rfl)
theorem dJ3_grow_88 : decode cJ3_grow 88 = .ok (.aload_n 0, 1) := dk_42 (dk_at dksJ3_grow_3 19 rfl rfl)
theorem dJ3_grow_89 : decode cJ3_grow 89 = .ok (.getfield 24, 3) := dk_180 0 24 (dk_at dksJ3_grow_3 20 rfl rfl)
theorem dJ3_grow_92 : decode cJ3_grow 92 = .ok (.aaload, 1) := dk_50 (dk_at dksJ3_grow_3 23 rfl rfl)
theorem dJ3_grow_93 : decode cJ3_grow 93 = .ok (.ifnull 71, 3) := dk_198 0 71 (dk_at dksJ3_grow_4 0 rfl rfl)
theorem dJ3_grow_96 : decode cJ3_grow 96 = .ok (.iload_n 3, 1) := dk_29 (dk_at dksJ3_grow_4 3 rfl rfl)
theorem dJ3_grow_97 : decode cJ3_grow 97 = .ok (.iload_n 2, 1) := dk_28 (dk_at dksJ3_grow_4 4 rfl rfl)
theorem dJ3_grow_98 : decode cJ3_grow 98 = .ok (.isub, 1) := dk_100 (dk_at dksJ3_grow_4 5 rfl rfl)
theorem dJ3_grow_99 : decode cJ3_grow 99 = .ok (.istore 6, 2) := dk_54 6 (dk_at dksJ3_grow_4 6 rfl rfl)
theorem dJ3_grow_101 : decode cJ3_grow 101 = .ok (.aload 5, 2) := dk_25 5 (dk_at dksJ3_grow_4 8 rfl rfl)
theorem dJ3_grow_103 : decode cJ3_grow 103 = .ok (.aload_n 0, 1) := dk_42 (dk_at dksJ3_grow_4 10 rfl rfl)
theorem dJ3_grow_104 : decode cJ3_grow 104 = .ok (.getfield 24, 3) := dk_180 0 24 (dk_at dksJ3_grow_4 11 rfl rfl)
theorem dJ3_grow_107 : decode cJ3_grow 107 = .ok (.aload 5, 2) := dk_25 5 (dk_at dksJ3_grow_4 14 rfl rfl)
theorem dJ3_grow_109 : decode cJ3_grow 109 = .ok (.aload_n 0, 1) := dk_42 (dk_at dksJ3_grow_4 16 rfl rfl)
theorem dJ3_grow_110 : decode cJ3_grow 110 = .ok (.getfield 24, 3) := dk_180 0 24 (dk_at dksJ3_grow_4 17 rfl rfl)
theorem dJ3_grow_113 : decode cJ3_grow 113 = .ok (.iload 6, 2) := dk_21 6 (dk_at dksJ3_grow_4 20 rfl rfl)
theorem dJ3_grow_115 : decode cJ3_grow 115 = .ok (.iadd, 1) := dk_96 (dk_at dksJ3_grow_4 22 rfl rfl)
theorem dJ3_grow_116 : decode cJ3_grow 116 = .ok (.iload_n 2, 1) := dk_28 (dk_at dksJ3_grow_4 23 rfl rfl)
theorem dJ3_grow_117 : decode cJ3_grow 117 = .ok (.aload_n 0, 1) := dk_42 (dk_at dksJ3_grow_5 0 rfl rfl)
theorem dJ3_grow_118 : decode cJ3_grow 118 = .ok (.getfield 24, 3) := dk_180 0 24 (dk_at dksJ3_grow_5 1 rfl rfl)
theorem dJ3_grow_121 : decode cJ3_grow 121 = .ok (.isub, 1) := dk_100 (dk_at dksJ3_grow_5 4 rfl rfl)
theorem dJ3_grow_122 : decode cJ3_grow 122 = .ok (.invokestatic 27, 3) := dk_184 0 27 (dk_at dksJ3_grow_5 5 rfl rfl)
theorem dJ3_grow_125 : decode cJ3_grow 125 = .ok (.aload_n 0, 1) := dk_42 (dk_at dksJ3_grow_5 8 rfl rfl)
theorem dJ3_grow_126 : decode cJ3_grow 126 = .ok (.getfield 24, 3) := dk_180 0 24 (dk_at dksJ3_grow_5 9 rfl rfl)
theorem dJ3_grow_129 : decode cJ3_grow 129 = .ok (.istore 7, 2) := dk_54 7 (dk_at dksJ3_grow_5 12 rfl rfl)
theorem dJ3_grow_131 : decode cJ3_grow 131 = .ok (.aload_n 0, 1) := dk_42 (dk_at dksJ3_grow_5 14 rfl rfl)
theorem dJ3_grow_132 : decode cJ3_grow 132 = .ok (.dup, 1) := dk_89 (dk_at dksJ3_grow_5 15 rfl rfl)
theorem dJ3_grow_133 : decode cJ3_grow 133 = .ok (.getfield 24, 3) := dk_180 0 24 (dk_at dksJ3_grow_5 16 rfl rfl)
theorem dJ3_grow_136 : decode cJ3_grow 136 = .ok (.iload 6, 2) := dk_21 6 (dk_at dksJ3_grow_5 19 rfl rfl)
theorem dJ3_grow_138 : decode cJ3_grow 138 = .ok (.iadd, 1) := dk_96 (dk_at dksJ3_grow_5 21 rfl rfl)
theorem dJ3_grow_139 : decode cJ3_grow 139 = .ok (.dup_x1, 1) := dk_90 (dk_at dksJ3_grow_5 22 rfl rfl)
theorem dJ3_grow_140 : decode cJ3_grow 140 = .ok (.putfield 24, 3) := dk_181 0 24 (dk_at dksJ3_grow_6 0 rfl rfl)
theorem dJ3_grow_143 : decode cJ3_grow 143 = .ok (.istore 8, 2) := dk_54 8 (dk_at dksJ3_grow_6 3 rfl rfl)
theorem dJ3_grow_145 : decode cJ3_grow 145 = .ok (.iload 7, 2) := dk_21 7 (dk_at dksJ3_grow_6 5 rfl rfl)
theorem dJ3_grow_147 : decode cJ3_grow 147 = .ok (.iload 8, 2) := dk_21 8 (dk_at dksJ3_grow_6 7 rfl rfl)
theorem dJ3_grow_149 : decode cJ3_grow 149 = .ok (.if_icmp .ge 15, 3) := dk_162 0 15 (dk_at dksJ3_grow_6 9 rfl rfl)
theorem dJ3_grow_152 : decode cJ3_grow 152 = .ok (.aload 5, 2) := dk_25 5 (dk_at dksJ3_grow_6 12 rfl rfl)
theorem dJ3_grow_154 : decode cJ3_grow 154 = .ok (.iload 7, 2) := dk_21 7 (dk_at dksJ3_grow_6 14 rfl rfl)
theorem dJ3_grow_156 : decode cJ3_grow 156 = .ok (.aconst_null, 1) := dk_1 (dk_at dksJ3_grow_6 16 rfl rfl)
theorem dJ3_grow_157 : decode cJ3_grow 157 = .ok (.aastore, 1) := dk_83 (dk_at dksJ3_grow_6 17 rfl rfl)
theorem dJ3_grow_158 : decode cJ3_grow 158 = .ok (.iinc 7 1, 3) := dk_132 7 1 (dk_at dksJ3_grow_6 18 rfl rfl)
theorem dJ3_grow_161 : decode cJ3_grow 161 = .ok (.goto (-16), 3) := dk_167 255 240 (dk_at dksJ3_grow_6 21 rfl rfl)
theorem dJ3_grow_164 : decode cJ3_grow 164 = .ok (.return_, 1) := dk_177 (dk_at dksJ3_grow_7 0 rfl rfl)
abbrev cJ3_newCapacity : ByteArray := prog_46_method_2_code
def yJ3_newCapacity : MethodName := ⟨RJ3, "newCapacity", "(II)I"⟩
def dkwJ3_newCapacity_2 : List UInt8 := [18, 9, 100, 156, 0, 9, 29, 28, 96, 167, 0, 5, 18, 9, 172]
abbrev dktJ3_newCapacity_2 : List UInt8 := dkwJ3_newCapacity_2 ++ []
def dkwJ3_newCapacity_1 : List UInt8 := [187, 0, 33, 89, 18, 35, 183, 0, 37, 191, 18, 41, 172, 27, 28, 164, 0, 6, 21, 4, 172, 29, 28, 96]
abbrev dktJ3_newCapacity_1 : List UInt8 := dkwJ3_newCapacity_1 ++ dktJ3_newCapacity_2
def dkwJ3_newCapacity_0 : List UInt8 := [42, 180, 0, 3, 190, 62, 29, 27, 96, 89, 54, 4, 18, 9, 100, 158, 0, 21, 21, 4, 156, 0, 13]
abbrev dktJ3_newCapacity_0 : List UInt8 := dkwJ3_newCapacity_0 ++ dktJ3_newCapacity_1
theorem dksJ3_newCapacity_0 : cJ3_newCapacity.data.toList.drop 0 = dktJ3_newCapacity_0 := by decide +kernel
theorem dksJ3_newCapacity_1 : cJ3_newCapacity.data.toList.drop 23 = dktJ3_newCapacity_1 := dk_seg dksJ3_newCapacity_0 23 rfl rfl
theorem dksJ3_newCapacity_2 : cJ3_newCapacity.data.toList.drop 47 = dktJ3_newCapacity_2 := dk_seg dksJ3_newCapacity_1 24 rfl rfl
theorem dJ3_newCapacity_0 : decode cJ3_newCapacity 0 = .ok (.aload_n 0, 1) := dk_42 (dk_at dksJ3_newCapacity_0 0 rfl rfl)
theorem dJ3_newCapacity_1 : decode cJ3_newCapacity 1 = .ok (.getfield 3, 3) := dk_180 0 3 (dk_at dksJ3_newCapacity_0 1 rfl rfl)
theorem dJ3_newCapacity_4 : decode cJ3_newCapacity 4 = .ok (.arraylength, 1) := dk_190 (dk_at dksJ3_newCapacity_0 4 rfl rfl)
theorem dJ3_newCapacity_5 : decode cJ3_newCapacity 5 = .ok (.istore_n 3, 1) := dk_62 (dk_at dksJ3_newCapacity_0 5 rfl rfl)
theorem dJ3_newCapacity_6 : decode cJ3_newCapacity 6 = .ok (.iload_n 3, 1) := dk_29 (dk_at dksJ3_newCapacity_0 6 rfl rfl)
theorem dJ3_newCapacity_7 : decode cJ3_newCapacity 7 = .ok (.iload_n 1, 1) := dk_27 (dk_at dksJ3_newCapacity_0 7 rfl rfl)
theorem dJ3_newCapacity_8 : decode cJ3_newCapacity 8 = .ok (.iadd, 1) := dk_96 (dk_at dksJ3_newCapacity_0 8 rfl rfl)
theorem dJ3_newCapacity_9 : decode cJ3_newCapacity 9 = .ok (.dup, 1) := dk_89 (dk_at dksJ3_newCapacity_0 9 rfl rfl)
theorem dJ3_newCapacity_10 : decode cJ3_newCapacity 10 = .ok (.istore 4, 2) := dk_54 4 (dk_at dksJ3_newCapacity_0 10 rfl rfl)
theorem dJ3_newCapacity_12 : decode cJ3_newCapacity 12 = .ok (.ldc 9, 2) := dk_18 9 (dk_at dksJ3_newCapacity_0 12 rfl rfl)
theorem dJ3_newCapacity_14 : decode cJ3_newCapacity 14 = .ok (.isub, 1) := dk_100 (dk_at dksJ3_newCapacity_0 14 rfl rfl)
theorem dJ3_newCapacity_15 : decode cJ3_newCapacity 15 = .ok (.ifCond .le 21, 3) := dk_158 0 21 (dk_at dksJ3_newCapacity_0 15 rfl rfl)
theorem dJ3_newCapacity_18 : decode cJ3_newCapacity 18 = .ok (.iload 4, 2) := dk_21 4 (dk_at dksJ3_newCapacity_0 18 rfl rfl)
theorem dJ3_newCapacity_20 : decode cJ3_newCapacity 20 = .ok (.ifCond .ge 13, 3) := dk_156 0 13 (dk_at dksJ3_newCapacity_0 20 rfl rfl)
theorem dJ3_newCapacity_23 : decode cJ3_newCapacity 23 = .ok (.new 33, 3) := dk_187 0 33 (dk_at dksJ3_newCapacity_1 0 rfl rfl)
theorem dJ3_newCapacity_26 : decode cJ3_newCapacity 26 = .ok (.dup, 1) := dk_89 (dk_at dksJ3_newCapacity_1 3 rfl rfl)
theorem dJ3_newCapacity_27 : decode cJ3_newCapacity 27 = .ok (.ldc 35, 2) := dk_18 35 (dk_at dksJ3_newCapacity_1 4 rfl rfl)
theorem dJ3_newCapacity_29 : decode cJ3_newCapacity 29 = .ok (.invokespecial 37, 3) := dk_183 0 37 (dk_at dksJ3_newCapacity_1 6 rfl rfl)
theorem dJ3_newCapacity_32 : decode cJ3_newCapacity 32 = .ok (.athrow, 1) := dk_191 (dk_at dksJ3_newCapacity_1 9 rfl rfl)
theorem dJ3_newCapacity_33 : decode cJ3_newCapacity 33 = .ok (.ldc 41, 2) := dk_18 41 (dk_at dksJ3_newCapacity_1 10 rfl rfl)
theorem dJ3_newCapacity_35 : decode cJ3_newCapacity 35 = .ok (.ireturn, 1) := dk_172 (dk_at dksJ3_newCapacity_1 12 rfl rfl)
theorem dJ3_newCapacity_36 : decode cJ3_newCapacity 36 = .ok (.iload_n 1, 1) := dk_27 (dk_at dksJ3_newCapacity_1 13 rfl rfl)
theorem dJ3_newCapacity_37 : decode cJ3_newCapacity 37 = .ok (.iload_n 2, 1) := dk_28 (dk_at dksJ3_newCapacity_1 14 rfl rfl)
theorem dJ3_newCapacity_38 : decode cJ3_newCapacity 38 = .ok (.if_icmp .le 6, 3) := dk_164 0 6 (dk_at dksJ3_newCapacity_1 15 rfl rfl)
theorem dJ3_newCapacity_41 : decode cJ3_newCapacity 41 = .ok (.iload 4, 2) := dk_21 4 (dk_at dksJ3_newCapacity_1 18 rfl rfl)
theorem dJ3_newCapacity_43 : decode cJ3_newCapacity 43 = .ok (.ireturn, 1) := dk_172 (dk_at dksJ3_newCapacity_1 20 rfl rfl)
theorem dJ3_newCapacity_44 : decode cJ3_newCapacity 44 = .ok (.iload_n 3, 1) := dk_29 (dk_at dksJ3_newCapacity_1 21 rfl rfl)
theorem dJ3_newCapacity_45 : decode cJ3_newCapacity 45 = .ok (.iload_n 2, 1) := dk_28 (dk_at dksJ3_newCapacity_1 22 rfl rfl)
theorem dJ3_newCapacity_46 : decode cJ3_newCapacity 46 = .ok (.iadd, 1) := dk_96 (dk_at dksJ3_newCapacity_1 23 rfl rfl)
theorem dJ3_newCapacity_47 : decode cJ3_newCapacity 47 = .ok (.ldc 9, 2) := dk_18 9 (dk_at dksJ3_newCapacity_2 0 rfl rfl)
theorem dJ3_newCapacity_49 : decode cJ3_newCapacity 49 = .ok (.isub, 1) := dk_100 (dk_at dksJ3_newCapacity_2 2 rfl rfl)
theorem dJ3_newCapacity_50 : decode cJ3_newCapacity 50 = .ok (.ifCond .ge 9, 3) := dk_156 0 9 (dk_at dksJ3_newCapacity_2 3 rfl rfl)
theorem dJ3_newCapacity_53 : decode cJ3_newCapacity 53 = .ok (.iload_n 3, 1) := dk_29 (dk_at dksJ3_newCapacity_2 6 rfl rfl)
theorem dJ3_newCapacity_54 : decode cJ3_newCapacity 54 = .ok (.iload_n 2, 1) := dk_28 (dk_at dksJ3_newCapacity_2 7 rfl rfl)
theorem dJ3_newCapacity_55 : decode cJ3_newCapacity 55 = .ok (.iadd, 1) := dk_96 (dk_at dksJ3_newCapacity_2 8 rfl rfl)
theorem dJ3_newCapacity_56 : decode cJ3_newCapacity 56 = .ok (.goto 5, 3) := dk_167 0 5 (dk_at dksJ3_newCapacity_2 9 rfl rfl)
theorem dJ3_newCapacity_59 : decode cJ3_newCapacity 59 = .ok (.ldc 9, 2) := dk_18 9 (dk_at dksJ3_newCapacity_2 12 rfl rfl)
theorem dJ3_newCapacity_61 : decode cJ3_newCapacity 61 = .ok (.ireturn, 1) := dk_172 (dk_at dksJ3_newCapacity_2 14 rfl rfl)
abbrev cJ3_isEmpty : ByteArray := prog_46_method_38_code
def yJ3_isEmpty : MethodName := ⟨RJ3, "isEmpty", "()Z"⟩
def dkwJ3_isEmpty_0 : List UInt8 := [42, 180, 0, 24, 42, 180, 0, 20, 160, 0, 7, 4, 167, 0, 4, 3, 172]
abbrev dktJ3_isEmpty_0 : List UInt8 := dkwJ3_isEmpty_0 ++ []
theorem dksJ3_isEmpty_0 : cJ3_isEmpty.data.toList.drop 0 = dktJ3_isEmpty_0 := by decide +kernel
theorem dJ3_isEmpty_0 : decode cJ3_isEmpty 0 = .ok (.aload_n 0, 1) := dk_42 (dk_at dksJ3_isEmpty_0 0 rfl rfl)
theorem dJ3_isEmpty_1 : decode cJ3_isEmpty 1 = .ok (.getfield 24, 3) := dk_180 0 24 (dk_at dksJ3_isEmpty_0 1 rfl rfl)
theorem dJ3_isEmpty_4 : decode cJ3_isEmpty 4 = .ok (.aload_n 0, 1) := dk_42 (dk_at dksJ3_isEmpty_0 4 rfl rfl)
theorem dJ3_isEmpty_5 : decode cJ3_isEmpty 5 = .ok (.getfield 20, 3) := dk_180 0 20 (dk_at dksJ3_isEmpty_0 5 rfl rfl)
theorem dJ3_isEmpty_8 : decode cJ3_isEmpty 8 = .ok (.if_icmp .ne 7, 3) := dk_160 0 7 (dk_at dksJ3_isEmpty_0 8 rfl rfl)
theorem dJ3_isEmpty_11 : decode cJ3_isEmpty 11 = .ok (.iconst 1, 1) := dk_4 (dk_at dksJ3_isEmpty_0 11 rfl rfl)
theorem dJ3_isEmpty_12 : decode cJ3_isEmpty 12 = .ok (.goto 4, 3) := dk_167 0 4 (dk_at dksJ3_isEmpty_0 12 rfl rfl)
theorem dJ3_isEmpty_15 : decode cJ3_isEmpty 15 = .ok (.iconst 0, 1) := dk_3 (dk_at dksJ3_isEmpty_0 15 rfl rfl)
theorem dJ3_isEmpty_16 : decode cJ3_isEmpty 16 = .ok (.ireturn, 1) := dk_172 (dk_at dksJ3_isEmpty_0 16 rfl rfl)
abbrev cJ3_pollLast : ByteArray := prog_46_method_21_code
def yJ3_pollLast : MethodName := ⟨RJ3, "pollLast", "()Ljava/lang/Object;"⟩
def dkwJ3_pollLast_1 : List UInt8 := [198, 0, 12, 43, 42, 28, 90, 181, 0, 20, 1, 83, 45, 176]
abbrev dktJ3_pollLast_1 : List UInt8 := dkwJ3_pollLast_1 ++ []
def dkwJ3_pollLast_0 : List UInt8 := [42, 180, 0, 3, 89, 76, 42, 180, 0, 20, 43, 190, 184, 0, 68, 89, 61, 184, 0, 103, 78, 45]
abbrev dktJ3_pollLast_0 : List UInt8 := dkwJ3_pollLast_0 ++ dktJ3_pollLast_1
theorem dksJ3_pollLast_0 : cJ3_pollLast.data.toList.drop 0 = dktJ3_pollLast_0 := by decide +kernel
theorem dksJ3_pollLast_1 : cJ3_pollLast.data.toList.drop 22 = dktJ3_pollLast_1 := dk_seg dksJ3_pollLast_0 22 rfl rfl
theorem dJ3_pollLast_0 : decode cJ3_pollLast 0 = .ok (.aload_n 0, 1) := dk_42 (dk_at dksJ3_pollLast_0 0 rfl rfl)
theorem dJ3_pollLast_1 : decode cJ3_pollLast 1 = .ok (.getfield 3, 3) := dk_180 0 3 (dk_at dksJ3_pollLast_0 1 rfl rfl)
theorem dJ3_pollLast_4 : decode cJ3_pollLast 4 = .ok (.dup, 1) := dk_89 (dk_at dksJ3_pollLast_0 4 rfl rfl)
theorem dJ3_pollLast_5 : decode cJ3_pollLast 5 = .ok (.astore_n 1, 1) := dk_76 (dk_at dksJ3_pollLast_0 5 rfl rfl)
theorem dJ3_pollLast_6 : decode cJ3_pollLast 6 = .ok (.aload_n 0, 1) := dk_42 (dk_at dksJ3_pollLast_0 6 rfl rfl)
theorem dJ3_pollLast_7 : decode cJ3_pollLast 7 = .ok (.getfield 20, 3) := dk_180 0 20 (dk_at dksJ3_pollLast_0 7 rfl rfl)
theorem dJ3_pollLast_10 : decode cJ3_pollLast 10 = .ok (.aload_n 1, 1) := dk_43 (dk_at dksJ3_pollLast_0 10 rfl rfl)
theorem dJ3_pollLast_11 : decode cJ3_pollLast 11 = .ok (.arraylength, 1) := dk_190 (dk_at dksJ3_pollLast_0 11 rfl rfl)
theorem dJ3_pollLast_12 : decode cJ3_pollLast 12 = .ok (.invokestatic 68, 3) := dk_184 0 68 (dk_at dksJ3_pollLast_0 12 rfl rfl)
theorem dJ3_pollLast_15 : decode cJ3_pollLast 15 = .ok (.dup, 1) := dk_89 (dk_at dksJ3_pollLast_0 15 rfl rfl)
theorem dJ3_pollLast_16 : decode cJ3_pollLast 16 = .ok (.istore_n 2, 1) := dk_61 (dk_at dksJ3_pollLast_0 16 rfl rfl)
theorem dJ3_pollLast_17 : decode cJ3_pollLast 17 = .ok (.invokestatic 103, 3) := dk_184 0 103 (dk_at dksJ3_pollLast_0 17 rfl rfl)
theorem dJ3_pollLast_20 : decode cJ3_pollLast 20 = .ok (.astore_n 3, 1) := dk_78 (dk_at dksJ3_pollLast_0 20 rfl rfl)
theorem dJ3_pollLast_21 : decode cJ3_pollLast 21 = .ok (.aload_n 3, 1) := dk_45 (dk_at dksJ3_pollLast_0 21 rfl rfl)
theorem dJ3_pollLast_22 : decode cJ3_pollLast 22 = .ok (.ifnull 12, 3) := dk_198 0 12 (dk_at dksJ3_pollLast_1 0 rfl rfl)
theorem dJ3_pollLast_25 : decode cJ3_pollLast 25 = .ok (.aload_n 1, 1) := dk_43 (dk_at dksJ3_pollLast_1 3 rfl rfl)
theorem dJ3_pollLast_26 : decode cJ3_pollLast 26 = .ok (.aload_n 0, 1) := dk_42 (dk_at dksJ3_pollLast_1 4 rfl rfl)
theorem dJ3_pollLast_27 : decode cJ3_pollLast 27 = .ok (.iload_n 2, 1) := dk_28 (dk_at dksJ3_pollLast_1 5 rfl rfl)
theorem dJ3_pollLast_28 : decode cJ3_pollLast 28 = .ok (.dup_x1, 1) := dk_90 (dk_at dksJ3_pollLast_1 6 rfl rfl)
theorem dJ3_pollLast_29 : decode cJ3_pollLast 29 = .ok (.putfield 20, 3) := dk_181 0 20 (dk_at dksJ3_pollLast_1 7 rfl rfl)
theorem dJ3_pollLast_32 : decode cJ3_pollLast 32 = .ok (.aconst_null, 1) := dk_1 (dk_at dksJ3_pollLast_1 10 rfl rfl)
theorem dJ3_pollLast_33 : decode cJ3_pollLast 33 = .ok (.aastore, 1) := dk_83 (dk_at dksJ3_pollLast_1 11 rfl rfl)
theorem dJ3_pollLast_34 : decode cJ3_pollLast 34 = .ok (.aload_n 3, 1) := dk_45 (dk_at dksJ3_pollLast_1 12 rfl rfl)
theorem dJ3_pollLast_35 : decode cJ3_pollLast 35 = .ok (.areturn, 1) := dk_176 (dk_at dksJ3_pollLast_1 13 rfl rfl)
abbrev cJ3_dec : ByteArray := prog_46_method_7_code
def yJ3_dec : MethodName := ⟨RJ3, "dec", "(II)I"⟩
def dkwJ3_dec_0 : List UInt8 := [132, 0, 255, 26, 156, 0, 7, 27, 4, 100, 59, 26, 172]
abbrev dktJ3_dec_0 : List UInt8 := dkwJ3_dec_0 ++ []
theorem dksJ3_dec_0 : cJ3_dec.data.toList.drop 0 = dktJ3_dec_0 := by decide +kernel
theorem dJ3_dec_0 : decode cJ3_dec 0 = .ok (.iinc 0 (-1), 3) := dk_132 0 255 (dk_at dksJ3_dec_0 0 rfl rfl)
theorem dJ3_dec_3 : decode cJ3_dec 3 = .ok (.iload_n 0, 1) := dk_26 (dk_at dksJ3_dec_0 3 rfl rfl)
theorem dJ3_dec_4 : decode cJ3_dec 4 = .ok (.ifCond .ge 7, 3) := dk_156 0 7 (dk_at dksJ3_dec_0 4 rfl rfl)
theorem dJ3_dec_7 : decode cJ3_dec 7 = .ok (.iload_n 1, 1) := dk_27 (dk_at dksJ3_dec_0 7 rfl rfl)
theorem dJ3_dec_8 : decode cJ3_dec 8 = .ok (.iconst 1, 1) := dk_4 (dk_at dksJ3_dec_0 8 rfl rfl)
theorem dJ3_dec_9 : decode cJ3_dec 9 = .ok (.isub, 1) := dk_100 (dk_at dksJ3_dec_0 9 rfl rfl)
theorem dJ3_dec_10 : decode cJ3_dec 10 = .ok (.istore_n 0, 1) := dk_59 (dk_at dksJ3_dec_0 10 rfl rfl)
theorem dJ3_dec_11 : decode cJ3_dec 11 = .ok (.iload_n 0, 1) := dk_26 (dk_at dksJ3_dec_0 11 rfl rfl)
theorem dJ3_dec_12 : decode cJ3_dec 12 = .ok (.ireturn, 1) := dk_172 (dk_at dksJ3_dec_0 12 rfl rfl)
abbrev cJ3_clear : ByteArray := prog_46_method_53_code
def yJ3_clear : MethodName := ⟨RJ3, "clear", "()V"⟩
def dkwJ3_clear_1 : List UInt8 := [181, 0, 24, 177]
abbrev dktJ3_clear_1 : List UInt8 := dkwJ3_clear_1 ++ []
def dkwJ3_clear_0 : List UInt8 := [42, 180, 0, 3, 42, 180, 0, 24, 42, 180, 0, 20, 184, 0, 181, 42, 42, 3, 90, 181, 0, 20]
abbrev dktJ3_clear_0 : List UInt8 := dkwJ3_clear_0 ++ dktJ3_clear_1
theorem dksJ3_clear_0 : cJ3_clear.data.toList.drop 0 = dktJ3_clear_0 := by decide +kernel
theorem dksJ3_clear_1 : cJ3_clear.data.toList.drop 22 = dktJ3_clear_1 := dk_seg dksJ3_clear_0 22 rfl rfl
theorem dJ3_clear_0 : decode cJ3_clear 0 = .ok (.aload_n 0, 1) := dk_42 (dk_at dksJ3_clear_0 0 rfl rfl)
theorem dJ3_clear_1 : decode cJ3_clear 1 = .ok (.getfield 3, 3) := dk_180 0 3 (dk_at dksJ3_clear_0 1 rfl rfl)
theorem dJ3_clear_4 : decode cJ3_clear 4 = .ok (.aload_n 0, 1) := dk_42 (dk_at dksJ3_clear_0 4 rfl rfl)
theorem dJ3_clear_5 : decode cJ3_clear 5 = .ok (.getfield 24, 3) := dk_180 0 24 (dk_at dksJ3_clear_0 5 rfl rfl)
theorem dJ3_clear_8 : decode cJ3_clear 8 = .ok (.aload_n 0, 1) := dk_42 (dk_at dksJ3_clear_0 8 rfl rfl)
theorem dJ3_clear_9 : decode cJ3_clear 9 = .ok (.getfield 20, 3) := dk_180 0 20 (dk_at dksJ3_clear_0 9 rfl rfl)
theorem dJ3_clear_12 : decode cJ3_clear 12 = .ok (.invokestatic 181, 3) := dk_184 0 181 (dk_at dksJ3_clear_0 12 rfl rfl)
theorem dJ3_clear_15 : decode cJ3_clear 15 = .ok (.aload_n 0, 1) := dk_42 (dk_at dksJ3_clear_0 15 rfl rfl)
theorem dJ3_clear_16 : decode cJ3_clear 16 = .ok (.aload_n 0, 1) := dk_42 (dk_at dksJ3_clear_0 16 rfl rfl)
theorem dJ3_clear_17 : decode cJ3_clear 17 = .ok (.iconst 0, 1) := dk_3 (dk_at dksJ3_clear_0 17 rfl rfl)
theorem dJ3_clear_18 : decode cJ3_clear 18 = .ok (.dup_x1, 1) := dk_90 (dk_at dksJ3_clear_0 18 rfl rfl)
theorem dJ3_clear_19 : decode cJ3_clear 19 = .ok (.putfield 20, 3) := dk_181 0 20 (dk_at dksJ3_clear_0 19 rfl rfl)
theorem dJ3_clear_22 : decode cJ3_clear 22 = .ok (.putfield 24, 3) := dk_181 0 24 (dk_at dksJ3_clear_1 0 rfl rfl)
theorem dJ3_clear_25 : decode cJ3_clear 25 = .ok (.return_, 1) := dk_177 (dk_at dksJ3_clear_1 3 rfl rfl)
abbrev cJ3_circularClear : ByteArray := prog_46_method_54_code
def yJ3_circularClear : MethodName := ⟨RJ3, "circularClear", "([Ljava/lang/Object;II)V"⟩
def dkwJ3_circularClear_1 : List UInt8 := [167, 255, 244, 29, 28, 160, 0, 6, 167, 0, 10, 3, 60, 28, 62, 167, 255, 229, 177]
abbrev dktJ3_circularClear_1 : List UInt8 := dkwJ3_circularClear_1 ++ []
def dkwJ3_circularClear_0 : List UInt8 := [27, 28, 163, 0, 7, 28, 167, 0, 5, 42, 190, 62, 27, 29, 162, 0, 13, 42, 27, 1, 83, 132, 1, 1]
abbrev dktJ3_circularClear_0 : List UInt8 := dkwJ3_circularClear_0 ++ dktJ3_circularClear_1
theorem dksJ3_circularClear_0 : cJ3_circularClear.data.toList.drop 0 = dktJ3_circularClear_0 := by decide +kernel
theorem dksJ3_circularClear_1 : cJ3_circularClear.data.toList.drop 24 = dktJ3_circularClear_1 := dk_seg dksJ3_circularClear_0 24 rfl rfl
theorem dJ3_circularClear_0 : decode cJ3_circularClear 0 = .ok (.iload_n 1, 1) := dk_27 (dk_at dksJ3_circularClear_0 0 rfl rfl)
theorem dJ3_circularClear_1 : decode cJ3_circularClear 1 = .ok (.iload_n 2, 1) := dk_28 (dk_at dksJ3_circularClear_0 1 rfl rfl)
theorem dJ3_circularClear_2 : decode cJ3_circularClear 2 = .ok (.if_icmp .gt 7, 3) := dk_163 0 7 (dk_at dksJ3_circularClear_0 2 rfl rfl)
theorem dJ3_circularClear_5 : decode cJ3_circularClear 5 = .ok (.iload_n 2, 1) := dk_28 (dk_at dksJ3_circularClear_0 5 rfl rfl)
theorem dJ3_circularClear_6 : decode cJ3_circularClear 6 = .ok (.goto 5, 3) := dk_167 0 5 (dk_at dksJ3_circularClear_0 6 rfl rfl)
theorem dJ3_circularClear_9 : decode cJ3_circularClear 9 = .ok (.aload_n 0, 1) := dk_42 (dk_at dksJ3_circularClear_0 9 rfl rfl)
theorem dJ3_circularClear_10 : decode cJ3_circularClear 10 = .ok (.arraylength, 1) := dk_190 (dk_at dksJ3_circularClear_0 10 rfl rfl)
theorem dJ3_circularClear_11 : decode cJ3_circularClear 11 = .ok (.istore_n 3, 1) := dk_62 (dk_at dksJ3_circularClear_0 11 rfl rfl)
theorem dJ3_circularClear_12 : decode cJ3_circularClear 12 = .ok (.iload_n 1, 1) := dk_27 (dk_at dksJ3_circularClear_0 12 rfl rfl)
theorem dJ3_circularClear_13 : decode cJ3_circularClear 13 = .ok (.iload_n 3, 1) := dk_29 (dk_at dksJ3_circularClear_0 13 rfl rfl)
theorem dJ3_circularClear_14 : decode cJ3_circularClear 14 = .ok (.if_icmp .ge 13, 3) := dk_162 0 13 (dk_at dksJ3_circularClear_0 14 rfl rfl)
theorem dJ3_circularClear_17 : decode cJ3_circularClear 17 = .ok (.aload_n 0, 1) := dk_42 (dk_at dksJ3_circularClear_0 17 rfl rfl)
theorem dJ3_circularClear_18 : decode cJ3_circularClear 18 = .ok (.iload_n 1, 1) := dk_27 (dk_at dksJ3_circularClear_0 18 rfl rfl)
theorem dJ3_circularClear_19 : decode cJ3_circularClear 19 = .ok (.aconst_null, 1) := dk_1 (dk_at dksJ3_circularClear_0 19 rfl rfl)
theorem dJ3_circularClear_20 : decode cJ3_circularClear 20 = .ok (.aastore, 1) := dk_83 (dk_at dksJ3_circularClear_0 20 rfl rfl)
theorem dJ3_circularClear_21 : decode cJ3_circularClear 21 = .ok (.iinc 1 1, 3) := dk_132 1 1 (dk_at dksJ3_circularClear_0 21 rfl rfl)
theorem dJ3_circularClear_24 : decode cJ3_circularClear 24 = .ok (.goto (-12), 3) := dk_167 255 244 (dk_at dksJ3_circularClear_1 0 rfl rfl)
theorem dJ3_circularClear_27 : decode cJ3_circularClear 27 = .ok (.iload_n 3, 1) := dk_29 (dk_at dksJ3_circularClear_1 3 rfl rfl)
theorem dJ3_circularClear_28 : decode cJ3_circularClear 28 = .ok (.iload_n 2, 1) := dk_28 (dk_at dksJ3_circularClear_1 4 rfl rfl)
theorem dJ3_circularClear_29 : decode cJ3_circularClear 29 = .ok (.if_icmp .ne 6, 3) := dk_160 0 6 (dk_at dksJ3_circularClear_1 5 rfl rfl)
theorem dJ3_circularClear_32 : decode cJ3_circularClear 32 = .ok (.goto 10, 3) := dk_167 0 10 (dk_at dksJ3_circularClear_1 8 rfl rfl)
theorem dJ3_circularClear_35 : decode cJ3_circularClear 35 = .ok (.iconst 0, 1) := dk_3 (dk_at dksJ3_circularClear_1 11 rfl rfl)
theorem dJ3_circularClear_36 : decode cJ3_circularClear 36 = .ok (.istore_n 1, 1) := dk_60 (dk_at dksJ3_circularClear_1 12 rfl rfl)
theorem dJ3_circularClear_37 : decode cJ3_circularClear 37 = .ok (.iload_n 2, 1) := dk_28 (dk_at dksJ3_circularClear_1 13 rfl rfl)
theorem dJ3_circularClear_38 : decode cJ3_circularClear 38 = .ok (.istore_n 3, 1) := dk_62 (dk_at dksJ3_circularClear_1 14 rfl rfl)
theorem dJ3_circularClear_39 : decode cJ3_circularClear 39 = .ok (.goto (-27), 3) := dk_167 255 229 (dk_at dksJ3_circularClear_1 15 rfl rfl)
theorem dJ3_circularClear_42 : decode cJ3_circularClear 42 = .ok (.return_, 1) := dk_177 (dk_at dksJ3_circularClear_1 18 rfl rfl)
theorem q68 : (Jvm.Cond.initialized "java/util/ArrayDeque") ∈ lw_all := lw_g (lw_at lw_m1 7 rfl) rfl
theorem q197 : (Jvm.Cond.instantiable "java/util/ArrayDeque" (3 : Nat)) ∈ lw_all := lw_g (lw_at lw_m1 136 rfl) rfl
theorem q199 : (Jvm.Cond.instanceMethod ({ cls := "java/util/ArrayDeque", name := "<init>", desc := "()V" } : Jvm.MethodName)) ∈ lw_all := lw_g (lw_at lw_m1 138 rfl) rfl
theorem q200 : (Jvm.Cond.code ({ cls := "java/util/ArrayDeque", name := "<init>", desc := "()V" } : Jvm.MethodName) prog_46_method_3_code (1 : Nat) (Option.none : Option Jvm.ClassFile.FieldType)) ∈ lw_all := lw_g (lw_at lw_m1 139 rfl) rfl
theorem q201 : (Jvm.Cond.methodLink "java/util/ArrayDeque" (42 : Nat) ({ cls := "java/util/AbstractCollection", name := "<init>", desc := "()V" } : Jvm.MethodName)) ∈ lw_all := lw_g (lw_at lw_m1 140 rfl) rfl
theorem q202 : (Jvm.Cond.classLink "java/util/ArrayDeque" (47 : Nat) "java/lang/Object") ∈ lw_all := lw_g (lw_at lw_m1 141 rfl) rfl
theorem q204 : (Jvm.Cond.fieldLink "java/util/ArrayDeque" (3 : Nat) "java/util/ArrayDeque" "elements" "[Ljava/lang/Object;") ∈ lw_all := lw_g (lw_at lw_m1 143 rfl) rfl
theorem q205 : (Jvm.Cond.fieldLink "java/util/ArrayDeque" (24 : Nat) "java/util/ArrayDeque" "head" "I") ∈ lw_all := lw_g (lw_at lw_m1 144 rfl) rfl
theorem q206 : (Jvm.Cond.fieldLink "java/util/ArrayDeque" (20 : Nat) "java/util/ArrayDeque" "tail" "I") ∈ lw_all := lw_g (lw_at lw_m1 145 rfl) rfl
theorem q207 : (Jvm.Cond.lays "java/util/ArrayDeque" "java/util/ArrayDeque" "elements" "[Ljava/lang/Object;") ∈ lw_all := lw_g (lw_at lw_m1 146 rfl) rfl
theorem q208 : (Jvm.Cond.soleField "java/util/ArrayDeque" "elements") ∈ lw_all := lw_g (lw_at lw_m1 147 rfl) rfl
theorem q209 : (Jvm.Cond.lays "java/util/ArrayDeque" "java/util/ArrayDeque" "head" "I") ∈ lw_all := lw_g (lw_at lw_m1 148 rfl) rfl
theorem q210 : (Jvm.Cond.soleField "java/util/ArrayDeque" "head") ∈ lw_all := lw_g (lw_at lw_m1 149 rfl) rfl
theorem q211 : (Jvm.Cond.lays "java/util/ArrayDeque" "java/util/ArrayDeque" "tail" "I") ∈ lw_all := lw_g (lw_at lw_m1 150 rfl) rfl
theorem q212 : (Jvm.Cond.soleField "java/util/ArrayDeque" "tail") ∈ lw_all := lw_g (lw_at lw_m1 151 rfl) rfl
theorem q213 : (Jvm.Cond.superclass "java/util/ArrayDeque" "java/util/AbstractCollection") ∈ lw_all := lw_g (lw_at lw_m1 152 rfl) rfl
theorem q526 : (Jvm.Cond.selects "java/util/ArrayDeque" ({ cls := "java/lang/Object", name := "getClass", desc := "()Ljava/lang/Class;" } : Jvm.MethodName) ({ cls := "java/lang/Object", name := "getClass", desc := "()Ljava/lang/Class;" } : Jvm.MethodName)) ∈ lw_all := lw_g (lw_at lw_m2 225 rfl) rfl
theorem q552 : (Jvm.Cond.castable "java/util/ArrayDeque" "java/util/Collection") ∈ lw_tbl := lw_at lw_m3 11 rfl
theorem q553 : (Jvm.Cond.selects "java/util/ArrayDeque" ({ cls := "java/util/Collection", name := "toArray", desc := "()[Ljava/lang/Object;" } : Jvm.MethodName) ({ cls := "java/util/ArrayDeque", name := "toArray", desc := "()[Ljava/lang/Object;" } : Jvm.MethodName)) ∈ lw_all := lw_g (lw_at lw_m3 12 rfl) rfl
theorem q554 : (Jvm.Cond.unhidden "java/util/ArrayDeque" "toArray" "()[Ljava/lang/Object;") ∈ lw_tbl := lw_at lw_m3 13 rfl
theorem q555 : (Jvm.Cond.instanceMethod ({ cls := "java/util/ArrayDeque", name := "toArray", desc := "()[Ljava/lang/Object;" } : Jvm.MethodName)) ∈ lw_all := lw_g (lw_at lw_m3 14 rfl) rfl
theorem q556 : (Jvm.Cond.publicMethod ({ cls := "java/util/ArrayDeque", name := "toArray", desc := "()[Ljava/lang/Object;" } : Jvm.MethodName)) ∈ lw_tbl := lw_at lw_m3 15 rfl
theorem q557 : (Jvm.Cond.code ({ cls := "java/util/ArrayDeque", name := "toArray", desc := "()[Ljava/lang/Object;" } : Jvm.MethodName) prog_46_method_55_code (1 : Nat) (Option.some (Jvm.ClassFile.FieldType.array (Jvm.ClassFile.FieldType.object "java/lang/Object")))) ∈ lw_all := lw_g (lw_at lw_m3 16 rfl) rfl
theorem q558 : (Jvm.Cond.classLink "java/util/ArrayDeque" (188 : Nat) "[Ljava/lang/Object;") ∈ lw_all := lw_g (lw_at lw_m3 17 rfl) rfl
theorem q559 : (Jvm.Cond.methodLink "java/util/ArrayDeque" (189 : Nat) ({ cls := "java/util/ArrayDeque", name := "toArray", desc := "(Ljava/lang/Class;)[Ljava/lang/Object;" } : Jvm.MethodName)) ∈ lw_all := lw_g (lw_at lw_m3 18 rfl) rfl
theorem q560 : (Jvm.Cond.privateMethod ({ cls := "java/util/ArrayDeque", name := "toArray", desc := "(Ljava/lang/Class;)[Ljava/lang/Object;" } : Jvm.MethodName)) ∈ lw_tbl := lw_at lw_m3 19 rfl
theorem q561 : (Jvm.Cond.instanceMethod ({ cls := "java/util/ArrayDeque", name := "toArray", desc := "(Ljava/lang/Class;)[Ljava/lang/Object;" } : Jvm.MethodName)) ∈ lw_all := lw_g (lw_at lw_m3 20 rfl) rfl
theorem q562 : (Jvm.Cond.code ({ cls := "java/util/ArrayDeque", name := "toArray", desc := "(Ljava/lang/Class;)[Ljava/lang/Object;" } : Jvm.MethodName) prog_46_method_56_code (7 : Nat) (Option.some (Jvm.ClassFile.FieldType.array (Jvm.ClassFile.FieldType.object "java/lang/Object")))) ∈ lw_all := lw_g (lw_at lw_m3 21 rfl) rfl
theorem q563 : (Jvm.Cond.methodLink "java/util/ArrayDeque" (193 : Nat) ({ cls := "java/util/Arrays", name := "copyOfRange", desc := "([Ljava/lang/Object;IILjava/lang/Class;)[Ljava/lang/Object;" } : Jvm.MethodName)) ∈ lw_all := lw_g (lw_at lw_m3 22 rfl) rfl
theorem q784 : (Jvm.Cond.methodLink "java/util/ArrayDeque" (27 : Nat) ({ cls := "java/lang/System", name := "arraycopy", desc := "(Ljava/lang/Object;ILjava/lang/Object;II)V" } : Jvm.MethodName)) ∈ lw_all := lw_g (lw_at lw_m4 3 rfl) rfl
theorem q844 : (Jvm.Cond.instanceMethod ({ cls := "java/util/ArrayDeque", name := "size", desc := "()I" } : Jvm.MethodName)) ∈ lw_all := lw_g (lw_at lw_m4 63 rfl) rfl
theorem q845 : (Jvm.Cond.selects "java/util/ArrayDeque" ({ cls := "java/util/ArrayDeque", name := "size", desc := "()I" } : Jvm.MethodName) ({ cls := "java/util/ArrayDeque", name := "size", desc := "()I" } : Jvm.MethodName)) ∈ lw_all := lw_g (lw_at lw_m4 64 rfl) rfl
theorem q846 : (Jvm.Cond.code ({ cls := "java/util/ArrayDeque", name := "size", desc := "()I" } : Jvm.MethodName) prog_46_method_37_code (1 : Nat) (Option.some Jvm.ClassFile.FieldType.int)) ∈ lw_all := lw_g (lw_at lw_m4 65 rfl) rfl
theorem q847 : (Jvm.Cond.methodLink "java/util/ArrayDeque" (127 : Nat) ({ cls := "java/util/ArrayDeque", name := "sub", desc := "(III)I" } : Jvm.MethodName)) ∈ lw_all := lw_g (lw_at lw_m4 66 rfl) rfl
theorem q848 : (Jvm.Cond.static ({ cls := "java/util/ArrayDeque", name := "sub", desc := "(III)I" } : Jvm.MethodName)) ∈ lw_all := lw_g (lw_at lw_m4 67 rfl) rfl
theorem q849 : (Jvm.Cond.code ({ cls := "java/util/ArrayDeque", name := "sub", desc := "(III)I" } : Jvm.MethodName) prog_46_method_9_code (3 : Nat) (Option.some Jvm.ClassFile.FieldType.int)) ∈ lw_all := lw_g (lw_at lw_m4 68 rfl) rfl
theorem q851 : (Jvm.Cond.instanceMethod ({ cls := "java/util/ArrayDeque", name := "pollFirst", desc := "()Ljava/lang/Object;" } : Jvm.MethodName)) ∈ lw_all := lw_g (lw_at lw_m4 70 rfl) rfl
theorem q852 : (Jvm.Cond.selects "java/util/ArrayDeque" ({ cls := "java/util/ArrayDeque", name := "pollFirst", desc := "()Ljava/lang/Object;" } : Jvm.MethodName) ({ cls := "java/util/ArrayDeque", name := "pollFirst", desc := "()Ljava/lang/Object;" } : Jvm.MethodName)) ∈ lw_all := lw_g (lw_at lw_m4 71 rfl) rfl
theorem q853 : (Jvm.Cond.code ({ cls := "java/util/ArrayDeque", name := "pollFirst", desc := "()Ljava/lang/Object;" } : Jvm.MethodName) prog_46_method_20_code (4 : Nat) (Option.some (Jvm.ClassFile.FieldType.object "java/lang/Object"))) ∈ lw_all := lw_g (lw_at lw_m4 72 rfl) rfl
theorem q854 : (Jvm.Cond.methodLink "java/util/ArrayDeque" (103 : Nat) ({ cls := "java/util/ArrayDeque", name := "elementAt", desc := "([Ljava/lang/Object;I)Ljava/lang/Object;" } : Jvm.MethodName)) ∈ lw_all := lw_g (lw_at lw_m4 73 rfl) rfl
theorem q855 : (Jvm.Cond.static ({ cls := "java/util/ArrayDeque", name := "elementAt", desc := "([Ljava/lang/Object;I)Ljava/lang/Object;" } : Jvm.MethodName)) ∈ lw_all := lw_g (lw_at lw_m4 74 rfl) rfl
theorem q856 : (Jvm.Cond.code ({ cls := "java/util/ArrayDeque", name := "elementAt", desc := "([Ljava/lang/Object;I)Ljava/lang/Object;" } : Jvm.MethodName) prog_46_method_10_code (2 : Nat) (Option.some (Jvm.ClassFile.FieldType.object "java/lang/Object"))) ∈ lw_all := lw_g (lw_at lw_m4 75 rfl) rfl
theorem q857 : (Jvm.Cond.methodLink "java/util/ArrayDeque" (74 : Nat) ({ cls := "java/util/ArrayDeque", name := "inc", desc := "(II)I" } : Jvm.MethodName)) ∈ lw_all := lw_g (lw_at lw_m4 76 rfl) rfl
theorem q858 : (Jvm.Cond.static ({ cls := "java/util/ArrayDeque", name := "inc", desc := "(II)I" } : Jvm.MethodName)) ∈ lw_all := lw_g (lw_at lw_m4 77 rfl) rfl
theorem q859 : (Jvm.Cond.code ({ cls := "java/util/ArrayDeque", name := "inc", desc := "(II)I" } : Jvm.MethodName) prog_46_method_6_code (2 : Nat) (Option.some Jvm.ClassFile.FieldType.int)) ∈ lw_all := lw_g (lw_at lw_m4 78 rfl) rfl
theorem q861 : (Jvm.Cond.instanceMethod ({ cls := "java/util/ArrayDeque", name := "addLast", desc := "(Ljava/lang/Object;)V" } : Jvm.MethodName)) ∈ lw_all := lw_g (lw_at lw_m4 80 rfl) rfl
theorem q862 : (Jvm.Cond.selects "java/util/ArrayDeque" ({ cls := "java/util/ArrayDeque", name := "addLast", desc := "(Ljava/lang/Object;)V" } : Jvm.MethodName) ({ cls := "java/util/ArrayDeque", name := "addLast", desc := "(Ljava/lang/Object;)V" } : Jvm.MethodName)) ∈ lw_all := lw_g (lw_at lw_m4 81 rfl) rfl
theorem q863 : (Jvm.Cond.code ({ cls := "java/util/ArrayDeque", name := "addLast", desc := "(Ljava/lang/Object;)V" } : Jvm.MethodName) prog_46_method_13_code (3 : Nat) (Option.none : Option Jvm.ClassFile.FieldType)) ∈ lw_all := lw_g (lw_at lw_m4 82 rfl) rfl
theorem q864 : (Jvm.Cond.methodLink "java/util/ArrayDeque" (71 : Nat) ({ cls := "java/util/ArrayDeque", name := "grow", desc := "(I)V" } : Jvm.MethodName)) ∈ lw_all := lw_g (lw_at lw_m4 83 rfl) rfl
theorem q865 : (Jvm.Cond.privateMethod ({ cls := "java/util/ArrayDeque", name := "grow", desc := "(I)V" } : Jvm.MethodName)) ∈ lw_tbl := lw_at lw_m4 84 rfl
theorem q866 : (Jvm.Cond.instanceMethod ({ cls := "java/util/ArrayDeque", name := "grow", desc := "(I)V" } : Jvm.MethodName)) ∈ lw_all := lw_g (lw_at lw_m4 85 rfl) rfl
theorem q867 : (Jvm.Cond.code ({ cls := "java/util/ArrayDeque", name := "grow", desc := "(I)V" } : Jvm.MethodName) prog_46_method_1_code (9 : Nat) (Option.none : Option Jvm.ClassFile.FieldType)) ∈ lw_all := lw_g (lw_at lw_m4 86 rfl) rfl
theorem q868 : (Jvm.Cond.constant "java/util/ArrayDeque" (9 : Nat) (2147483639 : Int32)) ∈ lw_all := lw_g (lw_at lw_m4 87 rfl) rfl
theorem q869 : (Jvm.Cond.methodLink "java/util/ArrayDeque" (10 : Nat) ({ cls := "java/util/ArrayDeque", name := "newCapacity", desc := "(II)I" } : Jvm.MethodName)) ∈ lw_all := lw_g (lw_at lw_m4 88 rfl) rfl
theorem q870 : (Jvm.Cond.privateMethod ({ cls := "java/util/ArrayDeque", name := "newCapacity", desc := "(II)I" } : Jvm.MethodName)) ∈ lw_tbl := lw_at lw_m4 89 rfl
theorem q871 : (Jvm.Cond.instanceMethod ({ cls := "java/util/ArrayDeque", name := "newCapacity", desc := "(II)I" } : Jvm.MethodName)) ∈ lw_all := lw_g (lw_at lw_m4 90 rfl) rfl
theorem q872 : (Jvm.Cond.code ({ cls := "java/util/ArrayDeque", name := "newCapacity", desc := "(II)I" } : Jvm.MethodName) prog_46_method_2_code (5 : Nat) (Option.some Jvm.ClassFile.FieldType.int)) ∈ lw_all := lw_g (lw_at lw_m4 91 rfl) rfl
theorem q873 : (Jvm.Cond.classLink "java/util/ArrayDeque" (33 : Nat) "java/lang/IllegalStateException") ∈ lw_all := lw_g (lw_at lw_m4 92 rfl) rfl
theorem q874 : (Jvm.Cond.stringRef "java/util/ArrayDeque" (35 : Nat) "Sorry, deque too big") ∈ lw_tbl := lw_at lw_m4 93 rfl
theorem q875 : (Jvm.Cond.methodLink "java/util/ArrayDeque" (37 : Nat) ({ cls := "java/lang/IllegalStateException", name := "<init>", desc := "(Ljava/lang/String;)V" } : Jvm.MethodName)) ∈ lw_all := lw_g (lw_at lw_m4 94 rfl) rfl
theorem q879 : (Jvm.Cond.constant "java/util/ArrayDeque" (41 : Nat) (2147483647 : Int32)) ∈ lw_all := lw_g (lw_at lw_m4 98 rfl) rfl
theorem q880 : (Jvm.Cond.methodLink "java/util/ArrayDeque" (14 : Nat) ({ cls := "java/util/Arrays", name := "copyOf", desc := "([Ljava/lang/Object;I)[Ljava/lang/Object;" } : Jvm.MethodName)) ∈ lw_all := lw_g (lw_at lw_m4 99 rfl) rfl
theorem q1775 : (Jvm.Cond.instanceMethod ({ cls := "java/util/ArrayDeque", name := "isEmpty", desc := "()Z" } : Jvm.MethodName)) ∈ lw_all := lw_g (lw_at lw_m8 34 rfl) rfl
theorem q1776 : (Jvm.Cond.selects "java/util/ArrayDeque" ({ cls := "java/util/ArrayDeque", name := "isEmpty", desc := "()Z" } : Jvm.MethodName) ({ cls := "java/util/ArrayDeque", name := "isEmpty", desc := "()Z" } : Jvm.MethodName)) ∈ lw_all := lw_g (lw_at lw_m8 35 rfl) rfl
theorem q1777 : (Jvm.Cond.code ({ cls := "java/util/ArrayDeque", name := "isEmpty", desc := "()Z" } : Jvm.MethodName) prog_46_method_38_code (1 : Nat) (Option.some Jvm.ClassFile.FieldType.boolean)) ∈ lw_all := lw_g (lw_at lw_m8 36 rfl) rfl
theorem q1779 : (Jvm.Cond.instanceMethod ({ cls := "java/util/ArrayDeque", name := "pollLast", desc := "()Ljava/lang/Object;" } : Jvm.MethodName)) ∈ lw_all := lw_g (lw_at lw_m8 38 rfl) rfl
theorem q1780 : (Jvm.Cond.selects "java/util/ArrayDeque" ({ cls := "java/util/ArrayDeque", name := "pollLast", desc := "()Ljava/lang/Object;" } : Jvm.MethodName) ({ cls := "java/util/ArrayDeque", name := "pollLast", desc := "()Ljava/lang/Object;" } : Jvm.MethodName)) ∈ lw_all := lw_g (lw_at lw_m8 39 rfl) rfl
theorem q1781 : (Jvm.Cond.code ({ cls := "java/util/ArrayDeque", name := "pollLast", desc := "()Ljava/lang/Object;" } : Jvm.MethodName) prog_46_method_21_code (4 : Nat) (Option.some (Jvm.ClassFile.FieldType.object "java/lang/Object"))) ∈ lw_all := lw_g (lw_at lw_m8 40 rfl) rfl
theorem q1782 : (Jvm.Cond.methodLink "java/util/ArrayDeque" (68 : Nat) ({ cls := "java/util/ArrayDeque", name := "dec", desc := "(II)I" } : Jvm.MethodName)) ∈ lw_all := lw_g (lw_at lw_m8 41 rfl) rfl
theorem q1783 : (Jvm.Cond.static ({ cls := "java/util/ArrayDeque", name := "dec", desc := "(II)I" } : Jvm.MethodName)) ∈ lw_all := lw_g (lw_at lw_m8 42 rfl) rfl
theorem q1784 : (Jvm.Cond.code ({ cls := "java/util/ArrayDeque", name := "dec", desc := "(II)I" } : Jvm.MethodName) prog_46_method_7_code (2 : Nat) (Option.some Jvm.ClassFile.FieldType.int)) ∈ lw_all := lw_g (lw_at lw_m8 43 rfl) rfl
theorem q1793 : (Jvm.Cond.instanceMethod ({ cls := "java/util/ArrayDeque", name := "clear", desc := "()V" } : Jvm.MethodName)) ∈ lw_all := lw_g (lw_at lw_m8 52 rfl) rfl
theorem q1794 : (Jvm.Cond.selects "java/util/ArrayDeque" ({ cls := "java/util/ArrayDeque", name := "clear", desc := "()V" } : Jvm.MethodName) ({ cls := "java/util/ArrayDeque", name := "clear", desc := "()V" } : Jvm.MethodName)) ∈ lw_all := lw_g (lw_at lw_m8 53 rfl) rfl
theorem q1795 : (Jvm.Cond.code ({ cls := "java/util/ArrayDeque", name := "clear", desc := "()V" } : Jvm.MethodName) prog_46_method_53_code (1 : Nat) (Option.none : Option Jvm.ClassFile.FieldType)) ∈ lw_all := lw_g (lw_at lw_m8 54 rfl) rfl
theorem q1796 : (Jvm.Cond.methodLink "java/util/ArrayDeque" (181 : Nat) ({ cls := "java/util/ArrayDeque", name := "circularClear", desc := "([Ljava/lang/Object;II)V" } : Jvm.MethodName)) ∈ lw_all := lw_g (lw_at lw_m8 55 rfl) rfl
theorem q1797 : (Jvm.Cond.static ({ cls := "java/util/ArrayDeque", name := "circularClear", desc := "([Ljava/lang/Object;II)V" } : Jvm.MethodName)) ∈ lw_all := lw_g (lw_at lw_m8 56 rfl) rfl
theorem q1798 : (Jvm.Cond.code ({ cls := "java/util/ArrayDeque", name := "circularClear", desc := "([Ljava/lang/Object;II)V" } : Jvm.MethodName) prog_46_method_54_code (4 : Nat) (Option.none : Option Jvm.ClassFile.FieldType)) ∈ lw_all := lw_g (lw_at lw_m8 57 rfl) rfl
theorem q2228 : (Jvm.Cond.castable "java/util/ArrayDeque" "java/lang/Object") ∈ lw_tbl := lw_at lw_m10 7 rfl
theorem in_J3 : ∀ w ∈ wsJ30, w ∈ lw_all := lw_in wsJ30 [207, 209, 211] (by decide +kernel) (by decide +kernel)
/-! java/lang/AbstractStringBuilder -/
set_option maxRecDepth 100000
def RJ4 : String := "java/lang/AbstractStringBuilder"
abbrev cJ4_init : ByteArray := prog_17_method_2_code
def yJ4_init : MethodName := ⟨RJ4, "<init>", "(I)V"⟩
def dkwJ4_init_1 : List UInt8 := [167, 0, 16, 42, 27, 184, 0, 26, 181, 0, 15, 42, 4, 181, 0, 22, 177]
abbrev dktJ4_init_1 : List UInt8 := dkwJ4_init_1 ++ []
def dkwJ4_init_0 : List UInt8 := [42, 183, 0, 3, 178, 0, 18, 153, 0, 18, 42, 27, 188, 8, 181, 0, 15, 42, 3, 181, 0, 22]
abbrev dktJ4_init_0 : List UInt8 := dkwJ4_init_0 ++ dktJ4_init_1
theorem dksJ4_init_0 : cJ4_init.data.toList.drop 0 = dktJ4_init_0 := by decide +kernel
theorem dksJ4_init_1 : cJ4_init.data.toList.drop 22 = dktJ4_init_1 := dk_seg dksJ4_init_0 22 rfl rfl
theorem dJ4_init_0 : decode cJ4_init 0 = .ok (.aload_n 0, 1) := dk_42 (dk_at dksJ4_init_0 0 rfl rfl)
theorem dJ4_init_1 : decode cJ4_init 1 = .ok (.invokespecial 3, 3) := dk_183 0 3 (dk_at dksJ4_init_0 1 rfl rfl)
theorem dJ4_init_4 : decode cJ4_init 4 = .ok (.getstatic 18, 3) := dk_178 0 18 (dk_at dksJ4_init_0 4 rfl rfl)
theorem dJ4_init_7 : decode cJ4_init 7 = .ok (.ifCond .eq 18, 3) := dk_153 0 18 (dk_at dksJ4_init_0 7 rfl rfl)
theorem dJ4_init_10 : decode cJ4_init 10 = .ok (.aload_n 0, 1) := dk_42 (dk_at dksJ4_init_0 10 rfl rfl)
theorem dJ4_init_11 : decode cJ4_init 11 = .ok (.iload_n 1, 1) := dk_27 (dk_at dksJ4_init_0 11 rfl rfl)
theorem dJ4_init_12 : decode cJ4_init 12 = .ok (.newarray .byte, 2) := dk_188_8 (dk_at dksJ4_init_0 12 rfl rfl)
theorem dJ4_init_14 : decode cJ4_init 14 = .ok (.putfield 15, 3) := dk_181 0 15 (dk_at dksJ4_init_0 14 rfl rfl)
theorem dJ4_init_17 : decode cJ4_init 17 = .ok (.aload_n 0, 1) := dk_42 (dk_at dksJ4_init_0 17 rfl rfl)
theorem dJ4_init_18 : decode cJ4_init 18 = .ok (.iconst 0, 1) := dk_3 (dk_at dksJ4_init_0 18 rfl rfl)
theorem dJ4_init_19 : decode cJ4_init 19 = .ok (.putfield 22, 3) := dk_181 0 22 (dk_at dksJ4_init_0 19 rfl rfl)
theorem dJ4_init_22 : decode cJ4_init 22 = .ok (.goto 16, 3) := dk_167 0 16 (dk_at dksJ4_init_1 0 rfl rfl)
theorem dJ4_init_25 : decode cJ4_init 25 = .ok (.aload_n 0, 1) := dk_42 (dk_at dksJ4_init_1 3 rfl rfl)
theorem dJ4_init_26 : decode cJ4_init 26 = .ok (.iload_n 1, 1) := dk_27 (dk_at dksJ4_init_1 4 rfl rfl)
theorem dJ4_init_27 : decode cJ4_init 27 = .ok (.invokestatic 26, 3) := dk_184 0 26 (dk_at dksJ4_init_1 5 rfl rfl)
theorem dJ4_init_30 : decode cJ4_init 30 = .ok (.putfield 15, 3) := dk_181 0 15 (dk_at dksJ4_init_1 8 rfl rfl)
theorem dJ4_init_33 : decode cJ4_init 33 = .ok (.aload_n 0, 1) := dk_42 (dk_at dksJ4_init_1 11 rfl rfl)
theorem dJ4_init_34 : decode cJ4_init 34 = .ok (.iconst 1, 1) := dk_4 (dk_at dksJ4_init_1 12 rfl rfl)
theorem dJ4_init_35 : decode cJ4_init 35 = .ok (.putfield 22, 3) := dk_181 0 22 (dk_at dksJ4_init_1 13 rfl rfl)
theorem dJ4_init_38 : decode cJ4_init 38 = .ok (.return_, 1) := dk_177 (dk_at dksJ4_init_1 16 rfl rfl)
abbrev cJ4_append : ByteArray := prog_17_method_32_code
def yJ4_append : MethodName := ⟨RJ4, "append", "(I)Ljava/lang/AbstractStringBuilder;"⟩
def dkwJ4_append_2 : List UInt8 := [42, 29, 181, 0, 79, 42, 176]
abbrev dktJ4_append_2 : List UInt8 := dkwJ4_append_2 ++ []
def dkwJ4_append_1 : List UInt8 := [27, 29, 42, 180, 0, 15, 184, 0, 248, 87, 167, 0, 14, 27, 28, 29, 42, 180, 0, 15, 184, 0, 251, 87]
abbrev dktJ4_append_1 : List UInt8 := dkwJ4_append_1 ++ dktJ4_append_2
def dkwJ4_append_0 : List UInt8 := [42, 180, 0, 79, 61, 28, 27, 184, 0, 245, 96, 62, 42, 29, 182, 0, 100, 42, 182, 0, 83, 153, 0, 16]
abbrev dktJ4_append_0 : List UInt8 := dkwJ4_append_0 ++ dktJ4_append_1
theorem dksJ4_append_0 : cJ4_append.data.toList.drop 0 = dktJ4_append_0 := by decide +kernel
theorem dksJ4_append_1 : cJ4_append.data.toList.drop 24 = dktJ4_append_1 := dk_seg dksJ4_append_0 24 rfl rfl
theorem dksJ4_append_2 : cJ4_append.data.toList.drop 48 = dktJ4_append_2 := dk_seg dksJ4_append_1 24 rfl rfl
theorem dJ4_append_0 : decode cJ4_append 0 = .ok (.aload_n 0, 1) := dk_42 (dk_at dksJ4_append_0 0 rfl rfl)
theorem dJ4_append_1 : decode cJ4_append 1 = .ok (.getfield 79, 3) := dk_180 0 79 (dk_at dksJ4_append_0 1 rfl rfl)
theorem dJ4_append_4 : decode cJ4_append 4 = .ok (.istore_n 2, 1) := dk_61 (dk_at dksJ4_append_0 4 rfl rfl)
theorem dJ4_append_5 : decode cJ4_append 5 = .ok (.iload_n 2, 1) := dk_28 (dk_at dksJ4_append_0 5 rfl rfl)
theorem dJ4_append_6 : decode cJ4_append 6 = .ok (.iload_n 1, 1) := dk_27 (dk_at dksJ4_append_0 6 rfl rfl)
theorem dJ4_append_7 : decode cJ4_append 7 = .ok (.invokestatic 245, 3) := dk_184 0 245 (dk_at dksJ4_append_0 7 rfl rfl)
theorem dJ4_append_10 : decode cJ4_append 10 = .ok (.iadd, 1) := dk_96 (dk_at dksJ4_append_0 10 rfl rfl)
theorem dJ4_append_11 : decode cJ4_append 11 = .ok (.istore_n 3, 1) := dk_62 (dk_at dksJ4_append_0 11 rfl rfl)
theorem dJ4_append_12 : decode cJ4_append 12 = .ok (.aload_n 0, 1) := dk_42 (dk_at dksJ4_append_0 12 rfl rfl)
theorem dJ4_append_13 : decode cJ4_append 13 = .ok (.iload_n 3, 1) := dk_29 (dk_at dksJ4_append_0 13 rfl rfl)
theorem dJ4_append_14 : decode cJ4_append 14 = .ok (.invokevirtual 100, 3) := dk_182 0 100 (dk_at dksJ4_append_0 14 rfl rfl)
theorem dJ4_append_17 : decode cJ4_append 17 = .ok (.aload_n 0, 1) := dk_42 (dk_at dksJ4_append_0 17 rfl rfl)
theorem dJ4_append_18 : decode cJ4_append 18 = .ok (.invokevirtual 83, 3) := dk_182 0 83 (dk_at dksJ4_append_0 18 rfl rfl)
theorem dJ4_append_21 : decode cJ4_append 21 = .ok (.ifCond .eq 16, 3) := dk_153 0 16 (dk_at dksJ4_append_0 21 rfl rfl)
theorem dJ4_append_24 : decode cJ4_append 24 = .ok (.iload_n 1, 1) := dk_27 (dk_at dksJ4_append_1 0 rfl rfl)
theorem dJ4_append_25 : decode cJ4_append 25 = .ok (.iload_n 3, 1) := dk_29 (dk_at dksJ4_append_1 1 rfl rfl)
theorem dJ4_append_26 : decode cJ4_append 26 = .ok (.aload_n 0, 1) := dk_42 (dk_at dksJ4_append_1 2 rfl rfl)
theorem dJ4_append_27 : decode cJ4_append 27 = .ok (.getfield 15, 3) := dk_180 0 15 (dk_at dksJ4_append_1 3 rfl rfl)
theorem dJ4_append_30 : decode cJ4_append 30 = .ok (.invokestatic 248, 3) := dk_184 0 248 (dk_at dksJ4_append_1 6 rfl rfl)
theorem dJ4_append_33 : decode cJ4_append 33 = .ok (.pop, 1) := dk_87 (dk_at dksJ4_append_1 9 rfl rfl)
theorem dJ4_append_34 : decode cJ4_append 34 = .ok (.goto 14, 3) := dk_167 0 14 (dk_at dksJ4_append_1 10 rfl rfl)
theorem dJ4_append_37 : decode cJ4_append 37 = .ok (.iload_n 1, 1) := dk_27 (dk_at dksJ4_append_1 13 rfl rfl)
theorem dJ4_append_38 : decode cJ4_append 38 = .ok (.iload_n 2, 1) := dk_28 (dk_at dksJ4_append_1 14 rfl rfl)
theorem dJ4_append_39 : decode cJ4_append 39 = .ok (.iload_n 3, 1) := dk_29 (dk_at dksJ4_append_1 15 rfl rfl)
theorem dJ4_append_40 : decode cJ4_append 40 = .ok (.aload_n 0, 1) := dk_42 (dk_at dksJ4_append_1 16 rfl rfl)
theorem dJ4_append_41 : decode cJ4_append 41 = .ok (.getfield 15, 3) := dk_180 0 15 (dk_at dksJ4_append_1 17 rfl rfl)
theorem dJ4_append_44 : decode cJ4_append 44 = .ok (.invokestatic 251, 3) := dk_184 0 251 (dk_at dksJ4_append_1 20 rfl rfl)
theorem dJ4_append_47 : decode cJ4_append 47 = .ok (.pop, 1) := dk_87 (dk_at dksJ4_append_1 23 rfl rfl)
theorem dJ4_append_48 : decode cJ4_append 48 = .ok (.aload_n 0, 1) := dk_42 (dk_at dksJ4_append_2 0 rfl rfl)
theorem dJ4_append_49 : decode cJ4_append 49 = .ok (.iload_n 3, 1) := dk_29 (dk_at dksJ4_append_2 1 rfl rfl)
theorem dJ4_append_50 : decode cJ4_append 50 = .ok (.putfield 79, 3) := dk_181 0 79 (dk_at dksJ4_append_2 2 rfl rfl)
theorem dJ4_append_53 : decode cJ4_append 53 = .ok (.aload_n 0, 1) := dk_42 (dk_at dksJ4_append_2 5 rfl rfl)
theorem dJ4_append_54 : decode cJ4_append 54 = .ok (.areturn, 1) := dk_176 (dk_at dksJ4_append_2 6 rfl rfl)
abbrev cJ4_ensureCapacityInternal : ByteArray := prog_17_method_9_code
def yJ4_ensureCapacityInternal : MethodName := ⟨RJ4, "ensureCapacityInternal", "(I)V"⟩
def dkwJ4_ensureCapacityInternal_1 : List UInt8 := [182, 0, 104, 42, 180, 0, 22, 120, 184, 0, 108, 181, 0, 15, 177]
abbrev dktJ4_ensureCapacityInternal_1 : List UInt8 := dkwJ4_ensureCapacityInternal_1 ++ []
def dkwJ4_ensureCapacityInternal_0 : List UInt8 := [42, 180, 0, 15, 190, 42, 180, 0, 22, 122, 61, 27, 28, 100, 158, 0, 24, 42, 42, 180, 0, 15, 42, 27]
abbrev dktJ4_ensureCapacityInternal_0 : List UInt8 := dkwJ4_ensureCapacityInternal_0 ++ dktJ4_ensureCapacityInternal_1
theorem dksJ4_ensureCapacityInternal_0 : cJ4_ensureCapacityInternal.data.toList.drop 0 = dktJ4_ensureCapacityInternal_0 := by decide +kernel
theorem dksJ4_ensureCapacityInternal_1 : cJ4_ensureCapacityInternal.data.toList.drop 24 = dktJ4_ensureCapacityInternal_1 := dk_seg dksJ4_ensureCapacityInternal_0 24 rfl rfl
theorem dJ4_ensureCapacityInternal_0 : decode cJ4_ensureCapacityInternal 0 = .ok (.aload_n 0, 1) := dk_42 (dk_at dksJ4_ensureCapacityInternal_0 0 rfl rfl)
theorem dJ4_ensureCapacityInternal_1 : decode cJ4_ensureCapacityInternal 1 = .ok (.getfield 15, 3) := dk_180 0 15 (dk_at dksJ4_ensureCapacityInternal_0 1 rfl rfl)
theorem dJ4_ensureCapacityInternal_4 : decode cJ4_ensureCapacityInternal 4 = .ok (.arraylength, 1) := dk_190 (dk_at dksJ4_ensureCapacityInternal_0 4 rfl rfl)
theorem dJ4_ensureCapacityInternal_5 : decode cJ4_ensureCapacityInternal 5 = .ok (.aload_n 0, 1) := dk_42 (dk_at dksJ4_ensureCapacityInternal_0 5 rfl rfl)
theorem dJ4_ensureCapacityInternal_6 : decode cJ4_ensureCapacityInternal 6 = .ok (.getfield 22, 3) := dk_180 0 22 (dk_at dksJ4_ensureCapacityInternal_0 6 rfl rfl)
theorem dJ4_ensureCapacityInternal_9 : decode cJ4_ensureCapacityInternal 9 = .ok (.ishr, 1) := dk_122 (dk_at dksJ4_ensureCapacityInternal_0 9 rfl rfl)
theorem dJ4_ensureCapacityInternal_10 : decode cJ4_ensureCapacityInternal 10 = .ok (.istore_n 2, 1) := dk_61 (dk_at dksJ4_ensureCapacityInternal_0 10 rfl rfl)
theorem dJ4_ensureCapacityInternal_11 : decode cJ4_ensureCapacityInternal 11 = .ok (.iload_n 1, 1) := dk_27 (dk_at dksJ4_ensureCapacityInternal_0 11 rfl rfl)
theorem dJ4_ensureCapacityInternal_12 : decode cJ4_ensureCapacityInternal 12 = .ok (.iload_n 2, 1) := dk_28 (dk_at dksJ4_ensureCapacityInternal_0 12 rfl rfl)
theorem dJ4_ensureCapacityInternal_13 : decode cJ4_ensureCapacityInternal 13 = .ok (.isub, 1) := dk_100 (dk_at dksJ4_ensureCapacityInternal_0 13 rfl rfl)
theorem dJ4_ensureCapacityInternal_14 : decode cJ4_ensureCapacityInternal 14 = .ok (.ifCond .le 24, 3) := dk_158 0 24 (dk_at dksJ4_ensureCapacityInternal_0 14 rfl rfl)
theorem dJ4_ensureCapacityInternal_17 : decode cJ4_ensureCapacityInternal 17 = .ok (.aload_n 0, 1) := dk_42 (dk_at dksJ4_ensureCapacityInternal_0 17 rfl rfl)
theorem dJ4_ensureCapacityInternal_18 : decode cJ4_ensureCapacityInternal 18 = .ok (.aload_n 0, 1) := dk_42 (dk_at dksJ4_ensureCapacityInternal_0 18 rfl rfl)
theorem dJ4_ensureCapacityInternal_19 : decode cJ4_ensureCapacityInternal 19 = .ok (.getfield 15, 3) := dk_180 0 15 (dk_at dksJ4_ensureCapacityInternal_0 19 rfl rfl)
theorem dJ4_ensureCapacityInternal_22 : decode cJ4_ensureCapacityInternal 22 = .ok (.aload_n 0, 1) := dk_42 (dk_at dksJ4_ensureCapacityInternal_0 22 rfl rfl)
theorem dJ4_ensureCapacityInternal_23 : decode cJ4_ensureCapacityInternal 23 = .ok (.iload_n 1, 1) := dk_27 (dk_at dksJ4_ensureCapacityInternal_0 23 rfl rfl)
theorem dJ4_ensureCapacityInternal_24 : decode cJ4_ensureCapacityInternal 24 = .ok (.invokevirtual 104, 3) := dk_182 0 104 (dk_at dksJ4_ensureCapacityInternal_1 0 rfl rfl)
theorem dJ4_ensureCapacityInternal_27 : decode cJ4_ensureCapacityInternal 27 = .ok (.aload_n 0, 1) := dk_42 (dk_at dksJ4_ensureCapacityInternal_1 3 rfl rfl)
theorem dJ4_ensureCapacityInternal_28 : decode cJ4_ensureCapacityInternal 28 = .ok (.getfield 22, 3) := dk_180 0 22 (dk_at dksJ4_ensureCapacityInternal_1 4 rfl rfl)
theorem dJ4_ensureCapacityInternal_31 : decode cJ4_ensureCapacityInternal 31 = .ok (.ishl, 1) := dk_120 (dk_at dksJ4_ensureCapacityInternal_1 7 rfl rfl)
theorem dJ4_ensureCapacityInternal_32 : decode cJ4_ensureCapacityInternal 32 = .ok (.invokestatic 108, 3) := dk_184 0 108 (dk_at dksJ4_ensureCapacityInternal_1 8 rfl rfl)
theorem dJ4_ensureCapacityInternal_35 : decode cJ4_ensureCapacityInternal 35 = .ok (.putfield 15, 3) := dk_181 0 15 (dk_at dksJ4_ensureCapacityInternal_1 11 rfl rfl)
theorem dJ4_ensureCapacityInternal_38 : decode cJ4_ensureCapacityInternal 38 = .ok (.return_, 1) := dk_177 (dk_at dksJ4_ensureCapacityInternal_1 14 rfl rfl)
abbrev cJ4_newCapacity : ByteArray := prog_17_method_10_code
def yJ4_newCapacity : MethodName := ⟨RJ4, "newCapacity", "(I)I"⟩
def dkwJ4_newCapacity_2 : List UInt8 := [183, 0, 124, 191, 21, 5, 42, 180, 0, 22, 122, 172]
abbrev dktJ4_newCapacity_2 : List UInt8 := dkwJ4_newCapacity_2 ++ []
def dkwJ4_newCapacity_1 : List UInt8 := [180, 0, 22, 120, 96, 184, 0, 114, 54, 5, 21, 5, 18, 39, 160, 0, 13, 187, 0, 120, 89, 18, 122]
abbrev dktJ4_newCapacity_1 : List UInt8 := dkwJ4_newCapacity_1 ++ dktJ4_newCapacity_2
def dkwJ4_newCapacity_0 : List UInt8 := [42, 180, 0, 15, 190, 61, 27, 42, 180, 0, 22, 120, 62, 29, 28, 100, 54, 4, 28, 21, 4, 28, 5, 42]
abbrev dktJ4_newCapacity_0 : List UInt8 := dkwJ4_newCapacity_0 ++ dktJ4_newCapacity_1
theorem dksJ4_newCapacity_0 : cJ4_newCapacity.data.toList.drop 0 = dktJ4_newCapacity_0 := by decide +kernel
theorem dksJ4_newCapacity_1 : cJ4_newCapacity.data.toList.drop 24 = dktJ4_newCapacity_1 := dk_seg dksJ4_newCapacity_0 24 rfl rfl
theorem dksJ4_newCapacity_2 : cJ4_newCapacity.data.toList.drop 47 = dktJ4_newCapacity_2 := dk_seg dksJ4_newCapacity_1 23 rfl rfl
theorem dJ4_newCapacity_0 : decode cJ4_newCapacity 0 = .ok (.aload_n 0, 1) := dk_42 (dk_at dksJ4_newCapacity_0 0 rfl rfl)
theorem dJ4_newCapacity_1 : decode cJ4_newCapacity 1 = .ok (.getfield 15, 3) := dk_180 0 15 (dk_at dksJ4_newCapacity_0 1 rfl rfl)
theorem dJ4_newCapacity_4 : decode cJ4_newCapacity 4 = .ok (.arraylength, 1) := dk_190 (dk_at dksJ4_newCapacity_0 4 rfl rfl)
theorem dJ4_newCapacity_5 : decode cJ4_newCapacity 5 = .ok (.istore_n 2, 1) := dk_61 (dk_at dksJ4_newCapacity_0 5 rfl rfl)
theorem dJ4_newCapacity_6 : decode cJ4_newCapacity 6 = .ok (.iload_n 1, 1) := dk_27 (dk_at dksJ4_newCapacity_0 6 rfl rfl)
theorem dJ4_newCapacity_7 : decode cJ4_newCapacity 7 = .ok (.aload_n 0, 1) := dk_42 (dk_at dksJ4_newCapacity_0 7 rfl rfl)
theorem dJ4_newCapacity_8 : decode cJ4_newCapacity 8 = .ok (.getfield 22, 3) := dk_180 0 22 (dk_at dksJ4_newCapacity_0 8 rfl rfl)
theorem dJ4_newCapacity_11 : decode cJ4_newCapacity 11 = .ok (.ishl, 1) := dk_120 (dk_at dksJ4_newCapacity_0 11 rfl rfl)
theorem dJ4_newCapacity_12 : decode cJ4_newCapacity 12 = .ok (.istore_n 3, 1) := dk_62 (dk_at dksJ4_newCapacity_0 12 rfl rfl)
theorem dJ4_newCapacity_13 : decode cJ4_newCapacity 13 = .ok (.iload_n 3, 1) := dk_29 (dk_at dksJ4_newCapacity_0 13 rfl rfl)
theorem dJ4_newCapacity_14 : decode cJ4_newCapacity 14 = .ok (.iload_n 2, 1) := dk_28 (dk_at dksJ4_newCapacity_0 14 rfl rfl)
theorem dJ4_newCapacity_15 : decode cJ4_newCapacity 15 = .ok (.isub, 1) := dk_100 (dk_at dksJ4_newCapacity_0 15 rfl rfl)
theorem dJ4_newCapacity_16 : decode cJ4_newCapacity 16 = .ok (.istore 4, 2) := dk_54 4 (dk_at dksJ4_newCapacity_0 16 rfl rfl)
theorem dJ4_newCapacity_18 : decode cJ4_newCapacity 18 = .ok (.iload_n 2, 1) := dk_28 (dk_at dksJ4_newCapacity_0 18 rfl rfl)
theorem dJ4_newCapacity_19 : decode cJ4_newCapacity 19 = .ok (.iload 4, 2) := dk_21 4 (dk_at dksJ4_newCapacity_0 19 rfl rfl)
theorem dJ4_newCapacity_21 : decode cJ4_newCapacity 21 = .ok (.iload_n 2, 1) := dk_28 (dk_at dksJ4_newCapacity_0 21 rfl rfl)
theorem dJ4_newCapacity_22 : decode cJ4_newCapacity 22 = .ok (.iconst 2, 1) := dk_5 (dk_at dksJ4_newCapacity_0 22 rfl rfl)
theorem dJ4_newCapacity_23 : decode cJ4_newCapacity 23 = .ok (.aload_n 0, 1) := dk_42 (dk_at dksJ4_newCapacity_0 23 rfl rfl)
theorem dJ4_newCapacity_24 : decode cJ4_newCapacity 24 = .ok (.getfield 22, 3) := dk_180 0 22 (dk_at dksJ4_newCapacity_1 0 rfl rfl)
theorem dJ4_newCapacity_27 : decode cJ4_newCapacity 27 = .ok (.ishl, 1) := dk_120 (dk_at dksJ4_newCapacity_1 3 rfl rfl)
theorem dJ4_newCapacity_28 : decode cJ4_newCapacity 28 = .ok (.iadd, 1) := dk_96 (dk_at dksJ4_newCapacity_1 4 rfl rfl)
theorem dJ4_newCapacity_29 : decode cJ4_newCapacity 29 = .ok (.invokestatic 114, 3) := dk_184 0 114 (dk_at dksJ4_newCapacity_1 5 rfl rfl)
theorem dJ4_newCapacity_32 : decode cJ4_newCapacity 32 = .ok (.istore 5, 2) := dk_54 5 (dk_at dksJ4_newCapacity_1 8 rfl rfl)
theorem dJ4_newCapacity_34 : decode cJ4_newCapacity 34 = .ok (.iload 5, 2) := dk_21 5 (dk_at dksJ4_newCapacity_1 10 rfl rfl)
theorem dJ4_newCapacity_36 : decode cJ4_newCapacity 36 = .ok (.ldc 39, 2) := dk_18 39 (dk_at dksJ4_newCapacity_1 12 rfl rfl)
theorem dJ4_newCapacity_38 : decode cJ4_newCapacity 38 = .ok (.if_icmp .ne 13, 3) := dk_160 0 13 (dk_at dksJ4_newCapacity_1 14 rfl rfl)
theorem dJ4_newCapacity_41 : decode cJ4_newCapacity 41 = .ok (.new 120, 3) := dk_187 0 120 (dk_at dksJ4_newCapacity_1 17 rfl rfl)
theorem dJ4_newCapacity_44 : decode cJ4_newCapacity 44 = .ok (.dup, 1) := dk_89 (dk_at dksJ4_newCapacity_1 20 rfl rfl)
theorem dJ4_newCapacity_45 : decode cJ4_newCapacity 45 = .ok (.ldc 122, 2) := dk_18 122 (dk_at dksJ4_newCapacity_1 21 rfl rfl)
theorem dJ4_newCapacity_47 : decode cJ4_newCapacity 47 = .ok (.invokespecial 124, 3) := dk_183 0 124 (dk_at dksJ4_newCapacity_2 0 rfl rfl)
theorem dJ4_newCapacity_50 : decode cJ4_newCapacity 50 = .ok (.athrow, 1) := dk_191 (dk_at dksJ4_newCapacity_2 3 rfl rfl)
theorem dJ4_newCapacity_51 : decode cJ4_newCapacity 51 = .ok (.iload 5, 2) := dk_21 5 (dk_at dksJ4_newCapacity_2 4 rfl rfl)
theorem dJ4_newCapacity_53 : decode cJ4_newCapacity 53 = .ok (.aload_n 0, 1) := dk_42 (dk_at dksJ4_newCapacity_2 6 rfl rfl)
theorem dJ4_newCapacity_54 : decode cJ4_newCapacity 54 = .ok (.getfield 22, 3) := dk_180 0 22 (dk_at dksJ4_newCapacity_2 7 rfl rfl)
theorem dJ4_newCapacity_57 : decode cJ4_newCapacity 57 = .ok (.ishr, 1) := dk_122 (dk_at dksJ4_newCapacity_2 10 rfl rfl)
theorem dJ4_newCapacity_58 : decode cJ4_newCapacity 58 = .ok (.ireturn, 1) := dk_172 (dk_at dksJ4_newCapacity_2 11 rfl rfl)
abbrev cJ4_isLatin1 : ByteArray := prog_17_method_68_code
def yJ4_isLatin1 : MethodName := ⟨RJ4, "isLatin1", "()Z"⟩
def dkwJ4_isLatin1_0 : List UInt8 := [178, 0, 18, 153, 0, 14, 42, 180, 0, 22, 154, 0, 7, 4, 167, 0, 4, 3, 172]
abbrev dktJ4_isLatin1_0 : List UInt8 := dkwJ4_isLatin1_0 ++ []
theorem dksJ4_isLatin1_0 : cJ4_isLatin1.data.toList.drop 0 = dktJ4_isLatin1_0 := by decide +kernel
theorem dJ4_isLatin1_0 : decode cJ4_isLatin1 0 = .ok (.getstatic 18, 3) := dk_178 0 18 (dk_at dksJ4_isLatin1_0 0 rfl rfl)
theorem dJ4_isLatin1_3 : decode cJ4_isLatin1 3 = .ok (.ifCond .eq 14, 3) := dk_153 0 14 (dk_at dksJ4_isLatin1_0 3 rfl rfl)
theorem dJ4_isLatin1_6 : decode cJ4_isLatin1 6 = .ok (.aload_n 0, 1) := dk_42 (dk_at dksJ4_isLatin1_0 6 rfl rfl)
theorem dJ4_isLatin1_7 : decode cJ4_isLatin1 7 = .ok (.getfield 22, 3) := dk_180 0 22 (dk_at dksJ4_isLatin1_0 7 rfl rfl)
theorem dJ4_isLatin1_10 : decode cJ4_isLatin1 10 = .ok (.ifCond .ne 7, 3) := dk_154 0 7 (dk_at dksJ4_isLatin1_0 10 rfl rfl)
theorem dJ4_isLatin1_13 : decode cJ4_isLatin1 13 = .ok (.iconst 1, 1) := dk_4 (dk_at dksJ4_isLatin1_0 13 rfl rfl)
theorem dJ4_isLatin1_14 : decode cJ4_isLatin1 14 = .ok (.goto 4, 3) := dk_167 0 4 (dk_at dksJ4_isLatin1_0 14 rfl rfl)
theorem dJ4_isLatin1_17 : decode cJ4_isLatin1 17 = .ok (.iconst 0, 1) := dk_3 (dk_at dksJ4_isLatin1_0 17 rfl rfl)
theorem dJ4_isLatin1_18 : decode cJ4_isLatin1 18 = .ok (.ireturn, 1) := dk_172 (dk_at dksJ4_isLatin1_0 18 rfl rfl)
abbrev cJ4_append_2 : ByteArray := prog_17_method_22_code
def yJ4_append_2 : MethodName := ⟨RJ4, "append", "(Ljava/lang/String;)Ljava/lang/AbstractStringBuilder;"⟩
def dkwJ4_append_2_1 : List UInt8 := [42, 42, 180, 0, 79, 43, 182, 0, 208, 42, 89, 180, 0, 79, 28, 96, 181, 0, 79, 42, 176]
abbrev dktJ4_append_2_1 : List UInt8 := dkwJ4_append_2_1 ++ []
def dkwJ4_append_2_0 : List UInt8 := [43, 199, 0, 8, 42, 182, 0, 204, 176, 43, 182, 0, 32, 61, 42, 42, 180, 0, 79, 28, 96, 182, 0, 100]
abbrev dktJ4_append_2_0 : List UInt8 := dkwJ4_append_2_0 ++ dktJ4_append_2_1
theorem dksJ4_append_2_0 : cJ4_append_2.data.toList.drop 0 = dktJ4_append_2_0 := by decide +kernel
theorem dksJ4_append_2_1 : cJ4_append_2.data.toList.drop 24 = dktJ4_append_2_1 := dk_seg dksJ4_append_2_0 24 rfl rfl
theorem dJ4_append_2_0 : decode cJ4_append_2 0 = .ok (.aload_n 1, 1) := dk_43 (dk_at dksJ4_append_2_0 0 rfl rfl)
theorem dJ4_append_2_1 : decode cJ4_append_2 1 = .ok (.ifnonnull 8, 3) := dk_199 0 8 (dk_at dksJ4_append_2_0 1 rfl rfl)
theorem dJ4_append_2_4 : decode cJ4_append_2 4 = .ok (.aload_n 0, 1) := dk_42 (dk_at dksJ4_append_2_0 4 rfl rfl)
theorem dJ4_append_2_5 : decode cJ4_append_2 5 = .ok (.invokevirtual 204, 3) := dk_182 0 204 (dk_at dksJ4_append_2_0 5 rfl rfl)
theorem dJ4_append_2_8 : decode cJ4_append_2 8 = .ok (.areturn, 1) := dk_176 (dk_at dksJ4_append_2_0 8 rfl rfl)
theorem dJ4_append_2_9 : decode cJ4_append_2 9 = .ok (.aload_n 1, 1) := dk_43 (dk_at dksJ4_append_2_0 9 rfl rfl)
theorem dJ4_append_2_10 : decode cJ4_append_2 10 = .ok (.invokevirtual 32, 3) := dk_182 0 32 (dk_at dksJ4_append_2_0 10 rfl rfl)
theorem dJ4_append_2_13 : decode cJ4_append_2 13 = .ok (.istore_n 2, 1) := dk_61 (dk_at dksJ4_append_2_0 13 rfl rfl)
theorem dJ4_append_2_14 : decode cJ4_append_2 14 = .ok (.aload_n 0, 1) := dk_42 (dk_at dksJ4_append_2_0 14 rfl rfl)
theorem dJ4_append_2_15 : decode cJ4_append_2 15 = .ok (.aload_n 0, 1) := dk_42 (dk_at dksJ4_append_2_0 15 rfl rfl)
theorem dJ4_append_2_16 : decode cJ4_append_2 16 = .ok (.getfield 79, 3) := dk_180 0 79 (dk_at dksJ4_append_2_0 16 rfl rfl)
theorem dJ4_append_2_19 : decode cJ4_append_2 19 = .ok (.iload_n 2, 1) := dk_28 (dk_at dksJ4_append_2_0 19 rfl rfl)
theorem dJ4_append_2_20 : decode cJ4_append_2 20 = .ok (.iadd, 1) := dk_96 (dk_at dksJ4_append_2_0 20 rfl rfl)
theorem dJ4_append_2_21 : decode cJ4_append_2 21 = .ok (.invokevirtual 100, 3) := dk_182 0 100 (dk_at dksJ4_append_2_0 21 rfl rfl)
theorem dJ4_append_2_24 : decode cJ4_append_2 24 = .ok (.aload_n 0, 1) := dk_42 (dk_at dksJ4_append_2_1 0 rfl rfl)
theorem dJ4_append_2_25 : decode cJ4_append_2 25 = .ok (.aload_n 0, 1) := dk_42 (dk_at dksJ4_append_2_1 1 rfl rfl)
theorem dJ4_append_2_26 : decode cJ4_append_2 26 = .ok (.getfield 79, 3) := dk_180 0 79 (dk_at dksJ4_append_2_1 2 rfl rfl)
theorem dJ4_append_2_29 : decode cJ4_append_2 29 = .ok (.aload_n 1, 1) := dk_43 (dk_at dksJ4_append_2_1 5 rfl rfl)
theorem dJ4_append_2_30 : decode cJ4_append_2 30 = .ok (.invokevirtual 208, 3) := dk_182 0 208 (dk_at dksJ4_append_2_1 6 rfl rfl)
theorem dJ4_append_2_33 : decode cJ4_append_2 33 = .ok (.aload_n 0, 1) := dk_42 (dk_at dksJ4_append_2_1 9 rfl rfl)
theorem dJ4_append_2_34 : decode cJ4_append_2 34 = .ok (.dup, 1) := dk_89 (dk_at dksJ4_append_2_1 10 rfl rfl)
theorem dJ4_append_2_35 : decode cJ4_append_2 35 = .ok (.getfield 79, 3) := dk_180 0 79 (dk_at dksJ4_append_2_1 11 rfl rfl)
theorem dJ4_append_2_38 : decode cJ4_append_2 38 = .ok (.iload_n 2, 1) := dk_28 (dk_at dksJ4_append_2_1 14 rfl rfl)
theorem dJ4_append_2_39 : decode cJ4_append_2 39 = .ok (.iadd, 1) := dk_96 (dk_at dksJ4_append_2_1 15 rfl rfl)
theorem dJ4_append_2_40 : decode cJ4_append_2 40 = .ok (.putfield 79, 3) := dk_181 0 79 (dk_at dksJ4_append_2_1 16 rfl rfl)
theorem dJ4_append_2_43 : decode cJ4_append_2 43 = .ok (.aload_n 0, 1) := dk_42 (dk_at dksJ4_append_2_1 19 rfl rfl)
theorem dJ4_append_2_44 : decode cJ4_append_2 44 = .ok (.areturn, 1) := dk_176 (dk_at dksJ4_append_2_1 20 rfl rfl)
abbrev cJ4_appendNull : ByteArray := prog_17_method_26_code
def yJ4_appendNull : MethodName := ⟨RJ4, "appendNull", "()Ljava/lang/AbstractStringBuilder;"⟩
def dkwJ4_appendNull_3 : List UInt8 := [184, 0, 226, 60, 42, 27, 181, 0, 79, 42, 176]
abbrev dktJ4_appendNull_3 : List UInt8 := dkwJ4_appendNull_3 ++ []
def dkwJ4_appendNull_2 : List UInt8 := [16, 108, 84, 44, 27, 132, 1, 1, 16, 108, 84, 167, 0, 17, 44, 27, 16, 110, 16, 117, 16, 108, 16, 108]
abbrev dktJ4_appendNull_2 : List UInt8 := dkwJ4_appendNull_2 ++ dktJ4_appendNull_3
def dkwJ4_appendNull_1 : List UInt8 := [153, 0, 38, 44, 27, 132, 1, 1, 16, 110, 84, 44, 27, 132, 1, 1, 16, 117, 84, 44, 27, 132, 1, 1]
abbrev dktJ4_appendNull_1 : List UInt8 := dkwJ4_appendNull_1 ++ dktJ4_appendNull_2
def dkwJ4_appendNull_0 : List UInt8 := [42, 42, 180, 0, 79, 7, 96, 182, 0, 100, 42, 180, 0, 79, 60, 42, 180, 0, 15, 77, 42, 182, 0, 83]
abbrev dktJ4_appendNull_0 : List UInt8 := dkwJ4_appendNull_0 ++ dktJ4_appendNull_1
theorem dksJ4_appendNull_0 : cJ4_appendNull.data.toList.drop 0 = dktJ4_appendNull_0 := by decide +kernel
theorem dksJ4_appendNull_1 : cJ4_appendNull.data.toList.drop 24 = dktJ4_appendNull_1 := dk_seg dksJ4_appendNull_0 24 rfl rfl
theorem dksJ4_appendNull_2 : cJ4_appendNull.data.toList.drop 48 = dktJ4_appendNull_2 := dk_seg dksJ4_appendNull_1 24 rfl rfl
theorem dksJ4_appendNull_3 : cJ4_appendNull.data.toList.drop 72 = dktJ4_appendNull_3 := dk_seg dksJ4_appendNull_2 24 rfl rfl
theorem dJ4_appendNull_0 : decode cJ4_appendNull 0 = .ok (.aload_n 0, 1) := dk_42 (dk_at dksJ4_appendNull_0 0 rfl rfl)
theorem dJ4_appendNull_1 : decode cJ4_appendNull 1 = .ok (.aload_n 0, 1) := dk_42 (dk_at dksJ4_appendNull_0 1 rfl rfl)
theorem dJ4_appendNull_2 : decode cJ4_appendNull 2 = .ok (.getfield 79, 3) := dk_180 0 79 (dk_at dksJ4_appendNull_0 2 rfl rfl)
theorem dJ4_appendNull_5 : decode cJ4_appendNull 5 = .ok (.iconst 4, 1) := dk_7 (dk_at dksJ4_appendNull_0 5 rfl rfl)
theorem dJ4_appendNull_6 : decode cJ4_appendNull 6 = .ok (.iadd, 1) := dk_96 (dk_at dksJ4_appendNull_0 6 rfl rfl)
theorem dJ4_appendNull_7 : decode cJ4_appendNull 7 = .ok (.invokevirtual 100, 3) := dk_182 0 100 (dk_at dksJ4_appendNull_0 7 rfl rfl)
theorem dJ4_appendNull_10 : decode cJ4_appendNull 10 = .ok (.aload_n 0, 1) := dk_42 (dk_at dksJ4_appendNull_0 10 rfl rfl)
theorem dJ4_appendNull_11 : decode cJ4_appendNull 11 = .ok (.getfield 79, 3) := dk_180 0 79 (dk_at dksJ4_appendNull_0 11 rfl rfl)
theorem dJ4_appendNull_14 : decode cJ4_appendNull 14 = .ok (.istore_n 1, 1) := dk_60 (dk_at dksJ4_appendNull_0 14 rfl rfl)
theorem dJ4_appendNull_15 : decode cJ4_appendNull 15 = .ok (.aload_n 0, 1) := dk_42 (dk_at dksJ4_appendNull_0 15 rfl rfl)
theorem dJ4_appendNull_16 : decode cJ4_appendNull 16 = .ok (.getfield 15, 3) := dk_180 0 15 (dk_at dksJ4_appendNull_0 16 rfl rfl)
theorem dJ4_appendNull_19 : decode cJ4_appendNull 19 = .ok (.astore_n 2, 1) := dk_77 (dk_at dksJ4_appendNull_0 19 rfl rfl)
theorem dJ4_appendNull_20 : decode cJ4_appendNull 20 = .ok (.aload_n 0, 1) := dk_42 (dk_at dksJ4_appendNull_0 20 rfl rfl)
theorem dJ4_appendNull_21 : decode cJ4_appendNull 21 = .ok (.invokevirtual 83, 3) := dk_182 0 83 (dk_at dksJ4_appendNull_0 21 rfl rfl)
theorem dJ4_appendNull_24 : decode cJ4_appendNull 24 = .ok (.ifCond .eq 38, 3) := dk_153 0 38 (dk_at dksJ4_appendNull_1 0 rfl rfl)
theorem dJ4_appendNull_27 : decode cJ4_appendNull 27 = .ok (.aload_n 2, 1) := dk_44 (dk_at dksJ4_appendNull_1 3 rfl rfl)
theorem dJ4_appendNull_28 : decode cJ4_appendNull 28 = .ok (.iload_n 1, 1) := dk_27 (dk_at dksJ4_appendNull_1 4 rfl rfl)
theorem dJ4_appendNull_29 : decode cJ4_appendNull 29 = .ok (.iinc 1 1, 3) := dk_132 1 1 (dk_at dksJ4_appendNull_1 5 rfl rfl)
theorem dJ4_appendNull_32 : decode cJ4_appendNull 32 = .ok (.bipush 110, 2) := dk_16 110 (dk_at dksJ4_appendNull_1 8 rfl rfl)
theorem dJ4_appendNull_34 : decode cJ4_appendNull 34 = .ok (.bastore, 1) := dk_84 (dk_at dksJ4_appendNull_1 10 rfl rfl)
theorem dJ4_appendNull_35 : decode cJ4_appendNull 35 = .ok (.aload_n 2, 1) := dk_44 (dk_at dksJ4_appendNull_1 11 rfl rfl)
theorem dJ4_appendNull_36 : decode cJ4_appendNull 36 = .ok (.iload_n 1, 1) := dk_27 (dk_at dksJ4_appendNull_1 12 rfl rfl)
theorem dJ4_appendNull_37 : decode cJ4_appendNull 37 = .ok (.iinc 1 1, 3) := dk_132 1 1 (dk_at dksJ4_appendNull_1 13 rfl rfl)
theorem dJ4_appendNull_40 : decode cJ4_appendNull 40 = .ok (.bipush 117, 2) := dk_16 117 (dk_at dksJ4_appendNull_1 16 rfl rfl)
theorem dJ4_appendNull_42 : decode cJ4_appendNull 42 = .ok (.bastore, 1) := dk_84 (dk_at dksJ4_appendNull_1 18 rfl rfl)
theorem dJ4_appendNull_43 : decode cJ4_appendNull 43 = .ok (.aload_n 2, 1) := dk_44 (dk_at dksJ4_appendNull_1 19 rfl rfl)
theorem dJ4_appendNull_44 : decode cJ4_appendNull 44 = .ok (.iload_n 1, 1) := dk_27 (dk_at dksJ4_appendNull_1 20 rfl rfl)
theorem dJ4_appendNull_45 : decode cJ4_appendNull 45 = .ok (.iinc 1 1, 3) := dk_132 1 1 (dk_at dksJ4_appendNull_1 21 rfl rfl)
theorem dJ4_appendNull_48 : decode cJ4_appendNull 48 = .ok (.bipush 108, 2) := dk_16 108 (dk_at dksJ4_appendNull_2 0 rfl rfl)
theorem dJ4_appendNull_50 : decode cJ4_appendNull 50 = .ok (.bastore, 1) := dk_84 (dk_at dksJ4_appendNull_2 2 rfl rfl)
theorem dJ4_appendNull_51 : decode cJ4_appendNull 51 = .ok (.aload_n 2, 1) := dk_44 (dk_at dksJ4_appendNull_2 3 rfl rfl)
theorem dJ4_appendNull_52 : decode cJ4_appendNull 52 = .ok (.iload_n 1, 1) := dk_27 (dk_at dksJ4_appendNull_2 4 rfl rfl)
theorem dJ4_appendNull_53 : decode cJ4_appendNull 53 = .ok (.iinc 1 1, 3) := dk_132 1 1 (dk_at dksJ4_appendNull_2 5 rfl rfl)
theorem dJ4_appendNull_56 : decode cJ4_appendNull 56 = .ok (.bipush 108, 2) := dk_16 108 (dk_at dksJ4_appendNull_2 8 rfl rfl)
theorem dJ4_appendNull_58 : decode cJ4_appendNull 58 = .ok (.bastore, 1) := dk_84 (dk_at dksJ4_appendNull_2 10 rfl rfl)
theorem dJ4_appendNull_59 : decode cJ4_appendNull 59 = .ok (.goto 17, 3) := dk_167 0 17 (dk_at dksJ4_appendNull_2 11 rfl rfl)
theorem dJ4_appendNull_62 : decode cJ4_appendNull 62 = .ok (.aload_n 2, 1) := dk_44 (dk_at dksJ4_appendNull_2 14 rfl rfl)
theorem dJ4_appendNull_63 : decode cJ4_appendNull 63 = .ok (.iload_n 1, 1) := dk_27 (dk_at dksJ4_appendNull_2 15 rfl rfl)
theorem dJ4_appendNull_64 : decode cJ4_appendNull 64 = .ok (.bipush 110, 2) := dk_16 110 (dk_at dksJ4_appendNull_2 16 rfl rfl)
theorem dJ4_appendNull_66 : decode cJ4_appendNull 66 = .ok (.bipush 117, 2) := dk_16 117 (dk_at dksJ4_appendNull_2 18 rfl rfl)
theorem dJ4_appendNull_68 : decode cJ4_appendNull 68 = .ok (.bipush 108, 2) := dk_16 108 (dk_at dksJ4_appendNull_2 20 rfl rfl)
theorem dJ4_appendNull_70 : decode cJ4_appendNull 70 = .ok (.bipush 108, 2) := dk_16 108 (dk_at dksJ4_appendNull_2 22 rfl rfl)
theorem dJ4_appendNull_72 : decode cJ4_appendNull 72 = .ok (.invokestatic 226, 3) := dk_184 0 226 (dk_at dksJ4_appendNull_3 0 rfl rfl)
theorem dJ4_appendNull_75 : decode cJ4_appendNull 75 = .ok (.istore_n 1, 1) := dk_60 (dk_at dksJ4_appendNull_3 3 rfl rfl)
theorem dJ4_appendNull_76 : decode cJ4_appendNull 76 = .ok (.aload_n 0, 1) := dk_42 (dk_at dksJ4_appendNull_3 4 rfl rfl)
theorem dJ4_appendNull_77 : decode cJ4_appendNull 77 = .ok (.iload_n 1, 1) := dk_27 (dk_at dksJ4_appendNull_3 5 rfl rfl)
theorem dJ4_appendNull_78 : decode cJ4_appendNull 78 = .ok (.putfield 79, 3) := dk_181 0 79 (dk_at dksJ4_appendNull_3 6 rfl rfl)
theorem dJ4_appendNull_81 : decode cJ4_appendNull 81 = .ok (.aload_n 0, 1) := dk_42 (dk_at dksJ4_appendNull_3 9 rfl rfl)
theorem dJ4_appendNull_82 : decode cJ4_appendNull 82 = .ok (.areturn, 1) := dk_176 (dk_at dksJ4_appendNull_3 10 rfl rfl)
abbrev cJ4_putStringAt : ByteArray := prog_17_method_73_code
def yJ4_putStringAt : MethodName := ⟨RJ4, "putStringAt", "(ILjava/lang/String;)V"⟩
def dkwJ4_putStringAt_0 : List UInt8 := [42, 44, 182, 1, 141, 44, 42, 180, 0, 15, 27, 42, 180, 0, 22, 182, 1, 143, 177]
abbrev dktJ4_putStringAt_0 : List UInt8 := dkwJ4_putStringAt_0 ++ []
theorem dksJ4_putStringAt_0 : cJ4_putStringAt.data.toList.drop 0 = dktJ4_putStringAt_0 := by decide +kernel
theorem dJ4_putStringAt_0 : decode cJ4_putStringAt 0 = .ok (.aload_n 0, 1) := dk_42 (dk_at dksJ4_putStringAt_0 0 rfl rfl)
theorem dJ4_putStringAt_1 : decode cJ4_putStringAt 1 = .ok (.aload_n 2, 1) := dk_44 (dk_at dksJ4_putStringAt_0 1 rfl rfl)
theorem dJ4_putStringAt_2 : decode cJ4_putStringAt 2 = .ok (.invokevirtual 397, 3) := dk_182 1 141 (dk_at dksJ4_putStringAt_0 2 rfl rfl)
theorem dJ4_putStringAt_5 : decode cJ4_putStringAt 5 = .ok (.aload_n 2, 1) := dk_44 (dk_at dksJ4_putStringAt_0 5 rfl rfl)
theorem dJ4_putStringAt_6 : decode cJ4_putStringAt 6 = .ok (.aload_n 0, 1) := dk_42 (dk_at dksJ4_putStringAt_0 6 rfl rfl)
theorem dJ4_putStringAt_7 : decode cJ4_putStringAt 7 = .ok (.getfield 15, 3) := dk_180 0 15 (dk_at dksJ4_putStringAt_0 7 rfl rfl)
theorem dJ4_putStringAt_10 : decode cJ4_putStringAt 10 = .ok (.iload_n 1, 1) := dk_27 (dk_at dksJ4_putStringAt_0 10 rfl rfl)
theorem dJ4_putStringAt_11 : decode cJ4_putStringAt 11 = .ok (.aload_n 0, 1) := dk_42 (dk_at dksJ4_putStringAt_0 11 rfl rfl)
theorem dJ4_putStringAt_12 : decode cJ4_putStringAt 12 = .ok (.getfield 22, 3) := dk_180 0 22 (dk_at dksJ4_putStringAt_0 12 rfl rfl)
theorem dJ4_putStringAt_15 : decode cJ4_putStringAt 15 = .ok (.invokevirtual 399, 3) := dk_182 1 143 (dk_at dksJ4_putStringAt_0 15 rfl rfl)
theorem dJ4_putStringAt_18 : decode cJ4_putStringAt 18 = .ok (.return_, 1) := dk_177 (dk_at dksJ4_putStringAt_0 18 rfl rfl)
abbrev cJ4_inflateIfNeededFor : ByteArray := prog_17_method_71_code
def yJ4_inflateIfNeededFor : MethodName := ⟨RJ4, "inflateIfNeededFor", "(Ljava/lang/String;)V"⟩
def dkwJ4_inflateIfNeededFor_0 : List UInt8 := [178, 0, 18, 153, 0, 18, 42, 180, 0, 22, 43, 182, 0, 40, 159, 0, 7, 42, 182, 0, 195, 177]
abbrev dktJ4_inflateIfNeededFor_0 : List UInt8 := dkwJ4_inflateIfNeededFor_0 ++ []
theorem dksJ4_inflateIfNeededFor_0 : cJ4_inflateIfNeededFor.data.toList.drop 0 = dktJ4_inflateIfNeededFor_0 := by decide +kernel
theorem dJ4_inflateIfNeededFor_0 : decode cJ4_inflateIfNeededFor 0 = .ok (.getstatic 18, 3) := dk_178 0 18 (dk_at dksJ4_inflateIfNeededFor_0 0 rfl rfl)
theorem dJ4_inflateIfNeededFor_3 : decode cJ4_inflateIfNeededFor 3 = .ok (.ifCond .eq 18, 3) := dk_153 0 18 (dk_at dksJ4_inflateIfNeededFor_0 3 rfl rfl)
theorem dJ4_inflateIfNeededFor_6 : decode cJ4_inflateIfNeededFor 6 = .ok (.aload_n 0, 1) := dk_42 (dk_at dksJ4_inflateIfNeededFor_0 6 rfl rfl)
theorem dJ4_inflateIfNeededFor_7 : decode cJ4_inflateIfNeededFor 7 = .ok (.getfield 22, 3) := dk_180 0 22 (dk_at dksJ4_inflateIfNeededFor_0 7 rfl rfl)
theorem dJ4_inflateIfNeededFor_10 : decode cJ4_inflateIfNeededFor 10 = .ok (.aload_n 1, 1) := dk_43 (dk_at dksJ4_inflateIfNeededFor_0 10 rfl rfl)
theorem dJ4_inflateIfNeededFor_11 : decode cJ4_inflateIfNeededFor 11 = .ok (.invokevirtual 40, 3) := dk_182 0 40 (dk_at dksJ4_inflateIfNeededFor_0 11 rfl rfl)
theorem dJ4_inflateIfNeededFor_14 : decode cJ4_inflateIfNeededFor 14 = .ok (.if_icmp .eq 7, 3) := dk_159 0 7 (dk_at dksJ4_inflateIfNeededFor_0 14 rfl rfl)
theorem dJ4_inflateIfNeededFor_17 : decode cJ4_inflateIfNeededFor 17 = .ok (.aload_n 0, 1) := dk_42 (dk_at dksJ4_inflateIfNeededFor_0 17 rfl rfl)
theorem dJ4_inflateIfNeededFor_18 : decode cJ4_inflateIfNeededFor 18 = .ok (.invokevirtual 195, 3) := dk_182 0 195 (dk_at dksJ4_inflateIfNeededFor_0 18 rfl rfl)
theorem dJ4_inflateIfNeededFor_21 : decode cJ4_inflateIfNeededFor 21 = .ok (.return_, 1) := dk_177 (dk_at dksJ4_inflateIfNeededFor_0 21 rfl rfl)
abbrev cJ4_inflate : ByteArray := prog_17_method_11_code
def yJ4_inflate : MethodName := ⟨RJ4, "inflate", "()V"⟩
def dkwJ4_inflate_1 : List UInt8 := [42, 180, 0, 79, 184, 0, 125, 42, 43, 181, 0, 15, 42, 4, 181, 0, 22, 177]
abbrev dktJ4_inflate_1 : List UInt8 := dkwJ4_inflate_1 ++ []
def dkwJ4_inflate_0 : List UInt8 := [42, 182, 0, 83, 154, 0, 4, 177, 42, 180, 0, 15, 190, 184, 0, 26, 76, 42, 180, 0, 15, 3, 43, 3]
abbrev dktJ4_inflate_0 : List UInt8 := dkwJ4_inflate_0 ++ dktJ4_inflate_1
theorem dksJ4_inflate_0 : cJ4_inflate.data.toList.drop 0 = dktJ4_inflate_0 := by decide +kernel
theorem dksJ4_inflate_1 : cJ4_inflate.data.toList.drop 24 = dktJ4_inflate_1 := dk_seg dksJ4_inflate_0 24 rfl rfl
theorem dJ4_inflate_0 : decode cJ4_inflate 0 = .ok (.aload_n 0, 1) := dk_42 (dk_at dksJ4_inflate_0 0 rfl rfl)
theorem dJ4_inflate_1 : decode cJ4_inflate 1 = .ok (.invokevirtual 83, 3) := dk_182 0 83 (dk_at dksJ4_inflate_0 1 rfl rfl)
theorem dJ4_inflate_4 : decode cJ4_inflate 4 = .ok (.ifCond .ne 4, 3) := dk_154 0 4 (dk_at dksJ4_inflate_0 4 rfl rfl)
theorem dJ4_inflate_7 : decode cJ4_inflate 7 = .ok (.return_, 1) := dk_177 (dk_at dksJ4_inflate_0 7 rfl rfl)
theorem dJ4_inflate_8 : decode cJ4_inflate 8 = .ok (.aload_n 0, 1) := dk_42 (dk_at dksJ4_inflate_0 8 rfl rfl)
theorem dJ4_inflate_9 : decode cJ4_inflate 9 = .ok (.getfield 15, 3) := dk_180 0 15 (dk_at dksJ4_inflate_0 9 rfl rfl)
theorem dJ4_inflate_12 : decode cJ4_inflate 12 = .ok (.arraylength, 1) := dk_190 (dk_at dksJ4_inflate_0 12 rfl rfl)
theorem dJ4_inflate_13 : decode cJ4_inflate 13 = .ok (.invokestatic 26, 3) := dk_184 0 26 (dk_at dksJ4_inflate_0 13 rfl rfl)
theorem dJ4_inflate_16 : decode cJ4_inflate 16 = .ok (.astore_n 1, 1) := dk_76 (dk_at dksJ4_inflate_0 16 rfl rfl)
theorem dJ4_inflate_17 : decode cJ4_inflate 17 = .ok (.aload_n 0, 1) := dk_42 (dk_at dksJ4_inflate_0 17 rfl rfl)
theorem dJ4_inflate_18 : decode cJ4_inflate 18 = .ok (.getfield 15, 3) := dk_180 0 15 (dk_at dksJ4_inflate_0 18 rfl rfl)
theorem dJ4_inflate_21 : decode cJ4_inflate 21 = .ok (.iconst 0, 1) := dk_3 (dk_at dksJ4_inflate_0 21 rfl rfl)
theorem dJ4_inflate_22 : decode cJ4_inflate 22 = .ok (.aload_n 1, 1) := dk_43 (dk_at dksJ4_inflate_0 22 rfl rfl)
theorem dJ4_inflate_23 : decode cJ4_inflate 23 = .ok (.iconst 0, 1) := dk_3 (dk_at dksJ4_inflate_0 23 rfl rfl)
theorem dJ4_inflate_24 : decode cJ4_inflate 24 = .ok (.aload_n 0, 1) := dk_42 (dk_at dksJ4_inflate_1 0 rfl rfl)
theorem dJ4_inflate_25 : decode cJ4_inflate 25 = .ok (.getfield 79, 3) := dk_180 0 79 (dk_at dksJ4_inflate_1 1 rfl rfl)
theorem dJ4_inflate_28 : decode cJ4_inflate 28 = .ok (.invokestatic 125, 3) := dk_184 0 125 (dk_at dksJ4_inflate_1 4 rfl rfl)
theorem dJ4_inflate_31 : decode cJ4_inflate 31 = .ok (.aload_n 0, 1) := dk_42 (dk_at dksJ4_inflate_1 7 rfl rfl)
theorem dJ4_inflate_32 : decode cJ4_inflate 32 = .ok (.aload_n 1, 1) := dk_43 (dk_at dksJ4_inflate_1 8 rfl rfl)
theorem dJ4_inflate_33 : decode cJ4_inflate 33 = .ok (.putfield 15, 3) := dk_181 0 15 (dk_at dksJ4_inflate_1 9 rfl rfl)
theorem dJ4_inflate_36 : decode cJ4_inflate 36 = .ok (.aload_n 0, 1) := dk_42 (dk_at dksJ4_inflate_1 12 rfl rfl)
theorem dJ4_inflate_37 : decode cJ4_inflate 37 = .ok (.iconst 1, 1) := dk_4 (dk_at dksJ4_inflate_1 13 rfl rfl)
theorem dJ4_inflate_38 : decode cJ4_inflate 38 = .ok (.putfield 22, 3) := dk_181 0 22 (dk_at dksJ4_inflate_1 14 rfl rfl)
theorem dJ4_inflate_41 : decode cJ4_inflate 41 = .ok (.return_, 1) := dk_177 (dk_at dksJ4_inflate_1 17 rfl rfl)
abbrev cJ4_getValue : ByteArray := prog_17_method_64_code
def yJ4_getValue : MethodName := ⟨RJ4, "getValue", "()[B"⟩
theorem dJ4_getValue_0 : decode cJ4_getValue 0 = .ok (.aload_n 0, 1) := by decide +kernel
theorem dJ4_getValue_1 : decode cJ4_getValue 1 = .ok (.getfield 15, 3) := by decide +kernel
theorem dJ4_getValue_4 : decode cJ4_getValue 4 = .ok (.areturn, 1) := by decide +kernel
abbrev cJ4_length : ByteArray := prog_17_method_6_code
def yJ4_length : MethodName := ⟨RJ4, "length", "()I"⟩
theorem dJ4_length_0 : decode cJ4_length 0 = .ok (.aload_n 0, 1) := by decide +kernel
theorem dJ4_length_1 : decode cJ4_length 1 = .ok (.getfield 79, 3) := by decide +kernel
theorem dJ4_length_4 : decode cJ4_length 4 = .ok (.ireturn, 1) := by decide +kernel
abbrev cJ4_append_3 : ByteArray := prog_17_method_31_code
def yJ4_append_3 : MethodName := ⟨RJ4, "append", "(C)Ljava/lang/AbstractStringBuilder;"⟩
def dkwJ4_append_3_3 : List UInt8 := [181, 0, 79, 27, 184, 0, 197, 42, 176]
abbrev dktJ4_append_3_3 : List UInt8 := dkwJ4_append_3_3 ++ []
def dkwJ4_append_3_2 : List UInt8 := [182, 0, 83, 153, 0, 7, 42, 182, 0, 195, 42, 180, 0, 15, 42, 89, 180, 0, 79, 90, 4, 96]
abbrev dktJ4_append_3_2 : List UInt8 := dkwJ4_append_3_2 ++ dktJ4_append_3_3
def dkwJ4_append_3_1 : List UInt8 := [42, 180, 0, 15, 42, 89, 180, 0, 79, 90, 4, 96, 181, 0, 79, 27, 145, 84, 167, 0, 33, 42]
abbrev dktJ4_append_3_1 : List UInt8 := dkwJ4_append_3_1 ++ dktJ4_append_3_2
def dkwJ4_append_3_0 : List UInt8 := [42, 42, 180, 0, 79, 4, 96, 182, 0, 100, 42, 182, 0, 83, 153, 0, 31, 27, 184, 0, 191, 153, 0, 24]
abbrev dktJ4_append_3_0 : List UInt8 := dkwJ4_append_3_0 ++ dktJ4_append_3_1
theorem dksJ4_append_3_0 : cJ4_append_3.data.toList.drop 0 = dktJ4_append_3_0 := by decide +kernel
theorem dksJ4_append_3_1 : cJ4_append_3.data.toList.drop 24 = dktJ4_append_3_1 := dk_seg dksJ4_append_3_0 24 rfl rfl
theorem dksJ4_append_3_2 : cJ4_append_3.data.toList.drop 46 = dktJ4_append_3_2 := dk_seg dksJ4_append_3_1 22 rfl rfl
theorem dksJ4_append_3_3 : cJ4_append_3.data.toList.drop 68 = dktJ4_append_3_3 := dk_seg dksJ4_append_3_2 22 rfl rfl
theorem dJ4_append_3_0 : decode cJ4_append_3 0 = .ok (.aload_n 0, 1) := dk_42 (dk_at dksJ4_append_3_0 0 rfl rfl)
theorem dJ4_append_3_1 : decode cJ4_append_3 1 = .ok (.aload_n 0, 1) := dk_42 (dk_at dksJ4_append_3_0 1 rfl rfl)
theorem dJ4_append_3_2 : decode cJ4_append_3 2 = .ok (.getfield 79, 3) := dk_180 0 79 (dk_at dksJ4_append_3_0 2 rfl rfl)
theorem dJ4_append_3_5 : decode cJ4_append_3 5 = .ok (.iconst 1, 1) := dk_4 (dk_at dksJ4_append_3_0 5 rfl rfl)
theorem dJ4_append_3_6 : decode cJ4_append_3 6 = .ok (.iadd, 1) := dk_96 (dk_at dksJ4_append_3_0 6 rfl rfl)
theorem dJ4_append_3_7 : decode cJ4_append_3 7 = .ok (.invokevirtual 100, 3) := dk_182 0 100 (dk_at dksJ4_append_3_0 7 rfl rfl)
theorem dJ4_append_3_10 : decode cJ4_append_3 10 = .ok (.aload_n 0, 1) := dk_42 (dk_at dksJ4_append_3_0 10 rfl rfl)
theorem dJ4_append_3_11 : decode cJ4_append_3 11 = .ok (.invokevirtual 83, 3) := dk_182 0 83 (dk_at dksJ4_append_3_0 11 rfl rfl)
theorem dJ4_append_3_14 : decode cJ4_append_3 14 = .ok (.ifCond .eq 31, 3) := dk_153 0 31 (dk_at dksJ4_append_3_0 14 rfl rfl)
theorem dJ4_append_3_17 : decode cJ4_append_3 17 = .ok (.iload_n 1, 1) := dk_27 (dk_at dksJ4_append_3_0 17 rfl rfl)
theorem dJ4_append_3_18 : decode cJ4_append_3 18 = .ok (.invokestatic 191, 3) := dk_184 0 191 (dk_at dksJ4_append_3_0 18 rfl rfl)
theorem dJ4_append_3_21 : decode cJ4_append_3 21 = .ok (.ifCond .eq 24, 3) := dk_153 0 24 (dk_at dksJ4_append_3_0 21 rfl rfl)
theorem dJ4_append_3_24 : decode cJ4_append_3 24 = .ok (.aload_n 0, 1) := dk_42 (dk_at dksJ4_append_3_1 0 rfl rfl)
theorem dJ4_append_3_25 : decode cJ4_append_3 25 = .ok (.getfield 15, 3) := dk_180 0 15 (dk_at dksJ4_append_3_1 1 rfl rfl)
theorem dJ4_append_3_28 : decode cJ4_append_3 28 = .ok (.aload_n 0, 1) := dk_42 (dk_at dksJ4_append_3_1 4 rfl rfl)
theorem dJ4_append_3_29 : decode cJ4_append_3 29 = .ok (.dup, 1) := dk_89 (dk_at dksJ4_append_3_1 5 rfl rfl)
theorem dJ4_append_3_30 : decode cJ4_append_3 30 = .ok (.getfield 79, 3) := dk_180 0 79 (dk_at dksJ4_append_3_1 6 rfl rfl)
theorem dJ4_append_3_33 : decode cJ4_append_3 33 = .ok (.dup_x1, 1) := dk_90 (dk_at dksJ4_append_3_1 9 rfl rfl)
theorem dJ4_append_3_34 : decode cJ4_append_3 34 = .ok (.iconst 1, 1) := dk_4 (dk_at dksJ4_append_3_1 10 rfl rfl)
theorem dJ4_append_3_35 : decode cJ4_append_3 35 = .ok (.iadd, 1) := dk_96 (dk_at dksJ4_append_3_1 11 rfl rfl)
theorem dJ4_append_3_36 : decode cJ4_append_3 36 = .ok (.putfield 79, 3) := dk_181 0 79 (dk_at dksJ4_append_3_1 12 rfl rfl)
theorem dJ4_append_3_39 : decode cJ4_append_3 39 = .ok (.iload_n 1, 1) := dk_27 (dk_at dksJ4_append_3_1 15 rfl rfl)
theorem dJ4_append_3_40 : decode cJ4_append_3 40 = .ok (.i2b, 1) := dk_145 (dk_at dksJ4_append_3_1 16 rfl rfl)
theorem dJ4_append_3_41 : decode cJ4_append_3 41 = .ok (.bastore, 1) := dk_84 (dk_at dksJ4_append_3_1 17 rfl rfl)
theorem dJ4_append_3_42 : decode cJ4_append_3 42 = .ok (.goto 33, 3) := dk_167 0 33 (dk_at dksJ4_append_3_1 18 rfl rfl)
theorem dJ4_append_3_45 : decode cJ4_append_3 45 = .ok (.aload_n 0, 1) := dk_42 (dk_at dksJ4_append_3_1 21 rfl rfl)
theorem dJ4_append_3_46 : decode cJ4_append_3 46 = .ok (.invokevirtual 83, 3) := dk_182 0 83 (dk_at dksJ4_append_3_2 0 rfl rfl)
theorem dJ4_append_3_49 : decode cJ4_append_3 49 = .ok (.ifCond .eq 7, 3) := dk_153 0 7 (dk_at dksJ4_append_3_2 3 rfl rfl)
theorem dJ4_append_3_52 : decode cJ4_append_3 52 = .ok (.aload_n 0, 1) := dk_42 (dk_at dksJ4_append_3_2 6 rfl rfl)
theorem dJ4_append_3_53 : decode cJ4_append_3 53 = .ok (.invokevirtual 195, 3) := dk_182 0 195 (dk_at dksJ4_append_3_2 7 rfl rfl)
theorem dJ4_append_3_56 : decode cJ4_append_3 56 = .ok (.aload_n 0, 1) := dk_42 (dk_at dksJ4_append_3_2 10 rfl rfl)
theorem dJ4_append_3_57 : decode cJ4_append_3 57 = .ok (.getfield 15, 3) := dk_180 0 15 (dk_at dksJ4_append_3_2 11 rfl rfl)
theorem dJ4_append_3_60 : decode cJ4_append_3 60 = .ok (.aload_n 0, 1) := dk_42 (dk_at dksJ4_append_3_2 14 rfl rfl)
theorem dJ4_append_3_61 : decode cJ4_append_3 61 = .ok (.dup, 1) := dk_89 (dk_at dksJ4_append_3_2 15 rfl rfl)
theorem dJ4_append_3_62 : decode cJ4_append_3 62 = .ok (.getfield 79, 3) := dk_180 0 79 (dk_at dksJ4_append_3_2 16 rfl rfl)
theorem dJ4_append_3_65 : decode cJ4_append_3 65 = .ok (.dup_x1, 1) := dk_90 (dk_at dksJ4_append_3_2 19 rfl rfl)
theorem dJ4_append_3_66 : decode cJ4_append_3 66 = .ok (.iconst 1, 1) := dk_4 (dk_at dksJ4_append_3_2 20 rfl rfl)
theorem dJ4_append_3_67 : decode cJ4_append_3 67 = .ok (.iadd, 1) := dk_96 (dk_at dksJ4_append_3_2 21 rfl rfl)
theorem dJ4_append_3_68 : decode cJ4_append_3 68 = .ok (.putfield 79, 3) := dk_181 0 79 (dk_at dksJ4_append_3_3 0 rfl rfl)
theorem dJ4_append_3_71 : decode cJ4_append_3 71 = .ok (.iload_n 1, 1) := dk_27 (dk_at dksJ4_append_3_3 3 rfl rfl)
theorem dJ4_append_3_72 : decode cJ4_append_3 72 = .ok (.invokestatic 197, 3) := dk_184 0 197 (dk_at dksJ4_append_3_3 4 rfl rfl)
theorem dJ4_append_3_75 : decode cJ4_append_3 75 = .ok (.aload_n 0, 1) := dk_42 (dk_at dksJ4_append_3_3 7 rfl rfl)
theorem dJ4_append_3_76 : decode cJ4_append_3 76 = .ok (.areturn, 1) := dk_176 (dk_at dksJ4_append_3_3 8 rfl rfl)
abbrev cJ4_setLength : ByteArray := prog_17_method_13_code
def yJ4_setLength : MethodName := ⟨RJ4, "setLength", "(I)V"⟩
def dkwJ4_setLength_3 : List UInt8 := [164, 0, 8, 42, 4, 181, 0, 73, 42, 27, 181, 0, 79, 177]
abbrev dktJ4_setLength_3 : List UInt8 := dkwJ4_setLength_3 ++ []
def dkwJ4_setLength_2 : List UInt8 := [167, 0, 31, 42, 180, 0, 15, 42, 180, 0, 79, 27, 184, 0, 137, 167, 0, 16, 42, 180, 0, 79, 27]
abbrev dktJ4_setLength_2 : List UInt8 := dkwJ4_setLength_2 ++ dktJ4_setLength_3
def dkwJ4_setLength_1 : List UInt8 := [162, 0, 40, 42, 182, 0, 83, 153, 0, 18, 42, 180, 0, 15, 42, 180, 0, 79, 27, 184, 0, 133]
abbrev dktJ4_setLength_1 : List UInt8 := dkwJ4_setLength_1 ++ dktJ4_setLength_2
def dkwJ4_setLength_0 : List UInt8 := [27, 156, 0, 12, 187, 0, 129, 89, 27, 183, 0, 131, 191, 42, 27, 182, 0, 100, 42, 180, 0, 79, 27]
abbrev dktJ4_setLength_0 : List UInt8 := dkwJ4_setLength_0 ++ dktJ4_setLength_1
theorem dksJ4_setLength_0 : cJ4_setLength.data.toList.drop 0 = dktJ4_setLength_0 := by decide +kernel
theorem dksJ4_setLength_1 : cJ4_setLength.data.toList.drop 23 = dktJ4_setLength_1 := dk_seg dksJ4_setLength_0 23 rfl rfl
theorem dksJ4_setLength_2 : cJ4_setLength.data.toList.drop 45 = dktJ4_setLength_2 := dk_seg dksJ4_setLength_1 22 rfl rfl
theorem dksJ4_setLength_3 : cJ4_setLength.data.toList.drop 68 = dktJ4_setLength_3 := dk_seg dksJ4_setLength_2 23 rfl rfl
theorem dJ4_setLength_0 : decode cJ4_setLength 0 = .ok (.iload_n 1, 1) := dk_27 (dk_at dksJ4_setLength_0 0 rfl rfl)
theorem dJ4_setLength_1 : decode cJ4_setLength 1 = .ok (.ifCond .ge 12, 3) := dk_156 0 12 (dk_at dksJ4_setLength_0 1 rfl rfl)
theorem dJ4_setLength_4 : decode cJ4_setLength 4 = .ok (.new 129, 3) := dk_187 0 129 (dk_at dksJ4_setLength_0 4 rfl rfl)
theorem dJ4_setLength_7 : decode cJ4_setLength 7 = .ok (.dup, 1) := dk_89 (dk_at dksJ4_setLength_0 7 rfl rfl)
theorem dJ4_setLength_8 : decode cJ4_setLength 8 = .ok (.iload_n 1, 1) := dk_27 (dk_at dksJ4_setLength_0 8 rfl rfl)
theorem dJ4_setLength_9 : decode cJ4_setLength 9 = .ok (.invokespecial 131, 3) := dk_183 0 131 (dk_at dksJ4_setLength_0 9 rfl rfl)
theorem dJ4_setLength_12 : decode cJ4_setLength 12 = .ok (.athrow, 1) := dk_191 (dk_at dksJ4_setLength_0 12 rfl rfl)
theorem dJ4_setLength_13 : decode cJ4_setLength 13 = .ok (.aload_n 0, 1) := dk_42 (dk_at dksJ4_setLength_0 13 rfl rfl)
theorem dJ4_setLength_14 : decode cJ4_setLength 14 = .ok (.iload_n 1, 1) := dk_27 (dk_at dksJ4_setLength_0 14 rfl rfl)
theorem dJ4_setLength_15 : decode cJ4_setLength 15 = .ok (.invokevirtual 100, 3) := dk_182 0 100 (dk_at dksJ4_setLength_0 15 rfl rfl)
theorem dJ4_setLength_18 : decode cJ4_setLength 18 = .ok (.aload_n 0, 1) := dk_42 (dk_at dksJ4_setLength_0 18 rfl rfl)
theorem dJ4_setLength_19 : decode cJ4_setLength 19 = .ok (.getfield 79, 3) := dk_180 0 79 (dk_at dksJ4_setLength_0 19 rfl rfl)
theorem dJ4_setLength_22 : decode cJ4_setLength 22 = .ok (.iload_n 1, 1) := dk_27 (dk_at dksJ4_setLength_0 22 rfl rfl)
theorem dJ4_setLength_23 : decode cJ4_setLength 23 = .ok (.if_icmp .ge 40, 3) := dk_162 0 40 (dk_at dksJ4_setLength_1 0 rfl rfl)
theorem dJ4_setLength_26 : decode cJ4_setLength 26 = .ok (.aload_n 0, 1) := dk_42 (dk_at dksJ4_setLength_1 3 rfl rfl)
theorem dJ4_setLength_27 : decode cJ4_setLength 27 = .ok (.invokevirtual 83, 3) := dk_182 0 83 (dk_at dksJ4_setLength_1 4 rfl rfl)
theorem dJ4_setLength_30 : decode cJ4_setLength 30 = .ok (.ifCond .eq 18, 3) := dk_153 0 18 (dk_at dksJ4_setLength_1 7 rfl rfl)
theorem dJ4_setLength_33 : decode cJ4_setLength 33 = .ok (.aload_n 0, 1) := dk_42 (dk_at dksJ4_setLength_1 10 rfl rfl)
theorem dJ4_setLength_34 : decode cJ4_setLength 34 = .ok (.getfield 15, 3) := dk_180 0 15 (dk_at dksJ4_setLength_1 11 rfl rfl)
theorem dJ4_setLength_37 : decode cJ4_setLength 37 = .ok (.aload_n 0, 1) := dk_42 (dk_at dksJ4_setLength_1 14 rfl rfl)
theorem dJ4_setLength_38 : decode cJ4_setLength 38 = .ok (.getfield 79, 3) := dk_180 0 79 (dk_at dksJ4_setLength_1 15 rfl rfl)
theorem dJ4_setLength_41 : decode cJ4_setLength 41 = .ok (.iload_n 1, 1) := dk_27 (dk_at dksJ4_setLength_1 18 rfl rfl)
theorem dJ4_setLength_42 : decode cJ4_setLength 42 = .ok (.invokestatic 133, 3) := dk_184 0 133 (dk_at dksJ4_setLength_1 19 rfl rfl)
theorem dJ4_setLength_45 : decode cJ4_setLength 45 = .ok (.goto 31, 3) := dk_167 0 31 (dk_at dksJ4_setLength_2 0 rfl rfl)
theorem dJ4_setLength_48 : decode cJ4_setLength 48 = .ok (.aload_n 0, 1) := dk_42 (dk_at dksJ4_setLength_2 3 rfl rfl)
theorem dJ4_setLength_49 : decode cJ4_setLength 49 = .ok (.getfield 15, 3) := dk_180 0 15 (dk_at dksJ4_setLength_2 4 rfl rfl)
theorem dJ4_setLength_52 : decode cJ4_setLength 52 = .ok (.aload_n 0, 1) := dk_42 (dk_at dksJ4_setLength_2 7 rfl rfl)
theorem dJ4_setLength_53 : decode cJ4_setLength 53 = .ok (.getfield 79, 3) := dk_180 0 79 (dk_at dksJ4_setLength_2 8 rfl rfl)
theorem dJ4_setLength_56 : decode cJ4_setLength 56 = .ok (.iload_n 1, 1) := dk_27 (dk_at dksJ4_setLength_2 11 rfl rfl)
theorem dJ4_setLength_57 : decode cJ4_setLength 57 = .ok (.invokestatic 137, 3) := dk_184 0 137 (dk_at dksJ4_setLength_2 12 rfl rfl)
theorem dJ4_setLength_60 : decode cJ4_setLength 60 = .ok (.goto 16, 3) := dk_167 0 16 (dk_at dksJ4_setLength_2 15 rfl rfl)
theorem dJ4_setLength_63 : decode cJ4_setLength 63 = .ok (.aload_n 0, 1) := dk_42 (dk_at dksJ4_setLength_2 18 rfl rfl)
theorem dJ4_setLength_64 : decode cJ4_setLength 64 = .ok (.getfield 79, 3) := dk_180 0 79 (dk_at dksJ4_setLength_2 19 rfl rfl)
theorem dJ4_setLength_67 : decode cJ4_setLength 67 = .ok (.iload_n 1, 1) := dk_27 (dk_at dksJ4_setLength_2 22 rfl rfl)
theorem dJ4_setLength_68 : decode cJ4_setLength 68 = .ok (.if_icmp .le 8, 3) := dk_164 0 8 (dk_at dksJ4_setLength_3 0 rfl rfl)
theorem dJ4_setLength_71 : decode cJ4_setLength 71 = .ok (.aload_n 0, 1) := dk_42 (dk_at dksJ4_setLength_3 3 rfl rfl)
theorem dJ4_setLength_72 : decode cJ4_setLength 72 = .ok (.iconst 1, 1) := dk_4 (dk_at dksJ4_setLength_3 4 rfl rfl)
theorem dJ4_setLength_73 : decode cJ4_setLength 73 = .ok (.putfield 73, 3) := dk_181 0 73 (dk_at dksJ4_setLength_3 5 rfl rfl)
theorem dJ4_setLength_76 : decode cJ4_setLength 76 = .ok (.aload_n 0, 1) := dk_42 (dk_at dksJ4_setLength_3 8 rfl rfl)
theorem dJ4_setLength_77 : decode cJ4_setLength 77 = .ok (.iload_n 1, 1) := dk_27 (dk_at dksJ4_setLength_3 9 rfl rfl)
theorem dJ4_setLength_78 : decode cJ4_setLength 78 = .ok (.putfield 79, 3) := dk_181 0 79 (dk_at dksJ4_setLength_3 10 rfl rfl)
theorem dJ4_setLength_81 : decode cJ4_setLength 81 = .ok (.return_, 1) := dk_177 (dk_at dksJ4_setLength_3 13 rfl rfl)
abbrev cJ4_charAt : ByteArray := prog_17_method_14_code
def yJ4_charAt : MethodName := ⟨RJ4, "charAt", "(I)C"⟩
def dkwJ4_charAt_1 : List UInt8 := [21, 4, 184, 0, 144, 28, 154, 0, 12, 45, 27, 51, 17, 0, 255, 126, 146, 172, 45, 27, 184, 0, 148, 172]
abbrev dktJ4_charAt_1 : List UInt8 := dkwJ4_charAt_1 ++ []
def dkwJ4_charAt_0 : List UInt8 := [42, 180, 0, 22, 61, 42, 180, 0, 15, 78, 42, 180, 0, 79, 45, 190, 28, 122, 184, 0, 138, 54, 4, 27]
abbrev dktJ4_charAt_0 : List UInt8 := dkwJ4_charAt_0 ++ dktJ4_charAt_1
theorem dksJ4_charAt_0 : cJ4_charAt.data.toList.drop 0 = dktJ4_charAt_0 := by decide +kernel
theorem dksJ4_charAt_1 : cJ4_charAt.data.toList.drop 24 = dktJ4_charAt_1 := dk_seg dksJ4_charAt_0 24 rfl rfl
theorem dJ4_charAt_0 : decode cJ4_charAt 0 = .ok (.aload_n 0, 1) := dk_42 (dk_at dksJ4_charAt_0 0 rfl rfl)
theorem dJ4_charAt_1 : decode cJ4_charAt 1 = .ok (.getfield 22, 3) := dk_180 0 22 (dk_at dksJ4_charAt_0 1 rfl rfl)
theorem dJ4_charAt_4 : decode cJ4_charAt 4 = .ok (.istore_n 2, 1) := dk_61 (dk_at dksJ4_charAt_0 4 rfl rfl)
theorem dJ4_charAt_5 : decode cJ4_charAt 5 = .ok (.aload_n 0, 1) := dk_42 (dk_at dksJ4_charAt_0 5 rfl rfl)
theorem dJ4_charAt_6 : decode cJ4_charAt 6 = .ok (.getfield 15, 3) := dk_180 0 15 (dk_at dksJ4_charAt_0 6 rfl rfl)
theorem dJ4_charAt_9 : decode cJ4_charAt 9 = .ok (.astore_n 3, 1) := dk_78 (dk_at dksJ4_charAt_0 9 rfl rfl)
theorem dJ4_charAt_10 : decode cJ4_charAt 10 = .ok (.aload_n 0, 1) := dk_42 (dk_at dksJ4_charAt_0 10 rfl rfl)
theorem dJ4_charAt_11 : decode cJ4_charAt 11 = .ok (.getfield 79, 3) := dk_180 0 79 (dk_at dksJ4_charAt_0 11 rfl rfl)
theorem dJ4_charAt_14 : decode cJ4_charAt 14 = .ok (.aload_n 3, 1) := dk_45 (dk_at dksJ4_charAt_0 14 rfl rfl)
theorem dJ4_charAt_15 : decode cJ4_charAt 15 = .ok (.arraylength, 1) := dk_190 (dk_at dksJ4_charAt_0 15 rfl rfl)
theorem dJ4_charAt_16 : decode cJ4_charAt 16 = .ok (.iload_n 2, 1) := dk_28 (dk_at dksJ4_charAt_0 16 rfl rfl)
theorem dJ4_charAt_17 : decode cJ4_charAt 17 = .ok (.ishr, 1) := dk_122 (dk_at dksJ4_charAt_0 17 rfl rfl)
theorem dJ4_charAt_18 : decode cJ4_charAt 18 = .ok (.invokestatic 138, 3) := dk_184 0 138 (dk_at dksJ4_charAt_0 18 rfl rfl)
theorem dJ4_charAt_21 : decode cJ4_charAt 21 = .ok (.istore 4, 2) := dk_54 4 (dk_at dksJ4_charAt_0 21 rfl rfl)
theorem dJ4_charAt_23 : decode cJ4_charAt 23 = .ok (.iload_n 1, 1) := dk_27 (dk_at dksJ4_charAt_0 23 rfl rfl)
theorem dJ4_charAt_24 : decode cJ4_charAt 24 = .ok (.iload 4, 2) := dk_21 4 (dk_at dksJ4_charAt_1 0 rfl rfl)
theorem dJ4_charAt_26 : decode cJ4_charAt 26 = .ok (.invokestatic 144, 3) := dk_184 0 144 (dk_at dksJ4_charAt_1 2 rfl rfl)
theorem dJ4_charAt_29 : decode cJ4_charAt 29 = .ok (.iload_n 2, 1) := dk_28 (dk_at dksJ4_charAt_1 5 rfl rfl)
theorem dJ4_charAt_30 : decode cJ4_charAt 30 = .ok (.ifCond .ne 12, 3) := dk_154 0 12 (dk_at dksJ4_charAt_1 6 rfl rfl)
theorem dJ4_charAt_33 : decode cJ4_charAt 33 = .ok (.aload_n 3, 1) := dk_45 (dk_at dksJ4_charAt_1 9 rfl rfl)
theorem dJ4_charAt_34 : decode cJ4_charAt 34 = .ok (.iload_n 1, 1) := dk_27 (dk_at dksJ4_charAt_1 10 rfl rfl)
theorem dJ4_charAt_35 : decode cJ4_charAt 35 = .ok (.baload, 1) := dk_51 (dk_at dksJ4_charAt_1 11 rfl rfl)
theorem dJ4_charAt_36 : decode cJ4_charAt 36 = .ok (.sipush 255, 3) := dk_17 0 255 (dk_at dksJ4_charAt_1 12 rfl rfl)
theorem dJ4_charAt_39 : decode cJ4_charAt 39 = .ok (.iand, 1) := dk_126 (dk_at dksJ4_charAt_1 15 rfl rfl)
theorem dJ4_charAt_40 : decode cJ4_charAt 40 = .ok (.i2c, 1) := dk_146 (dk_at dksJ4_charAt_1 16 rfl rfl)
theorem dJ4_charAt_41 : decode cJ4_charAt 41 = .ok (.ireturn, 1) := dk_172 (dk_at dksJ4_charAt_1 17 rfl rfl)
theorem dJ4_charAt_42 : decode cJ4_charAt 42 = .ok (.aload_n 3, 1) := dk_45 (dk_at dksJ4_charAt_1 18 rfl rfl)
theorem dJ4_charAt_43 : decode cJ4_charAt 43 = .ok (.iload_n 1, 1) := dk_27 (dk_at dksJ4_charAt_1 19 rfl rfl)
theorem dJ4_charAt_44 : decode cJ4_charAt 44 = .ok (.invokestatic 148, 3) := dk_184 0 148 (dk_at dksJ4_charAt_1 20 rfl rfl)
theorem dJ4_charAt_47 : decode cJ4_charAt 47 = .ok (.ireturn, 1) := dk_172 (dk_at dksJ4_charAt_1 23 rfl rfl)
theorem q69 : (Jvm.Cond.initialized "java/lang/AbstractStringBuilder") ∈ lw_all := lw_g (lw_at lw_m1 8 rfl) rfl
theorem q220 : (Jvm.Cond.instanceMethod ({ cls := "java/lang/AbstractStringBuilder", name := "<init>", desc := "(I)V" } : Jvm.MethodName)) ∈ lw_all := lw_g (lw_at lw_m1 159 rfl) rfl
theorem q221 : (Jvm.Cond.code ({ cls := "java/lang/AbstractStringBuilder", name := "<init>", desc := "(I)V" } : Jvm.MethodName) prog_17_method_2_code (2 : Nat) (Option.none : Option Jvm.ClassFile.FieldType)) ∈ lw_all := lw_g (lw_at lw_m1 160 rfl) rfl
theorem q222 : (Jvm.Cond.methodLink "java/lang/AbstractStringBuilder" (3 : Nat) ({ cls := "java/lang/Object", name := "<init>", desc := "()V" } : Jvm.MethodName)) ∈ lw_all := lw_g (lw_at lw_m1 161 rfl) rfl
theorem q223 : (Jvm.Cond.fieldLink "java/lang/AbstractStringBuilder" (18 : Nat) "java/lang/String" "COMPACT_STRINGS" "Z") ∈ lw_all := lw_g (lw_at lw_m1 162 rfl) rfl
theorem q225 : (Jvm.Cond.methodLink "java/lang/AbstractStringBuilder" (26 : Nat) ({ cls := "java/lang/StringUTF16", name := "newBytesFor", desc := "(I)[B" } : Jvm.MethodName)) ∈ lw_all := lw_g (lw_at lw_m1 164 rfl) rfl
theorem q232 : (Jvm.Cond.fieldLink "java/lang/AbstractStringBuilder" (15 : Nat) "java/lang/AbstractStringBuilder" "value" "[B") ∈ lw_all := lw_g (lw_at lw_m1 171 rfl) rfl
theorem q233 : (Jvm.Cond.fieldLink "java/lang/AbstractStringBuilder" (22 : Nat) "java/lang/AbstractStringBuilder" "coder" "B") ∈ lw_all := lw_g (lw_at lw_m1 172 rfl) rfl
theorem q234 : (Jvm.Cond.fieldLink "java/lang/AbstractStringBuilder" (73 : Nat) "java/lang/AbstractStringBuilder" "maybeLatin1" "Z") ∈ lw_all := lw_g (lw_at lw_m1 173 rfl) rfl
theorem q236 : (Jvm.Cond.fieldLink "java/lang/AbstractStringBuilder" (79 : Nat) "java/lang/AbstractStringBuilder" "count" "I") ∈ lw_all := lw_g (lw_at lw_m1 175 rfl) rfl
theorem q238 : (Jvm.Cond.soleField "java/lang/AbstractStringBuilder" "value") ∈ lw_all := lw_g (lw_at lw_m1 177 rfl) rfl
theorem q240 : (Jvm.Cond.soleField "java/lang/AbstractStringBuilder" "coder") ∈ lw_all := lw_g (lw_at lw_m1 179 rfl) rfl
theorem q242 : (Jvm.Cond.soleField "java/lang/AbstractStringBuilder" "maybeLatin1") ∈ lw_all := lw_g (lw_at lw_m1 181 rfl) rfl
theorem q244 : (Jvm.Cond.soleField "java/lang/AbstractStringBuilder" "count") ∈ lw_all := lw_g (lw_at lw_m1 183 rfl) rfl
theorem q582 : (Jvm.Cond.instanceMethod ({ cls := "java/lang/AbstractStringBuilder", name := "append", desc := "(I)Ljava/lang/AbstractStringBuilder;" } : Jvm.MethodName)) ∈ lw_all := lw_g (lw_at lw_m3 41 rfl) rfl
theorem q583 : (Jvm.Cond.code ({ cls := "java/lang/AbstractStringBuilder", name := "append", desc := "(I)Ljava/lang/AbstractStringBuilder;" } : Jvm.MethodName) prog_17_method_32_code (4 : Nat) (Option.some (Jvm.ClassFile.FieldType.object "java/lang/AbstractStringBuilder"))) ∈ lw_all := lw_g (lw_at lw_m3 42 rfl) rfl
theorem q584 : (Jvm.Cond.methodLink "java/lang/AbstractStringBuilder" (245 : Nat) ({ cls := "java/lang/Integer", name := "stringSize", desc := "(I)I" } : Jvm.MethodName)) ∈ lw_all := lw_g (lw_at lw_m3 43 rfl) rfl
theorem q587 : (Jvm.Cond.methodLink "java/lang/AbstractStringBuilder" (100 : Nat) ({ cls := "java/lang/AbstractStringBuilder", name := "ensureCapacityInternal", desc := "(I)V" } : Jvm.MethodName)) ∈ lw_all := lw_g (lw_at lw_m3 46 rfl) rfl
theorem q588 : (Jvm.Cond.privateMethod ({ cls := "java/lang/AbstractStringBuilder", name := "ensureCapacityInternal", desc := "(I)V" } : Jvm.MethodName)) ∈ lw_tbl := lw_at lw_m3 47 rfl
theorem q589 : (Jvm.Cond.instanceMethod ({ cls := "java/lang/AbstractStringBuilder", name := "ensureCapacityInternal", desc := "(I)V" } : Jvm.MethodName)) ∈ lw_all := lw_g (lw_at lw_m3 48 rfl) rfl
theorem q590 : (Jvm.Cond.code ({ cls := "java/lang/AbstractStringBuilder", name := "ensureCapacityInternal", desc := "(I)V" } : Jvm.MethodName) prog_17_method_9_code (3 : Nat) (Option.none : Option Jvm.ClassFile.FieldType)) ∈ lw_all := lw_g (lw_at lw_m3 49 rfl) rfl
theorem q591 : (Jvm.Cond.methodLink "java/lang/AbstractStringBuilder" (104 : Nat) ({ cls := "java/lang/AbstractStringBuilder", name := "newCapacity", desc := "(I)I" } : Jvm.MethodName)) ∈ lw_all := lw_g (lw_at lw_m3 50 rfl) rfl
theorem q592 : (Jvm.Cond.privateMethod ({ cls := "java/lang/AbstractStringBuilder", name := "newCapacity", desc := "(I)I" } : Jvm.MethodName)) ∈ lw_tbl := lw_at lw_m3 51 rfl
theorem q593 : (Jvm.Cond.instanceMethod ({ cls := "java/lang/AbstractStringBuilder", name := "newCapacity", desc := "(I)I" } : Jvm.MethodName)) ∈ lw_all := lw_g (lw_at lw_m3 52 rfl) rfl
theorem q594 : (Jvm.Cond.code ({ cls := "java/lang/AbstractStringBuilder", name := "newCapacity", desc := "(I)I" } : Jvm.MethodName) prog_17_method_10_code (6 : Nat) (Option.some Jvm.ClassFile.FieldType.int)) ∈ lw_all := lw_g (lw_at lw_m3 53 rfl) rfl
theorem q595 : (Jvm.Cond.methodLink "java/lang/AbstractStringBuilder" (114 : Nat) ({ cls := "jdk/internal/util/ArraysSupport", name := "newLength", desc := "(III)I" } : Jvm.MethodName)) ∈ lw_all := lw_g (lw_at lw_m3 54 rfl) rfl
theorem q596 : (Jvm.Cond.constant "java/lang/AbstractStringBuilder" (39 : Nat) (2147483647 : Int32)) ∈ lw_all := lw_g (lw_at lw_m3 55 rfl) rfl
theorem q597 : (Jvm.Cond.methodLink "java/lang/AbstractStringBuilder" (108 : Nat) ({ cls := "java/util/Arrays", name := "copyOf", desc := "([BI)[B" } : Jvm.MethodName)) ∈ lw_all := lw_g (lw_at lw_m3 56 rfl) rfl
theorem q607 : (Jvm.Cond.methodLink "java/lang/AbstractStringBuilder" (83 : Nat) ({ cls := "java/lang/AbstractStringBuilder", name := "isLatin1", desc := "()Z" } : Jvm.MethodName)) ∈ lw_all := lw_g (lw_at lw_m3 66 rfl) rfl
theorem q608 : (Jvm.Cond.instanceMethod ({ cls := "java/lang/AbstractStringBuilder", name := "isLatin1", desc := "()Z" } : Jvm.MethodName)) ∈ lw_all := lw_g (lw_at lw_m3 67 rfl) rfl
theorem q609 : (Jvm.Cond.sameMethod "java/lang/AbstractStringBuilder" "java/lang/AbstractStringBuilder" "isLatin1" "()Z") ∈ lw_all := lw_g (lw_at lw_m3 68 rfl) rfl
theorem q611 : (Jvm.Cond.code ({ cls := "java/lang/AbstractStringBuilder", name := "isLatin1", desc := "()Z" } : Jvm.MethodName) prog_17_method_68_code (1 : Nat) (Option.some Jvm.ClassFile.FieldType.boolean)) ∈ lw_all := lw_g (lw_at lw_m3 70 rfl) rfl
theorem q612 : (Jvm.Cond.methodLink "java/lang/AbstractStringBuilder" (248 : Nat) ({ cls := "java/lang/Integer", name := "getChars", desc := "(II[B)I" } : Jvm.MethodName)) ∈ lw_all := lw_g (lw_at lw_m3 71 rfl) rfl
theorem q619 : (Jvm.Cond.methodLink "java/lang/AbstractStringBuilder" (251 : Nat) ({ cls := "java/lang/StringUTF16", name := "getChars", desc := "(III[B)I" } : Jvm.MethodName)) ∈ lw_all := lw_g (lw_at lw_m3 78 rfl) rfl
theorem q656 : (Jvm.Cond.instanceMethod ({ cls := "java/lang/AbstractStringBuilder", name := "append", desc := "(Ljava/lang/String;)Ljava/lang/AbstractStringBuilder;" } : Jvm.MethodName)) ∈ lw_all := lw_g (lw_at lw_m3 115 rfl) rfl
theorem q657 : (Jvm.Cond.code ({ cls := "java/lang/AbstractStringBuilder", name := "append", desc := "(Ljava/lang/String;)Ljava/lang/AbstractStringBuilder;" } : Jvm.MethodName) prog_17_method_22_code (3 : Nat) (Option.some (Jvm.ClassFile.FieldType.object "java/lang/AbstractStringBuilder"))) ∈ lw_all := lw_g (lw_at lw_m3 116 rfl) rfl
theorem q658 : (Jvm.Cond.methodLink "java/lang/AbstractStringBuilder" (204 : Nat) ({ cls := "java/lang/AbstractStringBuilder", name := "appendNull", desc := "()Ljava/lang/AbstractStringBuilder;" } : Jvm.MethodName)) ∈ lw_all := lw_g (lw_at lw_m3 117 rfl) rfl
theorem q659 : (Jvm.Cond.privateMethod ({ cls := "java/lang/AbstractStringBuilder", name := "appendNull", desc := "()Ljava/lang/AbstractStringBuilder;" } : Jvm.MethodName)) ∈ lw_tbl := lw_at lw_m3 118 rfl
theorem q660 : (Jvm.Cond.instanceMethod ({ cls := "java/lang/AbstractStringBuilder", name := "appendNull", desc := "()Ljava/lang/AbstractStringBuilder;" } : Jvm.MethodName)) ∈ lw_all := lw_g (lw_at lw_m3 119 rfl) rfl
theorem q661 : (Jvm.Cond.code ({ cls := "java/lang/AbstractStringBuilder", name := "appendNull", desc := "()Ljava/lang/AbstractStringBuilder;" } : Jvm.MethodName) prog_17_method_26_code (3 : Nat) (Option.some (Jvm.ClassFile.FieldType.object "java/lang/AbstractStringBuilder"))) ∈ lw_all := lw_g (lw_at lw_m3 120 rfl) rfl
theorem q662 : (Jvm.Cond.methodLink "java/lang/AbstractStringBuilder" (226 : Nat) ({ cls := "java/lang/StringUTF16", name := "putCharsAt", desc := "([BICCCC)I" } : Jvm.MethodName)) ∈ lw_all := lw_g (lw_at lw_m3 121 rfl) rfl
theorem q665 : (Jvm.Cond.methodLink "java/lang/AbstractStringBuilder" (32 : Nat) ({ cls := "java/lang/String", name := "length", desc := "()I" } : Jvm.MethodName)) ∈ lw_all := lw_g (lw_at lw_m3 124 rfl) rfl
theorem q674 : (Jvm.Cond.methodLink "java/lang/AbstractStringBuilder" (208 : Nat) ({ cls := "java/lang/AbstractStringBuilder", name := "putStringAt", desc := "(ILjava/lang/String;)V" } : Jvm.MethodName)) ∈ lw_all := lw_g (lw_at lw_m3 133 rfl) rfl
theorem q675 : (Jvm.Cond.privateMethod ({ cls := "java/lang/AbstractStringBuilder", name := "putStringAt", desc := "(ILjava/lang/String;)V" } : Jvm.MethodName)) ∈ lw_tbl := lw_at lw_m3 134 rfl
theorem q676 : (Jvm.Cond.instanceMethod ({ cls := "java/lang/AbstractStringBuilder", name := "putStringAt", desc := "(ILjava/lang/String;)V" } : Jvm.MethodName)) ∈ lw_all := lw_g (lw_at lw_m3 135 rfl) rfl
theorem q677 : (Jvm.Cond.code ({ cls := "java/lang/AbstractStringBuilder", name := "putStringAt", desc := "(ILjava/lang/String;)V" } : Jvm.MethodName) prog_17_method_73_code (3 : Nat) (Option.none : Option Jvm.ClassFile.FieldType)) ∈ lw_all := lw_g (lw_at lw_m3 136 rfl) rfl
theorem q678 : (Jvm.Cond.methodLink "java/lang/AbstractStringBuilder" (397 : Nat) ({ cls := "java/lang/AbstractStringBuilder", name := "inflateIfNeededFor", desc := "(Ljava/lang/String;)V" } : Jvm.MethodName)) ∈ lw_all := lw_g (lw_at lw_m3 137 rfl) rfl
theorem q679 : (Jvm.Cond.privateMethod ({ cls := "java/lang/AbstractStringBuilder", name := "inflateIfNeededFor", desc := "(Ljava/lang/String;)V" } : Jvm.MethodName)) ∈ lw_tbl := lw_at lw_m3 138 rfl
theorem q680 : (Jvm.Cond.instanceMethod ({ cls := "java/lang/AbstractStringBuilder", name := "inflateIfNeededFor", desc := "(Ljava/lang/String;)V" } : Jvm.MethodName)) ∈ lw_all := lw_g (lw_at lw_m3 139 rfl) rfl
theorem q681 : (Jvm.Cond.code ({ cls := "java/lang/AbstractStringBuilder", name := "inflateIfNeededFor", desc := "(Ljava/lang/String;)V" } : Jvm.MethodName) prog_17_method_71_code (2 : Nat) (Option.none : Option Jvm.ClassFile.FieldType)) ∈ lw_all := lw_g (lw_at lw_m3 140 rfl) rfl
theorem q682 : (Jvm.Cond.methodLink "java/lang/AbstractStringBuilder" (40 : Nat) ({ cls := "java/lang/String", name := "coder", desc := "()B" } : Jvm.MethodName)) ∈ lw_all := lw_g (lw_at lw_m3 141 rfl) rfl
theorem q683 : (Jvm.Cond.methodLink "java/lang/AbstractStringBuilder" (195 : Nat) ({ cls := "java/lang/AbstractStringBuilder", name := "inflate", desc := "()V" } : Jvm.MethodName)) ∈ lw_all := lw_g (lw_at lw_m3 142 rfl) rfl
theorem q684 : (Jvm.Cond.privateMethod ({ cls := "java/lang/AbstractStringBuilder", name := "inflate", desc := "()V" } : Jvm.MethodName)) ∈ lw_tbl := lw_at lw_m3 143 rfl
theorem q685 : (Jvm.Cond.instanceMethod ({ cls := "java/lang/AbstractStringBuilder", name := "inflate", desc := "()V" } : Jvm.MethodName)) ∈ lw_all := lw_g (lw_at lw_m3 144 rfl) rfl
theorem q686 : (Jvm.Cond.code ({ cls := "java/lang/AbstractStringBuilder", name := "inflate", desc := "()V" } : Jvm.MethodName) prog_17_method_11_code (2 : Nat) (Option.none : Option Jvm.ClassFile.FieldType)) ∈ lw_all := lw_g (lw_at lw_m3 145 rfl) rfl
theorem q687 : (Jvm.Cond.methodLink "java/lang/AbstractStringBuilder" (125 : Nat) ({ cls := "java/lang/StringLatin1", name := "inflate", desc := "([BI[BII)V" } : Jvm.MethodName)) ∈ lw_all := lw_g (lw_at lw_m3 146 rfl) rfl
theorem q702 : (Jvm.Cond.methodLink "java/lang/AbstractStringBuilder" (399 : Nat) ({ cls := "java/lang/String", name := "getBytes", desc := "([BIB)V" } : Jvm.MethodName)) ∈ lw_all := lw_g (lw_at lw_m3 161 rfl) rfl
theorem q722 : (Jvm.Cond.instanceMethod ({ cls := "java/lang/AbstractStringBuilder", name := "getValue", desc := "()[B" } : Jvm.MethodName)) ∈ lw_all := lw_g (lw_at lw_m3 181 rfl) rfl
theorem q723 : (Jvm.Cond.sameMethod "java/lang/AbstractStringBuilder" "java/lang/AbstractStringBuilder" "getValue" "()[B") ∈ lw_all := lw_g (lw_at lw_m3 182 rfl) rfl
theorem q725 : (Jvm.Cond.code ({ cls := "java/lang/AbstractStringBuilder", name := "getValue", desc := "()[B" } : Jvm.MethodName) prog_17_method_64_code (1 : Nat) (Option.some (Jvm.ClassFile.FieldType.array Jvm.ClassFile.FieldType.byte))) ∈ lw_all := lw_g (lw_at lw_m3 184 rfl) rfl
theorem q727 : (Jvm.Cond.instanceMethod ({ cls := "java/lang/AbstractStringBuilder", name := "length", desc := "()I" } : Jvm.MethodName)) ∈ lw_all := lw_g (lw_at lw_m3 186 rfl) rfl
theorem q728 : (Jvm.Cond.sameMethod "java/lang/AbstractStringBuilder" "java/lang/AbstractStringBuilder" "length" "()I") ∈ lw_all := lw_g (lw_at lw_m3 187 rfl) rfl
theorem q733 : (Jvm.Cond.code ({ cls := "java/lang/AbstractStringBuilder", name := "length", desc := "()I" } : Jvm.MethodName) prog_17_method_6_code (1 : Nat) (Option.some Jvm.ClassFile.FieldType.int)) ∈ lw_all := lw_g (lw_at lw_m3 192 rfl) rfl
theorem q1515 : (Jvm.Cond.instanceMethod ({ cls := "java/lang/AbstractStringBuilder", name := "append", desc := "(C)Ljava/lang/AbstractStringBuilder;" } : Jvm.MethodName)) ∈ lw_all := lw_g (lw_at lw_m7 14 rfl) rfl
theorem q1516 : (Jvm.Cond.code ({ cls := "java/lang/AbstractStringBuilder", name := "append", desc := "(C)Ljava/lang/AbstractStringBuilder;" } : Jvm.MethodName) prog_17_method_31_code (2 : Nat) (Option.some (Jvm.ClassFile.FieldType.object "java/lang/AbstractStringBuilder"))) ∈ lw_all := lw_g (lw_at lw_m7 15 rfl) rfl
theorem q1517 : (Jvm.Cond.methodLink "java/lang/AbstractStringBuilder" (191 : Nat) ({ cls := "java/lang/StringLatin1", name := "canEncode", desc := "(C)Z" } : Jvm.MethodName)) ∈ lw_all := lw_g (lw_at lw_m7 16 rfl) rfl
theorem q1520 : (Jvm.Cond.methodLink "java/lang/AbstractStringBuilder" (197 : Nat) ({ cls := "java/lang/StringUTF16", name := "putCharSB", desc := "([BII)V" } : Jvm.MethodName)) ∈ lw_all := lw_g (lw_at lw_m7 19 rfl) rfl
theorem q2061 : (Jvm.Cond.instanceMethod ({ cls := "java/lang/AbstractStringBuilder", name := "setLength", desc := "(I)V" } : Jvm.MethodName)) ∈ lw_all := lw_g (lw_at lw_m9 80 rfl) rfl
theorem q2062 : (Jvm.Cond.code ({ cls := "java/lang/AbstractStringBuilder", name := "setLength", desc := "(I)V" } : Jvm.MethodName) prog_17_method_13_code (2 : Nat) (Option.none : Option Jvm.ClassFile.FieldType)) ∈ lw_all := lw_g (lw_at lw_m9 81 rfl) rfl
theorem q2063 : (Jvm.Cond.classLink "java/lang/AbstractStringBuilder" (129 : Nat) "java/lang/StringIndexOutOfBoundsException") ∈ lw_all := lw_g (lw_at lw_m9 82 rfl) rfl
theorem q2065 : (Jvm.Cond.methodLink "java/lang/AbstractStringBuilder" (131 : Nat) ({ cls := "java/lang/StringIndexOutOfBoundsException", name := "<init>", desc := "(I)V" } : Jvm.MethodName)) ∈ lw_all := lw_g (lw_at lw_m9 84 rfl) rfl
theorem q2082 : (Jvm.Cond.methodLink "java/lang/AbstractStringBuilder" (133 : Nat) ({ cls := "java/lang/StringLatin1", name := "fillNull", desc := "([BII)V" } : Jvm.MethodName)) ∈ lw_all := lw_g (lw_at lw_m9 101 rfl) rfl
theorem q2104 : (Jvm.Cond.methodLink "java/lang/AbstractStringBuilder" (137 : Nat) ({ cls := "java/lang/StringUTF16", name := "fillNull", desc := "([BII)V" } : Jvm.MethodName)) ∈ lw_all := lw_g (lw_at lw_m9 123 rfl) rfl
theorem q2130 : (Jvm.Cond.instanceMethod ({ cls := "java/lang/AbstractStringBuilder", name := "charAt", desc := "(I)C" } : Jvm.MethodName)) ∈ lw_all := lw_g (lw_at lw_m9 149 rfl) rfl
theorem q2131 : (Jvm.Cond.code ({ cls := "java/lang/AbstractStringBuilder", name := "charAt", desc := "(I)C" } : Jvm.MethodName) prog_17_method_14_code (5 : Nat) (Option.some Jvm.ClassFile.FieldType.char)) ∈ lw_all := lw_g (lw_at lw_m9 150 rfl) rfl
theorem q2132 : (Jvm.Cond.methodLink "java/lang/AbstractStringBuilder" (138 : Nat) ({ cls := "java/lang/Math", name := "min", desc := "(II)I" } : Jvm.MethodName)) ∈ lw_all := lw_g (lw_at lw_m9 151 rfl) rfl
theorem q2133 : (Jvm.Cond.methodLink "java/lang/AbstractStringBuilder" (144 : Nat) ({ cls := "java/lang/String", name := "checkIndex", desc := "(II)V" } : Jvm.MethodName)) ∈ lw_all := lw_g (lw_at lw_m9 152 rfl) rfl
theorem q2134 : (Jvm.Cond.methodLink "java/lang/AbstractStringBuilder" (148 : Nat) ({ cls := "java/lang/StringUTF16", name := "getChar", desc := "([BI)C" } : Jvm.MethodName)) ∈ lw_all := lw_g (lw_at lw_m9 153 rfl) rfl
theorem q2209 : (Jvm.Cond.sameMethod "java/lang/AbstractStringBuilder" "java/lang/AbstractStringBuilder" "append" "(I)Ljava/lang/AbstractStringBuilder;") ∈ lw_all := lw_g (lw_at lw_m9 228 rfl) rfl
theorem q2210 : (Jvm.Cond.sameMethod "java/lang/AbstractStringBuilder" "java/lang/AbstractStringBuilder" "ensureCapacityInternal" "(I)V") ∈ lw_all := lw_g (lw_at lw_m9 229 rfl) rfl
theorem q2211 : (Jvm.Cond.sameMethod "java/lang/AbstractStringBuilder" "java/lang/AbstractStringBuilder" "newCapacity" "(I)I") ∈ lw_all := lw_g (lw_at lw_m9 230 rfl) rfl
theorem q2212 : (Jvm.Cond.sameMethod "java/lang/AbstractStringBuilder" "java/lang/AbstractStringBuilder" "append" "(Ljava/lang/String;)Ljava/lang/AbstractStringBuilder;") ∈ lw_all := lw_g (lw_at lw_m9 231 rfl) rfl
theorem q2213 : (Jvm.Cond.sameMethod "java/lang/AbstractStringBuilder" "java/lang/AbstractStringBuilder" "appendNull" "()Ljava/lang/AbstractStringBuilder;") ∈ lw_all := lw_g (lw_at lw_m9 232 rfl) rfl
theorem q2214 : (Jvm.Cond.sameMethod "java/lang/AbstractStringBuilder" "java/lang/AbstractStringBuilder" "putStringAt" "(ILjava/lang/String;)V") ∈ lw_all := lw_g (lw_at lw_m9 233 rfl) rfl
theorem q2215 : (Jvm.Cond.sameMethod "java/lang/AbstractStringBuilder" "java/lang/AbstractStringBuilder" "inflateIfNeededFor" "(Ljava/lang/String;)V") ∈ lw_all := lw_g (lw_at lw_m9 234 rfl) rfl
theorem q2216 : (Jvm.Cond.sameMethod "java/lang/AbstractStringBuilder" "java/lang/AbstractStringBuilder" "inflate" "()V") ∈ lw_all := lw_g (lw_at lw_m9 235 rfl) rfl
theorem q2218 : (Jvm.Cond.sameMethod "java/lang/AbstractStringBuilder" "java/lang/AbstractStringBuilder" "append" "(C)Ljava/lang/AbstractStringBuilder;") ∈ lw_all := lw_g (lw_at lw_m9 237 rfl) rfl
theorem q2219 : (Jvm.Cond.sameMethod "java/lang/AbstractStringBuilder" "java/lang/AbstractStringBuilder" "setLength" "(I)V") ∈ lw_all := lw_g (lw_at lw_m9 238 rfl) rfl
theorem q2220 : (Jvm.Cond.sameMethod "java/lang/AbstractStringBuilder" "java/lang/AbstractStringBuilder" "charAt" "(I)C") ∈ lw_all := lw_g (lw_at lw_m9 239 rfl) rfl
/-! java/lang/StringBuilder -/
set_option maxRecDepth 100000
def RJ5 : String := "java/lang/StringBuilder"
def TJ5 : u_T := fun k => match k with
  | 0 => ("java/lang/AbstractStringBuilder", "value", "[B", false)
  | 1 => ("java/lang/AbstractStringBuilder", "coder", "B", false)
  | 2 => ("java/lang/AbstractStringBuilder", "maybeLatin1", "Z", false)
  | _ => ("java/lang/AbstractStringBuilder", "count", "I", false)
def tyJ5 : Nat → FieldType := fun k => match k with
  | 0 => .array .byte
  | 1 => .byte
  | 2 => .boolean
  | _ => .int
abbrev wsJ50 : List Cond := u_ws RJ5 TJ5 4
theorem nmJ5 : ∀ a, a < 4 → ∀ b, b < 4 → a ≠ b → (TJ5 a).2.1 ≠ (TJ5 b).2.1 := by decide +kernel
theorem tyJ5_ok : ∀ k, k < 4 → parseFieldDescriptor (TJ5 k).2.2.1 = some (tyJ5 k) := by decide +kernel
abbrev cJ5_init : ByteArray := prog_34_method_1_code
def yJ5_init : MethodName := ⟨RJ5, "<init>", "()V"⟩
def dkwJ5_init_0 : List UInt8 := [42, 16, 16, 183, 0, 1, 177]
abbrev dktJ5_init_0 : List UInt8 := dkwJ5_init_0 ++ []
theorem dksJ5_init_0 : cJ5_init.data.toList.drop 0 = dktJ5_init_0 := by decide +kernel
theorem dJ5_init_0 : decode cJ5_init 0 = .ok (.aload_n 0, 1) := dk_42 (dk_at dksJ5_init_0 0 rfl rfl)
theorem dJ5_init_1 : decode cJ5_init 1 = .ok (.bipush 16, 2) := dk_16 16 (dk_at dksJ5_init_0 1 rfl rfl)
theorem dJ5_init_3 : decode cJ5_init 3 = .ok (.invokespecial 1, 3) := dk_183 0 1 (dk_at dksJ5_init_0 3 rfl rfl)
theorem dJ5_init_6 : decode cJ5_init 6 = .ok (.return_, 1) := dk_177 (dk_at dksJ5_init_0 6 rfl rfl)
abbrev cJ5_append : ByteArray := prog_34_method_15_code
def yJ5_append : MethodName := ⟨RJ5, "append", "(I)Ljava/lang/StringBuilder;"⟩
def dkwJ5_append_0 : List UInt8 := [42, 27, 183, 0, 53, 87, 42, 176]
abbrev dktJ5_append_0 : List UInt8 := dkwJ5_append_0 ++ []
theorem dksJ5_append_0 : cJ5_append.data.toList.drop 0 = dktJ5_append_0 := by decide +kernel
theorem dJ5_append_0 : decode cJ5_append 0 = .ok (.aload_n 0, 1) := dk_42 (dk_at dksJ5_append_0 0 rfl rfl)
theorem dJ5_append_1 : decode cJ5_append 1 = .ok (.iload_n 1, 1) := dk_27 (dk_at dksJ5_append_0 1 rfl rfl)
theorem dJ5_append_2 : decode cJ5_append 2 = .ok (.invokespecial 53, 3) := dk_183 0 53 (dk_at dksJ5_append_0 2 rfl rfl)
theorem dJ5_append_5 : decode cJ5_append 5 = .ok (.pop, 1) := dk_87 (dk_at dksJ5_append_0 5 rfl rfl)
theorem dJ5_append_6 : decode cJ5_append 6 = .ok (.aload_n 0, 1) := dk_42 (dk_at dksJ5_append_0 6 rfl rfl)
theorem dJ5_append_7 : decode cJ5_append 7 = .ok (.areturn, 1) := dk_176 (dk_at dksJ5_append_0 7 rfl rfl)
abbrev cJ5_append_2 : ByteArray := prog_34_method_7_code
def yJ5_append_2 : MethodName := ⟨RJ5, "append", "(Ljava/lang/String;)Ljava/lang/StringBuilder;"⟩
def dkwJ5_append_2_0 : List UInt8 := [42, 43, 183, 0, 29, 87, 42, 176]
abbrev dktJ5_append_2_0 : List UInt8 := dkwJ5_append_2_0 ++ []
theorem dksJ5_append_2_0 : cJ5_append_2.data.toList.drop 0 = dktJ5_append_2_0 := by decide +kernel
theorem dJ5_append_2_0 : decode cJ5_append_2 0 = .ok (.aload_n 0, 1) := dk_42 (dk_at dksJ5_append_2_0 0 rfl rfl)
theorem dJ5_append_2_1 : decode cJ5_append_2 1 = .ok (.aload_n 1, 1) := dk_43 (dk_at dksJ5_append_2_0 1 rfl rfl)
theorem dJ5_append_2_2 : decode cJ5_append_2 2 = .ok (.invokespecial 29, 3) := dk_183 0 29 (dk_at dksJ5_append_2_0 2 rfl rfl)
theorem dJ5_append_2_5 : decode cJ5_append_2 5 = .ok (.pop, 1) := dk_87 (dk_at dksJ5_append_2_0 5 rfl rfl)
theorem dJ5_append_2_6 : decode cJ5_append_2 6 = .ok (.aload_n 0, 1) := dk_42 (dk_at dksJ5_append_2_0 6 rfl rfl)
theorem dJ5_append_2_7 : decode cJ5_append_2 7 = .ok (.areturn, 1) := dk_176 (dk_at dksJ5_append_2_0 7 rfl rfl)
abbrev cJ5_toString : ByteArray := prog_34_method_42_code
def yJ5_toString : MethodName := ⟨RJ5, "toString", "()Ljava/lang/String;"⟩
def dkwJ5_toString_0 : List UInt8 := [187, 0, 18, 89, 42, 183, 0, 137, 176]
abbrev dktJ5_toString_0 : List UInt8 := dkwJ5_toString_0 ++ []
theorem dksJ5_toString_0 : cJ5_toString.data.toList.drop 0 = dktJ5_toString_0 := by decide +kernel
theorem dJ5_toString_0 : decode cJ5_toString 0 = .ok (.new 18, 3) := dk_187 0 18 (dk_at dksJ5_toString_0 0 rfl rfl)
theorem dJ5_toString_3 : decode cJ5_toString 3 = .ok (.dup, 1) := dk_89 (dk_at dksJ5_toString_0 3 rfl rfl)
theorem dJ5_toString_4 : decode cJ5_toString 4 = .ok (.aload_n 0, 1) := dk_42 (dk_at dksJ5_toString_0 4 rfl rfl)
theorem dJ5_toString_5 : decode cJ5_toString 5 = .ok (.invokespecial 137, 3) := dk_183 0 137 (dk_at dksJ5_toString_0 5 rfl rfl)
theorem dJ5_toString_8 : decode cJ5_toString 8 = .ok (.areturn, 1) := dk_176 (dk_at dksJ5_toString_0 8 rfl rfl)
abbrev cJ5_length : ByteArray := prog_34_method_93_code
def yJ5_length : MethodName := ⟨RJ5, "length", "()I"⟩
theorem dJ5_length_0 : decode cJ5_length 0 = .ok (.aload_n 0, 1) := by decide +kernel
theorem dJ5_length_1 : decode cJ5_length 1 = .ok (.invokespecial 343, 3) := by decide +kernel
theorem dJ5_length_4 : decode cJ5_length 4 = .ok (.ireturn, 1) := by decide +kernel
abbrev cJ5_append_3 : ByteArray := prog_34_method_14_code
def yJ5_append_3 : MethodName := ⟨RJ5, "append", "(C)Ljava/lang/StringBuilder;"⟩
def dkwJ5_append_3_0 : List UInt8 := [42, 27, 183, 0, 50, 87, 42, 176]
abbrev dktJ5_append_3_0 : List UInt8 := dkwJ5_append_3_0 ++ []
theorem dksJ5_append_3_0 : cJ5_append_3.data.toList.drop 0 = dktJ5_append_3_0 := by decide +kernel
theorem dJ5_append_3_0 : decode cJ5_append_3 0 = .ok (.aload_n 0, 1) := dk_42 (dk_at dksJ5_append_3_0 0 rfl rfl)
theorem dJ5_append_3_1 : decode cJ5_append_3 1 = .ok (.iload_n 1, 1) := dk_27 (dk_at dksJ5_append_3_0 1 rfl rfl)
theorem dJ5_append_3_2 : decode cJ5_append_3 2 = .ok (.invokespecial 50, 3) := dk_183 0 50 (dk_at dksJ5_append_3_0 2 rfl rfl)
theorem dJ5_append_3_5 : decode cJ5_append_3 5 = .ok (.pop, 1) := dk_87 (dk_at dksJ5_append_3_0 5 rfl rfl)
theorem dJ5_append_3_6 : decode cJ5_append_3 6 = .ok (.aload_n 0, 1) := dk_42 (dk_at dksJ5_append_3_0 6 rfl rfl)
theorem dJ5_append_3_7 : decode cJ5_append_3 7 = .ok (.areturn, 1) := dk_176 (dk_at dksJ5_append_3_0 7 rfl rfl)
abbrev cJ5_setLength : ByteArray := prog_34_method_89_code
def yJ5_setLength : MethodName := ⟨RJ5, "setLength", "(I)V"⟩
def dkwJ5_setLength_0 : List UInt8 := [42, 27, 183, 1, 77, 177]
abbrev dktJ5_setLength_0 : List UInt8 := dkwJ5_setLength_0 ++ []
theorem dksJ5_setLength_0 : cJ5_setLength.data.toList.drop 0 = dktJ5_setLength_0 := by decide +kernel
theorem dJ5_setLength_0 : decode cJ5_setLength 0 = .ok (.aload_n 0, 1) := dk_42 (dk_at dksJ5_setLength_0 0 rfl rfl)
theorem dJ5_setLength_1 : decode cJ5_setLength 1 = .ok (.iload_n 1, 1) := dk_27 (dk_at dksJ5_setLength_0 1 rfl rfl)
theorem dJ5_setLength_2 : decode cJ5_setLength 2 = .ok (.invokespecial 333, 3) := dk_183 1 77 (dk_at dksJ5_setLength_0 2 rfl rfl)
theorem dJ5_setLength_5 : decode cJ5_setLength 5 = .ok (.return_, 1) := dk_177 (dk_at dksJ5_setLength_0 5 rfl rfl)
abbrev cJ5_charAt : ByteArray := prog_34_method_88_code
def yJ5_charAt : MethodName := ⟨RJ5, "charAt", "(I)C"⟩
def dkwJ5_charAt_0 : List UInt8 := [42, 27, 183, 1, 73, 172]
abbrev dktJ5_charAt_0 : List UInt8 := dkwJ5_charAt_0 ++ []
theorem dksJ5_charAt_0 : cJ5_charAt.data.toList.drop 0 = dktJ5_charAt_0 := by decide +kernel
theorem dJ5_charAt_0 : decode cJ5_charAt 0 = .ok (.aload_n 0, 1) := dk_42 (dk_at dksJ5_charAt_0 0 rfl rfl)
theorem dJ5_charAt_1 : decode cJ5_charAt 1 = .ok (.iload_n 1, 1) := dk_27 (dk_at dksJ5_charAt_0 1 rfl rfl)
theorem dJ5_charAt_2 : decode cJ5_charAt 2 = .ok (.invokespecial 329, 3) := dk_183 1 73 (dk_at dksJ5_charAt_0 2 rfl rfl)
theorem dJ5_charAt_5 : decode cJ5_charAt 5 = .ok (.ireturn, 1) := dk_172 (dk_at dksJ5_charAt_0 5 rfl rfl)
theorem q70 : (Jvm.Cond.initialized "java/lang/StringBuilder") ∈ lw_all := lw_g (lw_at lw_m1 9 rfl) rfl
theorem q215 : (Jvm.Cond.instantiable "java/lang/StringBuilder" (4 : Nat)) ∈ lw_all := lw_g (lw_at lw_m1 154 rfl) rfl
theorem q217 : (Jvm.Cond.instanceMethod ({ cls := "java/lang/StringBuilder", name := "<init>", desc := "()V" } : Jvm.MethodName)) ∈ lw_all := lw_g (lw_at lw_m1 156 rfl) rfl
theorem q218 : (Jvm.Cond.code ({ cls := "java/lang/StringBuilder", name := "<init>", desc := "()V" } : Jvm.MethodName) prog_34_method_1_code (1 : Nat) (Option.none : Option Jvm.ClassFile.FieldType)) ∈ lw_all := lw_g (lw_at lw_m1 157 rfl) rfl
theorem q219 : (Jvm.Cond.methodLink "java/lang/StringBuilder" (1 : Nat) ({ cls := "java/lang/AbstractStringBuilder", name := "<init>", desc := "(I)V" } : Jvm.MethodName)) ∈ lw_all := lw_g (lw_at lw_m1 158 rfl) rfl
theorem q237 : (Jvm.Cond.lays "java/lang/StringBuilder" "java/lang/AbstractStringBuilder" "value" "[B") ∈ lw_all := lw_g (lw_at lw_m1 176 rfl) rfl
theorem q239 : (Jvm.Cond.lays "java/lang/StringBuilder" "java/lang/AbstractStringBuilder" "coder" "B") ∈ lw_all := lw_g (lw_at lw_m1 178 rfl) rfl
theorem q241 : (Jvm.Cond.lays "java/lang/StringBuilder" "java/lang/AbstractStringBuilder" "maybeLatin1" "Z") ∈ lw_all := lw_g (lw_at lw_m1 180 rfl) rfl
theorem q243 : (Jvm.Cond.lays "java/lang/StringBuilder" "java/lang/AbstractStringBuilder" "count" "I") ∈ lw_all := lw_g (lw_at lw_m1 182 rfl) rfl
theorem q245 : (Jvm.Cond.superclass "java/lang/StringBuilder" "java/lang/AbstractStringBuilder") ∈ lw_all := lw_g (lw_at lw_m1 184 rfl) rfl
theorem q522 : (Jvm.Cond.selects "java/lang/StringBuilder" ({ cls := "java/lang/Object", name := "getClass", desc := "()Ljava/lang/Class;" } : Jvm.MethodName) ({ cls := "java/lang/Object", name := "getClass", desc := "()Ljava/lang/Class;" } : Jvm.MethodName)) ∈ lw_all := lw_g (lw_at lw_m2 221 rfl) rfl
theorem q578 : (Jvm.Cond.instanceMethod ({ cls := "java/lang/StringBuilder", name := "append", desc := "(I)Ljava/lang/StringBuilder;" } : Jvm.MethodName)) ∈ lw_all := lw_g (lw_at lw_m3 37 rfl) rfl
theorem q579 : (Jvm.Cond.selects "java/lang/StringBuilder" ({ cls := "java/lang/StringBuilder", name := "append", desc := "(I)Ljava/lang/StringBuilder;" } : Jvm.MethodName) ({ cls := "java/lang/StringBuilder", name := "append", desc := "(I)Ljava/lang/StringBuilder;" } : Jvm.MethodName)) ∈ lw_all := lw_g (lw_at lw_m3 38 rfl) rfl
theorem q580 : (Jvm.Cond.code ({ cls := "java/lang/StringBuilder", name := "append", desc := "(I)Ljava/lang/StringBuilder;" } : Jvm.MethodName) prog_34_method_15_code (2 : Nat) (Option.some (Jvm.ClassFile.FieldType.object "java/lang/StringBuilder"))) ∈ lw_all := lw_g (lw_at lw_m3 39 rfl) rfl
theorem q581 : (Jvm.Cond.methodLink "java/lang/StringBuilder" (53 : Nat) ({ cls := "java/lang/AbstractStringBuilder", name := "append", desc := "(I)Ljava/lang/AbstractStringBuilder;" } : Jvm.MethodName)) ∈ lw_all := lw_g (lw_at lw_m3 40 rfl) rfl
theorem q610 : (Jvm.Cond.selects "java/lang/StringBuilder" ({ cls := "java/lang/AbstractStringBuilder", name := "isLatin1", desc := "()Z" } : Jvm.MethodName) ({ cls := "java/lang/AbstractStringBuilder", name := "isLatin1", desc := "()Z" } : Jvm.MethodName)) ∈ lw_all := lw_g (lw_at lw_m3 69 rfl) rfl
theorem q652 : (Jvm.Cond.instanceMethod ({ cls := "java/lang/StringBuilder", name := "append", desc := "(Ljava/lang/String;)Ljava/lang/StringBuilder;" } : Jvm.MethodName)) ∈ lw_all := lw_g (lw_at lw_m3 111 rfl) rfl
theorem q653 : (Jvm.Cond.selects "java/lang/StringBuilder" ({ cls := "java/lang/StringBuilder", name := "append", desc := "(Ljava/lang/String;)Ljava/lang/StringBuilder;" } : Jvm.MethodName) ({ cls := "java/lang/StringBuilder", name := "append", desc := "(Ljava/lang/String;)Ljava/lang/StringBuilder;" } : Jvm.MethodName)) ∈ lw_all := lw_g (lw_at lw_m3 112 rfl) rfl
theorem q654 : (Jvm.Cond.code ({ cls := "java/lang/StringBuilder", name := "append", desc := "(Ljava/lang/String;)Ljava/lang/StringBuilder;" } : Jvm.MethodName) prog_34_method_7_code (2 : Nat) (Option.some (Jvm.ClassFile.FieldType.object "java/lang/StringBuilder"))) ∈ lw_all := lw_g (lw_at lw_m3 113 rfl) rfl
theorem q655 : (Jvm.Cond.methodLink "java/lang/StringBuilder" (29 : Nat) ({ cls := "java/lang/AbstractStringBuilder", name := "append", desc := "(Ljava/lang/String;)Ljava/lang/AbstractStringBuilder;" } : Jvm.MethodName)) ∈ lw_all := lw_g (lw_at lw_m3 114 rfl) rfl
theorem q709 : (Jvm.Cond.instanceMethod ({ cls := "java/lang/StringBuilder", name := "toString", desc := "()Ljava/lang/String;" } : Jvm.MethodName)) ∈ lw_all := lw_g (lw_at lw_m3 168 rfl) rfl
theorem q710 : (Jvm.Cond.selects "java/lang/StringBuilder" ({ cls := "java/lang/StringBuilder", name := "toString", desc := "()Ljava/lang/String;" } : Jvm.MethodName) ({ cls := "java/lang/StringBuilder", name := "toString", desc := "()Ljava/lang/String;" } : Jvm.MethodName)) ∈ lw_all := lw_g (lw_at lw_m3 169 rfl) rfl
theorem q711 : (Jvm.Cond.code ({ cls := "java/lang/StringBuilder", name := "toString", desc := "()Ljava/lang/String;" } : Jvm.MethodName) prog_34_method_42_code (1 : Nat) (Option.some (Jvm.ClassFile.FieldType.object "java/lang/String"))) ∈ lw_all := lw_g (lw_at lw_m3 170 rfl) rfl
theorem q712 : (Jvm.Cond.classLink "java/lang/StringBuilder" (18 : Nat) "java/lang/String") ∈ lw_all := lw_g (lw_at lw_m3 171 rfl) rfl
theorem q714 : (Jvm.Cond.methodLink "java/lang/StringBuilder" (137 : Nat) ({ cls := "java/lang/String", name := "<init>", desc := "(Ljava/lang/StringBuilder;)V" } : Jvm.MethodName)) ∈ lw_all := lw_g (lw_at lw_m3 173 rfl) rfl
theorem q724 : (Jvm.Cond.selects "java/lang/StringBuilder" ({ cls := "java/lang/AbstractStringBuilder", name := "getValue", desc := "()[B" } : Jvm.MethodName) ({ cls := "java/lang/AbstractStringBuilder", name := "getValue", desc := "()[B" } : Jvm.MethodName)) ∈ lw_all := lw_g (lw_at lw_m3 183 rfl) rfl
theorem q729 : (Jvm.Cond.selects "java/lang/StringBuilder" ({ cls := "java/lang/AbstractStringBuilder", name := "length", desc := "()I" } : Jvm.MethodName) ({ cls := "java/lang/StringBuilder", name := "length", desc := "()I" } : Jvm.MethodName)) ∈ lw_all := lw_g (lw_at lw_m3 188 rfl) rfl
theorem q730 : (Jvm.Cond.instanceMethod ({ cls := "java/lang/StringBuilder", name := "length", desc := "()I" } : Jvm.MethodName)) ∈ lw_all := lw_g (lw_at lw_m3 189 rfl) rfl
theorem q731 : (Jvm.Cond.code ({ cls := "java/lang/StringBuilder", name := "length", desc := "()I" } : Jvm.MethodName) prog_34_method_93_code (1 : Nat) (Option.some Jvm.ClassFile.FieldType.int)) ∈ lw_all := lw_g (lw_at lw_m3 190 rfl) rfl
theorem q732 : (Jvm.Cond.methodLink "java/lang/StringBuilder" (343 : Nat) ({ cls := "java/lang/AbstractStringBuilder", name := "length", desc := "()I" } : Jvm.MethodName)) ∈ lw_all := lw_g (lw_at lw_m3 191 rfl) rfl
theorem q1511 : (Jvm.Cond.instanceMethod ({ cls := "java/lang/StringBuilder", name := "append", desc := "(C)Ljava/lang/StringBuilder;" } : Jvm.MethodName)) ∈ lw_all := lw_g (lw_at lw_m7 10 rfl) rfl
theorem q1512 : (Jvm.Cond.selects "java/lang/StringBuilder" ({ cls := "java/lang/StringBuilder", name := "append", desc := "(C)Ljava/lang/StringBuilder;" } : Jvm.MethodName) ({ cls := "java/lang/StringBuilder", name := "append", desc := "(C)Ljava/lang/StringBuilder;" } : Jvm.MethodName)) ∈ lw_all := lw_g (lw_at lw_m7 11 rfl) rfl
theorem q1513 : (Jvm.Cond.code ({ cls := "java/lang/StringBuilder", name := "append", desc := "(C)Ljava/lang/StringBuilder;" } : Jvm.MethodName) prog_34_method_14_code (2 : Nat) (Option.some (Jvm.ClassFile.FieldType.object "java/lang/StringBuilder"))) ∈ lw_all := lw_g (lw_at lw_m7 12 rfl) rfl
theorem q1514 : (Jvm.Cond.methodLink "java/lang/StringBuilder" (50 : Nat) ({ cls := "java/lang/AbstractStringBuilder", name := "append", desc := "(C)Ljava/lang/AbstractStringBuilder;" } : Jvm.MethodName)) ∈ lw_all := lw_g (lw_at lw_m7 13 rfl) rfl
theorem q2057 : (Jvm.Cond.instanceMethod ({ cls := "java/lang/StringBuilder", name := "setLength", desc := "(I)V" } : Jvm.MethodName)) ∈ lw_all := lw_g (lw_at lw_m9 76 rfl) rfl
theorem q2058 : (Jvm.Cond.selects "java/lang/StringBuilder" ({ cls := "java/lang/StringBuilder", name := "setLength", desc := "(I)V" } : Jvm.MethodName) ({ cls := "java/lang/StringBuilder", name := "setLength", desc := "(I)V" } : Jvm.MethodName)) ∈ lw_all := lw_g (lw_at lw_m9 77 rfl) rfl
theorem q2059 : (Jvm.Cond.code ({ cls := "java/lang/StringBuilder", name := "setLength", desc := "(I)V" } : Jvm.MethodName) prog_34_method_89_code (2 : Nat) (Option.none : Option Jvm.ClassFile.FieldType)) ∈ lw_all := lw_g (lw_at lw_m9 78 rfl) rfl
theorem q2060 : (Jvm.Cond.methodLink "java/lang/StringBuilder" (333 : Nat) ({ cls := "java/lang/AbstractStringBuilder", name := "setLength", desc := "(I)V" } : Jvm.MethodName)) ∈ lw_all := lw_g (lw_at lw_m9 79 rfl) rfl
theorem q2126 : (Jvm.Cond.instanceMethod ({ cls := "java/lang/StringBuilder", name := "charAt", desc := "(I)C" } : Jvm.MethodName)) ∈ lw_all := lw_g (lw_at lw_m9 145 rfl) rfl
theorem q2127 : (Jvm.Cond.selects "java/lang/StringBuilder" ({ cls := "java/lang/StringBuilder", name := "charAt", desc := "(I)C" } : Jvm.MethodName) ({ cls := "java/lang/StringBuilder", name := "charAt", desc := "(I)C" } : Jvm.MethodName)) ∈ lw_all := lw_g (lw_at lw_m9 146 rfl) rfl
theorem q2128 : (Jvm.Cond.code ({ cls := "java/lang/StringBuilder", name := "charAt", desc := "(I)C" } : Jvm.MethodName) prog_34_method_88_code (2 : Nat) (Option.some Jvm.ClassFile.FieldType.char)) ∈ lw_all := lw_g (lw_at lw_m9 147 rfl) rfl
theorem q2129 : (Jvm.Cond.methodLink "java/lang/StringBuilder" (329 : Nat) ({ cls := "java/lang/AbstractStringBuilder", name := "charAt", desc := "(I)C" } : Jvm.MethodName)) ∈ lw_all := lw_g (lw_at lw_m9 148 rfl) rfl
theorem q2217 : (Jvm.Cond.selects "java/lang/StringBuilder" ({ cls := "java/lang/StringBuilder", name := "length", desc := "()I" } : Jvm.MethodName) ({ cls := "java/lang/StringBuilder", name := "length", desc := "()I" } : Jvm.MethodName)) ∈ lw_all := lw_g (lw_at lw_m9 236 rfl) rfl
theorem q2229 : (Jvm.Cond.castable "java/lang/StringBuilder" "java/lang/Object") ∈ lw_tbl := lw_at lw_m10 8 rfl
theorem in_J5 : ∀ w ∈ wsJ50, w ∈ lw_all := lw_in wsJ50 [237, 239, 241, 243] (by decide +kernel) (by decide +kernel)
/-! java/lang/String -/
set_option maxRecDepth 100000
def RJ6 : String := "java/lang/String"
def TJ6 : u_T := fun k => match k with
  | 0 => ("java/lang/String", "value", "[B", true)
  | 1 => ("java/lang/String", "coder", "B", true)
  | 2 => ("java/lang/String", "hash", "I", false)
  | _ => ("java/lang/String", "hashIsZero", "Z", false)
def tyJ6 : Nat → FieldType := fun k => match k with
  | 0 => .array .byte
  | 1 => .byte
  | 2 => .int
  | _ => .boolean
abbrev wsJ60 : List Cond := u_ws RJ6 TJ6 4
theorem nmJ6 : ∀ a, a < 4 → ∀ b, b < 4 → a ≠ b → (TJ6 a).2.1 ≠ (TJ6 b).2.1 := by decide +kernel
theorem tyJ6_ok : ∀ k, k < 4 → parseFieldDescriptor (TJ6 k).2.2.1 = some (tyJ6 k) := by decide +kernel
abbrev cJ6_checkBoundsBeginEnd : ByteArray := prog_33_method_158_code
def yJ6_checkBoundsBeginEnd : MethodName := ⟨RJ6, "checkBoundsBeginEnd", "(III)V"⟩
def dkwJ6_checkBoundsBeginEnd_0 : List UInt8 := [26, 27, 28, 178, 4, 29, 184, 4, 38, 87, 177]
abbrev dktJ6_checkBoundsBeginEnd_0 : List UInt8 := dkwJ6_checkBoundsBeginEnd_0 ++ []
theorem dksJ6_checkBoundsBeginEnd_0 : cJ6_checkBoundsBeginEnd.data.toList.drop 0 = dktJ6_checkBoundsBeginEnd_0 := by decide +kernel
theorem dJ6_checkBoundsBeginEnd_0 : decode cJ6_checkBoundsBeginEnd 0 = .ok (.iload_n 0, 1) := dk_26 (dk_at dksJ6_checkBoundsBeginEnd_0 0 rfl rfl)
theorem dJ6_checkBoundsBeginEnd_1 : decode cJ6_checkBoundsBeginEnd 1 = .ok (.iload_n 1, 1) := dk_27 (dk_at dksJ6_checkBoundsBeginEnd_0 1 rfl rfl)
theorem dJ6_checkBoundsBeginEnd_2 : decode cJ6_checkBoundsBeginEnd 2 = .ok (.iload_n 2, 1) := dk_28 (dk_at dksJ6_checkBoundsBeginEnd_0 2 rfl rfl)
theorem dJ6_checkBoundsBeginEnd_3 : decode cJ6_checkBoundsBeginEnd 3 = .ok (.getstatic 1053, 3) := dk_178 4 29 (dk_at dksJ6_checkBoundsBeginEnd_0 3 rfl rfl)
theorem dJ6_checkBoundsBeginEnd_6 : decode cJ6_checkBoundsBeginEnd 6 = .ok (.invokestatic 1062, 3) := dk_184 4 38 (dk_at dksJ6_checkBoundsBeginEnd_0 6 rfl rfl)
theorem dJ6_checkBoundsBeginEnd_9 : decode cJ6_checkBoundsBeginEnd 9 = .ok (.pop, 1) := dk_87 (dk_at dksJ6_checkBoundsBeginEnd_0 9 rfl rfl)
theorem dJ6_checkBoundsBeginEnd_10 : decode cJ6_checkBoundsBeginEnd 10 = .ok (.return_, 1) := dk_177 (dk_at dksJ6_checkBoundsBeginEnd_0 10 rfl rfl)
abbrev cJ6_length : ByteArray := prog_33_method_54_code
def yJ6_length : MethodName := ⟨RJ6, "length", "()I"⟩
def dkwJ6_length_0 : List UInt8 := [42, 180, 0, 9, 190, 42, 182, 1, 79, 122, 172]
abbrev dktJ6_length_0 : List UInt8 := dkwJ6_length_0 ++ []
theorem dksJ6_length_0 : cJ6_length.data.toList.drop 0 = dktJ6_length_0 := by decide +kernel
theorem dJ6_length_0 : decode cJ6_length 0 = .ok (.aload_n 0, 1) := dk_42 (dk_at dksJ6_length_0 0 rfl rfl)
theorem dJ6_length_1 : decode cJ6_length 1 = .ok (.getfield 9, 3) := dk_180 0 9 (dk_at dksJ6_length_0 1 rfl rfl)
theorem dJ6_length_4 : decode cJ6_length 4 = .ok (.arraylength, 1) := dk_190 (dk_at dksJ6_length_0 4 rfl rfl)
theorem dJ6_length_5 : decode cJ6_length 5 = .ok (.aload_n 0, 1) := dk_42 (dk_at dksJ6_length_0 5 rfl rfl)
theorem dJ6_length_6 : decode cJ6_length 6 = .ok (.invokevirtual 335, 3) := dk_182 1 79 (dk_at dksJ6_length_0 6 rfl rfl)
theorem dJ6_length_9 : decode cJ6_length 9 = .ok (.ishr, 1) := dk_122 (dk_at dksJ6_length_0 9 rfl rfl)
theorem dJ6_length_10 : decode cJ6_length 10 = .ok (.ireturn, 1) := dk_172 (dk_at dksJ6_length_0 10 rfl rfl)
abbrev cJ6_coder : ByteArray := prog_33_method_152_code
def yJ6_coder : MethodName := ⟨RJ6, "coder", "()B"⟩
def dkwJ6_coder_0 : List UInt8 := [178, 0, 38, 153, 0, 10, 42, 180, 0, 15, 167, 0, 4, 4, 172]
abbrev dktJ6_coder_0 : List UInt8 := dkwJ6_coder_0 ++ []
theorem dksJ6_coder_0 : cJ6_coder.data.toList.drop 0 = dktJ6_coder_0 := by decide +kernel
theorem dJ6_coder_0 : decode cJ6_coder 0 = .ok (.getstatic 38, 3) := dk_178 0 38 (dk_at dksJ6_coder_0 0 rfl rfl)
theorem dJ6_coder_3 : decode cJ6_coder 3 = .ok (.ifCond .eq 10, 3) := dk_153 0 10 (dk_at dksJ6_coder_0 3 rfl rfl)
theorem dJ6_coder_6 : decode cJ6_coder 6 = .ok (.aload_n 0, 1) := dk_42 (dk_at dksJ6_coder_0 6 rfl rfl)
theorem dJ6_coder_7 : decode cJ6_coder 7 = .ok (.getfield 15, 3) := dk_180 0 15 (dk_at dksJ6_coder_0 7 rfl rfl)
theorem dJ6_coder_10 : decode cJ6_coder 10 = .ok (.goto 4, 3) := dk_167 0 4 (dk_at dksJ6_coder_0 10 rfl rfl)
theorem dJ6_coder_13 : decode cJ6_coder 13 = .ok (.iconst 1, 1) := dk_4 (dk_at dksJ6_coder_0 13 rfl rfl)
theorem dJ6_coder_14 : decode cJ6_coder 14 = .ok (.ireturn, 1) := dk_172 (dk_at dksJ6_coder_0 14 rfl rfl)
abbrev cJ6_checkBoundsOffCount : ByteArray := prog_33_method_157_code
def yJ6_checkBoundsOffCount : MethodName := ⟨RJ6, "checkBoundsOffCount", "(III)I"⟩
def dkwJ6_checkBoundsOffCount_0 : List UInt8 := [26, 27, 28, 178, 4, 29, 184, 4, 41, 172]
abbrev dktJ6_checkBoundsOffCount_0 : List UInt8 := dkwJ6_checkBoundsOffCount_0 ++ []
theorem dksJ6_checkBoundsOffCount_0 : cJ6_checkBoundsOffCount.data.toList.drop 0 = dktJ6_checkBoundsOffCount_0 := by decide +kernel
theorem dJ6_checkBoundsOffCount_0 : decode cJ6_checkBoundsOffCount 0 = .ok (.iload_n 0, 1) := dk_26 (dk_at dksJ6_checkBoundsOffCount_0 0 rfl rfl)
theorem dJ6_checkBoundsOffCount_1 : decode cJ6_checkBoundsOffCount 1 = .ok (.iload_n 1, 1) := dk_27 (dk_at dksJ6_checkBoundsOffCount_0 1 rfl rfl)
theorem dJ6_checkBoundsOffCount_2 : decode cJ6_checkBoundsOffCount 2 = .ok (.iload_n 2, 1) := dk_28 (dk_at dksJ6_checkBoundsOffCount_0 2 rfl rfl)
theorem dJ6_checkBoundsOffCount_3 : decode cJ6_checkBoundsOffCount 3 = .ok (.getstatic 1053, 3) := dk_178 4 29 (dk_at dksJ6_checkBoundsOffCount_0 3 rfl rfl)
theorem dJ6_checkBoundsOffCount_6 : decode cJ6_checkBoundsOffCount 6 = .ok (.invokestatic 1065, 3) := dk_184 4 41 (dk_at dksJ6_checkBoundsOffCount_0 6 rfl rfl)
theorem dJ6_checkBoundsOffCount_9 : decode cJ6_checkBoundsOffCount 9 = .ok (.ireturn, 1) := dk_172 (dk_at dksJ6_checkBoundsOffCount_0 9 rfl rfl)
abbrev cJ6_getBytes : ByteArray := prog_33_method_147_code
def yJ6_getBytes : MethodName := ⟨RJ6, "getBytes", "([BIB)V"⟩
def dkwJ6_getBytes_1 : List UInt8 := [184, 0, 212, 167, 0, 18, 42, 180, 0, 9, 3, 43, 28, 42, 180, 0, 9, 190, 184, 0, 106, 177]
abbrev dktJ6_getBytes_1 : List UInt8 := dkwJ6_getBytes_1 ++ []
def dkwJ6_getBytes_0 : List UInt8 := [42, 182, 1, 79, 29, 160, 0, 23, 42, 180, 0, 9, 3, 43, 28, 29, 120, 42, 180, 0, 9, 190]
abbrev dktJ6_getBytes_0 : List UInt8 := dkwJ6_getBytes_0 ++ dktJ6_getBytes_1
theorem dksJ6_getBytes_0 : cJ6_getBytes.data.toList.drop 0 = dktJ6_getBytes_0 := by decide +kernel
theorem dksJ6_getBytes_1 : cJ6_getBytes.data.toList.drop 22 = dktJ6_getBytes_1 := dk_seg dksJ6_getBytes_0 22 rfl rfl
theorem dJ6_getBytes_0 : decode cJ6_getBytes 0 = .ok (.aload_n 0, 1) := dk_42 (dk_at dksJ6_getBytes_0 0 rfl rfl)
theorem dJ6_getBytes_1 : decode cJ6_getBytes 1 = .ok (.invokevirtual 335, 3) := dk_182 1 79 (dk_at dksJ6_getBytes_0 1 rfl rfl)
theorem dJ6_getBytes_4 : decode cJ6_getBytes 4 = .ok (.iload_n 3, 1) := dk_29 (dk_at dksJ6_getBytes_0 4 rfl rfl)
theorem dJ6_getBytes_5 : decode cJ6_getBytes 5 = .ok (.if_icmp .ne 23, 3) := dk_160 0 23 (dk_at dksJ6_getBytes_0 5 rfl rfl)
theorem dJ6_getBytes_8 : decode cJ6_getBytes 8 = .ok (.aload_n 0, 1) := dk_42 (dk_at dksJ6_getBytes_0 8 rfl rfl)
theorem dJ6_getBytes_9 : decode cJ6_getBytes 9 = .ok (.getfield 9, 3) := dk_180 0 9 (dk_at dksJ6_getBytes_0 9 rfl rfl)
theorem dJ6_getBytes_12 : decode cJ6_getBytes 12 = .ok (.iconst 0, 1) := dk_3 (dk_at dksJ6_getBytes_0 12 rfl rfl)
theorem dJ6_getBytes_13 : decode cJ6_getBytes 13 = .ok (.aload_n 1, 1) := dk_43 (dk_at dksJ6_getBytes_0 13 rfl rfl)
theorem dJ6_getBytes_14 : decode cJ6_getBytes 14 = .ok (.iload_n 2, 1) := dk_28 (dk_at dksJ6_getBytes_0 14 rfl rfl)
theorem dJ6_getBytes_15 : decode cJ6_getBytes 15 = .ok (.iload_n 3, 1) := dk_29 (dk_at dksJ6_getBytes_0 15 rfl rfl)
theorem dJ6_getBytes_16 : decode cJ6_getBytes 16 = .ok (.ishl, 1) := dk_120 (dk_at dksJ6_getBytes_0 16 rfl rfl)
theorem dJ6_getBytes_17 : decode cJ6_getBytes 17 = .ok (.aload_n 0, 1) := dk_42 (dk_at dksJ6_getBytes_0 17 rfl rfl)
theorem dJ6_getBytes_18 : decode cJ6_getBytes 18 = .ok (.getfield 9, 3) := dk_180 0 9 (dk_at dksJ6_getBytes_0 18 rfl rfl)
theorem dJ6_getBytes_21 : decode cJ6_getBytes 21 = .ok (.arraylength, 1) := dk_190 (dk_at dksJ6_getBytes_0 21 rfl rfl)
theorem dJ6_getBytes_22 : decode cJ6_getBytes 22 = .ok (.invokestatic 212, 3) := dk_184 0 212 (dk_at dksJ6_getBytes_1 0 rfl rfl)
theorem dJ6_getBytes_25 : decode cJ6_getBytes 25 = .ok (.goto 18, 3) := dk_167 0 18 (dk_at dksJ6_getBytes_1 3 rfl rfl)
theorem dJ6_getBytes_28 : decode cJ6_getBytes 28 = .ok (.aload_n 0, 1) := dk_42 (dk_at dksJ6_getBytes_1 6 rfl rfl)
theorem dJ6_getBytes_29 : decode cJ6_getBytes 29 = .ok (.getfield 9, 3) := dk_180 0 9 (dk_at dksJ6_getBytes_1 7 rfl rfl)
theorem dJ6_getBytes_32 : decode cJ6_getBytes 32 = .ok (.iconst 0, 1) := dk_3 (dk_at dksJ6_getBytes_1 10 rfl rfl)
theorem dJ6_getBytes_33 : decode cJ6_getBytes 33 = .ok (.aload_n 1, 1) := dk_43 (dk_at dksJ6_getBytes_1 11 rfl rfl)
theorem dJ6_getBytes_34 : decode cJ6_getBytes 34 = .ok (.iload_n 2, 1) := dk_28 (dk_at dksJ6_getBytes_1 12 rfl rfl)
theorem dJ6_getBytes_35 : decode cJ6_getBytes 35 = .ok (.aload_n 0, 1) := dk_42 (dk_at dksJ6_getBytes_1 13 rfl rfl)
theorem dJ6_getBytes_36 : decode cJ6_getBytes 36 = .ok (.getfield 9, 3) := dk_180 0 9 (dk_at dksJ6_getBytes_1 14 rfl rfl)
theorem dJ6_getBytes_39 : decode cJ6_getBytes 39 = .ok (.arraylength, 1) := dk_190 (dk_at dksJ6_getBytes_1 17 rfl rfl)
theorem dJ6_getBytes_40 : decode cJ6_getBytes 40 = .ok (.invokestatic 106, 3) := dk_184 0 106 (dk_at dksJ6_getBytes_1 18 rfl rfl)
theorem dJ6_getBytes_43 : decode cJ6_getBytes 43 = .ok (.return_, 1) := dk_177 (dk_at dksJ6_getBytes_1 21 rfl rfl)
abbrev cJ6_init : ByteArray := prog_33_method_53_code
def yJ6_init : MethodName := ⟨RJ6, "<init>", "(Ljava/lang/StringBuilder;)V"⟩
def dkwJ6_init_0 : List UInt8 := [42, 43, 1, 183, 1, 233, 177]
abbrev dktJ6_init_0 : List UInt8 := dkwJ6_init_0 ++ []
theorem dksJ6_init_0 : cJ6_init.data.toList.drop 0 = dktJ6_init_0 := by decide +kernel
theorem dJ6_init_0 : decode cJ6_init 0 = .ok (.aload_n 0, 1) := dk_42 (dk_at dksJ6_init_0 0 rfl rfl)
theorem dJ6_init_1 : decode cJ6_init 1 = .ok (.aload_n 1, 1) := dk_43 (dk_at dksJ6_init_0 1 rfl rfl)
theorem dJ6_init_2 : decode cJ6_init 2 = .ok (.aconst_null, 1) := dk_1 (dk_at dksJ6_init_0 2 rfl rfl)
theorem dJ6_init_3 : decode cJ6_init 3 = .ok (.invokespecial 489, 3) := dk_183 1 233 (dk_at dksJ6_init_0 3 rfl rfl)
theorem dJ6_init_6 : decode cJ6_init 6 = .ok (.return_, 1) := dk_177 (dk_at dksJ6_init_0 6 rfl rfl)
abbrev cJ6_init_2 : ByteArray := prog_33_method_150_code
def yJ6_init_2 : MethodName := ⟨RJ6, "<init>", "(Ljava/lang/AbstractStringBuilder;Ljava/lang/Void;)V"⟩
def dkwJ6_init_2_4 : List UInt8 := [181, 0, 9, 177]
abbrev dktJ6_init_2_4 : List UInt8 := dkwJ6_init_2_4 ++ []
def dkwJ6_init_2_3 : List UInt8 := [184, 0, 47, 181, 0, 15, 177, 42, 4, 181, 0, 15, 42, 45, 3, 21, 4, 4, 120, 184, 0, 54]
abbrev dktJ6_init_2_3 : List UInt8 := dkwJ6_init_2_3 ++ dktJ6_init_2_4
def dkwJ6_init_2_2 : List UInt8 := [180, 4, 24, 153, 0, 28, 42, 45, 3, 21, 4, 184, 4, 27, 181, 0, 9, 42, 42, 180, 0, 9, 21, 4]
abbrev dktJ6_init_2_2 : List UInt8 := dkwJ6_init_2_2 ++ dktJ6_init_2_3
def dkwJ6_init_2_1 : List UInt8 := [181, 0, 15, 42, 45, 3, 21, 4, 184, 0, 54, 181, 0, 9, 167, 0, 59, 178, 0, 38, 153, 0, 35, 43]
abbrev dktJ6_init_2_1 : List UInt8 := dkwJ6_init_2_1 ++ dktJ6_init_2_2
def dkwJ6_init_2_0 : List UInt8 := [42, 183, 0, 1, 43, 182, 2, 40, 78, 43, 182, 2, 37, 54, 4, 43, 182, 4, 23, 153, 0, 22, 42, 3]
abbrev dktJ6_init_2_0 : List UInt8 := dkwJ6_init_2_0 ++ dktJ6_init_2_1
theorem dksJ6_init_2_0 : cJ6_init_2.data.toList.drop 0 = dktJ6_init_2_0 := by decide +kernel
theorem dksJ6_init_2_1 : cJ6_init_2.data.toList.drop 24 = dktJ6_init_2_1 := dk_seg dksJ6_init_2_0 24 rfl rfl
theorem dksJ6_init_2_2 : cJ6_init_2.data.toList.drop 48 = dktJ6_init_2_2 := dk_seg dksJ6_init_2_1 24 rfl rfl
theorem dksJ6_init_2_3 : cJ6_init_2.data.toList.drop 72 = dktJ6_init_2_3 := dk_seg dksJ6_init_2_2 24 rfl rfl
theorem dksJ6_init_2_4 : cJ6_init_2.data.toList.drop 94 = dktJ6_init_2_4 := dk_seg dksJ6_init_2_3 22 rfl rfl
theorem dJ6_init_2_0 : decode cJ6_init_2 0 = .ok (.aload_n 0, 1) := dk_42 (dk_at dksJ6_init_2_0 0 rfl rfl)
theorem dJ6_init_2_1 : decode cJ6_init_2 1 = .ok (.invokespecial 1, 3) := dk_183 0 1 (dk_at dksJ6_init_2_0 1 rfl rfl)
theorem dJ6_init_2_4 : decode cJ6_init_2 4 = .ok (.aload_n 1, 1) := dk_43 (dk_at dksJ6_init_2_0 4 rfl rfl)
theorem dJ6_init_2_5 : decode cJ6_init_2 5 = .ok (.invokevirtual 552, 3) := dk_182 2 40 (dk_at dksJ6_init_2_0 5 rfl rfl)
theorem dJ6_init_2_8 : decode cJ6_init_2 8 = .ok (.astore_n 3, 1) := dk_78 (dk_at dksJ6_init_2_0 8 rfl rfl)
theorem dJ6_init_2_9 : decode cJ6_init_2 9 = .ok (.aload_n 1, 1) := dk_43 (dk_at dksJ6_init_2_0 9 rfl rfl)
theorem dJ6_init_2_10 : decode cJ6_init_2 10 = .ok (.invokevirtual 549, 3) := dk_182 2 37 (dk_at dksJ6_init_2_0 10 rfl rfl)
theorem dJ6_init_2_13 : decode cJ6_init_2 13 = .ok (.istore 4, 2) := dk_54 4 (dk_at dksJ6_init_2_0 13 rfl rfl)
theorem dJ6_init_2_15 : decode cJ6_init_2 15 = .ok (.aload_n 1, 1) := dk_43 (dk_at dksJ6_init_2_0 15 rfl rfl)
theorem dJ6_init_2_16 : decode cJ6_init_2 16 = .ok (.invokevirtual 1047, 3) := dk_182 4 23 (dk_at dksJ6_init_2_0 16 rfl rfl)
theorem dJ6_init_2_19 : decode cJ6_init_2 19 = .ok (.ifCond .eq 22, 3) := dk_153 0 22 (dk_at dksJ6_init_2_0 19 rfl rfl)
theorem dJ6_init_2_22 : decode cJ6_init_2 22 = .ok (.aload_n 0, 1) := dk_42 (dk_at dksJ6_init_2_0 22 rfl rfl)
theorem dJ6_init_2_23 : decode cJ6_init_2 23 = .ok (.iconst 0, 1) := dk_3 (dk_at dksJ6_init_2_0 23 rfl rfl)
theorem dJ6_init_2_24 : decode cJ6_init_2 24 = .ok (.putfield 15, 3) := dk_181 0 15 (dk_at dksJ6_init_2_1 0 rfl rfl)
theorem dJ6_init_2_27 : decode cJ6_init_2 27 = .ok (.aload_n 0, 1) := dk_42 (dk_at dksJ6_init_2_1 3 rfl rfl)
theorem dJ6_init_2_28 : decode cJ6_init_2 28 = .ok (.aload_n 3, 1) := dk_45 (dk_at dksJ6_init_2_1 4 rfl rfl)
theorem dJ6_init_2_29 : decode cJ6_init_2 29 = .ok (.iconst 0, 1) := dk_3 (dk_at dksJ6_init_2_1 5 rfl rfl)
theorem dJ6_init_2_30 : decode cJ6_init_2 30 = .ok (.iload 4, 2) := dk_21 4 (dk_at dksJ6_init_2_1 6 rfl rfl)
theorem dJ6_init_2_32 : decode cJ6_init_2 32 = .ok (.invokestatic 54, 3) := dk_184 0 54 (dk_at dksJ6_init_2_1 8 rfl rfl)
theorem dJ6_init_2_35 : decode cJ6_init_2 35 = .ok (.putfield 9, 3) := dk_181 0 9 (dk_at dksJ6_init_2_1 11 rfl rfl)
theorem dJ6_init_2_38 : decode cJ6_init_2 38 = .ok (.goto 59, 3) := dk_167 0 59 (dk_at dksJ6_init_2_1 14 rfl rfl)
theorem dJ6_init_2_41 : decode cJ6_init_2 41 = .ok (.getstatic 38, 3) := dk_178 0 38 (dk_at dksJ6_init_2_1 17 rfl rfl)
theorem dJ6_init_2_44 : decode cJ6_init_2 44 = .ok (.ifCond .eq 35, 3) := dk_153 0 35 (dk_at dksJ6_init_2_1 20 rfl rfl)
theorem dJ6_init_2_47 : decode cJ6_init_2 47 = .ok (.aload_n 1, 1) := dk_43 (dk_at dksJ6_init_2_1 23 rfl rfl)
theorem dJ6_init_2_48 : decode cJ6_init_2 48 = .ok (.getfield 1048, 3) := dk_180 4 24 (dk_at dksJ6_init_2_2 0 rfl rfl)
theorem dJ6_init_2_51 : decode cJ6_init_2 51 = .ok (.ifCond .eq 28, 3) := dk_153 0 28 (dk_at dksJ6_init_2_2 3 rfl rfl)
theorem dJ6_init_2_54 : decode cJ6_init_2 54 = .ok (.aload_n 0, 1) := dk_42 (dk_at dksJ6_init_2_2 6 rfl rfl)
theorem dJ6_init_2_55 : decode cJ6_init_2 55 = .ok (.aload_n 3, 1) := dk_45 (dk_at dksJ6_init_2_2 7 rfl rfl)
theorem dJ6_init_2_56 : decode cJ6_init_2 56 = .ok (.iconst 0, 1) := dk_3 (dk_at dksJ6_init_2_2 8 rfl rfl)
theorem dJ6_init_2_57 : decode cJ6_init_2 57 = .ok (.iload 4, 2) := dk_21 4 (dk_at dksJ6_init_2_2 9 rfl rfl)
theorem dJ6_init_2_59 : decode cJ6_init_2 59 = .ok (.invokestatic 1051, 3) := dk_184 4 27 (dk_at dksJ6_init_2_2 11 rfl rfl)
theorem dJ6_init_2_62 : decode cJ6_init_2 62 = .ok (.putfield 9, 3) := dk_181 0 9 (dk_at dksJ6_init_2_2 14 rfl rfl)
theorem dJ6_init_2_65 : decode cJ6_init_2 65 = .ok (.aload_n 0, 1) := dk_42 (dk_at dksJ6_init_2_2 17 rfl rfl)
theorem dJ6_init_2_66 : decode cJ6_init_2 66 = .ok (.aload_n 0, 1) := dk_42 (dk_at dksJ6_init_2_2 18 rfl rfl)
theorem dJ6_init_2_67 : decode cJ6_init_2 67 = .ok (.getfield 9, 3) := dk_180 0 9 (dk_at dksJ6_init_2_2 19 rfl rfl)
theorem dJ6_init_2_70 : decode cJ6_init_2 70 = .ok (.iload 4, 2) := dk_21 4 (dk_at dksJ6_init_2_2 22 rfl rfl)
theorem dJ6_init_2_72 : decode cJ6_init_2 72 = .ok (.invokestatic 47, 3) := dk_184 0 47 (dk_at dksJ6_init_2_3 0 rfl rfl)
theorem dJ6_init_2_75 : decode cJ6_init_2 75 = .ok (.putfield 15, 3) := dk_181 0 15 (dk_at dksJ6_init_2_3 3 rfl rfl)
theorem dJ6_init_2_78 : decode cJ6_init_2 78 = .ok (.return_, 1) := dk_177 (dk_at dksJ6_init_2_3 6 rfl rfl)
theorem dJ6_init_2_79 : decode cJ6_init_2 79 = .ok (.aload_n 0, 1) := dk_42 (dk_at dksJ6_init_2_3 7 rfl rfl)
theorem dJ6_init_2_80 : decode cJ6_init_2 80 = .ok (.iconst 1, 1) := dk_4 (dk_at dksJ6_init_2_3 8 rfl rfl)
theorem dJ6_init_2_81 : decode cJ6_init_2 81 = .ok (.putfield 15, 3) := dk_181 0 15 (dk_at dksJ6_init_2_3 9 rfl rfl)
theorem dJ6_init_2_84 : decode cJ6_init_2 84 = .ok (.aload_n 0, 1) := dk_42 (dk_at dksJ6_init_2_3 12 rfl rfl)
theorem dJ6_init_2_85 : decode cJ6_init_2 85 = .ok (.aload_n 3, 1) := dk_45 (dk_at dksJ6_init_2_3 13 rfl rfl)
theorem dJ6_init_2_86 : decode cJ6_init_2 86 = .ok (.iconst 0, 1) := dk_3 (dk_at dksJ6_init_2_3 14 rfl rfl)
theorem dJ6_init_2_87 : decode cJ6_init_2 87 = .ok (.iload 4, 2) := dk_21 4 (dk_at dksJ6_init_2_3 15 rfl rfl)
theorem dJ6_init_2_89 : decode cJ6_init_2 89 = .ok (.iconst 1, 1) := dk_4 (dk_at dksJ6_init_2_3 17 rfl rfl)
theorem dJ6_init_2_90 : decode cJ6_init_2 90 = .ok (.ishl, 1) := dk_120 (dk_at dksJ6_init_2_3 18 rfl rfl)
theorem dJ6_init_2_91 : decode cJ6_init_2 91 = .ok (.invokestatic 54, 3) := dk_184 0 54 (dk_at dksJ6_init_2_3 19 rfl rfl)
theorem dJ6_init_2_94 : decode cJ6_init_2 94 = .ok (.putfield 9, 3) := dk_181 0 9 (dk_at dksJ6_init_2_4 0 rfl rfl)
theorem dJ6_init_2_97 : decode cJ6_init_2 97 = .ok (.return_, 1) := dk_177 (dk_at dksJ6_init_2_4 3 rfl rfl)
abbrev cJ6_charAt : ByteArray := prog_33_method_56_code
def yJ6_charAt : MethodName := ⟨RJ6, "charAt", "(I)C"⟩
def dkwJ6_charAt_1 : List UInt8 := [172]
abbrev dktJ6_charAt_1 : List UInt8 := dkwJ6_charAt_1 ++ []
def dkwJ6_charAt_0 : List UInt8 := [42, 182, 1, 236, 153, 0, 12, 42, 180, 0, 9, 27, 184, 1, 239, 172, 42, 180, 0, 9, 27, 184, 1, 242]
abbrev dktJ6_charAt_0 : List UInt8 := dkwJ6_charAt_0 ++ dktJ6_charAt_1
theorem dksJ6_charAt_0 : cJ6_charAt.data.toList.drop 0 = dktJ6_charAt_0 := by decide +kernel
theorem dksJ6_charAt_1 : cJ6_charAt.data.toList.drop 24 = dktJ6_charAt_1 := dk_seg dksJ6_charAt_0 24 rfl rfl
theorem dJ6_charAt_0 : decode cJ6_charAt 0 = .ok (.aload_n 0, 1) := dk_42 (dk_at dksJ6_charAt_0 0 rfl rfl)
theorem dJ6_charAt_1 : decode cJ6_charAt 1 = .ok (.invokevirtual 492, 3) := dk_182 1 236 (dk_at dksJ6_charAt_0 1 rfl rfl)
theorem dJ6_charAt_4 : decode cJ6_charAt 4 = .ok (.ifCond .eq 12, 3) := dk_153 0 12 (dk_at dksJ6_charAt_0 4 rfl rfl)
theorem dJ6_charAt_7 : decode cJ6_charAt 7 = .ok (.aload_n 0, 1) := dk_42 (dk_at dksJ6_charAt_0 7 rfl rfl)
theorem dJ6_charAt_8 : decode cJ6_charAt 8 = .ok (.getfield 9, 3) := dk_180 0 9 (dk_at dksJ6_charAt_0 8 rfl rfl)
theorem dJ6_charAt_11 : decode cJ6_charAt 11 = .ok (.iload_n 1, 1) := dk_27 (dk_at dksJ6_charAt_0 11 rfl rfl)
theorem dJ6_charAt_12 : decode cJ6_charAt 12 = .ok (.invokestatic 495, 3) := dk_184 1 239 (dk_at dksJ6_charAt_0 12 rfl rfl)
theorem dJ6_charAt_15 : decode cJ6_charAt 15 = .ok (.ireturn, 1) := dk_172 (dk_at dksJ6_charAt_0 15 rfl rfl)
theorem dJ6_charAt_16 : decode cJ6_charAt 16 = .ok (.aload_n 0, 1) := dk_42 (dk_at dksJ6_charAt_0 16 rfl rfl)
theorem dJ6_charAt_17 : decode cJ6_charAt 17 = .ok (.getfield 9, 3) := dk_180 0 9 (dk_at dksJ6_charAt_0 17 rfl rfl)
theorem dJ6_charAt_20 : decode cJ6_charAt 20 = .ok (.iload_n 1, 1) := dk_27 (dk_at dksJ6_charAt_0 20 rfl rfl)
theorem dJ6_charAt_21 : decode cJ6_charAt 21 = .ok (.invokestatic 498, 3) := dk_184 1 242 (dk_at dksJ6_charAt_0 21 rfl rfl)
theorem dJ6_charAt_24 : decode cJ6_charAt 24 = .ok (.ireturn, 1) := dk_172 (dk_at dksJ6_charAt_1 0 rfl rfl)
abbrev cJ6_isLatin1 : ByteArray := prog_33_method_154_code
def yJ6_isLatin1 : MethodName := ⟨RJ6, "isLatin1", "()Z"⟩
def dkwJ6_isLatin1_0 : List UInt8 := [178, 0, 38, 153, 0, 14, 42, 180, 0, 15, 154, 0, 7, 4, 167, 0, 4, 3, 172]
abbrev dktJ6_isLatin1_0 : List UInt8 := dkwJ6_isLatin1_0 ++ []
theorem dksJ6_isLatin1_0 : cJ6_isLatin1.data.toList.drop 0 = dktJ6_isLatin1_0 := by decide +kernel
theorem dJ6_isLatin1_0 : decode cJ6_isLatin1 0 = .ok (.getstatic 38, 3) := dk_178 0 38 (dk_at dksJ6_isLatin1_0 0 rfl rfl)
theorem dJ6_isLatin1_3 : decode cJ6_isLatin1 3 = .ok (.ifCond .eq 14, 3) := dk_153 0 14 (dk_at dksJ6_isLatin1_0 3 rfl rfl)
theorem dJ6_isLatin1_6 : decode cJ6_isLatin1 6 = .ok (.aload_n 0, 1) := dk_42 (dk_at dksJ6_isLatin1_0 6 rfl rfl)
theorem dJ6_isLatin1_7 : decode cJ6_isLatin1 7 = .ok (.getfield 15, 3) := dk_180 0 15 (dk_at dksJ6_isLatin1_0 7 rfl rfl)
theorem dJ6_isLatin1_10 : decode cJ6_isLatin1 10 = .ok (.ifCond .ne 7, 3) := dk_154 0 7 (dk_at dksJ6_isLatin1_0 10 rfl rfl)
theorem dJ6_isLatin1_13 : decode cJ6_isLatin1 13 = .ok (.iconst 1, 1) := dk_4 (dk_at dksJ6_isLatin1_0 13 rfl rfl)
theorem dJ6_isLatin1_14 : decode cJ6_isLatin1 14 = .ok (.goto 4, 3) := dk_167 0 4 (dk_at dksJ6_isLatin1_0 14 rfl rfl)
theorem dJ6_isLatin1_17 : decode cJ6_isLatin1 17 = .ok (.iconst 0, 1) := dk_3 (dk_at dksJ6_isLatin1_0 17 rfl rfl)
theorem dJ6_isLatin1_18 : decode cJ6_isLatin1 18 = .ok (.ireturn, 1) := dk_172 (dk_at dksJ6_isLatin1_0 18 rfl rfl)
abbrev cJ6_checkIndex : ByteArray := prog_33_method_155_code
def yJ6_checkIndex : MethodName := ⟨RJ6, "checkIndex", "(II)V"⟩
def dkwJ6_checkIndex_0 : List UInt8 := [26, 27, 178, 4, 29, 184, 4, 35, 87, 177]
abbrev dktJ6_checkIndex_0 : List UInt8 := dkwJ6_checkIndex_0 ++ []
theorem dksJ6_checkIndex_0 : cJ6_checkIndex.data.toList.drop 0 = dktJ6_checkIndex_0 := by decide +kernel
theorem dJ6_checkIndex_0 : decode cJ6_checkIndex 0 = .ok (.iload_n 0, 1) := dk_26 (dk_at dksJ6_checkIndex_0 0 rfl rfl)
theorem dJ6_checkIndex_1 : decode cJ6_checkIndex 1 = .ok (.iload_n 1, 1) := dk_27 (dk_at dksJ6_checkIndex_0 1 rfl rfl)
theorem dJ6_checkIndex_2 : decode cJ6_checkIndex 2 = .ok (.getstatic 1053, 3) := dk_178 4 29 (dk_at dksJ6_checkIndex_0 2 rfl rfl)
theorem dJ6_checkIndex_5 : decode cJ6_checkIndex 5 = .ok (.invokestatic 1059, 3) := dk_184 4 35 (dk_at dksJ6_checkIndex_0 5 rfl rfl)
theorem dJ6_checkIndex_8 : decode cJ6_checkIndex 8 = .ok (.pop, 1) := dk_87 (dk_at dksJ6_checkIndex_0 8 rfl rfl)
theorem dJ6_checkIndex_9 : decode cJ6_checkIndex 9 = .ok (.return_, 1) := dk_177 (dk_at dksJ6_checkIndex_0 9 rfl rfl)
abbrev cJ6_hashCode : ByteArray := prog_33_method_78_code
def yJ6_hashCode : MethodName := ⟨RJ6, "hashCode", "()I"⟩
def dkwJ6_hashCode_2 : List UInt8 := [181, 0, 23, 167, 0, 8, 42, 27, 181, 0, 19, 27, 172]
abbrev dktJ6_hashCode_2 : List UInt8 := dkwJ6_hashCode_2 ++ []
def dkwJ6_hashCode_1 : List UInt8 := [180, 0, 9, 184, 2, 116, 167, 0, 10, 42, 180, 0, 9, 184, 2, 120, 60, 27, 154, 0, 11, 42, 4]
abbrev dktJ6_hashCode_1 : List UInt8 := dkwJ6_hashCode_1 ++ dktJ6_hashCode_2
def dkwJ6_hashCode_0 : List UInt8 := [42, 180, 0, 19, 60, 27, 154, 0, 52, 42, 180, 0, 23, 154, 0, 45, 42, 182, 1, 236, 153, 0, 13, 42]
abbrev dktJ6_hashCode_0 : List UInt8 := dkwJ6_hashCode_0 ++ dktJ6_hashCode_1
theorem dksJ6_hashCode_0 : cJ6_hashCode.data.toList.drop 0 = dktJ6_hashCode_0 := by decide +kernel
theorem dksJ6_hashCode_1 : cJ6_hashCode.data.toList.drop 24 = dktJ6_hashCode_1 := dk_seg dksJ6_hashCode_0 24 rfl rfl
theorem dksJ6_hashCode_2 : cJ6_hashCode.data.toList.drop 47 = dktJ6_hashCode_2 := dk_seg dksJ6_hashCode_1 23 rfl rfl
theorem dJ6_hashCode_0 : decode cJ6_hashCode 0 = .ok (.aload_n 0, 1) := dk_42 (dk_at dksJ6_hashCode_0 0 rfl rfl)
theorem dJ6_hashCode_1 : decode cJ6_hashCode 1 = .ok (.getfield 19, 3) := dk_180 0 19 (dk_at dksJ6_hashCode_0 1 rfl rfl)
theorem dJ6_hashCode_4 : decode cJ6_hashCode 4 = .ok (.istore_n 1, 1) := dk_60 (dk_at dksJ6_hashCode_0 4 rfl rfl)
theorem dJ6_hashCode_5 : decode cJ6_hashCode 5 = .ok (.iload_n 1, 1) := dk_27 (dk_at dksJ6_hashCode_0 5 rfl rfl)
theorem dJ6_hashCode_6 : decode cJ6_hashCode 6 = .ok (.ifCond .ne 52, 3) := dk_154 0 52 (dk_at dksJ6_hashCode_0 6 rfl rfl)
theorem dJ6_hashCode_9 : decode cJ6_hashCode 9 = .ok (.aload_n 0, 1) := dk_42 (dk_at dksJ6_hashCode_0 9 rfl rfl)
theorem dJ6_hashCode_10 : decode cJ6_hashCode 10 = .ok (.getfield 23, 3) := dk_180 0 23 (dk_at dksJ6_hashCode_0 10 rfl rfl)
theorem dJ6_hashCode_13 : decode cJ6_hashCode 13 = .ok (.ifCond .ne 45, 3) := dk_154 0 45 (dk_at dksJ6_hashCode_0 13 rfl rfl)
theorem dJ6_hashCode_16 : decode cJ6_hashCode 16 = .ok (.aload_n 0, 1) := dk_42 (dk_at dksJ6_hashCode_0 16 rfl rfl)
theorem dJ6_hashCode_17 : decode cJ6_hashCode 17 = .ok (.invokevirtual 492, 3) := dk_182 1 236 (dk_at dksJ6_hashCode_0 17 rfl rfl)
theorem dJ6_hashCode_20 : decode cJ6_hashCode 20 = .ok (.ifCond .eq 13, 3) := dk_153 0 13 (dk_at dksJ6_hashCode_0 20 rfl rfl)
theorem dJ6_hashCode_23 : decode cJ6_hashCode 23 = .ok (.aload_n 0, 1) := dk_42 (dk_at dksJ6_hashCode_0 23 rfl rfl)
theorem dJ6_hashCode_24 : decode cJ6_hashCode 24 = .ok (.getfield 9, 3) := dk_180 0 9 (dk_at dksJ6_hashCode_1 0 rfl rfl)
theorem dJ6_hashCode_27 : decode cJ6_hashCode 27 = .ok (.invokestatic 628, 3) := dk_184 2 116 (dk_at dksJ6_hashCode_1 3 rfl rfl)
theorem dJ6_hashCode_30 : decode cJ6_hashCode 30 = .ok (.goto 10, 3) := dk_167 0 10 (dk_at dksJ6_hashCode_1 6 rfl rfl)
theorem dJ6_hashCode_33 : decode cJ6_hashCode 33 = .ok (.aload_n 0, 1) := dk_42 (dk_at dksJ6_hashCode_1 9 rfl rfl)
theorem dJ6_hashCode_34 : decode cJ6_hashCode 34 = .ok (.getfield 9, 3) := dk_180 0 9 (dk_at dksJ6_hashCode_1 10 rfl rfl)
theorem dJ6_hashCode_37 : decode cJ6_hashCode 37 = .ok (.invokestatic 632, 3) := dk_184 2 120 (dk_at dksJ6_hashCode_1 13 rfl rfl)
theorem dJ6_hashCode_40 : decode cJ6_hashCode 40 = .ok (.istore_n 1, 1) := dk_60 (dk_at dksJ6_hashCode_1 16 rfl rfl)
theorem dJ6_hashCode_41 : decode cJ6_hashCode 41 = .ok (.iload_n 1, 1) := dk_27 (dk_at dksJ6_hashCode_1 17 rfl rfl)
theorem dJ6_hashCode_42 : decode cJ6_hashCode 42 = .ok (.ifCond .ne 11, 3) := dk_154 0 11 (dk_at dksJ6_hashCode_1 18 rfl rfl)
theorem dJ6_hashCode_45 : decode cJ6_hashCode 45 = .ok (.aload_n 0, 1) := dk_42 (dk_at dksJ6_hashCode_1 21 rfl rfl)
theorem dJ6_hashCode_46 : decode cJ6_hashCode 46 = .ok (.iconst 1, 1) := dk_4 (dk_at dksJ6_hashCode_1 22 rfl rfl)
theorem dJ6_hashCode_47 : decode cJ6_hashCode 47 = .ok (.putfield 23, 3) := dk_181 0 23 (dk_at dksJ6_hashCode_2 0 rfl rfl)
theorem dJ6_hashCode_50 : decode cJ6_hashCode 50 = .ok (.goto 8, 3) := dk_167 0 8 (dk_at dksJ6_hashCode_2 3 rfl rfl)
theorem dJ6_hashCode_53 : decode cJ6_hashCode 53 = .ok (.aload_n 0, 1) := dk_42 (dk_at dksJ6_hashCode_2 6 rfl rfl)
theorem dJ6_hashCode_54 : decode cJ6_hashCode 54 = .ok (.iload_n 1, 1) := dk_27 (dk_at dksJ6_hashCode_2 7 rfl rfl)
theorem dJ6_hashCode_55 : decode cJ6_hashCode 55 = .ok (.putfield 19, 3) := dk_181 0 19 (dk_at dksJ6_hashCode_2 8 rfl rfl)
theorem dJ6_hashCode_58 : decode cJ6_hashCode 58 = .ok (.iload_n 1, 1) := dk_27 (dk_at dksJ6_hashCode_2 11 rfl rfl)
theorem dJ6_hashCode_59 : decode cJ6_hashCode 59 = .ok (.ireturn, 1) := dk_172 (dk_at dksJ6_hashCode_2 12 rfl rfl)
abbrev cJ6_equals : ByteArray := prog_33_method_66_code
def yJ6_equals : MethodName := ⟨RJ6, "equals", "(Ljava/lang/Object;)Z"⟩
def dkwJ6_equals_2 : List UInt8 := [184, 2, 29, 153, 0, 7, 4, 167, 0, 4, 3, 172]
abbrev dktJ6_equals_2 : List UInt8 := dkwJ6_equals_2 ++ []
def dkwJ6_equals_1 : List UInt8 := [153, 0, 14, 42, 180, 0, 15, 44, 180, 0, 15, 160, 0, 21, 42, 180, 0, 9, 44, 180, 0, 9]
abbrev dktJ6_equals_1 : List UInt8 := dkwJ6_equals_1 ++ dktJ6_equals_2
def dkwJ6_equals_0 : List UInt8 := [42, 43, 166, 0, 5, 4, 172, 43, 193, 0, 10, 153, 0, 43, 43, 192, 0, 10, 77, 178, 0, 38]
abbrev dktJ6_equals_0 : List UInt8 := dkwJ6_equals_0 ++ dktJ6_equals_1
theorem dksJ6_equals_0 : cJ6_equals.data.toList.drop 0 = dktJ6_equals_0 := by decide +kernel
theorem dksJ6_equals_1 : cJ6_equals.data.toList.drop 22 = dktJ6_equals_1 := dk_seg dksJ6_equals_0 22 rfl rfl
theorem dksJ6_equals_2 : cJ6_equals.data.toList.drop 44 = dktJ6_equals_2 := dk_seg dksJ6_equals_1 22 rfl rfl
theorem dJ6_equals_0 : decode cJ6_equals 0 = .ok (.aload_n 0, 1) := dk_42 (dk_at dksJ6_equals_0 0 rfl rfl)
theorem dJ6_equals_1 : decode cJ6_equals 1 = .ok (.aload_n 1, 1) := dk_43 (dk_at dksJ6_equals_0 1 rfl rfl)
theorem dJ6_equals_2 : decode cJ6_equals 2 = .ok (.if_acmp .ne 5, 3) := dk_166 0 5 (dk_at dksJ6_equals_0 2 rfl rfl)
theorem dJ6_equals_5 : decode cJ6_equals 5 = .ok (.iconst 1, 1) := dk_4 (dk_at dksJ6_equals_0 5 rfl rfl)
theorem dJ6_equals_6 : decode cJ6_equals 6 = .ok (.ireturn, 1) := dk_172 (dk_at dksJ6_equals_0 6 rfl rfl)
theorem dJ6_equals_7 : decode cJ6_equals 7 = .ok (.aload_n 1, 1) := dk_43 (dk_at dksJ6_equals_0 7 rfl rfl)
theorem dJ6_equals_8 : decode cJ6_equals 8 = .ok (.instanceof 10, 3) := dk_193 0 10 (dk_at dksJ6_equals_0 8 rfl rfl)
theorem dJ6_equals_11 : decode cJ6_equals 11 = .ok (.ifCond .eq 43, 3) := dk_153 0 43 (dk_at dksJ6_equals_0 11 rfl rfl)
theorem dJ6_equals_14 : decode cJ6_equals 14 = .ok (.aload_n 1, 1) := dk_43 (dk_at dksJ6_equals_0 14 rfl rfl)
theorem dJ6_equals_15 : decode cJ6_equals 15 = .ok (.checkcast 10, 3) := dk_192 0 10 (dk_at dksJ6_equals_0 15 rfl rfl)
theorem dJ6_equals_18 : decode cJ6_equals 18 = .ok (.astore_n 2, 1) := dk_77 (dk_at dksJ6_equals_0 18 rfl rfl)
theorem dJ6_equals_19 : decode cJ6_equals 19 = .ok (.getstatic 38, 3) := dk_178 0 38 (dk_at dksJ6_equals_0 19 rfl rfl)
theorem dJ6_equals_22 : decode cJ6_equals 22 = .ok (.ifCond .eq 14, 3) := dk_153 0 14 (dk_at dksJ6_equals_1 0 rfl rfl)
theorem dJ6_equals_25 : decode cJ6_equals 25 = .ok (.aload_n 0, 1) := dk_42 (dk_at dksJ6_equals_1 3 rfl rfl)
theorem dJ6_equals_26 : decode cJ6_equals 26 = .ok (.getfield 15, 3) := dk_180 0 15 (dk_at dksJ6_equals_1 4 rfl rfl)
theorem dJ6_equals_29 : decode cJ6_equals 29 = .ok (.aload_n 2, 1) := dk_44 (dk_at dksJ6_equals_1 7 rfl rfl)
theorem dJ6_equals_30 : decode cJ6_equals 30 = .ok (.getfield 15, 3) := dk_180 0 15 (dk_at dksJ6_equals_1 8 rfl rfl)
theorem dJ6_equals_33 : decode cJ6_equals 33 = .ok (.if_icmp .ne 21, 3) := dk_160 0 21 (dk_at dksJ6_equals_1 11 rfl rfl)
theorem dJ6_equals_36 : decode cJ6_equals 36 = .ok (.aload_n 0, 1) := dk_42 (dk_at dksJ6_equals_1 14 rfl rfl)
theorem dJ6_equals_37 : decode cJ6_equals 37 = .ok (.getfield 9, 3) := dk_180 0 9 (dk_at dksJ6_equals_1 15 rfl rfl)
theorem dJ6_equals_40 : decode cJ6_equals 40 = .ok (.aload_n 2, 1) := dk_44 (dk_at dksJ6_equals_1 18 rfl rfl)
theorem dJ6_equals_41 : decode cJ6_equals 41 = .ok (.getfield 9, 3) := dk_180 0 9 (dk_at dksJ6_equals_1 19 rfl rfl)
theorem dJ6_equals_44 : decode cJ6_equals 44 = .ok (.invokestatic 541, 3) := dk_184 2 29 (dk_at dksJ6_equals_2 0 rfl rfl)
theorem dJ6_equals_47 : decode cJ6_equals 47 = .ok (.ifCond .eq 7, 3) := dk_153 0 7 (dk_at dksJ6_equals_2 3 rfl rfl)
theorem dJ6_equals_50 : decode cJ6_equals 50 = .ok (.iconst 1, 1) := dk_4 (dk_at dksJ6_equals_2 6 rfl rfl)
theorem dJ6_equals_51 : decode cJ6_equals 51 = .ok (.goto 4, 3) := dk_167 0 4 (dk_at dksJ6_equals_2 7 rfl rfl)
theorem dJ6_equals_54 : decode cJ6_equals 54 = .ok (.iconst 0, 1) := dk_3 (dk_at dksJ6_equals_2 10 rfl rfl)
theorem dJ6_equals_55 : decode cJ6_equals 55 = .ok (.ireturn, 1) := dk_172 (dk_at dksJ6_equals_2 11 rfl rfl)
theorem q71 : (Jvm.Cond.initialized "java/lang/String") ∈ lw_all := lw_g (lw_at lw_m1 10 rfl) rfl
theorem q224 : (Jvm.Cond.laysStatic "java/lang/String" "COMPACT_STRINGS" "Z") ∈ lw_tbl := lw_at lw_m1 163 rfl
theorem q235 : (Jvm.Cond.fieldLink "java/lang/String" (1048 : Nat) "java/lang/AbstractStringBuilder" "maybeLatin1" "Z") ∈ lw_all := lw_g (lw_at lw_m1 174 rfl) rfl
theorem q521 : (Jvm.Cond.selects "java/lang/String" ({ cls := "java/lang/Object", name := "getClass", desc := "()Ljava/lang/Class;" } : Jvm.MethodName) ({ cls := "java/lang/Object", name := "getClass", desc := "()Ljava/lang/Class;" } : Jvm.MethodName)) ∈ lw_all := lw_g (lw_at lw_m2 220 rfl) rfl
theorem q629 : (Jvm.Cond.static ({ cls := "java/lang/String", name := "checkBoundsBeginEnd", desc := "(III)V" } : Jvm.MethodName)) ∈ lw_all := lw_g (lw_at lw_m3 88 rfl) rfl
theorem q630 : (Jvm.Cond.code ({ cls := "java/lang/String", name := "checkBoundsBeginEnd", desc := "(III)V" } : Jvm.MethodName) prog_33_method_158_code (3 : Nat) (Option.none : Option Jvm.ClassFile.FieldType)) ∈ lw_all := lw_g (lw_at lw_m3 89 rfl) rfl
theorem q631 : (Jvm.Cond.fieldLink "java/lang/String" (1053 : Nat) "jdk/internal/util/Preconditions" "SIOOBE_FORMATTER" "Ljava/util/function/BiFunction;") ∈ lw_all := lw_g (lw_at lw_m3 90 rfl) rfl
theorem q633 : (Jvm.Cond.methodLink "java/lang/String" (1062 : Nat) ({ cls := "jdk/internal/util/Preconditions", name := "checkFromToIndex", desc := "(IIILjava/util/function/BiFunction;)I" } : Jvm.MethodName)) ∈ lw_all := lw_g (lw_at lw_m3 92 rfl) rfl
theorem q666 : (Jvm.Cond.instanceMethod ({ cls := "java/lang/String", name := "length", desc := "()I" } : Jvm.MethodName)) ∈ lw_all := lw_g (lw_at lw_m3 125 rfl) rfl
theorem q667 : (Jvm.Cond.selects "java/lang/String" ({ cls := "java/lang/String", name := "length", desc := "()I" } : Jvm.MethodName) ({ cls := "java/lang/String", name := "length", desc := "()I" } : Jvm.MethodName)) ∈ lw_all := lw_g (lw_at lw_m3 126 rfl) rfl
theorem q668 : (Jvm.Cond.code ({ cls := "java/lang/String", name := "length", desc := "()I" } : Jvm.MethodName) prog_33_method_54_code (1 : Nat) (Option.some Jvm.ClassFile.FieldType.int)) ∈ lw_all := lw_g (lw_at lw_m3 127 rfl) rfl
theorem q669 : (Jvm.Cond.methodLink "java/lang/String" (335 : Nat) ({ cls := "java/lang/String", name := "coder", desc := "()B" } : Jvm.MethodName)) ∈ lw_all := lw_g (lw_at lw_m3 128 rfl) rfl
theorem q670 : (Jvm.Cond.instanceMethod ({ cls := "java/lang/String", name := "coder", desc := "()B" } : Jvm.MethodName)) ∈ lw_all := lw_g (lw_at lw_m3 129 rfl) rfl
theorem q671 : (Jvm.Cond.selects "java/lang/String" ({ cls := "java/lang/String", name := "coder", desc := "()B" } : Jvm.MethodName) ({ cls := "java/lang/String", name := "coder", desc := "()B" } : Jvm.MethodName)) ∈ lw_all := lw_g (lw_at lw_m3 130 rfl) rfl
theorem q672 : (Jvm.Cond.code ({ cls := "java/lang/String", name := "coder", desc := "()B" } : Jvm.MethodName) prog_33_method_152_code (1 : Nat) (Option.some Jvm.ClassFile.FieldType.byte)) ∈ lw_all := lw_g (lw_at lw_m3 131 rfl) rfl
theorem q673 : (Jvm.Cond.fieldLink "java/lang/String" (38 : Nat) "java/lang/String" "COMPACT_STRINGS" "Z") ∈ lw_all := lw_g (lw_at lw_m3 132 rfl) rfl
theorem q697 : (Jvm.Cond.static ({ cls := "java/lang/String", name := "checkBoundsOffCount", desc := "(III)I" } : Jvm.MethodName)) ∈ lw_all := lw_g (lw_at lw_m3 156 rfl) rfl
theorem q698 : (Jvm.Cond.code ({ cls := "java/lang/String", name := "checkBoundsOffCount", desc := "(III)I" } : Jvm.MethodName) prog_33_method_157_code (3 : Nat) (Option.some Jvm.ClassFile.FieldType.int)) ∈ lw_all := lw_g (lw_at lw_m3 157 rfl) rfl
theorem q699 : (Jvm.Cond.methodLink "java/lang/String" (1065 : Nat) ({ cls := "jdk/internal/util/Preconditions", name := "checkFromIndexSize", desc := "(IIILjava/util/function/BiFunction;)I" } : Jvm.MethodName)) ∈ lw_all := lw_g (lw_at lw_m3 158 rfl) rfl
theorem q703 : (Jvm.Cond.instanceMethod ({ cls := "java/lang/String", name := "getBytes", desc := "([BIB)V" } : Jvm.MethodName)) ∈ lw_all := lw_g (lw_at lw_m3 162 rfl) rfl
theorem q704 : (Jvm.Cond.selects "java/lang/String" ({ cls := "java/lang/String", name := "getBytes", desc := "([BIB)V" } : Jvm.MethodName) ({ cls := "java/lang/String", name := "getBytes", desc := "([BIB)V" } : Jvm.MethodName)) ∈ lw_all := lw_g (lw_at lw_m3 163 rfl) rfl
theorem q705 : (Jvm.Cond.code ({ cls := "java/lang/String", name := "getBytes", desc := "([BIB)V" } : Jvm.MethodName) prog_33_method_147_code (4 : Nat) (Option.none : Option Jvm.ClassFile.FieldType)) ∈ lw_all := lw_g (lw_at lw_m3 164 rfl) rfl
theorem q706 : (Jvm.Cond.methodLink "java/lang/String" (212 : Nat) ({ cls := "java/lang/System", name := "arraycopy", desc := "(Ljava/lang/Object;ILjava/lang/Object;II)V" } : Jvm.MethodName)) ∈ lw_all := lw_g (lw_at lw_m3 165 rfl) rfl
theorem q707 : (Jvm.Cond.methodLink "java/lang/String" (106 : Nat) ({ cls := "java/lang/StringLatin1", name := "inflate", desc := "([BI[BII)V" } : Jvm.MethodName)) ∈ lw_all := lw_g (lw_at lw_m3 166 rfl) rfl
theorem q713 : (Jvm.Cond.instantiable "java/lang/String" (4 : Nat)) ∈ lw_all := lw_g (lw_at lw_m3 172 rfl) rfl
theorem q715 : (Jvm.Cond.instanceMethod ({ cls := "java/lang/String", name := "<init>", desc := "(Ljava/lang/StringBuilder;)V" } : Jvm.MethodName)) ∈ lw_all := lw_g (lw_at lw_m3 174 rfl) rfl
theorem q716 : (Jvm.Cond.code ({ cls := "java/lang/String", name := "<init>", desc := "(Ljava/lang/StringBuilder;)V" } : Jvm.MethodName) prog_33_method_53_code (2 : Nat) (Option.none : Option Jvm.ClassFile.FieldType)) ∈ lw_all := lw_g (lw_at lw_m3 175 rfl) rfl
theorem q717 : (Jvm.Cond.methodLink "java/lang/String" (489 : Nat) ({ cls := "java/lang/String", name := "<init>", desc := "(Ljava/lang/AbstractStringBuilder;Ljava/lang/Void;)V" } : Jvm.MethodName)) ∈ lw_all := lw_g (lw_at lw_m3 176 rfl) rfl
theorem q718 : (Jvm.Cond.instanceMethod ({ cls := "java/lang/String", name := "<init>", desc := "(Ljava/lang/AbstractStringBuilder;Ljava/lang/Void;)V" } : Jvm.MethodName)) ∈ lw_all := lw_g (lw_at lw_m3 177 rfl) rfl
theorem q719 : (Jvm.Cond.code ({ cls := "java/lang/String", name := "<init>", desc := "(Ljava/lang/AbstractStringBuilder;Ljava/lang/Void;)V" } : Jvm.MethodName) prog_33_method_150_code (5 : Nat) (Option.none : Option Jvm.ClassFile.FieldType)) ∈ lw_all := lw_g (lw_at lw_m3 178 rfl) rfl
theorem q720 : (Jvm.Cond.methodLink "java/lang/String" (1 : Nat) ({ cls := "java/lang/Object", name := "<init>", desc := "()V" } : Jvm.MethodName)) ∈ lw_all := lw_g (lw_at lw_m3 179 rfl) rfl
theorem q721 : (Jvm.Cond.methodLink "java/lang/String" (552 : Nat) ({ cls := "java/lang/AbstractStringBuilder", name := "getValue", desc := "()[B" } : Jvm.MethodName)) ∈ lw_all := lw_g (lw_at lw_m3 180 rfl) rfl
theorem q726 : (Jvm.Cond.methodLink "java/lang/String" (549 : Nat) ({ cls := "java/lang/AbstractStringBuilder", name := "length", desc := "()I" } : Jvm.MethodName)) ∈ lw_all := lw_g (lw_at lw_m3 185 rfl) rfl
theorem q734 : (Jvm.Cond.methodLink "java/lang/String" (1047 : Nat) ({ cls := "java/lang/AbstractStringBuilder", name := "isLatin1", desc := "()Z" } : Jvm.MethodName)) ∈ lw_all := lw_g (lw_at lw_m3 193 rfl) rfl
theorem q735 : (Jvm.Cond.methodLink "java/lang/String" (54 : Nat) ({ cls := "java/util/Arrays", name := "copyOfRange", desc := "([BII)[B" } : Jvm.MethodName)) ∈ lw_all := lw_g (lw_at lw_m3 194 rfl) rfl
theorem q758 : (Jvm.Cond.methodLink "java/lang/String" (1051 : Nat) ({ cls := "java/lang/StringUTF16", name := "compress", desc := "([BII)[B" } : Jvm.MethodName)) ∈ lw_all := lw_g (lw_at lw_m3 217 rfl) rfl
theorem q768 : (Jvm.Cond.methodLink "java/lang/String" (47 : Nat) ({ cls := "java/lang/StringUTF16", name := "coderFromArrayLen", desc := "([BI)B" } : Jvm.MethodName)) ∈ lw_all := lw_g (lw_at lw_m3 227 rfl) rfl
theorem q771 : (Jvm.Cond.fieldLink "java/lang/String" (9 : Nat) "java/lang/String" "value" "[B") ∈ lw_all := lw_g (lw_at lw_m3 230 rfl) rfl
theorem q772 : (Jvm.Cond.fieldLink "java/lang/String" (15 : Nat) "java/lang/String" "coder" "B") ∈ lw_all := lw_g (lw_at lw_m3 231 rfl) rfl
theorem q773 : (Jvm.Cond.fieldLink "java/lang/String" (19 : Nat) "java/lang/String" "hash" "I") ∈ lw_all := lw_g (lw_at lw_m3 232 rfl) rfl
theorem q774 : (Jvm.Cond.fieldLink "java/lang/String" (23 : Nat) "java/lang/String" "hashIsZero" "Z") ∈ lw_all := lw_g (lw_at lw_m3 233 rfl) rfl
theorem q775 : (Jvm.Cond.laysFinal "java/lang/String" "java/lang/String" "value" "[B") ∈ lw_all := lw_g (lw_at lw_m3 234 rfl) rfl
theorem q776 : (Jvm.Cond.soleField "java/lang/String" "value") ∈ lw_all := lw_g (lw_at lw_m3 235 rfl) rfl
theorem q777 : (Jvm.Cond.laysFinal "java/lang/String" "java/lang/String" "coder" "B") ∈ lw_all := lw_g (lw_at lw_m3 236 rfl) rfl
theorem q778 : (Jvm.Cond.soleField "java/lang/String" "coder") ∈ lw_all := lw_g (lw_at lw_m3 237 rfl) rfl
theorem q779 : (Jvm.Cond.lays "java/lang/String" "java/lang/String" "hash" "I") ∈ lw_all := lw_g (lw_at lw_m3 238 rfl) rfl
theorem q780 : (Jvm.Cond.soleField "java/lang/String" "hash") ∈ lw_all := lw_g (lw_at lw_m3 239 rfl) rfl
theorem q781 : (Jvm.Cond.lays "java/lang/String" "java/lang/String" "hashIsZero" "Z") ∈ lw_all := lw_g (lw_at lw_m4 0 rfl) rfl
theorem q782 : (Jvm.Cond.soleField "java/lang/String" "hashIsZero") ∈ lw_all := lw_g (lw_at lw_m4 1 rfl) rfl
theorem q783 : (Jvm.Cond.superclass "java/lang/String" "java/lang/Object") ∈ lw_all := lw_g (lw_at lw_m4 2 rfl) rfl
theorem q1481 : (Jvm.Cond.instanceMethod ({ cls := "java/lang/String", name := "charAt", desc := "(I)C" } : Jvm.MethodName)) ∈ lw_all := lw_g (lw_at lw_m6 220 rfl) rfl
theorem q1482 : (Jvm.Cond.selects "java/lang/String" ({ cls := "java/lang/String", name := "charAt", desc := "(I)C" } : Jvm.MethodName) ({ cls := "java/lang/String", name := "charAt", desc := "(I)C" } : Jvm.MethodName)) ∈ lw_all := lw_g (lw_at lw_m6 221 rfl) rfl
theorem q1483 : (Jvm.Cond.code ({ cls := "java/lang/String", name := "charAt", desc := "(I)C" } : Jvm.MethodName) prog_33_method_56_code (2 : Nat) (Option.some Jvm.ClassFile.FieldType.char)) ∈ lw_all := lw_g (lw_at lw_m6 222 rfl) rfl
theorem q1484 : (Jvm.Cond.methodLink "java/lang/String" (492 : Nat) ({ cls := "java/lang/String", name := "isLatin1", desc := "()Z" } : Jvm.MethodName)) ∈ lw_all := lw_g (lw_at lw_m6 223 rfl) rfl
theorem q1485 : (Jvm.Cond.instanceMethod ({ cls := "java/lang/String", name := "isLatin1", desc := "()Z" } : Jvm.MethodName)) ∈ lw_all := lw_g (lw_at lw_m6 224 rfl) rfl
theorem q1486 : (Jvm.Cond.selects "java/lang/String" ({ cls := "java/lang/String", name := "isLatin1", desc := "()Z" } : Jvm.MethodName) ({ cls := "java/lang/String", name := "isLatin1", desc := "()Z" } : Jvm.MethodName)) ∈ lw_all := lw_g (lw_at lw_m6 225 rfl) rfl
theorem q1487 : (Jvm.Cond.code ({ cls := "java/lang/String", name := "isLatin1", desc := "()Z" } : Jvm.MethodName) prog_33_method_154_code (1 : Nat) (Option.some Jvm.ClassFile.FieldType.boolean)) ∈ lw_all := lw_g (lw_at lw_m6 226 rfl) rfl
theorem q1488 : (Jvm.Cond.methodLink "java/lang/String" (495 : Nat) ({ cls := "java/lang/StringLatin1", name := "charAt", desc := "([BI)C" } : Jvm.MethodName)) ∈ lw_all := lw_g (lw_at lw_m6 227 rfl) rfl
theorem q1492 : (Jvm.Cond.static ({ cls := "java/lang/String", name := "checkIndex", desc := "(II)V" } : Jvm.MethodName)) ∈ lw_all := lw_g (lw_at lw_m6 231 rfl) rfl
theorem q1493 : (Jvm.Cond.code ({ cls := "java/lang/String", name := "checkIndex", desc := "(II)V" } : Jvm.MethodName) prog_33_method_155_code (2 : Nat) (Option.none : Option Jvm.ClassFile.FieldType)) ∈ lw_all := lw_g (lw_at lw_m6 232 rfl) rfl
theorem q1494 : (Jvm.Cond.methodLink "java/lang/String" (1059 : Nat) ({ cls := "jdk/internal/util/Preconditions", name := "checkIndex", desc := "(IILjava/util/function/BiFunction;)I" } : Jvm.MethodName)) ∈ lw_all := lw_g (lw_at lw_m6 233 rfl) rfl
theorem q1495 : (Jvm.Cond.methodLink "java/lang/String" (498 : Nat) ({ cls := "java/lang/StringUTF16", name := "charAt", desc := "([BI)C" } : Jvm.MethodName)) ∈ lw_all := lw_g (lw_at lw_m6 234 rfl) rfl
theorem q1576 : (Jvm.Cond.instanceMethod ({ cls := "java/lang/String", name := "hashCode", desc := "()I" } : Jvm.MethodName)) ∈ lw_all := lw_g (lw_at lw_m7 75 rfl) rfl
theorem q1577 : (Jvm.Cond.selects "java/lang/String" ({ cls := "java/lang/String", name := "hashCode", desc := "()I" } : Jvm.MethodName) ({ cls := "java/lang/String", name := "hashCode", desc := "()I" } : Jvm.MethodName)) ∈ lw_all := lw_g (lw_at lw_m7 76 rfl) rfl
theorem q1578 : (Jvm.Cond.code ({ cls := "java/lang/String", name := "hashCode", desc := "()I" } : Jvm.MethodName) prog_33_method_78_code (2 : Nat) (Option.some Jvm.ClassFile.FieldType.int)) ∈ lw_all := lw_g (lw_at lw_m7 77 rfl) rfl
theorem q1579 : (Jvm.Cond.methodLink "java/lang/String" (628 : Nat) ({ cls := "java/lang/StringLatin1", name := "hashCode", desc := "([B)I" } : Jvm.MethodName)) ∈ lw_all := lw_g (lw_at lw_m7 78 rfl) rfl
theorem q1628 : (Jvm.Cond.methodLink "java/lang/String" (632 : Nat) ({ cls := "java/lang/StringUTF16", name := "hashCode", desc := "([B)I" } : Jvm.MethodName)) ∈ lw_all := lw_g (lw_at lw_m7 127 rfl) rfl
theorem q1634 : (Jvm.Cond.instanceMethod ({ cls := "java/lang/String", name := "equals", desc := "(Ljava/lang/Object;)Z" } : Jvm.MethodName)) ∈ lw_all := lw_g (lw_at lw_m7 133 rfl) rfl
theorem q1635 : (Jvm.Cond.selects "java/lang/String" ({ cls := "java/lang/String", name := "equals", desc := "(Ljava/lang/Object;)Z" } : Jvm.MethodName) ({ cls := "java/lang/String", name := "equals", desc := "(Ljava/lang/Object;)Z" } : Jvm.MethodName)) ∈ lw_all := lw_g (lw_at lw_m7 134 rfl) rfl
theorem q1636 : (Jvm.Cond.code ({ cls := "java/lang/String", name := "equals", desc := "(Ljava/lang/Object;)Z" } : Jvm.MethodName) prog_33_method_66_code (3 : Nat) (Option.some Jvm.ClassFile.FieldType.boolean)) ∈ lw_all := lw_g (lw_at lw_m7 135 rfl) rfl
theorem q1637 : (Jvm.Cond.classLink "java/lang/String" (10 : Nat) "java/lang/String") ∈ lw_all := lw_g (lw_at lw_m7 136 rfl) rfl
theorem q1638 : (Jvm.Cond.methodLink "java/lang/String" (541 : Nat) ({ cls := "java/lang/StringLatin1", name := "equals", desc := "([B[B)Z" } : Jvm.MethodName)) ∈ lw_all := lw_g (lw_at lw_m7 137 rfl) rfl
theorem q2236 : (Jvm.Cond.castable "java/lang/String" "java/lang/Object") ∈ lw_tbl := lw_at lw_m10 15 rfl
theorem in_J6 : ∀ w ∈ wsJ60, w ∈ lw_all := lw_in wsJ60 [775, 777, 779, 781] (by decide +kernel) (by decide +kernel)
/-! java/lang/StringUTF16 -/
set_option maxRecDepth 100000
def RJ7 : String := "java/lang/StringUTF16"
abbrev cJ7_newBytesFor : ByteArray := prog_37_method_2_code
def yJ7_newBytesFor : MethodName := ⟨RJ7, "newBytesFor", "(I)[B"⟩
def dkwJ7_newBytesFor_0 : List UInt8 := [26, 184, 0, 11, 188, 8, 176]
abbrev dktJ7_newBytesFor_0 : List UInt8 := dkwJ7_newBytesFor_0 ++ []
theorem dksJ7_newBytesFor_0 : cJ7_newBytesFor.data.toList.drop 0 = dktJ7_newBytesFor_0 := by decide +kernel
theorem dJ7_newBytesFor_0 : decode cJ7_newBytesFor 0 = .ok (.iload_n 0, 1) := dk_26 (dk_at dksJ7_newBytesFor_0 0 rfl rfl)
theorem dJ7_newBytesFor_1 : decode cJ7_newBytesFor 1 = .ok (.invokestatic 11, 3) := dk_184 0 11 (dk_at dksJ7_newBytesFor_0 1 rfl rfl)
theorem dJ7_newBytesFor_4 : decode cJ7_newBytesFor 4 = .ok (.newarray .byte, 2) := dk_188_8 (dk_at dksJ7_newBytesFor_0 4 rfl rfl)
theorem dJ7_newBytesFor_6 : decode cJ7_newBytesFor 6 = .ok (.areturn, 1) := dk_176 (dk_at dksJ7_newBytesFor_0 6 rfl rfl)
abbrev cJ7_newBytesLength : ByteArray := prog_37_method_3_code
def yJ7_newBytesLength : MethodName := ⟨RJ7, "newBytesLength", "(I)I"⟩
def dkwJ7_newBytesLength_2 : List UInt8 := [182, 0, 32, 182, 0, 37, 183, 0, 41, 191, 26, 4, 120, 172]
abbrev dktJ7_newBytesLength_2 : List UInt8 := dkwJ7_newBytesLength_2 ++ []
def dkwJ7_newBytesLength_1 : List UInt8 := [187, 0, 23, 89, 183, 0, 25, 18, 26, 182, 0, 28, 26, 182, 0, 32, 18, 35, 182, 0, 28, 18, 20]
abbrev dktJ7_newBytesLength_1 : List UInt8 := dkwJ7_newBytesLength_1 ++ dktJ7_newBytesLength_2
def dkwJ7_newBytesLength_0 : List UInt8 := [26, 156, 0, 11, 187, 0, 17, 89, 183, 0, 19, 191, 26, 18, 20, 161, 0, 40, 187, 0, 21, 89]
abbrev dktJ7_newBytesLength_0 : List UInt8 := dkwJ7_newBytesLength_0 ++ dktJ7_newBytesLength_1
theorem dksJ7_newBytesLength_0 : cJ7_newBytesLength.data.toList.drop 0 = dktJ7_newBytesLength_0 := by decide +kernel
theorem dksJ7_newBytesLength_1 : cJ7_newBytesLength.data.toList.drop 22 = dktJ7_newBytesLength_1 := dk_seg dksJ7_newBytesLength_0 22 rfl rfl
theorem dksJ7_newBytesLength_2 : cJ7_newBytesLength.data.toList.drop 45 = dktJ7_newBytesLength_2 := dk_seg dksJ7_newBytesLength_1 23 rfl rfl
theorem dJ7_newBytesLength_0 : decode cJ7_newBytesLength 0 = .ok (.iload_n 0, 1) := dk_26 (dk_at dksJ7_newBytesLength_0 0 rfl rfl)
theorem dJ7_newBytesLength_1 : decode cJ7_newBytesLength 1 = .ok (.ifCond .ge 11, 3) := dk_156 0 11 (dk_at dksJ7_newBytesLength_0 1 rfl rfl)
theorem dJ7_newBytesLength_4 : decode cJ7_newBytesLength 4 = .ok (.new 17, 3) := dk_187 0 17 (dk_at dksJ7_newBytesLength_0 4 rfl rfl)
theorem dJ7_newBytesLength_7 : decode cJ7_newBytesLength 7 = .ok (.dup, 1) := dk_89 (dk_at dksJ7_newBytesLength_0 7 rfl rfl)
theorem dJ7_newBytesLength_8 : decode cJ7_newBytesLength 8 = .ok (.invokespecial 19, 3) := dk_183 0 19 (dk_at dksJ7_newBytesLength_0 8 rfl rfl)
theorem dJ7_newBytesLength_11 : decode cJ7_newBytesLength 11 = .ok (.athrow, 1) := dk_191 (dk_at dksJ7_newBytesLength_0 11 rfl rfl)
theorem dJ7_newBytesLength_12 : decode cJ7_newBytesLength 12 = .ok (.iload_n 0, 1) := dk_26 (dk_at dksJ7_newBytesLength_0 12 rfl rfl)
theorem dJ7_newBytesLength_13 : decode cJ7_newBytesLength 13 = .ok (.ldc 20, 2) := dk_18 20 (dk_at dksJ7_newBytesLength_0 13 rfl rfl)
theorem dJ7_newBytesLength_15 : decode cJ7_newBytesLength 15 = .ok (.if_icmp .lt 40, 3) := dk_161 0 40 (dk_at dksJ7_newBytesLength_0 15 rfl rfl)
theorem dJ7_newBytesLength_18 : decode cJ7_newBytesLength 18 = .ok (.new 21, 3) := dk_187 0 21 (dk_at dksJ7_newBytesLength_0 18 rfl rfl)
theorem dJ7_newBytesLength_21 : decode cJ7_newBytesLength 21 = .ok (.dup, 1) := dk_89 (dk_at dksJ7_newBytesLength_0 21 rfl rfl)
theorem dJ7_newBytesLength_22 : decode cJ7_newBytesLength 22 = .ok (.new 23, 3) := dk_187 0 23 (dk_at dksJ7_newBytesLength_1 0 rfl rfl)
theorem dJ7_newBytesLength_25 : decode cJ7_newBytesLength 25 = .ok (.dup, 1) := dk_89 (dk_at dksJ7_newBytesLength_1 3 rfl rfl)
theorem dJ7_newBytesLength_26 : decode cJ7_newBytesLength 26 = .ok (.invokespecial 25, 3) := dk_183 0 25 (dk_at dksJ7_newBytesLength_1 4 rfl rfl)
theorem dJ7_newBytesLength_29 : decode cJ7_newBytesLength 29 = .ok (.ldc 26, 2) := dk_18 26 (dk_at dksJ7_newBytesLength_1 7 rfl rfl)
theorem dJ7_newBytesLength_31 : decode cJ7_newBytesLength 31 = .ok (.invokevirtual 28, 3) := dk_182 0 28 (dk_at dksJ7_newBytesLength_1 9 rfl rfl)
theorem dJ7_newBytesLength_34 : decode cJ7_newBytesLength 34 = .ok (.iload_n 0, 1) := dk_26 (dk_at dksJ7_newBytesLength_1 12 rfl rfl)
theorem dJ7_newBytesLength_35 : decode cJ7_newBytesLength 35 = .ok (.invokevirtual 32, 3) := dk_182 0 32 (dk_at dksJ7_newBytesLength_1 13 rfl rfl)
theorem dJ7_newBytesLength_38 : decode cJ7_newBytesLength 38 = .ok (.ldc 35, 2) := dk_18 35 (dk_at dksJ7_newBytesLength_1 16 rfl rfl)
theorem dJ7_newBytesLength_40 : decode cJ7_newBytesLength 40 = .ok (.invokevirtual 28, 3) := dk_182 0 28 (dk_at dksJ7_newBytesLength_1 18 rfl rfl)
theorem dJ7_newBytesLength_43 : decode cJ7_newBytesLength 43 = .ok (.ldc 20, 2) := dk_18 20 (dk_at dksJ7_newBytesLength_1 21 rfl rfl)
theorem dJ7_newBytesLength_45 : decode cJ7_newBytesLength 45 = .ok (.invokevirtual 32, 3) := dk_182 0 32 (dk_at dksJ7_newBytesLength_2 0 rfl rfl)
theorem dJ7_newBytesLength_48 : decode cJ7_newBytesLength 48 = .ok (.invokevirtual 37, 3) := dk_182 0 37 (dk_at dksJ7_newBytesLength_2 3 rfl rfl)
theorem dJ7_newBytesLength_51 : decode cJ7_newBytesLength 51 = .ok (.invokespecial 41, 3) := dk_183 0 41 (dk_at dksJ7_newBytesLength_2 6 rfl rfl)
theorem dJ7_newBytesLength_54 : decode cJ7_newBytesLength 54 = .ok (.athrow, 1) := dk_191 (dk_at dksJ7_newBytesLength_2 9 rfl rfl)
theorem dJ7_newBytesLength_55 : decode cJ7_newBytesLength 55 = .ok (.iload_n 0, 1) := dk_26 (dk_at dksJ7_newBytesLength_2 10 rfl rfl)
theorem dJ7_newBytesLength_56 : decode cJ7_newBytesLength 56 = .ok (.iconst 1, 1) := dk_4 (dk_at dksJ7_newBytesLength_2 11 rfl rfl)
theorem dJ7_newBytesLength_57 : decode cJ7_newBytesLength 57 = .ok (.ishl, 1) := dk_120 (dk_at dksJ7_newBytesLength_2 12 rfl rfl)
theorem dJ7_newBytesLength_58 : decode cJ7_newBytesLength 58 = .ok (.ireturn, 1) := dk_172 (dk_at dksJ7_newBytesLength_2 13 rfl rfl)
abbrev cJ7_getChars : ByteArray := prog_37_method_77_code
def yJ7_getChars : MethodName := ⟨RJ7, "getChars", "(III[B)I"⟩
def dkwJ7_getChars_1 : List UInt8 := [159, 0, 11, 187, 0, 52, 89, 183, 0, 66, 191, 21, 4, 172]
abbrev dktJ7_getChars_1 : List UInt8 := dkwJ7_getChars_1 ++ []
def dkwJ7_getChars_0 : List UInt8 := [27, 28, 45, 184, 0, 96, 26, 28, 45, 184, 1, 137, 54, 4, 178, 0, 44, 154, 0, 17, 27, 21, 4]
abbrev dktJ7_getChars_0 : List UInt8 := dkwJ7_getChars_0 ++ dktJ7_getChars_1
theorem dksJ7_getChars_0 : cJ7_getChars.data.toList.drop 0 = dktJ7_getChars_0 := by decide +kernel
theorem dksJ7_getChars_1 : cJ7_getChars.data.toList.drop 23 = dktJ7_getChars_1 := dk_seg dksJ7_getChars_0 23 rfl rfl
theorem dJ7_getChars_0 : decode cJ7_getChars 0 = .ok (.iload_n 1, 1) := dk_27 (dk_at dksJ7_getChars_0 0 rfl rfl)
theorem dJ7_getChars_1 : decode cJ7_getChars 1 = .ok (.iload_n 2, 1) := dk_28 (dk_at dksJ7_getChars_0 1 rfl rfl)
theorem dJ7_getChars_2 : decode cJ7_getChars 2 = .ok (.aload_n 3, 1) := dk_45 (dk_at dksJ7_getChars_0 2 rfl rfl)
theorem dJ7_getChars_3 : decode cJ7_getChars 3 = .ok (.invokestatic 96, 3) := dk_184 0 96 (dk_at dksJ7_getChars_0 3 rfl rfl)
theorem dJ7_getChars_6 : decode cJ7_getChars 6 = .ok (.iload_n 0, 1) := dk_26 (dk_at dksJ7_getChars_0 6 rfl rfl)
theorem dJ7_getChars_7 : decode cJ7_getChars 7 = .ok (.iload_n 2, 1) := dk_28 (dk_at dksJ7_getChars_0 7 rfl rfl)
theorem dJ7_getChars_8 : decode cJ7_getChars 8 = .ok (.aload_n 3, 1) := dk_45 (dk_at dksJ7_getChars_0 8 rfl rfl)
theorem dJ7_getChars_9 : decode cJ7_getChars 9 = .ok (.invokestatic 393, 3) := dk_184 1 137 (dk_at dksJ7_getChars_0 9 rfl rfl)
theorem dJ7_getChars_12 : decode cJ7_getChars 12 = .ok (.istore 4, 2) := dk_54 4 (dk_at dksJ7_getChars_0 12 rfl rfl)
theorem dJ7_getChars_14 : decode cJ7_getChars 14 = .ok (.getstatic 44, 3) := dk_178 0 44 (dk_at dksJ7_getChars_0 14 rfl rfl)
theorem dJ7_getChars_17 : decode cJ7_getChars 17 = .ok (.ifCond .ne 17, 3) := dk_154 0 17 (dk_at dksJ7_getChars_0 17 rfl rfl)
theorem dJ7_getChars_20 : decode cJ7_getChars 20 = .ok (.iload_n 1, 1) := dk_27 (dk_at dksJ7_getChars_0 20 rfl rfl)
theorem dJ7_getChars_21 : decode cJ7_getChars 21 = .ok (.iload 4, 2) := dk_21 4 (dk_at dksJ7_getChars_0 21 rfl rfl)
theorem dJ7_getChars_23 : decode cJ7_getChars 23 = .ok (.if_icmp .eq 11, 3) := dk_159 0 11 (dk_at dksJ7_getChars_1 0 rfl rfl)
theorem dJ7_getChars_26 : decode cJ7_getChars 26 = .ok (.new 52, 3) := dk_187 0 52 (dk_at dksJ7_getChars_1 3 rfl rfl)
theorem dJ7_getChars_29 : decode cJ7_getChars 29 = .ok (.dup, 1) := dk_89 (dk_at dksJ7_getChars_1 6 rfl rfl)
theorem dJ7_getChars_30 : decode cJ7_getChars 30 = .ok (.invokespecial 66, 3) := dk_183 0 66 (dk_at dksJ7_getChars_1 7 rfl rfl)
theorem dJ7_getChars_33 : decode cJ7_getChars 33 = .ok (.athrow, 1) := dk_191 (dk_at dksJ7_getChars_1 10 rfl rfl)
theorem dJ7_getChars_34 : decode cJ7_getChars 34 = .ok (.iload 4, 2) := dk_21 4 (dk_at dksJ7_getChars_1 11 rfl rfl)
theorem dJ7_getChars_36 : decode cJ7_getChars 36 = .ok (.ireturn, 1) := dk_172 (dk_at dksJ7_getChars_1 13 rfl rfl)
abbrev cJ7_checkBoundsBeginEnd : ByteArray := prog_37_method_93_code
def yJ7_checkBoundsBeginEnd : MethodName := ⟨RJ7, "checkBoundsBeginEnd", "(II[B)V"⟩
def dkwJ7_checkBoundsBeginEnd_0 : List UInt8 := [26, 27, 44, 184, 0, 48, 184, 0, 241, 177]
abbrev dktJ7_checkBoundsBeginEnd_0 : List UInt8 := dkwJ7_checkBoundsBeginEnd_0 ++ []
theorem dksJ7_checkBoundsBeginEnd_0 : cJ7_checkBoundsBeginEnd.data.toList.drop 0 = dktJ7_checkBoundsBeginEnd_0 := by decide +kernel
theorem dJ7_checkBoundsBeginEnd_0 : decode cJ7_checkBoundsBeginEnd 0 = .ok (.iload_n 0, 1) := dk_26 (dk_at dksJ7_checkBoundsBeginEnd_0 0 rfl rfl)
theorem dJ7_checkBoundsBeginEnd_1 : decode cJ7_checkBoundsBeginEnd 1 = .ok (.iload_n 1, 1) := dk_27 (dk_at dksJ7_checkBoundsBeginEnd_0 1 rfl rfl)
theorem dJ7_checkBoundsBeginEnd_2 : decode cJ7_checkBoundsBeginEnd 2 = .ok (.aload_n 2, 1) := dk_44 (dk_at dksJ7_checkBoundsBeginEnd_0 2 rfl rfl)
theorem dJ7_checkBoundsBeginEnd_3 : decode cJ7_checkBoundsBeginEnd 3 = .ok (.invokestatic 48, 3) := dk_184 0 48 (dk_at dksJ7_checkBoundsBeginEnd_0 3 rfl rfl)
theorem dJ7_checkBoundsBeginEnd_6 : decode cJ7_checkBoundsBeginEnd 6 = .ok (.invokestatic 241, 3) := dk_184 0 241 (dk_at dksJ7_checkBoundsBeginEnd_0 6 rfl rfl)
theorem dJ7_checkBoundsBeginEnd_9 : decode cJ7_checkBoundsBeginEnd 9 = .ok (.return_, 1) := dk_177 (dk_at dksJ7_checkBoundsBeginEnd_0 9 rfl rfl)
abbrev cJ7_length : ByteArray := prog_37_method_6_code
def yJ7_length : MethodName := ⟨RJ7, "length", "([B)I"⟩
def dkwJ7_length_0 : List UInt8 := [42, 190, 4, 122, 172]
abbrev dktJ7_length_0 : List UInt8 := dkwJ7_length_0 ++ []
theorem dksJ7_length_0 : cJ7_length.data.toList.drop 0 = dktJ7_length_0 := by decide +kernel
theorem dJ7_length_0 : decode cJ7_length 0 = .ok (.aload_n 0, 1) := dk_42 (dk_at dksJ7_length_0 0 rfl rfl)
theorem dJ7_length_1 : decode cJ7_length 1 = .ok (.arraylength, 1) := dk_190 (dk_at dksJ7_length_0 1 rfl rfl)
theorem dJ7_length_2 : decode cJ7_length 2 = .ok (.iconst 1, 1) := dk_4 (dk_at dksJ7_length_0 2 rfl rfl)
theorem dJ7_length_3 : decode cJ7_length 3 = .ok (.ishr, 1) := dk_122 (dk_at dksJ7_length_0 3 rfl rfl)
theorem dJ7_length_4 : decode cJ7_length 4 = .ok (.ireturn, 1) := dk_172 (dk_at dksJ7_length_0 4 rfl rfl)
abbrev cJ7_getChars_2 : ByteArray := prog_37_method_89_code
def yJ7_getChars_2 : MethodName := ⟨RJ7, "getChars", "(II[B)I"⟩
def dkwJ7_getChars_2_5 : List UInt8 := [132, 5, 255, 21, 5, 16, 45, 184, 0, 111, 21, 5, 172]
abbrev dktJ7_getChars_2_5 : List UInt8 := dkwJ7_getChars_2_5 ++ []
def dkwJ7_getChars_2_4 : List UInt8 := [162, 0, 18, 44, 132, 5, 255, 21, 5, 178, 1, 151, 26, 116, 51, 184, 0, 111, 21, 6, 153, 0, 14, 44]
abbrev dktJ7_getChars_2_4 : List UInt8 := dkwJ7_getChars_2_4 ++ dktJ7_getChars_2_5
def dkwJ7_getChars_2_3 : List UInt8 := [184, 0, 111, 167, 255, 205, 44, 132, 5, 255, 21, 5, 178, 1, 147, 26, 116, 51, 184, 0, 111, 26, 16, 247]
abbrev dktJ7_getChars_2_3 : List UInt8 := dkwJ7_getChars_2_3 ++ dktJ7_getChars_2_4
def dkwJ7_getChars_2_2 : List UInt8 := [21, 5, 178, 1, 147, 21, 4, 51, 184, 0, 111, 44, 132, 5, 255, 21, 5, 178, 1, 151, 21, 4, 51]
abbrev dktJ7_getChars_2_2 : List UInt8 := dkwJ7_getChars_2_2 ++ dktJ7_getChars_2_3
def dkwJ7_getChars_2_1 : List UInt8 := [16, 156, 163, 0, 51, 26, 16, 100, 108, 62, 29, 16, 100, 104, 26, 100, 54, 4, 29, 59, 44, 132, 5, 255]
abbrev dktJ7_getChars_2_1 : List UInt8 := dkwJ7_getChars_2_1 ++ dktJ7_getChars_2_2
def dkwJ7_getChars_2_0 : List UInt8 := [27, 54, 5, 26, 156, 0, 7, 4, 167, 0, 4, 3, 54, 6, 21, 6, 154, 0, 6, 26, 116, 59, 26]
abbrev dktJ7_getChars_2_0 : List UInt8 := dkwJ7_getChars_2_0 ++ dktJ7_getChars_2_1
theorem dksJ7_getChars_2_0 : cJ7_getChars_2.data.toList.drop 0 = dktJ7_getChars_2_0 := by decide +kernel
theorem dksJ7_getChars_2_1 : cJ7_getChars_2.data.toList.drop 23 = dktJ7_getChars_2_1 := dk_seg dksJ7_getChars_2_0 23 rfl rfl
theorem dksJ7_getChars_2_2 : cJ7_getChars_2.data.toList.drop 47 = dktJ7_getChars_2_2 := dk_seg dksJ7_getChars_2_1 24 rfl rfl
theorem dksJ7_getChars_2_3 : cJ7_getChars_2.data.toList.drop 70 = dktJ7_getChars_2_3 := dk_seg dksJ7_getChars_2_2 23 rfl rfl
theorem dksJ7_getChars_2_4 : cJ7_getChars_2.data.toList.drop 94 = dktJ7_getChars_2_4 := dk_seg dksJ7_getChars_2_3 24 rfl rfl
theorem dksJ7_getChars_2_5 : cJ7_getChars_2.data.toList.drop 118 = dktJ7_getChars_2_5 := dk_seg dksJ7_getChars_2_4 24 rfl rfl
theorem dJ7_getChars_2_0 : decode cJ7_getChars_2 0 = .ok (.iload_n 1, 1) := dk_27 (dk_at dksJ7_getChars_2_0 0 rfl rfl)
theorem dJ7_getChars_2_1 : decode cJ7_getChars_2 1 = .ok (.istore 5, 2) := dk_54 5 (dk_at dksJ7_getChars_2_0 1 rfl rfl)
theorem dJ7_getChars_2_3 : decode cJ7_getChars_2 3 = .ok (.iload_n 0, 1) := dk_26 (dk_at dksJ7_getChars_2_0 3 rfl rfl)
theorem dJ7_getChars_2_4 : decode cJ7_getChars_2 4 = .ok (.ifCond .ge 7, 3) := dk_156 0 7 (dk_at dksJ7_getChars_2_0 4 rfl rfl)
theorem dJ7_getChars_2_7 : decode cJ7_getChars_2 7 = .ok (.iconst 1, 1) := dk_4 (dk_at dksJ7_getChars_2_0 7 rfl rfl)
theorem dJ7_getChars_2_8 : decode cJ7_getChars_2 8 = .ok (.goto 4, 3) := dk_167 0 4 (dk_at dksJ7_getChars_2_0 8 rfl rfl)
theorem dJ7_getChars_2_11 : decode cJ7_getChars_2 11 = .ok (.iconst 0, 1) := dk_3 (dk_at dksJ7_getChars_2_0 11 rfl rfl)
theorem dJ7_getChars_2_12 : decode cJ7_getChars_2 12 = .ok (.istore 6, 2) := dk_54 6 (dk_at dksJ7_getChars_2_0 12 rfl rfl)
theorem dJ7_getChars_2_14 : decode cJ7_getChars_2 14 = .ok (.iload 6, 2) := dk_21 6 (dk_at dksJ7_getChars_2_0 14 rfl rfl)
theorem dJ7_getChars_2_16 : decode cJ7_getChars_2 16 = .ok (.ifCond .ne 6, 3) := dk_154 0 6 (dk_at dksJ7_getChars_2_0 16 rfl rfl)
theorem dJ7_getChars_2_19 : decode cJ7_getChars_2 19 = .ok (.iload_n 0, 1) := dk_26 (dk_at dksJ7_getChars_2_0 19 rfl rfl)
theorem dJ7_getChars_2_20 : decode cJ7_getChars_2 20 = .ok (.ineg, 1) := dk_116 (dk_at dksJ7_getChars_2_0 20 rfl rfl)
theorem dJ7_getChars_2_21 : decode cJ7_getChars_2 21 = .ok (.istore_n 0, 1) := dk_59 (dk_at dksJ7_getChars_2_0 21 rfl rfl)
theorem dJ7_getChars_2_22 : decode cJ7_getChars_2 22 = .ok (.iload_n 0, 1) := dk_26 (dk_at dksJ7_getChars_2_0 22 rfl rfl)
theorem dJ7_getChars_2_23 : decode cJ7_getChars_2 23 = .ok (.bipush (-100), 2) := dk_16 156 (dk_at dksJ7_getChars_2_1 0 rfl rfl)
theorem dJ7_getChars_2_25 : decode cJ7_getChars_2 25 = .ok (.if_icmp .gt 51, 3) := dk_163 0 51 (dk_at dksJ7_getChars_2_1 2 rfl rfl)
theorem dJ7_getChars_2_28 : decode cJ7_getChars_2 28 = .ok (.iload_n 0, 1) := dk_26 (dk_at dksJ7_getChars_2_1 5 rfl rfl)
theorem dJ7_getChars_2_29 : decode cJ7_getChars_2 29 = .ok (.bipush 100, 2) := dk_16 100 (dk_at dksJ7_getChars_2_1 6 rfl rfl)
theorem dJ7_getChars_2_31 : decode cJ7_getChars_2 31 = .ok (.idiv, 1) := dk_108 (dk_at dksJ7_getChars_2_1 8 rfl rfl)
theorem dJ7_getChars_2_32 : decode cJ7_getChars_2 32 = .ok (.istore_n 3, 1) := dk_62 (dk_at dksJ7_getChars_2_1 9 rfl rfl)
theorem dJ7_getChars_2_33 : decode cJ7_getChars_2 33 = .ok (.iload_n 3, 1) := dk_29 (dk_at dksJ7_getChars_2_1 10 rfl rfl)
theorem dJ7_getChars_2_34 : decode cJ7_getChars_2 34 = .ok (.bipush 100, 2) := dk_16 100 (dk_at dksJ7_getChars_2_1 11 rfl rfl)
theorem dJ7_getChars_2_36 : decode cJ7_getChars_2 36 = .ok (.imul, 1) := dk_104 (dk_at dksJ7_getChars_2_1 13 rfl rfl)
theorem dJ7_getChars_2_37 : decode cJ7_getChars_2 37 = .ok (.iload_n 0, 1) := dk_26 (dk_at dksJ7_getChars_2_1 14 rfl rfl)
theorem dJ7_getChars_2_38 : decode cJ7_getChars_2 38 = .ok (.isub, 1) := dk_100 (dk_at dksJ7_getChars_2_1 15 rfl rfl)
theorem dJ7_getChars_2_39 : decode cJ7_getChars_2 39 = .ok (.istore 4, 2) := dk_54 4 (dk_at dksJ7_getChars_2_1 16 rfl rfl)
theorem dJ7_getChars_2_41 : decode cJ7_getChars_2 41 = .ok (.iload_n 3, 1) := dk_29 (dk_at dksJ7_getChars_2_1 18 rfl rfl)
theorem dJ7_getChars_2_42 : decode cJ7_getChars_2 42 = .ok (.istore_n 0, 1) := dk_59 (dk_at dksJ7_getChars_2_1 19 rfl rfl)
theorem dJ7_getChars_2_43 : decode cJ7_getChars_2 43 = .ok (.aload_n 2, 1) := dk_44 (dk_at dksJ7_getChars_2_1 20 rfl rfl)
theorem dJ7_getChars_2_44 : decode cJ7_getChars_2 44 = .ok (.iinc 5 (-1), 3) := dk_132 5 255 (dk_at dksJ7_getChars_2_1 21 rfl rfl)
theorem dJ7_getChars_2_47 : decode cJ7_getChars_2 47 = .ok (.iload 5, 2) := dk_21 5 (dk_at dksJ7_getChars_2_2 0 rfl rfl)
theorem dJ7_getChars_2_49 : decode cJ7_getChars_2 49 = .ok (.getstatic 403, 3) := dk_178 1 147 (dk_at dksJ7_getChars_2_2 2 rfl rfl)
theorem dJ7_getChars_2_52 : decode cJ7_getChars_2 52 = .ok (.iload 4, 2) := dk_21 4 (dk_at dksJ7_getChars_2_2 5 rfl rfl)
theorem dJ7_getChars_2_54 : decode cJ7_getChars_2 54 = .ok (.baload, 1) := dk_51 (dk_at dksJ7_getChars_2_2 7 rfl rfl)
theorem dJ7_getChars_2_55 : decode cJ7_getChars_2 55 = .ok (.invokestatic 111, 3) := dk_184 0 111 (dk_at dksJ7_getChars_2_2 8 rfl rfl)
theorem dJ7_getChars_2_58 : decode cJ7_getChars_2 58 = .ok (.aload_n 2, 1) := dk_44 (dk_at dksJ7_getChars_2_2 11 rfl rfl)
theorem dJ7_getChars_2_59 : decode cJ7_getChars_2 59 = .ok (.iinc 5 (-1), 3) := dk_132 5 255 (dk_at dksJ7_getChars_2_2 12 rfl rfl)
theorem dJ7_getChars_2_62 : decode cJ7_getChars_2 62 = .ok (.iload 5, 2) := dk_21 5 (dk_at dksJ7_getChars_2_2 15 rfl rfl)
theorem dJ7_getChars_2_64 : decode cJ7_getChars_2 64 = .ok (.getstatic 407, 3) := dk_178 1 151 (dk_at dksJ7_getChars_2_2 17 rfl rfl)
theorem dJ7_getChars_2_67 : decode cJ7_getChars_2 67 = .ok (.iload 4, 2) := dk_21 4 (dk_at dksJ7_getChars_2_2 20 rfl rfl)
theorem dJ7_getChars_2_69 : decode cJ7_getChars_2 69 = .ok (.baload, 1) := dk_51 (dk_at dksJ7_getChars_2_2 22 rfl rfl)
theorem dJ7_getChars_2_70 : decode cJ7_getChars_2 70 = .ok (.invokestatic 111, 3) := dk_184 0 111 (dk_at dksJ7_getChars_2_3 0 rfl rfl)
theorem dJ7_getChars_2_73 : decode cJ7_getChars_2 73 = .ok (.goto (-51), 3) := dk_167 255 205 (dk_at dksJ7_getChars_2_3 3 rfl rfl)
theorem dJ7_getChars_2_76 : decode cJ7_getChars_2 76 = .ok (.aload_n 2, 1) := dk_44 (dk_at dksJ7_getChars_2_3 6 rfl rfl)
theorem dJ7_getChars_2_77 : decode cJ7_getChars_2 77 = .ok (.iinc 5 (-1), 3) := dk_132 5 255 (dk_at dksJ7_getChars_2_3 7 rfl rfl)
theorem dJ7_getChars_2_80 : decode cJ7_getChars_2 80 = .ok (.iload 5, 2) := dk_21 5 (dk_at dksJ7_getChars_2_3 10 rfl rfl)
theorem dJ7_getChars_2_82 : decode cJ7_getChars_2 82 = .ok (.getstatic 403, 3) := dk_178 1 147 (dk_at dksJ7_getChars_2_3 12 rfl rfl)
theorem dJ7_getChars_2_85 : decode cJ7_getChars_2 85 = .ok (.iload_n 0, 1) := dk_26 (dk_at dksJ7_getChars_2_3 15 rfl rfl)
theorem dJ7_getChars_2_86 : decode cJ7_getChars_2 86 = .ok (.ineg, 1) := dk_116 (dk_at dksJ7_getChars_2_3 16 rfl rfl)
theorem dJ7_getChars_2_87 : decode cJ7_getChars_2 87 = .ok (.baload, 1) := dk_51 (dk_at dksJ7_getChars_2_3 17 rfl rfl)
theorem dJ7_getChars_2_88 : decode cJ7_getChars_2 88 = .ok (.invokestatic 111, 3) := dk_184 0 111 (dk_at dksJ7_getChars_2_3 18 rfl rfl)
theorem dJ7_getChars_2_91 : decode cJ7_getChars_2 91 = .ok (.iload_n 0, 1) := dk_26 (dk_at dksJ7_getChars_2_3 21 rfl rfl)
theorem dJ7_getChars_2_92 : decode cJ7_getChars_2 92 = .ok (.bipush (-9), 2) := dk_16 247 (dk_at dksJ7_getChars_2_3 22 rfl rfl)
theorem dJ7_getChars_2_94 : decode cJ7_getChars_2 94 = .ok (.if_icmp .ge 18, 3) := dk_162 0 18 (dk_at dksJ7_getChars_2_4 0 rfl rfl)
theorem dJ7_getChars_2_97 : decode cJ7_getChars_2 97 = .ok (.aload_n 2, 1) := dk_44 (dk_at dksJ7_getChars_2_4 3 rfl rfl)
theorem dJ7_getChars_2_98 : decode cJ7_getChars_2 98 = .ok (.iinc 5 (-1), 3) := dk_132 5 255 (dk_at dksJ7_getChars_2_4 4 rfl rfl)
theorem dJ7_getChars_2_101 : decode cJ7_getChars_2 101 = .ok (.iload 5, 2) := dk_21 5 (dk_at dksJ7_getChars_2_4 7 rfl rfl)
theorem dJ7_getChars_2_103 : decode cJ7_getChars_2 103 = .ok (.getstatic 407, 3) := dk_178 1 151 (dk_at dksJ7_getChars_2_4 9 rfl rfl)
theorem dJ7_getChars_2_106 : decode cJ7_getChars_2 106 = .ok (.iload_n 0, 1) := dk_26 (dk_at dksJ7_getChars_2_4 12 rfl rfl)
theorem dJ7_getChars_2_107 : decode cJ7_getChars_2 107 = .ok (.ineg, 1) := dk_116 (dk_at dksJ7_getChars_2_4 13 rfl rfl)
theorem dJ7_getChars_2_108 : decode cJ7_getChars_2 108 = .ok (.baload, 1) := dk_51 (dk_at dksJ7_getChars_2_4 14 rfl rfl)
theorem dJ7_getChars_2_109 : decode cJ7_getChars_2 109 = .ok (.invokestatic 111, 3) := dk_184 0 111 (dk_at dksJ7_getChars_2_4 15 rfl rfl)
theorem dJ7_getChars_2_112 : decode cJ7_getChars_2 112 = .ok (.iload 6, 2) := dk_21 6 (dk_at dksJ7_getChars_2_4 18 rfl rfl)
theorem dJ7_getChars_2_114 : decode cJ7_getChars_2 114 = .ok (.ifCond .eq 14, 3) := dk_153 0 14 (dk_at dksJ7_getChars_2_4 20 rfl rfl)
theorem dJ7_getChars_2_117 : decode cJ7_getChars_2 117 = .ok (.aload_n 2, 1) := dk_44 (dk_at dksJ7_getChars_2_4 23 rfl rfl)
theorem dJ7_getChars_2_118 : decode cJ7_getChars_2 118 = .ok (.iinc 5 (-1), 3) := dk_132 5 255 (dk_at dksJ7_getChars_2_5 0 rfl rfl)
theorem dJ7_getChars_2_121 : decode cJ7_getChars_2 121 = .ok (.iload 5, 2) := dk_21 5 (dk_at dksJ7_getChars_2_5 3 rfl rfl)
theorem dJ7_getChars_2_123 : decode cJ7_getChars_2 123 = .ok (.bipush 45, 2) := dk_16 45 (dk_at dksJ7_getChars_2_5 5 rfl rfl)
theorem dJ7_getChars_2_125 : decode cJ7_getChars_2 125 = .ok (.invokestatic 111, 3) := dk_184 0 111 (dk_at dksJ7_getChars_2_5 7 rfl rfl)
theorem dJ7_getChars_2_128 : decode cJ7_getChars_2 128 = .ok (.iload 5, 2) := dk_21 5 (dk_at dksJ7_getChars_2_5 10 rfl rfl)
theorem dJ7_getChars_2_130 : decode cJ7_getChars_2 130 = .ok (.ireturn, 1) := dk_172 (dk_at dksJ7_getChars_2_5 12 rfl rfl)
abbrev cJ7_putChar : ByteArray := prog_37_method_4_code
def yJ7_putChar : MethodName := ⟨RJ7, "putChar", "([BII)V"⟩
def dkwJ7_putChar_2 : List UInt8 := [178, 0, 63, 122, 145, 84, 177]
abbrev dktJ7_putChar_2 : List UInt8 := dkwJ7_putChar_2 ++ []
def dkwJ7_putChar_1 : List UInt8 := [183, 0, 56, 191, 27, 4, 120, 60, 42, 27, 132, 1, 1, 28, 178, 0, 59, 122, 145, 84, 42, 27, 28]
abbrev dktJ7_putChar_1 : List UInt8 := dkwJ7_putChar_1 ++ dktJ7_putChar_2
def dkwJ7_putChar_0 : List UInt8 := [178, 0, 44, 154, 0, 25, 27, 155, 0, 11, 27, 42, 184, 0, 48, 161, 0, 13, 187, 0, 52, 89, 18, 54]
abbrev dktJ7_putChar_0 : List UInt8 := dkwJ7_putChar_0 ++ dktJ7_putChar_1
theorem dksJ7_putChar_0 : cJ7_putChar.data.toList.drop 0 = dktJ7_putChar_0 := by decide +kernel
theorem dksJ7_putChar_1 : cJ7_putChar.data.toList.drop 24 = dktJ7_putChar_1 := dk_seg dksJ7_putChar_0 24 rfl rfl
theorem dksJ7_putChar_2 : cJ7_putChar.data.toList.drop 47 = dktJ7_putChar_2 := dk_seg dksJ7_putChar_1 23 rfl rfl
theorem dJ7_putChar_0 : decode cJ7_putChar 0 = .ok (.getstatic 44, 3) := dk_178 0 44 (dk_at dksJ7_putChar_0 0 rfl rfl)
theorem dJ7_putChar_3 : decode cJ7_putChar 3 = .ok (.ifCond .ne 25, 3) := dk_154 0 25 (dk_at dksJ7_putChar_0 3 rfl rfl)
theorem dJ7_putChar_6 : decode cJ7_putChar 6 = .ok (.iload_n 1, 1) := dk_27 (dk_at dksJ7_putChar_0 6 rfl rfl)
theorem dJ7_putChar_7 : decode cJ7_putChar 7 = .ok (.ifCond .lt 11, 3) := dk_155 0 11 (dk_at dksJ7_putChar_0 7 rfl rfl)
theorem dJ7_putChar_10 : decode cJ7_putChar 10 = .ok (.iload_n 1, 1) := dk_27 (dk_at dksJ7_putChar_0 10 rfl rfl)
theorem dJ7_putChar_11 : decode cJ7_putChar 11 = .ok (.aload_n 0, 1) := dk_42 (dk_at dksJ7_putChar_0 11 rfl rfl)
theorem dJ7_putChar_12 : decode cJ7_putChar 12 = .ok (.invokestatic 48, 3) := dk_184 0 48 (dk_at dksJ7_putChar_0 12 rfl rfl)
theorem dJ7_putChar_15 : decode cJ7_putChar 15 = .ok (.if_icmp .lt 13, 3) := dk_161 0 13 (dk_at dksJ7_putChar_0 15 rfl rfl)
theorem dJ7_putChar_18 : decode cJ7_putChar 18 = .ok (.new 52, 3) := dk_187 0 52 (dk_at dksJ7_putChar_0 18 rfl rfl)
theorem dJ7_putChar_21 : decode cJ7_putChar 21 = .ok (.dup, 1) := dk_89 (dk_at dksJ7_putChar_0 21 rfl rfl)
theorem dJ7_putChar_22 : decode cJ7_putChar 22 = .ok (.ldc 54, 2) := dk_18 54 (dk_at dksJ7_putChar_0 22 rfl rfl)
theorem dJ7_putChar_24 : decode cJ7_putChar 24 = .ok (.invokespecial 56, 3) := dk_183 0 56 (dk_at dksJ7_putChar_1 0 rfl rfl)
theorem dJ7_putChar_27 : decode cJ7_putChar 27 = .ok (.athrow, 1) := dk_191 (dk_at dksJ7_putChar_1 3 rfl rfl)
theorem dJ7_putChar_28 : decode cJ7_putChar 28 = .ok (.iload_n 1, 1) := dk_27 (dk_at dksJ7_putChar_1 4 rfl rfl)
theorem dJ7_putChar_29 : decode cJ7_putChar 29 = .ok (.iconst 1, 1) := dk_4 (dk_at dksJ7_putChar_1 5 rfl rfl)
theorem dJ7_putChar_30 : decode cJ7_putChar 30 = .ok (.ishl, 1) := dk_120 (dk_at dksJ7_putChar_1 6 rfl rfl)
theorem dJ7_putChar_31 : decode cJ7_putChar 31 = .ok (.istore_n 1, 1) := dk_60 (dk_at dksJ7_putChar_1 7 rfl rfl)
theorem dJ7_putChar_32 : decode cJ7_putChar 32 = .ok (.aload_n 0, 1) := dk_42 (dk_at dksJ7_putChar_1 8 rfl rfl)
theorem dJ7_putChar_33 : decode cJ7_putChar 33 = .ok (.iload_n 1, 1) := dk_27 (dk_at dksJ7_putChar_1 9 rfl rfl)
theorem dJ7_putChar_34 : decode cJ7_putChar 34 = .ok (.iinc 1 1, 3) := dk_132 1 1 (dk_at dksJ7_putChar_1 10 rfl rfl)
theorem dJ7_putChar_37 : decode cJ7_putChar 37 = .ok (.iload_n 2, 1) := dk_28 (dk_at dksJ7_putChar_1 13 rfl rfl)
theorem dJ7_putChar_38 : decode cJ7_putChar 38 = .ok (.getstatic 59, 3) := dk_178 0 59 (dk_at dksJ7_putChar_1 14 rfl rfl)
theorem dJ7_putChar_41 : decode cJ7_putChar 41 = .ok (.ishr, 1) := dk_122 (dk_at dksJ7_putChar_1 17 rfl rfl)
theorem dJ7_putChar_42 : decode cJ7_putChar 42 = .ok (.i2b, 1) := dk_145 (dk_at dksJ7_putChar_1 18 rfl rfl)
theorem dJ7_putChar_43 : decode cJ7_putChar 43 = .ok (.bastore, 1) := dk_84 (dk_at dksJ7_putChar_1 19 rfl rfl)
theorem dJ7_putChar_44 : decode cJ7_putChar 44 = .ok (.aload_n 0, 1) := dk_42 (dk_at dksJ7_putChar_1 20 rfl rfl)
theorem dJ7_putChar_45 : decode cJ7_putChar 45 = .ok (.iload_n 1, 1) := dk_27 (dk_at dksJ7_putChar_1 21 rfl rfl)
theorem dJ7_putChar_46 : decode cJ7_putChar 46 = .ok (.iload_n 2, 1) := dk_28 (dk_at dksJ7_putChar_1 22 rfl rfl)
theorem dJ7_putChar_47 : decode cJ7_putChar 47 = .ok (.getstatic 63, 3) := dk_178 0 63 (dk_at dksJ7_putChar_2 0 rfl rfl)
theorem dJ7_putChar_50 : decode cJ7_putChar 50 = .ok (.ishr, 1) := dk_122 (dk_at dksJ7_putChar_2 3 rfl rfl)
theorem dJ7_putChar_51 : decode cJ7_putChar 51 = .ok (.i2b, 1) := dk_145 (dk_at dksJ7_putChar_2 4 rfl rfl)
theorem dJ7_putChar_52 : decode cJ7_putChar 52 = .ok (.bastore, 1) := dk_84 (dk_at dksJ7_putChar_2 5 rfl rfl)
theorem dJ7_putChar_53 : decode cJ7_putChar 53 = .ok (.return_, 1) := dk_177 (dk_at dksJ7_putChar_2 6 rfl rfl)
abbrev cJ7_putCharsAt : ByteArray := prog_37_method_81_code
def yJ7_putCharsAt : MethodName := ⟨RJ7, "putCharsAt", "([BICCCC)I"⟩
def dkwJ7_putCharsAt_3 : List UInt8 := [21, 6, 172]
abbrev dktJ7_putCharsAt_3 : List UInt8 := dkwJ7_putCharsAt_3 ++ []
def dkwJ7_putCharsAt_2 : List UInt8 := [184, 0, 111, 178, 0, 44, 154, 0, 17, 27, 21, 6, 159, 0, 11, 187, 0, 52, 89, 183, 0, 66, 191]
abbrev dktJ7_putCharsAt_2 : List UInt8 := dkwJ7_putCharsAt_2 ++ dktJ7_putCharsAt_3
def dkwJ7_putCharsAt_1 : List UInt8 := [132, 1, 1, 29, 184, 0, 111, 42, 27, 132, 1, 1, 21, 4, 184, 0, 111, 42, 27, 132, 1, 1, 21, 5]
abbrev dktJ7_putCharsAt_1 : List UInt8 := dkwJ7_putCharsAt_1 ++ dktJ7_putCharsAt_2
def dkwJ7_putCharsAt_0 : List UInt8 := [27, 7, 96, 54, 6, 27, 21, 6, 42, 184, 0, 96, 42, 27, 132, 1, 1, 28, 184, 0, 111, 42, 27]
abbrev dktJ7_putCharsAt_0 : List UInt8 := dkwJ7_putCharsAt_0 ++ dktJ7_putCharsAt_1
theorem dksJ7_putCharsAt_0 : cJ7_putCharsAt.data.toList.drop 0 = dktJ7_putCharsAt_0 := by decide +kernel
theorem dksJ7_putCharsAt_1 : cJ7_putCharsAt.data.toList.drop 23 = dktJ7_putCharsAt_1 := dk_seg dksJ7_putCharsAt_0 23 rfl rfl
theorem dksJ7_putCharsAt_2 : cJ7_putCharsAt.data.toList.drop 47 = dktJ7_putCharsAt_2 := dk_seg dksJ7_putCharsAt_1 24 rfl rfl
theorem dksJ7_putCharsAt_3 : cJ7_putCharsAt.data.toList.drop 70 = dktJ7_putCharsAt_3 := dk_seg dksJ7_putCharsAt_2 23 rfl rfl
theorem dJ7_putCharsAt_0 : decode cJ7_putCharsAt 0 = .ok (.iload_n 1, 1) := dk_27 (dk_at dksJ7_putCharsAt_0 0 rfl rfl)
theorem dJ7_putCharsAt_1 : decode cJ7_putCharsAt 1 = .ok (.iconst 4, 1) := dk_7 (dk_at dksJ7_putCharsAt_0 1 rfl rfl)
theorem dJ7_putCharsAt_2 : decode cJ7_putCharsAt 2 = .ok (.iadd, 1) := dk_96 (dk_at dksJ7_putCharsAt_0 2 rfl rfl)
theorem dJ7_putCharsAt_3 : decode cJ7_putCharsAt 3 = .ok (.istore 6, 2) := dk_54 6 (dk_at dksJ7_putCharsAt_0 3 rfl rfl)
theorem dJ7_putCharsAt_5 : decode cJ7_putCharsAt 5 = .ok (.iload_n 1, 1) := dk_27 (dk_at dksJ7_putCharsAt_0 5 rfl rfl)
theorem dJ7_putCharsAt_6 : decode cJ7_putCharsAt 6 = .ok (.iload 6, 2) := dk_21 6 (dk_at dksJ7_putCharsAt_0 6 rfl rfl)
theorem dJ7_putCharsAt_8 : decode cJ7_putCharsAt 8 = .ok (.aload_n 0, 1) := dk_42 (dk_at dksJ7_putCharsAt_0 8 rfl rfl)
theorem dJ7_putCharsAt_9 : decode cJ7_putCharsAt 9 = .ok (.invokestatic 96, 3) := dk_184 0 96 (dk_at dksJ7_putCharsAt_0 9 rfl rfl)
theorem dJ7_putCharsAt_12 : decode cJ7_putCharsAt 12 = .ok (.aload_n 0, 1) := dk_42 (dk_at dksJ7_putCharsAt_0 12 rfl rfl)
theorem dJ7_putCharsAt_13 : decode cJ7_putCharsAt 13 = .ok (.iload_n 1, 1) := dk_27 (dk_at dksJ7_putCharsAt_0 13 rfl rfl)
theorem dJ7_putCharsAt_14 : decode cJ7_putCharsAt 14 = .ok (.iinc 1 1, 3) := dk_132 1 1 (dk_at dksJ7_putCharsAt_0 14 rfl rfl)
theorem dJ7_putCharsAt_17 : decode cJ7_putCharsAt 17 = .ok (.iload_n 2, 1) := dk_28 (dk_at dksJ7_putCharsAt_0 17 rfl rfl)
theorem dJ7_putCharsAt_18 : decode cJ7_putCharsAt 18 = .ok (.invokestatic 111, 3) := dk_184 0 111 (dk_at dksJ7_putCharsAt_0 18 rfl rfl)
theorem dJ7_putCharsAt_21 : decode cJ7_putCharsAt 21 = .ok (.aload_n 0, 1) := dk_42 (dk_at dksJ7_putCharsAt_0 21 rfl rfl)
theorem dJ7_putCharsAt_22 : decode cJ7_putCharsAt 22 = .ok (.iload_n 1, 1) := dk_27 (dk_at dksJ7_putCharsAt_0 22 rfl rfl)
theorem dJ7_putCharsAt_23 : decode cJ7_putCharsAt 23 = .ok (.iinc 1 1, 3) := dk_132 1 1 (dk_at dksJ7_putCharsAt_1 0 rfl rfl)
theorem dJ7_putCharsAt_26 : decode cJ7_putCharsAt 26 = .ok (.iload_n 3, 1) := dk_29 (dk_at dksJ7_putCharsAt_1 3 rfl rfl)
theorem dJ7_putCharsAt_27 : decode cJ7_putCharsAt 27 = .ok (.invokestatic 111, 3) := dk_184 0 111 (dk_at dksJ7_putCharsAt_1 4 rfl rfl)
theorem dJ7_putCharsAt_30 : decode cJ7_putCharsAt 30 = .ok (.aload_n 0, 1) := dk_42 (dk_at dksJ7_putCharsAt_1 7 rfl rfl)
theorem dJ7_putCharsAt_31 : decode cJ7_putCharsAt 31 = .ok (.iload_n 1, 1) := dk_27 (dk_at dksJ7_putCharsAt_1 8 rfl rfl)
theorem dJ7_putCharsAt_32 : decode cJ7_putCharsAt 32 = .ok (.iinc 1 1, 3) := dk_132 1 1 (dk_at dksJ7_putCharsAt_1 9 rfl rfl)
theorem dJ7_putCharsAt_35 : decode cJ7_putCharsAt 35 = .ok (.iload 4, 2) := dk_21 4 (dk_at dksJ7_putCharsAt_1 12 rfl rfl)
theorem dJ7_putCharsAt_37 : decode cJ7_putCharsAt 37 = .ok (.invokestatic 111, 3) := dk_184 0 111 (dk_at dksJ7_putCharsAt_1 14 rfl rfl)
theorem dJ7_putCharsAt_40 : decode cJ7_putCharsAt 40 = .ok (.aload_n 0, 1) := dk_42 (dk_at dksJ7_putCharsAt_1 17 rfl rfl)
theorem dJ7_putCharsAt_41 : decode cJ7_putCharsAt 41 = .ok (.iload_n 1, 1) := dk_27 (dk_at dksJ7_putCharsAt_1 18 rfl rfl)
theorem dJ7_putCharsAt_42 : decode cJ7_putCharsAt 42 = .ok (.iinc 1 1, 3) := dk_132 1 1 (dk_at dksJ7_putCharsAt_1 19 rfl rfl)
theorem dJ7_putCharsAt_45 : decode cJ7_putCharsAt 45 = .ok (.iload 5, 2) := dk_21 5 (dk_at dksJ7_putCharsAt_1 22 rfl rfl)
theorem dJ7_putCharsAt_47 : decode cJ7_putCharsAt 47 = .ok (.invokestatic 111, 3) := dk_184 0 111 (dk_at dksJ7_putCharsAt_2 0 rfl rfl)
theorem dJ7_putCharsAt_50 : decode cJ7_putCharsAt 50 = .ok (.getstatic 44, 3) := dk_178 0 44 (dk_at dksJ7_putCharsAt_2 3 rfl rfl)
theorem dJ7_putCharsAt_53 : decode cJ7_putCharsAt 53 = .ok (.ifCond .ne 17, 3) := dk_154 0 17 (dk_at dksJ7_putCharsAt_2 6 rfl rfl)
theorem dJ7_putCharsAt_56 : decode cJ7_putCharsAt 56 = .ok (.iload_n 1, 1) := dk_27 (dk_at dksJ7_putCharsAt_2 9 rfl rfl)
theorem dJ7_putCharsAt_57 : decode cJ7_putCharsAt 57 = .ok (.iload 6, 2) := dk_21 6 (dk_at dksJ7_putCharsAt_2 10 rfl rfl)
theorem dJ7_putCharsAt_59 : decode cJ7_putCharsAt 59 = .ok (.if_icmp .eq 11, 3) := dk_159 0 11 (dk_at dksJ7_putCharsAt_2 12 rfl rfl)
theorem dJ7_putCharsAt_62 : decode cJ7_putCharsAt 62 = .ok (.new 52, 3) := dk_187 0 52 (dk_at dksJ7_putCharsAt_2 15 rfl rfl)
theorem dJ7_putCharsAt_65 : decode cJ7_putCharsAt 65 = .ok (.dup, 1) := dk_89 (dk_at dksJ7_putCharsAt_2 18 rfl rfl)
theorem dJ7_putCharsAt_66 : decode cJ7_putCharsAt 66 = .ok (.invokespecial 66, 3) := dk_183 0 66 (dk_at dksJ7_putCharsAt_2 19 rfl rfl)
theorem dJ7_putCharsAt_69 : decode cJ7_putCharsAt 69 = .ok (.athrow, 1) := dk_191 (dk_at dksJ7_putCharsAt_2 22 rfl rfl)
theorem dJ7_putCharsAt_70 : decode cJ7_putCharsAt 70 = .ok (.iload 6, 2) := dk_21 6 (dk_at dksJ7_putCharsAt_3 0 rfl rfl)
theorem dJ7_putCharsAt_72 : decode cJ7_putCharsAt 72 = .ok (.ireturn, 1) := dk_172 (dk_at dksJ7_putCharsAt_3 2 rfl rfl)
abbrev cJ7_inflate : ByteArray := prog_37_method_86_code
def yJ7_inflate : MethodName := ⟨RJ7, "inflate", "([BI[BII)V"⟩
def dkwJ7_inflate_1 : List UInt8 := [132, 1, 1, 51, 17, 0, 255, 126, 184, 0, 111, 132, 5, 1, 167, 255, 228, 177]
abbrev dktJ7_inflate_1 : List UInt8 := dkwJ7_inflate_1 ++ []
def dkwJ7_inflate_0 : List UInt8 := [29, 21, 4, 44, 184, 0, 173, 3, 54, 5, 21, 5, 21, 4, 162, 0, 27, 44, 29, 132, 3, 1, 42, 27]
abbrev dktJ7_inflate_0 : List UInt8 := dkwJ7_inflate_0 ++ dktJ7_inflate_1
theorem dksJ7_inflate_0 : cJ7_inflate.data.toList.drop 0 = dktJ7_inflate_0 := by decide +kernel
theorem dksJ7_inflate_1 : cJ7_inflate.data.toList.drop 24 = dktJ7_inflate_1 := dk_seg dksJ7_inflate_0 24 rfl rfl
theorem dJ7_inflate_0 : decode cJ7_inflate 0 = .ok (.iload_n 3, 1) := dk_29 (dk_at dksJ7_inflate_0 0 rfl rfl)
theorem dJ7_inflate_1 : decode cJ7_inflate 1 = .ok (.iload 4, 2) := dk_21 4 (dk_at dksJ7_inflate_0 1 rfl rfl)
theorem dJ7_inflate_3 : decode cJ7_inflate 3 = .ok (.aload_n 2, 1) := dk_44 (dk_at dksJ7_inflate_0 3 rfl rfl)
theorem dJ7_inflate_4 : decode cJ7_inflate 4 = .ok (.invokestatic 173, 3) := dk_184 0 173 (dk_at dksJ7_inflate_0 4 rfl rfl)
theorem dJ7_inflate_7 : decode cJ7_inflate 7 = .ok (.iconst 0, 1) := dk_3 (dk_at dksJ7_inflate_0 7 rfl rfl)
theorem dJ7_inflate_8 : decode cJ7_inflate 8 = .ok (.istore 5, 2) := dk_54 5 (dk_at dksJ7_inflate_0 8 rfl rfl)
theorem dJ7_inflate_10 : decode cJ7_inflate 10 = .ok (.iload 5, 2) := dk_21 5 (dk_at dksJ7_inflate_0 10 rfl rfl)
theorem dJ7_inflate_12 : decode cJ7_inflate 12 = .ok (.iload 4, 2) := dk_21 4 (dk_at dksJ7_inflate_0 12 rfl rfl)
theorem dJ7_inflate_14 : decode cJ7_inflate 14 = .ok (.if_icmp .ge 27, 3) := dk_162 0 27 (dk_at dksJ7_inflate_0 14 rfl rfl)
theorem dJ7_inflate_17 : decode cJ7_inflate 17 = .ok (.aload_n 2, 1) := dk_44 (dk_at dksJ7_inflate_0 17 rfl rfl)
theorem dJ7_inflate_18 : decode cJ7_inflate 18 = .ok (.iload_n 3, 1) := dk_29 (dk_at dksJ7_inflate_0 18 rfl rfl)
theorem dJ7_inflate_19 : decode cJ7_inflate 19 = .ok (.iinc 3 1, 3) := dk_132 3 1 (dk_at dksJ7_inflate_0 19 rfl rfl)
theorem dJ7_inflate_22 : decode cJ7_inflate 22 = .ok (.aload_n 0, 1) := dk_42 (dk_at dksJ7_inflate_0 22 rfl rfl)
theorem dJ7_inflate_23 : decode cJ7_inflate 23 = .ok (.iload_n 1, 1) := dk_27 (dk_at dksJ7_inflate_0 23 rfl rfl)
theorem dJ7_inflate_24 : decode cJ7_inflate 24 = .ok (.iinc 1 1, 3) := dk_132 1 1 (dk_at dksJ7_inflate_1 0 rfl rfl)
theorem dJ7_inflate_27 : decode cJ7_inflate 27 = .ok (.baload, 1) := dk_51 (dk_at dksJ7_inflate_1 3 rfl rfl)
theorem dJ7_inflate_28 : decode cJ7_inflate 28 = .ok (.sipush 255, 3) := dk_17 0 255 (dk_at dksJ7_inflate_1 4 rfl rfl)
theorem dJ7_inflate_31 : decode cJ7_inflate 31 = .ok (.iand, 1) := dk_126 (dk_at dksJ7_inflate_1 7 rfl rfl)
theorem dJ7_inflate_32 : decode cJ7_inflate 32 = .ok (.invokestatic 111, 3) := dk_184 0 111 (dk_at dksJ7_inflate_1 8 rfl rfl)
theorem dJ7_inflate_35 : decode cJ7_inflate 35 = .ok (.iinc 5 1, 3) := dk_132 5 1 (dk_at dksJ7_inflate_1 11 rfl rfl)
theorem dJ7_inflate_38 : decode cJ7_inflate 38 = .ok (.goto (-28), 3) := dk_167 255 228 (dk_at dksJ7_inflate_1 14 rfl rfl)
theorem dJ7_inflate_41 : decode cJ7_inflate 41 = .ok (.return_, 1) := dk_177 (dk_at dksJ7_inflate_1 17 rfl rfl)
abbrev cJ7_checkBoundsOffCount : ByteArray := prog_37_method_94_code
def yJ7_checkBoundsOffCount : MethodName := ⟨RJ7, "checkBoundsOffCount", "(II[B)V"⟩
def dkwJ7_checkBoundsOffCount_0 : List UInt8 := [26, 27, 44, 184, 0, 48, 184, 1, 163, 87, 177]
abbrev dktJ7_checkBoundsOffCount_0 : List UInt8 := dkwJ7_checkBoundsOffCount_0 ++ []
theorem dksJ7_checkBoundsOffCount_0 : cJ7_checkBoundsOffCount.data.toList.drop 0 = dktJ7_checkBoundsOffCount_0 := by decide +kernel
theorem dJ7_checkBoundsOffCount_0 : decode cJ7_checkBoundsOffCount 0 = .ok (.iload_n 0, 1) := dk_26 (dk_at dksJ7_checkBoundsOffCount_0 0 rfl rfl)
theorem dJ7_checkBoundsOffCount_1 : decode cJ7_checkBoundsOffCount 1 = .ok (.iload_n 1, 1) := dk_27 (dk_at dksJ7_checkBoundsOffCount_0 1 rfl rfl)
theorem dJ7_checkBoundsOffCount_2 : decode cJ7_checkBoundsOffCount 2 = .ok (.aload_n 2, 1) := dk_44 (dk_at dksJ7_checkBoundsOffCount_0 2 rfl rfl)
theorem dJ7_checkBoundsOffCount_3 : decode cJ7_checkBoundsOffCount 3 = .ok (.invokestatic 48, 3) := dk_184 0 48 (dk_at dksJ7_checkBoundsOffCount_0 3 rfl rfl)
theorem dJ7_checkBoundsOffCount_6 : decode cJ7_checkBoundsOffCount 6 = .ok (.invokestatic 419, 3) := dk_184 1 163 (dk_at dksJ7_checkBoundsOffCount_0 6 rfl rfl)
theorem dJ7_checkBoundsOffCount_9 : decode cJ7_checkBoundsOffCount 9 = .ok (.pop, 1) := dk_87 (dk_at dksJ7_checkBoundsOffCount_0 9 rfl rfl)
theorem dJ7_checkBoundsOffCount_10 : decode cJ7_checkBoundsOffCount 10 = .ok (.return_, 1) := dk_177 (dk_at dksJ7_checkBoundsOffCount_0 10 rfl rfl)
abbrev cJ7_compress : ByteArray := prog_37_method_17_code
def yJ7_compress : MethodName := ⟨RJ7, "compress", "([BII)[B"⟩
def dkwJ7_compress_2 : List UInt8 := [25, 5, 3, 45, 3, 28, 184, 0, 123, 28, 159, 0, 6, 25, 5, 176, 45, 176]
abbrev dktJ7_compress_2 : List UInt8 := dkwJ7_compress_2 ++ []
def dkwJ7_compress_1 : List UInt8 := [27, 28, 96, 184, 0, 11, 184, 0, 126, 58, 5, 25, 5, 21, 4, 184, 0, 71, 17, 0, 255, 163, 0, 16]
abbrev dktJ7_compress_1 : List UInt8 := dkwJ7_compress_1 ++ dktJ7_compress_2
def dkwJ7_compress_0 : List UInt8 := [28, 188, 8, 78, 42, 27, 45, 3, 28, 184, 0, 123, 54, 4, 21, 4, 28, 159, 0, 47, 42, 27, 4, 120]
abbrev dktJ7_compress_0 : List UInt8 := dkwJ7_compress_0 ++ dktJ7_compress_1
theorem dksJ7_compress_0 : cJ7_compress.data.toList.drop 0 = dktJ7_compress_0 := by decide +kernel
theorem dksJ7_compress_1 : cJ7_compress.data.toList.drop 24 = dktJ7_compress_1 := dk_seg dksJ7_compress_0 24 rfl rfl
theorem dksJ7_compress_2 : cJ7_compress.data.toList.drop 48 = dktJ7_compress_2 := dk_seg dksJ7_compress_1 24 rfl rfl
theorem dJ7_compress_0 : decode cJ7_compress 0 = .ok (.iload_n 2, 1) := dk_28 (dk_at dksJ7_compress_0 0 rfl rfl)
theorem dJ7_compress_1 : decode cJ7_compress 1 = .ok (.newarray .byte, 2) := dk_188_8 (dk_at dksJ7_compress_0 1 rfl rfl)
theorem dJ7_compress_3 : decode cJ7_compress 3 = .ok (.astore_n 3, 1) := dk_78 (dk_at dksJ7_compress_0 3 rfl rfl)
theorem dJ7_compress_4 : decode cJ7_compress 4 = .ok (.aload_n 0, 1) := dk_42 (dk_at dksJ7_compress_0 4 rfl rfl)
theorem dJ7_compress_5 : decode cJ7_compress 5 = .ok (.iload_n 1, 1) := dk_27 (dk_at dksJ7_compress_0 5 rfl rfl)
theorem dJ7_compress_6 : decode cJ7_compress 6 = .ok (.aload_n 3, 1) := dk_45 (dk_at dksJ7_compress_0 6 rfl rfl)
theorem dJ7_compress_7 : decode cJ7_compress 7 = .ok (.iconst 0, 1) := dk_3 (dk_at dksJ7_compress_0 7 rfl rfl)
theorem dJ7_compress_8 : decode cJ7_compress 8 = .ok (.iload_n 2, 1) := dk_28 (dk_at dksJ7_compress_0 8 rfl rfl)
theorem dJ7_compress_9 : decode cJ7_compress 9 = .ok (.invokestatic 123, 3) := dk_184 0 123 (dk_at dksJ7_compress_0 9 rfl rfl)
theorem dJ7_compress_12 : decode cJ7_compress 12 = .ok (.istore 4, 2) := dk_54 4 (dk_at dksJ7_compress_0 12 rfl rfl)
theorem dJ7_compress_14 : decode cJ7_compress 14 = .ok (.iload 4, 2) := dk_21 4 (dk_at dksJ7_compress_0 14 rfl rfl)
theorem dJ7_compress_16 : decode cJ7_compress 16 = .ok (.iload_n 2, 1) := dk_28 (dk_at dksJ7_compress_0 16 rfl rfl)
theorem dJ7_compress_17 : decode cJ7_compress 17 = .ok (.if_icmp .eq 47, 3) := dk_159 0 47 (dk_at dksJ7_compress_0 17 rfl rfl)
theorem dJ7_compress_20 : decode cJ7_compress 20 = .ok (.aload_n 0, 1) := dk_42 (dk_at dksJ7_compress_0 20 rfl rfl)
theorem dJ7_compress_21 : decode cJ7_compress 21 = .ok (.iload_n 1, 1) := dk_27 (dk_at dksJ7_compress_0 21 rfl rfl)
theorem dJ7_compress_22 : decode cJ7_compress 22 = .ok (.iconst 1, 1) := dk_4 (dk_at dksJ7_compress_0 22 rfl rfl)
theorem dJ7_compress_23 : decode cJ7_compress 23 = .ok (.ishl, 1) := dk_120 (dk_at dksJ7_compress_0 23 rfl rfl)
theorem dJ7_compress_24 : decode cJ7_compress 24 = .ok (.iload_n 1, 1) := dk_27 (dk_at dksJ7_compress_1 0 rfl rfl)
theorem dJ7_compress_25 : decode cJ7_compress 25 = .ok (.iload_n 2, 1) := dk_28 (dk_at dksJ7_compress_1 1 rfl rfl)
theorem dJ7_compress_26 : decode cJ7_compress 26 = .ok (.iadd, 1) := dk_96 (dk_at dksJ7_compress_1 2 rfl rfl)
theorem dJ7_compress_27 : decode cJ7_compress 27 = .ok (.invokestatic 11, 3) := dk_184 0 11 (dk_at dksJ7_compress_1 3 rfl rfl)
theorem dJ7_compress_30 : decode cJ7_compress 30 = .ok (.invokestatic 126, 3) := dk_184 0 126 (dk_at dksJ7_compress_1 6 rfl rfl)
theorem dJ7_compress_33 : decode cJ7_compress 33 = .ok (.astore 5, 2) := dk_58 5 (dk_at dksJ7_compress_1 9 rfl rfl)
theorem dJ7_compress_35 : decode cJ7_compress 35 = .ok (.aload 5, 2) := dk_25 5 (dk_at dksJ7_compress_1 11 rfl rfl)
theorem dJ7_compress_37 : decode cJ7_compress 37 = .ok (.iload 4, 2) := dk_21 4 (dk_at dksJ7_compress_1 13 rfl rfl)
theorem dJ7_compress_39 : decode cJ7_compress 39 = .ok (.invokestatic 71, 3) := dk_184 0 71 (dk_at dksJ7_compress_1 15 rfl rfl)
theorem dJ7_compress_42 : decode cJ7_compress 42 = .ok (.sipush 255, 3) := dk_17 0 255 (dk_at dksJ7_compress_1 18 rfl rfl)
theorem dJ7_compress_45 : decode cJ7_compress 45 = .ok (.if_icmp .gt 16, 3) := dk_163 0 16 (dk_at dksJ7_compress_1 21 rfl rfl)
theorem dJ7_compress_48 : decode cJ7_compress 48 = .ok (.aload 5, 2) := dk_25 5 (dk_at dksJ7_compress_2 0 rfl rfl)
theorem dJ7_compress_50 : decode cJ7_compress 50 = .ok (.iconst 0, 1) := dk_3 (dk_at dksJ7_compress_2 2 rfl rfl)
theorem dJ7_compress_51 : decode cJ7_compress 51 = .ok (.aload_n 3, 1) := dk_45 (dk_at dksJ7_compress_2 3 rfl rfl)
theorem dJ7_compress_52 : decode cJ7_compress 52 = .ok (.iconst 0, 1) := dk_3 (dk_at dksJ7_compress_2 4 rfl rfl)
theorem dJ7_compress_53 : decode cJ7_compress 53 = .ok (.iload_n 2, 1) := dk_28 (dk_at dksJ7_compress_2 5 rfl rfl)
theorem dJ7_compress_54 : decode cJ7_compress 54 = .ok (.invokestatic 123, 3) := dk_184 0 123 (dk_at dksJ7_compress_2 6 rfl rfl)
theorem dJ7_compress_57 : decode cJ7_compress 57 = .ok (.iload_n 2, 1) := dk_28 (dk_at dksJ7_compress_2 9 rfl rfl)
theorem dJ7_compress_58 : decode cJ7_compress 58 = .ok (.if_icmp .eq 6, 3) := dk_159 0 6 (dk_at dksJ7_compress_2 10 rfl rfl)
theorem dJ7_compress_61 : decode cJ7_compress 61 = .ok (.aload 5, 2) := dk_25 5 (dk_at dksJ7_compress_2 13 rfl rfl)
theorem dJ7_compress_63 : decode cJ7_compress 63 = .ok (.areturn, 1) := dk_176 (dk_at dksJ7_compress_2 15 rfl rfl)
theorem dJ7_compress_64 : decode cJ7_compress 64 = .ok (.aload_n 3, 1) := dk_45 (dk_at dksJ7_compress_2 16 rfl rfl)
theorem dJ7_compress_65 : decode cJ7_compress 65 = .ok (.areturn, 1) := dk_176 (dk_at dksJ7_compress_2 17 rfl rfl)
abbrev cJ7_compress_2 : ByteArray := prog_37_method_22_code
def yJ7_compress_2 : MethodName := ⟨RJ7, "compress", "([BI[BII)I"⟩
def dkwJ7_compress_2_2 : List UInt8 := [132, 5, 1, 167, 255, 216, 21, 4, 172]
abbrev dktJ7_compress_2_2 : List UInt8 := dkwJ7_compress_2_2 ++ []
def dkwJ7_compress_2_1 : List UInt8 := [21, 6, 17, 0, 255, 164, 0, 6, 21, 5, 172, 44, 29, 21, 6, 145, 84, 132, 1, 1, 132, 3, 1]
abbrev dktJ7_compress_2_1 : List UInt8 := dkwJ7_compress_2_1 ++ dktJ7_compress_2_2
def dkwJ7_compress_2_0 : List UInt8 := [27, 21, 4, 42, 184, 0, 173, 3, 54, 5, 21, 5, 21, 4, 162, 0, 39, 42, 27, 184, 0, 71, 54, 6]
abbrev dktJ7_compress_2_0 : List UInt8 := dkwJ7_compress_2_0 ++ dktJ7_compress_2_1
theorem dksJ7_compress_2_0 : cJ7_compress_2.data.toList.drop 0 = dktJ7_compress_2_0 := by decide +kernel
theorem dksJ7_compress_2_1 : cJ7_compress_2.data.toList.drop 24 = dktJ7_compress_2_1 := dk_seg dksJ7_compress_2_0 24 rfl rfl
theorem dksJ7_compress_2_2 : cJ7_compress_2.data.toList.drop 47 = dktJ7_compress_2_2 := dk_seg dksJ7_compress_2_1 23 rfl rfl
theorem dJ7_compress_2_0 : decode cJ7_compress_2 0 = .ok (.iload_n 1, 1) := dk_27 (dk_at dksJ7_compress_2_0 0 rfl rfl)
theorem dJ7_compress_2_1 : decode cJ7_compress_2 1 = .ok (.iload 4, 2) := dk_21 4 (dk_at dksJ7_compress_2_0 1 rfl rfl)
theorem dJ7_compress_2_3 : decode cJ7_compress_2 3 = .ok (.aload_n 0, 1) := dk_42 (dk_at dksJ7_compress_2_0 3 rfl rfl)
theorem dJ7_compress_2_4 : decode cJ7_compress_2 4 = .ok (.invokestatic 173, 3) := dk_184 0 173 (dk_at dksJ7_compress_2_0 4 rfl rfl)
theorem dJ7_compress_2_7 : decode cJ7_compress_2 7 = .ok (.iconst 0, 1) := dk_3 (dk_at dksJ7_compress_2_0 7 rfl rfl)
theorem dJ7_compress_2_8 : decode cJ7_compress_2 8 = .ok (.istore 5, 2) := dk_54 5 (dk_at dksJ7_compress_2_0 8 rfl rfl)
theorem dJ7_compress_2_10 : decode cJ7_compress_2 10 = .ok (.iload 5, 2) := dk_21 5 (dk_at dksJ7_compress_2_0 10 rfl rfl)
theorem dJ7_compress_2_12 : decode cJ7_compress_2 12 = .ok (.iload 4, 2) := dk_21 4 (dk_at dksJ7_compress_2_0 12 rfl rfl)
theorem dJ7_compress_2_14 : decode cJ7_compress_2 14 = .ok (.if_icmp .ge 39, 3) := dk_162 0 39 (dk_at dksJ7_compress_2_0 14 rfl rfl)
theorem dJ7_compress_2_17 : decode cJ7_compress_2 17 = .ok (.aload_n 0, 1) := dk_42 (dk_at dksJ7_compress_2_0 17 rfl rfl)
theorem dJ7_compress_2_18 : decode cJ7_compress_2 18 = .ok (.iload_n 1, 1) := dk_27 (dk_at dksJ7_compress_2_0 18 rfl rfl)
theorem dJ7_compress_2_19 : decode cJ7_compress_2 19 = .ok (.invokestatic 71, 3) := dk_184 0 71 (dk_at dksJ7_compress_2_0 19 rfl rfl)
theorem dJ7_compress_2_22 : decode cJ7_compress_2 22 = .ok (.istore 6, 2) := dk_54 6 (dk_at dksJ7_compress_2_0 22 rfl rfl)
theorem dJ7_compress_2_24 : decode cJ7_compress_2 24 = .ok (.iload 6, 2) := dk_21 6 (dk_at dksJ7_compress_2_1 0 rfl rfl)
theorem dJ7_compress_2_26 : decode cJ7_compress_2 26 = .ok (.sipush 255, 3) := dk_17 0 255 (dk_at dksJ7_compress_2_1 2 rfl rfl)
theorem dJ7_compress_2_29 : decode cJ7_compress_2 29 = .ok (.if_icmp .le 6, 3) := dk_164 0 6 (dk_at dksJ7_compress_2_1 5 rfl rfl)
theorem dJ7_compress_2_32 : decode cJ7_compress_2 32 = .ok (.iload 5, 2) := dk_21 5 (dk_at dksJ7_compress_2_1 8 rfl rfl)
theorem dJ7_compress_2_34 : decode cJ7_compress_2 34 = .ok (.ireturn, 1) := dk_172 (dk_at dksJ7_compress_2_1 10 rfl rfl)
theorem dJ7_compress_2_35 : decode cJ7_compress_2 35 = .ok (.aload_n 2, 1) := dk_44 (dk_at dksJ7_compress_2_1 11 rfl rfl)
theorem dJ7_compress_2_36 : decode cJ7_compress_2 36 = .ok (.iload_n 3, 1) := dk_29 (dk_at dksJ7_compress_2_1 12 rfl rfl)
theorem dJ7_compress_2_37 : decode cJ7_compress_2 37 = .ok (.iload 6, 2) := dk_21 6 (dk_at dksJ7_compress_2_1 13 rfl rfl)
theorem dJ7_compress_2_39 : decode cJ7_compress_2 39 = .ok (.i2b, 1) := dk_145 (dk_at dksJ7_compress_2_1 15 rfl rfl)
theorem dJ7_compress_2_40 : decode cJ7_compress_2 40 = .ok (.bastore, 1) := dk_84 (dk_at dksJ7_compress_2_1 16 rfl rfl)
theorem dJ7_compress_2_41 : decode cJ7_compress_2 41 = .ok (.iinc 1 1, 3) := dk_132 1 1 (dk_at dksJ7_compress_2_1 17 rfl rfl)
theorem dJ7_compress_2_44 : decode cJ7_compress_2 44 = .ok (.iinc 3 1, 3) := dk_132 3 1 (dk_at dksJ7_compress_2_1 20 rfl rfl)
theorem dJ7_compress_2_47 : decode cJ7_compress_2 47 = .ok (.iinc 5 1, 3) := dk_132 5 1 (dk_at dksJ7_compress_2_2 0 rfl rfl)
theorem dJ7_compress_2_50 : decode cJ7_compress_2 50 = .ok (.goto (-40), 3) := dk_167 255 216 (dk_at dksJ7_compress_2_2 3 rfl rfl)
theorem dJ7_compress_2_53 : decode cJ7_compress_2 53 = .ok (.iload 4, 2) := dk_21 4 (dk_at dksJ7_compress_2_2 6 rfl rfl)
theorem dJ7_compress_2_55 : decode cJ7_compress_2 55 = .ok (.ireturn, 1) := dk_172 (dk_at dksJ7_compress_2_2 8 rfl rfl)
abbrev cJ7_getChar : ByteArray := prog_37_method_5_code
def yJ7_getChar : MethodName := ⟨RJ7, "getChar", "([BI)C"⟩
def dkwJ7_getChar_2 : List UInt8 := [51, 17, 0, 255, 126, 178, 0, 63, 120, 128, 146, 172]
abbrev dktJ7_getChar_2 : List UInt8 := dkwJ7_getChar_2 ++ []
def dkwJ7_getChar_1 : List UInt8 := [183, 0, 56, 191, 27, 4, 120, 60, 42, 27, 132, 1, 1, 51, 17, 0, 255, 126, 178, 0, 59, 120, 42, 27]
abbrev dktJ7_getChar_1 : List UInt8 := dkwJ7_getChar_1 ++ dktJ7_getChar_2
def dkwJ7_getChar_0 : List UInt8 := [178, 0, 44, 154, 0, 25, 27, 155, 0, 11, 27, 42, 184, 0, 48, 161, 0, 13, 187, 0, 52, 89, 18, 54]
abbrev dktJ7_getChar_0 : List UInt8 := dkwJ7_getChar_0 ++ dktJ7_getChar_1
theorem dksJ7_getChar_0 : cJ7_getChar.data.toList.drop 0 = dktJ7_getChar_0 := by decide +kernel
theorem dksJ7_getChar_1 : cJ7_getChar.data.toList.drop 24 = dktJ7_getChar_1 := dk_seg dksJ7_getChar_0 24 rfl rfl
theorem dksJ7_getChar_2 : cJ7_getChar.data.toList.drop 48 = dktJ7_getChar_2 := dk_seg dksJ7_getChar_1 24 rfl rfl
theorem dJ7_getChar_0 : decode cJ7_getChar 0 = .ok (.getstatic 44, 3) := dk_178 0 44 (dk_at dksJ7_getChar_0 0 rfl rfl)
theorem dJ7_getChar_3 : decode cJ7_getChar 3 = .ok (.ifCond .ne 25, 3) := dk_154 0 25 (dk_at dksJ7_getChar_0 3 rfl rfl)
theorem dJ7_getChar_6 : decode cJ7_getChar 6 = .ok (.iload_n 1, 1) := dk_27 (dk_at dksJ7_getChar_0 6 rfl rfl)
theorem dJ7_getChar_7 : decode cJ7_getChar 7 = .ok (.ifCond .lt 11, 3) := dk_155 0 11 (dk_at dksJ7_getChar_0 7 rfl rfl)
theorem dJ7_getChar_10 : decode cJ7_getChar 10 = .ok (.iload_n 1, 1) := dk_27 (dk_at dksJ7_getChar_0 10 rfl rfl)
theorem dJ7_getChar_11 : decode cJ7_getChar 11 = .ok (.aload_n 0, 1) := dk_42 (dk_at dksJ7_getChar_0 11 rfl rfl)
theorem dJ7_getChar_12 : decode cJ7_getChar 12 = .ok (.invokestatic 48, 3) := dk_184 0 48 (dk_at dksJ7_getChar_0 12 rfl rfl)
theorem dJ7_getChar_15 : decode cJ7_getChar 15 = .ok (.if_icmp .lt 13, 3) := dk_161 0 13 (dk_at dksJ7_getChar_0 15 rfl rfl)
theorem dJ7_getChar_18 : decode cJ7_getChar 18 = .ok (.new 52, 3) := dk_187 0 52 (dk_at dksJ7_getChar_0 18 rfl rfl)
theorem dJ7_getChar_21 : decode cJ7_getChar 21 = .ok (.dup, 1) := dk_89 (dk_at dksJ7_getChar_0 21 rfl rfl)
theorem dJ7_getChar_22 : decode cJ7_getChar 22 = .ok (.ldc 54, 2) := dk_18 54 (dk_at dksJ7_getChar_0 22 rfl rfl)
theorem dJ7_getChar_24 : decode cJ7_getChar 24 = .ok (.invokespecial 56, 3) := dk_183 0 56 (dk_at dksJ7_getChar_1 0 rfl rfl)
theorem dJ7_getChar_27 : decode cJ7_getChar 27 = .ok (.athrow, 1) := dk_191 (dk_at dksJ7_getChar_1 3 rfl rfl)
theorem dJ7_getChar_28 : decode cJ7_getChar 28 = .ok (.iload_n 1, 1) := dk_27 (dk_at dksJ7_getChar_1 4 rfl rfl)
theorem dJ7_getChar_29 : decode cJ7_getChar 29 = .ok (.iconst 1, 1) := dk_4 (dk_at dksJ7_getChar_1 5 rfl rfl)
theorem dJ7_getChar_30 : decode cJ7_getChar 30 = .ok (.ishl, 1) := dk_120 (dk_at dksJ7_getChar_1 6 rfl rfl)
theorem dJ7_getChar_31 : decode cJ7_getChar 31 = .ok (.istore_n 1, 1) := dk_60 (dk_at dksJ7_getChar_1 7 rfl rfl)
theorem dJ7_getChar_32 : decode cJ7_getChar 32 = .ok (.aload_n 0, 1) := dk_42 (dk_at dksJ7_getChar_1 8 rfl rfl)
theorem dJ7_getChar_33 : decode cJ7_getChar 33 = .ok (.iload_n 1, 1) := dk_27 (dk_at dksJ7_getChar_1 9 rfl rfl)
theorem dJ7_getChar_34 : decode cJ7_getChar 34 = .ok (.iinc 1 1, 3) := dk_132 1 1 (dk_at dksJ7_getChar_1 10 rfl rfl)
theorem dJ7_getChar_37 : decode cJ7_getChar 37 = .ok (.baload, 1) := dk_51 (dk_at dksJ7_getChar_1 13 rfl rfl)
theorem dJ7_getChar_38 : decode cJ7_getChar 38 = .ok (.sipush 255, 3) := dk_17 0 255 (dk_at dksJ7_getChar_1 14 rfl rfl)
theorem dJ7_getChar_41 : decode cJ7_getChar 41 = .ok (.iand, 1) := dk_126 (dk_at dksJ7_getChar_1 17 rfl rfl)
theorem dJ7_getChar_42 : decode cJ7_getChar 42 = .ok (.getstatic 59, 3) := dk_178 0 59 (dk_at dksJ7_getChar_1 18 rfl rfl)
theorem dJ7_getChar_45 : decode cJ7_getChar 45 = .ok (.ishl, 1) := dk_120 (dk_at dksJ7_getChar_1 21 rfl rfl)
theorem dJ7_getChar_46 : decode cJ7_getChar 46 = .ok (.aload_n 0, 1) := dk_42 (dk_at dksJ7_getChar_1 22 rfl rfl)
theorem dJ7_getChar_47 : decode cJ7_getChar 47 = .ok (.iload_n 1, 1) := dk_27 (dk_at dksJ7_getChar_1 23 rfl rfl)
theorem dJ7_getChar_48 : decode cJ7_getChar 48 = .ok (.baload, 1) := dk_51 (dk_at dksJ7_getChar_2 0 rfl rfl)
theorem dJ7_getChar_49 : decode cJ7_getChar 49 = .ok (.sipush 255, 3) := dk_17 0 255 (dk_at dksJ7_getChar_2 1 rfl rfl)
theorem dJ7_getChar_52 : decode cJ7_getChar 52 = .ok (.iand, 1) := dk_126 (dk_at dksJ7_getChar_2 4 rfl rfl)
theorem dJ7_getChar_53 : decode cJ7_getChar 53 = .ok (.getstatic 63, 3) := dk_178 0 63 (dk_at dksJ7_getChar_2 5 rfl rfl)
theorem dJ7_getChar_56 : decode cJ7_getChar 56 = .ok (.ishl, 1) := dk_120 (dk_at dksJ7_getChar_2 8 rfl rfl)
theorem dJ7_getChar_57 : decode cJ7_getChar 57 = .ok (.ior, 1) := dk_128 (dk_at dksJ7_getChar_2 9 rfl rfl)
theorem dJ7_getChar_58 : decode cJ7_getChar 58 = .ok (.i2c, 1) := dk_146 (dk_at dksJ7_getChar_2 10 rfl rfl)
theorem dJ7_getChar_59 : decode cJ7_getChar 59 = .ok (.ireturn, 1) := dk_172 (dk_at dksJ7_getChar_2 11 rfl rfl)
abbrev cJ7_coderFromArrayLen : ByteArray := prog_37_method_15_code
def yJ7_coderFromArrayLen : MethodName := ⟨RJ7, "coderFromArrayLen", "([BI)B"⟩
def dkwJ7_coderFromArrayLen_0 : List UInt8 := [27, 42, 190, 100, 16, 31, 124, 145, 172]
abbrev dktJ7_coderFromArrayLen_0 : List UInt8 := dkwJ7_coderFromArrayLen_0 ++ []
theorem dksJ7_coderFromArrayLen_0 : cJ7_coderFromArrayLen.data.toList.drop 0 = dktJ7_coderFromArrayLen_0 := by decide +kernel
theorem dJ7_coderFromArrayLen_0 : decode cJ7_coderFromArrayLen 0 = .ok (.iload_n 1, 1) := dk_27 (dk_at dksJ7_coderFromArrayLen_0 0 rfl rfl)
theorem dJ7_coderFromArrayLen_1 : decode cJ7_coderFromArrayLen 1 = .ok (.aload_n 0, 1) := dk_42 (dk_at dksJ7_coderFromArrayLen_0 1 rfl rfl)
theorem dJ7_coderFromArrayLen_2 : decode cJ7_coderFromArrayLen 2 = .ok (.arraylength, 1) := dk_190 (dk_at dksJ7_coderFromArrayLen_0 2 rfl rfl)
theorem dJ7_coderFromArrayLen_3 : decode cJ7_coderFromArrayLen 3 = .ok (.isub, 1) := dk_100 (dk_at dksJ7_coderFromArrayLen_0 3 rfl rfl)
theorem dJ7_coderFromArrayLen_4 : decode cJ7_coderFromArrayLen 4 = .ok (.bipush 31, 2) := dk_16 31 (dk_at dksJ7_coderFromArrayLen_0 4 rfl rfl)
theorem dJ7_coderFromArrayLen_6 : decode cJ7_coderFromArrayLen 6 = .ok (.iushr, 1) := dk_124 (dk_at dksJ7_coderFromArrayLen_0 6 rfl rfl)
theorem dJ7_coderFromArrayLen_7 : decode cJ7_coderFromArrayLen 7 = .ok (.i2b, 1) := dk_145 (dk_at dksJ7_coderFromArrayLen_0 7 rfl rfl)
theorem dJ7_coderFromArrayLen_8 : decode cJ7_coderFromArrayLen 8 = .ok (.ireturn, 1) := dk_172 (dk_at dksJ7_coderFromArrayLen_0 8 rfl rfl)
abbrev cJ7_charAt : ByteArray := prog_37_method_83_code
def yJ7_charAt : MethodName := ⟨RJ7, "charAt", "([BI)C"⟩
def dkwJ7_charAt_0 : List UInt8 := [27, 42, 184, 0, 67, 42, 27, 184, 0, 71, 172]
abbrev dktJ7_charAt_0 : List UInt8 := dkwJ7_charAt_0 ++ []
theorem dksJ7_charAt_0 : cJ7_charAt.data.toList.drop 0 = dktJ7_charAt_0 := by decide +kernel
theorem dJ7_charAt_0 : decode cJ7_charAt 0 = .ok (.iload_n 1, 1) := dk_27 (dk_at dksJ7_charAt_0 0 rfl rfl)
theorem dJ7_charAt_1 : decode cJ7_charAt 1 = .ok (.aload_n 0, 1) := dk_42 (dk_at dksJ7_charAt_0 1 rfl rfl)
theorem dJ7_charAt_2 : decode cJ7_charAt 2 = .ok (.invokestatic 67, 3) := dk_184 0 67 (dk_at dksJ7_charAt_0 2 rfl rfl)
theorem dJ7_charAt_5 : decode cJ7_charAt 5 = .ok (.aload_n 0, 1) := dk_42 (dk_at dksJ7_charAt_0 5 rfl rfl)
theorem dJ7_charAt_6 : decode cJ7_charAt 6 = .ok (.iload_n 1, 1) := dk_27 (dk_at dksJ7_charAt_0 6 rfl rfl)
theorem dJ7_charAt_7 : decode cJ7_charAt 7 = .ok (.invokestatic 71, 3) := dk_184 0 71 (dk_at dksJ7_charAt_0 7 rfl rfl)
theorem dJ7_charAt_10 : decode cJ7_charAt 10 = .ok (.ireturn, 1) := dk_172 (dk_at dksJ7_charAt_0 10 rfl rfl)
abbrev cJ7_checkIndex : ByteArray := prog_37_method_91_code
def yJ7_checkIndex : MethodName := ⟨RJ7, "checkIndex", "(I[B)V"⟩
def dkwJ7_checkIndex_0 : List UInt8 := [26, 43, 184, 0, 48, 184, 1, 158, 177]
abbrev dktJ7_checkIndex_0 : List UInt8 := dkwJ7_checkIndex_0 ++ []
theorem dksJ7_checkIndex_0 : cJ7_checkIndex.data.toList.drop 0 = dktJ7_checkIndex_0 := by decide +kernel
theorem dJ7_checkIndex_0 : decode cJ7_checkIndex 0 = .ok (.iload_n 0, 1) := dk_26 (dk_at dksJ7_checkIndex_0 0 rfl rfl)
theorem dJ7_checkIndex_1 : decode cJ7_checkIndex 1 = .ok (.aload_n 1, 1) := dk_43 (dk_at dksJ7_checkIndex_0 1 rfl rfl)
theorem dJ7_checkIndex_2 : decode cJ7_checkIndex 2 = .ok (.invokestatic 48, 3) := dk_184 0 48 (dk_at dksJ7_checkIndex_0 2 rfl rfl)
theorem dJ7_checkIndex_5 : decode cJ7_checkIndex 5 = .ok (.invokestatic 414, 3) := dk_184 1 158 (dk_at dksJ7_checkIndex_0 5 rfl rfl)
theorem dJ7_checkIndex_8 : decode cJ7_checkIndex 8 = .ok (.return_, 1) := dk_177 (dk_at dksJ7_checkIndex_0 8 rfl rfl)
abbrev cJ7_putCharSB : ByteArray := prog_37_method_71_code
def yJ7_putCharSB : MethodName := ⟨RJ7, "putCharSB", "([BII)V"⟩
def dkwJ7_putCharSB_0 : List UInt8 := [27, 42, 184, 0, 67, 42, 27, 28, 184, 0, 111, 177]
abbrev dktJ7_putCharSB_0 : List UInt8 := dkwJ7_putCharSB_0 ++ []
theorem dksJ7_putCharSB_0 : cJ7_putCharSB.data.toList.drop 0 = dktJ7_putCharSB_0 := by decide +kernel
theorem dJ7_putCharSB_0 : decode cJ7_putCharSB 0 = .ok (.iload_n 1, 1) := dk_27 (dk_at dksJ7_putCharSB_0 0 rfl rfl)
theorem dJ7_putCharSB_1 : decode cJ7_putCharSB 1 = .ok (.aload_n 0, 1) := dk_42 (dk_at dksJ7_putCharSB_0 1 rfl rfl)
theorem dJ7_putCharSB_2 : decode cJ7_putCharSB 2 = .ok (.invokestatic 67, 3) := dk_184 0 67 (dk_at dksJ7_putCharSB_0 2 rfl rfl)
theorem dJ7_putCharSB_5 : decode cJ7_putCharSB 5 = .ok (.aload_n 0, 1) := dk_42 (dk_at dksJ7_putCharSB_0 5 rfl rfl)
theorem dJ7_putCharSB_6 : decode cJ7_putCharSB 6 = .ok (.iload_n 1, 1) := dk_27 (dk_at dksJ7_putCharSB_0 6 rfl rfl)
theorem dJ7_putCharSB_7 : decode cJ7_putCharSB 7 = .ok (.iload_n 2, 1) := dk_28 (dk_at dksJ7_putCharSB_0 7 rfl rfl)
theorem dJ7_putCharSB_8 : decode cJ7_putCharSB 8 = .ok (.invokestatic 111, 3) := dk_184 0 111 (dk_at dksJ7_putCharSB_0 8 rfl rfl)
theorem dJ7_putCharSB_11 : decode cJ7_putCharSB 11 = .ok (.return_, 1) := dk_177 (dk_at dksJ7_putCharSB_0 11 rfl rfl)
abbrev cJ7_hashCode : ByteArray := prog_37_method_39_code
def yJ7_hashCode : MethodName := ⟨RJ7, "hashCode", "([B)I"⟩
def dkwJ7_hashCode_2 : List UInt8 := [3, 167, 0, 22, 42, 3, 184, 0, 71, 167, 0, 14, 42, 3, 42, 190, 4, 122, 3, 8, 184, 0, 220, 172]
abbrev dktJ7_hashCode_2 : List UInt8 := dkwJ7_hashCode_2 ++ []
def dkwJ7_hashCode_1 : List UInt8 := [171, 0, 0, 0, 0, 38, 0, 0, 0, 2, 0, 0, 0, 0, 0, 0, 0, 26, 0, 0, 0, 2, 0, 0, 0, 30]
abbrev dktJ7_hashCode_1 : List UInt8 := dkwJ7_hashCode_1 ++ dktJ7_hashCode_2
def dkwJ7_hashCode_0 : List UInt8 := [42, 190]
abbrev dktJ7_hashCode_0 : List UInt8 := dkwJ7_hashCode_0 ++ dktJ7_hashCode_1
theorem dksJ7_hashCode_0 : cJ7_hashCode.data.toList.drop 0 = dktJ7_hashCode_0 := by decide +kernel
theorem dksJ7_hashCode_1 : cJ7_hashCode.data.toList.drop 2 = dktJ7_hashCode_1 := dk_seg dksJ7_hashCode_0 2 rfl rfl
theorem dksJ7_hashCode_2 : cJ7_hashCode.data.toList.drop 28 = dktJ7_hashCode_2 := dk_seg dksJ7_hashCode_1 26 rfl rfl
theorem dJ7_hashCode_0 : decode cJ7_hashCode 0 = .ok (.aload_n 0, 1) := dk_42 (dk_at dksJ7_hashCode_0 0 rfl rfl)
theorem dJ7_hashCode_1 : decode cJ7_hashCode 1 = .ok (.arraylength, 1) := dk_190 (dk_at dksJ7_hashCode_0 1 rfl rfl)
theorem dJ7_hashCode_2 : decode cJ7_hashCode 2 = .ok (.lookupswitch 38 #[(0, 26), (2, 30)], 26) := by decide +kernel
theorem dJ7_hashCode_28 : decode cJ7_hashCode 28 = .ok (.iconst 0, 1) := dk_3 (dk_at dksJ7_hashCode_2 0 rfl rfl)
theorem dJ7_hashCode_29 : decode cJ7_hashCode 29 = .ok (.goto 22, 3) := dk_167 0 22 (dk_at dksJ7_hashCode_2 1 rfl rfl)
theorem dJ7_hashCode_32 : decode cJ7_hashCode 32 = .ok (.aload_n 0, 1) := dk_42 (dk_at dksJ7_hashCode_2 4 rfl rfl)
theorem dJ7_hashCode_33 : decode cJ7_hashCode 33 = .ok (.iconst 0, 1) := dk_3 (dk_at dksJ7_hashCode_2 5 rfl rfl)
theorem dJ7_hashCode_34 : decode cJ7_hashCode 34 = .ok (.invokestatic 71, 3) := dk_184 0 71 (dk_at dksJ7_hashCode_2 6 rfl rfl)
theorem dJ7_hashCode_37 : decode cJ7_hashCode 37 = .ok (.goto 14, 3) := dk_167 0 14 (dk_at dksJ7_hashCode_2 9 rfl rfl)
theorem dJ7_hashCode_40 : decode cJ7_hashCode 40 = .ok (.aload_n 0, 1) := dk_42 (dk_at dksJ7_hashCode_2 12 rfl rfl)
theorem dJ7_hashCode_41 : decode cJ7_hashCode 41 = .ok (.iconst 0, 1) := dk_3 (dk_at dksJ7_hashCode_2 13 rfl rfl)
theorem dJ7_hashCode_42 : decode cJ7_hashCode 42 = .ok (.aload_n 0, 1) := dk_42 (dk_at dksJ7_hashCode_2 14 rfl rfl)
theorem dJ7_hashCode_43 : decode cJ7_hashCode 43 = .ok (.arraylength, 1) := dk_190 (dk_at dksJ7_hashCode_2 15 rfl rfl)
theorem dJ7_hashCode_44 : decode cJ7_hashCode 44 = .ok (.iconst 1, 1) := dk_4 (dk_at dksJ7_hashCode_2 16 rfl rfl)
theorem dJ7_hashCode_45 : decode cJ7_hashCode 45 = .ok (.ishr, 1) := dk_122 (dk_at dksJ7_hashCode_2 17 rfl rfl)
theorem dJ7_hashCode_46 : decode cJ7_hashCode 46 = .ok (.iconst 0, 1) := dk_3 (dk_at dksJ7_hashCode_2 18 rfl rfl)
theorem dJ7_hashCode_47 : decode cJ7_hashCode 47 = .ok (.iconst 5, 1) := dk_8 (dk_at dksJ7_hashCode_2 19 rfl rfl)
theorem dJ7_hashCode_48 : decode cJ7_hashCode 48 = .ok (.invokestatic 220, 3) := dk_184 0 220 (dk_at dksJ7_hashCode_2 20 rfl rfl)
theorem dJ7_hashCode_51 : decode cJ7_hashCode 51 = .ok (.ireturn, 1) := dk_172 (dk_at dksJ7_hashCode_2 23 rfl rfl)
abbrev cJ7_fillNull : ByteArray := prog_37_method_70_code
def yJ7_fillNull : MethodName := ⟨RJ7, "fillNull", "([BII)V"⟩
def dkwJ7_fillNull_0 : List UInt8 := [42, 27, 4, 120, 28, 4, 120, 3, 184, 1, 124, 177]
abbrev dktJ7_fillNull_0 : List UInt8 := dkwJ7_fillNull_0 ++ []
theorem dksJ7_fillNull_0 : cJ7_fillNull.data.toList.drop 0 = dktJ7_fillNull_0 := by decide +kernel
theorem dJ7_fillNull_0 : decode cJ7_fillNull 0 = .ok (.aload_n 0, 1) := dk_42 (dk_at dksJ7_fillNull_0 0 rfl rfl)
theorem dJ7_fillNull_1 : decode cJ7_fillNull 1 = .ok (.iload_n 1, 1) := dk_27 (dk_at dksJ7_fillNull_0 1 rfl rfl)
theorem dJ7_fillNull_2 : decode cJ7_fillNull 2 = .ok (.iconst 1, 1) := dk_4 (dk_at dksJ7_fillNull_0 2 rfl rfl)
theorem dJ7_fillNull_3 : decode cJ7_fillNull 3 = .ok (.ishl, 1) := dk_120 (dk_at dksJ7_fillNull_0 3 rfl rfl)
theorem dJ7_fillNull_4 : decode cJ7_fillNull 4 = .ok (.iload_n 2, 1) := dk_28 (dk_at dksJ7_fillNull_0 4 rfl rfl)
theorem dJ7_fillNull_5 : decode cJ7_fillNull 5 = .ok (.iconst 1, 1) := dk_4 (dk_at dksJ7_fillNull_0 5 rfl rfl)
theorem dJ7_fillNull_6 : decode cJ7_fillNull 6 = .ok (.ishl, 1) := dk_120 (dk_at dksJ7_fillNull_0 6 rfl rfl)
theorem dJ7_fillNull_7 : decode cJ7_fillNull 7 = .ok (.iconst 0, 1) := dk_3 (dk_at dksJ7_fillNull_0 7 rfl rfl)
theorem dJ7_fillNull_8 : decode cJ7_fillNull 8 = .ok (.invokestatic 380, 3) := dk_184 1 124 (dk_at dksJ7_fillNull_0 8 rfl rfl)
theorem dJ7_fillNull_11 : decode cJ7_fillNull 11 = .ok (.return_, 1) := dk_177 (dk_at dksJ7_fillNull_0 11 rfl rfl)
theorem q72 : (Jvm.Cond.initialized "java/lang/StringUTF16") ∈ lw_all := lw_g (lw_at lw_m1 11 rfl) rfl
theorem q226 : (Jvm.Cond.static ({ cls := "java/lang/StringUTF16", name := "newBytesFor", desc := "(I)[B" } : Jvm.MethodName)) ∈ lw_all := lw_g (lw_at lw_m1 165 rfl) rfl
theorem q227 : (Jvm.Cond.code ({ cls := "java/lang/StringUTF16", name := "newBytesFor", desc := "(I)[B" } : Jvm.MethodName) prog_37_method_2_code (1 : Nat) (Option.some (Jvm.ClassFile.FieldType.array Jvm.ClassFile.FieldType.byte))) ∈ lw_all := lw_g (lw_at lw_m1 166 rfl) rfl
theorem q228 : (Jvm.Cond.methodLink "java/lang/StringUTF16" (11 : Nat) ({ cls := "java/lang/StringUTF16", name := "newBytesLength", desc := "(I)I" } : Jvm.MethodName)) ∈ lw_all := lw_g (lw_at lw_m1 167 rfl) rfl
theorem q229 : (Jvm.Cond.static ({ cls := "java/lang/StringUTF16", name := "newBytesLength", desc := "(I)I" } : Jvm.MethodName)) ∈ lw_all := lw_g (lw_at lw_m1 168 rfl) rfl
theorem q230 : (Jvm.Cond.code ({ cls := "java/lang/StringUTF16", name := "newBytesLength", desc := "(I)I" } : Jvm.MethodName) prog_37_method_3_code (1 : Nat) (Option.some Jvm.ClassFile.FieldType.int)) ∈ lw_all := lw_g (lw_at lw_m1 169 rfl) rfl
theorem q231 : (Jvm.Cond.constant "java/lang/StringUTF16" (20 : Nat) (1073741823 : Int32)) ∈ lw_all := lw_g (lw_at lw_m1 170 rfl) rfl
theorem q620 : (Jvm.Cond.static ({ cls := "java/lang/StringUTF16", name := "getChars", desc := "(III[B)I" } : Jvm.MethodName)) ∈ lw_all := lw_g (lw_at lw_m3 79 rfl) rfl
theorem q621 : (Jvm.Cond.code ({ cls := "java/lang/StringUTF16", name := "getChars", desc := "(III[B)I" } : Jvm.MethodName) prog_37_method_77_code (5 : Nat) (Option.some Jvm.ClassFile.FieldType.int)) ∈ lw_all := lw_g (lw_at lw_m3 80 rfl) rfl
theorem q622 : (Jvm.Cond.methodLink "java/lang/StringUTF16" (96 : Nat) ({ cls := "java/lang/StringUTF16", name := "checkBoundsBeginEnd", desc := "(II[B)V" } : Jvm.MethodName)) ∈ lw_all := lw_g (lw_at lw_m3 81 rfl) rfl
theorem q623 : (Jvm.Cond.static ({ cls := "java/lang/StringUTF16", name := "checkBoundsBeginEnd", desc := "(II[B)V" } : Jvm.MethodName)) ∈ lw_all := lw_g (lw_at lw_m3 82 rfl) rfl
theorem q624 : (Jvm.Cond.code ({ cls := "java/lang/StringUTF16", name := "checkBoundsBeginEnd", desc := "(II[B)V" } : Jvm.MethodName) prog_37_method_93_code (3 : Nat) (Option.none : Option Jvm.ClassFile.FieldType)) ∈ lw_all := lw_g (lw_at lw_m3 83 rfl) rfl
theorem q625 : (Jvm.Cond.methodLink "java/lang/StringUTF16" (48 : Nat) ({ cls := "java/lang/StringUTF16", name := "length", desc := "([B)I" } : Jvm.MethodName)) ∈ lw_all := lw_g (lw_at lw_m3 84 rfl) rfl
theorem q626 : (Jvm.Cond.static ({ cls := "java/lang/StringUTF16", name := "length", desc := "([B)I" } : Jvm.MethodName)) ∈ lw_all := lw_g (lw_at lw_m3 85 rfl) rfl
theorem q627 : (Jvm.Cond.code ({ cls := "java/lang/StringUTF16", name := "length", desc := "([B)I" } : Jvm.MethodName) prog_37_method_6_code (1 : Nat) (Option.some Jvm.ClassFile.FieldType.int)) ∈ lw_all := lw_g (lw_at lw_m3 86 rfl) rfl
theorem q628 : (Jvm.Cond.methodLink "java/lang/StringUTF16" (241 : Nat) ({ cls := "java/lang/String", name := "checkBoundsBeginEnd", desc := "(III)V" } : Jvm.MethodName)) ∈ lw_all := lw_g (lw_at lw_m3 87 rfl) rfl
theorem q636 : (Jvm.Cond.methodLink "java/lang/StringUTF16" (393 : Nat) ({ cls := "java/lang/StringUTF16", name := "getChars", desc := "(II[B)I" } : Jvm.MethodName)) ∈ lw_all := lw_g (lw_at lw_m3 95 rfl) rfl
theorem q637 : (Jvm.Cond.static ({ cls := "java/lang/StringUTF16", name := "getChars", desc := "(II[B)I" } : Jvm.MethodName)) ∈ lw_all := lw_g (lw_at lw_m3 96 rfl) rfl
theorem q638 : (Jvm.Cond.code ({ cls := "java/lang/StringUTF16", name := "getChars", desc := "(II[B)I" } : Jvm.MethodName) prog_37_method_89_code (7 : Nat) (Option.some Jvm.ClassFile.FieldType.int)) ∈ lw_all := lw_g (lw_at lw_m3 97 rfl) rfl
theorem q639 : (Jvm.Cond.fieldLink "java/lang/StringUTF16" (403 : Nat) "java/lang/Integer" "DigitOnes" "[B") ∈ lw_all := lw_g (lw_at lw_m3 98 rfl) rfl
theorem q640 : (Jvm.Cond.methodLink "java/lang/StringUTF16" (111 : Nat) ({ cls := "java/lang/StringUTF16", name := "putChar", desc := "([BII)V" } : Jvm.MethodName)) ∈ lw_all := lw_g (lw_at lw_m3 99 rfl) rfl
theorem q641 : (Jvm.Cond.static ({ cls := "java/lang/StringUTF16", name := "putChar", desc := "([BII)V" } : Jvm.MethodName)) ∈ lw_all := lw_g (lw_at lw_m3 100 rfl) rfl
theorem q642 : (Jvm.Cond.code ({ cls := "java/lang/StringUTF16", name := "putChar", desc := "([BII)V" } : Jvm.MethodName) prog_37_method_4_code (3 : Nat) (Option.none : Option Jvm.ClassFile.FieldType)) ∈ lw_all := lw_g (lw_at lw_m3 101 rfl) rfl
theorem q643 : (Jvm.Cond.fieldLink "java/lang/StringUTF16" (44 : Nat) "java/lang/StringUTF16" "$assertionsDisabled" "Z") ∈ lw_all := lw_g (lw_at lw_m3 102 rfl) rfl
theorem q644 : (Jvm.Cond.laysStatic "java/lang/StringUTF16" "$assertionsDisabled" "Z") ∈ lw_tbl := lw_at lw_m3 103 rfl
theorem q645 : (Jvm.Cond.fieldLink "java/lang/StringUTF16" (59 : Nat) "java/lang/StringUTF16" "HI_BYTE_SHIFT" "I") ∈ lw_all := lw_g (lw_at lw_m3 104 rfl) rfl
theorem q646 : (Jvm.Cond.laysStatic "java/lang/StringUTF16" "HI_BYTE_SHIFT" "I") ∈ lw_tbl := lw_at lw_m3 105 rfl
theorem q647 : (Jvm.Cond.fieldLink "java/lang/StringUTF16" (63 : Nat) "java/lang/StringUTF16" "LO_BYTE_SHIFT" "I") ∈ lw_all := lw_g (lw_at lw_m3 106 rfl) rfl
theorem q648 : (Jvm.Cond.laysStatic "java/lang/StringUTF16" "LO_BYTE_SHIFT" "I") ∈ lw_tbl := lw_at lw_m3 107 rfl
theorem q649 : (Jvm.Cond.fieldLink "java/lang/StringUTF16" (407 : Nat) "java/lang/Integer" "DigitTens" "[B") ∈ lw_all := lw_g (lw_at lw_m3 108 rfl) rfl
theorem q663 : (Jvm.Cond.static ({ cls := "java/lang/StringUTF16", name := "putCharsAt", desc := "([BICCCC)I" } : Jvm.MethodName)) ∈ lw_all := lw_g (lw_at lw_m3 122 rfl) rfl
theorem q664 : (Jvm.Cond.code ({ cls := "java/lang/StringUTF16", name := "putCharsAt", desc := "([BICCCC)I" } : Jvm.MethodName) prog_37_method_81_code (7 : Nat) (Option.some Jvm.ClassFile.FieldType.int)) ∈ lw_all := lw_g (lw_at lw_m3 123 rfl) rfl
theorem q691 : (Jvm.Cond.static ({ cls := "java/lang/StringUTF16", name := "inflate", desc := "([BI[BII)V" } : Jvm.MethodName)) ∈ lw_all := lw_g (lw_at lw_m3 150 rfl) rfl
theorem q692 : (Jvm.Cond.code ({ cls := "java/lang/StringUTF16", name := "inflate", desc := "([BI[BII)V" } : Jvm.MethodName) prog_37_method_86_code (6 : Nat) (Option.none : Option Jvm.ClassFile.FieldType)) ∈ lw_all := lw_g (lw_at lw_m3 151 rfl) rfl
theorem q693 : (Jvm.Cond.methodLink "java/lang/StringUTF16" (173 : Nat) ({ cls := "java/lang/StringUTF16", name := "checkBoundsOffCount", desc := "(II[B)V" } : Jvm.MethodName)) ∈ lw_all := lw_g (lw_at lw_m3 152 rfl) rfl
theorem q694 : (Jvm.Cond.static ({ cls := "java/lang/StringUTF16", name := "checkBoundsOffCount", desc := "(II[B)V" } : Jvm.MethodName)) ∈ lw_all := lw_g (lw_at lw_m3 153 rfl) rfl
theorem q695 : (Jvm.Cond.code ({ cls := "java/lang/StringUTF16", name := "checkBoundsOffCount", desc := "(II[B)V" } : Jvm.MethodName) prog_37_method_94_code (3 : Nat) (Option.none : Option Jvm.ClassFile.FieldType)) ∈ lw_all := lw_g (lw_at lw_m3 154 rfl) rfl
theorem q696 : (Jvm.Cond.methodLink "java/lang/StringUTF16" (419 : Nat) ({ cls := "java/lang/String", name := "checkBoundsOffCount", desc := "(III)I" } : Jvm.MethodName)) ∈ lw_all := lw_g (lw_at lw_m3 155 rfl) rfl
theorem q759 : (Jvm.Cond.static ({ cls := "java/lang/StringUTF16", name := "compress", desc := "([BII)[B" } : Jvm.MethodName)) ∈ lw_all := lw_g (lw_at lw_m3 218 rfl) rfl
theorem q760 : (Jvm.Cond.code ({ cls := "java/lang/StringUTF16", name := "compress", desc := "([BII)[B" } : Jvm.MethodName) prog_37_method_17_code (6 : Nat) (Option.some (Jvm.ClassFile.FieldType.array Jvm.ClassFile.FieldType.byte))) ∈ lw_all := lw_g (lw_at lw_m3 219 rfl) rfl
theorem q761 : (Jvm.Cond.methodLink "java/lang/StringUTF16" (123 : Nat) ({ cls := "java/lang/StringUTF16", name := "compress", desc := "([BI[BII)I" } : Jvm.MethodName)) ∈ lw_all := lw_g (lw_at lw_m3 220 rfl) rfl
theorem q762 : (Jvm.Cond.static ({ cls := "java/lang/StringUTF16", name := "compress", desc := "([BI[BII)I" } : Jvm.MethodName)) ∈ lw_all := lw_g (lw_at lw_m3 221 rfl) rfl
theorem q763 : (Jvm.Cond.code ({ cls := "java/lang/StringUTF16", name := "compress", desc := "([BI[BII)I" } : Jvm.MethodName) prog_37_method_22_code (7 : Nat) (Option.some Jvm.ClassFile.FieldType.int)) ∈ lw_all := lw_g (lw_at lw_m3 222 rfl) rfl
theorem q764 : (Jvm.Cond.methodLink "java/lang/StringUTF16" (71 : Nat) ({ cls := "java/lang/StringUTF16", name := "getChar", desc := "([BI)C" } : Jvm.MethodName)) ∈ lw_all := lw_g (lw_at lw_m3 223 rfl) rfl
theorem q765 : (Jvm.Cond.static ({ cls := "java/lang/StringUTF16", name := "getChar", desc := "([BI)C" } : Jvm.MethodName)) ∈ lw_all := lw_g (lw_at lw_m3 224 rfl) rfl
theorem q766 : (Jvm.Cond.code ({ cls := "java/lang/StringUTF16", name := "getChar", desc := "([BI)C" } : Jvm.MethodName) prog_37_method_5_code (2 : Nat) (Option.some Jvm.ClassFile.FieldType.char)) ∈ lw_all := lw_g (lw_at lw_m3 225 rfl) rfl
theorem q767 : (Jvm.Cond.methodLink "java/lang/StringUTF16" (126 : Nat) ({ cls := "java/util/Arrays", name := "copyOfRange", desc := "([BII)[B" } : Jvm.MethodName)) ∈ lw_all := lw_g (lw_at lw_m3 226 rfl) rfl
theorem q769 : (Jvm.Cond.static ({ cls := "java/lang/StringUTF16", name := "coderFromArrayLen", desc := "([BI)B" } : Jvm.MethodName)) ∈ lw_all := lw_g (lw_at lw_m3 228 rfl) rfl
theorem q770 : (Jvm.Cond.code ({ cls := "java/lang/StringUTF16", name := "coderFromArrayLen", desc := "([BI)B" } : Jvm.MethodName) prog_37_method_15_code (2 : Nat) (Option.some Jvm.ClassFile.FieldType.byte)) ∈ lw_all := lw_g (lw_at lw_m3 229 rfl) rfl
theorem q1496 : (Jvm.Cond.static ({ cls := "java/lang/StringUTF16", name := "charAt", desc := "([BI)C" } : Jvm.MethodName)) ∈ lw_all := lw_g (lw_at lw_m6 235 rfl) rfl
theorem q1497 : (Jvm.Cond.code ({ cls := "java/lang/StringUTF16", name := "charAt", desc := "([BI)C" } : Jvm.MethodName) prog_37_method_83_code (2 : Nat) (Option.some Jvm.ClassFile.FieldType.char)) ∈ lw_all := lw_g (lw_at lw_m6 236 rfl) rfl
theorem q1498 : (Jvm.Cond.methodLink "java/lang/StringUTF16" (67 : Nat) ({ cls := "java/lang/StringUTF16", name := "checkIndex", desc := "(I[B)V" } : Jvm.MethodName)) ∈ lw_all := lw_g (lw_at lw_m6 237 rfl) rfl
theorem q1499 : (Jvm.Cond.static ({ cls := "java/lang/StringUTF16", name := "checkIndex", desc := "(I[B)V" } : Jvm.MethodName)) ∈ lw_all := lw_g (lw_at lw_m6 238 rfl) rfl
theorem q1500 : (Jvm.Cond.code ({ cls := "java/lang/StringUTF16", name := "checkIndex", desc := "(I[B)V" } : Jvm.MethodName) prog_37_method_91_code (2 : Nat) (Option.none : Option Jvm.ClassFile.FieldType)) ∈ lw_all := lw_g (lw_at lw_m6 239 rfl) rfl
theorem q1501 : (Jvm.Cond.methodLink "java/lang/StringUTF16" (414 : Nat) ({ cls := "java/lang/String", name := "checkIndex", desc := "(II)V" } : Jvm.MethodName)) ∈ lw_all := lw_g (lw_at lw_m7 0 rfl) rfl
theorem q1521 : (Jvm.Cond.static ({ cls := "java/lang/StringUTF16", name := "putCharSB", desc := "([BII)V" } : Jvm.MethodName)) ∈ lw_all := lw_g (lw_at lw_m7 20 rfl) rfl
theorem q1522 : (Jvm.Cond.code ({ cls := "java/lang/StringUTF16", name := "putCharSB", desc := "([BII)V" } : Jvm.MethodName) prog_37_method_71_code (3 : Nat) (Option.none : Option Jvm.ClassFile.FieldType)) ∈ lw_all := lw_g (lw_at lw_m7 21 rfl) rfl
theorem q1629 : (Jvm.Cond.static ({ cls := "java/lang/StringUTF16", name := "hashCode", desc := "([B)I" } : Jvm.MethodName)) ∈ lw_all := lw_g (lw_at lw_m7 128 rfl) rfl
theorem q1630 : (Jvm.Cond.code ({ cls := "java/lang/StringUTF16", name := "hashCode", desc := "([B)I" } : Jvm.MethodName) prog_37_method_39_code (1 : Nat) (Option.some Jvm.ClassFile.FieldType.int)) ∈ lw_all := lw_g (lw_at lw_m7 129 rfl) rfl
theorem q1631 : (Jvm.Cond.methodLink "java/lang/StringUTF16" (220 : Nat) ({ cls := "jdk/internal/util/ArraysSupport", name := "vectorizedHashCode", desc := "(Ljava/lang/Object;IIII)I" } : Jvm.MethodName)) ∈ lw_all := lw_g (lw_at lw_m7 130 rfl) rfl
theorem q2105 : (Jvm.Cond.static ({ cls := "java/lang/StringUTF16", name := "fillNull", desc := "([BII)V" } : Jvm.MethodName)) ∈ lw_all := lw_g (lw_at lw_m9 124 rfl) rfl
theorem q2106 : (Jvm.Cond.code ({ cls := "java/lang/StringUTF16", name := "fillNull", desc := "([BII)V" } : Jvm.MethodName) prog_37_method_70_code (3 : Nat) (Option.none : Option Jvm.ClassFile.FieldType)) ∈ lw_all := lw_g (lw_at lw_m9 125 rfl) rfl
theorem q2107 : (Jvm.Cond.methodLink "java/lang/StringUTF16" (380 : Nat) ({ cls := "java/util/Arrays", name := "fill", desc := "([BIIB)V" } : Jvm.MethodName)) ∈ lw_all := lw_g (lw_at lw_m9 126 rfl) rfl
/-! java/lang/Throwable -/
set_option maxRecDepth 100000
def RJ8 : String := "java/lang/Throwable"
def TJ8 : u_T := fun k => match k with
  | 0 => ("java/lang/Throwable", "cause", "Ljava/lang/Throwable;", false)
  | 1 => ("java/lang/Throwable", "stackTrace", "[Ljava/lang/StackTraceElement;", false)
  | 2 => ("java/lang/Throwable", "suppressedExceptions", "Ljava/util/List;", false)
  | 3 => ("java/lang/Throwable", "detailMessage", "Ljava/lang/String;", false)
  | _ => ("java/lang/Throwable", "backtrace", "Ljava/lang/Object;", false)
def tyJ8 : Nat → FieldType := fun k => match k with
  | 0 => .object "java/lang/Throwable"
  | 1 => .array (.object "java/lang/StackTraceElement")
  | 2 => .object "java/util/List"
  | 3 => .object "java/lang/String"
  | _ => .object "java/lang/Object"
abbrev wsJ80 : List Cond := u_ws RJ8 TJ8 5
theorem nmJ8 : ∀ a, a < 5 → ∀ b, b < 5 → a ≠ b → (TJ8 a).2.1 ≠ (TJ8 b).2.1 := by decide +kernel
theorem tyJ8_ok : ∀ k, k < 5 → parseFieldDescriptor (TJ8 k).2.2.1 = some (tyJ8 k) := by decide +kernel
abbrev cJ8_init : ByteArray := prog_40_method_1_code
def yJ8_init : MethodName := ⟨RJ8, "<init>", "()V"⟩
def dkwJ8_init_1 : List UInt8 := [182, 0, 27, 87, 177]
abbrev dktJ8_init_1 : List UInt8 := dkwJ8_init_1 ++ []
def dkwJ8_init_0 : List UInt8 := [42, 183, 0, 1, 42, 42, 181, 0, 7, 42, 178, 0, 13, 181, 0, 17, 42, 178, 0, 20, 181, 0, 24, 42]
abbrev dktJ8_init_0 : List UInt8 := dkwJ8_init_0 ++ dktJ8_init_1
theorem dksJ8_init_0 : cJ8_init.data.toList.drop 0 = dktJ8_init_0 := by decide +kernel
theorem dksJ8_init_1 : cJ8_init.data.toList.drop 24 = dktJ8_init_1 := dk_seg dksJ8_init_0 24 rfl rfl
theorem dJ8_init_0 : decode cJ8_init 0 = .ok (.aload_n 0, 1) := dk_42 (dk_at dksJ8_init_0 0 rfl rfl)
theorem dJ8_init_1 : decode cJ8_init 1 = .ok (.invokespecial 1, 3) := dk_183 0 1 (dk_at dksJ8_init_0 1 rfl rfl)
theorem dJ8_init_4 : decode cJ8_init 4 = .ok (.aload_n 0, 1) := dk_42 (dk_at dksJ8_init_0 4 rfl rfl)
theorem dJ8_init_5 : decode cJ8_init 5 = .ok (.aload_n 0, 1) := dk_42 (dk_at dksJ8_init_0 5 rfl rfl)
theorem dJ8_init_6 : decode cJ8_init 6 = .ok (.putfield 7, 3) := dk_181 0 7 (dk_at dksJ8_init_0 6 rfl rfl)
theorem dJ8_init_9 : decode cJ8_init 9 = .ok (.aload_n 0, 1) := dk_42 (dk_at dksJ8_init_0 9 rfl rfl)
theorem dJ8_init_10 : decode cJ8_init 10 = .ok (.getstatic 13, 3) := dk_178 0 13 (dk_at dksJ8_init_0 10 rfl rfl)
theorem dJ8_init_13 : decode cJ8_init 13 = .ok (.putfield 17, 3) := dk_181 0 17 (dk_at dksJ8_init_0 13 rfl rfl)
theorem dJ8_init_16 : decode cJ8_init 16 = .ok (.aload_n 0, 1) := dk_42 (dk_at dksJ8_init_0 16 rfl rfl)
theorem dJ8_init_17 : decode cJ8_init 17 = .ok (.getstatic 20, 3) := dk_178 0 20 (dk_at dksJ8_init_0 17 rfl rfl)
theorem dJ8_init_20 : decode cJ8_init 20 = .ok (.putfield 24, 3) := dk_181 0 24 (dk_at dksJ8_init_0 20 rfl rfl)
theorem dJ8_init_23 : decode cJ8_init 23 = .ok (.aload_n 0, 1) := dk_42 (dk_at dksJ8_init_0 23 rfl rfl)
theorem dJ8_init_24 : decode cJ8_init 24 = .ok (.invokevirtual 27, 3) := dk_182 0 27 (dk_at dksJ8_init_1 0 rfl rfl)
theorem dJ8_init_27 : decode cJ8_init 27 = .ok (.pop, 1) := dk_87 (dk_at dksJ8_init_1 3 rfl rfl)
theorem dJ8_init_28 : decode cJ8_init 28 = .ok (.return_, 1) := dk_177 (dk_at dksJ8_init_1 4 rfl rfl)
abbrev cJ8_init_2 : ByteArray := prog_40_method_2_code
def yJ8_init_2 : MethodName := ⟨RJ8, "<init>", "(Ljava/lang/String;)V"⟩
def dkwJ8_init_2_1 : List UInt8 := [182, 0, 27, 87, 42, 43, 181, 0, 31, 177]
abbrev dktJ8_init_2_1 : List UInt8 := dkwJ8_init_2_1 ++ []
def dkwJ8_init_2_0 : List UInt8 := [42, 183, 0, 1, 42, 42, 181, 0, 7, 42, 178, 0, 13, 181, 0, 17, 42, 178, 0, 20, 181, 0, 24, 42]
abbrev dktJ8_init_2_0 : List UInt8 := dkwJ8_init_2_0 ++ dktJ8_init_2_1
theorem dksJ8_init_2_0 : cJ8_init_2.data.toList.drop 0 = dktJ8_init_2_0 := by decide +kernel
theorem dksJ8_init_2_1 : cJ8_init_2.data.toList.drop 24 = dktJ8_init_2_1 := dk_seg dksJ8_init_2_0 24 rfl rfl
theorem dJ8_init_2_0 : decode cJ8_init_2 0 = .ok (.aload_n 0, 1) := dk_42 (dk_at dksJ8_init_2_0 0 rfl rfl)
theorem dJ8_init_2_1 : decode cJ8_init_2 1 = .ok (.invokespecial 1, 3) := dk_183 0 1 (dk_at dksJ8_init_2_0 1 rfl rfl)
theorem dJ8_init_2_4 : decode cJ8_init_2 4 = .ok (.aload_n 0, 1) := dk_42 (dk_at dksJ8_init_2_0 4 rfl rfl)
theorem dJ8_init_2_5 : decode cJ8_init_2 5 = .ok (.aload_n 0, 1) := dk_42 (dk_at dksJ8_init_2_0 5 rfl rfl)
theorem dJ8_init_2_6 : decode cJ8_init_2 6 = .ok (.putfield 7, 3) := dk_181 0 7 (dk_at dksJ8_init_2_0 6 rfl rfl)
theorem dJ8_init_2_9 : decode cJ8_init_2 9 = .ok (.aload_n 0, 1) := dk_42 (dk_at dksJ8_init_2_0 9 rfl rfl)
theorem dJ8_init_2_10 : decode cJ8_init_2 10 = .ok (.getstatic 13, 3) := dk_178 0 13 (dk_at dksJ8_init_2_0 10 rfl rfl)
theorem dJ8_init_2_13 : decode cJ8_init_2 13 = .ok (.putfield 17, 3) := dk_181 0 17 (dk_at dksJ8_init_2_0 13 rfl rfl)
theorem dJ8_init_2_16 : decode cJ8_init_2 16 = .ok (.aload_n 0, 1) := dk_42 (dk_at dksJ8_init_2_0 16 rfl rfl)
theorem dJ8_init_2_17 : decode cJ8_init_2 17 = .ok (.getstatic 20, 3) := dk_178 0 20 (dk_at dksJ8_init_2_0 17 rfl rfl)
theorem dJ8_init_2_20 : decode cJ8_init_2 20 = .ok (.putfield 24, 3) := dk_181 0 24 (dk_at dksJ8_init_2_0 20 rfl rfl)
theorem dJ8_init_2_23 : decode cJ8_init_2 23 = .ok (.aload_n 0, 1) := dk_42 (dk_at dksJ8_init_2_0 23 rfl rfl)
theorem dJ8_init_2_24 : decode cJ8_init_2 24 = .ok (.invokevirtual 27, 3) := dk_182 0 27 (dk_at dksJ8_init_2_1 0 rfl rfl)
theorem dJ8_init_2_27 : decode cJ8_init_2 27 = .ok (.pop, 1) := dk_87 (dk_at dksJ8_init_2_1 3 rfl rfl)
theorem dJ8_init_2_28 : decode cJ8_init_2 28 = .ok (.aload_n 0, 1) := dk_42 (dk_at dksJ8_init_2_1 4 rfl rfl)
theorem dJ8_init_2_29 : decode cJ8_init_2 29 = .ok (.aload_n 1, 1) := dk_43 (dk_at dksJ8_init_2_1 5 rfl rfl)
theorem dJ8_init_2_30 : decode cJ8_init_2 30 = .ok (.putfield 31, 3) := dk_181 0 31 (dk_at dksJ8_init_2_1 6 rfl rfl)
theorem dJ8_init_2_33 : decode cJ8_init_2 33 = .ok (.return_, 1) := dk_177 (dk_at dksJ8_init_2_1 9 rfl rfl)
theorem q74 : (Jvm.Cond.initialized "java/lang/Throwable") ∈ lw_all := lw_g (lw_at lw_m1 13 rfl) rfl
theorem q349 : (Jvm.Cond.declares ({ cls := "java/lang/Throwable", name := "<init>", desc := "()V" } : Jvm.MethodName)) ∈ lw_tbl := lw_at lw_m2 48 rfl
theorem q350 : (Jvm.Cond.declares ({ cls := "java/lang/Throwable", name := "<init>", desc := "(Ljava/lang/String;)V" } : Jvm.MethodName)) ∈ lw_tbl := lw_at lw_m2 49 rfl
theorem q354 : (Jvm.Cond.lays "java/lang/Throwable" "java/lang/Throwable" "cause" "Ljava/lang/Throwable;") ∈ lw_all := lw_g (lw_at lw_m2 53 rfl) rfl
theorem q356 : (Jvm.Cond.lays "java/lang/Throwable" "java/lang/Throwable" "stackTrace" "[Ljava/lang/StackTraceElement;") ∈ lw_all := lw_g (lw_at lw_m2 55 rfl) rfl
theorem q358 : (Jvm.Cond.lays "java/lang/Throwable" "java/lang/Throwable" "suppressedExceptions" "Ljava/util/List;") ∈ lw_all := lw_g (lw_at lw_m2 57 rfl) rfl
theorem q360 : (Jvm.Cond.lays "java/lang/Throwable" "java/lang/Throwable" "detailMessage" "Ljava/lang/String;") ∈ lw_all := lw_g (lw_at lw_m2 59 rfl) rfl
theorem q362 : (Jvm.Cond.lays "java/lang/Throwable" "java/lang/Throwable" "backtrace" "Ljava/lang/Object;") ∈ lw_all := lw_g (lw_at lw_m2 61 rfl) rfl
theorem q363 : (Jvm.Cond.fieldLink "java/lang/Throwable" (198 : Nat) "java/lang/Throwable" "backtrace" "Ljava/lang/Object;") ∈ lw_all := lw_g (lw_at lw_m2 62 rfl) rfl
theorem q364 : (Jvm.Cond.superclass "java/lang/Throwable" "java/lang/Object") ∈ lw_all := lw_g (lw_at lw_m2 63 rfl) rfl
theorem q365 : (Jvm.Cond.instanceMethod ({ cls := "java/lang/Throwable", name := "<init>", desc := "()V" } : Jvm.MethodName)) ∈ lw_all := lw_g (lw_at lw_m2 64 rfl) rfl
theorem q366 : (Jvm.Cond.code ({ cls := "java/lang/Throwable", name := "<init>", desc := "()V" } : Jvm.MethodName) prog_40_method_1_code (1 : Nat) (Option.none : Option Jvm.ClassFile.FieldType)) ∈ lw_all := lw_g (lw_at lw_m2 65 rfl) rfl
theorem q367 : (Jvm.Cond.methodLink "java/lang/Throwable" (1 : Nat) ({ cls := "java/lang/Object", name := "<init>", desc := "()V" } : Jvm.MethodName)) ∈ lw_all := lw_g (lw_at lw_m2 66 rfl) rfl
theorem q368 : (Jvm.Cond.fieldLink "java/lang/Throwable" (13 : Nat) "java/lang/Throwable" "UNASSIGNED_STACK" "[Ljava/lang/StackTraceElement;") ∈ lw_all := lw_g (lw_at lw_m2 67 rfl) rfl
theorem q369 : (Jvm.Cond.laysStatic "java/lang/Throwable" "UNASSIGNED_STACK" "[Ljava/lang/StackTraceElement;") ∈ lw_tbl := lw_at lw_m2 68 rfl
theorem q370 : (Jvm.Cond.fieldLink "java/lang/Throwable" (20 : Nat) "java/lang/Throwable" "SUPPRESSED_SENTINEL" "Ljava/util/List;") ∈ lw_all := lw_g (lw_at lw_m2 69 rfl) rfl
theorem q371 : (Jvm.Cond.laysStatic "java/lang/Throwable" "SUPPRESSED_SENTINEL" "Ljava/util/List;") ∈ lw_tbl := lw_at lw_m2 70 rfl
theorem q372 : (Jvm.Cond.methodLink "java/lang/Throwable" (27 : Nat) ({ cls := "java/lang/Throwable", name := "fillInStackTrace", desc := "()Ljava/lang/Throwable;" } : Jvm.MethodName)) ∈ lw_all := lw_g (lw_at lw_m2 71 rfl) rfl
theorem q373 : (Jvm.Cond.instanceMethod ({ cls := "java/lang/Throwable", name := "fillInStackTrace", desc := "()Ljava/lang/Throwable;" } : Jvm.MethodName)) ∈ lw_all := lw_g (lw_at lw_m2 72 rfl) rfl
theorem q374 : (Jvm.Cond.sameMethod "java/lang/Throwable" "java/lang/Throwable" "fillInStackTrace" "()Ljava/lang/Throwable;") ∈ lw_all := lw_g (lw_at lw_m2 73 rfl) rfl
theorem q383 : (Jvm.Cond.codeSync ({ cls := "java/lang/Throwable", name := "fillInStackTrace", desc := "()Ljava/lang/Throwable;" } : Jvm.MethodName) prog_40_method_18_code (1 : Nat) (Option.some (Jvm.ClassFile.FieldType.object "java/lang/Throwable"))) ∈ lw_all := lw_g (lw_at lw_m2 82 rfl) rfl
theorem q384 : (Jvm.Cond.methodLink "java/lang/Throwable" (202 : Nat) ({ cls := "java/lang/Throwable", name := "fillInStackTrace", desc := "(I)Ljava/lang/Throwable;" } : Jvm.MethodName)) ∈ lw_all := lw_g (lw_at lw_m2 83 rfl) rfl
theorem q385 : (Jvm.Cond.privateMethod ({ cls := "java/lang/Throwable", name := "fillInStackTrace", desc := "(I)Ljava/lang/Throwable;" } : Jvm.MethodName)) ∈ lw_tbl := lw_at lw_m2 84 rfl
theorem q386 : (Jvm.Cond.instanceMethod ({ cls := "java/lang/Throwable", name := "fillInStackTrace", desc := "(I)Ljava/lang/Throwable;" } : Jvm.MethodName)) ∈ lw_all := lw_g (lw_at lw_m2 85 rfl) rfl
theorem q387 : (Jvm.Cond.instantiable "java/lang/Throwable" (6 : Nat)) ∈ lw_all := lw_g (lw_at lw_m2 86 rfl) rfl
theorem q388 : (Jvm.Cond.native ({ cls := "java/lang/Throwable", name := "fillInStackTrace", desc := "(I)Ljava/lang/Throwable;" } : Jvm.MethodName)) ∈ lw_all := lw_g (lw_at lw_m2 87 rfl) rfl
theorem q399 : (Jvm.Cond.fieldLink "java/lang/Throwable" (198 : Nat) "java/lang/Throwable" "backtrace" "Ljava/lang/Object;") ∈ lw_all := lw_g (lw_at lw_m2 98 rfl) rfl
theorem q400 : (Jvm.Cond.fieldLink "java/lang/Throwable" (31 : Nat) "java/lang/Throwable" "detailMessage" "Ljava/lang/String;") ∈ lw_all := lw_g (lw_at lw_m2 99 rfl) rfl
theorem q401 : (Jvm.Cond.fieldLink "java/lang/Throwable" (7 : Nat) "java/lang/Throwable" "cause" "Ljava/lang/Throwable;") ∈ lw_all := lw_g (lw_at lw_m2 100 rfl) rfl
theorem q402 : (Jvm.Cond.fieldLink "java/lang/Throwable" (17 : Nat) "java/lang/Throwable" "stackTrace" "[Ljava/lang/StackTraceElement;") ∈ lw_all := lw_g (lw_at lw_m2 101 rfl) rfl
theorem q403 : (Jvm.Cond.fieldLink "java/lang/Throwable" (24 : Nat) "java/lang/Throwable" "suppressedExceptions" "Ljava/util/List;") ∈ lw_all := lw_g (lw_at lw_m2 102 rfl) rfl
theorem q404 : (Jvm.Cond.soleField "java/lang/Throwable" "backtrace") ∈ lw_all := lw_g (lw_at lw_m2 103 rfl) rfl
theorem q405 : (Jvm.Cond.soleField "java/lang/Throwable" "detailMessage") ∈ lw_all := lw_g (lw_at lw_m2 104 rfl) rfl
theorem q406 : (Jvm.Cond.soleField "java/lang/Throwable" "cause") ∈ lw_all := lw_g (lw_at lw_m2 105 rfl) rfl
theorem q407 : (Jvm.Cond.soleField "java/lang/Throwable" "stackTrace") ∈ lw_all := lw_g (lw_at lw_m2 106 rfl) rfl
theorem q409 : (Jvm.Cond.soleField "java/lang/Throwable" "depth") ∈ lw_all := lw_g (lw_at lw_m2 108 rfl) rfl
theorem q410 : (Jvm.Cond.soleField "java/lang/Throwable" "suppressedExceptions") ∈ lw_all := lw_g (lw_at lw_m2 109 rfl) rfl
theorem q754 : (Jvm.Cond.instanceMethod ({ cls := "java/lang/Throwable", name := "<init>", desc := "(Ljava/lang/String;)V" } : Jvm.MethodName)) ∈ lw_all := lw_g (lw_at lw_m3 213 rfl) rfl
theorem q755 : (Jvm.Cond.code ({ cls := "java/lang/Throwable", name := "<init>", desc := "(Ljava/lang/String;)V" } : Jvm.MethodName) prog_40_method_2_code (2 : Nat) (Option.none : Option Jvm.ClassFile.FieldType)) ∈ lw_all := lw_g (lw_at lw_m3 214 rfl) rfl
theorem q2208 : (Jvm.Cond.sameMethod "java/lang/Throwable" "java/lang/Throwable" "fillInStackTrace" "(I)Ljava/lang/Throwable;") ∈ lw_all := lw_g (lw_at lw_m9 227 rfl) rfl
theorem q2249 : (Jvm.Cond.castable "java/lang/Throwable" "java/lang/Object") ∈ lw_tbl := lw_at lw_m10 28 rfl
theorem in_J8 : ∀ w ∈ wsJ80, w ∈ lw_all := lw_in wsJ80 [354, 356, 358, 360, 362] (by decide +kernel) (by decide +kernel)
/-! java/lang/Exception -/
set_option maxRecDepth 100000
def RJ9 : String := "java/lang/Exception"
abbrev cJ9_init : ByteArray := prog_24_method_1_code
def yJ9_init : MethodName := ⟨RJ9, "<init>", "()V"⟩
theorem dJ9_init_0 : decode cJ9_init 0 = .ok (.aload_n 0, 1) := by decide +kernel
theorem dJ9_init_1 : decode cJ9_init 1 = .ok (.invokespecial 1, 3) := by decide +kernel
theorem dJ9_init_4 : decode cJ9_init 4 = .ok (.return_, 1) := by decide +kernel
abbrev cJ9_init_2 : ByteArray := prog_24_method_2_code
def yJ9_init_2 : MethodName := ⟨RJ9, "<init>", "(Ljava/lang/String;)V"⟩
def dkwJ9_init_2_0 : List UInt8 := [42, 43, 183, 0, 7, 177]
abbrev dktJ9_init_2_0 : List UInt8 := dkwJ9_init_2_0 ++ []
theorem dksJ9_init_2_0 : cJ9_init_2.data.toList.drop 0 = dktJ9_init_2_0 := by decide +kernel
theorem dJ9_init_2_0 : decode cJ9_init_2 0 = .ok (.aload_n 0, 1) := dk_42 (dk_at dksJ9_init_2_0 0 rfl rfl)
theorem dJ9_init_2_1 : decode cJ9_init_2 1 = .ok (.aload_n 1, 1) := dk_43 (dk_at dksJ9_init_2_0 1 rfl rfl)
theorem dJ9_init_2_2 : decode cJ9_init_2 2 = .ok (.invokespecial 7, 3) := dk_183 0 7 (dk_at dksJ9_init_2_0 2 rfl rfl)
theorem dJ9_init_2_5 : decode cJ9_init_2 5 = .ok (.return_, 1) := dk_177 (dk_at dksJ9_init_2_0 5 rfl rfl)
theorem q75 : (Jvm.Cond.initialized "java/lang/Exception") ∈ lw_all := lw_g (lw_at lw_m1 14 rfl) rfl
theorem q347 : (Jvm.Cond.declares ({ cls := "java/lang/Exception", name := "<init>", desc := "()V" } : Jvm.MethodName)) ∈ lw_tbl := lw_at lw_m2 46 rfl
theorem q348 : (Jvm.Cond.declares ({ cls := "java/lang/Exception", name := "<init>", desc := "(Ljava/lang/String;)V" } : Jvm.MethodName)) ∈ lw_tbl := lw_at lw_m2 47 rfl
theorem q396 : (Jvm.Cond.instanceMethod ({ cls := "java/lang/Exception", name := "<init>", desc := "()V" } : Jvm.MethodName)) ∈ lw_all := lw_g (lw_at lw_m2 95 rfl) rfl
theorem q397 : (Jvm.Cond.code ({ cls := "java/lang/Exception", name := "<init>", desc := "()V" } : Jvm.MethodName) prog_24_method_1_code (1 : Nat) (Option.none : Option Jvm.ClassFile.FieldType)) ∈ lw_all := lw_g (lw_at lw_m2 96 rfl) rfl
theorem q398 : (Jvm.Cond.methodLink "java/lang/Exception" (1 : Nat) ({ cls := "java/lang/Throwable", name := "<init>", desc := "()V" } : Jvm.MethodName)) ∈ lw_all := lw_g (lw_at lw_m2 97 rfl) rfl
theorem q751 : (Jvm.Cond.instanceMethod ({ cls := "java/lang/Exception", name := "<init>", desc := "(Ljava/lang/String;)V" } : Jvm.MethodName)) ∈ lw_all := lw_g (lw_at lw_m3 210 rfl) rfl
theorem q752 : (Jvm.Cond.code ({ cls := "java/lang/Exception", name := "<init>", desc := "(Ljava/lang/String;)V" } : Jvm.MethodName) prog_24_method_2_code (2 : Nat) (Option.none : Option Jvm.ClassFile.FieldType)) ∈ lw_all := lw_g (lw_at lw_m3 211 rfl) rfl
theorem q753 : (Jvm.Cond.methodLink "java/lang/Exception" (7 : Nat) ({ cls := "java/lang/Throwable", name := "<init>", desc := "(Ljava/lang/String;)V" } : Jvm.MethodName)) ∈ lw_all := lw_g (lw_at lw_m3 212 rfl) rfl
/-! java/lang/RuntimeException -/
set_option maxRecDepth 100000
def RJ10 : String := "java/lang/RuntimeException"
abbrev cJ10_init : ByteArray := prog_32_method_1_code
def yJ10_init : MethodName := ⟨RJ10, "<init>", "()V"⟩
theorem dJ10_init_0 : decode cJ10_init 0 = .ok (.aload_n 0, 1) := by decide +kernel
theorem dJ10_init_1 : decode cJ10_init 1 = .ok (.invokespecial 1, 3) := by decide +kernel
theorem dJ10_init_4 : decode cJ10_init 4 = .ok (.return_, 1) := by decide +kernel
abbrev cJ10_init_2 : ByteArray := prog_32_method_2_code
def yJ10_init_2 : MethodName := ⟨RJ10, "<init>", "(Ljava/lang/String;)V"⟩
def dkwJ10_init_2_0 : List UInt8 := [42, 43, 183, 0, 7, 177]
abbrev dktJ10_init_2_0 : List UInt8 := dkwJ10_init_2_0 ++ []
theorem dksJ10_init_2_0 : cJ10_init_2.data.toList.drop 0 = dktJ10_init_2_0 := by decide +kernel
theorem dJ10_init_2_0 : decode cJ10_init_2 0 = .ok (.aload_n 0, 1) := dk_42 (dk_at dksJ10_init_2_0 0 rfl rfl)
theorem dJ10_init_2_1 : decode cJ10_init_2 1 = .ok (.aload_n 1, 1) := dk_43 (dk_at dksJ10_init_2_0 1 rfl rfl)
theorem dJ10_init_2_2 : decode cJ10_init_2 2 = .ok (.invokespecial 7, 3) := dk_183 0 7 (dk_at dksJ10_init_2_0 2 rfl rfl)
theorem dJ10_init_2_5 : decode cJ10_init_2 5 = .ok (.return_, 1) := dk_177 (dk_at dksJ10_init_2_0 5 rfl rfl)
theorem q76 : (Jvm.Cond.initialized "java/lang/RuntimeException") ∈ lw_all := lw_g (lw_at lw_m1 15 rfl) rfl
theorem q345 : (Jvm.Cond.declares ({ cls := "java/lang/RuntimeException", name := "<init>", desc := "()V" } : Jvm.MethodName)) ∈ lw_tbl := lw_at lw_m2 44 rfl
theorem q346 : (Jvm.Cond.declares ({ cls := "java/lang/RuntimeException", name := "<init>", desc := "(Ljava/lang/String;)V" } : Jvm.MethodName)) ∈ lw_tbl := lw_at lw_m2 45 rfl
theorem q393 : (Jvm.Cond.instanceMethod ({ cls := "java/lang/RuntimeException", name := "<init>", desc := "()V" } : Jvm.MethodName)) ∈ lw_all := lw_g (lw_at lw_m2 92 rfl) rfl
theorem q394 : (Jvm.Cond.code ({ cls := "java/lang/RuntimeException", name := "<init>", desc := "()V" } : Jvm.MethodName) prog_32_method_1_code (1 : Nat) (Option.none : Option Jvm.ClassFile.FieldType)) ∈ lw_all := lw_g (lw_at lw_m2 93 rfl) rfl
theorem q395 : (Jvm.Cond.methodLink "java/lang/RuntimeException" (1 : Nat) ({ cls := "java/lang/Exception", name := "<init>", desc := "()V" } : Jvm.MethodName)) ∈ lw_all := lw_g (lw_at lw_m2 94 rfl) rfl
theorem q748 : (Jvm.Cond.instanceMethod ({ cls := "java/lang/RuntimeException", name := "<init>", desc := "(Ljava/lang/String;)V" } : Jvm.MethodName)) ∈ lw_all := lw_g (lw_at lw_m3 207 rfl) rfl
theorem q749 : (Jvm.Cond.code ({ cls := "java/lang/RuntimeException", name := "<init>", desc := "(Ljava/lang/String;)V" } : Jvm.MethodName) prog_32_method_2_code (2 : Nat) (Option.none : Option Jvm.ClassFile.FieldType)) ∈ lw_all := lw_g (lw_at lw_m3 208 rfl) rfl
theorem q750 : (Jvm.Cond.methodLink "java/lang/RuntimeException" (7 : Nat) ({ cls := "java/lang/Exception", name := "<init>", desc := "(Ljava/lang/String;)V" } : Jvm.MethodName)) ∈ lw_all := lw_g (lw_at lw_m3 209 rfl) rfl
/-! java/lang/IllegalArgumentException -/
set_option maxRecDepth 100000
def RJ11 : String := "java/lang/IllegalArgumentException"
def TJ11 : u_T := fun k => match k with
  | 0 => ("java/lang/Throwable", "cause", "Ljava/lang/Throwable;", false)
  | 1 => ("java/lang/Throwable", "stackTrace", "[Ljava/lang/StackTraceElement;", false)
  | 2 => ("java/lang/Throwable", "suppressedExceptions", "Ljava/util/List;", false)
  | 3 => ("java/lang/Throwable", "detailMessage", "Ljava/lang/String;", false)
  | 4 => ("java/lang/Throwable", "backtrace", "Ljava/lang/Object;", false)
  | _ => ("java/lang/Throwable", "depth", "I", false)
def tyJ11 : Nat → FieldType := fun k => match k with
  | 0 => .object "java/lang/Throwable"
  | 1 => .array (.object "java/lang/StackTraceElement")
  | 2 => .object "java/util/List"
  | 3 => .object "java/lang/String"
  | 4 => .object "java/lang/Object"
  | _ => .int
abbrev wsJ110 : List Cond := u_ws RJ11 TJ11 6
theorem nmJ11 : ∀ a, a < 6 → ∀ b, b < 6 → a ≠ b → (TJ11 a).2.1 ≠ (TJ11 b).2.1 := by decide +kernel
theorem tyJ11_ok : ∀ k, k < 6 → parseFieldDescriptor (TJ11 k).2.2.1 = some (tyJ11 k) := by decide +kernel
abbrev cJ11_init : ByteArray := prog_25_method_2_code
def yJ11_init : MethodName := ⟨RJ11, "<init>", "(Ljava/lang/String;)V"⟩
def dkwJ11_init_0 : List UInt8 := [42, 43, 183, 0, 7, 177]
abbrev dktJ11_init_0 : List UInt8 := dkwJ11_init_0 ++ []
theorem dksJ11_init_0 : cJ11_init.data.toList.drop 0 = dktJ11_init_0 := by decide +kernel
theorem dJ11_init_0 : decode cJ11_init 0 = .ok (.aload_n 0, 1) := dk_42 (dk_at dksJ11_init_0 0 rfl rfl)
theorem dJ11_init_1 : decode cJ11_init 1 = .ok (.aload_n 1, 1) := dk_43 (dk_at dksJ11_init_0 1 rfl rfl)
theorem dJ11_init_2 : decode cJ11_init 2 = .ok (.invokespecial 7, 3) := dk_183 0 7 (dk_at dksJ11_init_0 2 rfl rfl)
theorem dJ11_init_5 : decode cJ11_init 5 = .ok (.return_, 1) := dk_177 (dk_at dksJ11_init_0 5 rfl rfl)
abbrev cJ11_init_2 : ByteArray := prog_25_method_1_code
def yJ11_init_2 : MethodName := ⟨RJ11, "<init>", "()V"⟩
theorem dJ11_init_2_0 : decode cJ11_init_2 0 = .ok (.aload_n 0, 1) := by decide +kernel
theorem dJ11_init_2_1 : decode cJ11_init_2 1 = .ok (.invokespecial 1, 3) := by decide +kernel
theorem dJ11_init_2_4 : decode cJ11_init_2 4 = .ok (.return_, 1) := by decide +kernel
theorem q77 : (Jvm.Cond.initialized "java/lang/IllegalArgumentException") ∈ lw_all := lw_g (lw_at lw_m1 16 rfl) rfl
theorem q378 : (Jvm.Cond.selects "java/lang/IllegalArgumentException" ({ cls := "java/lang/Throwable", name := "fillInStackTrace", desc := "()Ljava/lang/Throwable;" } : Jvm.MethodName) ({ cls := "java/lang/Throwable", name := "fillInStackTrace", desc := "()Ljava/lang/Throwable;" } : Jvm.MethodName)) ∈ lw_all := lw_g (lw_at lw_m2 77 rfl) rfl
theorem q518 : (Jvm.Cond.selects "java/lang/IllegalArgumentException" ({ cls := "java/lang/Object", name := "getClass", desc := "()Ljava/lang/Class;" } : Jvm.MethodName) ({ cls := "java/lang/Object", name := "getClass", desc := "()Ljava/lang/Class;" } : Jvm.MethodName)) ∈ lw_all := lw_g (lw_at lw_m2 217 rfl) rfl
theorem q567 : (Jvm.Cond.instantiable "java/lang/IllegalArgumentException" (6 : Nat)) ∈ lw_all := lw_g (lw_at lw_m3 26 rfl) rfl
theorem q568 : (Jvm.Cond.castable "java/lang/IllegalArgumentException" "java/lang/IllegalArgumentException") ∈ lw_tbl := lw_at lw_m3 27 rfl
theorem q569 : (Jvm.Cond.selects "java/lang/IllegalArgumentException" ({ cls := "java/lang/Throwable", name := "fillInStackTrace", desc := "(I)Ljava/lang/Throwable;" } : Jvm.MethodName) ({ cls := "java/lang/Throwable", name := "fillInStackTrace", desc := "(I)Ljava/lang/Throwable;" } : Jvm.MethodName)) ∈ lw_all := lw_g (lw_at lw_m3 28 rfl) rfl
theorem q570 : (Jvm.Cond.lays "java/lang/IllegalArgumentException" "java/lang/Throwable" "cause" "Ljava/lang/Throwable;") ∈ lw_all := lw_g (lw_at lw_m3 29 rfl) rfl
theorem q571 : (Jvm.Cond.lays "java/lang/IllegalArgumentException" "java/lang/Throwable" "stackTrace" "[Ljava/lang/StackTraceElement;") ∈ lw_all := lw_g (lw_at lw_m3 30 rfl) rfl
theorem q572 : (Jvm.Cond.lays "java/lang/IllegalArgumentException" "java/lang/Throwable" "suppressedExceptions" "Ljava/util/List;") ∈ lw_all := lw_g (lw_at lw_m3 31 rfl) rfl
theorem q573 : (Jvm.Cond.lays "java/lang/IllegalArgumentException" "java/lang/Throwable" "detailMessage" "Ljava/lang/String;") ∈ lw_all := lw_g (lw_at lw_m3 32 rfl) rfl
theorem q574 : (Jvm.Cond.lays "java/lang/IllegalArgumentException" "java/lang/Throwable" "backtrace" "Ljava/lang/Object;") ∈ lw_all := lw_g (lw_at lw_m3 33 rfl) rfl
theorem q745 : (Jvm.Cond.instanceMethod ({ cls := "java/lang/IllegalArgumentException", name := "<init>", desc := "(Ljava/lang/String;)V" } : Jvm.MethodName)) ∈ lw_all := lw_g (lw_at lw_m3 204 rfl) rfl
theorem q746 : (Jvm.Cond.code ({ cls := "java/lang/IllegalArgumentException", name := "<init>", desc := "(Ljava/lang/String;)V" } : Jvm.MethodName) prog_25_method_2_code (2 : Nat) (Option.none : Option Jvm.ClassFile.FieldType)) ∈ lw_all := lw_g (lw_at lw_m3 205 rfl) rfl
theorem q747 : (Jvm.Cond.methodLink "java/lang/IllegalArgumentException" (7 : Nat) ({ cls := "java/lang/RuntimeException", name := "<init>", desc := "(Ljava/lang/String;)V" } : Jvm.MethodName)) ∈ lw_all := lw_g (lw_at lw_m3 206 rfl) rfl
theorem q756 : (Jvm.Cond.lays "java/lang/IllegalArgumentException" "java/lang/Throwable" "depth" "I") ∈ lw_all := lw_g (lw_at lw_m3 215 rfl) rfl
theorem q757 : (Jvm.Cond.superclass "java/lang/IllegalArgumentException" "java/lang/RuntimeException") ∈ lw_all := lw_g (lw_at lw_m3 216 rfl) rfl
theorem q814 : (Jvm.Cond.instanceMethod ({ cls := "java/lang/IllegalArgumentException", name := "<init>", desc := "()V" } : Jvm.MethodName)) ∈ lw_all := lw_g (lw_at lw_m4 33 rfl) rfl
theorem q815 : (Jvm.Cond.code ({ cls := "java/lang/IllegalArgumentException", name := "<init>", desc := "()V" } : Jvm.MethodName) prog_25_method_1_code (1 : Nat) (Option.none : Option Jvm.ClassFile.FieldType)) ∈ lw_all := lw_g (lw_at lw_m4 34 rfl) rfl
theorem q816 : (Jvm.Cond.methodLink "java/lang/IllegalArgumentException" (1 : Nat) ({ cls := "java/lang/RuntimeException", name := "<init>", desc := "()V" } : Jvm.MethodName)) ∈ lw_all := lw_g (lw_at lw_m4 35 rfl) rfl
theorem q2231 : (Jvm.Cond.castable "java/lang/IllegalArgumentException" "java/lang/Object") ∈ lw_tbl := lw_at lw_m10 10 rfl
theorem in_J11 : ∀ w ∈ wsJ110, w ∈ lw_all := lw_in wsJ110 [570, 571, 572, 573, 574, 756] (by decide +kernel) (by decide +kernel)
/-! java/lang/IllegalStateException -/
set_option maxRecDepth 100000
def RJ12 : String := "java/lang/IllegalStateException"
def TJ12 : u_T := fun k => match k with
  | 0 => ("java/lang/Throwable", "cause", "Ljava/lang/Throwable;", false)
  | 1 => ("java/lang/Throwable", "stackTrace", "[Ljava/lang/StackTraceElement;", false)
  | 2 => ("java/lang/Throwable", "suppressedExceptions", "Ljava/util/List;", false)
  | 3 => ("java/lang/Throwable", "detailMessage", "Ljava/lang/String;", false)
  | 4 => ("java/lang/Throwable", "backtrace", "Ljava/lang/Object;", false)
  | _ => ("java/lang/Throwable", "depth", "I", false)
def tyJ12 : Nat → FieldType := fun k => match k with
  | 0 => .object "java/lang/Throwable"
  | 1 => .array (.object "java/lang/StackTraceElement")
  | 2 => .object "java/util/List"
  | 3 => .object "java/lang/String"
  | 4 => .object "java/lang/Object"
  | _ => .int
abbrev wsJ120 : List Cond := u_ws RJ12 TJ12 6
theorem nmJ12 : ∀ a, a < 6 → ∀ b, b < 6 → a ≠ b → (TJ12 a).2.1 ≠ (TJ12 b).2.1 := by decide +kernel
theorem tyJ12_ok : ∀ k, k < 6 → parseFieldDescriptor (TJ12 k).2.2.1 = some (tyJ12 k) := by decide +kernel
abbrev cJ12_init : ByteArray := prog_26_method_1_code
def yJ12_init : MethodName := ⟨RJ12, "<init>", "()V"⟩
theorem dJ12_init_0 : decode cJ12_init 0 = .ok (.aload_n 0, 1) := by decide +kernel
theorem dJ12_init_1 : decode cJ12_init 1 = .ok (.invokespecial 1, 3) := by decide +kernel
theorem dJ12_init_4 : decode cJ12_init 4 = .ok (.return_, 1) := by decide +kernel
abbrev cJ12_init_2 : ByteArray := prog_26_method_2_code
def yJ12_init_2 : MethodName := ⟨RJ12, "<init>", "(Ljava/lang/String;)V"⟩
def dkwJ12_init_2_0 : List UInt8 := [42, 43, 183, 0, 7, 177]
abbrev dktJ12_init_2_0 : List UInt8 := dkwJ12_init_2_0 ++ []
theorem dksJ12_init_2_0 : cJ12_init_2.data.toList.drop 0 = dktJ12_init_2_0 := by decide +kernel
theorem dJ12_init_2_0 : decode cJ12_init_2 0 = .ok (.aload_n 0, 1) := dk_42 (dk_at dksJ12_init_2_0 0 rfl rfl)
theorem dJ12_init_2_1 : decode cJ12_init_2 1 = .ok (.aload_n 1, 1) := dk_43 (dk_at dksJ12_init_2_0 1 rfl rfl)
theorem dJ12_init_2_2 : decode cJ12_init_2 2 = .ok (.invokespecial 7, 3) := dk_183 0 7 (dk_at dksJ12_init_2_0 2 rfl rfl)
theorem dJ12_init_2_5 : decode cJ12_init_2 5 = .ok (.return_, 1) := dk_177 (dk_at dksJ12_init_2_0 5 rfl rfl)
theorem q78 : (Jvm.Cond.initialized "java/lang/IllegalStateException") ∈ lw_all := lw_g (lw_at lw_m1 17 rfl) rfl
theorem q379 : (Jvm.Cond.selects "java/lang/IllegalStateException" ({ cls := "java/lang/Throwable", name := "fillInStackTrace", desc := "()Ljava/lang/Throwable;" } : Jvm.MethodName) ({ cls := "java/lang/Throwable", name := "fillInStackTrace", desc := "()Ljava/lang/Throwable;" } : Jvm.MethodName)) ∈ lw_all := lw_g (lw_at lw_m2 78 rfl) rfl
theorem q519 : (Jvm.Cond.selects "java/lang/IllegalStateException" ({ cls := "java/lang/Object", name := "getClass", desc := "()Ljava/lang/Class;" } : Jvm.MethodName) ({ cls := "java/lang/Object", name := "getClass", desc := "()Ljava/lang/Class;" } : Jvm.MethodName)) ∈ lw_all := lw_g (lw_at lw_m2 218 rfl) rfl
theorem q825 : (Jvm.Cond.instantiable "java/lang/IllegalStateException" (6 : Nat)) ∈ lw_all := lw_g (lw_at lw_m4 44 rfl) rfl
theorem q826 : (Jvm.Cond.castable "java/lang/IllegalStateException" "java/lang/IllegalStateException") ∈ lw_tbl := lw_at lw_m4 45 rfl
theorem q827 : (Jvm.Cond.selects "java/lang/IllegalStateException" ({ cls := "java/lang/Throwable", name := "fillInStackTrace", desc := "(I)Ljava/lang/Throwable;" } : Jvm.MethodName) ({ cls := "java/lang/Throwable", name := "fillInStackTrace", desc := "(I)Ljava/lang/Throwable;" } : Jvm.MethodName)) ∈ lw_all := lw_g (lw_at lw_m4 46 rfl) rfl
theorem q828 : (Jvm.Cond.lays "java/lang/IllegalStateException" "java/lang/Throwable" "cause" "Ljava/lang/Throwable;") ∈ lw_all := lw_g (lw_at lw_m4 47 rfl) rfl
theorem q829 : (Jvm.Cond.lays "java/lang/IllegalStateException" "java/lang/Throwable" "stackTrace" "[Ljava/lang/StackTraceElement;") ∈ lw_all := lw_g (lw_at lw_m4 48 rfl) rfl
theorem q830 : (Jvm.Cond.lays "java/lang/IllegalStateException" "java/lang/Throwable" "suppressedExceptions" "Ljava/util/List;") ∈ lw_all := lw_g (lw_at lw_m4 49 rfl) rfl
theorem q831 : (Jvm.Cond.lays "java/lang/IllegalStateException" "java/lang/Throwable" "detailMessage" "Ljava/lang/String;") ∈ lw_all := lw_g (lw_at lw_m4 50 rfl) rfl
theorem q832 : (Jvm.Cond.lays "java/lang/IllegalStateException" "java/lang/Throwable" "backtrace" "Ljava/lang/Object;") ∈ lw_all := lw_g (lw_at lw_m4 51 rfl) rfl
theorem q834 : (Jvm.Cond.instanceMethod ({ cls := "java/lang/IllegalStateException", name := "<init>", desc := "()V" } : Jvm.MethodName)) ∈ lw_all := lw_g (lw_at lw_m4 53 rfl) rfl
theorem q835 : (Jvm.Cond.code ({ cls := "java/lang/IllegalStateException", name := "<init>", desc := "()V" } : Jvm.MethodName) prog_26_method_1_code (1 : Nat) (Option.none : Option Jvm.ClassFile.FieldType)) ∈ lw_all := lw_g (lw_at lw_m4 54 rfl) rfl
theorem q836 : (Jvm.Cond.methodLink "java/lang/IllegalStateException" (1 : Nat) ({ cls := "java/lang/RuntimeException", name := "<init>", desc := "()V" } : Jvm.MethodName)) ∈ lw_all := lw_g (lw_at lw_m4 55 rfl) rfl
theorem q837 : (Jvm.Cond.lays "java/lang/IllegalStateException" "java/lang/Throwable" "depth" "I") ∈ lw_all := lw_g (lw_at lw_m4 56 rfl) rfl
theorem q838 : (Jvm.Cond.superclass "java/lang/IllegalStateException" "java/lang/RuntimeException") ∈ lw_all := lw_g (lw_at lw_m4 57 rfl) rfl
theorem q876 : (Jvm.Cond.instanceMethod ({ cls := "java/lang/IllegalStateException", name := "<init>", desc := "(Ljava/lang/String;)V" } : Jvm.MethodName)) ∈ lw_all := lw_g (lw_at lw_m4 95 rfl) rfl
theorem q877 : (Jvm.Cond.code ({ cls := "java/lang/IllegalStateException", name := "<init>", desc := "(Ljava/lang/String;)V" } : Jvm.MethodName) prog_26_method_2_code (2 : Nat) (Option.none : Option Jvm.ClassFile.FieldType)) ∈ lw_all := lw_g (lw_at lw_m4 96 rfl) rfl
theorem q878 : (Jvm.Cond.methodLink "java/lang/IllegalStateException" (7 : Nat) ({ cls := "java/lang/RuntimeException", name := "<init>", desc := "(Ljava/lang/String;)V" } : Jvm.MethodName)) ∈ lw_all := lw_g (lw_at lw_m4 97 rfl) rfl
theorem q2232 : (Jvm.Cond.castable "java/lang/IllegalStateException" "java/lang/Object") ∈ lw_tbl := lw_at lw_m10 11 rfl
theorem in_J12 : ∀ w ∈ wsJ120, w ∈ lw_all := lw_in wsJ120 [828, 829, 830, 831, 832, 837] (by decide +kernel) (by decide +kernel)
/-! java/util/ArrayList$Itr -/
set_option maxRecDepth 100000
def RJ13 : String := "java/util/ArrayList$Itr"
def TJ13 : u_T := fun k => match k with
  | 0 => ("java/util/ArrayList$Itr", "cursor", "I", false)
  | 1 => ("java/util/ArrayList$Itr", "lastRet", "I", false)
  | 2 => ("java/util/ArrayList$Itr", "expectedModCount", "I", false)
  | _ => ("java/util/ArrayList$Itr", "this$0", "Ljava/util/ArrayList;", true)
def tyJ13 : Nat → FieldType := fun k => match k with
  | 0 => .int
  | 1 => .int
  | 2 => .int
  | _ => .object "java/util/ArrayList"
abbrev wsJ130 : List Cond := u_ws RJ13 TJ13 4
theorem nmJ13 : ∀ a, a < 4 → ∀ b, b < 4 → a ≠ b → (TJ13 a).2.1 ≠ (TJ13 b).2.1 := by decide +kernel
theorem tyJ13_ok : ∀ k, k < 4 → parseFieldDescriptor (TJ13 k).2.2.1 = some (tyJ13 k) := by decide +kernel
abbrev cJ13_init : ByteArray := prog_48_method_1_code
def yJ13_init : MethodName := ⟨RJ13, "<init>", "(Ljava/util/ArrayList;)V"⟩
def dkwJ13_init_1 : List UInt8 := [181, 0, 22, 177]
abbrev dktJ13_init_1 : List UInt8 := dkwJ13_init_1 ++ []
def dkwJ13_init_0 : List UInt8 := [42, 43, 181, 0, 1, 42, 183, 0, 7, 42, 2, 181, 0, 13, 42, 42, 180, 0, 1, 180, 0, 17]
abbrev dktJ13_init_0 : List UInt8 := dkwJ13_init_0 ++ dktJ13_init_1
theorem dksJ13_init_0 : cJ13_init.data.toList.drop 0 = dktJ13_init_0 := by decide +kernel
theorem dksJ13_init_1 : cJ13_init.data.toList.drop 22 = dktJ13_init_1 := dk_seg dksJ13_init_0 22 rfl rfl
theorem dJ13_init_0 : decode cJ13_init 0 = .ok (.aload_n 0, 1) := dk_42 (dk_at dksJ13_init_0 0 rfl rfl)
theorem dJ13_init_1 : decode cJ13_init 1 = .ok (.aload_n 1, 1) := dk_43 (dk_at dksJ13_init_0 1 rfl rfl)
theorem dJ13_init_2 : decode cJ13_init 2 = .ok (.putfield 1, 3) := dk_181 0 1 (dk_at dksJ13_init_0 2 rfl rfl)
theorem dJ13_init_5 : decode cJ13_init 5 = .ok (.aload_n 0, 1) := dk_42 (dk_at dksJ13_init_0 5 rfl rfl)
theorem dJ13_init_6 : decode cJ13_init 6 = .ok (.invokespecial 7, 3) := dk_183 0 7 (dk_at dksJ13_init_0 6 rfl rfl)
theorem dJ13_init_9 : decode cJ13_init 9 = .ok (.aload_n 0, 1) := dk_42 (dk_at dksJ13_init_0 9 rfl rfl)
theorem dJ13_init_10 : decode cJ13_init 10 = .ok (.iconst (-1), 1) := dk_2 (dk_at dksJ13_init_0 10 rfl rfl)
theorem dJ13_init_11 : decode cJ13_init 11 = .ok (.putfield 13, 3) := dk_181 0 13 (dk_at dksJ13_init_0 11 rfl rfl)
theorem dJ13_init_14 : decode cJ13_init 14 = .ok (.aload_n 0, 1) := dk_42 (dk_at dksJ13_init_0 14 rfl rfl)
theorem dJ13_init_15 : decode cJ13_init 15 = .ok (.aload_n 0, 1) := dk_42 (dk_at dksJ13_init_0 15 rfl rfl)
theorem dJ13_init_16 : decode cJ13_init 16 = .ok (.getfield 1, 3) := dk_180 0 1 (dk_at dksJ13_init_0 16 rfl rfl)
theorem dJ13_init_19 : decode cJ13_init 19 = .ok (.getfield 17, 3) := dk_180 0 17 (dk_at dksJ13_init_0 19 rfl rfl)
theorem dJ13_init_22 : decode cJ13_init 22 = .ok (.putfield 22, 3) := dk_181 0 22 (dk_at dksJ13_init_1 0 rfl rfl)
theorem dJ13_init_25 : decode cJ13_init 25 = .ok (.return_, 1) := dk_177 (dk_at dksJ13_init_1 3 rfl rfl)
abbrev cJ13_hasNext : ByteArray := prog_48_method_2_code
def yJ13_hasNext : MethodName := ⟨RJ13, "hasNext", "()Z"⟩
def dkwJ13_hasNext_0 : List UInt8 := [42, 180, 0, 25, 42, 180, 0, 1, 180, 0, 28, 159, 0, 7, 4, 167, 0, 4, 3, 172]
abbrev dktJ13_hasNext_0 : List UInt8 := dkwJ13_hasNext_0 ++ []
theorem dksJ13_hasNext_0 : cJ13_hasNext.data.toList.drop 0 = dktJ13_hasNext_0 := by decide +kernel
theorem dJ13_hasNext_0 : decode cJ13_hasNext 0 = .ok (.aload_n 0, 1) := dk_42 (dk_at dksJ13_hasNext_0 0 rfl rfl)
theorem dJ13_hasNext_1 : decode cJ13_hasNext 1 = .ok (.getfield 25, 3) := dk_180 0 25 (dk_at dksJ13_hasNext_0 1 rfl rfl)
theorem dJ13_hasNext_4 : decode cJ13_hasNext 4 = .ok (.aload_n 0, 1) := dk_42 (dk_at dksJ13_hasNext_0 4 rfl rfl)
theorem dJ13_hasNext_5 : decode cJ13_hasNext 5 = .ok (.getfield 1, 3) := dk_180 0 1 (dk_at dksJ13_hasNext_0 5 rfl rfl)
theorem dJ13_hasNext_8 : decode cJ13_hasNext 8 = .ok (.getfield 28, 3) := dk_180 0 28 (dk_at dksJ13_hasNext_0 8 rfl rfl)
theorem dJ13_hasNext_11 : decode cJ13_hasNext 11 = .ok (.if_icmp .eq 7, 3) := dk_159 0 7 (dk_at dksJ13_hasNext_0 11 rfl rfl)
theorem dJ13_hasNext_14 : decode cJ13_hasNext 14 = .ok (.iconst 1, 1) := dk_4 (dk_at dksJ13_hasNext_0 14 rfl rfl)
theorem dJ13_hasNext_15 : decode cJ13_hasNext 15 = .ok (.goto 4, 3) := dk_167 0 4 (dk_at dksJ13_hasNext_0 15 rfl rfl)
theorem dJ13_hasNext_18 : decode cJ13_hasNext 18 = .ok (.iconst 0, 1) := dk_3 (dk_at dksJ13_hasNext_0 18 rfl rfl)
theorem dJ13_hasNext_19 : decode cJ13_hasNext 19 = .ok (.ireturn, 1) := dk_172 (dk_at dksJ13_hasNext_0 19 rfl rfl)
abbrev cJ13_next : ByteArray := prog_48_method_3_code
def yJ13_next : MethodName := ⟨RJ13, "next", "()Ljava/lang/Object;"⟩
def dkwJ13_next_2 : List UInt8 := [183, 0, 43, 191, 42, 27, 4, 96, 181, 0, 25, 44, 42, 27, 90, 181, 0, 13, 50, 176]
abbrev dktJ13_next_2 : List UInt8 := dkwJ13_next_2 ++ []
def dkwJ13_next_1 : List UInt8 := [183, 0, 36, 191, 42, 180, 0, 1, 180, 0, 37, 77, 27, 44, 190, 161, 0, 11, 187, 0, 41, 89]
abbrev dktJ13_next_1 : List UInt8 := dkwJ13_next_1 ++ dktJ13_next_2
def dkwJ13_next_0 : List UInt8 := [42, 182, 0, 31, 42, 180, 0, 25, 60, 27, 42, 180, 0, 1, 180, 0, 28, 161, 0, 11, 187, 0, 34, 89]
abbrev dktJ13_next_0 : List UInt8 := dkwJ13_next_0 ++ dktJ13_next_1
theorem dksJ13_next_0 : cJ13_next.data.toList.drop 0 = dktJ13_next_0 := by decide +kernel
theorem dksJ13_next_1 : cJ13_next.data.toList.drop 24 = dktJ13_next_1 := dk_seg dksJ13_next_0 24 rfl rfl
theorem dksJ13_next_2 : cJ13_next.data.toList.drop 46 = dktJ13_next_2 := dk_seg dksJ13_next_1 22 rfl rfl
theorem dJ13_next_0 : decode cJ13_next 0 = .ok (.aload_n 0, 1) := dk_42 (dk_at dksJ13_next_0 0 rfl rfl)
theorem dJ13_next_1 : decode cJ13_next 1 = .ok (.invokevirtual 31, 3) := dk_182 0 31 (dk_at dksJ13_next_0 1 rfl rfl)
theorem dJ13_next_4 : decode cJ13_next 4 = .ok (.aload_n 0, 1) := dk_42 (dk_at dksJ13_next_0 4 rfl rfl)
theorem dJ13_next_5 : decode cJ13_next 5 = .ok (.getfield 25, 3) := dk_180 0 25 (dk_at dksJ13_next_0 5 rfl rfl)
theorem dJ13_next_8 : decode cJ13_next 8 = .ok (.istore_n 1, 1) := dk_60 (dk_at dksJ13_next_0 8 rfl rfl)
theorem dJ13_next_9 : decode cJ13_next 9 = .ok (.iload_n 1, 1) := dk_27 (dk_at dksJ13_next_0 9 rfl rfl)
theorem dJ13_next_10 : decode cJ13_next 10 = .ok (.aload_n 0, 1) := dk_42 (dk_at dksJ13_next_0 10 rfl rfl)
theorem dJ13_next_11 : decode cJ13_next 11 = .ok (.getfield 1, 3) := dk_180 0 1 (dk_at dksJ13_next_0 11 rfl rfl)
theorem dJ13_next_14 : decode cJ13_next 14 = .ok (.getfield 28, 3) := dk_180 0 28 (dk_at dksJ13_next_0 14 rfl rfl)
theorem dJ13_next_17 : decode cJ13_next 17 = .ok (.if_icmp .lt 11, 3) := dk_161 0 11 (dk_at dksJ13_next_0 17 rfl rfl)
theorem dJ13_next_20 : decode cJ13_next 20 = .ok (.new 34, 3) := dk_187 0 34 (dk_at dksJ13_next_0 20 rfl rfl)
theorem dJ13_next_23 : decode cJ13_next 23 = .ok (.dup, 1) := dk_89 (dk_at dksJ13_next_0 23 rfl rfl)
theorem dJ13_next_24 : decode cJ13_next 24 = .ok (.invokespecial 36, 3) := dk_183 0 36 (dk_at dksJ13_next_1 0 rfl rfl)
theorem dJ13_next_27 : decode cJ13_next 27 = .ok (.athrow, 1) := dk_191 (dk_at dksJ13_next_1 3 rfl rfl)
theorem dJ13_next_28 : decode cJ13_next 28 = .ok (.aload_n 0, 1) := dk_42 (dk_at dksJ13_next_1 4 rfl rfl)
theorem dJ13_next_29 : decode cJ13_next 29 = .ok (.getfield 1, 3) := dk_180 0 1 (dk_at dksJ13_next_1 5 rfl rfl)
theorem dJ13_next_32 : decode cJ13_next 32 = .ok (.getfield 37, 3) := dk_180 0 37 (dk_at dksJ13_next_1 8 rfl rfl)
theorem dJ13_next_35 : decode cJ13_next 35 = .ok (.astore_n 2, 1) := dk_77 (dk_at dksJ13_next_1 11 rfl rfl)
theorem dJ13_next_36 : decode cJ13_next 36 = .ok (.iload_n 1, 1) := dk_27 (dk_at dksJ13_next_1 12 rfl rfl)
theorem dJ13_next_37 : decode cJ13_next 37 = .ok (.aload_n 2, 1) := dk_44 (dk_at dksJ13_next_1 13 rfl rfl)
theorem dJ13_next_38 : decode cJ13_next 38 = .ok (.arraylength, 1) := dk_190 (dk_at dksJ13_next_1 14 rfl rfl)
theorem dJ13_next_39 : decode cJ13_next 39 = .ok (.if_icmp .lt 11, 3) := dk_161 0 11 (dk_at dksJ13_next_1 15 rfl rfl)
theorem dJ13_next_42 : decode cJ13_next 42 = .ok (.new 41, 3) := dk_187 0 41 (dk_at dksJ13_next_1 18 rfl rfl)
theorem dJ13_next_45 : decode cJ13_next 45 = .ok (.dup, 1) := dk_89 (dk_at dksJ13_next_1 21 rfl rfl)
theorem dJ13_next_46 : decode cJ13_next 46 = .ok (.invokespecial 43, 3) := dk_183 0 43 (dk_at dksJ13_next_2 0 rfl rfl)
theorem dJ13_next_49 : decode cJ13_next 49 = .ok (.athrow, 1) := dk_191 (dk_at dksJ13_next_2 3 rfl rfl)
theorem dJ13_next_50 : decode cJ13_next 50 = .ok (.aload_n 0, 1) := dk_42 (dk_at dksJ13_next_2 4 rfl rfl)
theorem dJ13_next_51 : decode cJ13_next 51 = .ok (.iload_n 1, 1) := dk_27 (dk_at dksJ13_next_2 5 rfl rfl)
theorem dJ13_next_52 : decode cJ13_next 52 = .ok (.iconst 1, 1) := dk_4 (dk_at dksJ13_next_2 6 rfl rfl)
theorem dJ13_next_53 : decode cJ13_next 53 = .ok (.iadd, 1) := dk_96 (dk_at dksJ13_next_2 7 rfl rfl)
theorem dJ13_next_54 : decode cJ13_next 54 = .ok (.putfield 25, 3) := dk_181 0 25 (dk_at dksJ13_next_2 8 rfl rfl)
theorem dJ13_next_57 : decode cJ13_next 57 = .ok (.aload_n 2, 1) := dk_44 (dk_at dksJ13_next_2 11 rfl rfl)
theorem dJ13_next_58 : decode cJ13_next 58 = .ok (.aload_n 0, 1) := dk_42 (dk_at dksJ13_next_2 12 rfl rfl)
theorem dJ13_next_59 : decode cJ13_next 59 = .ok (.iload_n 1, 1) := dk_27 (dk_at dksJ13_next_2 13 rfl rfl)
theorem dJ13_next_60 : decode cJ13_next 60 = .ok (.dup_x1, 1) := dk_90 (dk_at dksJ13_next_2 14 rfl rfl)
theorem dJ13_next_61 : decode cJ13_next 61 = .ok (.putfield 13, 3) := dk_181 0 13 (dk_at dksJ13_next_2 15 rfl rfl)
theorem dJ13_next_64 : decode cJ13_next 64 = .ok (.aaload, 1) := dk_50 (dk_at dksJ13_next_2 18 rfl rfl)
theorem dJ13_next_65 : decode cJ13_next 65 = .ok (.areturn, 1) := dk_176 (dk_at dksJ13_next_2 19 rfl rfl)
abbrev cJ13_checkForComodification : ByteArray := prog_48_method_6_code
def yJ13_checkForComodification : MethodName := ⟨RJ13, "checkForComodification", "()V"⟩
def dkwJ13_checkForComodification_0 : List UInt8 := [42, 180, 0, 1, 180, 0, 17, 42, 180, 0, 22, 159, 0, 11, 187, 0, 41, 89, 183, 0, 43, 191, 177]
abbrev dktJ13_checkForComodification_0 : List UInt8 := dkwJ13_checkForComodification_0 ++ []
theorem dksJ13_checkForComodification_0 : cJ13_checkForComodification.data.toList.drop 0 = dktJ13_checkForComodification_0 := by decide +kernel
theorem dJ13_checkForComodification_0 : decode cJ13_checkForComodification 0 = .ok (.aload_n 0, 1) := dk_42 (dk_at dksJ13_checkForComodification_0 0 rfl rfl)
theorem dJ13_checkForComodification_1 : decode cJ13_checkForComodification 1 = .ok (.getfield 1, 3) := dk_180 0 1 (dk_at dksJ13_checkForComodification_0 1 rfl rfl)
theorem dJ13_checkForComodification_4 : decode cJ13_checkForComodification 4 = .ok (.getfield 17, 3) := dk_180 0 17 (dk_at dksJ13_checkForComodification_0 4 rfl rfl)
theorem dJ13_checkForComodification_7 : decode cJ13_checkForComodification 7 = .ok (.aload_n 0, 1) := dk_42 (dk_at dksJ13_checkForComodification_0 7 rfl rfl)
theorem dJ13_checkForComodification_8 : decode cJ13_checkForComodification 8 = .ok (.getfield 22, 3) := dk_180 0 22 (dk_at dksJ13_checkForComodification_0 8 rfl rfl)
theorem dJ13_checkForComodification_11 : decode cJ13_checkForComodification 11 = .ok (.if_icmp .eq 11, 3) := dk_159 0 11 (dk_at dksJ13_checkForComodification_0 11 rfl rfl)
theorem dJ13_checkForComodification_14 : decode cJ13_checkForComodification 14 = .ok (.new 41, 3) := dk_187 0 41 (dk_at dksJ13_checkForComodification_0 14 rfl rfl)
theorem dJ13_checkForComodification_17 : decode cJ13_checkForComodification 17 = .ok (.dup, 1) := dk_89 (dk_at dksJ13_checkForComodification_0 17 rfl rfl)
theorem dJ13_checkForComodification_18 : decode cJ13_checkForComodification 18 = .ok (.invokespecial 43, 3) := dk_183 0 43 (dk_at dksJ13_checkForComodification_0 18 rfl rfl)
theorem dJ13_checkForComodification_21 : decode cJ13_checkForComodification 21 = .ok (.athrow, 1) := dk_191 (dk_at dksJ13_checkForComodification_0 21 rfl rfl)
theorem dJ13_checkForComodification_22 : decode cJ13_checkForComodification 22 = .ok (.return_, 1) := dk_177 (dk_at dksJ13_checkForComodification_0 22 rfl rfl)
theorem q79 : (Jvm.Cond.initialized "java/util/ArrayList$Itr") ∈ lw_all := lw_g (lw_at lw_m1 18 rfl) rfl
theorem q132 : (Jvm.Cond.fieldLink "java/util/ArrayList$Itr" (37 : Nat) "java/util/ArrayList" "elementData" "[Ljava/lang/Object;") ∈ lw_all := lw_g (lw_at lw_m1 71 rfl) rfl
theorem q133 : (Jvm.Cond.fieldLinkNest "java/util/ArrayList$Itr" (28 : Nat) "java/util/ArrayList" "size" "I" "java/util/ArrayList") ∈ lw_tbl := lw_at lw_m1 72 rfl
theorem q136 : (Jvm.Cond.fieldLink "java/util/ArrayList$Itr" (17 : Nat) "java/util/ArrayList" "modCount" "I") ∈ lw_all := lw_g (lw_at lw_m1 75 rfl) rfl
theorem q301 : (Jvm.Cond.instantiable "java/util/ArrayList$Itr" (4 : Nat)) ∈ lw_all := lw_g (lw_at lw_m2 0 rfl) rfl
theorem q303 : (Jvm.Cond.instanceMethod ({ cls := "java/util/ArrayList$Itr", name := "<init>", desc := "(Ljava/util/ArrayList;)V" } : Jvm.MethodName)) ∈ lw_all := lw_g (lw_at lw_m2 2 rfl) rfl
theorem q304 : (Jvm.Cond.code ({ cls := "java/util/ArrayList$Itr", name := "<init>", desc := "(Ljava/util/ArrayList;)V" } : Jvm.MethodName) prog_48_method_1_code (2 : Nat) (Option.none : Option Jvm.ClassFile.FieldType)) ∈ lw_all := lw_g (lw_at lw_m2 3 rfl) rfl
theorem q305 : (Jvm.Cond.methodLink "java/util/ArrayList$Itr" (7 : Nat) ({ cls := "java/lang/Object", name := "<init>", desc := "()V" } : Jvm.MethodName)) ∈ lw_all := lw_g (lw_at lw_m2 4 rfl) rfl
theorem q306 : (Jvm.Cond.fieldLink "java/util/ArrayList$Itr" (25 : Nat) "java/util/ArrayList$Itr" "cursor" "I") ∈ lw_all := lw_g (lw_at lw_m2 5 rfl) rfl
theorem q307 : (Jvm.Cond.fieldLink "java/util/ArrayList$Itr" (13 : Nat) "java/util/ArrayList$Itr" "lastRet" "I") ∈ lw_all := lw_g (lw_at lw_m2 6 rfl) rfl
theorem q308 : (Jvm.Cond.fieldLink "java/util/ArrayList$Itr" (22 : Nat) "java/util/ArrayList$Itr" "expectedModCount" "I") ∈ lw_all := lw_g (lw_at lw_m2 7 rfl) rfl
theorem q309 : (Jvm.Cond.fieldLink "java/util/ArrayList$Itr" (1 : Nat) "java/util/ArrayList$Itr" "this$0" "Ljava/util/ArrayList;") ∈ lw_all := lw_g (lw_at lw_m2 8 rfl) rfl
theorem q310 : (Jvm.Cond.lays "java/util/ArrayList$Itr" "java/util/ArrayList$Itr" "cursor" "I") ∈ lw_all := lw_g (lw_at lw_m2 9 rfl) rfl
theorem q311 : (Jvm.Cond.soleField "java/util/ArrayList$Itr" "cursor") ∈ lw_all := lw_g (lw_at lw_m2 10 rfl) rfl
theorem q312 : (Jvm.Cond.lays "java/util/ArrayList$Itr" "java/util/ArrayList$Itr" "lastRet" "I") ∈ lw_all := lw_g (lw_at lw_m2 11 rfl) rfl
theorem q313 : (Jvm.Cond.soleField "java/util/ArrayList$Itr" "lastRet") ∈ lw_all := lw_g (lw_at lw_m2 12 rfl) rfl
theorem q314 : (Jvm.Cond.lays "java/util/ArrayList$Itr" "java/util/ArrayList$Itr" "expectedModCount" "I") ∈ lw_all := lw_g (lw_at lw_m2 13 rfl) rfl
theorem q315 : (Jvm.Cond.soleField "java/util/ArrayList$Itr" "expectedModCount") ∈ lw_all := lw_g (lw_at lw_m2 14 rfl) rfl
theorem q316 : (Jvm.Cond.laysFinal "java/util/ArrayList$Itr" "java/util/ArrayList$Itr" "this$0" "Ljava/util/ArrayList;") ∈ lw_all := lw_g (lw_at lw_m2 15 rfl) rfl
theorem q317 : (Jvm.Cond.soleField "java/util/ArrayList$Itr" "this$0") ∈ lw_all := lw_g (lw_at lw_m2 16 rfl) rfl
theorem q318 : (Jvm.Cond.superclass "java/util/ArrayList$Itr" "java/lang/Object") ∈ lw_all := lw_g (lw_at lw_m2 17 rfl) rfl
theorem q323 : (Jvm.Cond.castable "java/util/ArrayList$Itr" "java/util/Iterator") ∈ lw_tbl := lw_at lw_m2 22 rfl
theorem q324 : (Jvm.Cond.selects "java/util/ArrayList$Itr" ({ cls := "java/util/Iterator", name := "hasNext", desc := "()Z" } : Jvm.MethodName) ({ cls := "java/util/ArrayList$Itr", name := "hasNext", desc := "()Z" } : Jvm.MethodName)) ∈ lw_all := lw_g (lw_at lw_m2 23 rfl) rfl
theorem q325 : (Jvm.Cond.unhidden "java/util/ArrayList$Itr" "hasNext" "()Z") ∈ lw_tbl := lw_at lw_m2 24 rfl
theorem q326 : (Jvm.Cond.instanceMethod ({ cls := "java/util/ArrayList$Itr", name := "hasNext", desc := "()Z" } : Jvm.MethodName)) ∈ lw_all := lw_g (lw_at lw_m2 25 rfl) rfl
theorem q327 : (Jvm.Cond.publicMethod ({ cls := "java/util/ArrayList$Itr", name := "hasNext", desc := "()Z" } : Jvm.MethodName)) ∈ lw_tbl := lw_at lw_m2 26 rfl
theorem q328 : (Jvm.Cond.code ({ cls := "java/util/ArrayList$Itr", name := "hasNext", desc := "()Z" } : Jvm.MethodName) prog_48_method_2_code (1 : Nat) (Option.some Jvm.ClassFile.FieldType.boolean)) ∈ lw_all := lw_g (lw_at lw_m2 27 rfl) rfl
theorem q333 : (Jvm.Cond.selects "java/util/ArrayList$Itr" ({ cls := "java/util/Iterator", name := "next", desc := "()Ljava/lang/Object;" } : Jvm.MethodName) ({ cls := "java/util/ArrayList$Itr", name := "next", desc := "()Ljava/lang/Object;" } : Jvm.MethodName)) ∈ lw_all := lw_g (lw_at lw_m2 32 rfl) rfl
theorem q334 : (Jvm.Cond.unhidden "java/util/ArrayList$Itr" "next" "()Ljava/lang/Object;") ∈ lw_tbl := lw_at lw_m2 33 rfl
theorem q335 : (Jvm.Cond.instanceMethod ({ cls := "java/util/ArrayList$Itr", name := "next", desc := "()Ljava/lang/Object;" } : Jvm.MethodName)) ∈ lw_all := lw_g (lw_at lw_m2 34 rfl) rfl
theorem q336 : (Jvm.Cond.publicMethod ({ cls := "java/util/ArrayList$Itr", name := "next", desc := "()Ljava/lang/Object;" } : Jvm.MethodName)) ∈ lw_tbl := lw_at lw_m2 35 rfl
theorem q337 : (Jvm.Cond.code ({ cls := "java/util/ArrayList$Itr", name := "next", desc := "()Ljava/lang/Object;" } : Jvm.MethodName) prog_48_method_3_code (3 : Nat) (Option.some (Jvm.ClassFile.FieldType.object "java/lang/Object"))) ∈ lw_all := lw_g (lw_at lw_m2 36 rfl) rfl
theorem q338 : (Jvm.Cond.methodLink "java/util/ArrayList$Itr" (31 : Nat) ({ cls := "java/util/ArrayList$Itr", name := "checkForComodification", desc := "()V" } : Jvm.MethodName)) ∈ lw_all := lw_g (lw_at lw_m2 37 rfl) rfl
theorem q339 : (Jvm.Cond.instanceMethod ({ cls := "java/util/ArrayList$Itr", name := "checkForComodification", desc := "()V" } : Jvm.MethodName)) ∈ lw_all := lw_g (lw_at lw_m2 38 rfl) rfl
theorem q340 : (Jvm.Cond.selects "java/util/ArrayList$Itr" ({ cls := "java/util/ArrayList$Itr", name := "checkForComodification", desc := "()V" } : Jvm.MethodName) ({ cls := "java/util/ArrayList$Itr", name := "checkForComodification", desc := "()V" } : Jvm.MethodName)) ∈ lw_all := lw_g (lw_at lw_m2 39 rfl) rfl
theorem q341 : (Jvm.Cond.code ({ cls := "java/util/ArrayList$Itr", name := "checkForComodification", desc := "()V" } : Jvm.MethodName) prog_48_method_6_code (1 : Nat) (Option.none : Option Jvm.ClassFile.FieldType)) ∈ lw_all := lw_g (lw_at lw_m2 40 rfl) rfl
theorem q342 : (Jvm.Cond.classLink "java/util/ArrayList$Itr" (34 : Nat) "java/util/NoSuchElementException") ∈ lw_all := lw_g (lw_at lw_m2 41 rfl) rfl
theorem q389 : (Jvm.Cond.methodLink "java/util/ArrayList$Itr" (36 : Nat) ({ cls := "java/util/NoSuchElementException", name := "<init>", desc := "()V" } : Jvm.MethodName)) ∈ lw_all := lw_g (lw_at lw_m2 88 rfl) rfl
theorem q528 : (Jvm.Cond.selects "java/util/ArrayList$Itr" ({ cls := "java/lang/Object", name := "getClass", desc := "()Ljava/lang/Class;" } : Jvm.MethodName) ({ cls := "java/lang/Object", name := "getClass", desc := "()Ljava/lang/Class;" } : Jvm.MethodName)) ∈ lw_all := lw_g (lw_at lw_m2 227 rfl) rfl
theorem q2233 : (Jvm.Cond.castable "java/util/ArrayList$Itr" "java/lang/Object") ∈ lw_tbl := lw_at lw_m10 12 rfl
theorem in_J13 : ∀ w ∈ wsJ130, w ∈ lw_all := lw_in wsJ130 [310, 312, 314, 316] (by decide +kernel) (by decide +kernel)
/-! java/util/NoSuchElementException -/
set_option maxRecDepth 100000
def RJ14 : String := "java/util/NoSuchElementException"
def TJ14 : u_T := fun k => match k with
  | 0 => ("java/lang/Throwable", "cause", "Ljava/lang/Throwable;", false)
  | 1 => ("java/lang/Throwable", "stackTrace", "[Ljava/lang/StackTraceElement;", false)
  | 2 => ("java/lang/Throwable", "suppressedExceptions", "Ljava/util/List;", false)
  | 3 => ("java/lang/Throwable", "detailMessage", "Ljava/lang/String;", false)
  | 4 => ("java/lang/Throwable", "backtrace", "Ljava/lang/Object;", false)
  | _ => ("java/lang/Throwable", "depth", "I", false)
def tyJ14 : Nat → FieldType := fun k => match k with
  | 0 => .object "java/lang/Throwable"
  | 1 => .array (.object "java/lang/StackTraceElement")
  | 2 => .object "java/util/List"
  | 3 => .object "java/lang/String"
  | 4 => .object "java/lang/Object"
  | _ => .int
abbrev wsJ140 : List Cond := u_ws RJ14 TJ14 6
theorem nmJ14 : ∀ a, a < 6 → ∀ b, b < 6 → a ≠ b → (TJ14 a).2.1 ≠ (TJ14 b).2.1 := by decide +kernel
theorem tyJ14_ok : ∀ k, k < 6 → parseFieldDescriptor (TJ14 k).2.2.1 = some (tyJ14 k) := by decide +kernel
abbrev cJ14_init : ByteArray := prog_54_method_1_code
def yJ14_init : MethodName := ⟨RJ14, "<init>", "()V"⟩
theorem dJ14_init_0 : decode cJ14_init 0 = .ok (.aload_n 0, 1) := by decide +kernel
theorem dJ14_init_1 : decode cJ14_init 1 = .ok (.invokespecial 1, 3) := by decide +kernel
theorem dJ14_init_4 : decode cJ14_init 4 = .ok (.return_, 1) := by decide +kernel
theorem q80 : (Jvm.Cond.initialized "java/util/NoSuchElementException") ∈ lw_all := lw_g (lw_at lw_m1 19 rfl) rfl
theorem q343 : (Jvm.Cond.instantiable "java/util/NoSuchElementException" (6 : Nat)) ∈ lw_all := lw_g (lw_at lw_m2 42 rfl) rfl
theorem q344 : (Jvm.Cond.castable "java/util/NoSuchElementException" "java/util/NoSuchElementException") ∈ lw_tbl := lw_at lw_m2 43 rfl
theorem q351 : (Jvm.Cond.selects "java/util/NoSuchElementException" ({ cls := "java/lang/Throwable", name := "fillInStackTrace", desc := "(I)Ljava/lang/Throwable;" } : Jvm.MethodName) ({ cls := "java/lang/Throwable", name := "fillInStackTrace", desc := "(I)Ljava/lang/Throwable;" } : Jvm.MethodName)) ∈ lw_all := lw_g (lw_at lw_m2 50 rfl) rfl
theorem q352 : (Jvm.Cond.selects "java/util/NoSuchElementException" ({ cls := "java/lang/Throwable", name := "fillInStackTrace", desc := "()Ljava/lang/Throwable;" } : Jvm.MethodName) ({ cls := "java/lang/Throwable", name := "fillInStackTrace", desc := "()Ljava/lang/Throwable;" } : Jvm.MethodName)) ∈ lw_all := lw_g (lw_at lw_m2 51 rfl) rfl
theorem q353 : (Jvm.Cond.lays "java/util/NoSuchElementException" "java/lang/Throwable" "cause" "Ljava/lang/Throwable;") ∈ lw_all := lw_g (lw_at lw_m2 52 rfl) rfl
theorem q355 : (Jvm.Cond.lays "java/util/NoSuchElementException" "java/lang/Throwable" "stackTrace" "[Ljava/lang/StackTraceElement;") ∈ lw_all := lw_g (lw_at lw_m2 54 rfl) rfl
theorem q357 : (Jvm.Cond.lays "java/util/NoSuchElementException" "java/lang/Throwable" "suppressedExceptions" "Ljava/util/List;") ∈ lw_all := lw_g (lw_at lw_m2 56 rfl) rfl
theorem q359 : (Jvm.Cond.lays "java/util/NoSuchElementException" "java/lang/Throwable" "detailMessage" "Ljava/lang/String;") ∈ lw_all := lw_g (lw_at lw_m2 58 rfl) rfl
theorem q361 : (Jvm.Cond.lays "java/util/NoSuchElementException" "java/lang/Throwable" "backtrace" "Ljava/lang/Object;") ∈ lw_all := lw_g (lw_at lw_m2 60 rfl) rfl
theorem q390 : (Jvm.Cond.instanceMethod ({ cls := "java/util/NoSuchElementException", name := "<init>", desc := "()V" } : Jvm.MethodName)) ∈ lw_all := lw_g (lw_at lw_m2 89 rfl) rfl
theorem q391 : (Jvm.Cond.code ({ cls := "java/util/NoSuchElementException", name := "<init>", desc := "()V" } : Jvm.MethodName) prog_54_method_1_code (1 : Nat) (Option.none : Option Jvm.ClassFile.FieldType)) ∈ lw_all := lw_g (lw_at lw_m2 90 rfl) rfl
theorem q392 : (Jvm.Cond.methodLink "java/util/NoSuchElementException" (1 : Nat) ({ cls := "java/lang/RuntimeException", name := "<init>", desc := "()V" } : Jvm.MethodName)) ∈ lw_all := lw_g (lw_at lw_m2 91 rfl) rfl
theorem q408 : (Jvm.Cond.lays "java/util/NoSuchElementException" "java/lang/Throwable" "depth" "I") ∈ lw_all := lw_g (lw_at lw_m2 107 rfl) rfl
theorem q411 : (Jvm.Cond.superclass "java/util/NoSuchElementException" "java/lang/RuntimeException") ∈ lw_all := lw_g (lw_at lw_m2 110 rfl) rfl
theorem q529 : (Jvm.Cond.selects "java/util/NoSuchElementException" ({ cls := "java/lang/Object", name := "getClass", desc := "()Ljava/lang/Class;" } : Jvm.MethodName) ({ cls := "java/lang/Object", name := "getClass", desc := "()Ljava/lang/Class;" } : Jvm.MethodName)) ∈ lw_all := lw_g (lw_at lw_m2 228 rfl) rfl
theorem q2234 : (Jvm.Cond.castable "java/util/NoSuchElementException" "java/lang/Object") ∈ lw_tbl := lw_at lw_m10 13 rfl
theorem in_J14 : ∀ w ∈ wsJ140, w ∈ lw_all := lw_in wsJ140 [353, 355, 357, 359, 361, 408] (by decide +kernel) (by decide +kernel)
/-! jdk/internal/util/ArraysSupport -/
set_option maxRecDepth 100000
def RJ15 : String := "jdk/internal/util/ArraysSupport"
abbrev cJ15_newLength : ByteArray := prog_60_method_27_code
def yJ15_newLength : MethodName := ⟨RJ15, "newLength", "(III)I"⟩
def dkwJ15_newLength_1 : List UInt8 := [184, 0, 201, 172]
abbrev dktJ15_newLength_1 : List UInt8 := dkwJ15_newLength_1 ++ []
def dkwJ15_newLength_0 : List UInt8 := [26, 27, 28, 184, 0, 194, 96, 62, 3, 29, 162, 0, 11, 29, 18, 200, 163, 0, 5, 29, 172, 26, 27]
abbrev dktJ15_newLength_0 : List UInt8 := dkwJ15_newLength_0 ++ dktJ15_newLength_1
theorem dksJ15_newLength_0 : cJ15_newLength.data.toList.drop 0 = dktJ15_newLength_0 := by decide +kernel
theorem dksJ15_newLength_1 : cJ15_newLength.data.toList.drop 23 = dktJ15_newLength_1 := dk_seg dksJ15_newLength_0 23 rfl rfl
theorem dJ15_newLength_0 : decode cJ15_newLength 0 = .ok (.iload_n 0, 1) := dk_26 (dk_at dksJ15_newLength_0 0 rfl rfl)
theorem dJ15_newLength_1 : decode cJ15_newLength 1 = .ok (.iload_n 1, 1) := dk_27 (dk_at dksJ15_newLength_0 1 rfl rfl)
theorem dJ15_newLength_2 : decode cJ15_newLength 2 = .ok (.iload_n 2, 1) := dk_28 (dk_at dksJ15_newLength_0 2 rfl rfl)
theorem dJ15_newLength_3 : decode cJ15_newLength 3 = .ok (.invokestatic 194, 3) := dk_184 0 194 (dk_at dksJ15_newLength_0 3 rfl rfl)
theorem dJ15_newLength_6 : decode cJ15_newLength 6 = .ok (.iadd, 1) := dk_96 (dk_at dksJ15_newLength_0 6 rfl rfl)
theorem dJ15_newLength_7 : decode cJ15_newLength 7 = .ok (.istore_n 3, 1) := dk_62 (dk_at dksJ15_newLength_0 7 rfl rfl)
theorem dJ15_newLength_8 : decode cJ15_newLength 8 = .ok (.iconst 0, 1) := dk_3 (dk_at dksJ15_newLength_0 8 rfl rfl)
theorem dJ15_newLength_9 : decode cJ15_newLength 9 = .ok (.iload_n 3, 1) := dk_29 (dk_at dksJ15_newLength_0 9 rfl rfl)
theorem dJ15_newLength_10 : decode cJ15_newLength 10 = .ok (.if_icmp .ge 11, 3) := dk_162 0 11 (dk_at dksJ15_newLength_0 10 rfl rfl)
theorem dJ15_newLength_13 : decode cJ15_newLength 13 = .ok (.iload_n 3, 1) := dk_29 (dk_at dksJ15_newLength_0 13 rfl rfl)
theorem dJ15_newLength_14 : decode cJ15_newLength 14 = .ok (.ldc 200, 2) := dk_18 200 (dk_at dksJ15_newLength_0 14 rfl rfl)
theorem dJ15_newLength_16 : decode cJ15_newLength 16 = .ok (.if_icmp .gt 5, 3) := dk_163 0 5 (dk_at dksJ15_newLength_0 16 rfl rfl)
theorem dJ15_newLength_19 : decode cJ15_newLength 19 = .ok (.iload_n 3, 1) := dk_29 (dk_at dksJ15_newLength_0 19 rfl rfl)
theorem dJ15_newLength_20 : decode cJ15_newLength 20 = .ok (.ireturn, 1) := dk_172 (dk_at dksJ15_newLength_0 20 rfl rfl)
theorem dJ15_newLength_21 : decode cJ15_newLength 21 = .ok (.iload_n 0, 1) := dk_26 (dk_at dksJ15_newLength_0 21 rfl rfl)
theorem dJ15_newLength_22 : decode cJ15_newLength 22 = .ok (.iload_n 1, 1) := dk_27 (dk_at dksJ15_newLength_0 22 rfl rfl)
theorem dJ15_newLength_23 : decode cJ15_newLength 23 = .ok (.invokestatic 201, 3) := dk_184 0 201 (dk_at dksJ15_newLength_1 0 rfl rfl)
theorem dJ15_newLength_26 : decode cJ15_newLength 26 = .ok (.ireturn, 1) := dk_172 (dk_at dksJ15_newLength_1 3 rfl rfl)
abbrev cJ15_hugeLength : ByteArray := prog_60_method_28_code
def yJ15_hugeLength : MethodName := ⟨RJ15, "hugeLength", "(II)I"⟩
def dkwJ15_hugeLength_2 : List UInt8 := [191, 28, 18, 200, 163, 0, 6, 18, 200, 172, 28, 172]
abbrev dktJ15_hugeLength_2 : List UInt8 := dkwJ15_hugeLength_2 ++ []
def dkwJ15_hugeLength_1 : List UInt8 := [26, 182, 0, 98, 18, 208, 182, 0, 94, 27, 182, 0, 98, 18, 210, 182, 0, 94, 182, 0, 101, 183, 0, 212]
abbrev dktJ15_hugeLength_1 : List UInt8 := dkwJ15_hugeLength_1 ++ dktJ15_hugeLength_2
def dkwJ15_hugeLength_0 : List UInt8 := [26, 27, 96, 61, 28, 156, 0, 44, 187, 0, 204, 89, 187, 0, 89, 89, 183, 0, 91, 18, 206, 182, 0, 94]
abbrev dktJ15_hugeLength_0 : List UInt8 := dkwJ15_hugeLength_0 ++ dktJ15_hugeLength_1
theorem dksJ15_hugeLength_0 : cJ15_hugeLength.data.toList.drop 0 = dktJ15_hugeLength_0 := by decide +kernel
theorem dksJ15_hugeLength_1 : cJ15_hugeLength.data.toList.drop 24 = dktJ15_hugeLength_1 := dk_seg dksJ15_hugeLength_0 24 rfl rfl
theorem dksJ15_hugeLength_2 : cJ15_hugeLength.data.toList.drop 48 = dktJ15_hugeLength_2 := dk_seg dksJ15_hugeLength_1 24 rfl rfl
theorem dJ15_hugeLength_0 : decode cJ15_hugeLength 0 = .ok (.iload_n 0, 1) := dk_26 (dk_at dksJ15_hugeLength_0 0 rfl rfl)
theorem dJ15_hugeLength_1 : decode cJ15_hugeLength 1 = .ok (.iload_n 1, 1) := dk_27 (dk_at dksJ15_hugeLength_0 1 rfl rfl)
theorem dJ15_hugeLength_2 : decode cJ15_hugeLength 2 = .ok (.iadd, 1) := dk_96 (dk_at dksJ15_hugeLength_0 2 rfl rfl)
theorem dJ15_hugeLength_3 : decode cJ15_hugeLength 3 = .ok (.istore_n 2, 1) := dk_61 (dk_at dksJ15_hugeLength_0 3 rfl rfl)
theorem dJ15_hugeLength_4 : decode cJ15_hugeLength 4 = .ok (.iload_n 2, 1) := dk_28 (dk_at dksJ15_hugeLength_0 4 rfl rfl)
theorem dJ15_hugeLength_5 : decode cJ15_hugeLength 5 = .ok (.ifCond .ge 44, 3) := dk_156 0 44 (dk_at dksJ15_hugeLength_0 5 rfl rfl)
theorem dJ15_hugeLength_8 : decode cJ15_hugeLength 8 = .ok (.new 204, 3) := dk_187 0 204 (dk_at dksJ15_hugeLength_0 8 rfl rfl)
theorem dJ15_hugeLength_11 : decode cJ15_hugeLength 11 = .ok (.dup, 1) := dk_89 (dk_at dksJ15_hugeLength_0 11 rfl rfl)
theorem dJ15_hugeLength_12 : decode cJ15_hugeLength 12 = .ok (.new 89, 3) := dk_187 0 89 (dk_at dksJ15_hugeLength_0 12 rfl rfl)
theorem dJ15_hugeLength_15 : decode cJ15_hugeLength 15 = .ok (.dup, 1) := dk_89 (dk_at dksJ15_hugeLength_0 15 rfl rfl)
theorem dJ15_hugeLength_16 : decode cJ15_hugeLength 16 = .ok (.invokespecial 91, 3) := dk_183 0 91 (dk_at dksJ15_hugeLength_0 16 rfl rfl)
theorem dJ15_hugeLength_19 : decode cJ15_hugeLength 19 = .ok (.ldc 206, 2) := dk_18 206 (dk_at dksJ15_hugeLength_0 19 rfl rfl)
theorem dJ15_hugeLength_21 : decode cJ15_hugeLength 21 = .ok (.invokevirtual 94, 3) := dk_182 0 94 (dk_at dksJ15_hugeLength_0 21 rfl rfl)
theorem dJ15_hugeLength_24 : decode cJ15_hugeLength 24 = .ok (.iload_n 0, 1) := dk_26 (dk_at dksJ15_hugeLength_1 0 rfl rfl)
theorem dJ15_hugeLength_25 : decode cJ15_hugeLength 25 = .ok (.invokevirtual 98, 3) := dk_182 0 98 (dk_at dksJ15_hugeLength_1 1 rfl rfl)
theorem dJ15_hugeLength_28 : decode cJ15_hugeLength 28 = .ok (.ldc 208, 2) := dk_18 208 (dk_at dksJ15_hugeLength_1 4 rfl rfl)
theorem dJ15_hugeLength_30 : decode cJ15_hugeLength 30 = .ok (.invokevirtual 94, 3) := dk_182 0 94 (dk_at dksJ15_hugeLength_1 6 rfl rfl)
theorem dJ15_hugeLength_33 : decode cJ15_hugeLength 33 = .ok (.iload_n 1, 1) := dk_27 (dk_at dksJ15_hugeLength_1 9 rfl rfl)
theorem dJ15_hugeLength_34 : decode cJ15_hugeLength 34 = .ok (.invokevirtual 98, 3) := dk_182 0 98 (dk_at dksJ15_hugeLength_1 10 rfl rfl)
theorem dJ15_hugeLength_37 : decode cJ15_hugeLength 37 = .ok (.ldc 210, 2) := dk_18 210 (dk_at dksJ15_hugeLength_1 13 rfl rfl)
theorem dJ15_hugeLength_39 : decode cJ15_hugeLength 39 = .ok (.invokevirtual 94, 3) := dk_182 0 94 (dk_at dksJ15_hugeLength_1 15 rfl rfl)
theorem dJ15_hugeLength_42 : decode cJ15_hugeLength 42 = .ok (.invokevirtual 101, 3) := dk_182 0 101 (dk_at dksJ15_hugeLength_1 18 rfl rfl)
theorem dJ15_hugeLength_45 : decode cJ15_hugeLength 45 = .ok (.invokespecial 212, 3) := dk_183 0 212 (dk_at dksJ15_hugeLength_1 21 rfl rfl)
theorem dJ15_hugeLength_48 : decode cJ15_hugeLength 48 = .ok (.athrow, 1) := dk_191 (dk_at dksJ15_hugeLength_2 0 rfl rfl)
theorem dJ15_hugeLength_49 : decode cJ15_hugeLength 49 = .ok (.iload_n 2, 1) := dk_28 (dk_at dksJ15_hugeLength_2 1 rfl rfl)
theorem dJ15_hugeLength_50 : decode cJ15_hugeLength 50 = .ok (.ldc 200, 2) := dk_18 200 (dk_at dksJ15_hugeLength_2 2 rfl rfl)
theorem dJ15_hugeLength_52 : decode cJ15_hugeLength 52 = .ok (.if_icmp .gt 6, 3) := dk_163 0 6 (dk_at dksJ15_hugeLength_2 4 rfl rfl)
theorem dJ15_hugeLength_55 : decode cJ15_hugeLength 55 = .ok (.ldc 200, 2) := dk_18 200 (dk_at dksJ15_hugeLength_2 7 rfl rfl)
theorem dJ15_hugeLength_57 : decode cJ15_hugeLength 57 = .ok (.ireturn, 1) := dk_172 (dk_at dksJ15_hugeLength_2 9 rfl rfl)
theorem dJ15_hugeLength_58 : decode cJ15_hugeLength 58 = .ok (.iload_n 2, 1) := dk_28 (dk_at dksJ15_hugeLength_2 10 rfl rfl)
theorem dJ15_hugeLength_59 : decode cJ15_hugeLength 59 = .ok (.ireturn, 1) := dk_172 (dk_at dksJ15_hugeLength_2 11 rfl rfl)
abbrev cJ15_vectorizedHashCode : ByteArray := prog_60_method_4_code
def yJ15_vectorizedHashCode : MethodName := ⟨RJ15, "vectorizedHashCode", "(Ljava/lang/Object;IIII)I"⟩
def dkwJ15_vectorizedHashCode_6 : List UInt8 := [183, 0, 91, 18, 92, 182, 0, 94, 21, 4, 182, 0, 98, 182, 0, 101, 183, 0, 105, 191, 172]
abbrev dktJ15_vectorizedHashCode_6 : List UInt8 := dkwJ15_vectorizedHashCode_6 ++ []
def dkwJ15_vectorizedHashCode_5 : List UInt8 := [167, 0, 44, 29, 42, 192, 0, 82, 27, 28, 184, 0, 84, 167, 0, 31, 187, 0, 87, 89, 187, 0, 89, 89]
abbrev dktJ15_vectorizedHashCode_5 : List UInt8 := dkwJ15_vectorizedHashCode_5 ++ dktJ15_vectorizedHashCode_6
def dkwJ15_vectorizedHashCode_4 : List UInt8 := [29, 42, 192, 0, 60, 27, 28, 184, 0, 75, 167, 0, 57, 29, 42, 192, 0, 77, 27, 28, 184, 0, 79]
abbrev dktJ15_vectorizedHashCode_4 : List UInt8 := dkwJ15_vectorizedHashCode_4 ++ dktJ15_vectorizedHashCode_5
def dkwJ15_vectorizedHashCode_3 : List UInt8 := [192, 0, 60, 27, 28, 184, 0, 66, 167, 0, 83, 29, 42, 192, 0, 69, 27, 28, 184, 0, 71, 167, 0, 70]
abbrev dktJ15_vectorizedHashCode_3 : List UInt8 := dkwJ15_vectorizedHashCode_3 ++ dktJ15_vectorizedHashCode_4
def dkwJ15_vectorizedHashCode_2 : List UInt8 := [29, 42, 192, 0, 60, 27, 28, 184, 0, 62, 167, 0, 103, 42, 193, 0, 60, 153, 0, 16, 29, 42]
abbrev dktJ15_vectorizedHashCode_2 : List UInt8 := dkwJ15_vectorizedHashCode_2 ++ dktJ15_vectorizedHashCode_3
def dkwJ15_vectorizedHashCode_1 : List UInt8 := [170, 0, 0, 0, 0, 127, 0, 0, 0, 4, 0, 0, 0, 10, 0, 0, 0, 42, 0, 0, 0, 55, 0, 0, 0, 127, 0, 0, 0, 127, 0, 0, 0, 88, 0, 0, 0, 101, 0, 0, 0, 114]
abbrev dktJ15_vectorizedHashCode_1 : List UInt8 := dkwJ15_vectorizedHashCode_1 ++ dktJ15_vectorizedHashCode_2
def dkwJ15_vectorizedHashCode_0 : List UInt8 := [21, 4]
abbrev dktJ15_vectorizedHashCode_0 : List UInt8 := dkwJ15_vectorizedHashCode_0 ++ dktJ15_vectorizedHashCode_1
theorem dksJ15_vectorizedHashCode_0 : cJ15_vectorizedHashCode.data.toList.drop 0 = dktJ15_vectorizedHashCode_0 := by decide +kernel
theorem dksJ15_vectorizedHashCode_1 : cJ15_vectorizedHashCode.data.toList.drop 2 = dktJ15_vectorizedHashCode_1 := dk_seg dksJ15_vectorizedHashCode_0 2 rfl rfl
theorem dksJ15_vectorizedHashCode_2 : cJ15_vectorizedHashCode.data.toList.drop 44 = dktJ15_vectorizedHashCode_2 := dk_seg dksJ15_vectorizedHashCode_1 42 rfl rfl
theorem dksJ15_vectorizedHashCode_3 : cJ15_vectorizedHashCode.data.toList.drop 66 = dktJ15_vectorizedHashCode_3 := dk_seg dksJ15_vectorizedHashCode_2 22 rfl rfl
theorem dksJ15_vectorizedHashCode_4 : cJ15_vectorizedHashCode.data.toList.drop 90 = dktJ15_vectorizedHashCode_4 := dk_seg dksJ15_vectorizedHashCode_3 24 rfl rfl
theorem dksJ15_vectorizedHashCode_5 : cJ15_vectorizedHashCode.data.toList.drop 113 = dktJ15_vectorizedHashCode_5 := dk_seg dksJ15_vectorizedHashCode_4 23 rfl rfl
theorem dksJ15_vectorizedHashCode_6 : cJ15_vectorizedHashCode.data.toList.drop 137 = dktJ15_vectorizedHashCode_6 := dk_seg dksJ15_vectorizedHashCode_5 24 rfl rfl
theorem dJ15_vectorizedHashCode_0 : decode cJ15_vectorizedHashCode 0 = .ok (.iload 4, 2) := dk_21 4 (dk_at dksJ15_vectorizedHashCode_0 0 rfl rfl)
theorem dJ15_vectorizedHashCode_2 : decode cJ15_vectorizedHashCode 2 = .ok (.tableswitch 127 4 10 #[42, 55, 127, 127, 88, 101, 114], 42) := by decide +kernel
theorem dJ15_vectorizedHashCode_44 : decode cJ15_vectorizedHashCode 44 = .ok (.iload_n 3, 1) := dk_29 (dk_at dksJ15_vectorizedHashCode_2 0 rfl rfl)
theorem dJ15_vectorizedHashCode_45 : decode cJ15_vectorizedHashCode 45 = .ok (.aload_n 0, 1) := dk_42 (dk_at dksJ15_vectorizedHashCode_2 1 rfl rfl)
theorem dJ15_vectorizedHashCode_46 : decode cJ15_vectorizedHashCode 46 = .ok (.checkcast 60, 3) := dk_192 0 60 (dk_at dksJ15_vectorizedHashCode_2 2 rfl rfl)
theorem dJ15_vectorizedHashCode_49 : decode cJ15_vectorizedHashCode 49 = .ok (.iload_n 1, 1) := dk_27 (dk_at dksJ15_vectorizedHashCode_2 5 rfl rfl)
theorem dJ15_vectorizedHashCode_50 : decode cJ15_vectorizedHashCode 50 = .ok (.iload_n 2, 1) := dk_28 (dk_at dksJ15_vectorizedHashCode_2 6 rfl rfl)
theorem dJ15_vectorizedHashCode_51 : decode cJ15_vectorizedHashCode 51 = .ok (.invokestatic 62, 3) := dk_184 0 62 (dk_at dksJ15_vectorizedHashCode_2 7 rfl rfl)
theorem dJ15_vectorizedHashCode_54 : decode cJ15_vectorizedHashCode 54 = .ok (.goto 103, 3) := dk_167 0 103 (dk_at dksJ15_vectorizedHashCode_2 10 rfl rfl)
theorem dJ15_vectorizedHashCode_57 : decode cJ15_vectorizedHashCode 57 = .ok (.aload_n 0, 1) := dk_42 (dk_at dksJ15_vectorizedHashCode_2 13 rfl rfl)
theorem dJ15_vectorizedHashCode_58 : decode cJ15_vectorizedHashCode 58 = .ok (.instanceof 60, 3) := dk_193 0 60 (dk_at dksJ15_vectorizedHashCode_2 14 rfl rfl)
theorem dJ15_vectorizedHashCode_61 : decode cJ15_vectorizedHashCode 61 = .ok (.ifCond .eq 16, 3) := dk_153 0 16 (dk_at dksJ15_vectorizedHashCode_2 17 rfl rfl)
theorem dJ15_vectorizedHashCode_64 : decode cJ15_vectorizedHashCode 64 = .ok (.iload_n 3, 1) := dk_29 (dk_at dksJ15_vectorizedHashCode_2 20 rfl rfl)
theorem dJ15_vectorizedHashCode_65 : decode cJ15_vectorizedHashCode 65 = .ok (.aload_n 0, 1) := dk_42 (dk_at dksJ15_vectorizedHashCode_2 21 rfl rfl)
theorem dJ15_vectorizedHashCode_66 : decode cJ15_vectorizedHashCode 66 = .ok (.checkcast 60, 3) := dk_192 0 60 (dk_at dksJ15_vectorizedHashCode_3 0 rfl rfl)
theorem dJ15_vectorizedHashCode_69 : decode cJ15_vectorizedHashCode 69 = .ok (.iload_n 1, 1) := dk_27 (dk_at dksJ15_vectorizedHashCode_3 3 rfl rfl)
theorem dJ15_vectorizedHashCode_70 : decode cJ15_vectorizedHashCode 70 = .ok (.iload_n 2, 1) := dk_28 (dk_at dksJ15_vectorizedHashCode_3 4 rfl rfl)
theorem dJ15_vectorizedHashCode_71 : decode cJ15_vectorizedHashCode 71 = .ok (.invokestatic 66, 3) := dk_184 0 66 (dk_at dksJ15_vectorizedHashCode_3 5 rfl rfl)
theorem dJ15_vectorizedHashCode_74 : decode cJ15_vectorizedHashCode 74 = .ok (.goto 83, 3) := dk_167 0 83 (dk_at dksJ15_vectorizedHashCode_3 8 rfl rfl)
theorem dJ15_vectorizedHashCode_77 : decode cJ15_vectorizedHashCode 77 = .ok (.iload_n 3, 1) := dk_29 (dk_at dksJ15_vectorizedHashCode_3 11 rfl rfl)
theorem dJ15_vectorizedHashCode_78 : decode cJ15_vectorizedHashCode 78 = .ok (.aload_n 0, 1) := dk_42 (dk_at dksJ15_vectorizedHashCode_3 12 rfl rfl)
theorem dJ15_vectorizedHashCode_79 : decode cJ15_vectorizedHashCode 79 = .ok (.checkcast 69, 3) := dk_192 0 69 (dk_at dksJ15_vectorizedHashCode_3 13 rfl rfl)
theorem dJ15_vectorizedHashCode_82 : decode cJ15_vectorizedHashCode 82 = .ok (.iload_n 1, 1) := dk_27 (dk_at dksJ15_vectorizedHashCode_3 16 rfl rfl)
theorem dJ15_vectorizedHashCode_83 : decode cJ15_vectorizedHashCode 83 = .ok (.iload_n 2, 1) := dk_28 (dk_at dksJ15_vectorizedHashCode_3 17 rfl rfl)
theorem dJ15_vectorizedHashCode_84 : decode cJ15_vectorizedHashCode 84 = .ok (.invokestatic 71, 3) := dk_184 0 71 (dk_at dksJ15_vectorizedHashCode_3 18 rfl rfl)
theorem dJ15_vectorizedHashCode_87 : decode cJ15_vectorizedHashCode 87 = .ok (.goto 70, 3) := dk_167 0 70 (dk_at dksJ15_vectorizedHashCode_3 21 rfl rfl)
theorem dJ15_vectorizedHashCode_90 : decode cJ15_vectorizedHashCode 90 = .ok (.iload_n 3, 1) := dk_29 (dk_at dksJ15_vectorizedHashCode_4 0 rfl rfl)
theorem dJ15_vectorizedHashCode_91 : decode cJ15_vectorizedHashCode 91 = .ok (.aload_n 0, 1) := dk_42 (dk_at dksJ15_vectorizedHashCode_4 1 rfl rfl)
theorem dJ15_vectorizedHashCode_92 : decode cJ15_vectorizedHashCode 92 = .ok (.checkcast 60, 3) := dk_192 0 60 (dk_at dksJ15_vectorizedHashCode_4 2 rfl rfl)
theorem dJ15_vectorizedHashCode_95 : decode cJ15_vectorizedHashCode 95 = .ok (.iload_n 1, 1) := dk_27 (dk_at dksJ15_vectorizedHashCode_4 5 rfl rfl)
theorem dJ15_vectorizedHashCode_96 : decode cJ15_vectorizedHashCode 96 = .ok (.iload_n 2, 1) := dk_28 (dk_at dksJ15_vectorizedHashCode_4 6 rfl rfl)
theorem dJ15_vectorizedHashCode_97 : decode cJ15_vectorizedHashCode 97 = .ok (.invokestatic 75, 3) := dk_184 0 75 (dk_at dksJ15_vectorizedHashCode_4 7 rfl rfl)
theorem dJ15_vectorizedHashCode_100 : decode cJ15_vectorizedHashCode 100 = .ok (.goto 57, 3) := dk_167 0 57 (dk_at dksJ15_vectorizedHashCode_4 10 rfl rfl)
theorem dJ15_vectorizedHashCode_103 : decode cJ15_vectorizedHashCode 103 = .ok (.iload_n 3, 1) := dk_29 (dk_at dksJ15_vectorizedHashCode_4 13 rfl rfl)
theorem dJ15_vectorizedHashCode_104 : decode cJ15_vectorizedHashCode 104 = .ok (.aload_n 0, 1) := dk_42 (dk_at dksJ15_vectorizedHashCode_4 14 rfl rfl)
theorem dJ15_vectorizedHashCode_105 : decode cJ15_vectorizedHashCode 105 = .ok (.checkcast 77, 3) := dk_192 0 77 (dk_at dksJ15_vectorizedHashCode_4 15 rfl rfl)
theorem dJ15_vectorizedHashCode_108 : decode cJ15_vectorizedHashCode 108 = .ok (.iload_n 1, 1) := dk_27 (dk_at dksJ15_vectorizedHashCode_4 18 rfl rfl)
theorem dJ15_vectorizedHashCode_109 : decode cJ15_vectorizedHashCode 109 = .ok (.iload_n 2, 1) := dk_28 (dk_at dksJ15_vectorizedHashCode_4 19 rfl rfl)
theorem dJ15_vectorizedHashCode_110 : decode cJ15_vectorizedHashCode 110 = .ok (.invokestatic 79, 3) := dk_184 0 79 (dk_at dksJ15_vectorizedHashCode_4 20 rfl rfl)
theorem dJ15_vectorizedHashCode_113 : decode cJ15_vectorizedHashCode 113 = .ok (.goto 44, 3) := dk_167 0 44 (dk_at dksJ15_vectorizedHashCode_5 0 rfl rfl)
theorem dJ15_vectorizedHashCode_116 : decode cJ15_vectorizedHashCode 116 = .ok (.iload_n 3, 1) := dk_29 (dk_at dksJ15_vectorizedHashCode_5 3 rfl rfl)
theorem dJ15_vectorizedHashCode_117 : decode cJ15_vectorizedHashCode 117 = .ok (.aload_n 0, 1) := dk_42 (dk_at dksJ15_vectorizedHashCode_5 4 rfl rfl)
theorem dJ15_vectorizedHashCode_118 : decode cJ15_vectorizedHashCode 118 = .ok (.checkcast 82, 3) := dk_192 0 82 (dk_at dksJ15_vectorizedHashCode_5 5 rfl rfl)
theorem dJ15_vectorizedHashCode_121 : decode cJ15_vectorizedHashCode 121 = .ok (.iload_n 1, 1) := dk_27 (dk_at dksJ15_vectorizedHashCode_5 8 rfl rfl)
theorem dJ15_vectorizedHashCode_122 : decode cJ15_vectorizedHashCode 122 = .ok (.iload_n 2, 1) := dk_28 (dk_at dksJ15_vectorizedHashCode_5 9 rfl rfl)
theorem dJ15_vectorizedHashCode_123 : decode cJ15_vectorizedHashCode 123 = .ok (.invokestatic 84, 3) := dk_184 0 84 (dk_at dksJ15_vectorizedHashCode_5 10 rfl rfl)
theorem dJ15_vectorizedHashCode_126 : decode cJ15_vectorizedHashCode 126 = .ok (.goto 31, 3) := dk_167 0 31 (dk_at dksJ15_vectorizedHashCode_5 13 rfl rfl)
theorem dJ15_vectorizedHashCode_129 : decode cJ15_vectorizedHashCode 129 = .ok (.new 87, 3) := dk_187 0 87 (dk_at dksJ15_vectorizedHashCode_5 16 rfl rfl)
theorem dJ15_vectorizedHashCode_132 : decode cJ15_vectorizedHashCode 132 = .ok (.dup, 1) := dk_89 (dk_at dksJ15_vectorizedHashCode_5 19 rfl rfl)
theorem dJ15_vectorizedHashCode_133 : decode cJ15_vectorizedHashCode 133 = .ok (.new 89, 3) := dk_187 0 89 (dk_at dksJ15_vectorizedHashCode_5 20 rfl rfl)
theorem dJ15_vectorizedHashCode_136 : decode cJ15_vectorizedHashCode 136 = .ok (.dup, 1) := dk_89 (dk_at dksJ15_vectorizedHashCode_5 23 rfl rfl)
theorem dJ15_vectorizedHashCode_137 : decode cJ15_vectorizedHashCode 137 = .ok (.invokespecial 91, 3) := dk_183 0 91 (dk_at dksJ15_vectorizedHashCode_6 0 rfl rfl)
theorem dJ15_vectorizedHashCode_140 : decode cJ15_vectorizedHashCode 140 = .ok (.ldc 92, 2) := dk_18 92 (dk_at dksJ15_vectorizedHashCode_6 3 rfl rfl)
theorem dJ15_vectorizedHashCode_142 : decode cJ15_vectorizedHashCode 142 = .ok (.invokevirtual 94, 3) := dk_182 0 94 (dk_at dksJ15_vectorizedHashCode_6 5 rfl rfl)
theorem dJ15_vectorizedHashCode_145 : decode cJ15_vectorizedHashCode 145 = .ok (.iload 4, 2) := dk_21 4 (dk_at dksJ15_vectorizedHashCode_6 8 rfl rfl)
theorem dJ15_vectorizedHashCode_147 : decode cJ15_vectorizedHashCode 147 = .ok (.invokevirtual 98, 3) := dk_182 0 98 (dk_at dksJ15_vectorizedHashCode_6 10 rfl rfl)
theorem dJ15_vectorizedHashCode_150 : decode cJ15_vectorizedHashCode 150 = .ok (.invokevirtual 101, 3) := dk_182 0 101 (dk_at dksJ15_vectorizedHashCode_6 13 rfl rfl)
theorem dJ15_vectorizedHashCode_153 : decode cJ15_vectorizedHashCode 153 = .ok (.invokespecial 105, 3) := dk_183 0 105 (dk_at dksJ15_vectorizedHashCode_6 16 rfl rfl)
theorem dJ15_vectorizedHashCode_156 : decode cJ15_vectorizedHashCode 156 = .ok (.athrow, 1) := dk_191 (dk_at dksJ15_vectorizedHashCode_6 19 rfl rfl)
theorem dJ15_vectorizedHashCode_157 : decode cJ15_vectorizedHashCode 157 = .ok (.ireturn, 1) := dk_172 (dk_at dksJ15_vectorizedHashCode_6 20 rfl rfl)
abbrev cJ15_signedHashCode : ByteArray := prog_60_method_5_code
def yJ15_signedHashCode : MethodName := ⟨RJ15, "signedHashCode", "(I[BII)I"⟩
def dkwJ15_signedHashCode_1 : List UInt8 := [17, 0, 255, 126, 96, 59, 132, 5, 1, 167, 255, 232, 26, 172]
abbrev dktJ15_signedHashCode_1 : List UInt8 := dkwJ15_signedHashCode_1 ++ []
def dkwJ15_signedHashCode_0 : List UInt8 := [28, 29, 96, 54, 4, 28, 54, 5, 21, 5, 21, 4, 162, 0, 23, 16, 31, 26, 104, 43, 21, 5, 51]
abbrev dktJ15_signedHashCode_0 : List UInt8 := dkwJ15_signedHashCode_0 ++ dktJ15_signedHashCode_1
theorem dksJ15_signedHashCode_0 : cJ15_signedHashCode.data.toList.drop 0 = dktJ15_signedHashCode_0 := by decide +kernel
theorem dksJ15_signedHashCode_1 : cJ15_signedHashCode.data.toList.drop 23 = dktJ15_signedHashCode_1 := dk_seg dksJ15_signedHashCode_0 23 rfl rfl
theorem dJ15_signedHashCode_0 : decode cJ15_signedHashCode 0 = .ok (.iload_n 2, 1) := dk_28 (dk_at dksJ15_signedHashCode_0 0 rfl rfl)
theorem dJ15_signedHashCode_1 : decode cJ15_signedHashCode 1 = .ok (.iload_n 3, 1) := dk_29 (dk_at dksJ15_signedHashCode_0 1 rfl rfl)
theorem dJ15_signedHashCode_2 : decode cJ15_signedHashCode 2 = .ok (.iadd, 1) := dk_96 (dk_at dksJ15_signedHashCode_0 2 rfl rfl)
theorem dJ15_signedHashCode_3 : decode cJ15_signedHashCode 3 = .ok (.istore 4, 2) := dk_54 4 (dk_at dksJ15_signedHashCode_0 3 rfl rfl)
theorem dJ15_signedHashCode_5 : decode cJ15_signedHashCode 5 = .ok (.iload_n 2, 1) := dk_28 (dk_at dksJ15_signedHashCode_0 5 rfl rfl)
theorem dJ15_signedHashCode_6 : decode cJ15_signedHashCode 6 = .ok (.istore 5, 2) := dk_54 5 (dk_at dksJ15_signedHashCode_0 6 rfl rfl)
theorem dJ15_signedHashCode_8 : decode cJ15_signedHashCode 8 = .ok (.iload 5, 2) := dk_21 5 (dk_at dksJ15_signedHashCode_0 8 rfl rfl)
theorem dJ15_signedHashCode_10 : decode cJ15_signedHashCode 10 = .ok (.iload 4, 2) := dk_21 4 (dk_at dksJ15_signedHashCode_0 10 rfl rfl)
theorem dJ15_signedHashCode_12 : decode cJ15_signedHashCode 12 = .ok (.if_icmp .ge 23, 3) := dk_162 0 23 (dk_at dksJ15_signedHashCode_0 12 rfl rfl)
theorem dJ15_signedHashCode_15 : decode cJ15_signedHashCode 15 = .ok (.bipush 31, 2) := dk_16 31 (dk_at dksJ15_signedHashCode_0 15 rfl rfl)
theorem dJ15_signedHashCode_17 : decode cJ15_signedHashCode 17 = .ok (.iload_n 0, 1) := dk_26 (dk_at dksJ15_signedHashCode_0 17 rfl rfl)
theorem dJ15_signedHashCode_18 : decode cJ15_signedHashCode 18 = .ok (.imul, 1) := dk_104 (dk_at dksJ15_signedHashCode_0 18 rfl rfl)
theorem dJ15_signedHashCode_19 : decode cJ15_signedHashCode 19 = .ok (.aload_n 1, 1) := dk_43 (dk_at dksJ15_signedHashCode_0 19 rfl rfl)
theorem dJ15_signedHashCode_20 : decode cJ15_signedHashCode 20 = .ok (.iload 5, 2) := dk_21 5 (dk_at dksJ15_signedHashCode_0 20 rfl rfl)
theorem dJ15_signedHashCode_22 : decode cJ15_signedHashCode 22 = .ok (.baload, 1) := dk_51 (dk_at dksJ15_signedHashCode_0 22 rfl rfl)
theorem dJ15_signedHashCode_23 : decode cJ15_signedHashCode 23 = .ok (.sipush 255, 3) := dk_17 0 255 (dk_at dksJ15_signedHashCode_1 0 rfl rfl)
theorem dJ15_signedHashCode_26 : decode cJ15_signedHashCode 26 = .ok (.iand, 1) := dk_126 (dk_at dksJ15_signedHashCode_1 3 rfl rfl)
theorem dJ15_signedHashCode_27 : decode cJ15_signedHashCode 27 = .ok (.iadd, 1) := dk_96 (dk_at dksJ15_signedHashCode_1 4 rfl rfl)
theorem dJ15_signedHashCode_28 : decode cJ15_signedHashCode 28 = .ok (.istore_n 0, 1) := dk_59 (dk_at dksJ15_signedHashCode_1 5 rfl rfl)
theorem dJ15_signedHashCode_29 : decode cJ15_signedHashCode 29 = .ok (.iinc 5 1, 3) := dk_132 5 1 (dk_at dksJ15_signedHashCode_1 6 rfl rfl)
theorem dJ15_signedHashCode_32 : decode cJ15_signedHashCode 32 = .ok (.goto (-24), 3) := dk_167 255 232 (dk_at dksJ15_signedHashCode_1 9 rfl rfl)
theorem dJ15_signedHashCode_35 : decode cJ15_signedHashCode 35 = .ok (.iload_n 0, 1) := dk_26 (dk_at dksJ15_signedHashCode_1 12 rfl rfl)
theorem dJ15_signedHashCode_36 : decode cJ15_signedHashCode 36 = .ok (.ireturn, 1) := dk_172 (dk_at dksJ15_signedHashCode_1 13 rfl rfl)
abbrev cJ15_utf16hashCode : ByteArray := prog_60_method_10_code
def yJ15_utf16hashCode : MethodName := ⟨RJ15, "utf16hashCode", "(I[BII)I"⟩
def dkwJ15_utf16hashCode_1 : List UInt8 := [21, 5, 185, 0, 110, 3, 0, 96, 59, 132, 5, 1, 167, 255, 229, 26, 172]
abbrev dktJ15_utf16hashCode_1 : List UInt8 := dkwJ15_utf16hashCode_1 ++ []
def dkwJ15_utf16hashCode_0 : List UInt8 := [28, 29, 96, 54, 4, 28, 54, 5, 21, 5, 21, 4, 162, 0, 26, 16, 31, 26, 104, 178, 0, 106, 43]
abbrev dktJ15_utf16hashCode_0 : List UInt8 := dkwJ15_utf16hashCode_0 ++ dktJ15_utf16hashCode_1
theorem dksJ15_utf16hashCode_0 : cJ15_utf16hashCode.data.toList.drop 0 = dktJ15_utf16hashCode_0 := by decide +kernel
theorem dksJ15_utf16hashCode_1 : cJ15_utf16hashCode.data.toList.drop 23 = dktJ15_utf16hashCode_1 := dk_seg dksJ15_utf16hashCode_0 23 rfl rfl
theorem dJ15_utf16hashCode_0 : decode cJ15_utf16hashCode 0 = .ok (.iload_n 2, 1) := dk_28 (dk_at dksJ15_utf16hashCode_0 0 rfl rfl)
theorem dJ15_utf16hashCode_1 : decode cJ15_utf16hashCode 1 = .ok (.iload_n 3, 1) := dk_29 (dk_at dksJ15_utf16hashCode_0 1 rfl rfl)
theorem dJ15_utf16hashCode_2 : decode cJ15_utf16hashCode 2 = .ok (.iadd, 1) := dk_96 (dk_at dksJ15_utf16hashCode_0 2 rfl rfl)
theorem dJ15_utf16hashCode_3 : decode cJ15_utf16hashCode 3 = .ok (.istore 4, 2) := dk_54 4 (dk_at dksJ15_utf16hashCode_0 3 rfl rfl)
theorem dJ15_utf16hashCode_5 : decode cJ15_utf16hashCode 5 = .ok (.iload_n 2, 1) := dk_28 (dk_at dksJ15_utf16hashCode_0 5 rfl rfl)
theorem dJ15_utf16hashCode_6 : decode cJ15_utf16hashCode 6 = .ok (.istore 5, 2) := dk_54 5 (dk_at dksJ15_utf16hashCode_0 6 rfl rfl)
theorem dJ15_utf16hashCode_8 : decode cJ15_utf16hashCode 8 = .ok (.iload 5, 2) := dk_21 5 (dk_at dksJ15_utf16hashCode_0 8 rfl rfl)
theorem dJ15_utf16hashCode_10 : decode cJ15_utf16hashCode 10 = .ok (.iload 4, 2) := dk_21 4 (dk_at dksJ15_utf16hashCode_0 10 rfl rfl)
theorem dJ15_utf16hashCode_12 : decode cJ15_utf16hashCode 12 = .ok (.if_icmp .ge 26, 3) := dk_162 0 26 (dk_at dksJ15_utf16hashCode_0 12 rfl rfl)
theorem dJ15_utf16hashCode_15 : decode cJ15_utf16hashCode 15 = .ok (.bipush 31, 2) := dk_16 31 (dk_at dksJ15_utf16hashCode_0 15 rfl rfl)
theorem dJ15_utf16hashCode_17 : decode cJ15_utf16hashCode 17 = .ok (.iload_n 0, 1) := dk_26 (dk_at dksJ15_utf16hashCode_0 17 rfl rfl)
theorem dJ15_utf16hashCode_18 : decode cJ15_utf16hashCode 18 = .ok (.imul, 1) := dk_104 (dk_at dksJ15_utf16hashCode_0 18 rfl rfl)
theorem dJ15_utf16hashCode_19 : decode cJ15_utf16hashCode 19 = .ok (.getstatic 106, 3) := dk_178 0 106 (dk_at dksJ15_utf16hashCode_0 19 rfl rfl)
theorem dJ15_utf16hashCode_22 : decode cJ15_utf16hashCode 22 = .ok (.aload_n 1, 1) := dk_43 (dk_at dksJ15_utf16hashCode_0 22 rfl rfl)
theorem dJ15_utf16hashCode_23 : decode cJ15_utf16hashCode 23 = .ok (.iload 5, 2) := dk_21 5 (dk_at dksJ15_utf16hashCode_1 0 rfl rfl)
theorem dJ15_utf16hashCode_25 : decode cJ15_utf16hashCode 25 = .ok (.invokeinterface 110 3, 5) := by decide +kernel
theorem dJ15_utf16hashCode_30 : decode cJ15_utf16hashCode 30 = .ok (.iadd, 1) := dk_96 (dk_at dksJ15_utf16hashCode_1 7 rfl rfl)
theorem dJ15_utf16hashCode_31 : decode cJ15_utf16hashCode 31 = .ok (.istore_n 0, 1) := dk_59 (dk_at dksJ15_utf16hashCode_1 8 rfl rfl)
theorem dJ15_utf16hashCode_32 : decode cJ15_utf16hashCode 32 = .ok (.iinc 5 1, 3) := dk_132 5 1 (dk_at dksJ15_utf16hashCode_1 9 rfl rfl)
theorem dJ15_utf16hashCode_35 : decode cJ15_utf16hashCode 35 = .ok (.goto (-27), 3) := dk_167 255 229 (dk_at dksJ15_utf16hashCode_1 12 rfl rfl)
theorem dJ15_utf16hashCode_38 : decode cJ15_utf16hashCode 38 = .ok (.iload_n 0, 1) := dk_26 (dk_at dksJ15_utf16hashCode_1 15 rfl rfl)
theorem dJ15_utf16hashCode_39 : decode cJ15_utf16hashCode 39 = .ok (.ireturn, 1) := dk_172 (dk_at dksJ15_utf16hashCode_1 16 rfl rfl)
abbrev cJ15_hashCode : ByteArray := prog_60_method_7_code
def yJ15_hashCode : MethodName := ⟨RJ15, "hashCode", "(I[CII)I"⟩
def dkwJ15_hashCode_1 : List UInt8 := [59, 132, 5, 1, 167, 255, 236, 26, 172]
abbrev dktJ15_hashCode_1 : List UInt8 := dkwJ15_hashCode_1 ++ []
def dkwJ15_hashCode_0 : List UInt8 := [28, 29, 96, 54, 4, 28, 54, 5, 21, 5, 21, 4, 162, 0, 19, 16, 31, 26, 104, 43, 21, 5, 52, 96]
abbrev dktJ15_hashCode_0 : List UInt8 := dkwJ15_hashCode_0 ++ dktJ15_hashCode_1
theorem dksJ15_hashCode_0 : cJ15_hashCode.data.toList.drop 0 = dktJ15_hashCode_0 := by decide +kernel
theorem dksJ15_hashCode_1 : cJ15_hashCode.data.toList.drop 24 = dktJ15_hashCode_1 := dk_seg dksJ15_hashCode_0 24 rfl rfl
theorem dJ15_hashCode_0 : decode cJ15_hashCode 0 = .ok (.iload_n 2, 1) := dk_28 (dk_at dksJ15_hashCode_0 0 rfl rfl)
theorem dJ15_hashCode_1 : decode cJ15_hashCode 1 = .ok (.iload_n 3, 1) := dk_29 (dk_at dksJ15_hashCode_0 1 rfl rfl)
theorem dJ15_hashCode_2 : decode cJ15_hashCode 2 = .ok (.iadd, 1) := dk_96 (dk_at dksJ15_hashCode_0 2 rfl rfl)
theorem dJ15_hashCode_3 : decode cJ15_hashCode 3 = .ok (.istore 4, 2) := dk_54 4 (dk_at dksJ15_hashCode_0 3 rfl rfl)
theorem dJ15_hashCode_5 : decode cJ15_hashCode 5 = .ok (.iload_n 2, 1) := dk_28 (dk_at dksJ15_hashCode_0 5 rfl rfl)
theorem dJ15_hashCode_6 : decode cJ15_hashCode 6 = .ok (.istore 5, 2) := dk_54 5 (dk_at dksJ15_hashCode_0 6 rfl rfl)
theorem dJ15_hashCode_8 : decode cJ15_hashCode 8 = .ok (.iload 5, 2) := dk_21 5 (dk_at dksJ15_hashCode_0 8 rfl rfl)
theorem dJ15_hashCode_10 : decode cJ15_hashCode 10 = .ok (.iload 4, 2) := dk_21 4 (dk_at dksJ15_hashCode_0 10 rfl rfl)
theorem dJ15_hashCode_12 : decode cJ15_hashCode 12 = .ok (.if_icmp .ge 19, 3) := dk_162 0 19 (dk_at dksJ15_hashCode_0 12 rfl rfl)
theorem dJ15_hashCode_15 : decode cJ15_hashCode 15 = .ok (.bipush 31, 2) := dk_16 31 (dk_at dksJ15_hashCode_0 15 rfl rfl)
theorem dJ15_hashCode_17 : decode cJ15_hashCode 17 = .ok (.iload_n 0, 1) := dk_26 (dk_at dksJ15_hashCode_0 17 rfl rfl)
theorem dJ15_hashCode_18 : decode cJ15_hashCode 18 = .ok (.imul, 1) := dk_104 (dk_at dksJ15_hashCode_0 18 rfl rfl)
theorem dJ15_hashCode_19 : decode cJ15_hashCode 19 = .ok (.aload_n 1, 1) := dk_43 (dk_at dksJ15_hashCode_0 19 rfl rfl)
theorem dJ15_hashCode_20 : decode cJ15_hashCode 20 = .ok (.iload 5, 2) := dk_21 5 (dk_at dksJ15_hashCode_0 20 rfl rfl)
theorem dJ15_hashCode_22 : decode cJ15_hashCode 22 = .ok (.caload, 1) := dk_52 (dk_at dksJ15_hashCode_0 22 rfl rfl)
theorem dJ15_hashCode_23 : decode cJ15_hashCode 23 = .ok (.iadd, 1) := dk_96 (dk_at dksJ15_hashCode_0 23 rfl rfl)
theorem dJ15_hashCode_24 : decode cJ15_hashCode 24 = .ok (.istore_n 0, 1) := dk_59 (dk_at dksJ15_hashCode_1 0 rfl rfl)
theorem dJ15_hashCode_25 : decode cJ15_hashCode 25 = .ok (.iinc 5 1, 3) := dk_132 5 1 (dk_at dksJ15_hashCode_1 1 rfl rfl)
theorem dJ15_hashCode_28 : decode cJ15_hashCode 28 = .ok (.goto (-20), 3) := dk_167 255 236 (dk_at dksJ15_hashCode_1 4 rfl rfl)
theorem dJ15_hashCode_31 : decode cJ15_hashCode 31 = .ok (.iload_n 0, 1) := dk_26 (dk_at dksJ15_hashCode_1 7 rfl rfl)
theorem dJ15_hashCode_32 : decode cJ15_hashCode 32 = .ok (.ireturn, 1) := dk_172 (dk_at dksJ15_hashCode_1 8 rfl rfl)
abbrev cJ15_hashCode_2 : ByteArray := prog_60_method_6_code
def yJ15_hashCode_2 : MethodName := ⟨RJ15, "hashCode", "(I[BII)I"⟩
def dkwJ15_hashCode_2_1 : List UInt8 := [59, 132, 5, 1, 167, 255, 236, 26, 172]
abbrev dktJ15_hashCode_2_1 : List UInt8 := dkwJ15_hashCode_2_1 ++ []
def dkwJ15_hashCode_2_0 : List UInt8 := [28, 29, 96, 54, 4, 28, 54, 5, 21, 5, 21, 4, 162, 0, 19, 16, 31, 26, 104, 43, 21, 5, 51, 96]
abbrev dktJ15_hashCode_2_0 : List UInt8 := dkwJ15_hashCode_2_0 ++ dktJ15_hashCode_2_1
theorem dksJ15_hashCode_2_0 : cJ15_hashCode_2.data.toList.drop 0 = dktJ15_hashCode_2_0 := by decide +kernel
theorem dksJ15_hashCode_2_1 : cJ15_hashCode_2.data.toList.drop 24 = dktJ15_hashCode_2_1 := dk_seg dksJ15_hashCode_2_0 24 rfl rfl
theorem dJ15_hashCode_2_0 : decode cJ15_hashCode_2 0 = .ok (.iload_n 2, 1) := dk_28 (dk_at dksJ15_hashCode_2_0 0 rfl rfl)
theorem dJ15_hashCode_2_1 : decode cJ15_hashCode_2 1 = .ok (.iload_n 3, 1) := dk_29 (dk_at dksJ15_hashCode_2_0 1 rfl rfl)
theorem dJ15_hashCode_2_2 : decode cJ15_hashCode_2 2 = .ok (.iadd, 1) := dk_96 (dk_at dksJ15_hashCode_2_0 2 rfl rfl)
theorem dJ15_hashCode_2_3 : decode cJ15_hashCode_2 3 = .ok (.istore 4, 2) := dk_54 4 (dk_at dksJ15_hashCode_2_0 3 rfl rfl)
theorem dJ15_hashCode_2_5 : decode cJ15_hashCode_2 5 = .ok (.iload_n 2, 1) := dk_28 (dk_at dksJ15_hashCode_2_0 5 rfl rfl)
theorem dJ15_hashCode_2_6 : decode cJ15_hashCode_2 6 = .ok (.istore 5, 2) := dk_54 5 (dk_at dksJ15_hashCode_2_0 6 rfl rfl)
theorem dJ15_hashCode_2_8 : decode cJ15_hashCode_2 8 = .ok (.iload 5, 2) := dk_21 5 (dk_at dksJ15_hashCode_2_0 8 rfl rfl)
theorem dJ15_hashCode_2_10 : decode cJ15_hashCode_2 10 = .ok (.iload 4, 2) := dk_21 4 (dk_at dksJ15_hashCode_2_0 10 rfl rfl)
theorem dJ15_hashCode_2_12 : decode cJ15_hashCode_2 12 = .ok (.if_icmp .ge 19, 3) := dk_162 0 19 (dk_at dksJ15_hashCode_2_0 12 rfl rfl)
theorem dJ15_hashCode_2_15 : decode cJ15_hashCode_2 15 = .ok (.bipush 31, 2) := dk_16 31 (dk_at dksJ15_hashCode_2_0 15 rfl rfl)
theorem dJ15_hashCode_2_17 : decode cJ15_hashCode_2 17 = .ok (.iload_n 0, 1) := dk_26 (dk_at dksJ15_hashCode_2_0 17 rfl rfl)
theorem dJ15_hashCode_2_18 : decode cJ15_hashCode_2 18 = .ok (.imul, 1) := dk_104 (dk_at dksJ15_hashCode_2_0 18 rfl rfl)
theorem dJ15_hashCode_2_19 : decode cJ15_hashCode_2 19 = .ok (.aload_n 1, 1) := dk_43 (dk_at dksJ15_hashCode_2_0 19 rfl rfl)
theorem dJ15_hashCode_2_20 : decode cJ15_hashCode_2 20 = .ok (.iload 5, 2) := dk_21 5 (dk_at dksJ15_hashCode_2_0 20 rfl rfl)
theorem dJ15_hashCode_2_22 : decode cJ15_hashCode_2 22 = .ok (.baload, 1) := dk_51 (dk_at dksJ15_hashCode_2_0 22 rfl rfl)
theorem dJ15_hashCode_2_23 : decode cJ15_hashCode_2 23 = .ok (.iadd, 1) := dk_96 (dk_at dksJ15_hashCode_2_0 23 rfl rfl)
theorem dJ15_hashCode_2_24 : decode cJ15_hashCode_2 24 = .ok (.istore_n 0, 1) := dk_59 (dk_at dksJ15_hashCode_2_1 0 rfl rfl)
theorem dJ15_hashCode_2_25 : decode cJ15_hashCode_2 25 = .ok (.iinc 5 1, 3) := dk_132 5 1 (dk_at dksJ15_hashCode_2_1 1 rfl rfl)
theorem dJ15_hashCode_2_28 : decode cJ15_hashCode_2 28 = .ok (.goto (-20), 3) := dk_167 255 236 (dk_at dksJ15_hashCode_2_1 4 rfl rfl)
theorem dJ15_hashCode_2_31 : decode cJ15_hashCode_2 31 = .ok (.iload_n 0, 1) := dk_26 (dk_at dksJ15_hashCode_2_1 7 rfl rfl)
theorem dJ15_hashCode_2_32 : decode cJ15_hashCode_2 32 = .ok (.ireturn, 1) := dk_172 (dk_at dksJ15_hashCode_2_1 8 rfl rfl)
abbrev cJ15_hashCode_3 : ByteArray := prog_60_method_8_code
def yJ15_hashCode_3 : MethodName := ⟨RJ15, "hashCode", "(I[SII)I"⟩
def dkwJ15_hashCode_3_1 : List UInt8 := [59, 132, 5, 1, 167, 255, 236, 26, 172]
abbrev dktJ15_hashCode_3_1 : List UInt8 := dkwJ15_hashCode_3_1 ++ []
def dkwJ15_hashCode_3_0 : List UInt8 := [28, 29, 96, 54, 4, 28, 54, 5, 21, 5, 21, 4, 162, 0, 19, 16, 31, 26, 104, 43, 21, 5, 53, 96]
abbrev dktJ15_hashCode_3_0 : List UInt8 := dkwJ15_hashCode_3_0 ++ dktJ15_hashCode_3_1
theorem dksJ15_hashCode_3_0 : cJ15_hashCode_3.data.toList.drop 0 = dktJ15_hashCode_3_0 := by decide +kernel
theorem dksJ15_hashCode_3_1 : cJ15_hashCode_3.data.toList.drop 24 = dktJ15_hashCode_3_1 := dk_seg dksJ15_hashCode_3_0 24 rfl rfl
theorem dJ15_hashCode_3_0 : decode cJ15_hashCode_3 0 = .ok (.iload_n 2, 1) := dk_28 (dk_at dksJ15_hashCode_3_0 0 rfl rfl)
theorem dJ15_hashCode_3_1 : decode cJ15_hashCode_3 1 = .ok (.iload_n 3, 1) := dk_29 (dk_at dksJ15_hashCode_3_0 1 rfl rfl)
theorem dJ15_hashCode_3_2 : decode cJ15_hashCode_3 2 = .ok (.iadd, 1) := dk_96 (dk_at dksJ15_hashCode_3_0 2 rfl rfl)
theorem dJ15_hashCode_3_3 : decode cJ15_hashCode_3 3 = .ok (.istore 4, 2) := dk_54 4 (dk_at dksJ15_hashCode_3_0 3 rfl rfl)
theorem dJ15_hashCode_3_5 : decode cJ15_hashCode_3 5 = .ok (.iload_n 2, 1) := dk_28 (dk_at dksJ15_hashCode_3_0 5 rfl rfl)
theorem dJ15_hashCode_3_6 : decode cJ15_hashCode_3 6 = .ok (.istore 5, 2) := dk_54 5 (dk_at dksJ15_hashCode_3_0 6 rfl rfl)
theorem dJ15_hashCode_3_8 : decode cJ15_hashCode_3 8 = .ok (.iload 5, 2) := dk_21 5 (dk_at dksJ15_hashCode_3_0 8 rfl rfl)
theorem dJ15_hashCode_3_10 : decode cJ15_hashCode_3 10 = .ok (.iload 4, 2) := dk_21 4 (dk_at dksJ15_hashCode_3_0 10 rfl rfl)
theorem dJ15_hashCode_3_12 : decode cJ15_hashCode_3 12 = .ok (.if_icmp .ge 19, 3) := dk_162 0 19 (dk_at dksJ15_hashCode_3_0 12 rfl rfl)
theorem dJ15_hashCode_3_15 : decode cJ15_hashCode_3 15 = .ok (.bipush 31, 2) := dk_16 31 (dk_at dksJ15_hashCode_3_0 15 rfl rfl)
theorem dJ15_hashCode_3_17 : decode cJ15_hashCode_3 17 = .ok (.iload_n 0, 1) := dk_26 (dk_at dksJ15_hashCode_3_0 17 rfl rfl)
theorem dJ15_hashCode_3_18 : decode cJ15_hashCode_3 18 = .ok (.imul, 1) := dk_104 (dk_at dksJ15_hashCode_3_0 18 rfl rfl)
theorem dJ15_hashCode_3_19 : decode cJ15_hashCode_3 19 = .ok (.aload_n 1, 1) := dk_43 (dk_at dksJ15_hashCode_3_0 19 rfl rfl)
theorem dJ15_hashCode_3_20 : decode cJ15_hashCode_3 20 = .ok (.iload 5, 2) := dk_21 5 (dk_at dksJ15_hashCode_3_0 20 rfl rfl)
theorem dJ15_hashCode_3_22 : decode cJ15_hashCode_3 22 = .ok (.saload, 1) := dk_53 (dk_at dksJ15_hashCode_3_0 22 rfl rfl)
theorem dJ15_hashCode_3_23 : decode cJ15_hashCode_3 23 = .ok (.iadd, 1) := dk_96 (dk_at dksJ15_hashCode_3_0 23 rfl rfl)
theorem dJ15_hashCode_3_24 : decode cJ15_hashCode_3 24 = .ok (.istore_n 0, 1) := dk_59 (dk_at dksJ15_hashCode_3_1 0 rfl rfl)
theorem dJ15_hashCode_3_25 : decode cJ15_hashCode_3 25 = .ok (.iinc 5 1, 3) := dk_132 5 1 (dk_at dksJ15_hashCode_3_1 1 rfl rfl)
theorem dJ15_hashCode_3_28 : decode cJ15_hashCode_3 28 = .ok (.goto (-20), 3) := dk_167 255 236 (dk_at dksJ15_hashCode_3_1 4 rfl rfl)
theorem dJ15_hashCode_3_31 : decode cJ15_hashCode_3 31 = .ok (.iload_n 0, 1) := dk_26 (dk_at dksJ15_hashCode_3_1 7 rfl rfl)
theorem dJ15_hashCode_3_32 : decode cJ15_hashCode_3 32 = .ok (.ireturn, 1) := dk_172 (dk_at dksJ15_hashCode_3_1 8 rfl rfl)
abbrev cJ15_hashCode_4 : ByteArray := prog_60_method_9_code
def yJ15_hashCode_4 : MethodName := ⟨RJ15, "hashCode", "(I[III)I"⟩
def dkwJ15_hashCode_4_1 : List UInt8 := [59, 132, 5, 1, 167, 255, 236, 26, 172]
abbrev dktJ15_hashCode_4_1 : List UInt8 := dkwJ15_hashCode_4_1 ++ []
def dkwJ15_hashCode_4_0 : List UInt8 := [28, 29, 96, 54, 4, 28, 54, 5, 21, 5, 21, 4, 162, 0, 19, 16, 31, 26, 104, 43, 21, 5, 46, 96]
abbrev dktJ15_hashCode_4_0 : List UInt8 := dkwJ15_hashCode_4_0 ++ dktJ15_hashCode_4_1
theorem dksJ15_hashCode_4_0 : cJ15_hashCode_4.data.toList.drop 0 = dktJ15_hashCode_4_0 := by decide +kernel
theorem dksJ15_hashCode_4_1 : cJ15_hashCode_4.data.toList.drop 24 = dktJ15_hashCode_4_1 := dk_seg dksJ15_hashCode_4_0 24 rfl rfl
theorem dJ15_hashCode_4_0 : decode cJ15_hashCode_4 0 = .ok (.iload_n 2, 1) := dk_28 (dk_at dksJ15_hashCode_4_0 0 rfl rfl)
theorem dJ15_hashCode_4_1 : decode cJ15_hashCode_4 1 = .ok (.iload_n 3, 1) := dk_29 (dk_at dksJ15_hashCode_4_0 1 rfl rfl)
theorem dJ15_hashCode_4_2 : decode cJ15_hashCode_4 2 = .ok (.iadd, 1) := dk_96 (dk_at dksJ15_hashCode_4_0 2 rfl rfl)
theorem dJ15_hashCode_4_3 : decode cJ15_hashCode_4 3 = .ok (.istore 4, 2) := dk_54 4 (dk_at dksJ15_hashCode_4_0 3 rfl rfl)
theorem dJ15_hashCode_4_5 : decode cJ15_hashCode_4 5 = .ok (.iload_n 2, 1) := dk_28 (dk_at dksJ15_hashCode_4_0 5 rfl rfl)
theorem dJ15_hashCode_4_6 : decode cJ15_hashCode_4 6 = .ok (.istore 5, 2) := dk_54 5 (dk_at dksJ15_hashCode_4_0 6 rfl rfl)
theorem dJ15_hashCode_4_8 : decode cJ15_hashCode_4 8 = .ok (.iload 5, 2) := dk_21 5 (dk_at dksJ15_hashCode_4_0 8 rfl rfl)
theorem dJ15_hashCode_4_10 : decode cJ15_hashCode_4 10 = .ok (.iload 4, 2) := dk_21 4 (dk_at dksJ15_hashCode_4_0 10 rfl rfl)
theorem dJ15_hashCode_4_12 : decode cJ15_hashCode_4 12 = .ok (.if_icmp .ge 19, 3) := dk_162 0 19 (dk_at dksJ15_hashCode_4_0 12 rfl rfl)
theorem dJ15_hashCode_4_15 : decode cJ15_hashCode_4 15 = .ok (.bipush 31, 2) := dk_16 31 (dk_at dksJ15_hashCode_4_0 15 rfl rfl)
theorem dJ15_hashCode_4_17 : decode cJ15_hashCode_4 17 = .ok (.iload_n 0, 1) := dk_26 (dk_at dksJ15_hashCode_4_0 17 rfl rfl)
theorem dJ15_hashCode_4_18 : decode cJ15_hashCode_4 18 = .ok (.imul, 1) := dk_104 (dk_at dksJ15_hashCode_4_0 18 rfl rfl)
theorem dJ15_hashCode_4_19 : decode cJ15_hashCode_4 19 = .ok (.aload_n 1, 1) := dk_43 (dk_at dksJ15_hashCode_4_0 19 rfl rfl)
theorem dJ15_hashCode_4_20 : decode cJ15_hashCode_4 20 = .ok (.iload 5, 2) := dk_21 5 (dk_at dksJ15_hashCode_4_0 20 rfl rfl)
theorem dJ15_hashCode_4_22 : decode cJ15_hashCode_4 22 = .ok (.iaload, 1) := dk_46 (dk_at dksJ15_hashCode_4_0 22 rfl rfl)
theorem dJ15_hashCode_4_23 : decode cJ15_hashCode_4 23 = .ok (.iadd, 1) := dk_96 (dk_at dksJ15_hashCode_4_0 23 rfl rfl)
theorem dJ15_hashCode_4_24 : decode cJ15_hashCode_4 24 = .ok (.istore_n 0, 1) := dk_59 (dk_at dksJ15_hashCode_4_1 0 rfl rfl)
theorem dJ15_hashCode_4_25 : decode cJ15_hashCode_4 25 = .ok (.iinc 5 1, 3) := dk_132 5 1 (dk_at dksJ15_hashCode_4_1 1 rfl rfl)
theorem dJ15_hashCode_4_28 : decode cJ15_hashCode_4 28 = .ok (.goto (-20), 3) := dk_167 255 236 (dk_at dksJ15_hashCode_4_1 4 rfl rfl)
theorem dJ15_hashCode_4_31 : decode cJ15_hashCode_4 31 = .ok (.iload_n 0, 1) := dk_26 (dk_at dksJ15_hashCode_4_1 7 rfl rfl)
theorem dJ15_hashCode_4_32 : decode cJ15_hashCode_4 32 = .ok (.ireturn, 1) := dk_172 (dk_at dksJ15_hashCode_4_1 8 rfl rfl)
theorem q82 : (Jvm.Cond.initialized "jdk/internal/util/ArraysSupport") ∈ lw_all := lw_g (lw_at lw_m1 21 rfl) rfl
theorem q490 : (Jvm.Cond.static ({ cls := "jdk/internal/util/ArraysSupport", name := "newLength", desc := "(III)I" } : Jvm.MethodName)) ∈ lw_all := lw_g (lw_at lw_m2 189 rfl) rfl
theorem q491 : (Jvm.Cond.code ({ cls := "jdk/internal/util/ArraysSupport", name := "newLength", desc := "(III)I" } : Jvm.MethodName) prog_60_method_27_code (4 : Nat) (Option.some Jvm.ClassFile.FieldType.int)) ∈ lw_all := lw_g (lw_at lw_m2 190 rfl) rfl
theorem q492 : (Jvm.Cond.methodLink "jdk/internal/util/ArraysSupport" (194 : Nat) ({ cls := "java/lang/Math", name := "max", desc := "(II)I" } : Jvm.MethodName)) ∈ lw_all := lw_g (lw_at lw_m2 191 rfl) rfl
theorem q495 : (Jvm.Cond.constant "jdk/internal/util/ArraysSupport" (200 : Nat) (2147483639 : Int32)) ∈ lw_all := lw_g (lw_at lw_m2 194 rfl) rfl
theorem q496 : (Jvm.Cond.methodLink "jdk/internal/util/ArraysSupport" (201 : Nat) ({ cls := "jdk/internal/util/ArraysSupport", name := "hugeLength", desc := "(II)I" } : Jvm.MethodName)) ∈ lw_all := lw_g (lw_at lw_m2 195 rfl) rfl
theorem q497 : (Jvm.Cond.static ({ cls := "jdk/internal/util/ArraysSupport", name := "hugeLength", desc := "(II)I" } : Jvm.MethodName)) ∈ lw_all := lw_g (lw_at lw_m2 196 rfl) rfl
theorem q498 : (Jvm.Cond.code ({ cls := "jdk/internal/util/ArraysSupport", name := "hugeLength", desc := "(II)I" } : Jvm.MethodName) prog_60_method_28_code (3 : Nat) (Option.some Jvm.ClassFile.FieldType.int)) ∈ lw_all := lw_g (lw_at lw_m2 197 rfl) rfl
theorem q1583 : (Jvm.Cond.static ({ cls := "jdk/internal/util/ArraysSupport", name := "vectorizedHashCode", desc := "(Ljava/lang/Object;IIII)I" } : Jvm.MethodName)) ∈ lw_all := lw_g (lw_at lw_m7 82 rfl) rfl
theorem q1584 : (Jvm.Cond.code ({ cls := "jdk/internal/util/ArraysSupport", name := "vectorizedHashCode", desc := "(Ljava/lang/Object;IIII)I" } : Jvm.MethodName) prog_60_method_4_code (5 : Nat) (Option.some Jvm.ClassFile.FieldType.int)) ∈ lw_all := lw_g (lw_at lw_m7 83 rfl) rfl
theorem q1585 : (Jvm.Cond.classLink "jdk/internal/util/ArraysSupport" (60 : Nat) "[B") ∈ lw_all := lw_g (lw_at lw_m7 84 rfl) rfl
theorem q1586 : (Jvm.Cond.methodLink "jdk/internal/util/ArraysSupport" (62 : Nat) ({ cls := "jdk/internal/util/ArraysSupport", name := "signedHashCode", desc := "(I[BII)I" } : Jvm.MethodName)) ∈ lw_all := lw_g (lw_at lw_m7 85 rfl) rfl
theorem q1587 : (Jvm.Cond.static ({ cls := "jdk/internal/util/ArraysSupport", name := "signedHashCode", desc := "(I[BII)I" } : Jvm.MethodName)) ∈ lw_all := lw_g (lw_at lw_m7 86 rfl) rfl
theorem q1588 : (Jvm.Cond.code ({ cls := "jdk/internal/util/ArraysSupport", name := "signedHashCode", desc := "(I[BII)I" } : Jvm.MethodName) prog_60_method_5_code (6 : Nat) (Option.some Jvm.ClassFile.FieldType.int)) ∈ lw_all := lw_g (lw_at lw_m7 87 rfl) rfl
theorem q1589 : (Jvm.Cond.methodLink "jdk/internal/util/ArraysSupport" (66 : Nat) ({ cls := "jdk/internal/util/ArraysSupport", name := "utf16hashCode", desc := "(I[BII)I" } : Jvm.MethodName)) ∈ lw_all := lw_g (lw_at lw_m7 88 rfl) rfl
theorem q1590 : (Jvm.Cond.static ({ cls := "jdk/internal/util/ArraysSupport", name := "utf16hashCode", desc := "(I[BII)I" } : Jvm.MethodName)) ∈ lw_all := lw_g (lw_at lw_m7 89 rfl) rfl
theorem q1591 : (Jvm.Cond.code ({ cls := "jdk/internal/util/ArraysSupport", name := "utf16hashCode", desc := "(I[BII)I" } : Jvm.MethodName) prog_60_method_10_code (6 : Nat) (Option.some Jvm.ClassFile.FieldType.int)) ∈ lw_all := lw_g (lw_at lw_m7 90 rfl) rfl
theorem q1592 : (Jvm.Cond.fieldLink "jdk/internal/util/ArraysSupport" (106 : Nat) "jdk/internal/util/ArraysSupport" "JLA" "Ljdk/internal/access/JavaLangAccess;") ∈ lw_all := lw_g (lw_at lw_m7 91 rfl) rfl
theorem q1593 : (Jvm.Cond.laysStatic "jdk/internal/util/ArraysSupport" "JLA" "Ljdk/internal/access/JavaLangAccess;") ∈ lw_tbl := lw_at lw_m7 92 rfl
theorem q1594 : (Jvm.Cond.interfaceEntry "jdk/internal/util/ArraysSupport" (110 : Nat)) ∈ lw_tbl := lw_at lw_m7 93 rfl
theorem q1595 : (Jvm.Cond.methodLink "jdk/internal/util/ArraysSupport" (110 : Nat) ({ cls := "jdk/internal/access/JavaLangAccess", name := "getUTF16Char", desc := "([BI)C" } : Jvm.MethodName)) ∈ lw_all := lw_g (lw_at lw_m7 94 rfl) rfl
theorem q1605 : (Jvm.Cond.classLink "jdk/internal/util/ArraysSupport" (69 : Nat) "[C") ∈ lw_all := lw_g (lw_at lw_m7 104 rfl) rfl
theorem q1606 : (Jvm.Cond.methodLink "jdk/internal/util/ArraysSupport" (71 : Nat) ({ cls := "jdk/internal/util/ArraysSupport", name := "hashCode", desc := "(I[CII)I" } : Jvm.MethodName)) ∈ lw_all := lw_g (lw_at lw_m7 105 rfl) rfl
theorem q1607 : (Jvm.Cond.static ({ cls := "jdk/internal/util/ArraysSupport", name := "hashCode", desc := "(I[CII)I" } : Jvm.MethodName)) ∈ lw_all := lw_g (lw_at lw_m7 106 rfl) rfl
theorem q1608 : (Jvm.Cond.code ({ cls := "jdk/internal/util/ArraysSupport", name := "hashCode", desc := "(I[CII)I" } : Jvm.MethodName) prog_60_method_7_code (6 : Nat) (Option.some Jvm.ClassFile.FieldType.int)) ∈ lw_all := lw_g (lw_at lw_m7 107 rfl) rfl
theorem q1609 : (Jvm.Cond.methodLink "jdk/internal/util/ArraysSupport" (75 : Nat) ({ cls := "jdk/internal/util/ArraysSupport", name := "hashCode", desc := "(I[BII)I" } : Jvm.MethodName)) ∈ lw_all := lw_g (lw_at lw_m7 108 rfl) rfl
theorem q1610 : (Jvm.Cond.static ({ cls := "jdk/internal/util/ArraysSupport", name := "hashCode", desc := "(I[BII)I" } : Jvm.MethodName)) ∈ lw_all := lw_g (lw_at lw_m7 109 rfl) rfl
theorem q1611 : (Jvm.Cond.code ({ cls := "jdk/internal/util/ArraysSupport", name := "hashCode", desc := "(I[BII)I" } : Jvm.MethodName) prog_60_method_6_code (6 : Nat) (Option.some Jvm.ClassFile.FieldType.int)) ∈ lw_all := lw_g (lw_at lw_m7 110 rfl) rfl
theorem q1612 : (Jvm.Cond.classLink "jdk/internal/util/ArraysSupport" (77 : Nat) "[S") ∈ lw_all := lw_g (lw_at lw_m7 111 rfl) rfl
theorem q1613 : (Jvm.Cond.methodLink "jdk/internal/util/ArraysSupport" (79 : Nat) ({ cls := "jdk/internal/util/ArraysSupport", name := "hashCode", desc := "(I[SII)I" } : Jvm.MethodName)) ∈ lw_all := lw_g (lw_at lw_m7 112 rfl) rfl
theorem q1614 : (Jvm.Cond.static ({ cls := "jdk/internal/util/ArraysSupport", name := "hashCode", desc := "(I[SII)I" } : Jvm.MethodName)) ∈ lw_all := lw_g (lw_at lw_m7 113 rfl) rfl
theorem q1615 : (Jvm.Cond.code ({ cls := "jdk/internal/util/ArraysSupport", name := "hashCode", desc := "(I[SII)I" } : Jvm.MethodName) prog_60_method_8_code (6 : Nat) (Option.some Jvm.ClassFile.FieldType.int)) ∈ lw_all := lw_g (lw_at lw_m7 114 rfl) rfl
theorem q1616 : (Jvm.Cond.classLink "jdk/internal/util/ArraysSupport" (82 : Nat) "[I") ∈ lw_all := lw_g (lw_at lw_m7 115 rfl) rfl
theorem q1617 : (Jvm.Cond.methodLink "jdk/internal/util/ArraysSupport" (84 : Nat) ({ cls := "jdk/internal/util/ArraysSupport", name := "hashCode", desc := "(I[III)I" } : Jvm.MethodName)) ∈ lw_all := lw_g (lw_at lw_m7 116 rfl) rfl
theorem q1618 : (Jvm.Cond.static ({ cls := "jdk/internal/util/ArraysSupport", name := "hashCode", desc := "(I[III)I" } : Jvm.MethodName)) ∈ lw_all := lw_g (lw_at lw_m7 117 rfl) rfl
theorem q1619 : (Jvm.Cond.code ({ cls := "jdk/internal/util/ArraysSupport", name := "hashCode", desc := "(I[III)I" } : Jvm.MethodName) prog_60_method_9_code (6 : Nat) (Option.some Jvm.ClassFile.FieldType.int)) ∈ lw_all := lw_g (lw_at lw_m7 118 rfl) rfl
theorem q1620 : (Jvm.Cond.classLink "jdk/internal/util/ArraysSupport" (87 : Nat) "java/lang/IllegalArgumentException") ∈ lw_all := lw_g (lw_at lw_m7 119 rfl) rfl
theorem q1621 : (Jvm.Cond.classLink "jdk/internal/util/ArraysSupport" (89 : Nat) "java/lang/StringBuilder") ∈ lw_all := lw_g (lw_at lw_m7 120 rfl) rfl
theorem q1622 : (Jvm.Cond.methodLink "jdk/internal/util/ArraysSupport" (91 : Nat) ({ cls := "java/lang/StringBuilder", name := "<init>", desc := "()V" } : Jvm.MethodName)) ∈ lw_all := lw_g (lw_at lw_m7 121 rfl) rfl
theorem q1623 : (Jvm.Cond.stringRef "jdk/internal/util/ArraysSupport" (92 : Nat) "unrecognized basic type: ") ∈ lw_tbl := lw_at lw_m7 122 rfl
theorem q1624 : (Jvm.Cond.methodLink "jdk/internal/util/ArraysSupport" (94 : Nat) ({ cls := "java/lang/StringBuilder", name := "append", desc := "(Ljava/lang/String;)Ljava/lang/StringBuilder;" } : Jvm.MethodName)) ∈ lw_all := lw_g (lw_at lw_m7 123 rfl) rfl
theorem q1625 : (Jvm.Cond.methodLink "jdk/internal/util/ArraysSupport" (98 : Nat) ({ cls := "java/lang/StringBuilder", name := "append", desc := "(I)Ljava/lang/StringBuilder;" } : Jvm.MethodName)) ∈ lw_all := lw_g (lw_at lw_m7 124 rfl) rfl
theorem q1626 : (Jvm.Cond.methodLink "jdk/internal/util/ArraysSupport" (101 : Nat) ({ cls := "java/lang/StringBuilder", name := "toString", desc := "()Ljava/lang/String;" } : Jvm.MethodName)) ∈ lw_all := lw_g (lw_at lw_m7 125 rfl) rfl
theorem q1627 : (Jvm.Cond.methodLink "jdk/internal/util/ArraysSupport" (105 : Nat) ({ cls := "java/lang/IllegalArgumentException", name := "<init>", desc := "(Ljava/lang/String;)V" } : Jvm.MethodName)) ∈ lw_all := lw_g (lw_at lw_m7 126 rfl) rfl
/-! java/lang/Math -/
set_option maxRecDepth 100000
def RJ16 : String := "java/lang/Math"
abbrev cJ16_max : ByteArray := prog_30_method_65_code
def yJ16_max : MethodName := ⟨RJ16, "max", "(II)I"⟩
def dkwJ16_max_0 : List UInt8 := [26, 27, 161, 0, 7, 26, 167, 0, 4, 27, 172]
abbrev dktJ16_max_0 : List UInt8 := dkwJ16_max_0 ++ []
theorem dksJ16_max_0 : cJ16_max.data.toList.drop 0 = dktJ16_max_0 := by decide +kernel
theorem dJ16_max_0 : decode cJ16_max 0 = .ok (.iload_n 0, 1) := dk_26 (dk_at dksJ16_max_0 0 rfl rfl)
theorem dJ16_max_1 : decode cJ16_max 1 = .ok (.iload_n 1, 1) := dk_27 (dk_at dksJ16_max_0 1 rfl rfl)
theorem dJ16_max_2 : decode cJ16_max 2 = .ok (.if_icmp .lt 7, 3) := dk_161 0 7 (dk_at dksJ16_max_0 2 rfl rfl)
theorem dJ16_max_5 : decode cJ16_max 5 = .ok (.iload_n 0, 1) := dk_26 (dk_at dksJ16_max_0 5 rfl rfl)
theorem dJ16_max_6 : decode cJ16_max 6 = .ok (.goto 4, 3) := dk_167 0 4 (dk_at dksJ16_max_0 6 rfl rfl)
theorem dJ16_max_9 : decode cJ16_max 9 = .ok (.iload_n 1, 1) := dk_27 (dk_at dksJ16_max_0 9 rfl rfl)
theorem dJ16_max_10 : decode cJ16_max 10 = .ok (.ireturn, 1) := dk_172 (dk_at dksJ16_max_0 10 rfl rfl)
abbrev cJ16_min : ByteArray := prog_30_method_69_code
def yJ16_min : MethodName := ⟨RJ16, "min", "(II)I"⟩
def dkwJ16_min_0 : List UInt8 := [26, 27, 163, 0, 7, 26, 167, 0, 4, 27, 172]
abbrev dktJ16_min_0 : List UInt8 := dkwJ16_min_0 ++ []
theorem dksJ16_min_0 : cJ16_min.data.toList.drop 0 = dktJ16_min_0 := by decide +kernel
theorem dJ16_min_0 : decode cJ16_min 0 = .ok (.iload_n 0, 1) := dk_26 (dk_at dksJ16_min_0 0 rfl rfl)
theorem dJ16_min_1 : decode cJ16_min 1 = .ok (.iload_n 1, 1) := dk_27 (dk_at dksJ16_min_0 1 rfl rfl)
theorem dJ16_min_2 : decode cJ16_min 2 = .ok (.if_icmp .gt 7, 3) := dk_163 0 7 (dk_at dksJ16_min_0 2 rfl rfl)
theorem dJ16_min_5 : decode cJ16_min 5 = .ok (.iload_n 0, 1) := dk_26 (dk_at dksJ16_min_0 5 rfl rfl)
theorem dJ16_min_6 : decode cJ16_min 6 = .ok (.goto 4, 3) := dk_167 0 4 (dk_at dksJ16_min_0 6 rfl rfl)
theorem dJ16_min_9 : decode cJ16_min 9 = .ok (.iload_n 1, 1) := dk_27 (dk_at dksJ16_min_0 9 rfl rfl)
theorem dJ16_min_10 : decode cJ16_min 10 = .ok (.ireturn, 1) := dk_172 (dk_at dksJ16_min_0 10 rfl rfl)
theorem q83 : (Jvm.Cond.initialized "java/lang/Math") ∈ lw_all := lw_g (lw_at lw_m1 22 rfl) rfl
theorem q493 : (Jvm.Cond.static ({ cls := "java/lang/Math", name := "max", desc := "(II)I" } : Jvm.MethodName)) ∈ lw_all := lw_g (lw_at lw_m2 192 rfl) rfl
theorem q494 : (Jvm.Cond.code ({ cls := "java/lang/Math", name := "max", desc := "(II)I" } : Jvm.MethodName) prog_30_method_65_code (2 : Nat) (Option.some Jvm.ClassFile.FieldType.int)) ∈ lw_all := lw_g (lw_at lw_m2 193 rfl) rfl
theorem q537 : (Jvm.Cond.static ({ cls := "java/lang/Math", name := "min", desc := "(II)I" } : Jvm.MethodName)) ∈ lw_all := lw_g (lw_at lw_m2 236 rfl) rfl
theorem q538 : (Jvm.Cond.code ({ cls := "java/lang/Math", name := "min", desc := "(II)I" } : Jvm.MethodName) prog_30_method_69_code (2 : Nat) (Option.some Jvm.ClassFile.FieldType.int)) ∈ lw_all := lw_g (lw_at lw_m2 237 rfl) rfl
/-! java/util/Arrays -/
set_option maxRecDepth 100000
def RJ17 : String := "java/util/Arrays"
abbrev cJ17_copyOf : ByteArray := prog_49_method_119_code
def yJ17_copyOf : MethodName := ⟨RJ17, "copyOf", "([Ljava/lang/Object;I)[Ljava/lang/Object;"⟩
def dkwJ17_copyOf_0 : List UInt8 := [42, 27, 42, 182, 0, 86, 184, 1, 44, 176]
abbrev dktJ17_copyOf_0 : List UInt8 := dkwJ17_copyOf_0 ++ []
theorem dksJ17_copyOf_0 : cJ17_copyOf.data.toList.drop 0 = dktJ17_copyOf_0 := by decide +kernel
theorem dJ17_copyOf_0 : decode cJ17_copyOf 0 = .ok (.aload_n 0, 1) := dk_42 (dk_at dksJ17_copyOf_0 0 rfl rfl)
theorem dJ17_copyOf_1 : decode cJ17_copyOf 1 = .ok (.iload_n 1, 1) := dk_27 (dk_at dksJ17_copyOf_0 1 rfl rfl)
theorem dJ17_copyOf_2 : decode cJ17_copyOf 2 = .ok (.aload_n 0, 1) := dk_42 (dk_at dksJ17_copyOf_0 2 rfl rfl)
theorem dJ17_copyOf_3 : decode cJ17_copyOf 3 = .ok (.invokevirtual 86, 3) := dk_182 0 86 (dk_at dksJ17_copyOf_0 3 rfl rfl)
theorem dJ17_copyOf_6 : decode cJ17_copyOf 6 = .ok (.invokestatic 300, 3) := dk_184 1 44 (dk_at dksJ17_copyOf_0 6 rfl rfl)
theorem dJ17_copyOf_9 : decode cJ17_copyOf 9 = .ok (.areturn, 1) := dk_176 (dk_at dksJ17_copyOf_0 9 rfl rfl)
abbrev cJ17_copyOf_2 : ByteArray := prog_49_method_120_code
def yJ17_copyOf_2 : MethodName := ⟨RJ17, "copyOf", "([Ljava/lang/Object;ILjava/lang/Class;)[Ljava/lang/Object;"⟩
def dkwJ17_copyOf_2_1 : List UInt8 := [78, 42, 3, 45, 3, 42, 190, 27, 184, 1, 48, 184, 0, 150, 45, 176]
abbrev dktJ17_copyOf_2_1 : List UInt8 := dkwJ17_copyOf_2_1 ++ []
def dkwJ17_copyOf_2_0 : List UInt8 := [44, 18, 110, 166, 0, 10, 27, 189, 0, 2, 167, 0, 14, 44, 182, 0, 90, 27, 184, 0, 95, 192, 0, 110]
abbrev dktJ17_copyOf_2_0 : List UInt8 := dkwJ17_copyOf_2_0 ++ dktJ17_copyOf_2_1
theorem dksJ17_copyOf_2_0 : cJ17_copyOf_2.data.toList.drop 0 = dktJ17_copyOf_2_0 := by decide +kernel
theorem dksJ17_copyOf_2_1 : cJ17_copyOf_2.data.toList.drop 24 = dktJ17_copyOf_2_1 := dk_seg dksJ17_copyOf_2_0 24 rfl rfl
theorem dJ17_copyOf_2_0 : decode cJ17_copyOf_2 0 = .ok (.aload_n 2, 1) := dk_44 (dk_at dksJ17_copyOf_2_0 0 rfl rfl)
theorem dJ17_copyOf_2_1 : decode cJ17_copyOf_2 1 = .ok (.ldc 110, 2) := dk_18 110 (dk_at dksJ17_copyOf_2_0 1 rfl rfl)
theorem dJ17_copyOf_2_3 : decode cJ17_copyOf_2 3 = .ok (.if_acmp .ne 10, 3) := dk_166 0 10 (dk_at dksJ17_copyOf_2_0 3 rfl rfl)
theorem dJ17_copyOf_2_6 : decode cJ17_copyOf_2 6 = .ok (.iload_n 1, 1) := dk_27 (dk_at dksJ17_copyOf_2_0 6 rfl rfl)
theorem dJ17_copyOf_2_7 : decode cJ17_copyOf_2 7 = .ok (.anewarray 2, 3) := dk_189 0 2 (dk_at dksJ17_copyOf_2_0 7 rfl rfl)
theorem dJ17_copyOf_2_10 : decode cJ17_copyOf_2 10 = .ok (.goto 14, 3) := dk_167 0 14 (dk_at dksJ17_copyOf_2_0 10 rfl rfl)
theorem dJ17_copyOf_2_13 : decode cJ17_copyOf_2 13 = .ok (.aload_n 2, 1) := dk_44 (dk_at dksJ17_copyOf_2_0 13 rfl rfl)
theorem dJ17_copyOf_2_14 : decode cJ17_copyOf_2 14 = .ok (.invokevirtual 90, 3) := dk_182 0 90 (dk_at dksJ17_copyOf_2_0 14 rfl rfl)
theorem dJ17_copyOf_2_17 : decode cJ17_copyOf_2 17 = .ok (.iload_n 1, 1) := dk_27 (dk_at dksJ17_copyOf_2_0 17 rfl rfl)
theorem dJ17_copyOf_2_18 : decode cJ17_copyOf_2 18 = .ok (.invokestatic 95, 3) := dk_184 0 95 (dk_at dksJ17_copyOf_2_0 18 rfl rfl)
theorem dJ17_copyOf_2_21 : decode cJ17_copyOf_2 21 = .ok (.checkcast 110, 3) := dk_192 0 110 (dk_at dksJ17_copyOf_2_0 21 rfl rfl)
theorem dJ17_copyOf_2_24 : decode cJ17_copyOf_2 24 = .ok (.astore_n 3, 1) := dk_78 (dk_at dksJ17_copyOf_2_1 0 rfl rfl)
theorem dJ17_copyOf_2_25 : decode cJ17_copyOf_2 25 = .ok (.aload_n 0, 1) := dk_42 (dk_at dksJ17_copyOf_2_1 1 rfl rfl)
theorem dJ17_copyOf_2_26 : decode cJ17_copyOf_2 26 = .ok (.iconst 0, 1) := dk_3 (dk_at dksJ17_copyOf_2_1 2 rfl rfl)
theorem dJ17_copyOf_2_27 : decode cJ17_copyOf_2 27 = .ok (.aload_n 3, 1) := dk_45 (dk_at dksJ17_copyOf_2_1 3 rfl rfl)
theorem dJ17_copyOf_2_28 : decode cJ17_copyOf_2 28 = .ok (.iconst 0, 1) := dk_3 (dk_at dksJ17_copyOf_2_1 4 rfl rfl)
theorem dJ17_copyOf_2_29 : decode cJ17_copyOf_2 29 = .ok (.aload_n 0, 1) := dk_42 (dk_at dksJ17_copyOf_2_1 5 rfl rfl)
theorem dJ17_copyOf_2_30 : decode cJ17_copyOf_2 30 = .ok (.arraylength, 1) := dk_190 (dk_at dksJ17_copyOf_2_1 6 rfl rfl)
theorem dJ17_copyOf_2_31 : decode cJ17_copyOf_2 31 = .ok (.iload_n 1, 1) := dk_27 (dk_at dksJ17_copyOf_2_1 7 rfl rfl)
theorem dJ17_copyOf_2_32 : decode cJ17_copyOf_2 32 = .ok (.invokestatic 304, 3) := dk_184 1 48 (dk_at dksJ17_copyOf_2_1 8 rfl rfl)
theorem dJ17_copyOf_2_35 : decode cJ17_copyOf_2 35 = .ok (.invokestatic 150, 3) := dk_184 0 150 (dk_at dksJ17_copyOf_2_1 11 rfl rfl)
theorem dJ17_copyOf_2_38 : decode cJ17_copyOf_2 38 = .ok (.aload_n 3, 1) := dk_45 (dk_at dksJ17_copyOf_2_1 14 rfl rfl)
theorem dJ17_copyOf_2_39 : decode cJ17_copyOf_2 39 = .ok (.areturn, 1) := dk_176 (dk_at dksJ17_copyOf_2_1 15 rfl rfl)
abbrev cJ17_copyOfRange : ByteArray := prog_49_method_130_code
def yJ17_copyOfRange : MethodName := ⟨RJ17, "copyOfRange", "([Ljava/lang/Object;IILjava/lang/Class;)[Ljava/lang/Object;"⟩
def dkwJ17_copyOfRange_3 : List UInt8 := [58, 5, 42, 27, 25, 5, 3, 42, 190, 27, 100, 21, 4, 184, 1, 48, 184, 0, 150, 25, 5, 176]
abbrev dktJ17_copyOfRange_3 : List UInt8 := dkwJ17_copyOfRange_3 ++ []
def dkwJ17_copyOfRange_2 : List UInt8 := [166, 0, 11, 21, 4, 189, 0, 2, 167, 0, 15, 45, 182, 0, 90, 21, 4, 184, 0, 95, 192, 0, 110]
abbrev dktJ17_copyOfRange_2 : List UInt8 := dkwJ17_copyOfRange_2 ++ dktJ17_copyOfRange_3
def dkwJ17_copyOfRange_1 : List UInt8 := [182, 0, 54, 19, 1, 81, 182, 0, 50, 28, 182, 0, 54, 182, 0, 61, 183, 0, 65, 191, 45, 18, 110]
abbrev dktJ17_copyOfRange_1 : List UInt8 := dkwJ17_copyOfRange_1 ++ dktJ17_copyOfRange_2
def dkwJ17_copyOfRange_0 : List UInt8 := [28, 27, 100, 54, 4, 21, 4, 156, 0, 35, 187, 0, 43, 89, 187, 0, 45, 89, 183, 0, 47, 27]
abbrev dktJ17_copyOfRange_0 : List UInt8 := dkwJ17_copyOfRange_0 ++ dktJ17_copyOfRange_1
theorem dksJ17_copyOfRange_0 : cJ17_copyOfRange.data.toList.drop 0 = dktJ17_copyOfRange_0 := by decide +kernel
theorem dksJ17_copyOfRange_1 : cJ17_copyOfRange.data.toList.drop 22 = dktJ17_copyOfRange_1 := dk_seg dksJ17_copyOfRange_0 22 rfl rfl
theorem dksJ17_copyOfRange_2 : cJ17_copyOfRange.data.toList.drop 45 = dktJ17_copyOfRange_2 := dk_seg dksJ17_copyOfRange_1 23 rfl rfl
theorem dksJ17_copyOfRange_3 : cJ17_copyOfRange.data.toList.drop 68 = dktJ17_copyOfRange_3 := dk_seg dksJ17_copyOfRange_2 23 rfl rfl
theorem dJ17_copyOfRange_0 : decode cJ17_copyOfRange 0 = .ok (.iload_n 2, 1) := dk_28 (dk_at dksJ17_copyOfRange_0 0 rfl rfl)
theorem dJ17_copyOfRange_1 : decode cJ17_copyOfRange 1 = .ok (.iload_n 1, 1) := dk_27 (dk_at dksJ17_copyOfRange_0 1 rfl rfl)
theorem dJ17_copyOfRange_2 : decode cJ17_copyOfRange 2 = .ok (.isub, 1) := dk_100 (dk_at dksJ17_copyOfRange_0 2 rfl rfl)
theorem dJ17_copyOfRange_3 : decode cJ17_copyOfRange 3 = .ok (.istore 4, 2) := dk_54 4 (dk_at dksJ17_copyOfRange_0 3 rfl rfl)
theorem dJ17_copyOfRange_5 : decode cJ17_copyOfRange 5 = .ok (.iload 4, 2) := dk_21 4 (dk_at dksJ17_copyOfRange_0 5 rfl rfl)
theorem dJ17_copyOfRange_7 : decode cJ17_copyOfRange 7 = .ok (.ifCond .ge 35, 3) := dk_156 0 35 (dk_at dksJ17_copyOfRange_0 7 rfl rfl)
theorem dJ17_copyOfRange_10 : decode cJ17_copyOfRange 10 = .ok (.new 43, 3) := dk_187 0 43 (dk_at dksJ17_copyOfRange_0 10 rfl rfl)
theorem dJ17_copyOfRange_13 : decode cJ17_copyOfRange 13 = .ok (.dup, 1) := dk_89 (dk_at dksJ17_copyOfRange_0 13 rfl rfl)
theorem dJ17_copyOfRange_14 : decode cJ17_copyOfRange 14 = .ok (.new 45, 3) := dk_187 0 45 (dk_at dksJ17_copyOfRange_0 14 rfl rfl)
theorem dJ17_copyOfRange_17 : decode cJ17_copyOfRange 17 = .ok (.dup, 1) := dk_89 (dk_at dksJ17_copyOfRange_0 17 rfl rfl)
theorem dJ17_copyOfRange_18 : decode cJ17_copyOfRange 18 = .ok (.invokespecial 47, 3) := dk_183 0 47 (dk_at dksJ17_copyOfRange_0 18 rfl rfl)
theorem dJ17_copyOfRange_21 : decode cJ17_copyOfRange 21 = .ok (.iload_n 1, 1) := dk_27 (dk_at dksJ17_copyOfRange_0 21 rfl rfl)
theorem dJ17_copyOfRange_22 : decode cJ17_copyOfRange 22 = .ok (.invokevirtual 54, 3) := dk_182 0 54 (dk_at dksJ17_copyOfRange_1 0 rfl rfl)
theorem dJ17_copyOfRange_25 : decode cJ17_copyOfRange 25 = .ok (.ldc_w 337, 3) := dk_19 1 81 (dk_at dksJ17_copyOfRange_1 3 rfl rfl)
theorem dJ17_copyOfRange_28 : decode cJ17_copyOfRange 28 = .ok (.invokevirtual 50, 3) := dk_182 0 50 (dk_at dksJ17_copyOfRange_1 6 rfl rfl)
theorem dJ17_copyOfRange_31 : decode cJ17_copyOfRange 31 = .ok (.iload_n 2, 1) := dk_28 (dk_at dksJ17_copyOfRange_1 9 rfl rfl)
theorem dJ17_copyOfRange_32 : decode cJ17_copyOfRange 32 = .ok (.invokevirtual 54, 3) := dk_182 0 54 (dk_at dksJ17_copyOfRange_1 10 rfl rfl)
theorem dJ17_copyOfRange_35 : decode cJ17_copyOfRange 35 = .ok (.invokevirtual 61, 3) := dk_182 0 61 (dk_at dksJ17_copyOfRange_1 13 rfl rfl)
theorem dJ17_copyOfRange_38 : decode cJ17_copyOfRange 38 = .ok (.invokespecial 65, 3) := dk_183 0 65 (dk_at dksJ17_copyOfRange_1 16 rfl rfl)
theorem dJ17_copyOfRange_41 : decode cJ17_copyOfRange 41 = .ok (.athrow, 1) := dk_191 (dk_at dksJ17_copyOfRange_1 19 rfl rfl)
theorem dJ17_copyOfRange_42 : decode cJ17_copyOfRange 42 = .ok (.aload_n 3, 1) := dk_45 (dk_at dksJ17_copyOfRange_1 20 rfl rfl)
theorem dJ17_copyOfRange_43 : decode cJ17_copyOfRange 43 = .ok (.ldc 110, 2) := dk_18 110 (dk_at dksJ17_copyOfRange_1 21 rfl rfl)
theorem dJ17_copyOfRange_45 : decode cJ17_copyOfRange 45 = .ok (.if_acmp .ne 11, 3) := dk_166 0 11 (dk_at dksJ17_copyOfRange_2 0 rfl rfl)
theorem dJ17_copyOfRange_48 : decode cJ17_copyOfRange 48 = .ok (.iload 4, 2) := dk_21 4 (dk_at dksJ17_copyOfRange_2 3 rfl rfl)
theorem dJ17_copyOfRange_50 : decode cJ17_copyOfRange 50 = .ok (.anewarray 2, 3) := dk_189 0 2 (dk_at dksJ17_copyOfRange_2 5 rfl rfl)
theorem dJ17_copyOfRange_53 : decode cJ17_copyOfRange 53 = .ok (.goto 15, 3) := dk_167 0 15 (dk_at dksJ17_copyOfRange_2 8 rfl rfl)
theorem dJ17_copyOfRange_56 : decode cJ17_copyOfRange 56 = .ok (.aload_n 3, 1) := dk_45 (dk_at dksJ17_copyOfRange_2 11 rfl rfl)
theorem dJ17_copyOfRange_57 : decode cJ17_copyOfRange 57 = .ok (.invokevirtual 90, 3) := dk_182 0 90 (dk_at dksJ17_copyOfRange_2 12 rfl rfl)
theorem dJ17_copyOfRange_60 : decode cJ17_copyOfRange 60 = .ok (.iload 4, 2) := dk_21 4 (dk_at dksJ17_copyOfRange_2 15 rfl rfl)
theorem dJ17_copyOfRange_62 : decode cJ17_copyOfRange 62 = .ok (.invokestatic 95, 3) := dk_184 0 95 (dk_at dksJ17_copyOfRange_2 17 rfl rfl)
theorem dJ17_copyOfRange_65 : decode cJ17_copyOfRange 65 = .ok (.checkcast 110, 3) := dk_192 0 110 (dk_at dksJ17_copyOfRange_2 20 rfl rfl)
theorem dJ17_copyOfRange_68 : decode cJ17_copyOfRange 68 = .ok (.astore 5, 2) := dk_58 5 (dk_at dksJ17_copyOfRange_3 0 rfl rfl)
theorem dJ17_copyOfRange_70 : decode cJ17_copyOfRange 70 = .ok (.aload_n 0, 1) := dk_42 (dk_at dksJ17_copyOfRange_3 2 rfl rfl)
theorem dJ17_copyOfRange_71 : decode cJ17_copyOfRange 71 = .ok (.iload_n 1, 1) := dk_27 (dk_at dksJ17_copyOfRange_3 3 rfl rfl)
theorem dJ17_copyOfRange_72 : decode cJ17_copyOfRange 72 = .ok (.aload 5, 2) := dk_25 5 (dk_at dksJ17_copyOfRange_3 4 rfl rfl)
theorem dJ17_copyOfRange_74 : decode cJ17_copyOfRange 74 = .ok (.iconst 0, 1) := dk_3 (dk_at dksJ17_copyOfRange_3 6 rfl rfl)
theorem dJ17_copyOfRange_75 : decode cJ17_copyOfRange 75 = .ok (.aload_n 0, 1) := dk_42 (dk_at dksJ17_copyOfRange_3 7 rfl rfl)
theorem dJ17_copyOfRange_76 : decode cJ17_copyOfRange 76 = .ok (.arraylength, 1) := dk_190 (dk_at dksJ17_copyOfRange_3 8 rfl rfl)
theorem dJ17_copyOfRange_77 : decode cJ17_copyOfRange 77 = .ok (.iload_n 1, 1) := dk_27 (dk_at dksJ17_copyOfRange_3 9 rfl rfl)
theorem dJ17_copyOfRange_78 : decode cJ17_copyOfRange 78 = .ok (.isub, 1) := dk_100 (dk_at dksJ17_copyOfRange_3 10 rfl rfl)
theorem dJ17_copyOfRange_79 : decode cJ17_copyOfRange 79 = .ok (.iload 4, 2) := dk_21 4 (dk_at dksJ17_copyOfRange_3 11 rfl rfl)
theorem dJ17_copyOfRange_81 : decode cJ17_copyOfRange 81 = .ok (.invokestatic 304, 3) := dk_184 1 48 (dk_at dksJ17_copyOfRange_3 13 rfl rfl)
theorem dJ17_copyOfRange_84 : decode cJ17_copyOfRange 84 = .ok (.invokestatic 150, 3) := dk_184 0 150 (dk_at dksJ17_copyOfRange_3 16 rfl rfl)
theorem dJ17_copyOfRange_87 : decode cJ17_copyOfRange 87 = .ok (.aload 5, 2) := dk_25 5 (dk_at dksJ17_copyOfRange_3 19 rfl rfl)
theorem dJ17_copyOfRange_89 : decode cJ17_copyOfRange 89 = .ok (.areturn, 1) := dk_176 (dk_at dksJ17_copyOfRange_3 21 rfl rfl)
abbrev cJ17_copyOf_3 : ByteArray := prog_49_method_121_code
def yJ17_copyOf_3 : MethodName := ⟨RJ17, "copyOf", "([BI)[B"⟩
def dkwJ17_copyOf_3_1 : List UInt8 := [27, 184, 1, 48, 184, 0, 150, 44, 176]
abbrev dktJ17_copyOf_3_1 : List UInt8 := dkwJ17_copyOf_3_1 ++ []
def dkwJ17_copyOf_3_0 : List UInt8 := [27, 42, 190, 160, 0, 11, 42, 182, 1, 54, 192, 1, 55, 176, 27, 188, 8, 77, 42, 3, 44, 3, 42, 190]
abbrev dktJ17_copyOf_3_0 : List UInt8 := dkwJ17_copyOf_3_0 ++ dktJ17_copyOf_3_1
theorem dksJ17_copyOf_3_0 : cJ17_copyOf_3.data.toList.drop 0 = dktJ17_copyOf_3_0 := by decide +kernel
theorem dksJ17_copyOf_3_1 : cJ17_copyOf_3.data.toList.drop 24 = dktJ17_copyOf_3_1 := dk_seg dksJ17_copyOf_3_0 24 rfl rfl
theorem dJ17_copyOf_3_0 : decode cJ17_copyOf_3 0 = .ok (.iload_n 1, 1) := dk_27 (dk_at dksJ17_copyOf_3_0 0 rfl rfl)
theorem dJ17_copyOf_3_1 : decode cJ17_copyOf_3 1 = .ok (.aload_n 0, 1) := dk_42 (dk_at dksJ17_copyOf_3_0 1 rfl rfl)
theorem dJ17_copyOf_3_2 : decode cJ17_copyOf_3 2 = .ok (.arraylength, 1) := dk_190 (dk_at dksJ17_copyOf_3_0 2 rfl rfl)
theorem dJ17_copyOf_3_3 : decode cJ17_copyOf_3 3 = .ok (.if_icmp .ne 11, 3) := dk_160 0 11 (dk_at dksJ17_copyOf_3_0 3 rfl rfl)
theorem dJ17_copyOf_3_6 : decode cJ17_copyOf_3 6 = .ok (.aload_n 0, 1) := dk_42 (dk_at dksJ17_copyOf_3_0 6 rfl rfl)
theorem dJ17_copyOf_3_7 : decode cJ17_copyOf_3 7 = .ok (.invokevirtual 310, 3) := dk_182 1 54 (dk_at dksJ17_copyOf_3_0 7 rfl rfl)
theorem dJ17_copyOf_3_10 : decode cJ17_copyOf_3 10 = .ok (.checkcast 311, 3) := dk_192 1 55 (dk_at dksJ17_copyOf_3_0 10 rfl rfl)
theorem dJ17_copyOf_3_13 : decode cJ17_copyOf_3 13 = .ok (.areturn, 1) := dk_176 (dk_at dksJ17_copyOf_3_0 13 rfl rfl)
theorem dJ17_copyOf_3_14 : decode cJ17_copyOf_3 14 = .ok (.iload_n 1, 1) := dk_27 (dk_at dksJ17_copyOf_3_0 14 rfl rfl)
theorem dJ17_copyOf_3_15 : decode cJ17_copyOf_3 15 = .ok (.newarray .byte, 2) := dk_188_8 (dk_at dksJ17_copyOf_3_0 15 rfl rfl)
theorem dJ17_copyOf_3_17 : decode cJ17_copyOf_3 17 = .ok (.astore_n 2, 1) := dk_77 (dk_at dksJ17_copyOf_3_0 17 rfl rfl)
theorem dJ17_copyOf_3_18 : decode cJ17_copyOf_3 18 = .ok (.aload_n 0, 1) := dk_42 (dk_at dksJ17_copyOf_3_0 18 rfl rfl)
theorem dJ17_copyOf_3_19 : decode cJ17_copyOf_3 19 = .ok (.iconst 0, 1) := dk_3 (dk_at dksJ17_copyOf_3_0 19 rfl rfl)
theorem dJ17_copyOf_3_20 : decode cJ17_copyOf_3 20 = .ok (.aload_n 2, 1) := dk_44 (dk_at dksJ17_copyOf_3_0 20 rfl rfl)
theorem dJ17_copyOf_3_21 : decode cJ17_copyOf_3 21 = .ok (.iconst 0, 1) := dk_3 (dk_at dksJ17_copyOf_3_0 21 rfl rfl)
theorem dJ17_copyOf_3_22 : decode cJ17_copyOf_3 22 = .ok (.aload_n 0, 1) := dk_42 (dk_at dksJ17_copyOf_3_0 22 rfl rfl)
theorem dJ17_copyOf_3_23 : decode cJ17_copyOf_3 23 = .ok (.arraylength, 1) := dk_190 (dk_at dksJ17_copyOf_3_0 23 rfl rfl)
theorem dJ17_copyOf_3_24 : decode cJ17_copyOf_3 24 = .ok (.iload_n 1, 1) := dk_27 (dk_at dksJ17_copyOf_3_1 0 rfl rfl)
theorem dJ17_copyOf_3_25 : decode cJ17_copyOf_3 25 = .ok (.invokestatic 304, 3) := dk_184 1 48 (dk_at dksJ17_copyOf_3_1 1 rfl rfl)
theorem dJ17_copyOf_3_28 : decode cJ17_copyOf_3 28 = .ok (.invokestatic 150, 3) := dk_184 0 150 (dk_at dksJ17_copyOf_3_1 4 rfl rfl)
theorem dJ17_copyOf_3_31 : decode cJ17_copyOf_3 31 = .ok (.aload_n 2, 1) := dk_44 (dk_at dksJ17_copyOf_3_1 7 rfl rfl)
theorem dJ17_copyOf_3_32 : decode cJ17_copyOf_3 32 = .ok (.areturn, 1) := dk_176 (dk_at dksJ17_copyOf_3_1 8 rfl rfl)
abbrev cJ17_copyOfRange_2 : ByteArray := prog_49_method_132_code
def yJ17_copyOfRange_2 : MethodName := ⟨RJ17, "copyOfRange", "([BII)[B"⟩
def dkwJ17_copyOfRange_2_1 : List UInt8 := [176]
abbrev dktJ17_copyOfRange_2_1 : List UInt8 := dkwJ17_copyOfRange_2_1 ++ []
def dkwJ17_copyOfRange_2_0 : List UInt8 := [27, 154, 0, 9, 28, 42, 190, 159, 0, 10, 42, 27, 28, 184, 1, 83, 176, 42, 182, 1, 54, 192, 1, 55]
abbrev dktJ17_copyOfRange_2_0 : List UInt8 := dkwJ17_copyOfRange_2_0 ++ dktJ17_copyOfRange_2_1
theorem dksJ17_copyOfRange_2_0 : cJ17_copyOfRange_2.data.toList.drop 0 = dktJ17_copyOfRange_2_0 := by decide +kernel
theorem dksJ17_copyOfRange_2_1 : cJ17_copyOfRange_2.data.toList.drop 24 = dktJ17_copyOfRange_2_1 := dk_seg dksJ17_copyOfRange_2_0 24 rfl rfl
theorem dJ17_copyOfRange_2_0 : decode cJ17_copyOfRange_2 0 = .ok (.iload_n 1, 1) := dk_27 (dk_at dksJ17_copyOfRange_2_0 0 rfl rfl)
theorem dJ17_copyOfRange_2_1 : decode cJ17_copyOfRange_2 1 = .ok (.ifCond .ne 9, 3) := dk_154 0 9 (dk_at dksJ17_copyOfRange_2_0 1 rfl rfl)
theorem dJ17_copyOfRange_2_4 : decode cJ17_copyOfRange_2 4 = .ok (.iload_n 2, 1) := dk_28 (dk_at dksJ17_copyOfRange_2_0 4 rfl rfl)
theorem dJ17_copyOfRange_2_5 : decode cJ17_copyOfRange_2 5 = .ok (.aload_n 0, 1) := dk_42 (dk_at dksJ17_copyOfRange_2_0 5 rfl rfl)
theorem dJ17_copyOfRange_2_6 : decode cJ17_copyOfRange_2 6 = .ok (.arraylength, 1) := dk_190 (dk_at dksJ17_copyOfRange_2_0 6 rfl rfl)
theorem dJ17_copyOfRange_2_7 : decode cJ17_copyOfRange_2 7 = .ok (.if_icmp .eq 10, 3) := dk_159 0 10 (dk_at dksJ17_copyOfRange_2_0 7 rfl rfl)
theorem dJ17_copyOfRange_2_10 : decode cJ17_copyOfRange_2 10 = .ok (.aload_n 0, 1) := dk_42 (dk_at dksJ17_copyOfRange_2_0 10 rfl rfl)
theorem dJ17_copyOfRange_2_11 : decode cJ17_copyOfRange_2 11 = .ok (.iload_n 1, 1) := dk_27 (dk_at dksJ17_copyOfRange_2_0 11 rfl rfl)
theorem dJ17_copyOfRange_2_12 : decode cJ17_copyOfRange_2 12 = .ok (.iload_n 2, 1) := dk_28 (dk_at dksJ17_copyOfRange_2_0 12 rfl rfl)
theorem dJ17_copyOfRange_2_13 : decode cJ17_copyOfRange_2 13 = .ok (.invokestatic 339, 3) := dk_184 1 83 (dk_at dksJ17_copyOfRange_2_0 13 rfl rfl)
theorem dJ17_copyOfRange_2_16 : decode cJ17_copyOfRange_2 16 = .ok (.areturn, 1) := dk_176 (dk_at dksJ17_copyOfRange_2_0 16 rfl rfl)
theorem dJ17_copyOfRange_2_17 : decode cJ17_copyOfRange_2 17 = .ok (.aload_n 0, 1) := dk_42 (dk_at dksJ17_copyOfRange_2_0 17 rfl rfl)
theorem dJ17_copyOfRange_2_18 : decode cJ17_copyOfRange_2 18 = .ok (.invokevirtual 310, 3) := dk_182 1 54 (dk_at dksJ17_copyOfRange_2_0 18 rfl rfl)
theorem dJ17_copyOfRange_2_21 : decode cJ17_copyOfRange_2 21 = .ok (.checkcast 311, 3) := dk_192 1 55 (dk_at dksJ17_copyOfRange_2_0 21 rfl rfl)
theorem dJ17_copyOfRange_2_24 : decode cJ17_copyOfRange_2 24 = .ok (.areturn, 1) := dk_176 (dk_at dksJ17_copyOfRange_2_1 0 rfl rfl)
abbrev cJ17_copyOfRangeByte : ByteArray := prog_49_method_133_code
def yJ17_copyOfRangeByte : MethodName := ⟨RJ17, "copyOfRangeByte", "([BII)[B"⟩
def dkwJ17_copyOfRangeByte_1 : List UInt8 := [184, 1, 48, 184, 0, 150, 25, 4, 176]
abbrev dktJ17_copyOfRangeByte_1 : List UInt8 := dkwJ17_copyOfRangeByte_1 ++ []
def dkwJ17_copyOfRangeByte_0 : List UInt8 := [27, 28, 184, 1, 87, 28, 27, 100, 62, 29, 188, 8, 58, 4, 42, 27, 25, 4, 3, 42, 190, 27, 100, 29]
abbrev dktJ17_copyOfRangeByte_0 : List UInt8 := dkwJ17_copyOfRangeByte_0 ++ dktJ17_copyOfRangeByte_1
theorem dksJ17_copyOfRangeByte_0 : cJ17_copyOfRangeByte.data.toList.drop 0 = dktJ17_copyOfRangeByte_0 := by decide +kernel
theorem dksJ17_copyOfRangeByte_1 : cJ17_copyOfRangeByte.data.toList.drop 24 = dktJ17_copyOfRangeByte_1 := dk_seg dksJ17_copyOfRangeByte_0 24 rfl rfl
theorem dJ17_copyOfRangeByte_0 : decode cJ17_copyOfRangeByte 0 = .ok (.iload_n 1, 1) := dk_27 (dk_at dksJ17_copyOfRangeByte_0 0 rfl rfl)
theorem dJ17_copyOfRangeByte_1 : decode cJ17_copyOfRangeByte 1 = .ok (.iload_n 2, 1) := dk_28 (dk_at dksJ17_copyOfRangeByte_0 1 rfl rfl)
theorem dJ17_copyOfRangeByte_2 : decode cJ17_copyOfRangeByte 2 = .ok (.invokestatic 343, 3) := dk_184 1 87 (dk_at dksJ17_copyOfRangeByte_0 2 rfl rfl)
theorem dJ17_copyOfRangeByte_5 : decode cJ17_copyOfRangeByte 5 = .ok (.iload_n 2, 1) := dk_28 (dk_at dksJ17_copyOfRangeByte_0 5 rfl rfl)
theorem dJ17_copyOfRangeByte_6 : decode cJ17_copyOfRangeByte 6 = .ok (.iload_n 1, 1) := dk_27 (dk_at dksJ17_copyOfRangeByte_0 6 rfl rfl)
theorem dJ17_copyOfRangeByte_7 : decode cJ17_copyOfRangeByte 7 = .ok (.isub, 1) := dk_100 (dk_at dksJ17_copyOfRangeByte_0 7 rfl rfl)
theorem dJ17_copyOfRangeByte_8 : decode cJ17_copyOfRangeByte 8 = .ok (.istore_n 3, 1) := dk_62 (dk_at dksJ17_copyOfRangeByte_0 8 rfl rfl)
theorem dJ17_copyOfRangeByte_9 : decode cJ17_copyOfRangeByte 9 = .ok (.iload_n 3, 1) := dk_29 (dk_at dksJ17_copyOfRangeByte_0 9 rfl rfl)
theorem dJ17_copyOfRangeByte_10 : decode cJ17_copyOfRangeByte 10 = .ok (.newarray .byte, 2) := dk_188_8 (dk_at dksJ17_copyOfRangeByte_0 10 rfl rfl)
theorem dJ17_copyOfRangeByte_12 : decode cJ17_copyOfRangeByte 12 = .ok (.astore 4, 2) := dk_58 4 (dk_at dksJ17_copyOfRangeByte_0 12 rfl rfl)
theorem dJ17_copyOfRangeByte_14 : decode cJ17_copyOfRangeByte 14 = .ok (.aload_n 0, 1) := dk_42 (dk_at dksJ17_copyOfRangeByte_0 14 rfl rfl)
theorem dJ17_copyOfRangeByte_15 : decode cJ17_copyOfRangeByte 15 = .ok (.iload_n 1, 1) := dk_27 (dk_at dksJ17_copyOfRangeByte_0 15 rfl rfl)
theorem dJ17_copyOfRangeByte_16 : decode cJ17_copyOfRangeByte 16 = .ok (.aload 4, 2) := dk_25 4 (dk_at dksJ17_copyOfRangeByte_0 16 rfl rfl)
theorem dJ17_copyOfRangeByte_18 : decode cJ17_copyOfRangeByte 18 = .ok (.iconst 0, 1) := dk_3 (dk_at dksJ17_copyOfRangeByte_0 18 rfl rfl)
theorem dJ17_copyOfRangeByte_19 : decode cJ17_copyOfRangeByte 19 = .ok (.aload_n 0, 1) := dk_42 (dk_at dksJ17_copyOfRangeByte_0 19 rfl rfl)
theorem dJ17_copyOfRangeByte_20 : decode cJ17_copyOfRangeByte 20 = .ok (.arraylength, 1) := dk_190 (dk_at dksJ17_copyOfRangeByte_0 20 rfl rfl)
theorem dJ17_copyOfRangeByte_21 : decode cJ17_copyOfRangeByte 21 = .ok (.iload_n 1, 1) := dk_27 (dk_at dksJ17_copyOfRangeByte_0 21 rfl rfl)
theorem dJ17_copyOfRangeByte_22 : decode cJ17_copyOfRangeByte 22 = .ok (.isub, 1) := dk_100 (dk_at dksJ17_copyOfRangeByte_0 22 rfl rfl)
theorem dJ17_copyOfRangeByte_23 : decode cJ17_copyOfRangeByte 23 = .ok (.iload_n 3, 1) := dk_29 (dk_at dksJ17_copyOfRangeByte_0 23 rfl rfl)
theorem dJ17_copyOfRangeByte_24 : decode cJ17_copyOfRangeByte 24 = .ok (.invokestatic 304, 3) := dk_184 1 48 (dk_at dksJ17_copyOfRangeByte_1 0 rfl rfl)
theorem dJ17_copyOfRangeByte_27 : decode cJ17_copyOfRangeByte 27 = .ok (.invokestatic 150, 3) := dk_184 0 150 (dk_at dksJ17_copyOfRangeByte_1 3 rfl rfl)
theorem dJ17_copyOfRangeByte_30 : decode cJ17_copyOfRangeByte 30 = .ok (.aload 4, 2) := dk_25 4 (dk_at dksJ17_copyOfRangeByte_1 6 rfl rfl)
theorem dJ17_copyOfRangeByte_32 : decode cJ17_copyOfRangeByte 32 = .ok (.areturn, 1) := dk_176 (dk_at dksJ17_copyOfRangeByte_1 8 rfl rfl)
abbrev cJ17_checkLength : ByteArray := prog_49_method_131_code
def yJ17_checkLength : MethodName := ⟨RJ17, "checkLength", "(II)V"⟩
def dkwJ17_checkLength_1 : List UInt8 := [182, 0, 50, 27, 182, 0, 54, 182, 0, 61, 183, 0, 65, 191, 177]
abbrev dktJ17_checkLength_1 : List UInt8 := dkwJ17_checkLength_1 ++ []
def dkwJ17_checkLength_0 : List UInt8 := [27, 26, 162, 0, 35, 187, 0, 43, 89, 187, 0, 45, 89, 183, 0, 47, 26, 182, 0, 54, 19, 1, 81]
abbrev dktJ17_checkLength_0 : List UInt8 := dkwJ17_checkLength_0 ++ dktJ17_checkLength_1
theorem dksJ17_checkLength_0 : cJ17_checkLength.data.toList.drop 0 = dktJ17_checkLength_0 := by decide +kernel
theorem dksJ17_checkLength_1 : cJ17_checkLength.data.toList.drop 23 = dktJ17_checkLength_1 := dk_seg dksJ17_checkLength_0 23 rfl rfl
theorem dJ17_checkLength_0 : decode cJ17_checkLength 0 = .ok (.iload_n 1, 1) := dk_27 (dk_at dksJ17_checkLength_0 0 rfl rfl)
theorem dJ17_checkLength_1 : decode cJ17_checkLength 1 = .ok (.iload_n 0, 1) := dk_26 (dk_at dksJ17_checkLength_0 1 rfl rfl)
theorem dJ17_checkLength_2 : decode cJ17_checkLength 2 = .ok (.if_icmp .ge 35, 3) := dk_162 0 35 (dk_at dksJ17_checkLength_0 2 rfl rfl)
theorem dJ17_checkLength_5 : decode cJ17_checkLength 5 = .ok (.new 43, 3) := dk_187 0 43 (dk_at dksJ17_checkLength_0 5 rfl rfl)
theorem dJ17_checkLength_8 : decode cJ17_checkLength 8 = .ok (.dup, 1) := dk_89 (dk_at dksJ17_checkLength_0 8 rfl rfl)
theorem dJ17_checkLength_9 : decode cJ17_checkLength 9 = .ok (.new 45, 3) := dk_187 0 45 (dk_at dksJ17_checkLength_0 9 rfl rfl)
theorem dJ17_checkLength_12 : decode cJ17_checkLength 12 = .ok (.dup, 1) := dk_89 (dk_at dksJ17_checkLength_0 12 rfl rfl)
theorem dJ17_checkLength_13 : decode cJ17_checkLength 13 = .ok (.invokespecial 47, 3) := dk_183 0 47 (dk_at dksJ17_checkLength_0 13 rfl rfl)
theorem dJ17_checkLength_16 : decode cJ17_checkLength 16 = .ok (.iload_n 0, 1) := dk_26 (dk_at dksJ17_checkLength_0 16 rfl rfl)
theorem dJ17_checkLength_17 : decode cJ17_checkLength 17 = .ok (.invokevirtual 54, 3) := dk_182 0 54 (dk_at dksJ17_checkLength_0 17 rfl rfl)
theorem dJ17_checkLength_20 : decode cJ17_checkLength 20 = .ok (.ldc_w 337, 3) := dk_19 1 81 (dk_at dksJ17_checkLength_0 20 rfl rfl)
theorem dJ17_checkLength_23 : decode cJ17_checkLength 23 = .ok (.invokevirtual 50, 3) := dk_182 0 50 (dk_at dksJ17_checkLength_1 0 rfl rfl)
theorem dJ17_checkLength_26 : decode cJ17_checkLength 26 = .ok (.iload_n 1, 1) := dk_27 (dk_at dksJ17_checkLength_1 3 rfl rfl)
theorem dJ17_checkLength_27 : decode cJ17_checkLength 27 = .ok (.invokevirtual 54, 3) := dk_182 0 54 (dk_at dksJ17_checkLength_1 4 rfl rfl)
theorem dJ17_checkLength_30 : decode cJ17_checkLength 30 = .ok (.invokevirtual 61, 3) := dk_182 0 61 (dk_at dksJ17_checkLength_1 7 rfl rfl)
theorem dJ17_checkLength_33 : decode cJ17_checkLength 33 = .ok (.invokespecial 65, 3) := dk_183 0 65 (dk_at dksJ17_checkLength_1 10 rfl rfl)
theorem dJ17_checkLength_36 : decode cJ17_checkLength 36 = .ok (.athrow, 1) := dk_191 (dk_at dksJ17_checkLength_1 13 rfl rfl)
theorem dJ17_checkLength_37 : decode cJ17_checkLength 37 = .ok (.return_, 1) := dk_177 (dk_at dksJ17_checkLength_1 14 rfl rfl)
abbrev cJ17_fill : ByteArray := prog_49_method_110_code
def yJ17_fill : MethodName := ⟨RJ17, "fill", "([BIIB)V"⟩
def dkwJ17_fill_1 : List UInt8 := [167, 255, 242, 177]
abbrev dktJ17_fill_1 : List UInt8 := dkwJ17_fill_1 ++ []
def dkwJ17_fill_0 : List UInt8 := [42, 190, 27, 28, 184, 0, 13, 27, 54, 4, 21, 4, 28, 162, 0, 14, 42, 21, 4, 29, 84, 132, 4, 1]
abbrev dktJ17_fill_0 : List UInt8 := dkwJ17_fill_0 ++ dktJ17_fill_1
theorem dksJ17_fill_0 : cJ17_fill.data.toList.drop 0 = dktJ17_fill_0 := by decide +kernel
theorem dksJ17_fill_1 : cJ17_fill.data.toList.drop 24 = dktJ17_fill_1 := dk_seg dksJ17_fill_0 24 rfl rfl
theorem dJ17_fill_0 : decode cJ17_fill 0 = .ok (.aload_n 0, 1) := dk_42 (dk_at dksJ17_fill_0 0 rfl rfl)
theorem dJ17_fill_1 : decode cJ17_fill 1 = .ok (.arraylength, 1) := dk_190 (dk_at dksJ17_fill_0 1 rfl rfl)
theorem dJ17_fill_2 : decode cJ17_fill 2 = .ok (.iload_n 1, 1) := dk_27 (dk_at dksJ17_fill_0 2 rfl rfl)
theorem dJ17_fill_3 : decode cJ17_fill 3 = .ok (.iload_n 2, 1) := dk_28 (dk_at dksJ17_fill_0 3 rfl rfl)
theorem dJ17_fill_4 : decode cJ17_fill 4 = .ok (.invokestatic 13, 3) := dk_184 0 13 (dk_at dksJ17_fill_0 4 rfl rfl)
theorem dJ17_fill_7 : decode cJ17_fill 7 = .ok (.iload_n 1, 1) := dk_27 (dk_at dksJ17_fill_0 7 rfl rfl)
theorem dJ17_fill_8 : decode cJ17_fill 8 = .ok (.istore 4, 2) := dk_54 4 (dk_at dksJ17_fill_0 8 rfl rfl)
theorem dJ17_fill_10 : decode cJ17_fill 10 = .ok (.iload 4, 2) := dk_21 4 (dk_at dksJ17_fill_0 10 rfl rfl)
theorem dJ17_fill_12 : decode cJ17_fill 12 = .ok (.iload_n 2, 1) := dk_28 (dk_at dksJ17_fill_0 12 rfl rfl)
theorem dJ17_fill_13 : decode cJ17_fill 13 = .ok (.if_icmp .ge 14, 3) := dk_162 0 14 (dk_at dksJ17_fill_0 13 rfl rfl)
theorem dJ17_fill_16 : decode cJ17_fill 16 = .ok (.aload_n 0, 1) := dk_42 (dk_at dksJ17_fill_0 16 rfl rfl)
theorem dJ17_fill_17 : decode cJ17_fill 17 = .ok (.iload 4, 2) := dk_21 4 (dk_at dksJ17_fill_0 17 rfl rfl)
theorem dJ17_fill_19 : decode cJ17_fill 19 = .ok (.iload_n 3, 1) := dk_29 (dk_at dksJ17_fill_0 19 rfl rfl)
theorem dJ17_fill_20 : decode cJ17_fill 20 = .ok (.bastore, 1) := dk_84 (dk_at dksJ17_fill_0 20 rfl rfl)
theorem dJ17_fill_21 : decode cJ17_fill 21 = .ok (.iinc 4 1, 3) := dk_132 4 1 (dk_at dksJ17_fill_0 21 rfl rfl)
theorem dJ17_fill_24 : decode cJ17_fill 24 = .ok (.goto (-14), 3) := dk_167 255 242 (dk_at dksJ17_fill_1 0 rfl rfl)
theorem dJ17_fill_27 : decode cJ17_fill 27 = .ok (.return_, 1) := dk_177 (dk_at dksJ17_fill_1 3 rfl rfl)
abbrev cJ17_rangeCheck : ByteArray := prog_49_method_30_code
def yJ17_rangeCheck : MethodName := ⟨RJ17, "rangeCheck", "(III)V"⟩
def dkwJ17_rangeCheck_3 : List UInt8 := [183, 0, 70, 191, 177]
abbrev dktJ17_rangeCheck_3 : List UInt8 := dkwJ17_rangeCheck_3 ++ []
def dkwJ17_rangeCheck_2 : List UInt8 := [27, 156, 0, 12, 187, 0, 68, 89, 27, 183, 0, 70, 191, 28, 26, 164, 0, 12, 187, 0, 68, 89, 28]
abbrev dktJ17_rangeCheck_2 : List UInt8 := dkwJ17_rangeCheck_2 ++ dktJ17_rangeCheck_3
def dkwJ17_rangeCheck_1 : List UInt8 := [182, 0, 54, 18, 57, 182, 0, 50, 28, 182, 0, 54, 18, 59, 182, 0, 50, 182, 0, 61, 183, 0, 65, 191]
abbrev dktJ17_rangeCheck_1 : List UInt8 := dkwJ17_rangeCheck_1 ++ dktJ17_rangeCheck_2
def dkwJ17_rangeCheck_0 : List UInt8 := [27, 28, 164, 0, 44, 187, 0, 43, 89, 187, 0, 45, 89, 183, 0, 47, 18, 48, 182, 0, 50, 27]
abbrev dktJ17_rangeCheck_0 : List UInt8 := dkwJ17_rangeCheck_0 ++ dktJ17_rangeCheck_1
theorem dksJ17_rangeCheck_0 : cJ17_rangeCheck.data.toList.drop 0 = dktJ17_rangeCheck_0 := by decide +kernel
theorem dksJ17_rangeCheck_1 : cJ17_rangeCheck.data.toList.drop 22 = dktJ17_rangeCheck_1 := dk_seg dksJ17_rangeCheck_0 22 rfl rfl
theorem dksJ17_rangeCheck_2 : cJ17_rangeCheck.data.toList.drop 46 = dktJ17_rangeCheck_2 := dk_seg dksJ17_rangeCheck_1 24 rfl rfl
theorem dksJ17_rangeCheck_3 : cJ17_rangeCheck.data.toList.drop 69 = dktJ17_rangeCheck_3 := dk_seg dksJ17_rangeCheck_2 23 rfl rfl
theorem dJ17_rangeCheck_0 : decode cJ17_rangeCheck 0 = .ok (.iload_n 1, 1) := dk_27 (dk_at dksJ17_rangeCheck_0 0 rfl rfl)
theorem dJ17_rangeCheck_1 : decode cJ17_rangeCheck 1 = .ok (.iload_n 2, 1) := dk_28 (dk_at dksJ17_rangeCheck_0 1 rfl rfl)
theorem dJ17_rangeCheck_2 : decode cJ17_rangeCheck 2 = .ok (.if_icmp .le 44, 3) := dk_164 0 44 (dk_at dksJ17_rangeCheck_0 2 rfl rfl)
theorem dJ17_rangeCheck_5 : decode cJ17_rangeCheck 5 = .ok (.new 43, 3) := dk_187 0 43 (dk_at dksJ17_rangeCheck_0 5 rfl rfl)
theorem dJ17_rangeCheck_8 : decode cJ17_rangeCheck 8 = .ok (.dup, 1) := dk_89 (dk_at dksJ17_rangeCheck_0 8 rfl rfl)
theorem dJ17_rangeCheck_9 : decode cJ17_rangeCheck 9 = .ok (.new 45, 3) := dk_187 0 45 (dk_at dksJ17_rangeCheck_0 9 rfl rfl)
theorem dJ17_rangeCheck_12 : decode cJ17_rangeCheck 12 = .ok (.dup, 1) := dk_89 (dk_at dksJ17_rangeCheck_0 12 rfl rfl)
theorem dJ17_rangeCheck_13 : decode cJ17_rangeCheck 13 = .ok (.invokespecial 47, 3) := dk_183 0 47 (dk_at dksJ17_rangeCheck_0 13 rfl rfl)
theorem dJ17_rangeCheck_16 : decode cJ17_rangeCheck 16 = .ok (.ldc 48, 2) := dk_18 48 (dk_at dksJ17_rangeCheck_0 16 rfl rfl)
theorem dJ17_rangeCheck_18 : decode cJ17_rangeCheck 18 = .ok (.invokevirtual 50, 3) := dk_182 0 50 (dk_at dksJ17_rangeCheck_0 18 rfl rfl)
theorem dJ17_rangeCheck_21 : decode cJ17_rangeCheck 21 = .ok (.iload_n 1, 1) := dk_27 (dk_at dksJ17_rangeCheck_0 21 rfl rfl)
theorem dJ17_rangeCheck_22 : decode cJ17_rangeCheck 22 = .ok (.invokevirtual 54, 3) := dk_182 0 54 (dk_at dksJ17_rangeCheck_1 0 rfl rfl)
theorem dJ17_rangeCheck_25 : decode cJ17_rangeCheck 25 = .ok (.ldc 57, 2) := dk_18 57 (dk_at dksJ17_rangeCheck_1 3 rfl rfl)
theorem dJ17_rangeCheck_27 : decode cJ17_rangeCheck 27 = .ok (.invokevirtual 50, 3) := dk_182 0 50 (dk_at dksJ17_rangeCheck_1 5 rfl rfl)
theorem dJ17_rangeCheck_30 : decode cJ17_rangeCheck 30 = .ok (.iload_n 2, 1) := dk_28 (dk_at dksJ17_rangeCheck_1 8 rfl rfl)
theorem dJ17_rangeCheck_31 : decode cJ17_rangeCheck 31 = .ok (.invokevirtual 54, 3) := dk_182 0 54 (dk_at dksJ17_rangeCheck_1 9 rfl rfl)
theorem dJ17_rangeCheck_34 : decode cJ17_rangeCheck 34 = .ok (.ldc 59, 2) := dk_18 59 (dk_at dksJ17_rangeCheck_1 12 rfl rfl)
theorem dJ17_rangeCheck_36 : decode cJ17_rangeCheck 36 = .ok (.invokevirtual 50, 3) := dk_182 0 50 (dk_at dksJ17_rangeCheck_1 14 rfl rfl)
theorem dJ17_rangeCheck_39 : decode cJ17_rangeCheck 39 = .ok (.invokevirtual 61, 3) := dk_182 0 61 (dk_at dksJ17_rangeCheck_1 17 rfl rfl)
theorem dJ17_rangeCheck_42 : decode cJ17_rangeCheck 42 = .ok (.invokespecial 65, 3) := dk_183 0 65 (dk_at dksJ17_rangeCheck_1 20 rfl rfl)
theorem dJ17_rangeCheck_45 : decode cJ17_rangeCheck 45 = .ok (.athrow, 1) := dk_191 (dk_at dksJ17_rangeCheck_1 23 rfl rfl)
theorem dJ17_rangeCheck_46 : decode cJ17_rangeCheck 46 = .ok (.iload_n 1, 1) := dk_27 (dk_at dksJ17_rangeCheck_2 0 rfl rfl)
theorem dJ17_rangeCheck_47 : decode cJ17_rangeCheck 47 = .ok (.ifCond .ge 12, 3) := dk_156 0 12 (dk_at dksJ17_rangeCheck_2 1 rfl rfl)
theorem dJ17_rangeCheck_50 : decode cJ17_rangeCheck 50 = .ok (.new 68, 3) := dk_187 0 68 (dk_at dksJ17_rangeCheck_2 4 rfl rfl)
theorem dJ17_rangeCheck_53 : decode cJ17_rangeCheck 53 = .ok (.dup, 1) := dk_89 (dk_at dksJ17_rangeCheck_2 7 rfl rfl)
theorem dJ17_rangeCheck_54 : decode cJ17_rangeCheck 54 = .ok (.iload_n 1, 1) := dk_27 (dk_at dksJ17_rangeCheck_2 8 rfl rfl)
theorem dJ17_rangeCheck_55 : decode cJ17_rangeCheck 55 = .ok (.invokespecial 70, 3) := dk_183 0 70 (dk_at dksJ17_rangeCheck_2 9 rfl rfl)
theorem dJ17_rangeCheck_58 : decode cJ17_rangeCheck 58 = .ok (.athrow, 1) := dk_191 (dk_at dksJ17_rangeCheck_2 12 rfl rfl)
theorem dJ17_rangeCheck_59 : decode cJ17_rangeCheck 59 = .ok (.iload_n 2, 1) := dk_28 (dk_at dksJ17_rangeCheck_2 13 rfl rfl)
theorem dJ17_rangeCheck_60 : decode cJ17_rangeCheck 60 = .ok (.iload_n 0, 1) := dk_26 (dk_at dksJ17_rangeCheck_2 14 rfl rfl)
theorem dJ17_rangeCheck_61 : decode cJ17_rangeCheck 61 = .ok (.if_icmp .le 12, 3) := dk_164 0 12 (dk_at dksJ17_rangeCheck_2 15 rfl rfl)
theorem dJ17_rangeCheck_64 : decode cJ17_rangeCheck 64 = .ok (.new 68, 3) := dk_187 0 68 (dk_at dksJ17_rangeCheck_2 18 rfl rfl)
theorem dJ17_rangeCheck_67 : decode cJ17_rangeCheck 67 = .ok (.dup, 1) := dk_89 (dk_at dksJ17_rangeCheck_2 21 rfl rfl)
theorem dJ17_rangeCheck_68 : decode cJ17_rangeCheck 68 = .ok (.iload_n 2, 1) := dk_28 (dk_at dksJ17_rangeCheck_2 22 rfl rfl)
theorem dJ17_rangeCheck_69 : decode cJ17_rangeCheck 69 = .ok (.invokespecial 70, 3) := dk_183 0 70 (dk_at dksJ17_rangeCheck_3 0 rfl rfl)
theorem dJ17_rangeCheck_72 : decode cJ17_rangeCheck 72 = .ok (.athrow, 1) := dk_191 (dk_at dksJ17_rangeCheck_3 3 rfl rfl)
theorem dJ17_rangeCheck_73 : decode cJ17_rangeCheck 73 = .ok (.return_, 1) := dk_177 (dk_at dksJ17_rangeCheck_3 4 rfl rfl)
theorem q84 : (Jvm.Cond.initialized "java/util/Arrays") ∈ lw_all := lw_g (lw_at lw_m1 23 rfl) rfl
theorem q500 : (Jvm.Cond.static ({ cls := "java/util/Arrays", name := "copyOf", desc := "([Ljava/lang/Object;I)[Ljava/lang/Object;" } : Jvm.MethodName)) ∈ lw_all := lw_g (lw_at lw_m2 199 rfl) rfl
theorem q501 : (Jvm.Cond.code ({ cls := "java/util/Arrays", name := "copyOf", desc := "([Ljava/lang/Object;I)[Ljava/lang/Object;" } : Jvm.MethodName) prog_49_method_119_code (2 : Nat) (Option.some (Jvm.ClassFile.FieldType.array (Jvm.ClassFile.FieldType.object "java/lang/Object")))) ∈ lw_all := lw_g (lw_at lw_m2 200 rfl) rfl
theorem q502 : (Jvm.Cond.methodLink "java/util/Arrays" (86 : Nat) ({ cls := "java/lang/Object", name := "getClass", desc := "()Ljava/lang/Class;" } : Jvm.MethodName)) ∈ lw_all := lw_g (lw_at lw_m2 201 rfl) rfl
theorem q531 : (Jvm.Cond.methodLink "java/util/Arrays" (300 : Nat) ({ cls := "java/util/Arrays", name := "copyOf", desc := "([Ljava/lang/Object;ILjava/lang/Class;)[Ljava/lang/Object;" } : Jvm.MethodName)) ∈ lw_all := lw_g (lw_at lw_m2 230 rfl) rfl
theorem q532 : (Jvm.Cond.static ({ cls := "java/util/Arrays", name := "copyOf", desc := "([Ljava/lang/Object;ILjava/lang/Class;)[Ljava/lang/Object;" } : Jvm.MethodName)) ∈ lw_all := lw_g (lw_at lw_m2 231 rfl) rfl
theorem q533 : (Jvm.Cond.code ({ cls := "java/util/Arrays", name := "copyOf", desc := "([Ljava/lang/Object;ILjava/lang/Class;)[Ljava/lang/Object;" } : Jvm.MethodName) prog_49_method_120_code (4 : Nat) (Option.some (Jvm.ClassFile.FieldType.array (Jvm.ClassFile.FieldType.object "java/lang/Object")))) ∈ lw_all := lw_g (lw_at lw_m2 232 rfl) rfl
theorem q534 : (Jvm.Cond.classLink "java/util/Arrays" (110 : Nat) "[Ljava/lang/Object;") ∈ lw_all := lw_g (lw_at lw_m2 233 rfl) rfl
theorem q535 : (Jvm.Cond.classLink "java/util/Arrays" (2 : Nat) "java/lang/Object") ∈ lw_all := lw_g (lw_at lw_m2 234 rfl) rfl
theorem q536 : (Jvm.Cond.methodLink "java/util/Arrays" (304 : Nat) ({ cls := "java/lang/Math", name := "min", desc := "(II)I" } : Jvm.MethodName)) ∈ lw_all := lw_g (lw_at lw_m2 235 rfl) rfl
theorem q539 : (Jvm.Cond.methodLink "java/util/Arrays" (150 : Nat) ({ cls := "java/lang/System", name := "arraycopy", desc := "(Ljava/lang/Object;ILjava/lang/Object;II)V" } : Jvm.MethodName)) ∈ lw_all := lw_g (lw_at lw_m2 238 rfl) rfl
theorem q564 : (Jvm.Cond.static ({ cls := "java/util/Arrays", name := "copyOfRange", desc := "([Ljava/lang/Object;IILjava/lang/Class;)[Ljava/lang/Object;" } : Jvm.MethodName)) ∈ lw_all := lw_g (lw_at lw_m3 23 rfl) rfl
theorem q565 : (Jvm.Cond.code ({ cls := "java/util/Arrays", name := "copyOfRange", desc := "([Ljava/lang/Object;IILjava/lang/Class;)[Ljava/lang/Object;" } : Jvm.MethodName) prog_49_method_130_code (6 : Nat) (Option.some (Jvm.ClassFile.FieldType.array (Jvm.ClassFile.FieldType.object "java/lang/Object")))) ∈ lw_all := lw_g (lw_at lw_m3 24 rfl) rfl
theorem q566 : (Jvm.Cond.classLink "java/util/Arrays" (43 : Nat) "java/lang/IllegalArgumentException") ∈ lw_all := lw_g (lw_at lw_m3 25 rfl) rfl
theorem q575 : (Jvm.Cond.classLink "java/util/Arrays" (45 : Nat) "java/lang/StringBuilder") ∈ lw_all := lw_g (lw_at lw_m3 34 rfl) rfl
theorem q576 : (Jvm.Cond.methodLink "java/util/Arrays" (47 : Nat) ({ cls := "java/lang/StringBuilder", name := "<init>", desc := "()V" } : Jvm.MethodName)) ∈ lw_all := lw_g (lw_at lw_m3 35 rfl) rfl
theorem q577 : (Jvm.Cond.methodLink "java/util/Arrays" (54 : Nat) ({ cls := "java/lang/StringBuilder", name := "append", desc := "(I)Ljava/lang/StringBuilder;" } : Jvm.MethodName)) ∈ lw_all := lw_g (lw_at lw_m3 36 rfl) rfl
theorem q598 : (Jvm.Cond.static ({ cls := "java/util/Arrays", name := "copyOf", desc := "([BI)[B" } : Jvm.MethodName)) ∈ lw_all := lw_g (lw_at lw_m3 57 rfl) rfl
theorem q599 : (Jvm.Cond.code ({ cls := "java/util/Arrays", name := "copyOf", desc := "([BI)[B" } : Jvm.MethodName) prog_49_method_121_code (3 : Nat) (Option.some (Jvm.ClassFile.FieldType.array Jvm.ClassFile.FieldType.byte))) ∈ lw_all := lw_g (lw_at lw_m3 58 rfl) rfl
theorem q600 : (Jvm.Cond.methodLink "java/util/Arrays" (310 : Nat) ({ cls := "[B", name := "clone", desc := "()Ljava/lang/Object;" } : Jvm.MethodName)) ∈ lw_all := lw_g (lw_at lw_m3 59 rfl) rfl
theorem q606 : (Jvm.Cond.classLink "java/util/Arrays" (311 : Nat) "[B") ∈ lw_all := lw_g (lw_at lw_m3 65 rfl) rfl
theorem q650 : (Jvm.Cond.stringRef "java/util/Arrays" (337 : Nat) " > ") ∈ lw_tbl := lw_at lw_m3 109 rfl
theorem q651 : (Jvm.Cond.methodLink "java/util/Arrays" (50 : Nat) ({ cls := "java/lang/StringBuilder", name := "append", desc := "(Ljava/lang/String;)Ljava/lang/StringBuilder;" } : Jvm.MethodName)) ∈ lw_all := lw_g (lw_at lw_m3 110 rfl) rfl
theorem q708 : (Jvm.Cond.methodLink "java/util/Arrays" (61 : Nat) ({ cls := "java/lang/StringBuilder", name := "toString", desc := "()Ljava/lang/String;" } : Jvm.MethodName)) ∈ lw_all := lw_g (lw_at lw_m3 167 rfl) rfl
theorem q736 : (Jvm.Cond.static ({ cls := "java/util/Arrays", name := "copyOfRange", desc := "([BII)[B" } : Jvm.MethodName)) ∈ lw_all := lw_g (lw_at lw_m3 195 rfl) rfl
theorem q737 : (Jvm.Cond.code ({ cls := "java/util/Arrays", name := "copyOfRange", desc := "([BII)[B" } : Jvm.MethodName) prog_49_method_132_code (3 : Nat) (Option.some (Jvm.ClassFile.FieldType.array Jvm.ClassFile.FieldType.byte))) ∈ lw_all := lw_g (lw_at lw_m3 196 rfl) rfl
theorem q738 : (Jvm.Cond.methodLink "java/util/Arrays" (339 : Nat) ({ cls := "java/util/Arrays", name := "copyOfRangeByte", desc := "([BII)[B" } : Jvm.MethodName)) ∈ lw_all := lw_g (lw_at lw_m3 197 rfl) rfl
theorem q739 : (Jvm.Cond.static ({ cls := "java/util/Arrays", name := "copyOfRangeByte", desc := "([BII)[B" } : Jvm.MethodName)) ∈ lw_all := lw_g (lw_at lw_m3 198 rfl) rfl
theorem q740 : (Jvm.Cond.code ({ cls := "java/util/Arrays", name := "copyOfRangeByte", desc := "([BII)[B" } : Jvm.MethodName) prog_49_method_133_code (5 : Nat) (Option.some (Jvm.ClassFile.FieldType.array Jvm.ClassFile.FieldType.byte))) ∈ lw_all := lw_g (lw_at lw_m3 199 rfl) rfl
theorem q741 : (Jvm.Cond.methodLink "java/util/Arrays" (343 : Nat) ({ cls := "java/util/Arrays", name := "checkLength", desc := "(II)V" } : Jvm.MethodName)) ∈ lw_all := lw_g (lw_at lw_m3 200 rfl) rfl
theorem q742 : (Jvm.Cond.static ({ cls := "java/util/Arrays", name := "checkLength", desc := "(II)V" } : Jvm.MethodName)) ∈ lw_all := lw_g (lw_at lw_m3 201 rfl) rfl
theorem q743 : (Jvm.Cond.code ({ cls := "java/util/Arrays", name := "checkLength", desc := "(II)V" } : Jvm.MethodName) prog_49_method_131_code (2 : Nat) (Option.none : Option Jvm.ClassFile.FieldType)) ∈ lw_all := lw_g (lw_at lw_m3 202 rfl) rfl
theorem q744 : (Jvm.Cond.methodLink "java/util/Arrays" (65 : Nat) ({ cls := "java/lang/IllegalArgumentException", name := "<init>", desc := "(Ljava/lang/String;)V" } : Jvm.MethodName)) ∈ lw_all := lw_g (lw_at lw_m3 203 rfl) rfl
theorem q2086 : (Jvm.Cond.static ({ cls := "java/util/Arrays", name := "fill", desc := "([BIIB)V" } : Jvm.MethodName)) ∈ lw_all := lw_g (lw_at lw_m9 105 rfl) rfl
theorem q2087 : (Jvm.Cond.code ({ cls := "java/util/Arrays", name := "fill", desc := "([BIIB)V" } : Jvm.MethodName) prog_49_method_110_code (5 : Nat) (Option.none : Option Jvm.ClassFile.FieldType)) ∈ lw_all := lw_g (lw_at lw_m9 106 rfl) rfl
theorem q2088 : (Jvm.Cond.methodLink "java/util/Arrays" (13 : Nat) ({ cls := "java/util/Arrays", name := "rangeCheck", desc := "(III)V" } : Jvm.MethodName)) ∈ lw_all := lw_g (lw_at lw_m9 107 rfl) rfl
theorem q2089 : (Jvm.Cond.static ({ cls := "java/util/Arrays", name := "rangeCheck", desc := "(III)V" } : Jvm.MethodName)) ∈ lw_all := lw_g (lw_at lw_m9 108 rfl) rfl
theorem q2090 : (Jvm.Cond.code ({ cls := "java/util/Arrays", name := "rangeCheck", desc := "(III)V" } : Jvm.MethodName) prog_49_method_30_code (3 : Nat) (Option.none : Option Jvm.ClassFile.FieldType)) ∈ lw_all := lw_g (lw_at lw_m9 109 rfl) rfl
theorem q2091 : (Jvm.Cond.stringRef "java/util/Arrays" (48 : Nat) "fromIndex(") ∈ lw_tbl := lw_at lw_m9 110 rfl
theorem q2092 : (Jvm.Cond.stringRef "java/util/Arrays" (57 : Nat) ") > toIndex(") ∈ lw_tbl := lw_at lw_m9 111 rfl
theorem q2093 : (Jvm.Cond.stringRef "java/util/Arrays" (59 : Nat) ")") ∈ lw_tbl := lw_at lw_m9 112 rfl
theorem q2094 : (Jvm.Cond.classLink "java/util/Arrays" (68 : Nat) "java/lang/ArrayIndexOutOfBoundsException") ∈ lw_all := lw_g (lw_at lw_m9 113 rfl) rfl
theorem q2095 : (Jvm.Cond.methodLink "java/util/Arrays" (70 : Nat) ({ cls := "java/lang/ArrayIndexOutOfBoundsException", name := "<init>", desc := "(I)V" } : Jvm.MethodName)) ∈ lw_all := lw_g (lw_at lw_m9 114 rfl) rfl
/-! java/lang/Integer -/
set_option maxRecDepth 100000
def RJ18 : String := "java/lang/Integer"
abbrev cJ18_stringSize : ByteArray := prog_28_method_13_code
def yJ18_stringSize : MethodName := ⟨RJ18, "stringSize", "(I)I"⟩
def dkwJ18_stringSize_1 : List UInt8 := [164, 0, 7, 29, 27, 96, 172, 16, 10, 28, 104, 61, 132, 3, 1, 167, 255, 233, 16, 10, 27, 96, 172]
abbrev dktJ18_stringSize_1 : List UInt8 := dkwJ18_stringSize_1 ++ []
def dkwJ18_stringSize_0 : List UInt8 := [4, 60, 26, 155, 0, 8, 3, 60, 26, 116, 59, 16, 246, 61, 4, 62, 29, 16, 10, 162, 0, 23, 26, 28]
abbrev dktJ18_stringSize_0 : List UInt8 := dkwJ18_stringSize_0 ++ dktJ18_stringSize_1
theorem dksJ18_stringSize_0 : cJ18_stringSize.data.toList.drop 0 = dktJ18_stringSize_0 := by decide +kernel
theorem dksJ18_stringSize_1 : cJ18_stringSize.data.toList.drop 24 = dktJ18_stringSize_1 := dk_seg dksJ18_stringSize_0 24 rfl rfl
theorem dJ18_stringSize_0 : decode cJ18_stringSize 0 = .ok (.iconst 1, 1) := dk_4 (dk_at dksJ18_stringSize_0 0 rfl rfl)
theorem dJ18_stringSize_1 : decode cJ18_stringSize 1 = .ok (.istore_n 1, 1) := dk_60 (dk_at dksJ18_stringSize_0 1 rfl rfl)
theorem dJ18_stringSize_2 : decode cJ18_stringSize 2 = .ok (.iload_n 0, 1) := dk_26 (dk_at dksJ18_stringSize_0 2 rfl rfl)
theorem dJ18_stringSize_3 : decode cJ18_stringSize 3 = .ok (.ifCond .lt 8, 3) := dk_155 0 8 (dk_at dksJ18_stringSize_0 3 rfl rfl)
theorem dJ18_stringSize_6 : decode cJ18_stringSize 6 = .ok (.iconst 0, 1) := dk_3 (dk_at dksJ18_stringSize_0 6 rfl rfl)
theorem dJ18_stringSize_7 : decode cJ18_stringSize 7 = .ok (.istore_n 1, 1) := dk_60 (dk_at dksJ18_stringSize_0 7 rfl rfl)
theorem dJ18_stringSize_8 : decode cJ18_stringSize 8 = .ok (.iload_n 0, 1) := dk_26 (dk_at dksJ18_stringSize_0 8 rfl rfl)
theorem dJ18_stringSize_9 : decode cJ18_stringSize 9 = .ok (.ineg, 1) := dk_116 (dk_at dksJ18_stringSize_0 9 rfl rfl)
theorem dJ18_stringSize_10 : decode cJ18_stringSize 10 = .ok (.istore_n 0, 1) := dk_59 (dk_at dksJ18_stringSize_0 10 rfl rfl)
theorem dJ18_stringSize_11 : decode cJ18_stringSize 11 = .ok (.bipush (-10), 2) := dk_16 246 (dk_at dksJ18_stringSize_0 11 rfl rfl)
theorem dJ18_stringSize_13 : decode cJ18_stringSize 13 = .ok (.istore_n 2, 1) := dk_61 (dk_at dksJ18_stringSize_0 13 rfl rfl)
theorem dJ18_stringSize_14 : decode cJ18_stringSize 14 = .ok (.iconst 1, 1) := dk_4 (dk_at dksJ18_stringSize_0 14 rfl rfl)
theorem dJ18_stringSize_15 : decode cJ18_stringSize 15 = .ok (.istore_n 3, 1) := dk_62 (dk_at dksJ18_stringSize_0 15 rfl rfl)
theorem dJ18_stringSize_16 : decode cJ18_stringSize 16 = .ok (.iload_n 3, 1) := dk_29 (dk_at dksJ18_stringSize_0 16 rfl rfl)
theorem dJ18_stringSize_17 : decode cJ18_stringSize 17 = .ok (.bipush 10, 2) := dk_16 10 (dk_at dksJ18_stringSize_0 17 rfl rfl)
theorem dJ18_stringSize_19 : decode cJ18_stringSize 19 = .ok (.if_icmp .ge 23, 3) := dk_162 0 23 (dk_at dksJ18_stringSize_0 19 rfl rfl)
theorem dJ18_stringSize_22 : decode cJ18_stringSize 22 = .ok (.iload_n 0, 1) := dk_26 (dk_at dksJ18_stringSize_0 22 rfl rfl)
theorem dJ18_stringSize_23 : decode cJ18_stringSize 23 = .ok (.iload_n 2, 1) := dk_28 (dk_at dksJ18_stringSize_0 23 rfl rfl)
theorem dJ18_stringSize_24 : decode cJ18_stringSize 24 = .ok (.if_icmp .le 7, 3) := dk_164 0 7 (dk_at dksJ18_stringSize_1 0 rfl rfl)
theorem dJ18_stringSize_27 : decode cJ18_stringSize 27 = .ok (.iload_n 3, 1) := dk_29 (dk_at dksJ18_stringSize_1 3 rfl rfl)
theorem dJ18_stringSize_28 : decode cJ18_stringSize 28 = .ok (.iload_n 1, 1) := dk_27 (dk_at dksJ18_stringSize_1 4 rfl rfl)
theorem dJ18_stringSize_29 : decode cJ18_stringSize 29 = .ok (.iadd, 1) := dk_96 (dk_at dksJ18_stringSize_1 5 rfl rfl)
theorem dJ18_stringSize_30 : decode cJ18_stringSize 30 = .ok (.ireturn, 1) := dk_172 (dk_at dksJ18_stringSize_1 6 rfl rfl)
theorem dJ18_stringSize_31 : decode cJ18_stringSize 31 = .ok (.bipush 10, 2) := dk_16 10 (dk_at dksJ18_stringSize_1 7 rfl rfl)
theorem dJ18_stringSize_33 : decode cJ18_stringSize 33 = .ok (.iload_n 2, 1) := dk_28 (dk_at dksJ18_stringSize_1 9 rfl rfl)
theorem dJ18_stringSize_34 : decode cJ18_stringSize 34 = .ok (.imul, 1) := dk_104 (dk_at dksJ18_stringSize_1 10 rfl rfl)
theorem dJ18_stringSize_35 : decode cJ18_stringSize 35 = .ok (.istore_n 2, 1) := dk_61 (dk_at dksJ18_stringSize_1 11 rfl rfl)
theorem dJ18_stringSize_36 : decode cJ18_stringSize 36 = .ok (.iinc 3 1, 3) := dk_132 3 1 (dk_at dksJ18_stringSize_1 12 rfl rfl)
theorem dJ18_stringSize_39 : decode cJ18_stringSize 39 = .ok (.goto (-23), 3) := dk_167 255 233 (dk_at dksJ18_stringSize_1 15 rfl rfl)
theorem dJ18_stringSize_42 : decode cJ18_stringSize 42 = .ok (.bipush 10, 2) := dk_16 10 (dk_at dksJ18_stringSize_1 18 rfl rfl)
theorem dJ18_stringSize_44 : decode cJ18_stringSize 44 = .ok (.iload_n 1, 1) := dk_27 (dk_at dksJ18_stringSize_1 20 rfl rfl)
theorem dJ18_stringSize_45 : decode cJ18_stringSize 45 = .ok (.iadd, 1) := dk_96 (dk_at dksJ18_stringSize_1 21 rfl rfl)
theorem dJ18_stringSize_46 : decode cJ18_stringSize 46 = .ok (.ireturn, 1) := dk_172 (dk_at dksJ18_stringSize_1 22 rfl rfl)
abbrev cJ18_getChars : ByteArray := prog_28_method_12_code
def yJ18_getChars : MethodName := ⟨RJ18, "getChars", "(II[B)I"⟩
def dkwJ18_getChars_5 : List UInt8 := [16, 45, 84, 21, 5, 172]
abbrev dktJ18_getChars_5 : List UInt8 := dkwJ18_getChars_5 ++ []
def dkwJ18_getChars_4 : List UInt8 := [132, 5, 255, 21, 5, 178, 0, 87, 26, 116, 51, 84, 21, 6, 153, 0, 12, 44, 132, 5, 255, 21, 5]
abbrev dktJ18_getChars_4 : List UInt8 := dkwJ18_getChars_4 ++ dktJ18_getChars_5
def dkwJ18_getChars_3 : List UInt8 := [167, 255, 209, 44, 132, 5, 255, 21, 5, 178, 0, 83, 26, 116, 51, 84, 26, 16, 247, 162, 0, 16, 44]
abbrev dktJ18_getChars_3 : List UInt8 := dkwJ18_getChars_3 ++ dktJ18_getChars_4
def dkwJ18_getChars_2 : List UInt8 := [21, 5, 178, 0, 83, 21, 4, 51, 84, 44, 132, 5, 255, 21, 5, 178, 0, 87, 21, 4, 51, 84]
abbrev dktJ18_getChars_2 : List UInt8 := dkwJ18_getChars_2 ++ dktJ18_getChars_3
def dkwJ18_getChars_1 : List UInt8 := [16, 156, 163, 0, 47, 26, 16, 100, 108, 62, 29, 16, 100, 104, 26, 100, 54, 4, 29, 59, 44, 132, 5, 255]
abbrev dktJ18_getChars_1 : List UInt8 := dkwJ18_getChars_1 ++ dktJ18_getChars_2
def dkwJ18_getChars_0 : List UInt8 := [27, 54, 5, 26, 156, 0, 7, 4, 167, 0, 4, 3, 54, 6, 21, 6, 154, 0, 6, 26, 116, 59, 26]
abbrev dktJ18_getChars_0 : List UInt8 := dkwJ18_getChars_0 ++ dktJ18_getChars_1
theorem dksJ18_getChars_0 : cJ18_getChars.data.toList.drop 0 = dktJ18_getChars_0 := by decide +kernel
theorem dksJ18_getChars_1 : cJ18_getChars.data.toList.drop 23 = dktJ18_getChars_1 := dk_seg dksJ18_getChars_0 23 rfl rfl
theorem dksJ18_getChars_2 : cJ18_getChars.data.toList.drop 47 = dktJ18_getChars_2 := dk_seg dksJ18_getChars_1 24 rfl rfl
theorem dksJ18_getChars_3 : cJ18_getChars.data.toList.drop 69 = dktJ18_getChars_3 := dk_seg dksJ18_getChars_2 22 rfl rfl
theorem dksJ18_getChars_4 : cJ18_getChars.data.toList.drop 92 = dktJ18_getChars_4 := dk_seg dksJ18_getChars_3 23 rfl rfl
theorem dksJ18_getChars_5 : cJ18_getChars.data.toList.drop 115 = dktJ18_getChars_5 := dk_seg dksJ18_getChars_4 23 rfl rfl
theorem dJ18_getChars_0 : decode cJ18_getChars 0 = .ok (.iload_n 1, 1) := dk_27 (dk_at dksJ18_getChars_0 0 rfl rfl)
theorem dJ18_getChars_1 : decode cJ18_getChars 1 = .ok (.istore 5, 2) := dk_54 5 (dk_at dksJ18_getChars_0 1 rfl rfl)
theorem dJ18_getChars_3 : decode cJ18_getChars 3 = .ok (.iload_n 0, 1) := dk_26 (dk_at dksJ18_getChars_0 3 rfl rfl)
theorem dJ18_getChars_4 : decode cJ18_getChars 4 = .ok (.ifCond .ge 7, 3) := dk_156 0 7 (dk_at dksJ18_getChars_0 4 rfl rfl)
theorem dJ18_getChars_7 : decode cJ18_getChars 7 = .ok (.iconst 1, 1) := dk_4 (dk_at dksJ18_getChars_0 7 rfl rfl)
theorem dJ18_getChars_8 : decode cJ18_getChars 8 = .ok (.goto 4, 3) := dk_167 0 4 (dk_at dksJ18_getChars_0 8 rfl rfl)
theorem dJ18_getChars_11 : decode cJ18_getChars 11 = .ok (.iconst 0, 1) := dk_3 (dk_at dksJ18_getChars_0 11 rfl rfl)
theorem dJ18_getChars_12 : decode cJ18_getChars 12 = .ok (.istore 6, 2) := dk_54 6 (dk_at dksJ18_getChars_0 12 rfl rfl)
theorem dJ18_getChars_14 : decode cJ18_getChars 14 = .ok (.iload 6, 2) := dk_21 6 (dk_at dksJ18_getChars_0 14 rfl rfl)
theorem dJ18_getChars_16 : decode cJ18_getChars 16 = .ok (.ifCond .ne 6, 3) := dk_154 0 6 (dk_at dksJ18_getChars_0 16 rfl rfl)
theorem dJ18_getChars_19 : decode cJ18_getChars 19 = .ok (.iload_n 0, 1) := dk_26 (dk_at dksJ18_getChars_0 19 rfl rfl)
theorem dJ18_getChars_20 : decode cJ18_getChars 20 = .ok (.ineg, 1) := dk_116 (dk_at dksJ18_getChars_0 20 rfl rfl)
theorem dJ18_getChars_21 : decode cJ18_getChars 21 = .ok (.istore_n 0, 1) := dk_59 (dk_at dksJ18_getChars_0 21 rfl rfl)
theorem dJ18_getChars_22 : decode cJ18_getChars 22 = .ok (.iload_n 0, 1) := dk_26 (dk_at dksJ18_getChars_0 22 rfl rfl)
theorem dJ18_getChars_23 : decode cJ18_getChars 23 = .ok (.bipush (-100), 2) := dk_16 156 (dk_at dksJ18_getChars_1 0 rfl rfl)
theorem dJ18_getChars_25 : decode cJ18_getChars 25 = .ok (.if_icmp .gt 47, 3) := dk_163 0 47 (dk_at dksJ18_getChars_1 2 rfl rfl)
theorem dJ18_getChars_28 : decode cJ18_getChars 28 = .ok (.iload_n 0, 1) := dk_26 (dk_at dksJ18_getChars_1 5 rfl rfl)
theorem dJ18_getChars_29 : decode cJ18_getChars 29 = .ok (.bipush 100, 2) := dk_16 100 (dk_at dksJ18_getChars_1 6 rfl rfl)
theorem dJ18_getChars_31 : decode cJ18_getChars 31 = .ok (.idiv, 1) := dk_108 (dk_at dksJ18_getChars_1 8 rfl rfl)
theorem dJ18_getChars_32 : decode cJ18_getChars 32 = .ok (.istore_n 3, 1) := dk_62 (dk_at dksJ18_getChars_1 9 rfl rfl)
theorem dJ18_getChars_33 : decode cJ18_getChars 33 = .ok (.iload_n 3, 1) := dk_29 (dk_at dksJ18_getChars_1 10 rfl rfl)
theorem dJ18_getChars_34 : decode cJ18_getChars 34 = .ok (.bipush 100, 2) := dk_16 100 (dk_at dksJ18_getChars_1 11 rfl rfl)
theorem dJ18_getChars_36 : decode cJ18_getChars 36 = .ok (.imul, 1) := dk_104 (dk_at dksJ18_getChars_1 13 rfl rfl)
theorem dJ18_getChars_37 : decode cJ18_getChars 37 = .ok (.iload_n 0, 1) := dk_26 (dk_at dksJ18_getChars_1 14 rfl rfl)
theorem dJ18_getChars_38 : decode cJ18_getChars 38 = .ok (.isub, 1) := dk_100 (dk_at dksJ18_getChars_1 15 rfl rfl)
theorem dJ18_getChars_39 : decode cJ18_getChars 39 = .ok (.istore 4, 2) := dk_54 4 (dk_at dksJ18_getChars_1 16 rfl rfl)
theorem dJ18_getChars_41 : decode cJ18_getChars 41 = .ok (.iload_n 3, 1) := dk_29 (dk_at dksJ18_getChars_1 18 rfl rfl)
theorem dJ18_getChars_42 : decode cJ18_getChars 42 = .ok (.istore_n 0, 1) := dk_59 (dk_at dksJ18_getChars_1 19 rfl rfl)
theorem dJ18_getChars_43 : decode cJ18_getChars 43 = .ok (.aload_n 2, 1) := dk_44 (dk_at dksJ18_getChars_1 20 rfl rfl)
theorem dJ18_getChars_44 : decode cJ18_getChars 44 = .ok (.iinc 5 (-1), 3) := dk_132 5 255 (dk_at dksJ18_getChars_1 21 rfl rfl)
theorem dJ18_getChars_47 : decode cJ18_getChars 47 = .ok (.iload 5, 2) := dk_21 5 (dk_at dksJ18_getChars_2 0 rfl rfl)
theorem dJ18_getChars_49 : decode cJ18_getChars 49 = .ok (.getstatic 83, 3) := dk_178 0 83 (dk_at dksJ18_getChars_2 2 rfl rfl)
theorem dJ18_getChars_52 : decode cJ18_getChars 52 = .ok (.iload 4, 2) := dk_21 4 (dk_at dksJ18_getChars_2 5 rfl rfl)
theorem dJ18_getChars_54 : decode cJ18_getChars 54 = .ok (.baload, 1) := dk_51 (dk_at dksJ18_getChars_2 7 rfl rfl)
theorem dJ18_getChars_55 : decode cJ18_getChars 55 = .ok (.bastore, 1) := dk_84 (dk_at dksJ18_getChars_2 8 rfl rfl)
theorem dJ18_getChars_56 : decode cJ18_getChars 56 = .ok (.aload_n 2, 1) := dk_44 (dk_at dksJ18_getChars_2 9 rfl rfl)
theorem dJ18_getChars_57 : decode cJ18_getChars 57 = .ok (.iinc 5 (-1), 3) := dk_132 5 255 (dk_at dksJ18_getChars_2 10 rfl rfl)
theorem dJ18_getChars_60 : decode cJ18_getChars 60 = .ok (.iload 5, 2) := dk_21 5 (dk_at dksJ18_getChars_2 13 rfl rfl)
theorem dJ18_getChars_62 : decode cJ18_getChars 62 = .ok (.getstatic 87, 3) := dk_178 0 87 (dk_at dksJ18_getChars_2 15 rfl rfl)
theorem dJ18_getChars_65 : decode cJ18_getChars 65 = .ok (.iload 4, 2) := dk_21 4 (dk_at dksJ18_getChars_2 18 rfl rfl)
theorem dJ18_getChars_67 : decode cJ18_getChars 67 = .ok (.baload, 1) := dk_51 (dk_at dksJ18_getChars_2 20 rfl rfl)
theorem dJ18_getChars_68 : decode cJ18_getChars 68 = .ok (.bastore, 1) := dk_84 (dk_at dksJ18_getChars_2 21 rfl rfl)
theorem dJ18_getChars_69 : decode cJ18_getChars 69 = .ok (.goto (-47), 3) := dk_167 255 209 (dk_at dksJ18_getChars_3 0 rfl rfl)
theorem dJ18_getChars_72 : decode cJ18_getChars 72 = .ok (.aload_n 2, 1) := dk_44 (dk_at dksJ18_getChars_3 3 rfl rfl)
theorem dJ18_getChars_73 : decode cJ18_getChars 73 = .ok (.iinc 5 (-1), 3) := dk_132 5 255 (dk_at dksJ18_getChars_3 4 rfl rfl)
theorem dJ18_getChars_76 : decode cJ18_getChars 76 = .ok (.iload 5, 2) := dk_21 5 (dk_at dksJ18_getChars_3 7 rfl rfl)
theorem dJ18_getChars_78 : decode cJ18_getChars 78 = .ok (.getstatic 83, 3) := dk_178 0 83 (dk_at dksJ18_getChars_3 9 rfl rfl)
theorem dJ18_getChars_81 : decode cJ18_getChars 81 = .ok (.iload_n 0, 1) := dk_26 (dk_at dksJ18_getChars_3 12 rfl rfl)
theorem dJ18_getChars_82 : decode cJ18_getChars 82 = .ok (.ineg, 1) := dk_116 (dk_at dksJ18_getChars_3 13 rfl rfl)
theorem dJ18_getChars_83 : decode cJ18_getChars 83 = .ok (.baload, 1) := dk_51 (dk_at dksJ18_getChars_3 14 rfl rfl)
theorem dJ18_getChars_84 : decode cJ18_getChars 84 = .ok (.bastore, 1) := dk_84 (dk_at dksJ18_getChars_3 15 rfl rfl)
theorem dJ18_getChars_85 : decode cJ18_getChars 85 = .ok (.iload_n 0, 1) := dk_26 (dk_at dksJ18_getChars_3 16 rfl rfl)
theorem dJ18_getChars_86 : decode cJ18_getChars 86 = .ok (.bipush (-9), 2) := dk_16 247 (dk_at dksJ18_getChars_3 17 rfl rfl)
theorem dJ18_getChars_88 : decode cJ18_getChars 88 = .ok (.if_icmp .ge 16, 3) := dk_162 0 16 (dk_at dksJ18_getChars_3 19 rfl rfl)
theorem dJ18_getChars_91 : decode cJ18_getChars 91 = .ok (.aload_n 2, 1) := dk_44 (dk_at dksJ18_getChars_3 22 rfl rfl)
theorem dJ18_getChars_92 : decode cJ18_getChars 92 = .ok (.iinc 5 (-1), 3) := dk_132 5 255 (dk_at dksJ18_getChars_4 0 rfl rfl)
theorem dJ18_getChars_95 : decode cJ18_getChars 95 = .ok (.iload 5, 2) := dk_21 5 (dk_at dksJ18_getChars_4 3 rfl rfl)
theorem dJ18_getChars_97 : decode cJ18_getChars 97 = .ok (.getstatic 87, 3) := dk_178 0 87 (dk_at dksJ18_getChars_4 5 rfl rfl)
theorem dJ18_getChars_100 : decode cJ18_getChars 100 = .ok (.iload_n 0, 1) := dk_26 (dk_at dksJ18_getChars_4 8 rfl rfl)
theorem dJ18_getChars_101 : decode cJ18_getChars 101 = .ok (.ineg, 1) := dk_116 (dk_at dksJ18_getChars_4 9 rfl rfl)
theorem dJ18_getChars_102 : decode cJ18_getChars 102 = .ok (.baload, 1) := dk_51 (dk_at dksJ18_getChars_4 10 rfl rfl)
theorem dJ18_getChars_103 : decode cJ18_getChars 103 = .ok (.bastore, 1) := dk_84 (dk_at dksJ18_getChars_4 11 rfl rfl)
theorem dJ18_getChars_104 : decode cJ18_getChars 104 = .ok (.iload 6, 2) := dk_21 6 (dk_at dksJ18_getChars_4 12 rfl rfl)
theorem dJ18_getChars_106 : decode cJ18_getChars 106 = .ok (.ifCond .eq 12, 3) := dk_153 0 12 (dk_at dksJ18_getChars_4 14 rfl rfl)
theorem dJ18_getChars_109 : decode cJ18_getChars 109 = .ok (.aload_n 2, 1) := dk_44 (dk_at dksJ18_getChars_4 17 rfl rfl)
theorem dJ18_getChars_110 : decode cJ18_getChars 110 = .ok (.iinc 5 (-1), 3) := dk_132 5 255 (dk_at dksJ18_getChars_4 18 rfl rfl)
theorem dJ18_getChars_113 : decode cJ18_getChars 113 = .ok (.iload 5, 2) := dk_21 5 (dk_at dksJ18_getChars_4 21 rfl rfl)
theorem dJ18_getChars_115 : decode cJ18_getChars 115 = .ok (.bipush 45, 2) := dk_16 45 (dk_at dksJ18_getChars_5 0 rfl rfl)
theorem dJ18_getChars_117 : decode cJ18_getChars 117 = .ok (.bastore, 1) := dk_84 (dk_at dksJ18_getChars_5 2 rfl rfl)
theorem dJ18_getChars_118 : decode cJ18_getChars 118 = .ok (.iload 5, 2) := dk_21 5 (dk_at dksJ18_getChars_5 3 rfl rfl)
theorem dJ18_getChars_120 : decode cJ18_getChars 120 = .ok (.ireturn, 1) := dk_172 (dk_at dksJ18_getChars_5 5 rfl rfl)
theorem q87 : (Jvm.Cond.initialized "java/lang/Integer") ∈ lw_all := lw_g (lw_at lw_m1 26 rfl) rfl
theorem q585 : (Jvm.Cond.static ({ cls := "java/lang/Integer", name := "stringSize", desc := "(I)I" } : Jvm.MethodName)) ∈ lw_all := lw_g (lw_at lw_m3 44 rfl) rfl
theorem q586 : (Jvm.Cond.code ({ cls := "java/lang/Integer", name := "stringSize", desc := "(I)I" } : Jvm.MethodName) prog_28_method_13_code (4 : Nat) (Option.some Jvm.ClassFile.FieldType.int)) ∈ lw_all := lw_g (lw_at lw_m3 45 rfl) rfl
theorem q613 : (Jvm.Cond.static ({ cls := "java/lang/Integer", name := "getChars", desc := "(II[B)I" } : Jvm.MethodName)) ∈ lw_all := lw_g (lw_at lw_m3 72 rfl) rfl
theorem q614 : (Jvm.Cond.code ({ cls := "java/lang/Integer", name := "getChars", desc := "(II[B)I" } : Jvm.MethodName) prog_28_method_12_code (7 : Nat) (Option.some Jvm.ClassFile.FieldType.int)) ∈ lw_all := lw_g (lw_at lw_m3 73 rfl) rfl
theorem q615 : (Jvm.Cond.fieldLink "java/lang/Integer" (83 : Nat) "java/lang/Integer" "DigitOnes" "[B") ∈ lw_all := lw_g (lw_at lw_m3 74 rfl) rfl
theorem q616 : (Jvm.Cond.laysStatic "java/lang/Integer" "DigitOnes" "[B") ∈ lw_tbl := lw_at lw_m3 75 rfl
theorem q617 : (Jvm.Cond.fieldLink "java/lang/Integer" (87 : Nat) "java/lang/Integer" "DigitTens" "[B") ∈ lw_all := lw_g (lw_at lw_m3 76 rfl) rfl
theorem q618 : (Jvm.Cond.laysStatic "java/lang/Integer" "DigitTens" "[B") ∈ lw_tbl := lw_at lw_m3 77 rfl
/-! jdk/internal/util/Preconditions -/
set_option maxRecDepth 100000
def RJ19 : String := "jdk/internal/util/Preconditions"
abbrev cJ19_checkFromToIndex : ByteArray := prog_61_method_12_code
def yJ19_checkFromToIndex : MethodName := ⟨RJ19, "checkFromToIndex", "(IIILjava/util/function/BiFunction;)I"⟩
def dkwJ19_checkFromToIndex_0 : List UInt8 := [26, 155, 0, 13, 26, 27, 163, 0, 8, 27, 28, 164, 0, 11, 45, 26, 27, 28, 184, 0, 99, 191, 26, 172]
abbrev dktJ19_checkFromToIndex_0 : List UInt8 := dkwJ19_checkFromToIndex_0 ++ []
theorem dksJ19_checkFromToIndex_0 : cJ19_checkFromToIndex.data.toList.drop 0 = dktJ19_checkFromToIndex_0 := by decide +kernel
theorem dJ19_checkFromToIndex_0 : decode cJ19_checkFromToIndex 0 = .ok (.iload_n 0, 1) := dk_26 (dk_at dksJ19_checkFromToIndex_0 0 rfl rfl)
theorem dJ19_checkFromToIndex_1 : decode cJ19_checkFromToIndex 1 = .ok (.ifCond .lt 13, 3) := dk_155 0 13 (dk_at dksJ19_checkFromToIndex_0 1 rfl rfl)
theorem dJ19_checkFromToIndex_4 : decode cJ19_checkFromToIndex 4 = .ok (.iload_n 0, 1) := dk_26 (dk_at dksJ19_checkFromToIndex_0 4 rfl rfl)
theorem dJ19_checkFromToIndex_5 : decode cJ19_checkFromToIndex 5 = .ok (.iload_n 1, 1) := dk_27 (dk_at dksJ19_checkFromToIndex_0 5 rfl rfl)
theorem dJ19_checkFromToIndex_6 : decode cJ19_checkFromToIndex 6 = .ok (.if_icmp .gt 8, 3) := dk_163 0 8 (dk_at dksJ19_checkFromToIndex_0 6 rfl rfl)
theorem dJ19_checkFromToIndex_9 : decode cJ19_checkFromToIndex 9 = .ok (.iload_n 1, 1) := dk_27 (dk_at dksJ19_checkFromToIndex_0 9 rfl rfl)
theorem dJ19_checkFromToIndex_10 : decode cJ19_checkFromToIndex 10 = .ok (.iload_n 2, 1) := dk_28 (dk_at dksJ19_checkFromToIndex_0 10 rfl rfl)
theorem dJ19_checkFromToIndex_11 : decode cJ19_checkFromToIndex 11 = .ok (.if_icmp .le 11, 3) := dk_164 0 11 (dk_at dksJ19_checkFromToIndex_0 11 rfl rfl)
theorem dJ19_checkFromToIndex_14 : decode cJ19_checkFromToIndex 14 = .ok (.aload_n 3, 1) := dk_45 (dk_at dksJ19_checkFromToIndex_0 14 rfl rfl)
theorem dJ19_checkFromToIndex_15 : decode cJ19_checkFromToIndex 15 = .ok (.iload_n 0, 1) := dk_26 (dk_at dksJ19_checkFromToIndex_0 15 rfl rfl)
theorem dJ19_checkFromToIndex_16 : decode cJ19_checkFromToIndex 16 = .ok (.iload_n 1, 1) := dk_27 (dk_at dksJ19_checkFromToIndex_0 16 rfl rfl)
theorem dJ19_checkFromToIndex_17 : decode cJ19_checkFromToIndex 17 = .ok (.iload_n 2, 1) := dk_28 (dk_at dksJ19_checkFromToIndex_0 17 rfl rfl)
theorem dJ19_checkFromToIndex_18 : decode cJ19_checkFromToIndex 18 = .ok (.invokestatic 99, 3) := dk_184 0 99 (dk_at dksJ19_checkFromToIndex_0 18 rfl rfl)
theorem dJ19_checkFromToIndex_21 : decode cJ19_checkFromToIndex 21 = .ok (.athrow, 1) := dk_191 (dk_at dksJ19_checkFromToIndex_0 21 rfl rfl)
theorem dJ19_checkFromToIndex_22 : decode cJ19_checkFromToIndex 22 = .ok (.iload_n 0, 1) := dk_26 (dk_at dksJ19_checkFromToIndex_0 22 rfl rfl)
theorem dJ19_checkFromToIndex_23 : decode cJ19_checkFromToIndex 23 = .ok (.ireturn, 1) := dk_172 (dk_at dksJ19_checkFromToIndex_0 23 rfl rfl)
abbrev cJ19_checkFromIndexSize : ByteArray := prog_61_method_13_code
def yJ19_checkFromIndexSize : MethodName := ⟨RJ19, "checkFromIndexSize", "(IIILjava/util/function/BiFunction;)I"⟩
def dkwJ19_checkFromIndexSize_1 : List UInt8 := [172]
abbrev dktJ19_checkFromIndexSize_1 : List UInt8 := dkwJ19_checkFromIndexSize_1 ++ []
def dkwJ19_checkFromIndexSize_0 : List UInt8 := [28, 26, 128, 27, 128, 155, 0, 10, 27, 28, 26, 100, 164, 0, 11, 45, 26, 27, 28, 184, 0, 103, 191, 26]
abbrev dktJ19_checkFromIndexSize_0 : List UInt8 := dkwJ19_checkFromIndexSize_0 ++ dktJ19_checkFromIndexSize_1
theorem dksJ19_checkFromIndexSize_0 : cJ19_checkFromIndexSize.data.toList.drop 0 = dktJ19_checkFromIndexSize_0 := by decide +kernel
theorem dksJ19_checkFromIndexSize_1 : cJ19_checkFromIndexSize.data.toList.drop 24 = dktJ19_checkFromIndexSize_1 := dk_seg dksJ19_checkFromIndexSize_0 24 rfl rfl
theorem dJ19_checkFromIndexSize_0 : decode cJ19_checkFromIndexSize 0 = .ok (.iload_n 2, 1) := dk_28 (dk_at dksJ19_checkFromIndexSize_0 0 rfl rfl)
theorem dJ19_checkFromIndexSize_1 : decode cJ19_checkFromIndexSize 1 = .ok (.iload_n 0, 1) := dk_26 (dk_at dksJ19_checkFromIndexSize_0 1 rfl rfl)
theorem dJ19_checkFromIndexSize_2 : decode cJ19_checkFromIndexSize 2 = .ok (.ior, 1) := dk_128 (dk_at dksJ19_checkFromIndexSize_0 2 rfl rfl)
theorem dJ19_checkFromIndexSize_3 : decode cJ19_checkFromIndexSize 3 = .ok (.iload_n 1, 1) := dk_27 (dk_at dksJ19_checkFromIndexSize_0 3 rfl rfl)
theorem dJ19_checkFromIndexSize_4 : decode cJ19_checkFromIndexSize 4 = .ok (.ior, 1) := dk_128 (dk_at dksJ19_checkFromIndexSize_0 4 rfl rfl)
theorem dJ19_checkFromIndexSize_5 : decode cJ19_checkFromIndexSize 5 = .ok (.ifCond .lt 10, 3) := dk_155 0 10 (dk_at dksJ19_checkFromIndexSize_0 5 rfl rfl)
theorem dJ19_checkFromIndexSize_8 : decode cJ19_checkFromIndexSize 8 = .ok (.iload_n 1, 1) := dk_27 (dk_at dksJ19_checkFromIndexSize_0 8 rfl rfl)
theorem dJ19_checkFromIndexSize_9 : decode cJ19_checkFromIndexSize 9 = .ok (.iload_n 2, 1) := dk_28 (dk_at dksJ19_checkFromIndexSize_0 9 rfl rfl)
theorem dJ19_checkFromIndexSize_10 : decode cJ19_checkFromIndexSize 10 = .ok (.iload_n 0, 1) := dk_26 (dk_at dksJ19_checkFromIndexSize_0 10 rfl rfl)
theorem dJ19_checkFromIndexSize_11 : decode cJ19_checkFromIndexSize 11 = .ok (.isub, 1) := dk_100 (dk_at dksJ19_checkFromIndexSize_0 11 rfl rfl)
theorem dJ19_checkFromIndexSize_12 : decode cJ19_checkFromIndexSize 12 = .ok (.if_icmp .le 11, 3) := dk_164 0 11 (dk_at dksJ19_checkFromIndexSize_0 12 rfl rfl)
theorem dJ19_checkFromIndexSize_15 : decode cJ19_checkFromIndexSize 15 = .ok (.aload_n 3, 1) := dk_45 (dk_at dksJ19_checkFromIndexSize_0 15 rfl rfl)
theorem dJ19_checkFromIndexSize_16 : decode cJ19_checkFromIndexSize 16 = .ok (.iload_n 0, 1) := dk_26 (dk_at dksJ19_checkFromIndexSize_0 16 rfl rfl)
theorem dJ19_checkFromIndexSize_17 : decode cJ19_checkFromIndexSize 17 = .ok (.iload_n 1, 1) := dk_27 (dk_at dksJ19_checkFromIndexSize_0 17 rfl rfl)
theorem dJ19_checkFromIndexSize_18 : decode cJ19_checkFromIndexSize 18 = .ok (.iload_n 2, 1) := dk_28 (dk_at dksJ19_checkFromIndexSize_0 18 rfl rfl)
theorem dJ19_checkFromIndexSize_19 : decode cJ19_checkFromIndexSize 19 = .ok (.invokestatic 103, 3) := dk_184 0 103 (dk_at dksJ19_checkFromIndexSize_0 19 rfl rfl)
theorem dJ19_checkFromIndexSize_22 : decode cJ19_checkFromIndexSize 22 = .ok (.athrow, 1) := dk_191 (dk_at dksJ19_checkFromIndexSize_0 22 rfl rfl)
theorem dJ19_checkFromIndexSize_23 : decode cJ19_checkFromIndexSize 23 = .ok (.iload_n 0, 1) := dk_26 (dk_at dksJ19_checkFromIndexSize_0 23 rfl rfl)
theorem dJ19_checkFromIndexSize_24 : decode cJ19_checkFromIndexSize 24 = .ok (.ireturn, 1) := dk_172 (dk_at dksJ19_checkFromIndexSize_1 0 rfl rfl)
abbrev cJ19_checkIndex : ByteArray := prog_61_method_11_code
def yJ19_checkIndex : MethodName := ⟨RJ19, "checkIndex", "(IILjava/util/function/BiFunction;)I"⟩
def dkwJ19_checkIndex_0 : List UInt8 := [26, 155, 0, 8, 26, 27, 161, 0, 10, 44, 26, 27, 184, 0, 95, 191, 26, 172]
abbrev dktJ19_checkIndex_0 : List UInt8 := dkwJ19_checkIndex_0 ++ []
theorem dksJ19_checkIndex_0 : cJ19_checkIndex.data.toList.drop 0 = dktJ19_checkIndex_0 := by decide +kernel
theorem dJ19_checkIndex_0 : decode cJ19_checkIndex 0 = .ok (.iload_n 0, 1) := dk_26 (dk_at dksJ19_checkIndex_0 0 rfl rfl)
theorem dJ19_checkIndex_1 : decode cJ19_checkIndex 1 = .ok (.ifCond .lt 8, 3) := dk_155 0 8 (dk_at dksJ19_checkIndex_0 1 rfl rfl)
theorem dJ19_checkIndex_4 : decode cJ19_checkIndex 4 = .ok (.iload_n 0, 1) := dk_26 (dk_at dksJ19_checkIndex_0 4 rfl rfl)
theorem dJ19_checkIndex_5 : decode cJ19_checkIndex 5 = .ok (.iload_n 1, 1) := dk_27 (dk_at dksJ19_checkIndex_0 5 rfl rfl)
theorem dJ19_checkIndex_6 : decode cJ19_checkIndex 6 = .ok (.if_icmp .lt 10, 3) := dk_161 0 10 (dk_at dksJ19_checkIndex_0 6 rfl rfl)
theorem dJ19_checkIndex_9 : decode cJ19_checkIndex 9 = .ok (.aload_n 2, 1) := dk_44 (dk_at dksJ19_checkIndex_0 9 rfl rfl)
theorem dJ19_checkIndex_10 : decode cJ19_checkIndex 10 = .ok (.iload_n 0, 1) := dk_26 (dk_at dksJ19_checkIndex_0 10 rfl rfl)
theorem dJ19_checkIndex_11 : decode cJ19_checkIndex 11 = .ok (.iload_n 1, 1) := dk_27 (dk_at dksJ19_checkIndex_0 11 rfl rfl)
theorem dJ19_checkIndex_12 : decode cJ19_checkIndex 12 = .ok (.invokestatic 95, 3) := dk_184 0 95 (dk_at dksJ19_checkIndex_0 12 rfl rfl)
theorem dJ19_checkIndex_15 : decode cJ19_checkIndex 15 = .ok (.athrow, 1) := dk_191 (dk_at dksJ19_checkIndex_0 15 rfl rfl)
theorem dJ19_checkIndex_16 : decode cJ19_checkIndex 16 = .ok (.iload_n 0, 1) := dk_26 (dk_at dksJ19_checkIndex_0 16 rfl rfl)
theorem dJ19_checkIndex_17 : decode cJ19_checkIndex 17 = .ok (.ireturn, 1) := dk_172 (dk_at dksJ19_checkIndex_0 17 rfl rfl)
theorem q88 : (Jvm.Cond.initialized "jdk/internal/util/Preconditions") ∈ lw_all := lw_g (lw_at lw_m1 27 rfl) rfl
theorem q632 : (Jvm.Cond.laysStatic "jdk/internal/util/Preconditions" "SIOOBE_FORMATTER" "Ljava/util/function/BiFunction;") ∈ lw_tbl := lw_at lw_m3 91 rfl
theorem q634 : (Jvm.Cond.static ({ cls := "jdk/internal/util/Preconditions", name := "checkFromToIndex", desc := "(IIILjava/util/function/BiFunction;)I" } : Jvm.MethodName)) ∈ lw_all := lw_g (lw_at lw_m3 93 rfl) rfl
theorem q635 : (Jvm.Cond.code ({ cls := "jdk/internal/util/Preconditions", name := "checkFromToIndex", desc := "(IIILjava/util/function/BiFunction;)I" } : Jvm.MethodName) prog_61_method_12_code (4 : Nat) (Option.some Jvm.ClassFile.FieldType.int)) ∈ lw_all := lw_g (lw_at lw_m3 94 rfl) rfl
theorem q700 : (Jvm.Cond.static ({ cls := "jdk/internal/util/Preconditions", name := "checkFromIndexSize", desc := "(IIILjava/util/function/BiFunction;)I" } : Jvm.MethodName)) ∈ lw_all := lw_g (lw_at lw_m3 159 rfl) rfl
theorem q701 : (Jvm.Cond.code ({ cls := "jdk/internal/util/Preconditions", name := "checkFromIndexSize", desc := "(IIILjava/util/function/BiFunction;)I" } : Jvm.MethodName) prog_61_method_13_code (4 : Nat) (Option.some Jvm.ClassFile.FieldType.int)) ∈ lw_all := lw_g (lw_at lw_m3 160 rfl) rfl
theorem q971 : (Jvm.Cond.static ({ cls := "jdk/internal/util/Preconditions", name := "checkIndex", desc := "(IILjava/util/function/BiFunction;)I" } : Jvm.MethodName)) ∈ lw_all := lw_g (lw_at lw_m4 190 rfl) rfl
theorem q972 : (Jvm.Cond.code ({ cls := "jdk/internal/util/Preconditions", name := "checkIndex", desc := "(IILjava/util/function/BiFunction;)I" } : Jvm.MethodName) prog_61_method_11_code (3 : Nat) (Option.some Jvm.ClassFile.FieldType.int)) ∈ lw_all := lw_g (lw_at lw_m4 191 rfl) rfl
/-! java/lang/StringLatin1 -/
set_option maxRecDepth 100000
def RJ20 : String := "java/lang/StringLatin1"
abbrev cJ20_inflate : ByteArray := prog_36_method_50_code
def yJ20_inflate : MethodName := ⟨RJ20, "inflate", "([BI[BII)V"⟩
def dkwJ20_inflate_0 : List UInt8 := [42, 27, 44, 29, 21, 4, 184, 0, 240, 177]
abbrev dktJ20_inflate_0 : List UInt8 := dkwJ20_inflate_0 ++ []
theorem dksJ20_inflate_0 : cJ20_inflate.data.toList.drop 0 = dktJ20_inflate_0 := by decide +kernel
theorem dJ20_inflate_0 : decode cJ20_inflate 0 = .ok (.aload_n 0, 1) := dk_42 (dk_at dksJ20_inflate_0 0 rfl rfl)
theorem dJ20_inflate_1 : decode cJ20_inflate 1 = .ok (.iload_n 1, 1) := dk_27 (dk_at dksJ20_inflate_0 1 rfl rfl)
theorem dJ20_inflate_2 : decode cJ20_inflate 2 = .ok (.aload_n 2, 1) := dk_44 (dk_at dksJ20_inflate_0 2 rfl rfl)
theorem dJ20_inflate_3 : decode cJ20_inflate 3 = .ok (.iload_n 3, 1) := dk_29 (dk_at dksJ20_inflate_0 3 rfl rfl)
theorem dJ20_inflate_4 : decode cJ20_inflate 4 = .ok (.iload 4, 2) := dk_21 4 (dk_at dksJ20_inflate_0 4 rfl rfl)
theorem dJ20_inflate_6 : decode cJ20_inflate 6 = .ok (.invokestatic 240, 3) := dk_184 0 240 (dk_at dksJ20_inflate_0 6 rfl rfl)
theorem dJ20_inflate_9 : decode cJ20_inflate 9 = .ok (.return_, 1) := dk_177 (dk_at dksJ20_inflate_0 9 rfl rfl)
abbrev cJ20_charAt : ByteArray := prog_36_method_2_code
def yJ20_charAt : MethodName := ⟨RJ20, "charAt", "([BI)C"⟩
def dkwJ20_charAt_0 : List UInt8 := [27, 42, 190, 184, 0, 9, 42, 27, 51, 17, 0, 255, 126, 146, 172]
abbrev dktJ20_charAt_0 : List UInt8 := dkwJ20_charAt_0 ++ []
theorem dksJ20_charAt_0 : cJ20_charAt.data.toList.drop 0 = dktJ20_charAt_0 := by decide +kernel
theorem dJ20_charAt_0 : decode cJ20_charAt 0 = .ok (.iload_n 1, 1) := dk_27 (dk_at dksJ20_charAt_0 0 rfl rfl)
theorem dJ20_charAt_1 : decode cJ20_charAt 1 = .ok (.aload_n 0, 1) := dk_42 (dk_at dksJ20_charAt_0 1 rfl rfl)
theorem dJ20_charAt_2 : decode cJ20_charAt 2 = .ok (.arraylength, 1) := dk_190 (dk_at dksJ20_charAt_0 2 rfl rfl)
theorem dJ20_charAt_3 : decode cJ20_charAt 3 = .ok (.invokestatic 9, 3) := dk_184 0 9 (dk_at dksJ20_charAt_0 3 rfl rfl)
theorem dJ20_charAt_6 : decode cJ20_charAt 6 = .ok (.aload_n 0, 1) := dk_42 (dk_at dksJ20_charAt_0 6 rfl rfl)
theorem dJ20_charAt_7 : decode cJ20_charAt 7 = .ok (.iload_n 1, 1) := dk_27 (dk_at dksJ20_charAt_0 7 rfl rfl)
theorem dJ20_charAt_8 : decode cJ20_charAt 8 = .ok (.baload, 1) := dk_51 (dk_at dksJ20_charAt_0 8 rfl rfl)
theorem dJ20_charAt_9 : decode cJ20_charAt 9 = .ok (.sipush 255, 3) := dk_17 0 255 (dk_at dksJ20_charAt_0 9 rfl rfl)
theorem dJ20_charAt_12 : decode cJ20_charAt 12 = .ok (.iand, 1) := dk_126 (dk_at dksJ20_charAt_0 12 rfl rfl)
theorem dJ20_charAt_13 : decode cJ20_charAt 13 = .ok (.i2c, 1) := dk_146 (dk_at dksJ20_charAt_0 13 rfl rfl)
theorem dJ20_charAt_14 : decode cJ20_charAt 14 = .ok (.ireturn, 1) := dk_172 (dk_at dksJ20_charAt_0 14 rfl rfl)
abbrev cJ20_canEncode : ByteArray := prog_36_method_3_code
def yJ20_canEncode : MethodName := ⟨RJ20, "canEncode", "(C)Z"⟩
def dkwJ20_canEncode_0 : List UInt8 := [26, 17, 0, 255, 163, 0, 7, 4, 167, 0, 4, 3, 172]
abbrev dktJ20_canEncode_0 : List UInt8 := dkwJ20_canEncode_0 ++ []
theorem dksJ20_canEncode_0 : cJ20_canEncode.data.toList.drop 0 = dktJ20_canEncode_0 := by decide +kernel
theorem dJ20_canEncode_0 : decode cJ20_canEncode 0 = .ok (.iload_n 0, 1) := dk_26 (dk_at dksJ20_canEncode_0 0 rfl rfl)
theorem dJ20_canEncode_1 : decode cJ20_canEncode 1 = .ok (.sipush 255, 3) := dk_17 0 255 (dk_at dksJ20_canEncode_0 1 rfl rfl)
theorem dJ20_canEncode_4 : decode cJ20_canEncode 4 = .ok (.if_icmp .gt 7, 3) := dk_163 0 7 (dk_at dksJ20_canEncode_0 4 rfl rfl)
theorem dJ20_canEncode_7 : decode cJ20_canEncode 7 = .ok (.iconst 1, 1) := dk_4 (dk_at dksJ20_canEncode_0 7 rfl rfl)
theorem dJ20_canEncode_8 : decode cJ20_canEncode 8 = .ok (.goto 4, 3) := dk_167 0 4 (dk_at dksJ20_canEncode_0 8 rfl rfl)
theorem dJ20_canEncode_11 : decode cJ20_canEncode 11 = .ok (.iconst 0, 1) := dk_3 (dk_at dksJ20_canEncode_0 11 rfl rfl)
theorem dJ20_canEncode_12 : decode cJ20_canEncode 12 = .ok (.ireturn, 1) := dk_172 (dk_at dksJ20_canEncode_0 12 rfl rfl)
abbrev cJ20_hashCode : ByteArray := prog_36_method_21_code
def yJ20_hashCode : MethodName := ⟨RJ20, "hashCode", "([B)I"⟩
def dkwJ20_hashCode_2 : List UInt8 := [3, 167, 0, 22, 42, 3, 51, 17, 0, 255, 126, 167, 0, 12, 42, 3, 42, 190, 3, 7, 184, 0, 84, 172]
abbrev dktJ20_hashCode_2 : List UInt8 := dkwJ20_hashCode_2 ++ []
def dkwJ20_hashCode_1 : List UInt8 := [171, 0, 0, 0, 0, 40, 0, 0, 0, 2, 0, 0, 0, 0, 0, 0, 0, 26, 0, 0, 0, 1, 0, 0, 0, 30]
abbrev dktJ20_hashCode_1 : List UInt8 := dkwJ20_hashCode_1 ++ dktJ20_hashCode_2
def dkwJ20_hashCode_0 : List UInt8 := [42, 190]
abbrev dktJ20_hashCode_0 : List UInt8 := dkwJ20_hashCode_0 ++ dktJ20_hashCode_1
theorem dksJ20_hashCode_0 : cJ20_hashCode.data.toList.drop 0 = dktJ20_hashCode_0 := by decide +kernel
theorem dksJ20_hashCode_1 : cJ20_hashCode.data.toList.drop 2 = dktJ20_hashCode_1 := dk_seg dksJ20_hashCode_0 2 rfl rfl
theorem dksJ20_hashCode_2 : cJ20_hashCode.data.toList.drop 28 = dktJ20_hashCode_2 := dk_seg dksJ20_hashCode_1 26 rfl rfl
theorem dJ20_hashCode_0 : decode cJ20_hashCode 0 = .ok (.aload_n 0, 1) := dk_42 (dk_at dksJ20_hashCode_0 0 rfl rfl)
theorem dJ20_hashCode_1 : decode cJ20_hashCode 1 = .ok (.arraylength, 1) := dk_190 (dk_at dksJ20_hashCode_0 1 rfl rfl)
theorem dJ20_hashCode_2 : decode cJ20_hashCode 2 = .ok (.lookupswitch 40 #[(0, 26), (1, 30)], 26) := by decide +kernel
theorem dJ20_hashCode_28 : decode cJ20_hashCode 28 = .ok (.iconst 0, 1) := dk_3 (dk_at dksJ20_hashCode_2 0 rfl rfl)
theorem dJ20_hashCode_29 : decode cJ20_hashCode 29 = .ok (.goto 22, 3) := dk_167 0 22 (dk_at dksJ20_hashCode_2 1 rfl rfl)
theorem dJ20_hashCode_32 : decode cJ20_hashCode 32 = .ok (.aload_n 0, 1) := dk_42 (dk_at dksJ20_hashCode_2 4 rfl rfl)
theorem dJ20_hashCode_33 : decode cJ20_hashCode 33 = .ok (.iconst 0, 1) := dk_3 (dk_at dksJ20_hashCode_2 5 rfl rfl)
theorem dJ20_hashCode_34 : decode cJ20_hashCode 34 = .ok (.baload, 1) := dk_51 (dk_at dksJ20_hashCode_2 6 rfl rfl)
theorem dJ20_hashCode_35 : decode cJ20_hashCode 35 = .ok (.sipush 255, 3) := dk_17 0 255 (dk_at dksJ20_hashCode_2 7 rfl rfl)
theorem dJ20_hashCode_38 : decode cJ20_hashCode 38 = .ok (.iand, 1) := dk_126 (dk_at dksJ20_hashCode_2 10 rfl rfl)
theorem dJ20_hashCode_39 : decode cJ20_hashCode 39 = .ok (.goto 12, 3) := dk_167 0 12 (dk_at dksJ20_hashCode_2 11 rfl rfl)
theorem dJ20_hashCode_42 : decode cJ20_hashCode 42 = .ok (.aload_n 0, 1) := dk_42 (dk_at dksJ20_hashCode_2 14 rfl rfl)
theorem dJ20_hashCode_43 : decode cJ20_hashCode 43 = .ok (.iconst 0, 1) := dk_3 (dk_at dksJ20_hashCode_2 15 rfl rfl)
theorem dJ20_hashCode_44 : decode cJ20_hashCode 44 = .ok (.aload_n 0, 1) := dk_42 (dk_at dksJ20_hashCode_2 16 rfl rfl)
theorem dJ20_hashCode_45 : decode cJ20_hashCode 45 = .ok (.arraylength, 1) := dk_190 (dk_at dksJ20_hashCode_2 17 rfl rfl)
theorem dJ20_hashCode_46 : decode cJ20_hashCode 46 = .ok (.iconst 0, 1) := dk_3 (dk_at dksJ20_hashCode_2 18 rfl rfl)
theorem dJ20_hashCode_47 : decode cJ20_hashCode 47 = .ok (.iconst 4, 1) := dk_7 (dk_at dksJ20_hashCode_2 19 rfl rfl)
theorem dJ20_hashCode_48 : decode cJ20_hashCode 48 = .ok (.invokestatic 84, 3) := dk_184 0 84 (dk_at dksJ20_hashCode_2 20 rfl rfl)
theorem dJ20_hashCode_51 : decode cJ20_hashCode 51 = .ok (.ireturn, 1) := dk_172 (dk_at dksJ20_hashCode_2 23 rfl rfl)
abbrev cJ20_equals : ByteArray := prog_36_method_13_code
def yJ20_equals : MethodName := ⟨RJ20, "equals", "([B[B)Z"⟩
def dkwJ20_equals_1 : List UInt8 := [3, 172, 132, 2, 1, 167, 255, 236, 4, 172, 3, 172]
abbrev dktJ20_equals_1 : List UInt8 := dkwJ20_equals_1 ++ []
def dkwJ20_equals_0 : List UInt8 := [42, 190, 43, 190, 160, 0, 30, 3, 61, 28, 42, 190, 162, 0, 20, 42, 28, 51, 43, 28, 51, 159, 0, 5]
abbrev dktJ20_equals_0 : List UInt8 := dkwJ20_equals_0 ++ dktJ20_equals_1
theorem dksJ20_equals_0 : cJ20_equals.data.toList.drop 0 = dktJ20_equals_0 := by decide +kernel
theorem dksJ20_equals_1 : cJ20_equals.data.toList.drop 24 = dktJ20_equals_1 := dk_seg dksJ20_equals_0 24 rfl rfl
theorem dJ20_equals_0 : decode cJ20_equals 0 = .ok (.aload_n 0, 1) := dk_42 (dk_at dksJ20_equals_0 0 rfl rfl)
theorem dJ20_equals_1 : decode cJ20_equals 1 = .ok (.arraylength, 1) := dk_190 (dk_at dksJ20_equals_0 1 rfl rfl)
theorem dJ20_equals_2 : decode cJ20_equals 2 = .ok (.aload_n 1, 1) := dk_43 (dk_at dksJ20_equals_0 2 rfl rfl)
theorem dJ20_equals_3 : decode cJ20_equals 3 = .ok (.arraylength, 1) := dk_190 (dk_at dksJ20_equals_0 3 rfl rfl)
theorem dJ20_equals_4 : decode cJ20_equals 4 = .ok (.if_icmp .ne 30, 3) := dk_160 0 30 (dk_at dksJ20_equals_0 4 rfl rfl)
theorem dJ20_equals_7 : decode cJ20_equals 7 = .ok (.iconst 0, 1) := dk_3 (dk_at dksJ20_equals_0 7 rfl rfl)
theorem dJ20_equals_8 : decode cJ20_equals 8 = .ok (.istore_n 2, 1) := dk_61 (dk_at dksJ20_equals_0 8 rfl rfl)
theorem dJ20_equals_9 : decode cJ20_equals 9 = .ok (.iload_n 2, 1) := dk_28 (dk_at dksJ20_equals_0 9 rfl rfl)
theorem dJ20_equals_10 : decode cJ20_equals 10 = .ok (.aload_n 0, 1) := dk_42 (dk_at dksJ20_equals_0 10 rfl rfl)
theorem dJ20_equals_11 : decode cJ20_equals 11 = .ok (.arraylength, 1) := dk_190 (dk_at dksJ20_equals_0 11 rfl rfl)
theorem dJ20_equals_12 : decode cJ20_equals 12 = .ok (.if_icmp .ge 20, 3) := dk_162 0 20 (dk_at dksJ20_equals_0 12 rfl rfl)
theorem dJ20_equals_15 : decode cJ20_equals 15 = .ok (.aload_n 0, 1) := dk_42 (dk_at dksJ20_equals_0 15 rfl rfl)
theorem dJ20_equals_16 : decode cJ20_equals 16 = .ok (.iload_n 2, 1) := dk_28 (dk_at dksJ20_equals_0 16 rfl rfl)
theorem dJ20_equals_17 : decode cJ20_equals 17 = .ok (.baload, 1) := dk_51 (dk_at dksJ20_equals_0 17 rfl rfl)
theorem dJ20_equals_18 : decode cJ20_equals 18 = .ok (.aload_n 1, 1) := dk_43 (dk_at dksJ20_equals_0 18 rfl rfl)
theorem dJ20_equals_19 : decode cJ20_equals 19 = .ok (.iload_n 2, 1) := dk_28 (dk_at dksJ20_equals_0 19 rfl rfl)
theorem dJ20_equals_20 : decode cJ20_equals 20 = .ok (.baload, 1) := dk_51 (dk_at dksJ20_equals_0 20 rfl rfl)
theorem dJ20_equals_21 : decode cJ20_equals 21 = .ok (.if_icmp .eq 5, 3) := dk_159 0 5 (dk_at dksJ20_equals_0 21 rfl rfl)
theorem dJ20_equals_24 : decode cJ20_equals 24 = .ok (.iconst 0, 1) := dk_3 (dk_at dksJ20_equals_1 0 rfl rfl)
theorem dJ20_equals_25 : decode cJ20_equals 25 = .ok (.ireturn, 1) := dk_172 (dk_at dksJ20_equals_1 1 rfl rfl)
theorem dJ20_equals_26 : decode cJ20_equals 26 = .ok (.iinc 2 1, 3) := dk_132 2 1 (dk_at dksJ20_equals_1 2 rfl rfl)
theorem dJ20_equals_29 : decode cJ20_equals 29 = .ok (.goto (-20), 3) := dk_167 255 236 (dk_at dksJ20_equals_1 5 rfl rfl)
theorem dJ20_equals_32 : decode cJ20_equals 32 = .ok (.iconst 1, 1) := dk_4 (dk_at dksJ20_equals_1 8 rfl rfl)
theorem dJ20_equals_33 : decode cJ20_equals 33 = .ok (.ireturn, 1) := dk_172 (dk_at dksJ20_equals_1 9 rfl rfl)
theorem dJ20_equals_34 : decode cJ20_equals 34 = .ok (.iconst 0, 1) := dk_3 (dk_at dksJ20_equals_1 10 rfl rfl)
theorem dJ20_equals_35 : decode cJ20_equals 35 = .ok (.ireturn, 1) := dk_172 (dk_at dksJ20_equals_1 11 rfl rfl)
abbrev cJ20_fillNull : ByteArray := prog_36_method_48_code
def yJ20_fillNull : MethodName := ⟨RJ20, "fillNull", "([BII)V"⟩
def dkwJ20_fillNull_0 : List UInt8 := [42, 27, 28, 3, 184, 0, 236, 177]
abbrev dktJ20_fillNull_0 : List UInt8 := dkwJ20_fillNull_0 ++ []
theorem dksJ20_fillNull_0 : cJ20_fillNull.data.toList.drop 0 = dktJ20_fillNull_0 := by decide +kernel
theorem dJ20_fillNull_0 : decode cJ20_fillNull 0 = .ok (.aload_n 0, 1) := dk_42 (dk_at dksJ20_fillNull_0 0 rfl rfl)
theorem dJ20_fillNull_1 : decode cJ20_fillNull 1 = .ok (.iload_n 1, 1) := dk_27 (dk_at dksJ20_fillNull_0 1 rfl rfl)
theorem dJ20_fillNull_2 : decode cJ20_fillNull 2 = .ok (.iload_n 2, 1) := dk_28 (dk_at dksJ20_fillNull_0 2 rfl rfl)
theorem dJ20_fillNull_3 : decode cJ20_fillNull 3 = .ok (.iconst 0, 1) := dk_3 (dk_at dksJ20_fillNull_0 3 rfl rfl)
theorem dJ20_fillNull_4 : decode cJ20_fillNull 4 = .ok (.invokestatic 236, 3) := dk_184 0 236 (dk_at dksJ20_fillNull_0 4 rfl rfl)
theorem dJ20_fillNull_7 : decode cJ20_fillNull 7 = .ok (.return_, 1) := dk_177 (dk_at dksJ20_fillNull_0 7 rfl rfl)
theorem q89 : (Jvm.Cond.initialized "java/lang/StringLatin1") ∈ lw_all := lw_g (lw_at lw_m1 28 rfl) rfl
theorem q688 : (Jvm.Cond.static ({ cls := "java/lang/StringLatin1", name := "inflate", desc := "([BI[BII)V" } : Jvm.MethodName)) ∈ lw_all := lw_g (lw_at lw_m3 147 rfl) rfl
theorem q689 : (Jvm.Cond.code ({ cls := "java/lang/StringLatin1", name := "inflate", desc := "([BI[BII)V" } : Jvm.MethodName) prog_36_method_50_code (5 : Nat) (Option.none : Option Jvm.ClassFile.FieldType)) ∈ lw_all := lw_g (lw_at lw_m3 148 rfl) rfl
theorem q690 : (Jvm.Cond.methodLink "java/lang/StringLatin1" (240 : Nat) ({ cls := "java/lang/StringUTF16", name := "inflate", desc := "([BI[BII)V" } : Jvm.MethodName)) ∈ lw_all := lw_g (lw_at lw_m3 149 rfl) rfl
theorem q1489 : (Jvm.Cond.static ({ cls := "java/lang/StringLatin1", name := "charAt", desc := "([BI)C" } : Jvm.MethodName)) ∈ lw_all := lw_g (lw_at lw_m6 228 rfl) rfl
theorem q1490 : (Jvm.Cond.code ({ cls := "java/lang/StringLatin1", name := "charAt", desc := "([BI)C" } : Jvm.MethodName) prog_36_method_2_code (2 : Nat) (Option.some Jvm.ClassFile.FieldType.char)) ∈ lw_all := lw_g (lw_at lw_m6 229 rfl) rfl
theorem q1491 : (Jvm.Cond.methodLink "java/lang/StringLatin1" (9 : Nat) ({ cls := "java/lang/String", name := "checkIndex", desc := "(II)V" } : Jvm.MethodName)) ∈ lw_all := lw_g (lw_at lw_m6 230 rfl) rfl
theorem q1518 : (Jvm.Cond.static ({ cls := "java/lang/StringLatin1", name := "canEncode", desc := "(C)Z" } : Jvm.MethodName)) ∈ lw_all := lw_g (lw_at lw_m7 17 rfl) rfl
theorem q1519 : (Jvm.Cond.code ({ cls := "java/lang/StringLatin1", name := "canEncode", desc := "(C)Z" } : Jvm.MethodName) prog_36_method_3_code (1 : Nat) (Option.some Jvm.ClassFile.FieldType.boolean)) ∈ lw_all := lw_g (lw_at lw_m7 18 rfl) rfl
theorem q1580 : (Jvm.Cond.static ({ cls := "java/lang/StringLatin1", name := "hashCode", desc := "([B)I" } : Jvm.MethodName)) ∈ lw_all := lw_g (lw_at lw_m7 79 rfl) rfl
theorem q1581 : (Jvm.Cond.code ({ cls := "java/lang/StringLatin1", name := "hashCode", desc := "([B)I" } : Jvm.MethodName) prog_36_method_21_code (1 : Nat) (Option.some Jvm.ClassFile.FieldType.int)) ∈ lw_all := lw_g (lw_at lw_m7 80 rfl) rfl
theorem q1582 : (Jvm.Cond.methodLink "java/lang/StringLatin1" (84 : Nat) ({ cls := "jdk/internal/util/ArraysSupport", name := "vectorizedHashCode", desc := "(Ljava/lang/Object;IIII)I" } : Jvm.MethodName)) ∈ lw_all := lw_g (lw_at lw_m7 81 rfl) rfl
theorem q1639 : (Jvm.Cond.static ({ cls := "java/lang/StringLatin1", name := "equals", desc := "([B[B)Z" } : Jvm.MethodName)) ∈ lw_all := lw_g (lw_at lw_m7 138 rfl) rfl
theorem q1640 : (Jvm.Cond.code ({ cls := "java/lang/StringLatin1", name := "equals", desc := "([B[B)Z" } : Jvm.MethodName) prog_36_method_13_code (3 : Nat) (Option.some Jvm.ClassFile.FieldType.boolean)) ∈ lw_all := lw_g (lw_at lw_m7 139 rfl) rfl
theorem q2083 : (Jvm.Cond.static ({ cls := "java/lang/StringLatin1", name := "fillNull", desc := "([BII)V" } : Jvm.MethodName)) ∈ lw_all := lw_g (lw_at lw_m9 102 rfl) rfl
theorem q2084 : (Jvm.Cond.code ({ cls := "java/lang/StringLatin1", name := "fillNull", desc := "([BII)V" } : Jvm.MethodName) prog_36_method_48_code (3 : Nat) (Option.none : Option Jvm.ClassFile.FieldType)) ∈ lw_all := lw_g (lw_at lw_m9 103 rfl) rfl
theorem q2085 : (Jvm.Cond.methodLink "java/lang/StringLatin1" (236 : Nat) ({ cls := "java/util/Arrays", name := "fill", desc := "([BIIB)V" } : Jvm.MethodName)) ∈ lw_all := lw_g (lw_at lw_m9 104 rfl) rfl
/-! java/lang/IndexOutOfBoundsException -/
set_option maxRecDepth 100000
def RJ21 : String := "java/lang/IndexOutOfBoundsException"
def TJ21 : u_T := fun k => match k with
  | 0 => ("java/lang/Throwable", "cause", "Ljava/lang/Throwable;", false)
  | 1 => ("java/lang/Throwable", "stackTrace", "[Ljava/lang/StackTraceElement;", false)
  | 2 => ("java/lang/Throwable", "suppressedExceptions", "Ljava/util/List;", false)
  | 3 => ("java/lang/Throwable", "detailMessage", "Ljava/lang/String;", false)
  | 4 => ("java/lang/Throwable", "backtrace", "Ljava/lang/Object;", false)
  | _ => ("java/lang/Throwable", "depth", "I", false)
def tyJ21 : Nat → FieldType := fun k => match k with
  | 0 => .object "java/lang/Throwable"
  | 1 => .array (.object "java/lang/StackTraceElement")
  | 2 => .object "java/util/List"
  | 3 => .object "java/lang/String"
  | 4 => .object "java/lang/Object"
  | _ => .int
abbrev wsJ210 : List Cond := u_ws RJ21 TJ21 6
theorem nmJ21 : ∀ a, a < 6 → ∀ b, b < 6 → a ≠ b → (TJ21 a).2.1 ≠ (TJ21 b).2.1 := by decide +kernel
theorem tyJ21_ok : ∀ k, k < 6 → parseFieldDescriptor (TJ21 k).2.2.1 = some (tyJ21 k) := by decide +kernel
abbrev cJ21_init : ByteArray := prog_27_method_2_code
def yJ21_init : MethodName := ⟨RJ21, "<init>", "(Ljava/lang/String;)V"⟩
def dkwJ21_init_0 : List UInt8 := [42, 43, 183, 0, 7, 177]
abbrev dktJ21_init_0 : List UInt8 := dkwJ21_init_0 ++ []
theorem dksJ21_init_0 : cJ21_init.data.toList.drop 0 = dktJ21_init_0 := by decide +kernel
theorem dJ21_init_0 : decode cJ21_init 0 = .ok (.aload_n 0, 1) := dk_42 (dk_at dksJ21_init_0 0 rfl rfl)
theorem dJ21_init_1 : decode cJ21_init 1 = .ok (.aload_n 1, 1) := dk_43 (dk_at dksJ21_init_0 1 rfl rfl)
theorem dJ21_init_2 : decode cJ21_init 2 = .ok (.invokespecial 7, 3) := dk_183 0 7 (dk_at dksJ21_init_0 2 rfl rfl)
theorem dJ21_init_5 : decode cJ21_init 5 = .ok (.return_, 1) := dk_177 (dk_at dksJ21_init_0 5 rfl rfl)
abbrev cJ21_init_2 : ByteArray := prog_27_method_1_code
def yJ21_init_2 : MethodName := ⟨RJ21, "<init>", "()V"⟩
theorem dJ21_init_2_0 : decode cJ21_init_2 0 = .ok (.aload_n 0, 1) := by decide +kernel
theorem dJ21_init_2_1 : decode cJ21_init_2 1 = .ok (.invokespecial 1, 3) := by decide +kernel
theorem dJ21_init_2_4 : decode cJ21_init_2 4 = .ok (.return_, 1) := by decide +kernel
theorem q90 : (Jvm.Cond.initialized "java/lang/IndexOutOfBoundsException") ∈ lw_all := lw_g (lw_at lw_m1 29 rfl) rfl
theorem q380 : (Jvm.Cond.selects "java/lang/IndexOutOfBoundsException" ({ cls := "java/lang/Throwable", name := "fillInStackTrace", desc := "()Ljava/lang/Throwable;" } : Jvm.MethodName) ({ cls := "java/lang/Throwable", name := "fillInStackTrace", desc := "()Ljava/lang/Throwable;" } : Jvm.MethodName)) ∈ lw_all := lw_g (lw_at lw_m2 79 rfl) rfl
theorem q520 : (Jvm.Cond.selects "java/lang/IndexOutOfBoundsException" ({ cls := "java/lang/Object", name := "getClass", desc := "()Ljava/lang/Class;" } : Jvm.MethodName) ({ cls := "java/lang/Object", name := "getClass", desc := "()Ljava/lang/Class;" } : Jvm.MethodName)) ∈ lw_all := lw_g (lw_at lw_m2 219 rfl) rfl
theorem q896 : (Jvm.Cond.instanceMethod ({ cls := "java/lang/IndexOutOfBoundsException", name := "<init>", desc := "(Ljava/lang/String;)V" } : Jvm.MethodName)) ∈ lw_all := lw_g (lw_at lw_m4 115 rfl) rfl
theorem q897 : (Jvm.Cond.code ({ cls := "java/lang/IndexOutOfBoundsException", name := "<init>", desc := "(Ljava/lang/String;)V" } : Jvm.MethodName) prog_27_method_2_code (2 : Nat) (Option.none : Option Jvm.ClassFile.FieldType)) ∈ lw_all := lw_g (lw_at lw_m4 116 rfl) rfl
theorem q898 : (Jvm.Cond.methodLink "java/lang/IndexOutOfBoundsException" (7 : Nat) ({ cls := "java/lang/RuntimeException", name := "<init>", desc := "(Ljava/lang/String;)V" } : Jvm.MethodName)) ∈ lw_all := lw_g (lw_at lw_m4 117 rfl) rfl
theorem q907 : (Jvm.Cond.declares ({ cls := "java/lang/IndexOutOfBoundsException", name := "<init>", desc := "()V" } : Jvm.MethodName)) ∈ lw_tbl := lw_at lw_m4 126 rfl
theorem q908 : (Jvm.Cond.declares ({ cls := "java/lang/IndexOutOfBoundsException", name := "<init>", desc := "(Ljava/lang/String;)V" } : Jvm.MethodName)) ∈ lw_tbl := lw_at lw_m4 127 rfl
theorem q918 : (Jvm.Cond.instantiable "java/lang/IndexOutOfBoundsException" (6 : Nat)) ∈ lw_all := lw_g (lw_at lw_m4 137 rfl) rfl
theorem q919 : (Jvm.Cond.castable "java/lang/IndexOutOfBoundsException" "java/lang/IndexOutOfBoundsException") ∈ lw_tbl := lw_at lw_m4 138 rfl
theorem q920 : (Jvm.Cond.selects "java/lang/IndexOutOfBoundsException" ({ cls := "java/lang/Throwable", name := "fillInStackTrace", desc := "(I)Ljava/lang/Throwable;" } : Jvm.MethodName) ({ cls := "java/lang/Throwable", name := "fillInStackTrace", desc := "(I)Ljava/lang/Throwable;" } : Jvm.MethodName)) ∈ lw_all := lw_g (lw_at lw_m4 139 rfl) rfl
theorem q921 : (Jvm.Cond.lays "java/lang/IndexOutOfBoundsException" "java/lang/Throwable" "cause" "Ljava/lang/Throwable;") ∈ lw_all := lw_g (lw_at lw_m4 140 rfl) rfl
theorem q922 : (Jvm.Cond.lays "java/lang/IndexOutOfBoundsException" "java/lang/Throwable" "stackTrace" "[Ljava/lang/StackTraceElement;") ∈ lw_all := lw_g (lw_at lw_m4 141 rfl) rfl
theorem q923 : (Jvm.Cond.lays "java/lang/IndexOutOfBoundsException" "java/lang/Throwable" "suppressedExceptions" "Ljava/util/List;") ∈ lw_all := lw_g (lw_at lw_m4 142 rfl) rfl
theorem q924 : (Jvm.Cond.lays "java/lang/IndexOutOfBoundsException" "java/lang/Throwable" "detailMessage" "Ljava/lang/String;") ∈ lw_all := lw_g (lw_at lw_m4 143 rfl) rfl
theorem q925 : (Jvm.Cond.lays "java/lang/IndexOutOfBoundsException" "java/lang/Throwable" "backtrace" "Ljava/lang/Object;") ∈ lw_all := lw_g (lw_at lw_m4 144 rfl) rfl
theorem q927 : (Jvm.Cond.instanceMethod ({ cls := "java/lang/IndexOutOfBoundsException", name := "<init>", desc := "()V" } : Jvm.MethodName)) ∈ lw_all := lw_g (lw_at lw_m4 146 rfl) rfl
theorem q928 : (Jvm.Cond.code ({ cls := "java/lang/IndexOutOfBoundsException", name := "<init>", desc := "()V" } : Jvm.MethodName) prog_27_method_1_code (1 : Nat) (Option.none : Option Jvm.ClassFile.FieldType)) ∈ lw_all := lw_g (lw_at lw_m4 147 rfl) rfl
theorem q929 : (Jvm.Cond.methodLink "java/lang/IndexOutOfBoundsException" (1 : Nat) ({ cls := "java/lang/RuntimeException", name := "<init>", desc := "()V" } : Jvm.MethodName)) ∈ lw_all := lw_g (lw_at lw_m4 148 rfl) rfl
theorem q930 : (Jvm.Cond.lays "java/lang/IndexOutOfBoundsException" "java/lang/Throwable" "depth" "I") ∈ lw_all := lw_g (lw_at lw_m4 149 rfl) rfl
theorem q931 : (Jvm.Cond.superclass "java/lang/IndexOutOfBoundsException" "java/lang/RuntimeException") ∈ lw_all := lw_g (lw_at lw_m4 150 rfl) rfl
theorem q2238 : (Jvm.Cond.castable "java/lang/IndexOutOfBoundsException" "java/lang/Object") ∈ lw_tbl := lw_at lw_m10 17 rfl
theorem in_J21 : ∀ w ∈ wsJ210, w ∈ lw_all := lw_in wsJ210 [921, 922, 923, 924, 925, 930] (by decide +kernel) (by decide +kernel)
/-! java/lang/ArrayIndexOutOfBoundsException -/
set_option maxRecDepth 100000
def RJ22 : String := "java/lang/ArrayIndexOutOfBoundsException"
def TJ22 : u_T := fun k => match k with
  | 0 => ("java/lang/Throwable", "backtrace", "Ljava/lang/Object;", false)
  | 1 => ("java/lang/Throwable", "detailMessage", "Ljava/lang/String;", false)
  | 2 => ("java/lang/Throwable", "cause", "Ljava/lang/Throwable;", false)
  | 3 => ("java/lang/Throwable", "stackTrace", "[Ljava/lang/StackTraceElement;", false)
  | 4 => ("java/lang/Throwable", "depth", "I", false)
  | _ => ("java/lang/Throwable", "suppressedExceptions", "Ljava/util/List;", false)
def tyJ22 : Nat → FieldType := fun k => match k with
  | 0 => .object "java/lang/Object"
  | 1 => .object "java/lang/String"
  | 2 => .object "java/lang/Throwable"
  | 3 => .array (.object "java/lang/StackTraceElement")
  | 4 => .int
  | _ => .object "java/util/List"
abbrev wsJ220 : List Cond := u_ws RJ22 TJ22 6
theorem nmJ22 : ∀ a, a < 6 → ∀ b, b < 6 → a ≠ b → (TJ22 a).2.1 ≠ (TJ22 b).2.1 := by decide +kernel
theorem tyJ22_ok : ∀ k, k < 6 → parseFieldDescriptor (TJ22 k).2.2.1 = some (tyJ22 k) := by decide +kernel
abbrev cJ22_init : ByteArray := prog_20_method_2_code
def yJ22_init : MethodName := ⟨RJ22, "<init>", "(Ljava/lang/String;)V"⟩
def dkwJ22_init_0 : List UInt8 := [42, 43, 183, 0, 7, 177]
abbrev dktJ22_init_0 : List UInt8 := dkwJ22_init_0 ++ []
theorem dksJ22_init_0 : cJ22_init.data.toList.drop 0 = dktJ22_init_0 := by decide +kernel
theorem dJ22_init_0 : decode cJ22_init 0 = .ok (.aload_n 0, 1) := dk_42 (dk_at dksJ22_init_0 0 rfl rfl)
theorem dJ22_init_1 : decode cJ22_init 1 = .ok (.aload_n 1, 1) := dk_43 (dk_at dksJ22_init_0 1 rfl rfl)
theorem dJ22_init_2 : decode cJ22_init 2 = .ok (.invokespecial 7, 3) := dk_183 0 7 (dk_at dksJ22_init_0 2 rfl rfl)
theorem dJ22_init_5 : decode cJ22_init 5 = .ok (.return_, 1) := dk_177 (dk_at dksJ22_init_0 5 rfl rfl)
abbrev cJ22_init_2 : ByteArray := prog_20_method_3_code
def yJ22_init_2 : MethodName := ⟨RJ22, "<init>", "(I)V"⟩
def dkwJ22_init_2_0 : List UInt8 := [42, 187, 0, 10, 89, 183, 0, 12, 18, 13, 182, 0, 15, 27, 182, 0, 19, 182, 0, 22, 183, 0, 7, 177]
abbrev dktJ22_init_2_0 : List UInt8 := dkwJ22_init_2_0 ++ []
theorem dksJ22_init_2_0 : cJ22_init_2.data.toList.drop 0 = dktJ22_init_2_0 := by decide +kernel
theorem dJ22_init_2_0 : decode cJ22_init_2 0 = .ok (.aload_n 0, 1) := dk_42 (dk_at dksJ22_init_2_0 0 rfl rfl)
theorem dJ22_init_2_1 : decode cJ22_init_2 1 = .ok (.new 10, 3) := dk_187 0 10 (dk_at dksJ22_init_2_0 1 rfl rfl)
theorem dJ22_init_2_4 : decode cJ22_init_2 4 = .ok (.dup, 1) := dk_89 (dk_at dksJ22_init_2_0 4 rfl rfl)
theorem dJ22_init_2_5 : decode cJ22_init_2 5 = .ok (.invokespecial 12, 3) := dk_183 0 12 (dk_at dksJ22_init_2_0 5 rfl rfl)
theorem dJ22_init_2_8 : decode cJ22_init_2 8 = .ok (.ldc 13, 2) := dk_18 13 (dk_at dksJ22_init_2_0 8 rfl rfl)
theorem dJ22_init_2_10 : decode cJ22_init_2 10 = .ok (.invokevirtual 15, 3) := dk_182 0 15 (dk_at dksJ22_init_2_0 10 rfl rfl)
theorem dJ22_init_2_13 : decode cJ22_init_2 13 = .ok (.iload_n 1, 1) := dk_27 (dk_at dksJ22_init_2_0 13 rfl rfl)
theorem dJ22_init_2_14 : decode cJ22_init_2 14 = .ok (.invokevirtual 19, 3) := dk_182 0 19 (dk_at dksJ22_init_2_0 14 rfl rfl)
theorem dJ22_init_2_17 : decode cJ22_init_2 17 = .ok (.invokevirtual 22, 3) := dk_182 0 22 (dk_at dksJ22_init_2_0 17 rfl rfl)
theorem dJ22_init_2_20 : decode cJ22_init_2 20 = .ok (.invokespecial 7, 3) := dk_183 0 7 (dk_at dksJ22_init_2_0 20 rfl rfl)
theorem dJ22_init_2_23 : decode cJ22_init_2 23 = .ok (.return_, 1) := dk_177 (dk_at dksJ22_init_2_0 23 rfl rfl)
theorem q91 : (Jvm.Cond.initialized "java/lang/ArrayIndexOutOfBoundsException") ∈ lw_all := lw_g (lw_at lw_m1 30 rfl) rfl
theorem q377 : (Jvm.Cond.selects "java/lang/ArrayIndexOutOfBoundsException" ({ cls := "java/lang/Throwable", name := "fillInStackTrace", desc := "()Ljava/lang/Throwable;" } : Jvm.MethodName) ({ cls := "java/lang/Throwable", name := "fillInStackTrace", desc := "()Ljava/lang/Throwable;" } : Jvm.MethodName)) ∈ lw_all := lw_g (lw_at lw_m2 76 rfl) rfl
theorem q517 : (Jvm.Cond.selects "java/lang/ArrayIndexOutOfBoundsException" ({ cls := "java/lang/Object", name := "getClass", desc := "()Ljava/lang/Class;" } : Jvm.MethodName) ({ cls := "java/lang/Object", name := "getClass", desc := "()Ljava/lang/Class;" } : Jvm.MethodName)) ∈ lw_all := lw_g (lw_at lw_m2 216 rfl) rfl
theorem q892 : (Jvm.Cond.instantiable "java/lang/ArrayIndexOutOfBoundsException" (6 : Nat)) ∈ lw_all := lw_g (lw_at lw_m4 111 rfl) rfl
theorem q893 : (Jvm.Cond.instanceMethod ({ cls := "java/lang/ArrayIndexOutOfBoundsException", name := "<init>", desc := "(Ljava/lang/String;)V" } : Jvm.MethodName)) ∈ lw_all := lw_g (lw_at lw_m4 112 rfl) rfl
theorem q894 : (Jvm.Cond.code ({ cls := "java/lang/ArrayIndexOutOfBoundsException", name := "<init>", desc := "(Ljava/lang/String;)V" } : Jvm.MethodName) prog_20_method_2_code (2 : Nat) (Option.none : Option Jvm.ClassFile.FieldType)) ∈ lw_all := lw_g (lw_at lw_m4 113 rfl) rfl
theorem q895 : (Jvm.Cond.methodLink "java/lang/ArrayIndexOutOfBoundsException" (7 : Nat) ({ cls := "java/lang/IndexOutOfBoundsException", name := "<init>", desc := "(Ljava/lang/String;)V" } : Jvm.MethodName)) ∈ lw_all := lw_g (lw_at lw_m4 114 rfl) rfl
theorem q899 : (Jvm.Cond.lays "java/lang/ArrayIndexOutOfBoundsException" "java/lang/Throwable" "backtrace" "Ljava/lang/Object;") ∈ lw_all := lw_g (lw_at lw_m4 118 rfl) rfl
theorem q900 : (Jvm.Cond.lays "java/lang/ArrayIndexOutOfBoundsException" "java/lang/Throwable" "detailMessage" "Ljava/lang/String;") ∈ lw_all := lw_g (lw_at lw_m4 119 rfl) rfl
theorem q901 : (Jvm.Cond.lays "java/lang/ArrayIndexOutOfBoundsException" "java/lang/Throwable" "cause" "Ljava/lang/Throwable;") ∈ lw_all := lw_g (lw_at lw_m4 120 rfl) rfl
theorem q902 : (Jvm.Cond.lays "java/lang/ArrayIndexOutOfBoundsException" "java/lang/Throwable" "stackTrace" "[Ljava/lang/StackTraceElement;") ∈ lw_all := lw_g (lw_at lw_m4 121 rfl) rfl
theorem q903 : (Jvm.Cond.lays "java/lang/ArrayIndexOutOfBoundsException" "java/lang/Throwable" "depth" "I") ∈ lw_all := lw_g (lw_at lw_m4 122 rfl) rfl
theorem q904 : (Jvm.Cond.lays "java/lang/ArrayIndexOutOfBoundsException" "java/lang/Throwable" "suppressedExceptions" "Ljava/util/List;") ∈ lw_all := lw_g (lw_at lw_m4 123 rfl) rfl
theorem q905 : (Jvm.Cond.superclass "java/lang/ArrayIndexOutOfBoundsException" "java/lang/IndexOutOfBoundsException") ∈ lw_all := lw_g (lw_at lw_m4 124 rfl) rfl
theorem q906 : (Jvm.Cond.castable "java/lang/ArrayIndexOutOfBoundsException" "java/lang/ArrayIndexOutOfBoundsException") ∈ lw_tbl := lw_at lw_m4 125 rfl
theorem q909 : (Jvm.Cond.selects "java/lang/ArrayIndexOutOfBoundsException" ({ cls := "java/lang/Throwable", name := "fillInStackTrace", desc := "(I)Ljava/lang/Throwable;" } : Jvm.MethodName) ({ cls := "java/lang/Throwable", name := "fillInStackTrace", desc := "(I)Ljava/lang/Throwable;" } : Jvm.MethodName)) ∈ lw_all := lw_g (lw_at lw_m4 128 rfl) rfl
theorem q2096 : (Jvm.Cond.instanceMethod ({ cls := "java/lang/ArrayIndexOutOfBoundsException", name := "<init>", desc := "(I)V" } : Jvm.MethodName)) ∈ lw_all := lw_g (lw_at lw_m9 115 rfl) rfl
theorem q2097 : (Jvm.Cond.code ({ cls := "java/lang/ArrayIndexOutOfBoundsException", name := "<init>", desc := "(I)V" } : Jvm.MethodName) prog_20_method_3_code (2 : Nat) (Option.none : Option Jvm.ClassFile.FieldType)) ∈ lw_all := lw_g (lw_at lw_m9 116 rfl) rfl
theorem q2098 : (Jvm.Cond.classLink "java/lang/ArrayIndexOutOfBoundsException" (10 : Nat) "java/lang/StringBuilder") ∈ lw_all := lw_g (lw_at lw_m9 117 rfl) rfl
theorem q2099 : (Jvm.Cond.methodLink "java/lang/ArrayIndexOutOfBoundsException" (12 : Nat) ({ cls := "java/lang/StringBuilder", name := "<init>", desc := "()V" } : Jvm.MethodName)) ∈ lw_all := lw_g (lw_at lw_m9 118 rfl) rfl
theorem q2100 : (Jvm.Cond.stringRef "java/lang/ArrayIndexOutOfBoundsException" (13 : Nat) "Array index out of range: ") ∈ lw_tbl := lw_at lw_m9 119 rfl
theorem q2101 : (Jvm.Cond.methodLink "java/lang/ArrayIndexOutOfBoundsException" (15 : Nat) ({ cls := "java/lang/StringBuilder", name := "append", desc := "(Ljava/lang/String;)Ljava/lang/StringBuilder;" } : Jvm.MethodName)) ∈ lw_all := lw_g (lw_at lw_m9 120 rfl) rfl
theorem q2102 : (Jvm.Cond.methodLink "java/lang/ArrayIndexOutOfBoundsException" (19 : Nat) ({ cls := "java/lang/StringBuilder", name := "append", desc := "(I)Ljava/lang/StringBuilder;" } : Jvm.MethodName)) ∈ lw_all := lw_g (lw_at lw_m9 121 rfl) rfl
theorem q2103 : (Jvm.Cond.methodLink "java/lang/ArrayIndexOutOfBoundsException" (22 : Nat) ({ cls := "java/lang/StringBuilder", name := "toString", desc := "()Ljava/lang/String;" } : Jvm.MethodName)) ∈ lw_all := lw_g (lw_at lw_m9 122 rfl) rfl
theorem q2222 : (Jvm.Cond.castable "java/lang/ArrayIndexOutOfBoundsException" "java/lang/IndexOutOfBoundsException") ∈ lw_tbl := lw_at lw_m10 1 rfl
theorem q2237 : (Jvm.Cond.castable "java/lang/ArrayIndexOutOfBoundsException" "java/lang/Object") ∈ lw_tbl := lw_at lw_m10 16 rfl
theorem in_J22 : ∀ w ∈ wsJ220, w ∈ lw_all := lw_in wsJ220 [899, 900, 901, 902, 903, 904] (by decide +kernel) (by decide +kernel)
/-! java/util/Objects -/
set_option maxRecDepth 100000
def RJ23 : String := "java/util/Objects"
abbrev cJ23_checkIndex : ByteArray := prog_55_method_17_code
def yJ23_checkIndex : MethodName := ⟨RJ23, "checkIndex", "(II)I"⟩
def dkwJ23_checkIndex_0 : List UInt8 := [26, 27, 1, 184, 0, 105, 172]
abbrev dktJ23_checkIndex_0 : List UInt8 := dkwJ23_checkIndex_0 ++ []
theorem dksJ23_checkIndex_0 : cJ23_checkIndex.data.toList.drop 0 = dktJ23_checkIndex_0 := by decide +kernel
theorem dJ23_checkIndex_0 : decode cJ23_checkIndex 0 = .ok (.iload_n 0, 1) := dk_26 (dk_at dksJ23_checkIndex_0 0 rfl rfl)
theorem dJ23_checkIndex_1 : decode cJ23_checkIndex 1 = .ok (.iload_n 1, 1) := dk_27 (dk_at dksJ23_checkIndex_0 1 rfl rfl)
theorem dJ23_checkIndex_2 : decode cJ23_checkIndex 2 = .ok (.aconst_null, 1) := dk_1 (dk_at dksJ23_checkIndex_0 2 rfl rfl)
theorem dJ23_checkIndex_3 : decode cJ23_checkIndex 3 = .ok (.invokestatic 105, 3) := dk_184 0 105 (dk_at dksJ23_checkIndex_0 3 rfl rfl)
theorem dJ23_checkIndex_6 : decode cJ23_checkIndex 6 = .ok (.ireturn, 1) := dk_172 (dk_at dksJ23_checkIndex_0 6 rfl rfl)
theorem q92 : (Jvm.Cond.initialized "java/util/Objects") ∈ lw_all := lw_g (lw_at lw_m1 31 rfl) rfl
theorem q968 : (Jvm.Cond.static ({ cls := "java/util/Objects", name := "checkIndex", desc := "(II)I" } : Jvm.MethodName)) ∈ lw_all := lw_g (lw_at lw_m4 187 rfl) rfl
theorem q969 : (Jvm.Cond.code ({ cls := "java/util/Objects", name := "checkIndex", desc := "(II)I" } : Jvm.MethodName) prog_55_method_17_code (2 : Nat) (Option.some Jvm.ClassFile.FieldType.int)) ∈ lw_all := lw_g (lw_at lw_m4 188 rfl) rfl
theorem q970 : (Jvm.Cond.methodLink "java/util/Objects" (105 : Nat) ({ cls := "jdk/internal/util/Preconditions", name := "checkIndex", desc := "(IILjava/util/function/BiFunction;)I" } : Jvm.MethodName)) ∈ lw_all := lw_g (lw_at lw_m4 189 rfl) rfl
/-! java/lang/UnsupportedOperationException -/
set_option maxRecDepth 100000
def RJ24 : String := "java/lang/UnsupportedOperationException"
def TJ24 : u_T := fun k => match k with
  | 0 => ("java/lang/Throwable", "cause", "Ljava/lang/Throwable;", false)
  | 1 => ("java/lang/Throwable", "stackTrace", "[Ljava/lang/StackTraceElement;", false)
  | 2 => ("java/lang/Throwable", "suppressedExceptions", "Ljava/util/List;", false)
  | 3 => ("java/lang/Throwable", "detailMessage", "Ljava/lang/String;", false)
  | 4 => ("java/lang/Throwable", "backtrace", "Ljava/lang/Object;", false)
  | _ => ("java/lang/Throwable", "depth", "I", false)
def tyJ24 : Nat → FieldType := fun k => match k with
  | 0 => .object "java/lang/Throwable"
  | 1 => .array (.object "java/lang/StackTraceElement")
  | 2 => .object "java/util/List"
  | 3 => .object "java/lang/String"
  | 4 => .object "java/lang/Object"
  | _ => .int
abbrev wsJ240 : List Cond := u_ws RJ24 TJ24 6
theorem nmJ24 : ∀ a, a < 6 → ∀ b, b < 6 → a ≠ b → (TJ24 a).2.1 ≠ (TJ24 b).2.1 := by decide +kernel
theorem tyJ24_ok : ∀ k, k < 6 → parseFieldDescriptor (TJ24 k).2.2.1 = some (tyJ24 k) := by decide +kernel
abbrev cJ24_init : ByteArray := prog_41_method_1_code
def yJ24_init : MethodName := ⟨RJ24, "<init>", "()V"⟩
theorem dJ24_init_0 : decode cJ24_init 0 = .ok (.aload_n 0, 1) := by decide +kernel
theorem dJ24_init_1 : decode cJ24_init 1 = .ok (.invokespecial 1, 3) := by decide +kernel
theorem dJ24_init_4 : decode cJ24_init 4 = .ok (.return_, 1) := by decide +kernel
theorem q93 : (Jvm.Cond.initialized "java/lang/UnsupportedOperationException") ∈ lw_all := lw_g (lw_at lw_m1 32 rfl) rfl
theorem q382 : (Jvm.Cond.selects "java/lang/UnsupportedOperationException" ({ cls := "java/lang/Throwable", name := "fillInStackTrace", desc := "()Ljava/lang/Throwable;" } : Jvm.MethodName) ({ cls := "java/lang/Throwable", name := "fillInStackTrace", desc := "()Ljava/lang/Throwable;" } : Jvm.MethodName)) ∈ lw_all := lw_g (lw_at lw_m2 81 rfl) rfl
theorem q525 : (Jvm.Cond.selects "java/lang/UnsupportedOperationException" ({ cls := "java/lang/Object", name := "getClass", desc := "()Ljava/lang/Class;" } : Jvm.MethodName) ({ cls := "java/lang/Object", name := "getClass", desc := "()Ljava/lang/Class;" } : Jvm.MethodName)) ∈ lw_all := lw_g (lw_at lw_m2 224 rfl) rfl
theorem q982 : (Jvm.Cond.instantiable "java/lang/UnsupportedOperationException" (6 : Nat)) ∈ lw_all := lw_g (lw_at lw_m4 201 rfl) rfl
theorem q983 : (Jvm.Cond.castable "java/lang/UnsupportedOperationException" "java/lang/UnsupportedOperationException") ∈ lw_tbl := lw_at lw_m4 202 rfl
theorem q984 : (Jvm.Cond.selects "java/lang/UnsupportedOperationException" ({ cls := "java/lang/Throwable", name := "fillInStackTrace", desc := "(I)Ljava/lang/Throwable;" } : Jvm.MethodName) ({ cls := "java/lang/Throwable", name := "fillInStackTrace", desc := "(I)Ljava/lang/Throwable;" } : Jvm.MethodName)) ∈ lw_all := lw_g (lw_at lw_m4 203 rfl) rfl
theorem q985 : (Jvm.Cond.lays "java/lang/UnsupportedOperationException" "java/lang/Throwable" "cause" "Ljava/lang/Throwable;") ∈ lw_all := lw_g (lw_at lw_m4 204 rfl) rfl
theorem q986 : (Jvm.Cond.lays "java/lang/UnsupportedOperationException" "java/lang/Throwable" "stackTrace" "[Ljava/lang/StackTraceElement;") ∈ lw_all := lw_g (lw_at lw_m4 205 rfl) rfl
theorem q987 : (Jvm.Cond.lays "java/lang/UnsupportedOperationException" "java/lang/Throwable" "suppressedExceptions" "Ljava/util/List;") ∈ lw_all := lw_g (lw_at lw_m4 206 rfl) rfl
theorem q988 : (Jvm.Cond.lays "java/lang/UnsupportedOperationException" "java/lang/Throwable" "detailMessage" "Ljava/lang/String;") ∈ lw_all := lw_g (lw_at lw_m4 207 rfl) rfl
theorem q989 : (Jvm.Cond.lays "java/lang/UnsupportedOperationException" "java/lang/Throwable" "backtrace" "Ljava/lang/Object;") ∈ lw_all := lw_g (lw_at lw_m4 208 rfl) rfl
theorem q991 : (Jvm.Cond.instanceMethod ({ cls := "java/lang/UnsupportedOperationException", name := "<init>", desc := "()V" } : Jvm.MethodName)) ∈ lw_all := lw_g (lw_at lw_m4 210 rfl) rfl
theorem q992 : (Jvm.Cond.code ({ cls := "java/lang/UnsupportedOperationException", name := "<init>", desc := "()V" } : Jvm.MethodName) prog_41_method_1_code (1 : Nat) (Option.none : Option Jvm.ClassFile.FieldType)) ∈ lw_all := lw_g (lw_at lw_m4 211 rfl) rfl
theorem q993 : (Jvm.Cond.methodLink "java/lang/UnsupportedOperationException" (1 : Nat) ({ cls := "java/lang/RuntimeException", name := "<init>", desc := "()V" } : Jvm.MethodName)) ∈ lw_all := lw_g (lw_at lw_m4 212 rfl) rfl
theorem q994 : (Jvm.Cond.lays "java/lang/UnsupportedOperationException" "java/lang/Throwable" "depth" "I") ∈ lw_all := lw_g (lw_at lw_m4 213 rfl) rfl
theorem q995 : (Jvm.Cond.superclass "java/lang/UnsupportedOperationException" "java/lang/RuntimeException") ∈ lw_all := lw_g (lw_at lw_m4 214 rfl) rfl
theorem q2239 : (Jvm.Cond.castable "java/lang/UnsupportedOperationException" "java/lang/Object") ∈ lw_tbl := lw_at lw_m10 18 rfl
theorem in_J24 : ∀ w ∈ wsJ240, w ∈ lw_all := lw_in wsJ240 [985, 986, 987, 988, 989, 994] (by decide +kernel) (by decide +kernel)
/-! java/lang/StringIndexOutOfBoundsException -/
set_option maxRecDepth 100000
def RJ25 : String := "java/lang/StringIndexOutOfBoundsException"
def TJ25 : u_T := fun k => match k with
  | 0 => ("java/lang/Throwable", "backtrace", "Ljava/lang/Object;", false)
  | 1 => ("java/lang/Throwable", "detailMessage", "Ljava/lang/String;", false)
  | 2 => ("java/lang/Throwable", "cause", "Ljava/lang/Throwable;", false)
  | 3 => ("java/lang/Throwable", "stackTrace", "[Ljava/lang/StackTraceElement;", false)
  | 4 => ("java/lang/Throwable", "depth", "I", false)
  | _ => ("java/lang/Throwable", "suppressedExceptions", "Ljava/util/List;", false)
def tyJ25 : Nat → FieldType := fun k => match k with
  | 0 => .object "java/lang/Object"
  | 1 => .object "java/lang/String"
  | 2 => .object "java/lang/Throwable"
  | 3 => .array (.object "java/lang/StackTraceElement")
  | 4 => .int
  | _ => .object "java/util/List"
abbrev wsJ250 : List Cond := u_ws RJ25 TJ25 6
theorem nmJ25 : ∀ a, a < 6 → ∀ b, b < 6 → a ≠ b → (TJ25 a).2.1 ≠ (TJ25 b).2.1 := by decide +kernel
theorem tyJ25_ok : ∀ k, k < 6 → parseFieldDescriptor (TJ25 k).2.2.1 = some (tyJ25 k) := by decide +kernel
abbrev cJ25_init : ByteArray := prog_35_method_3_code
def yJ25_init : MethodName := ⟨RJ25, "<init>", "(I)V"⟩
def dkwJ25_init_0 : List UInt8 := [42, 187, 0, 10, 89, 183, 0, 12, 18, 13, 182, 0, 15, 27, 182, 0, 19, 182, 0, 22, 183, 0, 7, 177]
abbrev dktJ25_init_0 : List UInt8 := dkwJ25_init_0 ++ []
theorem dksJ25_init_0 : cJ25_init.data.toList.drop 0 = dktJ25_init_0 := by decide +kernel
theorem dJ25_init_0 : decode cJ25_init 0 = .ok (.aload_n 0, 1) := dk_42 (dk_at dksJ25_init_0 0 rfl rfl)
theorem dJ25_init_1 : decode cJ25_init 1 = .ok (.new 10, 3) := dk_187 0 10 (dk_at dksJ25_init_0 1 rfl rfl)
theorem dJ25_init_4 : decode cJ25_init 4 = .ok (.dup, 1) := dk_89 (dk_at dksJ25_init_0 4 rfl rfl)
theorem dJ25_init_5 : decode cJ25_init 5 = .ok (.invokespecial 12, 3) := dk_183 0 12 (dk_at dksJ25_init_0 5 rfl rfl)
theorem dJ25_init_8 : decode cJ25_init 8 = .ok (.ldc 13, 2) := dk_18 13 (dk_at dksJ25_init_0 8 rfl rfl)
theorem dJ25_init_10 : decode cJ25_init 10 = .ok (.invokevirtual 15, 3) := dk_182 0 15 (dk_at dksJ25_init_0 10 rfl rfl)
theorem dJ25_init_13 : decode cJ25_init 13 = .ok (.iload_n 1, 1) := dk_27 (dk_at dksJ25_init_0 13 rfl rfl)
theorem dJ25_init_14 : decode cJ25_init 14 = .ok (.invokevirtual 19, 3) := dk_182 0 19 (dk_at dksJ25_init_0 14 rfl rfl)
theorem dJ25_init_17 : decode cJ25_init 17 = .ok (.invokevirtual 22, 3) := dk_182 0 22 (dk_at dksJ25_init_0 17 rfl rfl)
theorem dJ25_init_20 : decode cJ25_init 20 = .ok (.invokespecial 7, 3) := dk_183 0 7 (dk_at dksJ25_init_0 20 rfl rfl)
theorem dJ25_init_23 : decode cJ25_init 23 = .ok (.return_, 1) := dk_177 (dk_at dksJ25_init_0 23 rfl rfl)
theorem q98 : (Jvm.Cond.initialized "java/lang/StringIndexOutOfBoundsException") ∈ lw_all := lw_g (lw_at lw_m1 37 rfl) rfl
theorem q381 : (Jvm.Cond.selects "java/lang/StringIndexOutOfBoundsException" ({ cls := "java/lang/Throwable", name := "fillInStackTrace", desc := "()Ljava/lang/Throwable;" } : Jvm.MethodName) ({ cls := "java/lang/Throwable", name := "fillInStackTrace", desc := "()Ljava/lang/Throwable;" } : Jvm.MethodName)) ∈ lw_all := lw_g (lw_at lw_m2 80 rfl) rfl
theorem q523 : (Jvm.Cond.selects "java/lang/StringIndexOutOfBoundsException" ({ cls := "java/lang/Object", name := "getClass", desc := "()Ljava/lang/Class;" } : Jvm.MethodName) ({ cls := "java/lang/Object", name := "getClass", desc := "()Ljava/lang/Class;" } : Jvm.MethodName)) ∈ lw_all := lw_g (lw_at lw_m2 222 rfl) rfl
theorem q2064 : (Jvm.Cond.instantiable "java/lang/StringIndexOutOfBoundsException" (6 : Nat)) ∈ lw_all := lw_g (lw_at lw_m9 83 rfl) rfl
theorem q2066 : (Jvm.Cond.instanceMethod ({ cls := "java/lang/StringIndexOutOfBoundsException", name := "<init>", desc := "(I)V" } : Jvm.MethodName)) ∈ lw_all := lw_g (lw_at lw_m9 85 rfl) rfl
theorem q2067 : (Jvm.Cond.code ({ cls := "java/lang/StringIndexOutOfBoundsException", name := "<init>", desc := "(I)V" } : Jvm.MethodName) prog_35_method_3_code (2 : Nat) (Option.none : Option Jvm.ClassFile.FieldType)) ∈ lw_all := lw_g (lw_at lw_m9 86 rfl) rfl
theorem q2068 : (Jvm.Cond.classLink "java/lang/StringIndexOutOfBoundsException" (10 : Nat) "java/lang/StringBuilder") ∈ lw_all := lw_g (lw_at lw_m9 87 rfl) rfl
theorem q2069 : (Jvm.Cond.methodLink "java/lang/StringIndexOutOfBoundsException" (12 : Nat) ({ cls := "java/lang/StringBuilder", name := "<init>", desc := "()V" } : Jvm.MethodName)) ∈ lw_all := lw_g (lw_at lw_m9 88 rfl) rfl
theorem q2070 : (Jvm.Cond.stringRef "java/lang/StringIndexOutOfBoundsException" (13 : Nat) "String index out of range: ") ∈ lw_tbl := lw_at lw_m9 89 rfl
theorem q2071 : (Jvm.Cond.methodLink "java/lang/StringIndexOutOfBoundsException" (15 : Nat) ({ cls := "java/lang/StringBuilder", name := "append", desc := "(Ljava/lang/String;)Ljava/lang/StringBuilder;" } : Jvm.MethodName)) ∈ lw_all := lw_g (lw_at lw_m9 90 rfl) rfl
theorem q2072 : (Jvm.Cond.methodLink "java/lang/StringIndexOutOfBoundsException" (19 : Nat) ({ cls := "java/lang/StringBuilder", name := "append", desc := "(I)Ljava/lang/StringBuilder;" } : Jvm.MethodName)) ∈ lw_all := lw_g (lw_at lw_m9 91 rfl) rfl
theorem q2073 : (Jvm.Cond.methodLink "java/lang/StringIndexOutOfBoundsException" (22 : Nat) ({ cls := "java/lang/StringBuilder", name := "toString", desc := "()Ljava/lang/String;" } : Jvm.MethodName)) ∈ lw_all := lw_g (lw_at lw_m9 92 rfl) rfl
theorem q2074 : (Jvm.Cond.methodLink "java/lang/StringIndexOutOfBoundsException" (7 : Nat) ({ cls := "java/lang/IndexOutOfBoundsException", name := "<init>", desc := "(Ljava/lang/String;)V" } : Jvm.MethodName)) ∈ lw_all := lw_g (lw_at lw_m9 93 rfl) rfl
theorem q2075 : (Jvm.Cond.lays "java/lang/StringIndexOutOfBoundsException" "java/lang/Throwable" "backtrace" "Ljava/lang/Object;") ∈ lw_all := lw_g (lw_at lw_m9 94 rfl) rfl
theorem q2076 : (Jvm.Cond.lays "java/lang/StringIndexOutOfBoundsException" "java/lang/Throwable" "detailMessage" "Ljava/lang/String;") ∈ lw_all := lw_g (lw_at lw_m9 95 rfl) rfl
theorem q2077 : (Jvm.Cond.lays "java/lang/StringIndexOutOfBoundsException" "java/lang/Throwable" "cause" "Ljava/lang/Throwable;") ∈ lw_all := lw_g (lw_at lw_m9 96 rfl) rfl
theorem q2078 : (Jvm.Cond.lays "java/lang/StringIndexOutOfBoundsException" "java/lang/Throwable" "stackTrace" "[Ljava/lang/StackTraceElement;") ∈ lw_all := lw_g (lw_at lw_m9 97 rfl) rfl
theorem q2079 : (Jvm.Cond.lays "java/lang/StringIndexOutOfBoundsException" "java/lang/Throwable" "depth" "I") ∈ lw_all := lw_g (lw_at lw_m9 98 rfl) rfl
theorem q2080 : (Jvm.Cond.lays "java/lang/StringIndexOutOfBoundsException" "java/lang/Throwable" "suppressedExceptions" "Ljava/util/List;") ∈ lw_all := lw_g (lw_at lw_m9 99 rfl) rfl
theorem q2081 : (Jvm.Cond.superclass "java/lang/StringIndexOutOfBoundsException" "java/lang/IndexOutOfBoundsException") ∈ lw_all := lw_g (lw_at lw_m9 100 rfl) rfl
theorem q2223 : (Jvm.Cond.castable "java/lang/StringIndexOutOfBoundsException" "java/lang/IndexOutOfBoundsException") ∈ lw_tbl := lw_at lw_m10 2 rfl
theorem q2243 : (Jvm.Cond.castable "java/lang/StringIndexOutOfBoundsException" "java/lang/Object") ∈ lw_tbl := lw_at lw_m10 22 rfl
theorem in_J25 : ∀ w ∈ wsJ250, w ∈ lw_all := lw_in wsJ250 [2075, 2076, 2077, 2078, 2079, 2080] (by decide +kernel) (by decide +kernel)
/-! java/lang/ArithmeticException -/
set_option maxRecDepth 100000
def RJ26 : String := "java/lang/ArithmeticException"
def TJ26 : u_T := fun k => match k with
  | 0 => ("java/lang/Throwable", "backtrace", "Ljava/lang/Object;", false)
  | 1 => ("java/lang/Throwable", "detailMessage", "Ljava/lang/String;", false)
  | 2 => ("java/lang/Throwable", "cause", "Ljava/lang/Throwable;", false)
  | 3 => ("java/lang/Throwable", "stackTrace", "[Ljava/lang/StackTraceElement;", false)
  | 4 => ("java/lang/Throwable", "depth", "I", false)
  | _ => ("java/lang/Throwable", "suppressedExceptions", "Ljava/util/List;", false)
def tyJ26 : Nat → FieldType := fun k => match k with
  | 0 => .object "java/lang/Object"
  | 1 => .object "java/lang/String"
  | 2 => .object "java/lang/Throwable"
  | 3 => .array (.object "java/lang/StackTraceElement")
  | 4 => .int
  | _ => .object "java/util/List"
abbrev wsJ260 : List Cond := u_ws RJ26 TJ26 6
theorem nmJ26 : ∀ a, a < 6 → ∀ b, b < 6 → a ≠ b → (TJ26 a).2.1 ≠ (TJ26 b).2.1 := by decide +kernel
theorem tyJ26_ok : ∀ k, k < 6 → parseFieldDescriptor (TJ26 k).2.2.1 = some (tyJ26 k) := by decide +kernel
abbrev cJ26_init : ByteArray := prog_19_method_2_code
def yJ26_init : MethodName := ⟨RJ26, "<init>", "(Ljava/lang/String;)V"⟩
def dkwJ26_init_0 : List UInt8 := [42, 43, 183, 0, 7, 177]
abbrev dktJ26_init_0 : List UInt8 := dkwJ26_init_0 ++ []
theorem dksJ26_init_0 : cJ26_init.data.toList.drop 0 = dktJ26_init_0 := by decide +kernel
theorem dJ26_init_0 : decode cJ26_init 0 = .ok (.aload_n 0, 1) := dk_42 (dk_at dksJ26_init_0 0 rfl rfl)
theorem dJ26_init_1 : decode cJ26_init 1 = .ok (.aload_n 1, 1) := dk_43 (dk_at dksJ26_init_0 1 rfl rfl)
theorem dJ26_init_2 : decode cJ26_init 2 = .ok (.invokespecial 7, 3) := dk_183 0 7 (dk_at dksJ26_init_0 2 rfl rfl)
theorem dJ26_init_5 : decode cJ26_init 5 = .ok (.return_, 1) := dk_177 (dk_at dksJ26_init_0 5 rfl rfl)
abbrev cJ26_init_2 : ByteArray := prog_19_method_1_code
def yJ26_init_2 : MethodName := ⟨RJ26, "<init>", "()V"⟩
theorem dJ26_init_2_0 : decode cJ26_init_2 0 = .ok (.aload_n 0, 1) := by decide +kernel
theorem dJ26_init_2_1 : decode cJ26_init_2 1 = .ok (.invokespecial 1, 3) := by decide +kernel
theorem dJ26_init_2_4 : decode cJ26_init_2 4 = .ok (.return_, 1) := by decide +kernel
theorem q102 : (Jvm.Cond.initialized "java/lang/ArithmeticException") ∈ lw_all := lw_g (lw_at lw_m1 41 rfl) rfl
theorem q376 : (Jvm.Cond.selects "java/lang/ArithmeticException" ({ cls := "java/lang/Throwable", name := "fillInStackTrace", desc := "()Ljava/lang/Throwable;" } : Jvm.MethodName) ({ cls := "java/lang/Throwable", name := "fillInStackTrace", desc := "()Ljava/lang/Throwable;" } : Jvm.MethodName)) ∈ lw_all := lw_g (lw_at lw_m2 75 rfl) rfl
theorem q516 : (Jvm.Cond.selects "java/lang/ArithmeticException" ({ cls := "java/lang/Object", name := "getClass", desc := "()Ljava/lang/Class;" } : Jvm.MethodName) ({ cls := "java/lang/Object", name := "getClass", desc := "()Ljava/lang/Class;" } : Jvm.MethodName)) ∈ lw_all := lw_g (lw_at lw_m2 215 rfl) rfl
theorem q1745 : (Jvm.Cond.instantiable "java/lang/ArithmeticException" (6 : Nat)) ∈ lw_all := lw_g (lw_at lw_m8 4 rfl) rfl
theorem q1746 : (Jvm.Cond.instanceMethod ({ cls := "java/lang/ArithmeticException", name := "<init>", desc := "(Ljava/lang/String;)V" } : Jvm.MethodName)) ∈ lw_all := lw_g (lw_at lw_m8 5 rfl) rfl
theorem q1747 : (Jvm.Cond.code ({ cls := "java/lang/ArithmeticException", name := "<init>", desc := "(Ljava/lang/String;)V" } : Jvm.MethodName) prog_19_method_2_code (2 : Nat) (Option.none : Option Jvm.ClassFile.FieldType)) ∈ lw_all := lw_g (lw_at lw_m8 6 rfl) rfl
theorem q1748 : (Jvm.Cond.methodLink "java/lang/ArithmeticException" (7 : Nat) ({ cls := "java/lang/RuntimeException", name := "<init>", desc := "(Ljava/lang/String;)V" } : Jvm.MethodName)) ∈ lw_all := lw_g (lw_at lw_m8 7 rfl) rfl
theorem q1749 : (Jvm.Cond.lays "java/lang/ArithmeticException" "java/lang/Throwable" "backtrace" "Ljava/lang/Object;") ∈ lw_all := lw_g (lw_at lw_m8 8 rfl) rfl
theorem q1750 : (Jvm.Cond.lays "java/lang/ArithmeticException" "java/lang/Throwable" "detailMessage" "Ljava/lang/String;") ∈ lw_all := lw_g (lw_at lw_m8 9 rfl) rfl
theorem q1751 : (Jvm.Cond.lays "java/lang/ArithmeticException" "java/lang/Throwable" "cause" "Ljava/lang/Throwable;") ∈ lw_all := lw_g (lw_at lw_m8 10 rfl) rfl
theorem q1752 : (Jvm.Cond.lays "java/lang/ArithmeticException" "java/lang/Throwable" "stackTrace" "[Ljava/lang/StackTraceElement;") ∈ lw_all := lw_g (lw_at lw_m8 11 rfl) rfl
theorem q1753 : (Jvm.Cond.lays "java/lang/ArithmeticException" "java/lang/Throwable" "depth" "I") ∈ lw_all := lw_g (lw_at lw_m8 12 rfl) rfl
theorem q1754 : (Jvm.Cond.lays "java/lang/ArithmeticException" "java/lang/Throwable" "suppressedExceptions" "Ljava/util/List;") ∈ lw_all := lw_g (lw_at lw_m8 13 rfl) rfl
theorem q1755 : (Jvm.Cond.superclass "java/lang/ArithmeticException" "java/lang/RuntimeException") ∈ lw_all := lw_g (lw_at lw_m8 14 rfl) rfl
theorem q1756 : (Jvm.Cond.castable "java/lang/ArithmeticException" "java/lang/ArithmeticException") ∈ lw_tbl := lw_at lw_m8 15 rfl
theorem q1757 : (Jvm.Cond.selects "java/lang/ArithmeticException" ({ cls := "java/lang/Throwable", name := "fillInStackTrace", desc := "(I)Ljava/lang/Throwable;" } : Jvm.MethodName) ({ cls := "java/lang/Throwable", name := "fillInStackTrace", desc := "(I)Ljava/lang/Throwable;" } : Jvm.MethodName)) ∈ lw_all := lw_g (lw_at lw_m8 16 rfl) rfl
theorem q1764 : (Jvm.Cond.instanceMethod ({ cls := "java/lang/ArithmeticException", name := "<init>", desc := "()V" } : Jvm.MethodName)) ∈ lw_all := lw_g (lw_at lw_m8 23 rfl) rfl
theorem q1765 : (Jvm.Cond.code ({ cls := "java/lang/ArithmeticException", name := "<init>", desc := "()V" } : Jvm.MethodName) prog_19_method_1_code (1 : Nat) (Option.none : Option Jvm.ClassFile.FieldType)) ∈ lw_all := lw_g (lw_at lw_m8 24 rfl) rfl
theorem q1766 : (Jvm.Cond.methodLink "java/lang/ArithmeticException" (1 : Nat) ({ cls := "java/lang/RuntimeException", name := "<init>", desc := "()V" } : Jvm.MethodName)) ∈ lw_all := lw_g (lw_at lw_m8 25 rfl) rfl
theorem q2248 : (Jvm.Cond.castable "java/lang/ArithmeticException" "java/lang/Object") ∈ lw_tbl := lw_at lw_m10 27 rfl
theorem in_J26 : ∀ w ∈ wsJ260, w ∈ lw_all := lw_in wsJ260 [1749, 1750, 1751, 1752, 1753, 1754] (by decide +kernel) (by decide +kernel)
/-! java/lang/Object -/
set_option maxRecDepth 100000
def RJ27 : String := "java/lang/Object"
abbrev cJ27_init : ByteArray := object_method_1_code
def yJ27_init : MethodName := ⟨RJ27, "<init>", "()V"⟩
theorem dJ27_init_0 : decode cJ27_init 0 = .ok (.return_, 1) := by decide +kernel
theorem q109 : (Jvm.Cond.instanceMethod ({ cls := "java/lang/Object", name := "<init>", desc := "()V" } : Jvm.MethodName)) ∈ lw_all := lw_g (lw_at lw_m1 48 rfl) rfl
theorem q110 : (Jvm.Cond.code ({ cls := "java/lang/Object", name := "<init>", desc := "()V" } : Jvm.MethodName) object_method_1_code (1 : Nat) (Option.none : Option Jvm.ClassFile.FieldType)) ∈ lw_all := lw_g (lw_at lw_m1 49 rfl) rfl
theorem q503 : (Jvm.Cond.instanceMethod ({ cls := "java/lang/Object", name := "getClass", desc := "()Ljava/lang/Class;" } : Jvm.MethodName)) ∈ lw_all := lw_g (lw_at lw_m2 202 rfl) rfl
theorem q504 : (Jvm.Cond.sameMethod "java/lang/Object" "java/lang/Object" "getClass" "()Ljava/lang/Class;") ∈ lw_all := lw_g (lw_at lw_m2 203 rfl) rfl
theorem q530 : (Jvm.Cond.native ({ cls := "java/lang/Object", name := "getClass", desc := "()Ljava/lang/Class;" } : Jvm.MethodName)) ∈ lw_all := lw_g (lw_at lw_m2 229 rfl) rfl
theorem q602 : (Jvm.Cond.native ({ cls := "java/lang/Object", name := "clone", desc := "()Ljava/lang/Object;" } : Jvm.MethodName)) ∈ lw_all := lw_g (lw_at lw_m3 61 rfl) rfl
theorem q603 : (Jvm.Cond.instanceMethod ({ cls := "java/lang/Object", name := "clone", desc := "()Ljava/lang/Object;" } : Jvm.MethodName)) ∈ lw_all := lw_g (lw_at lw_m3 62 rfl) rfl
theorem q2221 : (Jvm.Cond.initialized "java/lang/Object") ∈ lw_all := lw_g (lw_at lw_m10 0 rfl) rfl
theorem q2252 : (Jvm.Cond.declares ({ cls := "java/lang/Object", name := "getClass", desc := "()Ljava/lang/Class;" } : Jvm.MethodName)) ∈ lw_tbl := lw_at lw_m10 31 rfl
/-! java/lang/System$2 -/
set_option maxRecDepth 100000
def RJ28 : String := "java/lang/System$2"
abbrev cJ28_getUTF16Char : ByteArray := prog_39_method_45_code
def yJ28_getUTF16Char : MethodName := ⟨RJ28, "getUTF16Char", "([BI)C"⟩
def dkwJ28_getUTF16Char_0 : List UInt8 := [43, 28, 184, 0, 185, 172]
abbrev dktJ28_getUTF16Char_0 : List UInt8 := dkwJ28_getUTF16Char_0 ++ []
theorem dksJ28_getUTF16Char_0 : cJ28_getUTF16Char.data.toList.drop 0 = dktJ28_getUTF16Char_0 := by decide +kernel
theorem dJ28_getUTF16Char_0 : decode cJ28_getUTF16Char 0 = .ok (.aload_n 1, 1) := dk_43 (dk_at dksJ28_getUTF16Char_0 0 rfl rfl)
theorem dJ28_getUTF16Char_1 : decode cJ28_getUTF16Char 1 = .ok (.iload_n 2, 1) := dk_28 (dk_at dksJ28_getUTF16Char_0 1 rfl rfl)
theorem dJ28_getUTF16Char_2 : decode cJ28_getUTF16Char 2 = .ok (.invokestatic 185, 3) := dk_184 0 185 (dk_at dksJ28_getUTF16Char_0 2 rfl rfl)
theorem dJ28_getUTF16Char_5 : decode cJ28_getUTF16Char 5 = .ok (.ireturn, 1) := dk_172 (dk_at dksJ28_getUTF16Char_0 5 rfl rfl)
theorem q524 : (Jvm.Cond.selects "java/lang/System$2" ({ cls := "java/lang/Object", name := "getClass", desc := "()Ljava/lang/Class;" } : Jvm.MethodName) ({ cls := "java/lang/Object", name := "getClass", desc := "()Ljava/lang/Class;" } : Jvm.MethodName)) ∈ lw_all := lw_g (lw_at lw_m2 223 rfl) rfl
theorem q1598 : (Jvm.Cond.castable "java/lang/System$2" "jdk/internal/access/JavaLangAccess") ∈ lw_tbl := lw_at lw_m7 97 rfl
theorem q1599 : (Jvm.Cond.selects "java/lang/System$2" ({ cls := "jdk/internal/access/JavaLangAccess", name := "getUTF16Char", desc := "([BI)C" } : Jvm.MethodName) ({ cls := "java/lang/System$2", name := "getUTF16Char", desc := "([BI)C" } : Jvm.MethodName)) ∈ lw_all := lw_g (lw_at lw_m7 98 rfl) rfl
theorem q1600 : (Jvm.Cond.unhidden "java/lang/System$2" "getUTF16Char" "([BI)C") ∈ lw_tbl := lw_at lw_m7 99 rfl
theorem q1601 : (Jvm.Cond.instanceMethod ({ cls := "java/lang/System$2", name := "getUTF16Char", desc := "([BI)C" } : Jvm.MethodName)) ∈ lw_all := lw_g (lw_at lw_m7 100 rfl) rfl
theorem q1602 : (Jvm.Cond.publicMethod ({ cls := "java/lang/System$2", name := "getUTF16Char", desc := "([BI)C" } : Jvm.MethodName)) ∈ lw_tbl := lw_at lw_m7 101 rfl
theorem q1603 : (Jvm.Cond.code ({ cls := "java/lang/System$2", name := "getUTF16Char", desc := "([BI)C" } : Jvm.MethodName) prog_39_method_45_code (3 : Nat) (Option.some Jvm.ClassFile.FieldType.char)) ∈ lw_all := lw_g (lw_at lw_m7 102 rfl) rfl
theorem q1604 : (Jvm.Cond.methodLink "java/lang/System$2" (185 : Nat) ({ cls := "java/lang/StringUTF16", name := "getChar", desc := "([BI)C" } : Jvm.MethodName)) ∈ lw_all := lw_g (lw_at lw_m7 103 rfl) rfl
theorem q2245 : (Jvm.Cond.castable "java/lang/System$2" "java/lang/Object") ∈ lw_tbl := lw_at lw_m10 24 rfl
