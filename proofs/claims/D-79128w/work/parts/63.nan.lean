/-! THE PLAIN LAW 18: a quotient of whole numbers, the divisor not zero, is a number -/
theorem fp_near1 (N : Nat) : FP.Core.nearest N 1 = N := by
  unfold FP.Core.nearest
  rw [Nat.mod_one, if_pos (by decide), Nat.div_one]
theorem fp_ratio1 {s : Bool} {n : Nat} (hn : n ≠ 0) (h31 : n ≤ 2147483648) : ∃ c q, FP.Core.roundRatio FP.Core.b64 s n 1 0 = .fin s c q ∧ c ≠ 0 ∧ c < 2 ^ 53 ∧ -1074 ≤ q ∧ q ≤ 971 := by
  obtain ⟨t, x, qm, qx, pp⟩ := fp_b64
  have hlog : n.log2 < 32 := (Nat.log2_lt hn).mpr (by omega)
  have hlead : FP.Core.leading n 1 ≤ 31 := by
    unfold FP.Core.leading
    dsimp only
    have h1 : (1 : Nat).log2 = 0 := by decide
    rw [h1]
    split <;> omega
  have hq1 : -1074 ≤ FP.Core.quantum FP.Core.b64 n 1 0 := by
    unfold FP.Core.quantum
    rw [qm]
    omega
  have hq2 : FP.Core.quantum FP.Core.b64 n 1 0 ≤ -20 := by
    unfold FP.Core.quantum
    rw [qm, pp]
    omega
  unfold FP.Core.roundRatio
  rw [if_neg hn]
  generalize FP.Core.quantum FP.Core.b64 n 1 0 = q at hq1 hq2
  unfold FP.Core.roundAt FP.Core.unitsNum FP.Core.unitsDen
  have hz : (q - 0).toNat = 0 := by omega
  rw [hz, Nat.pow_zero, Nat.mul_one, fp_near1]
  have hc : n * 2 ^ (0 - q).toNat ≠ 0 := Nat.mul_ne_zero hn (Nat.pos_iff_ne_zero.mp (Nat.two_pow_pos _))
  generalize n * 2 ^ (0 - q).toNat = c at hc
  unfold FP.Core.settle FP.Core.bound
  rw [pp, qx, t]
  by_cases g : c < 2 ^ 53
  · rw [if_pos g, if_pos (by omega)]
    exact ⟨c, q, rfl, hc, g, hq1, by omega⟩
  · rw [if_neg g, if_pos (by omega)]
    exact ⟨_, q + 1, rfl, by decide, by decide, by omega, by omega⟩
theorem fp_asm {s : Bool} {E T : Nat} (hE : E < 2048) (hT : T < 4503599627370496) : FP.Core.fieldE FP.Core.b64 (FP.Core.assemble FP.Core.b64 s E T) = E ∧ FP.Core.fieldT FP.Core.b64 (FP.Core.assemble FP.Core.b64 s E T) = T ∧ FP.Core.assemble FP.Core.b64 s E T < 2 ^ 64 := by
  obtain ⟨t, x, -⟩ := fp_b64
  unfold FP.Core.fieldE FP.Core.fieldT FP.Core.assemble
  rw [t, x]
  have hs : s.toNat = 0 ∨ s.toNat = 1 := by cases s <;> simp
  generalize s.toNat = S at hs
  omega
/-- what decodes to a number of its own: finite, zero only if the other is -/
theorem fp_fin {s : Bool} {c : Nat} {q : Int} (hc : c < 2 ^ 53) (h1 : -1074 ≤ q) (h2 : q ≤ 971) : ∃ s' c' q', FP.Core.decode FP.Core.b64 (FP.Core.encode FP.Core.b64 (.fin s c q)) = .fin s' c' q' ∧ (c ≠ 0 → c' ≠ 0) ∧ FP.Core.encode FP.Core.b64 (.fin s c q) < 2 ^ 64 := by
  obtain ⟨t, x, qm, qx, pp⟩ := fp_b64
  unfold FP.Core.encode
  dsimp only
  rw [t, qm]
  by_cases g : c < 4503599627370496
  · rw [if_pos g]
    obtain ⟨e1, e2, e3⟩ := fp_asm (s := s) (E := 0) (T := c) (by decide) g
    unfold FP.Core.decode
    rw [e1, e2, x, if_neg (by decide), if_pos rfl]
    exact ⟨_, _, _, rfl, id, e3⟩
  · rw [if_neg g]
    obtain ⟨e1, e2, e3⟩ := fp_asm (s := s) (E := (q - -1074).toNat + 1) (T := c - 4503599627370496) (by omega) (by omega)
    unfold FP.Core.decode
    rw [e1, e2, x, if_neg (by omega), if_neg (by omega), t]
    exact ⟨_, _, _, rfl, fun _ => by omega, e3⟩
theorem fp_i2d (b : Int32) : ∃ s c q, FP.Core.decode FP.Core.b64 (FP.Core.i2d b).toNat = .fin s c q ∧ (¬ b = 0 → c ≠ 0) := by
  have hb1 := Int32.le_toInt b
  have hb2 := Int32.toInt_lt b
  unfold FP.Core.i2d FP.Core.fromInt FP.Core.ofInt FP.Core.round
  dsimp only
  generalize decide (b.toInt < 0) = s
  by_cases hz : b.toInt.natAbs = 0
  · have h0 : b = 0 := ti_eq (by rw [ti_0]; omega)
    rw [hz]
    unfold FP.Core.roundRatio
    rw [if_pos rfl]
    obtain ⟨s', c', q', e1, -, e3⟩ := fp_fin (s := s) (c := 0) (q := FP.Core.b64.qmin) (by decide) (by rw [fp_b64.2.2.1]; decide) (by rw [fp_b64.2.2.1]; decide)
    refine ⟨s', c', q', ?_, fun z => absurd h0 z⟩
    rw [UInt64.toNat_ofNat_of_lt' e3]
    exact e1
  · obtain ⟨c, q, e, hc, h53, h1, h2⟩ := fp_ratio1 (s := s) hz (by omega)
    rw [e]
    obtain ⟨s', c', q', e1, e2, e3⟩ := fp_fin (s := s) (c := c) (q := q) h53 h1 h2
    refine ⟨s', c', q', ?_, fun _ => e2 hc⟩
    rw [UInt64.toNat_ofNat_of_lt' e3]
    exact e1
theorem fp_div {a b : Int32} (h : ¬ b = 0) : (FP.ddiv (FP.i2d a) (FP.i2d b)).toNat % 2 ^ 63 ≤ 9218868437227405312 := by
  obtain ⟨s, c, q, ea, -⟩ := fp_i2d a
  obtain ⟨t, d, r, eb, hd⟩ := fp_i2d b
  show (UInt64.ofNat (FP.Core.encode FP.Core.b64 (FP.Core.quotient FP.Core.b64 (FP.Core.decode FP.Core.b64 (FP.Core.i2d a).toNat) (FP.Core.decode FP.Core.b64 (FP.Core.i2d b).toNat)))).toNat % _ ≤ _
  rw [ea, eb]
  unfold FP.Core.quotient
  dsimp only
  rw [if_neg (hd h)]
  obtain ⟨h1, h2⟩ := fp_bits (fp_ratio (s != t) c d (q - r))
  rw [UInt64.toNat_ofNat_of_lt' h1]
  exact h2
theorem nan_ok {a b : Int32} (h : ¬ b = 0) : vf_n64 (FP.ddiv (FP.i2d a) (FP.i2d b)) := by
  have h1 := fp_div (a := a) h
  unfold vf_n64
  rw [UInt64.le_iff_toNat_le, UInt64.toNat_and]
  rw [show (0x7fffffffffffffff : UInt64).toNat = 2 ^ 63 - 1 from by decide, Nat.and_two_pow_sub_one_eq_mod]
  exact h1
theorem fp_self {n : Nat} (h : n % 2 ^ 63 ≤ 9218868437227405312) : FP.Core.cmp FP.Core.b64 n n = some .eq := by
  obtain ⟨t, x, qm, qx, pp⟩ := fp_b64
  have hself : ∀ z : Int, compare z z = Ordering.eq := fun z => by simp [compare, compareOfLessAndEq]
  unfold FP.Core.cmp FP.Core.decode FP.Core.fieldE FP.Core.fieldT
  rw [t, x]
  by_cases g : n / 4503599627370496 % 2048 = 2048 - 1
  · rw [if_pos g, if_pos (by omega)]
    exact congrArg some (hself _)
  · rw [if_neg g]
    by_cases g2 : n / 4503599627370496 % 2048 = 0
    · rw [if_pos g2]
      exact congrArg some (hself _)
    · rw [if_neg g2]
      exact congrArg some (hself _)
theorem cmp_self {a b : Int32} (h : ¬ b = 0) (op : CmpOp) : Op.cmpValue (FP.dcmp (FP.ddiv (FP.i2d a) (FP.i2d b)) (FP.ddiv (FP.i2d a) (FP.i2d b))) op = 0 := by
  rw [show FP.dcmp (FP.ddiv (FP.i2d a) (FP.i2d b)) (FP.ddiv (FP.i2d a) (FP.i2d b)) = some .eq from fp_self (fp_div h)]
  rfl
