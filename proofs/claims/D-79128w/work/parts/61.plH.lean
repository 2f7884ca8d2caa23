/-! THE PLAIN LAW 17: quotients of whole numbers are numbers -/
theorem fp_b64 : FP.Core.b64.tails = 4503599627370496 ∧ FP.Core.b64.exps = 2048 ∧ FP.Core.b64.qmin = -1074 ∧ FP.Core.b64.qmax = 971 ∧ FP.Core.b64.p = 53 := by decide
/-- a datum that was rounded -/
def fpR (d : FP.Core.Datum) : Prop := (∃ s, d = .inf s) ∨ ∃ s c q, d = .fin s c q ∧ c < 2 ^ 53 ∧ q ≤ 971
theorem fp_bound {s : Bool} {c : Nat} {q : Int} (hc : c < 2 ^ 53) : fpR (FP.Core.bound FP.Core.b64 s c q) := by
  unfold FP.Core.bound
  by_cases h : q ≤ FP.Core.b64.qmax
  · rw [if_pos h]; exact Or.inr ⟨s, c, q, rfl, hc, by rw [fp_b64.2.2.2.1] at h; exact h⟩
  · rw [if_neg h]; exact Or.inl ⟨s, rfl⟩
theorem fp_ratio (s : Bool) (num den : Nat) (e : Int) : fpR (FP.Core.roundRatio FP.Core.b64 s num den e) := by
  unfold FP.Core.roundRatio
  by_cases h : num = 0
  · rw [if_pos h]; exact Or.inr ⟨s, 0, _, rfl, by decide, by rw [fp_b64.2.2.1]; decide⟩
  · rw [if_neg h]
    unfold FP.Core.roundAt FP.Core.settle
    generalize FP.Core.nearest _ _ = c
    by_cases g : c < 2 ^ FP.Core.b64.p
    · rw [if_pos g]; exact fp_bound (by rw [fp_b64.2.2.2.2] at g; exact g)
    · rw [if_neg g]; exact fp_bound (by rw [fp_b64.1]; decide)
theorem fp_bits {d : FP.Core.Datum} (h : fpR d) : FP.Core.encode FP.Core.b64 d < 2 ^ 64 ∧ FP.Core.encode FP.Core.b64 d % 2 ^ 63 ≤ 9218868437227405312 := by
  obtain ⟨t, x, qm, qx, -⟩ := fp_b64
  rcases h with ⟨s, e⟩ | ⟨s, c, q, e, hc, hq⟩
  · rw [e]
    unfold FP.Core.encode FP.Core.assemble
    rw [t, x]
    cases s <;> decide
  · rw [e]
    unfold FP.Core.encode FP.Core.assemble
    rw [t, x, qm]
    dsimp only
    by_cases g : c < 4503599627370496
    · rw [if_pos g]
      cases s
      · show (0 * 2048 + 0) * 4503599627370496 + c < _ ∧ ((0 * 2048 + 0) * 4503599627370496 + c) % _ ≤ _
        omega
      · show (1 * 2048 + 0) * 4503599627370496 + c < _ ∧ ((1 * 2048 + 0) * 4503599627370496 + c) % _ ≤ _
        omega
    · rw [if_neg g]
      have he : (q - -1074).toNat + 1 ≤ 2046 := by omega
      generalize (q - -1074).toNat + 1 = E at he
      cases s
      · show (0 * 2048 + E) * 4503599627370496 + (c - 4503599627370496) < _ ∧ ((0 * 2048 + E) * 4503599627370496 + (c - 4503599627370496)) % _ ≤ _
        omega
      · show (1 * 2048 + E) * 4503599627370496 + (c - 4503599627370496) < _ ∧ ((1 * 2048 + E) * 4503599627370496 + (c - 4503599627370496)) % _ ≤ _
        omega
