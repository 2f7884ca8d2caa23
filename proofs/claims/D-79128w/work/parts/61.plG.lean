/-! THE PLAIN LAW 16: how many commands, of which kinds -/
theorem txP_ok (L : List Int32) : ∀ (f p j : Nat), j < (txP L f p).length → ¬ (cmdS L ((txP L f p).getD j 0)).1 = 0 := by
  intro f
  induction f with
  | zero => intro p j h; exact absurd h (Nat.not_lt_zero j)
  | succ f ih =>
    intro p j h
    rw [txP] at h ⊢
    by_cases z : (cmdS L p).1 = 0
    · rw [if_pos z] at h; exact absurd h (Nat.not_lt_zero j)
    · rw [if_neg z] at h ⊢
      cases j with
      | zero => rw [List.getD_cons_zero]; exact z
      | succ j =>
        rw [List.getD_cons_succ]
        by_cases y : rdH L (cmdS L p).2 = 59
        · rw [if_pos y] at h ⊢
          exact ih _ j (by rw [List.length_cons] at h; omega)
        · rw [if_neg y] at h
          exact absurd h (by show ¬ j + 1 < 1; omega)
theorem txP_len (L : List Int32) : ∀ (f p : Nat), p ≤ L.length → 6 * (txP L f p).length ≤ L.length + 1 - p := by
  intro f
  induction f with
  | zero => intro p _; show 6 * 0 ≤ _; omega
  | succ f ih =>
    intro p hp
    rw [txP]
    by_cases z : (cmdS L p).1 = 0
    · rw [if_pos z]; show 6 * 0 ≤ _; omega
    · rw [if_neg z, List.length_cons]
      have ha := cmd_adv hp ((cmdS_01 L p).resolve_left z)
      by_cases y : rdH L (cmdS L p).2 = 59
      · rw [if_pos y]
        have hl := rdH_lt (by decide) y
        have := ih ((cmdS L p).2 + 1) (by omega)
        omega
      · rw [if_neg y]
        show 6 * (0 + 1) ≤ _
        omega
theorem txPS_len {L : List Int32} (h : L.length ≤ 50) : (txPS L).length ≤ 8 := by
  have := txP_len L (L.length + 1) 0 (Nat.zero_le _)
  unfold txPS
  omega
theorem kind_ok {L : List Int32} {w : Nat → Int32} {j : Nat} (hj : j < (txPS L).length) (h3 : told3 L ((txPS L).getD j 0) j w) : w (3 * j) = 0 ∨ w (3 * j) = 1 ∨ w (3 * j) = 2 ∨ w (3 * j) = 3 ∨ w (3 * j) = 4 ∨ w (3 * j) = 5 := by
  have hz := txP_ok L (L.length + 1) 0 j hj
  have hz : ¬ (cmdS L ((txPS L).getD j 0)).1 = 0 := hz
  rw [h3.1]
  generalize (txPS L).getD j 0 = p at hz ⊢
  rcases noW_nm (slL L p (wE L p)) with ⟨a, -⟩ | ⟨-, a⟩ | ⟨-, a⟩
  · unfold cmdS at hz
    rw [if_pos a] at hz
    exact absurd rfl hz
  · rcases a with ⟨a, -⟩ | ⟨a, -⟩ | ⟨a, -⟩
    · exact Or.inl a
    · exact Or.inr (Or.inl a)
    · exact Or.inr (Or.inr (Or.inr (Or.inr (Or.inr a))))
  · rcases a with ⟨a, -⟩ | ⟨a, -⟩ | ⟨a, -⟩
    · exact Or.inr (Or.inr (Or.inl a))
    · exact Or.inr (Or.inr (Or.inr (Or.inl a)))
    · exact Or.inr (Or.inr (Or.inr (Or.inr (Or.inl a))))
theorem txF_01 (L : List Int32) : ∀ (f p : Nat), (txF L f p).1 = 0 ∨ (txF L f p).1 = 1 := by
  intro f
  induction f with
  | zero => intro p; exact Or.inl rfl
  | succ f ih =>
    intro p
    rw [txF]
    by_cases z : (cmdS L p).1 = 0
    · rw [if_pos z]; exact Or.inl z
    · rw [if_neg z]
      by_cases y : rdH L (cmdS L p).2 = 59
      · rw [if_pos y]; exact ih _
      · rw [if_neg y]
        by_cases x : (cmdS L p).2 = L.length
        · rw [if_pos x]; exact Or.inr rfl
        · rw [if_neg x]; exact Or.inl rfl
theorem txS_01 (L : List Int32) : (txS L).1 = 0 ∨ (txS L).1 = 1 := txF_01 L _ _
