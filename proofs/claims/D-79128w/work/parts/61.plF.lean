/-! THE PLAIN LAW 15: an order -/
/-- the model's row after j commands -/
def gS (w g : Nat → Int32) : Nat → (Nat → Int32)
  | 0 => g
  | j + 1 => doQ (gS w g j) (w (3 * j)) (w (3 * j + 1)) (w (3 * j + 2))
def agS (w g : Nat → Int32) (j : Nat) : Int32 := agQ (gS w g j) (w (3 * j)) (w (3 * j + 1)) (w (3 * j + 2))
theorem orF_gS (w g : Nat → Int32) : ∀ f j, (∃ jx, j ≤ jx ∧ jx < j + f ∧ 0 < agS w g jx ∧ (∀ i, j ≤ i → i < jx → ¬ 0 < agS w g i) ∧ orF w f j (gS w g j) = (agS w g jx, gS w g jx)) ∨ ((∀ i, j ≤ i → i < j + f → ¬ 0 < agS w g i) ∧ orF w f j (gS w g j) = (0, gS w g (j + f))) := by
  intro f
  induction f with
  | zero => intro j; exact Or.inr ⟨fun i a b => by omega, rfl⟩
  | succ f ih =>
    intro j
    by_cases z : 0 < agS w g j
    · exact Or.inl ⟨j, Nat.le_refl _, by omega, z, fun i a b => by omega, orF_hit z⟩
    · have e : orF w (f + 1) j (gS w g j) = orF w f (j + 1) (gS w g (j + 1)) := orF_go z
      rw [e]
      rcases ih (j + 1) with ⟨jx, a, b, c, d, x⟩ | ⟨a, x⟩
      · refine Or.inl ⟨jx, by omega, by omega, c, fun i p q => ?_, x⟩
        by_cases y : i = j
        · rw [y]; exact z
        · exact d i (by omega) q
      · refine Or.inr ⟨fun i p q => ?_, ?_⟩
        · by_cases y : i = j
          · rw [y]; exact z
          · exact a i (by omega) (by omega)
        · rw [x, show j + 1 + f = j + (f + 1) by omega]
theorem rf_01 (W : List Int32) (t : HB) (u v : Int32) : cmRf W t u v = 0 ∨ 0 < cmRf W t u v := by
  unfold cmRf rfHold rfServe rfDry rfBonus rfCow
  repeat' split
  all_goals first | exact Or.inl rfl | exact Or.inr (by decide)
/-- all commands are carried out: the relation that the component's contract asks for -/
theorem order_all {g : Nat → Int32} {h : HB} {L : List Int32} {w : Nat → Int32} (hh : RB g h) (h3 : ∀ j, j < (txPS L).length → told3 L ((txPS L).getD j 0) j w) (ho : (orF w (txPS L).length 0 g).1 = 0) :
    (∀ t2 : HB, hvEq t2 h → RB (gS w g 0) t2) ∧ (∀ (j : Nat) (t2 : HB) (q : CM), j < (txPS L).length → cmOk L ((txPS L).getD j 0) q → RB (gS w g j) t2 → cmRf q.w t2 q.f q.g = 0) ∧
    (∀ (j : Nat) (t2 t3 : HB) (q : CM), j < (txPS L).length → cmOk L ((txPS L).getD j 0) q → RB (gS w g j) t2 → cmSt q.w q.f q.g t2 t3 → RB (gS w g (j + 1)) t3) ∧
    (orF w (txPS L).length 0 g).2 = gS w g (txPS L).length := by
  have hno : (∀ i, i < (txPS L).length → ¬ 0 < agS w g i) ∧ orF w (txPS L).length 0 g = (0, gS w g (txPS L).length) := by
    rcases orF_gS w g (txPS L).length 0 with ⟨jx, a, b, c, d, x⟩ | ⟨a, x⟩
    · have x2 : orF w (txPS L).length 0 g = (agS w g jx, gS w g jx) := x
      rw [x2] at ho
      have ho2 : agS w g jx = 0 := ho
      rw [ho2] at c
      exact absurd c (by decide)
    · refine ⟨fun i p => a i (Nat.zero_le _) (by omega), ?_⟩
      rw [Nat.zero_add] at x
      exact x
  have hr0 : ∀ (j : Nat) (t2 : HB) (q : CM), j < (txPS L).length → cmOk L ((txPS L).getD j 0) q → RB (gS w g j) t2 → cmRf q.w t2 q.f q.g = 0 := fun j t2 q hj ok hb => by
    have e := ag_cm hb ok (h3 j hj)
    rcases rf_01 q.w t2 q.f q.g with z | z
    · exact z
    · exact absurd (show 0 < agS w g j by unfold agS; rw [e]; exact z) (hno.1 j hj)
  exact ⟨fun t2 e => hh.of e, hr0, fun j t2 t3 q hj ok hb hs => do_cm hb ok (h3 j hj) (hr0 j t2 q hj ok hb) hs, by rw [hno.2]⟩
/-- a command is refused: the first one -/
theorem order_ref {g : Nat → Int32} {h : HB} {L : List Int32} {w : Nat → Int32} (hh : RB g h) (h3 : ∀ j, j < (txPS L).length → told3 L ((txPS L).getD j 0) j w) (ho : 0 < (orF w (txPS L).length 0 g).1) :
    ∃ jx, jx < (txPS L).length ∧ (∀ t2 : HB, hvEq t2 h → 0 ≤ jx → RB (gS w g 0) t2) ∧ (∀ (j : Nat) (t2 : HB) (q : CM), j < jx → cmOk L ((txPS L).getD j 0) q → (j ≤ jx → RB (gS w g j) t2) → cmRf q.w t2 q.f q.g = 0) ∧
    (∀ (t2 : HB) (q : CM), cmOk L ((txPS L).getD jx 0) q → (jx ≤ jx → RB (gS w g jx) t2) → cmRf q.w t2 q.f q.g = (orF w (txPS L).length 0 g).1) ∧
    (∀ (j : Nat) (t2 t3 : HB) (q : CM), j < (txPS L).length → cmOk L ((txPS L).getD j 0) q → (j ≤ jx → RB (gS w g j) t2) → cmSt q.w q.f q.g t2 t3 → (j + 1 ≤ jx → RB (gS w g (j + 1)) t3)) := by
  rcases orF_gS w g (txPS L).length 0 with ⟨jx, a, b, c, d, x⟩ | ⟨a, x⟩
  · have x2 : orF w (txPS L).length 0 g = (agS w g jx, gS w g jx) := x
    have hr0 : ∀ (j : Nat) (t2 : HB) (q : CM), j < jx → cmOk L ((txPS L).getD j 0) q → (j ≤ jx → RB (gS w g j) t2) → cmRf q.w t2 q.f q.g = 0 := fun j t2 q hj ok hb => by
      have e := ag_cm (hb (by omega)) ok (h3 j (by omega))
      rcases rf_01 q.w t2 q.f q.g with z | z
      · exact z
      · exact absurd (show 0 < agS w g j by unfold agS; rw [e]; exact z) (d j (Nat.zero_le _) hj)
    refine ⟨jx, by omega, fun t2 e _ => hh.of e, hr0, fun t2 q ok hb => ?_, fun j t2 t3 q hj ok hb hs hle => ?_⟩
    · rw [x2]
      exact (ag_cm (hb (Nat.le_refl _)) ok (h3 jx (by omega))).symm
    · exact do_cm (hb (by omega)) ok (h3 j hj) (hr0 j t2 q (by omega) ok hb) hs
  · have x2 : orF w (txPS L).length 0 g = (0, gS w g (0 + (txPS L).length)) := x
    rw [x2] at ho
    exact absurd ho (by show ¬ (0 : Int32) < 0; decide)
