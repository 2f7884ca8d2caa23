/-! THE PLAIN LAW 11: commands and texts -/
def told3 (L : List Int32) (p k : Nat) (w : Nat → Int32) : Prop := w (3 * k) = noW (slL L p (wE L p)) ∧ w (3 * k + 1) = cmdV L p ∧ w (3 * k + 2) = cmdX L p
theorem cmd_eq {L : List Int32} {p : Nat} (hp : p ≤ L.length) (v : Int32) (k : Nat) (w : Nat → Int32) :
    (cmdR (ltF L) L.length p v k w).1 = (cmdS L p).1 ∧ (cmdR (ltF L) L.length p v k w).2.1 = (cmdS L p).2 ∧
    ((cmdS L p).1 = 1 → (cmdR (ltF L) L.length p v k w).2.2.2.1 = k + 1 ∧ told3 L p k (cmdR (ltF L) L.length p v k w).2.2.2.2 ∧ ∀ q, q < 3 * k → (cmdR (ltF L) L.length p v k w).2.2.2.2 q = w q) := by
  have hw := wEndF_in (ltF L) L.length (L.length + 1 - p) p hp
  have eW : wordNo (ltF L) p (wEnd (ltF L) L.length p) = noW (slL L p (wE L p)) := wordNo_eq hw.1 hw.2
  have hz : ∀ q, hereP (ltF L) L.length q = rdH L q := fun q => rfl
  have hnp : ∀ q, numP (ltF L) L.length q = nP L q := fun q => rfl
  have hwe : wEnd (ltF L) L.length p = wE L p := rfl
  have hin : ∀ a b c : Int32, inR a b c = inC a b c := fun a b c => rfl
  have k01 : ¬ (0 : Int32) = 1 := by decide
  unfold cmdR cmdS cmdS1
  rw [eW]
  simp only [hz, hwe, hin]
  rcases noW_nm (slL L p (wE L p)) with ⟨m, o⟩ | ⟨m, o⟩ | ⟨m, o⟩
  · rw [m, o, if_pos rfl, if_pos (show (-1 : Int32) < 0 by decide)]
    exact ⟨rfl, rfl, fun x => absurd x k01⟩
  · have n0 : ¬ noW (slL L p (wE L p)) < 0 := by rcases o with ⟨o, -⟩ | ⟨o, -⟩ | ⟨o, -⟩ <;> rw [o] <;> decide
    rw [m, if_neg n0, if_neg (show ¬ (2 : Int32) = 0 by decide)]
    by_cases c1 : rdH L (wE L p) = 32
    · rw [if_pos c1, if_pos c1]
      by_cases c2 : inC (rdH L (wE L p + 1)) 48 57 = 0
      · rw [if_pos c2, if_pos c2]
        exact ⟨rfl, rfl, fun x => absurd x k01⟩
      · rw [if_neg c2, if_neg c2, if_neg (show ¬ (2 : Int32) = 1 by decide)]
        have eu : ∀ (ww : Nat → Int32), cmdU (ltF L) L.length (wE L p + 1) (noW (slL L p (wE L p))) k ww = cmdT (ltF L) L.length (nP L (wE L p + 1)).2 (nP L (wE L p + 1)).1 k (upd (upd (upd ww (3 * k) (noW (slL L p (wE L p)))) (3 * k + 1) (nP L (wE L p + 1)).1) (3 * k + 2) 0) := fun ww => by
          unfold cmdU
          rcases o with ⟨o, -⟩ | ⟨o, -⟩ | ⟨o, -⟩ <;> rw [o]
          · rw [if_pos (show (0 : Int32) < 2 by decide)]; rfl
          · rw [if_pos (show (1 : Int32) < 2 by decide)]; rfl
          · rw [if_neg (show ¬ (5 : Int32) < 2 by decide), if_pos rfl]; rfl
        rw [eu]
        unfold cmdT cmdS2
        simp only [hz, hin, hnp]
        by_cases c3 : rdH L (nP L (wE L p + 1)).2 = 32
        · rw [if_pos c3, if_pos c3]
          by_cases c4 : inC (rdH L ((nP L (wE L p + 1)).2 + 1)) 48 57 = 0
          · rw [if_pos c4, if_pos c4]
            exact ⟨rfl, rfl, fun x => absurd x k01⟩
          · rw [if_neg c4, if_neg c4]
            refine ⟨rfl, rfl, fun _ => ⟨rfl, ⟨?_, ?_, ?_⟩, fun q hq => ?_⟩⟩
            · simp only [upd]
              rw [if_neg (by omega), if_neg (by omega), if_neg (by omega), if_pos trivial]
            · simp only [upd]
              rw [if_neg (by omega), if_neg (by omega), if_pos trivial]
              rfl
            · simp only [upd]
              rw [if_pos trivial]
              unfold cmdX
              rw [m, if_neg (by decide)]
            · simp only [upd]
              rw [if_neg (by omega), if_neg (by omega), if_neg (by omega), if_neg (by omega)]
        · rw [if_neg c3, if_neg c3]
          exact ⟨rfl, rfl, fun x => absurd x k01⟩
    · rw [if_neg c1, if_neg c1]
      exact ⟨rfl, rfl, fun x => absurd x k01⟩
  · have n0 : ¬ noW (slL L p (wE L p)) < 0 := by rcases o with ⟨o, -⟩ | ⟨o, -⟩ | ⟨o, -⟩ <;> rw [o] <;> decide
    rw [m, if_neg n0, if_neg (show ¬ (1 : Int32) = 0 by decide)]
    by_cases c1 : rdH L (wE L p) = 32
    · rw [if_pos c1, if_pos c1]
      by_cases c2 : inC (rdH L (wE L p + 1)) 48 57 = 0
      · rw [if_pos c2, if_pos c2]
        exact ⟨rfl, rfl, fun x => absurd x k01⟩
      · rw [if_neg c2, if_neg c2, if_pos rfl]
        have eu : ∀ (ww : Nat → Int32), cmdU (ltF L) L.length (wE L p + 1) (noW (slL L p (wE L p))) k ww = (1, (nP L (wE L p + 1)).2, (nP L (wE L p + 1)).1, k + 1, upd (upd (upd ww (3 * k) (noW (slL L p (wE L p)))) (3 * k + 1) (nP L (wE L p + 1)).1) (3 * k + 2) 0) := fun ww => by
          unfold cmdU
          rcases o with ⟨o, -⟩ | ⟨o, -⟩ | ⟨o, -⟩ <;> rw [o]
          · rw [if_neg (show ¬ (2 : Int32) < 2 by decide), if_neg (show ¬ (2 : Int32) = 5 by decide)]; rfl
          · rw [if_neg (show ¬ (3 : Int32) < 2 by decide), if_neg (show ¬ (3 : Int32) = 5 by decide)]; rfl
          · rw [if_neg (show ¬ (4 : Int32) < 2 by decide), if_neg (show ¬ (4 : Int32) = 5 by decide)]; rfl
        rw [eu]
        refine ⟨rfl, rfl, fun _ => ⟨rfl, ⟨?_, ?_, ?_⟩, fun q hq => ?_⟩⟩
        · simp only [upd]
          rw [if_neg (by omega), if_neg (by omega), if_pos trivial]
        · simp only [upd]
          rw [if_neg (by omega), if_pos trivial]
          rfl
        · simp only [upd]
          rw [if_pos trivial]
          unfold cmdX
          rw [m, if_pos rfl]
        · simp only [upd]
          rw [if_neg (by omega), if_neg (by omega), if_neg (by omega)]
    · rw [if_neg c1, if_neg c1]
      exact ⟨rfl, rfl, fun x => absurd x k01⟩
/-- a text on both sides -/
theorem text_eq {L : List Int32} : ∀ (f p : Nat) (v : Int32) (k : Nat) (w : Nat → Int32), p ≤ L.length →
    (textF (ltF L) L.length f p v k w).1 = (txF L f p).1 ∧ (textF (ltF L) L.length f p v k w).2.1 = (txF L f p).2 ∧
    ((txF L f p).1 = 1 → (textF (ltF L) L.length f p v k w).2.2.2.1 = k + (txP L f p).length ∧ (∀ j, j < (txP L f p).length → told3 L ((txP L f p).getD j 0) (k + j) (textF (ltF L) L.length f p v k w).2.2.2.2) ∧ ∀ q, q < 3 * k → (textF (ltF L) L.length f p v k w).2.2.2.2 q = w q) := by
  intro f
  induction f with
  | zero => intro p v k w _; exact ⟨rfl, rfl, fun x => absurd x (by show ¬ (0 : Int32) = 1; decide)⟩
  | succ f ih =>
    intro p v k w hp
    obtain ⟨c1, c2, c3⟩ := cmd_eq hp v k w
    rw [textF, txF, txP, c1, c2]
    by_cases z : (cmdS L p).1 = 0
    · rw [if_pos z, if_pos z, if_pos z]
      exact ⟨c1, c2, fun x => absurd (z.symm.trans x) (by decide)⟩
    · rw [if_neg z, if_neg z, if_neg z]
      have z1 := (cmdS_01 L p).resolve_left z
      obtain ⟨d1, d2, d3⟩ := c3 z1
      have hadv := cmd_adv hp z1
      have eh : hereP (ltF L) L.length (cmdS L p).2 = rdH L (cmdS L p).2 := rfl
      rw [eh]
      by_cases y : rdH L (cmdS L p).2 = 59
      · rw [if_pos y, if_pos y, if_pos y]
        have hlt : (cmdS L p).2 + 1 ≤ L.length := by
          have := rdH_lt (by decide) y
          omega
        obtain ⟨e1, e2, e3⟩ := ih ((cmdS L p).2 + 1) (cmdR (ltF L) L.length p v k w).2.2.1 (cmdR (ltF L) L.length p v k w).2.2.2.1 (cmdR (ltF L) L.length p v k w).2.2.2.2 hlt
        refine ⟨e1, e2, fun x => ?_⟩
        obtain ⟨f1, f2, f3⟩ := e3 x
        rw [d1] at f1 f2 f3
        refine ⟨?_, fun j hj => ?_, fun q hq => ?_⟩
        · rw [d1, f1, List.length_cons]; omega
        · rw [d1]
          cases j with
          | zero =>
            rw [List.getD_cons_zero, Nat.add_zero]
            obtain ⟨g1, g2, g3⟩ := d2
            exact ⟨(f3 _ (by omega)).trans g1, (f3 _ (by omega)).trans g2, (f3 _ (by omega)).trans g3⟩
          | succ j =>
            rw [List.getD_cons_succ, show k + (j + 1) = k + 1 + j by omega]
            exact f2 j (by rw [List.length_cons] at hj; omega)
        · rw [d1, f3 q (by omega)]
          exact d3 q hq
      · rw [if_neg y, if_neg y, if_neg y]
        refine ⟨rfl, c2, fun _ => ⟨?_, fun j hj => ?_, fun q hq => d3 q hq⟩⟩
        · rw [d1]; rfl
        · have e0 : j = 0 := by
            have : j < 1 := hj
            omega
          rw [e0, List.getD_cons_zero, Nat.add_zero]
          exact d2
