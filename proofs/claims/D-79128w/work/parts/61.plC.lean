/-! THE PLAIN LAW 12: the model's letters, doubles, a cow's text -/
theorem here_lt {t : Nat → Int32} {n q : Nat} (h : hereP t n q = 59) : q < n := by
  unfold hereP at h
  by_cases z : q < n
  · exact z
  · rw [if_neg z] at h
    exact absurd h (by decide)
theorem textF_c {t t' : Nat → Int32} {n : Nat} (e : ∀ q, q < n → t q = t' q) : ∀ (f p : Nat) (v : Int32) (k : Nat) (w : Nat → Int32), p ≤ n → textF t n f p v k w = textF t' n f p v k w := by
  intro f
  induction f with
  | zero => intro p v k w _; rfl
  | succ f ih =>
    intro p v k w hp
    rw [textF, textF, cmdR_c e hp, here_c e]
    by_cases z : (cmdR t' n p v k w).1 = 0
    · rw [if_pos z, if_pos z]
    · rw [if_neg z, if_neg z]
      by_cases y : hereP t' n (cmdR t' n p v k w).2.1 = 59
      · rw [if_pos y, if_pos y]
        exact ih _ _ _ _ (here_lt y)
      · rw [if_neg y, if_neg y]
/-- the model's reading of its letters is the component's -/
theorem textR_eq {t : Nat → Int32} {L : List Int32} (e : ∀ q, q < L.length → t q = L.getD q 0) (v : Int32) (w : Nat → Int32) :
    (textR t L.length v w).1 = (txS L).1 ∧ (textR t L.length v w).2.1 = (txS L).2 ∧
    ((txS L).1 = 1 → (textR t L.length v w).2.2.2.1 = (txPS L).length ∧ ∀ j, j < (txPS L).length → told3 L ((txPS L).getD j 0) j (textR t L.length v w).2.2.2.2) := by
  unfold textR txS txPS
  rw [textF_c (t' := ltF L) e _ _ _ _ _ (Nat.zero_le _)]
  obtain ⟨a, b, c⟩ := text_eq (L := L) (L.length + 1) 0 v 0 w (Nat.zero_le _)
  refine ⟨a, b, fun x => ?_⟩
  obtain ⟨d1, d2, -⟩ := c x
  rw [Nat.zero_add] at d1
  exact ⟨d1, fun j hj => by have := d2 j hj; rw [Nat.zero_add] at this; exact this⟩
theorem str_txt : str_by 1 = [58] ∧ str_by 2 = [120] ∧ str_by 3 = [47] ∧ str_by 4 = [45] ∧ str_by 5 = [32] ∧ str_by 6 = [99] ∧ str_by 7 = str_by 29 ∧ str_by 8 = str_by 30 := by decide +kernel
theorem cow_txt {g : Nat → Int32} {h : HB} {k : Nat} (hh : RB g h) (hk : k < h.n) :
    cwT (nI k) (if moKept g (nI k) = 0 then 1 else 0) (g (10 * k + 18)) (moMil g k) (g 0 - g (10 * k + 20)) (g (10 * k + 17)) (g (10 * k + 22)) (g 0) (moCar g k) (g (10 * k + 21)) = csT (h.S.cv k) h.S.td := by
  have hc := hh.cow hk
  have hn := hh.n.2
  obtain ⟨e1, e2, e3, e4, e5, e6, e7, e8⟩ := str_txt
  have hkp : moKept g (nI k) = if h.S.cv k 6 = 0 then 1 else 0 := by
    rw [kept_eq hh]
    unfold thC
    have i1 : ¬ inC (nI k) 0 (nI h.n - 1) = 0 := by
      have e9 : nI h.n - 1 = nI (h.n - 1) := nI_subE (a := h.n) (b := 1) rfl rfl (by omega)
      have t1 := ti_nI (n := k) (by omega)
      have t2 := ti_nI (n := h.n - 1) (by omega)
      rw [e9]
      unfold inC
      rw [if_neg (fun z => by have := ti_lt.mp z; rw [t1, ti_0] at this; omega), if_neg (fun z => by have := ti_lt.mp z; rw [t1, t2] at this; omega)]
      decide
    rw [if_neg i1, nI_clamp (by omega)]
  rw [hkp, hc.mil, hc.car, hh.td]
  obtain ⟨⟨p0, p1, p2, p3, p4⟩, ⟨p5, p7, p8, p9, p10, p11⟩, -, -⟩ := hc
  rw [← p3, ← p4, ← p7, ← p8, ← p9, ← p0]
  unfold csT cwT
  by_cases z : h.S.cv k 6 = 0
  · rw [if_pos z, if_pos z, if_neg (show ¬ (1 : Int32) = 0 by decide), if_neg (show ¬ (0 : Int32) = 1 by decide)]
    unfold cwTd cwTh cwTm cwT0 cowMil
    rw [e1, e3, e4, e5, e6, e7, e8]
    by_cases y : h.S.cv k 5 = 0
    · simp only [if_pos y, if_pos z]
      rfl
    · simp only [if_neg y, if_pos z, if_neg (show ¬ (1 : Int32) = 0 by decide)]
  · rw [if_neg z, if_neg z, if_pos rfl, if_pos rfl]
    unfold cwT0
    rw [e1, e2]
