/-! THE PLAIN LAW 7: the bonus rows; days of the book -/
theorem i32_irr {a : Int32} : ¬ a < a := fun h => by have := ti_lt.mp h; omega
theorem rwK_spec (rv : Nat → Nat → Int32) (lim : Int32) : ∀ f j, j ≤ rwK rv lim f j ∧ rwK rv lim f j ≤ j + f ∧ (∀ i, j ≤ i → i < rwK rv lim f j → rv i 0 < lim) ∧ (rwK rv lim f j < j + f → ¬ rv (rwK rv lim f j) 0 < lim) := by
  intro f
  induction f with
  | zero => intro j; rw [rwK]; exact ⟨by omega, by omega, fun i a b => by omega, fun a => by omega⟩
  | succ f ih =>
    intro j
    rw [rwK]
    by_cases z : rv j 0 < lim
    · rw [if_pos z]
      obtain ⟨a, b, c, d⟩ := ih (j + 1)
      refine ⟨by omega, by omega, fun i x y => ?_, fun x => d (by omega)⟩
      by_cases e : i = j
      · rw [e]; exact z
      · exact c i (by omega) y
    · rw [if_neg z]
      exact ⟨by omega, by omega, fun i x y => by omega, fun _ => z⟩
theorem RO.le {nr : Nat} {rv : Nat → Nat → Int32} (h : RO nr rv) {i j : Nat} (hij : i ≤ j) (hj : j < nr) : rv i 0 ≤ rv j 0 := by
  by_cases e : i = j
  · rw [e]; exact Int32.le_refl _
  · exact Int32.le_of_lt (h i j (by omega) hj)
theorem moRowF_eq {g : Nat → Int32} {rv : Nat → Nat → Int32} {nr : Nat} {lim : Int32} (hro : RO nr rv) (h : ∀ k, k < nr → g (2 * k + 95) = rv k 0) : ∀ f j, j + f = nr → moRowF g lim f j = if rwK rv lim f j < nr ∧ rv (rwK rv lim f j) 0 = lim then nI (rwK rv lim f j) else -1 := by
  intro f
  induction f with
  | zero => intro j hj; rw [moRowF, rwK, if_neg (by omega)]
  | succ f ih =>
    intro j hj
    rw [moRowF, rwK, h j (by omega)]
    by_cases e : rv j 0 = lim
    · rw [if_pos e, if_neg (show ¬ rv j 0 < lim by rw [e]; exact i32_irr), if_pos (show j < nr ∧ rv j 0 = lim from ⟨by omega, e⟩)]
    · rw [if_neg e, ih (j + 1) (by omega)]
      by_cases z : rv j 0 < lim
      · rw [if_pos z]
      · rw [if_neg z, if_neg (show ¬ (j < nr ∧ rv j 0 = lim) from fun w => e w.2)]
        obtain ⟨a, b, -, -⟩ := rwK_spec rv lim f (j + 1)
        refine if_neg (fun w => ?_)
        have h1 : lim < rv j 0 := by
          rcases Int32.lt_or_le lim (rv j 0) with x | x
          · exact x
          · exact absurd (Int32.le_antisymm x (Int32.not_lt.mp z)) e
        have h2 := hro j _ (by omega) w.1
        rw [w.2] at h2
        exact absurd (Int32.lt_trans h1 h2) i32_irr
theorem moRow_eq {g : Nat → Int32} {h : HB} (hh : RB g h) (lim : Int32) : moRow g lim h.nr = if rowK h.rv lim h.nr < h.nr ∧ h.rv (rowK h.rv lim h.nr) 0 = lim then nI (rowK h.rv lim h.nr) else -1 :=
  moRowF_eq hh.2.2.2 (fun k hk => (hh.row hk).1) h.nr 0 (by omega)
theorem rowK_le4 {g : Nat → Int32} {h : HB} (hh : RB g h) (lim : Int32) : rowK h.rv lim h.nr ≤ h.nr ∧ h.nr ≤ 4 := ⟨by have := (rwK_spec h.rv lim h.nr 0).2.1; unfold rowK; omega, hh.nr.2⟩
theorem ti_nI {n : Nat} (h : n < 2 ^ 31) : (nI n).toInt = n := Int32.toInt_ofNat_of_lt h
theorem ag5_eq {g : Nat → Int32} {h : HB} (hh : RB g h) (c v : Int32) : moAg5 g c v h.nr = rfBonus h.rv h.nr c v := by
  unfold moAg5 rfBonus
  have e1 : ∀ a lo hi : Int32, inR a lo hi = inC a lo hi := fun _ _ _ => rfl
  rw [e1, e1]
  have key : (if moRow g c h.nr < 0 then (5 : Int32) else 0) = (if rowR h.rv c h.nr < 0 then 5 else 0) := by
    obtain ⟨k1, k2⟩ := rowK_le4 hh c
    have p : ¬ nI (rowK h.rv c h.nr) < 0 := fun z => by
      have z' := ti_lt.mp z
      rw [ti_nI (by omega), ti_0] at z'
      omega
    have n : (-1 : Int32) - nI (rowK h.rv c h.nr) < 0 := by
      have m1 : (-1 : Int32).toInt = -1 := rfl
      rw [ti_lt, ti_sub (by rw [ti_nI (by omega), m1]; omega) (by rw [ti_nI (by omega), m1]; omega), ti_nI (by omega), ti_0, m1]
      omega
    have n1 : (-1 : Int32) < 0 := by decide
    rw [moRow_eq hh]
    unfold rowR
    by_cases a : rowK h.rv c h.nr < h.nr
    · by_cases b : h.rv (rowK h.rv c h.nr) 0 = c
      · rw [if_pos (show rowK h.rv c h.nr < h.nr ∧ h.rv (rowK h.rv c h.nr) 0 = c from ⟨a, b⟩), if_pos a, if_pos b]
      · rw [if_neg (show ¬ (rowK h.rv c h.nr < h.nr ∧ h.rv (rowK h.rv c h.nr) 0 = c) from fun w => b w.2), if_pos a, if_neg b, if_pos n1, if_pos n]
    · rw [if_neg (show ¬ (rowK h.rv c h.nr < h.nr ∧ h.rv (rowK h.rv c h.nr) 0 = c) from fun w => a w.1), if_neg a, if_pos n1, if_pos n]
  rw [key]
/-- the rows change alone -/
theorem RB_rows {g g' : Nat → Int32} {h : HB} {nr : Nat} {rv : Nat → Nat → Int32} (hh : RB g h) (y : LST) (m : Int32) (ra : Nat → Nat) (hnr : nr ≤ 4) (h10 : g' 10 = nI nr) (hr : ∀ k, k < nr → g' (2 * k + 95) = rv k 0 ∧ g' (2 * k + 96) = rv k 1) (e : ∀ q, q ≠ 10 → q < 95 ∨ 103 ≤ q → g' q = g q) (hro : RO nr rv) : RB g' (HB.setRw h y m nr ra rv) := by
  obtain ⟨⟨⟨a0, as, a7, a8, a9, a10, a11, a12, a13⟩, hcs, hw, hq, a14⟩, ⟨hb, hs, hl⟩, ht, -⟩ := hh
  have hn := hb.1
  refine ⟨⟨⟨?_, ?_, ?_, ?_, ?_, h10, ?_, ?_, ?_⟩, ?_, hr, ?_, ?_⟩, ⟨⟨hb.1, hnr, hb.2.2⟩, hs, hl⟩, ht, hro⟩
  · rw [e 0 (by omega) (by omega)]; exact a0
  · intro j hj; rw [e (j + 1) (by omega) (by omega)]; exact as j hj
  · rw [e 7 (by omega) (by omega)]; exact a7
  · rw [e 8 (by omega) (by omega)]; exact a8
  · rw [e 9 (by omega) (by omega)]; exact a9
  · rw [e 11 (by omega) (by omega)]; exact a11
  · rw [e 12 (by omega) (by omega)]; exact a12
  · rw [e 13 (by omega) (by omega)]; exact a13
  · intro j hj
    have hj8 : j < 8 := Nat.lt_of_lt_of_le hj hn
    exact (hcs j hj).congr (fun q q1 q2 => e q (by omega) (by omega))
  · intro j hj; exact (hq j hj).congr (fun q q1 q2 => e q (by omega) (by omega))
  · rw [e 14 (by omega) (by omega)]; exact a14
theorem RB_hit {g : Nat → Int32} {h : HB} {lim bon : Int32} (hh : RB g h) (hk : rowK h.rv lim h.nr < h.nr) (hl : h.rv (rowK h.rv lim h.nr) 0 = lim) (y : LST) (m : Int32) (ra : Nat → Nat) :
    RB (moRows g lim bon h.nr) (HB.setRw h y m h.nr ra (va_up h.rv (rowK h.rv lim h.nr) (rwNew lim bon))) := by
  obtain ⟨k1, k2⟩ := rowK_le4 hh lim
  have er : moRow g lim h.nr = nI (rowK h.rv lim h.nr) := by rw [moRow_eq hh, if_pos ⟨hk, hl⟩]
  have eg : moRows g lim bon h.nr = moRowPut g lim bon (rowK h.rv lim h.nr) := by
    unfold moRows
    rw [er, nI_clamp (by omega), if_neg (fun z => by
      have z' := ti_lt.mp z
      rw [ti_nI (by omega), ti_0] at z'
      omega)]
  rw [eg]
  generalize hkk : rowK h.rv lim h.nr = k at hk hl k1
  have ep : ∀ q, moRowPut g lim bon k q = if q = 2 * k + 96 then bon else if q = 2 * k + 95 then lim else g q := fun q => by simp only [moRowPut, upd]
  refine RB_rows hh y m ra k2 ?_ (fun j hj => ?_) (fun q q1 q2 => ?_) ?_
  · rw [ep, if_neg (by omega), if_neg (by omega)]; exact hh.nr.1
  · rw [ep, ep]
    show _ = (if j = k then rwNew lim bon else h.rv j) 0 ∧ _ = (if j = k then rwNew lim bon else h.rv j) 1
    by_cases z : j = k
    · rw [if_pos z, if_neg (by omega), if_pos (by omega), if_pos (by omega)]
      exact ⟨rfl, rfl⟩
    · rw [if_neg z, if_neg (by omega), if_neg (by omega), if_neg (by omega), if_neg (by omega)]
      exact hh.row hj
  · rw [ep, if_neg (by omega), if_neg (by omega)]
  · have e0 : ∀ i, va_up h.rv k (rwNew lim bon) i 0 = h.rv i 0 := fun i => by
      show (if i = k then rwNew lim bon else h.rv i) 0 = _
      by_cases z : i = k
      · rw [if_pos z, z, hl]; rfl
      · rw [if_neg z]
    intro i j hij hj
    rw [e0, e0]
    exact hh.2.2.2 i j hij hj
theorem moIns_rows {g : Nat → Int32} {rv : Nat → Nat → Int32} {nr K : Nat} {lim bon : Int32} (hro : RO nr rv) (hK : K ≤ nr) (hgt : ∀ j, K ≤ j → j < nr → lim < rv j 0) (hlt : ∀ j, j < K → rv j 0 < lim) :
    ∀ (k : Nat) (G : Nat → Int32), K ≤ k → k ≤ nr → (∀ j, j < k → G (2 * j + 95) = rv j 0 ∧ G (2 * j + 96) = rv j 1) → (∀ j, k < j → j ≤ nr → G (2 * j + 95) = rv (j - 1) 0 ∧ G (2 * j + 96) = rv (j - 1) 1) → (∀ q, q < 95 ∨ 2 * nr + 96 < q → G q = g q) →
      (∀ j, j ≤ nr → moIns lim bon G k (2 * j + 95) = insV rv K (rwNew lim bon) j 0 ∧ moIns lim bon G k (2 * j + 96) = insV rv K (rwNew lim bon) j 1) ∧ (∀ q, q ≠ 10 → q < 95 ∨ 2 * nr + 96 < q → moIns lim bon G k q = g q) ∧ moIns lim bon G k 10 = g 10 + 1 := by
  have fin : ∀ (G : Nat → Int32), (∀ j, j < K → G (2 * j + 95) = rv j 0 ∧ G (2 * j + 96) = rv j 1) → (∀ j, K < j → j ≤ nr → G (2 * j + 95) = rv (j - 1) 0 ∧ G (2 * j + 96) = rv (j - 1) 1) → (∀ q, q < 95 ∨ 2 * nr + 96 < q → G q = g q) →
      (∀ j, j ≤ nr → moRowEnd G lim bon K (2 * j + 95) = insV rv K (rwNew lim bon) j 0 ∧ moRowEnd G lim bon K (2 * j + 96) = insV rv K (rwNew lim bon) j 1) ∧ (∀ q, q ≠ 10 → q < 95 ∨ 2 * nr + 96 < q → moRowEnd G lim bon K q = g q) ∧ moRowEnd G lim bon K 10 = g 10 + 1 := by
    intro G h1 h2 h3
    have ep : ∀ q, moRowEnd G lim bon K q = if q = 2 * K + 96 then bon else if q = 2 * K + 95 then lim else if q = 10 then G 10 + 1 else G q := fun q => by simp only [moRowEnd, moRowPut, upd]
    refine ⟨fun j hj => ?_, fun q q1 q2 => ?_, ?_⟩
    · have e1 : moRowEnd G lim bon K (2 * j + 95) = if j = K then lim else G (2 * j + 95) := by
        rw [ep, if_neg (by omega)]
        by_cases z : j = K
        · rw [if_pos (by omega), if_pos z]
        · rw [if_neg (by omega), if_neg (by omega), if_neg z]
      have e2 : moRowEnd G lim bon K (2 * j + 96) = if j = K then bon else G (2 * j + 96) := by
        rw [ep]
        by_cases z : j = K
        · rw [if_pos (by omega), if_pos z]
        · rw [if_neg (by omega), if_neg (by omega), if_neg (by omega), if_neg z]
      rw [e1, e2]
      unfold insV
      by_cases z : j = K
      · rw [if_pos z, if_pos z, if_neg (show ¬ j < K by omega), if_pos z]
        exact ⟨rfl, rfl⟩
      · simp only [if_neg z]
        by_cases y : j < K
        · simp only [if_pos y]; exact h1 j y
        · simp only [if_neg y]; exact h2 j (by omega) hj
    · rw [ep, if_neg (by omega), if_neg (by omega), if_neg q1]; exact h3 q q2
    · rw [ep, if_neg (by omega), if_neg (by omega), if_pos rfl, h3 10 (by omega)]
  intro k
  induction k with
  | zero =>
    intro G hk _ h1 h2 h3
    have e : K = 0 := by omega
    rw [moIns]
    have f := fin G (fun j hj => by omega) (fun j a b => h2 j (by omega) b) h3
    rw [e] at f ⊢
    exact f
  | succ k ih =>
    intro G hk hkn h1 h2 h3
    rw [moIns]
    have hg := h1 k (by omega)
    by_cases z : lim < G (2 * k + 95)
    · rw [if_pos z]
      have z2 := z
      rw [hg.1] at z2
      have hKk : K ≤ k := by
        rcases Nat.lt_or_ge k K with w | w
        · exact absurd (Int32.lt_trans (hlt k w) z2) i32_irr
        · exact w
      have ep : ∀ q, upd (upd G (2 * k + 97) (G (2 * k + 95))) (2 * k + 98) (G (2 * k + 96)) q = if q = 2 * k + 98 then G (2 * k + 96) else if q = 2 * k + 97 then G (2 * k + 95) else G q := fun q => by simp only [upd]
      refine ih _ hKk (by omega) (fun j hj => ?_) (fun j a b => ?_) (fun q hq => ?_)
      · rw [ep, ep, if_neg (by omega), if_neg (by omega), if_neg (by omega), if_neg (by omega)]
        exact h1 j (by omega)
      · rw [ep, ep]
        by_cases y : j = k + 1
        · rw [if_neg (by omega), if_pos (by omega), if_pos (by omega), y]
          exact hg
        · rw [if_neg (by omega), if_neg (by omega), if_neg (by omega), if_neg (by omega)]
          exact h2 j (by omega) b
      · rw [ep, if_neg (by omega), if_neg (by omega)]
        exact h3 q hq
    · rw [if_neg z]
      have e : K = k + 1 := by
        rcases Nat.lt_or_ge K (k + 1) with w | w
        · rw [hg.1] at z
          exact absurd (hgt k (by omega) (by omega)) z
        · omega
      have f := fin G (fun j hj => h1 j (by omega)) (fun j a b => h2 j (by omega) b) h3
      rw [e] at f ⊢
      exact f
theorem RB_miss {g : Nat → Int32} {h : HB} {lim bon : Int32} (hh : RB g h) (h3 : h.nr ≤ 3) (hm : rowK h.rv lim h.nr < h.nr → ¬ h.rv (rowK h.rv lim h.nr) 0 = lim) (y : LST) (m : Int32) (ra : Nat → Nat) :
    RB (moRows g lim bon h.nr) (HB.setRw h y m (h.nr + 1) ra (insV h.rv (rowK h.rv lim h.nr) (rwNew lim bon))) := by
  obtain ⟨k1, k2⟩ := rowK_le4 hh lim
  have eg : moRows g lim bon h.nr = moIns lim bon g h.nr := by
    unfold moRows
    rw [moRow_eq hh, if_neg (show ¬ (rowK h.rv lim h.nr < h.nr ∧ h.rv (rowK h.rv lim h.nr) 0 = lim) from fun w => hm w.1 w.2), if_pos (show (-1 : Int32) < 0 by decide)]
  obtain ⟨-, -, s3, s4⟩ := rwK_spec h.rv lim h.nr 0
  have hlt : ∀ j, j < rowK h.rv lim h.nr → h.rv j 0 < lim := fun j hj => s3 j (by omega) hj
  have hgt : ∀ j, rowK h.rv lim h.nr ≤ j → j < h.nr → lim < h.rv j 0 := fun j a b => by
    have c := s4 (show rwK h.rv lim h.nr 0 < 0 + h.nr by have : rowK h.rv lim h.nr = rwK h.rv lim h.nr 0 := rfl; omega)
    have d := hm (by omega)
    have e : lim < h.rv (rowK h.rv lim h.nr) 0 := by
      rcases Int32.lt_or_le lim (h.rv (rowK h.rv lim h.nr) 0) with x | x
      · exact x
      · exact absurd (Int32.le_antisymm x (Int32.not_lt.mp c)) d
    have f := hh.2.2.2.le a b
    rcases Int32.lt_or_le lim (h.rv j 0) with x | x
    · exact x
    · exact absurd (Int32.lt_of_lt_of_le e (Int32.le_trans f x)) i32_irr
  have hI := moIns_rows (g := g) (bon := bon) hh.2.2.2 k1 hgt hlt h.nr g k1 (Nat.le_refl _) (fun j hj => hh.row hj) (fun j a b => by omega) (fun q _ => rfl)
  rw [eg]
  refine RB_rows hh y m ra (by omega) ?_ (fun j hj => hI.1 j (by omega)) (fun q q1 q2 => hI.2.1 q q1 (by omega)) ?_
  · rw [hI.2.2, hh.nr.1, nI_succ]
  · generalize rowK h.rv lim h.nr = K at k1 hlt hgt
    intro i j hij hj
    unfold insV
    have hj : j ≤ h.nr := by omega
    by_cases a : j < K
    · rw [if_pos a, if_pos (by omega)]
      exact hh.2.2.2 i j hij (by omega)
    · rw [if_neg a]
      by_cases b : j = K
      · rw [if_pos b, if_pos (by omega)]
        exact hlt i (by omega)
      · rw [if_neg b]
        by_cases c : i < K
        · rw [if_pos c]
          exact Int32.lt_trans (hlt i c) (hgt (j - 1) (by omega) (by omega))
        · rw [if_neg c]
          by_cases d : i = K
          · rw [if_pos d]
            exact hgt (j - 1) (by omega) (by omega)
          · rw [if_neg d]
            exact hh.2.2.2 (i - 1) (j - 1) (by omega) (by omega)
