/-! THE PLAIN LAW 1: a cow, her day -/
theorem ti_add {a b : Int32} (h1 : -2147483648 ≤ a.toInt + b.toInt) (h2 : a.toInt + b.toInt < 2147483648) : (a + b).toInt = a.toInt + b.toInt := by
  rw [Int32.toInt_add]
  exact Int.bmod_eq_of_le (by omega) (by omega)
theorem ti_sub {a b : Int32} (h1 : -2147483648 ≤ a.toInt - b.toInt) (h2 : a.toInt - b.toInt < 2147483648) : (a - b).toInt = a.toInt - b.toInt := by
  rw [Int32.toInt_sub]
  exact Int.bmod_eq_of_le (by omega) (by omega)
theorem ti_lt {a b : Int32} : a < b ↔ a.toInt < b.toInt := Int32.lt_iff_toInt_lt
theorem ti_le {a b : Int32} : a ≤ b ↔ a.toInt ≤ b.toInt := Int32.le_iff_toInt_le
theorem ti_0 : (0 : Int32).toInt = 0 := rfl
theorem ti_eq {a b : Int32} (h : a.toInt = b.toInt) : a = b := Int32.toInt_inj.mp h
/-- a number between two bounds -/
def bw (v : Int32) (lo hi : Int) : Prop := lo ≤ v.toInt ∧ v.toInt ≤ hi
def CW (g : Nat → Int32) (k : Nat) (c : Nat → Int32) : Prop :=
  (c 0 = nI k ∧ c 1 = g (10 * k + 15) ∧ c 2 = g (10 * k + 16) ∧ c 3 = g (10 * k + 17) ∧ c 4 = g (10 * k + 18)) ∧
  (g (10 * k + 19) = cowState c ∧ c 7 = g (10 * k + 20) ∧ c 8 = g (10 * k + 21) ∧ c 9 = g (10 * k + 22) ∧ c 10 = g (10 * k + 23) ∧ c 11 = g (10 * k + 24)) ∧
  cowB c ∧ (c 8 = -1 ∨ 0 ≤ c 8)
theorem CW.congr {g g' : Nat → Int32} {k : Nat} {c : Nat → Int32} (h : CW g k c) (e : ∀ q, 10 * k + 15 ≤ q → q ≤ 10 * k + 24 → g' q = g q) : CW g' k c := by
  unfold CW
  rw [e (10 * k + 15) (by omega) (by omega), e (10 * k + 16) (by omega) (by omega), e (10 * k + 17) (by omega) (by omega), e (10 * k + 18) (by omega) (by omega), e (10 * k + 19) (by omega) (by omega), e (10 * k + 20) (by omega) (by omega), e (10 * k + 21) (by omega) (by omega), e (10 * k + 22) (by omega) (by omega), e (10 * k + 23) (by omega) (by omega), e (10 * k + 24) (by omega) (by omega)]
  exact h
theorem CW.mil {g : Nat → Int32} {k : Nat} {c : Nat → Int32} (h : CW g k c) : moMil g k = cowMil c := by
  obtain ⟨-, ⟨h1, -⟩, ⟨h5, h6⟩, -⟩ := h
  unfold moMil cowMil
  rw [h1]
  unfold cowState
  rcases h5 with a | a <;> rcases h6 with b | b <;> rw [a, b] <;> decide
theorem CW.car {g : Nat → Int32} {k : Nat} {c : Nat → Int32} (h : CW g k c) : moCar g k = cowCar c := by
  obtain ⟨-, ⟨h1, -, h8, -⟩, ⟨h5, h6⟩, h9⟩ := h
  unfold moCar cowCar
  rw [h1, ← h8]
  unfold cowState
  rcases h9 with d | d
  · rw [d]
    rcases h5 with a | a <;> rcases h6 with b | b <;> rw [a, b] <;> decide
  · have n1 : ¬ c 8 < 0 := Int32.not_lt.mpr d
    have n2 : ¬ c 8 = -1 := by intro e; rw [e] at d; exact absurd d (by decide)
    rw [if_neg n1, if_neg n2]
    rcases h5 with a | a <;> rcases h6 with b | b <;> rw [a, b] <;> decide
theorem CW.lit {g : Nat → Int32} {k : Nat} {c : Nat → Int32} (h : CW g k c) (t : Int32) : moLit g k t = cvCurve (c 1) (c 2) t := by
  obtain ⟨⟨-, h1, h2, -⟩, -⟩ := h
  unfold moLit cvCurve
  rw [← h1, ← h2]
  dsimp only
  generalize c 1 / 2 + c 1 * t / 40 = u
  generalize c 1 - c 2 * t / 20 = d
  have e : (if u < d then u else d) = (if d < u then d else u) := by
    rcases Int32.lt_or_le u d with a | a
    · rw [if_pos a, if_neg (Int32.not_lt.mpr (Int32.le_of_lt a))]
    · rw [if_neg (Int32.not_lt.mpr a)]
      by_cases b : d < u
      · rw [if_pos b]
      · rw [if_neg b]; exact Int32.le_antisymm a (Int32.not_lt.mp b)
  rw [e]
theorem cvCurve_nn (p d t : Int32) : 0 ≤ cvCurve p d t := by
  unfold cvCurve
  dsimp only
  generalize (if p - d * t / 20 < p / 2 + p * t / 40 then p - d * t / 20 else p / 2 + p * t / 40) = x
  by_cases h : 0 < x
  · rw [if_pos h]; exact Int32.le_of_lt h
  · rw [if_neg h]; decide
theorem cowLit_nn (c : Nat → Int32) (t : Int32) : 0 ≤ cowLit c t := by
  unfold cowLit
  split
  · decide
  · exact cvCurve_nn _ _ _
theorem tkRoom_eq {li cap : Int32} (h1 : bw li 0 999) (h2 : bw cap 0 999) : tkRoom li cap = if li < cap then cap - li else 0 := by
  obtain ⟨a1, a2⟩ := h1
  obtain ⟨b1, b2⟩ := h2
  have e := ti_sub (a := cap) (b := li) (by omega) (by omega)
  unfold tkRoom
  by_cases h : li < cap
  · have h' := ti_lt.mp h
    rw [if_pos h, if_pos (ti_lt.mpr (by rw [e, ti_0]; omega))]
  · have h' : ¬ li.toInt < cap.toInt := fun z => h (ti_lt.mpr z)
    rw [if_neg h, if_neg (fun z => by have z' := ti_lt.mp z; rw [e, ti_0] at z'; omega)]
theorem tkRoom_bw {li cap : Int32} (h1 : bw li 0 999) (h2 : bw cap 0 999) : 0 ≤ (tkRoom li cap).toInt ∧ li.toInt + (tkRoom li cap).toInt ≤ 999 := by
  rw [tkRoom_eq h1 h2]
  obtain ⟨a1, a2⟩ := h1
  obtain ⟨b1, b2⟩ := h2
  have e := ti_sub (a := cap) (b := li) (by omega) (by omega)
  by_cases h : li < cap
  · have h' := ti_lt.mp h
    rw [if_pos h, e]
    omega
  · rw [if_neg h, ti_0]
    omega
theorem milkA_bw {td li cap : Int32} {c : Nat → Int32} (h1 : bw li 0 999) (h2 : bw cap 0 999) : 0 ≤ (milkA td li cap c).toInt ∧ li.toInt + (milkA td li cap c).toInt ≤ 999 := by
  have hr := tkRoom_bw h1 h2
  obtain ⟨a1, a2⟩ := h1
  unfold milkA
  split
  · rename_i hp
    have hp' := ti_lt.mp hp
    rw [ti_0] at hp'
    split
    · unfold tkFill
      split
      · exact hr
      · rename_i hn
        have hn' : ¬ (tkRoom li cap).toInt < (cowLit c td).toInt := fun z => hn (ti_lt.mpr z)
        omega
    · rw [ti_0]; omega
  · rw [ti_0]; omega
theorem milkA_new {td li cap : Int32} {c : Nat → Int32} (h1 : bw li 0 999) (h2 : bw cap 0 999) : bw (li + milkA td li cap c) 0 999 := by
  have h := milkA_bw (td := td) (c := c) h1 h2
  obtain ⟨a1, a2⟩ := h1
  unfold bw
  rw [ti_add (by omega) (by omega)]
  omega
/-- the model's litres that come into the tank -/
theorem comes_eq {g : Nat → Int32} {k : Nat} {c : Nat → Int32} (h : CW g k c) (hm : ¬ cowMil c = 0) (h1 : bw (g 8) 0 999) (h2 : bw (g 4) 0 999) : moComes g k = milkA (g 0) (g 8) (g 4) c := by
  have hl : moLit g k (g 0 - g (10 * k + 20)) = cowLit c (g 0) := by
    rw [h.lit, ← h.2.1.2.1]; unfold cowLit; rw [if_neg hm]
  have hf : moFree g = tkRoom (g 8) (g 4) := by rw [tkRoom_eq h1 h2]; rfl
  have hrb := tkRoom_bw h1 h2
  unfold moComes milkA
  rw [hl, hf, ← h.2.1.2.1, ← h.2.1.2.2.2.1]
  unfold cowHeld tkFill
  have hnn := cowLit_nn c (g 0)
  generalize cowLit c (g 0) = x at hnn ⊢
  generalize tkRoom (g 8) (g 4) = y at hrb ⊢
  have hy : 0 ≤ y := ti_le.mpr (by rw [ti_0]; exact hrb.1)
  by_cases a : g 0 - c 7 < 4
  · rw [if_pos a, if_pos a, if_neg (by decide : ¬ (1 : Int32) = 0)]
    split <;> rfl
  · rw [if_neg a, if_neg a]
    by_cases b : g 0 < c 9
    · rw [if_pos b, if_pos b, if_neg (by decide : ¬ (1 : Int32) = 0)]
      split <;> rfl
    · rw [if_neg b, if_neg b, if_pos rfl]
      by_cases d : x < y
      · rw [if_pos d, if_neg (Int32.not_lt.mpr (Int32.le_of_lt d))]
        by_cases p : 0 < x
        · rw [if_pos p]
        · rw [if_neg p]; exact Int32.le_antisymm (Int32.not_lt.mp p) hnn
      · rw [if_neg d]
        by_cases p : 0 < x
        · rw [if_pos p]
          by_cases q : y < x
          · rw [if_pos q]
          · rw [if_neg q]; exact Int32.le_antisymm (Int32.not_lt.mp d) (Int32.not_lt.mp q)
        · rw [if_neg p]
          have hx0 : x = 0 := Int32.le_antisymm (Int32.not_lt.mp p) hnn
          rw [hx0] at d
          exact Int32.le_antisymm (Int32.not_lt.mp d) hy
theorem cowState_6 {c : Nat → Int32} (h : cowB c) (h6 : ¬ cowCar c = 0) : c 6 = 0 ∧ ¬ c 8 = -1 := by
  unfold cowCar at h6
  by_cases a : c 8 = -1
  · rw [if_pos a] at h6; exact absurd rfl h6
  · rw [if_neg a] at h6
    by_cases b : c 6 = 0
    · exact ⟨b, a⟩
    · rw [if_neg b] at h6; exact absurd rfl h6
theorem calve_at {g : Nat → Int32} {k : Nat} {c : Nat → Int32} (h : CW g k c) : CW (moCalve g k) k (calvC (g 0) c) := by
  unfold moCalve calvC
  rw [h.car]
  by_cases a : cowCar c = 0
  · rw [if_pos a, if_pos a]; exact h
  · rw [if_neg a, if_neg a]
    obtain ⟨b6, -⟩ := cowState_6 h.2.2.1 a
    by_cases b : c 8 = g 0
    · rw [if_pos b, if_pos (by rw [← h.2.1.2.2.1]; exact b)]
      obtain ⟨⟨p0, p1, p2, p3, p4⟩, ⟨p5, p7, p8, p9, p10, p11⟩, ⟨q5, q6⟩, -⟩ := h
      refine ⟨⟨?_, ?_, ?_, ?_, ?_⟩, ⟨?_, ?_, ?_, ?_, ?_, ?_⟩, ⟨?_, ?_⟩, ?_⟩ <;> simp_all [upd, cowBegin, cowState]
    · rw [if_neg b, if_neg (by rw [← h.2.1.2.2.1]; exact b)]; exact h
theorem calve_else (g : Nat → Int32) (k q : Nat) (h : q < 10 * k + 15 ∨ 10 * k + 24 < q) : moCalve g k q = g q := by
  unfold moCalve
  split
  · rfl
  · split
    · simp only [upd]
      rw [if_neg (by omega), if_neg (by omega), if_neg (by omega), if_neg (by omega)]
    · rfl
theorem dry_at {g : Nat → Int32} {k : Nat} {c : Nat → Int32} (h : CW g k c) : CW (moDry g k) k (dryoC (g 0) (g 2) c) := by
  unfold moDry dryoC
  rw [h.car, h.mil]
  by_cases a : cowCar c = 0
  · rw [if_pos a, if_pos a]; exact h
  · rw [if_neg a, if_neg a]
    obtain ⟨b6, -⟩ := cowState_6 h.2.2.1 a
    by_cases b : c 5 = 0
    · rw [if_pos b, if_pos (by unfold cowMil; rw [if_pos b])]; exact h
    · rw [if_neg b, if_neg (by unfold cowMil; rw [if_neg b, if_pos b6]; decide), ← h.2.1.2.2.1]
      split
      · exact h
      · obtain ⟨⟨p0, p1, p2, p3, p4⟩, ⟨p5, p7, p8, p9, p10, p11⟩, ⟨q5, q6⟩, q8⟩ := h
        refine ⟨⟨?_, ?_, ?_, ?_, ?_⟩, ⟨?_, ?_, ?_, ?_, ?_, ?_⟩, ⟨?_, ?_⟩, ?_⟩ <;> simp_all [upd, cowState]
theorem dry_else (g : Nat → Int32) (k q : Nat) (h : q < 10 * k + 15 ∨ 10 * k + 24 < q) : moDry g k q = g q := by
  unfold moDry
  split
  · rfl
  · split
    · rfl
    · split
      · rfl
      · simp only [upd]
        rw [if_neg (by omega)]
theorem milk_at {g : Nat → Int32} {k : Nat} {c : Nat → Int32} (h : CW g k c) (h1 : bw (g 8) 0 999) (h2 : bw (g 4) 0 999) :
    CW (moMilkS g k) k (milkC (g 0) (g 8) (g 4) c) ∧ moMilkS g k 8 = g 8 + milkA (g 0) (g 8) (g 4) c ∧ moMilkS g k 9 = g 9 + milkA (g 0) (g 8) (g 4) c * c 3 ∧ moMilkS g k 14 = g 14 + (cowLit c (g 0) - milkA (g 0) (g 8) (g 4) c) := by
  unfold moMilkS milkC
  rw [h.mil]
  by_cases a : cowMil c = 0
  · have l0 : cowLit c (g 0) = 0 := by unfold cowLit; rw [if_pos a]
    have a0 : milkA (g 0) (g 8) (g 4) c = 0 := by unfold milkA; rw [l0, if_neg (by decide)]
    rw [if_pos a, l0, a0]
    obtain ⟨⟨p0, p1, p2, p3, p4⟩, ⟨p5, p7, p8, p9, p10, p11⟩, ⟨q5, q6⟩, q8⟩ := h
    refine ⟨⟨⟨?_, ?_, ?_, ?_, ?_⟩, ⟨?_, ?_, ?_, ?_, ?_, ?_⟩, ⟨?_, ?_⟩, ?_⟩, ?_, ?_, ?_⟩ <;> simp_all [upd, cowState]
  · rw [if_neg a]
    unfold moMilk
    rw [comes_eq h a h1 h2]
    have hl : moLit g k (g 0 - g (10 * k + 20)) = cowLit c (g 0) := by
      rw [h.lit, ← h.2.1.2.1]; unfold cowLit; rw [if_neg a]
    rw [hl]
    generalize milkA (g 0) (g 8) (g 4) c = y
    generalize cowLit c (g 0) = x
    obtain ⟨⟨p0, p1, p2, p3, p4⟩, ⟨p5, p7, p8, p9, p10, p11⟩, ⟨q5, q6⟩, q8⟩ := h
    have e : ∀ q, moMilk5 g k x y q = if q = 14 then g 14 + (x - y) else if q = 9 then g 9 + y * g (10 * k + 17) else if q = 8 then g 8 + y else if q = 10 * k + 24 then g (10 * k + 24) + y else if q = 10 * k + 23 then g (10 * k + 23) + x else g q := fun q => by
      simp only [moMilk5, upd]
    refine ⟨⟨⟨?_, ?_, ?_, ?_, ?_⟩, ⟨?_, ?_, ?_, ?_, ?_, ?_⟩, ⟨?_, ?_⟩, ?_⟩, ?_, ?_, ?_⟩
    · simp only [upd]; exact p0
    · rw [e, if_neg (by omega), if_neg (by omega), if_neg (by omega), if_neg (by omega), if_neg (by omega)]; exact p1
    · rw [e, if_neg (by omega), if_neg (by omega), if_neg (by omega), if_neg (by omega), if_neg (by omega)]; exact p2
    · rw [e, if_neg (by omega), if_neg (by omega), if_neg (by omega), if_neg (by omega), if_neg (by omega)]; exact p3
    · rw [e, if_neg (by omega), if_neg (by omega), if_neg (by omega), if_neg (by omega), if_neg (by omega)]; exact p4
    · rw [e, if_neg (by omega), if_neg (by omega), if_neg (by omega), if_neg (by omega), if_neg (by omega)]; exact p5
    · rw [e, if_neg (by omega), if_neg (by omega), if_neg (by omega), if_neg (by omega), if_neg (by omega)]; exact p7
    · rw [e, if_neg (by omega), if_neg (by omega), if_neg (by omega), if_neg (by omega), if_neg (by omega)]; exact p8
    · rw [e, if_neg (by omega), if_neg (by omega), if_neg (by omega), if_neg (by omega), if_neg (by omega)]; exact p9
    · rw [e, if_neg (by omega), if_neg (by omega), if_neg (by omega), if_neg (by omega), if_pos rfl, ← p10]; rfl
    · rw [e, if_neg (by omega), if_neg (by omega), if_neg (by omega), if_pos rfl, ← p11]; rfl
    · exact q5
    · exact q6
    · exact q8
    · rw [e, if_neg (by omega), if_neg (by omega), if_pos rfl]
    · rw [e, if_neg (by omega), if_pos rfl, ← p3]
    · rw [e, if_pos rfl]
theorem milk_else (g : Nat → Int32) (k q : Nat) (h : q < 10 * k + 15 ∨ 10 * k + 24 < q) (h8 : q ≠ 8) (h9 : q ≠ 9) (h14 : q ≠ 14) : moMilkS g k q = g q := by
  unfold moMilkS
  split
  · rfl
  · simp only [moMilk, moMilk5, upd]
    rw [if_neg (by omega), if_neg (by omega), if_neg (by omega), if_neg (by omega), if_neg (by omega)]
theorem milk_elseC (g : Nat → Int32) (k q : Nat) (h : q < 10 * k + 15 ∨ 10 * k + 24 < q) (h15 : 15 ≤ q) : moMilkS g k q = g q := milk_else g k q h (by omega) (by omega) (by omega)
