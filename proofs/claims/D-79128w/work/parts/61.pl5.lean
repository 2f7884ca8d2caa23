/-! THE PLAIN LAW 5: the book's numbers, change by change -/
def RO (nr : Nat) (rv : Nat → Nat → Int32) : Prop := ∀ i j, i < j → j < nr → rv i 0 < rv j 0
def RB (g : Nat → Int32) (h : HB) : Prop := RS g h.n h.nr h.rv h.se h.S ∧ BS h.n h.nr h.se h.S ∧ bw h.S.td 0 400 ∧ RO h.nr h.rv
theorem RS.agree {g g' : Nat → Int32} {n nr : Nat} {rv : Nat → Nat → Int32} {se : Nat → Int32} {S : HS} (h : RS g n nr rv se S) (hn : n ≤ 8) (hr : nr ≤ 4) (hp : S.np ≤ 60) (e : ∀ q, q < 523 → g' q = g q) : RS g' n nr rv se S := by
  obtain ⟨⟨a0, as, a7, a8, a9, a10, a11, a12, a13⟩, hc, hw, hq, a14⟩ := h
  refine ⟨⟨?_, ?_, ?_, ?_, ?_, ?_, ?_, ?_, ?_⟩, ?_, ?_, ?_, ?_⟩
  · rw [e 0 (by omega)]; exact a0
  · intro k hk; rw [e (k + 1) (by omega)]; exact as k hk
  · rw [e 7 (by omega)]; exact a7
  · rw [e 8 (by omega)]; exact a8
  · rw [e 9 (by omega)]; exact a9
  · rw [e 10 (by omega)]; exact a10
  · rw [e 11 (by omega)]; exact a11
  · rw [e 12 (by omega)]; exact a12
  · rw [e 13 (by omega)]; exact a13
  · intro k hk; exact (hc k hk).congr (fun q q1 q2 => e q (by omega))
  · intro k hk; rw [e _ (by omega), e _ (by omega)]; exact hw k hk
  · intro k hk; exact (hq k hk).congr (fun q q1 q2 => e q (by omega))
  · rw [e 14 (by omega)]; exact a14
theorem RB.agree {g g' : Nat → Int32} {h : HB} (hh : RB g h) (e : ∀ q, q < 523 → g' q = g q) : RB g' h := ⟨hh.1.agree hh.2.1.1.1 hh.2.1.1.2.1 hh.2.1.1.2.2 e, hh.2⟩
theorem RB.of {g : Nat → Int32} {h h2 : HB} (hh : RB g h) (e : hvEq h2 h) : RB g h2 := by
  obtain ⟨e1, e2, e3, e4, e5⟩ := e
  obtain ⟨⟨⟨a0, as, a⟩, b⟩, ⟨c1, ⟨s0, s1, s2, s3, s4, s5⟩, c3⟩, d, f⟩ := hh
  unfold RB
  rw [e1, e2, e3, e4]
  refine ⟨⟨⟨a0, fun k hk => (as k hk).trans (e5 k hk).symm, a⟩, b⟩, ⟨c1, ⟨?_, ?_, ?_, ?_, ?_, ?_⟩, c3⟩, d, f⟩
  · rw [e5 0 (by omega)]; exact s0
  · rw [e5 1 (by omega)]; exact s1
  · rw [e5 2 (by omega)]; exact s2
  · rw [e5 3 (by omega)]; exact s3
  · rw [e5 4 (by omega)]; exact s4
  · rw [e5 5 (by omega)]; exact s5
/-- what a call sees of the row -/
theorem RB.n {g : Nat → Int32} {h : HB} (hh : RB g h) : g 7 = nI h.n ∧ h.n ≤ 8 := ⟨hh.1.1.2.2.1, hh.2.1.1.1⟩
theorem RB.nr {g : Nat → Int32} {h : HB} (hh : RB g h) : g 10 = nI h.nr ∧ h.nr ≤ 4 := ⟨hh.1.1.2.2.2.2.2.1, hh.2.1.1.2.1⟩
theorem RB.np {g : Nat → Int32} {h : HB} (hh : RB g h) : g 11 = nI h.S.np ∧ h.S.np ≤ 60 := ⟨hh.1.1.2.2.2.2.2.2.1, hh.2.1.1.2.2⟩
theorem RB.td {g : Nat → Int32} {h : HB} (hh : RB g h) : g 0 = h.S.td := hh.1.1.1
theorem RB.se {g : Nat → Int32} {h : HB} (hh : RB g h) {k : Nat} (hk : k < 6) : g (k + 1) = h.se k := hh.1.1.2.1 k hk
theorem RB.cow {g : Nat → Int32} {h : HB} (hh : RB g h) {k : Nat} (hk : k < h.n) : CW g k (h.S.cv k) := hh.1.2.1 k hk
theorem RB.row {g : Nat → Int32} {h : HB} (hh : RB g h) {k : Nat} (hk : k < h.nr) : g (2 * k + 95) = h.rv k 0 ∧ g (2 * k + 96) = h.rv k 1 := hh.1.2.2.1 k hk
theorem RB.pick {g : Nat → Int32} {h : HB} (hh : RB g h) {k : Nat} (hk : k < h.S.np) : PW g k (h.S.pv k) := hh.1.2.2.2.1 k hk
theorem CW.kept {g : Nat → Int32} {k : Nat} {c : Nat → Int32} (h : CW g k c) : g (10 * k + 19) < 2 ↔ c 6 = 0 := by
  obtain ⟨-, ⟨h1, -⟩, ⟨h5, h6⟩, -⟩ := h
  rw [h1]
  unfold cowState
  rcases h5 with a | a <;> rcases h6 with b | b <;> rw [a, b] <;> decide
theorem kept_eq {g : Nat → Int32} {h : HB} (hh : RB g h) (c : Int32) : moKept g c = thC h.n h.S.cv c := by
  unfold moKept thC
  rw [hh.n.1]
  have e : inR c 0 (nI h.n - 1) = inC c 0 (nI h.n - 1) := rfl
  rw [e]
  by_cases z : inC c 0 (nI h.n - 1) = 0
  · rw [if_pos z, if_pos z]
  · rw [if_neg z, if_neg z]
    obtain ⟨k, hk, rfl⟩ := inC_nat (by have := hh.n.2; omega) z
    rw [nI_clamp (by have := hh.n.2; omega)]
    by_cases y : h.S.cv k 6 = 0
    · rw [if_pos y, if_pos ((hh.cow hk).kept.mpr y)]
    · rw [if_neg y, if_neg (fun x => y ((hh.cow hk).kept.mp x))]
theorem th_nat {h : HB} {c : Int32} (hn : h.n ≤ 8) (z : ¬ thC h.n h.S.cv c = 0) : ∃ k : Nat, k < h.n ∧ c = nI k ∧ h.S.cv k 6 = 0 := by
  unfold thC at z
  by_cases y : inC c 0 (nI h.n - 1) = 0
  · rw [if_pos y] at z; exact absurd rfl z
  · rw [if_neg y] at z
    obtain ⟨k, hk, rfl⟩ := inC_nat (by omega) y
    rw [nI_clamp (by omega)] at z
    by_cases x : h.S.cv k 6 = 0
    · exact ⟨k, hk, rfl, x⟩
    · rw [if_neg x] at z; exact absurd rfl z
theorem ag0_eq {g : Nat → Int32} {h : HB} (hh : RB g h) (c v : Int32) : moAg0 g c v = rfHold h.n h.S.cv c v := by
  unfold moAg0 rfHold
  rw [kept_eq hh]
  rfl
theorem ag1_eq {g : Nat → Int32} {h : HB} (hh : RB g h) (c : Int32) : moAg1 g c = rfCow h.n h.S.cv c := by
  unfold moAg1 rfCow
  rw [kept_eq hh]
theorem ag2_eq {g : Nat → Int32} {h : HB} (hh : RB g h) (c : Int32) : moAg2 g c = rfServe h.n h.S.cv h.S.td c := by
  unfold moAg2 rfServe
  rw [kept_eq hh]
  by_cases z : thC h.n h.S.cv c = 0
  · rw [if_pos z, if_pos z]
  · rw [if_neg z, if_neg z]
    obtain ⟨k, hk, rfl, -⟩ := th_nat hh.n.2 z
    have hc := hh.cow hk
    rw [nI_clamp (by have := hh.n.2; omega), hc.car, hc.mil]
    by_cases y : cowCar (h.S.cv k) = 0
    · rw [if_pos y, if_pos y]
      by_cases x : cowMil (h.S.cv k) = 0
      · rw [if_pos x, if_pos x]
      · rw [if_neg x, if_neg x]
        unfold cowDim
        rw [if_neg x, hh.td, hc.2.1.2.1]
    · rw [if_neg y, if_neg y]
theorem ag3_eq {g : Nat → Int32} {h : HB} (hh : RB g h) (c : Int32) : moAg3 g c = rfDry h.n h.S.cv c := by
  unfold moAg3 rfDry
  rw [kept_eq hh]
  by_cases z : thC h.n h.S.cv c = 0
  · rw [if_pos z, if_pos z]
  · rw [if_neg z, if_neg z]
    obtain ⟨k, hk, rfl, -⟩ := th_nat hh.n.2 z
    rw [nI_clamp (by have := hh.n.2; omega), (hh.cow hk).mil]
theorem bx_one {f g : Nat → Int32} {k n : Nat} (h : ∀ j, j ≠ k → f j = g j) (e : f k = g k) : bx_sum f n = bx_sum g n := bx_congr n (fun j _ => by
  by_cases z : j = k
  · rw [z]; exact e
  · exact h j z)
/-- one cow changes -/
theorem RB_cow {g g' : Nat → Int32} {h : HB} {k : Nat} {c : Nat → Int32} (hh : RB g h) (hk : k < h.n) (hc : CW g' k c) (e : ∀ q, q < 10 * k + 15 ∨ 10 * k + 24 < q → g' q = g q) (h10 : c 10 - c 11 = h.S.cv k 10 - h.S.cv k 11) : RB g' (HB.setS h (HS.setCv h.S (va_up h.S.cv k c))) := by
  obtain ⟨⟨⟨a0, as, a7, a8, a9, a10, a11, a12, a13⟩, hcs, hw, hq, a14⟩, hb, ht, hro⟩ := hh
  have hn := hb.1.1
  refine ⟨⟨⟨?_, ?_, ?_, ?_, ?_, ?_, ?_, ?_, ?_⟩, ?_, ?_, ?_, ?_⟩, hb, ht, hro⟩
  · rw [e 0 (by omega)]; exact a0
  · intro j hj; rw [e (j + 1) (by omega)]; exact as j hj
  · rw [e 7 (by omega)]; exact a7
  · rw [e 8 (by omega)]; exact a8
  · rw [e 9 (by omega)]; exact a9
  · rw [e 10 (by omega)]; exact a10
  · rw [e 11 (by omega)]; exact a11
  · rw [e 12 (by omega)]; exact a12
  · rw [e 13 (by omega)]; exact a13
  · intro j hj
    show CW g' j (if j = k then c else h.S.cv j)
    by_cases z : j = k
    · rw [if_pos z, z]; exact hc
    · rw [if_neg z]
      exact (hcs j hj).congr (fun q q1 q2 => e q (by omega))
  · intro j hj
    have hj4 : j < 4 := Nat.lt_of_lt_of_le hj hb.1.2.1
    rw [e _ (by omega), e _ (by omega)]
    exact hw j hj
  · intro j hj; exact (hq j hj).congr (fun q q1 q2 => e q (by omega))
  · rw [e 14 (by omega), a14]
    refine (bx_one (k := k) (fun j hj => ?_) ?_).symm
    · show (if j = k then c else h.S.cv j) 10 - (if j = k then c else h.S.cv j) 11 = _
      rw [if_neg hj]
    · show (if k = k then c else h.S.cv k) 10 - (if k = k then c else h.S.cv k) 11 = _
      rw [if_pos rfl]
      exact h10
theorem RB_hold {g : Nat → Int32} {h : HB} {k : Nat} (hh : RB g h) (hk : k < h.n) (v : Int32) : RB (moDo0 g k v) (HB.setS h (HS.setCv h.S (va_up h.S.cv k (upd (h.S.cv k) 9 (mxI ((h.S.cv k) 9) (h.S.td + v)))))) := by
  have hc := hh.cow hk
  refine RB_cow hh hk ?_ (fun q hq => ?_) (by simp [upd])
  · obtain ⟨⟨p0, p1, p2, p3, p4⟩, ⟨p5, p7, p8, p9, p10, p11⟩, ⟨q5, q6⟩, q8⟩ := hc
    have ex : (if g 0 + v < g (10 * k + 22) then g (10 * k + 22) else g 0 + v) = mxI ((h.S.cv k) 9) (h.S.td + v) := by
      unfold mxI
      rw [hh.td, ← p9]
      by_cases a : h.S.td + v < h.S.cv k 9
      · rw [if_pos a]
        rw [if_neg (Int32.not_lt.mpr (Int32.le_of_lt a))]
      · rw [if_neg a]
        by_cases b : h.S.cv k 9 < h.S.td + v
        · rw [if_pos b]
        · rw [if_neg b]; exact Int32.le_antisymm (Int32.not_lt.mp b) (Int32.not_lt.mp a)
    refine ⟨⟨?_, ?_, ?_, ?_, ?_⟩, ⟨?_, ?_, ?_, ?_, ?_, ?_⟩, ⟨?_, ?_⟩, ?_⟩ <;> simp_all [upd, cowState, moDo0]
  · simp only [moDo0, upd]
    rw [if_neg (by omega)]
theorem RB_cells {g : Nat → Int32} {h : HB} {k : Nat} (hh : RB g h) (hk : k < h.n) (v : Int32) : RB (moDo1 g k v) (HB.setS h (HS.setCv h.S (va_up h.S.cv k (upd (h.S.cv k) 3 v)))) := by
  have hc := hh.cow hk
  refine RB_cow hh hk ?_ (fun q hq => ?_) (by simp [upd])
  · obtain ⟨⟨p0, p1, p2, p3, p4⟩, ⟨p5, p7, p8, p9, p10, p11⟩, ⟨q5, q6⟩, q8⟩ := hc
    refine ⟨⟨?_, ?_, ?_, ?_, ?_⟩, ⟨?_, ?_, ?_, ?_, ?_, ?_⟩, ⟨?_, ?_⟩, ?_⟩ <;> simp_all [upd, cowState, moDo1]
  · simp only [moDo1, upd]
    rw [if_neg (by omega)]
theorem RB_serve {g : Nat → Int32} {h : HB} {k : Nat} (hh : RB g h) (hk : k < h.n) : RB (moDo2 g k) (HB.setS h (HS.setCv h.S (va_up h.S.cv k (upd (h.S.cv k) 8 (h.S.td + h.se 0))))) := by
  have hc := hh.cow hk
  have hdue : 0 ≤ h.S.td + h.se 0 := by
    have a := hh.2.2.1
    have b := hh.2.1.2.1.1
    unfold bw at a b
    rw [ti_le, ti_add (by omega) (by omega), ti_0]
    omega
  refine RB_cow hh hk ?_ (fun q hq => ?_) (by simp [upd])
  · have e0 := hh.td
    have e1 := hh.se (k := 0) (by omega)
    obtain ⟨⟨p0, p1, p2, p3, p4⟩, ⟨p5, p7, p8, p9, p10, p11⟩, ⟨q5, q6⟩, q8⟩ := hc
    refine ⟨⟨?_, ?_, ?_, ?_, ?_⟩, ⟨?_, ?_, ?_, ?_, ?_, ?_⟩, ⟨?_, ?_⟩, Or.inr ?_⟩ <;> simp_all [upd, cowState, moDo2]
  · simp only [moDo2, upd]
    rw [if_neg (by omega)]
theorem RB_dry {g : Nat → Int32} {h : HB} {k : Nat} (hh : RB g h) (hk : k < h.n) (h6 : h.S.cv k 6 = 0) : RB (moDo3 g k) (HB.setS h (HS.setCv h.S (va_up h.S.cv k (upd (h.S.cv k) 5 0)))) := by
  have hc := hh.cow hk
  refine RB_cow hh hk ?_ (fun q hq => ?_) (by simp [upd])
  · obtain ⟨⟨p0, p1, p2, p3, p4⟩, ⟨p5, p7, p8, p9, p10, p11⟩, ⟨q5, q6⟩, q8⟩ := hc
    refine ⟨⟨?_, ?_, ?_, ?_, ?_⟩, ⟨?_, ?_, ?_, ?_, ?_, ?_⟩, ⟨?_, ?_⟩, ?_⟩ <;> simp_all [upd, cowState, moDo3]
  · simp only [moDo3, upd]
    rw [if_neg (by omega)]
theorem RB_sell {g : Nat → Int32} {h : HB} {k : Nat} (hh : RB g h) (hk : k < h.n) : RB (moDo4 g k) (HB.setS h (HS.setCv h.S (va_up h.S.cv k (upd (h.S.cv k) 6 1)))) := by
  have hc := hh.cow hk
  refine RB_cow hh hk ?_ (fun q hq => ?_) (by simp [upd])
  · obtain ⟨⟨p0, p1, p2, p3, p4⟩, ⟨p5, p7, p8, p9, p10, p11⟩, ⟨q5, q6⟩, q8⟩ := hc
    refine ⟨⟨?_, ?_, ?_, ?_, ?_⟩, ⟨?_, ?_, ?_, ?_, ?_, ?_⟩, ⟨?_, ?_⟩, ?_⟩ <;> simp_all [upd, cowState, moDo4]
  · simp only [moDo4, upd]
    rw [if_neg (by omega)]
