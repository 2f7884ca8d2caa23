/-! THE PLAIN LAW 6: settings, a new cow, rows, days of the book -/
theorem inC_01 (v lo hi : Int32) : inC v lo hi = 0 ∨ inC v lo hi = 1 := by
  unfold inC
  repeat' split
  all_goals first | exact Or.inl rfl | exact Or.inr rfl
theorem inC_bw {v : Int32} {lo hi : Int32} {a b : Int} (ha : lo.toInt = a) (hb : hi.toInt = b) (h : ¬ inC v lo hi = 0) : bw v a b := by
  unfold inC at h
  by_cases z : v < lo
  · rw [if_pos z] at h; exact absurd rfl h
  · rw [if_neg z] at h
    by_cases y : hi < v
    · rw [if_pos y] at h; exact absurd rfl h
    · have z' : ¬ v.toInt < lo.toInt := fun w => z (ti_lt.mpr w)
      have y' : ¬ hi.toInt < v.toInt := fun w => y (ti_lt.mpr w)
      unfold bw
      omega
theorem six {k : Nat} (h : k < 6) : k = 0 ∨ k = 1 ∨ k = 2 ∨ k = 3 ∨ k = 4 ∨ k = 5 := by omega
theorem may_eq {k : Nat} (h : k < 6) (v : Int32) : moMay (nI k) v = inC v (loS (nI k)) (hiS (nI k)) := by
  rcases six h with e | e | e | e | e | e <;> rw [e]
  · rfl
  · rfl
  · rfl
  · rfl
  · rfl
  · rfl
theorem up_se (se : Nat → Int32) (k : Nat) (v : Int32) (j : Nat) : va_up se k v j = if j = k then v else se j := rfl
theorem RB_set {g : Nat → Int32} {h : HB} {k : Nat} {v : Int32} (hh : RB g h) (hk : k < 6) (hv : ¬ inC v (loS (nI k)) (hiS (nI k)) = 0) : RB (upd g (k + 1) v) (HB.setSe h (va_up h.se k v)) := by
  obtain ⟨⟨⟨a0, as, a7, a8, a9, a10, a11, a12, a13⟩, hcs, hw, hq, a14⟩, ⟨hb, ⟨s0, s1, s2, s3, s4, s5⟩, hl⟩, ht, hro⟩ := hh
  have e : ∀ q, q ≠ k + 1 → upd g (k + 1) v q = g q := fun q hq => by simp only [upd]; rw [if_neg hq]
  have hn4 := hb.2.1
  refine ⟨⟨⟨?_, ?_, ?_, ?_, ?_, ?_, ?_, ?_, ?_⟩, ?_, ?_, ?_, ?_⟩, ⟨hb, ?_, hl⟩, ht, hro⟩
  · rw [e 0 (by omega)]; exact a0
  · intro j hj
    show upd g (k + 1) v (j + 1) = if j = k then v else h.se j
    by_cases z : j = k
    · rw [if_pos z, z]; simp [upd]
    · rw [if_neg z, e (j + 1) (by omega)]; exact as j hj
  · rw [e 7 (by omega)]; exact a7
  · rw [e 8 (by omega)]; exact a8
  · rw [e 9 (by omega)]; exact a9
  · rw [e 10 (by omega)]; exact a10
  · rw [e 11 (by omega)]; exact a11
  · rw [e 12 (by omega)]; exact a12
  · rw [e 13 (by omega)]; exact a13
  · intro j hj; exact (hcs j hj).congr (fun q q1 q2 => e q (by omega))
  · intro j hj; rw [e _ (by omega), e _ (by omega)]; exact hw j hj
  · intro j hj; exact (hq j hj).congr (fun q q1 q2 => e q (by omega))
  · rw [e 14 (by omega)]; exact a14
  · have o : ∀ j, j ≠ k → va_up h.se k v j = h.se j := fun j hj => by rw [up_se, if_neg hj]
    have p : va_up h.se k v k = v := by rw [up_se, if_pos rfl]
    show SB (va_up h.se k v)
    unfold SB
    rcases six hk with z | z | z | z | z | z <;> rw [z] at hv o p ⊢
    · rw [p, o 1 (by omega), o 2 (by omega), o 3 (by omega), o 4 (by omega), o 5 (by omega)]
      exact ⟨inC_bw (a := 20) (b := 99) rfl rfl hv, s1, s2, s3, s4, s5⟩
    · rw [p, o 0 (by omega), o 2 (by omega), o 3 (by omega), o 4 (by omega), o 5 (by omega)]
      exact ⟨s0, inC_bw (a := 0) (b := 19) rfl rfl hv, s2, s3, s4, s5⟩
    · rw [p, o 0 (by omega), o 1 (by omega), o 3 (by omega), o 4 (by omega), o 5 (by omega)]
      exact ⟨s0, s1, inC_bw (a := 1) (b := 9) rfl rfl hv, s3, s4, s5⟩
    · rw [p, o 0 (by omega), o 1 (by omega), o 2 (by omega), o 4 (by omega), o 5 (by omega)]
      exact ⟨s0, s1, s2, inC_bw (a := 0) (b := 999) rfl rfl hv, s4, s5⟩
    · rw [p, o 0 (by omega), o 1 (by omega), o 2 (by omega), o 3 (by omega), o 5 (by omega)]
      exact ⟨s0, s1, s2, s3, inC_bw (a := 1) (b := 6) rfl rfl hv, s5⟩
    · rw [p, o 0 (by omega), o 1 (by omega), o 2 (by omega), o 3 (by omega), o 4 (by omega)]
      exact ⟨s0, s1, s2, s3, s4, inC_bw (a := 0) (b := 99) rfl rfl hv⟩
theorem add_at (g : Nat → Int32) (n : Nat) (p d : Int32) (q : Nat) : moAdd0 g n p d q = if q = 10 * n + 21 then -1 else if q = 10 * n + 17 then 100 else if q = 10 * n + 16 then d else if q = 10 * n + 15 then p else if 10 * n + 15 ≤ q ∧ q < 10 * n + 15 + 10 then 0 else if q = 7 then nI (n + 1) else g q := by
  simp only [moAdd0, upd, moZero]
theorem addc_0 (n : Nat) (p d td : Int32) : (∀ q, 9 ≤ q → addC n p d (-1) td q = 0) ∧ addC n p d (-1) td 8 = -1 := by
  unfold addC
  rw [if_pos rfl]
  refine ⟨fun q hq => ?_, rfl⟩
  unfold cowNew
  split <;> first | omega | rfl
theorem RB_add {g : Nat → Int32} {h : HB} {p d days : Int32} (hh : RB g h) (hn : h.n ≤ 7) (hd : ¬ inC days (-1) 99 = 0) (y : LST) (m : Int32) (ca : Nat → Nat) :
    RB (moAdd g h.n p d days) (HB.setCw h y m (h.n + 1) ca (va_up h.S.cv h.n (addC h.n p d days h.S.td))) := by
  have hdb := inC_bw (a := -1) (b := 99) rfl rfl hd
  obtain ⟨⟨⟨a0, as, a7, a8, a9, a10, a11, a12, a13⟩, hcs, hw, hq, a14⟩, ⟨hb, hs, hl⟩, ht, hro⟩ := hh
  have hn4 := hb.2.1
  have ea : ∀ q, q ≠ 7 → (q < 10 * h.n + 15 ∨ 10 * h.n + 24 < q) → moAdd g h.n p d days q = g q := fun q q7 hq => by
    unfold moAdd
    split
    · rw [add_at, if_neg (by omega), if_neg (by omega), if_neg (by omega), if_neg (by omega), if_neg (by omega), if_neg q7]
    · simp only [upd]
      rw [if_neg (by omega), if_neg (by omega), if_neg (by omega), add_at, if_neg (by omega), if_neg (by omega), if_neg (by omega), if_neg (by omega), if_neg (by omega), if_neg q7]
  have e7 : moAdd g h.n p d days 7 = nI (h.n + 1) := by
    unfold moAdd
    split
    · rw [add_at, if_neg (by omega), if_neg (by omega), if_neg (by omega), if_neg (by omega), if_neg (by omega), if_pos rfl]
    · simp only [upd]
      rw [if_neg (by omega), if_neg (by omega), if_neg (by omega), add_at, if_neg (by omega), if_neg (by omega), if_neg (by omega), if_neg (by omega), if_neg (by omega), if_pos rfl]
  have z0 : ∀ c, addC h.n p d days h.S.td = c → c 10 = 0 ∧ c 11 = 0 := fun c hc => by
    rw [← hc]
    unfold addC
    split
    · exact ⟨rfl, rfl⟩
    · exact ⟨by simp [cowBegin, upd, cowNew], by simp [cowBegin, upd, cowNew]⟩
  have hnew : CW (moAdd g h.n p d days) h.n (addC h.n p d days h.S.td) := by
    unfold moAdd addC
    by_cases c : days = -1
    · rw [if_pos (by rw [c]; decide), if_pos c]
      unfold CW
      simp only [add_at]
      refine ⟨⟨rfl, ?_, ?_, ?_, ?_⟩, ⟨?_, ?_, ?_, ?_, ?_, ?_⟩, ⟨Or.inl rfl, Or.inl rfl⟩, Or.inl rfl⟩ <;> simp [cowNew, cowState] <;> omega
    · have hp : 0 ≤ days.toInt := by
        have h9 := hdb.1
        rcases Int.lt_or_le days.toInt 0 with z | z
        · exact absurd (ti_eq (by rw [show days.toInt = -1 by omega]; rfl)) c
        · exact z
      rw [if_neg (fun z => by have := ti_lt.mp z; rw [ti_0] at this; omega), if_neg c]
      have e2 : ∀ q, upd (upd (upd (moAdd0 g h.n p d) (10 * h.n + 18) 1) (10 * h.n + 19) 1) (10 * h.n + 20) (g 0 - days) q = if q = 10 * h.n + 20 then g 0 - days else if q = 10 * h.n + 19 then 1 else if q = 10 * h.n + 18 then 1 else moAdd0 g h.n p d q := fun q => by simp only [upd]
      unfold CW
      simp only [e2, add_at, a0]
      refine ⟨⟨?_, ?_, ?_, ?_, ?_⟩, ⟨?_, ?_, ?_, ?_, ?_, ?_⟩, ⟨Or.inr ?_, Or.inl ?_⟩, Or.inl ?_⟩ <;> simp [cowNew, cowState, cowBegin, upd, add_at]
  refine ⟨⟨⟨?_, ?_, ?_, ?_, ?_, ?_, ?_, ?_, ?_⟩, ?_, ?_, ?_, ?_⟩, ⟨⟨?_, hb.2⟩, hs, hl⟩, ht, hro⟩
  · rw [ea 0 (by omega) (by omega)]; exact a0
  · intro j hj; rw [ea (j + 1) (by omega) (by omega)]; exact as j hj
  · exact e7
  · rw [ea 8 (by omega) (by omega)]; exact a8
  · rw [ea 9 (by omega) (by omega)]; exact a9
  · rw [ea 10 (by omega) (by omega)]; exact a10
  · rw [ea 11 (by omega) (by omega)]; exact a11
  · rw [ea 12 (by omega) (by omega)]; exact a12
  · rw [ea 13 (by omega) (by omega)]; exact a13
  · intro j hj
    have hj : j < h.n + 1 := hj
    show CW _ j (if j = h.n then addC h.n p d days h.S.td else h.S.cv j)
    by_cases z : j = h.n
    · rw [if_pos z, z]; exact hnew
    · rw [if_neg z]
      exact (hcs j (by omega)).congr (fun q q1 q2 => ea q (by omega) (by omega))
  · intro j hj
    have hj4 : j < 4 := Nat.lt_of_lt_of_le hj hn4
    rw [ea _ (by omega) (by omega), ea _ (by omega) (by omega)]
    exact hw j hj
  · intro j hj; exact (hq j hj).congr (fun q q1 q2 => ea q (by omega) (by omega))
  · rw [ea 14 (by omega) (by omega), a14]
    show _ = bx_sum (fun k => (if k = h.n then addC h.n p d days h.S.td else h.S.cv k) 10 - (if k = h.n then addC h.n p d days h.S.td else h.S.cv k) 11) h.n + ((if h.n = h.n then addC h.n p d days h.S.td else h.S.cv h.n) 10 - (if h.n = h.n then addC h.n p d days h.S.td else h.S.cv h.n) 11)
    rw [if_pos rfl, (z0 _ rfl).1, (z0 _ rfl).2, Int32.sub_self, Int32.add_zero]
    refine bx_congr _ (fun k hk => ?_)
    rw [if_neg (by omega)]
  · show h.n + 1 ≤ 8
    omega
