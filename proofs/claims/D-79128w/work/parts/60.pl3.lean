/-! THE PLAIN LAW 3: the tank fetched; a day; days -/
def PW (g : Nat → Int32) (k : Nat) (c : Nat → Int32) : Prop := g (7 * k + 103) = c 0 ∧ g (7 * k + 104) = c 1 ∧ g (7 * k + 105) = c 2 ∧ g (7 * k + 106) = c 2 / c 1 ∧ g (7 * k + 107) = c 3 ∧ g (7 * k + 108) = c 4 ∧ g (7 * k + 109) = c 5
def RS (g : Nat → Int32) (n nr : Nat) (rv : Nat → Nat → Int32) (se : Nat → Int32) (S : HS) : Prop :=
  (g 0 = S.td ∧ (∀ k, k < 6 → g (k + 1) = se k) ∧ g 7 = nI n ∧ g 8 = S.li ∧ g 9 = S.ce ∧ g 10 = nI nr ∧ g 11 = nI S.np ∧ g 12 = S.pk ∧ g 13 = S.pd) ∧
  RC g n S.cv ∧ (∀ k, k < nr → g (2 * k + 95) = rv k 0 ∧ g (2 * k + 96) = rv k 1) ∧ (∀ k, k < S.np → PW g k (S.pv k)) ∧ g 14 = bx_sum (fun k => S.cv k 10 - S.cv k 11) n
def SB (se : Nat → Int32) : Prop := bw (se 0) 20 99 ∧ bw (se 1) 0 19 ∧ bw (se 2) 1 9 ∧ bw (se 3) 0 999 ∧ bw (se 4) 1 6 ∧ bw (se 5) 0 99
def BS (n nr : Nat) (se : Nat → Int32) (S : HS) : Prop := (n ≤ 8 ∧ nr ≤ 4 ∧ S.np ≤ 60) ∧ SB se ∧ bw S.li 0 999 ∧ (∀ k, k < S.np → bw (S.pv k 1) 1 999)
theorem PW.congr {g g' : Nat → Int32} {k : Nat} {c : Nat → Int32} (h : PW g k c) (e : ∀ q, 7 * k + 103 ≤ q → q ≤ 7 * k + 109 → g' q = g q) : PW g' k c := by
  unfold PW
  rw [e (7 * k + 103) (by omega) (by omega), e (7 * k + 104) (by omega) (by omega), e (7 * k + 105) (by omega) (by omega), e (7 * k + 106) (by omega) (by omega), e (7 * k + 107) (by omega) (by omega), e (7 * k + 108) (by omega) (by omega), e (7 * k + 109) (by omega) (by omega)]
  exact h
theorem pSm_low (pv : Nat → Nat → Int32) (i : Nat) : ∀ M j0, j0 < M → pSm pv i j0 M = pv j0 i + pSm pv i (j0 + 1) M := by
  intro M
  induction M with
  | zero => intro j0 h; omega
  | succ M ih =>
    intro j0 h
    rw [pSm, if_pos (by omega), pSm]
    by_cases e : j0 = M
    · subst e
      rw [if_neg (by omega), pSm_0, Int32.zero_add, Int32.add_zero]
    · rw [if_pos (by omega), ih j0 (by omega), Int32.add_assoc]
theorem sumDown_pSm {f : Nat → Int32} {pv : Nat → Nat → Int32} {i M : Nat} (h : ∀ x, x < M → f x = pv x i) : ∀ t, t ≤ M → sumDown f M t = pSm pv i (M - t) M := by
  intro t
  induction t with
  | zero => intro _; rw [sumDown, show M - 0 = M from rfl, pSm_0]
  | succ t ih =>
    intro ht
    rw [sumDown, ih (by omega), h _ (by omega), pSm_low pv i M (M - (t + 1)) (by omega), show M - (t + 1) + 1 = M - t by omega, show M - 1 - t = M - (t + 1) by omega, Int32.add_comm]
theorem pSm_shift (pv : Nat → Nat → Int32) (i a : Nat) : ∀ b, pSm pv i (a + 1) (b + 1) = pSm (fun k => pv (k + 1)) i a b := by
  intro b
  induction b with
  | zero =>
    show (if a + 1 ≤ 0 then pSm pv i (a + 1) 0 + pv 0 i else 0) = (0 : Int32)
    rw [if_neg (by omega)]
  | succ b ih =>
    show (if a + 1 ≤ b + 1 then pSm pv i (a + 1) (b + 1) + pv (b + 1) i else 0) = (if a ≤ b then pSm (fun k => pv (k + 1)) i a b + pv (b + 1) i else 0)
    by_cases z : a ≤ b
    · rw [if_pos (by omega), if_pos z, ih]
    · rw [if_neg (by omega), if_neg z]
theorem pSm_bw {pv : Nat → Nat → Int32} {i j0 : Nat} : ∀ M, j0 ≤ M → M - j0 ≤ 60 → (∀ k, j0 ≤ k → k < M → bw (pv k i) 1 999) → bw (pSm pv i j0 M) ((M - j0 : Nat) : Int) (999 * ((M - j0 : Nat) : Int)) := by
  intro M
  induction M with
  | zero => intro h _ _; rw [pSm]; unfold bw; rw [ti_0]; omega
  | succ M ih =>
    intro h1 h2 h
    rw [pSm]
    by_cases z : j0 ≤ M
    · rw [if_pos z]
      obtain ⟨a1, a2⟩ := ih z (by omega) (fun k x y => h k x (by omega))
      obtain ⟨b1, b2⟩ := h M z (by omega)
      unfold bw
      rw [ti_add (by omega) (by omega)]
      omega
    · rw [if_neg z]
      unfold bw
      rw [ti_0]
      omega
theorem bon_eq {v : Nat → Int32} {rv : Nat → Nat → Int32} (mean : Int32) : ∀ f j, (∀ k, j ≤ k → k < j + f → v (2 * k + 95) = rv k 0 ∧ v (2 * k + 96) = rv k 1) → moBonF v mean f j = if rwK rv mean f j < j + f then rv (rwK rv mean f j) 1 else 0 := by
  intro f
  induction f with
  | zero => intro j _; rw [moBonF, rwK, if_neg (by omega)]
  | succ f ih =>
    intro j h
    rw [moBonF, rwK, (h j (by omega) (by omega)).1, (h j (by omega) (by omega)).2]
    by_cases z : rv j 0 < mean
    · rw [if_pos z, if_pos z, ih (j + 1) (fun k a b => h k (by omega) (by omega)), show j + 1 + f = j + (f + 1) by omega]
    · rw [if_neg z, if_neg z, if_pos (by omega)]
/-- the pickups ahead of the new one, in their places -/
def pkOld (pv : Nat → Nat → Int32) (np : Nat) : Nat → Nat → Int32 := if np < 60 then pv else fun k => pv (k + 1)
theorem pk1_old {g : Nat → Int32} {np : Nat} {pv : Nat → Nat → Int32} (hnp : np ≤ 60) (h : ∀ k, k < np → PW g k (pv k)) : ∀ k, k < moM1 np → PW (moPk1 g np) k (pkOld pv np k) := by
  intro k hk
  unfold moM1 at hk
  unfold moPk1 pkOld
  by_cases z : np = 60
  · rw [if_pos z] at hk
    rw [if_pos z, if_neg (by omega)]
    have e : ∀ q, 103 ≤ q → q < 516 → upd (shiftP g 413) 11 (nI 59) q = g (q + 7) := fun q a b => by
      simp only [upd, shiftP]
      rw [if_neg (by omega), if_pos (by omega)]
    have h1 := h (k + 1) (by omega)
    unfold PW at h1 ⊢
    rw [show 7 * (k + 1) + 103 = 7 * k + 103 + 7 by omega, show 7 * (k + 1) + 104 = 7 * k + 104 + 7 by omega, show 7 * (k + 1) + 105 = 7 * k + 105 + 7 by omega, show 7 * (k + 1) + 106 = 7 * k + 106 + 7 by omega, show 7 * (k + 1) + 107 = 7 * k + 107 + 7 by omega, show 7 * (k + 1) + 108 = 7 * k + 108 + 7 by omega, show 7 * (k + 1) + 109 = 7 * k + 109 + 7 by omega] at h1
    rw [e _ (by omega) (by omega), e _ (by omega) (by omega), e _ (by omega) (by omega), e _ (by omega) (by omega), e _ (by omega) (by omega), e _ (by omega) (by omega), e _ (by omega) (by omega)]
    exact h1
  · rw [if_neg z] at hk
    rw [if_neg z, if_pos (by omega)]
    exact h k hk
theorem pk1_else (g : Nat → Int32) (np q : Nat) (hq : q < 103) (h11 : q ≠ 11) : moPk1 g np q = g q := by
  unfold moPk1
  split
  · simp only [upd, shiftP]
    rw [if_neg h11, if_neg (by omega)]
  · rfl
theorem pk2_at (g : Nat → Int32) (m q : Nat) : moPk2 g m q = if q = 7 * m + 106 then g 9 / g 8 else if q = 7 * m + 105 then g 9 else if q = 7 * m + 104 then g 8 else if q = 7 * m + 103 then g 0 else if q = 11 then nI (m + 1) else g q := by
  simp only [moPk2, upd]
theorem pk3_at (g : Nat → Int32) (m : Nat) (x b : Int32) (q : Nat) : moPk3 g m x b q = if q = 9 then 0 else if q = 8 then 0 else if q = 13 then g 13 + (g 6 + b) * g 8 else if q = 12 then g 12 + g 8 else if q = 7 * m + 109 then (g 6 + b) * g 8 else if q = 7 * m + 108 then b else if q = 7 * m + 107 then x else g q := by
  simp only [moPk3, upd]

theorem moM1_lt {np : Nat} (h : np ≤ 60) : moM1 np ≤ 59 ∧ moM1 np + 1 = pkN np := by
  unfold moM1 pkN
  by_cases z : np = 60
  · rw [if_pos z, if_neg (by omega)]; omega
  · rw [if_neg z, if_pos (by omega)]; omega
/-- the new pickups' litres and cells, on both sides -/
theorem win_eq {g : Nat → Int32} {np w : Nat} {pv : Nat → Nat → Int32} {td : Int32} (hnp : np ≤ 60) (hw : w ≤ 6) (h : ∀ k, k < np → PW g k (pv k)) (off i : Nat) (hoi : off = 104 ∧ i = 1 ∨ off = 105 ∧ i = 2) :
    sumDown (fun q => moPk2 (moPk1 g np) (moM1 np) (7 * q + off)) (moM1 np + 1) (min (moM1 np + 1) w) = pSm (pkV1 pv np td (g 8) (g 9)) i (np + 1 - w) (np + 1) := by
  have hm := moM1_lt hnp
  have g8 : moPk1 g np 8 = g 8 := pk1_else g np 8 (by omega) (by omega)
  have g9 : moPk1 g np 9 = g 9 := pk1_else g np 9 (by omega) (by omega)
  have hx : ∀ x, x < moM1 np + 1 → moPk2 (moPk1 g np) (moM1 np) (7 * x + off) = (if np < 60 then pkV1 pv np td (g 8) (g 9) else fun k => pkV1 pv np td (g 8) (g 9) (k + 1)) x i := by
    intro x hx
    have hnew : ∀ a b : Int32, pickNew td a b 1 = a ∧ pickNew td a b 2 = b := fun a b => ⟨rfl, rfl⟩
    by_cases e : x = moM1 np
    · have e2 : (if np < 60 then pkV1 pv np td (g 8) (g 9) else fun k => pkV1 pv np td (g 8) (g 9) (k + 1)) x = pickNew td (g 8) (g 9) := by
        unfold moM1 at e
        by_cases z : np = 60
        · rw [if_pos z] at e
          rw [if_neg (by omega)]
          show (if x + 1 = np then _ else _) = _
          rw [if_pos (by omega)]
        · rw [if_neg z] at e
          rw [if_pos (by omega)]
          show (if x = np then _ else _) = _
          rw [if_pos e]
      rw [e2, pk2_at, e]
      rcases hoi with ⟨o, ii⟩ | ⟨o, ii⟩
      · rw [o, ii, if_neg (by omega), if_neg (by omega), if_pos rfl, g8]; rfl
      · rw [o, ii, if_neg (by omega), if_pos rfl, g9]; rfl
    · have e2 : (if np < 60 then pkV1 pv np td (g 8) (g 9) else fun k => pkV1 pv np td (g 8) (g 9) (k + 1)) x = pkOld pv np x := by
        unfold moM1 at e hx
        unfold pkOld
        by_cases z : np = 60
        · rw [if_pos z] at e hx
          rw [if_neg (by omega), if_neg (by omega)]
          show (if x + 1 = np then _ else _) = _
          rw [if_neg (by omega)]
        · rw [if_neg z] at e hx
          rw [if_pos (by omega), if_pos (by omega)]
          show (if x = np then _ else _) = _
          rw [if_neg e]
      have h1 := pk1_old hnp h x (by omega)
      rw [e2, pk2_at, if_neg (by omega), if_neg (by omega), if_neg (by omega), if_neg (by omega), if_neg (by omega)]
      rcases hoi with ⟨o, ii⟩ | ⟨o, ii⟩
      · rw [o, ii]; exact h1.2.1
      · rw [o, ii]; exact h1.2.2.1
  rw [sumDown_pSm (pv := (if np < 60 then pkV1 pv np td (g 8) (g 9) else fun k => pkV1 pv np td (g 8) (g 9) (k + 1))) (i := i) hx _ (Nat.min_le_left _ _)]
  unfold moM1
  by_cases z : np = 60
  · rw [if_pos z, if_neg (by omega), show min (59 + 1) w = w by omega, show 59 + 1 - w = 60 - w by omega, ← pSm_shift, show 60 - w + 1 = np + 1 - w by omega, show 59 + 1 + 1 = np + 1 by omega]
  · rw [if_neg z, if_pos (by omega), show np + 1 - min (np + 1) w = np + 1 - w by omega]
theorem mean_eq {g : Nat → Int32} {np w : Nat} {pv : Nat → Nat → Int32} {td : Int32} (hnp : np ≤ 60) (hw : w ≤ 6) (h : ∀ k, k < np → PW g k (pv k)) : moMean g np w = pkMean pv np w td (g 8) (g 9) := by
  unfold moMean pkMean moWinC moWinL
  rw [win_eq (td := td) hnp hw h 105 2 (Or.inr ⟨rfl, rfl⟩), win_eq (td := td) hnp hw h 104 1 (Or.inl ⟨rfl, rfl⟩)]
theorem win_pos {np w : Nat} {pv : Nat → Nat → Int32} {td li ce : Int32} (hnp : np ≤ 60) (hw : w ≤ 6) (hw1 : 1 ≤ w) (hb : ∀ k, k < np → bw (pv k 1) 1 999) (hl : bw li 1 999) : ¬ pSm (pkV1 pv np td li ce) 1 (np + 1 - w) (np + 1) = 0 := by
  have h := pSm_bw (pv := pkV1 pv np td li ce) (i := 1) (j0 := np + 1 - w) (np + 1) (by omega) (by omega) (fun k _ k2 => by
    show bw ((if k = np then pickNew td li ce else pv k) 1) 1 999
    by_cases e : k = np
    · rw [if_pos e]; exact hl
    · rw [if_neg e]; exact hb k (by omega))
  intro e
  rw [e] at h
  have h1 := h.1
  rw [ti_0] at h1
  omega
