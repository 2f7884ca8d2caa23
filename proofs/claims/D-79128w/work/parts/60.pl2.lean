/-! THE PLAIN LAW 2: the cows of a day -/
def RC (g : Nat → Int32) (n : Nat) (cv : Nat → Nat → Int32) : Prop := ∀ k, k < n → CW g k (cv k)
theorem upTz_0 (f : (Nat → Int32) → Nat → Int32) (cv : Nat → Nat → Int32) (k : Nat) : upTo f cv 0 k = cv k := if_neg (by omega)
theorem upTz_at (f : (Nat → Int32) → Nat → Int32) (cv : Nat → Nat → Int32) (k : Nat) : upTo f cv k k = cv k ∧ upTo f cv (k + 1) k = f (cv k) := ⟨if_neg (by omega), if_pos (by omega)⟩
theorem upTz_ne (f : (Nat → Int32) → Nat → Int32) (cv : Nat → Nat → Int32) (j k : Nat) (h : k ≠ j) : upTo f cv (j + 1) k = upTo f cv j k := by
  unfold upTo
  by_cases z : k < j
  · rw [if_pos (by omega), if_pos z]
  · rw [if_neg (by omega), if_neg z]
theorem it_gen {f : (Nat → Int32) → Nat → (Nat → Int32)} {cf : (Nat → Int32) → Nat → Int32} {g : Nat → Int32} {n : Nat} {cv : Nat → Nat → Int32} (hat : ∀ (g' : Nat → Int32) (k : Nat) (c : Nat → Int32), g' 0 = g 0 → g' 2 = g 2 → CW g' k c → CW (f g' k) k (cf c)) (hel : ∀ (g' : Nat → Int32) (k q : Nat), q < 10 * k + 15 ∨ 10 * k + 24 < q → f g' k q = g' q) (h : RC g n cv) :
    ∀ j, j ≤ n → RC (moIt f g j) n (upTo cf cv j) ∧ ∀ q, q < 15 ∨ 10 * n + 15 ≤ q → moIt f g j q = g q := by
  intro j
  induction j with
  | zero =>
    intro _
    refine ⟨fun k hk => ?_, fun q _ => rfl⟩
    rw [upTz_0]
    exact h k hk
  | succ j ih =>
    intro hj
    obtain ⟨i1, i2⟩ := ih (by omega)
    refine ⟨fun k hk => ?_, fun q hq => ?_⟩
    · by_cases e : k = j
      · rw [e, (upTz_at cf cv j).2]
        have h1 := hat _ j _ (i2 0 (Or.inl (by omega))) (i2 2 (Or.inl (by omega))) (i1 j (by omega))
        rw [(upTz_at cf cv j).1] at h1
        exact h1
      · rw [upTz_ne cf cv j k e]
        exact (i1 k hk).congr (fun q h1 h2 => hel _ _ _ (by omega))
    · show f (moIt f g j) j q = g q
      rw [hel _ _ _ (by omega)]
      exact i2 q hq
theorem bx_congr {f g : Nat → Int32} : ∀ n, (∀ k, k < n → f k = g k) → bx_sum f n = bx_sum g n := by
  intro n
  induction n with
  | zero => intro _; rfl
  | succ n ih => intro h; rw [bx_sum, bx_sum, ih (fun k hk => h k (by omega)), h n (by omega)]
theorem bx_add (f g : Nat → Int32) : ∀ n, bx_sum (fun k => f k + g k) n = bx_sum f n + bx_sum g n := by
  intro n
  induction n with
  | zero => rfl
  | succ n ih =>
    rw [bx_sum, bx_sum, bx_sum, ih]
    generalize bx_sum f n = a
    generalize bx_sum g n = b
    generalize f n = c
    generalize g n = d
    grind
theorem it_milk {g : Nat → Int32} {n : Nat} {cv : Nat → Nat → Int32} (h : RC g n cv) (h8 : bw (g 8) 0 999) (h4 : bw (g 4) 0 999) : ∀ j, j ≤ n →
    RC (moIt moMilkS g j) n (mkC cv (g 0) (g 4) (g 8) (g 9) j) ∧ moIt moMilkS g j 8 = (mkT cv (g 0) (g 4) (g 8) (g 9) j).1 ∧ moIt moMilkS g j 9 = (mkT cv (g 0) (g 4) (g 8) (g 9) j).2 ∧ bw (mkT cv (g 0) (g 4) (g 8) (g 9) j).1 0 999 ∧
    moIt moMilkS g j 14 = g 14 + bx_sum (fun k => cowLit (cv k) (g 0) - milkA (g 0) (mkT cv (g 0) (g 4) (g 8) (g 9) k).1 (g 4) (cv k)) j ∧
    ∀ q, q < 15 ∨ 10 * n + 15 ≤ q → q ≠ 8 → q ≠ 9 → q ≠ 14 → moIt moMilkS g j q = g q := by
  intro j
  induction j with
  | zero =>
    intro _
    refine ⟨fun k hk => ?_, rfl, rfl, h8, ?_, fun q _ _ _ _ => rfl⟩
    · have e : mkC cv (g 0) (g 4) (g 8) (g 9) 0 k = cv k := if_neg (by omega)
      rw [e]
      exact h k hk
    · show g 14 = g 14 + 0
      rw [Int32.add_zero]
  | succ j ih =>
    intro hj
    obtain ⟨i1, i2, i3, i4, i5, i6⟩ := ih (by omega)
    have e0 : moIt moMilkS g j 0 = g 0 := i6 0 (Or.inl (by omega)) (by omega) (by omega) (by omega)
    have e4 : moIt moMilkS g j 4 = g 4 := i6 4 (Or.inl (by omega)) (by omega) (by omega) (by omega)
    have ej : mkC cv (g 0) (g 4) (g 8) (g 9) j j = cv j := if_neg (by omega)
    have hm := milk_at (i1 j (by omega)) (by rw [i2]; exact i4) (by rw [e4]; exact h4)
    rw [ej, e0, e4, i2, i3, i5] at hm
    obtain ⟨m1, m2, m3, m4⟩ := hm
    refine ⟨fun k hk => ?_, ?_, ?_, ?_, ?_, fun q hq q8 q9 q14 => ?_⟩
    · by_cases e : k = j
      · have e2 : mkC cv (g 0) (g 4) (g 8) (g 9) (j + 1) k = milkC (g 0) (mkT cv (g 0) (g 4) (g 8) (g 9) k).1 (g 4) (cv k) := if_pos (by omega)
        rw [e2, e]
        exact m1
      · have e2 : mkC cv (g 0) (g 4) (g 8) (g 9) (j + 1) k = mkC cv (g 0) (g 4) (g 8) (g 9) j k := by
          unfold mkC
          by_cases z : k < j
          · rw [if_pos (by omega), if_pos z]
          · rw [if_neg (by omega), if_neg z]
        rw [e2]
        exact (i1 k hk).congr (fun q h1 h2 => milk_elseC _ _ _ (by omega) (by omega))
    · show moMilkS (moIt moMilkS g j) j 8 = _
      rw [m2]
      rfl
    · show moMilkS (moIt moMilkS g j) j 9 = _
      rw [m3]
      rfl
    · exact milkA_new i4 h4
    · show moMilkS (moIt moMilkS g j) j 14 = _
      rw [m4, bx_sum, Int32.add_assoc]
    · show moMilkS (moIt moMilkS g j) j q = g q
      rw [milk_else _ _ _ (by omega) q8 q9 q14]
      exact i6 q hq q8 q9 q14
theorem calvC_keep (td : Int32) (c : Nat → Int32) : calvC td c 10 = c 10 ∧ calvC td c 11 = c 11 := by
  unfold calvC
  split
  · exact ⟨rfl, rfl⟩
  · split
    · exact ⟨by simp [cowBegin, upd], by simp [cowBegin, upd]⟩
    · exact ⟨rfl, rfl⟩
theorem dryoC_keep (td s1 : Int32) (c : Nat → Int32) : dryoC td s1 c 10 = c 10 ∧ dryoC td s1 c 11 = c 11 := by
  unfold dryoC
  split
  · exact ⟨rfl, rfl⟩
  · split
    · exact ⟨rfl, rfl⟩
    · split
      · exact ⟨rfl, rfl⟩
      · exact ⟨by simp [upd], by simp [upd]⟩
theorem upTz_keep {f : (Nat → Int32) → Nat → Int32} (hf : ∀ c, f c 10 = c 10 ∧ f c 11 = c 11) (cv : Nat → Nat → Int32) (j k : Nat) : upTo f cv j k 10 = cv k 10 ∧ upTo f cv j k 11 = cv k 11 := by
  unfold upTo
  by_cases z : k < j
  · rw [if_pos z]; exact hf _
  · rw [if_neg z]; exact ⟨rfl, rfl⟩
/-- what the herd's day does to the row, over the component's numbers -/
theorem herd_day {g : Nat → Int32} {n : Nat} {se : Nat → Int32} {S : HS} (hn : n ≤ 8) (g0 : g 0 = S.td) (g2 : g 2 = se 1) (g4 : g 4 = se 3) (g8 : g 8 = S.li) (g9 : g 9 = S.ce) (g14 : g 14 = bx_sum (fun k => S.cv k 10 - S.cv k 11) n) (h : RC g n S.cv) (h8 : bw S.li 0 999) (h4 : bw (se 3) 0 999) :
    RC (moHerdDay g n) n (dyC n se S) ∧ moHerdDay g n 8 = (dyT n se S).1 ∧ moHerdDay g n 9 = (dyT n se S).2 ∧ bw (dyT n se S).1 0 999 ∧ moHerdDay g n 14 = bx_sum (fun k => dyC n se S k 10 - dyC n se S k 11) n ∧ ∀ q, q < 15 ∨ 95 ≤ q → q ≠ 8 → q ≠ 9 → q ≠ 14 → moHerdDay g n q = g q := by
  obtain ⟨a1, a2⟩ := it_gen (f := moCalve) (cf := calvC (g 0)) (fun g' k c e0 _ hc => by rw [← e0]; exact calve_at hc) (fun g' k q hq => calve_else g' k q hq) h n (Nat.le_refl n)
  have b0 : moIt moCalve g n 0 = g 0 := a2 0 (Or.inl (by omega))
  have b2 : moIt moCalve g n 2 = g 2 := a2 2 (Or.inl (by omega))
  obtain ⟨c1, c2⟩ := it_gen (g := moIt moCalve g n) (f := moDry) (cf := dryoC (g 0) (g 2)) (fun g' k c e0 e2 hc => by rw [← b0, ← b2, ← e0, ← e2]; exact dry_at hc) (fun g' k q hq => dry_else g' k q hq) a1 n (Nat.le_refl n)
  have d : ∀ q, q < 15 → moIt moDry (moIt moCalve g n) n q = g q := fun q hq => (c2 q (Or.inl hq)).trans (a2 q (Or.inl hq))
  obtain ⟨e1, e2, e3, e4, e5, e6⟩ := it_milk c1 (by rw [d 8 (by omega), g8]; exact h8) (by rw [d 4 (by omega), g4]; exact h4) n (Nat.le_refl n)
  rw [d 0 (by omega), d 4 (by omega), d 8 (by omega), d 9 (by omega), g0, g2, g4, g8, g9] at e1 e2 e3 e4 e5
  rw [d 14 (by omega)] at e5
  refine ⟨e1, e2, e3, e4, ?_, fun q hq q8 q9 q14 => ?_⟩
  · show moIt moMilkS (moIt moDry (moIt moCalve g n) n) n 14 = _
    rw [e5, g14]
    have k1 : ∀ k, dyC2 n se S k 10 = S.cv k 10 ∧ dyC2 n se S k 11 = S.cv k 11 := fun k => by
      have u1 := upTz_keep (f := dryoC S.td (se 1)) (fun c => dryoC_keep _ _ c) (dyC1 n S) n k
      have u2 := upTz_keep (f := calvC S.td) (fun c => calvC_keep _ c) S.cv n k
      exact ⟨u1.1.trans u2.1, u1.2.trans u2.2⟩
    rw [← bx_add]
    refine bx_congr n fun k hk => ?_
    have k2 : dyC n se S k = milkC S.td (mkT (dyC2 n se S) S.td (se 3) S.li S.ce k).1 (se 3) (dyC2 n se S k) := if_pos hk
    rw [k2]
    have k3 : ∀ (x : Int32) (c : Nat → Int32), milkC S.td x (se 3) c 10 = c 10 + cowLit c S.td ∧ milkC S.td x (se 3) c 11 = c 11 + milkA S.td x (se 3) c := fun x c => ⟨by simp [milkC, upd], by simp [milkC, upd]⟩
    rw [(k3 _ _).1, (k3 _ _).2, (k1 k).1, (k1 k).2]
    show S.cv k 10 - S.cv k 11 + (cowLit (dyC2 n se S k) S.td - milkA S.td (mkT (dyC2 n se S) S.td (se 3) S.li S.ce k).1 (se 3) (dyC2 n se S k)) = _
    generalize cowLit (dyC2 n se S k) S.td = x
    generalize milkA S.td (mkT (dyC2 n se S) S.td (se 3) S.li S.ce k).1 (se 3) (dyC2 n se S k) = y
    generalize S.cv k 10 = a
    generalize S.cv k 11 = b
    grind
  · show moIt moMilkS (moIt moDry (moIt moCalve g n) n) n q = g q
    rw [e6 q (by omega) q8 q9 q14, c2 q (by omega), a2 q (by omega)]
