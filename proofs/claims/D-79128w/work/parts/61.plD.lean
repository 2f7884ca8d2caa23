/-! THE PLAIN LAW 13: what is thrown, on both sides -/
theorem T_set_x1 {c : Int32} (v : Int32) (h : inC c 0 5 = 0) : T_set c v = 1 := by
  unfold T_set
  exact if_pos h
theorem T_set_x2 {k : Nat} {v : Int32} (hk : k < 6) (hi : ¬ inC (nI k) 0 5 = 0) (h : inC v (loS (nI k)) (hiS (nI k)) = 0) : T_set (nI k) v = 2 := by
  unfold T_set
  rw [if_neg (show ¬ inR (nI k) 0 5 = 0 from hi), if_pos (show moMay (nI k) v = 0 by rw [may_eq hk]; exact h)]
theorem T_set_ok {k : Nat} {v : Int32} (hk : k < 6) (hi : ¬ inC (nI k) 0 5 = 0) (h : ¬ inC v (loS (nI k)) (hiS (nI k)) = 0) : T_set (nI k) v = 0 := by
  unfold T_set
  rw [if_neg (show ¬ inR (nI k) 0 5 = 0 from hi), if_neg (show ¬ moMay (nI k) v = 0 by rw [may_eq hk]; exact h)]
theorem set_nat {c : Int32} (h : ¬ inC c 0 5 = 0) : ∃ k : Nat, k < 6 ∧ c = nI k := inC_nat (n := 6) (by omega) (show ¬ inC c 0 (nI 6 - 1) = 0 from h)
theorem T_setting_x {c : Int32} (h : inC c 0 5 = 0) : T_setting c = 1 := by
  unfold T_setting
  exact if_pos h
theorem T_setting_ok {c : Int32} (h : ¬ inC c 0 5 = 0) : T_setting c = 0 := by
  unfold T_setting
  exact if_neg h
theorem T_bonus_x {g : Nat → Int32} {h : HB} (hh : RB g h) {c : Int32} (hx : inC c 0 (nI h.nr - 1) = 0) : T_bonus c (g 10) = 1 := by
  unfold T_bonus
  rw [hh.nr.1]
  exact if_pos hx
theorem T_bonus_ok {g : Nat → Int32} {h : HB} (hh : RB g h) {c : Int32} (hx : ¬ inC c 0 (nI h.nr - 1) = 0) : T_bonus c (g 10) = 0 := by
  unfold T_bonus
  rw [hh.nr.1]
  exact if_neg hx
theorem T_pass_x {g : Nat → Int32} {h : HB} (hh : RB g h) {lo d : Int32} (hx : d < lo ∨ cpS h.S.td d = 0) : T_pass g lo d = 1 := by
  unfold T_pass
  rw [hh.td]
  by_cases a : inR d lo 30 = 0
  · rw [if_pos a]
  · rw [if_neg a]
    unfold inR at a
    rcases hx with x | x
    · rw [if_pos x] at a; exact absurd rfl a
    · by_cases b : d < lo
      · rw [if_pos b] at a; exact absurd rfl a
      · rw [if_neg b] at a
        unfold cpS at x
        by_cases c : 30 < d
        · rw [if_pos c] at a; exact absurd rfl a
        · rw [if_neg c] at x
          by_cases e : 400 < h.S.td + d
          · rw [if_pos e]
          · rw [if_neg e] at x; exact absurd x (by decide)
theorem T_pass_ok {g : Nat → Int32} {h : HB} (hh : RB g h) {lo d : Int32} (h1 : ¬ d < lo) (h2 : ¬ cpS h.S.td d = 0) : T_pass g lo d = 0 ∧ ¬ 30 < d := by
  unfold cpS at h2
  by_cases c : 30 < d
  · rw [if_pos c] at h2; exact absurd rfl h2
  · rw [if_neg c] at h2
    by_cases e : 400 < h.S.td + d
    · rw [if_pos e] at h2; exact absurd rfl h2
    · refine ⟨?_, c⟩
      unfold T_pass inR
      rw [hh.td, if_neg h1, if_neg c, if_neg (show ¬ (1 : Int32) = 0 by decide), if_neg e]
theorem pass_nat {d : Int32} (h1 : ¬ d < 0) (h2 : ¬ 30 < d) : ∃ q : Nat, q ≤ 30 ∧ d = nI q := by
  have a : ¬ d.toInt < 0 := fun z => h1 (ti_lt.mpr (by rw [ti_0]; exact z))
  have b : ¬ 30 < d.toInt := fun z => h2 (ti_lt.mpr (by rw [show (30 : Int32).toInt = 30 from rfl]; exact z))
  have e : d.toNatClampNeg = d.toInt.toNat := rfl
  exact ⟨d.toNatClampNeg, by rw [e]; omega, nat_of (by omega)⟩
theorem T_cow_x1 {g : Nat → Int32} {h : HB} (hh : RB g h) {c : Int32} (w hi : Int32) (hx : inC c 0 (nI h.n - 1) = 0) : T_cow g c w hi = 1 := by
  unfold T_cow
  rw [hh.n.1]
  exact if_pos hx
theorem T_cow_x2 {g : Nat → Int32} {h : HB} (hh : RB g h) {c w hi : Int32} (hx : ¬ inC c 0 (nI h.n - 1) = 0) (hw : inC w 0 hi = 0) : T_cow g c w hi = 2 := by
  unfold T_cow
  rw [hh.n.1, if_neg (show ¬ inR c 0 (nI h.n - 1) = 0 from hx)]
  exact if_pos hw
theorem T_cow_ok {g : Nat → Int32} {h : HB} (hh : RB g h) {c w hi : Int32} (hx : ¬ inC c 0 (nI h.n - 1) = 0) (hw : ¬ inC w 0 hi = 0) : T_cow g c w hi = 0 := by
  unfold T_cow
  rw [hh.n.1, if_neg (show ¬ inR c 0 (nI h.n - 1) = 0 from hx)]
  exact if_neg hw
theorem T_dry_x1 {g : Nat → Int32} {h : HB} (hh : RB g h) {c : Int32} (hx : inC c 0 (nI h.n - 1) = 0) : T_dry g c = 1 := by
  unfold T_dry
  rw [hh.n.1]
  exact if_pos hx
theorem T_dry_x2 {g : Nat → Int32} {h : HB} (hh : RB g h) {k : Nat} (hk : k < h.n) (hx : ¬ inC (nI k) 0 (nI h.n - 1) = 0) (hm : cowMil (h.S.cv k) = 0 ∨ cowCar (h.S.cv k) = 0) : T_dry g (nI k) = 2 := by
  unfold T_dry
  rw [hh.n.1, if_neg (show ¬ inR (nI k) 0 (nI h.n - 1) = 0 from hx), nI_clamp (by have := hh.n.2; omega), (hh.cow hk).mil, (hh.cow hk).car]
  rcases hm with m | m
  · rw [if_pos m]
  · by_cases y : cowMil (h.S.cv k) = 0
    · rw [if_pos y]
    · rw [if_neg y, if_pos m]
theorem T_dry_ok {g : Nat → Int32} {h : HB} (hh : RB g h) {k : Nat} (hk : k < h.n) (hx : ¬ inC (nI k) 0 (nI h.n - 1) = 0) (h1 : ¬ cowMil (h.S.cv k) = 0) (h2 : ¬ cowCar (h.S.cv k) = 0) : T_dry g (nI k) = 0 := by
  unfold T_dry
  rw [hh.n.1, if_neg (show ¬ inR (nI k) 0 (nI h.n - 1) = 0 from hx), nI_clamp (by have := hh.n.2; omega), (hh.cow hk).mil, (hh.cow hk).car, if_neg h1, if_neg h2]
theorem T_pick_x1 {g : Nat → Int32} {h : HB} (hh : RB g h) {c : Int32} (w : Int32) (hx : inC c 0 (nI h.S.np - 1) = 0) : T_pick g c w = 1 := by
  unfold T_pick
  rw [hh.np.1]
  exact if_pos hx
theorem T_pick_x2 {g : Nat → Int32} {h : HB} (hh : RB g h) {c w : Int32} (hx : ¬ inC c 0 (nI h.S.np - 1) = 0) (hw : inC w 0 6 = 0) : T_pick g c w = 2 := by
  unfold T_pick
  rw [hh.np.1, if_neg (show ¬ inR c 0 (nI h.S.np - 1) = 0 from hx)]
  exact if_pos hw
theorem T_pick_ok {g : Nat → Int32} {h : HB} (hh : RB g h) {c w : Int32} (hx : ¬ inC c 0 (nI h.S.np - 1) = 0) (hw : ¬ inC w 0 6 = 0) : T_pick g c w = 0 := by
  unfold T_pick
  rw [hh.np.1, if_neg (show ¬ inR c 0 (nI h.S.np - 1) = 0 from hx)]
  exact if_neg hw
theorem T_mean_x1 {g : Nat → Int32} {h : HB} (hh : RB g h) {x y : Int32} (hx : inC x 0 (nI h.S.np - 1) = 0 ∨ inC y 0 (nI h.S.np - 1) = 0) : T_mean g x y = 1 := by
  unfold T_mean
  rw [hh.np.1]
  by_cases a : inR x 0 (nI h.S.np - 1) = 0
  · rw [if_pos a]
  · rw [if_neg a]
    rcases hx with b | b
    · exact absurd b a
    · exact if_pos b
theorem T_mean_x2 {g : Nat → Int32} {h : HB} (hh : RB g h) {x y : Int32} (hx : ¬ inC x 0 (nI h.S.np - 1) = 0) (hy : ¬ inC y 0 (nI h.S.np - 1) = 0) (hl : y < x) : T_mean g x y = 2 := by
  unfold T_mean
  rw [hh.np.1, if_neg (show ¬ inR x 0 (nI h.S.np - 1) = 0 from hx), if_neg (show ¬ inR y 0 (nI h.S.np - 1) = 0 from hy), if_pos hl]
theorem T_mean_ok {g : Nat → Int32} {h : HB} (hh : RB g h) {x y : Int32} (hx : ¬ inC x 0 (nI h.S.np - 1) = 0) (hy : ¬ inC y 0 (nI h.S.np - 1) = 0) (hl : ¬ y < x) : T_mean g x y = 0 := by
  unfold T_mean
  rw [hh.np.1, if_neg (show ¬ inR x 0 (nI h.S.np - 1) = 0 from hx), if_neg (show ¬ inR y 0 (nI h.S.np - 1) = 0 from hy), if_neg hl]
theorem T_great_x1 {w : Int32} (np : Nat) (hx : inC w 0 6 = 0) : T_great np w = 1 := by
  unfold T_great
  exact if_pos hx
theorem T_great_x2 {w : Int32} (hx : ¬ inC w 0 6 = 0) : T_great 0 w = 2 := by
  unfold T_great
  rw [if_neg (show ¬ inR w 0 6 = 0 from hx), if_pos rfl]
theorem T_great_ok {w : Int32} {np : Nat} (hx : ¬ inC w 0 6 = 0) (hn : 0 < np) : T_great np w = 0 := by
  unfold T_great
  rw [if_neg (show ¬ inR w 0 6 = 0 from hx), if_neg (by omega)]
theorem T_add_x1 {p d x : Int32} (n : Nat) (h : inC p 8 40 = 0 ∨ inC d 0 9 = 0 ∨ inC x (-1) 99 = 0) : T_add p d x n = 1 := by
  unfold T_add
  by_cases a : inR p 8 40 = 0
  · rw [if_pos a]
  · by_cases b : inR d 0 9 = 0
    · rw [if_neg a, if_pos b]
    · rw [if_neg a, if_neg b]
      rcases h with z | z | z
      · exact absurd z a
      · exact absurd z b
      · exact if_pos z
theorem T_add_n {p d x : Int32} (n : Nat) (h1 : ¬ inC p 8 40 = 0) (h2 : ¬ inC d 0 9 = 0) (h3 : ¬ inC x (-1) 99 = 0) : T_add p d x n = if n = 8 then 2 else 0 := by
  unfold T_add
  rw [if_neg (show ¬ inR p 8 40 = 0 from h1), if_neg (show ¬ inR d 0 9 = 0 from h2), if_neg (show ¬ inR x (-1) 99 = 0 from h3)]
theorem T_rng_x {w hi : Int32} (h : inC w 0 hi = 0) : T_rng w hi = 1 := by
  unfold T_rng
  exact if_pos h
theorem T_rng_ok {w hi : Int32} (h : ¬ inC w 0 hi = 0) : T_rng w hi = 0 := by
  unfold T_rng
  exact if_neg h
theorem tank_four {w : Int32} : ¬ inC w 0 3 = 0 ↔ w = 0 ∨ w = 1 ∨ w = 2 ∨ w = 3 := by
  refine ⟨fun h => ?_, fun h => ?_⟩
  · obtain ⟨k, hk, e⟩ := inC_nat (n := 4) (by omega) (show ¬ inC w 0 (nI 4 - 1) = 0 from h)
    rw [e]
    rcases (show k = 0 ∨ k = 1 ∨ k = 2 ∨ k = 3 by omega) with z | z | z | z <;> rw [z] <;> decide
  · rcases h with z | z | z | z <;> rw [z] <;> decide
