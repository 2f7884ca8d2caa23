/-! MODEL: public members (T_..: the code of what is thrown) -/
theorem inR_ab {v lo hi : Int32} {a b : Nat} (ha : lo = nI a) (hb : hi = nI b) (hbb : b < 2 ^ 31) (hab : a < 2 ^ 31) (h : ¬ inR v lo hi = 0) : ∃ k : Nat, a ≤ k ∧ k ≤ b ∧ v = nI k := by
  unfold inR at h
  split at h
  · exact absurd rfl h
  · rename_i h1
    split at h
    · exact absurd rfl h
    · rename_i h2
      subst ha; subst hb
      have h3 : nI a ≤ v := Int32.not_lt.mp h1
      have h0 : ¬ v < 0 := fun z => by
        have := Int32.lt_of_le_of_lt h3 z
        exact nI_pos hab this
      obtain ⟨k, hk, rfl⟩ := nI_of h0
      exact ⟨k, (nI_leI hab hk).mp h3, (nI_leI hk hbb).mp (Int32.not_lt.mp h2), rfl⟩
def oSel {α : Type} (T : Int32) (x y : α) : α := if T = 0 then x else y
def oI2 (i : Nat → Int32) (T : Int32) (n : Nat) : Nat → Int32 := if T = 0 then upd (upd i 7 0) 5 (nI (moPushN n)) else upd i 7 T
def moMay (s v : Int32) : Int32 := if s = 0 then inR v 20 99 else if s = 1 then inR v 0 19 else if s = 2 then inR v 1 9 else if s = 3 then inR v 0 999 else if s = 4 then inR v 1 6 else inR v 0 99
def T_set (s v : Int32) : Int32 := if inR s 0 5 = 0 then 1 else if moMay s v = 0 then 2 else 0
def T_setting (s : Int32) : Int32 := if inR s 0 5 = 0 then 1 else 0
def T_undo (n : Nat) : Int32 := if n = 0 then 1 else 0
def T_bonus (x c : Int32) : Int32 := if inR x 0 (c - 1) = 0 then 1 else 0
def T_pass (g : Nat → Int32) (lo d : Int32) : Int32 := if inR d lo 30 = 0 then 1 else if 400 < g 0 + d then 1 else 0
def T_cow (g : Nat → Int32) (c w hi : Int32) : Int32 := if inR c 0 (g 7 - 1) = 0 then 1 else if inR w 0 hi = 0 then 2 else 0
def T_dry (g : Nat → Int32) (c : Int32) : Int32 := if inR c 0 (g 7 - 1) = 0 then 1 else if moMil g c.toNatClampNeg = 0 then 2 else if moCar g c.toNatClampNeg = 0 then 2 else 0
def T_rng (w hi : Int32) : Int32 := if inR w 0 hi = 0 then 1 else 0
def T_pick (g : Nat → Int32) (c w : Int32) : Int32 := if inR c 0 (g 11 - 1) = 0 then 1 else if inR w 0 6 = 0 then 2 else 0
def T_isp (g : Nat → Int32) (c : Int32) : Int32 := if inR c 0 (g 11 - 1) = 0 then 1 else 0
def T_mean (g : Nat → Int32) (x y : Int32) : Int32 := if inR x 0 (g 11 - 1) = 0 then 1 else if inR y 0 (g 11 - 1) = 0 then 1 else if y < x then 2 else 0
def T_great (np : Nat) (w : Int32) : Int32 := if inR w 0 6 = 0 then 1 else if np = 0 then 2 else 0
def T_none (n : Nat) : Int32 := if n = 0 then 1 else 0
def T_add (p d x : Int32) (n : Nat) : Int32 := if inR p 8 40 = 0 then 1 else if inR d 0 9 = 0 then 1 else if inR x (-1) 99 = 0 then 1 else if n = 8 then 2 else 0
def cowM (g : Nat → Int32) (k : Nat) (w : Int32) : Int32 := if w = 0 then g (10 * k + 19) else if w = 1 then g (10 * k + 18) else if w = 2 then (if moMil g k = 0 then -1 else g 0 - g (10 * k + 20)) else if w = 3 then (if moCar g k = 0 then -1 else g (10 * k + 21)) else if w = 4 then g (10 * k + 17) else if w = 5 then g (10 * k + 22) else if w = 6 then g (10 * k + 23) else if w = 7 then g (10 * k + 24) else (if moMil g k = 0 then 0 else moLit g k (g 0 - g (10 * k + 20)))
def dryM (g : Nat → Int32) (k : Nat) : Int32 := if g 0 < g (10 * k + 21) - g 2 then g (10 * k + 21) - g 2 else g 0
def tankM (g : Nat → Int32) (w : Int32) : Int32 := if w = 0 then g 8 else if w = 1 then g 9 else if w = 3 then moFree g else if g 8 = 0 then 0 else g 9 / g 8
def accM (g : Nat → Int32) (w : Int32) (n : Nat) : Int32 := if w = 0 then moHerd g n else if w = 1 then moThat g w n else if w = 2 then moThat g w n else if w = 3 then moSum g 8 n else if w = 4 then moSum g 9 n else if w = 5 then g 12 else if w = 6 then g 14 else if w = 7 then g 13 else g 11
/-- the first place of a greatest value among the first n -/
def bstN (f : Nat → Int32) : Nat → Nat
  | 0 => 0
  | p + 1 => if f (bstN f p) < f p then p else bstN f p
theorem bstN_lt (f : Nat → Int32) : ∀ n, 0 < n → bstN f n < n := by
  intro n
  induction n with
  | zero => intro h; omega
  | succ n ih =>
    intro _
    rw [bstN]
    split
    · omega
    · cases n with
      | zero => exact Nat.zero_lt_one
      | succ n => have := ih (by omega); omega
theorem bstN_1 (f : Nat → Int32) : bstN f 1 = 0 := by
  rw [bstN, bstN]
  split <;> rfl
def moZero (g : Nat → Int32) (n j : Nat) : Nat → Int32 := fun q => if 10 * n + 15 ≤ q ∧ q < 10 * n + 15 + j then 0 else g q
theorem moZero_0 (g : Nat → Int32) (n : Nat) : moZero g n 0 = g := by
  funext q
  rw [moZero, if_neg (by omega)]
theorem moZero_step (g : Nat → Int32) (n j : Nat) : upd (moZero g n j) (10 * n + j + 15) 0 = moZero g n (j + 1) := by
  funext q
  simp only [upd, moZero]
  by_cases h : q = 10 * n + j + 15
  · subst h
    rw [if_pos rfl, if_pos (by omega)]
  · rw [if_neg h]
    by_cases h2 : 10 * n + 15 ≤ q ∧ q < 10 * n + 15 + j
    · rw [if_pos h2, if_pos (by omega)]
    · rw [if_neg h2, if_neg (by omega)]
def moAdd0 (g : Nat → Int32) (n : Nat) (p d : Int32) : Nat → Int32 := upd (upd (upd (upd (moZero (upd g 7 (nI (n + 1))) n 10) (10 * n + 15) p) (10 * n + 16) d) (10 * n + 17) 100) (10 * n + 21) (-1)
def moAdd (g : Nat → Int32) (n : Nat) (p d x : Int32) : Nat → Int32 := if x < 0 then moAdd0 g n p d else upd (upd (upd (moAdd0 g n p d) (10 * n + 18) 1) (10 * n + 19) 1) (10 * n + 20) (g 0 - x)
set_option maxHeartbeats 4000000 in
set_option maxRecDepth 100000 in
theorem mt_Mo_today (l : Launch) (Γ : GE) (sz : Nat) (a : Nat) (r : Nat → Nat) (i : Nat → Int32) (g : Nat → Int32)  : KM l yX4_today cX4_today 1 (some FieldType.int) Γ 0 0 0 0 [.ref a] [[(a, moE r i)], [((r 0), .inl (Γ.2.1 0, 523, .inl g))]] [] sz (Qi Γ (fun r_ u_ => r_ = (g 0) ∧ u_ = [[(a, moE r (upd i 7 0))], [((r 0), .inl (Γ.2.1 0, 523, .inl g))]])) := by
  refine K_intro (by decide) (Nat.le_of_ble_eq_true rfl) ?_
  intro pr_ ev_ s mi_ below meth cd_ A ls hx hb hr hml hown hts hlocks hname hK hE hRo hP hD hA hS hsz hl
  have hl : lv_has ls 1 [(0, .ref a)] := hl
  have hown : s.vm.findClass RX4 = some mi_.cls := hown
  refine lv_aload_n hx hb dX4_today_0 rfl (lv_at hl 0 rfl) ?_
  refine lv_iconst (v := 0) hx hb dX4_today_1 (by decide) ?_
  refine b_put (C := RX4) (T := TX4) (N := 16) (ty := .int) (v := .int 0) hx hb hts in_X4 tyX4_ok nmX4 hown hK hP hD hS 0 rfl rfl 7 (by decide) q1814 (fun _ h9 => h9) rfl (by decide +kernel) rfl rfl (Nat.le_of_ble_eq_true rfl) dX4_today_2 (fun H locs hP hD hS => ?_)
  have hP : WP Γ [[(a, moE r (upd i 7 0))], [((r 0), .inl (Γ.2.1 0, 523, .inl g))]] H := hP
  have hD : WD A [[(a, moE r (upd i 7 0))], [((r 0), .inl (Γ.2.1 0, 523, .inl g))]] := hD
  refine lv_aload_n hx hb dX4_today_5 rfl (lv_at hl 0 rfl) ?_
  refine b_get (C := RX4) (T := TX4) (N := 16) (v := .ref (r 0)) hx hb hts in_X4 hown hK (b_at (k := 0) hP rfl) rfl 0 (by decide) q1807 (fun _ h9 => h9) rfl dX4_today_6 ?_
  refine lv_iconst (v := 0) hx hb dX4_today_9 (by decide) ?_
  refine b_iald hx hb hK (b_at (k := 1) hP rfl) 0 rfl (by omega) (by omega) dX4_today_10 ?_
  exact b_iret hx hb hr hlocks hP hD hS (Nat.le_of_ble_eq_true rfl) (Nat.le_of_ble_eq_true rfl) ⟨(by first | rfl | (simp; done)), (by first | rfl | (simp; done))⟩ dX4_today_11
set_option maxHeartbeats 4000000 in
set_option maxRecDepth 100000 in
theorem mt_Mo_refusal (l : Launch) (Γ : GE) (sz : Nat) (a : Nat) (r : Nat → Nat) (i : Nat → Int32)  : KM l yX4_refusal cX4_refusal 1 (some FieldType.int) Γ 0 0 0 0 [.ref a] [[(a, moE r i)]] [] sz (Qi Γ (fun r_ u_ => r_ = (i 6) ∧ u_ = [[(a, moE r (upd i 7 (if i 6 = 0 then 1 else 0)))]])) := by
  refine K_intro (by decide) (Nat.le_of_ble_eq_true rfl) ?_
  intro pr_ ev_ s mi_ below meth cd_ A ls hx hb hr hml hown hts hlocks hname hK hE hRo hP hD hA hS hsz hl
  have hl : lv_has ls 1 [(0, .ref a)] := hl
  have hown : s.vm.findClass RX4 = some mi_.cls := hown
  refine lv_aload_n hx hb dX4_refusal_0 rfl (lv_at hl 0 rfl) ?_
  refine lv_aload_n hx hb dX4_refusal_1 rfl (lv_at hl 0 rfl) ?_
  refine b_get (C := RX4) (T := TX4) (N := 16) (v := .int (i 6)) hx hb hts in_X4 hown hK (b_at (k := 0) hP rfl) rfl 6 (by decide) q1813 (fun _ h9 => h9) rfl dX4_refusal_2 ?_
  refine lv_if_ne (tgt := 12) hx hb dX4_refusal_5 (by decide) (fun c_1 => ?_) (fun c_1 => ?_)
  · -- 5 taken
    refine lv_iconst (v := 0) hx hb dX4_refusal_12 (by decide) ?_
    refine b_put (C := RX4) (T := TX4) (N := 16) (ty := .int) (v := .int 0) hx hb hts in_X4 tyX4_ok nmX4 hown hK hP hD hS 0 rfl rfl 7 (by decide) q1814 (fun _ h9 => h9) rfl (by decide +kernel) rfl rfl (Nat.le_of_ble_eq_true rfl) dX4_refusal_13 (fun H locs hP hD hS => ?_)
    have hP : WP Γ [[(a, moE r (upd i 7 0))]] H := hP
    have hD : WD A [[(a, moE r (upd i 7 0))]] := hD
    refine lv_aload_n hx hb dX4_refusal_16 rfl (lv_at hl 0 rfl) ?_
    refine b_get (C := RX4) (T := TX4) (N := 16) (v := .int (i 6)) hx hb hts in_X4 hown hK (b_at (k := 0) hP rfl) rfl 6 (by decide) q1813 (fun _ h9 => h9) rfl dX4_refusal_17 ?_
    exact b_iret hx hb hr hlocks hP hD hS (Nat.le_of_ble_eq_true rfl) (Nat.le_of_ble_eq_true rfl) ⟨(by first | with_reducible rfl | (simp [c_1]; done) | rfl), (by first | with_reducible rfl | (simp [c_1]; done) | rfl)⟩ dX4_refusal_20
  · -- 5 not taken
    refine lv_iconst (v := 1) hx hb dX4_refusal_8 (by decide) ?_
    refine lv_goto (tgt := 13) hx hb dX4_refusal_9 (by decide) ?_
    refine b_put (C := RX4) (T := TX4) (N := 16) (ty := .int) (v := .int 1) hx hb hts in_X4 tyX4_ok nmX4 hown hK hP hD hS 0 rfl rfl 7 (by decide) q1814 (fun _ h9 => h9) rfl (by decide +kernel) rfl rfl (Nat.le_of_ble_eq_true rfl) dX4_refusal_13 (fun H locs hP hD hS => ?_)
    have hP : WP Γ [[(a, moE r (upd i 7 1))]] H := hP
    have hD : WD A [[(a, moE r (upd i 7 1))]] := hD
    refine lv_aload_n hx hb dX4_refusal_16 rfl (lv_at hl 0 rfl) ?_
    refine b_get (C := RX4) (T := TX4) (N := 16) (v := .int (i 6)) hx hb hts in_X4 hown hK (b_at (k := 0) hP rfl) rfl 6 (by decide) q1813 (fun _ h9 => h9) rfl dX4_refusal_17 ?_
    exact b_iret hx hb hr hlocks hP hD hS (Nat.le_of_ble_eq_true rfl) (Nat.le_of_ble_eq_true rfl) ⟨(by first | with_reducible rfl | (simp [c_1]; done) | rfl), (by first | with_reducible rfl | (simp [c_1]; done) | rfl)⟩ dX4_refusal_20
set_option maxHeartbeats 4000000 in
set_option maxRecDepth 100000 in
theorem mt_Mo_faultPosition (l : Launch) (Γ : GE) (sz : Nat) (a : Nat) (r : Nat → Nat) (i : Nat → Int32)  : KM l yX4_faultPosition cX4_faultPosition 1 (some FieldType.int) Γ 0 0 0 0 [.ref a] [[(a, moE r i)]] [] sz (Qi Γ (fun r_ u_ => r_ = (i 13) ∧ u_ = [[(a, moE r (upd i 7 0))]])) := by
  refine K_intro (by decide) (Nat.le_of_ble_eq_true rfl) ?_
  intro pr_ ev_ s mi_ below meth cd_ A ls hx hb hr hml hown hts hlocks hname hK hE hRo hP hD hA hS hsz hl
  have hl : lv_has ls 1 [(0, .ref a)] := hl
  have hown : s.vm.findClass RX4 = some mi_.cls := hown
  refine lv_aload_n hx hb dX4_faultPosition_0 rfl (lv_at hl 0 rfl) ?_
  refine lv_iconst (v := 0) hx hb dX4_faultPosition_1 (by decide) ?_
  refine b_put (C := RX4) (T := TX4) (N := 16) (ty := .int) (v := .int 0) hx hb hts in_X4 tyX4_ok nmX4 hown hK hP hD hS 0 rfl rfl 7 (by decide) q1814 (fun _ h9 => h9) rfl (by decide +kernel) rfl rfl (Nat.le_of_ble_eq_true rfl) dX4_faultPosition_2 (fun H locs hP hD hS => ?_)
  have hP : WP Γ [[(a, moE r (upd i 7 0))]] H := hP
  have hD : WD A [[(a, moE r (upd i 7 0))]] := hD
  refine lv_aload_n hx hb dX4_faultPosition_5 rfl (lv_at hl 0 rfl) ?_
  refine b_get (C := RX4) (T := TX4) (N := 16) (v := .int (i 13)) hx hb hts in_X4 hown hK (b_at (k := 0) hP rfl) rfl 13 (by decide) q1820 (fun _ h9 => h9) rfl dX4_faultPosition_6 ?_
  exact b_iret hx hb hr hlocks hP hD hS (Nat.le_of_ble_eq_true rfl) (Nat.le_of_ble_eq_true rfl) ⟨(by first | rfl | (simp; done)), (by first | rfl | (simp; done))⟩ dX4_faultPosition_9
set_option maxHeartbeats 4000000 in
set_option maxRecDepth 100000 in
theorem mt_Mo_maySet (l : Launch) (Γ : GE) (sz : Nat) (sx : Int32) (v : Int32)  : KM l yX4_maySet cX4_maySet 2 (some FieldType.boolean) Γ 1 22 0 0 [.int sx, .int v] [] [] sz (Qi Γ (fun r_ u_ => r_ = (moMay sx v) ∧ u_ = [])) := by
  refine K_intro (by decide) (Nat.le_of_ble_eq_true rfl) ?_
  intro pr_ ev_ s mi_ below meth cd_ A ls hx hb hr hml hown hts hlocks hname hK hE hRo hP hD hA hS hsz hl
  have hl : lv_has ls 2 [(0, .int sx), (1, .int v)] := hl
  have hown : s.vm.findClass RX4 = some mi_.cls := hown
  refine lv_iload_n hx hb dX4_maySet_0 rfl (lv_at hl 0 rfl) ?_
  by_cases c_1_0 : sx = 0
  · -- case 0
    subst c_1_0
    refine lv_tableIn (tgt := 36) hx hb dX4_maySet_1 (by decide) (by decide) rfl (by decide) ?_
    refine lv_iload_n hx hb dX4_maySet_36 rfl (lv_at hl 1 rfl) ?_
    refine lv_bipush (v := 20) hx hb dX4_maySet_37 (by decide) ?_
    refine lv_bipush (v := 99) hx hb dX4_maySet_39 (by decide) ?_
    refine b_calli (br := []) (b_runS ⟨hx, hb, hml, hown, hts⟩ (mt_Mo_in l Γ _ v 20 99) (lw_S q1879 q1880 q73 q1881) rfl rfl 3 (by decide +kernel) ⟨(Nat.le_of_ble_eq_true rfl), (Nat.le_of_ble_eq_true rfl)⟩ (c_pre hP hD hS hA hK hE [] rfl rfl ro_nil) rfl hl.1 rfl (Nat.le_of_ble_eq_true rfl) dX4_maySet_41 ⟨(Nat.le_of_ble_eq_true rfl), (Nat.le_of_ble_eq_true rfl)⟩) hP hD hS hA [] [] rfl rfl rfl (fun r_2 u_2 H locs hw_2 hP hD hS _ => ?_)
    obtain ⟨rfl, rfl⟩ := hw_2
    have hP : WP Γ [] H := hP
    have hD : WD A [] := hD
    exact b_zret hx hb hr hlocks hP hD hS (Nat.le_of_ble_eq_true rfl) (Nat.le_of_ble_eq_true rfl) inR_nar ⟨(by first | with_reducible rfl | (simp [moMay]; done) | rfl), (by first | with_reducible rfl | (simp [moMay]; done) | rfl)⟩ dX4_maySet_44
  by_cases c_1_1 : sx = 1
  · -- case 1
    subst c_1_1
    refine lv_tableIn (tgt := 45) hx hb dX4_maySet_1 (by decide) (by decide) rfl (by decide) ?_
    refine lv_iload_n hx hb dX4_maySet_45 rfl (lv_at hl 1 rfl) ?_
    refine lv_iconst (v := 0) hx hb dX4_maySet_46 (by decide) ?_
    refine lv_bipush (v := 19) hx hb dX4_maySet_47 (by decide) ?_
    refine b_calli (br := []) (b_runS ⟨hx, hb, hml, hown, hts⟩ (mt_Mo_in l Γ _ v 0 19) (lw_S q1879 q1880 q73 q1881) rfl rfl 3 (by decide +kernel) ⟨(Nat.le_of_ble_eq_true rfl), (Nat.le_of_ble_eq_true rfl)⟩ (c_pre hP hD hS hA hK hE [] rfl rfl ro_nil) rfl hl.1 rfl (Nat.le_of_ble_eq_true rfl) dX4_maySet_49 ⟨(Nat.le_of_ble_eq_true rfl), (Nat.le_of_ble_eq_true rfl)⟩) hP hD hS hA [] [] rfl rfl rfl (fun r_3 u_3 H locs hw_3 hP hD hS _ => ?_)
    obtain ⟨rfl, rfl⟩ := hw_3
    have hP : WP Γ [] H := hP
    have hD : WD A [] := hD
    exact b_zret hx hb hr hlocks hP hD hS (Nat.le_of_ble_eq_true rfl) (Nat.le_of_ble_eq_true rfl) inR_nar ⟨(by first | with_reducible rfl | (simp [moMay, c_1_0]; done) | rfl), (by first | with_reducible rfl | (simp [moMay, c_1_0]; done) | rfl)⟩ dX4_maySet_52
  by_cases c_1_2 : sx = 2
  · -- case 2
    subst c_1_2
    refine lv_tableIn (tgt := 53) hx hb dX4_maySet_1 (by decide) (by decide) rfl (by decide) ?_
    refine lv_iload_n hx hb dX4_maySet_53 rfl (lv_at hl 1 rfl) ?_
    refine lv_iconst (v := 1) hx hb dX4_maySet_54 (by decide) ?_
    refine lv_bipush (v := 9) hx hb dX4_maySet_55 (by decide) ?_
    refine b_calli (br := []) (b_runS ⟨hx, hb, hml, hown, hts⟩ (mt_Mo_in l Γ _ v 1 9) (lw_S q1879 q1880 q73 q1881) rfl rfl 3 (by decide +kernel) ⟨(Nat.le_of_ble_eq_true rfl), (Nat.le_of_ble_eq_true rfl)⟩ (c_pre hP hD hS hA hK hE [] rfl rfl ro_nil) rfl hl.1 rfl (Nat.le_of_ble_eq_true rfl) dX4_maySet_57 ⟨(Nat.le_of_ble_eq_true rfl), (Nat.le_of_ble_eq_true rfl)⟩) hP hD hS hA [] [] rfl rfl rfl (fun r_4 u_4 H locs hw_4 hP hD hS _ => ?_)
    obtain ⟨rfl, rfl⟩ := hw_4
    have hP : WP Γ [] H := hP
    have hD : WD A [] := hD
    exact b_zret hx hb hr hlocks hP hD hS (Nat.le_of_ble_eq_true rfl) (Nat.le_of_ble_eq_true rfl) inR_nar ⟨(by first | with_reducible rfl | (simp [moMay, c_1_0, c_1_1]; done) | rfl), (by first | with_reducible rfl | (simp [moMay, c_1_0, c_1_1]; done) | rfl)⟩ dX4_maySet_60
  by_cases c_1_3 : sx = 3
  · -- case 3
    subst c_1_3
    refine lv_tableIn (tgt := 61) hx hb dX4_maySet_1 (by decide) (by decide) rfl (by decide) ?_
    refine lv_iload_n hx hb dX4_maySet_61 rfl (lv_at hl 1 rfl) ?_
    refine lv_iconst (v := 0) hx hb dX4_maySet_62 (by decide) ?_
    refine lv_sipush (v := 999) hx hb dX4_maySet_63 (by decide) ?_
    refine b_calli (br := []) (b_runS ⟨hx, hb, hml, hown, hts⟩ (mt_Mo_in l Γ _ v 0 999) (lw_S q1879 q1880 q73 q1881) rfl rfl 3 (by decide +kernel) ⟨(Nat.le_of_ble_eq_true rfl), (Nat.le_of_ble_eq_true rfl)⟩ (c_pre hP hD hS hA hK hE [] rfl rfl ro_nil) rfl hl.1 rfl (Nat.le_of_ble_eq_true rfl) dX4_maySet_66 ⟨(Nat.le_of_ble_eq_true rfl), (Nat.le_of_ble_eq_true rfl)⟩) hP hD hS hA [] [] rfl rfl rfl (fun r_5 u_5 H locs hw_5 hP hD hS _ => ?_)
    obtain ⟨rfl, rfl⟩ := hw_5
    have hP : WP Γ [] H := hP
    have hD : WD A [] := hD
    exact b_zret hx hb hr hlocks hP hD hS (Nat.le_of_ble_eq_true rfl) (Nat.le_of_ble_eq_true rfl) inR_nar ⟨(by first | with_reducible rfl | (simp [moMay, c_1_0, c_1_1, c_1_2]; done) | rfl), (by first | with_reducible rfl | (simp [moMay, c_1_0, c_1_1, c_1_2]; done) | rfl)⟩ dX4_maySet_69
  by_cases c_1_4 : sx = 4
  · -- case 4
    subst c_1_4
    refine lv_tableIn (tgt := 70) hx hb dX4_maySet_1 (by decide) (by decide) rfl (by decide) ?_
    refine lv_iload_n hx hb dX4_maySet_70 rfl (lv_at hl 1 rfl) ?_
    refine lv_iconst (v := 1) hx hb dX4_maySet_71 (by decide) ?_
    refine lv_bipush (v := 6) hx hb dX4_maySet_72 (by decide) ?_
    refine b_calli (br := []) (b_runS ⟨hx, hb, hml, hown, hts⟩ (mt_Mo_in l Γ _ v 1 6) (lw_S q1879 q1880 q73 q1881) rfl rfl 3 (by decide +kernel) ⟨(Nat.le_of_ble_eq_true rfl), (Nat.le_of_ble_eq_true rfl)⟩ (c_pre hP hD hS hA hK hE [] rfl rfl ro_nil) rfl hl.1 rfl (Nat.le_of_ble_eq_true rfl) dX4_maySet_74 ⟨(Nat.le_of_ble_eq_true rfl), (Nat.le_of_ble_eq_true rfl)⟩) hP hD hS hA [] [] rfl rfl rfl (fun r_6 u_6 H locs hw_6 hP hD hS _ => ?_)
    obtain ⟨rfl, rfl⟩ := hw_6
    have hP : WP Γ [] H := hP
    have hD : WD A [] := hD
    exact b_zret hx hb hr hlocks hP hD hS (Nat.le_of_ble_eq_true rfl) (Nat.le_of_ble_eq_true rfl) inR_nar ⟨(by first | with_reducible rfl | (simp [moMay, c_1_0, c_1_1, c_1_2, c_1_3]; done) | rfl), (by first | with_reducible rfl | (simp [moMay, c_1_0, c_1_1, c_1_2, c_1_3]; done) | rfl)⟩ dX4_maySet_77
  refine lv_tableOut (tgt := 78) hx hb dX4_maySet_1 (sw_out 0 4 (by decide) (fun j h1 h2 => by rcases (show j = 0 ∨ j = 1 ∨ j = 2 ∨ j = 3 ∨ j = 4 by omega) with rfl | rfl | rfl | rfl | rfl <;> assumption)) (by decide) ?_
  refine lv_iload_n hx hb dX4_maySet_78 rfl (lv_at hl 1 rfl) ?_
  refine lv_iconst (v := 0) hx hb dX4_maySet_79 (by decide) ?_
  refine lv_bipush (v := 99) hx hb dX4_maySet_80 (by decide) ?_
  refine b_calli (br := []) (b_runS ⟨hx, hb, hml, hown, hts⟩ (mt_Mo_in l Γ _ v 0 99) (lw_S q1879 q1880 q73 q1881) rfl rfl 3 (by decide +kernel) ⟨(Nat.le_of_ble_eq_true rfl), (Nat.le_of_ble_eq_true rfl)⟩ (c_pre hP hD hS hA hK hE [] rfl rfl ro_nil) rfl hl.1 rfl (Nat.le_of_ble_eq_true rfl) dX4_maySet_82 ⟨(Nat.le_of_ble_eq_true rfl), (Nat.le_of_ble_eq_true rfl)⟩) hP hD hS hA [] [] rfl rfl rfl (fun r_7 u_7 H locs hw_7 hP hD hS _ => ?_)
  obtain ⟨rfl, rfl⟩ := hw_7
  have hP : WP Γ [] H := hP
  have hD : WD A [] := hD
  exact b_zret hx hb hr hlocks hP hD hS (Nat.le_of_ble_eq_true rfl) (Nat.le_of_ble_eq_true rfl) inR_nar ⟨(by first | with_reducible rfl | (simp [moMay, c_1_0, c_1_1, c_1_2, c_1_3, c_1_4]; done) | rfl), (by first | with_reducible rfl | (simp [moMay, c_1_0, c_1_1, c_1_2, c_1_3, c_1_4]; done) | rfl)⟩ dX4_maySet_85
set_option maxHeartbeats 4000000 in
set_option maxRecDepth 100000 in
theorem mt_Mo_setting (l : Launch) (Γ : GE) (sz : Nat) (a : Nat) (r : Nat → Nat) (i : Nat → Int32) (g : Nat → Int32) (sx : Int32)  : KM l yX4_setting cX4_setting 2 (some FieldType.int) Γ 1 22 0 0 [.ref a, .int sx] [[(a, moE r i)], [((r 0), .inl (Γ.2.1 0, 523, .inl g))]] [] sz (Qi Γ (fun r_ u_ => r_ = (oSel (T_setting sx) (g (sx.toNatClampNeg + 1)) 0) ∧ u_ = [[(a, moE r (upd i 7 (T_setting sx)))], [((r 0), .inl (Γ.2.1 0, 523, .inl g))]])) := by
  refine K_intro (by decide) (Nat.le_of_ble_eq_true rfl) ?_
  intro pr_ ev_ s mi_ below meth cd_ A ls hx hb hr hml hown hts hlocks hname hK hE hRo hP hD hA hS hsz hl
  have hl : lv_has ls 2 [(0, .ref a), (1, .int sx)] := hl
  have hown : s.vm.findClass RX4 = some mi_.cls := hown
  refine lv_aload_n hx hb dX4_setting_0 rfl (lv_at hl 0 rfl) ?_
  refine lv_iload_n hx hb dX4_setting_1 rfl (lv_at hl 1 rfl) ?_
  refine lv_iconst (v := 0) hx hb dX4_setting_2 (by decide) ?_
  refine lv_iconst (v := 5) hx hb dX4_setting_3 (by decide) ?_
  refine b_calli (br := [[(a, moE r i)], [((r 0), .inl (Γ.2.1 0, 523, .inl g))]]) (b_runS ⟨hx, hb, hml, hown, hts⟩ (mt_Mo_in l Γ _ sx 0 5) (lw_S q1879 q1880 q73 q1881) rfl rfl 3 (by decide +kernel) ⟨(Nat.le_of_ble_eq_true rfl), (Nat.le_of_ble_eq_true rfl)⟩ (c_pre hP hD hS hA hK hE [] rfl rfl ro_nil) rfl hl.1 rfl (Nat.le_of_ble_eq_true rfl) dX4_setting_4 ⟨(Nat.le_of_ble_eq_true rfl), (Nat.le_of_ble_eq_true rfl)⟩) hP hD hS hA [] [0, 1] rfl rfl rfl (fun r_1 u_1 H locs hw_1 hP hD hS _ => ?_)
  obtain ⟨rfl, rfl⟩ := hw_1
  have hP : WP Γ [[(a, moE r i)], [((r 0), .inl (Γ.2.1 0, 523, .inl g))]] H := hP
  have hD : WD A [[(a, moE r i)], [((r 0), .inl (Γ.2.1 0, 523, .inl g))]] := hD
  refine lv_if_eq (tgt := 14) hx hb dX4_setting_7 (by decide) (fun c_2 => ?_) (fun c_2 => ?_)
  · -- 7 taken
    refine lv_iconst (v := 1) hx hb dX4_setting_14 (by decide) ?_
    refine b_put (C := RX4) (T := TX4) (N := 16) (ty := .int) (v := .int 1) hx hb hts in_X4 tyX4_ok nmX4 hown hK hP hD hS 0 rfl rfl 7 (by decide) q1814 (fun _ h9 => h9) rfl (by decide +kernel) rfl rfl (Nat.le_of_ble_eq_true rfl) dX4_setting_15 (fun H locs hP hD hS => ?_)
    have hP : WP Γ [[(a, moE r (upd i 7 1))], [((r 0), .inl (Γ.2.1 0, 523, .inl g))]] H := hP
    have hD : WD A [[(a, moE r (upd i 7 1))], [((r 0), .inl (Γ.2.1 0, 523, .inl g))]] := hD
    refine lv_aload_n hx hb dX4_setting_18 rfl (lv_at hl 0 rfl) ?_
    refine b_get (C := RX4) (T := TX4) (N := 16) (v := .int 1) hx hb hts in_X4 hown hK (b_at (k := 0) hP rfl) rfl 7 (by decide) q1814 (fun _ h9 => h9) rfl dX4_setting_19 ?_
    refine lv_if_le (tgt := 29) hx hb dX4_setting_22 (by decide) (fun c_3 => ?_) (fun c_3 => ?_)
    · -- 22 taken
      have n_3 : 1 ≤ 0 := (nI_leI (by omega) (by omega)).mp (show nI 1 ≤ nI 0 from c_3)
      have d_3 := Int32.not_lt.mpr c_3
      exact absurd n_3 (by omega)
    · -- 22 not taken
      have n_3 : ¬ (1 ≤ 0) := fun h => c_3 ((nI_leI (a := 1) (b := 0) (by omega) (by omega)).mpr h)
      have d_3 := Int32.not_le.mp c_3
      refine lv_iconst (v := 0) hx hb dX4_setting_25 (by decide) ?_
      refine lv_goto (tgt := 37) hx hb dX4_setting_26 (by decide) ?_
      exact b_iret hx hb hr hlocks hP hD hS (Nat.le_of_ble_eq_true rfl) (Nat.le_of_ble_eq_true rfl) ⟨(by first | with_reducible rfl | (simp [oSel, T_setting, c_2, n_3, d_3]; done) | rfl), (by first | with_reducible rfl | (simp [oSel, T_setting, c_2, n_3, d_3]; done) | rfl)⟩ dX4_setting_37
  · -- 7 not taken
    obtain ⟨k, hk1, hk2, rfl⟩ := inR_ab (a := 0) (b := 5) rfl rfl (by decide) (by decide) c_2
    refine lv_iconst (v := 0) hx hb dX4_setting_10 (by decide) ?_
    refine lv_goto (tgt := 15) hx hb dX4_setting_11 (by decide) ?_
    refine b_put (C := RX4) (T := TX4) (N := 16) (ty := .int) (v := .int 0) hx hb hts in_X4 tyX4_ok nmX4 hown hK hP hD hS 0 rfl rfl 7 (by decide) q1814 (fun _ h9 => h9) rfl (by decide +kernel) rfl rfl (Nat.le_of_ble_eq_true rfl) dX4_setting_15 (fun H locs hP hD hS => ?_)
    have hP : WP Γ [[(a, moE r (upd i 7 0))], [((r 0), .inl (Γ.2.1 0, 523, .inl g))]] H := hP
    have hD : WD A [[(a, moE r (upd i 7 0))], [((r 0), .inl (Γ.2.1 0, 523, .inl g))]] := hD
    refine lv_aload_n hx hb dX4_setting_18 rfl (lv_at hl 0 rfl) ?_
    refine b_get (C := RX4) (T := TX4) (N := 16) (v := .int 0) hx hb hts in_X4 hown hK (b_at (k := 0) hP rfl) rfl 7 (by decide) q1814 (fun _ h9 => h9) rfl dX4_setting_19 ?_
    refine lv_if_le (tgt := 29) hx hb dX4_setting_22 (by decide) (fun c_4 => ?_) (fun c_4 => ?_)
    · -- 22 taken
      have n_4 : 0 ≤ 0 := (nI_leI (by omega) (by omega)).mp (show nI 0 ≤ nI 0 from c_4)
      have d_4 := Int32.not_lt.mpr c_4
      refine lv_aload_n hx hb dX4_setting_29 rfl (lv_at hl 0 rfl) ?_
      refine b_get (C := RX4) (T := TX4) (N := 16) (v := .ref (r 0)) hx hb hts in_X4 hown hK (b_at (k := 0) hP rfl) rfl 0 (by decide) q1807 (fun _ h9 => h9) rfl dX4_setting_30 ?_
      refine lv_iconst (v := 1) hx hb dX4_setting_33 (by decide) ?_
      refine lv_iload_n hx hb dX4_setting_34 rfl (lv_at hl 1 rfl) ?_
      refine lv_iadd hx hb dX4_setting_35 ?_
      refine b_top (nI_addE (a := 1) (b := k) (c := k + 1) rfl rfl (by first | omega | rfl)) ?_
      refine b_iald hx hb hK (b_at (k := 1) hP rfl) (k + 1) rfl (by omega) (by omega) dX4_setting_36 ?_
      exact b_iret hx hb hr hlocks hP hD hS (Nat.le_of_ble_eq_true rfl) (Nat.le_of_ble_eq_true rfl) ⟨(by first | with_reducible rfl | (simp [oSel, T_setting, c_2, nI_clamp (show k < 2 ^ 31 by omega), n_4, d_4]; done) | rfl), (by first | with_reducible rfl | (simp [oSel, T_setting, c_2, nI_clamp (show k < 2 ^ 31 by omega), n_4, d_4]; done) | rfl)⟩ dX4_setting_37
    · -- 22 not taken
      have n_4 : ¬ (0 ≤ 0) := fun h => c_4 ((nI_leI (a := 0) (b := 0) (by omega) (by omega)).mpr h)
      have d_4 := Int32.not_le.mp c_4
      exact absurd n_4 (by omega)
set_option maxHeartbeats 4000000 in
set_option maxRecDepth 100000 in
theorem mt_Mo_set (l : Launch) (Γ : GE) (sz : Nat) (a : Nat) (r : Nat → Nat) (i : Nat → Int32) (g : Nat → Int32) (ps : Nat → Int32) (pn : Nat) (sx : Int32) (v : Int32) (h5 : i 5 = nI pn) (hpn : pn ≤ 8) : KM l yX4_set cX4_set 4 (some FieldType.int) Γ 2 46 0 0 [.ref a, .int sx, .int v] [[(a, moE r i)], [((r 0), .inl (Γ.2.1 0, 523, .inl g))], [((r 4), .inl (Γ.2.1 0, 4184, .inl ps))]] [] sz (Qi Γ (fun r_ u_ => r_ = (oSel (T_set sx v) (g (sx.toNatClampNeg + 1)) 0) ∧ u_ = [[(a, moE r (oI2 i (T_set sx v) pn))], [((r 0), .inl (Γ.2.1 0, 523, .inl (oSel (T_set sx v) (upd g (sx.toNatClampNeg + 1) v) g)))], [((r 4), .inl (Γ.2.1 0, 4184, .inl (oSel (T_set sx v) (moPush g ps pn) ps)))]])) := by
  refine K_intro (by decide) (Nat.le_of_ble_eq_true rfl) ?_
  intro pr_ ev_ s mi_ below meth cd_ A ls hx hb hr hml hown hts hlocks hname hK hE hRo hP hD hA hS hsz hl
  have hl : lv_has ls 4 [(0, .ref a), (1, .int sx), (2, .int v)] := hl
  have hown : s.vm.findClass RX4 = some mi_.cls := hown
  refine lv_aload_n hx hb dX4_set_0 rfl (lv_at hl 0 rfl) ?_
  refine lv_iload_n hx hb dX4_set_1 rfl (lv_at hl 1 rfl) ?_
  refine lv_iconst (v := 0) hx hb dX4_set_2 (by decide) ?_
  refine lv_iconst (v := 5) hx hb dX4_set_3 (by decide) ?_
  refine b_calli (br := [[(a, moE r i)], [((r 0), .inl (Γ.2.1 0, 523, .inl g))], [((r 4), .inl (Γ.2.1 0, 4184, .inl ps))]]) (b_runS ⟨hx, hb, hml, hown, hts⟩ (mt_Mo_in l Γ _ sx 0 5) (lw_S q1879 q1880 q73 q1881) rfl rfl 3 (by decide +kernel) ⟨(Nat.le_of_ble_eq_true rfl), (Nat.le_of_ble_eq_true rfl)⟩ (c_pre hP hD hS hA hK hE [] rfl rfl ro_nil) rfl hl.1 rfl (Nat.le_of_ble_eq_true rfl) dX4_set_4 ⟨(Nat.le_of_ble_eq_true rfl), (Nat.le_of_ble_eq_true rfl)⟩) hP hD hS hA [] [0, 1, 2] rfl rfl rfl (fun r_1 u_1 H locs hw_1 hP hD hS _ => ?_)
  obtain ⟨rfl, rfl⟩ := hw_1
  have hP : WP Γ [[(a, moE r i)], [((r 0), .inl (Γ.2.1 0, 523, .inl g))], [((r 4), .inl (Γ.2.1 0, 4184, .inl ps))]] H := hP
  have hD : WD A [[(a, moE r i)], [((r 0), .inl (Γ.2.1 0, 523, .inl g))], [((r 4), .inl (Γ.2.1 0, 4184, .inl ps))]] := hD
  refine lv_if_eq (tgt := 26) hx hb dX4_set_7 (by decide) (fun c_2 => ?_) (fun c_2 => ?_)
  · -- 7 taken
    refine lv_iconst (v := 1) hx hb dX4_set_26 (by decide) ?_
    refine b_put (C := RX4) (T := TX4) (N := 16) (ty := .int) (v := .int 1) hx hb hts in_X4 tyX4_ok nmX4 hown hK hP hD hS 0 rfl rfl 7 (by decide) q1814 (fun _ h9 => h9) rfl (by decide +kernel) rfl rfl (Nat.le_of_ble_eq_true rfl) dX4_set_27 (fun H locs hP hD hS => ?_)
    have hP : WP Γ [[(a, moE r (upd i 7 1))], [((r 0), .inl (Γ.2.1 0, 523, .inl g))], [((r 4), .inl (Γ.2.1 0, 4184, .inl ps))]] H := hP
    have hD : WD A [[(a, moE r (upd i 7 1))], [((r 0), .inl (Γ.2.1 0, 523, .inl g))], [((r 4), .inl (Γ.2.1 0, 4184, .inl ps))]] := hD
    refine lv_aload_n hx hb dX4_set_30 rfl (lv_at hl 0 rfl) ?_
    refine b_get (C := RX4) (T := TX4) (N := 16) (v := .int 1) hx hb hts in_X4 hown hK (b_at (k := 0) hP rfl) rfl 7 (by decide) q1814 (fun _ h9 => h9) rfl dX4_set_31 ?_
    refine lv_if_le (tgt := 39) hx hb dX4_set_34 (by decide) (fun c_3 => ?_) (fun c_3 => ?_)
    · -- 34 taken
      have n_3 : 1 ≤ 0 := (nI_leI (by omega) (by omega)).mp (show nI 1 ≤ nI 0 from c_3)
      have d_3 := Int32.not_lt.mpr c_3
      exact absurd n_3 (by omega)
    · -- 34 not taken
      have n_3 : ¬ (1 ≤ 0) := fun h => c_3 ((nI_leI (a := 1) (b := 0) (by omega) (by omega)).mpr h)
      have d_3 := Int32.not_le.mp c_3
      refine lv_iconst (v := 0) hx hb dX4_set_37 (by decide) ?_
      exact b_iret hx hb hr hlocks hP hD hS (Nat.le_of_ble_eq_true rfl) (Nat.le_of_ble_eq_true rfl) ⟨(by first | with_reducible rfl | (simp [oSel, oI2, T_set, c_2, n_3, d_3]; done) | rfl), (by first | with_reducible rfl | (simp [oSel, oI2, T_set, c_2, n_3, d_3]; done) | rfl)⟩ dX4_set_38
  · -- 7 not taken
    obtain ⟨k, hk1, hk2, rfl⟩ := inR_ab (a := 0) (b := 5) rfl rfl (by decide) (by decide) c_2
    refine lv_iload_n hx hb dX4_set_10 rfl (lv_at hl 1 rfl) ?_
    refine lv_iload_n hx hb dX4_set_11 rfl (lv_at hl 2 rfl) ?_
    refine b_calli (br := [[(a, moE r i)], [((r 0), .inl (Γ.2.1 0, 523, .inl g))], [((r 4), .inl (Γ.2.1 0, 4184, .inl ps))]]) (b_runS ⟨hx, hb, hml, hown, hts⟩ (mt_Mo_maySet l Γ _ (nI k) v) (lw_S q1893 q1894 q73 q1895) rfl rfl 2 (by decide +kernel) ⟨(Nat.le_of_ble_eq_true rfl), (Nat.le_of_ble_eq_true rfl)⟩ (c_pre hP hD hS hA hK hE [] rfl rfl ro_nil) rfl hl.1 rfl (Nat.le_of_ble_eq_true rfl) dX4_set_12 ⟨(Nat.le_of_ble_eq_true rfl), (Nat.le_of_ble_eq_true rfl)⟩) hP hD hS hA [] [0, 1, 2] rfl rfl rfl (fun r_4 u_4 H locs hw_4 hP hD hS _ => ?_)
    obtain ⟨rfl, rfl⟩ := hw_4
    have hP : WP Γ [[(a, moE r i)], [((r 0), .inl (Γ.2.1 0, 523, .inl g))], [((r 4), .inl (Γ.2.1 0, 4184, .inl ps))]] H := hP
    have hD : WD A [[(a, moE r i)], [((r 0), .inl (Γ.2.1 0, 523, .inl g))], [((r 4), .inl (Γ.2.1 0, 4184, .inl ps))]] := hD
    refine lv_if_eq (tgt := 22) hx hb dX4_set_15 (by decide) (fun c_5 => ?_) (fun c_5 => ?_)
    · -- 15 taken
      refine lv_iconst (v := 2) hx hb dX4_set_22 (by decide) ?_
      refine lv_goto (tgt := 27) hx hb dX4_set_23 (by decide) ?_
      refine b_put (C := RX4) (T := TX4) (N := 16) (ty := .int) (v := .int 2) hx hb hts in_X4 tyX4_ok nmX4 hown hK hP hD hS 0 rfl rfl 7 (by decide) q1814 (fun _ h9 => h9) rfl (by decide +kernel) rfl rfl (Nat.le_of_ble_eq_true rfl) dX4_set_27 (fun H locs hP hD hS => ?_)
      have hP : WP Γ [[(a, moE r (upd i 7 2))], [((r 0), .inl (Γ.2.1 0, 523, .inl g))], [((r 4), .inl (Γ.2.1 0, 4184, .inl ps))]] H := hP
      have hD : WD A [[(a, moE r (upd i 7 2))], [((r 0), .inl (Γ.2.1 0, 523, .inl g))], [((r 4), .inl (Γ.2.1 0, 4184, .inl ps))]] := hD
      refine lv_aload_n hx hb dX4_set_30 rfl (lv_at hl 0 rfl) ?_
      refine b_get (C := RX4) (T := TX4) (N := 16) (v := .int 2) hx hb hts in_X4 hown hK (b_at (k := 0) hP rfl) rfl 7 (by decide) q1814 (fun _ h9 => h9) rfl dX4_set_31 ?_
      refine lv_if_le (tgt := 39) hx hb dX4_set_34 (by decide) (fun c_6 => ?_) (fun c_6 => ?_)
      · -- 34 taken
        have n_6 : 2 ≤ 0 := (nI_leI (by omega) (by omega)).mp (show nI 2 ≤ nI 0 from c_6)
        have d_6 := Int32.not_lt.mpr c_6
        exact absurd n_6 (by omega)
      · -- 34 not taken
        have n_6 : ¬ (2 ≤ 0) := fun h => c_6 ((nI_leI (a := 2) (b := 0) (by omega) (by omega)).mpr h)
        have d_6 := Int32.not_le.mp c_6
        refine lv_iconst (v := 0) hx hb dX4_set_37 (by decide) ?_
        exact b_iret hx hb hr hlocks hP hD hS (Nat.le_of_ble_eq_true rfl) (Nat.le_of_ble_eq_true rfl) ⟨(by first | with_reducible rfl | (simp [oSel, oI2, T_set, c_2, nI_clamp (show k < 2 ^ 31 by omega), c_5, n_6, d_6]; done) | rfl), (by first | with_reducible rfl | (simp [oSel, oI2, T_set, c_2, nI_clamp (show k < 2 ^ 31 by omega), c_5, n_6, d_6]; done) | rfl)⟩ dX4_set_38
    · -- 15 not taken
      refine lv_iconst (v := 0) hx hb dX4_set_18 (by decide) ?_
      refine lv_goto (tgt := 27) hx hb dX4_set_19 (by decide) ?_
      refine b_put (C := RX4) (T := TX4) (N := 16) (ty := .int) (v := .int 0) hx hb hts in_X4 tyX4_ok nmX4 hown hK hP hD hS 0 rfl rfl 7 (by decide) q1814 (fun _ h9 => h9) rfl (by decide +kernel) rfl rfl (Nat.le_of_ble_eq_true rfl) dX4_set_27 (fun H locs hP hD hS => ?_)
      have hP : WP Γ [[(a, moE r (upd i 7 0))], [((r 0), .inl (Γ.2.1 0, 523, .inl g))], [((r 4), .inl (Γ.2.1 0, 4184, .inl ps))]] H := hP
      have hD : WD A [[(a, moE r (upd i 7 0))], [((r 0), .inl (Γ.2.1 0, 523, .inl g))], [((r 4), .inl (Γ.2.1 0, 4184, .inl ps))]] := hD
      refine lv_aload_n hx hb dX4_set_30 rfl (lv_at hl 0 rfl) ?_
      refine b_get (C := RX4) (T := TX4) (N := 16) (v := .int 0) hx hb hts in_X4 hown hK (b_at (k := 0) hP rfl) rfl 7 (by decide) q1814 (fun _ h9 => h9) rfl dX4_set_31 ?_
      refine lv_if_le (tgt := 39) hx hb dX4_set_34 (by decide) (fun c_7 => ?_) (fun c_7 => ?_)
      · -- 34 taken
        have n_7 : 0 ≤ 0 := (nI_leI (by omega) (by omega)).mp (show nI 0 ≤ nI 0 from c_7)
        have d_7 := Int32.not_lt.mpr c_7
        refine lv_aload_n hx hb dX4_set_39 rfl (lv_at hl 0 rfl) ?_
        refine lv_aload_n hx hb dX4_set_40 rfl (lv_at hl 0 rfl) ?_
        refine b_get (C := RX4) (T := TX4) (N := 16) (v := .ref (r 0)) hx hb hts in_X4 hown hK (b_at (k := 0) hP rfl) rfl 0 (by decide) q1807 (fun _ h9 => h9) rfl dX4_set_41 ?_
        refine b_callv (br := []) (b_runV ⟨hx, hb, hml, hown, hts⟩ (mt_Mo_changes l Γ _ a r (upd i 7 0) (r 0) g ps pn (by first | exact h5 | (show i 5 = nI pn; exact h5)) hpn) (lw_V q1882 q1884 qs31 q73 q1885) rfl rfl 1 (by decide +kernel) ⟨(Nat.le_of_ble_eq_true rfl), (Nat.le_of_ble_eq_true rfl)⟩ (c_pre hP hD hS hA hK hE [0, 1, 2] rfl rfl ro_nil) (recv_at (q := (RX4, TX4, 16)) hK (b_at (k := 0) hP rfl) rfl) rfl hl.1 rfl (Nat.le_of_ble_eq_true rfl) dX4_set_44 ⟨(Nat.le_of_ble_eq_true rfl), (Nat.le_of_ble_eq_true rfl)⟩) hP hD hS hA [0, 1, 2] [] rfl rfl rfl (fun u_8 H locs hw_8 hP hD hS _ => ?_)
        obtain rfl := hw_8
        have hP : WP Γ [[(a, moE r (upd (upd i 7 0) 5 (nI (moPushN pn))))], [((r 0), .inl (Γ.2.1 0, 523, .inl g))], [((r 4), .inl (Γ.2.1 0, 4184, .inl (moPush g ps pn)))]] H := hP
        have hD : WD A [[(a, moE r (upd (upd i 7 0) 5 (nI (moPushN pn))))], [((r 0), .inl (Γ.2.1 0, 523, .inl g))], [((r 4), .inl (Γ.2.1 0, 4184, .inl (moPush g ps pn)))]] := hD
        refine lv_aload_n hx hb dX4_set_47 rfl (lv_at hl 0 rfl) ?_
        refine b_get (C := RX4) (T := TX4) (N := 16) (v := .ref (r 0)) hx hb hts in_X4 hown hK (b_at (k := 0) hP rfl) rfl 0 (by decide) q1807 (fun _ h9 => h9) rfl dX4_set_48 ?_
        refine lv_iconst (v := 1) hx hb dX4_set_51 (by decide) ?_
        refine lv_iload_n hx hb dX4_set_52 rfl (lv_at hl 1 rfl) ?_
        refine lv_iadd hx hb dX4_set_53 ?_
        refine b_top (nI_addE (a := 1) (b := k) (c := k + 1) rfl rfl (by first | omega | rfl)) ?_
        refine b_iald hx hb hK (b_at (k := 1) hP rfl) (k + 1) rfl (by omega) (by omega) dX4_set_54 ?_
        refine lv_istore_n (lv' := [(3, .int (g (k + 1))), (0, .ref a), (1, .int (nI k)), (2, .int v)]) hx hb dX4_set_55 rfl hl (by decide) rfl (fun ls hl => ?_)
        refine lv_aload_n hx hb dX4_set_56 rfl (lv_at hl 1 rfl) ?_
        refine b_get (C := RX4) (T := TX4) (N := 16) (v := .ref (r 0)) hx hb hts in_X4 hown hK (b_at (k := 0) hP rfl) rfl 0 (by decide) q1807 (fun _ h9 => h9) rfl dX4_set_57 ?_
        refine lv_iconst (v := 1) hx hb dX4_set_60 (by decide) ?_
        refine lv_iload_n hx hb dX4_set_61 rfl (lv_at hl 2 rfl) ?_
        refine lv_iadd hx hb dX4_set_62 ?_
        refine b_top (nI_addE (a := 1) (b := k) (c := k + 1) rfl rfl (by first | omega | rfl)) ?_
        refine lv_iload_n hx hb dX4_set_63 rfl (lv_at hl 3 rfl) ?_
        refine b_iast hx hb hK hP hD hS 1 rfl (k + 1) rfl (by omega) (by omega) dX4_set_64 (fun H locs hP hD hS => ?_)
        have hP : WP Γ [[(a, moE r (upd (upd i 7 0) 5 (nI (moPushN pn))))], [((r 0), .inl (Γ.2.1 0, 523, .inl (upd g (k + 1) v)))], [((r 4), .inl (Γ.2.1 0, 4184, .inl (moPush g ps pn)))]] H := hP
        have hD : WD A [[(a, moE r (upd (upd i 7 0) 5 (nI (moPushN pn))))], [((r 0), .inl (Γ.2.1 0, 523, .inl (upd g (k + 1) v)))], [((r 4), .inl (Γ.2.1 0, 4184, .inl (moPush g ps pn)))]] := hD
        refine lv_iload_n hx hb dX4_set_65 rfl (lv_at hl 0 rfl) ?_
        exact b_iret hx hb hr hlocks hP hD hS (Nat.le_of_ble_eq_true rfl) (Nat.le_of_ble_eq_true rfl) ⟨(by first | with_reducible rfl | (simp [oSel, oI2, T_set, c_2, nI_clamp (show k < 2 ^ 31 by omega), c_5, n_7, d_7]; done) | rfl), (by first | with_reducible rfl | (simp [oSel, oI2, T_set, c_2, nI_clamp (show k < 2 ^ 31 by omega), c_5, n_7, d_7]; done) | rfl)⟩ dX4_set_66
      · -- 34 not taken
        have n_7 : ¬ (0 ≤ 0) := fun h => c_7 ((nI_leI (a := 0) (b := 0) (by omega) (by omega)).mpr h)
        have d_7 := Int32.not_le.mp c_7
        exact absurd n_7 (by omega)
set_option maxHeartbeats 4000000 in
set_option maxRecDepth 100000 in
theorem mt_Mo_bonus (l : Launch) (Γ : GE) (sz : Nat) (a : Nat) (r : Nat → Nat) (i : Nat → Int32) (g : Nat → Int32) (x : Int32) (b : Int32) (n : Nat) (hg10 : g 10 = nI n) (hn : n ≤ 4) : KM l yX4_bonus cX4_bonus 3 (some FieldType.int) Γ 1 22 0 0 [.ref a, .int x, .int b] [[(a, moE r i)], [((r 0), .inl (Γ.2.1 0, 523, .inl g))]] [] sz (Qi Γ (fun r_ u_ => r_ = (oSel (T_bonus x (g 10)) (if b = 0 then g (2 * x.toNatClampNeg + 95) else g (2 * x.toNatClampNeg + 96)) 0) ∧ u_ = [[(a, moE r (upd i 7 (T_bonus x (g 10))))], [((r 0), .inl (Γ.2.1 0, 523, .inl g))]])) := by
  refine K_intro (by decide) (Nat.le_of_ble_eq_true rfl) ?_
  intro pr_ ev_ s mi_ below meth cd_ A ls hx hb hr hml hown hts hlocks hname hK hE hRo hP hD hA hS hsz hl
  have hl : lv_has ls 3 [(0, .ref a), (1, .int x), (2, .int b)] := hl
  have hown : s.vm.findClass RX4 = some mi_.cls := hown
  refine lv_aload_n hx hb dX4_bonus_0 rfl (lv_at hl 0 rfl) ?_
  refine lv_iload_n hx hb dX4_bonus_1 rfl (lv_at hl 1 rfl) ?_
  refine lv_iconst (v := 0) hx hb dX4_bonus_2 (by decide) ?_
  refine lv_aload_n hx hb dX4_bonus_3 rfl (lv_at hl 0 rfl) ?_
  refine b_get (C := RX4) (T := TX4) (N := 16) (v := .ref (r 0)) hx hb hts in_X4 hown hK (b_at (k := 0) hP rfl) rfl 0 (by decide) q1807 (fun _ h9 => h9) rfl dX4_bonus_4 ?_
  refine lv_bipush (v := 10) hx hb dX4_bonus_7 (by decide) ?_
  refine b_iald hx hb hK (b_at (k := 1) hP rfl) 10 rfl (by omega) (by omega) dX4_bonus_9 ?_
  refine lv_iconst (v := 1) hx hb dX4_bonus_10 (by decide) ?_
  refine lv_isub hx hb dX4_bonus_11 ?_
  refine b_calli (br := [[(a, moE r i)], [((r 0), .inl (Γ.2.1 0, 523, .inl g))]]) (b_runS ⟨hx, hb, hml, hown, hts⟩ (mt_Mo_in l Γ _ x 0 ((g 10) - 1)) (lw_S q1879 q1880 q73 q1881) rfl rfl 3 (by decide +kernel) ⟨(Nat.le_of_ble_eq_true rfl), (Nat.le_of_ble_eq_true rfl)⟩ (c_pre hP hD hS hA hK hE [] rfl rfl ro_nil) rfl hl.1 rfl (Nat.le_of_ble_eq_true rfl) dX4_bonus_12 ⟨(Nat.le_of_ble_eq_true rfl), (Nat.le_of_ble_eq_true rfl)⟩) hP hD hS hA [] [0, 1] rfl rfl rfl (fun r_1 u_1 H locs hw_1 hP hD hS _ => ?_)
  obtain ⟨rfl, rfl⟩ := hw_1
  have hP : WP Γ [[(a, moE r i)], [((r 0), .inl (Γ.2.1 0, 523, .inl g))]] H := hP
  have hD : WD A [[(a, moE r i)], [((r 0), .inl (Γ.2.1 0, 523, .inl g))]] := hD
  refine lv_if_eq (tgt := 22) hx hb dX4_bonus_15 (by decide) (fun c_2 => ?_) (fun c_2 => ?_)
  · -- 15 taken
    refine lv_iconst (v := 1) hx hb dX4_bonus_22 (by decide) ?_
    refine b_put (C := RX4) (T := TX4) (N := 16) (ty := .int) (v := .int 1) hx hb hts in_X4 tyX4_ok nmX4 hown hK hP hD hS 0 rfl rfl 7 (by decide) q1814 (fun _ h9 => h9) rfl (by decide +kernel) rfl rfl (Nat.le_of_ble_eq_true rfl) dX4_bonus_23 (fun H locs hP hD hS => ?_)
    have hP : WP Γ [[(a, moE r (upd i 7 1))], [((r 0), .inl (Γ.2.1 0, 523, .inl g))]] H := hP
    have hD : WD A [[(a, moE r (upd i 7 1))], [((r 0), .inl (Γ.2.1 0, 523, .inl g))]] := hD
    refine lv_aload_n hx hb dX4_bonus_26 rfl (lv_at hl 0 rfl) ?_
    refine b_get (C := RX4) (T := TX4) (N := 16) (v := .int 1) hx hb hts in_X4 hown hK (b_at (k := 0) hP rfl) rfl 7 (by decide) q1814 (fun _ h9 => h9) rfl dX4_bonus_27 ?_
    refine lv_if_le (tgt := 37) hx hb dX4_bonus_30 (by decide) (fun c_3 => ?_) (fun c_3 => ?_)
    · -- 30 taken
      have n_3 : 1 ≤ 0 := (nI_leI (by omega) (by omega)).mp (show nI 1 ≤ nI 0 from c_3)
      have d_3 := Int32.not_lt.mpr c_3
      exact absurd n_3 (by omega)
    · -- 30 not taken
      have n_3 : ¬ (1 ≤ 0) := fun h => c_3 ((nI_leI (a := 1) (b := 0) (by omega) (by omega)).mpr h)
      have d_3 := Int32.not_le.mp c_3
      refine lv_iconst (v := 0) hx hb dX4_bonus_33 (by decide) ?_
      refine lv_goto (tgt := 58) hx hb dX4_bonus_34 (by decide) ?_
      exact b_iret hx hb hr hlocks hP hD hS (Nat.le_of_ble_eq_true rfl) (Nat.le_of_ble_eq_true rfl) ⟨(by first | with_reducible rfl | (simp [oSel, T_bonus, c_2, n_3, d_3]; done) | rfl), (by first | with_reducible rfl | (simp [oSel, T_bonus, c_2, n_3, d_3]; done) | rfl)⟩ dX4_bonus_58
  · -- 15 not taken
    obtain ⟨k, hk, rfl⟩ := inR_nat hg10 (by omega) c_2
    refine lv_iconst (v := 0) hx hb dX4_bonus_18 (by decide) ?_
    refine lv_goto (tgt := 23) hx hb dX4_bonus_19 (by decide) ?_
    refine b_put (C := RX4) (T := TX4) (N := 16) (ty := .int) (v := .int 0) hx hb hts in_X4 tyX4_ok nmX4 hown hK hP hD hS 0 rfl rfl 7 (by decide) q1814 (fun _ h9 => h9) rfl (by decide +kernel) rfl rfl (Nat.le_of_ble_eq_true rfl) dX4_bonus_23 (fun H locs hP hD hS => ?_)
    have hP : WP Γ [[(a, moE r (upd i 7 0))], [((r 0), .inl (Γ.2.1 0, 523, .inl g))]] H := hP
    have hD : WD A [[(a, moE r (upd i 7 0))], [((r 0), .inl (Γ.2.1 0, 523, .inl g))]] := hD
    refine lv_aload_n hx hb dX4_bonus_26 rfl (lv_at hl 0 rfl) ?_
    refine b_get (C := RX4) (T := TX4) (N := 16) (v := .int 0) hx hb hts in_X4 hown hK (b_at (k := 0) hP rfl) rfl 7 (by decide) q1814 (fun _ h9 => h9) rfl dX4_bonus_27 ?_
    refine lv_if_le (tgt := 37) hx hb dX4_bonus_30 (by decide) (fun c_4 => ?_) (fun c_4 => ?_)
    · -- 30 taken
      have n_4 : 0 ≤ 0 := (nI_leI (by omega) (by omega)).mp (show nI 0 ≤ nI 0 from c_4)
      have d_4 := Int32.not_lt.mpr c_4
      refine lv_aload_n hx hb dX4_bonus_37 rfl (lv_at hl 0 rfl) ?_
      refine b_get (C := RX4) (T := TX4) (N := 16) (v := .ref (r 0)) hx hb hts in_X4 hown hK (b_at (k := 0) hP rfl) rfl 0 (by decide) q1807 (fun _ h9 => h9) rfl dX4_bonus_38 ?_
      refine lv_bipush (v := 95) hx hb dX4_bonus_41 (by decide) ?_
      refine lv_iconst (v := 2) hx hb dX4_bonus_43 (by decide) ?_
      refine lv_iload_n hx hb dX4_bonus_44 rfl (lv_at hl 1 rfl) ?_
      refine lv_imul hx hb dX4_bonus_45 ?_
      refine b_top (nI_mulE (a := 2) (b := k) (c := 2 * k) rfl rfl (by first | omega | rfl)) ?_
      refine lv_iadd hx hb dX4_bonus_46 ?_
      refine b_top (nI_addE (a := 95) (b := 2 * k) (c := 2 * k + 95) rfl rfl (by first | omega | rfl)) ?_
      refine lv_iload_n hx hb dX4_bonus_47 rfl (lv_at hl 2 rfl) ?_
      refine lv_if_eq (tgt := 55) hx hb dX4_bonus_48 (by decide) (fun c_5 => ?_) (fun c_5 => ?_)
      · -- 48 taken
        subst c_5
        refine lv_iconst (v := 0) hx hb dX4_bonus_55 (by decide) ?_
        refine lv_iadd hx hb dX4_bonus_56 ?_
        refine b_top (nI_addE (a := 2 * k + 95) (b := 0) (c := 2 * k + 95) rfl rfl (by first | omega | rfl)) ?_
        refine b_iald hx hb hK (b_at (k := 1) hP rfl) (2 * k + 95) rfl (by omega) (by omega) dX4_bonus_57 ?_
        exact b_iret hx hb hr hlocks hP hD hS (Nat.le_of_ble_eq_true rfl) (Nat.le_of_ble_eq_true rfl) ⟨(by first | with_reducible rfl | (simp [oSel, T_bonus, c_2, nI_clamp (show k < 2 ^ 31 by omega), n_4, d_4]; done) | rfl), (by first | with_reducible rfl | (simp [oSel, T_bonus, c_2, nI_clamp (show k < 2 ^ 31 by omega), n_4, d_4]; done) | rfl)⟩ dX4_bonus_58
      · -- 48 not taken
        refine lv_iconst (v := 1) hx hb dX4_bonus_51 (by decide) ?_
        refine lv_goto (tgt := 56) hx hb dX4_bonus_52 (by decide) ?_
        refine lv_iadd hx hb dX4_bonus_56 ?_
        refine b_top (nI_addE (a := 2 * k + 95) (b := 1) (c := 2 * k + 96) rfl rfl (by first | omega | rfl)) ?_
        refine b_iald hx hb hK (b_at (k := 1) hP rfl) (2 * k + 96) rfl (by omega) (by omega) dX4_bonus_57 ?_
        exact b_iret hx hb hr hlocks hP hD hS (Nat.le_of_ble_eq_true rfl) (Nat.le_of_ble_eq_true rfl) ⟨(by first | with_reducible rfl | (simp [oSel, T_bonus, c_2, nI_clamp (show k < 2 ^ 31 by omega), n_4, d_4, c_5]; done) | rfl), (by first | with_reducible rfl | (simp [oSel, T_bonus, c_2, nI_clamp (show k < 2 ^ 31 by omega), n_4, d_4, c_5]; done) | rfl)⟩ dX4_bonus_58
    · -- 30 not taken
      have n_4 : ¬ (0 ≤ 0) := fun h => c_4 ((nI_leI (a := 0) (b := 0) (by omega) (by omega)).mpr h)
      have d_4 := Int32.not_le.mp c_4
      exact absurd n_4 (by omega)
set_option maxHeartbeats 4000000 in
set_option maxRecDepth 100000 in
theorem mt_Mo_undo (l : Launch) (Γ : GE) (sz : Nat) (a : Nat) (r : Nat → Nat) (i : Nat → Int32) (g : Nat → Int32) (ps : Nat → Int32) (pn : Nat) (h5 : i 5 = nI pn) (hpn : pn ≤ 8) : KM l yX4_undo cX4_undo 1 (some FieldType.int) Γ 1 24 0 0 [.ref a] [[(a, moE r i)], [((r 0), .inl (Γ.2.1 0, 523, .inl g))], [((r 4), .inl (Γ.2.1 0, 4184, .inl ps))]] [] sz (Qi Γ (fun r_ u_ => r_ = (oSel (T_undo pn) (nI (pn - 1)) 0) ∧ u_ = [[(a, moE r (oSel (T_undo pn) (upd (upd i 7 0) 5 (nI (pn - 1))) (upd i 7 1)))], [((r 0), .inl (Γ.2.1 0, 523, .inl (oSel (T_undo pn) (va_cpy ps g (523 * (pn - 1)) 0 523) g)))], [((r 4), .inl (Γ.2.1 0, 4184, .inl ps))]])) := by
  refine K_intro (by decide) (Nat.le_of_ble_eq_true rfl) ?_
  intro pr_ ev_ s mi_ below meth cd_ A ls hx hb hr hml hown hts hlocks hname hK hE hRo hP hD hA hS hsz hl
  have hl : lv_has ls 1 [(0, .ref a)] := hl
  have hown : s.vm.findClass RX4 = some mi_.cls := hown
  refine lv_aload_n hx hb dX4_undo_0 rfl (lv_at hl 0 rfl) ?_
  refine lv_aload_n hx hb dX4_undo_1 rfl (lv_at hl 0 rfl) ?_
  refine b_get (C := RX4) (T := TX4) (N := 16) (v := .int (i 5)) hx hb hts in_X4 hown hK (b_at (k := 0) hP rfl) rfl 5 (by decide) q1812 (fun _ h9 => h9) rfl dX4_undo_2 ?_
  refine b_top (h5) ?_
  refine lv_if_ne (tgt := 12) hx hb dX4_undo_5 (by decide) (fun c_1 => ?_) (fun c_1 => ?_)
  · -- 5 taken
    have n_1 : ¬ (pn = 0) := fun h => c_1 ((nI_eq (a := pn) (b := 0) (by omega) (by omega)).mpr h)
    refine lv_iconst (v := 0) hx hb dX4_undo_12 (by decide) ?_
    refine b_put (C := RX4) (T := TX4) (N := 16) (ty := .int) (v := .int 0) hx hb hts in_X4 tyX4_ok nmX4 hown hK hP hD hS 0 rfl rfl 7 (by decide) q1814 (fun _ h9 => h9) rfl (by decide +kernel) rfl rfl (Nat.le_of_ble_eq_true rfl) dX4_undo_13 (fun H locs hP hD hS => ?_)
    have hP : WP Γ [[(a, moE r (upd i 7 0))], [((r 0), .inl (Γ.2.1 0, 523, .inl g))], [((r 4), .inl (Γ.2.1 0, 4184, .inl ps))]] H := hP
    have hD : WD A [[(a, moE r (upd i 7 0))], [((r 0), .inl (Γ.2.1 0, 523, .inl g))], [((r 4), .inl (Γ.2.1 0, 4184, .inl ps))]] := hD
    refine lv_aload_n hx hb dX4_undo_16 rfl (lv_at hl 0 rfl) ?_
    refine b_get (C := RX4) (T := TX4) (N := 16) (v := .int 0) hx hb hts in_X4 hown hK (b_at (k := 0) hP rfl) rfl 7 (by decide) q1814 (fun _ h9 => h9) rfl dX4_undo_17 ?_
    refine lv_if_le (tgt := 25) hx hb dX4_undo_20 (by decide) (fun c_2 => ?_) (fun c_2 => ?_)
    · -- 20 taken
      have n_2 : 0 ≤ 0 := (nI_leI (by omega) (by omega)).mp (show nI 0 ≤ nI 0 from c_2)
      have d_2 := Int32.not_lt.mpr c_2
      obtain ⟨q, rfl⟩ : ∃ q, pn = q + 1 := ⟨pn - 1, by omega⟩
      refine lv_aload_n hx hb dX4_undo_25 rfl (lv_at hl 0 rfl) ?_
      refine lv_dup hx hb dX4_undo_26 rfl ?_
      refine b_get (C := RX4) (T := TX4) (N := 16) (v := .int (i 5)) hx hb hts in_X4 hown hK (b_at (k := 0) hP rfl) rfl 5 (by decide) q1812 (fun _ h9 => h9) rfl dX4_undo_27 ?_
      refine b_top (h5) ?_
      refine lv_iconst (v := 1) hx hb dX4_undo_30 (by decide) ?_
      refine lv_isub hx hb dX4_undo_31 ?_
      refine b_top (nI_subE (a := q + 1) (b := 1) (c := q) rfl rfl (by first | omega | rfl)) ?_
      refine b_put (C := RX4) (T := TX4) (N := 16) (ty := .int) (v := .int (nI q)) hx hb hts in_X4 tyX4_ok nmX4 hown hK hP hD hS 0 rfl rfl 5 (by decide) q1812 (fun _ h9 => h9) rfl (by decide +kernel) rfl rfl (Nat.le_of_ble_eq_true rfl) dX4_undo_32 (fun H locs hP hD hS => ?_)
      have hP : WP Γ [[(a, moE r (upd (upd i 7 0) 5 (nI q)))], [((r 0), .inl (Γ.2.1 0, 523, .inl g))], [((r 4), .inl (Γ.2.1 0, 4184, .inl ps))]] H := hP
      have hD : WD A [[(a, moE r (upd (upd i 7 0) 5 (nI q)))], [((r 0), .inl (Γ.2.1 0, 523, .inl g))], [((r 4), .inl (Γ.2.1 0, 4184, .inl ps))]] := hD
      refine lv_aload_n hx hb dX4_undo_35 rfl (lv_at hl 0 rfl) ?_
      refine b_get (C := RX4) (T := TX4) (N := 16) (v := .ref (r 4)) hx hb hts in_X4 hown hK (b_at (k := 0) hP rfl) rfl 4 (by decide) q1811 (fun _ h9 => h9) rfl dX4_undo_36 ?_
      refine lv_sipush (v := 523) hx hb dX4_undo_39 (by decide) ?_
      refine lv_aload_n hx hb dX4_undo_42 rfl (lv_at hl 0 rfl) ?_
      refine b_get (C := RX4) (T := TX4) (N := 16) (v := .int (nI q)) hx hb hts in_X4 hown hK (b_at (k := 0) hP rfl) rfl 5 (by decide) q1812 (fun _ h9 => h9) rfl dX4_undo_43 ?_
      refine lv_imul hx hb dX4_undo_46 ?_
      refine b_top (nI_mulE (a := 523) (b := q) (c := 523 * q) rfl rfl (by first | omega | rfl)) ?_
      refine lv_aload_n hx hb dX4_undo_47 rfl (lv_at hl 0 rfl) ?_
      refine b_get (C := RX4) (T := TX4) (N := 16) (v := .ref (r 0)) hx hb hts in_X4 hown hK (b_at (k := 0) hP rfl) rfl 0 (by decide) q1807 (fun _ h9 => h9) rfl dX4_undo_48 ?_
      refine lv_iconst (v := 0) hx hb dX4_undo_51 (by decide) ?_
      refine b_callv (br := [[(a, moE r (upd (upd i 7 0) 5 (nI q)))]]) (b_runS ⟨hx, hb, hml, hown, hts⟩ (mt_Mo_copies l Γ _ (r 4) (r 0) ps g 4184 523 (523 * q) 0 (by omega) (by omega) (by omega)) (lw_S q1864 q1865 q73 q1866) rfl rfl 4 (by decide +kernel) ⟨(Nat.le_of_ble_eq_true rfl), (Nat.le_of_ble_eq_true rfl)⟩ (c_pre hP hD hS hA hK hE [2, 1] rfl rfl ro_nil) rfl hl.1 rfl (Nat.le_of_ble_eq_true rfl) dX4_undo_52 ⟨(Nat.le_of_ble_eq_true rfl), (Nat.le_of_ble_eq_true rfl)⟩) hP hD hS hA [2, 1] [0] rfl rfl rfl (fun u_3 H locs hw_3 hP hD hS _ => ?_)
      obtain rfl := hw_3
      have hP : WP Γ [[((r 4), .inl (Γ.2.1 0, 4184, .inl ps))], [((r 0), .inl (Γ.2.1 0, 523, .inl (va_cpy ps g (523 * q) 0 523)))], [(a, moE r (upd (upd i 7 0) 5 (nI q)))]] H := hP
      have hD : WD A [[((r 4), .inl (Γ.2.1 0, 4184, .inl ps))], [((r 0), .inl (Γ.2.1 0, 523, .inl (va_cpy ps g (523 * q) 0 523)))], [(a, moE r (upd (upd i 7 0) 5 (nI q)))]] := hD
      refine lv_aload_n hx hb dX4_undo_55 rfl (lv_at hl 0 rfl) ?_
      refine b_get (C := RX4) (T := TX4) (N := 16) (v := .int (nI q)) hx hb hts in_X4 hown hK (b_at (k := 2) hP rfl) rfl 5 (by decide) q1812 (fun _ h9 => h9) rfl dX4_undo_56 ?_
      have hP : WP Γ [[(a, moE r (upd (upd i 7 0) 5 (nI q)))], [((r 0), .inl (Γ.2.1 0, 523, .inl (va_cpy ps g (523 * q) 0 523)))], [((r 4), .inl (Γ.2.1 0, 4184, .inl ps))]] H := bP_sel hP [2, 1, 0] rfl
      have hD : WD A [[(a, moE r (upd (upd i 7 0) 5 (nI q)))], [((r 0), .inl (Γ.2.1 0, 523, .inl (va_cpy ps g (523 * q) 0 523)))], [((r 4), .inl (Γ.2.1 0, 4184, .inl ps))]] := bD_sel hD [2, 1, 0] rfl rfl
      exact b_iret hx hb hr hlocks hP hD hS (Nat.le_of_ble_eq_true rfl) (Nat.le_of_ble_eq_true rfl) ⟨(by first | with_reducible rfl | (simp [oSel, T_undo, n_1, n_2, d_2]; done) | rfl), (by first | with_reducible rfl | (simp [oSel, T_undo, n_1, n_2, d_2]; done) | rfl)⟩ dX4_undo_59
    · -- 20 not taken
      have n_2 : ¬ (0 ≤ 0) := fun h => c_2 ((nI_leI (a := 0) (b := 0) (by omega) (by omega)).mpr h)
      have d_2 := Int32.not_le.mp c_2
      exact absurd n_2 (by omega)
  · -- 5 not taken
    have n_1 : pn = 0 := (nI_eq (by omega) (by omega)).mp (show nI pn = nI 0 from c_1)
    refine lv_iconst (v := 1) hx hb dX4_undo_8 (by decide) ?_
    refine lv_goto (tgt := 13) hx hb dX4_undo_9 (by decide) ?_
    refine b_put (C := RX4) (T := TX4) (N := 16) (ty := .int) (v := .int 1) hx hb hts in_X4 tyX4_ok nmX4 hown hK hP hD hS 0 rfl rfl 7 (by decide) q1814 (fun _ h9 => h9) rfl (by decide +kernel) rfl rfl (Nat.le_of_ble_eq_true rfl) dX4_undo_13 (fun H locs hP hD hS => ?_)
    have hP : WP Γ [[(a, moE r (upd i 7 1))], [((r 0), .inl (Γ.2.1 0, 523, .inl g))], [((r 4), .inl (Γ.2.1 0, 4184, .inl ps))]] H := hP
    have hD : WD A [[(a, moE r (upd i 7 1))], [((r 0), .inl (Γ.2.1 0, 523, .inl g))], [((r 4), .inl (Γ.2.1 0, 4184, .inl ps))]] := hD
    refine lv_aload_n hx hb dX4_undo_16 rfl (lv_at hl 0 rfl) ?_
    refine b_get (C := RX4) (T := TX4) (N := 16) (v := .int 1) hx hb hts in_X4 hown hK (b_at (k := 0) hP rfl) rfl 7 (by decide) q1814 (fun _ h9 => h9) rfl dX4_undo_17 ?_
    refine lv_if_le (tgt := 25) hx hb dX4_undo_20 (by decide) (fun c_4 => ?_) (fun c_4 => ?_)
    · -- 20 taken
      have n_4 : 1 ≤ 0 := (nI_leI (by omega) (by omega)).mp (show nI 1 ≤ nI 0 from c_4)
      have d_4 := Int32.not_lt.mpr c_4
      exact absurd n_4 (by omega)
    · -- 20 not taken
      have n_4 : ¬ (1 ≤ 0) := fun h => c_4 ((nI_leI (a := 1) (b := 0) (by omega) (by omega)).mpr h)
      have d_4 := Int32.not_le.mp c_4
      refine lv_iconst (v := 0) hx hb dX4_undo_23 (by decide) ?_
      exact b_iret hx hb hr hlocks hP hD hS (Nat.le_of_ble_eq_true rfl) (Nat.le_of_ble_eq_true rfl) ⟨(by first | with_reducible rfl | (simp [oSel, T_undo, n_1, n_4, d_4]; done) | (subst n_1; simp [oSel, T_undo, n_4, d_4]; done) | rfl), (by first | with_reducible rfl | (simp [oSel, T_undo, n_1, n_4, d_4]; done) | (subst n_1; simp [oSel, T_undo, n_4, d_4]; done) | rfl)⟩ dX4_undo_24
set_option maxHeartbeats 4000000 in
set_option maxRecDepth 100000 in
theorem mt_Mo_save (l : Launch) (Γ : GE) (sz : Nat) (a : Nat) (r : Nat → Nat) (i : Nat → Int32) (g : Nat → Int32) (kf : Nat → Int32)  : KM l yX4_save cX4_save 1 none Γ 1 24 0 0 [.ref a] [[(a, moE r i)], [((r 0), .inl (Γ.2.1 0, 523, .inl g))], [((r 1), .inl (Γ.2.1 0, 523, .inl kf))]] [] sz (Qv Γ (fun u_ => u_ = [[(a, moE r (upd (upd i 7 0) 3 1))], [((r 0), .inl (Γ.2.1 0, 523, .inl g))], [((r 1), .inl (Γ.2.1 0, 523, .inl (va_cpy g kf 0 0 523)))]])) := by
  refine K_intro (by decide) (Nat.le_of_ble_eq_true rfl) ?_
  intro pr_ ev_ s mi_ below meth cd_ A ls hx hb hr hml hown hts hlocks hname hK hE hRo hP hD hA hS hsz hl
  have hl : lv_has ls 1 [(0, .ref a)] := hl
  have hown : s.vm.findClass RX4 = some mi_.cls := hown
  refine lv_aload_n hx hb dX4_save_0 rfl (lv_at hl 0 rfl) ?_
  refine lv_iconst (v := 0) hx hb dX4_save_1 (by decide) ?_
  refine b_put (C := RX4) (T := TX4) (N := 16) (ty := .int) (v := .int 0) hx hb hts in_X4 tyX4_ok nmX4 hown hK hP hD hS 0 rfl rfl 7 (by decide) q1814 (fun _ h9 => h9) rfl (by decide +kernel) rfl rfl (Nat.le_of_ble_eq_true rfl) dX4_save_2 (fun H locs hP hD hS => ?_)
  have hP : WP Γ [[(a, moE r (upd i 7 0))], [((r 0), .inl (Γ.2.1 0, 523, .inl g))], [((r 1), .inl (Γ.2.1 0, 523, .inl kf))]] H := hP
  have hD : WD A [[(a, moE r (upd i 7 0))], [((r 0), .inl (Γ.2.1 0, 523, .inl g))], [((r 1), .inl (Γ.2.1 0, 523, .inl kf))]] := hD
  refine lv_aload_n hx hb dX4_save_5 rfl (lv_at hl 0 rfl) ?_
  refine lv_iconst (v := 1) hx hb dX4_save_6 (by decide) ?_
  refine b_put (C := RX4) (T := TX4) (N := 16) (ty := .boolean) (v := .int 1) hx hb hts in_X4 tyX4_ok nmX4 hown hK hP hD hS 0 rfl rfl 3 (by decide) q1810 (fun _ h9 => h9) rfl (by decide +kernel) rfl rfl (Nat.le_of_ble_eq_true rfl) dX4_save_7 (fun H locs hP hD hS => ?_)
  have hP : WP Γ [[(a, moE r (upd (upd i 7 0) 3 1))], [((r 0), .inl (Γ.2.1 0, 523, .inl g))], [((r 1), .inl (Γ.2.1 0, 523, .inl kf))]] H := hP
  have hD : WD A [[(a, moE r (upd (upd i 7 0) 3 1))], [((r 0), .inl (Γ.2.1 0, 523, .inl g))], [((r 1), .inl (Γ.2.1 0, 523, .inl kf))]] := hD
  refine lv_aload_n hx hb dX4_save_10 rfl (lv_at hl 0 rfl) ?_
  refine b_get (C := RX4) (T := TX4) (N := 16) (v := .ref (r 0)) hx hb hts in_X4 hown hK (b_at (k := 0) hP rfl) rfl 0 (by decide) q1807 (fun _ h9 => h9) rfl dX4_save_11 ?_
  refine lv_iconst (v := 0) hx hb dX4_save_14 (by decide) ?_
  refine lv_aload_n hx hb dX4_save_15 rfl (lv_at hl 0 rfl) ?_
  refine b_get (C := RX4) (T := TX4) (N := 16) (v := .ref (r 1)) hx hb hts in_X4 hown hK (b_at (k := 0) hP rfl) rfl 1 (by decide) q1808 (fun _ h9 => h9) rfl dX4_save_16 ?_
  refine lv_iconst (v := 0) hx hb dX4_save_19 (by decide) ?_
  refine b_callv (br := [[(a, moE r (upd (upd i 7 0) 3 1))]]) (b_runS ⟨hx, hb, hml, hown, hts⟩ (mt_Mo_copies l Γ _ (r 0) (r 1) g kf 523 523 0 0 (by omega) (by omega) (by omega)) (lw_S q1864 q1865 q73 q1866) rfl rfl 4 (by decide +kernel) ⟨(Nat.le_of_ble_eq_true rfl), (Nat.le_of_ble_eq_true rfl)⟩ (c_pre hP hD hS hA hK hE [1, 2] rfl rfl ro_nil) rfl hl.1 rfl (Nat.le_of_ble_eq_true rfl) dX4_save_20 ⟨(Nat.le_of_ble_eq_true rfl), (Nat.le_of_ble_eq_true rfl)⟩) hP hD hS hA [1, 2] [0] rfl rfl rfl (fun u_1 H locs hw_1 hP hD hS _ => ?_)
  obtain rfl := hw_1
  have hP : WP Γ [[((r 0), .inl (Γ.2.1 0, 523, .inl g))], [((r 1), .inl (Γ.2.1 0, 523, .inl (va_cpy g kf 0 0 523)))], [(a, moE r (upd (upd i 7 0) 3 1))]] H := hP
  have hD : WD A [[((r 0), .inl (Γ.2.1 0, 523, .inl g))], [((r 1), .inl (Γ.2.1 0, 523, .inl (va_cpy g kf 0 0 523)))], [(a, moE r (upd (upd i 7 0) 3 1))]] := hD
  have hP : WP Γ [[(a, moE r (upd (upd i 7 0) 3 1))], [((r 0), .inl (Γ.2.1 0, 523, .inl g))], [((r 1), .inl (Γ.2.1 0, 523, .inl (va_cpy g kf 0 0 523)))]] H := bP_sel hP [2, 0, 1] rfl
  have hD : WD A [[(a, moE r (upd (upd i 7 0) 3 1))], [((r 0), .inl (Γ.2.1 0, 523, .inl g))], [((r 1), .inl (Γ.2.1 0, 523, .inl (va_cpy g kf 0 0 523)))]] := bD_sel hD [2, 0, 1] rfl rfl
  exact b_vret hx hb hr hlocks hP hD hS (Nat.le_of_ble_eq_true rfl) (Nat.le_of_ble_eq_true rfl) (by first | rfl | (simp; done)) dX4_save_23
set_option maxHeartbeats 4000000 in
set_option maxRecDepth 100000 in
theorem mt_Mo_restore (l : Launch) (Γ : GE) (sz : Nat) (a : Nat) (r : Nat → Nat) (i : Nat → Int32) (g : Nat → Int32) (kf : Nat → Int32)  : KM l yX4_restore cX4_restore 1 none Γ 1 24 0 0 [.ref a] [[(a, moE r i)], [((r 0), .inl (Γ.2.1 0, 523, .inl g))], [((r 1), .inl (Γ.2.1 0, 523, .inl kf))]] [] sz (Qv Γ (fun u_ => u_ = [[(a, moE r (if i 3 = 0 then upd i 7 1 else upd (upd i 7 0) 5 0))], [((r 0), .inl (Γ.2.1 0, 523, .inl (if i 3 = 0 then g else va_cpy kf g 0 0 523)))], [((r 1), .inl (Γ.2.1 0, 523, .inl kf))]])) := by
  refine K_intro (by decide) (Nat.le_of_ble_eq_true rfl) ?_
  intro pr_ ev_ s mi_ below meth cd_ A ls hx hb hr hml hown hts hlocks hname hK hE hRo hP hD hA hS hsz hl
  have hl : lv_has ls 1 [(0, .ref a)] := hl
  have hown : s.vm.findClass RX4 = some mi_.cls := hown
  refine lv_aload_n hx hb dX4_restore_0 rfl (lv_at hl 0 rfl) ?_
  refine lv_aload_n hx hb dX4_restore_1 rfl (lv_at hl 0 rfl) ?_
  refine b_get (C := RX4) (T := TX4) (N := 16) (v := .int (i 3)) hx hb hts in_X4 hown hK (b_at (k := 0) hP rfl) rfl 3 (by decide) q1810 (fun _ h9 => h9) rfl dX4_restore_2 ?_
  refine lv_if_eq (tgt := 12) hx hb dX4_restore_5 (by decide) (fun c_1 => ?_) (fun c_1 => ?_)
  · -- 5 taken
    refine lv_iconst (v := 1) hx hb dX4_restore_12 (by decide) ?_
    refine b_put (C := RX4) (T := TX4) (N := 16) (ty := .int) (v := .int 1) hx hb hts in_X4 tyX4_ok nmX4 hown hK hP hD hS 0 rfl rfl 7 (by decide) q1814 (fun _ h9 => h9) rfl (by decide +kernel) rfl rfl (Nat.le_of_ble_eq_true rfl) dX4_restore_13 (fun H locs hP hD hS => ?_)
    have hP : WP Γ [[(a, moE r (upd i 7 1))], [((r 0), .inl (Γ.2.1 0, 523, .inl g))], [((r 1), .inl (Γ.2.1 0, 523, .inl kf))]] H := hP
    have hD : WD A [[(a, moE r (upd i 7 1))], [((r 0), .inl (Γ.2.1 0, 523, .inl g))], [((r 1), .inl (Γ.2.1 0, 523, .inl kf))]] := hD
    refine lv_aload_n hx hb dX4_restore_16 rfl (lv_at hl 0 rfl) ?_
    refine b_get (C := RX4) (T := TX4) (N := 16) (v := .int (i 3)) hx hb hts in_X4 hown hK (b_at (k := 0) hP rfl) rfl 3 (by decide) q1810 (fun _ h9 => h9) rfl dX4_restore_17 ?_
    refine lv_if_eq (tgt := 41) hx hb dX4_restore_20 (by decide) (fun c_2 => ?_) (fun c_2 => ?_)
    · -- 20 taken
      exact b_vret hx hb hr hlocks hP hD hS (Nat.le_of_ble_eq_true rfl) (Nat.le_of_ble_eq_true rfl) (by first | with_reducible rfl | (simp [c_1, c_2]; done) | rfl) dX4_restore_41
    · -- 20 not taken
      exact absurd c_1 c_2
  · -- 5 not taken
    refine lv_iconst (v := 0) hx hb dX4_restore_8 (by decide) ?_
    refine lv_goto (tgt := 13) hx hb dX4_restore_9 (by decide) ?_
    refine b_put (C := RX4) (T := TX4) (N := 16) (ty := .int) (v := .int 0) hx hb hts in_X4 tyX4_ok nmX4 hown hK hP hD hS 0 rfl rfl 7 (by decide) q1814 (fun _ h9 => h9) rfl (by decide +kernel) rfl rfl (Nat.le_of_ble_eq_true rfl) dX4_restore_13 (fun H locs hP hD hS => ?_)
    have hP : WP Γ [[(a, moE r (upd i 7 0))], [((r 0), .inl (Γ.2.1 0, 523, .inl g))], [((r 1), .inl (Γ.2.1 0, 523, .inl kf))]] H := hP
    have hD : WD A [[(a, moE r (upd i 7 0))], [((r 0), .inl (Γ.2.1 0, 523, .inl g))], [((r 1), .inl (Γ.2.1 0, 523, .inl kf))]] := hD
    refine lv_aload_n hx hb dX4_restore_16 rfl (lv_at hl 0 rfl) ?_
    refine b_get (C := RX4) (T := TX4) (N := 16) (v := .int (i 3)) hx hb hts in_X4 hown hK (b_at (k := 0) hP rfl) rfl 3 (by decide) q1810 (fun _ h9 => h9) rfl dX4_restore_17 ?_
    refine lv_if_eq (tgt := 41) hx hb dX4_restore_20 (by decide) (fun c_3 => ?_) (fun c_3 => ?_)
    · -- 20 taken
      exact absurd c_3 c_1
    · -- 20 not taken
      refine lv_aload_n hx hb dX4_restore_23 rfl (lv_at hl 0 rfl) ?_
      refine b_get (C := RX4) (T := TX4) (N := 16) (v := .ref (r 1)) hx hb hts in_X4 hown hK (b_at (k := 0) hP rfl) rfl 1 (by decide) q1808 (fun _ h9 => h9) rfl dX4_restore_24 ?_
      refine lv_iconst (v := 0) hx hb dX4_restore_27 (by decide) ?_
      refine lv_aload_n hx hb dX4_restore_28 rfl (lv_at hl 0 rfl) ?_
      refine b_get (C := RX4) (T := TX4) (N := 16) (v := .ref (r 0)) hx hb hts in_X4 hown hK (b_at (k := 0) hP rfl) rfl 0 (by decide) q1807 (fun _ h9 => h9) rfl dX4_restore_29 ?_
      refine lv_iconst (v := 0) hx hb dX4_restore_32 (by decide) ?_
      refine b_callv (br := [[(a, moE r (upd i 7 0))]]) (b_runS ⟨hx, hb, hml, hown, hts⟩ (mt_Mo_copies l Γ _ (r 1) (r 0) kf g 523 523 0 0 (by omega) (by omega) (by omega)) (lw_S q1864 q1865 q73 q1866) rfl rfl 4 (by decide +kernel) ⟨(Nat.le_of_ble_eq_true rfl), (Nat.le_of_ble_eq_true rfl)⟩ (c_pre hP hD hS hA hK hE [2, 1] rfl rfl ro_nil) rfl hl.1 rfl (Nat.le_of_ble_eq_true rfl) dX4_restore_33 ⟨(Nat.le_of_ble_eq_true rfl), (Nat.le_of_ble_eq_true rfl)⟩) hP hD hS hA [2, 1] [0] rfl rfl rfl (fun u_4 H locs hw_4 hP hD hS _ => ?_)
      obtain rfl := hw_4
      have hP : WP Γ [[((r 1), .inl (Γ.2.1 0, 523, .inl kf))], [((r 0), .inl (Γ.2.1 0, 523, .inl (va_cpy kf g 0 0 523)))], [(a, moE r (upd i 7 0))]] H := hP
      have hD : WD A [[((r 1), .inl (Γ.2.1 0, 523, .inl kf))], [((r 0), .inl (Γ.2.1 0, 523, .inl (va_cpy kf g 0 0 523)))], [(a, moE r (upd i 7 0))]] := hD
      refine lv_aload_n hx hb dX4_restore_36 rfl (lv_at hl 0 rfl) ?_
      refine lv_iconst (v := 0) hx hb dX4_restore_37 (by decide) ?_
      refine b_put (C := RX4) (T := TX4) (N := 16) (ty := .int) (v := .int 0) hx hb hts in_X4 tyX4_ok nmX4 hown hK hP hD hS 2 rfl rfl 5 (by decide) q1812 (fun _ h9 => h9) rfl (by decide +kernel) rfl rfl (Nat.le_of_ble_eq_true rfl) dX4_restore_38 (fun H locs hP hD hS => ?_)
      have hP : WP Γ [[((r 1), .inl (Γ.2.1 0, 523, .inl kf))], [((r 0), .inl (Γ.2.1 0, 523, .inl (va_cpy kf g 0 0 523)))], [(a, moE r (upd (upd i 7 0) 5 0))]] H := hP
      have hD : WD A [[((r 1), .inl (Γ.2.1 0, 523, .inl kf))], [((r 0), .inl (Γ.2.1 0, 523, .inl (va_cpy kf g 0 0 523)))], [(a, moE r (upd (upd i 7 0) 5 0))]] := hD
      have hP : WP Γ [[(a, moE r (upd (upd i 7 0) 5 0))], [((r 0), .inl (Γ.2.1 0, 523, .inl (va_cpy kf g 0 0 523)))], [((r 1), .inl (Γ.2.1 0, 523, .inl kf))]] H := bP_sel hP [2, 1, 0] rfl
      have hD : WD A [[(a, moE r (upd (upd i 7 0) 5 0))], [((r 0), .inl (Γ.2.1 0, 523, .inl (va_cpy kf g 0 0 523)))], [((r 1), .inl (Γ.2.1 0, 523, .inl kf))]] := bD_sel hD [2, 1, 0] rfl rfl
      exact b_vret hx hb hr hlocks hP hD hS (Nat.le_of_ble_eq_true rfl) (Nat.le_of_ble_eq_true rfl) (by first | with_reducible rfl | (simp [c_1, c_3]; done) | rfl) dX4_restore_41
set_option maxHeartbeats 4000000 in
set_option maxRecDepth 100000 in
theorem mt_Mo_pass (l : Launch) (Γ : GE) (sz : Nat) (a : Nat) (r : Nat → Nat) (i : Nat → Int32) (g : Nat → Int32) (ps : Nat → Int32) (pn : Nat) (d : Int32) (h5 : i 5 = nI pn) (hpn : pn ≤ 8) (hDd : T_pass g 1 d = 0 → ∀ k, k < d.toNatClampNeg → moDok (moDays g k)) : KM l yX4_pass cX4_pass 2 (some FieldType.int) Γ 5 114 0 0 [.ref a, .int d] [[(a, moE r i)], [((r 0), .inl (Γ.2.1 0, 523, .inl g))], [((r 4), .inl (Γ.2.1 0, 4184, .inl ps))]] [] sz (Qi Γ (fun r_ u_ => r_ = (oSel (T_pass g 1 d) (moDays g d.toNatClampNeg 12 - g 12) 0) ∧ u_ = [[(a, moE r (oI2 i (T_pass g 1 d) pn))], [((r 0), .inl (Γ.2.1 0, 523, .inl (oSel (T_pass g 1 d) (moDays g d.toNatClampNeg) g)))], [((r 4), .inl (Γ.2.1 0, 4184, .inl (oSel (T_pass g 1 d) (moPush g ps pn) ps)))]])) := by
  refine K_intro (by decide) (Nat.le_of_ble_eq_true rfl) ?_
  intro pr_ ev_ s mi_ below meth cd_ A ls hx hb hr hml hown hts hlocks hname hK hE hRo hP hD hA hS hsz hl
  have hl : lv_has ls 2 [(0, .ref a), (1, .int d)] := hl
  have hown : s.vm.findClass RX4 = some mi_.cls := hown
  refine lv_aload_n hx hb dX4_pass_0 rfl (lv_at hl 0 rfl) ?_
  refine lv_iload_n hx hb dX4_pass_1 rfl (lv_at hl 1 rfl) ?_
  refine lv_iconst (v := 1) hx hb dX4_pass_2 (by decide) ?_
  refine lv_bipush (v := 30) hx hb dX4_pass_3 (by decide) ?_
  refine b_calli (br := [[(a, moE r i)], [((r 0), .inl (Γ.2.1 0, 523, .inl g))], [((r 4), .inl (Γ.2.1 0, 4184, .inl ps))]]) (b_runS ⟨hx, hb, hml, hown, hts⟩ (mt_Mo_in l Γ _ d 1 30) (lw_S q1879 q1880 q73 q1881) rfl rfl 3 (by decide +kernel) ⟨(Nat.le_of_ble_eq_true rfl), (Nat.le_of_ble_eq_true rfl)⟩ (c_pre hP hD hS hA hK hE [] rfl rfl ro_nil) rfl hl.1 rfl (Nat.le_of_ble_eq_true rfl) dX4_pass_5 ⟨(Nat.le_of_ble_eq_true rfl), (Nat.le_of_ble_eq_true rfl)⟩) hP hD hS hA [] [0, 1, 2] rfl rfl rfl (fun r_1 u_1 H locs hw_1 hP hD hS _ => ?_)
  obtain ⟨rfl, rfl⟩ := hw_1
  have hP : WP Γ [[(a, moE r i)], [((r 0), .inl (Γ.2.1 0, 523, .inl g))], [((r 4), .inl (Γ.2.1 0, 4184, .inl ps))]] H := hP
  have hD : WD A [[(a, moE r i)], [((r 0), .inl (Γ.2.1 0, 523, .inl g))], [((r 4), .inl (Γ.2.1 0, 4184, .inl ps))]] := hD
  refine lv_if_eq (tgt := 29) hx hb dX4_pass_8 (by decide) (fun c_2 => ?_) (fun c_2 => ?_)
  · -- 8 taken
    refine lv_iconst (v := 1) hx hb dX4_pass_29 (by decide) ?_
    refine b_put (C := RX4) (T := TX4) (N := 16) (ty := .int) (v := .int 1) hx hb hts in_X4 tyX4_ok nmX4 hown hK hP hD hS 0 rfl rfl 7 (by decide) q1814 (fun _ h9 => h9) rfl (by decide +kernel) rfl rfl (Nat.le_of_ble_eq_true rfl) dX4_pass_30 (fun H locs hP hD hS => ?_)
    have hP : WP Γ [[(a, moE r (upd i 7 1))], [((r 0), .inl (Γ.2.1 0, 523, .inl g))], [((r 4), .inl (Γ.2.1 0, 4184, .inl ps))]] H := hP
    have hD : WD A [[(a, moE r (upd i 7 1))], [((r 0), .inl (Γ.2.1 0, 523, .inl g))], [((r 4), .inl (Γ.2.1 0, 4184, .inl ps))]] := hD
    refine lv_aload_n hx hb dX4_pass_33 rfl (lv_at hl 0 rfl) ?_
    refine b_get (C := RX4) (T := TX4) (N := 16) (v := .int 1) hx hb hts in_X4 hown hK (b_at (k := 0) hP rfl) rfl 7 (by decide) q1814 (fun _ h9 => h9) rfl dX4_pass_34 ?_
    refine lv_if_le (tgt := 42) hx hb dX4_pass_37 (by decide) (fun c_3 => ?_) (fun c_3 => ?_)
    · -- 37 taken
      have n_3 : 1 ≤ 0 := (nI_leI (by omega) (by omega)).mp (show nI 1 ≤ nI 0 from c_3)
      have d_3 := Int32.not_lt.mpr c_3
      exact absurd n_3 (by omega)
    · -- 37 not taken
      have n_3 : ¬ (1 ≤ 0) := fun h => c_3 ((nI_leI (a := 1) (b := 0) (by omega) (by omega)).mpr h)
      have d_3 := Int32.not_le.mp c_3
      refine lv_iconst (v := 0) hx hb dX4_pass_40 (by decide) ?_
      exact b_iret hx hb hr hlocks hP hD hS (Nat.le_of_ble_eq_true rfl) (Nat.le_of_ble_eq_true rfl) ⟨(by first | with_reducible rfl | (simp [oSel, oI2, T_pass, c_2, n_3, d_3]; done) | rfl), (by first | with_reducible rfl | (simp [oSel, oI2, T_pass, c_2, n_3, d_3]; done) | rfl)⟩ dX4_pass_41
  · -- 8 not taken
    obtain ⟨k, hk1, hk2, rfl⟩ := inR_ab (a := 1) (b := 30) rfl rfl (by decide) (by decide) c_2
    refine lv_aload_n hx hb dX4_pass_11 rfl (lv_at hl 0 rfl) ?_
    refine b_get (C := RX4) (T := TX4) (N := 16) (v := .ref (r 0)) hx hb hts in_X4 hown hK (b_at (k := 0) hP rfl) rfl 0 (by decide) q1807 (fun _ h9 => h9) rfl dX4_pass_12 ?_
    refine lv_iconst (v := 0) hx hb dX4_pass_15 (by decide) ?_
    refine b_iald hx hb hK (b_at (k := 1) hP rfl) 0 rfl (by omega) (by omega) dX4_pass_16 ?_
    refine lv_iload_n hx hb dX4_pass_17 rfl (lv_at hl 1 rfl) ?_
    refine lv_iadd hx hb dX4_pass_18 ?_
    refine lv_sipush (v := 400) hx hb dX4_pass_19 (by decide) ?_
    refine lv_icmp_gt (tgt := 29) hx hb dX4_pass_22 (by decide) (fun c_4 => ?_) (fun c_4 => ?_)
    · -- 22 taken
      refine lv_iconst (v := 1) hx hb dX4_pass_29 (by decide) ?_
      refine b_put (C := RX4) (T := TX4) (N := 16) (ty := .int) (v := .int 1) hx hb hts in_X4 tyX4_ok nmX4 hown hK hP hD hS 0 rfl rfl 7 (by decide) q1814 (fun _ h9 => h9) rfl (by decide +kernel) rfl rfl (Nat.le_of_ble_eq_true rfl) dX4_pass_30 (fun H locs hP hD hS => ?_)
      have hP : WP Γ [[(a, moE r (upd i 7 1))], [((r 0), .inl (Γ.2.1 0, 523, .inl g))], [((r 4), .inl (Γ.2.1 0, 4184, .inl ps))]] H := hP
      have hD : WD A [[(a, moE r (upd i 7 1))], [((r 0), .inl (Γ.2.1 0, 523, .inl g))], [((r 4), .inl (Γ.2.1 0, 4184, .inl ps))]] := hD
      refine lv_aload_n hx hb dX4_pass_33 rfl (lv_at hl 0 rfl) ?_
      refine b_get (C := RX4) (T := TX4) (N := 16) (v := .int 1) hx hb hts in_X4 hown hK (b_at (k := 0) hP rfl) rfl 7 (by decide) q1814 (fun _ h9 => h9) rfl dX4_pass_34 ?_
      refine lv_if_le (tgt := 42) hx hb dX4_pass_37 (by decide) (fun c_5 => ?_) (fun c_5 => ?_)
      · -- 37 taken
        have n_5 : 1 ≤ 0 := (nI_leI (by omega) (by omega)).mp (show nI 1 ≤ nI 0 from c_5)
        have d_5 := Int32.not_lt.mpr c_5
        exact absurd n_5 (by omega)
      · -- 37 not taken
        have n_5 : ¬ (1 ≤ 0) := fun h => c_5 ((nI_leI (a := 1) (b := 0) (by omega) (by omega)).mpr h)
        have d_5 := Int32.not_le.mp c_5
        refine lv_iconst (v := 0) hx hb dX4_pass_40 (by decide) ?_
        exact b_iret hx hb hr hlocks hP hD hS (Nat.le_of_ble_eq_true rfl) (Nat.le_of_ble_eq_true rfl) ⟨(by first | with_reducible rfl | (simp [oSel, oI2, T_pass, c_2, nI_clamp (show k < 2 ^ 31 by omega), c_4, n_5, d_5]; done) | rfl), (by first | with_reducible rfl | (simp [oSel, oI2, T_pass, c_2, nI_clamp (show k < 2 ^ 31 by omega), c_4, n_5, d_5]; done) | rfl)⟩ dX4_pass_41
    · -- 22 not taken
      have hDd2 : ∀ q, q < k → moDok (moDays g q) := by
        have e9 := hDd (by simp [T_pass, c_2, nI_clamp (show k < 2 ^ 31 by omega), c_4])
        rw [nI_clamp (by omega)] at e9
        exact e9
      refine lv_iconst (v := 0) hx hb dX4_pass_25 (by decide) ?_
      refine lv_goto (tgt := 30) hx hb dX4_pass_26 (by decide) ?_
      refine b_put (C := RX4) (T := TX4) (N := 16) (ty := .int) (v := .int 0) hx hb hts in_X4 tyX4_ok nmX4 hown hK hP hD hS 0 rfl rfl 7 (by decide) q1814 (fun _ h9 => h9) rfl (by decide +kernel) rfl rfl (Nat.le_of_ble_eq_true rfl) dX4_pass_30 (fun H locs hP hD hS => ?_)
      have hP : WP Γ [[(a, moE r (upd i 7 0))], [((r 0), .inl (Γ.2.1 0, 523, .inl g))], [((r 4), .inl (Γ.2.1 0, 4184, .inl ps))]] H := hP
      have hD : WD A [[(a, moE r (upd i 7 0))], [((r 0), .inl (Γ.2.1 0, 523, .inl g))], [((r 4), .inl (Γ.2.1 0, 4184, .inl ps))]] := hD
      refine lv_aload_n hx hb dX4_pass_33 rfl (lv_at hl 0 rfl) ?_
      refine b_get (C := RX4) (T := TX4) (N := 16) (v := .int 0) hx hb hts in_X4 hown hK (b_at (k := 0) hP rfl) rfl 7 (by decide) q1814 (fun _ h9 => h9) rfl dX4_pass_34 ?_
      refine lv_if_le (tgt := 42) hx hb dX4_pass_37 (by decide) (fun c_6 => ?_) (fun c_6 => ?_)
      · -- 37 taken
        have n_6 : 0 ≤ 0 := (nI_leI (by omega) (by omega)).mp (show nI 0 ≤ nI 0 from c_6)
        have d_6 := Int32.not_lt.mpr c_6
        refine lv_aload_n hx hb dX4_pass_42 rfl (lv_at hl 0 rfl) ?_
        refine lv_aload_n hx hb dX4_pass_43 rfl (lv_at hl 0 rfl) ?_
        refine b_get (C := RX4) (T := TX4) (N := 16) (v := .ref (r 0)) hx hb hts in_X4 hown hK (b_at (k := 0) hP rfl) rfl 0 (by decide) q1807 (fun _ h9 => h9) rfl dX4_pass_44 ?_
        refine b_callv (br := []) (b_runV ⟨hx, hb, hml, hown, hts⟩ (mt_Mo_changes l Γ _ a r (upd i 7 0) (r 0) g ps pn (by first | exact h5 | (show i 5 = nI pn; exact h5)) hpn) (lw_V q1882 q1884 qs31 q73 q1885) rfl rfl 1 (by decide +kernel) ⟨(Nat.le_of_ble_eq_true rfl), (Nat.le_of_ble_eq_true rfl)⟩ (c_pre hP hD hS hA hK hE [0, 1, 2] rfl rfl ro_nil) (recv_at (q := (RX4, TX4, 16)) hK (b_at (k := 0) hP rfl) rfl) rfl hl.1 rfl (Nat.le_of_ble_eq_true rfl) dX4_pass_47 ⟨(Nat.le_of_ble_eq_true rfl), (Nat.le_of_ble_eq_true rfl)⟩) hP hD hS hA [0, 1, 2] [] rfl rfl rfl (fun u_7 H locs hw_7 hP hD hS _ => ?_)
        obtain rfl := hw_7
        have hP : WP Γ [[(a, moE r (upd (upd i 7 0) 5 (nI (moPushN pn))))], [((r 0), .inl (Γ.2.1 0, 523, .inl g))], [((r 4), .inl (Γ.2.1 0, 4184, .inl (moPush g ps pn)))]] H := hP
        have hD : WD A [[(a, moE r (upd (upd i 7 0) 5 (nI (moPushN pn))))], [((r 0), .inl (Γ.2.1 0, 523, .inl g))], [((r 4), .inl (Γ.2.1 0, 4184, .inl (moPush g ps pn)))]] := hD
        refine lv_aload_n hx hb dX4_pass_50 rfl (lv_at hl 0 rfl) ?_
        refine lv_iload_n hx hb dX4_pass_51 rfl (lv_at hl 1 rfl) ?_
        refine b_calli (br := [[((r 4), .inl (Γ.2.1 0, 4184, .inl (moPush g ps pn)))]]) (b_runV ⟨hx, hb, hml, hown, hts⟩ (mt_Mo_passes l Γ _ a r (upd (upd i 7 0) 5 (nI (moPushN pn))) g k (by omega) hDd2) (lw_V q1984 q1986 qs44 q73 q1987) rfl rfl 1 (by decide +kernel) ⟨(Nat.le_of_ble_eq_true rfl), (Nat.le_of_ble_eq_true rfl)⟩ (c_pre hP hD hS hA hK hE [0, 1] rfl rfl ro_nil) (recv_at (q := (RX4, TX4, 16)) hK (b_at (k := 0) hP rfl) rfl) rfl hl.1 rfl (Nat.le_of_ble_eq_true rfl) dX4_pass_52 ⟨(Nat.le_of_ble_eq_true rfl), (Nat.le_of_ble_eq_true rfl)⟩) hP hD hS hA [0, 1] [2] rfl rfl rfl (fun r_8 u_8 H locs hw_8 hP hD hS _ => ?_)
        obtain ⟨rfl, rfl⟩ := hw_8
        have hP : WP Γ [[(a, moE r (upd (upd i 7 0) 5 (nI (moPushN pn))))], [((r 0), .inl (Γ.2.1 0, 523, .inl (moDays g k)))], [((r 4), .inl (Γ.2.1 0, 4184, .inl (moPush g ps pn)))]] H := hP
        have hD : WD A [[(a, moE r (upd (upd i 7 0) 5 (nI (moPushN pn))))], [((r 0), .inl (Γ.2.1 0, 523, .inl (moDays g k)))], [((r 4), .inl (Γ.2.1 0, 4184, .inl (moPush g ps pn)))]] := hD
        exact b_iret hx hb hr hlocks hP hD hS (Nat.le_of_ble_eq_true rfl) (Nat.le_of_ble_eq_true rfl) ⟨(by first | with_reducible rfl | (simp [oSel, oI2, T_pass, c_2, nI_clamp (show k < 2 ^ 31 by omega), c_4, n_6, d_6]; done) | rfl), (by first | with_reducible rfl | (simp [oSel, oI2, T_pass, c_2, nI_clamp (show k < 2 ^ 31 by omega), c_4, n_6, d_6]; done) | rfl)⟩ dX4_pass_55
      · -- 37 not taken
        have n_6 : ¬ (0 ≤ 0) := fun h => c_6 ((nI_leI (a := 0) (b := 0) (by omega) (by omega)).mpr h)
        have d_6 := Int32.not_le.mp c_6
        exact absurd n_6 (by omega)
set_option maxHeartbeats 4000000 in
set_option maxRecDepth 100000 in
theorem mt_Mo_forecast (l : Launch) (Γ : GE) (sz : Nat) (a : Nat) (r : Nat → Nat) (i : Nat → Int32) (g : Nat → Int32) (sf : Nat → Int32) (d : Int32) (hDd : T_pass g 0 d = 0 → ∀ k, k < d.toNatClampNeg → moDok (moDays g k)) : KM l yX4_forecast cX4_forecast 3 (some FieldType.int) Γ 5 114 0 0 [.ref a, .int d] [[(a, moE r i)], [((r 0), .inl (Γ.2.1 0, 523, .inl g))], [((r 2), .inl (Γ.2.1 0, 523, .inl sf))]] [] sz (Qi Γ (fun r_ u_ => r_ = (oSel (T_pass g 0 d) (moDays g d.toNatClampNeg 12 - g 12) 0) ∧ u_ = [[(a, moE r (upd i 7 (T_pass g 0 d)))], [((r 0), .inl (Γ.2.1 0, 523, .inl (oSel (T_pass g 0 d) (va_cpy (va_cpy g sf 0 0 523) (moDays g d.toNatClampNeg) 0 0 523) g)))], [((r 2), .inl (Γ.2.1 0, 523, .inl (oSel (T_pass g 0 d) (va_cpy g sf 0 0 523) sf)))]])) := by
  refine K_intro (by decide) (Nat.le_of_ble_eq_true rfl) ?_
  intro pr_ ev_ s mi_ below meth cd_ A ls hx hb hr hml hown hts hlocks hname hK hE hRo hP hD hA hS hsz hl
  have hl : lv_has ls 3 [(0, .ref a), (1, .int d)] := hl
  have hown : s.vm.findClass RX4 = some mi_.cls := hown
  refine lv_aload_n hx hb dX4_forecast_0 rfl (lv_at hl 0 rfl) ?_
  refine lv_iload_n hx hb dX4_forecast_1 rfl (lv_at hl 1 rfl) ?_
  refine lv_iconst (v := 0) hx hb dX4_forecast_2 (by decide) ?_
  refine lv_bipush (v := 30) hx hb dX4_forecast_3 (by decide) ?_
  refine b_calli (br := [[(a, moE r i)], [((r 0), .inl (Γ.2.1 0, 523, .inl g))], [((r 2), .inl (Γ.2.1 0, 523, .inl sf))]]) (b_runS ⟨hx, hb, hml, hown, hts⟩ (mt_Mo_in l Γ _ d 0 30) (lw_S q1879 q1880 q73 q1881) rfl rfl 3 (by decide +kernel) ⟨(Nat.le_of_ble_eq_true rfl), (Nat.le_of_ble_eq_true rfl)⟩ (c_pre hP hD hS hA hK hE [] rfl rfl ro_nil) rfl hl.1 rfl (Nat.le_of_ble_eq_true rfl) dX4_forecast_5 ⟨(Nat.le_of_ble_eq_true rfl), (Nat.le_of_ble_eq_true rfl)⟩) hP hD hS hA [] [0, 1, 2] rfl rfl rfl (fun r_1 u_1 H locs hw_1 hP hD hS _ => ?_)
  obtain ⟨rfl, rfl⟩ := hw_1
  have hP : WP Γ [[(a, moE r i)], [((r 0), .inl (Γ.2.1 0, 523, .inl g))], [((r 2), .inl (Γ.2.1 0, 523, .inl sf))]] H := hP
  have hD : WD A [[(a, moE r i)], [((r 0), .inl (Γ.2.1 0, 523, .inl g))], [((r 2), .inl (Γ.2.1 0, 523, .inl sf))]] := hD
  refine lv_if_eq (tgt := 29) hx hb dX4_forecast_8 (by decide) (fun c_2 => ?_) (fun c_2 => ?_)
  · -- 8 taken
    refine lv_iconst (v := 1) hx hb dX4_forecast_29 (by decide) ?_
    refine b_put (C := RX4) (T := TX4) (N := 16) (ty := .int) (v := .int 1) hx hb hts in_X4 tyX4_ok nmX4 hown hK hP hD hS 0 rfl rfl 7 (by decide) q1814 (fun _ h9 => h9) rfl (by decide +kernel) rfl rfl (Nat.le_of_ble_eq_true rfl) dX4_forecast_30 (fun H locs hP hD hS => ?_)
    have hP : WP Γ [[(a, moE r (upd i 7 1))], [((r 0), .inl (Γ.2.1 0, 523, .inl g))], [((r 2), .inl (Γ.2.1 0, 523, .inl sf))]] H := hP
    have hD : WD A [[(a, moE r (upd i 7 1))], [((r 0), .inl (Γ.2.1 0, 523, .inl g))], [((r 2), .inl (Γ.2.1 0, 523, .inl sf))]] := hD
    refine lv_aload_n hx hb dX4_forecast_33 rfl (lv_at hl 0 rfl) ?_
    refine b_get (C := RX4) (T := TX4) (N := 16) (v := .int 1) hx hb hts in_X4 hown hK (b_at (k := 0) hP rfl) rfl 7 (by decide) q1814 (fun _ h9 => h9) rfl dX4_forecast_34 ?_
    refine lv_if_le (tgt := 42) hx hb dX4_forecast_37 (by decide) (fun c_3 => ?_) (fun c_3 => ?_)
    · -- 37 taken
      have n_3 : 1 ≤ 0 := (nI_leI (by omega) (by omega)).mp (show nI 1 ≤ nI 0 from c_3)
      have d_3 := Int32.not_lt.mpr c_3
      exact absurd n_3 (by omega)
    · -- 37 not taken
      have n_3 : ¬ (1 ≤ 0) := fun h => c_3 ((nI_leI (a := 1) (b := 0) (by omega) (by omega)).mpr h)
      have d_3 := Int32.not_le.mp c_3
      refine lv_iconst (v := 0) hx hb dX4_forecast_40 (by decide) ?_
      exact b_iret hx hb hr hlocks hP hD hS (Nat.le_of_ble_eq_true rfl) (Nat.le_of_ble_eq_true rfl) ⟨(by first | with_reducible rfl | (simp [oSel, T_pass, c_2, n_3, d_3]; done) | rfl), (by first | with_reducible rfl | (simp [oSel, T_pass, c_2, n_3, d_3]; done) | rfl)⟩ dX4_forecast_41
  · -- 8 not taken
    obtain ⟨k, hk1, hk2, rfl⟩ := inR_ab (a := 0) (b := 30) rfl rfl (by decide) (by decide) c_2
    refine lv_aload_n hx hb dX4_forecast_11 rfl (lv_at hl 0 rfl) ?_
    refine b_get (C := RX4) (T := TX4) (N := 16) (v := .ref (r 0)) hx hb hts in_X4 hown hK (b_at (k := 0) hP rfl) rfl 0 (by decide) q1807 (fun _ h9 => h9) rfl dX4_forecast_12 ?_
    refine lv_iconst (v := 0) hx hb dX4_forecast_15 (by decide) ?_
    refine b_iald hx hb hK (b_at (k := 1) hP rfl) 0 rfl (by omega) (by omega) dX4_forecast_16 ?_
    refine lv_iload_n hx hb dX4_forecast_17 rfl (lv_at hl 1 rfl) ?_
    refine lv_iadd hx hb dX4_forecast_18 ?_
    refine lv_sipush (v := 400) hx hb dX4_forecast_19 (by decide) ?_
    refine lv_icmp_gt (tgt := 29) hx hb dX4_forecast_22 (by decide) (fun c_4 => ?_) (fun c_4 => ?_)
    · -- 22 taken
      refine lv_iconst (v := 1) hx hb dX4_forecast_29 (by decide) ?_
      refine b_put (C := RX4) (T := TX4) (N := 16) (ty := .int) (v := .int 1) hx hb hts in_X4 tyX4_ok nmX4 hown hK hP hD hS 0 rfl rfl 7 (by decide) q1814 (fun _ h9 => h9) rfl (by decide +kernel) rfl rfl (Nat.le_of_ble_eq_true rfl) dX4_forecast_30 (fun H locs hP hD hS => ?_)
      have hP : WP Γ [[(a, moE r (upd i 7 1))], [((r 0), .inl (Γ.2.1 0, 523, .inl g))], [((r 2), .inl (Γ.2.1 0, 523, .inl sf))]] H := hP
      have hD : WD A [[(a, moE r (upd i 7 1))], [((r 0), .inl (Γ.2.1 0, 523, .inl g))], [((r 2), .inl (Γ.2.1 0, 523, .inl sf))]] := hD
      refine lv_aload_n hx hb dX4_forecast_33 rfl (lv_at hl 0 rfl) ?_
      refine b_get (C := RX4) (T := TX4) (N := 16) (v := .int 1) hx hb hts in_X4 hown hK (b_at (k := 0) hP rfl) rfl 7 (by decide) q1814 (fun _ h9 => h9) rfl dX4_forecast_34 ?_
      refine lv_if_le (tgt := 42) hx hb dX4_forecast_37 (by decide) (fun c_5 => ?_) (fun c_5 => ?_)
      · -- 37 taken
        have n_5 : 1 ≤ 0 := (nI_leI (by omega) (by omega)).mp (show nI 1 ≤ nI 0 from c_5)
        have d_5 := Int32.not_lt.mpr c_5
        exact absurd n_5 (by omega)
      · -- 37 not taken
        have n_5 : ¬ (1 ≤ 0) := fun h => c_5 ((nI_leI (a := 1) (b := 0) (by omega) (by omega)).mpr h)
        have d_5 := Int32.not_le.mp c_5
        refine lv_iconst (v := 0) hx hb dX4_forecast_40 (by decide) ?_
        exact b_iret hx hb hr hlocks hP hD hS (Nat.le_of_ble_eq_true rfl) (Nat.le_of_ble_eq_true rfl) ⟨(by first | with_reducible rfl | (simp [oSel, T_pass, c_2, nI_clamp (show k < 2 ^ 31 by omega), c_4, n_5, d_5]; done) | rfl), (by first | with_reducible rfl | (simp [oSel, T_pass, c_2, nI_clamp (show k < 2 ^ 31 by omega), c_4, n_5, d_5]; done) | rfl)⟩ dX4_forecast_41
    · -- 22 not taken
      have hDd2 : ∀ q, q < k → moDok (moDays g q) := by
        have e9 := hDd (by simp [T_pass, c_2, nI_clamp (show k < 2 ^ 31 by omega), c_4])
        rw [nI_clamp (by omega)] at e9
        exact e9
      refine lv_iconst (v := 0) hx hb dX4_forecast_25 (by decide) ?_
      refine lv_goto (tgt := 30) hx hb dX4_forecast_26 (by decide) ?_
      refine b_put (C := RX4) (T := TX4) (N := 16) (ty := .int) (v := .int 0) hx hb hts in_X4 tyX4_ok nmX4 hown hK hP hD hS 0 rfl rfl 7 (by decide) q1814 (fun _ h9 => h9) rfl (by decide +kernel) rfl rfl (Nat.le_of_ble_eq_true rfl) dX4_forecast_30 (fun H locs hP hD hS => ?_)
      have hP : WP Γ [[(a, moE r (upd i 7 0))], [((r 0), .inl (Γ.2.1 0, 523, .inl g))], [((r 2), .inl (Γ.2.1 0, 523, .inl sf))]] H := hP
      have hD : WD A [[(a, moE r (upd i 7 0))], [((r 0), .inl (Γ.2.1 0, 523, .inl g))], [((r 2), .inl (Γ.2.1 0, 523, .inl sf))]] := hD
      refine lv_aload_n hx hb dX4_forecast_33 rfl (lv_at hl 0 rfl) ?_
      refine b_get (C := RX4) (T := TX4) (N := 16) (v := .int 0) hx hb hts in_X4 hown hK (b_at (k := 0) hP rfl) rfl 7 (by decide) q1814 (fun _ h9 => h9) rfl dX4_forecast_34 ?_
      refine lv_if_le (tgt := 42) hx hb dX4_forecast_37 (by decide) (fun c_6 => ?_) (fun c_6 => ?_)
      · -- 37 taken
        have n_6 : 0 ≤ 0 := (nI_leI (by omega) (by omega)).mp (show nI 0 ≤ nI 0 from c_6)
        have d_6 := Int32.not_lt.mpr c_6
        refine lv_aload_n hx hb dX4_forecast_42 rfl (lv_at hl 0 rfl) ?_
        refine b_get (C := RX4) (T := TX4) (N := 16) (v := .ref (r 0)) hx hb hts in_X4 hown hK (b_at (k := 0) hP rfl) rfl 0 (by decide) q1807 (fun _ h9 => h9) rfl dX4_forecast_43 ?_
        refine lv_iconst (v := 0) hx hb dX4_forecast_46 (by decide) ?_
        refine lv_aload_n hx hb dX4_forecast_47 rfl (lv_at hl 0 rfl) ?_
        refine b_get (C := RX4) (T := TX4) (N := 16) (v := .ref (r 2)) hx hb hts in_X4 hown hK (b_at (k := 0) hP rfl) rfl 2 (by decide) q1809 (fun _ h9 => h9) rfl dX4_forecast_48 ?_
        refine lv_iconst (v := 0) hx hb dX4_forecast_51 (by decide) ?_
        refine b_callv (br := [[(a, moE r (upd i 7 0))]]) (b_runS ⟨hx, hb, hml, hown, hts⟩ (mt_Mo_copies l Γ _ (r 0) (r 2) g sf 523 523 0 0 (by omega) (by omega) (by omega)) (lw_S q1864 q1865 q73 q1866) rfl rfl 4 (by decide +kernel) ⟨(Nat.le_of_ble_eq_true rfl), (Nat.le_of_ble_eq_true rfl)⟩ (c_pre hP hD hS hA hK hE [1, 2] rfl rfl ro_nil) rfl hl.1 rfl (Nat.le_of_ble_eq_true rfl) dX4_forecast_52 ⟨(Nat.le_of_ble_eq_true rfl), (Nat.le_of_ble_eq_true rfl)⟩) hP hD hS hA [1, 2] [0] rfl rfl rfl (fun u_7 H locs hw_7 hP hD hS _ => ?_)
        obtain rfl := hw_7
        have hP : WP Γ [[((r 0), .inl (Γ.2.1 0, 523, .inl g))], [((r 2), .inl (Γ.2.1 0, 523, .inl (va_cpy g sf 0 0 523)))], [(a, moE r (upd i 7 0))]] H := hP
        have hD : WD A [[((r 0), .inl (Γ.2.1 0, 523, .inl g))], [((r 2), .inl (Γ.2.1 0, 523, .inl (va_cpy g sf 0 0 523)))], [(a, moE r (upd i 7 0))]] := hD
        refine lv_aload_n hx hb dX4_forecast_55 rfl (lv_at hl 0 rfl) ?_
        refine lv_iload_n hx hb dX4_forecast_56 rfl (lv_at hl 1 rfl) ?_
        refine b_calli (br := [[((r 2), .inl (Γ.2.1 0, 523, .inl (va_cpy g sf 0 0 523)))]]) (b_runV ⟨hx, hb, hml, hown, hts⟩ (mt_Mo_passes l Γ _ a r (upd i 7 0) g k (by omega) hDd2) (lw_V q1984 q1986 qs44 q73 q1987) rfl rfl 1 (by decide +kernel) ⟨(Nat.le_of_ble_eq_true rfl), (Nat.le_of_ble_eq_true rfl)⟩ (c_pre hP hD hS hA hK hE [2, 0] rfl rfl ro_nil) (recv_at (q := (RX4, TX4, 16)) hK (b_at (k := 2) hP rfl) rfl) rfl hl.1 rfl (Nat.le_of_ble_eq_true rfl) dX4_forecast_57 ⟨(Nat.le_of_ble_eq_true rfl), (Nat.le_of_ble_eq_true rfl)⟩) hP hD hS hA [2, 0] [1] rfl rfl rfl (fun r_8 u_8 H locs hw_8 hP hD hS _ => ?_)
        obtain ⟨rfl, rfl⟩ := hw_8
        have hP : WP Γ [[(a, moE r (upd i 7 0))], [((r 0), .inl (Γ.2.1 0, 523, .inl (moDays g k)))], [((r 2), .inl (Γ.2.1 0, 523, .inl (va_cpy g sf 0 0 523)))]] H := hP
        have hD : WD A [[(a, moE r (upd i 7 0))], [((r 0), .inl (Γ.2.1 0, 523, .inl (moDays g k)))], [((r 2), .inl (Γ.2.1 0, 523, .inl (va_cpy g sf 0 0 523)))]] := hD
        refine lv_istore_n (lv' := [(2, .int (moDays g k 12 - g 12)), (0, .ref a), (1, .int (nI k))]) hx hb dX4_forecast_60 rfl hl (by decide) rfl (fun ls hl => ?_)
        refine lv_aload_n hx hb dX4_forecast_61 rfl (lv_at hl 1 rfl) ?_
        refine b_get (C := RX4) (T := TX4) (N := 16) (v := .ref (r 2)) hx hb hts in_X4 hown hK (b_at (k := 0) hP rfl) rfl 2 (by decide) q1809 (fun _ h9 => h9) rfl dX4_forecast_62 ?_
        refine lv_iconst (v := 0) hx hb dX4_forecast_65 (by decide) ?_
        refine lv_aload_n hx hb dX4_forecast_66 rfl (lv_at hl 1 rfl) ?_
        refine b_get (C := RX4) (T := TX4) (N := 16) (v := .ref (r 0)) hx hb hts in_X4 hown hK (b_at (k := 0) hP rfl) rfl 0 (by decide) q1807 (fun _ h9 => h9) rfl dX4_forecast_67 ?_
        refine lv_iconst (v := 0) hx hb dX4_forecast_70 (by decide) ?_
        refine b_callv (br := [[(a, moE r (upd i 7 0))]]) (b_runS ⟨hx, hb, hml, hown, hts⟩ (mt_Mo_copies l Γ _ (r 2) (r 0) (va_cpy g sf 0 0 523) (moDays g k) 523 523 0 0 (by omega) (by omega) (by omega)) (lw_S q1864 q1865 q73 q1866) rfl rfl 4 (by decide +kernel) ⟨(Nat.le_of_ble_eq_true rfl), (Nat.le_of_ble_eq_true rfl)⟩ (c_pre hP hD hS hA hK hE [2, 1] rfl rfl ro_nil) rfl hl.1 rfl (Nat.le_of_ble_eq_true rfl) dX4_forecast_71 ⟨(Nat.le_of_ble_eq_true rfl), (Nat.le_of_ble_eq_true rfl)⟩) hP hD hS hA [2, 1] [0] rfl rfl rfl (fun u_9 H locs hw_9 hP hD hS _ => ?_)
        obtain rfl := hw_9
        have hP : WP Γ [[((r 2), .inl (Γ.2.1 0, 523, .inl (va_cpy g sf 0 0 523)))], [((r 0), .inl (Γ.2.1 0, 523, .inl (va_cpy (va_cpy g sf 0 0 523) (moDays g k) 0 0 523)))], [(a, moE r (upd i 7 0))]] H := hP
        have hD : WD A [[((r 2), .inl (Γ.2.1 0, 523, .inl (va_cpy g sf 0 0 523)))], [((r 0), .inl (Γ.2.1 0, 523, .inl (va_cpy (va_cpy g sf 0 0 523) (moDays g k) 0 0 523)))], [(a, moE r (upd i 7 0))]] := hD
        refine lv_iload_n hx hb dX4_forecast_74 rfl (lv_at hl 0 rfl) ?_
        have hP : WP Γ [[(a, moE r (upd i 7 0))], [((r 0), .inl (Γ.2.1 0, 523, .inl (va_cpy (va_cpy g sf 0 0 523) (moDays g k) 0 0 523)))], [((r 2), .inl (Γ.2.1 0, 523, .inl (va_cpy g sf 0 0 523)))]] H := bP_sel hP [2, 1, 0] rfl
        have hD : WD A [[(a, moE r (upd i 7 0))], [((r 0), .inl (Γ.2.1 0, 523, .inl (va_cpy (va_cpy g sf 0 0 523) (moDays g k) 0 0 523)))], [((r 2), .inl (Γ.2.1 0, 523, .inl (va_cpy g sf 0 0 523)))]] := bD_sel hD [2, 1, 0] rfl rfl
        exact b_iret hx hb hr hlocks hP hD hS (Nat.le_of_ble_eq_true rfl) (Nat.le_of_ble_eq_true rfl) ⟨(by first | with_reducible rfl | (simp [oSel, T_pass, c_2, nI_clamp (show k < 2 ^ 31 by omega), c_4, n_6, d_6]; done) | rfl), (by first | with_reducible rfl | (simp [oSel, T_pass, c_2, nI_clamp (show k < 2 ^ 31 by omega), c_4, n_6, d_6]; done) | rfl)⟩ dX4_forecast_75
      · -- 37 not taken
        have n_6 : ¬ (0 ≤ 0) := fun h => c_6 ((nI_leI (a := 0) (b := 0) (by omega) (by omega)).mpr h)
        have d_6 := Int32.not_le.mp c_6
        exact absurd n_6 (by omega)
set_option maxHeartbeats 4000000 in
set_option maxRecDepth 100000 in
theorem mt_Mo_cow (l : Launch) (Γ : GE) (sz : Nat) (a : Nat) (r : Nat → Nat) (i : Nat → Int32) (g : Nat → Int32) (c : Int32) (w : Int32) (n : Nat) (hg7 : g 7 = nI n) (hn : n ≤ 8) : KM l yX4_cow cX4_cow 3 (some FieldType.int) Γ 2 46 0 0 [.ref a, .int c, .int w] [[(a, moE r i)], [((r 0), .inl (Γ.2.1 0, 523, .inl g))]] [] sz (Qi Γ (fun r_ u_ => r_ = (oSel (T_cow g c w 8) (cowM g c.toNatClampNeg w) 0) ∧ u_ = [[(a, moE r (upd i 7 (T_cow g c w 8)))], [((r 0), .inl (Γ.2.1 0, 523, .inl g))]])) := by
  refine K_intro (by decide) (Nat.le_of_ble_eq_true rfl) ?_
  intro pr_ ev_ s mi_ below meth cd_ A ls hx hb hr hml hown hts hlocks hname hK hE hRo hP hD hA hS hsz hl
  have hl : lv_has ls 3 [(0, .ref a), (1, .int c), (2, .int w)] := hl
  have hown : s.vm.findClass RX4 = some mi_.cls := hown
  refine lv_aload_n hx hb dX4_cow_0 rfl (lv_at hl 0 rfl) ?_
  refine lv_aload_n hx hb dX4_cow_1 rfl (lv_at hl 0 rfl) ?_
  refine lv_iload_n hx hb dX4_cow_2 rfl (lv_at hl 1 rfl) ?_
  refine b_calli (br := []) (b_runV ⟨hx, hb, hml, hown, hts⟩ (mt_Mo_isCow l Γ _ a r i g c) (lw_V q1920 q1922 qs36 q73 q1923) rfl rfl 1 (by decide +kernel) ⟨(Nat.le_of_ble_eq_true rfl), (Nat.le_of_ble_eq_true rfl)⟩ (c_pre hP hD hS hA hK hE [0, 1] rfl rfl ro_nil) (recv_at (q := (RX4, TX4, 16)) hK (b_at (k := 0) hP rfl) rfl) rfl hl.1 rfl (Nat.le_of_ble_eq_true rfl) dX4_cow_3 ⟨(Nat.le_of_ble_eq_true rfl), (Nat.le_of_ble_eq_true rfl)⟩) hP hD hS hA [0, 1] [] rfl rfl rfl (fun r_1 u_1 H locs hw_1 hP hD hS _ => ?_)
  obtain ⟨rfl, rfl⟩ := hw_1
  have hP : WP Γ [[(a, moE r i)], [((r 0), .inl (Γ.2.1 0, 523, .inl g))]] H := hP
  have hD : WD A [[(a, moE r i)], [((r 0), .inl (Γ.2.1 0, 523, .inl g))]] := hD
  refine lv_if_eq (tgt := 27) hx hb dX4_cow_6 (by decide) (fun c_2 => ?_) (fun c_2 => ?_)
  · -- 6 taken
    refine lv_iconst (v := 1) hx hb dX4_cow_27 (by decide) ?_
    refine b_put (C := RX4) (T := TX4) (N := 16) (ty := .int) (v := .int 1) hx hb hts in_X4 tyX4_ok nmX4 hown hK hP hD hS 0 rfl rfl 7 (by decide) q1814 (fun _ h9 => h9) rfl (by decide +kernel) rfl rfl (Nat.le_of_ble_eq_true rfl) dX4_cow_28 (fun H locs hP hD hS => ?_)
    have hP : WP Γ [[(a, moE r (upd i 7 1))], [((r 0), .inl (Γ.2.1 0, 523, .inl g))]] H := hP
    have hD : WD A [[(a, moE r (upd i 7 1))], [((r 0), .inl (Γ.2.1 0, 523, .inl g))]] := hD
    refine lv_aload_n hx hb dX4_cow_31 rfl (lv_at hl 0 rfl) ?_
    refine b_get (C := RX4) (T := TX4) (N := 16) (v := .int 1) hx hb hts in_X4 hown hK (b_at (k := 0) hP rfl) rfl 7 (by decide) q1814 (fun _ h9 => h9) rfl dX4_cow_32 ?_
    refine lv_if_le (tgt := 40) hx hb dX4_cow_35 (by decide) (fun c_3 => ?_) (fun c_3 => ?_)
    · -- 35 taken
      have n_3 : 1 ≤ 0 := (nI_leI (by omega) (by omega)).mp (show nI 1 ≤ nI 0 from c_3)
      have d_3 := Int32.not_lt.mpr c_3
      exact absurd n_3 (by omega)
    · -- 35 not taken
      have n_3 : ¬ (1 ≤ 0) := fun h => c_3 ((nI_leI (a := 1) (b := 0) (by omega) (by omega)).mpr h)
      have d_3 := Int32.not_le.mp c_3
      refine lv_iconst (v := 0) hx hb dX4_cow_38 (by decide) ?_
      exact b_iret hx hb hr hlocks hP hD hS (Nat.le_of_ble_eq_true rfl) (Nat.le_of_ble_eq_true rfl) ⟨(by first | with_reducible rfl | (simp [oSel, T_cow, cowM, c_2, n_3, d_3]; done) | rfl), (by first | with_reducible rfl | (simp [oSel, T_cow, cowM, c_2, n_3, d_3]; done) | rfl)⟩ dX4_cow_39
  · -- 6 not taken
    obtain ⟨k, hk, rfl⟩ := inR_nat hg7 (by omega) c_2
    refine lv_iload_n hx hb dX4_cow_9 rfl (lv_at hl 2 rfl) ?_
    refine lv_iconst (v := 0) hx hb dX4_cow_10 (by decide) ?_
    refine lv_bipush (v := 8) hx hb dX4_cow_11 (by decide) ?_
    refine b_calli (br := [[(a, moE r i)], [((r 0), .inl (Γ.2.1 0, 523, .inl g))]]) (b_runS ⟨hx, hb, hml, hown, hts⟩ (mt_Mo_in l Γ _ w 0 8) (lw_S q1879 q1880 q73 q1881) rfl rfl 3 (by decide +kernel) ⟨(Nat.le_of_ble_eq_true rfl), (Nat.le_of_ble_eq_true rfl)⟩ (c_pre hP hD hS hA hK hE [] rfl rfl ro_nil) rfl hl.1 rfl (Nat.le_of_ble_eq_true rfl) dX4_cow_13 ⟨(Nat.le_of_ble_eq_true rfl), (Nat.le_of_ble_eq_true rfl)⟩) hP hD hS hA [] [0, 1] rfl rfl rfl (fun r_4 u_4 H locs hw_4 hP hD hS _ => ?_)
    obtain ⟨rfl, rfl⟩ := hw_4
    have hP : WP Γ [[(a, moE r i)], [((r 0), .inl (Γ.2.1 0, 523, .inl g))]] H := hP
    have hD : WD A [[(a, moE r i)], [((r 0), .inl (Γ.2.1 0, 523, .inl g))]] := hD
    refine lv_if_eq (tgt := 23) hx hb dX4_cow_16 (by decide) (fun c_5 => ?_) (fun c_5 => ?_)
    · -- 16 taken
      refine lv_iconst (v := 2) hx hb dX4_cow_23 (by decide) ?_
      refine lv_goto (tgt := 28) hx hb dX4_cow_24 (by decide) ?_
      refine b_put (C := RX4) (T := TX4) (N := 16) (ty := .int) (v := .int 2) hx hb hts in_X4 tyX4_ok nmX4 hown hK hP hD hS 0 rfl rfl 7 (by decide) q1814 (fun _ h9 => h9) rfl (by decide +kernel) rfl rfl (Nat.le_of_ble_eq_true rfl) dX4_cow_28 (fun H locs hP hD hS => ?_)
      have hP : WP Γ [[(a, moE r (upd i 7 2))], [((r 0), .inl (Γ.2.1 0, 523, .inl g))]] H := hP
      have hD : WD A [[(a, moE r (upd i 7 2))], [((r 0), .inl (Γ.2.1 0, 523, .inl g))]] := hD
      refine lv_aload_n hx hb dX4_cow_31 rfl (lv_at hl 0 rfl) ?_
      refine b_get (C := RX4) (T := TX4) (N := 16) (v := .int 2) hx hb hts in_X4 hown hK (b_at (k := 0) hP rfl) rfl 7 (by decide) q1814 (fun _ h9 => h9) rfl dX4_cow_32 ?_
      refine lv_if_le (tgt := 40) hx hb dX4_cow_35 (by decide) (fun c_6 => ?_) (fun c_6 => ?_)
      · -- 35 taken
        have n_6 : 2 ≤ 0 := (nI_leI (by omega) (by omega)).mp (show nI 2 ≤ nI 0 from c_6)
        have d_6 := Int32.not_lt.mpr c_6
        exact absurd n_6 (by omega)
      · -- 35 not taken
        have n_6 : ¬ (2 ≤ 0) := fun h => c_6 ((nI_leI (a := 2) (b := 0) (by omega) (by omega)).mpr h)
        have d_6 := Int32.not_le.mp c_6
        refine lv_iconst (v := 0) hx hb dX4_cow_38 (by decide) ?_
        exact b_iret hx hb hr hlocks hP hD hS (Nat.le_of_ble_eq_true rfl) (Nat.le_of_ble_eq_true rfl) ⟨(by first | with_reducible rfl | (simp [oSel, T_cow, cowM, c_2, nI_clamp (show k < 2 ^ 31 by omega), c_5, n_6, d_6]; done) | rfl), (by first | with_reducible rfl | (simp [oSel, T_cow, cowM, c_2, nI_clamp (show k < 2 ^ 31 by omega), c_5, n_6, d_6]; done) | rfl)⟩ dX4_cow_39
    · -- 16 not taken
      refine lv_iconst (v := 0) hx hb dX4_cow_19 (by decide) ?_
      refine lv_goto (tgt := 28) hx hb dX4_cow_20 (by decide) ?_
      refine b_put (C := RX4) (T := TX4) (N := 16) (ty := .int) (v := .int 0) hx hb hts in_X4 tyX4_ok nmX4 hown hK hP hD hS 0 rfl rfl 7 (by decide) q1814 (fun _ h9 => h9) rfl (by decide +kernel) rfl rfl (Nat.le_of_ble_eq_true rfl) dX4_cow_28 (fun H locs hP hD hS => ?_)
      have hP : WP Γ [[(a, moE r (upd i 7 0))], [((r 0), .inl (Γ.2.1 0, 523, .inl g))]] H := hP
      have hD : WD A [[(a, moE r (upd i 7 0))], [((r 0), .inl (Γ.2.1 0, 523, .inl g))]] := hD
      refine lv_aload_n hx hb dX4_cow_31 rfl (lv_at hl 0 rfl) ?_
      refine b_get (C := RX4) (T := TX4) (N := 16) (v := .int 0) hx hb hts in_X4 hown hK (b_at (k := 0) hP rfl) rfl 7 (by decide) q1814 (fun _ h9 => h9) rfl dX4_cow_32 ?_
      refine lv_if_le (tgt := 40) hx hb dX4_cow_35 (by decide) (fun c_7 => ?_) (fun c_7 => ?_)
      · -- 35 taken
        have n_7 : 0 ≤ 0 := (nI_leI (by omega) (by omega)).mp (show nI 0 ≤ nI 0 from c_7)
        have d_7 := Int32.not_lt.mpr c_7
        refine lv_iload_n hx hb dX4_cow_40 rfl (lv_at hl 2 rfl) ?_
        by_cases c_8_0 : w = 0
        · -- case 0
          subst c_8_0
          refine lv_tableIn (tgt := 88) hx hb dX4_cow_41 (by decide) (by decide) rfl (by decide) ?_
          refine lv_aload_n hx hb dX4_cow_88 rfl (lv_at hl 0 rfl) ?_
          refine b_get (C := RX4) (T := TX4) (N := 16) (v := .ref (r 0)) hx hb hts in_X4 hown hK (b_at (k := 0) hP rfl) rfl 0 (by decide) q1807 (fun _ h9 => h9) rfl dX4_cow_89 ?_
          refine lv_iload_n hx hb dX4_cow_92 rfl (lv_at hl 1 rfl) ?_
          refine lv_iconst (v := 4) hx hb dX4_cow_93 (by decide) ?_
          refine b_calli (br := [[(a, moE r (upd i 7 0))], [((r 0), .inl (Γ.2.1 0, 523, .inl g))]]) (b_runS ⟨hx, hb, hml, hown, hts⟩ (mt_Mo_at l Γ _ k 4) (lw_S q1886 q1887 q73 q1888) rfl rfl 2 (by decide +kernel) ⟨(Nat.le_of_ble_eq_true rfl), (Nat.le_of_ble_eq_true rfl)⟩ (c_pre hP hD hS hA hK hE [] rfl rfl ro_nil) rfl hl.1 rfl (Nat.le_of_ble_eq_true rfl) dX4_cow_94 ⟨(Nat.le_of_ble_eq_true rfl), (Nat.le_of_ble_eq_true rfl)⟩) hP hD hS hA [] [0, 1] rfl rfl rfl (fun r_9 u_9 H locs hw_9 hP hD hS _ => ?_)
          obtain ⟨rfl, rfl⟩ := hw_9
          have hP : WP Γ [[(a, moE r (upd i 7 0))], [((r 0), .inl (Γ.2.1 0, 523, .inl g))]] H := hP
          have hD : WD A [[(a, moE r (upd i 7 0))], [((r 0), .inl (Γ.2.1 0, 523, .inl g))]] := hD
          refine b_iald hx hb hK (b_at (k := 1) hP rfl) (10 * k + 19) rfl (by omega) (by omega) dX4_cow_97 ?_
          exact b_iret hx hb hr hlocks hP hD hS (Nat.le_of_ble_eq_true rfl) (Nat.le_of_ble_eq_true rfl) ⟨(by first | with_reducible rfl | (simp [oSel, T_cow, cowM, c_2, nI_clamp (show k < 2 ^ 31 by omega), c_5, n_7, d_7]; done) | rfl), (by first | with_reducible rfl | (simp [oSel, T_cow, cowM, c_2, nI_clamp (show k < 2 ^ 31 by omega), c_5, n_7, d_7]; done) | rfl)⟩ dX4_cow_98
        by_cases c_8_1 : w = 1
        · -- case 1
          subst c_8_1
          refine lv_tableIn (tgt := 99) hx hb dX4_cow_41 (by decide) (by decide) rfl (by decide) ?_
          refine lv_aload_n hx hb dX4_cow_99 rfl (lv_at hl 0 rfl) ?_
          refine b_get (C := RX4) (T := TX4) (N := 16) (v := .ref (r 0)) hx hb hts in_X4 hown hK (b_at (k := 0) hP rfl) rfl 0 (by decide) q1807 (fun _ h9 => h9) rfl dX4_cow_100 ?_
          refine lv_iload_n hx hb dX4_cow_103 rfl (lv_at hl 1 rfl) ?_
          refine lv_iconst (v := 3) hx hb dX4_cow_104 (by decide) ?_
          refine b_calli (br := [[(a, moE r (upd i 7 0))], [((r 0), .inl (Γ.2.1 0, 523, .inl g))]]) (b_runS ⟨hx, hb, hml, hown, hts⟩ (mt_Mo_at l Γ _ k 3) (lw_S q1886 q1887 q73 q1888) rfl rfl 2 (by decide +kernel) ⟨(Nat.le_of_ble_eq_true rfl), (Nat.le_of_ble_eq_true rfl)⟩ (c_pre hP hD hS hA hK hE [] rfl rfl ro_nil) rfl hl.1 rfl (Nat.le_of_ble_eq_true rfl) dX4_cow_105 ⟨(Nat.le_of_ble_eq_true rfl), (Nat.le_of_ble_eq_true rfl)⟩) hP hD hS hA [] [0, 1] rfl rfl rfl (fun r_10 u_10 H locs hw_10 hP hD hS _ => ?_)
          obtain ⟨rfl, rfl⟩ := hw_10
          have hP : WP Γ [[(a, moE r (upd i 7 0))], [((r 0), .inl (Γ.2.1 0, 523, .inl g))]] H := hP
          have hD : WD A [[(a, moE r (upd i 7 0))], [((r 0), .inl (Γ.2.1 0, 523, .inl g))]] := hD
          refine b_iald hx hb hK (b_at (k := 1) hP rfl) (10 * k + 18) rfl (by omega) (by omega) dX4_cow_108 ?_
          exact b_iret hx hb hr hlocks hP hD hS (Nat.le_of_ble_eq_true rfl) (Nat.le_of_ble_eq_true rfl) ⟨(by first | with_reducible rfl | (simp [oSel, T_cow, cowM, c_2, nI_clamp (show k < 2 ^ 31 by omega), c_5, n_7, d_7, c_8_0]; done) | rfl), (by first | with_reducible rfl | (simp [oSel, T_cow, cowM, c_2, nI_clamp (show k < 2 ^ 31 by omega), c_5, n_7, d_7, c_8_0]; done) | rfl)⟩ dX4_cow_109
        by_cases c_8_2 : w = 2
        · -- case 2
          subst c_8_2
          refine lv_tableIn (tgt := 110) hx hb dX4_cow_41 (by decide) (by decide) rfl (by decide) ?_
          refine lv_aload_n hx hb dX4_cow_110 rfl (lv_at hl 0 rfl) ?_
          refine lv_iload_n hx hb dX4_cow_111 rfl (lv_at hl 1 rfl) ?_
          refine b_calli (br := []) (b_runV ⟨hx, hb, hml, hown, hts⟩ (mt_Mo_isMilked l Γ _ a r (upd i 7 0) g k (by omega)) (lw_V q1928 q1930 qs38 q73 q1931) rfl rfl 1 (by decide +kernel) ⟨(Nat.le_of_ble_eq_true rfl), (Nat.le_of_ble_eq_true rfl)⟩ (c_pre hP hD hS hA hK hE [0, 1] rfl rfl ro_nil) (recv_at (q := (RX4, TX4, 16)) hK (b_at (k := 0) hP rfl) rfl) rfl hl.1 rfl (Nat.le_of_ble_eq_true rfl) dX4_cow_112 ⟨(Nat.le_of_ble_eq_true rfl), (Nat.le_of_ble_eq_true rfl)⟩) hP hD hS hA [0, 1] [] rfl rfl rfl (fun r_11 u_11 H locs hw_11 hP hD hS _ => ?_)
          obtain ⟨rfl, rfl⟩ := hw_11
          have hP : WP Γ [[(a, moE r (upd i 7 0))], [((r 0), .inl (Γ.2.1 0, 523, .inl g))]] H := hP
          have hD : WD A [[(a, moE r (upd i 7 0))], [((r 0), .inl (Γ.2.1 0, 523, .inl g))]] := hD
          refine lv_if_eq (tgt := 126) hx hb dX4_cow_115 (by decide) (fun c_12 => ?_) (fun c_12 => ?_)
          · -- 115 taken
            refine lv_iconst (v := (-1)) hx hb dX4_cow_126 (by decide) ?_
            exact b_iret hx hb hr hlocks hP hD hS (Nat.le_of_ble_eq_true rfl) (Nat.le_of_ble_eq_true rfl) ⟨(by first | with_reducible rfl | (simp [oSel, T_cow, cowM, c_2, nI_clamp (show k < 2 ^ 31 by omega), c_5, n_7, d_7, c_8_0, c_8_1, c_12]; done) | rfl), (by first | with_reducible rfl | (simp [oSel, T_cow, cowM, c_2, nI_clamp (show k < 2 ^ 31 by omega), c_5, n_7, d_7, c_8_0, c_8_1, c_12]; done) | rfl)⟩ dX4_cow_127
          · -- 115 not taken
            refine lv_aload_n hx hb dX4_cow_118 rfl (lv_at hl 0 rfl) ?_
            refine lv_iload_n hx hb dX4_cow_119 rfl (lv_at hl 1 rfl) ?_
            refine b_calli (br := []) (b_runV ⟨hx, hb, hml, hown, hts⟩ (mt_Mo_inMilk l Γ _ a r (upd i 7 0) g k (by omega)) (lw_V q1932 q1934 qs39 q73 q1935) rfl rfl 1 (by decide +kernel) ⟨(Nat.le_of_ble_eq_true rfl), (Nat.le_of_ble_eq_true rfl)⟩ (c_pre hP hD hS hA hK hE [0, 1] rfl rfl ro_nil) (recv_at (q := (RX4, TX4, 16)) hK (b_at (k := 0) hP rfl) rfl) rfl hl.1 rfl (Nat.le_of_ble_eq_true rfl) dX4_cow_120 ⟨(Nat.le_of_ble_eq_true rfl), (Nat.le_of_ble_eq_true rfl)⟩) hP hD hS hA [0, 1] [] rfl rfl rfl (fun r_13 u_13 H locs hw_13 hP hD hS _ => ?_)
            obtain ⟨rfl, rfl⟩ := hw_13
            have hP : WP Γ [[(a, moE r (upd i 7 0))], [((r 0), .inl (Γ.2.1 0, 523, .inl g))]] H := hP
            have hD : WD A [[(a, moE r (upd i 7 0))], [((r 0), .inl (Γ.2.1 0, 523, .inl g))]] := hD
            refine lv_goto (tgt := 127) hx hb dX4_cow_123 (by decide) ?_
            exact b_iret hx hb hr hlocks hP hD hS (Nat.le_of_ble_eq_true rfl) (Nat.le_of_ble_eq_true rfl) ⟨(by first | with_reducible rfl | (simp [oSel, T_cow, cowM, c_2, nI_clamp (show k < 2 ^ 31 by omega), c_5, n_7, d_7, c_8_0, c_8_1, c_12]; done) | rfl), (by first | with_reducible rfl | (simp [oSel, T_cow, cowM, c_2, nI_clamp (show k < 2 ^ 31 by omega), c_5, n_7, d_7, c_8_0, c_8_1, c_12]; done) | rfl)⟩ dX4_cow_127
        by_cases c_8_3 : w = 3
        · -- case 3
          subst c_8_3
          refine lv_tableIn (tgt := 128) hx hb dX4_cow_41 (by decide) (by decide) rfl (by decide) ?_
          refine lv_aload_n hx hb dX4_cow_128 rfl (lv_at hl 0 rfl) ?_
          refine lv_iload_n hx hb dX4_cow_129 rfl (lv_at hl 1 rfl) ?_
          refine b_calli (br := []) (b_runV ⟨hx, hb, hml, hown, hts⟩ (mt_Mo_isCarrying l Γ _ a r (upd i 7 0) g k (by omega)) (lw_V q1924 q1926 qs37 q73 q1927) rfl rfl 1 (by decide +kernel) ⟨(Nat.le_of_ble_eq_true rfl), (Nat.le_of_ble_eq_true rfl)⟩ (c_pre hP hD hS hA hK hE [0, 1] rfl rfl ro_nil) (recv_at (q := (RX4, TX4, 16)) hK (b_at (k := 0) hP rfl) rfl) rfl hl.1 rfl (Nat.le_of_ble_eq_true rfl) dX4_cow_130 ⟨(Nat.le_of_ble_eq_true rfl), (Nat.le_of_ble_eq_true rfl)⟩) hP hD hS hA [0, 1] [] rfl rfl rfl (fun r_14 u_14 H locs hw_14 hP hD hS _ => ?_)
          obtain ⟨rfl, rfl⟩ := hw_14
          have hP : WP Γ [[(a, moE r (upd i 7 0))], [((r 0), .inl (Γ.2.1 0, 523, .inl g))]] H := hP
          have hD : WD A [[(a, moE r (upd i 7 0))], [((r 0), .inl (Γ.2.1 0, 523, .inl g))]] := hD
          refine lv_if_eq (tgt := 150) hx hb dX4_cow_133 (by decide) (fun c_15 => ?_) (fun c_15 => ?_)
          · -- 133 taken
            refine lv_iconst (v := (-1)) hx hb dX4_cow_150 (by decide) ?_
            exact b_iret hx hb hr hlocks hP hD hS (Nat.le_of_ble_eq_true rfl) (Nat.le_of_ble_eq_true rfl) ⟨(by first | with_reducible rfl | (simp [oSel, T_cow, cowM, c_2, nI_clamp (show k < 2 ^ 31 by omega), c_5, n_7, d_7, c_8_0, c_8_1, c_8_2, c_15]; done) | rfl), (by first | with_reducible rfl | (simp [oSel, T_cow, cowM, c_2, nI_clamp (show k < 2 ^ 31 by omega), c_5, n_7, d_7, c_8_0, c_8_1, c_8_2, c_15]; done) | rfl)⟩ dX4_cow_151
          · -- 133 not taken
            refine lv_aload_n hx hb dX4_cow_136 rfl (lv_at hl 0 rfl) ?_
            refine b_get (C := RX4) (T := TX4) (N := 16) (v := .ref (r 0)) hx hb hts in_X4 hown hK (b_at (k := 0) hP rfl) rfl 0 (by decide) q1807 (fun _ h9 => h9) rfl dX4_cow_137 ?_
            refine lv_iload_n hx hb dX4_cow_140 rfl (lv_at hl 1 rfl) ?_
            refine lv_bipush (v := 6) hx hb dX4_cow_141 (by decide) ?_
            refine b_calli (br := [[(a, moE r (upd i 7 0))], [((r 0), .inl (Γ.2.1 0, 523, .inl g))]]) (b_runS ⟨hx, hb, hml, hown, hts⟩ (mt_Mo_at l Γ _ k 6) (lw_S q1886 q1887 q73 q1888) rfl rfl 2 (by decide +kernel) ⟨(Nat.le_of_ble_eq_true rfl), (Nat.le_of_ble_eq_true rfl)⟩ (c_pre hP hD hS hA hK hE [] rfl rfl ro_nil) rfl hl.1 rfl (Nat.le_of_ble_eq_true rfl) dX4_cow_143 ⟨(Nat.le_of_ble_eq_true rfl), (Nat.le_of_ble_eq_true rfl)⟩) hP hD hS hA [] [0, 1] rfl rfl rfl (fun r_16 u_16 H locs hw_16 hP hD hS _ => ?_)
            obtain ⟨rfl, rfl⟩ := hw_16
            have hP : WP Γ [[(a, moE r (upd i 7 0))], [((r 0), .inl (Γ.2.1 0, 523, .inl g))]] H := hP
            have hD : WD A [[(a, moE r (upd i 7 0))], [((r 0), .inl (Γ.2.1 0, 523, .inl g))]] := hD
            refine b_iald hx hb hK (b_at (k := 1) hP rfl) (10 * k + 21) rfl (by omega) (by omega) dX4_cow_146 ?_
            refine lv_goto (tgt := 151) hx hb dX4_cow_147 (by decide) ?_
            exact b_iret hx hb hr hlocks hP hD hS (Nat.le_of_ble_eq_true rfl) (Nat.le_of_ble_eq_true rfl) ⟨(by first | with_reducible rfl | (simp [oSel, T_cow, cowM, c_2, nI_clamp (show k < 2 ^ 31 by omega), c_5, n_7, d_7, c_8_0, c_8_1, c_8_2, c_15]; done) | rfl), (by first | with_reducible rfl | (simp [oSel, T_cow, cowM, c_2, nI_clamp (show k < 2 ^ 31 by omega), c_5, n_7, d_7, c_8_0, c_8_1, c_8_2, c_15]; done) | rfl)⟩ dX4_cow_151
        by_cases c_8_4 : w = 4
        · -- case 4
          subst c_8_4
          refine lv_tableIn (tgt := 152) hx hb dX4_cow_41 (by decide) (by decide) rfl (by decide) ?_
          refine lv_aload_n hx hb dX4_cow_152 rfl (lv_at hl 0 rfl) ?_
          refine b_get (C := RX4) (T := TX4) (N := 16) (v := .ref (r 0)) hx hb hts in_X4 hown hK (b_at (k := 0) hP rfl) rfl 0 (by decide) q1807 (fun _ h9 => h9) rfl dX4_cow_153 ?_
          refine lv_iload_n hx hb dX4_cow_156 rfl (lv_at hl 1 rfl) ?_
          refine lv_iconst (v := 2) hx hb dX4_cow_157 (by decide) ?_
          refine b_calli (br := [[(a, moE r (upd i 7 0))], [((r 0), .inl (Γ.2.1 0, 523, .inl g))]]) (b_runS ⟨hx, hb, hml, hown, hts⟩ (mt_Mo_at l Γ _ k 2) (lw_S q1886 q1887 q73 q1888) rfl rfl 2 (by decide +kernel) ⟨(Nat.le_of_ble_eq_true rfl), (Nat.le_of_ble_eq_true rfl)⟩ (c_pre hP hD hS hA hK hE [] rfl rfl ro_nil) rfl hl.1 rfl (Nat.le_of_ble_eq_true rfl) dX4_cow_158 ⟨(Nat.le_of_ble_eq_true rfl), (Nat.le_of_ble_eq_true rfl)⟩) hP hD hS hA [] [0, 1] rfl rfl rfl (fun r_17 u_17 H locs hw_17 hP hD hS _ => ?_)
          obtain ⟨rfl, rfl⟩ := hw_17
          have hP : WP Γ [[(a, moE r (upd i 7 0))], [((r 0), .inl (Γ.2.1 0, 523, .inl g))]] H := hP
          have hD : WD A [[(a, moE r (upd i 7 0))], [((r 0), .inl (Γ.2.1 0, 523, .inl g))]] := hD
          refine b_iald hx hb hK (b_at (k := 1) hP rfl) (10 * k + 17) rfl (by omega) (by omega) dX4_cow_161 ?_
          exact b_iret hx hb hr hlocks hP hD hS (Nat.le_of_ble_eq_true rfl) (Nat.le_of_ble_eq_true rfl) ⟨(by first | with_reducible rfl | (simp [oSel, T_cow, cowM, c_2, nI_clamp (show k < 2 ^ 31 by omega), c_5, n_7, d_7, c_8_0, c_8_1, c_8_2, c_8_3]; done) | rfl), (by first | with_reducible rfl | (simp [oSel, T_cow, cowM, c_2, nI_clamp (show k < 2 ^ 31 by omega), c_5, n_7, d_7, c_8_0, c_8_1, c_8_2, c_8_3]; done) | rfl)⟩ dX4_cow_162
        by_cases c_8_5 : w = 5
        · -- case 5
          subst c_8_5
          refine lv_tableIn (tgt := 163) hx hb dX4_cow_41 (by decide) (by decide) rfl (by decide) ?_
          refine lv_aload_n hx hb dX4_cow_163 rfl (lv_at hl 0 rfl) ?_
          refine b_get (C := RX4) (T := TX4) (N := 16) (v := .ref (r 0)) hx hb hts in_X4 hown hK (b_at (k := 0) hP rfl) rfl 0 (by decide) q1807 (fun _ h9 => h9) rfl dX4_cow_164 ?_
          refine lv_iload_n hx hb dX4_cow_167 rfl (lv_at hl 1 rfl) ?_
          refine lv_bipush (v := 7) hx hb dX4_cow_168 (by decide) ?_
          refine b_calli (br := [[(a, moE r (upd i 7 0))], [((r 0), .inl (Γ.2.1 0, 523, .inl g))]]) (b_runS ⟨hx, hb, hml, hown, hts⟩ (mt_Mo_at l Γ _ k 7) (lw_S q1886 q1887 q73 q1888) rfl rfl 2 (by decide +kernel) ⟨(Nat.le_of_ble_eq_true rfl), (Nat.le_of_ble_eq_true rfl)⟩ (c_pre hP hD hS hA hK hE [] rfl rfl ro_nil) rfl hl.1 rfl (Nat.le_of_ble_eq_true rfl) dX4_cow_170 ⟨(Nat.le_of_ble_eq_true rfl), (Nat.le_of_ble_eq_true rfl)⟩) hP hD hS hA [] [0, 1] rfl rfl rfl (fun r_18 u_18 H locs hw_18 hP hD hS _ => ?_)
          obtain ⟨rfl, rfl⟩ := hw_18
          have hP : WP Γ [[(a, moE r (upd i 7 0))], [((r 0), .inl (Γ.2.1 0, 523, .inl g))]] H := hP
          have hD : WD A [[(a, moE r (upd i 7 0))], [((r 0), .inl (Γ.2.1 0, 523, .inl g))]] := hD
          refine b_iald hx hb hK (b_at (k := 1) hP rfl) (10 * k + 22) rfl (by omega) (by omega) dX4_cow_173 ?_
          exact b_iret hx hb hr hlocks hP hD hS (Nat.le_of_ble_eq_true rfl) (Nat.le_of_ble_eq_true rfl) ⟨(by first | with_reducible rfl | (simp [oSel, T_cow, cowM, c_2, nI_clamp (show k < 2 ^ 31 by omega), c_5, n_7, d_7, c_8_0, c_8_1, c_8_2, c_8_3, c_8_4]; done) | rfl), (by first | with_reducible rfl | (simp [oSel, T_cow, cowM, c_2, nI_clamp (show k < 2 ^ 31 by omega), c_5, n_7, d_7, c_8_0, c_8_1, c_8_2, c_8_3, c_8_4]; done) | rfl)⟩ dX4_cow_174
        by_cases c_8_6 : w = 6
        · -- case 6
          subst c_8_6
          refine lv_tableIn (tgt := 175) hx hb dX4_cow_41 (by decide) (by decide) rfl (by decide) ?_
          refine lv_aload_n hx hb dX4_cow_175 rfl (lv_at hl 0 rfl) ?_
          refine b_get (C := RX4) (T := TX4) (N := 16) (v := .ref (r 0)) hx hb hts in_X4 hown hK (b_at (k := 0) hP rfl) rfl 0 (by decide) q1807 (fun _ h9 => h9) rfl dX4_cow_176 ?_
          refine lv_iload_n hx hb dX4_cow_179 rfl (lv_at hl 1 rfl) ?_
          refine lv_bipush (v := 8) hx hb dX4_cow_180 (by decide) ?_
          refine b_calli (br := [[(a, moE r (upd i 7 0))], [((r 0), .inl (Γ.2.1 0, 523, .inl g))]]) (b_runS ⟨hx, hb, hml, hown, hts⟩ (mt_Mo_at l Γ _ k 8) (lw_S q1886 q1887 q73 q1888) rfl rfl 2 (by decide +kernel) ⟨(Nat.le_of_ble_eq_true rfl), (Nat.le_of_ble_eq_true rfl)⟩ (c_pre hP hD hS hA hK hE [] rfl rfl ro_nil) rfl hl.1 rfl (Nat.le_of_ble_eq_true rfl) dX4_cow_182 ⟨(Nat.le_of_ble_eq_true rfl), (Nat.le_of_ble_eq_true rfl)⟩) hP hD hS hA [] [0, 1] rfl rfl rfl (fun r_19 u_19 H locs hw_19 hP hD hS _ => ?_)
          obtain ⟨rfl, rfl⟩ := hw_19
          have hP : WP Γ [[(a, moE r (upd i 7 0))], [((r 0), .inl (Γ.2.1 0, 523, .inl g))]] H := hP
          have hD : WD A [[(a, moE r (upd i 7 0))], [((r 0), .inl (Γ.2.1 0, 523, .inl g))]] := hD
          refine b_iald hx hb hK (b_at (k := 1) hP rfl) (10 * k + 23) rfl (by omega) (by omega) dX4_cow_185 ?_
          exact b_iret hx hb hr hlocks hP hD hS (Nat.le_of_ble_eq_true rfl) (Nat.le_of_ble_eq_true rfl) ⟨(by first | with_reducible rfl | (simp [oSel, T_cow, cowM, c_2, nI_clamp (show k < 2 ^ 31 by omega), c_5, n_7, d_7, c_8_0, c_8_1, c_8_2, c_8_3, c_8_4, c_8_5]; done) | rfl), (by first | with_reducible rfl | (simp [oSel, T_cow, cowM, c_2, nI_clamp (show k < 2 ^ 31 by omega), c_5, n_7, d_7, c_8_0, c_8_1, c_8_2, c_8_3, c_8_4, c_8_5]; done) | rfl)⟩ dX4_cow_186
        by_cases c_8_7 : w = 7
        · -- case 7
          subst c_8_7
          refine lv_tableIn (tgt := 187) hx hb dX4_cow_41 (by decide) (by decide) rfl (by decide) ?_
          refine lv_aload_n hx hb dX4_cow_187 rfl (lv_at hl 0 rfl) ?_
          refine b_get (C := RX4) (T := TX4) (N := 16) (v := .ref (r 0)) hx hb hts in_X4 hown hK (b_at (k := 0) hP rfl) rfl 0 (by decide) q1807 (fun _ h9 => h9) rfl dX4_cow_188 ?_
          refine lv_iload_n hx hb dX4_cow_191 rfl (lv_at hl 1 rfl) ?_
          refine lv_bipush (v := 9) hx hb dX4_cow_192 (by decide) ?_
          refine b_calli (br := [[(a, moE r (upd i 7 0))], [((r 0), .inl (Γ.2.1 0, 523, .inl g))]]) (b_runS ⟨hx, hb, hml, hown, hts⟩ (mt_Mo_at l Γ _ k 9) (lw_S q1886 q1887 q73 q1888) rfl rfl 2 (by decide +kernel) ⟨(Nat.le_of_ble_eq_true rfl), (Nat.le_of_ble_eq_true rfl)⟩ (c_pre hP hD hS hA hK hE [] rfl rfl ro_nil) rfl hl.1 rfl (Nat.le_of_ble_eq_true rfl) dX4_cow_194 ⟨(Nat.le_of_ble_eq_true rfl), (Nat.le_of_ble_eq_true rfl)⟩) hP hD hS hA [] [0, 1] rfl rfl rfl (fun r_20 u_20 H locs hw_20 hP hD hS _ => ?_)
          obtain ⟨rfl, rfl⟩ := hw_20
          have hP : WP Γ [[(a, moE r (upd i 7 0))], [((r 0), .inl (Γ.2.1 0, 523, .inl g))]] H := hP
          have hD : WD A [[(a, moE r (upd i 7 0))], [((r 0), .inl (Γ.2.1 0, 523, .inl g))]] := hD
          refine b_iald hx hb hK (b_at (k := 1) hP rfl) (10 * k + 24) rfl (by omega) (by omega) dX4_cow_197 ?_
          exact b_iret hx hb hr hlocks hP hD hS (Nat.le_of_ble_eq_true rfl) (Nat.le_of_ble_eq_true rfl) ⟨(by first | with_reducible rfl | (simp [oSel, T_cow, cowM, c_2, nI_clamp (show k < 2 ^ 31 by omega), c_5, n_7, d_7, c_8_0, c_8_1, c_8_2, c_8_3, c_8_4, c_8_5, c_8_6]; done) | rfl), (by first | with_reducible rfl | (simp [oSel, T_cow, cowM, c_2, nI_clamp (show k < 2 ^ 31 by omega), c_5, n_7, d_7, c_8_0, c_8_1, c_8_2, c_8_3, c_8_4, c_8_5, c_8_6]; done) | rfl)⟩ dX4_cow_198
        refine lv_tableOut (tgt := 199) hx hb dX4_cow_41 (sw_out 0 7 (by decide) (fun j h1 h2 => by rcases (show j = 0 ∨ j = 1 ∨ j = 2 ∨ j = 3 ∨ j = 4 ∨ j = 5 ∨ j = 6 ∨ j = 7 by omega) with rfl | rfl | rfl | rfl | rfl | rfl | rfl | rfl <;> assumption)) (by decide) ?_
        refine lv_aload_n hx hb dX4_cow_199 rfl (lv_at hl 0 rfl) ?_
        refine lv_iload_n hx hb dX4_cow_200 rfl (lv_at hl 1 rfl) ?_
        refine b_calli (br := []) (b_runV ⟨hx, hb, hml, hown, hts⟩ (mt_Mo_isMilked l Γ _ a r (upd i 7 0) g k (by omega)) (lw_V q1928 q1930 qs38 q73 q1931) rfl rfl 1 (by decide +kernel) ⟨(Nat.le_of_ble_eq_true rfl), (Nat.le_of_ble_eq_true rfl)⟩ (c_pre hP hD hS hA hK hE [0, 1] rfl rfl ro_nil) (recv_at (q := (RX4, TX4, 16)) hK (b_at (k := 0) hP rfl) rfl) rfl hl.1 rfl (Nat.le_of_ble_eq_true rfl) dX4_cow_201 ⟨(Nat.le_of_ble_eq_true rfl), (Nat.le_of_ble_eq_true rfl)⟩) hP hD hS hA [0, 1] [] rfl rfl rfl (fun r_21 u_21 H locs hw_21 hP hD hS _ => ?_)
        obtain ⟨rfl, rfl⟩ := hw_21
        have hP : WP Γ [[(a, moE r (upd i 7 0))], [((r 0), .inl (Γ.2.1 0, 523, .inl g))]] H := hP
        have hD : WD A [[(a, moE r (upd i 7 0))], [((r 0), .inl (Γ.2.1 0, 523, .inl g))]] := hD
        refine lv_if_eq (tgt := 220) hx hb dX4_cow_204 (by decide) (fun c_22 => ?_) (fun c_22 => ?_)
        · -- 204 taken
          refine lv_iconst (v := 0) hx hb dX4_cow_220 (by decide) ?_
          exact b_iret hx hb hr hlocks hP hD hS (Nat.le_of_ble_eq_true rfl) (Nat.le_of_ble_eq_true rfl) ⟨(by first | with_reducible rfl | (simp [oSel, T_cow, cowM, c_2, nI_clamp (show k < 2 ^ 31 by omega), c_5, n_7, d_7, c_8_0, c_8_1, c_8_2, c_8_3, c_8_4, c_8_5, c_8_6, c_8_7, c_22]; done) | rfl), (by first | with_reducible rfl | (simp [oSel, T_cow, cowM, c_2, nI_clamp (show k < 2 ^ 31 by omega), c_5, n_7, d_7, c_8_0, c_8_1, c_8_2, c_8_3, c_8_4, c_8_5, c_8_6, c_8_7, c_22]; done) | rfl)⟩ dX4_cow_221
        · -- 204 not taken
          refine lv_aload_n hx hb dX4_cow_207 rfl (lv_at hl 0 rfl) ?_
          refine lv_iload_n hx hb dX4_cow_208 rfl (lv_at hl 1 rfl) ?_
          refine lv_aload_n hx hb dX4_cow_209 rfl (lv_at hl 0 rfl) ?_
          refine lv_iload_n hx hb dX4_cow_210 rfl (lv_at hl 1 rfl) ?_
          refine b_calli (br := []) (b_runV ⟨hx, hb, hml, hown, hts⟩ (mt_Mo_inMilk l Γ _ a r (upd i 7 0) g k (by omega)) (lw_V q1932 q1934 qs39 q73 q1935) rfl rfl 1 (by decide +kernel) ⟨(Nat.le_of_ble_eq_true rfl), (Nat.le_of_ble_eq_true rfl)⟩ (c_pre hP hD hS hA hK hE [0, 1] rfl rfl ro_nil) (recv_at (q := (RX4, TX4, 16)) hK (b_at (k := 0) hP rfl) rfl) rfl hl.1 rfl (Nat.le_of_ble_eq_true rfl) dX4_cow_211 ⟨(Nat.le_of_ble_eq_true rfl), (Nat.le_of_ble_eq_true rfl)⟩) hP hD hS hA [0, 1] [] rfl rfl rfl (fun r_23 u_23 H locs hw_23 hP hD hS _ => ?_)
          obtain ⟨rfl, rfl⟩ := hw_23
          have hP : WP Γ [[(a, moE r (upd i 7 0))], [((r 0), .inl (Γ.2.1 0, 523, .inl g))]] H := hP
          have hD : WD A [[(a, moE r (upd i 7 0))], [((r 0), .inl (Γ.2.1 0, 523, .inl g))]] := hD
          refine b_calli (br := []) (b_runV ⟨hx, hb, hml, hown, hts⟩ (mt_Mo_litres l Γ _ a r (upd i 7 0) g k (g 0 - g (10 * k + 20)) (by omega)) (lw_V q1996 q1998 qs47 q73 q1999) rfl rfl 2 (by decide +kernel) ⟨(Nat.le_of_ble_eq_true rfl), (Nat.le_of_ble_eq_true rfl)⟩ (c_pre hP hD hS hA hK hE [0, 1] rfl rfl ro_nil) (recv_at (q := (RX4, TX4, 16)) hK (b_at (k := 0) hP rfl) rfl) rfl hl.1 rfl (Nat.le_of_ble_eq_true rfl) dX4_cow_214 ⟨(Nat.le_of_ble_eq_true rfl), (Nat.le_of_ble_eq_true rfl)⟩) hP hD hS hA [0, 1] [] rfl rfl rfl (fun r_24 u_24 H locs hw_24 hP hD hS _ => ?_)
          obtain ⟨rfl, rfl⟩ := hw_24
          have hP : WP Γ [[(a, moE r (upd i 7 0))], [((r 0), .inl (Γ.2.1 0, 523, .inl g))]] H := hP
          have hD : WD A [[(a, moE r (upd i 7 0))], [((r 0), .inl (Γ.2.1 0, 523, .inl g))]] := hD
          refine lv_goto (tgt := 221) hx hb dX4_cow_217 (by decide) ?_
          exact b_iret hx hb hr hlocks hP hD hS (Nat.le_of_ble_eq_true rfl) (Nat.le_of_ble_eq_true rfl) ⟨(by first | with_reducible rfl | (simp [oSel, T_cow, cowM, c_2, nI_clamp (show k < 2 ^ 31 by omega), c_5, n_7, d_7, c_8_0, c_8_1, c_8_2, c_8_3, c_8_4, c_8_5, c_8_6, c_8_7, c_22]; done) | rfl), (by first | with_reducible rfl | (simp [oSel, T_cow, cowM, c_2, nI_clamp (show k < 2 ^ 31 by omega), c_5, n_7, d_7, c_8_0, c_8_1, c_8_2, c_8_3, c_8_4, c_8_5, c_8_6, c_8_7, c_22]; done) | rfl)⟩ dX4_cow_221
      · -- 35 not taken
        have n_7 : ¬ (0 ≤ 0) := fun h => c_7 ((nI_leI (a := 0) (b := 0) (by omega) (by omega)).mpr h)
        have d_7 := Int32.not_le.mp c_7
        exact absurd n_7 (by omega)
set_option maxHeartbeats 4000000 in
set_option maxRecDepth 100000 in
theorem mt_Mo_curve (l : Launch) (Γ : GE) (sz : Nat) (a : Nat) (r : Nat → Nat) (i : Nat → Int32) (g : Nat → Int32) (c : Int32) (w : Int32) (n : Nat) (hg7 : g 7 = nI n) (hn : n ≤ 8) : KM l yX4_curve cX4_curve 3 (some FieldType.int) Γ 2 46 0 0 [.ref a, .int c, .int w] [[(a, moE r i)], [((r 0), .inl (Γ.2.1 0, 523, .inl g))]] [] sz (Qi Γ (fun r_ u_ => r_ = (oSel (T_cow g c w 400) (moLit g c.toNatClampNeg w) 0) ∧ u_ = [[(a, moE r (upd i 7 (T_cow g c w 400)))], [((r 0), .inl (Γ.2.1 0, 523, .inl g))]])) := by
  refine K_intro (by decide) (Nat.le_of_ble_eq_true rfl) ?_
  intro pr_ ev_ s mi_ below meth cd_ A ls hx hb hr hml hown hts hlocks hname hK hE hRo hP hD hA hS hsz hl
  have hl : lv_has ls 3 [(0, .ref a), (1, .int c), (2, .int w)] := hl
  have hown : s.vm.findClass RX4 = some mi_.cls := hown
  refine lv_aload_n hx hb dX4_curve_0 rfl (lv_at hl 0 rfl) ?_
  refine lv_aload_n hx hb dX4_curve_1 rfl (lv_at hl 0 rfl) ?_
  refine lv_iload_n hx hb dX4_curve_2 rfl (lv_at hl 1 rfl) ?_
  refine b_calli (br := []) (b_runV ⟨hx, hb, hml, hown, hts⟩ (mt_Mo_isCow l Γ _ a r i g c) (lw_V q1920 q1922 qs36 q73 q1923) rfl rfl 1 (by decide +kernel) ⟨(Nat.le_of_ble_eq_true rfl), (Nat.le_of_ble_eq_true rfl)⟩ (c_pre hP hD hS hA hK hE [0, 1] rfl rfl ro_nil) (recv_at (q := (RX4, TX4, 16)) hK (b_at (k := 0) hP rfl) rfl) rfl hl.1 rfl (Nat.le_of_ble_eq_true rfl) dX4_curve_3 ⟨(Nat.le_of_ble_eq_true rfl), (Nat.le_of_ble_eq_true rfl)⟩) hP hD hS hA [0, 1] [] rfl rfl rfl (fun r_1 u_1 H locs hw_1 hP hD hS _ => ?_)
  obtain ⟨rfl, rfl⟩ := hw_1
  have hP : WP Γ [[(a, moE r i)], [((r 0), .inl (Γ.2.1 0, 523, .inl g))]] H := hP
  have hD : WD A [[(a, moE r i)], [((r 0), .inl (Γ.2.1 0, 523, .inl g))]] := hD
  refine lv_if_eq (tgt := 28) hx hb dX4_curve_6 (by decide) (fun c_2 => ?_) (fun c_2 => ?_)
  · -- 6 taken
    refine lv_iconst (v := 1) hx hb dX4_curve_28 (by decide) ?_
    refine b_put (C := RX4) (T := TX4) (N := 16) (ty := .int) (v := .int 1) hx hb hts in_X4 tyX4_ok nmX4 hown hK hP hD hS 0 rfl rfl 7 (by decide) q1814 (fun _ h9 => h9) rfl (by decide +kernel) rfl rfl (Nat.le_of_ble_eq_true rfl) dX4_curve_29 (fun H locs hP hD hS => ?_)
    have hP : WP Γ [[(a, moE r (upd i 7 1))], [((r 0), .inl (Γ.2.1 0, 523, .inl g))]] H := hP
    have hD : WD A [[(a, moE r (upd i 7 1))], [((r 0), .inl (Γ.2.1 0, 523, .inl g))]] := hD
    refine lv_aload_n hx hb dX4_curve_32 rfl (lv_at hl 0 rfl) ?_
    refine b_get (C := RX4) (T := TX4) (N := 16) (v := .int 1) hx hb hts in_X4 hown hK (b_at (k := 0) hP rfl) rfl 7 (by decide) q1814 (fun _ h9 => h9) rfl dX4_curve_33 ?_
    refine lv_if_le (tgt := 43) hx hb dX4_curve_36 (by decide) (fun c_3 => ?_) (fun c_3 => ?_)
    · -- 36 taken
      have n_3 : 1 ≤ 0 := (nI_leI (by omega) (by omega)).mp (show nI 1 ≤ nI 0 from c_3)
      have d_3 := Int32.not_lt.mpr c_3
      exact absurd n_3 (by omega)
    · -- 36 not taken
      have n_3 : ¬ (1 ≤ 0) := fun h => c_3 ((nI_leI (a := 1) (b := 0) (by omega) (by omega)).mpr h)
      have d_3 := Int32.not_le.mp c_3
      refine lv_iconst (v := 0) hx hb dX4_curve_39 (by decide) ?_
      refine lv_goto (tgt := 49) hx hb dX4_curve_40 (by decide) ?_
      exact b_iret hx hb hr hlocks hP hD hS (Nat.le_of_ble_eq_true rfl) (Nat.le_of_ble_eq_true rfl) ⟨(by first | with_reducible rfl | (simp [oSel, T_cow, c_2, n_3, d_3]; done) | rfl), (by first | with_reducible rfl | (simp [oSel, T_cow, c_2, n_3, d_3]; done) | rfl)⟩ dX4_curve_49
  · -- 6 not taken
    obtain ⟨k, hk, rfl⟩ := inR_nat hg7 (by omega) c_2
    refine lv_iload_n hx hb dX4_curve_9 rfl (lv_at hl 2 rfl) ?_
    refine lv_iconst (v := 0) hx hb dX4_curve_10 (by decide) ?_
    refine lv_sipush (v := 400) hx hb dX4_curve_11 (by decide) ?_
    refine b_calli (br := [[(a, moE r i)], [((r 0), .inl (Γ.2.1 0, 523, .inl g))]]) (b_runS ⟨hx, hb, hml, hown, hts⟩ (mt_Mo_in l Γ _ w 0 400) (lw_S q1879 q1880 q73 q1881) rfl rfl 3 (by decide +kernel) ⟨(Nat.le_of_ble_eq_true rfl), (Nat.le_of_ble_eq_true rfl)⟩ (c_pre hP hD hS hA hK hE [] rfl rfl ro_nil) rfl hl.1 rfl (Nat.le_of_ble_eq_true rfl) dX4_curve_14 ⟨(Nat.le_of_ble_eq_true rfl), (Nat.le_of_ble_eq_true rfl)⟩) hP hD hS hA [] [0, 1] rfl rfl rfl (fun r_4 u_4 H locs hw_4 hP hD hS _ => ?_)
    obtain ⟨rfl, rfl⟩ := hw_4
    have hP : WP Γ [[(a, moE r i)], [((r 0), .inl (Γ.2.1 0, 523, .inl g))]] H := hP
    have hD : WD A [[(a, moE r i)], [((r 0), .inl (Γ.2.1 0, 523, .inl g))]] := hD
    refine lv_if_eq (tgt := 24) hx hb dX4_curve_17 (by decide) (fun c_5 => ?_) (fun c_5 => ?_)
    · -- 17 taken
      refine lv_iconst (v := 2) hx hb dX4_curve_24 (by decide) ?_
      refine lv_goto (tgt := 29) hx hb dX4_curve_25 (by decide) ?_
      refine b_put (C := RX4) (T := TX4) (N := 16) (ty := .int) (v := .int 2) hx hb hts in_X4 tyX4_ok nmX4 hown hK hP hD hS 0 rfl rfl 7 (by decide) q1814 (fun _ h9 => h9) rfl (by decide +kernel) rfl rfl (Nat.le_of_ble_eq_true rfl) dX4_curve_29 (fun H locs hP hD hS => ?_)
      have hP : WP Γ [[(a, moE r (upd i 7 2))], [((r 0), .inl (Γ.2.1 0, 523, .inl g))]] H := hP
      have hD : WD A [[(a, moE r (upd i 7 2))], [((r 0), .inl (Γ.2.1 0, 523, .inl g))]] := hD
      refine lv_aload_n hx hb dX4_curve_32 rfl (lv_at hl 0 rfl) ?_
      refine b_get (C := RX4) (T := TX4) (N := 16) (v := .int 2) hx hb hts in_X4 hown hK (b_at (k := 0) hP rfl) rfl 7 (by decide) q1814 (fun _ h9 => h9) rfl dX4_curve_33 ?_
      refine lv_if_le (tgt := 43) hx hb dX4_curve_36 (by decide) (fun c_6 => ?_) (fun c_6 => ?_)
      · -- 36 taken
        have n_6 : 2 ≤ 0 := (nI_leI (by omega) (by omega)).mp (show nI 2 ≤ nI 0 from c_6)
        have d_6 := Int32.not_lt.mpr c_6
        exact absurd n_6 (by omega)
      · -- 36 not taken
        have n_6 : ¬ (2 ≤ 0) := fun h => c_6 ((nI_leI (a := 2) (b := 0) (by omega) (by omega)).mpr h)
        have d_6 := Int32.not_le.mp c_6
        refine lv_iconst (v := 0) hx hb dX4_curve_39 (by decide) ?_
        refine lv_goto (tgt := 49) hx hb dX4_curve_40 (by decide) ?_
        exact b_iret hx hb hr hlocks hP hD hS (Nat.le_of_ble_eq_true rfl) (Nat.le_of_ble_eq_true rfl) ⟨(by first | with_reducible rfl | (simp [oSel, T_cow, c_2, nI_clamp (show k < 2 ^ 31 by omega), c_5, n_6, d_6]; done) | rfl), (by first | with_reducible rfl | (simp [oSel, T_cow, c_2, nI_clamp (show k < 2 ^ 31 by omega), c_5, n_6, d_6]; done) | rfl)⟩ dX4_curve_49
    · -- 17 not taken
      refine lv_iconst (v := 0) hx hb dX4_curve_20 (by decide) ?_
      refine lv_goto (tgt := 29) hx hb dX4_curve_21 (by decide) ?_
      refine b_put (C := RX4) (T := TX4) (N := 16) (ty := .int) (v := .int 0) hx hb hts in_X4 tyX4_ok nmX4 hown hK hP hD hS 0 rfl rfl 7 (by decide) q1814 (fun _ h9 => h9) rfl (by decide +kernel) rfl rfl (Nat.le_of_ble_eq_true rfl) dX4_curve_29 (fun H locs hP hD hS => ?_)
      have hP : WP Γ [[(a, moE r (upd i 7 0))], [((r 0), .inl (Γ.2.1 0, 523, .inl g))]] H := hP
      have hD : WD A [[(a, moE r (upd i 7 0))], [((r 0), .inl (Γ.2.1 0, 523, .inl g))]] := hD
      refine lv_aload_n hx hb dX4_curve_32 rfl (lv_at hl 0 rfl) ?_
      refine b_get (C := RX4) (T := TX4) (N := 16) (v := .int 0) hx hb hts in_X4 hown hK (b_at (k := 0) hP rfl) rfl 7 (by decide) q1814 (fun _ h9 => h9) rfl dX4_curve_33 ?_
      refine lv_if_le (tgt := 43) hx hb dX4_curve_36 (by decide) (fun c_7 => ?_) (fun c_7 => ?_)
      · -- 36 taken
        have n_7 : 0 ≤ 0 := (nI_leI (by omega) (by omega)).mp (show nI 0 ≤ nI 0 from c_7)
        have d_7 := Int32.not_lt.mpr c_7
        refine lv_aload_n hx hb dX4_curve_43 rfl (lv_at hl 0 rfl) ?_
        refine lv_iload_n hx hb dX4_curve_44 rfl (lv_at hl 1 rfl) ?_
        refine lv_iload_n hx hb dX4_curve_45 rfl (lv_at hl 2 rfl) ?_
        refine b_calli (br := []) (b_runV ⟨hx, hb, hml, hown, hts⟩ (mt_Mo_litres l Γ _ a r (upd i 7 0) g k w (by omega)) (lw_V q1996 q1998 qs47 q73 q1999) rfl rfl 2 (by decide +kernel) ⟨(Nat.le_of_ble_eq_true rfl), (Nat.le_of_ble_eq_true rfl)⟩ (c_pre hP hD hS hA hK hE [0, 1] rfl rfl ro_nil) (recv_at (q := (RX4, TX4, 16)) hK (b_at (k := 0) hP rfl) rfl) rfl hl.1 rfl (Nat.le_of_ble_eq_true rfl) dX4_curve_46 ⟨(Nat.le_of_ble_eq_true rfl), (Nat.le_of_ble_eq_true rfl)⟩) hP hD hS hA [0, 1] [] rfl rfl rfl (fun r_8 u_8 H locs hw_8 hP hD hS _ => ?_)
        obtain ⟨rfl, rfl⟩ := hw_8
        have hP : WP Γ [[(a, moE r (upd i 7 0))], [((r 0), .inl (Γ.2.1 0, 523, .inl g))]] H := hP
        have hD : WD A [[(a, moE r (upd i 7 0))], [((r 0), .inl (Γ.2.1 0, 523, .inl g))]] := hD
        exact b_iret hx hb hr hlocks hP hD hS (Nat.le_of_ble_eq_true rfl) (Nat.le_of_ble_eq_true rfl) ⟨(by first | with_reducible rfl | (simp [oSel, T_cow, c_2, nI_clamp (show k < 2 ^ 31 by omega), c_5, n_7, d_7]; done) | rfl), (by first | with_reducible rfl | (simp [oSel, T_cow, c_2, nI_clamp (show k < 2 ^ 31 by omega), c_5, n_7, d_7]; done) | rfl)⟩ dX4_curve_49
      · -- 36 not taken
        have n_7 : ¬ (0 ≤ 0) := fun h => c_7 ((nI_leI (a := 0) (b := 0) (by omega) (by omega)).mpr h)
        have d_7 := Int32.not_le.mp c_7
        exact absurd n_7 (by omega)
set_option maxHeartbeats 4000000 in
set_option maxRecDepth 100000 in
theorem mt_Mo_dryDay (l : Launch) (Γ : GE) (sz : Nat) (a : Nat) (r : Nat → Nat) (i : Nat → Int32) (g : Nat → Int32) (c : Int32) (n : Nat) (hg7 : g 7 = nI n) (hn : n ≤ 8) : KM l yX4_dryDay cX4_dryDay 3 (some FieldType.int) Γ 2 43 0 0 [.ref a, .int c] [[(a, moE r i)], [((r 0), .inl (Γ.2.1 0, 523, .inl g))]] [] sz (Qi Γ (fun r_ u_ => r_ = (oSel (T_dry g c) (dryM g c.toNatClampNeg) 0) ∧ u_ = [[(a, moE r (upd i 7 (T_dry g c)))], [((r 0), .inl (Γ.2.1 0, 523, .inl g))]])) := by
  refine K_intro (by decide) (Nat.le_of_ble_eq_true rfl) ?_
  intro pr_ ev_ s mi_ below meth cd_ A ls hx hb hr hml hown hts hlocks hname hK hE hRo hP hD hA hS hsz hl
  have hl : lv_has ls 3 [(0, .ref a), (1, .int c)] := hl
  have hown : s.vm.findClass RX4 = some mi_.cls := hown
  refine lv_aload_n hx hb dX4_dryDay_0 rfl (lv_at hl 0 rfl) ?_
  refine lv_aload_n hx hb dX4_dryDay_1 rfl (lv_at hl 0 rfl) ?_
  refine lv_iload_n hx hb dX4_dryDay_2 rfl (lv_at hl 1 rfl) ?_
  refine b_calli (br := []) (b_runV ⟨hx, hb, hml, hown, hts⟩ (mt_Mo_isCow l Γ _ a r i g c) (lw_V q1920 q1922 qs36 q73 q1923) rfl rfl 1 (by decide +kernel) ⟨(Nat.le_of_ble_eq_true rfl), (Nat.le_of_ble_eq_true rfl)⟩ (c_pre hP hD hS hA hK hE [0, 1] rfl rfl ro_nil) (recv_at (q := (RX4, TX4, 16)) hK (b_at (k := 0) hP rfl) rfl) rfl hl.1 rfl (Nat.le_of_ble_eq_true rfl) dX4_dryDay_3 ⟨(Nat.le_of_ble_eq_true rfl), (Nat.le_of_ble_eq_true rfl)⟩) hP hD hS hA [0, 1] [] rfl rfl rfl (fun r_1 u_1 H locs hw_1 hP hD hS _ => ?_)
  obtain ⟨rfl, rfl⟩ := hw_1
  have hP : WP Γ [[(a, moE r i)], [((r 0), .inl (Γ.2.1 0, 523, .inl g))]] H := hP
  have hD : WD A [[(a, moE r i)], [((r 0), .inl (Γ.2.1 0, 523, .inl g))]] := hD
  refine lv_if_eq (tgt := 33) hx hb dX4_dryDay_6 (by decide) (fun c_2 => ?_) (fun c_2 => ?_)
  · -- 6 taken
    refine lv_iconst (v := 1) hx hb dX4_dryDay_33 (by decide) ?_
    refine b_put (C := RX4) (T := TX4) (N := 16) (ty := .int) (v := .int 1) hx hb hts in_X4 tyX4_ok nmX4 hown hK hP hD hS 0 rfl rfl 7 (by decide) q1814 (fun _ h9 => h9) rfl (by decide +kernel) rfl rfl (Nat.le_of_ble_eq_true rfl) dX4_dryDay_34 (fun H locs hP hD hS => ?_)
    have hP : WP Γ [[(a, moE r (upd i 7 1))], [((r 0), .inl (Γ.2.1 0, 523, .inl g))]] H := hP
    have hD : WD A [[(a, moE r (upd i 7 1))], [((r 0), .inl (Γ.2.1 0, 523, .inl g))]] := hD
    refine lv_aload_n hx hb dX4_dryDay_37 rfl (lv_at hl 0 rfl) ?_
    refine b_get (C := RX4) (T := TX4) (N := 16) (v := .int 1) hx hb hts in_X4 hown hK (b_at (k := 0) hP rfl) rfl 7 (by decide) q1814 (fun _ h9 => h9) rfl dX4_dryDay_38 ?_
    refine lv_if_le (tgt := 46) hx hb dX4_dryDay_41 (by decide) (fun c_3 => ?_) (fun c_3 => ?_)
    · -- 41 taken
      have n_3 : 1 ≤ 0 := (nI_leI (by omega) (by omega)).mp (show nI 1 ≤ nI 0 from c_3)
      have d_3 := Int32.not_lt.mpr c_3
      exact absurd n_3 (by omega)
    · -- 41 not taken
      have n_3 : ¬ (1 ≤ 0) := fun h => c_3 ((nI_leI (a := 1) (b := 0) (by omega) (by omega)).mpr h)
      have d_3 := Int32.not_le.mp c_3
      refine lv_iconst (v := 0) hx hb dX4_dryDay_44 (by decide) ?_
      exact b_iret hx hb hr hlocks hP hD hS (Nat.le_of_ble_eq_true rfl) (Nat.le_of_ble_eq_true rfl) ⟨(by first | with_reducible rfl | (simp [oSel, T_dry, dryM, c_2, n_3, d_3]; done) | rfl), (by first | with_reducible rfl | (simp [oSel, T_dry, dryM, c_2, n_3, d_3]; done) | rfl)⟩ dX4_dryDay_45
  · -- 6 not taken
    obtain ⟨k, hk, rfl⟩ := inR_nat hg7 (by omega) c_2
    refine lv_aload_n hx hb dX4_dryDay_9 rfl (lv_at hl 0 rfl) ?_
    refine lv_iload_n hx hb dX4_dryDay_10 rfl (lv_at hl 1 rfl) ?_
    refine b_calli (br := []) (b_runV ⟨hx, hb, hml, hown, hts⟩ (mt_Mo_isMilked l Γ _ a r i g k (by omega)) (lw_V q1928 q1930 qs38 q73 q1931) rfl rfl 1 (by decide +kernel) ⟨(Nat.le_of_ble_eq_true rfl), (Nat.le_of_ble_eq_true rfl)⟩ (c_pre hP hD hS hA hK hE [0, 1] rfl rfl ro_nil) (recv_at (q := (RX4, TX4, 16)) hK (b_at (k := 0) hP rfl) rfl) rfl hl.1 rfl (Nat.le_of_ble_eq_true rfl) dX4_dryDay_11 ⟨(Nat.le_of_ble_eq_true rfl), (Nat.le_of_ble_eq_true rfl)⟩) hP hD hS hA [0, 1] [] rfl rfl rfl (fun r_4 u_4 H locs hw_4 hP hD hS _ => ?_)
    obtain ⟨rfl, rfl⟩ := hw_4
    have hP : WP Γ [[(a, moE r i)], [((r 0), .inl (Γ.2.1 0, 523, .inl g))]] H := hP
    have hD : WD A [[(a, moE r i)], [((r 0), .inl (Γ.2.1 0, 523, .inl g))]] := hD
    refine lv_if_eq (tgt := 29) hx hb dX4_dryDay_14 (by decide) (fun c_5 => ?_) (fun c_5 => ?_)
    · -- 14 taken
      refine lv_iconst (v := 2) hx hb dX4_dryDay_29 (by decide) ?_
      refine lv_goto (tgt := 34) hx hb dX4_dryDay_30 (by decide) ?_
      refine b_put (C := RX4) (T := TX4) (N := 16) (ty := .int) (v := .int 2) hx hb hts in_X4 tyX4_ok nmX4 hown hK hP hD hS 0 rfl rfl 7 (by decide) q1814 (fun _ h9 => h9) rfl (by decide +kernel) rfl rfl (Nat.le_of_ble_eq_true rfl) dX4_dryDay_34 (fun H locs hP hD hS => ?_)
      have hP : WP Γ [[(a, moE r (upd i 7 2))], [((r 0), .inl (Γ.2.1 0, 523, .inl g))]] H := hP
      have hD : WD A [[(a, moE r (upd i 7 2))], [((r 0), .inl (Γ.2.1 0, 523, .inl g))]] := hD
      refine lv_aload_n hx hb dX4_dryDay_37 rfl (lv_at hl 0 rfl) ?_
      refine b_get (C := RX4) (T := TX4) (N := 16) (v := .int 2) hx hb hts in_X4 hown hK (b_at (k := 0) hP rfl) rfl 7 (by decide) q1814 (fun _ h9 => h9) rfl dX4_dryDay_38 ?_
      refine lv_if_le (tgt := 46) hx hb dX4_dryDay_41 (by decide) (fun c_6 => ?_) (fun c_6 => ?_)
      · -- 41 taken
        have n_6 : 2 ≤ 0 := (nI_leI (by omega) (by omega)).mp (show nI 2 ≤ nI 0 from c_6)
        have d_6 := Int32.not_lt.mpr c_6
        exact absurd n_6 (by omega)
      · -- 41 not taken
        have n_6 : ¬ (2 ≤ 0) := fun h => c_6 ((nI_leI (a := 2) (b := 0) (by omega) (by omega)).mpr h)
        have d_6 := Int32.not_le.mp c_6
        refine lv_iconst (v := 0) hx hb dX4_dryDay_44 (by decide) ?_
        exact b_iret hx hb hr hlocks hP hD hS (Nat.le_of_ble_eq_true rfl) (Nat.le_of_ble_eq_true rfl) ⟨(by first | with_reducible rfl | (simp [oSel, T_dry, dryM, c_2, nI_clamp (show k < 2 ^ 31 by omega), c_5, n_6, d_6]; done) | rfl), (by first | with_reducible rfl | (simp [oSel, T_dry, dryM, c_2, nI_clamp (show k < 2 ^ 31 by omega), c_5, n_6, d_6]; done) | rfl)⟩ dX4_dryDay_45
    · -- 14 not taken
      refine lv_aload_n hx hb dX4_dryDay_17 rfl (lv_at hl 0 rfl) ?_
      refine lv_iload_n hx hb dX4_dryDay_18 rfl (lv_at hl 1 rfl) ?_
      refine b_calli (br := []) (b_runV ⟨hx, hb, hml, hown, hts⟩ (mt_Mo_isCarrying l Γ _ a r i g k (by omega)) (lw_V q1924 q1926 qs37 q73 q1927) rfl rfl 1 (by decide +kernel) ⟨(Nat.le_of_ble_eq_true rfl), (Nat.le_of_ble_eq_true rfl)⟩ (c_pre hP hD hS hA hK hE [0, 1] rfl rfl ro_nil) (recv_at (q := (RX4, TX4, 16)) hK (b_at (k := 0) hP rfl) rfl) rfl hl.1 rfl (Nat.le_of_ble_eq_true rfl) dX4_dryDay_19 ⟨(Nat.le_of_ble_eq_true rfl), (Nat.le_of_ble_eq_true rfl)⟩) hP hD hS hA [0, 1] [] rfl rfl rfl (fun r_7 u_7 H locs hw_7 hP hD hS _ => ?_)
      obtain ⟨rfl, rfl⟩ := hw_7
      have hP : WP Γ [[(a, moE r i)], [((r 0), .inl (Γ.2.1 0, 523, .inl g))]] H := hP
      have hD : WD A [[(a, moE r i)], [((r 0), .inl (Γ.2.1 0, 523, .inl g))]] := hD
      refine lv_if_eq (tgt := 29) hx hb dX4_dryDay_22 (by decide) (fun c_8 => ?_) (fun c_8 => ?_)
      · -- 22 taken
        refine lv_iconst (v := 2) hx hb dX4_dryDay_29 (by decide) ?_
        refine lv_goto (tgt := 34) hx hb dX4_dryDay_30 (by decide) ?_
        refine b_put (C := RX4) (T := TX4) (N := 16) (ty := .int) (v := .int 2) hx hb hts in_X4 tyX4_ok nmX4 hown hK hP hD hS 0 rfl rfl 7 (by decide) q1814 (fun _ h9 => h9) rfl (by decide +kernel) rfl rfl (Nat.le_of_ble_eq_true rfl) dX4_dryDay_34 (fun H locs hP hD hS => ?_)
        have hP : WP Γ [[(a, moE r (upd i 7 2))], [((r 0), .inl (Γ.2.1 0, 523, .inl g))]] H := hP
        have hD : WD A [[(a, moE r (upd i 7 2))], [((r 0), .inl (Γ.2.1 0, 523, .inl g))]] := hD
        refine lv_aload_n hx hb dX4_dryDay_37 rfl (lv_at hl 0 rfl) ?_
        refine b_get (C := RX4) (T := TX4) (N := 16) (v := .int 2) hx hb hts in_X4 hown hK (b_at (k := 0) hP rfl) rfl 7 (by decide) q1814 (fun _ h9 => h9) rfl dX4_dryDay_38 ?_
        refine lv_if_le (tgt := 46) hx hb dX4_dryDay_41 (by decide) (fun c_9 => ?_) (fun c_9 => ?_)
        · -- 41 taken
          have n_9 : 2 ≤ 0 := (nI_leI (by omega) (by omega)).mp (show nI 2 ≤ nI 0 from c_9)
          have d_9 := Int32.not_lt.mpr c_9
          exact absurd n_9 (by omega)
        · -- 41 not taken
          have n_9 : ¬ (2 ≤ 0) := fun h => c_9 ((nI_leI (a := 2) (b := 0) (by omega) (by omega)).mpr h)
          have d_9 := Int32.not_le.mp c_9
          refine lv_iconst (v := 0) hx hb dX4_dryDay_44 (by decide) ?_
          exact b_iret hx hb hr hlocks hP hD hS (Nat.le_of_ble_eq_true rfl) (Nat.le_of_ble_eq_true rfl) ⟨(by first | with_reducible rfl | (simp [oSel, T_dry, dryM, c_2, nI_clamp (show k < 2 ^ 31 by omega), c_5, c_8, n_9, d_9]; done) | rfl), (by first | with_reducible rfl | (simp [oSel, T_dry, dryM, c_2, nI_clamp (show k < 2 ^ 31 by omega), c_5, c_8, n_9, d_9]; done) | rfl)⟩ dX4_dryDay_45
      · -- 22 not taken
        refine lv_iconst (v := 0) hx hb dX4_dryDay_25 (by decide) ?_
        refine lv_goto (tgt := 34) hx hb dX4_dryDay_26 (by decide) ?_
        refine b_put (C := RX4) (T := TX4) (N := 16) (ty := .int) (v := .int 0) hx hb hts in_X4 tyX4_ok nmX4 hown hK hP hD hS 0 rfl rfl 7 (by decide) q1814 (fun _ h9 => h9) rfl (by decide +kernel) rfl rfl (Nat.le_of_ble_eq_true rfl) dX4_dryDay_34 (fun H locs hP hD hS => ?_)
        have hP : WP Γ [[(a, moE r (upd i 7 0))], [((r 0), .inl (Γ.2.1 0, 523, .inl g))]] H := hP
        have hD : WD A [[(a, moE r (upd i 7 0))], [((r 0), .inl (Γ.2.1 0, 523, .inl g))]] := hD
        refine lv_aload_n hx hb dX4_dryDay_37 rfl (lv_at hl 0 rfl) ?_
        refine b_get (C := RX4) (T := TX4) (N := 16) (v := .int 0) hx hb hts in_X4 hown hK (b_at (k := 0) hP rfl) rfl 7 (by decide) q1814 (fun _ h9 => h9) rfl dX4_dryDay_38 ?_
        refine lv_if_le (tgt := 46) hx hb dX4_dryDay_41 (by decide) (fun c_10 => ?_) (fun c_10 => ?_)
        · -- 41 taken
          have n_10 : 0 ≤ 0 := (nI_leI (by omega) (by omega)).mp (show nI 0 ≤ nI 0 from c_10)
          have d_10 := Int32.not_lt.mpr c_10
          refine lv_aload_n hx hb dX4_dryDay_46 rfl (lv_at hl 0 rfl) ?_
          refine b_get (C := RX4) (T := TX4) (N := 16) (v := .ref (r 0)) hx hb hts in_X4 hown hK (b_at (k := 0) hP rfl) rfl 0 (by decide) q1807 (fun _ h9 => h9) rfl dX4_dryDay_47 ?_
          refine lv_iload_n hx hb dX4_dryDay_50 rfl (lv_at hl 1 rfl) ?_
          refine lv_bipush (v := 6) hx hb dX4_dryDay_51 (by decide) ?_
          refine b_calli (br := [[(a, moE r (upd i 7 0))], [((r 0), .inl (Γ.2.1 0, 523, .inl g))]]) (b_runS ⟨hx, hb, hml, hown, hts⟩ (mt_Mo_at l Γ _ k 6) (lw_S q1886 q1887 q73 q1888) rfl rfl 2 (by decide +kernel) ⟨(Nat.le_of_ble_eq_true rfl), (Nat.le_of_ble_eq_true rfl)⟩ (c_pre hP hD hS hA hK hE [] rfl rfl ro_nil) rfl hl.1 rfl (Nat.le_of_ble_eq_true rfl) dX4_dryDay_53 ⟨(Nat.le_of_ble_eq_true rfl), (Nat.le_of_ble_eq_true rfl)⟩) hP hD hS hA [] [0, 1] rfl rfl rfl (fun r_11 u_11 H locs hw_11 hP hD hS _ => ?_)
          obtain ⟨rfl, rfl⟩ := hw_11
          have hP : WP Γ [[(a, moE r (upd i 7 0))], [((r 0), .inl (Γ.2.1 0, 523, .inl g))]] H := hP
          have hD : WD A [[(a, moE r (upd i 7 0))], [((r 0), .inl (Γ.2.1 0, 523, .inl g))]] := hD
          refine b_iald hx hb hK (b_at (k := 1) hP rfl) (10 * k + 21) rfl (by omega) (by omega) dX4_dryDay_56 ?_
          refine lv_aload_n hx hb dX4_dryDay_57 rfl (lv_at hl 0 rfl) ?_
          refine b_get (C := RX4) (T := TX4) (N := 16) (v := .ref (r 0)) hx hb hts in_X4 hown hK (b_at (k := 0) hP rfl) rfl 0 (by decide) q1807 (fun _ h9 => h9) rfl dX4_dryDay_58 ?_
          refine lv_iconst (v := 2) hx hb dX4_dryDay_61 (by decide) ?_
          refine b_iald hx hb hK (b_at (k := 1) hP rfl) 2 rfl (by omega) (by omega) dX4_dryDay_62 ?_
          refine lv_isub hx hb dX4_dryDay_63 ?_
          refine lv_istore_n (lv' := [(2, .int ((g (10 * k + 21)) - (g 2))), (0, .ref a), (1, .int (nI k))]) hx hb dX4_dryDay_64 rfl hl (by decide) rfl (fun ls hl => ?_)
          refine lv_iload_n hx hb dX4_dryDay_65 rfl (lv_at hl 0 rfl) ?_
          refine lv_aload_n hx hb dX4_dryDay_66 rfl (lv_at hl 1 rfl) ?_
          refine b_get (C := RX4) (T := TX4) (N := 16) (v := .ref (r 0)) hx hb hts in_X4 hown hK (b_at (k := 0) hP rfl) rfl 0 (by decide) q1807 (fun _ h9 => h9) rfl dX4_dryDay_67 ?_
          refine lv_iconst (v := 0) hx hb dX4_dryDay_70 (by decide) ?_
          refine b_iald hx hb hK (b_at (k := 1) hP rfl) 0 rfl (by omega) (by omega) dX4_dryDay_71 ?_
          refine lv_icmp_le (tgt := 79) hx hb dX4_dryDay_72 (by decide) (fun c_12 => ?_) (fun c_12 => ?_)
          · -- 72 taken
            have d_12 := Int32.not_lt.mpr c_12
            refine lv_aload_n hx hb dX4_dryDay_79 rfl (lv_at hl 1 rfl) ?_
            refine b_get (C := RX4) (T := TX4) (N := 16) (v := .ref (r 0)) hx hb hts in_X4 hown hK (b_at (k := 0) hP rfl) rfl 0 (by decide) q1807 (fun _ h9 => h9) rfl dX4_dryDay_80 ?_
            refine lv_iconst (v := 0) hx hb dX4_dryDay_83 (by decide) ?_
            refine b_iald hx hb hK (b_at (k := 1) hP rfl) 0 rfl (by omega) (by omega) dX4_dryDay_84 ?_
            exact b_iret hx hb hr hlocks hP hD hS (Nat.le_of_ble_eq_true rfl) (Nat.le_of_ble_eq_true rfl) ⟨(by first | with_reducible rfl | (simp [oSel, T_dry, dryM, c_2, nI_clamp (show k < 2 ^ 31 by omega), c_5, c_8, n_10, d_10, c_12, d_12]; done) | rfl), (by first | with_reducible rfl | (simp [oSel, T_dry, dryM, c_2, nI_clamp (show k < 2 ^ 31 by omega), c_5, c_8, n_10, d_10, c_12, d_12]; done) | rfl)⟩ dX4_dryDay_85
          · -- 72 not taken
            have d_12 := Int32.not_le.mp c_12
            refine lv_iload_n hx hb dX4_dryDay_75 rfl (lv_at hl 0 rfl) ?_
            refine lv_goto (tgt := 85) hx hb dX4_dryDay_76 (by decide) ?_
            exact b_iret hx hb hr hlocks hP hD hS (Nat.le_of_ble_eq_true rfl) (Nat.le_of_ble_eq_true rfl) ⟨(by first | with_reducible rfl | (simp [oSel, T_dry, dryM, c_2, nI_clamp (show k < 2 ^ 31 by omega), c_5, c_8, n_10, d_10, c_12, d_12]; done) | rfl), (by first | with_reducible rfl | (simp [oSel, T_dry, dryM, c_2, nI_clamp (show k < 2 ^ 31 by omega), c_5, c_8, n_10, d_10, c_12, d_12]; done) | rfl)⟩ dX4_dryDay_85
        · -- 41 not taken
          have n_10 : ¬ (0 ≤ 0) := fun h => c_10 ((nI_leI (a := 0) (b := 0) (by omega) (by omega)).mpr h)
          have d_10 := Int32.not_le.mp c_10
          exact absurd n_10 (by omega)
set_option maxHeartbeats 4000000 in
set_option maxRecDepth 100000 in
theorem mt_Mo_tank (l : Launch) (Γ : GE) (sz : Nat) (a : Nat) (r : Nat → Nat) (i : Nat → Int32) (g : Nat → Int32) (w : Int32)  : KM l yX4_tank cX4_tank 2 (some FieldType.int) Γ 1 22 0 0 [.ref a, .int w] [[(a, moE r i)], [((r 0), .inl (Γ.2.1 0, 523, .inl g))]] [] sz (Qi Γ (fun r_ u_ => r_ = (oSel (T_rng w 3) (tankM g w) 0) ∧ u_ = [[(a, moE r (upd i 7 (T_rng w 3)))], [((r 0), .inl (Γ.2.1 0, 523, .inl g))]])) := by
  refine K_intro (by decide) (Nat.le_of_ble_eq_true rfl) ?_
  intro pr_ ev_ s mi_ below meth cd_ A ls hx hb hr hml hown hts hlocks hname hK hE hRo hP hD hA hS hsz hl
  have hl : lv_has ls 2 [(0, .ref a), (1, .int w)] := hl
  have hown : s.vm.findClass RX4 = some mi_.cls := hown
  refine lv_aload_n hx hb dX4_tank_0 rfl (lv_at hl 0 rfl) ?_
  refine lv_iload_n hx hb dX4_tank_1 rfl (lv_at hl 1 rfl) ?_
  refine lv_iconst (v := 0) hx hb dX4_tank_2 (by decide) ?_
  refine lv_iconst (v := 3) hx hb dX4_tank_3 (by decide) ?_
  refine b_calli (br := [[(a, moE r i)], [((r 0), .inl (Γ.2.1 0, 523, .inl g))]]) (b_runS ⟨hx, hb, hml, hown, hts⟩ (mt_Mo_in l Γ _ w 0 3) (lw_S q1879 q1880 q73 q1881) rfl rfl 3 (by decide +kernel) ⟨(Nat.le_of_ble_eq_true rfl), (Nat.le_of_ble_eq_true rfl)⟩ (c_pre hP hD hS hA hK hE [] rfl rfl ro_nil) rfl hl.1 rfl (Nat.le_of_ble_eq_true rfl) dX4_tank_4 ⟨(Nat.le_of_ble_eq_true rfl), (Nat.le_of_ble_eq_true rfl)⟩) hP hD hS hA [] [0, 1] rfl rfl rfl (fun r_1 u_1 H locs hw_1 hP hD hS _ => ?_)
  obtain ⟨rfl, rfl⟩ := hw_1
  have hP : WP Γ [[(a, moE r i)], [((r 0), .inl (Γ.2.1 0, 523, .inl g))]] H := hP
  have hD : WD A [[(a, moE r i)], [((r 0), .inl (Γ.2.1 0, 523, .inl g))]] := hD
  refine lv_if_eq (tgt := 14) hx hb dX4_tank_7 (by decide) (fun c_2 => ?_) (fun c_2 => ?_)
  · -- 7 taken
    refine lv_iconst (v := 1) hx hb dX4_tank_14 (by decide) ?_
    refine b_put (C := RX4) (T := TX4) (N := 16) (ty := .int) (v := .int 1) hx hb hts in_X4 tyX4_ok nmX4 hown hK hP hD hS 0 rfl rfl 7 (by decide) q1814 (fun _ h9 => h9) rfl (by decide +kernel) rfl rfl (Nat.le_of_ble_eq_true rfl) dX4_tank_15 (fun H locs hP hD hS => ?_)
    have hP : WP Γ [[(a, moE r (upd i 7 1))], [((r 0), .inl (Γ.2.1 0, 523, .inl g))]] H := hP
    have hD : WD A [[(a, moE r (upd i 7 1))], [((r 0), .inl (Γ.2.1 0, 523, .inl g))]] := hD
    refine lv_aload_n hx hb dX4_tank_18 rfl (lv_at hl 0 rfl) ?_
    refine b_get (C := RX4) (T := TX4) (N := 16) (v := .int 1) hx hb hts in_X4 hown hK (b_at (k := 0) hP rfl) rfl 7 (by decide) q1814 (fun _ h9 => h9) rfl dX4_tank_19 ?_
    refine lv_if_le (tgt := 27) hx hb dX4_tank_22 (by decide) (fun c_3 => ?_) (fun c_3 => ?_)
    · -- 22 taken
      have n_3 : 1 ≤ 0 := (nI_leI (by omega) (by omega)).mp (show nI 1 ≤ nI 0 from c_3)
      have d_3 := Int32.not_lt.mpr c_3
      exact absurd n_3 (by omega)
    · -- 22 not taken
      have n_3 : ¬ (1 ≤ 0) := fun h => c_3 ((nI_leI (a := 1) (b := 0) (by omega) (by omega)).mpr h)
      have d_3 := Int32.not_le.mp c_3
      refine lv_iconst (v := 0) hx hb dX4_tank_25 (by decide) ?_
      exact b_iret hx hb hr hlocks hP hD hS (Nat.le_of_ble_eq_true rfl) (Nat.le_of_ble_eq_true rfl) ⟨(by first | with_reducible rfl | (simp [oSel, T_rng, tankM, c_2, n_3, d_3]; done) | rfl), (by first | with_reducible rfl | (simp [oSel, T_rng, tankM, c_2, n_3, d_3]; done) | rfl)⟩ dX4_tank_26
  · -- 7 not taken
    refine lv_iconst (v := 0) hx hb dX4_tank_10 (by decide) ?_
    refine lv_goto (tgt := 15) hx hb dX4_tank_11 (by decide) ?_
    refine b_put (C := RX4) (T := TX4) (N := 16) (ty := .int) (v := .int 0) hx hb hts in_X4 tyX4_ok nmX4 hown hK hP hD hS 0 rfl rfl 7 (by decide) q1814 (fun _ h9 => h9) rfl (by decide +kernel) rfl rfl (Nat.le_of_ble_eq_true rfl) dX4_tank_15 (fun H locs hP hD hS => ?_)
    have hP : WP Γ [[(a, moE r (upd i 7 0))], [((r 0), .inl (Γ.2.1 0, 523, .inl g))]] H := hP
    have hD : WD A [[(a, moE r (upd i 7 0))], [((r 0), .inl (Γ.2.1 0, 523, .inl g))]] := hD
    refine lv_aload_n hx hb dX4_tank_18 rfl (lv_at hl 0 rfl) ?_
    refine b_get (C := RX4) (T := TX4) (N := 16) (v := .int 0) hx hb hts in_X4 hown hK (b_at (k := 0) hP rfl) rfl 7 (by decide) q1814 (fun _ h9 => h9) rfl dX4_tank_19 ?_
    refine lv_if_le (tgt := 27) hx hb dX4_tank_22 (by decide) (fun c_4 => ?_) (fun c_4 => ?_)
    · -- 22 taken
      have n_4 : 0 ≤ 0 := (nI_leI (by omega) (by omega)).mp (show nI 0 ≤ nI 0 from c_4)
      have d_4 := Int32.not_lt.mpr c_4
      refine lv_iload_n hx hb dX4_tank_27 rfl (lv_at hl 1 rfl) ?_
      refine lv_if_ne (tgt := 41) hx hb dX4_tank_28 (by decide) (fun c_5 => ?_) (fun c_5 => ?_)
      · -- 28 taken
        refine lv_iload_n hx hb dX4_tank_41 rfl (lv_at hl 1 rfl) ?_
        refine lv_iconst (v := 1) hx hb dX4_tank_42 (by decide) ?_
        refine lv_icmp_ne (tgt := 56) hx hb dX4_tank_43 (by decide) (fun c_6 => ?_) (fun c_6 => ?_)
        · -- 43 taken
          refine lv_iload_n hx hb dX4_tank_56 rfl (lv_at hl 1 rfl) ?_
          refine lv_iconst (v := 3) hx hb dX4_tank_57 (by decide) ?_
          refine lv_icmp_ne (tgt := 68) hx hb dX4_tank_58 (by decide) (fun c_7 => ?_) (fun c_7 => ?_)
          · -- 58 taken
            refine lv_aload_n hx hb dX4_tank_68 rfl (lv_at hl 0 rfl) ?_
            refine b_get (C := RX4) (T := TX4) (N := 16) (v := .ref (r 0)) hx hb hts in_X4 hown hK (b_at (k := 0) hP rfl) rfl 0 (by decide) q1807 (fun _ h9 => h9) rfl dX4_tank_69 ?_
            refine lv_bipush (v := 8) hx hb dX4_tank_72 (by decide) ?_
            refine b_iald hx hb hK (b_at (k := 1) hP rfl) 8 rfl (by omega) (by omega) dX4_tank_74 ?_
            refine lv_if_ne (tgt := 82) hx hb dX4_tank_75 (by decide) (fun c_8 => ?_) (fun c_8 => ?_)
            · -- 75 taken
              have hnz := c_8
              refine lv_aload_n hx hb dX4_tank_82 rfl (lv_at hl 0 rfl) ?_
              refine b_get (C := RX4) (T := TX4) (N := 16) (v := .ref (r 0)) hx hb hts in_X4 hown hK (b_at (k := 0) hP rfl) rfl 0 (by decide) q1807 (fun _ h9 => h9) rfl dX4_tank_83 ?_
              refine lv_bipush (v := 9) hx hb dX4_tank_86 (by decide) ?_
              refine b_iald hx hb hK (b_at (k := 1) hP rfl) 9 rfl (by omega) (by omega) dX4_tank_88 ?_
              refine lv_aload_n hx hb dX4_tank_89 rfl (lv_at hl 0 rfl) ?_
              refine b_get (C := RX4) (T := TX4) (N := 16) (v := .ref (r 0)) hx hb hts in_X4 hown hK (b_at (k := 0) hP rfl) rfl 0 (by decide) q1807 (fun _ h9 => h9) rfl dX4_tank_90 ?_
              refine lv_bipush (v := 8) hx hb dX4_tank_93 (by decide) ?_
              refine b_iald hx hb hK (b_at (k := 1) hP rfl) 8 rfl (by omega) (by omega) dX4_tank_95 ?_
              refine lv_idiv hx hb dX4_tank_96 (hnz) ?_
              exact b_iret hx hb hr hlocks hP hD hS (Nat.le_of_ble_eq_true rfl) (Nat.le_of_ble_eq_true rfl) ⟨(by first | with_reducible rfl | (simp [oSel, T_rng, tankM, c_2, n_4, d_4, c_5, c_6, c_7, c_8]; done) | rfl), (by first | with_reducible rfl | (simp [oSel, T_rng, tankM, c_2, n_4, d_4, c_5, c_6, c_7, c_8]; done) | rfl)⟩ dX4_tank_97
            · -- 75 not taken
              refine lv_iconst (v := 0) hx hb dX4_tank_78 (by decide) ?_
              refine lv_goto (tgt := 97) hx hb dX4_tank_79 (by decide) ?_
              exact b_iret hx hb hr hlocks hP hD hS (Nat.le_of_ble_eq_true rfl) (Nat.le_of_ble_eq_true rfl) ⟨(by first | with_reducible rfl | (simp [oSel, T_rng, tankM, c_2, n_4, d_4, c_5, c_6, c_7, c_8]; done) | rfl), (by first | with_reducible rfl | (simp [oSel, T_rng, tankM, c_2, n_4, d_4, c_5, c_6, c_7, c_8]; done) | rfl)⟩ dX4_tank_97
          · -- 58 not taken
            subst c_7
            refine lv_aload_n hx hb dX4_tank_61 rfl (lv_at hl 0 rfl) ?_
            refine b_calli (br := []) (b_runV ⟨hx, hb, hml, hown, hts⟩ (mt_Mo_free l Γ _ a r (upd i 7 0) g) (lw_V q2000 q2002 qs48 q73 q2003) rfl rfl 0 (by decide +kernel) ⟨(Nat.le_of_ble_eq_true rfl), (Nat.le_of_ble_eq_true rfl)⟩ (c_pre hP hD hS hA hK hE [0, 1] rfl rfl ro_nil) (recv_at (q := (RX4, TX4, 16)) hK (b_at (k := 0) hP rfl) rfl) rfl hl.1 rfl (Nat.le_of_ble_eq_true rfl) dX4_tank_62 ⟨(Nat.le_of_ble_eq_true rfl), (Nat.le_of_ble_eq_true rfl)⟩) hP hD hS hA [0, 1] [] rfl rfl rfl (fun r_9 u_9 H locs hw_9 hP hD hS _ => ?_)
            obtain ⟨rfl, rfl⟩ := hw_9
            have hP : WP Γ [[(a, moE r (upd i 7 0))], [((r 0), .inl (Γ.2.1 0, 523, .inl g))]] H := hP
            have hD : WD A [[(a, moE r (upd i 7 0))], [((r 0), .inl (Γ.2.1 0, 523, .inl g))]] := hD
            refine lv_goto (tgt := 97) hx hb dX4_tank_65 (by decide) ?_
            exact b_iret hx hb hr hlocks hP hD hS (Nat.le_of_ble_eq_true rfl) (Nat.le_of_ble_eq_true rfl) ⟨(by first | with_reducible rfl | (simp [oSel, T_rng, tankM, c_2, n_4, d_4, c_5, c_6]; done) | rfl), (by first | with_reducible rfl | (simp [oSel, T_rng, tankM, c_2, n_4, d_4, c_5, c_6]; done) | rfl)⟩ dX4_tank_97
        · -- 43 not taken
          subst c_6
          refine lv_aload_n hx hb dX4_tank_46 rfl (lv_at hl 0 rfl) ?_
          refine b_get (C := RX4) (T := TX4) (N := 16) (v := .ref (r 0)) hx hb hts in_X4 hown hK (b_at (k := 0) hP rfl) rfl 0 (by decide) q1807 (fun _ h9 => h9) rfl dX4_tank_47 ?_
          refine lv_bipush (v := 9) hx hb dX4_tank_50 (by decide) ?_
          refine b_iald hx hb hK (b_at (k := 1) hP rfl) 9 rfl (by omega) (by omega) dX4_tank_52 ?_
          refine lv_goto (tgt := 97) hx hb dX4_tank_53 (by decide) ?_
          exact b_iret hx hb hr hlocks hP hD hS (Nat.le_of_ble_eq_true rfl) (Nat.le_of_ble_eq_true rfl) ⟨(by first | with_reducible rfl | (simp [oSel, T_rng, tankM, c_2, n_4, d_4, c_5]; done) | rfl), (by first | with_reducible rfl | (simp [oSel, T_rng, tankM, c_2, n_4, d_4, c_5]; done) | rfl)⟩ dX4_tank_97
      · -- 28 not taken
        subst c_5
        refine lv_aload_n hx hb dX4_tank_31 rfl (lv_at hl 0 rfl) ?_
        refine b_get (C := RX4) (T := TX4) (N := 16) (v := .ref (r 0)) hx hb hts in_X4 hown hK (b_at (k := 0) hP rfl) rfl 0 (by decide) q1807 (fun _ h9 => h9) rfl dX4_tank_32 ?_
        refine lv_bipush (v := 8) hx hb dX4_tank_35 (by decide) ?_
        refine b_iald hx hb hK (b_at (k := 1) hP rfl) 8 rfl (by omega) (by omega) dX4_tank_37 ?_
        refine lv_goto (tgt := 97) hx hb dX4_tank_38 (by decide) ?_
        exact b_iret hx hb hr hlocks hP hD hS (Nat.le_of_ble_eq_true rfl) (Nat.le_of_ble_eq_true rfl) ⟨(by first | with_reducible rfl | (simp [oSel, T_rng, tankM, c_2, n_4, d_4]; done) | rfl), (by first | with_reducible rfl | (simp [oSel, T_rng, tankM, c_2, n_4, d_4]; done) | rfl)⟩ dX4_tank_97
    · -- 22 not taken
      have n_4 : ¬ (0 ≤ 0) := fun h => c_4 ((nI_leI (a := 0) (b := 0) (by omega) (by omega)).mpr h)
      have d_4 := Int32.not_le.mp c_4
      exact absurd n_4 (by omega)
set_option maxHeartbeats 4000000 in
set_option maxRecDepth 100000 in
theorem mt_Mo_isPickup (l : Launch) (Γ : GE) (sz : Nat) (a : Nat) (r : Nat → Nat) (i : Nat → Int32) (g : Nat → Int32) (v : Int32)  : KM l yX4_isPickup cX4_isPickup 2 (some FieldType.boolean) Γ 1 22 0 0 [.ref a, .int v] [[(a, moE r i)], [((r 0), .inl (Γ.2.1 0, 523, .inl g))]] [] sz (Qi Γ (fun r_ u_ => r_ = (inR v 0 (g 11 - 1)) ∧ u_ = [[(a, moE r i)], [((r 0), .inl (Γ.2.1 0, 523, .inl g))]])) := by
  refine K_intro (by decide) (Nat.le_of_ble_eq_true rfl) ?_
  intro pr_ ev_ s mi_ below meth cd_ A ls hx hb hr hml hown hts hlocks hname hK hE hRo hP hD hA hS hsz hl
  have hl : lv_has ls 2 [(0, .ref a), (1, .int v)] := hl
  have hown : s.vm.findClass RX4 = some mi_.cls := hown
  refine lv_iload_n hx hb dX4_isPickup_0 rfl (lv_at hl 1 rfl) ?_
  refine lv_iconst (v := 0) hx hb dX4_isPickup_1 (by decide) ?_
  refine lv_aload_n hx hb dX4_isPickup_2 rfl (lv_at hl 0 rfl) ?_
  refine b_get (C := RX4) (T := TX4) (N := 16) (v := .ref (r 0)) hx hb hts in_X4 hown hK (b_at (k := 0) hP rfl) rfl 0 (by decide) q1807 (fun _ h9 => h9) rfl dX4_isPickup_3 ?_
  refine lv_bipush (v := 11) hx hb dX4_isPickup_6 (by decide) ?_
  refine b_iald hx hb hK (b_at (k := 1) hP rfl) 11 rfl (by omega) (by omega) dX4_isPickup_8 ?_
  refine lv_iconst (v := 1) hx hb dX4_isPickup_9 (by decide) ?_
  refine lv_isub hx hb dX4_isPickup_10 ?_
  refine b_calli (br := [[(a, moE r i)], [((r 0), .inl (Γ.2.1 0, 523, .inl g))]]) (b_runS ⟨hx, hb, hml, hown, hts⟩ (mt_Mo_in l Γ _ v 0 ((g 11) - 1)) (lw_S q1879 q1880 q73 q1881) rfl rfl 3 (by decide +kernel) ⟨(Nat.le_of_ble_eq_true rfl), (Nat.le_of_ble_eq_true rfl)⟩ (c_pre hP hD hS hA hK hE [] rfl rfl ro_nil) rfl hl.1 rfl (Nat.le_of_ble_eq_true rfl) dX4_isPickup_11 ⟨(Nat.le_of_ble_eq_true rfl), (Nat.le_of_ble_eq_true rfl)⟩) hP hD hS hA [] [0, 1] rfl rfl rfl (fun r_1 u_1 H locs hw_1 hP hD hS _ => ?_)
  obtain ⟨rfl, rfl⟩ := hw_1
  have hP : WP Γ [[(a, moE r i)], [((r 0), .inl (Γ.2.1 0, 523, .inl g))]] H := hP
  have hD : WD A [[(a, moE r i)], [((r 0), .inl (Γ.2.1 0, 523, .inl g))]] := hD
  exact b_zret hx hb hr hlocks hP hD hS (Nat.le_of_ble_eq_true rfl) (Nat.le_of_ble_eq_true rfl) inR_nar ⟨(by first | rfl | (simp; done)), (by first | rfl | (simp; done))⟩ dX4_isPickup_14
set_option maxHeartbeats 4000000 in
set_option maxRecDepth 100000 in
theorem mt_Mo_pickup (l : Launch) (Γ : GE) (sz : Nat) (a : Nat) (r : Nat → Nat) (i : Nat → Int32) (g : Nat → Int32) (c : Int32) (w : Int32) (np : Nat) (hg11 : g 11 = nI np) (hnp : np ≤ 60) : KM l yX4_pickup cX4_pickup 3 (some FieldType.int) Γ 2 43 0 0 [.ref a, .int c, .int w] [[(a, moE r i)], [((r 0), .inl (Γ.2.1 0, 523, .inl g))]] [] sz (Qi Γ (fun r_ u_ => r_ = (oSel (T_pick g c w) (g (7 * c.toNatClampNeg + w.toNatClampNeg + 103)) 0) ∧ u_ = [[(a, moE r (upd i 7 (T_pick g c w)))], [((r 0), .inl (Γ.2.1 0, 523, .inl g))]])) := by
  refine K_intro (by decide) (Nat.le_of_ble_eq_true rfl) ?_
  intro pr_ ev_ s mi_ below meth cd_ A ls hx hb hr hml hown hts hlocks hname hK hE hRo hP hD hA hS hsz hl
  have hl : lv_has ls 3 [(0, .ref a), (1, .int c), (2, .int w)] := hl
  have hown : s.vm.findClass RX4 = some mi_.cls := hown
  refine lv_aload_n hx hb dX4_pickup_0 rfl (lv_at hl 0 rfl) ?_
  refine lv_aload_n hx hb dX4_pickup_1 rfl (lv_at hl 0 rfl) ?_
  refine lv_iload_n hx hb dX4_pickup_2 rfl (lv_at hl 1 rfl) ?_
  refine b_calli (br := []) (b_runV ⟨hx, hb, hml, hown, hts⟩ (mt_Mo_isPickup l Γ _ a r i g c) (lw_V q2040 q2042 qs51 q73 q2043) rfl rfl 1 (by decide +kernel) ⟨(Nat.le_of_ble_eq_true rfl), (Nat.le_of_ble_eq_true rfl)⟩ (c_pre hP hD hS hA hK hE [0, 1] rfl rfl ro_nil) (recv_at (q := (RX4, TX4, 16)) hK (b_at (k := 0) hP rfl) rfl) rfl hl.1 rfl (Nat.le_of_ble_eq_true rfl) dX4_pickup_3 ⟨(Nat.le_of_ble_eq_true rfl), (Nat.le_of_ble_eq_true rfl)⟩) hP hD hS hA [0, 1] [] rfl rfl rfl (fun r_1 u_1 H locs hw_1 hP hD hS _ => ?_)
  obtain ⟨rfl, rfl⟩ := hw_1
  have hP : WP Γ [[(a, moE r i)], [((r 0), .inl (Γ.2.1 0, 523, .inl g))]] H := hP
  have hD : WD A [[(a, moE r i)], [((r 0), .inl (Γ.2.1 0, 523, .inl g))]] := hD
  refine lv_if_eq (tgt := 27) hx hb dX4_pickup_6 (by decide) (fun c_2 => ?_) (fun c_2 => ?_)
  · -- 6 taken
    refine lv_iconst (v := 1) hx hb dX4_pickup_27 (by decide) ?_
    refine b_put (C := RX4) (T := TX4) (N := 16) (ty := .int) (v := .int 1) hx hb hts in_X4 tyX4_ok nmX4 hown hK hP hD hS 0 rfl rfl 7 (by decide) q1814 (fun _ h9 => h9) rfl (by decide +kernel) rfl rfl (Nat.le_of_ble_eq_true rfl) dX4_pickup_28 (fun H locs hP hD hS => ?_)
    have hP : WP Γ [[(a, moE r (upd i 7 1))], [((r 0), .inl (Γ.2.1 0, 523, .inl g))]] H := hP
    have hD : WD A [[(a, moE r (upd i 7 1))], [((r 0), .inl (Γ.2.1 0, 523, .inl g))]] := hD
    refine lv_aload_n hx hb dX4_pickup_31 rfl (lv_at hl 0 rfl) ?_
    refine b_get (C := RX4) (T := TX4) (N := 16) (v := .int 1) hx hb hts in_X4 hown hK (b_at (k := 0) hP rfl) rfl 7 (by decide) q1814 (fun _ h9 => h9) rfl dX4_pickup_32 ?_
    refine lv_if_le (tgt := 42) hx hb dX4_pickup_35 (by decide) (fun c_3 => ?_) (fun c_3 => ?_)
    · -- 35 taken
      have n_3 : 1 ≤ 0 := (nI_leI (by omega) (by omega)).mp (show nI 1 ≤ nI 0 from c_3)
      have d_3 := Int32.not_lt.mpr c_3
      exact absurd n_3 (by omega)
    · -- 35 not taken
      have n_3 : ¬ (1 ≤ 0) := fun h => c_3 ((nI_leI (a := 1) (b := 0) (by omega) (by omega)).mpr h)
      have d_3 := Int32.not_le.mp c_3
      refine lv_iconst (v := 0) hx hb dX4_pickup_38 (by decide) ?_
      refine lv_goto (tgt := 56) hx hb dX4_pickup_39 (by decide) ?_
      exact b_iret hx hb hr hlocks hP hD hS (Nat.le_of_ble_eq_true rfl) (Nat.le_of_ble_eq_true rfl) ⟨(by first | with_reducible rfl | (simp [oSel, T_pick, c_2, n_3, d_3]; done) | rfl), (by first | with_reducible rfl | (simp [oSel, T_pick, c_2, n_3, d_3]; done) | rfl)⟩ dX4_pickup_56
  · -- 6 not taken
    obtain ⟨k, hk, rfl⟩ := inR_nat hg11 (by omega) c_2
    refine lv_iload_n hx hb dX4_pickup_9 rfl (lv_at hl 2 rfl) ?_
    refine lv_iconst (v := 0) hx hb dX4_pickup_10 (by decide) ?_
    refine lv_bipush (v := 6) hx hb dX4_pickup_11 (by decide) ?_
    refine b_calli (br := [[(a, moE r i)], [((r 0), .inl (Γ.2.1 0, 523, .inl g))]]) (b_runS ⟨hx, hb, hml, hown, hts⟩ (mt_Mo_in l Γ _ w 0 6) (lw_S q1879 q1880 q73 q1881) rfl rfl 3 (by decide +kernel) ⟨(Nat.le_of_ble_eq_true rfl), (Nat.le_of_ble_eq_true rfl)⟩ (c_pre hP hD hS hA hK hE [] rfl rfl ro_nil) rfl hl.1 rfl (Nat.le_of_ble_eq_true rfl) dX4_pickup_13 ⟨(Nat.le_of_ble_eq_true rfl), (Nat.le_of_ble_eq_true rfl)⟩) hP hD hS hA [] [0, 1] rfl rfl rfl (fun r_4 u_4 H locs hw_4 hP hD hS _ => ?_)
    obtain ⟨rfl, rfl⟩ := hw_4
    have hP : WP Γ [[(a, moE r i)], [((r 0), .inl (Γ.2.1 0, 523, .inl g))]] H := hP
    have hD : WD A [[(a, moE r i)], [((r 0), .inl (Γ.2.1 0, 523, .inl g))]] := hD
    refine lv_if_eq (tgt := 23) hx hb dX4_pickup_16 (by decide) (fun c_5 => ?_) (fun c_5 => ?_)
    · -- 16 taken
      refine lv_iconst (v := 2) hx hb dX4_pickup_23 (by decide) ?_
      refine lv_goto (tgt := 28) hx hb dX4_pickup_24 (by decide) ?_
      refine b_put (C := RX4) (T := TX4) (N := 16) (ty := .int) (v := .int 2) hx hb hts in_X4 tyX4_ok nmX4 hown hK hP hD hS 0 rfl rfl 7 (by decide) q1814 (fun _ h9 => h9) rfl (by decide +kernel) rfl rfl (Nat.le_of_ble_eq_true rfl) dX4_pickup_28 (fun H locs hP hD hS => ?_)
      have hP : WP Γ [[(a, moE r (upd i 7 2))], [((r 0), .inl (Γ.2.1 0, 523, .inl g))]] H := hP
      have hD : WD A [[(a, moE r (upd i 7 2))], [((r 0), .inl (Γ.2.1 0, 523, .inl g))]] := hD
      refine lv_aload_n hx hb dX4_pickup_31 rfl (lv_at hl 0 rfl) ?_
      refine b_get (C := RX4) (T := TX4) (N := 16) (v := .int 2) hx hb hts in_X4 hown hK (b_at (k := 0) hP rfl) rfl 7 (by decide) q1814 (fun _ h9 => h9) rfl dX4_pickup_32 ?_
      refine lv_if_le (tgt := 42) hx hb dX4_pickup_35 (by decide) (fun c_6 => ?_) (fun c_6 => ?_)
      · -- 35 taken
        have n_6 : 2 ≤ 0 := (nI_leI (by omega) (by omega)).mp (show nI 2 ≤ nI 0 from c_6)
        have d_6 := Int32.not_lt.mpr c_6
        exact absurd n_6 (by omega)
      · -- 35 not taken
        have n_6 : ¬ (2 ≤ 0) := fun h => c_6 ((nI_leI (a := 2) (b := 0) (by omega) (by omega)).mpr h)
        have d_6 := Int32.not_le.mp c_6
        refine lv_iconst (v := 0) hx hb dX4_pickup_38 (by decide) ?_
        refine lv_goto (tgt := 56) hx hb dX4_pickup_39 (by decide) ?_
        exact b_iret hx hb hr hlocks hP hD hS (Nat.le_of_ble_eq_true rfl) (Nat.le_of_ble_eq_true rfl) ⟨(by first | with_reducible rfl | (simp [oSel, T_pick, c_2, nI_clamp (show k < 2 ^ 31 by omega), c_5, n_6, d_6]; done) | rfl), (by first | with_reducible rfl | (simp [oSel, T_pick, c_2, nI_clamp (show k < 2 ^ 31 by omega), c_5, n_6, d_6]; done) | rfl)⟩ dX4_pickup_56
    · -- 16 not taken
      obtain ⟨q, hq1, hq2, rfl⟩ := inR_ab (a := 0) (b := 6) rfl rfl (by decide) (by decide) c_5
      refine lv_iconst (v := 0) hx hb dX4_pickup_19 (by decide) ?_
      refine lv_goto (tgt := 28) hx hb dX4_pickup_20 (by decide) ?_
      refine b_put (C := RX4) (T := TX4) (N := 16) (ty := .int) (v := .int 0) hx hb hts in_X4 tyX4_ok nmX4 hown hK hP hD hS 0 rfl rfl 7 (by decide) q1814 (fun _ h9 => h9) rfl (by decide +kernel) rfl rfl (Nat.le_of_ble_eq_true rfl) dX4_pickup_28 (fun H locs hP hD hS => ?_)
      have hP : WP Γ [[(a, moE r (upd i 7 0))], [((r 0), .inl (Γ.2.1 0, 523, .inl g))]] H := hP
      have hD : WD A [[(a, moE r (upd i 7 0))], [((r 0), .inl (Γ.2.1 0, 523, .inl g))]] := hD
      refine lv_aload_n hx hb dX4_pickup_31 rfl (lv_at hl 0 rfl) ?_
      refine b_get (C := RX4) (T := TX4) (N := 16) (v := .int 0) hx hb hts in_X4 hown hK (b_at (k := 0) hP rfl) rfl 7 (by decide) q1814 (fun _ h9 => h9) rfl dX4_pickup_32 ?_
      refine lv_if_le (tgt := 42) hx hb dX4_pickup_35 (by decide) (fun c_7 => ?_) (fun c_7 => ?_)
      · -- 35 taken
        have n_7 : 0 ≤ 0 := (nI_leI (by omega) (by omega)).mp (show nI 0 ≤ nI 0 from c_7)
        have d_7 := Int32.not_lt.mpr c_7
        refine lv_aload_n hx hb dX4_pickup_42 rfl (lv_at hl 0 rfl) ?_
        refine b_get (C := RX4) (T := TX4) (N := 16) (v := .ref (r 0)) hx hb hts in_X4 hown hK (b_at (k := 0) hP rfl) rfl 0 (by decide) q1807 (fun _ h9 => h9) rfl dX4_pickup_43 ?_
        refine lv_bipush (v := 103) hx hb dX4_pickup_46 (by decide) ?_
        refine lv_bipush (v := 7) hx hb dX4_pickup_48 (by decide) ?_
        refine lv_iload_n hx hb dX4_pickup_50 rfl (lv_at hl 1 rfl) ?_
        refine lv_imul hx hb dX4_pickup_51 ?_
        refine b_top (nI_mulE (a := 7) (b := k) (c := 7 * k) rfl rfl (by first | omega | rfl)) ?_
        refine lv_iadd hx hb dX4_pickup_52 ?_
        refine b_top (nI_addE (a := 103) (b := 7 * k) (c := 7 * k + 103) rfl rfl (by first | omega | rfl)) ?_
        refine lv_iload_n hx hb dX4_pickup_53 rfl (lv_at hl 2 rfl) ?_
        refine lv_iadd hx hb dX4_pickup_54 ?_
        refine b_top (nI_addE (a := 7 * k + 103) (b := q) (c := 7 * k + q + 103) rfl rfl (by first | omega | rfl)) ?_
        refine b_iald hx hb hK (b_at (k := 1) hP rfl) (7 * k + q + 103) rfl (by omega) (by omega) dX4_pickup_55 ?_
        exact b_iret hx hb hr hlocks hP hD hS (Nat.le_of_ble_eq_true rfl) (Nat.le_of_ble_eq_true rfl) ⟨(by first | with_reducible rfl | (simp [oSel, T_pick, c_2, nI_clamp (show k < 2 ^ 31 by omega), c_5, nI_clamp (show q < 2 ^ 31 by omega), n_7, d_7]; done) | rfl), (by first | with_reducible rfl | (simp [oSel, T_pick, c_2, nI_clamp (show k < 2 ^ 31 by omega), c_5, nI_clamp (show q < 2 ^ 31 by omega), n_7, d_7]; done) | rfl)⟩ dX4_pickup_56
      · -- 35 not taken
        have n_7 : ¬ (0 ≤ 0) := fun h => c_7 ((nI_leI (a := 0) (b := 0) (by omega) (by omega)).mpr h)
        have d_7 := Int32.not_le.mp c_7
        exact absurd n_7 (by omega)
/-- sum of f from place x, t terms -/
def sumUp (f : Nat → Int32) (x : Nat) : Nat → Int32
  | 0 => 0
  | t + 1 => sumUp f x t + f (x + t)
def meanL (g : Nat → Int32) (x y : Nat) : Int32 := sumUp (fun q => g (7 * q + 104)) x (y + 1 - x)
def meanC (g : Nat → Int32) (x y : Nat) : Int32 := sumUp (fun q => g (7 * q + 105)) x (y + 1 - x)
def oSelD (T : Int32) (x y : UInt64) : UInt64 := if T = 0 then x else y
set_option maxHeartbeats 4000000 in
set_option maxRecDepth 100000 in
theorem mt_Mo_mean (l : Launch) (Γ : GE) (sz : Nat) (a : Nat) (r : Nat → Nat) (i : Nat → Int32) (g : Nat → Int32) (x : Int32) (y : Int32) (np : Nat) (hg11 : g 11 = nI np) (hnp : np ≤ 60) (hnan : T_mean g x y = 0 → vf_n64 (FP.ddiv (FP.i2d (meanC g x.toNatClampNeg y.toNatClampNeg)) (FP.i2d (meanL g x.toNatClampNeg y.toNatClampNeg)))) : KM l yX4_mean cX4_mean 6 (some FieldType.double) Γ 2 43 0 0 [.ref a, .int x, .int y] [[(a, moE r i)], [((r 0), .inl (Γ.2.1 0, 523, .inl g))]] [] sz (Qd Γ (fun r_ u_ => r_ = (oSelD (T_mean g x y) (FP.ddiv (FP.i2d (meanC g x.toNatClampNeg y.toNatClampNeg)) (FP.i2d (meanL g x.toNatClampNeg y.toNatClampNeg))) FP.dconst0) ∧ u_ = [[(a, moE r (upd i 7 (T_mean g x y)))], [((r 0), .inl (Γ.2.1 0, 523, .inl g))]])) := by
  refine K_intro (by decide) (Nat.le_of_ble_eq_true rfl) ?_
  intro pr_ ev_ s mi_ below meth cd_ A ls hx hb hr hml hown hts hlocks hname hK hE hRo hP hD hA hS hsz hl
  have hl : lv_has ls 6 [(0, .ref a), (1, .int x), (2, .int y)] := hl
  have hown : s.vm.findClass RX4 = some mi_.cls := hown
  refine lv_aload_n hx hb dX4_mean_0 rfl (lv_at hl 0 rfl) ?_
  refine lv_aload_n hx hb dX4_mean_1 rfl (lv_at hl 0 rfl) ?_
  refine lv_iload_n hx hb dX4_mean_2 rfl (lv_at hl 1 rfl) ?_
  refine b_calli (br := []) (b_runV ⟨hx, hb, hml, hown, hts⟩ (mt_Mo_isPickup l Γ _ a r i g x) (lw_V q2040 q2042 qs51 q73 q2043) rfl rfl 1 (by decide +kernel) ⟨(Nat.le_of_ble_eq_true rfl), (Nat.le_of_ble_eq_true rfl)⟩ (c_pre hP hD hS hA hK hE [0, 1] rfl rfl ro_nil) (recv_at (q := (RX4, TX4, 16)) hK (b_at (k := 0) hP rfl) rfl) rfl hl.1 rfl (Nat.le_of_ble_eq_true rfl) dX4_mean_3 ⟨(Nat.le_of_ble_eq_true rfl), (Nat.le_of_ble_eq_true rfl)⟩) hP hD hS hA [0, 1] [] rfl rfl rfl (fun r_1 u_1 H locs hw_1 hP hD hS _ => ?_)
  obtain ⟨rfl, rfl⟩ := hw_1
  have hP : WP Γ [[(a, moE r i)], [((r 0), .inl (Γ.2.1 0, 523, .inl g))]] H := hP
  have hD : WD A [[(a, moE r i)], [((r 0), .inl (Γ.2.1 0, 523, .inl g))]] := hD
  refine lv_if_eq (tgt := 30) hx hb dX4_mean_6 (by decide) (fun c_2 => ?_) (fun c_2 => ?_)
  · -- 6 taken
    refine lv_iconst (v := 1) hx hb dX4_mean_30 (by decide) ?_
    refine b_put (C := RX4) (T := TX4) (N := 16) (ty := .int) (v := .int 1) hx hb hts in_X4 tyX4_ok nmX4 hown hK hP hD hS 0 rfl rfl 7 (by decide) q1814 (fun _ h9 => h9) rfl (by decide +kernel) rfl rfl (Nat.le_of_ble_eq_true rfl) dX4_mean_31 (fun H locs hP hD hS => ?_)
    have hP : WP Γ [[(a, moE r (upd i 7 1))], [((r 0), .inl (Γ.2.1 0, 523, .inl g))]] H := hP
    have hD : WD A [[(a, moE r (upd i 7 1))], [((r 0), .inl (Γ.2.1 0, 523, .inl g))]] := hD
    refine lv_aload_n hx hb dX4_mean_34 rfl (lv_at hl 0 rfl) ?_
    refine b_get (C := RX4) (T := TX4) (N := 16) (v := .int 1) hx hb hts in_X4 hown hK (b_at (k := 0) hP rfl) rfl 7 (by decide) q1814 (fun _ h9 => h9) rfl dX4_mean_35 ?_
    refine lv_if_le (tgt := 43) hx hb dX4_mean_38 (by decide) (fun c_3 => ?_) (fun c_3 => ?_)
    · -- 38 taken
      have n_3 : 1 ≤ 0 := (nI_leI (by omega) (by omega)).mp (show nI 1 ≤ nI 0 from c_3)
      have d_3 := Int32.not_lt.mpr c_3
      exact absurd n_3 (by omega)
    · -- 38 not taken
      have n_3 : ¬ (1 ≤ 0) := fun h => c_3 ((nI_leI (a := 1) (b := 0) (by omega) (by omega)).mpr h)
      have d_3 := Int32.not_le.mp c_3
      refine lv_dconst0 hx hb dX4_mean_41 ?_
      exact b_dret hx hb hr hlocks hP hD hS (Nat.le_of_ble_eq_true rfl) (Nat.le_of_ble_eq_true rfl) ⟨(by first | with_reducible rfl | (simp [oSelD, T_mean, c_2, n_3, d_3]; done) | rfl), (by first | with_reducible rfl | (simp [oSelD, T_mean, c_2, n_3, d_3]; done) | rfl)⟩ dX4_mean_42
  · -- 6 not taken
    obtain ⟨k, hk, rfl⟩ := inR_nat hg11 (by omega) c_2
    refine lv_aload_n hx hb dX4_mean_9 rfl (lv_at hl 0 rfl) ?_
    refine lv_iload_n hx hb dX4_mean_10 rfl (lv_at hl 2 rfl) ?_
    refine b_calli (br := []) (b_runV ⟨hx, hb, hml, hown, hts⟩ (mt_Mo_isPickup l Γ _ a r i g y) (lw_V q2040 q2042 qs51 q73 q2043) rfl rfl 1 (by decide +kernel) ⟨(Nat.le_of_ble_eq_true rfl), (Nat.le_of_ble_eq_true rfl)⟩ (c_pre hP hD hS hA hK hE [0, 1] rfl rfl ro_nil) (recv_at (q := (RX4, TX4, 16)) hK (b_at (k := 0) hP rfl) rfl) rfl hl.1 rfl (Nat.le_of_ble_eq_true rfl) dX4_mean_11 ⟨(Nat.le_of_ble_eq_true rfl), (Nat.le_of_ble_eq_true rfl)⟩) hP hD hS hA [0, 1] [] rfl rfl rfl (fun r_4 u_4 H locs hw_4 hP hD hS _ => ?_)
    obtain ⟨rfl, rfl⟩ := hw_4
    have hP : WP Γ [[(a, moE r i)], [((r 0), .inl (Γ.2.1 0, 523, .inl g))]] H := hP
    have hD : WD A [[(a, moE r i)], [((r 0), .inl (Γ.2.1 0, 523, .inl g))]] := hD
    refine lv_if_eq (tgt := 30) hx hb dX4_mean_14 (by decide) (fun c_5 => ?_) (fun c_5 => ?_)
    · -- 14 taken
      refine lv_iconst (v := 1) hx hb dX4_mean_30 (by decide) ?_
      refine b_put (C := RX4) (T := TX4) (N := 16) (ty := .int) (v := .int 1) hx hb hts in_X4 tyX4_ok nmX4 hown hK hP hD hS 0 rfl rfl 7 (by decide) q1814 (fun _ h9 => h9) rfl (by decide +kernel) rfl rfl (Nat.le_of_ble_eq_true rfl) dX4_mean_31 (fun H locs hP hD hS => ?_)
      have hP : WP Γ [[(a, moE r (upd i 7 1))], [((r 0), .inl (Γ.2.1 0, 523, .inl g))]] H := hP
      have hD : WD A [[(a, moE r (upd i 7 1))], [((r 0), .inl (Γ.2.1 0, 523, .inl g))]] := hD
      refine lv_aload_n hx hb dX4_mean_34 rfl (lv_at hl 0 rfl) ?_
      refine b_get (C := RX4) (T := TX4) (N := 16) (v := .int 1) hx hb hts in_X4 hown hK (b_at (k := 0) hP rfl) rfl 7 (by decide) q1814 (fun _ h9 => h9) rfl dX4_mean_35 ?_
      refine lv_if_le (tgt := 43) hx hb dX4_mean_38 (by decide) (fun c_6 => ?_) (fun c_6 => ?_)
      · -- 38 taken
        have n_6 : 1 ≤ 0 := (nI_leI (by omega) (by omega)).mp (show nI 1 ≤ nI 0 from c_6)
        have d_6 := Int32.not_lt.mpr c_6
        exact absurd n_6 (by omega)
      · -- 38 not taken
        have n_6 : ¬ (1 ≤ 0) := fun h => c_6 ((nI_leI (a := 1) (b := 0) (by omega) (by omega)).mpr h)
        have d_6 := Int32.not_le.mp c_6
        refine lv_dconst0 hx hb dX4_mean_41 ?_
        exact b_dret hx hb hr hlocks hP hD hS (Nat.le_of_ble_eq_true rfl) (Nat.le_of_ble_eq_true rfl) ⟨(by first | with_reducible rfl | (simp [oSelD, T_mean, c_2, nI_clamp (show k < 2 ^ 31 by omega), c_5, n_6, d_6]; done) | rfl), (by first | with_reducible rfl | (simp [oSelD, T_mean, c_2, nI_clamp (show k < 2 ^ 31 by omega), c_5, n_6, d_6]; done) | rfl)⟩ dX4_mean_42
    · -- 14 not taken
      obtain ⟨q, hq, rfl⟩ := inR_nat hg11 (by omega) c_5
      refine lv_iload_n hx hb dX4_mean_17 rfl (lv_at hl 1 rfl) ?_
      refine lv_iload_n hx hb dX4_mean_18 rfl (lv_at hl 2 rfl) ?_
      refine lv_icmp_le (tgt := 26) hx hb dX4_mean_19 (by decide) (fun c_7 => ?_) (fun c_7 => ?_)
      · -- 19 taken
        have n_7 : k ≤ q := (nI_leI (by omega) (by omega)).mp (show nI k ≤ nI q from c_7)
        have d_7 := Int32.not_lt.mpr c_7
        refine lv_iconst (v := 0) hx hb dX4_mean_26 (by decide) ?_
        refine lv_goto (tgt := 31) hx hb dX4_mean_27 (by decide) ?_
        refine b_put (C := RX4) (T := TX4) (N := 16) (ty := .int) (v := .int 0) hx hb hts in_X4 tyX4_ok nmX4 hown hK hP hD hS 0 rfl rfl 7 (by decide) q1814 (fun _ h9 => h9) rfl (by decide +kernel) rfl rfl (Nat.le_of_ble_eq_true rfl) dX4_mean_31 (fun H locs hP hD hS => ?_)
        have hP : WP Γ [[(a, moE r (upd i 7 0))], [((r 0), .inl (Γ.2.1 0, 523, .inl g))]] H := hP
        have hD : WD A [[(a, moE r (upd i 7 0))], [((r 0), .inl (Γ.2.1 0, 523, .inl g))]] := hD
        refine lv_aload_n hx hb dX4_mean_34 rfl (lv_at hl 0 rfl) ?_
        refine b_get (C := RX4) (T := TX4) (N := 16) (v := .int 0) hx hb hts in_X4 hown hK (b_at (k := 0) hP rfl) rfl 7 (by decide) q1814 (fun _ h9 => h9) rfl dX4_mean_35 ?_
        refine lv_if_le (tgt := 43) hx hb dX4_mean_38 (by decide) (fun c_8 => ?_) (fun c_8 => ?_)
        · -- 38 taken
          have n_8 : 0 ≤ 0 := (nI_leI (by omega) (by omega)).mp (show nI 0 ≤ nI 0 from c_8)
          have d_8 := Int32.not_lt.mpr c_8
          refine lv_iconst (v := 0) hx hb dX4_mean_43 (by decide) ?_
          refine lv_istore_n (lv' := [(3, .int 0), (0, .ref a), (1, .int (nI k)), (2, .int (nI q))]) hx hb dX4_mean_44 rfl hl (by decide) rfl (fun ls hl => ?_)
          refine lv_iconst (v := 0) hx hb dX4_mean_45 (by decide) ?_
          refine lv_istore (lv' := [(4, .int 0), (3, .int 0), (0, .ref a), (1, .int (nI k)), (2, .int (nI q))]) hx hb dX4_mean_46 hl (by decide) rfl (fun ls hl => ?_)
          refine lv_iload_n hx hb dX4_mean_48 rfl (lv_at hl 3 rfl) ?_
          refine lv_istore (lv' := [(5, .int (nI k)), (4, .int 0), (3, .int 0), (0, .ref a), (1, .int (nI k)), (2, .int (nI q))]) hx hb dX4_mean_49 hl (by decide) rfl (fun ls hl => ?_)
          have loop_9 : ∀ (fuel : Nat) (t : Nat), q + 1 - (k + t) < fuel → (k + t ≤ q + 1) → ∀ (H : Heap) (locs : List Loc) (ls : Array Slot), WP Γ [[(a, moE r (upd i 7 0))], [((r 0), .inl (Γ.2.1 0, 523, .inl g))]] H → WD A [[(a, moE r (upd i 7 0))], [((r 0), .inl (Γ.2.1 0, 523, .inl g))]] → va_S A s.heap H locs → lv_has ls 6 [(5, .int (nI (k + t))), (4, .int (sumUp (fun q => g (7 * q + 104)) k t)), (3, .int (sumUp (fun q => g (7 * q + 105)) k t)), (0, .ref a), (1, .int (nI k)), (2, .int (nI q))] → W pr_ l ev_ { frames := 2, cells := 0, slots := 0, locals := 43 } s mi_ ([.ref a, .int (nI k), .int (nI q)] : List Value).toArray below meth cd_ H locs 0 0 (MQ below (Qd Γ (fun r_ u_ => r_ = (oSelD (T_mean g (nI k) (nI q)) (FP.ddiv (FP.i2d (meanC g (nI k).toNatClampNeg (nI q).toNatClampNeg)) (FP.i2d (meanL g (nI k).toNatClampNeg (nI q).toNatClampNeg))) FP.dconst0) ∧ u_ = [[(a, moE r (upd i 7 (T_mean g (nI k) (nI q))))], [((r 0), .inl (Γ.2.1 0, 523, .inl g))]]) A) ([.ref a, .int (nI k), .int (nI q)] : List Value).toArray s 0 0 A) (F0 mi_ 51 ls ([])) := by
            intro fuel
            induction fuel with
            | zero => intro t hfuel; exact absurd hfuel (Nat.not_lt_zero _)
            | succ fuel ih =>
              intro t hfuel ht H locs ls hP hD hS hl
              refine lv_iload hx hb dX4_mean_51 (lv_at hl 0 rfl) ?_
              refine lv_iload_n hx hb dX4_mean_53 rfl (lv_at hl 5 rfl) ?_
              refine lv_icmp_gt (tgt := 101) hx hb dX4_mean_54 (by decide) (fun c_10 => ?_) (fun c_10 => ?_)
              · -- 54 taken
                have n_10 : q < k + t := (nI_ltI (by omega) (by omega)).mp (show nI q < nI (k + t) from c_10)
                have et : t = q + 1 - k := by omega
                have hz := hnan (by simp [T_mean, c_2, nI_clamp (show k < 2 ^ 31 by omega), c_5, nI_clamp (show q < 2 ^ 31 by omega), n_7, d_7, n_8, d_8, n_10, c_10])
                rw [nI_clamp (show k < 2 ^ 31 by omega), nI_clamp (show q < 2 ^ 31 by omega)] at hz
                rw [show sumUp (fun q => g (7 * q + 105)) k t = meanC g k q from by rw [meanC, et], show sumUp (fun q => g (7 * q + 104)) k t = meanL g k q from by rw [meanL, et]] at hl
                refine lv_iload_n hx hb dX4_mean_101 rfl (lv_at hl 2 rfl) ?_
                refine lv_i2d hx hb dX4_mean_102 ?_
                refine lv_iload hx hb dX4_mean_103 (lv_at hl 1 rfl) ?_
                refine lv_i2d hx hb dX4_mean_105 ?_
                refine lv_ddiv hx hb dX4_mean_106 (hz) ?_
                exact b_dret hx hb hr hlocks hP hD hS (Nat.le_of_ble_eq_true rfl) (Nat.le_of_ble_eq_true rfl) ⟨(by first | with_reducible rfl | (simp [oSelD, T_mean, c_2, nI_clamp (show k < 2 ^ 31 by omega), c_5, nI_clamp (show q < 2 ^ 31 by omega), n_7, d_7, n_8, d_8, n_10, c_10]; done) | rfl), (by first | with_reducible rfl | (simp [oSelD, T_mean, c_2, nI_clamp (show k < 2 ^ 31 by omega), c_5, nI_clamp (show q < 2 ^ 31 by omega), n_7, d_7, n_8, d_8, n_10, c_10]; done) | rfl)⟩ dX4_mean_107
              · -- 54 not taken
                have n_10 : ¬ (q < k + t) := fun h => c_10 ((nI_ltI (a := q) (b := k + t) (by omega) (by omega)).mpr h)
                refine lv_iload hx hb dX4_mean_57 (lv_at hl 1 rfl) ?_
                refine lv_aload_n hx hb dX4_mean_59 rfl (lv_at hl 3 rfl) ?_
                refine b_get (C := RX4) (T := TX4) (N := 16) (v := .ref (r 0)) hx hb hts in_X4 hown hK (b_at (k := 0) hP rfl) rfl 0 (by decide) q1807 (fun _ h9 => h9) rfl dX4_mean_60 ?_
                refine lv_bipush (v := 103) hx hb dX4_mean_63 (by decide) ?_
                refine lv_bipush (v := 7) hx hb dX4_mean_65 (by decide) ?_
                refine lv_iload hx hb dX4_mean_67 (lv_at hl 0 rfl) ?_
                refine lv_imul hx hb dX4_mean_69 ?_
                refine b_top (nI_mulE (a := 7) (b := k + t) (c := 7 * k + 7 * t) rfl rfl (by first | omega | rfl)) ?_
                refine lv_iadd hx hb dX4_mean_70 ?_
                refine b_top (nI_addE (a := 103) (b := 7 * k + 7 * t) (c := 7 * k + 7 * t + 103) rfl rfl (by first | omega | rfl)) ?_
                refine lv_iconst (v := 1) hx hb dX4_mean_71 (by decide) ?_
                refine lv_iadd hx hb dX4_mean_72 ?_
                refine b_top (nI_addE (a := 7 * k + 7 * t + 103) (b := 1) (c := 7 * k + 7 * t + 104) rfl rfl (by first | omega | rfl)) ?_
                refine b_iald hx hb hK (b_at (k := 1) hP rfl) (7 * k + 7 * t + 104) rfl (by omega) (by omega) dX4_mean_73 ?_
                refine lv_iadd hx hb dX4_mean_74 ?_
                refine b_top (show ((sumUp (fun q => g (7 * q + 104)) k t) + (g (7 * k + 7 * t + 104))) = sumUp (fun q => g (7 * q + 104)) k (t + 1) from by rw [sumUp, show 7 * (k + t) + 104 = 7 * k + 7 * t + 104 by omega]) ?_
                refine lv_istore (lv' := [(4, .int (sumUp (fun q => g (7 * q + 104)) k (t + 1))), (5, .int (nI (k + t))), (3, .int (sumUp (fun q => g (7 * q + 105)) k t)), (0, .ref a), (1, .int (nI k)), (2, .int (nI q))]) hx hb dX4_mean_75 hl (by decide) rfl (fun ls hl => ?_)
                refine lv_iload_n hx hb dX4_mean_77 rfl (lv_at hl 2 rfl) ?_
                refine lv_aload_n hx hb dX4_mean_78 rfl (lv_at hl 3 rfl) ?_
                refine b_get (C := RX4) (T := TX4) (N := 16) (v := .ref (r 0)) hx hb hts in_X4 hown hK (b_at (k := 0) hP rfl) rfl 0 (by decide) q1807 (fun _ h9 => h9) rfl dX4_mean_79 ?_
                refine lv_bipush (v := 103) hx hb dX4_mean_82 (by decide) ?_
                refine lv_bipush (v := 7) hx hb dX4_mean_84 (by decide) ?_
                refine lv_iload hx hb dX4_mean_86 (lv_at hl 1 rfl) ?_
                refine lv_imul hx hb dX4_mean_88 ?_
                refine b_top (nI_mulE (a := 7) (b := k + t) (c := 7 * k + 7 * t) rfl rfl (by first | omega | rfl)) ?_
                refine lv_iadd hx hb dX4_mean_89 ?_
                refine b_top (nI_addE (a := 103) (b := 7 * k + 7 * t) (c := 7 * k + 7 * t + 103) rfl rfl (by first | omega | rfl)) ?_
                refine lv_iconst (v := 2) hx hb dX4_mean_90 (by decide) ?_
                refine lv_iadd hx hb dX4_mean_91 ?_
                refine b_top (nI_addE (a := 7 * k + 7 * t + 103) (b := 2) (c := 7 * k + 7 * t + 105) rfl rfl (by first | omega | rfl)) ?_
                refine b_iald hx hb hK (b_at (k := 1) hP rfl) (7 * k + 7 * t + 105) rfl (by omega) (by omega) dX4_mean_92 ?_
                refine lv_iadd hx hb dX4_mean_93 ?_
                refine b_top (show ((sumUp (fun q => g (7 * q + 105)) k t) + (g (7 * k + 7 * t + 105))) = sumUp (fun q => g (7 * q + 105)) k (t + 1) from by rw [sumUp, show 7 * (k + t) + 105 = 7 * k + 7 * t + 105 by omega]) ?_
                refine lv_istore_n (lv' := [(3, .int (sumUp (fun q => g (7 * q + 105)) k (t + 1))), (4, .int (sumUp (fun q => g (7 * q + 104)) k (t + 1))), (5, .int (nI (k + t))), (0, .ref a), (1, .int (nI k)), (2, .int (nI q))]) hx hb dX4_mean_94 rfl hl (by decide) rfl (fun ls hl => ?_)
                refine lv_iinc (v := (nI (k + t + 1))) (lv' := [(5, .int (nI (k + t + 1))), (3, .int (sumUp (fun q => g (7 * q + 105)) k (t + 1))), (4, .int (sumUp (fun q => g (7 * q + 104)) k (t + 1))), (0, .ref a), (1, .int (nI k)), (2, .int (nI q))]) hx hb dX4_mean_95 hl (k := 2) rfl (nI_addE (b := 1) rfl rfl (by omega)) (by decide) rfl (fun ls hl => ?_)
                refine lv_goto (tgt := 51) hx hb dX4_mean_98 (by decide) ?_
                exact ih (t + 1) (by omega) (by omega) _ _ _ hP hD hS (lv_sub hl [0, 2, 1, 3, 4, 5] rfl)
          exact loop_9 ((q + 1 - (k + 0)) + 1) 0 (Nat.lt_succ_self _) (by omega) _ _ _ hP hD hS (lv_sub hl [0, 1, 2, 3, 4, 5] rfl)
        · -- 38 not taken
          have n_8 : ¬ (0 ≤ 0) := fun h => c_8 ((nI_leI (a := 0) (b := 0) (by omega) (by omega)).mpr h)
          have d_8 := Int32.not_le.mp c_8
          exact absurd n_8 (by omega)
      · -- 19 not taken
        have n_7 : ¬ (k ≤ q) := fun h => c_7 ((nI_leI (a := k) (b := q) (by omega) (by omega)).mpr h)
        have d_7 := Int32.not_le.mp c_7
        refine lv_iconst (v := 2) hx hb dX4_mean_22 (by decide) ?_
        refine lv_goto (tgt := 31) hx hb dX4_mean_23 (by decide) ?_
        refine b_put (C := RX4) (T := TX4) (N := 16) (ty := .int) (v := .int 2) hx hb hts in_X4 tyX4_ok nmX4 hown hK hP hD hS 0 rfl rfl 7 (by decide) q1814 (fun _ h9 => h9) rfl (by decide +kernel) rfl rfl (Nat.le_of_ble_eq_true rfl) dX4_mean_31 (fun H locs hP hD hS => ?_)
        have hP : WP Γ [[(a, moE r (upd i 7 2))], [((r 0), .inl (Γ.2.1 0, 523, .inl g))]] H := hP
        have hD : WD A [[(a, moE r (upd i 7 2))], [((r 0), .inl (Γ.2.1 0, 523, .inl g))]] := hD
        refine lv_aload_n hx hb dX4_mean_34 rfl (lv_at hl 0 rfl) ?_
        refine b_get (C := RX4) (T := TX4) (N := 16) (v := .int 2) hx hb hts in_X4 hown hK (b_at (k := 0) hP rfl) rfl 7 (by decide) q1814 (fun _ h9 => h9) rfl dX4_mean_35 ?_
        refine lv_if_le (tgt := 43) hx hb dX4_mean_38 (by decide) (fun c_11 => ?_) (fun c_11 => ?_)
        · -- 38 taken
          have n_11 : 2 ≤ 0 := (nI_leI (by omega) (by omega)).mp (show nI 2 ≤ nI 0 from c_11)
          have d_11 := Int32.not_lt.mpr c_11
          exact absurd n_11 (by omega)
        · -- 38 not taken
          have n_11 : ¬ (2 ≤ 0) := fun h => c_11 ((nI_leI (a := 2) (b := 0) (by omega) (by omega)).mpr h)
          have d_11 := Int32.not_le.mp c_11
          refine lv_dconst0 hx hb dX4_mean_41 ?_
          exact b_dret hx hb hr hlocks hP hD hS (Nat.le_of_ble_eq_true rfl) (Nat.le_of_ble_eq_true rfl) ⟨(by first | with_reducible rfl | (simp [oSelD, T_mean, c_2, nI_clamp (show k < 2 ^ 31 by omega), c_5, nI_clamp (show q < 2 ^ 31 by omega), n_7, d_7, n_11, d_11]; done) | rfl), (by first | with_reducible rfl | (simp [oSelD, T_mean, c_2, nI_clamp (show k < 2 ^ 31 by omega), c_5, nI_clamp (show q < 2 ^ 31 by omega), n_7, d_7, n_11, d_11]; done) | rfl)⟩ dX4_mean_42
set_option maxHeartbeats 4000000 in
set_option maxRecDepth 100000 in
theorem mt_Mo_greatest (l : Launch) (Γ : GE) (sz : Nat) (a : Nat) (r : Nat → Nat) (i : Nat → Int32) (g : Nat → Int32) (w : Int32) (np : Nat) (hg11 : g 11 = nI np) (hnp : np ≤ 60) : KM l yX4_greatest cX4_greatest 4 (some FieldType.int) Γ 1 22 0 0 [.ref a, .int w] [[(a, moE r i)], [((r 0), .inl (Γ.2.1 0, 523, .inl g))]] [] sz (Qi Γ (fun r_ u_ => r_ = (oSel (T_great np w) (nI (bstN (fun q => g (7 * q + w.toNatClampNeg + 103)) np)) 0) ∧ u_ = [[(a, moE r (upd i 7 (T_great np w)))], [((r 0), .inl (Γ.2.1 0, 523, .inl g))]])) := by
  refine K_intro (by decide) (Nat.le_of_ble_eq_true rfl) ?_
  intro pr_ ev_ s mi_ below meth cd_ A ls hx hb hr hml hown hts hlocks hname hK hE hRo hP hD hA hS hsz hl
  have hl : lv_has ls 4 [(0, .ref a), (1, .int w)] := hl
  have hown : s.vm.findClass RX4 = some mi_.cls := hown
  refine lv_aload_n hx hb dX4_greatest_0 rfl (lv_at hl 0 rfl) ?_
  refine lv_iload_n hx hb dX4_greatest_1 rfl (lv_at hl 1 rfl) ?_
  refine lv_iconst (v := 0) hx hb dX4_greatest_2 (by decide) ?_
  refine lv_bipush (v := 6) hx hb dX4_greatest_3 (by decide) ?_
  refine b_calli (br := [[(a, moE r i)], [((r 0), .inl (Γ.2.1 0, 523, .inl g))]]) (b_runS ⟨hx, hb, hml, hown, hts⟩ (mt_Mo_in l Γ _ w 0 6) (lw_S q1879 q1880 q73 q1881) rfl rfl 3 (by decide +kernel) ⟨(Nat.le_of_ble_eq_true rfl), (Nat.le_of_ble_eq_true rfl)⟩ (c_pre hP hD hS hA hK hE [] rfl rfl ro_nil) rfl hl.1 rfl (Nat.le_of_ble_eq_true rfl) dX4_greatest_5 ⟨(Nat.le_of_ble_eq_true rfl), (Nat.le_of_ble_eq_true rfl)⟩) hP hD hS hA [] [0, 1] rfl rfl rfl (fun r_1 u_1 H locs hw_1 hP hD hS _ => ?_)
  obtain ⟨rfl, rfl⟩ := hw_1
  have hP : WP Γ [[(a, moE r i)], [((r 0), .inl (Γ.2.1 0, 523, .inl g))]] H := hP
  have hD : WD A [[(a, moE r i)], [((r 0), .inl (Γ.2.1 0, 523, .inl g))]] := hD
  refine lv_if_ne (tgt := 15) hx hb dX4_greatest_8 (by decide) (fun c_2 => ?_) (fun c_2 => ?_)
  · -- 8 taken
    obtain ⟨k, hk1, hk2, rfl⟩ := inR_ab (a := 0) (b := 6) rfl rfl (by decide) (by decide) c_2
    refine lv_aload_n hx hb dX4_greatest_15 rfl (lv_at hl 0 rfl) ?_
    refine b_get (C := RX4) (T := TX4) (N := 16) (v := .ref (r 0)) hx hb hts in_X4 hown hK (b_at (k := 0) hP rfl) rfl 0 (by decide) q1807 (fun _ h9 => h9) rfl dX4_greatest_16 ?_
    refine lv_bipush (v := 11) hx hb dX4_greatest_19 (by decide) ?_
    refine b_iald hx hb hK (b_at (k := 1) hP rfl) 11 rfl (by omega) (by omega) dX4_greatest_21 ?_
    refine b_top (hg11) ?_
    refine lv_if_ne (tgt := 29) hx hb dX4_greatest_22 (by decide) (fun c_3 => ?_) (fun c_3 => ?_)
    · -- 22 taken
      have n_3 : ¬ (np = 0) := fun h => c_3 ((nI_eq (a := np) (b := 0) (by omega) (by omega)).mpr h)
      refine lv_iconst (v := 0) hx hb dX4_greatest_29 (by decide) ?_
      refine b_put (C := RX4) (T := TX4) (N := 16) (ty := .int) (v := .int 0) hx hb hts in_X4 tyX4_ok nmX4 hown hK hP hD hS 0 rfl rfl 7 (by decide) q1814 (fun _ h9 => h9) rfl (by decide +kernel) rfl rfl (Nat.le_of_ble_eq_true rfl) dX4_greatest_30 (fun H locs hP hD hS => ?_)
      have hP : WP Γ [[(a, moE r (upd i 7 0))], [((r 0), .inl (Γ.2.1 0, 523, .inl g))]] H := hP
      have hD : WD A [[(a, moE r (upd i 7 0))], [((r 0), .inl (Γ.2.1 0, 523, .inl g))]] := hD
      refine lv_iconst (v := 0) hx hb dX4_greatest_33 (by decide) ?_
      refine lv_istore_n (lv' := [(2, .int 0), (0, .ref a), (1, .int (nI k))]) hx hb dX4_greatest_34 rfl hl (by decide) rfl (fun ls hl => ?_)
      refine lv_iconst (v := 1) hx hb dX4_greatest_35 (by decide) ?_
      refine lv_istore_n (lv' := [(3, .int 1), (2, .int 0), (0, .ref a), (1, .int (nI k))]) hx hb dX4_greatest_36 rfl hl (by decide) rfl (fun ls hl => ?_)
      have hl : lv_has ls 4 [(3, .int 1), (2, .int (nI ((bstN (fun q => g (7 * q + k + 103)) 1)))), (0, .ref a), (1, .int (nI k))] := by rw [bstN_1]; exact hl
      have loop_4 : ∀ (fuel : Nat) (p : Nat), np - p < fuel → (1 ≤ p) → (p ≤ np) → ∀ (H : Heap) (locs : List Loc) (ls : Array Slot), WP Γ [[(a, moE r (upd i 7 0))], [((r 0), .inl (Γ.2.1 0, 523, .inl g))]] H → WD A [[(a, moE r (upd i 7 0))], [((r 0), .inl (Γ.2.1 0, 523, .inl g))]] → va_S A s.heap H locs → lv_has ls 4 [(3, .int (nI p)), (2, .int (nI ((bstN (fun q => g (7 * q + k + 103)) p)))), (0, .ref a), (1, .int (nI k))] → W pr_ l ev_ { frames := 1, cells := 0, slots := 0, locals := 22 } s mi_ ([.ref a, .int (nI k)] : List Value).toArray below meth cd_ H locs 0 0 (MQ below (Qi Γ (fun r_ u_ => r_ = (oSel (T_great np (nI k)) (nI (bstN (fun q => g (7 * q + (nI k).toNatClampNeg + 103)) np)) 0) ∧ u_ = [[(a, moE r (upd i 7 (T_great np (nI k))))], [((r 0), .inl (Γ.2.1 0, 523, .inl g))]]) A) ([.ref a, .int (nI k)] : List Value).toArray s 0 0 A) (F0 mi_ 37 ls ([])) := by
        intro fuel
        induction fuel with
        | zero => intro p hfuel; exact absurd hfuel (Nat.not_lt_zero _)
        | succ fuel ih =>
          intro p hfuel hp1 hp H locs ls hP hD hS hl
          refine lv_iload_n hx hb dX4_greatest_37 rfl (lv_at hl 0 rfl) ?_
          refine lv_aload_n hx hb dX4_greatest_38 rfl (lv_at hl 2 rfl) ?_
          refine b_get (C := RX4) (T := TX4) (N := 16) (v := .ref (r 0)) hx hb hts in_X4 hown hK (b_at (k := 0) hP rfl) rfl 0 (by decide) q1807 (fun _ h9 => h9) rfl dX4_greatest_39 ?_
          refine lv_bipush (v := 11) hx hb dX4_greatest_42 (by decide) ?_
          refine b_iald hx hb hK (b_at (k := 1) hP rfl) 11 rfl (by omega) (by omega) dX4_greatest_44 ?_
          refine b_top (hg11) ?_
          refine lv_icmp_ge (tgt := 98) hx hb dX4_greatest_45 (by decide) (fun c_5 => ?_) (fun c_5 => ?_)
          · -- 45 taken
            have n_5 : np ≤ p := (nI_leI (by omega) (by omega)).mp (show nI np ≤ nI p from c_5)
            have d_5 := Int32.not_lt.mpr c_5
            refine lv_iload_n hx hb dX4_greatest_98 rfl (lv_at hl 1 rfl) ?_
            exact b_iret hx hb hr hlocks hP hD hS (Nat.le_of_ble_eq_true rfl) (Nat.le_of_ble_eq_true rfl) ⟨(by rw [show np = p by omega]; simp [oSel, T_great, c_2, nI_clamp (show k < 2 ^ 31 by omega), d_5, show ¬ p = 0 by omega]), (by first | with_reducible rfl | (simp [oSel, T_great, c_2, nI_clamp (show k < 2 ^ 31 by omega), n_3, n_5, d_5]; done) | rfl)⟩ dX4_greatest_99
          · -- 45 not taken
            have n_5 : ¬ (np ≤ p) := fun h => c_5 ((nI_leI (a := np) (b := p) (by omega) (by omega)).mpr h)
            have d_5 := Int32.not_le.mp c_5
            have hb9 := bstN_lt (fun q => g (7 * q + k + 103)) p (by omega)
            refine lv_aload_n hx hb dX4_greatest_48 rfl (lv_at hl 2 rfl) ?_
            refine b_get (C := RX4) (T := TX4) (N := 16) (v := .int 0) hx hb hts in_X4 hown hK (b_at (k := 0) hP rfl) rfl 7 (by decide) q1814 (fun _ h9 => h9) rfl dX4_greatest_49 ?_
            refine lv_if_ne (tgt := 98) hx hb dX4_greatest_52 (by decide) (fun c_6 => ?_) (fun c_6 => ?_)
            · -- 52 taken
              have n_6 : ¬ (0 = 0) := fun h => c_6 ((nI_eq (a := 0) (b := 0) (by omega) (by omega)).mpr h)
              exact absurd n_6 (by omega)
            · -- 52 not taken
              have n_6 : 0 = 0 := (nI_eq (by omega) (by omega)).mp (show nI 0 = nI 0 from c_6)
              refine lv_aload_n hx hb dX4_greatest_55 rfl (lv_at hl 2 rfl) ?_
              refine b_get (C := RX4) (T := TX4) (N := 16) (v := .ref (r 0)) hx hb hts in_X4 hown hK (b_at (k := 0) hP rfl) rfl 0 (by decide) q1807 (fun _ h9 => h9) rfl dX4_greatest_56 ?_
              refine lv_bipush (v := 103) hx hb dX4_greatest_59 (by decide) ?_
              refine lv_bipush (v := 7) hx hb dX4_greatest_61 (by decide) ?_
              refine lv_iload_n hx hb dX4_greatest_63 rfl (lv_at hl 0 rfl) ?_
              refine lv_imul hx hb dX4_greatest_64 ?_
              refine b_top (nI_mulE (a := 7) (b := p) (c := 7 * p) rfl rfl (by first | omega | rfl)) ?_
              refine lv_iadd hx hb dX4_greatest_65 ?_
              refine b_top (nI_addE (a := 103) (b := 7 * p) (c := 7 * p + 103) rfl rfl (by first | omega | rfl)) ?_
              refine lv_iload_n hx hb dX4_greatest_66 rfl (lv_at hl 3 rfl) ?_
              refine lv_iadd hx hb dX4_greatest_67 ?_
              refine b_top (nI_addE (a := 7 * p + 103) (b := k) (c := 7 * p + k + 103) rfl rfl (by first | omega | rfl)) ?_
              refine b_iald hx hb hK (b_at (k := 1) hP rfl) (7 * p + k + 103) rfl (by omega) (by omega) dX4_greatest_68 ?_
              refine lv_aload_n hx hb dX4_greatest_69 rfl (lv_at hl 2 rfl) ?_
              refine b_get (C := RX4) (T := TX4) (N := 16) (v := .ref (r 0)) hx hb hts in_X4 hown hK (b_at (k := 0) hP rfl) rfl 0 (by decide) q1807 (fun _ h9 => h9) rfl dX4_greatest_70 ?_
              refine lv_bipush (v := 103) hx hb dX4_greatest_73 (by decide) ?_
              refine lv_bipush (v := 7) hx hb dX4_greatest_75 (by decide) ?_
              refine lv_iload_n hx hb dX4_greatest_77 rfl (lv_at hl 1 rfl) ?_
              refine lv_imul hx hb dX4_greatest_78 ?_
              refine b_top (nI_mulE (a := 7) (b := (bstN (fun q => g (7 * q + k + 103)) p)) (c := 7 * (bstN (fun q => g (7 * q + k + 103)) p)) rfl rfl (by first | omega | rfl)) ?_
              refine lv_iadd hx hb dX4_greatest_79 ?_
              refine b_top (nI_addE (a := 103) (b := 7 * (bstN (fun q => g (7 * q + k + 103)) p)) (c := 7 * (bstN (fun q => g (7 * q + k + 103)) p) + 103) rfl rfl (by first | omega | rfl)) ?_
              refine lv_iload_n hx hb dX4_greatest_80 rfl (lv_at hl 3 rfl) ?_
              refine lv_iadd hx hb dX4_greatest_81 ?_
              refine b_top (nI_addE (a := 7 * (bstN (fun q => g (7 * q + k + 103)) p) + 103) (b := k) (c := 7 * (bstN (fun q => g (7 * q + k + 103)) p) + k + 103) rfl rfl (by first | omega | rfl)) ?_
              refine b_iald hx hb hK (b_at (k := 1) hP rfl) (7 * (bstN (fun q => g (7 * q + k + 103)) p) + k + 103) rfl (by omega) (by omega) dX4_greatest_82 ?_
              refine lv_icmp_le (tgt := 90) hx hb dX4_greatest_83 (by decide) (fun c_7 => ?_) (fun c_7 => ?_)
              · -- 83 taken
                have d_7 := Int32.not_lt.mpr c_7
                refine lv_iload_n hx hb dX4_greatest_90 rfl (lv_at hl 1 rfl) ?_
                refine b_top (show (nI ((bstN (fun q => g (7 * q + k + 103)) p))) = nI (bstN (fun q => g (7 * q + k + 103)) (p + 1)) from by rw [bstN]; simp [c_7, d_7]) ?_
                refine lv_istore_n (lv' := [(2, .int (nI ((bstN (fun q => g (7 * q + k + 103)) (p + 1))))), (3, .int (nI p)), (0, .ref a), (1, .int (nI k))]) hx hb dX4_greatest_91 rfl hl (by decide) rfl (fun ls hl => ?_)
                refine lv_iinc (v := (nI (p + 1))) (lv' := [(3, .int (nI (p + 1))), (2, .int (nI ((bstN (fun q => g (7 * q + k + 103)) (p + 1))))), (0, .ref a), (1, .int (nI k))]) hx hb dX4_greatest_92 hl (k := 1) rfl (nI_addE (b := 1) rfl rfl (by omega)) (by decide) rfl (fun ls hl => ?_)
                refine lv_goto (tgt := 37) hx hb dX4_greatest_95 (by decide) ?_
                exact ih (p + 1) (by omega) (by omega) (by omega) _ _ _ hP hD hS (lv_sub hl [0, 1, 2, 3] rfl)
              · -- 83 not taken
                have d_7 := Int32.not_le.mp c_7
                refine lv_iload_n hx hb dX4_greatest_86 rfl (lv_at hl 0 rfl) ?_
                refine lv_goto (tgt := 91) hx hb dX4_greatest_87 (by decide) ?_
                refine b_top (show (nI p) = nI (bstN (fun q => g (7 * q + k + 103)) (p + 1)) from by rw [bstN]; simp [c_7, d_7]) ?_
                refine lv_istore_n (lv' := [(2, .int (nI ((bstN (fun q => g (7 * q + k + 103)) (p + 1))))), (3, .int (nI p)), (0, .ref a), (1, .int (nI k))]) hx hb dX4_greatest_91 rfl hl (by decide) rfl (fun ls hl => ?_)
                refine lv_iinc (v := (nI (p + 1))) (lv' := [(3, .int (nI (p + 1))), (2, .int (nI ((bstN (fun q => g (7 * q + k + 103)) (p + 1))))), (0, .ref a), (1, .int (nI k))]) hx hb dX4_greatest_92 hl (k := 1) rfl (nI_addE (b := 1) rfl rfl (by omega)) (by decide) rfl (fun ls hl => ?_)
                refine lv_goto (tgt := 37) hx hb dX4_greatest_95 (by decide) ?_
                exact ih (p + 1) (by omega) (by omega) (by omega) _ _ _ hP hD hS (lv_sub hl [0, 1, 2, 3] rfl)
      exact loop_4 ((np - 1) + 1) 1 (Nat.lt_succ_self _) (Nat.le_refl _) (by omega) _ _ _ hP hD hS (lv_sub hl [0, 1, 2, 3] rfl)
    · -- 22 not taken
      have n_3 : np = 0 := (nI_eq (by omega) (by omega)).mp (show nI np = nI 0 from c_3)
      refine lv_iconst (v := 2) hx hb dX4_greatest_25 (by decide) ?_
      refine lv_goto (tgt := 30) hx hb dX4_greatest_26 (by decide) ?_
      refine b_put (C := RX4) (T := TX4) (N := 16) (ty := .int) (v := .int 2) hx hb hts in_X4 tyX4_ok nmX4 hown hK hP hD hS 0 rfl rfl 7 (by decide) q1814 (fun _ h9 => h9) rfl (by decide +kernel) rfl rfl (Nat.le_of_ble_eq_true rfl) dX4_greatest_30 (fun H locs hP hD hS => ?_)
      have hP : WP Γ [[(a, moE r (upd i 7 2))], [((r 0), .inl (Γ.2.1 0, 523, .inl g))]] H := hP
      have hD : WD A [[(a, moE r (upd i 7 2))], [((r 0), .inl (Γ.2.1 0, 523, .inl g))]] := hD
      refine lv_iconst (v := 0) hx hb dX4_greatest_33 (by decide) ?_
      refine lv_istore_n (lv' := [(2, .int 0), (0, .ref a), (1, .int (nI k))]) hx hb dX4_greatest_34 rfl hl (by decide) rfl (fun ls hl => ?_)
      refine lv_iconst (v := 1) hx hb dX4_greatest_35 (by decide) ?_
      refine lv_istore_n (lv' := [(3, .int 1), (2, .int 0), (0, .ref a), (1, .int (nI k))]) hx hb dX4_greatest_36 rfl hl (by decide) rfl (fun ls hl => ?_)
      refine lv_iload_n hx hb dX4_greatest_37 rfl (lv_at hl 0 rfl) ?_
      refine lv_aload_n hx hb dX4_greatest_38 rfl (lv_at hl 2 rfl) ?_
      refine b_get (C := RX4) (T := TX4) (N := 16) (v := .ref (r 0)) hx hb hts in_X4 hown hK (b_at (k := 0) hP rfl) rfl 0 (by decide) q1807 (fun _ h9 => h9) rfl dX4_greatest_39 ?_
      refine lv_bipush (v := 11) hx hb dX4_greatest_42 (by decide) ?_
      refine b_iald hx hb hK (b_at (k := 1) hP rfl) 11 rfl (by omega) (by omega) dX4_greatest_44 ?_
      refine b_top (hg11) ?_
      refine lv_icmp_ge (tgt := 98) hx hb dX4_greatest_45 (by decide) (fun c_8 => ?_) (fun c_8 => ?_)
      · -- 45 taken
        have n_8 : np ≤ 1 := (nI_leI (by omega) (by omega)).mp (show nI np ≤ nI 1 from c_8)
        have d_8 := Int32.not_lt.mpr c_8
        refine lv_iload_n hx hb dX4_greatest_98 rfl (lv_at hl 1 rfl) ?_
        exact b_iret hx hb hr hlocks hP hD hS (Nat.le_of_ble_eq_true rfl) (Nat.le_of_ble_eq_true rfl) ⟨(by first | with_reducible rfl | (simp [oSel, T_great, c_2, nI_clamp (show k < 2 ^ 31 by omega), n_3, n_8, d_8]; done) | (subst n_3; simp [oSel, T_great, c_2, nI_clamp (show k < 2 ^ 31 by omega), n_8, d_8]; done) | rfl), (by first | with_reducible rfl | (simp [oSel, T_great, c_2, nI_clamp (show k < 2 ^ 31 by omega), n_3, n_8, d_8]; done) | (subst n_3; simp [oSel, T_great, c_2, nI_clamp (show k < 2 ^ 31 by omega), n_8, d_8]; done) | rfl)⟩ dX4_greatest_99
      · -- 45 not taken
        have n_8 : ¬ (np ≤ 1) := fun h => c_8 ((nI_leI (a := np) (b := 1) (by omega) (by omega)).mpr h)
        have d_8 := Int32.not_le.mp c_8
        refine lv_aload_n hx hb dX4_greatest_48 rfl (lv_at hl 2 rfl) ?_
        refine b_get (C := RX4) (T := TX4) (N := 16) (v := .int 2) hx hb hts in_X4 hown hK (b_at (k := 0) hP rfl) rfl 7 (by decide) q1814 (fun _ h9 => h9) rfl dX4_greatest_49 ?_
        refine lv_if_ne (tgt := 98) hx hb dX4_greatest_52 (by decide) (fun c_9 => ?_) (fun c_9 => ?_)
        · -- 52 taken
          have n_9 : ¬ (2 = 0) := fun h => c_9 ((nI_eq (a := 2) (b := 0) (by omega) (by omega)).mpr h)
          refine lv_iload_n hx hb dX4_greatest_98 rfl (lv_at hl 1 rfl) ?_
          exact b_iret hx hb hr hlocks hP hD hS (Nat.le_of_ble_eq_true rfl) (Nat.le_of_ble_eq_true rfl) ⟨(by first | with_reducible rfl | (simp [oSel, T_great, c_2, nI_clamp (show k < 2 ^ 31 by omega), n_3, n_8, d_8, n_9]; done) | (subst n_3; simp [oSel, T_great, c_2, nI_clamp (show k < 2 ^ 31 by omega), n_8, d_8, n_9]; done) | rfl), (by first | with_reducible rfl | (simp [oSel, T_great, c_2, nI_clamp (show k < 2 ^ 31 by omega), n_3, n_8, d_8, n_9]; done) | (subst n_3; simp [oSel, T_great, c_2, nI_clamp (show k < 2 ^ 31 by omega), n_8, d_8, n_9]; done) | rfl)⟩ dX4_greatest_99
        · -- 52 not taken
          have n_9 : 2 = 0 := (nI_eq (by omega) (by omega)).mp (show nI 2 = nI 0 from c_9)
          exact absurd n_9 (by omega)
  · -- 8 not taken
    refine lv_iconst (v := 1) hx hb dX4_greatest_11 (by decide) ?_
    refine lv_goto (tgt := 30) hx hb dX4_greatest_12 (by decide) ?_
    refine b_put (C := RX4) (T := TX4) (N := 16) (ty := .int) (v := .int 1) hx hb hts in_X4 tyX4_ok nmX4 hown hK hP hD hS 0 rfl rfl 7 (by decide) q1814 (fun _ h9 => h9) rfl (by decide +kernel) rfl rfl (Nat.le_of_ble_eq_true rfl) dX4_greatest_30 (fun H locs hP hD hS => ?_)
    have hP : WP Γ [[(a, moE r (upd i 7 1))], [((r 0), .inl (Γ.2.1 0, 523, .inl g))]] H := hP
    have hD : WD A [[(a, moE r (upd i 7 1))], [((r 0), .inl (Γ.2.1 0, 523, .inl g))]] := hD
    refine lv_iconst (v := 0) hx hb dX4_greatest_33 (by decide) ?_
    refine lv_istore_n (lv' := [(2, .int 0), (0, .ref a), (1, .int w)]) hx hb dX4_greatest_34 rfl hl (by decide) rfl (fun ls hl => ?_)
    refine lv_iconst (v := 1) hx hb dX4_greatest_35 (by decide) ?_
    refine lv_istore_n (lv' := [(3, .int 1), (2, .int 0), (0, .ref a), (1, .int w)]) hx hb dX4_greatest_36 rfl hl (by decide) rfl (fun ls hl => ?_)
    refine lv_iload_n hx hb dX4_greatest_37 rfl (lv_at hl 0 rfl) ?_
    refine lv_aload_n hx hb dX4_greatest_38 rfl (lv_at hl 2 rfl) ?_
    refine b_get (C := RX4) (T := TX4) (N := 16) (v := .ref (r 0)) hx hb hts in_X4 hown hK (b_at (k := 0) hP rfl) rfl 0 (by decide) q1807 (fun _ h9 => h9) rfl dX4_greatest_39 ?_
    refine lv_bipush (v := 11) hx hb dX4_greatest_42 (by decide) ?_
    refine b_iald hx hb hK (b_at (k := 1) hP rfl) 11 rfl (by omega) (by omega) dX4_greatest_44 ?_
    refine b_top (hg11) ?_
    refine lv_icmp_ge (tgt := 98) hx hb dX4_greatest_45 (by decide) (fun c_10 => ?_) (fun c_10 => ?_)
    · -- 45 taken
      have n_10 : np ≤ 1 := (nI_leI (by omega) (by omega)).mp (show nI np ≤ nI 1 from c_10)
      have d_10 := Int32.not_lt.mpr c_10
      refine lv_iload_n hx hb dX4_greatest_98 rfl (lv_at hl 1 rfl) ?_
      exact b_iret hx hb hr hlocks hP hD hS (Nat.le_of_ble_eq_true rfl) (Nat.le_of_ble_eq_true rfl) ⟨(by first | with_reducible rfl | (simp [oSel, T_great, c_2, n_10, d_10]; done) | rfl), (by first | with_reducible rfl | (simp [oSel, T_great, c_2, n_10, d_10]; done) | rfl)⟩ dX4_greatest_99
    · -- 45 not taken
      have n_10 : ¬ (np ≤ 1) := fun h => c_10 ((nI_leI (a := np) (b := 1) (by omega) (by omega)).mpr h)
      have d_10 := Int32.not_le.mp c_10
      refine lv_aload_n hx hb dX4_greatest_48 rfl (lv_at hl 2 rfl) ?_
      refine b_get (C := RX4) (T := TX4) (N := 16) (v := .int 1) hx hb hts in_X4 hown hK (b_at (k := 0) hP rfl) rfl 7 (by decide) q1814 (fun _ h9 => h9) rfl dX4_greatest_49 ?_
      refine lv_if_ne (tgt := 98) hx hb dX4_greatest_52 (by decide) (fun c_11 => ?_) (fun c_11 => ?_)
      · -- 52 taken
        have n_11 : ¬ (1 = 0) := fun h => c_11 ((nI_eq (a := 1) (b := 0) (by omega) (by omega)).mpr h)
        refine lv_iload_n hx hb dX4_greatest_98 rfl (lv_at hl 1 rfl) ?_
        exact b_iret hx hb hr hlocks hP hD hS (Nat.le_of_ble_eq_true rfl) (Nat.le_of_ble_eq_true rfl) ⟨(by first | with_reducible rfl | (simp [oSel, T_great, c_2, n_10, d_10, n_11]; done) | rfl), (by first | with_reducible rfl | (simp [oSel, T_great, c_2, n_10, d_10, n_11]; done) | rfl)⟩ dX4_greatest_99
      · -- 52 not taken
        have n_11 : 1 = 0 := (nI_eq (by omega) (by omega)).mp (show nI 1 = nI 0 from c_11)
        exact absurd n_11 (by omega)
set_option maxHeartbeats 4000000 in
set_option maxRecDepth 100000 in
theorem mt_Mo_account (l : Launch) (Γ : GE) (sz : Nat) (a : Nat) (r : Nat → Nat) (i : Nat → Int32) (g : Nat → Int32) (w : Int32) (n : Nat) (hg7 : g 7 = nI n) (hn : n ≤ 8) : KM l yX4_account cX4_account 2 (some FieldType.int) Γ 4 86 0 0 [.ref a, .int w] [[(a, moE r i)], [((r 0), .inl (Γ.2.1 0, 523, .inl g))]] [] sz (Qi Γ (fun r_ u_ => r_ = (oSel (T_rng w 8) (accM g w n) 0) ∧ u_ = [[(a, moE r (upd i 7 (T_rng w 8)))], [((r 0), .inl (Γ.2.1 0, 523, .inl g))]])) := by
  refine K_intro (by decide) (Nat.le_of_ble_eq_true rfl) ?_
  intro pr_ ev_ s mi_ below meth cd_ A ls hx hb hr hml hown hts hlocks hname hK hE hRo hP hD hA hS hsz hl
  have hl : lv_has ls 2 [(0, .ref a), (1, .int w)] := hl
  have hown : s.vm.findClass RX4 = some mi_.cls := hown
  refine lv_aload_n hx hb dX4_account_0 rfl (lv_at hl 0 rfl) ?_
  refine lv_iload_n hx hb dX4_account_1 rfl (lv_at hl 1 rfl) ?_
  refine lv_iconst (v := 0) hx hb dX4_account_2 (by decide) ?_
  refine lv_bipush (v := 8) hx hb dX4_account_3 (by decide) ?_
  refine b_calli (br := [[(a, moE r i)], [((r 0), .inl (Γ.2.1 0, 523, .inl g))]]) (b_runS ⟨hx, hb, hml, hown, hts⟩ (mt_Mo_in l Γ _ w 0 8) (lw_S q1879 q1880 q73 q1881) rfl rfl 3 (by decide +kernel) ⟨(Nat.le_of_ble_eq_true rfl), (Nat.le_of_ble_eq_true rfl)⟩ (c_pre hP hD hS hA hK hE [] rfl rfl ro_nil) rfl hl.1 rfl (Nat.le_of_ble_eq_true rfl) dX4_account_5 ⟨(Nat.le_of_ble_eq_true rfl), (Nat.le_of_ble_eq_true rfl)⟩) hP hD hS hA [] [0, 1] rfl rfl rfl (fun r_1 u_1 H locs hw_1 hP hD hS _ => ?_)
  obtain ⟨rfl, rfl⟩ := hw_1
  have hP : WP Γ [[(a, moE r i)], [((r 0), .inl (Γ.2.1 0, 523, .inl g))]] H := hP
  have hD : WD A [[(a, moE r i)], [((r 0), .inl (Γ.2.1 0, 523, .inl g))]] := hD
  refine lv_if_eq (tgt := 15) hx hb dX4_account_8 (by decide) (fun c_2 => ?_) (fun c_2 => ?_)
  · -- 8 taken
    refine lv_iconst (v := 1) hx hb dX4_account_15 (by decide) ?_
    refine b_put (C := RX4) (T := TX4) (N := 16) (ty := .int) (v := .int 1) hx hb hts in_X4 tyX4_ok nmX4 hown hK hP hD hS 0 rfl rfl 7 (by decide) q1814 (fun _ h9 => h9) rfl (by decide +kernel) rfl rfl (Nat.le_of_ble_eq_true rfl) dX4_account_16 (fun H locs hP hD hS => ?_)
    have hP : WP Γ [[(a, moE r (upd i 7 1))], [((r 0), .inl (Γ.2.1 0, 523, .inl g))]] H := hP
    have hD : WD A [[(a, moE r (upd i 7 1))], [((r 0), .inl (Γ.2.1 0, 523, .inl g))]] := hD
    refine lv_aload_n hx hb dX4_account_19 rfl (lv_at hl 0 rfl) ?_
    refine b_get (C := RX4) (T := TX4) (N := 16) (v := .int 1) hx hb hts in_X4 hown hK (b_at (k := 0) hP rfl) rfl 7 (by decide) q1814 (fun _ h9 => h9) rfl dX4_account_20 ?_
    refine lv_if_le (tgt := 28) hx hb dX4_account_23 (by decide) (fun c_3 => ?_) (fun c_3 => ?_)
    · -- 23 taken
      have n_3 : 1 ≤ 0 := (nI_leI (by omega) (by omega)).mp (show nI 1 ≤ nI 0 from c_3)
      have d_3 := Int32.not_lt.mpr c_3
      exact absurd n_3 (by omega)
    · -- 23 not taken
      have n_3 : ¬ (1 ≤ 0) := fun h => c_3 ((nI_leI (a := 1) (b := 0) (by omega) (by omega)).mpr h)
      have d_3 := Int32.not_le.mp c_3
      refine lv_iconst (v := 0) hx hb dX4_account_26 (by decide) ?_
      exact b_iret hx hb hr hlocks hP hD hS (Nat.le_of_ble_eq_true rfl) (Nat.le_of_ble_eq_true rfl) ⟨(by first | with_reducible rfl | (simp [oSel, T_rng, accM, c_2, n_3, d_3]; done) | rfl), (by first | with_reducible rfl | (simp [oSel, T_rng, accM, c_2, n_3, d_3]; done) | rfl)⟩ dX4_account_27
  · -- 8 not taken
    refine lv_iconst (v := 0) hx hb dX4_account_11 (by decide) ?_
    refine lv_goto (tgt := 16) hx hb dX4_account_12 (by decide) ?_
    refine b_put (C := RX4) (T := TX4) (N := 16) (ty := .int) (v := .int 0) hx hb hts in_X4 tyX4_ok nmX4 hown hK hP hD hS 0 rfl rfl 7 (by decide) q1814 (fun _ h9 => h9) rfl (by decide +kernel) rfl rfl (Nat.le_of_ble_eq_true rfl) dX4_account_16 (fun H locs hP hD hS => ?_)
    have hP : WP Γ [[(a, moE r (upd i 7 0))], [((r 0), .inl (Γ.2.1 0, 523, .inl g))]] H := hP
    have hD : WD A [[(a, moE r (upd i 7 0))], [((r 0), .inl (Γ.2.1 0, 523, .inl g))]] := hD
    refine lv_aload_n hx hb dX4_account_19 rfl (lv_at hl 0 rfl) ?_
    refine b_get (C := RX4) (T := TX4) (N := 16) (v := .int 0) hx hb hts in_X4 hown hK (b_at (k := 0) hP rfl) rfl 7 (by decide) q1814 (fun _ h9 => h9) rfl dX4_account_20 ?_
    refine lv_if_le (tgt := 28) hx hb dX4_account_23 (by decide) (fun c_4 => ?_) (fun c_4 => ?_)
    · -- 23 taken
      have n_4 : 0 ≤ 0 := (nI_leI (by omega) (by omega)).mp (show nI 0 ≤ nI 0 from c_4)
      have d_4 := Int32.not_lt.mpr c_4
      refine lv_iload_n hx hb dX4_account_28 rfl (lv_at hl 1 rfl) ?_
      by_cases c_5_0 : w = 0
      · -- case 0
        subst c_5_0
        refine lv_tableIn (tgt := 76) hx hb dX4_account_29 (by decide) (by decide) rfl (by decide) ?_
        refine lv_aload_n hx hb dX4_account_76 rfl (lv_at hl 0 rfl) ?_
        refine b_calli (br := []) (b_runV ⟨hx, hb, hml, hown, hts⟩ (mt_Mo_herd l Γ _ a r (upd i 7 0) g n (by first | exact hg7 | omega) (by first | exact hn | omega)) (lw_V q1944 q1946 qs42 q73 q1947) rfl rfl 0 (by decide +kernel) ⟨(Nat.le_of_ble_eq_true rfl), (Nat.le_of_ble_eq_true rfl)⟩ (c_pre hP hD hS hA hK hE [0, 1] rfl rfl ro_nil) (recv_at (q := (RX4, TX4, 16)) hK (b_at (k := 0) hP rfl) rfl) rfl hl.1 rfl (Nat.le_of_ble_eq_true rfl) dX4_account_77 ⟨(Nat.le_of_ble_eq_true rfl), (Nat.le_of_ble_eq_true rfl)⟩) hP hD hS hA [0, 1] [] rfl rfl rfl (fun r_6 u_6 H locs hw_6 hP hD hS _ => ?_)
        obtain ⟨rfl, rfl⟩ := hw_6
        have hP : WP Γ [[(a, moE r (upd i 7 0))], [((r 0), .inl (Γ.2.1 0, 523, .inl g))]] H := hP
        have hD : WD A [[(a, moE r (upd i 7 0))], [((r 0), .inl (Γ.2.1 0, 523, .inl g))]] := hD
        exact b_iret hx hb hr hlocks hP hD hS (Nat.le_of_ble_eq_true rfl) (Nat.le_of_ble_eq_true rfl) ⟨(by first | with_reducible rfl | (simp [oSel, T_rng, accM, c_2, n_4, d_4]; done) | rfl), (by first | with_reducible rfl | (simp [oSel, T_rng, accM, c_2, n_4, d_4]; done) | rfl)⟩ dX4_account_80
      by_cases c_5_1 : w = 1
      · -- case 1
        subst c_5_1
        refine lv_tableIn (tgt := 81) hx hb dX4_account_29 (by decide) (by decide) rfl (by decide) ?_
        refine lv_aload_n hx hb dX4_account_81 rfl (lv_at hl 0 rfl) ?_
        refine lv_iload_n hx hb dX4_account_82 rfl (lv_at hl 1 rfl) ?_
        refine b_calli (br := []) (b_runV ⟨hx, hb, hml, hown, hts⟩ (mt_Mo_cowsThat l Γ _ a r (upd i 7 0) g 1 n (by first | exact hg7 | omega) (by first | exact hn | omega)) (lw_V q2190 q2192 qs59 q73 q2193) rfl rfl 1 (by decide +kernel) ⟨(Nat.le_of_ble_eq_true rfl), (Nat.le_of_ble_eq_true rfl)⟩ (c_pre hP hD hS hA hK hE [0, 1] rfl rfl ro_nil) (recv_at (q := (RX4, TX4, 16)) hK (b_at (k := 0) hP rfl) rfl) rfl hl.1 rfl (Nat.le_of_ble_eq_true rfl) dX4_account_83 ⟨(Nat.le_of_ble_eq_true rfl), (Nat.le_of_ble_eq_true rfl)⟩) hP hD hS hA [0, 1] [] rfl rfl rfl (fun r_7 u_7 H locs hw_7 hP hD hS _ => ?_)
        obtain ⟨rfl, rfl⟩ := hw_7
        have hP : WP Γ [[(a, moE r (upd i 7 0))], [((r 0), .inl (Γ.2.1 0, 523, .inl g))]] H := hP
        have hD : WD A [[(a, moE r (upd i 7 0))], [((r 0), .inl (Γ.2.1 0, 523, .inl g))]] := hD
        exact b_iret hx hb hr hlocks hP hD hS (Nat.le_of_ble_eq_true rfl) (Nat.le_of_ble_eq_true rfl) ⟨(by first | with_reducible rfl | (simp [oSel, T_rng, accM, c_2, n_4, d_4, c_5_0]; done) | rfl), (by first | with_reducible rfl | (simp [oSel, T_rng, accM, c_2, n_4, d_4, c_5_0]; done) | rfl)⟩ dX4_account_86
      by_cases c_5_2 : w = 2
      · -- case 2
        subst c_5_2
        refine lv_tableIn (tgt := 81) hx hb dX4_account_29 (by decide) (by decide) rfl (by decide) ?_
        refine lv_aload_n hx hb dX4_account_81 rfl (lv_at hl 0 rfl) ?_
        refine lv_iload_n hx hb dX4_account_82 rfl (lv_at hl 1 rfl) ?_
        refine b_calli (br := []) (b_runV ⟨hx, hb, hml, hown, hts⟩ (mt_Mo_cowsThat l Γ _ a r (upd i 7 0) g 2 n (by first | exact hg7 | omega) (by first | exact hn | omega)) (lw_V q2190 q2192 qs59 q73 q2193) rfl rfl 1 (by decide +kernel) ⟨(Nat.le_of_ble_eq_true rfl), (Nat.le_of_ble_eq_true rfl)⟩ (c_pre hP hD hS hA hK hE [0, 1] rfl rfl ro_nil) (recv_at (q := (RX4, TX4, 16)) hK (b_at (k := 0) hP rfl) rfl) rfl hl.1 rfl (Nat.le_of_ble_eq_true rfl) dX4_account_83 ⟨(Nat.le_of_ble_eq_true rfl), (Nat.le_of_ble_eq_true rfl)⟩) hP hD hS hA [0, 1] [] rfl rfl rfl (fun r_8 u_8 H locs hw_8 hP hD hS _ => ?_)
        obtain ⟨rfl, rfl⟩ := hw_8
        have hP : WP Γ [[(a, moE r (upd i 7 0))], [((r 0), .inl (Γ.2.1 0, 523, .inl g))]] H := hP
        have hD : WD A [[(a, moE r (upd i 7 0))], [((r 0), .inl (Γ.2.1 0, 523, .inl g))]] := hD
        exact b_iret hx hb hr hlocks hP hD hS (Nat.le_of_ble_eq_true rfl) (Nat.le_of_ble_eq_true rfl) ⟨(by first | with_reducible rfl | (simp [oSel, T_rng, accM, c_2, n_4, d_4, c_5_0, c_5_1]; done) | rfl), (by first | with_reducible rfl | (simp [oSel, T_rng, accM, c_2, n_4, d_4, c_5_0, c_5_1]; done) | rfl)⟩ dX4_account_86
      by_cases c_5_3 : w = 3
      · -- case 3
        subst c_5_3
        refine lv_tableIn (tgt := 87) hx hb dX4_account_29 (by decide) (by decide) rfl (by decide) ?_
        refine lv_aload_n hx hb dX4_account_87 rfl (lv_at hl 0 rfl) ?_
        refine lv_bipush (v := 8) hx hb dX4_account_88 (by decide) ?_
        refine b_calli (br := []) (b_runV ⟨hx, hb, hml, hown, hts⟩ (mt_Mo_sums l Γ _ a r (upd i 7 0) g 8 n (by first | exact hg7 | omega) (by first | exact hn | omega) (by omega)) (lw_V q2194 q2196 qs60 q73 q2197) rfl rfl 1 (by decide +kernel) ⟨(Nat.le_of_ble_eq_true rfl), (Nat.le_of_ble_eq_true rfl)⟩ (c_pre hP hD hS hA hK hE [0, 1] rfl rfl ro_nil) (recv_at (q := (RX4, TX4, 16)) hK (b_at (k := 0) hP rfl) rfl) rfl hl.1 rfl (Nat.le_of_ble_eq_true rfl) dX4_account_90 ⟨(Nat.le_of_ble_eq_true rfl), (Nat.le_of_ble_eq_true rfl)⟩) hP hD hS hA [0, 1] [] rfl rfl rfl (fun r_9 u_9 H locs hw_9 hP hD hS _ => ?_)
        obtain ⟨rfl, rfl⟩ := hw_9
        have hP : WP Γ [[(a, moE r (upd i 7 0))], [((r 0), .inl (Γ.2.1 0, 523, .inl g))]] H := hP
        have hD : WD A [[(a, moE r (upd i 7 0))], [((r 0), .inl (Γ.2.1 0, 523, .inl g))]] := hD
        exact b_iret hx hb hr hlocks hP hD hS (Nat.le_of_ble_eq_true rfl) (Nat.le_of_ble_eq_true rfl) ⟨(by first | with_reducible rfl | (simp [oSel, T_rng, accM, c_2, n_4, d_4, c_5_0, c_5_1, c_5_2]; done) | rfl), (by first | with_reducible rfl | (simp [oSel, T_rng, accM, c_2, n_4, d_4, c_5_0, c_5_1, c_5_2]; done) | rfl)⟩ dX4_account_93
      by_cases c_5_4 : w = 4
      · -- case 4
        subst c_5_4
        refine lv_tableIn (tgt := 94) hx hb dX4_account_29 (by decide) (by decide) rfl (by decide) ?_
        refine lv_aload_n hx hb dX4_account_94 rfl (lv_at hl 0 rfl) ?_
        refine lv_bipush (v := 9) hx hb dX4_account_95 (by decide) ?_
        refine b_calli (br := []) (b_runV ⟨hx, hb, hml, hown, hts⟩ (mt_Mo_sums l Γ _ a r (upd i 7 0) g 9 n (by first | exact hg7 | omega) (by first | exact hn | omega) (by omega)) (lw_V q2194 q2196 qs60 q73 q2197) rfl rfl 1 (by decide +kernel) ⟨(Nat.le_of_ble_eq_true rfl), (Nat.le_of_ble_eq_true rfl)⟩ (c_pre hP hD hS hA hK hE [0, 1] rfl rfl ro_nil) (recv_at (q := (RX4, TX4, 16)) hK (b_at (k := 0) hP rfl) rfl) rfl hl.1 rfl (Nat.le_of_ble_eq_true rfl) dX4_account_97 ⟨(Nat.le_of_ble_eq_true rfl), (Nat.le_of_ble_eq_true rfl)⟩) hP hD hS hA [0, 1] [] rfl rfl rfl (fun r_10 u_10 H locs hw_10 hP hD hS _ => ?_)
        obtain ⟨rfl, rfl⟩ := hw_10
        have hP : WP Γ [[(a, moE r (upd i 7 0))], [((r 0), .inl (Γ.2.1 0, 523, .inl g))]] H := hP
        have hD : WD A [[(a, moE r (upd i 7 0))], [((r 0), .inl (Γ.2.1 0, 523, .inl g))]] := hD
        exact b_iret hx hb hr hlocks hP hD hS (Nat.le_of_ble_eq_true rfl) (Nat.le_of_ble_eq_true rfl) ⟨(by first | with_reducible rfl | (simp [oSel, T_rng, accM, c_2, n_4, d_4, c_5_0, c_5_1, c_5_2, c_5_3]; done) | rfl), (by first | with_reducible rfl | (simp [oSel, T_rng, accM, c_2, n_4, d_4, c_5_0, c_5_1, c_5_2, c_5_3]; done) | rfl)⟩ dX4_account_100
      by_cases c_5_5 : w = 5
      · -- case 5
        subst c_5_5
        refine lv_tableIn (tgt := 101) hx hb dX4_account_29 (by decide) (by decide) rfl (by decide) ?_
        refine lv_aload_n hx hb dX4_account_101 rfl (lv_at hl 0 rfl) ?_
        refine b_get (C := RX4) (T := TX4) (N := 16) (v := .ref (r 0)) hx hb hts in_X4 hown hK (b_at (k := 0) hP rfl) rfl 0 (by decide) q1807 (fun _ h9 => h9) rfl dX4_account_102 ?_
        refine lv_bipush (v := 12) hx hb dX4_account_105 (by decide) ?_
        refine b_iald hx hb hK (b_at (k := 1) hP rfl) 12 rfl (by omega) (by omega) dX4_account_107 ?_
        exact b_iret hx hb hr hlocks hP hD hS (Nat.le_of_ble_eq_true rfl) (Nat.le_of_ble_eq_true rfl) ⟨(by first | with_reducible rfl | (simp [oSel, T_rng, accM, c_2, n_4, d_4, c_5_0, c_5_1, c_5_2, c_5_3, c_5_4]; done) | rfl), (by first | with_reducible rfl | (simp [oSel, T_rng, accM, c_2, n_4, d_4, c_5_0, c_5_1, c_5_2, c_5_3, c_5_4]; done) | rfl)⟩ dX4_account_108
      by_cases c_5_6 : w = 6
      · -- case 6
        subst c_5_6
        refine lv_tableIn (tgt := 109) hx hb dX4_account_29 (by decide) (by decide) rfl (by decide) ?_
        refine lv_aload_n hx hb dX4_account_109 rfl (lv_at hl 0 rfl) ?_
        refine b_get (C := RX4) (T := TX4) (N := 16) (v := .ref (r 0)) hx hb hts in_X4 hown hK (b_at (k := 0) hP rfl) rfl 0 (by decide) q1807 (fun _ h9 => h9) rfl dX4_account_110 ?_
        refine lv_bipush (v := 14) hx hb dX4_account_113 (by decide) ?_
        refine b_iald hx hb hK (b_at (k := 1) hP rfl) 14 rfl (by omega) (by omega) dX4_account_115 ?_
        exact b_iret hx hb hr hlocks hP hD hS (Nat.le_of_ble_eq_true rfl) (Nat.le_of_ble_eq_true rfl) ⟨(by first | with_reducible rfl | (simp [oSel, T_rng, accM, c_2, n_4, d_4, c_5_0, c_5_1, c_5_2, c_5_3, c_5_4, c_5_5]; done) | rfl), (by first | with_reducible rfl | (simp [oSel, T_rng, accM, c_2, n_4, d_4, c_5_0, c_5_1, c_5_2, c_5_3, c_5_4, c_5_5]; done) | rfl)⟩ dX4_account_116
      by_cases c_5_7 : w = 7
      · -- case 7
        subst c_5_7
        refine lv_tableIn (tgt := 117) hx hb dX4_account_29 (by decide) (by decide) rfl (by decide) ?_
        refine lv_aload_n hx hb dX4_account_117 rfl (lv_at hl 0 rfl) ?_
        refine b_get (C := RX4) (T := TX4) (N := 16) (v := .ref (r 0)) hx hb hts in_X4 hown hK (b_at (k := 0) hP rfl) rfl 0 (by decide) q1807 (fun _ h9 => h9) rfl dX4_account_118 ?_
        refine lv_bipush (v := 13) hx hb dX4_account_121 (by decide) ?_
        refine b_iald hx hb hK (b_at (k := 1) hP rfl) 13 rfl (by omega) (by omega) dX4_account_123 ?_
        exact b_iret hx hb hr hlocks hP hD hS (Nat.le_of_ble_eq_true rfl) (Nat.le_of_ble_eq_true rfl) ⟨(by first | with_reducible rfl | (simp [oSel, T_rng, accM, c_2, n_4, d_4, c_5_0, c_5_1, c_5_2, c_5_3, c_5_4, c_5_5, c_5_6]; done) | rfl), (by first | with_reducible rfl | (simp [oSel, T_rng, accM, c_2, n_4, d_4, c_5_0, c_5_1, c_5_2, c_5_3, c_5_4, c_5_5, c_5_6]; done) | rfl)⟩ dX4_account_124
      refine lv_tableOut (tgt := 125) hx hb dX4_account_29 (sw_out 0 7 (by decide) (fun j h1 h2 => by rcases (show j = 0 ∨ j = 1 ∨ j = 2 ∨ j = 3 ∨ j = 4 ∨ j = 5 ∨ j = 6 ∨ j = 7 by omega) with rfl | rfl | rfl | rfl | rfl | rfl | rfl | rfl <;> assumption)) (by decide) ?_
      refine lv_aload_n hx hb dX4_account_125 rfl (lv_at hl 0 rfl) ?_
      refine b_get (C := RX4) (T := TX4) (N := 16) (v := .ref (r 0)) hx hb hts in_X4 hown hK (b_at (k := 0) hP rfl) rfl 0 (by decide) q1807 (fun _ h9 => h9) rfl dX4_account_126 ?_
      refine lv_bipush (v := 11) hx hb dX4_account_129 (by decide) ?_
      refine b_iald hx hb hK (b_at (k := 1) hP rfl) 11 rfl (by omega) (by omega) dX4_account_131 ?_
      exact b_iret hx hb hr hlocks hP hD hS (Nat.le_of_ble_eq_true rfl) (Nat.le_of_ble_eq_true rfl) ⟨(by first | with_reducible rfl | (simp [oSel, T_rng, accM, c_2, n_4, d_4, c_5_0, c_5_1, c_5_2, c_5_3, c_5_4, c_5_5, c_5_6, c_5_7]; done) | rfl), (by first | with_reducible rfl | (simp [oSel, T_rng, accM, c_2, n_4, d_4, c_5_0, c_5_1, c_5_2, c_5_3, c_5_4, c_5_5, c_5_6, c_5_7]; done) | rfl)⟩ dX4_account_132
    · -- 23 not taken
      have n_4 : ¬ (0 ≤ 0) := fun h => c_4 ((nI_leI (a := 0) (b := 0) (by omega) (by omega)).mpr h)
      have d_4 := Int32.not_le.mp c_4
      exact absurd n_4 (by omega)
set_option maxHeartbeats 4000000 in
set_option maxRecDepth 100000 in
theorem mt_Mo_bestCow (l : Launch) (Γ : GE) (sz : Nat) (a : Nat) (r : Nat → Nat) (i : Nat → Int32) (g : Nat → Int32) (n : Nat) (hg7 : g 7 = nI n) (hn : n ≤ 8) : KM l yX4_bestCow cX4_bestCow 3 (some FieldType.int) Γ 1 21 0 0 [.ref a] [[(a, moE r i)], [((r 0), .inl (Γ.2.1 0, 523, .inl g))]] [] sz (Qi Γ (fun r_ u_ => r_ = (nI (bstN (fun q => g (10 * q + 23)) n)) ∧ u_ = [[(a, moE r (upd i 7 (T_none n)))], [((r 0), .inl (Γ.2.1 0, 523, .inl g))]])) := by
  refine K_intro (by decide) (Nat.le_of_ble_eq_true rfl) ?_
  intro pr_ ev_ s mi_ below meth cd_ A ls hx hb hr hml hown hts hlocks hname hK hE hRo hP hD hA hS hsz hl
  have hl : lv_has ls 3 [(0, .ref a)] := hl
  have hown : s.vm.findClass RX4 = some mi_.cls := hown
  refine lv_aload_n hx hb dX4_bestCow_0 rfl (lv_at hl 0 rfl) ?_
  refine lv_aload_n hx hb dX4_bestCow_1 rfl (lv_at hl 0 rfl) ?_
  refine b_get (C := RX4) (T := TX4) (N := 16) (v := .ref (r 0)) hx hb hts in_X4 hown hK (b_at (k := 0) hP rfl) rfl 0 (by decide) q1807 (fun _ h9 => h9) rfl dX4_bestCow_2 ?_
  refine lv_bipush (v := 7) hx hb dX4_bestCow_5 (by decide) ?_
  refine b_iald hx hb hK (b_at (k := 1) hP rfl) 7 rfl (by omega) (by omega) dX4_bestCow_7 ?_
  refine b_top (hg7) ?_
  refine lv_if_ne (tgt := 15) hx hb dX4_bestCow_8 (by decide) (fun c_1 => ?_) (fun c_1 => ?_)
  · -- 8 taken
    have n_1 : ¬ (n = 0) := fun h => c_1 ((nI_eq (a := n) (b := 0) (by omega) (by omega)).mpr h)
    refine lv_iconst (v := 0) hx hb dX4_bestCow_15 (by decide) ?_
    refine b_put (C := RX4) (T := TX4) (N := 16) (ty := .int) (v := .int 0) hx hb hts in_X4 tyX4_ok nmX4 hown hK hP hD hS 0 rfl rfl 7 (by decide) q1814 (fun _ h9 => h9) rfl (by decide +kernel) rfl rfl (Nat.le_of_ble_eq_true rfl) dX4_bestCow_16 (fun H locs hP hD hS => ?_)
    have hP : WP Γ [[(a, moE r (upd i 7 0))], [((r 0), .inl (Γ.2.1 0, 523, .inl g))]] H := hP
    have hD : WD A [[(a, moE r (upd i 7 0))], [((r 0), .inl (Γ.2.1 0, 523, .inl g))]] := hD
    refine lv_iconst (v := 0) hx hb dX4_bestCow_19 (by decide) ?_
    refine lv_istore_n (lv' := [(1, .int 0), (0, .ref a)]) hx hb dX4_bestCow_20 rfl hl (by decide) rfl (fun ls hl => ?_)
    refine lv_iconst (v := 1) hx hb dX4_bestCow_21 (by decide) ?_
    refine lv_istore_n (lv' := [(2, .int 1), (1, .int 0), (0, .ref a)]) hx hb dX4_bestCow_22 rfl hl (by decide) rfl (fun ls hl => ?_)
    have hl : lv_has ls 3 [(2, .int 1), (1, .int (nI ((bstN (fun q => g (10 * q + 23)) 1)))), (0, .ref a)] := by rw [bstN_1]; exact hl
    have loop_2 : ∀ (fuel : Nat) (p : Nat), n - p < fuel → (1 ≤ p) → (p ≤ n) → ∀ (H : Heap) (locs : List Loc) (ls : Array Slot), WP Γ [[(a, moE r (upd i 7 0))], [((r 0), .inl (Γ.2.1 0, 523, .inl g))]] H → WD A [[(a, moE r (upd i 7 0))], [((r 0), .inl (Γ.2.1 0, 523, .inl g))]] → va_S A s.heap H locs → lv_has ls 3 [(2, .int (nI p)), (1, .int (nI ((bstN (fun q => g (10 * q + 23)) p)))), (0, .ref a)] → W pr_ l ev_ { frames := 1, cells := 0, slots := 0, locals := 21 } s mi_ ([.ref a] : List Value).toArray below meth cd_ H locs 0 0 (MQ below (Qi Γ (fun r_ u_ => r_ = (nI (bstN (fun q => g (10 * q + 23)) n)) ∧ u_ = [[(a, moE r (upd i 7 (T_none n)))], [((r 0), .inl (Γ.2.1 0, 523, .inl g))]]) A) ([.ref a] : List Value).toArray s 0 0 A) (F0 mi_ 23 ls ([])) := by
      intro fuel
      induction fuel with
      | zero => intro p hfuel; exact absurd hfuel (Nat.not_lt_zero _)
      | succ fuel ih =>
        intro p hfuel hp1 hp H locs ls hP hD hS hl
        refine lv_iload_n hx hb dX4_bestCow_23 rfl (lv_at hl 0 rfl) ?_
        refine lv_aload_n hx hb dX4_bestCow_24 rfl (lv_at hl 2 rfl) ?_
        refine b_get (C := RX4) (T := TX4) (N := 16) (v := .ref (r 0)) hx hb hts in_X4 hown hK (b_at (k := 0) hP rfl) rfl 0 (by decide) q1807 (fun _ h9 => h9) rfl dX4_bestCow_25 ?_
        refine lv_bipush (v := 7) hx hb dX4_bestCow_28 (by decide) ?_
        refine b_iald hx hb hK (b_at (k := 1) hP rfl) 7 rfl (by omega) (by omega) dX4_bestCow_30 ?_
        refine b_top (hg7) ?_
        refine lv_icmp_ge (tgt := 71) hx hb dX4_bestCow_31 (by decide) (fun c_3 => ?_) (fun c_3 => ?_)
        · -- 31 taken
          have n_3 : n ≤ p := (nI_leI (by omega) (by omega)).mp (show nI n ≤ nI p from c_3)
          have d_3 := Int32.not_lt.mpr c_3
          refine lv_iload_n hx hb dX4_bestCow_71 rfl (lv_at hl 1 rfl) ?_
          exact b_iret hx hb hr hlocks hP hD hS (Nat.le_of_ble_eq_true rfl) (Nat.le_of_ble_eq_true rfl) ⟨(by rw [show n = p by omega]), (by first | with_reducible rfl | (simp [T_none, n_1, n_3, d_3]; done) | rfl)⟩ dX4_bestCow_72
        · -- 31 not taken
          have n_3 : ¬ (n ≤ p) := fun h => c_3 ((nI_leI (a := n) (b := p) (by omega) (by omega)).mpr h)
          have d_3 := Int32.not_le.mp c_3
          have hb9 := bstN_lt (fun q => g (10 * q + 23)) p (by omega)
          refine lv_aload_n hx hb dX4_bestCow_34 rfl (lv_at hl 2 rfl) ?_
          refine b_get (C := RX4) (T := TX4) (N := 16) (v := .ref (r 0)) hx hb hts in_X4 hown hK (b_at (k := 0) hP rfl) rfl 0 (by decide) q1807 (fun _ h9 => h9) rfl dX4_bestCow_35 ?_
          refine lv_iload_n hx hb dX4_bestCow_38 rfl (lv_at hl 0 rfl) ?_
          refine lv_bipush (v := 8) hx hb dX4_bestCow_39 (by decide) ?_
          refine b_calli (br := [[(a, moE r (upd i 7 0))], [((r 0), .inl (Γ.2.1 0, 523, .inl g))]]) (b_runS ⟨hx, hb, hml, hown, hts⟩ (mt_Mo_at l Γ _ p 8) (lw_S q1886 q1887 q73 q1888) rfl rfl 2 (by decide +kernel) ⟨(Nat.le_of_ble_eq_true rfl), (Nat.le_of_ble_eq_true rfl)⟩ (c_pre hP hD hS hA hK hE [] rfl rfl ro_nil) rfl hl.1 rfl (Nat.le_of_ble_eq_true rfl) dX4_bestCow_41 ⟨(Nat.le_of_ble_eq_true rfl), (Nat.le_of_ble_eq_true rfl)⟩) hP hD hS hA [] [0, 1] rfl rfl rfl (fun r_4 u_4 H locs hw_4 hP hD hS _ => ?_)
          obtain ⟨rfl, rfl⟩ := hw_4
          have hP : WP Γ [[(a, moE r (upd i 7 0))], [((r 0), .inl (Γ.2.1 0, 523, .inl g))]] H := hP
          have hD : WD A [[(a, moE r (upd i 7 0))], [((r 0), .inl (Γ.2.1 0, 523, .inl g))]] := hD
          refine b_iald hx hb hK (b_at (k := 1) hP rfl) (10 * p + 23) rfl (by omega) (by omega) dX4_bestCow_44 ?_
          refine lv_aload_n hx hb dX4_bestCow_45 rfl (lv_at hl 2 rfl) ?_
          refine b_get (C := RX4) (T := TX4) (N := 16) (v := .ref (r 0)) hx hb hts in_X4 hown hK (b_at (k := 0) hP rfl) rfl 0 (by decide) q1807 (fun _ h9 => h9) rfl dX4_bestCow_46 ?_
          refine lv_iload_n hx hb dX4_bestCow_49 rfl (lv_at hl 1 rfl) ?_
          refine lv_bipush (v := 8) hx hb dX4_bestCow_50 (by decide) ?_
          refine b_calli (br := [[(a, moE r (upd i 7 0))], [((r 0), .inl (Γ.2.1 0, 523, .inl g))]]) (b_runS ⟨hx, hb, hml, hown, hts⟩ (mt_Mo_at l Γ _ ((bstN (fun q => g (10 * q + 23)) p)) 8) (lw_S q1886 q1887 q73 q1888) rfl rfl 2 (by decide +kernel) ⟨(Nat.le_of_ble_eq_true rfl), (Nat.le_of_ble_eq_true rfl)⟩ (c_pre hP hD hS hA hK hE [] rfl rfl ro_nil) rfl hl.1 rfl (Nat.le_of_ble_eq_true rfl) dX4_bestCow_52 ⟨(Nat.le_of_ble_eq_true rfl), (Nat.le_of_ble_eq_true rfl)⟩) hP hD hS hA [] [0, 1] rfl rfl rfl (fun r_5 u_5 H locs hw_5 hP hD hS _ => ?_)
          obtain ⟨rfl, rfl⟩ := hw_5
          have hP : WP Γ [[(a, moE r (upd i 7 0))], [((r 0), .inl (Γ.2.1 0, 523, .inl g))]] H := hP
          have hD : WD A [[(a, moE r (upd i 7 0))], [((r 0), .inl (Γ.2.1 0, 523, .inl g))]] := hD
          refine b_iald hx hb hK (b_at (k := 1) hP rfl) (10 * (bstN (fun q => g (10 * q + 23)) p) + 23) rfl (by omega) (by omega) dX4_bestCow_55 ?_
          refine lv_icmp_le (tgt := 63) hx hb dX4_bestCow_56 (by decide) (fun c_6 => ?_) (fun c_6 => ?_)
          · -- 56 taken
            have d_6 := Int32.not_lt.mpr c_6
            refine lv_iload_n hx hb dX4_bestCow_63 rfl (lv_at hl 1 rfl) ?_
            refine b_top (show (nI ((bstN (fun q => g (10 * q + 23)) p))) = nI (bstN (fun q => g (10 * q + 23)) (p + 1)) from by rw [bstN]; simp [c_6, d_6]) ?_
            refine lv_istore_n (lv' := [(1, .int (nI ((bstN (fun q => g (10 * q + 23)) (p + 1))))), (2, .int (nI p)), (0, .ref a)]) hx hb dX4_bestCow_64 rfl hl (by decide) rfl (fun ls hl => ?_)
            refine lv_iinc (v := (nI (p + 1))) (lv' := [(2, .int (nI (p + 1))), (1, .int (nI ((bstN (fun q => g (10 * q + 23)) (p + 1))))), (0, .ref a)]) hx hb dX4_bestCow_65 hl (k := 1) rfl (nI_addE (b := 1) rfl rfl (by omega)) (by decide) rfl (fun ls hl => ?_)
            refine lv_goto (tgt := 23) hx hb dX4_bestCow_68 (by decide) ?_
            exact ih (p + 1) (by omega) (by omega) (by omega) _ _ _ hP hD hS (lv_sub hl [0, 1, 2] rfl)
          · -- 56 not taken
            have d_6 := Int32.not_le.mp c_6
            refine lv_iload_n hx hb dX4_bestCow_59 rfl (lv_at hl 0 rfl) ?_
            refine lv_goto (tgt := 64) hx hb dX4_bestCow_60 (by decide) ?_
            refine b_top (show (nI p) = nI (bstN (fun q => g (10 * q + 23)) (p + 1)) from by rw [bstN]; simp [c_6, d_6]) ?_
            refine lv_istore_n (lv' := [(1, .int (nI ((bstN (fun q => g (10 * q + 23)) (p + 1))))), (2, .int (nI p)), (0, .ref a)]) hx hb dX4_bestCow_64 rfl hl (by decide) rfl (fun ls hl => ?_)
            refine lv_iinc (v := (nI (p + 1))) (lv' := [(2, .int (nI (p + 1))), (1, .int (nI ((bstN (fun q => g (10 * q + 23)) (p + 1))))), (0, .ref a)]) hx hb dX4_bestCow_65 hl (k := 1) rfl (nI_addE (b := 1) rfl rfl (by omega)) (by decide) rfl (fun ls hl => ?_)
            refine lv_goto (tgt := 23) hx hb dX4_bestCow_68 (by decide) ?_
            exact ih (p + 1) (by omega) (by omega) (by omega) _ _ _ hP hD hS (lv_sub hl [0, 1, 2] rfl)
    exact loop_2 ((n - 1) + 1) 1 (Nat.lt_succ_self _) (Nat.le_refl _) (by omega) _ _ _ hP hD hS (lv_sub hl [0, 1, 2] rfl)
  · -- 8 not taken
    have n_1 : n = 0 := (nI_eq (by omega) (by omega)).mp (show nI n = nI 0 from c_1)
    subst n_1
    refine lv_iconst (v := 1) hx hb dX4_bestCow_11 (by decide) ?_
    refine lv_goto (tgt := 16) hx hb dX4_bestCow_12 (by decide) ?_
    refine b_put (C := RX4) (T := TX4) (N := 16) (ty := .int) (v := .int 1) hx hb hts in_X4 tyX4_ok nmX4 hown hK hP hD hS 0 rfl rfl 7 (by decide) q1814 (fun _ h9 => h9) rfl (by decide +kernel) rfl rfl (Nat.le_of_ble_eq_true rfl) dX4_bestCow_16 (fun H locs hP hD hS => ?_)
    have hP : WP Γ [[(a, moE r (upd i 7 1))], [((r 0), .inl (Γ.2.1 0, 523, .inl g))]] H := hP
    have hD : WD A [[(a, moE r (upd i 7 1))], [((r 0), .inl (Γ.2.1 0, 523, .inl g))]] := hD
    refine lv_iconst (v := 0) hx hb dX4_bestCow_19 (by decide) ?_
    refine lv_istore_n (lv' := [(1, .int 0), (0, .ref a)]) hx hb dX4_bestCow_20 rfl hl (by decide) rfl (fun ls hl => ?_)
    refine lv_iconst (v := 1) hx hb dX4_bestCow_21 (by decide) ?_
    refine lv_istore_n (lv' := [(2, .int 1), (1, .int 0), (0, .ref a)]) hx hb dX4_bestCow_22 rfl hl (by decide) rfl (fun ls hl => ?_)
    refine lv_iload_n hx hb dX4_bestCow_23 rfl (lv_at hl 0 rfl) ?_
    refine lv_aload_n hx hb dX4_bestCow_24 rfl (lv_at hl 2 rfl) ?_
    refine b_get (C := RX4) (T := TX4) (N := 16) (v := .ref (r 0)) hx hb hts in_X4 hown hK (b_at (k := 0) hP rfl) rfl 0 (by decide) q1807 (fun _ h9 => h9) rfl dX4_bestCow_25 ?_
    refine lv_bipush (v := 7) hx hb dX4_bestCow_28 (by decide) ?_
    refine b_iald hx hb hK (b_at (k := 1) hP rfl) 7 rfl (by omega) (by omega) dX4_bestCow_30 ?_
    refine b_top (hg7) ?_
    refine lv_icmp_ge (tgt := 71) hx hb dX4_bestCow_31 (by decide) (fun c_7 => ?_) (fun c_7 => ?_)
    · -- 31 taken
      have n_7 : 0 ≤ 1 := (nI_leI (by omega) (by omega)).mp (show nI 0 ≤ nI 1 from c_7)
      have d_7 := Int32.not_lt.mpr c_7
      refine lv_iload_n hx hb dX4_bestCow_71 rfl (lv_at hl 1 rfl) ?_
      exact b_iret hx hb hr hlocks hP hD hS (Nat.le_of_ble_eq_true rfl) (Nat.le_of_ble_eq_true rfl) ⟨rfl, (by first | with_reducible rfl | (simp [T_none, n_1, n_7, d_7]; done) | (subst n_1; simp [T_none, n_7, d_7]; done) | rfl)⟩ dX4_bestCow_72
    · -- 31 not taken
      have n_7 : ¬ (0 ≤ 1) := fun h => c_7 ((nI_leI (a := 0) (b := 1) (by omega) (by omega)).mpr h)
      have d_7 := Int32.not_le.mp c_7
      exact absurd n_7 (by omega)
set_option maxHeartbeats 4000000 in
set_option maxRecDepth 100000 in
theorem mt_Mo_share (l : Launch) (Γ : GE) (sz : Nat) (a : Nat) (r : Nat → Nat) (i : Nat → Int32) (g : Nat → Int32) (n : Nat) (hg7 : g 7 = nI n) (hn : n ≤ 8) (hnan : ¬ moSum g 8 n = 0 → vf_n64 (FP.ddiv (FP.i2d (moSum g 9 n)) (FP.i2d (moSum g 8 n)))) : KM l yX4_share cX4_share 2 (some FieldType.double) Γ 2 44 0 0 [.ref a] [[(a, moE r i)], [((r 0), .inl (Γ.2.1 0, 523, .inl g))]] [] sz (Qd Γ (fun r_ u_ => r_ = (if moSum g 8 n = 0 then FP.dconst0 else FP.ddiv (FP.i2d (moSum g 9 n)) (FP.i2d (moSum g 8 n))) ∧ u_ = [[(a, moE r (upd i 7 (if moSum g 8 n = 0 then 1 else 0)))], [((r 0), .inl (Γ.2.1 0, 523, .inl g))]])) := by
  refine K_intro (by decide) (Nat.le_of_ble_eq_true rfl) ?_
  intro pr_ ev_ s mi_ below meth cd_ A ls hx hb hr hml hown hts hlocks hname hK hE hRo hP hD hA hS hsz hl
  have hl : lv_has ls 2 [(0, .ref a)] := hl
  have hown : s.vm.findClass RX4 = some mi_.cls := hown
  refine lv_aload_n hx hb dX4_share_0 rfl (lv_at hl 0 rfl) ?_
  refine lv_bipush (v := 8) hx hb dX4_share_1 (by decide) ?_
  refine b_calli (br := []) (b_runV ⟨hx, hb, hml, hown, hts⟩ (mt_Mo_sums l Γ _ a r i g 8 n (by first | exact hg7 | omega) (by first | exact hn | omega) (by omega)) (lw_V q2194 q2196 qs60 q73 q2197) rfl rfl 1 (by decide +kernel) ⟨(Nat.le_of_ble_eq_true rfl), (Nat.le_of_ble_eq_true rfl)⟩ (c_pre hP hD hS hA hK hE [0, 1] rfl rfl ro_nil) (recv_at (q := (RX4, TX4, 16)) hK (b_at (k := 0) hP rfl) rfl) rfl hl.1 rfl (Nat.le_of_ble_eq_true rfl) dX4_share_3 ⟨(Nat.le_of_ble_eq_true rfl), (Nat.le_of_ble_eq_true rfl)⟩) hP hD hS hA [0, 1] [] rfl rfl rfl (fun r_1 u_1 H locs hw_1 hP hD hS _ => ?_)
  obtain ⟨rfl, rfl⟩ := hw_1
  have hP : WP Γ [[(a, moE r i)], [((r 0), .inl (Γ.2.1 0, 523, .inl g))]] H := hP
  have hD : WD A [[(a, moE r i)], [((r 0), .inl (Γ.2.1 0, 523, .inl g))]] := hD
  refine lv_istore_n (lv' := [(1, .int (moSum g 8 n)), (0, .ref a)]) hx hb dX4_share_6 rfl hl (by decide) rfl (fun ls hl => ?_)
  refine lv_aload_n hx hb dX4_share_7 rfl (lv_at hl 1 rfl) ?_
  refine lv_iload_n hx hb dX4_share_8 rfl (lv_at hl 0 rfl) ?_
  refine lv_if_ne (tgt := 16) hx hb dX4_share_9 (by decide) (fun c_2 => ?_) (fun c_2 => ?_)
  · -- 9 taken
    refine lv_iconst (v := 0) hx hb dX4_share_16 (by decide) ?_
    refine b_put (C := RX4) (T := TX4) (N := 16) (ty := .int) (v := .int 0) hx hb hts in_X4 tyX4_ok nmX4 hown hK hP hD hS 0 rfl rfl 7 (by decide) q1814 (fun _ h9 => h9) rfl (by decide +kernel) rfl rfl (Nat.le_of_ble_eq_true rfl) dX4_share_17 (fun H locs hP hD hS => ?_)
    have hP : WP Γ [[(a, moE r (upd i 7 0))], [((r 0), .inl (Γ.2.1 0, 523, .inl g))]] H := hP
    have hD : WD A [[(a, moE r (upd i 7 0))], [((r 0), .inl (Γ.2.1 0, 523, .inl g))]] := hD
    refine lv_iload_n hx hb dX4_share_20 rfl (lv_at hl 0 rfl) ?_
    refine lv_if_ne (tgt := 28) hx hb dX4_share_21 (by decide) (fun c_3 => ?_) (fun c_3 => ?_)
    · -- 21 taken
      have hz := hnan c_3
      refine lv_aload_n hx hb dX4_share_28 rfl (lv_at hl 1 rfl) ?_
      refine lv_bipush (v := 9) hx hb dX4_share_29 (by decide) ?_
      refine b_calli (br := []) (b_runV ⟨hx, hb, hml, hown, hts⟩ (mt_Mo_sums l Γ _ a r (upd i 7 0) g 9 n (by first | exact hg7 | omega) (by first | exact hn | omega) (by omega)) (lw_V q2194 q2196 qs60 q73 q2197) rfl rfl 1 (by decide +kernel) ⟨(Nat.le_of_ble_eq_true rfl), (Nat.le_of_ble_eq_true rfl)⟩ (c_pre hP hD hS hA hK hE [0, 1] rfl rfl ro_nil) (recv_at (q := (RX4, TX4, 16)) hK (b_at (k := 0) hP rfl) rfl) rfl hl.1 rfl (Nat.le_of_ble_eq_true rfl) dX4_share_31 ⟨(Nat.le_of_ble_eq_true rfl), (Nat.le_of_ble_eq_true rfl)⟩) hP hD hS hA [0, 1] [] rfl rfl rfl (fun r_4 u_4 H locs hw_4 hP hD hS _ => ?_)
      obtain ⟨rfl, rfl⟩ := hw_4
      have hP : WP Γ [[(a, moE r (upd i 7 0))], [((r 0), .inl (Γ.2.1 0, 523, .inl g))]] H := hP
      have hD : WD A [[(a, moE r (upd i 7 0))], [((r 0), .inl (Γ.2.1 0, 523, .inl g))]] := hD
      refine lv_i2d hx hb dX4_share_34 ?_
      refine lv_iload_n hx hb dX4_share_35 rfl (lv_at hl 0 rfl) ?_
      refine lv_i2d hx hb dX4_share_36 ?_
      refine lv_ddiv hx hb dX4_share_37 (hz) ?_
      exact b_dret hx hb hr hlocks hP hD hS (Nat.le_of_ble_eq_true rfl) (Nat.le_of_ble_eq_true rfl) ⟨(by first | with_reducible rfl | (simp [c_2, c_3]; done) | rfl), (by first | with_reducible rfl | (simp [c_2, c_3]; done) | rfl)⟩ dX4_share_38
    · -- 21 not taken
      exact absurd c_3 c_2
  · -- 9 not taken
    refine lv_iconst (v := 1) hx hb dX4_share_12 (by decide) ?_
    refine lv_goto (tgt := 17) hx hb dX4_share_13 (by decide) ?_
    refine b_put (C := RX4) (T := TX4) (N := 16) (ty := .int) (v := .int 1) hx hb hts in_X4 tyX4_ok nmX4 hown hK hP hD hS 0 rfl rfl 7 (by decide) q1814 (fun _ h9 => h9) rfl (by decide +kernel) rfl rfl (Nat.le_of_ble_eq_true rfl) dX4_share_17 (fun H locs hP hD hS => ?_)
    have hP : WP Γ [[(a, moE r (upd i 7 1))], [((r 0), .inl (Γ.2.1 0, 523, .inl g))]] H := hP
    have hD : WD A [[(a, moE r (upd i 7 1))], [((r 0), .inl (Γ.2.1 0, 523, .inl g))]] := hD
    refine lv_iload_n hx hb dX4_share_20 rfl (lv_at hl 0 rfl) ?_
    refine lv_if_ne (tgt := 28) hx hb dX4_share_21 (by decide) (fun c_5 => ?_) (fun c_5 => ?_)
    · -- 21 taken
      exact absurd c_2 c_5
    · -- 21 not taken
      refine lv_dconst0 hx hb dX4_share_24 ?_
      refine lv_goto (tgt := 38) hx hb dX4_share_25 (by decide) ?_
      exact b_dret hx hb hr hlocks hP hD hS (Nat.le_of_ble_eq_true rfl) (Nat.le_of_ble_eq_true rfl) ⟨(by first | with_reducible rfl | (simp [c_2, c_5]; done) | rfl), (by first | with_reducible rfl | (simp [c_2, c_5]; done) | rfl)⟩ dX4_share_38
set_option maxHeartbeats 4000000 in
set_option maxRecDepth 100000 in
theorem mt_Mo_addCow (l : Launch) (Γ : GE) (sz : Nat) (a : Nat) (r : Nat → Nat) (i : Nat → Int32) (g : Nat → Int32) (ps : Nat → Int32) (pn : Nat) (p : Int32) (d : Int32) (x : Int32) (n : Nat) (hg7 : g 7 = nI n) (hn : n ≤ 8) (h5 : i 5 = nI pn) (hpn : pn ≤ 8) : KM l yX4_addCow cX4_addCow 6 (some FieldType.int) Γ 2 46 0 0 [.ref a, .int p, .int d, .int x] [[(a, moE r i)], [((r 0), .inl (Γ.2.1 0, 523, .inl g))], [((r 4), .inl (Γ.2.1 0, 4184, .inl ps))]] [] sz (Qi Γ (fun r_ u_ => r_ = (oSel (T_add p d x n) (nI n) 0) ∧ u_ = [[(a, moE r (oI2 i (T_add p d x n) pn))], [((r 0), .inl (Γ.2.1 0, 523, .inl (oSel (T_add p d x n) (moAdd g n p d x) g)))], [((r 4), .inl (Γ.2.1 0, 4184, .inl (oSel (T_add p d x n) (moPush g ps pn) ps)))]])) := by
  refine K_intro (by decide) (Nat.le_of_ble_eq_true rfl) ?_
  intro pr_ ev_ s mi_ below meth cd_ A ls hx hb hr hml hown hts hlocks hname hK hE hRo hP hD hA hS hsz hl
  have hl : lv_has ls 6 [(0, .ref a), (1, .int p), (2, .int d), (3, .int x)] := hl
  have hown : s.vm.findClass RX4 = some mi_.cls := hown
  refine lv_aload_n hx hb dX4_addCow_0 rfl (lv_at hl 0 rfl) ?_
  refine lv_iload_n hx hb dX4_addCow_1 rfl (lv_at hl 1 rfl) ?_
  refine lv_bipush (v := 8) hx hb dX4_addCow_2 (by decide) ?_
  refine lv_bipush (v := 40) hx hb dX4_addCow_4 (by decide) ?_
  refine b_calli (br := [[(a, moE r i)], [((r 0), .inl (Γ.2.1 0, 523, .inl g))], [((r 4), .inl (Γ.2.1 0, 4184, .inl ps))]]) (b_runS ⟨hx, hb, hml, hown, hts⟩ (mt_Mo_in l Γ _ p 8 40) (lw_S q1879 q1880 q73 q1881) rfl rfl 3 (by decide +kernel) ⟨(Nat.le_of_ble_eq_true rfl), (Nat.le_of_ble_eq_true rfl)⟩ (c_pre hP hD hS hA hK hE [] rfl rfl ro_nil) rfl hl.1 rfl (Nat.le_of_ble_eq_true rfl) dX4_addCow_6 ⟨(Nat.le_of_ble_eq_true rfl), (Nat.le_of_ble_eq_true rfl)⟩) hP hD hS hA [] [0, 1, 2] rfl rfl rfl (fun r_1 u_1 H locs hw_1 hP hD hS _ => ?_)
  obtain ⟨rfl, rfl⟩ := hw_1
  have hP : WP Γ [[(a, moE r i)], [((r 0), .inl (Γ.2.1 0, 523, .inl g))], [((r 4), .inl (Γ.2.1 0, 4184, .inl ps))]] H := hP
  have hD : WD A [[(a, moE r i)], [((r 0), .inl (Γ.2.1 0, 523, .inl g))], [((r 4), .inl (Γ.2.1 0, 4184, .inl ps))]] := hD
  refine lv_if_eq (tgt := 32) hx hb dX4_addCow_9 (by decide) (fun c_2 => ?_) (fun c_2 => ?_)
  · -- 9 taken
    refine lv_iconst (v := 1) hx hb dX4_addCow_32 (by decide) ?_
    refine lv_goto (tgt := 53) hx hb dX4_addCow_33 (by decide) ?_
    refine b_put (C := RX4) (T := TX4) (N := 16) (ty := .int) (v := .int 1) hx hb hts in_X4 tyX4_ok nmX4 hown hK hP hD hS 0 rfl rfl 7 (by decide) q1814 (fun _ h9 => h9) rfl (by decide +kernel) rfl rfl (Nat.le_of_ble_eq_true rfl) dX4_addCow_53 (fun H locs hP hD hS => ?_)
    have hP : WP Γ [[(a, moE r (upd i 7 1))], [((r 0), .inl (Γ.2.1 0, 523, .inl g))], [((r 4), .inl (Γ.2.1 0, 4184, .inl ps))]] H := hP
    have hD : WD A [[(a, moE r (upd i 7 1))], [((r 0), .inl (Γ.2.1 0, 523, .inl g))], [((r 4), .inl (Γ.2.1 0, 4184, .inl ps))]] := hD
    refine lv_aload_n hx hb dX4_addCow_56 rfl (lv_at hl 0 rfl) ?_
    refine b_get (C := RX4) (T := TX4) (N := 16) (v := .int 1) hx hb hts in_X4 hown hK (b_at (k := 0) hP rfl) rfl 7 (by decide) q1814 (fun _ h9 => h9) rfl dX4_addCow_57 ?_
    refine lv_if_le (tgt := 65) hx hb dX4_addCow_60 (by decide) (fun c_3 => ?_) (fun c_3 => ?_)
    · -- 60 taken
      have n_3 : 1 ≤ 0 := (nI_leI (by omega) (by omega)).mp (show nI 1 ≤ nI 0 from c_3)
      have d_3 := Int32.not_lt.mpr c_3
      exact absurd n_3 (by omega)
    · -- 60 not taken
      have n_3 : ¬ (1 ≤ 0) := fun h => c_3 ((nI_leI (a := 1) (b := 0) (by omega) (by omega)).mpr h)
      have d_3 := Int32.not_le.mp c_3
      refine lv_iconst (v := 0) hx hb dX4_addCow_63 (by decide) ?_
      exact b_iret hx hb hr hlocks hP hD hS (Nat.le_of_ble_eq_true rfl) (Nat.le_of_ble_eq_true rfl) ⟨(by first | with_reducible rfl | (simp [oSel, oI2, T_add, moAdd, c_2, n_3, d_3]; done) | rfl), (by first | with_reducible rfl | (simp [oSel, oI2, T_add, moAdd, c_2, n_3, d_3]; done) | rfl)⟩ dX4_addCow_64
  · -- 9 not taken
    refine lv_iload_n hx hb dX4_addCow_12 rfl (lv_at hl 2 rfl) ?_
    refine lv_iconst (v := 0) hx hb dX4_addCow_13 (by decide) ?_
    refine lv_bipush (v := 9) hx hb dX4_addCow_14 (by decide) ?_
    refine b_calli (br := [[(a, moE r i)], [((r 0), .inl (Γ.2.1 0, 523, .inl g))], [((r 4), .inl (Γ.2.1 0, 4184, .inl ps))]]) (b_runS ⟨hx, hb, hml, hown, hts⟩ (mt_Mo_in l Γ _ d 0 9) (lw_S q1879 q1880 q73 q1881) rfl rfl 3 (by decide +kernel) ⟨(Nat.le_of_ble_eq_true rfl), (Nat.le_of_ble_eq_true rfl)⟩ (c_pre hP hD hS hA hK hE [] rfl rfl ro_nil) rfl hl.1 rfl (Nat.le_of_ble_eq_true rfl) dX4_addCow_16 ⟨(Nat.le_of_ble_eq_true rfl), (Nat.le_of_ble_eq_true rfl)⟩) hP hD hS hA [] [0, 1, 2] rfl rfl rfl (fun r_4 u_4 H locs hw_4 hP hD hS _ => ?_)
    obtain ⟨rfl, rfl⟩ := hw_4
    have hP : WP Γ [[(a, moE r i)], [((r 0), .inl (Γ.2.1 0, 523, .inl g))], [((r 4), .inl (Γ.2.1 0, 4184, .inl ps))]] H := hP
    have hD : WD A [[(a, moE r i)], [((r 0), .inl (Γ.2.1 0, 523, .inl g))], [((r 4), .inl (Γ.2.1 0, 4184, .inl ps))]] := hD
    refine lv_if_eq (tgt := 32) hx hb dX4_addCow_19 (by decide) (fun c_5 => ?_) (fun c_5 => ?_)
    · -- 19 taken
      refine lv_iconst (v := 1) hx hb dX4_addCow_32 (by decide) ?_
      refine lv_goto (tgt := 53) hx hb dX4_addCow_33 (by decide) ?_
      refine b_put (C := RX4) (T := TX4) (N := 16) (ty := .int) (v := .int 1) hx hb hts in_X4 tyX4_ok nmX4 hown hK hP hD hS 0 rfl rfl 7 (by decide) q1814 (fun _ h9 => h9) rfl (by decide +kernel) rfl rfl (Nat.le_of_ble_eq_true rfl) dX4_addCow_53 (fun H locs hP hD hS => ?_)
      have hP : WP Γ [[(a, moE r (upd i 7 1))], [((r 0), .inl (Γ.2.1 0, 523, .inl g))], [((r 4), .inl (Γ.2.1 0, 4184, .inl ps))]] H := hP
      have hD : WD A [[(a, moE r (upd i 7 1))], [((r 0), .inl (Γ.2.1 0, 523, .inl g))], [((r 4), .inl (Γ.2.1 0, 4184, .inl ps))]] := hD
      refine lv_aload_n hx hb dX4_addCow_56 rfl (lv_at hl 0 rfl) ?_
      refine b_get (C := RX4) (T := TX4) (N := 16) (v := .int 1) hx hb hts in_X4 hown hK (b_at (k := 0) hP rfl) rfl 7 (by decide) q1814 (fun _ h9 => h9) rfl dX4_addCow_57 ?_
      refine lv_if_le (tgt := 65) hx hb dX4_addCow_60 (by decide) (fun c_6 => ?_) (fun c_6 => ?_)
      · -- 60 taken
        have n_6 : 1 ≤ 0 := (nI_leI (by omega) (by omega)).mp (show nI 1 ≤ nI 0 from c_6)
        have d_6 := Int32.not_lt.mpr c_6
        exact absurd n_6 (by omega)
      · -- 60 not taken
        have n_6 : ¬ (1 ≤ 0) := fun h => c_6 ((nI_leI (a := 1) (b := 0) (by omega) (by omega)).mpr h)
        have d_6 := Int32.not_le.mp c_6
        refine lv_iconst (v := 0) hx hb dX4_addCow_63 (by decide) ?_
        exact b_iret hx hb hr hlocks hP hD hS (Nat.le_of_ble_eq_true rfl) (Nat.le_of_ble_eq_true rfl) ⟨(by first | with_reducible rfl | (simp [oSel, oI2, T_add, moAdd, c_2, c_5, n_6, d_6]; done) | rfl), (by first | with_reducible rfl | (simp [oSel, oI2, T_add, moAdd, c_2, c_5, n_6, d_6]; done) | rfl)⟩ dX4_addCow_64
    · -- 19 not taken
      refine lv_iload_n hx hb dX4_addCow_22 rfl (lv_at hl 3 rfl) ?_
      refine lv_iconst (v := (-1)) hx hb dX4_addCow_23 (by decide) ?_
      refine lv_bipush (v := 99) hx hb dX4_addCow_24 (by decide) ?_
      refine b_calli (br := [[(a, moE r i)], [((r 0), .inl (Γ.2.1 0, 523, .inl g))], [((r 4), .inl (Γ.2.1 0, 4184, .inl ps))]]) (b_runS ⟨hx, hb, hml, hown, hts⟩ (mt_Mo_in l Γ _ x (-1) 99) (lw_S q1879 q1880 q73 q1881) rfl rfl 3 (by decide +kernel) ⟨(Nat.le_of_ble_eq_true rfl), (Nat.le_of_ble_eq_true rfl)⟩ (c_pre hP hD hS hA hK hE [] rfl rfl ro_nil) rfl hl.1 rfl (Nat.le_of_ble_eq_true rfl) dX4_addCow_26 ⟨(Nat.le_of_ble_eq_true rfl), (Nat.le_of_ble_eq_true rfl)⟩) hP hD hS hA [] [0, 1, 2] rfl rfl rfl (fun r_7 u_7 H locs hw_7 hP hD hS _ => ?_)
      obtain ⟨rfl, rfl⟩ := hw_7
      have hP : WP Γ [[(a, moE r i)], [((r 0), .inl (Γ.2.1 0, 523, .inl g))], [((r 4), .inl (Γ.2.1 0, 4184, .inl ps))]] H := hP
      have hD : WD A [[(a, moE r i)], [((r 0), .inl (Γ.2.1 0, 523, .inl g))], [((r 4), .inl (Γ.2.1 0, 4184, .inl ps))]] := hD
      refine lv_if_ne (tgt := 36) hx hb dX4_addCow_29 (by decide) (fun c_8 => ?_) (fun c_8 => ?_)
      · -- 29 taken
        refine lv_aload_n hx hb dX4_addCow_36 rfl (lv_at hl 0 rfl) ?_
        refine b_get (C := RX4) (T := TX4) (N := 16) (v := .ref (r 0)) hx hb hts in_X4 hown hK (b_at (k := 0) hP rfl) rfl 0 (by decide) q1807 (fun _ h9 => h9) rfl dX4_addCow_37 ?_
        refine lv_bipush (v := 7) hx hb dX4_addCow_40 (by decide) ?_
        refine b_iald hx hb hK (b_at (k := 1) hP rfl) 7 rfl (by omega) (by omega) dX4_addCow_42 ?_
        refine b_top (hg7) ?_
        refine lv_bipush (v := 8) hx hb dX4_addCow_43 (by decide) ?_
        refine lv_icmp_ne (tgt := 52) hx hb dX4_addCow_45 (by decide) (fun c_9 => ?_) (fun c_9 => ?_)
        · -- 45 taken
          have n_9 : ¬ (n = 8) := fun h => c_9 ((nI_eq (a := n) (b := 8) (by omega) (by omega)).mpr h)
          refine lv_iconst (v := 0) hx hb dX4_addCow_52 (by decide) ?_
          refine b_put (C := RX4) (T := TX4) (N := 16) (ty := .int) (v := .int 0) hx hb hts in_X4 tyX4_ok nmX4 hown hK hP hD hS 0 rfl rfl 7 (by decide) q1814 (fun _ h9 => h9) rfl (by decide +kernel) rfl rfl (Nat.le_of_ble_eq_true rfl) dX4_addCow_53 (fun H locs hP hD hS => ?_)
          have hP : WP Γ [[(a, moE r (upd i 7 0))], [((r 0), .inl (Γ.2.1 0, 523, .inl g))], [((r 4), .inl (Γ.2.1 0, 4184, .inl ps))]] H := hP
          have hD : WD A [[(a, moE r (upd i 7 0))], [((r 0), .inl (Γ.2.1 0, 523, .inl g))], [((r 4), .inl (Γ.2.1 0, 4184, .inl ps))]] := hD
          refine lv_aload_n hx hb dX4_addCow_56 rfl (lv_at hl 0 rfl) ?_
          refine b_get (C := RX4) (T := TX4) (N := 16) (v := .int 0) hx hb hts in_X4 hown hK (b_at (k := 0) hP rfl) rfl 7 (by decide) q1814 (fun _ h9 => h9) rfl dX4_addCow_57 ?_
          refine lv_if_le (tgt := 65) hx hb dX4_addCow_60 (by decide) (fun c_10 => ?_) (fun c_10 => ?_)
          · -- 60 taken
            have n_10 : 0 ≤ 0 := (nI_leI (by omega) (by omega)).mp (show nI 0 ≤ nI 0 from c_10)
            have d_10 := Int32.not_lt.mpr c_10
            refine lv_aload_n hx hb dX4_addCow_65 rfl (lv_at hl 0 rfl) ?_
            refine lv_aload_n hx hb dX4_addCow_66 rfl (lv_at hl 0 rfl) ?_
            refine b_get (C := RX4) (T := TX4) (N := 16) (v := .ref (r 0)) hx hb hts in_X4 hown hK (b_at (k := 0) hP rfl) rfl 0 (by decide) q1807 (fun _ h9 => h9) rfl dX4_addCow_67 ?_
            refine b_callv (br := []) (b_runV ⟨hx, hb, hml, hown, hts⟩ (mt_Mo_changes l Γ _ a r (upd i 7 0) (r 0) g ps pn (by first | exact h5 | (show i 5 = nI pn; exact h5)) hpn) (lw_V q1882 q1884 qs31 q73 q1885) rfl rfl 1 (by decide +kernel) ⟨(Nat.le_of_ble_eq_true rfl), (Nat.le_of_ble_eq_true rfl)⟩ (c_pre hP hD hS hA hK hE [0, 1, 2] rfl rfl ro_nil) (recv_at (q := (RX4, TX4, 16)) hK (b_at (k := 0) hP rfl) rfl) rfl hl.1 rfl (Nat.le_of_ble_eq_true rfl) dX4_addCow_70 ⟨(Nat.le_of_ble_eq_true rfl), (Nat.le_of_ble_eq_true rfl)⟩) hP hD hS hA [0, 1, 2] [] rfl rfl rfl (fun u_11 H locs hw_11 hP hD hS _ => ?_)
            obtain rfl := hw_11
            have hP : WP Γ [[(a, moE r (upd (upd i 7 0) 5 (nI (moPushN pn))))], [((r 0), .inl (Γ.2.1 0, 523, .inl g))], [((r 4), .inl (Γ.2.1 0, 4184, .inl (moPush g ps pn)))]] H := hP
            have hD : WD A [[(a, moE r (upd (upd i 7 0) 5 (nI (moPushN pn))))], [((r 0), .inl (Γ.2.1 0, 523, .inl g))], [((r 4), .inl (Γ.2.1 0, 4184, .inl (moPush g ps pn)))]] := hD
            refine lv_aload_n hx hb dX4_addCow_73 rfl (lv_at hl 0 rfl) ?_
            refine b_get (C := RX4) (T := TX4) (N := 16) (v := .ref (r 0)) hx hb hts in_X4 hown hK (b_at (k := 0) hP rfl) rfl 0 (by decide) q1807 (fun _ h9 => h9) rfl dX4_addCow_74 ?_
            refine lv_bipush (v := 7) hx hb dX4_addCow_77 (by decide) ?_
            refine b_iald hx hb hK (b_at (k := 1) hP rfl) 7 rfl (by omega) (by omega) dX4_addCow_79 ?_
            refine b_top (hg7) ?_
            refine lv_istore (lv' := [(4, .int (nI n)), (0, .ref a), (1, .int p), (2, .int d), (3, .int x)]) hx hb dX4_addCow_80 hl (by decide) rfl (fun ls hl => ?_)
            refine lv_aload_n hx hb dX4_addCow_82 rfl (lv_at hl 1 rfl) ?_
            refine b_get (C := RX4) (T := TX4) (N := 16) (v := .ref (r 0)) hx hb hts in_X4 hown hK (b_at (k := 0) hP rfl) rfl 0 (by decide) q1807 (fun _ h9 => h9) rfl dX4_addCow_83 ?_
            refine lv_bipush (v := 7) hx hb dX4_addCow_86 (by decide) ?_
            refine lv_dup2_11 hx hb dX4_addCow_88 rfl rfl ?_
            refine b_iald hx hb hK (b_at (k := 1) hP rfl) 7 rfl (by omega) (by omega) dX4_addCow_89 ?_
            refine b_top (hg7) ?_
            refine lv_iconst (v := 1) hx hb dX4_addCow_90 (by decide) ?_
            refine lv_iadd hx hb dX4_addCow_91 ?_
            refine b_top (nI_addE (a := n) (b := 1) (c := n + 1) rfl rfl (by first | omega | rfl)) ?_
            refine b_iast hx hb hK hP hD hS 1 rfl 7 rfl (by omega) (by omega) dX4_addCow_92 (fun H locs hP hD hS => ?_)
            have hP : WP Γ [[(a, moE r (upd (upd i 7 0) 5 (nI (moPushN pn))))], [((r 0), .inl (Γ.2.1 0, 523, .inl (upd g 7 (nI (n + 1)))))], [((r 4), .inl (Γ.2.1 0, 4184, .inl (moPush g ps pn)))]] H := hP
            have hD : WD A [[(a, moE r (upd (upd i 7 0) 5 (nI (moPushN pn))))], [((r 0), .inl (Γ.2.1 0, 523, .inl (upd g 7 (nI (n + 1)))))], [((r 4), .inl (Γ.2.1 0, 4184, .inl (moPush g ps pn)))]] := hD
            refine lv_iconst (v := 0) hx hb dX4_addCow_93 (by decide) ?_
            refine lv_istore (lv' := [(5, .int 0), (4, .int (nI n)), (0, .ref a), (1, .int p), (2, .int d), (3, .int x)]) hx hb dX4_addCow_94 hl (by decide) rfl (fun ls hl => ?_)
            rw [show (upd g 7 (nI (n + 1))) = (moZero (upd g 7 (nI (n + 1))) n 0) from (moZero_0 _ n).symm] at hP hD
            have loop_12 : ∀ (fuel : Nat) (j : Nat), 10 - j < fuel → (j ≤ 10) → ∀ (H : Heap) (locs : List Loc) (ls : Array Slot), WP Γ [[(a, moE r (upd (upd i 7 0) 5 (nI (moPushN pn))))], [((r 0), .inl (Γ.2.1 0, 523, .inl (moZero (upd g 7 (nI (n + 1))) n j)))], [((r 4), .inl (Γ.2.1 0, 4184, .inl (moPush g ps pn)))]] H → WD A [[(a, moE r (upd (upd i 7 0) 5 (nI (moPushN pn))))], [((r 0), .inl (Γ.2.1 0, 523, .inl (moZero (upd g 7 (nI (n + 1))) n j)))], [((r 4), .inl (Γ.2.1 0, 4184, .inl (moPush g ps pn)))]] → va_S A s.heap H locs → lv_has ls 6 [(5, .int (nI j)), (4, .int (nI n)), (0, .ref a), (1, .int p), (2, .int d), (3, .int x)] → W pr_ l ev_ { frames := 2, cells := 0, slots := 0, locals := 46 } s mi_ ([.ref a, .int p, .int d, .int x] : List Value).toArray below meth cd_ H locs 0 0 (MQ below (Qi Γ (fun r_ u_ => r_ = (oSel (T_add p d x n) (nI n) 0) ∧ u_ = [[(a, moE r (oI2 i (T_add p d x n) pn))], [((r 0), .inl (Γ.2.1 0, 523, .inl (oSel (T_add p d x n) (moAdd g n p d x) g)))], [((r 4), .inl (Γ.2.1 0, 4184, .inl (oSel (T_add p d x n) (moPush g ps pn) ps)))]]) A) ([.ref a, .int p, .int d, .int x] : List Value).toArray s 0 0 A) (F0 mi_ 96 ls ([])) := by
              intro fuel
              induction fuel with
              | zero => intro j hfuel; exact absurd hfuel (Nat.not_lt_zero _)
              | succ fuel ih =>
                intro j hfuel hj H locs ls hP hD hS hl
                refine lv_iload hx hb dX4_addCow_96 (lv_at hl 0 rfl) ?_
                refine lv_bipush (v := 10) hx hb dX4_addCow_98 (by decide) ?_
                refine lv_icmp_ge (tgt := 122) hx hb dX4_addCow_100 (by decide) (fun c_13 => ?_) (fun c_13 => ?_)
                · -- 100 taken
                  have n_13 : 10 ≤ j := (nI_leI (by omega) (by omega)).mp (show nI 10 ≤ nI j from c_13)
                  have d_13 := Int32.not_lt.mpr c_13
                  obtain rfl : j = 10 := by omega
                  refine lv_aload_n hx hb dX4_addCow_122 rfl (lv_at hl 2 rfl) ?_
                  refine b_get (C := RX4) (T := TX4) (N := 16) (v := .ref (r 0)) hx hb hts in_X4 hown hK (b_at (k := 0) hP rfl) rfl 0 (by decide) q1807 (fun _ h9 => h9) rfl dX4_addCow_123 ?_
                  refine lv_iload hx hb dX4_addCow_126 (lv_at hl 1 rfl) ?_
                  refine lv_iconst (v := 0) hx hb dX4_addCow_128 (by decide) ?_
                  refine b_calli (br := [[(a, moE r (upd (upd i 7 0) 5 (nI (moPushN pn))))], [((r 0), .inl (Γ.2.1 0, 523, .inl (moZero (upd g 7 (nI (n + 1))) n 10)))], [((r 4), .inl (Γ.2.1 0, 4184, .inl (moPush g ps pn)))]]) (b_runS ⟨hx, hb, hml, hown, hts⟩ (mt_Mo_at l Γ _ n 0) (lw_S q1886 q1887 q73 q1888) rfl rfl 2 (by decide +kernel) ⟨(Nat.le_of_ble_eq_true rfl), (Nat.le_of_ble_eq_true rfl)⟩ (c_pre hP hD hS hA hK hE [] rfl rfl ro_nil) rfl hl.1 rfl (Nat.le_of_ble_eq_true rfl) dX4_addCow_129 ⟨(Nat.le_of_ble_eq_true rfl), (Nat.le_of_ble_eq_true rfl)⟩) hP hD hS hA [] [0, 1, 2] rfl rfl rfl (fun r_14 u_14 H locs hw_14 hP hD hS _ => ?_)
                  obtain ⟨rfl, rfl⟩ := hw_14
                  have hP : WP Γ [[(a, moE r (upd (upd i 7 0) 5 (nI (moPushN pn))))], [((r 0), .inl (Γ.2.1 0, 523, .inl (moZero (upd g 7 (nI (n + 1))) n 10)))], [((r 4), .inl (Γ.2.1 0, 4184, .inl (moPush g ps pn)))]] H := hP
                  have hD : WD A [[(a, moE r (upd (upd i 7 0) 5 (nI (moPushN pn))))], [((r 0), .inl (Γ.2.1 0, 523, .inl (moZero (upd g 7 (nI (n + 1))) n 10)))], [((r 4), .inl (Γ.2.1 0, 4184, .inl (moPush g ps pn)))]] := hD
                  refine lv_iload_n hx hb dX4_addCow_132 rfl (lv_at hl 3 rfl) ?_
                  refine b_iast hx hb hK hP hD hS 1 rfl (10 * n + 15) rfl (by omega) (by omega) dX4_addCow_133 (fun H locs hP hD hS => ?_)
                  have hP : WP Γ [[(a, moE r (upd (upd i 7 0) 5 (nI (moPushN pn))))], [((r 0), .inl (Γ.2.1 0, 523, .inl (upd (moZero (upd g 7 (nI (n + 1))) n 10) (10 * n + 15) p)))], [((r 4), .inl (Γ.2.1 0, 4184, .inl (moPush g ps pn)))]] H := hP
                  have hD : WD A [[(a, moE r (upd (upd i 7 0) 5 (nI (moPushN pn))))], [((r 0), .inl (Γ.2.1 0, 523, .inl (upd (moZero (upd g 7 (nI (n + 1))) n 10) (10 * n + 15) p)))], [((r 4), .inl (Γ.2.1 0, 4184, .inl (moPush g ps pn)))]] := hD
                  refine lv_aload_n hx hb dX4_addCow_134 rfl (lv_at hl 2 rfl) ?_
                  refine b_get (C := RX4) (T := TX4) (N := 16) (v := .ref (r 0)) hx hb hts in_X4 hown hK (b_at (k := 0) hP rfl) rfl 0 (by decide) q1807 (fun _ h9 => h9) rfl dX4_addCow_135 ?_
                  refine lv_iload hx hb dX4_addCow_138 (lv_at hl 1 rfl) ?_
                  refine lv_iconst (v := 1) hx hb dX4_addCow_140 (by decide) ?_
                  refine b_calli (br := [[(a, moE r (upd (upd i 7 0) 5 (nI (moPushN pn))))], [((r 0), .inl (Γ.2.1 0, 523, .inl (upd (moZero (upd g 7 (nI (n + 1))) n 10) (10 * n + 15) p)))], [((r 4), .inl (Γ.2.1 0, 4184, .inl (moPush g ps pn)))]]) (b_runS ⟨hx, hb, hml, hown, hts⟩ (mt_Mo_at l Γ _ n 1) (lw_S q1886 q1887 q73 q1888) rfl rfl 2 (by decide +kernel) ⟨(Nat.le_of_ble_eq_true rfl), (Nat.le_of_ble_eq_true rfl)⟩ (c_pre hP hD hS hA hK hE [] rfl rfl ro_nil) rfl hl.1 rfl (Nat.le_of_ble_eq_true rfl) dX4_addCow_141 ⟨(Nat.le_of_ble_eq_true rfl), (Nat.le_of_ble_eq_true rfl)⟩) hP hD hS hA [] [0, 1, 2] rfl rfl rfl (fun r_15 u_15 H locs hw_15 hP hD hS _ => ?_)
                  obtain ⟨rfl, rfl⟩ := hw_15
                  have hP : WP Γ [[(a, moE r (upd (upd i 7 0) 5 (nI (moPushN pn))))], [((r 0), .inl (Γ.2.1 0, 523, .inl (upd (moZero (upd g 7 (nI (n + 1))) n 10) (10 * n + 15) p)))], [((r 4), .inl (Γ.2.1 0, 4184, .inl (moPush g ps pn)))]] H := hP
                  have hD : WD A [[(a, moE r (upd (upd i 7 0) 5 (nI (moPushN pn))))], [((r 0), .inl (Γ.2.1 0, 523, .inl (upd (moZero (upd g 7 (nI (n + 1))) n 10) (10 * n + 15) p)))], [((r 4), .inl (Γ.2.1 0, 4184, .inl (moPush g ps pn)))]] := hD
                  refine lv_iload_n hx hb dX4_addCow_144 rfl (lv_at hl 4 rfl) ?_
                  refine b_iast hx hb hK hP hD hS 1 rfl (10 * n + 16) rfl (by omega) (by omega) dX4_addCow_145 (fun H locs hP hD hS => ?_)
                  have hP : WP Γ [[(a, moE r (upd (upd i 7 0) 5 (nI (moPushN pn))))], [((r 0), .inl (Γ.2.1 0, 523, .inl (upd (upd (moZero (upd g 7 (nI (n + 1))) n 10) (10 * n + 15) p) (10 * n + 16) d)))], [((r 4), .inl (Γ.2.1 0, 4184, .inl (moPush g ps pn)))]] H := hP
                  have hD : WD A [[(a, moE r (upd (upd i 7 0) 5 (nI (moPushN pn))))], [((r 0), .inl (Γ.2.1 0, 523, .inl (upd (upd (moZero (upd g 7 (nI (n + 1))) n 10) (10 * n + 15) p) (10 * n + 16) d)))], [((r 4), .inl (Γ.2.1 0, 4184, .inl (moPush g ps pn)))]] := hD
                  refine lv_aload_n hx hb dX4_addCow_146 rfl (lv_at hl 2 rfl) ?_
                  refine b_get (C := RX4) (T := TX4) (N := 16) (v := .ref (r 0)) hx hb hts in_X4 hown hK (b_at (k := 0) hP rfl) rfl 0 (by decide) q1807 (fun _ h9 => h9) rfl dX4_addCow_147 ?_
                  refine lv_iload hx hb dX4_addCow_150 (lv_at hl 1 rfl) ?_
                  refine lv_iconst (v := 2) hx hb dX4_addCow_152 (by decide) ?_
                  refine b_calli (br := [[(a, moE r (upd (upd i 7 0) 5 (nI (moPushN pn))))], [((r 0), .inl (Γ.2.1 0, 523, .inl (upd (upd (moZero (upd g 7 (nI (n + 1))) n 10) (10 * n + 15) p) (10 * n + 16) d)))], [((r 4), .inl (Γ.2.1 0, 4184, .inl (moPush g ps pn)))]]) (b_runS ⟨hx, hb, hml, hown, hts⟩ (mt_Mo_at l Γ _ n 2) (lw_S q1886 q1887 q73 q1888) rfl rfl 2 (by decide +kernel) ⟨(Nat.le_of_ble_eq_true rfl), (Nat.le_of_ble_eq_true rfl)⟩ (c_pre hP hD hS hA hK hE [] rfl rfl ro_nil) rfl hl.1 rfl (Nat.le_of_ble_eq_true rfl) dX4_addCow_153 ⟨(Nat.le_of_ble_eq_true rfl), (Nat.le_of_ble_eq_true rfl)⟩) hP hD hS hA [] [0, 1, 2] rfl rfl rfl (fun r_16 u_16 H locs hw_16 hP hD hS _ => ?_)
                  obtain ⟨rfl, rfl⟩ := hw_16
                  have hP : WP Γ [[(a, moE r (upd (upd i 7 0) 5 (nI (moPushN pn))))], [((r 0), .inl (Γ.2.1 0, 523, .inl (upd (upd (moZero (upd g 7 (nI (n + 1))) n 10) (10 * n + 15) p) (10 * n + 16) d)))], [((r 4), .inl (Γ.2.1 0, 4184, .inl (moPush g ps pn)))]] H := hP
                  have hD : WD A [[(a, moE r (upd (upd i 7 0) 5 (nI (moPushN pn))))], [((r 0), .inl (Γ.2.1 0, 523, .inl (upd (upd (moZero (upd g 7 (nI (n + 1))) n 10) (10 * n + 15) p) (10 * n + 16) d)))], [((r 4), .inl (Γ.2.1 0, 4184, .inl (moPush g ps pn)))]] := hD
                  refine lv_bipush (v := 100) hx hb dX4_addCow_156 (by decide) ?_
                  refine b_iast hx hb hK hP hD hS 1 rfl (10 * n + 17) rfl (by omega) (by omega) dX4_addCow_158 (fun H locs hP hD hS => ?_)
                  have hP : WP Γ [[(a, moE r (upd (upd i 7 0) 5 (nI (moPushN pn))))], [((r 0), .inl (Γ.2.1 0, 523, .inl (upd (upd (upd (moZero (upd g 7 (nI (n + 1))) n 10) (10 * n + 15) p) (10 * n + 16) d) (10 * n + 17) 100)))], [((r 4), .inl (Γ.2.1 0, 4184, .inl (moPush g ps pn)))]] H := hP
                  have hD : WD A [[(a, moE r (upd (upd i 7 0) 5 (nI (moPushN pn))))], [((r 0), .inl (Γ.2.1 0, 523, .inl (upd (upd (upd (moZero (upd g 7 (nI (n + 1))) n 10) (10 * n + 15) p) (10 * n + 16) d) (10 * n + 17) 100)))], [((r 4), .inl (Γ.2.1 0, 4184, .inl (moPush g ps pn)))]] := hD
                  refine lv_aload_n hx hb dX4_addCow_159 rfl (lv_at hl 2 rfl) ?_
                  refine b_get (C := RX4) (T := TX4) (N := 16) (v := .ref (r 0)) hx hb hts in_X4 hown hK (b_at (k := 0) hP rfl) rfl 0 (by decide) q1807 (fun _ h9 => h9) rfl dX4_addCow_160 ?_
                  refine lv_iload hx hb dX4_addCow_163 (lv_at hl 1 rfl) ?_
                  refine lv_bipush (v := 6) hx hb dX4_addCow_165 (by decide) ?_
                  refine b_calli (br := [[(a, moE r (upd (upd i 7 0) 5 (nI (moPushN pn))))], [((r 0), .inl (Γ.2.1 0, 523, .inl (upd (upd (upd (moZero (upd g 7 (nI (n + 1))) n 10) (10 * n + 15) p) (10 * n + 16) d) (10 * n + 17) 100)))], [((r 4), .inl (Γ.2.1 0, 4184, .inl (moPush g ps pn)))]]) (b_runS ⟨hx, hb, hml, hown, hts⟩ (mt_Mo_at l Γ _ n 6) (lw_S q1886 q1887 q73 q1888) rfl rfl 2 (by decide +kernel) ⟨(Nat.le_of_ble_eq_true rfl), (Nat.le_of_ble_eq_true rfl)⟩ (c_pre hP hD hS hA hK hE [] rfl rfl ro_nil) rfl hl.1 rfl (Nat.le_of_ble_eq_true rfl) dX4_addCow_167 ⟨(Nat.le_of_ble_eq_true rfl), (Nat.le_of_ble_eq_true rfl)⟩) hP hD hS hA [] [0, 1, 2] rfl rfl rfl (fun r_17 u_17 H locs hw_17 hP hD hS _ => ?_)
                  obtain ⟨rfl, rfl⟩ := hw_17
                  have hP : WP Γ [[(a, moE r (upd (upd i 7 0) 5 (nI (moPushN pn))))], [((r 0), .inl (Γ.2.1 0, 523, .inl (upd (upd (upd (moZero (upd g 7 (nI (n + 1))) n 10) (10 * n + 15) p) (10 * n + 16) d) (10 * n + 17) 100)))], [((r 4), .inl (Γ.2.1 0, 4184, .inl (moPush g ps pn)))]] H := hP
                  have hD : WD A [[(a, moE r (upd (upd i 7 0) 5 (nI (moPushN pn))))], [((r 0), .inl (Γ.2.1 0, 523, .inl (upd (upd (upd (moZero (upd g 7 (nI (n + 1))) n 10) (10 * n + 15) p) (10 * n + 16) d) (10 * n + 17) 100)))], [((r 4), .inl (Γ.2.1 0, 4184, .inl (moPush g ps pn)))]] := hD
                  refine lv_iconst (v := (-1)) hx hb dX4_addCow_170 (by decide) ?_
                  refine b_iast hx hb hK hP hD hS 1 rfl (10 * n + 21) rfl (by omega) (by omega) dX4_addCow_171 (fun H locs hP hD hS => ?_)
                  have hP : WP Γ [[(a, moE r (upd (upd i 7 0) 5 (nI (moPushN pn))))], [((r 0), .inl (Γ.2.1 0, 523, .inl (upd (upd (upd (upd (moZero (upd g 7 (nI (n + 1))) n 10) (10 * n + 15) p) (10 * n + 16) d) (10 * n + 17) 100) (10 * n + 21) (-1))))], [((r 4), .inl (Γ.2.1 0, 4184, .inl (moPush g ps pn)))]] H := hP
                  have hD : WD A [[(a, moE r (upd (upd i 7 0) 5 (nI (moPushN pn))))], [((r 0), .inl (Γ.2.1 0, 523, .inl (upd (upd (upd (upd (moZero (upd g 7 (nI (n + 1))) n 10) (10 * n + 15) p) (10 * n + 16) d) (10 * n + 17) 100) (10 * n + 21) (-1))))], [((r 4), .inl (Γ.2.1 0, 4184, .inl (moPush g ps pn)))]] := hD
                  rw [show (upd (upd (upd (upd (moZero (upd g 7 (nI (n + 1))) n 10) (10 * n + 15) p) (10 * n + 16) d) (10 * n + 17) 100) (10 * n + 21) (-1)) = (moAdd0 g n p d) from rfl] at hP hD
                  refine lv_iload_n hx hb dX4_addCow_172 rfl (lv_at hl 5 rfl) ?_
                  refine lv_if_lt (tgt := 219) hx hb dX4_addCow_173 (by decide) (fun c_18 => ?_) (fun c_18 => ?_)
                  · -- 173 taken
                    refine lv_iload hx hb dX4_addCow_219 (lv_at hl 1 rfl) ?_
                    exact b_iret hx hb hr hlocks hP hD hS (Nat.le_of_ble_eq_true rfl) (Nat.le_of_ble_eq_true rfl) ⟨(by first | with_reducible rfl | (simp [oSel, oI2, T_add, moAdd, c_2, c_5, c_8, n_9, n_10, d_10, n_13, d_13, c_18]; done) | rfl), (by first | with_reducible rfl | (simp [oSel, oI2, T_add, moAdd, c_2, c_5, c_8, n_9, n_10, d_10, n_13, d_13, c_18]; done) | rfl)⟩ dX4_addCow_221
                  · -- 173 not taken
                    refine lv_aload_n hx hb dX4_addCow_176 rfl (lv_at hl 2 rfl) ?_
                    refine b_get (C := RX4) (T := TX4) (N := 16) (v := .ref (r 0)) hx hb hts in_X4 hown hK (b_at (k := 0) hP rfl) rfl 0 (by decide) q1807 (fun _ h9 => h9) rfl dX4_addCow_177 ?_
                    refine lv_iload hx hb dX4_addCow_180 (lv_at hl 1 rfl) ?_
                    refine lv_iconst (v := 3) hx hb dX4_addCow_182 (by decide) ?_
                    refine b_calli (br := [[(a, moE r (upd (upd i 7 0) 5 (nI (moPushN pn))))], [((r 0), .inl (Γ.2.1 0, 523, .inl (moAdd0 g n p d)))], [((r 4), .inl (Γ.2.1 0, 4184, .inl (moPush g ps pn)))]]) (b_runS ⟨hx, hb, hml, hown, hts⟩ (mt_Mo_at l Γ _ n 3) (lw_S q1886 q1887 q73 q1888) rfl rfl 2 (by decide +kernel) ⟨(Nat.le_of_ble_eq_true rfl), (Nat.le_of_ble_eq_true rfl)⟩ (c_pre hP hD hS hA hK hE [] rfl rfl ro_nil) rfl hl.1 rfl (Nat.le_of_ble_eq_true rfl) dX4_addCow_183 ⟨(Nat.le_of_ble_eq_true rfl), (Nat.le_of_ble_eq_true rfl)⟩) hP hD hS hA [] [0, 1, 2] rfl rfl rfl (fun r_19 u_19 H locs hw_19 hP hD hS _ => ?_)
                    obtain ⟨rfl, rfl⟩ := hw_19
                    have hP : WP Γ [[(a, moE r (upd (upd i 7 0) 5 (nI (moPushN pn))))], [((r 0), .inl (Γ.2.1 0, 523, .inl (moAdd0 g n p d)))], [((r 4), .inl (Γ.2.1 0, 4184, .inl (moPush g ps pn)))]] H := hP
                    have hD : WD A [[(a, moE r (upd (upd i 7 0) 5 (nI (moPushN pn))))], [((r 0), .inl (Γ.2.1 0, 523, .inl (moAdd0 g n p d)))], [((r 4), .inl (Γ.2.1 0, 4184, .inl (moPush g ps pn)))]] := hD
                    refine lv_iconst (v := 1) hx hb dX4_addCow_186 (by decide) ?_
                    refine b_iast hx hb hK hP hD hS 1 rfl (10 * n + 18) rfl (by omega) (by omega) dX4_addCow_187 (fun H locs hP hD hS => ?_)
                    have hP : WP Γ [[(a, moE r (upd (upd i 7 0) 5 (nI (moPushN pn))))], [((r 0), .inl (Γ.2.1 0, 523, .inl (upd (moAdd0 g n p d) (10 * n + 18) 1)))], [((r 4), .inl (Γ.2.1 0, 4184, .inl (moPush g ps pn)))]] H := hP
                    have hD : WD A [[(a, moE r (upd (upd i 7 0) 5 (nI (moPushN pn))))], [((r 0), .inl (Γ.2.1 0, 523, .inl (upd (moAdd0 g n p d) (10 * n + 18) 1)))], [((r 4), .inl (Γ.2.1 0, 4184, .inl (moPush g ps pn)))]] := hD
                    refine lv_aload_n hx hb dX4_addCow_188 rfl (lv_at hl 2 rfl) ?_
                    refine b_get (C := RX4) (T := TX4) (N := 16) (v := .ref (r 0)) hx hb hts in_X4 hown hK (b_at (k := 0) hP rfl) rfl 0 (by decide) q1807 (fun _ h9 => h9) rfl dX4_addCow_189 ?_
                    refine lv_iload hx hb dX4_addCow_192 (lv_at hl 1 rfl) ?_
                    refine lv_iconst (v := 4) hx hb dX4_addCow_194 (by decide) ?_
                    refine b_calli (br := [[(a, moE r (upd (upd i 7 0) 5 (nI (moPushN pn))))], [((r 0), .inl (Γ.2.1 0, 523, .inl (upd (moAdd0 g n p d) (10 * n + 18) 1)))], [((r 4), .inl (Γ.2.1 0, 4184, .inl (moPush g ps pn)))]]) (b_runS ⟨hx, hb, hml, hown, hts⟩ (mt_Mo_at l Γ _ n 4) (lw_S q1886 q1887 q73 q1888) rfl rfl 2 (by decide +kernel) ⟨(Nat.le_of_ble_eq_true rfl), (Nat.le_of_ble_eq_true rfl)⟩ (c_pre hP hD hS hA hK hE [] rfl rfl ro_nil) rfl hl.1 rfl (Nat.le_of_ble_eq_true rfl) dX4_addCow_195 ⟨(Nat.le_of_ble_eq_true rfl), (Nat.le_of_ble_eq_true rfl)⟩) hP hD hS hA [] [0, 1, 2] rfl rfl rfl (fun r_20 u_20 H locs hw_20 hP hD hS _ => ?_)
                    obtain ⟨rfl, rfl⟩ := hw_20
                    have hP : WP Γ [[(a, moE r (upd (upd i 7 0) 5 (nI (moPushN pn))))], [((r 0), .inl (Γ.2.1 0, 523, .inl (upd (moAdd0 g n p d) (10 * n + 18) 1)))], [((r 4), .inl (Γ.2.1 0, 4184, .inl (moPush g ps pn)))]] H := hP
                    have hD : WD A [[(a, moE r (upd (upd i 7 0) 5 (nI (moPushN pn))))], [((r 0), .inl (Γ.2.1 0, 523, .inl (upd (moAdd0 g n p d) (10 * n + 18) 1)))], [((r 4), .inl (Γ.2.1 0, 4184, .inl (moPush g ps pn)))]] := hD
                    refine lv_iconst (v := 1) hx hb dX4_addCow_198 (by decide) ?_
                    refine b_iast hx hb hK hP hD hS 1 rfl (10 * n + 19) rfl (by omega) (by omega) dX4_addCow_199 (fun H locs hP hD hS => ?_)
                    have hP : WP Γ [[(a, moE r (upd (upd i 7 0) 5 (nI (moPushN pn))))], [((r 0), .inl (Γ.2.1 0, 523, .inl (upd (upd (moAdd0 g n p d) (10 * n + 18) 1) (10 * n + 19) 1)))], [((r 4), .inl (Γ.2.1 0, 4184, .inl (moPush g ps pn)))]] H := hP
                    have hD : WD A [[(a, moE r (upd (upd i 7 0) 5 (nI (moPushN pn))))], [((r 0), .inl (Γ.2.1 0, 523, .inl (upd (upd (moAdd0 g n p d) (10 * n + 18) 1) (10 * n + 19) 1)))], [((r 4), .inl (Γ.2.1 0, 4184, .inl (moPush g ps pn)))]] := hD
                    refine lv_aload_n hx hb dX4_addCow_200 rfl (lv_at hl 2 rfl) ?_
                    refine b_get (C := RX4) (T := TX4) (N := 16) (v := .ref (r 0)) hx hb hts in_X4 hown hK (b_at (k := 0) hP rfl) rfl 0 (by decide) q1807 (fun _ h9 => h9) rfl dX4_addCow_201 ?_
                    refine lv_iload hx hb dX4_addCow_204 (lv_at hl 1 rfl) ?_
                    refine lv_iconst (v := 5) hx hb dX4_addCow_206 (by decide) ?_
                    refine b_calli (br := [[(a, moE r (upd (upd i 7 0) 5 (nI (moPushN pn))))], [((r 0), .inl (Γ.2.1 0, 523, .inl (upd (upd (moAdd0 g n p d) (10 * n + 18) 1) (10 * n + 19) 1)))], [((r 4), .inl (Γ.2.1 0, 4184, .inl (moPush g ps pn)))]]) (b_runS ⟨hx, hb, hml, hown, hts⟩ (mt_Mo_at l Γ _ n 5) (lw_S q1886 q1887 q73 q1888) rfl rfl 2 (by decide +kernel) ⟨(Nat.le_of_ble_eq_true rfl), (Nat.le_of_ble_eq_true rfl)⟩ (c_pre hP hD hS hA hK hE [] rfl rfl ro_nil) rfl hl.1 rfl (Nat.le_of_ble_eq_true rfl) dX4_addCow_207 ⟨(Nat.le_of_ble_eq_true rfl), (Nat.le_of_ble_eq_true rfl)⟩) hP hD hS hA [] [0, 1, 2] rfl rfl rfl (fun r_21 u_21 H locs hw_21 hP hD hS _ => ?_)
                    obtain ⟨rfl, rfl⟩ := hw_21
                    have hP : WP Γ [[(a, moE r (upd (upd i 7 0) 5 (nI (moPushN pn))))], [((r 0), .inl (Γ.2.1 0, 523, .inl (upd (upd (moAdd0 g n p d) (10 * n + 18) 1) (10 * n + 19) 1)))], [((r 4), .inl (Γ.2.1 0, 4184, .inl (moPush g ps pn)))]] H := hP
                    have hD : WD A [[(a, moE r (upd (upd i 7 0) 5 (nI (moPushN pn))))], [((r 0), .inl (Γ.2.1 0, 523, .inl (upd (upd (moAdd0 g n p d) (10 * n + 18) 1) (10 * n + 19) 1)))], [((r 4), .inl (Γ.2.1 0, 4184, .inl (moPush g ps pn)))]] := hD
                    refine lv_aload_n hx hb dX4_addCow_210 rfl (lv_at hl 2 rfl) ?_
                    refine b_get (C := RX4) (T := TX4) (N := 16) (v := .ref (r 0)) hx hb hts in_X4 hown hK (b_at (k := 0) hP rfl) rfl 0 (by decide) q1807 (fun _ h9 => h9) rfl dX4_addCow_211 ?_
                    refine lv_iconst (v := 0) hx hb dX4_addCow_214 (by decide) ?_
                    refine b_iald hx hb hK (b_at (k := 1) hP rfl) 0 rfl (by omega) (by omega) dX4_addCow_215 ?_
                    refine b_top (show (upd (upd (moAdd0 g n p d) (10 * n + 18) 1) (10 * n + 19) 1 0) = (moAdd0 g n p d 0) from by rw [pk_un (by omega), pk_un (by omega)]) ?_
                    refine b_top ((show moAdd0 g n p d 0 = g 0 from by rw [moAdd0, pk_un (by omega), pk_un (by omega), pk_un (by omega), pk_un (by omega), moZero, if_neg (by omega)]; rfl)) ?_
                    refine lv_iload_n hx hb dX4_addCow_216 rfl (lv_at hl 5 rfl) ?_
                    refine lv_isub hx hb dX4_addCow_217 ?_
                    refine b_iast hx hb hK hP hD hS 1 rfl (10 * n + 20) rfl (by omega) (by omega) dX4_addCow_218 (fun H locs hP hD hS => ?_)
                    have hP : WP Γ [[(a, moE r (upd (upd i 7 0) 5 (nI (moPushN pn))))], [((r 0), .inl (Γ.2.1 0, 523, .inl (upd (upd (upd (moAdd0 g n p d) (10 * n + 18) 1) (10 * n + 19) 1) (10 * n + 20) ((g 0) - x))))], [((r 4), .inl (Γ.2.1 0, 4184, .inl (moPush g ps pn)))]] H := hP
                    have hD : WD A [[(a, moE r (upd (upd i 7 0) 5 (nI (moPushN pn))))], [((r 0), .inl (Γ.2.1 0, 523, .inl (upd (upd (upd (moAdd0 g n p d) (10 * n + 18) 1) (10 * n + 19) 1) (10 * n + 20) ((g 0) - x))))], [((r 4), .inl (Γ.2.1 0, 4184, .inl (moPush g ps pn)))]] := hD
                    refine lv_iload hx hb dX4_addCow_219 (lv_at hl 1 rfl) ?_
                    exact b_iret hx hb hr hlocks hP hD hS (Nat.le_of_ble_eq_true rfl) (Nat.le_of_ble_eq_true rfl) ⟨(by first | with_reducible rfl | (simp [oSel, oI2, T_add, moAdd, c_2, c_5, c_8, n_9, n_10, d_10, n_13, d_13, c_18]; done) | rfl), (by first | with_reducible rfl | (simp [oSel, oI2, T_add, moAdd, c_2, c_5, c_8, n_9, n_10, d_10, n_13, d_13, c_18]; done) | rfl)⟩ dX4_addCow_221
                · -- 100 not taken
                  have n_13 : ¬ (10 ≤ j) := fun h => c_13 ((nI_leI (a := 10) (b := j) (by omega) (by omega)).mpr h)
                  have d_13 := Int32.not_le.mp c_13
                  refine lv_aload_n hx hb dX4_addCow_103 rfl (lv_at hl 2 rfl) ?_
                  refine b_get (C := RX4) (T := TX4) (N := 16) (v := .ref (r 0)) hx hb hts in_X4 hown hK (b_at (k := 0) hP rfl) rfl 0 (by decide) q1807 (fun _ h9 => h9) rfl dX4_addCow_104 ?_
                  refine lv_iload hx hb dX4_addCow_107 (lv_at hl 1 rfl) ?_
                  refine lv_iload hx hb dX4_addCow_109 (lv_at hl 0 rfl) ?_
                  refine b_calli (br := [[(a, moE r (upd (upd i 7 0) 5 (nI (moPushN pn))))], [((r 0), .inl (Γ.2.1 0, 523, .inl (moZero (upd g 7 (nI (n + 1))) n j)))], [((r 4), .inl (Γ.2.1 0, 4184, .inl (moPush g ps pn)))]]) (b_runS ⟨hx, hb, hml, hown, hts⟩ (mt_Mo_at l Γ _ n j) (lw_S q1886 q1887 q73 q1888) rfl rfl 2 (by decide +kernel) ⟨(Nat.le_of_ble_eq_true rfl), (Nat.le_of_ble_eq_true rfl)⟩ (c_pre hP hD hS hA hK hE [] rfl rfl ro_nil) rfl hl.1 rfl (Nat.le_of_ble_eq_true rfl) dX4_addCow_111 ⟨(Nat.le_of_ble_eq_true rfl), (Nat.le_of_ble_eq_true rfl)⟩) hP hD hS hA [] [0, 1, 2] rfl rfl rfl (fun r_22 u_22 H locs hw_22 hP hD hS _ => ?_)
                  obtain ⟨rfl, rfl⟩ := hw_22
                  have hP : WP Γ [[(a, moE r (upd (upd i 7 0) 5 (nI (moPushN pn))))], [((r 0), .inl (Γ.2.1 0, 523, .inl (moZero (upd g 7 (nI (n + 1))) n j)))], [((r 4), .inl (Γ.2.1 0, 4184, .inl (moPush g ps pn)))]] H := hP
                  have hD : WD A [[(a, moE r (upd (upd i 7 0) 5 (nI (moPushN pn))))], [((r 0), .inl (Γ.2.1 0, 523, .inl (moZero (upd g 7 (nI (n + 1))) n j)))], [((r 4), .inl (Γ.2.1 0, 4184, .inl (moPush g ps pn)))]] := hD
                  refine lv_iconst (v := 0) hx hb dX4_addCow_114 (by decide) ?_
                  refine b_iast hx hb hK hP hD hS 1 rfl (10 * n + j + 15) rfl (by omega) (by omega) dX4_addCow_115 (fun H locs hP hD hS => ?_)
                  have hP : WP Γ [[(a, moE r (upd (upd i 7 0) 5 (nI (moPushN pn))))], [((r 0), .inl (Γ.2.1 0, 523, .inl (upd (moZero (upd g 7 (nI (n + 1))) n j) (10 * n + j + 15) 0)))], [((r 4), .inl (Γ.2.1 0, 4184, .inl (moPush g ps pn)))]] H := hP
                  have hD : WD A [[(a, moE r (upd (upd i 7 0) 5 (nI (moPushN pn))))], [((r 0), .inl (Γ.2.1 0, 523, .inl (upd (moZero (upd g 7 (nI (n + 1))) n j) (10 * n + j + 15) 0)))], [((r 4), .inl (Γ.2.1 0, 4184, .inl (moPush g ps pn)))]] := hD
                  rw [show (upd (moZero (upd g 7 (nI (n + 1))) n j) (10 * n + j + 15) 0) = (moZero (upd g 7 (nI (n + 1))) n (j + 1)) from moZero_step _ n j] at hP hD
                  refine lv_iinc (v := (nI (j + 1))) (lv' := [(5, .int (nI (j + 1))), (4, .int (nI n)), (0, .ref a), (1, .int p), (2, .int d), (3, .int x)]) hx hb dX4_addCow_116 hl (k := 0) rfl (nI_addE (b := 1) rfl rfl (by omega)) (by decide) rfl (fun ls hl => ?_)
                  refine lv_goto (tgt := 96) hx hb dX4_addCow_119 (by decide) ?_
                  exact ih (j + 1) (by omega) (by omega) _ _ _ hP hD hS (lv_sub hl [0, 1, 2, 3, 4, 5] rfl)
            exact loop_12 ((10 - 0) + 1) 0 (Nat.lt_succ_self _) (Nat.zero_le _) _ _ _ hP hD hS (lv_sub hl [0, 1, 2, 3, 4, 5] rfl)
          · -- 60 not taken
            have n_10 : ¬ (0 ≤ 0) := fun h => c_10 ((nI_leI (a := 0) (b := 0) (by omega) (by omega)).mpr h)
            have d_10 := Int32.not_le.mp c_10
            exact absurd n_10 (by omega)
        · -- 45 not taken
          have n_9 : n = 8 := (nI_eq (by omega) (by omega)).mp (show nI n = nI 8 from c_9)
          refine lv_iconst (v := 2) hx hb dX4_addCow_48 (by decide) ?_
          refine lv_goto (tgt := 53) hx hb dX4_addCow_49 (by decide) ?_
          refine b_put (C := RX4) (T := TX4) (N := 16) (ty := .int) (v := .int 2) hx hb hts in_X4 tyX4_ok nmX4 hown hK hP hD hS 0 rfl rfl 7 (by decide) q1814 (fun _ h9 => h9) rfl (by decide +kernel) rfl rfl (Nat.le_of_ble_eq_true rfl) dX4_addCow_53 (fun H locs hP hD hS => ?_)
          have hP : WP Γ [[(a, moE r (upd i 7 2))], [((r 0), .inl (Γ.2.1 0, 523, .inl g))], [((r 4), .inl (Γ.2.1 0, 4184, .inl ps))]] H := hP
          have hD : WD A [[(a, moE r (upd i 7 2))], [((r 0), .inl (Γ.2.1 0, 523, .inl g))], [((r 4), .inl (Γ.2.1 0, 4184, .inl ps))]] := hD
          refine lv_aload_n hx hb dX4_addCow_56 rfl (lv_at hl 0 rfl) ?_
          refine b_get (C := RX4) (T := TX4) (N := 16) (v := .int 2) hx hb hts in_X4 hown hK (b_at (k := 0) hP rfl) rfl 7 (by decide) q1814 (fun _ h9 => h9) rfl dX4_addCow_57 ?_
          refine lv_if_le (tgt := 65) hx hb dX4_addCow_60 (by decide) (fun c_23 => ?_) (fun c_23 => ?_)
          · -- 60 taken
            have n_23 : 2 ≤ 0 := (nI_leI (by omega) (by omega)).mp (show nI 2 ≤ nI 0 from c_23)
            have d_23 := Int32.not_lt.mpr c_23
            exact absurd n_23 (by omega)
          · -- 60 not taken
            have n_23 : ¬ (2 ≤ 0) := fun h => c_23 ((nI_leI (a := 2) (b := 0) (by omega) (by omega)).mpr h)
            have d_23 := Int32.not_le.mp c_23
            refine lv_iconst (v := 0) hx hb dX4_addCow_63 (by decide) ?_
            exact b_iret hx hb hr hlocks hP hD hS (Nat.le_of_ble_eq_true rfl) (Nat.le_of_ble_eq_true rfl) ⟨(by first | with_reducible rfl | (simp [oSel, oI2, T_add, moAdd, c_2, c_5, c_8, n_9, n_23, d_23]; done) | (subst n_9; simp [oSel, oI2, T_add, moAdd, c_2, c_5, c_8, n_23, d_23]; done) | rfl), (by first | with_reducible rfl | (simp [oSel, oI2, T_add, moAdd, c_2, c_5, c_8, n_9, n_23, d_23]; done) | (subst n_9; simp [oSel, oI2, T_add, moAdd, c_2, c_5, c_8, n_23, d_23]; done) | rfl)⟩ dX4_addCow_64
      · -- 29 not taken
        refine lv_iconst (v := 1) hx hb dX4_addCow_32 (by decide) ?_
        refine lv_goto (tgt := 53) hx hb dX4_addCow_33 (by decide) ?_
        refine b_put (C := RX4) (T := TX4) (N := 16) (ty := .int) (v := .int 1) hx hb hts in_X4 tyX4_ok nmX4 hown hK hP hD hS 0 rfl rfl 7 (by decide) q1814 (fun _ h9 => h9) rfl (by decide +kernel) rfl rfl (Nat.le_of_ble_eq_true rfl) dX4_addCow_53 (fun H locs hP hD hS => ?_)
        have hP : WP Γ [[(a, moE r (upd i 7 1))], [((r 0), .inl (Γ.2.1 0, 523, .inl g))], [((r 4), .inl (Γ.2.1 0, 4184, .inl ps))]] H := hP
        have hD : WD A [[(a, moE r (upd i 7 1))], [((r 0), .inl (Γ.2.1 0, 523, .inl g))], [((r 4), .inl (Γ.2.1 0, 4184, .inl ps))]] := hD
        refine lv_aload_n hx hb dX4_addCow_56 rfl (lv_at hl 0 rfl) ?_
        refine b_get (C := RX4) (T := TX4) (N := 16) (v := .int 1) hx hb hts in_X4 hown hK (b_at (k := 0) hP rfl) rfl 7 (by decide) q1814 (fun _ h9 => h9) rfl dX4_addCow_57 ?_
        refine lv_if_le (tgt := 65) hx hb dX4_addCow_60 (by decide) (fun c_24 => ?_) (fun c_24 => ?_)
        · -- 60 taken
          have n_24 : 1 ≤ 0 := (nI_leI (by omega) (by omega)).mp (show nI 1 ≤ nI 0 from c_24)
          have d_24 := Int32.not_lt.mpr c_24
          exact absurd n_24 (by omega)
        · -- 60 not taken
          have n_24 : ¬ (1 ≤ 0) := fun h => c_24 ((nI_leI (a := 1) (b := 0) (by omega) (by omega)).mpr h)
          have d_24 := Int32.not_le.mp c_24
          refine lv_iconst (v := 0) hx hb dX4_addCow_63 (by decide) ?_
          exact b_iret hx hb hr hlocks hP hD hS (Nat.le_of_ble_eq_true rfl) (Nat.le_of_ble_eq_true rfl) ⟨(by first | with_reducible rfl | (simp [oSel, oI2, T_add, moAdd, c_2, c_5, c_8, n_24, d_24]; done) | rfl), (by first | with_reducible rfl | (simp [oSel, oI2, T_add, moAdd, c_2, c_5, c_8, n_24, d_24]; done) | rfl)⟩ dX4_addCow_64
