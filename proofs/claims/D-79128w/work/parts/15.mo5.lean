/-! MODEL: reading texts. t: the letters, n: how many, p: the place -/
def hereP (t : Nat → Int32) (n p : Nat) : Int32 := if p < n then t p else -1
set_option maxHeartbeats 4000000 in
set_option maxRecDepth 100000 in
theorem mt_Mo_here (l : Launch) (Γ : GE) (sz : Nat) (a : Nat) (r : Nat → Nat) (i : Nat → Int32) (t : Nat → Int32) (n : Nat) (p : Nat) (h10 : i 10 = nI n) (hn : n ≤ 50) (h11 : i 11 = nI p) (hp : p ≤ n) : KM l yX4_here cX4_here 1 (some FieldType.int) Γ 0 0 0 0 [.ref a] [[(a, moE r i)], [((r 9), .inl (Γ.2.1 0, 50, .inl t))]] [] sz (Qi Γ (fun r_ u_ => r_ = (hereP t n p) ∧ u_ = [[(a, moE r i)], [((r 9), .inl (Γ.2.1 0, 50, .inl t))]])) := by
  refine K_intro (by decide) (Nat.le_of_ble_eq_true rfl) ?_
  intro pr_ ev_ s mi_ below meth cd_ A ls hx hb hr hml hown hts hlocks hname hK hE hRo hP hD hA hS hsz hl
  have hl : lv_has ls 1 [(0, .ref a)] := hl
  have hown : s.vm.findClass RX4 = some mi_.cls := hown
  refine lv_aload_n hx hb dX4_here_0 rfl (lv_at hl 0 rfl) ?_
  refine b_get (C := RX4) (T := TX4) (N := 16) (v := .int (i 11)) hx hb hts in_X4 hown hK (b_at (k := 0) hP rfl) rfl 11 (by decide) q1818 (fun _ h9 => h9) rfl dX4_here_1 ?_
  refine b_top (h11) ?_
  refine lv_aload_n hx hb dX4_here_4 rfl (lv_at hl 0 rfl) ?_
  refine b_get (C := RX4) (T := TX4) (N := 16) (v := .int (i 10)) hx hb hts in_X4 hown hK (b_at (k := 0) hP rfl) rfl 10 (by decide) q1817 (fun _ h9 => h9) rfl dX4_here_5 ?_
  refine b_top (h10) ?_
  refine lv_icmp_ge (tgt := 23) hx hb dX4_here_8 (by decide) (fun c_1 => ?_) (fun c_1 => ?_)
  · -- 8 taken
    have n_1 : n ≤ p := (nI_leI (by omega) (by omega)).mp (show nI n ≤ nI p from c_1)
    have m_1 : ¬ (p < n) := by omega
    have d_1 := Int32.not_lt.mpr c_1
    refine lv_iconst (v := (-1)) hx hb dX4_here_23 (by decide) ?_
    exact b_iret hx hb hr hlocks hP hD hS (Nat.le_of_ble_eq_true rfl) (Nat.le_of_ble_eq_true rfl) ⟨(by first | with_reducible rfl | (simp [hereP, n_1, m_1, d_1]; done) | rfl), (by first | with_reducible rfl | (simp [hereP, n_1, m_1, d_1]; done) | rfl)⟩ dX4_here_24
  · -- 8 not taken
    have n_1 : ¬ (n ≤ p) := fun h => c_1 ((nI_leI (a := n) (b := p) (by omega) (by omega)).mpr h)
    have m_1 : p < n := by omega
    have d_1 := Int32.not_le.mp c_1
    refine lv_aload_n hx hb dX4_here_11 rfl (lv_at hl 0 rfl) ?_
    refine b_get (C := RX4) (T := TX4) (N := 16) (v := .ref (r 9)) hx hb hts in_X4 hown hK (b_at (k := 0) hP rfl) rfl 9 (by decide) q1816 (fun _ h9 => h9) rfl dX4_here_12 ?_
    refine lv_aload_n hx hb dX4_here_15 rfl (lv_at hl 0 rfl) ?_
    refine b_get (C := RX4) (T := TX4) (N := 16) (v := .int (i 11)) hx hb hts in_X4 hown hK (b_at (k := 0) hP rfl) rfl 11 (by decide) q1818 (fun _ h9 => h9) rfl dX4_here_16 ?_
    refine b_top (h11) ?_
    refine b_iald hx hb hK (b_at (k := 1) hP rfl) p rfl (by omega) (by omega) dX4_here_19 ?_
    refine lv_goto (tgt := 24) hx hb dX4_here_20 (by decide) ?_
    exact b_iret hx hb hr hlocks hP hD hS (Nat.le_of_ble_eq_true rfl) (Nat.le_of_ble_eq_true rfl) ⟨(by first | with_reducible rfl | (simp [hereP, n_1, m_1, d_1]; done) | rfl), (by first | with_reducible rfl | (simp [hereP, n_1, m_1, d_1]; done) | rfl)⟩ dX4_here_24
set_option maxHeartbeats 4000000 in
set_option maxRecDepth 100000 in
theorem mt_Mo_skips (l : Launch) (Γ : GE) (sz : Nat) (a : Nat) (r : Nat → Nat) (i : Nat → Int32) (t : Nat → Int32) (n : Nat) (p : Nat) (c : Int32) (h10 : i 10 = nI n) (hn : n ≤ 50) (h11 : i 11 = nI p) (hp : p ≤ n) : KM l yX4_skips cX4_skips 3 (some FieldType.boolean) Γ 1 20 0 0 [.ref a, .int c] [[(a, moE r i)], [((r 9), .inl (Γ.2.1 0, 50, .inl t))]] [] sz (Qi Γ (fun r_ u_ => r_ = (if hereP t n p = c then 1 else 0) ∧ u_ = [[(a, moE r (upd i 11 (if hereP t n p = c then nI (p + 1) else nI p)))], [((r 9), .inl (Γ.2.1 0, 50, .inl t))]])) := by
  refine K_intro (by decide) (Nat.le_of_ble_eq_true rfl) ?_
  intro pr_ ev_ s mi_ below meth cd_ A ls hx hb hr hml hown hts hlocks hname hK hE hRo hP hD hA hS hsz hl
  have hl : lv_has ls 3 [(0, .ref a), (1, .int c)] := hl
  have hown : s.vm.findClass RX4 = some mi_.cls := hown
  refine lv_aload_n hx hb dX4_skips_0 rfl (lv_at hl 0 rfl) ?_
  refine b_calli (br := []) (b_runV ⟨hx, hb, hml, hown, hts⟩ (mt_Mo_here l Γ _ a r i t n p (by first | exact h10 | omega) (by first | exact hn | omega) (by first | exact h11 | omega) (by first | exact hp | omega)) (lw_V q2159 q2161 qs55 q73 q2162) rfl rfl 0 (by decide +kernel) ⟨(Nat.le_of_ble_eq_true rfl), (Nat.le_of_ble_eq_true rfl)⟩ (c_pre hP hD hS hA hK hE [0, 1] rfl rfl ro_nil) (recv_at (q := (RX4, TX4, 16)) hK (b_at (k := 0) hP rfl) rfl) rfl hl.1 rfl (Nat.le_of_ble_eq_true rfl) dX4_skips_1 ⟨(Nat.le_of_ble_eq_true rfl), (Nat.le_of_ble_eq_true rfl)⟩) hP hD hS hA [0, 1] [] rfl rfl rfl (fun r_1 u_1 H locs hw_1 hP hD hS _ => ?_)
  obtain ⟨rfl, rfl⟩ := hw_1
  have hP : WP Γ [[(a, moE r i)], [((r 9), .inl (Γ.2.1 0, 50, .inl t))]] H := hP
  have hD : WD A [[(a, moE r i)], [((r 9), .inl (Γ.2.1 0, 50, .inl t))]] := hD
  refine lv_iload_n hx hb dX4_skips_4 rfl (lv_at hl 1 rfl) ?_
  refine lv_icmp_ne (tgt := 12) hx hb dX4_skips_5 (by decide) (fun c_2 => ?_) (fun c_2 => ?_)
  · -- 5 taken
    refine lv_iconst (v := 0) hx hb dX4_skips_12 (by decide) ?_
    refine lv_istore_n (lv' := [(2, .int 0), (0, .ref a), (1, .int c)]) hx hb dX4_skips_13 rfl hl (by decide) rfl (fun ls hl => ?_)
    refine lv_aload_n hx hb dX4_skips_14 rfl (lv_at hl 1 rfl) ?_
    refine lv_dup hx hb dX4_skips_15 rfl ?_
    refine b_get (C := RX4) (T := TX4) (N := 16) (v := .int (i 11)) hx hb hts in_X4 hown hK (b_at (k := 0) hP rfl) rfl 11 (by decide) q1818 (fun _ h9 => h9) rfl dX4_skips_16 ?_
    refine b_top (h11) ?_
    refine lv_iload_n hx hb dX4_skips_19 rfl (lv_at hl 0 rfl) ?_
    refine lv_if_eq (tgt := 27) hx hb dX4_skips_20 (by decide) (fun c_3 => ?_) (fun c_3 => ?_)
    · -- 20 taken
      have n_3 : 0 = 0 := (nI_eq (by omega) (by omega)).mp (show nI 0 = nI 0 from c_3)
      refine lv_iconst (v := 0) hx hb dX4_skips_27 (by decide) ?_
      refine lv_iadd hx hb dX4_skips_28 ?_
      refine b_top (nI_addE (a := p) (b := 0) (c := p) rfl rfl (by first | omega | rfl)) ?_
      refine b_putM (C := RX4) (T := TX4) (N := 16) (ty := .int) (vv := (nI p)) hx hb hts in_X4 tyX4_ok nmX4 hown hK hP hD hS 0 rfl rfl 11 (by decide) q1818 (fun _ h9 => h9) rfl (by decide +kernel) rfl rfl (Nat.le_of_ble_eq_true rfl) (moL_set11 _ _ _) dX4_skips_29 (fun H locs hP hD hS => ?_)
      have hP : WP Γ [[(a, moE r (upd i 11 (nI p)))], [((r 9), .inl (Γ.2.1 0, 50, .inl t))]] H := hP
      have hD : WD A [[(a, moE r (upd i 11 (nI p)))], [((r 9), .inl (Γ.2.1 0, 50, .inl t))]] := hD
      refine lv_iload_n hx hb dX4_skips_32 rfl (lv_at hl 0 rfl) ?_
      exact b_zret hx hb hr hlocks hP hD hS (Nat.le_of_ble_eq_true rfl) (Nat.le_of_ble_eq_true rfl) rfl ⟨(by first | with_reducible rfl | (simp [c_2, n_3]; done) | rfl), (by first | with_reducible rfl | (simp [c_2, n_3]; done) | rfl)⟩ dX4_skips_33
    · -- 20 not taken
      have n_3 : ¬ (0 = 0) := fun h => c_3 ((nI_eq (a := 0) (b := 0) (by omega) (by omega)).mpr h)
      exact absurd n_3 (by omega)
  · -- 5 not taken
    refine lv_iconst (v := 1) hx hb dX4_skips_8 (by decide) ?_
    refine lv_goto (tgt := 13) hx hb dX4_skips_9 (by decide) ?_
    refine lv_istore_n (lv' := [(2, .int 1), (0, .ref a), (1, .int c)]) hx hb dX4_skips_13 rfl hl (by decide) rfl (fun ls hl => ?_)
    refine lv_aload_n hx hb dX4_skips_14 rfl (lv_at hl 1 rfl) ?_
    refine lv_dup hx hb dX4_skips_15 rfl ?_
    refine b_get (C := RX4) (T := TX4) (N := 16) (v := .int (i 11)) hx hb hts in_X4 hown hK (b_at (k := 0) hP rfl) rfl 11 (by decide) q1818 (fun _ h9 => h9) rfl dX4_skips_16 ?_
    refine b_top (h11) ?_
    refine lv_iload_n hx hb dX4_skips_19 rfl (lv_at hl 0 rfl) ?_
    refine lv_if_eq (tgt := 27) hx hb dX4_skips_20 (by decide) (fun c_4 => ?_) (fun c_4 => ?_)
    · -- 20 taken
      have n_4 : 1 = 0 := (nI_eq (by omega) (by omega)).mp (show nI 1 = nI 0 from c_4)
      exact absurd n_4 (by omega)
    · -- 20 not taken
      have n_4 : ¬ (1 = 0) := fun h => c_4 ((nI_eq (a := 1) (b := 0) (by omega) (by omega)).mpr h)
      refine lv_iconst (v := 1) hx hb dX4_skips_23 (by decide) ?_
      refine lv_goto (tgt := 28) hx hb dX4_skips_24 (by decide) ?_
      refine lv_iadd hx hb dX4_skips_28 ?_
      refine b_top (nI_addE (a := p) (b := 1) (c := p + 1) rfl rfl (by first | omega | rfl)) ?_
      refine b_putM (C := RX4) (T := TX4) (N := 16) (ty := .int) (vv := (nI (p + 1))) hx hb hts in_X4 tyX4_ok nmX4 hown hK hP hD hS 0 rfl rfl 11 (by decide) q1818 (fun _ h9 => h9) rfl (by decide +kernel) rfl rfl (Nat.le_of_ble_eq_true rfl) (moL_set11 _ _ _) dX4_skips_29 (fun H locs hP hD hS => ?_)
      have hP : WP Γ [[(a, moE r (upd i 11 (nI (p + 1))))], [((r 9), .inl (Γ.2.1 0, 50, .inl t))]] H := hP
      have hD : WD A [[(a, moE r (upd i 11 (nI (p + 1))))], [((r 9), .inl (Γ.2.1 0, 50, .inl t))]] := hD
      refine lv_iload_n hx hb dX4_skips_32 rfl (lv_at hl 0 rfl) ?_
      exact b_zret hx hb hr hlocks hP hD hS (Nat.le_of_ble_eq_true rfl) (Nat.le_of_ble_eq_true rfl) rfl ⟨(by first | with_reducible rfl | (simp [c_2, n_4]; done) | rfl), (by first | with_reducible rfl | (simp [c_2, n_4]; done) | rfl)⟩ dX4_skips_33
def digF (t : Nat → Int32) (n : Nat) : Nat → Int32 → Nat → Int32 × Nat
  | 0, v, p => (v, p)
  | k + 1, v, p => if 0 < v then (if inR (hereP t n p) 48 57 = 0 then (v, p) else digF t n k (10 * v + hereP t n p - 48) (p + 1)) else (v, p)
/-- a number from p on: its value, the place behind it -/
def numP (t : Nat → Int32) (n p : Nat) : Int32 × Nat := digF t n 2 (hereP t n p - 48) (p + 1)
theorem hereP_in {t : Nat → Int32} {n p : Nat} {lo hi : Int32} (hlo : ¬ (-1 : Int32) ≥ lo) (h : ¬ inR (hereP t n p) lo hi = 0) : p < n := by
  unfold hereP at h
  split at h
  · assumption
  · exfalso
    apply h
    unfold inR
    rw [if_pos (Int32.not_le.mp hlo)]
set_option maxHeartbeats 4000000 in
set_option maxRecDepth 100000 in
theorem mt_Mo_number (l : Launch) (Γ : GE) (sz : Nat) (a : Nat) (r : Nat → Nat) (i : Nat → Int32) (t : Nat → Int32) (n : Nat) (p : Nat) (h10 : i 10 = nI n) (hn : n ≤ 50) (h11 : i 11 = nI p) (hp : p ≤ n) : KM l yX4_number cX4_number 2 (some FieldType.boolean) Γ 1 22 0 0 [.ref a] [[(a, moE r i)], [((r 9), .inl (Γ.2.1 0, 50, .inl t))]] [] sz (Qi Γ (fun r_ u_ => r_ = (if inR (hereP t n p) 48 57 = 0 then 0 else 1) ∧ u_ = [[(a, moE r (if inR (hereP t n p) 48 57 = 0 then i else upd (upd i 12 (numP t n p).1) 11 (nI (numP t n p).2)))], [((r 9), .inl (Γ.2.1 0, 50, .inl t))]])) := by
  refine K_intro (by decide) (Nat.le_of_ble_eq_true rfl) ?_
  intro pr_ ev_ s mi_ below meth cd_ A ls hx hb hr hml hown hts hlocks hname hK hE hRo hP hD hA hS hsz hl
  have hl : lv_has ls 2 [(0, .ref a)] := hl
  have hown : s.vm.findClass RX4 = some mi_.cls := hown
  refine lv_aload_n hx hb dX4_number_0 rfl (lv_at hl 0 rfl) ?_
  refine b_calli (br := []) (b_runV ⟨hx, hb, hml, hown, hts⟩ (mt_Mo_here l Γ _ a r i t n p h10 (by first | exact hn | omega) (by first | exact h11 | rfl) (by first | exact hp | omega)) (lw_V q2159 q2161 qs55 q73 q2162) rfl rfl 0 (by decide +kernel) ⟨(Nat.le_of_ble_eq_true rfl), (Nat.le_of_ble_eq_true rfl)⟩ (c_pre hP hD hS hA hK hE [0, 1] rfl rfl ro_nil) (recv_at (q := (RX4, TX4, 16)) hK (b_at (k := 0) hP rfl) rfl) rfl hl.1 rfl (Nat.le_of_ble_eq_true rfl) dX4_number_1 ⟨(Nat.le_of_ble_eq_true rfl), (Nat.le_of_ble_eq_true rfl)⟩) hP hD hS hA [0, 1] [] rfl rfl rfl (fun r_1 u_1 H locs hw_1 hP hD hS _ => ?_)
  obtain ⟨rfl, rfl⟩ := hw_1
  have hP : WP Γ [[(a, moE r i)], [((r 9), .inl (Γ.2.1 0, 50, .inl t))]] H := hP
  have hD : WD A [[(a, moE r i)], [((r 9), .inl (Γ.2.1 0, 50, .inl t))]] := hD
  refine lv_bipush (v := 48) hx hb dX4_number_4 (by decide) ?_
  refine lv_bipush (v := 57) hx hb dX4_number_6 (by decide) ?_
  refine b_calli (br := [[(a, moE r i)], [((r 9), .inl (Γ.2.1 0, 50, .inl t))]]) (b_runS ⟨hx, hb, hml, hown, hts⟩ (mt_Mo_in l Γ _ (hereP t n p) 48 57) (lw_S q1879 q1880 q73 q1881) rfl rfl 3 (by decide +kernel) ⟨(Nat.le_of_ble_eq_true rfl), (Nat.le_of_ble_eq_true rfl)⟩ (c_pre hP hD hS hA hK hE [] rfl rfl ro_nil) rfl hl.1 rfl (Nat.le_of_ble_eq_true rfl) dX4_number_8 ⟨(Nat.le_of_ble_eq_true rfl), (Nat.le_of_ble_eq_true rfl)⟩) hP hD hS hA [] [0, 1] rfl rfl rfl (fun r_2 u_2 H locs hw_2 hP hD hS _ => ?_)
  obtain ⟨rfl, rfl⟩ := hw_2
  have hP : WP Γ [[(a, moE r i)], [((r 9), .inl (Γ.2.1 0, 50, .inl t))]] H := hP
  have hD : WD A [[(a, moE r i)], [((r 9), .inl (Γ.2.1 0, 50, .inl t))]] := hD
  refine lv_if_ne (tgt := 16) hx hb dX4_number_11 (by decide) (fun c_3 => ?_) (fun c_3 => ?_)
  · -- 11 taken
    have hp0 := hereP_in (by decide) c_3
    refine lv_aload_n hx hb dX4_number_16 rfl (lv_at hl 0 rfl) ?_
    refine lv_aload_n hx hb dX4_number_17 rfl (lv_at hl 0 rfl) ?_
    refine b_calli (br := []) (b_runV ⟨hx, hb, hml, hown, hts⟩ (mt_Mo_here l Γ _ a r i t n p h10 (by first | exact hn | omega) (by first | exact h11 | rfl) (by first | exact hp | omega)) (lw_V q2159 q2161 qs55 q73 q2162) rfl rfl 0 (by decide +kernel) ⟨(Nat.le_of_ble_eq_true rfl), (Nat.le_of_ble_eq_true rfl)⟩ (c_pre hP hD hS hA hK hE [0, 1] rfl rfl ro_nil) (recv_at (q := (RX4, TX4, 16)) hK (b_at (k := 0) hP rfl) rfl) rfl hl.1 rfl (Nat.le_of_ble_eq_true rfl) dX4_number_18 ⟨(Nat.le_of_ble_eq_true rfl), (Nat.le_of_ble_eq_true rfl)⟩) hP hD hS hA [0, 1] [] rfl rfl rfl (fun r_4 u_4 H locs hw_4 hP hD hS _ => ?_)
    obtain ⟨rfl, rfl⟩ := hw_4
    have hP : WP Γ [[(a, moE r i)], [((r 9), .inl (Γ.2.1 0, 50, .inl t))]] H := hP
    have hD : WD A [[(a, moE r i)], [((r 9), .inl (Γ.2.1 0, 50, .inl t))]] := hD
    refine lv_bipush (v := 48) hx hb dX4_number_21 (by decide) ?_
    refine lv_isub hx hb dX4_number_23 ?_
    refine b_putM (C := RX4) (T := TX4) (N := 16) (ty := .int) (vv := ((hereP t n p) - 48)) hx hb hts in_X4 tyX4_ok nmX4 hown hK hP hD hS 0 rfl rfl 12 (by decide) q1819 (fun _ h9 => h9) rfl (by decide +kernel) rfl rfl (Nat.le_of_ble_eq_true rfl) (moL_set12 _ _ _) dX4_number_24 (fun H locs hP hD hS => ?_)
    have hP : WP Γ [[(a, moE r (upd i 12 ((hereP t n p) - 48)))], [((r 9), .inl (Γ.2.1 0, 50, .inl t))]] H := hP
    have hD : WD A [[(a, moE r (upd i 12 ((hereP t n p) - 48)))], [((r 9), .inl (Γ.2.1 0, 50, .inl t))]] := hD
    refine lv_aload_n hx hb dX4_number_27 rfl (lv_at hl 0 rfl) ?_
    refine lv_dup hx hb dX4_number_28 rfl ?_
    refine b_get (C := RX4) (T := TX4) (N := 16) (v := .int (i 11)) hx hb hts in_X4 hown hK (b_at (k := 0) hP rfl) rfl 11 (by decide) q1818 (fun _ h9 => h9) rfl dX4_number_29 ?_
    refine b_top (h11) ?_
    refine lv_iconst (v := 1) hx hb dX4_number_32 (by decide) ?_
    refine lv_iadd hx hb dX4_number_33 ?_
    refine b_top (nI_addE (a := p) (b := 1) (c := p + 1) rfl rfl (by first | omega | rfl)) ?_
    refine b_putM (C := RX4) (T := TX4) (N := 16) (ty := .int) (vv := (nI (p + 1))) hx hb hts in_X4 tyX4_ok nmX4 hown hK hP hD hS 0 rfl rfl 11 (by decide) q1818 (fun _ h9 => h9) rfl (by decide +kernel) rfl rfl (Nat.le_of_ble_eq_true rfl) (moL_set11 _ _ _) dX4_number_34 (fun H locs hP hD hS => ?_)
    have hP : WP Γ [[(a, moE r (upd (upd i 12 ((hereP t n p) - 48)) 11 (nI (p + 1))))], [((r 9), .inl (Γ.2.1 0, 50, .inl t))]] H := hP
    have hD : WD A [[(a, moE r (upd (upd i 12 ((hereP t n p) - 48)) 11 (nI (p + 1))))], [((r 9), .inl (Γ.2.1 0, 50, .inl t))]] := hD
    refine lv_iconst (v := 1) hx hb dX4_number_37 (by decide) ?_
    refine lv_istore_n (lv' := [(1, .int 1), (0, .ref a)]) hx hb dX4_number_38 rfl hl (by decide) rfl (fun ls hl => ?_)
    refine lv_iload_n hx hb dX4_number_39 rfl (lv_at hl 0 rfl) ?_
    refine lv_iconst (v := 3) hx hb dX4_number_40 (by decide) ?_
    refine lv_icmp_ge (tgt := 100) hx hb dX4_number_41 (by decide) (fun c_5 => ?_) (fun c_5 => ?_)
    · -- 41 taken
      have n_5 : 3 ≤ 1 := (nI_leI (by omega) (by omega)).mp (show nI 3 ≤ nI 1 from c_5)
      exact absurd n_5 (by omega)
    · -- 41 not taken
      have n_5 : ¬ (3 ≤ 1) := fun h => c_5 ((nI_leI (a := 3) (b := 1) (by omega) (by omega)).mpr h)
      refine lv_aload_n hx hb dX4_number_44 rfl (lv_at hl 1 rfl) ?_
      refine b_get (C := RX4) (T := TX4) (N := 16) (v := .int ((hereP t n p) - 48)) hx hb hts in_X4 hown hK (b_at (k := 0) hP rfl) rfl 12 (by decide) q1819 (fun _ h9 => h9) rfl dX4_number_45 ?_
      refine lv_if_le (tgt := 100) hx hb dX4_number_48 (by decide) (fun c_6 => ?_) (fun c_6 => ?_)
      · -- 48 taken
        have d_6 := Int32.not_lt.mpr c_6
        refine lv_iconst (v := 1) hx hb dX4_number_100 (by decide) ?_
        exact b_zret hx hb hr hlocks hP hD hS (Nat.le_of_ble_eq_true rfl) (Nat.le_of_ble_eq_true rfl) rfl ⟨(by first | with_reducible rfl | (simp [numP, digF, c_3, n_5, c_6, d_6]; done) | rfl), (by first | with_reducible rfl | (simp [numP, digF, c_3, n_5, c_6, d_6]; done) | rfl)⟩ dX4_number_101
      · -- 48 not taken
        have d_6 := Int32.not_le.mp c_6
        refine lv_aload_n hx hb dX4_number_51 rfl (lv_at hl 1 rfl) ?_
        refine b_calli (br := []) (b_runV ⟨hx, hb, hml, hown, hts⟩ (mt_Mo_here l Γ _ a r (upd (upd i 12 ((hereP t n p) - 48)) 11 (nI (p + 1))) t n (p + 1) h10 (by first | exact hn | omega) (by first | exact h11 | rfl) (by first | exact hp | omega)) (lw_V q2159 q2161 qs55 q73 q2162) rfl rfl 0 (by decide +kernel) ⟨(Nat.le_of_ble_eq_true rfl), (Nat.le_of_ble_eq_true rfl)⟩ (c_pre hP hD hS hA hK hE [0, 1] rfl rfl ro_nil) (recv_at (q := (RX4, TX4, 16)) hK (b_at (k := 0) hP rfl) rfl) rfl hl.1 rfl (Nat.le_of_ble_eq_true rfl) dX4_number_52 ⟨(Nat.le_of_ble_eq_true rfl), (Nat.le_of_ble_eq_true rfl)⟩) hP hD hS hA [0, 1] [] rfl rfl rfl (fun r_7 u_7 H locs hw_7 hP hD hS _ => ?_)
        obtain ⟨rfl, rfl⟩ := hw_7
        have hP : WP Γ [[(a, moE r (upd (upd i 12 ((hereP t n p) - 48)) 11 (nI (p + 1))))], [((r 9), .inl (Γ.2.1 0, 50, .inl t))]] H := hP
        have hD : WD A [[(a, moE r (upd (upd i 12 ((hereP t n p) - 48)) 11 (nI (p + 1))))], [((r 9), .inl (Γ.2.1 0, 50, .inl t))]] := hD
        refine lv_bipush (v := 48) hx hb dX4_number_55 (by decide) ?_
        refine lv_bipush (v := 57) hx hb dX4_number_57 (by decide) ?_
        refine b_calli (br := [[(a, moE r (upd (upd i 12 ((hereP t n p) - 48)) 11 (nI (p + 1))))], [((r 9), .inl (Γ.2.1 0, 50, .inl t))]]) (b_runS ⟨hx, hb, hml, hown, hts⟩ (mt_Mo_in l Γ _ (hereP t n (p + 1)) 48 57) (lw_S q1879 q1880 q73 q1881) rfl rfl 3 (by decide +kernel) ⟨(Nat.le_of_ble_eq_true rfl), (Nat.le_of_ble_eq_true rfl)⟩ (c_pre hP hD hS hA hK hE [] rfl rfl ro_nil) rfl hl.1 rfl (Nat.le_of_ble_eq_true rfl) dX4_number_59 ⟨(Nat.le_of_ble_eq_true rfl), (Nat.le_of_ble_eq_true rfl)⟩) hP hD hS hA [] [0, 1] rfl rfl rfl (fun r_8 u_8 H locs hw_8 hP hD hS _ => ?_)
        obtain ⟨rfl, rfl⟩ := hw_8
        have hP : WP Γ [[(a, moE r (upd (upd i 12 ((hereP t n p) - 48)) 11 (nI (p + 1))))], [((r 9), .inl (Γ.2.1 0, 50, .inl t))]] H := hP
        have hD : WD A [[(a, moE r (upd (upd i 12 ((hereP t n p) - 48)) 11 (nI (p + 1))))], [((r 9), .inl (Γ.2.1 0, 50, .inl t))]] := hD
        refine lv_if_eq (tgt := 100) hx hb dX4_number_62 (by decide) (fun c_9 => ?_) (fun c_9 => ?_)
        · -- 62 taken
          refine lv_iconst (v := 1) hx hb dX4_number_100 (by decide) ?_
          exact b_zret hx hb hr hlocks hP hD hS (Nat.le_of_ble_eq_true rfl) (Nat.le_of_ble_eq_true rfl) rfl ⟨(by first | with_reducible rfl | (simp [numP, digF, c_3, n_5, c_6, d_6, c_9]; done) | rfl), (by first | with_reducible rfl | (simp [numP, digF, c_3, n_5, c_6, d_6, c_9]; done) | rfl)⟩ dX4_number_101
        · -- 62 not taken
          have hp1 := hereP_in (by decide) c_9
          refine lv_aload_n hx hb dX4_number_65 rfl (lv_at hl 1 rfl) ?_
          refine lv_bipush (v := 10) hx hb dX4_number_66 (by decide) ?_
          refine lv_aload_n hx hb dX4_number_68 rfl (lv_at hl 1 rfl) ?_
          refine b_get (C := RX4) (T := TX4) (N := 16) (v := .int ((hereP t n p) - 48)) hx hb hts in_X4 hown hK (b_at (k := 0) hP rfl) rfl 12 (by decide) q1819 (fun _ h9 => h9) rfl dX4_number_69 ?_
          refine lv_imul hx hb dX4_number_72 ?_
          refine lv_aload_n hx hb dX4_number_73 rfl (lv_at hl 1 rfl) ?_
          refine b_calli (br := []) (b_runV ⟨hx, hb, hml, hown, hts⟩ (mt_Mo_here l Γ _ a r (upd (upd i 12 ((hereP t n p) - 48)) 11 (nI (p + 1))) t n (p + 1) h10 (by first | exact hn | omega) (by first | exact h11 | rfl) (by first | exact hp | omega)) (lw_V q2159 q2161 qs55 q73 q2162) rfl rfl 0 (by decide +kernel) ⟨(Nat.le_of_ble_eq_true rfl), (Nat.le_of_ble_eq_true rfl)⟩ (c_pre hP hD hS hA hK hE [0, 1] rfl rfl ro_nil) (recv_at (q := (RX4, TX4, 16)) hK (b_at (k := 0) hP rfl) rfl) rfl hl.1 rfl (Nat.le_of_ble_eq_true rfl) dX4_number_74 ⟨(Nat.le_of_ble_eq_true rfl), (Nat.le_of_ble_eq_true rfl)⟩) hP hD hS hA [0, 1] [] rfl rfl rfl (fun r_10 u_10 H locs hw_10 hP hD hS _ => ?_)
          obtain ⟨rfl, rfl⟩ := hw_10
          have hP : WP Γ [[(a, moE r (upd (upd i 12 ((hereP t n p) - 48)) 11 (nI (p + 1))))], [((r 9), .inl (Γ.2.1 0, 50, .inl t))]] H := hP
          have hD : WD A [[(a, moE r (upd (upd i 12 ((hereP t n p) - 48)) 11 (nI (p + 1))))], [((r 9), .inl (Γ.2.1 0, 50, .inl t))]] := hD
          refine lv_iadd hx hb dX4_number_77 ?_
          refine lv_bipush (v := 48) hx hb dX4_number_78 (by decide) ?_
          refine lv_isub hx hb dX4_number_80 ?_
          refine b_putM (C := RX4) (T := TX4) (N := 16) (ty := .int) (vv := (((10 * ((hereP t n p) - 48)) + (hereP t n (p + 1))) - 48)) hx hb hts in_X4 tyX4_ok nmX4 hown hK hP hD hS 0 rfl rfl 12 (by decide) q1819 (fun _ h9 => h9) rfl (by decide +kernel) rfl rfl (Nat.le_of_ble_eq_true rfl) (moL_set12 _ _ _) dX4_number_81 (fun H locs hP hD hS => ?_)
          have hP : WP Γ [[(a, moE r (upd (upd (upd i 12 ((hereP t n p) - 48)) 11 (nI (p + 1))) 12 (((10 * ((hereP t n p) - 48)) + (hereP t n (p + 1))) - 48)))], [((r 9), .inl (Γ.2.1 0, 50, .inl t))]] H := hP
          have hD : WD A [[(a, moE r (upd (upd (upd i 12 ((hereP t n p) - 48)) 11 (nI (p + 1))) 12 (((10 * ((hereP t n p) - 48)) + (hereP t n (p + 1))) - 48)))], [((r 9), .inl (Γ.2.1 0, 50, .inl t))]] := hD
          rw [show (upd (upd (upd i 12 ((hereP t n p) - 48)) 11 (nI (p + 1))) 12 (((10 * ((hereP t n p) - 48)) + (hereP t n (p + 1))) - 48)) = (upd (upd i 11 (nI (p + 1))) 12 (((10 * ((hereP t n p) - 48)) + (hereP t n (p + 1))) - 48)) from upd_drop _ _ _ _ (by intro q h9; simp [upd, h9])] at hP hD
          refine lv_aload_n hx hb dX4_number_84 rfl (lv_at hl 1 rfl) ?_
          refine lv_dup hx hb dX4_number_85 rfl ?_
          refine b_get (C := RX4) (T := TX4) (N := 16) (v := .int (nI (p + 1))) hx hb hts in_X4 hown hK (b_at (k := 0) hP rfl) rfl 11 (by decide) q1818 (fun _ h9 => h9) rfl dX4_number_86 ?_
          refine lv_iconst (v := 1) hx hb dX4_number_89 (by decide) ?_
          refine lv_iadd hx hb dX4_number_90 ?_
          refine b_top (nI_addE (a := p + 1) (b := 1) (c := p + 2) rfl rfl (by first | omega | rfl)) ?_
          refine b_putM (C := RX4) (T := TX4) (N := 16) (ty := .int) (vv := (nI (p + 2))) hx hb hts in_X4 tyX4_ok nmX4 hown hK hP hD hS 0 rfl rfl 11 (by decide) q1818 (fun _ h9 => h9) rfl (by decide +kernel) rfl rfl (Nat.le_of_ble_eq_true rfl) (moL_set11 _ _ _) dX4_number_91 (fun H locs hP hD hS => ?_)
          have hP : WP Γ [[(a, moE r (upd (upd (upd i 11 (nI (p + 1))) 12 (((10 * ((hereP t n p) - 48)) + (hereP t n (p + 1))) - 48)) 11 (nI (p + 2))))], [((r 9), .inl (Γ.2.1 0, 50, .inl t))]] H := hP
          have hD : WD A [[(a, moE r (upd (upd (upd i 11 (nI (p + 1))) 12 (((10 * ((hereP t n p) - 48)) + (hereP t n (p + 1))) - 48)) 11 (nI (p + 2))))], [((r 9), .inl (Γ.2.1 0, 50, .inl t))]] := hD
          rw [show (upd (upd (upd i 11 (nI (p + 1))) 12 (((10 * ((hereP t n p) - 48)) + (hereP t n (p + 1))) - 48)) 11 (nI (p + 2))) = (upd (upd i 12 (((10 * ((hereP t n p) - 48)) + (hereP t n (p + 1))) - 48)) 11 (nI (p + 2))) from upd_drop _ _ _ _ (by intro q h9; simp [upd, h9])] at hP hD
          refine lv_iinc (v := (nI 2)) (lv' := [(1, .int (nI 2)), (0, .ref a)]) hx hb dX4_number_94 hl (k := 0) rfl (nI_addE (a := 1) (b := 1) (c := 2) rfl rfl (by first | omega | rfl)) (by decide) rfl (fun ls hl => ?_)
          refine lv_goto (tgt := 39) hx hb dX4_number_97 (by decide) ?_
          refine lv_iload_n hx hb dX4_number_39 rfl (lv_at hl 0 rfl) ?_
          refine lv_iconst (v := 3) hx hb dX4_number_40 (by decide) ?_
          refine lv_icmp_ge (tgt := 100) hx hb dX4_number_41 (by decide) (fun c_11 => ?_) (fun c_11 => ?_)
          · -- 41 taken
            have n_11 : 3 ≤ 2 := (nI_leI (by omega) (by omega)).mp (show nI 3 ≤ nI 2 from c_11)
            exact absurd n_11 (by omega)
          · -- 41 not taken
            have n_11 : ¬ (3 ≤ 2) := fun h => c_11 ((nI_leI (a := 3) (b := 2) (by omega) (by omega)).mpr h)
            refine lv_aload_n hx hb dX4_number_44 rfl (lv_at hl 1 rfl) ?_
            refine b_get (C := RX4) (T := TX4) (N := 16) (v := .int (((10 * ((hereP t n p) - 48)) + (hereP t n (p + 1))) - 48)) hx hb hts in_X4 hown hK (b_at (k := 0) hP rfl) rfl 12 (by decide) q1819 (fun _ h9 => h9) rfl dX4_number_45 ?_
            refine lv_if_le (tgt := 100) hx hb dX4_number_48 (by decide) (fun c_12 => ?_) (fun c_12 => ?_)
            · -- 48 taken
              have d_12 := Int32.not_lt.mpr c_12
              refine lv_iconst (v := 1) hx hb dX4_number_100 (by decide) ?_
              exact b_zret hx hb hr hlocks hP hD hS (Nat.le_of_ble_eq_true rfl) (Nat.le_of_ble_eq_true rfl) rfl ⟨(by first | with_reducible rfl | (simp [numP, digF, c_3, n_5, c_6, d_6, c_9, n_11, c_12, d_12]; done) | rfl), (by first | with_reducible rfl | (simp [numP, digF, c_3, n_5, c_6, d_6, c_9, n_11, c_12, d_12]; done) | rfl)⟩ dX4_number_101
            · -- 48 not taken
              have d_12 := Int32.not_le.mp c_12
              refine lv_aload_n hx hb dX4_number_51 rfl (lv_at hl 1 rfl) ?_
              refine b_calli (br := []) (b_runV ⟨hx, hb, hml, hown, hts⟩ (mt_Mo_here l Γ _ a r (upd (upd i 12 (((10 * ((hereP t n p) - 48)) + (hereP t n (p + 1))) - 48)) 11 (nI (p + 2))) t n (p + 2) h10 (by first | exact hn | omega) (by first | exact h11 | rfl) (by first | exact hp | omega)) (lw_V q2159 q2161 qs55 q73 q2162) rfl rfl 0 (by decide +kernel) ⟨(Nat.le_of_ble_eq_true rfl), (Nat.le_of_ble_eq_true rfl)⟩ (c_pre hP hD hS hA hK hE [0, 1] rfl rfl ro_nil) (recv_at (q := (RX4, TX4, 16)) hK (b_at (k := 0) hP rfl) rfl) rfl hl.1 rfl (Nat.le_of_ble_eq_true rfl) dX4_number_52 ⟨(Nat.le_of_ble_eq_true rfl), (Nat.le_of_ble_eq_true rfl)⟩) hP hD hS hA [0, 1] [] rfl rfl rfl (fun r_13 u_13 H locs hw_13 hP hD hS _ => ?_)
              obtain ⟨rfl, rfl⟩ := hw_13
              have hP : WP Γ [[(a, moE r (upd (upd i 12 (((10 * ((hereP t n p) - 48)) + (hereP t n (p + 1))) - 48)) 11 (nI (p + 2))))], [((r 9), .inl (Γ.2.1 0, 50, .inl t))]] H := hP
              have hD : WD A [[(a, moE r (upd (upd i 12 (((10 * ((hereP t n p) - 48)) + (hereP t n (p + 1))) - 48)) 11 (nI (p + 2))))], [((r 9), .inl (Γ.2.1 0, 50, .inl t))]] := hD
              refine lv_bipush (v := 48) hx hb dX4_number_55 (by decide) ?_
              refine lv_bipush (v := 57) hx hb dX4_number_57 (by decide) ?_
              refine b_calli (br := [[(a, moE r (upd (upd i 12 (((10 * ((hereP t n p) - 48)) + (hereP t n (p + 1))) - 48)) 11 (nI (p + 2))))], [((r 9), .inl (Γ.2.1 0, 50, .inl t))]]) (b_runS ⟨hx, hb, hml, hown, hts⟩ (mt_Mo_in l Γ _ (hereP t n (p + 2)) 48 57) (lw_S q1879 q1880 q73 q1881) rfl rfl 3 (by decide +kernel) ⟨(Nat.le_of_ble_eq_true rfl), (Nat.le_of_ble_eq_true rfl)⟩ (c_pre hP hD hS hA hK hE [] rfl rfl ro_nil) rfl hl.1 rfl (Nat.le_of_ble_eq_true rfl) dX4_number_59 ⟨(Nat.le_of_ble_eq_true rfl), (Nat.le_of_ble_eq_true rfl)⟩) hP hD hS hA [] [0, 1] rfl rfl rfl (fun r_14 u_14 H locs hw_14 hP hD hS _ => ?_)
              obtain ⟨rfl, rfl⟩ := hw_14
              have hP : WP Γ [[(a, moE r (upd (upd i 12 (((10 * ((hereP t n p) - 48)) + (hereP t n (p + 1))) - 48)) 11 (nI (p + 2))))], [((r 9), .inl (Γ.2.1 0, 50, .inl t))]] H := hP
              have hD : WD A [[(a, moE r (upd (upd i 12 (((10 * ((hereP t n p) - 48)) + (hereP t n (p + 1))) - 48)) 11 (nI (p + 2))))], [((r 9), .inl (Γ.2.1 0, 50, .inl t))]] := hD
              refine lv_if_eq (tgt := 100) hx hb dX4_number_62 (by decide) (fun c_15 => ?_) (fun c_15 => ?_)
              · -- 62 taken
                refine lv_iconst (v := 1) hx hb dX4_number_100 (by decide) ?_
                exact b_zret hx hb hr hlocks hP hD hS (Nat.le_of_ble_eq_true rfl) (Nat.le_of_ble_eq_true rfl) rfl ⟨(by first | with_reducible rfl | (simp [numP, digF, c_3, n_5, c_6, d_6, c_9, n_11, c_12, d_12, c_15]; done) | rfl), (by first | with_reducible rfl | (simp [numP, digF, c_3, n_5, c_6, d_6, c_9, n_11, c_12, d_12, c_15]; done) | rfl)⟩ dX4_number_101
              · -- 62 not taken
                have hp2 := hereP_in (by decide) c_15
                refine lv_aload_n hx hb dX4_number_65 rfl (lv_at hl 1 rfl) ?_
                refine lv_bipush (v := 10) hx hb dX4_number_66 (by decide) ?_
                refine lv_aload_n hx hb dX4_number_68 rfl (lv_at hl 1 rfl) ?_
                refine b_get (C := RX4) (T := TX4) (N := 16) (v := .int (((10 * ((hereP t n p) - 48)) + (hereP t n (p + 1))) - 48)) hx hb hts in_X4 hown hK (b_at (k := 0) hP rfl) rfl 12 (by decide) q1819 (fun _ h9 => h9) rfl dX4_number_69 ?_
                refine lv_imul hx hb dX4_number_72 ?_
                refine lv_aload_n hx hb dX4_number_73 rfl (lv_at hl 1 rfl) ?_
                refine b_calli (br := []) (b_runV ⟨hx, hb, hml, hown, hts⟩ (mt_Mo_here l Γ _ a r (upd (upd i 12 (((10 * ((hereP t n p) - 48)) + (hereP t n (p + 1))) - 48)) 11 (nI (p + 2))) t n (p + 2) h10 (by first | exact hn | omega) (by first | exact h11 | rfl) (by first | exact hp | omega)) (lw_V q2159 q2161 qs55 q73 q2162) rfl rfl 0 (by decide +kernel) ⟨(Nat.le_of_ble_eq_true rfl), (Nat.le_of_ble_eq_true rfl)⟩ (c_pre hP hD hS hA hK hE [0, 1] rfl rfl ro_nil) (recv_at (q := (RX4, TX4, 16)) hK (b_at (k := 0) hP rfl) rfl) rfl hl.1 rfl (Nat.le_of_ble_eq_true rfl) dX4_number_74 ⟨(Nat.le_of_ble_eq_true rfl), (Nat.le_of_ble_eq_true rfl)⟩) hP hD hS hA [0, 1] [] rfl rfl rfl (fun r_16 u_16 H locs hw_16 hP hD hS _ => ?_)
                obtain ⟨rfl, rfl⟩ := hw_16
                have hP : WP Γ [[(a, moE r (upd (upd i 12 (((10 * ((hereP t n p) - 48)) + (hereP t n (p + 1))) - 48)) 11 (nI (p + 2))))], [((r 9), .inl (Γ.2.1 0, 50, .inl t))]] H := hP
                have hD : WD A [[(a, moE r (upd (upd i 12 (((10 * ((hereP t n p) - 48)) + (hereP t n (p + 1))) - 48)) 11 (nI (p + 2))))], [((r 9), .inl (Γ.2.1 0, 50, .inl t))]] := hD
                refine lv_iadd hx hb dX4_number_77 ?_
                refine lv_bipush (v := 48) hx hb dX4_number_78 (by decide) ?_
                refine lv_isub hx hb dX4_number_80 ?_
                refine b_putM (C := RX4) (T := TX4) (N := 16) (ty := .int) (vv := (((10 * (((10 * ((hereP t n p) - 48)) + (hereP t n (p + 1))) - 48)) + (hereP t n (p + 2))) - 48)) hx hb hts in_X4 tyX4_ok nmX4 hown hK hP hD hS 0 rfl rfl 12 (by decide) q1819 (fun _ h9 => h9) rfl (by decide +kernel) rfl rfl (Nat.le_of_ble_eq_true rfl) (moL_set12 _ _ _) dX4_number_81 (fun H locs hP hD hS => ?_)
                have hP : WP Γ [[(a, moE r (upd (upd (upd i 12 (((10 * ((hereP t n p) - 48)) + (hereP t n (p + 1))) - 48)) 11 (nI (p + 2))) 12 (((10 * (((10 * ((hereP t n p) - 48)) + (hereP t n (p + 1))) - 48)) + (hereP t n (p + 2))) - 48)))], [((r 9), .inl (Γ.2.1 0, 50, .inl t))]] H := hP
                have hD : WD A [[(a, moE r (upd (upd (upd i 12 (((10 * ((hereP t n p) - 48)) + (hereP t n (p + 1))) - 48)) 11 (nI (p + 2))) 12 (((10 * (((10 * ((hereP t n p) - 48)) + (hereP t n (p + 1))) - 48)) + (hereP t n (p + 2))) - 48)))], [((r 9), .inl (Γ.2.1 0, 50, .inl t))]] := hD
                rw [show (upd (upd (upd i 12 (((10 * ((hereP t n p) - 48)) + (hereP t n (p + 1))) - 48)) 11 (nI (p + 2))) 12 (((10 * (((10 * ((hereP t n p) - 48)) + (hereP t n (p + 1))) - 48)) + (hereP t n (p + 2))) - 48)) = (upd (upd i 11 (nI (p + 2))) 12 (((10 * (((10 * ((hereP t n p) - 48)) + (hereP t n (p + 1))) - 48)) + (hereP t n (p + 2))) - 48)) from upd_drop _ _ _ _ (by intro q h9; simp [upd, h9])] at hP hD
                refine lv_aload_n hx hb dX4_number_84 rfl (lv_at hl 1 rfl) ?_
                refine lv_dup hx hb dX4_number_85 rfl ?_
                refine b_get (C := RX4) (T := TX4) (N := 16) (v := .int (nI (p + 2))) hx hb hts in_X4 hown hK (b_at (k := 0) hP rfl) rfl 11 (by decide) q1818 (fun _ h9 => h9) rfl dX4_number_86 ?_
                refine lv_iconst (v := 1) hx hb dX4_number_89 (by decide) ?_
                refine lv_iadd hx hb dX4_number_90 ?_
                refine b_top (nI_addE (a := p + 2) (b := 1) (c := p + 3) rfl rfl (by first | omega | rfl)) ?_
                refine b_putM (C := RX4) (T := TX4) (N := 16) (ty := .int) (vv := (nI (p + 3))) hx hb hts in_X4 tyX4_ok nmX4 hown hK hP hD hS 0 rfl rfl 11 (by decide) q1818 (fun _ h9 => h9) rfl (by decide +kernel) rfl rfl (Nat.le_of_ble_eq_true rfl) (moL_set11 _ _ _) dX4_number_91 (fun H locs hP hD hS => ?_)
                have hP : WP Γ [[(a, moE r (upd (upd (upd i 11 (nI (p + 2))) 12 (((10 * (((10 * ((hereP t n p) - 48)) + (hereP t n (p + 1))) - 48)) + (hereP t n (p + 2))) - 48)) 11 (nI (p + 3))))], [((r 9), .inl (Γ.2.1 0, 50, .inl t))]] H := hP
                have hD : WD A [[(a, moE r (upd (upd (upd i 11 (nI (p + 2))) 12 (((10 * (((10 * ((hereP t n p) - 48)) + (hereP t n (p + 1))) - 48)) + (hereP t n (p + 2))) - 48)) 11 (nI (p + 3))))], [((r 9), .inl (Γ.2.1 0, 50, .inl t))]] := hD
                rw [show (upd (upd (upd i 11 (nI (p + 2))) 12 (((10 * (((10 * ((hereP t n p) - 48)) + (hereP t n (p + 1))) - 48)) + (hereP t n (p + 2))) - 48)) 11 (nI (p + 3))) = (upd (upd i 12 (((10 * (((10 * ((hereP t n p) - 48)) + (hereP t n (p + 1))) - 48)) + (hereP t n (p + 2))) - 48)) 11 (nI (p + 3))) from upd_drop _ _ _ _ (by intro q h9; simp [upd, h9])] at hP hD
                refine lv_iinc (v := (nI 3)) (lv' := [(1, .int (nI 3)), (0, .ref a)]) hx hb dX4_number_94 hl (k := 0) rfl (nI_addE (a := 2) (b := 1) (c := 3) rfl rfl (by first | omega | rfl)) (by decide) rfl (fun ls hl => ?_)
                refine lv_goto (tgt := 39) hx hb dX4_number_97 (by decide) ?_
                refine lv_iload_n hx hb dX4_number_39 rfl (lv_at hl 0 rfl) ?_
                refine lv_iconst (v := 3) hx hb dX4_number_40 (by decide) ?_
                refine lv_icmp_ge (tgt := 100) hx hb dX4_number_41 (by decide) (fun c_17 => ?_) (fun c_17 => ?_)
                · -- 41 taken
                  have n_17 : 3 ≤ 3 := (nI_leI (by omega) (by omega)).mp (show nI 3 ≤ nI 3 from c_17)
                  refine lv_iconst (v := 1) hx hb dX4_number_100 (by decide) ?_
                  exact b_zret hx hb hr hlocks hP hD hS (Nat.le_of_ble_eq_true rfl) (Nat.le_of_ble_eq_true rfl) rfl ⟨(by first | with_reducible rfl | (simp [numP, digF, c_3, n_5, c_6, d_6, c_9, n_11, c_12, d_12, c_15, n_17]; done) | rfl), (by first | with_reducible rfl | (simp [numP, digF, c_3, n_5, c_6, d_6, c_9, n_11, c_12, d_12, c_15, n_17]; done) | rfl)⟩ dX4_number_101
                · -- 41 not taken
                  have n_17 : ¬ (3 ≤ 3) := fun h => c_17 ((nI_leI (a := 3) (b := 3) (by omega) (by omega)).mpr h)
                  exact absurd n_17 (by omega)
  · -- 11 not taken
    refine lv_iconst (v := 0) hx hb dX4_number_14 (by decide) ?_
    exact b_zret hx hb hr hlocks hP hD hS (Nat.le_of_ble_eq_true rfl) (Nat.le_of_ble_eq_true rfl) rfl ⟨(by first | with_reducible rfl | (simp [numP, digF, c_3]; done) | rfl), (by first | with_reducible rfl | (simp [numP, digF, c_3]; done) | rfl)⟩ dX4_number_15
/-- the first j letters from fr on are those of the constant q -/
def eqW (t : Nat → Int32) (fr q : Nat) : Nat → Int32
  | 0 => 1
  | j + 1 => if eqW t fr q j = 0 then 0 else if t (fr + j) = lc ((str_by q).getD j 0) then 1 else 0
theorem eqW_01 (t : Nat → Int32) (fr q : Nat) : ∀ j, eqW t fr q j = 0 ∨ eqW t fr q j = 1 := by
  intro j
  cases j with
  | zero => exact Or.inr rfl
  | succ j =>
    rw [eqW]
    split
    · exact Or.inl rfl
    · split
      · exact Or.inr rfl
      · exact Or.inl rfl
theorem eqW_zero {t : Nat → Int32} {fr q j : Nat} (h : eqW t fr q j = 0) : ∀ d, eqW t fr q (j + d) = 0 := by
  intro d
  induction d with
  | zero => exact h
  | succ d ih => rw [← Nat.add_assoc, eqW, if_pos ih]
def isW (t : Nat → Int32) (fr to q L : Nat) : Int32 := if to = fr + L then eqW t fr q L else 0
theorem isW_01 (t : Nat → Int32) (fr to q L : Nat) : isW t fr to q L = 0 ∨ isW t fr to q L = 1 := by
  unfold isW
  split
  · exact eqW_01 t fr q L
  · exact Or.inl rfl
set_option maxHeartbeats 4000000 in
set_option maxRecDepth 100000 in
theorem mt_Mo_word_0 (l : Launch) (Γ : GE) (sz : Nat)   : KM l yX4_word cX4_word 1 (some (FieldType.object "java/lang/String")) Γ 0 0 0 0 [.int 0] [] [] sz (Qq Γ (fun r_ u_ => r_ = some (adK Γ 31) ∧ u_ = [])) := by
  refine K_intro (by decide) (Nat.le_of_ble_eq_true rfl) ?_
  intro pr_ ev_ s mi_ below meth cd_ A ls hx hb hr hml hown hts hlocks hname hK hE hRo hP hD hA hS hsz hl
  have hl : lv_has ls 1 [(0, .int 0)] := hl
  have hown : s.vm.findClass RX4 = some mi_.cls := hown
  refine lv_iload_n hx hb dX4_word_0 rfl (lv_at hl 0 rfl) ?_
  refine lv_tableIn (tgt := 36) hx hb dX4_word_1 (by decide) (by decide) rfl (by decide) ?_
  refine va_ldcS hx hb hown (hE.2.2 31 (by decide)) dX4_word_36 ?_
  exact b_aret hx hb hr (by first | exact Or.inl ⟨_, rfl⟩ | exact Or.inr ⟨_, rfl⟩) hlocks hP hD hS (Nat.le_of_ble_eq_true rfl) (Nat.le_of_ble_eq_true rfl) ⟨(by first | rfl | (simp; done)), (by first | rfl | (simp; done))⟩ dX4_word_38
set_option maxHeartbeats 4000000 in
set_option maxRecDepth 100000 in
theorem mt_Mo_word_1 (l : Launch) (Γ : GE) (sz : Nat)   : KM l yX4_word cX4_word 1 (some (FieldType.object "java/lang/String")) Γ 0 0 0 0 [.int 1] [] [] sz (Qq Γ (fun r_ u_ => r_ = some (adK Γ 32) ∧ u_ = [])) := by
  refine K_intro (by decide) (Nat.le_of_ble_eq_true rfl) ?_
  intro pr_ ev_ s mi_ below meth cd_ A ls hx hb hr hml hown hts hlocks hname hK hE hRo hP hD hA hS hsz hl
  have hl : lv_has ls 1 [(0, .int 1)] := hl
  have hown : s.vm.findClass RX4 = some mi_.cls := hown
  refine lv_iload_n hx hb dX4_word_0 rfl (lv_at hl 0 rfl) ?_
  refine lv_tableIn (tgt := 39) hx hb dX4_word_1 (by decide) (by decide) rfl (by decide) ?_
  refine va_ldcS hx hb hown (hE.2.2 32 (by decide)) dX4_word_39 ?_
  exact b_aret hx hb hr (by first | exact Or.inl ⟨_, rfl⟩ | exact Or.inr ⟨_, rfl⟩) hlocks hP hD hS (Nat.le_of_ble_eq_true rfl) (Nat.le_of_ble_eq_true rfl) ⟨(by first | rfl | (simp; done)), (by first | rfl | (simp; done))⟩ dX4_word_41
set_option maxHeartbeats 4000000 in
set_option maxRecDepth 100000 in
theorem mt_Mo_word_2 (l : Launch) (Γ : GE) (sz : Nat)   : KM l yX4_word cX4_word 1 (some (FieldType.object "java/lang/String")) Γ 0 0 0 0 [.int 2] [] [] sz (Qq Γ (fun r_ u_ => r_ = some (adK Γ 33) ∧ u_ = [])) := by
  refine K_intro (by decide) (Nat.le_of_ble_eq_true rfl) ?_
  intro pr_ ev_ s mi_ below meth cd_ A ls hx hb hr hml hown hts hlocks hname hK hE hRo hP hD hA hS hsz hl
  have hl : lv_has ls 1 [(0, .int 2)] := hl
  have hown : s.vm.findClass RX4 = some mi_.cls := hown
  refine lv_iload_n hx hb dX4_word_0 rfl (lv_at hl 0 rfl) ?_
  refine lv_tableIn (tgt := 42) hx hb dX4_word_1 (by decide) (by decide) rfl (by decide) ?_
  refine va_ldcS hx hb hown (hE.2.2 33 (by decide)) dX4_word_42 ?_
  exact b_aret hx hb hr (by first | exact Or.inl ⟨_, rfl⟩ | exact Or.inr ⟨_, rfl⟩) hlocks hP hD hS (Nat.le_of_ble_eq_true rfl) (Nat.le_of_ble_eq_true rfl) ⟨(by first | rfl | (simp; done)), (by first | rfl | (simp; done))⟩ dX4_word_44
set_option maxHeartbeats 4000000 in
set_option maxRecDepth 100000 in
theorem mt_Mo_word_3 (l : Launch) (Γ : GE) (sz : Nat)   : KM l yX4_word cX4_word 1 (some (FieldType.object "java/lang/String")) Γ 0 0 0 0 [.int 3] [] [] sz (Qq Γ (fun r_ u_ => r_ = some (adK Γ 34) ∧ u_ = [])) := by
  refine K_intro (by decide) (Nat.le_of_ble_eq_true rfl) ?_
  intro pr_ ev_ s mi_ below meth cd_ A ls hx hb hr hml hown hts hlocks hname hK hE hRo hP hD hA hS hsz hl
  have hl : lv_has ls 1 [(0, .int 3)] := hl
  have hown : s.vm.findClass RX4 = some mi_.cls := hown
  refine lv_iload_n hx hb dX4_word_0 rfl (lv_at hl 0 rfl) ?_
  refine lv_tableIn (tgt := 45) hx hb dX4_word_1 (by decide) (by decide) rfl (by decide) ?_
  refine va_ldcS hx hb hown (hE.2.2 34 (by decide)) dX4_word_45 ?_
  exact b_aret hx hb hr (by first | exact Or.inl ⟨_, rfl⟩ | exact Or.inr ⟨_, rfl⟩) hlocks hP hD hS (Nat.le_of_ble_eq_true rfl) (Nat.le_of_ble_eq_true rfl) ⟨(by first | rfl | (simp; done)), (by first | rfl | (simp; done))⟩ dX4_word_47
set_option maxHeartbeats 4000000 in
set_option maxRecDepth 100000 in
theorem mt_Mo_word_4 (l : Launch) (Γ : GE) (sz : Nat)   : KM l yX4_word cX4_word 1 (some (FieldType.object "java/lang/String")) Γ 0 0 0 0 [.int 4] [] [] sz (Qq Γ (fun r_ u_ => r_ = some (adK Γ 35) ∧ u_ = [])) := by
  refine K_intro (by decide) (Nat.le_of_ble_eq_true rfl) ?_
  intro pr_ ev_ s mi_ below meth cd_ A ls hx hb hr hml hown hts hlocks hname hK hE hRo hP hD hA hS hsz hl
  have hl : lv_has ls 1 [(0, .int 4)] := hl
  have hown : s.vm.findClass RX4 = some mi_.cls := hown
  refine lv_iload_n hx hb dX4_word_0 rfl (lv_at hl 0 rfl) ?_
  refine lv_tableIn (tgt := 48) hx hb dX4_word_1 (by decide) (by decide) rfl (by decide) ?_
  refine va_ldcS hx hb hown (hE.2.2 35 (by decide)) dX4_word_48 ?_
  exact b_aret hx hb hr (by first | exact Or.inl ⟨_, rfl⟩ | exact Or.inr ⟨_, rfl⟩) hlocks hP hD hS (Nat.le_of_ble_eq_true rfl) (Nat.le_of_ble_eq_true rfl) ⟨(by first | rfl | (simp; done)), (by first | rfl | (simp; done))⟩ dX4_word_50
set_option maxHeartbeats 4000000 in
set_option maxRecDepth 100000 in
theorem mt_Mo_word_5 (l : Launch) (Γ : GE) (sz : Nat)   : KM l yX4_word cX4_word 1 (some (FieldType.object "java/lang/String")) Γ 0 0 0 0 [.int 5] [] [] sz (Qq Γ (fun r_ u_ => r_ = some (adK Γ 36) ∧ u_ = [])) := by
  refine K_intro (by decide) (Nat.le_of_ble_eq_true rfl) ?_
  intro pr_ ev_ s mi_ below meth cd_ A ls hx hb hr hml hown hts hlocks hname hK hE hRo hP hD hA hS hsz hl
  have hl : lv_has ls 1 [(0, .int 5)] := hl
  have hown : s.vm.findClass RX4 = some mi_.cls := hown
  refine lv_iload_n hx hb dX4_word_0 rfl (lv_at hl 0 rfl) ?_
  refine lv_tableOut (tgt := 51) hx hb dX4_word_1 (by decide) (by decide) ?_
  refine va_ldcS hx hb hown (hE.2.2 36 (by decide)) dX4_word_51 ?_
  exact b_aret hx hb hr (by first | exact Or.inl ⟨_, rfl⟩ | exact Or.inr ⟨_, rfl⟩) hlocks hP hD hS (Nat.le_of_ble_eq_true rfl) (Nat.le_of_ble_eq_true rfl) ⟨(by first | rfl | (simp; done)), (by first | rfl | (simp; done))⟩ dX4_word_53
set_option maxHeartbeats 4000000 in
set_option maxRecDepth 100000 in
theorem mt_Mo_isWord_0 (l : Launch) (Γ : GE) (sz : Nat) (a : Nat) (r : Nat → Nat) (i : Nat → Int32) (t : Nat → Int32) (fr : Nat) (to : Nat) (hft : fr ≤ to) (hto : to ≤ 50) : KM l yX4_isWord cX4_isWord 6 (some FieldType.boolean) Γ 4 85 0 0 [.ref a, .int (nI fr), .int (nI to), .int 0] [[(a, moE r i)], [((r 9), .inl (Γ.2.1 0, 50, .inl t))]] [] sz (Qi Γ (fun r_ u_ => r_ = (isW t fr to 31 4) ∧ u_ = [[(a, moE r i)], [((r 9), .inl (Γ.2.1 0, 50, .inl t))]])) := by
  refine K_intro (by decide) (Nat.le_of_ble_eq_true rfl) ?_
  intro pr_ ev_ s mi_ below meth cd_ A ls hx hb hr hml hown hts hlocks hname hK hE hRo hP hD hA hS hsz hl
  have hl : lv_has ls 6 [(0, .ref a), (1, .int (nI fr)), (2, .int (nI to)), (3, .int 0)] := hl
  have hown : s.vm.findClass RX4 = some mi_.cls := hown
  refine lv_iload_n hx hb dX4_isWord_0 rfl (lv_at hl 2 rfl) ?_
  refine lv_iload_n hx hb dX4_isWord_1 rfl (lv_at hl 1 rfl) ?_
  refine lv_isub hx hb dX4_isWord_2 ?_
  refine b_top (nI_subE (a := to) (b := fr) (c := to - fr) rfl rfl (by omega)) ?_
  refine lv_iload_n hx hb dX4_isWord_3 rfl (lv_at hl 3 rfl) ?_
  refine b_callq (br := [[(a, moE r i)], [((r 9), .inl (Γ.2.1 0, 50, .inl t))]]) (b_runS ⟨hx, hb, hml, hown, hts⟩ (mt_Mo_word_0 l Γ _ ) (lw_S q2167 q2168 q73 q2169) rfl rfl 1 (by decide +kernel) ⟨(Nat.le_of_ble_eq_true rfl), (Nat.le_of_ble_eq_true rfl)⟩ (c_pre hP hD hS hA hK hE [] rfl rfl ro_nil) rfl hl.1 rfl (Nat.le_of_ble_eq_true rfl) dX4_isWord_4 ⟨(Nat.le_of_ble_eq_true rfl), (Nat.le_of_ble_eq_true rfl)⟩) hP hD hS hA [] [0, 1] rfl rfl rfl (fun r_1 u_1 H locs hw_1 hP hD hS _ => ?_)
  obtain ⟨rfl, rfl⟩ := hw_1
  have hP : WP Γ [[(a, moE r i)], [((r 9), .inl (Γ.2.1 0, 50, .inl t))]] H := hP
  have hD : WD A [[(a, moE r i)], [((r 9), .inl (Γ.2.1 0, 50, .inl t))]] := hD
  refine W.eq (g2 := F0 mi_ 7 ls ([.ref (adK Γ 31), .int (nI ((to - fr)))])) rfl ?_
  refine b_calli (br := [[(a, moE r i)], [((r 9), .inl (Γ.2.1 0, 50, .inl t))]]) (b_runV ⟨hx, hb, hml, hown, hts⟩ (mt_Str_length_0 l Γ _ (adK Γ 31) (adV Γ 31) 0 0 4 (fun j => (str_by 31).getD j 0) (by omega)) (lw_V q2176 q666 q667 q71 q668) rfl rfl 0 (by decide +kernel) ⟨(Nat.le_of_ble_eq_true rfl), (Nat.le_of_ble_eq_true rfl)⟩ (c_pre hP hD hS hA hK hE [] rfl rfl (hE.str hS (bFree hD hS hA [] rfl) 31 (by decide))) (recv_ro (b := adK Γ 31) (fs := [.ref (adV Γ 31), .int 0, .int 0, .int 0]) hK (hE.str hS (fun _ h => h) 31 (by decide) (strO Γ 31) (by simp))) rfl hl.1 rfl (Nat.le_of_ble_eq_true rfl) dX4_isWord_7 ⟨(Nat.le_of_ble_eq_true rfl), (Nat.le_of_ble_eq_true rfl)⟩) hP hD hS hA [] [0, 1] rfl rfl rfl (fun r_2 u_2 H locs hw_2 hP hD hS _ => ?_)
  obtain ⟨rfl, rfl⟩ := hw_2
  have hP : WP Γ [[(a, moE r i)], [((r 9), .inl (Γ.2.1 0, 50, .inl t))]] H := hP
  have hD : WD A [[(a, moE r i)], [((r 9), .inl (Γ.2.1 0, 50, .inl t))]] := hD
  refine lv_icmp_ne (tgt := 17) hx hb dX4_isWord_10 (by decide) (fun c_3 => ?_) (fun c_3 => ?_)
  · -- 10 taken
    have n_3 : ¬ ((to - fr) = 4) := fun h => c_3 ((nI_eq (a := (to - fr)) (b := 4) (by omega) (by omega)).mpr h)
    refine lv_iconst (v := 0) hx hb dX4_isWord_17 (by decide) ?_
    refine lv_istore (lv' := [(4, .int 0), (0, .ref a), (1, .int (nI fr)), (2, .int (nI to)), (3, .int 0)]) hx hb dX4_isWord_18 hl (by decide) rfl (fun ls hl => ?_)
    have hto2 : ¬ to = fr + 4 := by omega
    refine lv_iload_n hx hb dX4_isWord_20 rfl (lv_at hl 2 rfl) ?_
    refine lv_istore (lv' := [(5, .int (nI fr)), (4, .int 0), (0, .ref a), (1, .int (nI fr)), (2, .int (nI to)), (3, .int 0)]) hx hb dX4_isWord_21 hl (by decide) rfl (fun ls hl => ?_)
    refine lv_iload hx hb dX4_isWord_23 (lv_at hl 0 rfl) ?_
    refine lv_iload_n hx hb dX4_isWord_25 rfl (lv_at hl 4 rfl) ?_
    refine lv_icmp_ge (tgt := 68) hx hb dX4_isWord_26 (by decide) (fun c_4 => ?_) (fun c_4 => ?_)
    · -- 26 taken
      have n_4 : to ≤ fr := (nI_leI (by omega) (by omega)).mp (show nI to ≤ nI fr from c_4)
      have m_4 : ¬ (fr < to) := by omega
      have d_4 := Int32.not_lt.mpr c_4
      refine lv_iload hx hb dX4_isWord_68 (lv_at hl 1 rfl) ?_
      exact b_zret hx hb hr hlocks hP hD hS (Nat.le_of_ble_eq_true rfl) (Nat.le_of_ble_eq_true rfl) rfl ⟨(by rw [isW, if_neg hto2]), (by first | with_reducible rfl | (simp [n_3, n_4, m_4, d_4]; done) | rfl)⟩ dX4_isWord_70
    · -- 26 not taken
      have n_4 : ¬ (to ≤ fr) := fun h => c_4 ((nI_leI (a := to) (b := fr) (by omega) (by omega)).mpr h)
      have m_4 : fr < to := by omega
      have d_4 := Int32.not_le.mp c_4
      refine lv_iload hx hb dX4_isWord_29 (lv_at hl 1 rfl) ?_
      refine lv_if_eq (tgt := 68) hx hb dX4_isWord_31 (by decide) (fun c_5 => ?_) (fun c_5 => ?_)
      · -- 31 taken
        have n_5 : 0 = 0 := (nI_eq (by omega) (by omega)).mp (show nI 0 = nI 0 from c_5)
        refine lv_iload hx hb dX4_isWord_68 (lv_at hl 1 rfl) ?_
        exact b_zret hx hb hr hlocks hP hD hS (Nat.le_of_ble_eq_true rfl) (Nat.le_of_ble_eq_true rfl) rfl ⟨(by rw [isW, if_neg hto2]), (by first | with_reducible rfl | (simp [n_3, n_4, m_4, d_4, n_5]; done) | rfl)⟩ dX4_isWord_70
      · -- 31 not taken
        have n_5 : ¬ (0 = 0) := fun h => c_5 ((nI_eq (a := 0) (b := 0) (by omega) (by omega)).mpr h)
        exact absurd n_5 (by omega)
  · -- 10 not taken
    have n_3 : (to - fr) = 4 := (nI_eq (by omega) (by omega)).mp (show nI ((to - fr)) = nI 4 from c_3)
    refine lv_iconst (v := 1) hx hb dX4_isWord_13 (by decide) ?_
    refine lv_goto (tgt := 18) hx hb dX4_isWord_14 (by decide) ?_
    refine lv_istore (lv' := [(4, .int 1), (0, .ref a), (1, .int (nI fr)), (2, .int (nI to)), (3, .int 0)]) hx hb dX4_isWord_18 hl (by decide) rfl (fun ls hl => ?_)
    have hto2 : to = fr + 4 := by omega
    refine lv_iload_n hx hb dX4_isWord_20 rfl (lv_at hl 2 rfl) ?_
    refine lv_istore (lv' := [(5, .int (nI fr)), (4, .int 1), (0, .ref a), (1, .int (nI fr)), (2, .int (nI to)), (3, .int 0)]) hx hb dX4_isWord_21 hl (by decide) rfl (fun ls hl => ?_)
    have hl : lv_has ls 6 [(5, .int (nI fr)), (4, .int (eqW t fr 31 0)), (0, .ref a), (1, .int (nI fr)), (2, .int (nI to)), (3, .int 0)] := hl
    have loop_6 : ∀ (fuel : Nat) (j : Nat), to - (fr + j) < fuel → (fr + j ≤ to) → ∀ (H : Heap) (locs : List Loc) (ls : Array Slot), WP Γ [[(a, moE r i)], [((r 9), .inl (Γ.2.1 0, 50, .inl t))]] H → WD A [[(a, moE r i)], [((r 9), .inl (Γ.2.1 0, 50, .inl t))]] → va_S A s.heap H locs → lv_has ls 6 [(5, .int (nI (fr + j))), (4, .int (eqW t fr 31 j)), (0, .ref a), (1, .int (nI fr)), (2, .int (nI to)), (3, .int 0)] → W pr_ l ev_ { frames := 4, cells := 0, slots := 0, locals := 85 } s mi_ ([.ref a, .int (nI fr), .int (nI to), .int 0] : List Value).toArray below meth cd_ H locs 0 0 (MQ below (Qi Γ (fun r_ u_ => r_ = (isW t fr to 31 4) ∧ u_ = [[(a, moE r i)], [((r 9), .inl (Γ.2.1 0, 50, .inl t))]]) A) ([.ref a, .int (nI fr), .int (nI to), .int 0] : List Value).toArray s 0 0 A) (F0 mi_ 23 ls ([])) := by
      intro fuel
      induction fuel with
      | zero => intro j hfuel; exact absurd hfuel (Nat.not_lt_zero _)
      | succ fuel ih =>
        intro j hfuel hj H locs ls hP hD hS hl
        refine lv_iload hx hb dX4_isWord_23 (lv_at hl 0 rfl) ?_
        refine lv_iload_n hx hb dX4_isWord_25 rfl (lv_at hl 4 rfl) ?_
        refine lv_icmp_ge (tgt := 68) hx hb dX4_isWord_26 (by decide) (fun c_7 => ?_) (fun c_7 => ?_)
        · -- 26 taken
          have n_7 : to ≤ fr + j := (nI_leI (by omega) (by omega)).mp (show nI to ≤ nI (fr + j) from c_7)
          have m_7 : ¬ (fr + j < to) := by omega
          have d_7 := Int32.not_lt.mpr c_7
          refine lv_iload hx hb dX4_isWord_68 (lv_at hl 1 rfl) ?_
          exact b_zret hx hb hr hlocks hP hD hS (Nat.le_of_ble_eq_true rfl) (Nat.le_of_ble_eq_true rfl) (by first | rfl | (rcases eqW_01 t fr 31 j with e9 | e9 <;> rw [e9] <;> rfl)) ⟨(by rw [isW, if_pos hto2]; first | (rw [show j = 4 by omega]) | (rw [hto2, show 4 = j + (4 - j) by omega]; exact (eqW_zero hto2 _).symm)), (by first | with_reducible rfl | (simp [n_3, n_7, m_7, d_7]; done) | (subst n_3; simp [n_7, m_7, d_7]; done) | rfl)⟩ dX4_isWord_70
        · -- 26 not taken
          have n_7 : ¬ (to ≤ fr + j) := fun h => c_7 ((nI_leI (a := to) (b := fr + j) (by omega) (by omega)).mpr h)
          have m_7 : fr + j < to := by omega
          have d_7 := Int32.not_le.mp c_7
          refine lv_iload hx hb dX4_isWord_29 (lv_at hl 1 rfl) ?_
          refine lv_if_eq (tgt := 68) hx hb dX4_isWord_31 (by decide) (fun c_8 => ?_) (fun c_8 => ?_)
          · -- 31 taken
            refine lv_iload hx hb dX4_isWord_68 (lv_at hl 1 rfl) ?_
            exact b_zret hx hb hr hlocks hP hD hS (Nat.le_of_ble_eq_true rfl) (Nat.le_of_ble_eq_true rfl) (by first | rfl | (rcases eqW_01 t fr 31 j with e9 | e9 <;> rw [e9] <;> rfl)) ⟨(by rw [isW, if_pos hto2]; first | (rw [show j = 4 by omega]) | (rw [c_8, show 4 = j + (4 - j) by omega]; exact (eqW_zero c_8 _).symm)), (by first | with_reducible rfl | (simp [n_3, n_7, m_7, d_7, c_8]; done) | (subst n_3; simp [n_7, m_7, d_7, c_8]; done) | rfl)⟩ dX4_isWord_70
          · -- 31 not taken
            refine lv_aload_n hx hb dX4_isWord_34 rfl (lv_at hl 2 rfl) ?_
            refine b_get (C := RX4) (T := TX4) (N := 16) (v := .ref (r 9)) hx hb hts in_X4 hown hK (b_at (k := 0) hP rfl) rfl 9 (by decide) q1816 (fun _ h9 => h9) rfl dX4_isWord_35 ?_
            refine lv_iload hx hb dX4_isWord_38 (lv_at hl 0 rfl) ?_
            refine b_iald hx hb hK (b_at (k := 1) hP rfl) (fr + j) rfl (by omega) (by omega) dX4_isWord_40 ?_
            refine lv_iload_n hx hb dX4_isWord_41 rfl (lv_at hl 5 rfl) ?_
            refine b_callq (br := [[(a, moE r i)], [((r 9), .inl (Γ.2.1 0, 50, .inl t))]]) (b_runS ⟨hx, hb, hml, hown, hts⟩ (mt_Mo_word_0 l Γ _ ) (lw_S q2167 q2168 q73 q2169) rfl rfl 1 (by decide +kernel) ⟨(Nat.le_of_ble_eq_true rfl), (Nat.le_of_ble_eq_true rfl)⟩ (c_pre hP hD hS hA hK hE [] rfl rfl ro_nil) rfl hl.1 rfl (Nat.le_of_ble_eq_true rfl) dX4_isWord_42 ⟨(Nat.le_of_ble_eq_true rfl), (Nat.le_of_ble_eq_true rfl)⟩) hP hD hS hA [] [0, 1] rfl rfl rfl (fun r_9 u_9 H locs hw_9 hP hD hS _ => ?_)
            obtain ⟨rfl, rfl⟩ := hw_9
            have hP : WP Γ [[(a, moE r i)], [((r 9), .inl (Γ.2.1 0, 50, .inl t))]] H := hP
            have hD : WD A [[(a, moE r i)], [((r 9), .inl (Γ.2.1 0, 50, .inl t))]] := hD
            refine W.eq (g2 := F0 mi_ 45 ls ([.ref (adK Γ 31), .int (t (fr + j))])) rfl ?_
            refine lv_iload hx hb dX4_isWord_45 (lv_at hl 0 rfl) ?_
            refine lv_iload_n hx hb dX4_isWord_47 rfl (lv_at hl 3 rfl) ?_
            refine lv_isub hx hb dX4_isWord_48 ?_
            refine b_top (nI_subE (a := fr + j) (b := fr) (c := j) rfl rfl (by first | omega | rfl)) ?_
            refine b_calli (br := [[(a, moE r i)], [((r 9), .inl (Γ.2.1 0, 50, .inl t))]]) (b_runV ⟨hx, hb, hml, hown, hts⟩ (mt_Str_charAt_0 l Γ _ (adK Γ 31) (adV Γ 31) 0 0 4 (fun j => (str_by 31).getD j 0) j (by omega) (by omega)) (lw_V q2177 q1481 q1482 q71 q1483) rfl rfl 1 (by decide +kernel) ⟨(Nat.le_of_ble_eq_true rfl), (Nat.le_of_ble_eq_true rfl)⟩ (c_pre hP hD hS hA hK hE [] rfl rfl (hE.str hS (bFree hD hS hA [] rfl) 31 (by decide))) (recv_ro (b := adK Γ 31) (fs := [.ref (adV Γ 31), .int 0, .int 0, .int 0]) hK (hE.str hS (fun _ h => h) 31 (by decide) (strO Γ 31) (by simp))) rfl hl.1 rfl (Nat.le_of_ble_eq_true rfl) dX4_isWord_49 ⟨(Nat.le_of_ble_eq_true rfl), (Nat.le_of_ble_eq_true rfl)⟩) hP hD hS hA [] [0, 1] rfl rfl rfl (fun r_10 u_10 H locs hw_10 hP hD hS _ => ?_)
            obtain ⟨rfl, rfl⟩ := hw_10
            have hP : WP Γ [[(a, moE r i)], [((r 9), .inl (Γ.2.1 0, 50, .inl t))]] H := hP
            have hD : WD A [[(a, moE r i)], [((r 9), .inl (Γ.2.1 0, 50, .inl t))]] := hD
            refine lv_icmp_ne (tgt := 59) hx hb dX4_isWord_52 (by decide) (fun c_11 => ?_) (fun c_11 => ?_)
            · -- 52 taken
              refine lv_iconst (v := 0) hx hb dX4_isWord_59 (by decide) ?_
              refine b_top (show 0 = eqW t fr 31 (j + 1) from by rw [eqW, if_neg c_8, if_neg c_11]) ?_
              refine lv_istore (lv' := [(4, .int (eqW t fr 31 (j + 1))), (5, .int (nI (fr + j))), (0, .ref a), (1, .int (nI fr)), (2, .int (nI to)), (3, .int 0)]) hx hb dX4_isWord_60 hl (by decide) rfl (fun ls hl => ?_)
              refine lv_iinc (v := (nI (fr + j + 1))) (lv' := [(5, .int (nI (fr + j + 1))), (4, .int (eqW t fr 31 (j + 1))), (0, .ref a), (1, .int (nI fr)), (2, .int (nI to)), (3, .int 0)]) hx hb dX4_isWord_62 hl (k := 1) rfl (nI_addE (a := fr + j) (b := 1) (c := fr + j + 1) rfl rfl (by first | omega | rfl)) (by decide) rfl (fun ls hl => ?_)
              refine lv_goto (tgt := 23) hx hb dX4_isWord_65 (by decide) ?_
              exact ih (j + 1) (by omega) (by omega) _ _ _ hP hD hS (lv_sub hl [0, 1, 2, 3, 4, 5] rfl)
            · -- 52 not taken
              refine lv_iconst (v := 1) hx hb dX4_isWord_55 (by decide) ?_
              refine lv_goto (tgt := 60) hx hb dX4_isWord_56 (by decide) ?_
              refine b_top (show 1 = eqW t fr 31 (j + 1) from by rw [eqW, if_neg c_8, if_pos c_11]) ?_
              refine lv_istore (lv' := [(4, .int (eqW t fr 31 (j + 1))), (5, .int (nI (fr + j))), (0, .ref a), (1, .int (nI fr)), (2, .int (nI to)), (3, .int 0)]) hx hb dX4_isWord_60 hl (by decide) rfl (fun ls hl => ?_)
              refine lv_iinc (v := (nI (fr + j + 1))) (lv' := [(5, .int (nI (fr + j + 1))), (4, .int (eqW t fr 31 (j + 1))), (0, .ref a), (1, .int (nI fr)), (2, .int (nI to)), (3, .int 0)]) hx hb dX4_isWord_62 hl (k := 1) rfl (nI_addE (a := fr + j) (b := 1) (c := fr + j + 1) rfl rfl (by first | omega | rfl)) (by decide) rfl (fun ls hl => ?_)
              refine lv_goto (tgt := 23) hx hb dX4_isWord_65 (by decide) ?_
              exact ih (j + 1) (by omega) (by omega) _ _ _ hP hD hS (lv_sub hl [0, 1, 2, 3, 4, 5] rfl)
    exact loop_6 ((to - (fr + 0)) + 1) 0 (Nat.lt_succ_self _) (by omega) _ _ _ hP hD hS (lv_sub hl [0, 1, 2, 3, 4, 5] rfl)
set_option maxHeartbeats 4000000 in
set_option maxRecDepth 100000 in
theorem mt_Mo_isWord_1 (l : Launch) (Γ : GE) (sz : Nat) (a : Nat) (r : Nat → Nat) (i : Nat → Int32) (t : Nat → Int32) (fr : Nat) (to : Nat) (hft : fr ≤ to) (hto : to ≤ 50) : KM l yX4_isWord cX4_isWord 6 (some FieldType.boolean) Γ 4 85 0 0 [.ref a, .int (nI fr), .int (nI to), .int 1] [[(a, moE r i)], [((r 9), .inl (Γ.2.1 0, 50, .inl t))]] [] sz (Qi Γ (fun r_ u_ => r_ = (isW t fr to 32 5) ∧ u_ = [[(a, moE r i)], [((r 9), .inl (Γ.2.1 0, 50, .inl t))]])) := by
  refine K_intro (by decide) (Nat.le_of_ble_eq_true rfl) ?_
  intro pr_ ev_ s mi_ below meth cd_ A ls hx hb hr hml hown hts hlocks hname hK hE hRo hP hD hA hS hsz hl
  have hl : lv_has ls 6 [(0, .ref a), (1, .int (nI fr)), (2, .int (nI to)), (3, .int 1)] := hl
  have hown : s.vm.findClass RX4 = some mi_.cls := hown
  refine lv_iload_n hx hb dX4_isWord_0 rfl (lv_at hl 2 rfl) ?_
  refine lv_iload_n hx hb dX4_isWord_1 rfl (lv_at hl 1 rfl) ?_
  refine lv_isub hx hb dX4_isWord_2 ?_
  refine b_top (nI_subE (a := to) (b := fr) (c := to - fr) rfl rfl (by omega)) ?_
  refine lv_iload_n hx hb dX4_isWord_3 rfl (lv_at hl 3 rfl) ?_
  refine b_callq (br := [[(a, moE r i)], [((r 9), .inl (Γ.2.1 0, 50, .inl t))]]) (b_runS ⟨hx, hb, hml, hown, hts⟩ (mt_Mo_word_1 l Γ _ ) (lw_S q2167 q2168 q73 q2169) rfl rfl 1 (by decide +kernel) ⟨(Nat.le_of_ble_eq_true rfl), (Nat.le_of_ble_eq_true rfl)⟩ (c_pre hP hD hS hA hK hE [] rfl rfl ro_nil) rfl hl.1 rfl (Nat.le_of_ble_eq_true rfl) dX4_isWord_4 ⟨(Nat.le_of_ble_eq_true rfl), (Nat.le_of_ble_eq_true rfl)⟩) hP hD hS hA [] [0, 1] rfl rfl rfl (fun r_1 u_1 H locs hw_1 hP hD hS _ => ?_)
  obtain ⟨rfl, rfl⟩ := hw_1
  have hP : WP Γ [[(a, moE r i)], [((r 9), .inl (Γ.2.1 0, 50, .inl t))]] H := hP
  have hD : WD A [[(a, moE r i)], [((r 9), .inl (Γ.2.1 0, 50, .inl t))]] := hD
  refine W.eq (g2 := F0 mi_ 7 ls ([.ref (adK Γ 32), .int (nI ((to - fr)))])) rfl ?_
  refine b_calli (br := [[(a, moE r i)], [((r 9), .inl (Γ.2.1 0, 50, .inl t))]]) (b_runV ⟨hx, hb, hml, hown, hts⟩ (mt_Str_length_0 l Γ _ (adK Γ 32) (adV Γ 32) 0 0 5 (fun j => (str_by 32).getD j 0) (by omega)) (lw_V q2176 q666 q667 q71 q668) rfl rfl 0 (by decide +kernel) ⟨(Nat.le_of_ble_eq_true rfl), (Nat.le_of_ble_eq_true rfl)⟩ (c_pre hP hD hS hA hK hE [] rfl rfl (hE.str hS (bFree hD hS hA [] rfl) 32 (by decide))) (recv_ro (b := adK Γ 32) (fs := [.ref (adV Γ 32), .int 0, .int 0, .int 0]) hK (hE.str hS (fun _ h => h) 32 (by decide) (strO Γ 32) (by simp))) rfl hl.1 rfl (Nat.le_of_ble_eq_true rfl) dX4_isWord_7 ⟨(Nat.le_of_ble_eq_true rfl), (Nat.le_of_ble_eq_true rfl)⟩) hP hD hS hA [] [0, 1] rfl rfl rfl (fun r_2 u_2 H locs hw_2 hP hD hS _ => ?_)
  obtain ⟨rfl, rfl⟩ := hw_2
  have hP : WP Γ [[(a, moE r i)], [((r 9), .inl (Γ.2.1 0, 50, .inl t))]] H := hP
  have hD : WD A [[(a, moE r i)], [((r 9), .inl (Γ.2.1 0, 50, .inl t))]] := hD
  refine lv_icmp_ne (tgt := 17) hx hb dX4_isWord_10 (by decide) (fun c_3 => ?_) (fun c_3 => ?_)
  · -- 10 taken
    have n_3 : ¬ ((to - fr) = 5) := fun h => c_3 ((nI_eq (a := (to - fr)) (b := 5) (by omega) (by omega)).mpr h)
    refine lv_iconst (v := 0) hx hb dX4_isWord_17 (by decide) ?_
    refine lv_istore (lv' := [(4, .int 0), (0, .ref a), (1, .int (nI fr)), (2, .int (nI to)), (3, .int 1)]) hx hb dX4_isWord_18 hl (by decide) rfl (fun ls hl => ?_)
    have hto2 : ¬ to = fr + 5 := by omega
    refine lv_iload_n hx hb dX4_isWord_20 rfl (lv_at hl 2 rfl) ?_
    refine lv_istore (lv' := [(5, .int (nI fr)), (4, .int 0), (0, .ref a), (1, .int (nI fr)), (2, .int (nI to)), (3, .int 1)]) hx hb dX4_isWord_21 hl (by decide) rfl (fun ls hl => ?_)
    refine lv_iload hx hb dX4_isWord_23 (lv_at hl 0 rfl) ?_
    refine lv_iload_n hx hb dX4_isWord_25 rfl (lv_at hl 4 rfl) ?_
    refine lv_icmp_ge (tgt := 68) hx hb dX4_isWord_26 (by decide) (fun c_4 => ?_) (fun c_4 => ?_)
    · -- 26 taken
      have n_4 : to ≤ fr := (nI_leI (by omega) (by omega)).mp (show nI to ≤ nI fr from c_4)
      have m_4 : ¬ (fr < to) := by omega
      have d_4 := Int32.not_lt.mpr c_4
      refine lv_iload hx hb dX4_isWord_68 (lv_at hl 1 rfl) ?_
      exact b_zret hx hb hr hlocks hP hD hS (Nat.le_of_ble_eq_true rfl) (Nat.le_of_ble_eq_true rfl) rfl ⟨(by rw [isW, if_neg hto2]), (by first | with_reducible rfl | (simp [n_3, n_4, m_4, d_4]; done) | rfl)⟩ dX4_isWord_70
    · -- 26 not taken
      have n_4 : ¬ (to ≤ fr) := fun h => c_4 ((nI_leI (a := to) (b := fr) (by omega) (by omega)).mpr h)
      have m_4 : fr < to := by omega
      have d_4 := Int32.not_le.mp c_4
      refine lv_iload hx hb dX4_isWord_29 (lv_at hl 1 rfl) ?_
      refine lv_if_eq (tgt := 68) hx hb dX4_isWord_31 (by decide) (fun c_5 => ?_) (fun c_5 => ?_)
      · -- 31 taken
        have n_5 : 0 = 0 := (nI_eq (by omega) (by omega)).mp (show nI 0 = nI 0 from c_5)
        refine lv_iload hx hb dX4_isWord_68 (lv_at hl 1 rfl) ?_
        exact b_zret hx hb hr hlocks hP hD hS (Nat.le_of_ble_eq_true rfl) (Nat.le_of_ble_eq_true rfl) rfl ⟨(by rw [isW, if_neg hto2]), (by first | with_reducible rfl | (simp [n_3, n_4, m_4, d_4, n_5]; done) | rfl)⟩ dX4_isWord_70
      · -- 31 not taken
        have n_5 : ¬ (0 = 0) := fun h => c_5 ((nI_eq (a := 0) (b := 0) (by omega) (by omega)).mpr h)
        exact absurd n_5 (by omega)
  · -- 10 not taken
    have n_3 : (to - fr) = 5 := (nI_eq (by omega) (by omega)).mp (show nI ((to - fr)) = nI 5 from c_3)
    refine lv_iconst (v := 1) hx hb dX4_isWord_13 (by decide) ?_
    refine lv_goto (tgt := 18) hx hb dX4_isWord_14 (by decide) ?_
    refine lv_istore (lv' := [(4, .int 1), (0, .ref a), (1, .int (nI fr)), (2, .int (nI to)), (3, .int 1)]) hx hb dX4_isWord_18 hl (by decide) rfl (fun ls hl => ?_)
    have hto2 : to = fr + 5 := by omega
    refine lv_iload_n hx hb dX4_isWord_20 rfl (lv_at hl 2 rfl) ?_
    refine lv_istore (lv' := [(5, .int (nI fr)), (4, .int 1), (0, .ref a), (1, .int (nI fr)), (2, .int (nI to)), (3, .int 1)]) hx hb dX4_isWord_21 hl (by decide) rfl (fun ls hl => ?_)
    have hl : lv_has ls 6 [(5, .int (nI fr)), (4, .int (eqW t fr 32 0)), (0, .ref a), (1, .int (nI fr)), (2, .int (nI to)), (3, .int 1)] := hl
    have loop_6 : ∀ (fuel : Nat) (j : Nat), to - (fr + j) < fuel → (fr + j ≤ to) → ∀ (H : Heap) (locs : List Loc) (ls : Array Slot), WP Γ [[(a, moE r i)], [((r 9), .inl (Γ.2.1 0, 50, .inl t))]] H → WD A [[(a, moE r i)], [((r 9), .inl (Γ.2.1 0, 50, .inl t))]] → va_S A s.heap H locs → lv_has ls 6 [(5, .int (nI (fr + j))), (4, .int (eqW t fr 32 j)), (0, .ref a), (1, .int (nI fr)), (2, .int (nI to)), (3, .int 1)] → W pr_ l ev_ { frames := 4, cells := 0, slots := 0, locals := 85 } s mi_ ([.ref a, .int (nI fr), .int (nI to), .int 1] : List Value).toArray below meth cd_ H locs 0 0 (MQ below (Qi Γ (fun r_ u_ => r_ = (isW t fr to 32 5) ∧ u_ = [[(a, moE r i)], [((r 9), .inl (Γ.2.1 0, 50, .inl t))]]) A) ([.ref a, .int (nI fr), .int (nI to), .int 1] : List Value).toArray s 0 0 A) (F0 mi_ 23 ls ([])) := by
      intro fuel
      induction fuel with
      | zero => intro j hfuel; exact absurd hfuel (Nat.not_lt_zero _)
      | succ fuel ih =>
        intro j hfuel hj H locs ls hP hD hS hl
        refine lv_iload hx hb dX4_isWord_23 (lv_at hl 0 rfl) ?_
        refine lv_iload_n hx hb dX4_isWord_25 rfl (lv_at hl 4 rfl) ?_
        refine lv_icmp_ge (tgt := 68) hx hb dX4_isWord_26 (by decide) (fun c_7 => ?_) (fun c_7 => ?_)
        · -- 26 taken
          have n_7 : to ≤ fr + j := (nI_leI (by omega) (by omega)).mp (show nI to ≤ nI (fr + j) from c_7)
          have m_7 : ¬ (fr + j < to) := by omega
          have d_7 := Int32.not_lt.mpr c_7
          refine lv_iload hx hb dX4_isWord_68 (lv_at hl 1 rfl) ?_
          exact b_zret hx hb hr hlocks hP hD hS (Nat.le_of_ble_eq_true rfl) (Nat.le_of_ble_eq_true rfl) (by first | rfl | (rcases eqW_01 t fr 32 j with e9 | e9 <;> rw [e9] <;> rfl)) ⟨(by rw [isW, if_pos hto2]; first | (rw [show j = 5 by omega]) | (rw [hto2, show 5 = j + (5 - j) by omega]; exact (eqW_zero hto2 _).symm)), (by first | with_reducible rfl | (simp [n_3, n_7, m_7, d_7]; done) | (subst n_3; simp [n_7, m_7, d_7]; done) | rfl)⟩ dX4_isWord_70
        · -- 26 not taken
          have n_7 : ¬ (to ≤ fr + j) := fun h => c_7 ((nI_leI (a := to) (b := fr + j) (by omega) (by omega)).mpr h)
          have m_7 : fr + j < to := by omega
          have d_7 := Int32.not_le.mp c_7
          refine lv_iload hx hb dX4_isWord_29 (lv_at hl 1 rfl) ?_
          refine lv_if_eq (tgt := 68) hx hb dX4_isWord_31 (by decide) (fun c_8 => ?_) (fun c_8 => ?_)
          · -- 31 taken
            refine lv_iload hx hb dX4_isWord_68 (lv_at hl 1 rfl) ?_
            exact b_zret hx hb hr hlocks hP hD hS (Nat.le_of_ble_eq_true rfl) (Nat.le_of_ble_eq_true rfl) (by first | rfl | (rcases eqW_01 t fr 32 j with e9 | e9 <;> rw [e9] <;> rfl)) ⟨(by rw [isW, if_pos hto2]; first | (rw [show j = 5 by omega]) | (rw [c_8, show 5 = j + (5 - j) by omega]; exact (eqW_zero c_8 _).symm)), (by first | with_reducible rfl | (simp [n_3, n_7, m_7, d_7, c_8]; done) | (subst n_3; simp [n_7, m_7, d_7, c_8]; done) | rfl)⟩ dX4_isWord_70
          · -- 31 not taken
            refine lv_aload_n hx hb dX4_isWord_34 rfl (lv_at hl 2 rfl) ?_
            refine b_get (C := RX4) (T := TX4) (N := 16) (v := .ref (r 9)) hx hb hts in_X4 hown hK (b_at (k := 0) hP rfl) rfl 9 (by decide) q1816 (fun _ h9 => h9) rfl dX4_isWord_35 ?_
            refine lv_iload hx hb dX4_isWord_38 (lv_at hl 0 rfl) ?_
            refine b_iald hx hb hK (b_at (k := 1) hP rfl) (fr + j) rfl (by omega) (by omega) dX4_isWord_40 ?_
            refine lv_iload_n hx hb dX4_isWord_41 rfl (lv_at hl 5 rfl) ?_
            refine b_callq (br := [[(a, moE r i)], [((r 9), .inl (Γ.2.1 0, 50, .inl t))]]) (b_runS ⟨hx, hb, hml, hown, hts⟩ (mt_Mo_word_1 l Γ _ ) (lw_S q2167 q2168 q73 q2169) rfl rfl 1 (by decide +kernel) ⟨(Nat.le_of_ble_eq_true rfl), (Nat.le_of_ble_eq_true rfl)⟩ (c_pre hP hD hS hA hK hE [] rfl rfl ro_nil) rfl hl.1 rfl (Nat.le_of_ble_eq_true rfl) dX4_isWord_42 ⟨(Nat.le_of_ble_eq_true rfl), (Nat.le_of_ble_eq_true rfl)⟩) hP hD hS hA [] [0, 1] rfl rfl rfl (fun r_9 u_9 H locs hw_9 hP hD hS _ => ?_)
            obtain ⟨rfl, rfl⟩ := hw_9
            have hP : WP Γ [[(a, moE r i)], [((r 9), .inl (Γ.2.1 0, 50, .inl t))]] H := hP
            have hD : WD A [[(a, moE r i)], [((r 9), .inl (Γ.2.1 0, 50, .inl t))]] := hD
            refine W.eq (g2 := F0 mi_ 45 ls ([.ref (adK Γ 32), .int (t (fr + j))])) rfl ?_
            refine lv_iload hx hb dX4_isWord_45 (lv_at hl 0 rfl) ?_
            refine lv_iload_n hx hb dX4_isWord_47 rfl (lv_at hl 3 rfl) ?_
            refine lv_isub hx hb dX4_isWord_48 ?_
            refine b_top (nI_subE (a := fr + j) (b := fr) (c := j) rfl rfl (by first | omega | rfl)) ?_
            refine b_calli (br := [[(a, moE r i)], [((r 9), .inl (Γ.2.1 0, 50, .inl t))]]) (b_runV ⟨hx, hb, hml, hown, hts⟩ (mt_Str_charAt_0 l Γ _ (adK Γ 32) (adV Γ 32) 0 0 5 (fun j => (str_by 32).getD j 0) j (by omega) (by omega)) (lw_V q2177 q1481 q1482 q71 q1483) rfl rfl 1 (by decide +kernel) ⟨(Nat.le_of_ble_eq_true rfl), (Nat.le_of_ble_eq_true rfl)⟩ (c_pre hP hD hS hA hK hE [] rfl rfl (hE.str hS (bFree hD hS hA [] rfl) 32 (by decide))) (recv_ro (b := adK Γ 32) (fs := [.ref (adV Γ 32), .int 0, .int 0, .int 0]) hK (hE.str hS (fun _ h => h) 32 (by decide) (strO Γ 32) (by simp))) rfl hl.1 rfl (Nat.le_of_ble_eq_true rfl) dX4_isWord_49 ⟨(Nat.le_of_ble_eq_true rfl), (Nat.le_of_ble_eq_true rfl)⟩) hP hD hS hA [] [0, 1] rfl rfl rfl (fun r_10 u_10 H locs hw_10 hP hD hS _ => ?_)
            obtain ⟨rfl, rfl⟩ := hw_10
            have hP : WP Γ [[(a, moE r i)], [((r 9), .inl (Γ.2.1 0, 50, .inl t))]] H := hP
            have hD : WD A [[(a, moE r i)], [((r 9), .inl (Γ.2.1 0, 50, .inl t))]] := hD
            refine lv_icmp_ne (tgt := 59) hx hb dX4_isWord_52 (by decide) (fun c_11 => ?_) (fun c_11 => ?_)
            · -- 52 taken
              refine lv_iconst (v := 0) hx hb dX4_isWord_59 (by decide) ?_
              refine b_top (show 0 = eqW t fr 32 (j + 1) from by rw [eqW, if_neg c_8, if_neg c_11]) ?_
              refine lv_istore (lv' := [(4, .int (eqW t fr 32 (j + 1))), (5, .int (nI (fr + j))), (0, .ref a), (1, .int (nI fr)), (2, .int (nI to)), (3, .int 1)]) hx hb dX4_isWord_60 hl (by decide) rfl (fun ls hl => ?_)
              refine lv_iinc (v := (nI (fr + j + 1))) (lv' := [(5, .int (nI (fr + j + 1))), (4, .int (eqW t fr 32 (j + 1))), (0, .ref a), (1, .int (nI fr)), (2, .int (nI to)), (3, .int 1)]) hx hb dX4_isWord_62 hl (k := 1) rfl (nI_addE (a := fr + j) (b := 1) (c := fr + j + 1) rfl rfl (by first | omega | rfl)) (by decide) rfl (fun ls hl => ?_)
              refine lv_goto (tgt := 23) hx hb dX4_isWord_65 (by decide) ?_
              exact ih (j + 1) (by omega) (by omega) _ _ _ hP hD hS (lv_sub hl [0, 1, 2, 3, 4, 5] rfl)
            · -- 52 not taken
              refine lv_iconst (v := 1) hx hb dX4_isWord_55 (by decide) ?_
              refine lv_goto (tgt := 60) hx hb dX4_isWord_56 (by decide) ?_
              refine b_top (show 1 = eqW t fr 32 (j + 1) from by rw [eqW, if_neg c_8, if_pos c_11]) ?_
              refine lv_istore (lv' := [(4, .int (eqW t fr 32 (j + 1))), (5, .int (nI (fr + j))), (0, .ref a), (1, .int (nI fr)), (2, .int (nI to)), (3, .int 1)]) hx hb dX4_isWord_60 hl (by decide) rfl (fun ls hl => ?_)
              refine lv_iinc (v := (nI (fr + j + 1))) (lv' := [(5, .int (nI (fr + j + 1))), (4, .int (eqW t fr 32 (j + 1))), (0, .ref a), (1, .int (nI fr)), (2, .int (nI to)), (3, .int 1)]) hx hb dX4_isWord_62 hl (k := 1) rfl (nI_addE (a := fr + j) (b := 1) (c := fr + j + 1) rfl rfl (by first | omega | rfl)) (by decide) rfl (fun ls hl => ?_)
              refine lv_goto (tgt := 23) hx hb dX4_isWord_65 (by decide) ?_
              exact ih (j + 1) (by omega) (by omega) _ _ _ hP hD hS (lv_sub hl [0, 1, 2, 3, 4, 5] rfl)
    exact loop_6 ((to - (fr + 0)) + 1) 0 (Nat.lt_succ_self _) (by omega) _ _ _ hP hD hS (lv_sub hl [0, 1, 2, 3, 4, 5] rfl)
set_option maxHeartbeats 4000000 in
set_option maxRecDepth 100000 in
theorem mt_Mo_isWord_2 (l : Launch) (Γ : GE) (sz : Nat) (a : Nat) (r : Nat → Nat) (i : Nat → Int32) (t : Nat → Int32) (fr : Nat) (to : Nat) (hft : fr ≤ to) (hto : to ≤ 50) : KM l yX4_isWord cX4_isWord 6 (some FieldType.boolean) Γ 4 85 0 0 [.ref a, .int (nI fr), .int (nI to), .int 2] [[(a, moE r i)], [((r 9), .inl (Γ.2.1 0, 50, .inl t))]] [] sz (Qi Γ (fun r_ u_ => r_ = (isW t fr to 33 5) ∧ u_ = [[(a, moE r i)], [((r 9), .inl (Γ.2.1 0, 50, .inl t))]])) := by
  refine K_intro (by decide) (Nat.le_of_ble_eq_true rfl) ?_
  intro pr_ ev_ s mi_ below meth cd_ A ls hx hb hr hml hown hts hlocks hname hK hE hRo hP hD hA hS hsz hl
  have hl : lv_has ls 6 [(0, .ref a), (1, .int (nI fr)), (2, .int (nI to)), (3, .int 2)] := hl
  have hown : s.vm.findClass RX4 = some mi_.cls := hown
  refine lv_iload_n hx hb dX4_isWord_0 rfl (lv_at hl 2 rfl) ?_
  refine lv_iload_n hx hb dX4_isWord_1 rfl (lv_at hl 1 rfl) ?_
  refine lv_isub hx hb dX4_isWord_2 ?_
  refine b_top (nI_subE (a := to) (b := fr) (c := to - fr) rfl rfl (by omega)) ?_
  refine lv_iload_n hx hb dX4_isWord_3 rfl (lv_at hl 3 rfl) ?_
  refine b_callq (br := [[(a, moE r i)], [((r 9), .inl (Γ.2.1 0, 50, .inl t))]]) (b_runS ⟨hx, hb, hml, hown, hts⟩ (mt_Mo_word_2 l Γ _ ) (lw_S q2167 q2168 q73 q2169) rfl rfl 1 (by decide +kernel) ⟨(Nat.le_of_ble_eq_true rfl), (Nat.le_of_ble_eq_true rfl)⟩ (c_pre hP hD hS hA hK hE [] rfl rfl ro_nil) rfl hl.1 rfl (Nat.le_of_ble_eq_true rfl) dX4_isWord_4 ⟨(Nat.le_of_ble_eq_true rfl), (Nat.le_of_ble_eq_true rfl)⟩) hP hD hS hA [] [0, 1] rfl rfl rfl (fun r_1 u_1 H locs hw_1 hP hD hS _ => ?_)
  obtain ⟨rfl, rfl⟩ := hw_1
  have hP : WP Γ [[(a, moE r i)], [((r 9), .inl (Γ.2.1 0, 50, .inl t))]] H := hP
  have hD : WD A [[(a, moE r i)], [((r 9), .inl (Γ.2.1 0, 50, .inl t))]] := hD
  refine W.eq (g2 := F0 mi_ 7 ls ([.ref (adK Γ 33), .int (nI ((to - fr)))])) rfl ?_
  refine b_calli (br := [[(a, moE r i)], [((r 9), .inl (Γ.2.1 0, 50, .inl t))]]) (b_runV ⟨hx, hb, hml, hown, hts⟩ (mt_Str_length_0 l Γ _ (adK Γ 33) (adV Γ 33) 0 0 5 (fun j => (str_by 33).getD j 0) (by omega)) (lw_V q2176 q666 q667 q71 q668) rfl rfl 0 (by decide +kernel) ⟨(Nat.le_of_ble_eq_true rfl), (Nat.le_of_ble_eq_true rfl)⟩ (c_pre hP hD hS hA hK hE [] rfl rfl (hE.str hS (bFree hD hS hA [] rfl) 33 (by decide))) (recv_ro (b := adK Γ 33) (fs := [.ref (adV Γ 33), .int 0, .int 0, .int 0]) hK (hE.str hS (fun _ h => h) 33 (by decide) (strO Γ 33) (by simp))) rfl hl.1 rfl (Nat.le_of_ble_eq_true rfl) dX4_isWord_7 ⟨(Nat.le_of_ble_eq_true rfl), (Nat.le_of_ble_eq_true rfl)⟩) hP hD hS hA [] [0, 1] rfl rfl rfl (fun r_2 u_2 H locs hw_2 hP hD hS _ => ?_)
  obtain ⟨rfl, rfl⟩ := hw_2
  have hP : WP Γ [[(a, moE r i)], [((r 9), .inl (Γ.2.1 0, 50, .inl t))]] H := hP
  have hD : WD A [[(a, moE r i)], [((r 9), .inl (Γ.2.1 0, 50, .inl t))]] := hD
  refine lv_icmp_ne (tgt := 17) hx hb dX4_isWord_10 (by decide) (fun c_3 => ?_) (fun c_3 => ?_)
  · -- 10 taken
    have n_3 : ¬ ((to - fr) = 5) := fun h => c_3 ((nI_eq (a := (to - fr)) (b := 5) (by omega) (by omega)).mpr h)
    refine lv_iconst (v := 0) hx hb dX4_isWord_17 (by decide) ?_
    refine lv_istore (lv' := [(4, .int 0), (0, .ref a), (1, .int (nI fr)), (2, .int (nI to)), (3, .int 2)]) hx hb dX4_isWord_18 hl (by decide) rfl (fun ls hl => ?_)
    have hto2 : ¬ to = fr + 5 := by omega
    refine lv_iload_n hx hb dX4_isWord_20 rfl (lv_at hl 2 rfl) ?_
    refine lv_istore (lv' := [(5, .int (nI fr)), (4, .int 0), (0, .ref a), (1, .int (nI fr)), (2, .int (nI to)), (3, .int 2)]) hx hb dX4_isWord_21 hl (by decide) rfl (fun ls hl => ?_)
    refine lv_iload hx hb dX4_isWord_23 (lv_at hl 0 rfl) ?_
    refine lv_iload_n hx hb dX4_isWord_25 rfl (lv_at hl 4 rfl) ?_
    refine lv_icmp_ge (tgt := 68) hx hb dX4_isWord_26 (by decide) (fun c_4 => ?_) (fun c_4 => ?_)
    · -- 26 taken
      have n_4 : to ≤ fr := (nI_leI (by omega) (by omega)).mp (show nI to ≤ nI fr from c_4)
      have m_4 : ¬ (fr < to) := by omega
      have d_4 := Int32.not_lt.mpr c_4
      refine lv_iload hx hb dX4_isWord_68 (lv_at hl 1 rfl) ?_
      exact b_zret hx hb hr hlocks hP hD hS (Nat.le_of_ble_eq_true rfl) (Nat.le_of_ble_eq_true rfl) rfl ⟨(by rw [isW, if_neg hto2]), (by first | with_reducible rfl | (simp [n_3, n_4, m_4, d_4]; done) | rfl)⟩ dX4_isWord_70
    · -- 26 not taken
      have n_4 : ¬ (to ≤ fr) := fun h => c_4 ((nI_leI (a := to) (b := fr) (by omega) (by omega)).mpr h)
      have m_4 : fr < to := by omega
      have d_4 := Int32.not_le.mp c_4
      refine lv_iload hx hb dX4_isWord_29 (lv_at hl 1 rfl) ?_
      refine lv_if_eq (tgt := 68) hx hb dX4_isWord_31 (by decide) (fun c_5 => ?_) (fun c_5 => ?_)
      · -- 31 taken
        have n_5 : 0 = 0 := (nI_eq (by omega) (by omega)).mp (show nI 0 = nI 0 from c_5)
        refine lv_iload hx hb dX4_isWord_68 (lv_at hl 1 rfl) ?_
        exact b_zret hx hb hr hlocks hP hD hS (Nat.le_of_ble_eq_true rfl) (Nat.le_of_ble_eq_true rfl) rfl ⟨(by rw [isW, if_neg hto2]), (by first | with_reducible rfl | (simp [n_3, n_4, m_4, d_4, n_5]; done) | rfl)⟩ dX4_isWord_70
      · -- 31 not taken
        have n_5 : ¬ (0 = 0) := fun h => c_5 ((nI_eq (a := 0) (b := 0) (by omega) (by omega)).mpr h)
        exact absurd n_5 (by omega)
  · -- 10 not taken
    have n_3 : (to - fr) = 5 := (nI_eq (by omega) (by omega)).mp (show nI ((to - fr)) = nI 5 from c_3)
    refine lv_iconst (v := 1) hx hb dX4_isWord_13 (by decide) ?_
    refine lv_goto (tgt := 18) hx hb dX4_isWord_14 (by decide) ?_
    refine lv_istore (lv' := [(4, .int 1), (0, .ref a), (1, .int (nI fr)), (2, .int (nI to)), (3, .int 2)]) hx hb dX4_isWord_18 hl (by decide) rfl (fun ls hl => ?_)
    have hto2 : to = fr + 5 := by omega
    refine lv_iload_n hx hb dX4_isWord_20 rfl (lv_at hl 2 rfl) ?_
    refine lv_istore (lv' := [(5, .int (nI fr)), (4, .int 1), (0, .ref a), (1, .int (nI fr)), (2, .int (nI to)), (3, .int 2)]) hx hb dX4_isWord_21 hl (by decide) rfl (fun ls hl => ?_)
    have hl : lv_has ls 6 [(5, .int (nI fr)), (4, .int (eqW t fr 33 0)), (0, .ref a), (1, .int (nI fr)), (2, .int (nI to)), (3, .int 2)] := hl
    have loop_6 : ∀ (fuel : Nat) (j : Nat), to - (fr + j) < fuel → (fr + j ≤ to) → ∀ (H : Heap) (locs : List Loc) (ls : Array Slot), WP Γ [[(a, moE r i)], [((r 9), .inl (Γ.2.1 0, 50, .inl t))]] H → WD A [[(a, moE r i)], [((r 9), .inl (Γ.2.1 0, 50, .inl t))]] → va_S A s.heap H locs → lv_has ls 6 [(5, .int (nI (fr + j))), (4, .int (eqW t fr 33 j)), (0, .ref a), (1, .int (nI fr)), (2, .int (nI to)), (3, .int 2)] → W pr_ l ev_ { frames := 4, cells := 0, slots := 0, locals := 85 } s mi_ ([.ref a, .int (nI fr), .int (nI to), .int 2] : List Value).toArray below meth cd_ H locs 0 0 (MQ below (Qi Γ (fun r_ u_ => r_ = (isW t fr to 33 5) ∧ u_ = [[(a, moE r i)], [((r 9), .inl (Γ.2.1 0, 50, .inl t))]]) A) ([.ref a, .int (nI fr), .int (nI to), .int 2] : List Value).toArray s 0 0 A) (F0 mi_ 23 ls ([])) := by
      intro fuel
      induction fuel with
      | zero => intro j hfuel; exact absurd hfuel (Nat.not_lt_zero _)
      | succ fuel ih =>
        intro j hfuel hj H locs ls hP hD hS hl
        refine lv_iload hx hb dX4_isWord_23 (lv_at hl 0 rfl) ?_
        refine lv_iload_n hx hb dX4_isWord_25 rfl (lv_at hl 4 rfl) ?_
        refine lv_icmp_ge (tgt := 68) hx hb dX4_isWord_26 (by decide) (fun c_7 => ?_) (fun c_7 => ?_)
        · -- 26 taken
          have n_7 : to ≤ fr + j := (nI_leI (by omega) (by omega)).mp (show nI to ≤ nI (fr + j) from c_7)
          have m_7 : ¬ (fr + j < to) := by omega
          have d_7 := Int32.not_lt.mpr c_7
          refine lv_iload hx hb dX4_isWord_68 (lv_at hl 1 rfl) ?_
          exact b_zret hx hb hr hlocks hP hD hS (Nat.le_of_ble_eq_true rfl) (Nat.le_of_ble_eq_true rfl) (by first | rfl | (rcases eqW_01 t fr 33 j with e9 | e9 <;> rw [e9] <;> rfl)) ⟨(by rw [isW, if_pos hto2]; first | (rw [show j = 5 by omega]) | (rw [hto2, show 5 = j + (5 - j) by omega]; exact (eqW_zero hto2 _).symm)), (by first | with_reducible rfl | (simp [n_3, n_7, m_7, d_7]; done) | (subst n_3; simp [n_7, m_7, d_7]; done) | rfl)⟩ dX4_isWord_70
        · -- 26 not taken
          have n_7 : ¬ (to ≤ fr + j) := fun h => c_7 ((nI_leI (a := to) (b := fr + j) (by omega) (by omega)).mpr h)
          have m_7 : fr + j < to := by omega
          have d_7 := Int32.not_le.mp c_7
          refine lv_iload hx hb dX4_isWord_29 (lv_at hl 1 rfl) ?_
          refine lv_if_eq (tgt := 68) hx hb dX4_isWord_31 (by decide) (fun c_8 => ?_) (fun c_8 => ?_)
          · -- 31 taken
            refine lv_iload hx hb dX4_isWord_68 (lv_at hl 1 rfl) ?_
            exact b_zret hx hb hr hlocks hP hD hS (Nat.le_of_ble_eq_true rfl) (Nat.le_of_ble_eq_true rfl) (by first | rfl | (rcases eqW_01 t fr 33 j with e9 | e9 <;> rw [e9] <;> rfl)) ⟨(by rw [isW, if_pos hto2]; first | (rw [show j = 5 by omega]) | (rw [c_8, show 5 = j + (5 - j) by omega]; exact (eqW_zero c_8 _).symm)), (by first | with_reducible rfl | (simp [n_3, n_7, m_7, d_7, c_8]; done) | (subst n_3; simp [n_7, m_7, d_7, c_8]; done) | rfl)⟩ dX4_isWord_70
          · -- 31 not taken
            refine lv_aload_n hx hb dX4_isWord_34 rfl (lv_at hl 2 rfl) ?_
            refine b_get (C := RX4) (T := TX4) (N := 16) (v := .ref (r 9)) hx hb hts in_X4 hown hK (b_at (k := 0) hP rfl) rfl 9 (by decide) q1816 (fun _ h9 => h9) rfl dX4_isWord_35 ?_
            refine lv_iload hx hb dX4_isWord_38 (lv_at hl 0 rfl) ?_
            refine b_iald hx hb hK (b_at (k := 1) hP rfl) (fr + j) rfl (by omega) (by omega) dX4_isWord_40 ?_
            refine lv_iload_n hx hb dX4_isWord_41 rfl (lv_at hl 5 rfl) ?_
            refine b_callq (br := [[(a, moE r i)], [((r 9), .inl (Γ.2.1 0, 50, .inl t))]]) (b_runS ⟨hx, hb, hml, hown, hts⟩ (mt_Mo_word_2 l Γ _ ) (lw_S q2167 q2168 q73 q2169) rfl rfl 1 (by decide +kernel) ⟨(Nat.le_of_ble_eq_true rfl), (Nat.le_of_ble_eq_true rfl)⟩ (c_pre hP hD hS hA hK hE [] rfl rfl ro_nil) rfl hl.1 rfl (Nat.le_of_ble_eq_true rfl) dX4_isWord_42 ⟨(Nat.le_of_ble_eq_true rfl), (Nat.le_of_ble_eq_true rfl)⟩) hP hD hS hA [] [0, 1] rfl rfl rfl (fun r_9 u_9 H locs hw_9 hP hD hS _ => ?_)
            obtain ⟨rfl, rfl⟩ := hw_9
            have hP : WP Γ [[(a, moE r i)], [((r 9), .inl (Γ.2.1 0, 50, .inl t))]] H := hP
            have hD : WD A [[(a, moE r i)], [((r 9), .inl (Γ.2.1 0, 50, .inl t))]] := hD
            refine W.eq (g2 := F0 mi_ 45 ls ([.ref (adK Γ 33), .int (t (fr + j))])) rfl ?_
            refine lv_iload hx hb dX4_isWord_45 (lv_at hl 0 rfl) ?_
            refine lv_iload_n hx hb dX4_isWord_47 rfl (lv_at hl 3 rfl) ?_
            refine lv_isub hx hb dX4_isWord_48 ?_
            refine b_top (nI_subE (a := fr + j) (b := fr) (c := j) rfl rfl (by first | omega | rfl)) ?_
            refine b_calli (br := [[(a, moE r i)], [((r 9), .inl (Γ.2.1 0, 50, .inl t))]]) (b_runV ⟨hx, hb, hml, hown, hts⟩ (mt_Str_charAt_0 l Γ _ (adK Γ 33) (adV Γ 33) 0 0 5 (fun j => (str_by 33).getD j 0) j (by omega) (by omega)) (lw_V q2177 q1481 q1482 q71 q1483) rfl rfl 1 (by decide +kernel) ⟨(Nat.le_of_ble_eq_true rfl), (Nat.le_of_ble_eq_true rfl)⟩ (c_pre hP hD hS hA hK hE [] rfl rfl (hE.str hS (bFree hD hS hA [] rfl) 33 (by decide))) (recv_ro (b := adK Γ 33) (fs := [.ref (adV Γ 33), .int 0, .int 0, .int 0]) hK (hE.str hS (fun _ h => h) 33 (by decide) (strO Γ 33) (by simp))) rfl hl.1 rfl (Nat.le_of_ble_eq_true rfl) dX4_isWord_49 ⟨(Nat.le_of_ble_eq_true rfl), (Nat.le_of_ble_eq_true rfl)⟩) hP hD hS hA [] [0, 1] rfl rfl rfl (fun r_10 u_10 H locs hw_10 hP hD hS _ => ?_)
            obtain ⟨rfl, rfl⟩ := hw_10
            have hP : WP Γ [[(a, moE r i)], [((r 9), .inl (Γ.2.1 0, 50, .inl t))]] H := hP
            have hD : WD A [[(a, moE r i)], [((r 9), .inl (Γ.2.1 0, 50, .inl t))]] := hD
            refine lv_icmp_ne (tgt := 59) hx hb dX4_isWord_52 (by decide) (fun c_11 => ?_) (fun c_11 => ?_)
            · -- 52 taken
              refine lv_iconst (v := 0) hx hb dX4_isWord_59 (by decide) ?_
              refine b_top (show 0 = eqW t fr 33 (j + 1) from by rw [eqW, if_neg c_8, if_neg c_11]) ?_
              refine lv_istore (lv' := [(4, .int (eqW t fr 33 (j + 1))), (5, .int (nI (fr + j))), (0, .ref a), (1, .int (nI fr)), (2, .int (nI to)), (3, .int 2)]) hx hb dX4_isWord_60 hl (by decide) rfl (fun ls hl => ?_)
              refine lv_iinc (v := (nI (fr + j + 1))) (lv' := [(5, .int (nI (fr + j + 1))), (4, .int (eqW t fr 33 (j + 1))), (0, .ref a), (1, .int (nI fr)), (2, .int (nI to)), (3, .int 2)]) hx hb dX4_isWord_62 hl (k := 1) rfl (nI_addE (a := fr + j) (b := 1) (c := fr + j + 1) rfl rfl (by first | omega | rfl)) (by decide) rfl (fun ls hl => ?_)
              refine lv_goto (tgt := 23) hx hb dX4_isWord_65 (by decide) ?_
              exact ih (j + 1) (by omega) (by omega) _ _ _ hP hD hS (lv_sub hl [0, 1, 2, 3, 4, 5] rfl)
            · -- 52 not taken
              refine lv_iconst (v := 1) hx hb dX4_isWord_55 (by decide) ?_
              refine lv_goto (tgt := 60) hx hb dX4_isWord_56 (by decide) ?_
              refine b_top (show 1 = eqW t fr 33 (j + 1) from by rw [eqW, if_neg c_8, if_pos c_11]) ?_
              refine lv_istore (lv' := [(4, .int (eqW t fr 33 (j + 1))), (5, .int (nI (fr + j))), (0, .ref a), (1, .int (nI fr)), (2, .int (nI to)), (3, .int 2)]) hx hb dX4_isWord_60 hl (by decide) rfl (fun ls hl => ?_)
              refine lv_iinc (v := (nI (fr + j + 1))) (lv' := [(5, .int (nI (fr + j + 1))), (4, .int (eqW t fr 33 (j + 1))), (0, .ref a), (1, .int (nI fr)), (2, .int (nI to)), (3, .int 2)]) hx hb dX4_isWord_62 hl (k := 1) rfl (nI_addE (a := fr + j) (b := 1) (c := fr + j + 1) rfl rfl (by first | omega | rfl)) (by decide) rfl (fun ls hl => ?_)
              refine lv_goto (tgt := 23) hx hb dX4_isWord_65 (by decide) ?_
              exact ih (j + 1) (by omega) (by omega) _ _ _ hP hD hS (lv_sub hl [0, 1, 2, 3, 4, 5] rfl)
    exact loop_6 ((to - (fr + 0)) + 1) 0 (Nat.lt_succ_self _) (by omega) _ _ _ hP hD hS (lv_sub hl [0, 1, 2, 3, 4, 5] rfl)
set_option maxHeartbeats 4000000 in
set_option maxRecDepth 100000 in
theorem mt_Mo_isWord_3 (l : Launch) (Γ : GE) (sz : Nat) (a : Nat) (r : Nat → Nat) (i : Nat → Int32) (t : Nat → Int32) (fr : Nat) (to : Nat) (hft : fr ≤ to) (hto : to ≤ 50) : KM l yX4_isWord cX4_isWord 6 (some FieldType.boolean) Γ 4 85 0 0 [.ref a, .int (nI fr), .int (nI to), .int 3] [[(a, moE r i)], [((r 9), .inl (Γ.2.1 0, 50, .inl t))]] [] sz (Qi Γ (fun r_ u_ => r_ = (isW t fr to 34 3) ∧ u_ = [[(a, moE r i)], [((r 9), .inl (Γ.2.1 0, 50, .inl t))]])) := by
  refine K_intro (by decide) (Nat.le_of_ble_eq_true rfl) ?_
  intro pr_ ev_ s mi_ below meth cd_ A ls hx hb hr hml hown hts hlocks hname hK hE hRo hP hD hA hS hsz hl
  have hl : lv_has ls 6 [(0, .ref a), (1, .int (nI fr)), (2, .int (nI to)), (3, .int 3)] := hl
  have hown : s.vm.findClass RX4 = some mi_.cls := hown
  refine lv_iload_n hx hb dX4_isWord_0 rfl (lv_at hl 2 rfl) ?_
  refine lv_iload_n hx hb dX4_isWord_1 rfl (lv_at hl 1 rfl) ?_
  refine lv_isub hx hb dX4_isWord_2 ?_
  refine b_top (nI_subE (a := to) (b := fr) (c := to - fr) rfl rfl (by omega)) ?_
  refine lv_iload_n hx hb dX4_isWord_3 rfl (lv_at hl 3 rfl) ?_
  refine b_callq (br := [[(a, moE r i)], [((r 9), .inl (Γ.2.1 0, 50, .inl t))]]) (b_runS ⟨hx, hb, hml, hown, hts⟩ (mt_Mo_word_3 l Γ _ ) (lw_S q2167 q2168 q73 q2169) rfl rfl 1 (by decide +kernel) ⟨(Nat.le_of_ble_eq_true rfl), (Nat.le_of_ble_eq_true rfl)⟩ (c_pre hP hD hS hA hK hE [] rfl rfl ro_nil) rfl hl.1 rfl (Nat.le_of_ble_eq_true rfl) dX4_isWord_4 ⟨(Nat.le_of_ble_eq_true rfl), (Nat.le_of_ble_eq_true rfl)⟩) hP hD hS hA [] [0, 1] rfl rfl rfl (fun r_1 u_1 H locs hw_1 hP hD hS _ => ?_)
  obtain ⟨rfl, rfl⟩ := hw_1
  have hP : WP Γ [[(a, moE r i)], [((r 9), .inl (Γ.2.1 0, 50, .inl t))]] H := hP
  have hD : WD A [[(a, moE r i)], [((r 9), .inl (Γ.2.1 0, 50, .inl t))]] := hD
  refine W.eq (g2 := F0 mi_ 7 ls ([.ref (adK Γ 34), .int (nI ((to - fr)))])) rfl ?_
  refine b_calli (br := [[(a, moE r i)], [((r 9), .inl (Γ.2.1 0, 50, .inl t))]]) (b_runV ⟨hx, hb, hml, hown, hts⟩ (mt_Str_length_0 l Γ _ (adK Γ 34) (adV Γ 34) 0 0 3 (fun j => (str_by 34).getD j 0) (by omega)) (lw_V q2176 q666 q667 q71 q668) rfl rfl 0 (by decide +kernel) ⟨(Nat.le_of_ble_eq_true rfl), (Nat.le_of_ble_eq_true rfl)⟩ (c_pre hP hD hS hA hK hE [] rfl rfl (hE.str hS (bFree hD hS hA [] rfl) 34 (by decide))) (recv_ro (b := adK Γ 34) (fs := [.ref (adV Γ 34), .int 0, .int 0, .int 0]) hK (hE.str hS (fun _ h => h) 34 (by decide) (strO Γ 34) (by simp))) rfl hl.1 rfl (Nat.le_of_ble_eq_true rfl) dX4_isWord_7 ⟨(Nat.le_of_ble_eq_true rfl), (Nat.le_of_ble_eq_true rfl)⟩) hP hD hS hA [] [0, 1] rfl rfl rfl (fun r_2 u_2 H locs hw_2 hP hD hS _ => ?_)
  obtain ⟨rfl, rfl⟩ := hw_2
  have hP : WP Γ [[(a, moE r i)], [((r 9), .inl (Γ.2.1 0, 50, .inl t))]] H := hP
  have hD : WD A [[(a, moE r i)], [((r 9), .inl (Γ.2.1 0, 50, .inl t))]] := hD
  refine lv_icmp_ne (tgt := 17) hx hb dX4_isWord_10 (by decide) (fun c_3 => ?_) (fun c_3 => ?_)
  · -- 10 taken
    have n_3 : ¬ ((to - fr) = 3) := fun h => c_3 ((nI_eq (a := (to - fr)) (b := 3) (by omega) (by omega)).mpr h)
    refine lv_iconst (v := 0) hx hb dX4_isWord_17 (by decide) ?_
    refine lv_istore (lv' := [(4, .int 0), (0, .ref a), (1, .int (nI fr)), (2, .int (nI to)), (3, .int 3)]) hx hb dX4_isWord_18 hl (by decide) rfl (fun ls hl => ?_)
    have hto2 : ¬ to = fr + 3 := by omega
    refine lv_iload_n hx hb dX4_isWord_20 rfl (lv_at hl 2 rfl) ?_
    refine lv_istore (lv' := [(5, .int (nI fr)), (4, .int 0), (0, .ref a), (1, .int (nI fr)), (2, .int (nI to)), (3, .int 3)]) hx hb dX4_isWord_21 hl (by decide) rfl (fun ls hl => ?_)
    refine lv_iload hx hb dX4_isWord_23 (lv_at hl 0 rfl) ?_
    refine lv_iload_n hx hb dX4_isWord_25 rfl (lv_at hl 4 rfl) ?_
    refine lv_icmp_ge (tgt := 68) hx hb dX4_isWord_26 (by decide) (fun c_4 => ?_) (fun c_4 => ?_)
    · -- 26 taken
      have n_4 : to ≤ fr := (nI_leI (by omega) (by omega)).mp (show nI to ≤ nI fr from c_4)
      have m_4 : ¬ (fr < to) := by omega
      have d_4 := Int32.not_lt.mpr c_4
      refine lv_iload hx hb dX4_isWord_68 (lv_at hl 1 rfl) ?_
      exact b_zret hx hb hr hlocks hP hD hS (Nat.le_of_ble_eq_true rfl) (Nat.le_of_ble_eq_true rfl) rfl ⟨(by rw [isW, if_neg hto2]), (by first | with_reducible rfl | (simp [n_3, n_4, m_4, d_4]; done) | rfl)⟩ dX4_isWord_70
    · -- 26 not taken
      have n_4 : ¬ (to ≤ fr) := fun h => c_4 ((nI_leI (a := to) (b := fr) (by omega) (by omega)).mpr h)
      have m_4 : fr < to := by omega
      have d_4 := Int32.not_le.mp c_4
      refine lv_iload hx hb dX4_isWord_29 (lv_at hl 1 rfl) ?_
      refine lv_if_eq (tgt := 68) hx hb dX4_isWord_31 (by decide) (fun c_5 => ?_) (fun c_5 => ?_)
      · -- 31 taken
        have n_5 : 0 = 0 := (nI_eq (by omega) (by omega)).mp (show nI 0 = nI 0 from c_5)
        refine lv_iload hx hb dX4_isWord_68 (lv_at hl 1 rfl) ?_
        exact b_zret hx hb hr hlocks hP hD hS (Nat.le_of_ble_eq_true rfl) (Nat.le_of_ble_eq_true rfl) rfl ⟨(by rw [isW, if_neg hto2]), (by first | with_reducible rfl | (simp [n_3, n_4, m_4, d_4, n_5]; done) | rfl)⟩ dX4_isWord_70
      · -- 31 not taken
        have n_5 : ¬ (0 = 0) := fun h => c_5 ((nI_eq (a := 0) (b := 0) (by omega) (by omega)).mpr h)
        exact absurd n_5 (by omega)
  · -- 10 not taken
    have n_3 : (to - fr) = 3 := (nI_eq (by omega) (by omega)).mp (show nI ((to - fr)) = nI 3 from c_3)
    refine lv_iconst (v := 1) hx hb dX4_isWord_13 (by decide) ?_
    refine lv_goto (tgt := 18) hx hb dX4_isWord_14 (by decide) ?_
    refine lv_istore (lv' := [(4, .int 1), (0, .ref a), (1, .int (nI fr)), (2, .int (nI to)), (3, .int 3)]) hx hb dX4_isWord_18 hl (by decide) rfl (fun ls hl => ?_)
    have hto2 : to = fr + 3 := by omega
    refine lv_iload_n hx hb dX4_isWord_20 rfl (lv_at hl 2 rfl) ?_
    refine lv_istore (lv' := [(5, .int (nI fr)), (4, .int 1), (0, .ref a), (1, .int (nI fr)), (2, .int (nI to)), (3, .int 3)]) hx hb dX4_isWord_21 hl (by decide) rfl (fun ls hl => ?_)
    have hl : lv_has ls 6 [(5, .int (nI fr)), (4, .int (eqW t fr 34 0)), (0, .ref a), (1, .int (nI fr)), (2, .int (nI to)), (3, .int 3)] := hl
    have loop_6 : ∀ (fuel : Nat) (j : Nat), to - (fr + j) < fuel → (fr + j ≤ to) → ∀ (H : Heap) (locs : List Loc) (ls : Array Slot), WP Γ [[(a, moE r i)], [((r 9), .inl (Γ.2.1 0, 50, .inl t))]] H → WD A [[(a, moE r i)], [((r 9), .inl (Γ.2.1 0, 50, .inl t))]] → va_S A s.heap H locs → lv_has ls 6 [(5, .int (nI (fr + j))), (4, .int (eqW t fr 34 j)), (0, .ref a), (1, .int (nI fr)), (2, .int (nI to)), (3, .int 3)] → W pr_ l ev_ { frames := 4, cells := 0, slots := 0, locals := 85 } s mi_ ([.ref a, .int (nI fr), .int (nI to), .int 3] : List Value).toArray below meth cd_ H locs 0 0 (MQ below (Qi Γ (fun r_ u_ => r_ = (isW t fr to 34 3) ∧ u_ = [[(a, moE r i)], [((r 9), .inl (Γ.2.1 0, 50, .inl t))]]) A) ([.ref a, .int (nI fr), .int (nI to), .int 3] : List Value).toArray s 0 0 A) (F0 mi_ 23 ls ([])) := by
      intro fuel
      induction fuel with
      | zero => intro j hfuel; exact absurd hfuel (Nat.not_lt_zero _)
      | succ fuel ih =>
        intro j hfuel hj H locs ls hP hD hS hl
        refine lv_iload hx hb dX4_isWord_23 (lv_at hl 0 rfl) ?_
        refine lv_iload_n hx hb dX4_isWord_25 rfl (lv_at hl 4 rfl) ?_
        refine lv_icmp_ge (tgt := 68) hx hb dX4_isWord_26 (by decide) (fun c_7 => ?_) (fun c_7 => ?_)
        · -- 26 taken
          have n_7 : to ≤ fr + j := (nI_leI (by omega) (by omega)).mp (show nI to ≤ nI (fr + j) from c_7)
          have m_7 : ¬ (fr + j < to) := by omega
          have d_7 := Int32.not_lt.mpr c_7
          refine lv_iload hx hb dX4_isWord_68 (lv_at hl 1 rfl) ?_
          exact b_zret hx hb hr hlocks hP hD hS (Nat.le_of_ble_eq_true rfl) (Nat.le_of_ble_eq_true rfl) (by first | rfl | (rcases eqW_01 t fr 34 j with e9 | e9 <;> rw [e9] <;> rfl)) ⟨(by rw [isW, if_pos hto2]; first | (rw [show j = 3 by omega]) | (rw [hto2, show 3 = j + (3 - j) by omega]; exact (eqW_zero hto2 _).symm)), (by first | with_reducible rfl | (simp [n_3, n_7, m_7, d_7]; done) | (subst n_3; simp [n_7, m_7, d_7]; done) | rfl)⟩ dX4_isWord_70
        · -- 26 not taken
          have n_7 : ¬ (to ≤ fr + j) := fun h => c_7 ((nI_leI (a := to) (b := fr + j) (by omega) (by omega)).mpr h)
          have m_7 : fr + j < to := by omega
          have d_7 := Int32.not_le.mp c_7
          refine lv_iload hx hb dX4_isWord_29 (lv_at hl 1 rfl) ?_
          refine lv_if_eq (tgt := 68) hx hb dX4_isWord_31 (by decide) (fun c_8 => ?_) (fun c_8 => ?_)
          · -- 31 taken
            refine lv_iload hx hb dX4_isWord_68 (lv_at hl 1 rfl) ?_
            exact b_zret hx hb hr hlocks hP hD hS (Nat.le_of_ble_eq_true rfl) (Nat.le_of_ble_eq_true rfl) (by first | rfl | (rcases eqW_01 t fr 34 j with e9 | e9 <;> rw [e9] <;> rfl)) ⟨(by rw [isW, if_pos hto2]; first | (rw [show j = 3 by omega]) | (rw [c_8, show 3 = j + (3 - j) by omega]; exact (eqW_zero c_8 _).symm)), (by first | with_reducible rfl | (simp [n_3, n_7, m_7, d_7, c_8]; done) | (subst n_3; simp [n_7, m_7, d_7, c_8]; done) | rfl)⟩ dX4_isWord_70
          · -- 31 not taken
            refine lv_aload_n hx hb dX4_isWord_34 rfl (lv_at hl 2 rfl) ?_
            refine b_get (C := RX4) (T := TX4) (N := 16) (v := .ref (r 9)) hx hb hts in_X4 hown hK (b_at (k := 0) hP rfl) rfl 9 (by decide) q1816 (fun _ h9 => h9) rfl dX4_isWord_35 ?_
            refine lv_iload hx hb dX4_isWord_38 (lv_at hl 0 rfl) ?_
            refine b_iald hx hb hK (b_at (k := 1) hP rfl) (fr + j) rfl (by omega) (by omega) dX4_isWord_40 ?_
            refine lv_iload_n hx hb dX4_isWord_41 rfl (lv_at hl 5 rfl) ?_
            refine b_callq (br := [[(a, moE r i)], [((r 9), .inl (Γ.2.1 0, 50, .inl t))]]) (b_runS ⟨hx, hb, hml, hown, hts⟩ (mt_Mo_word_3 l Γ _ ) (lw_S q2167 q2168 q73 q2169) rfl rfl 1 (by decide +kernel) ⟨(Nat.le_of_ble_eq_true rfl), (Nat.le_of_ble_eq_true rfl)⟩ (c_pre hP hD hS hA hK hE [] rfl rfl ro_nil) rfl hl.1 rfl (Nat.le_of_ble_eq_true rfl) dX4_isWord_42 ⟨(Nat.le_of_ble_eq_true rfl), (Nat.le_of_ble_eq_true rfl)⟩) hP hD hS hA [] [0, 1] rfl rfl rfl (fun r_9 u_9 H locs hw_9 hP hD hS _ => ?_)
            obtain ⟨rfl, rfl⟩ := hw_9
            have hP : WP Γ [[(a, moE r i)], [((r 9), .inl (Γ.2.1 0, 50, .inl t))]] H := hP
            have hD : WD A [[(a, moE r i)], [((r 9), .inl (Γ.2.1 0, 50, .inl t))]] := hD
            refine W.eq (g2 := F0 mi_ 45 ls ([.ref (adK Γ 34), .int (t (fr + j))])) rfl ?_
            refine lv_iload hx hb dX4_isWord_45 (lv_at hl 0 rfl) ?_
            refine lv_iload_n hx hb dX4_isWord_47 rfl (lv_at hl 3 rfl) ?_
            refine lv_isub hx hb dX4_isWord_48 ?_
            refine b_top (nI_subE (a := fr + j) (b := fr) (c := j) rfl rfl (by first | omega | rfl)) ?_
            refine b_calli (br := [[(a, moE r i)], [((r 9), .inl (Γ.2.1 0, 50, .inl t))]]) (b_runV ⟨hx, hb, hml, hown, hts⟩ (mt_Str_charAt_0 l Γ _ (adK Γ 34) (adV Γ 34) 0 0 3 (fun j => (str_by 34).getD j 0) j (by omega) (by omega)) (lw_V q2177 q1481 q1482 q71 q1483) rfl rfl 1 (by decide +kernel) ⟨(Nat.le_of_ble_eq_true rfl), (Nat.le_of_ble_eq_true rfl)⟩ (c_pre hP hD hS hA hK hE [] rfl rfl (hE.str hS (bFree hD hS hA [] rfl) 34 (by decide))) (recv_ro (b := adK Γ 34) (fs := [.ref (adV Γ 34), .int 0, .int 0, .int 0]) hK (hE.str hS (fun _ h => h) 34 (by decide) (strO Γ 34) (by simp))) rfl hl.1 rfl (Nat.le_of_ble_eq_true rfl) dX4_isWord_49 ⟨(Nat.le_of_ble_eq_true rfl), (Nat.le_of_ble_eq_true rfl)⟩) hP hD hS hA [] [0, 1] rfl rfl rfl (fun r_10 u_10 H locs hw_10 hP hD hS _ => ?_)
            obtain ⟨rfl, rfl⟩ := hw_10
            have hP : WP Γ [[(a, moE r i)], [((r 9), .inl (Γ.2.1 0, 50, .inl t))]] H := hP
            have hD : WD A [[(a, moE r i)], [((r 9), .inl (Γ.2.1 0, 50, .inl t))]] := hD
            refine lv_icmp_ne (tgt := 59) hx hb dX4_isWord_52 (by decide) (fun c_11 => ?_) (fun c_11 => ?_)
            · -- 52 taken
              refine lv_iconst (v := 0) hx hb dX4_isWord_59 (by decide) ?_
              refine b_top (show 0 = eqW t fr 34 (j + 1) from by rw [eqW, if_neg c_8, if_neg c_11]) ?_
              refine lv_istore (lv' := [(4, .int (eqW t fr 34 (j + 1))), (5, .int (nI (fr + j))), (0, .ref a), (1, .int (nI fr)), (2, .int (nI to)), (3, .int 3)]) hx hb dX4_isWord_60 hl (by decide) rfl (fun ls hl => ?_)
              refine lv_iinc (v := (nI (fr + j + 1))) (lv' := [(5, .int (nI (fr + j + 1))), (4, .int (eqW t fr 34 (j + 1))), (0, .ref a), (1, .int (nI fr)), (2, .int (nI to)), (3, .int 3)]) hx hb dX4_isWord_62 hl (k := 1) rfl (nI_addE (a := fr + j) (b := 1) (c := fr + j + 1) rfl rfl (by first | omega | rfl)) (by decide) rfl (fun ls hl => ?_)
              refine lv_goto (tgt := 23) hx hb dX4_isWord_65 (by decide) ?_
              exact ih (j + 1) (by omega) (by omega) _ _ _ hP hD hS (lv_sub hl [0, 1, 2, 3, 4, 5] rfl)
            · -- 52 not taken
              refine lv_iconst (v := 1) hx hb dX4_isWord_55 (by decide) ?_
              refine lv_goto (tgt := 60) hx hb dX4_isWord_56 (by decide) ?_
              refine b_top (show 1 = eqW t fr 34 (j + 1) from by rw [eqW, if_neg c_8, if_pos c_11]) ?_
              refine lv_istore (lv' := [(4, .int (eqW t fr 34 (j + 1))), (5, .int (nI (fr + j))), (0, .ref a), (1, .int (nI fr)), (2, .int (nI to)), (3, .int 3)]) hx hb dX4_isWord_60 hl (by decide) rfl (fun ls hl => ?_)
              refine lv_iinc (v := (nI (fr + j + 1))) (lv' := [(5, .int (nI (fr + j + 1))), (4, .int (eqW t fr 34 (j + 1))), (0, .ref a), (1, .int (nI fr)), (2, .int (nI to)), (3, .int 3)]) hx hb dX4_isWord_62 hl (k := 1) rfl (nI_addE (a := fr + j) (b := 1) (c := fr + j + 1) rfl rfl (by first | omega | rfl)) (by decide) rfl (fun ls hl => ?_)
              refine lv_goto (tgt := 23) hx hb dX4_isWord_65 (by decide) ?_
              exact ih (j + 1) (by omega) (by omega) _ _ _ hP hD hS (lv_sub hl [0, 1, 2, 3, 4, 5] rfl)
    exact loop_6 ((to - (fr + 0)) + 1) 0 (Nat.lt_succ_self _) (by omega) _ _ _ hP hD hS (lv_sub hl [0, 1, 2, 3, 4, 5] rfl)
set_option maxHeartbeats 4000000 in
set_option maxRecDepth 100000 in
theorem mt_Mo_isWord_4 (l : Launch) (Γ : GE) (sz : Nat) (a : Nat) (r : Nat → Nat) (i : Nat → Int32) (t : Nat → Int32) (fr : Nat) (to : Nat) (hft : fr ≤ to) (hto : to ≤ 50) : KM l yX4_isWord cX4_isWord 6 (some FieldType.boolean) Γ 4 85 0 0 [.ref a, .int (nI fr), .int (nI to), .int 4] [[(a, moE r i)], [((r 9), .inl (Γ.2.1 0, 50, .inl t))]] [] sz (Qi Γ (fun r_ u_ => r_ = (isW t fr to 35 4) ∧ u_ = [[(a, moE r i)], [((r 9), .inl (Γ.2.1 0, 50, .inl t))]])) := by
  refine K_intro (by decide) (Nat.le_of_ble_eq_true rfl) ?_
  intro pr_ ev_ s mi_ below meth cd_ A ls hx hb hr hml hown hts hlocks hname hK hE hRo hP hD hA hS hsz hl
  have hl : lv_has ls 6 [(0, .ref a), (1, .int (nI fr)), (2, .int (nI to)), (3, .int 4)] := hl
  have hown : s.vm.findClass RX4 = some mi_.cls := hown
  refine lv_iload_n hx hb dX4_isWord_0 rfl (lv_at hl 2 rfl) ?_
  refine lv_iload_n hx hb dX4_isWord_1 rfl (lv_at hl 1 rfl) ?_
  refine lv_isub hx hb dX4_isWord_2 ?_
  refine b_top (nI_subE (a := to) (b := fr) (c := to - fr) rfl rfl (by omega)) ?_
  refine lv_iload_n hx hb dX4_isWord_3 rfl (lv_at hl 3 rfl) ?_
  refine b_callq (br := [[(a, moE r i)], [((r 9), .inl (Γ.2.1 0, 50, .inl t))]]) (b_runS ⟨hx, hb, hml, hown, hts⟩ (mt_Mo_word_4 l Γ _ ) (lw_S q2167 q2168 q73 q2169) rfl rfl 1 (by decide +kernel) ⟨(Nat.le_of_ble_eq_true rfl), (Nat.le_of_ble_eq_true rfl)⟩ (c_pre hP hD hS hA hK hE [] rfl rfl ro_nil) rfl hl.1 rfl (Nat.le_of_ble_eq_true rfl) dX4_isWord_4 ⟨(Nat.le_of_ble_eq_true rfl), (Nat.le_of_ble_eq_true rfl)⟩) hP hD hS hA [] [0, 1] rfl rfl rfl (fun r_1 u_1 H locs hw_1 hP hD hS _ => ?_)
  obtain ⟨rfl, rfl⟩ := hw_1
  have hP : WP Γ [[(a, moE r i)], [((r 9), .inl (Γ.2.1 0, 50, .inl t))]] H := hP
  have hD : WD A [[(a, moE r i)], [((r 9), .inl (Γ.2.1 0, 50, .inl t))]] := hD
  refine W.eq (g2 := F0 mi_ 7 ls ([.ref (adK Γ 35), .int (nI ((to - fr)))])) rfl ?_
  refine b_calli (br := [[(a, moE r i)], [((r 9), .inl (Γ.2.1 0, 50, .inl t))]]) (b_runV ⟨hx, hb, hml, hown, hts⟩ (mt_Str_length_0 l Γ _ (adK Γ 35) (adV Γ 35) 0 0 4 (fun j => (str_by 35).getD j 0) (by omega)) (lw_V q2176 q666 q667 q71 q668) rfl rfl 0 (by decide +kernel) ⟨(Nat.le_of_ble_eq_true rfl), (Nat.le_of_ble_eq_true rfl)⟩ (c_pre hP hD hS hA hK hE [] rfl rfl (hE.str hS (bFree hD hS hA [] rfl) 35 (by decide))) (recv_ro (b := adK Γ 35) (fs := [.ref (adV Γ 35), .int 0, .int 0, .int 0]) hK (hE.str hS (fun _ h => h) 35 (by decide) (strO Γ 35) (by simp))) rfl hl.1 rfl (Nat.le_of_ble_eq_true rfl) dX4_isWord_7 ⟨(Nat.le_of_ble_eq_true rfl), (Nat.le_of_ble_eq_true rfl)⟩) hP hD hS hA [] [0, 1] rfl rfl rfl (fun r_2 u_2 H locs hw_2 hP hD hS _ => ?_)
  obtain ⟨rfl, rfl⟩ := hw_2
  have hP : WP Γ [[(a, moE r i)], [((r 9), .inl (Γ.2.1 0, 50, .inl t))]] H := hP
  have hD : WD A [[(a, moE r i)], [((r 9), .inl (Γ.2.1 0, 50, .inl t))]] := hD
  refine lv_icmp_ne (tgt := 17) hx hb dX4_isWord_10 (by decide) (fun c_3 => ?_) (fun c_3 => ?_)
  · -- 10 taken
    have n_3 : ¬ ((to - fr) = 4) := fun h => c_3 ((nI_eq (a := (to - fr)) (b := 4) (by omega) (by omega)).mpr h)
    refine lv_iconst (v := 0) hx hb dX4_isWord_17 (by decide) ?_
    refine lv_istore (lv' := [(4, .int 0), (0, .ref a), (1, .int (nI fr)), (2, .int (nI to)), (3, .int 4)]) hx hb dX4_isWord_18 hl (by decide) rfl (fun ls hl => ?_)
    have hto2 : ¬ to = fr + 4 := by omega
    refine lv_iload_n hx hb dX4_isWord_20 rfl (lv_at hl 2 rfl) ?_
    refine lv_istore (lv' := [(5, .int (nI fr)), (4, .int 0), (0, .ref a), (1, .int (nI fr)), (2, .int (nI to)), (3, .int 4)]) hx hb dX4_isWord_21 hl (by decide) rfl (fun ls hl => ?_)
    refine lv_iload hx hb dX4_isWord_23 (lv_at hl 0 rfl) ?_
    refine lv_iload_n hx hb dX4_isWord_25 rfl (lv_at hl 4 rfl) ?_
    refine lv_icmp_ge (tgt := 68) hx hb dX4_isWord_26 (by decide) (fun c_4 => ?_) (fun c_4 => ?_)
    · -- 26 taken
      have n_4 : to ≤ fr := (nI_leI (by omega) (by omega)).mp (show nI to ≤ nI fr from c_4)
      have m_4 : ¬ (fr < to) := by omega
      have d_4 := Int32.not_lt.mpr c_4
      refine lv_iload hx hb dX4_isWord_68 (lv_at hl 1 rfl) ?_
      exact b_zret hx hb hr hlocks hP hD hS (Nat.le_of_ble_eq_true rfl) (Nat.le_of_ble_eq_true rfl) rfl ⟨(by rw [isW, if_neg hto2]), (by first | with_reducible rfl | (simp [n_3, n_4, m_4, d_4]; done) | rfl)⟩ dX4_isWord_70
    · -- 26 not taken
      have n_4 : ¬ (to ≤ fr) := fun h => c_4 ((nI_leI (a := to) (b := fr) (by omega) (by omega)).mpr h)
      have m_4 : fr < to := by omega
      have d_4 := Int32.not_le.mp c_4
      refine lv_iload hx hb dX4_isWord_29 (lv_at hl 1 rfl) ?_
      refine lv_if_eq (tgt := 68) hx hb dX4_isWord_31 (by decide) (fun c_5 => ?_) (fun c_5 => ?_)
      · -- 31 taken
        have n_5 : 0 = 0 := (nI_eq (by omega) (by omega)).mp (show nI 0 = nI 0 from c_5)
        refine lv_iload hx hb dX4_isWord_68 (lv_at hl 1 rfl) ?_
        exact b_zret hx hb hr hlocks hP hD hS (Nat.le_of_ble_eq_true rfl) (Nat.le_of_ble_eq_true rfl) rfl ⟨(by rw [isW, if_neg hto2]), (by first | with_reducible rfl | (simp [n_3, n_4, m_4, d_4, n_5]; done) | rfl)⟩ dX4_isWord_70
      · -- 31 not taken
        have n_5 : ¬ (0 = 0) := fun h => c_5 ((nI_eq (a := 0) (b := 0) (by omega) (by omega)).mpr h)
        exact absurd n_5 (by omega)
  · -- 10 not taken
    have n_3 : (to - fr) = 4 := (nI_eq (by omega) (by omega)).mp (show nI ((to - fr)) = nI 4 from c_3)
    refine lv_iconst (v := 1) hx hb dX4_isWord_13 (by decide) ?_
    refine lv_goto (tgt := 18) hx hb dX4_isWord_14 (by decide) ?_
    refine lv_istore (lv' := [(4, .int 1), (0, .ref a), (1, .int (nI fr)), (2, .int (nI to)), (3, .int 4)]) hx hb dX4_isWord_18 hl (by decide) rfl (fun ls hl => ?_)
    have hto2 : to = fr + 4 := by omega
    refine lv_iload_n hx hb dX4_isWord_20 rfl (lv_at hl 2 rfl) ?_
    refine lv_istore (lv' := [(5, .int (nI fr)), (4, .int 1), (0, .ref a), (1, .int (nI fr)), (2, .int (nI to)), (3, .int 4)]) hx hb dX4_isWord_21 hl (by decide) rfl (fun ls hl => ?_)
    have hl : lv_has ls 6 [(5, .int (nI fr)), (4, .int (eqW t fr 35 0)), (0, .ref a), (1, .int (nI fr)), (2, .int (nI to)), (3, .int 4)] := hl
    have loop_6 : ∀ (fuel : Nat) (j : Nat), to - (fr + j) < fuel → (fr + j ≤ to) → ∀ (H : Heap) (locs : List Loc) (ls : Array Slot), WP Γ [[(a, moE r i)], [((r 9), .inl (Γ.2.1 0, 50, .inl t))]] H → WD A [[(a, moE r i)], [((r 9), .inl (Γ.2.1 0, 50, .inl t))]] → va_S A s.heap H locs → lv_has ls 6 [(5, .int (nI (fr + j))), (4, .int (eqW t fr 35 j)), (0, .ref a), (1, .int (nI fr)), (2, .int (nI to)), (3, .int 4)] → W pr_ l ev_ { frames := 4, cells := 0, slots := 0, locals := 85 } s mi_ ([.ref a, .int (nI fr), .int (nI to), .int 4] : List Value).toArray below meth cd_ H locs 0 0 (MQ below (Qi Γ (fun r_ u_ => r_ = (isW t fr to 35 4) ∧ u_ = [[(a, moE r i)], [((r 9), .inl (Γ.2.1 0, 50, .inl t))]]) A) ([.ref a, .int (nI fr), .int (nI to), .int 4] : List Value).toArray s 0 0 A) (F0 mi_ 23 ls ([])) := by
      intro fuel
      induction fuel with
      | zero => intro j hfuel; exact absurd hfuel (Nat.not_lt_zero _)
      | succ fuel ih =>
        intro j hfuel hj H locs ls hP hD hS hl
        refine lv_iload hx hb dX4_isWord_23 (lv_at hl 0 rfl) ?_
        refine lv_iload_n hx hb dX4_isWord_25 rfl (lv_at hl 4 rfl) ?_
        refine lv_icmp_ge (tgt := 68) hx hb dX4_isWord_26 (by decide) (fun c_7 => ?_) (fun c_7 => ?_)
        · -- 26 taken
          have n_7 : to ≤ fr + j := (nI_leI (by omega) (by omega)).mp (show nI to ≤ nI (fr + j) from c_7)
          have m_7 : ¬ (fr + j < to) := by omega
          have d_7 := Int32.not_lt.mpr c_7
          refine lv_iload hx hb dX4_isWord_68 (lv_at hl 1 rfl) ?_
          exact b_zret hx hb hr hlocks hP hD hS (Nat.le_of_ble_eq_true rfl) (Nat.le_of_ble_eq_true rfl) (by first | rfl | (rcases eqW_01 t fr 35 j with e9 | e9 <;> rw [e9] <;> rfl)) ⟨(by rw [isW, if_pos hto2]; first | (rw [show j = 4 by omega]) | (rw [hto2, show 4 = j + (4 - j) by omega]; exact (eqW_zero hto2 _).symm)), (by first | with_reducible rfl | (simp [n_3, n_7, m_7, d_7]; done) | (subst n_3; simp [n_7, m_7, d_7]; done) | rfl)⟩ dX4_isWord_70
        · -- 26 not taken
          have n_7 : ¬ (to ≤ fr + j) := fun h => c_7 ((nI_leI (a := to) (b := fr + j) (by omega) (by omega)).mpr h)
          have m_7 : fr + j < to := by omega
          have d_7 := Int32.not_le.mp c_7
          refine lv_iload hx hb dX4_isWord_29 (lv_at hl 1 rfl) ?_
          refine lv_if_eq (tgt := 68) hx hb dX4_isWord_31 (by decide) (fun c_8 => ?_) (fun c_8 => ?_)
          · -- 31 taken
            refine lv_iload hx hb dX4_isWord_68 (lv_at hl 1 rfl) ?_
            exact b_zret hx hb hr hlocks hP hD hS (Nat.le_of_ble_eq_true rfl) (Nat.le_of_ble_eq_true rfl) (by first | rfl | (rcases eqW_01 t fr 35 j with e9 | e9 <;> rw [e9] <;> rfl)) ⟨(by rw [isW, if_pos hto2]; first | (rw [show j = 4 by omega]) | (rw [c_8, show 4 = j + (4 - j) by omega]; exact (eqW_zero c_8 _).symm)), (by first | with_reducible rfl | (simp [n_3, n_7, m_7, d_7, c_8]; done) | (subst n_3; simp [n_7, m_7, d_7, c_8]; done) | rfl)⟩ dX4_isWord_70
          · -- 31 not taken
            refine lv_aload_n hx hb dX4_isWord_34 rfl (lv_at hl 2 rfl) ?_
            refine b_get (C := RX4) (T := TX4) (N := 16) (v := .ref (r 9)) hx hb hts in_X4 hown hK (b_at (k := 0) hP rfl) rfl 9 (by decide) q1816 (fun _ h9 => h9) rfl dX4_isWord_35 ?_
            refine lv_iload hx hb dX4_isWord_38 (lv_at hl 0 rfl) ?_
            refine b_iald hx hb hK (b_at (k := 1) hP rfl) (fr + j) rfl (by omega) (by omega) dX4_isWord_40 ?_
            refine lv_iload_n hx hb dX4_isWord_41 rfl (lv_at hl 5 rfl) ?_
            refine b_callq (br := [[(a, moE r i)], [((r 9), .inl (Γ.2.1 0, 50, .inl t))]]) (b_runS ⟨hx, hb, hml, hown, hts⟩ (mt_Mo_word_4 l Γ _ ) (lw_S q2167 q2168 q73 q2169) rfl rfl 1 (by decide +kernel) ⟨(Nat.le_of_ble_eq_true rfl), (Nat.le_of_ble_eq_true rfl)⟩ (c_pre hP hD hS hA hK hE [] rfl rfl ro_nil) rfl hl.1 rfl (Nat.le_of_ble_eq_true rfl) dX4_isWord_42 ⟨(Nat.le_of_ble_eq_true rfl), (Nat.le_of_ble_eq_true rfl)⟩) hP hD hS hA [] [0, 1] rfl rfl rfl (fun r_9 u_9 H locs hw_9 hP hD hS _ => ?_)
            obtain ⟨rfl, rfl⟩ := hw_9
            have hP : WP Γ [[(a, moE r i)], [((r 9), .inl (Γ.2.1 0, 50, .inl t))]] H := hP
            have hD : WD A [[(a, moE r i)], [((r 9), .inl (Γ.2.1 0, 50, .inl t))]] := hD
            refine W.eq (g2 := F0 mi_ 45 ls ([.ref (adK Γ 35), .int (t (fr + j))])) rfl ?_
            refine lv_iload hx hb dX4_isWord_45 (lv_at hl 0 rfl) ?_
            refine lv_iload_n hx hb dX4_isWord_47 rfl (lv_at hl 3 rfl) ?_
            refine lv_isub hx hb dX4_isWord_48 ?_
            refine b_top (nI_subE (a := fr + j) (b := fr) (c := j) rfl rfl (by first | omega | rfl)) ?_
            refine b_calli (br := [[(a, moE r i)], [((r 9), .inl (Γ.2.1 0, 50, .inl t))]]) (b_runV ⟨hx, hb, hml, hown, hts⟩ (mt_Str_charAt_0 l Γ _ (adK Γ 35) (adV Γ 35) 0 0 4 (fun j => (str_by 35).getD j 0) j (by omega) (by omega)) (lw_V q2177 q1481 q1482 q71 q1483) rfl rfl 1 (by decide +kernel) ⟨(Nat.le_of_ble_eq_true rfl), (Nat.le_of_ble_eq_true rfl)⟩ (c_pre hP hD hS hA hK hE [] rfl rfl (hE.str hS (bFree hD hS hA [] rfl) 35 (by decide))) (recv_ro (b := adK Γ 35) (fs := [.ref (adV Γ 35), .int 0, .int 0, .int 0]) hK (hE.str hS (fun _ h => h) 35 (by decide) (strO Γ 35) (by simp))) rfl hl.1 rfl (Nat.le_of_ble_eq_true rfl) dX4_isWord_49 ⟨(Nat.le_of_ble_eq_true rfl), (Nat.le_of_ble_eq_true rfl)⟩) hP hD hS hA [] [0, 1] rfl rfl rfl (fun r_10 u_10 H locs hw_10 hP hD hS _ => ?_)
            obtain ⟨rfl, rfl⟩ := hw_10
            have hP : WP Γ [[(a, moE r i)], [((r 9), .inl (Γ.2.1 0, 50, .inl t))]] H := hP
            have hD : WD A [[(a, moE r i)], [((r 9), .inl (Γ.2.1 0, 50, .inl t))]] := hD
            refine lv_icmp_ne (tgt := 59) hx hb dX4_isWord_52 (by decide) (fun c_11 => ?_) (fun c_11 => ?_)
            · -- 52 taken
              refine lv_iconst (v := 0) hx hb dX4_isWord_59 (by decide) ?_
              refine b_top (show 0 = eqW t fr 35 (j + 1) from by rw [eqW, if_neg c_8, if_neg c_11]) ?_
              refine lv_istore (lv' := [(4, .int (eqW t fr 35 (j + 1))), (5, .int (nI (fr + j))), (0, .ref a), (1, .int (nI fr)), (2, .int (nI to)), (3, .int 4)]) hx hb dX4_isWord_60 hl (by decide) rfl (fun ls hl => ?_)
              refine lv_iinc (v := (nI (fr + j + 1))) (lv' := [(5, .int (nI (fr + j + 1))), (4, .int (eqW t fr 35 (j + 1))), (0, .ref a), (1, .int (nI fr)), (2, .int (nI to)), (3, .int 4)]) hx hb dX4_isWord_62 hl (k := 1) rfl (nI_addE (a := fr + j) (b := 1) (c := fr + j + 1) rfl rfl (by first | omega | rfl)) (by decide) rfl (fun ls hl => ?_)
              refine lv_goto (tgt := 23) hx hb dX4_isWord_65 (by decide) ?_
              exact ih (j + 1) (by omega) (by omega) _ _ _ hP hD hS (lv_sub hl [0, 1, 2, 3, 4, 5] rfl)
            · -- 52 not taken
              refine lv_iconst (v := 1) hx hb dX4_isWord_55 (by decide) ?_
              refine lv_goto (tgt := 60) hx hb dX4_isWord_56 (by decide) ?_
              refine b_top (show 1 = eqW t fr 35 (j + 1) from by rw [eqW, if_neg c_8, if_pos c_11]) ?_
              refine lv_istore (lv' := [(4, .int (eqW t fr 35 (j + 1))), (5, .int (nI (fr + j))), (0, .ref a), (1, .int (nI fr)), (2, .int (nI to)), (3, .int 4)]) hx hb dX4_isWord_60 hl (by decide) rfl (fun ls hl => ?_)
              refine lv_iinc (v := (nI (fr + j + 1))) (lv' := [(5, .int (nI (fr + j + 1))), (4, .int (eqW t fr 35 (j + 1))), (0, .ref a), (1, .int (nI fr)), (2, .int (nI to)), (3, .int 4)]) hx hb dX4_isWord_62 hl (k := 1) rfl (nI_addE (a := fr + j) (b := 1) (c := fr + j + 1) rfl rfl (by first | omega | rfl)) (by decide) rfl (fun ls hl => ?_)
              refine lv_goto (tgt := 23) hx hb dX4_isWord_65 (by decide) ?_
              exact ih (j + 1) (by omega) (by omega) _ _ _ hP hD hS (lv_sub hl [0, 1, 2, 3, 4, 5] rfl)
    exact loop_6 ((to - (fr + 0)) + 1) 0 (Nat.lt_succ_self _) (by omega) _ _ _ hP hD hS (lv_sub hl [0, 1, 2, 3, 4, 5] rfl)
set_option maxHeartbeats 4000000 in
set_option maxRecDepth 100000 in
theorem mt_Mo_isWord_5 (l : Launch) (Γ : GE) (sz : Nat) (a : Nat) (r : Nat → Nat) (i : Nat → Int32) (t : Nat → Int32) (fr : Nat) (to : Nat) (hft : fr ≤ to) (hto : to ≤ 50) : KM l yX4_isWord cX4_isWord 6 (some FieldType.boolean) Γ 4 85 0 0 [.ref a, .int (nI fr), .int (nI to), .int 5] [[(a, moE r i)], [((r 9), .inl (Γ.2.1 0, 50, .inl t))]] [] sz (Qi Γ (fun r_ u_ => r_ = (isW t fr to 36 5) ∧ u_ = [[(a, moE r i)], [((r 9), .inl (Γ.2.1 0, 50, .inl t))]])) := by
  refine K_intro (by decide) (Nat.le_of_ble_eq_true rfl) ?_
  intro pr_ ev_ s mi_ below meth cd_ A ls hx hb hr hml hown hts hlocks hname hK hE hRo hP hD hA hS hsz hl
  have hl : lv_has ls 6 [(0, .ref a), (1, .int (nI fr)), (2, .int (nI to)), (3, .int 5)] := hl
  have hown : s.vm.findClass RX4 = some mi_.cls := hown
  refine lv_iload_n hx hb dX4_isWord_0 rfl (lv_at hl 2 rfl) ?_
  refine lv_iload_n hx hb dX4_isWord_1 rfl (lv_at hl 1 rfl) ?_
  refine lv_isub hx hb dX4_isWord_2 ?_
  refine b_top (nI_subE (a := to) (b := fr) (c := to - fr) rfl rfl (by omega)) ?_
  refine lv_iload_n hx hb dX4_isWord_3 rfl (lv_at hl 3 rfl) ?_
  refine b_callq (br := [[(a, moE r i)], [((r 9), .inl (Γ.2.1 0, 50, .inl t))]]) (b_runS ⟨hx, hb, hml, hown, hts⟩ (mt_Mo_word_5 l Γ _ ) (lw_S q2167 q2168 q73 q2169) rfl rfl 1 (by decide +kernel) ⟨(Nat.le_of_ble_eq_true rfl), (Nat.le_of_ble_eq_true rfl)⟩ (c_pre hP hD hS hA hK hE [] rfl rfl ro_nil) rfl hl.1 rfl (Nat.le_of_ble_eq_true rfl) dX4_isWord_4 ⟨(Nat.le_of_ble_eq_true rfl), (Nat.le_of_ble_eq_true rfl)⟩) hP hD hS hA [] [0, 1] rfl rfl rfl (fun r_1 u_1 H locs hw_1 hP hD hS _ => ?_)
  obtain ⟨rfl, rfl⟩ := hw_1
  have hP : WP Γ [[(a, moE r i)], [((r 9), .inl (Γ.2.1 0, 50, .inl t))]] H := hP
  have hD : WD A [[(a, moE r i)], [((r 9), .inl (Γ.2.1 0, 50, .inl t))]] := hD
  refine W.eq (g2 := F0 mi_ 7 ls ([.ref (adK Γ 36), .int (nI ((to - fr)))])) rfl ?_
  refine b_calli (br := [[(a, moE r i)], [((r 9), .inl (Γ.2.1 0, 50, .inl t))]]) (b_runV ⟨hx, hb, hml, hown, hts⟩ (mt_Str_length_0 l Γ _ (adK Γ 36) (adV Γ 36) 0 0 5 (fun j => (str_by 36).getD j 0) (by omega)) (lw_V q2176 q666 q667 q71 q668) rfl rfl 0 (by decide +kernel) ⟨(Nat.le_of_ble_eq_true rfl), (Nat.le_of_ble_eq_true rfl)⟩ (c_pre hP hD hS hA hK hE [] rfl rfl (hE.str hS (bFree hD hS hA [] rfl) 36 (by decide))) (recv_ro (b := adK Γ 36) (fs := [.ref (adV Γ 36), .int 0, .int 0, .int 0]) hK (hE.str hS (fun _ h => h) 36 (by decide) (strO Γ 36) (by simp))) rfl hl.1 rfl (Nat.le_of_ble_eq_true rfl) dX4_isWord_7 ⟨(Nat.le_of_ble_eq_true rfl), (Nat.le_of_ble_eq_true rfl)⟩) hP hD hS hA [] [0, 1] rfl rfl rfl (fun r_2 u_2 H locs hw_2 hP hD hS _ => ?_)
  obtain ⟨rfl, rfl⟩ := hw_2
  have hP : WP Γ [[(a, moE r i)], [((r 9), .inl (Γ.2.1 0, 50, .inl t))]] H := hP
  have hD : WD A [[(a, moE r i)], [((r 9), .inl (Γ.2.1 0, 50, .inl t))]] := hD
  refine lv_icmp_ne (tgt := 17) hx hb dX4_isWord_10 (by decide) (fun c_3 => ?_) (fun c_3 => ?_)
  · -- 10 taken
    have n_3 : ¬ ((to - fr) = 5) := fun h => c_3 ((nI_eq (a := (to - fr)) (b := 5) (by omega) (by omega)).mpr h)
    refine lv_iconst (v := 0) hx hb dX4_isWord_17 (by decide) ?_
    refine lv_istore (lv' := [(4, .int 0), (0, .ref a), (1, .int (nI fr)), (2, .int (nI to)), (3, .int 5)]) hx hb dX4_isWord_18 hl (by decide) rfl (fun ls hl => ?_)
    have hto2 : ¬ to = fr + 5 := by omega
    refine lv_iload_n hx hb dX4_isWord_20 rfl (lv_at hl 2 rfl) ?_
    refine lv_istore (lv' := [(5, .int (nI fr)), (4, .int 0), (0, .ref a), (1, .int (nI fr)), (2, .int (nI to)), (3, .int 5)]) hx hb dX4_isWord_21 hl (by decide) rfl (fun ls hl => ?_)
    refine lv_iload hx hb dX4_isWord_23 (lv_at hl 0 rfl) ?_
    refine lv_iload_n hx hb dX4_isWord_25 rfl (lv_at hl 4 rfl) ?_
    refine lv_icmp_ge (tgt := 68) hx hb dX4_isWord_26 (by decide) (fun c_4 => ?_) (fun c_4 => ?_)
    · -- 26 taken
      have n_4 : to ≤ fr := (nI_leI (by omega) (by omega)).mp (show nI to ≤ nI fr from c_4)
      have m_4 : ¬ (fr < to) := by omega
      have d_4 := Int32.not_lt.mpr c_4
      refine lv_iload hx hb dX4_isWord_68 (lv_at hl 1 rfl) ?_
      exact b_zret hx hb hr hlocks hP hD hS (Nat.le_of_ble_eq_true rfl) (Nat.le_of_ble_eq_true rfl) rfl ⟨(by rw [isW, if_neg hto2]), (by first | with_reducible rfl | (simp [n_3, n_4, m_4, d_4]; done) | rfl)⟩ dX4_isWord_70
    · -- 26 not taken
      have n_4 : ¬ (to ≤ fr) := fun h => c_4 ((nI_leI (a := to) (b := fr) (by omega) (by omega)).mpr h)
      have m_4 : fr < to := by omega
      have d_4 := Int32.not_le.mp c_4
      refine lv_iload hx hb dX4_isWord_29 (lv_at hl 1 rfl) ?_
      refine lv_if_eq (tgt := 68) hx hb dX4_isWord_31 (by decide) (fun c_5 => ?_) (fun c_5 => ?_)
      · -- 31 taken
        have n_5 : 0 = 0 := (nI_eq (by omega) (by omega)).mp (show nI 0 = nI 0 from c_5)
        refine lv_iload hx hb dX4_isWord_68 (lv_at hl 1 rfl) ?_
        exact b_zret hx hb hr hlocks hP hD hS (Nat.le_of_ble_eq_true rfl) (Nat.le_of_ble_eq_true rfl) rfl ⟨(by rw [isW, if_neg hto2]), (by first | with_reducible rfl | (simp [n_3, n_4, m_4, d_4, n_5]; done) | rfl)⟩ dX4_isWord_70
      · -- 31 not taken
        have n_5 : ¬ (0 = 0) := fun h => c_5 ((nI_eq (a := 0) (b := 0) (by omega) (by omega)).mpr h)
        exact absurd n_5 (by omega)
  · -- 10 not taken
    have n_3 : (to - fr) = 5 := (nI_eq (by omega) (by omega)).mp (show nI ((to - fr)) = nI 5 from c_3)
    refine lv_iconst (v := 1) hx hb dX4_isWord_13 (by decide) ?_
    refine lv_goto (tgt := 18) hx hb dX4_isWord_14 (by decide) ?_
    refine lv_istore (lv' := [(4, .int 1), (0, .ref a), (1, .int (nI fr)), (2, .int (nI to)), (3, .int 5)]) hx hb dX4_isWord_18 hl (by decide) rfl (fun ls hl => ?_)
    have hto2 : to = fr + 5 := by omega
    refine lv_iload_n hx hb dX4_isWord_20 rfl (lv_at hl 2 rfl) ?_
    refine lv_istore (lv' := [(5, .int (nI fr)), (4, .int 1), (0, .ref a), (1, .int (nI fr)), (2, .int (nI to)), (3, .int 5)]) hx hb dX4_isWord_21 hl (by decide) rfl (fun ls hl => ?_)
    have hl : lv_has ls 6 [(5, .int (nI fr)), (4, .int (eqW t fr 36 0)), (0, .ref a), (1, .int (nI fr)), (2, .int (nI to)), (3, .int 5)] := hl
    have loop_6 : ∀ (fuel : Nat) (j : Nat), to - (fr + j) < fuel → (fr + j ≤ to) → ∀ (H : Heap) (locs : List Loc) (ls : Array Slot), WP Γ [[(a, moE r i)], [((r 9), .inl (Γ.2.1 0, 50, .inl t))]] H → WD A [[(a, moE r i)], [((r 9), .inl (Γ.2.1 0, 50, .inl t))]] → va_S A s.heap H locs → lv_has ls 6 [(5, .int (nI (fr + j))), (4, .int (eqW t fr 36 j)), (0, .ref a), (1, .int (nI fr)), (2, .int (nI to)), (3, .int 5)] → W pr_ l ev_ { frames := 4, cells := 0, slots := 0, locals := 85 } s mi_ ([.ref a, .int (nI fr), .int (nI to), .int 5] : List Value).toArray below meth cd_ H locs 0 0 (MQ below (Qi Γ (fun r_ u_ => r_ = (isW t fr to 36 5) ∧ u_ = [[(a, moE r i)], [((r 9), .inl (Γ.2.1 0, 50, .inl t))]]) A) ([.ref a, .int (nI fr), .int (nI to), .int 5] : List Value).toArray s 0 0 A) (F0 mi_ 23 ls ([])) := by
      intro fuel
      induction fuel with
      | zero => intro j hfuel; exact absurd hfuel (Nat.not_lt_zero _)
      | succ fuel ih =>
        intro j hfuel hj H locs ls hP hD hS hl
        refine lv_iload hx hb dX4_isWord_23 (lv_at hl 0 rfl) ?_
        refine lv_iload_n hx hb dX4_isWord_25 rfl (lv_at hl 4 rfl) ?_
        refine lv_icmp_ge (tgt := 68) hx hb dX4_isWord_26 (by decide) (fun c_7 => ?_) (fun c_7 => ?_)
        · -- 26 taken
          have n_7 : to ≤ fr + j := (nI_leI (by omega) (by omega)).mp (show nI to ≤ nI (fr + j) from c_7)
          have m_7 : ¬ (fr + j < to) := by omega
          have d_7 := Int32.not_lt.mpr c_7
          refine lv_iload hx hb dX4_isWord_68 (lv_at hl 1 rfl) ?_
          exact b_zret hx hb hr hlocks hP hD hS (Nat.le_of_ble_eq_true rfl) (Nat.le_of_ble_eq_true rfl) (by first | rfl | (rcases eqW_01 t fr 36 j with e9 | e9 <;> rw [e9] <;> rfl)) ⟨(by rw [isW, if_pos hto2]; first | (rw [show j = 5 by omega]) | (rw [hto2, show 5 = j + (5 - j) by omega]; exact (eqW_zero hto2 _).symm)), (by first | with_reducible rfl | (simp [n_3, n_7, m_7, d_7]; done) | (subst n_3; simp [n_7, m_7, d_7]; done) | rfl)⟩ dX4_isWord_70
        · -- 26 not taken
          have n_7 : ¬ (to ≤ fr + j) := fun h => c_7 ((nI_leI (a := to) (b := fr + j) (by omega) (by omega)).mpr h)
          have m_7 : fr + j < to := by omega
          have d_7 := Int32.not_le.mp c_7
          refine lv_iload hx hb dX4_isWord_29 (lv_at hl 1 rfl) ?_
          refine lv_if_eq (tgt := 68) hx hb dX4_isWord_31 (by decide) (fun c_8 => ?_) (fun c_8 => ?_)
          · -- 31 taken
            refine lv_iload hx hb dX4_isWord_68 (lv_at hl 1 rfl) ?_
            exact b_zret hx hb hr hlocks hP hD hS (Nat.le_of_ble_eq_true rfl) (Nat.le_of_ble_eq_true rfl) (by first | rfl | (rcases eqW_01 t fr 36 j with e9 | e9 <;> rw [e9] <;> rfl)) ⟨(by rw [isW, if_pos hto2]; first | (rw [show j = 5 by omega]) | (rw [c_8, show 5 = j + (5 - j) by omega]; exact (eqW_zero c_8 _).symm)), (by first | with_reducible rfl | (simp [n_3, n_7, m_7, d_7, c_8]; done) | (subst n_3; simp [n_7, m_7, d_7, c_8]; done) | rfl)⟩ dX4_isWord_70
          · -- 31 not taken
            refine lv_aload_n hx hb dX4_isWord_34 rfl (lv_at hl 2 rfl) ?_
            refine b_get (C := RX4) (T := TX4) (N := 16) (v := .ref (r 9)) hx hb hts in_X4 hown hK (b_at (k := 0) hP rfl) rfl 9 (by decide) q1816 (fun _ h9 => h9) rfl dX4_isWord_35 ?_
            refine lv_iload hx hb dX4_isWord_38 (lv_at hl 0 rfl) ?_
            refine b_iald hx hb hK (b_at (k := 1) hP rfl) (fr + j) rfl (by omega) (by omega) dX4_isWord_40 ?_
            refine lv_iload_n hx hb dX4_isWord_41 rfl (lv_at hl 5 rfl) ?_
            refine b_callq (br := [[(a, moE r i)], [((r 9), .inl (Γ.2.1 0, 50, .inl t))]]) (b_runS ⟨hx, hb, hml, hown, hts⟩ (mt_Mo_word_5 l Γ _ ) (lw_S q2167 q2168 q73 q2169) rfl rfl 1 (by decide +kernel) ⟨(Nat.le_of_ble_eq_true rfl), (Nat.le_of_ble_eq_true rfl)⟩ (c_pre hP hD hS hA hK hE [] rfl rfl ro_nil) rfl hl.1 rfl (Nat.le_of_ble_eq_true rfl) dX4_isWord_42 ⟨(Nat.le_of_ble_eq_true rfl), (Nat.le_of_ble_eq_true rfl)⟩) hP hD hS hA [] [0, 1] rfl rfl rfl (fun r_9 u_9 H locs hw_9 hP hD hS _ => ?_)
            obtain ⟨rfl, rfl⟩ := hw_9
            have hP : WP Γ [[(a, moE r i)], [((r 9), .inl (Γ.2.1 0, 50, .inl t))]] H := hP
            have hD : WD A [[(a, moE r i)], [((r 9), .inl (Γ.2.1 0, 50, .inl t))]] := hD
            refine W.eq (g2 := F0 mi_ 45 ls ([.ref (adK Γ 36), .int (t (fr + j))])) rfl ?_
            refine lv_iload hx hb dX4_isWord_45 (lv_at hl 0 rfl) ?_
            refine lv_iload_n hx hb dX4_isWord_47 rfl (lv_at hl 3 rfl) ?_
            refine lv_isub hx hb dX4_isWord_48 ?_
            refine b_top (nI_subE (a := fr + j) (b := fr) (c := j) rfl rfl (by first | omega | rfl)) ?_
            refine b_calli (br := [[(a, moE r i)], [((r 9), .inl (Γ.2.1 0, 50, .inl t))]]) (b_runV ⟨hx, hb, hml, hown, hts⟩ (mt_Str_charAt_0 l Γ _ (adK Γ 36) (adV Γ 36) 0 0 5 (fun j => (str_by 36).getD j 0) j (by omega) (by omega)) (lw_V q2177 q1481 q1482 q71 q1483) rfl rfl 1 (by decide +kernel) ⟨(Nat.le_of_ble_eq_true rfl), (Nat.le_of_ble_eq_true rfl)⟩ (c_pre hP hD hS hA hK hE [] rfl rfl (hE.str hS (bFree hD hS hA [] rfl) 36 (by decide))) (recv_ro (b := adK Γ 36) (fs := [.ref (adV Γ 36), .int 0, .int 0, .int 0]) hK (hE.str hS (fun _ h => h) 36 (by decide) (strO Γ 36) (by simp))) rfl hl.1 rfl (Nat.le_of_ble_eq_true rfl) dX4_isWord_49 ⟨(Nat.le_of_ble_eq_true rfl), (Nat.le_of_ble_eq_true rfl)⟩) hP hD hS hA [] [0, 1] rfl rfl rfl (fun r_10 u_10 H locs hw_10 hP hD hS _ => ?_)
            obtain ⟨rfl, rfl⟩ := hw_10
            have hP : WP Γ [[(a, moE r i)], [((r 9), .inl (Γ.2.1 0, 50, .inl t))]] H := hP
            have hD : WD A [[(a, moE r i)], [((r 9), .inl (Γ.2.1 0, 50, .inl t))]] := hD
            refine lv_icmp_ne (tgt := 59) hx hb dX4_isWord_52 (by decide) (fun c_11 => ?_) (fun c_11 => ?_)
            · -- 52 taken
              refine lv_iconst (v := 0) hx hb dX4_isWord_59 (by decide) ?_
              refine b_top (show 0 = eqW t fr 36 (j + 1) from by rw [eqW, if_neg c_8, if_neg c_11]) ?_
              refine lv_istore (lv' := [(4, .int (eqW t fr 36 (j + 1))), (5, .int (nI (fr + j))), (0, .ref a), (1, .int (nI fr)), (2, .int (nI to)), (3, .int 5)]) hx hb dX4_isWord_60 hl (by decide) rfl (fun ls hl => ?_)
              refine lv_iinc (v := (nI (fr + j + 1))) (lv' := [(5, .int (nI (fr + j + 1))), (4, .int (eqW t fr 36 (j + 1))), (0, .ref a), (1, .int (nI fr)), (2, .int (nI to)), (3, .int 5)]) hx hb dX4_isWord_62 hl (k := 1) rfl (nI_addE (a := fr + j) (b := 1) (c := fr + j + 1) rfl rfl (by first | omega | rfl)) (by decide) rfl (fun ls hl => ?_)
              refine lv_goto (tgt := 23) hx hb dX4_isWord_65 (by decide) ?_
              exact ih (j + 1) (by omega) (by omega) _ _ _ hP hD hS (lv_sub hl [0, 1, 2, 3, 4, 5] rfl)
            · -- 52 not taken
              refine lv_iconst (v := 1) hx hb dX4_isWord_55 (by decide) ?_
              refine lv_goto (tgt := 60) hx hb dX4_isWord_56 (by decide) ?_
              refine b_top (show 1 = eqW t fr 36 (j + 1) from by rw [eqW, if_neg c_8, if_pos c_11]) ?_
              refine lv_istore (lv' := [(4, .int (eqW t fr 36 (j + 1))), (5, .int (nI (fr + j))), (0, .ref a), (1, .int (nI fr)), (2, .int (nI to)), (3, .int 5)]) hx hb dX4_isWord_60 hl (by decide) rfl (fun ls hl => ?_)
              refine lv_iinc (v := (nI (fr + j + 1))) (lv' := [(5, .int (nI (fr + j + 1))), (4, .int (eqW t fr 36 (j + 1))), (0, .ref a), (1, .int (nI fr)), (2, .int (nI to)), (3, .int 5)]) hx hb dX4_isWord_62 hl (k := 1) rfl (nI_addE (a := fr + j) (b := 1) (c := fr + j + 1) rfl rfl (by first | omega | rfl)) (by decide) rfl (fun ls hl => ?_)
              refine lv_goto (tgt := 23) hx hb dX4_isWord_65 (by decide) ?_
              exact ih (j + 1) (by omega) (by omega) _ _ _ hP hD hS (lv_sub hl [0, 1, 2, 3, 4, 5] rfl)
    exact loop_6 ((to - (fr + 0)) + 1) 0 (Nat.lt_succ_self _) (by omega) _ _ _ hP hD hS (lv_sub hl [0, 1, 2, 3, 4, 5] rfl)
set_option maxHeartbeats 4000000 in
set_option maxRecDepth 100000 in
theorem mt_Mo_skips_yes (l : Launch) (Γ : GE) (sz : Nat) (a : Nat) (r : Nat → Nat) (i : Nat → Int32) (t : Nat → Int32) (n : Nat) (p : Nat) (c : Int32) (h10 : i 10 = nI n) (hn : n ≤ 50) (h11 : i 11 = nI p) (hp : p ≤ n) (hs : hereP t n p = c) : KM l yX4_skips cX4_skips 3 (some FieldType.boolean) Γ 1 20 0 0 [.ref a, .int c] [[(a, moE r i)], [((r 9), .inl (Γ.2.1 0, 50, .inl t))]] [] sz (Qi Γ (fun r_ u_ => r_ = 1 ∧ u_ = [[(a, moE r (upd i 11 (nI (p + 1))))], [((r 9), .inl (Γ.2.1 0, 50, .inl t))]])) := by
  refine K_intro (by decide) (Nat.le_of_ble_eq_true rfl) ?_
  intro pr_ ev_ s mi_ below meth cd_ A ls hx hb hr hml hown hts hlocks hname hK hE hRo hP hD hA hS hsz hl
  have hl : lv_has ls 3 [(0, .ref a), (1, .int c)] := hl
  have hown : s.vm.findClass RX4 = some mi_.cls := hown
  refine lv_aload_n hx hb dX4_skips_0 rfl (lv_at hl 0 rfl) ?_
  refine b_calli (br := []) (b_runV ⟨hx, hb, hml, hown, hts⟩ (mt_Mo_here l Γ _ a r i t n p (by first | exact h10 | omega) (by first | exact hn | omega) (by first | exact h11 | omega) (by first | exact hp | omega)) (lw_V q2159 q2161 qs55 q73 q2162) rfl rfl 0 (by decide +kernel) ⟨(Nat.le_of_ble_eq_true rfl), (Nat.le_of_ble_eq_true rfl)⟩ (c_pre hP hD hS hA hK hE [0, 1] rfl rfl ro_nil) (recv_at (q := (RX4, TX4, 16)) hK (b_at (k := 0) hP rfl) rfl) rfl hl.1 rfl (Nat.le_of_ble_eq_true rfl) dX4_skips_1 ⟨(Nat.le_of_ble_eq_true rfl), (Nat.le_of_ble_eq_true rfl)⟩) hP hD hS hA [0, 1] [] rfl rfl rfl (fun r_1 u_1 H locs hw_1 hP hD hS _ => ?_)
  obtain ⟨rfl, rfl⟩ := hw_1
  have hP : WP Γ [[(a, moE r i)], [((r 9), .inl (Γ.2.1 0, 50, .inl t))]] H := hP
  have hD : WD A [[(a, moE r i)], [((r 9), .inl (Γ.2.1 0, 50, .inl t))]] := hD
  refine lv_iload_n hx hb dX4_skips_4 rfl (lv_at hl 1 rfl) ?_
  refine lv_icmp_ne (tgt := 12) hx hb dX4_skips_5 (by decide) (fun c_2 => ?_) (fun c_2 => ?_)
  · -- 5 taken
    exact absurd hs c_2
  · -- 5 not taken
    refine lv_iconst (v := 1) hx hb dX4_skips_8 (by decide) ?_
    refine lv_goto (tgt := 13) hx hb dX4_skips_9 (by decide) ?_
    refine lv_istore_n (lv' := [(2, .int 1), (0, .ref a), (1, .int c)]) hx hb dX4_skips_13 rfl hl (by decide) rfl (fun ls hl => ?_)
    refine lv_aload_n hx hb dX4_skips_14 rfl (lv_at hl 1 rfl) ?_
    refine lv_dup hx hb dX4_skips_15 rfl ?_
    refine b_get (C := RX4) (T := TX4) (N := 16) (v := .int (i 11)) hx hb hts in_X4 hown hK (b_at (k := 0) hP rfl) rfl 11 (by decide) q1818 (fun _ h9 => h9) rfl dX4_skips_16 ?_
    refine b_top (h11) ?_
    refine lv_iload_n hx hb dX4_skips_19 rfl (lv_at hl 0 rfl) ?_
    refine lv_if_eq (tgt := 27) hx hb dX4_skips_20 (by decide) (fun c_3 => ?_) (fun c_3 => ?_)
    · -- 20 taken
      have n_3 : 1 = 0 := (nI_eq (by omega) (by omega)).mp (show nI 1 = nI 0 from c_3)
      exact absurd n_3 (by omega)
    · -- 20 not taken
      have n_3 : ¬ (1 = 0) := fun h => c_3 ((nI_eq (a := 1) (b := 0) (by omega) (by omega)).mpr h)
      refine lv_iconst (v := 1) hx hb dX4_skips_23 (by decide) ?_
      refine lv_goto (tgt := 28) hx hb dX4_skips_24 (by decide) ?_
      refine lv_iadd hx hb dX4_skips_28 ?_
      refine b_top (nI_addE (a := p) (b := 1) (c := p + 1) rfl rfl (by first | omega | rfl)) ?_
      refine b_putM (C := RX4) (T := TX4) (N := 16) (ty := .int) (vv := (nI (p + 1))) hx hb hts in_X4 tyX4_ok nmX4 hown hK hP hD hS 0 rfl rfl 11 (by decide) q1818 (fun _ h9 => h9) rfl (by decide +kernel) rfl rfl (Nat.le_of_ble_eq_true rfl) (moL_set11 _ _ _) dX4_skips_29 (fun H locs hP hD hS => ?_)
      have hP : WP Γ [[(a, moE r (upd i 11 (nI (p + 1))))], [((r 9), .inl (Γ.2.1 0, 50, .inl t))]] H := hP
      have hD : WD A [[(a, moE r (upd i 11 (nI (p + 1))))], [((r 9), .inl (Γ.2.1 0, 50, .inl t))]] := hD
      refine lv_iload_n hx hb dX4_skips_32 rfl (lv_at hl 0 rfl) ?_
      exact b_zret hx hb hr hlocks hP hD hS (Nat.le_of_ble_eq_true rfl) (Nat.le_of_ble_eq_true rfl) rfl ⟨(by first | with_reducible rfl | (simp [c_2, n_3]; done) | rfl), (by first | with_reducible rfl | (simp [c_2, n_3]; done) | rfl)⟩ dX4_skips_33
set_option maxHeartbeats 4000000 in
set_option maxRecDepth 100000 in
theorem mt_Mo_skips_no (l : Launch) (Γ : GE) (sz : Nat) (a : Nat) (r : Nat → Nat) (i : Nat → Int32) (t : Nat → Int32) (n : Nat) (p : Nat) (c : Int32) (h10 : i 10 = nI n) (hn : n ≤ 50) (h11 : i 11 = nI p) (hp : p ≤ n) (hs : ¬ hereP t n p = c) : KM l yX4_skips cX4_skips 3 (some FieldType.boolean) Γ 1 20 0 0 [.ref a, .int c] [[(a, moE r i)], [((r 9), .inl (Γ.2.1 0, 50, .inl t))]] [] sz (Qi Γ (fun r_ u_ => r_ = 0 ∧ u_ = [[(a, moE r (upd i 11 (nI p)))], [((r 9), .inl (Γ.2.1 0, 50, .inl t))]])) := by
  refine K_intro (by decide) (Nat.le_of_ble_eq_true rfl) ?_
  intro pr_ ev_ s mi_ below meth cd_ A ls hx hb hr hml hown hts hlocks hname hK hE hRo hP hD hA hS hsz hl
  have hl : lv_has ls 3 [(0, .ref a), (1, .int c)] := hl
  have hown : s.vm.findClass RX4 = some mi_.cls := hown
  refine lv_aload_n hx hb dX4_skips_0 rfl (lv_at hl 0 rfl) ?_
  refine b_calli (br := []) (b_runV ⟨hx, hb, hml, hown, hts⟩ (mt_Mo_here l Γ _ a r i t n p (by first | exact h10 | omega) (by first | exact hn | omega) (by first | exact h11 | omega) (by first | exact hp | omega)) (lw_V q2159 q2161 qs55 q73 q2162) rfl rfl 0 (by decide +kernel) ⟨(Nat.le_of_ble_eq_true rfl), (Nat.le_of_ble_eq_true rfl)⟩ (c_pre hP hD hS hA hK hE [0, 1] rfl rfl ro_nil) (recv_at (q := (RX4, TX4, 16)) hK (b_at (k := 0) hP rfl) rfl) rfl hl.1 rfl (Nat.le_of_ble_eq_true rfl) dX4_skips_1 ⟨(Nat.le_of_ble_eq_true rfl), (Nat.le_of_ble_eq_true rfl)⟩) hP hD hS hA [0, 1] [] rfl rfl rfl (fun r_1 u_1 H locs hw_1 hP hD hS _ => ?_)
  obtain ⟨rfl, rfl⟩ := hw_1
  have hP : WP Γ [[(a, moE r i)], [((r 9), .inl (Γ.2.1 0, 50, .inl t))]] H := hP
  have hD : WD A [[(a, moE r i)], [((r 9), .inl (Γ.2.1 0, 50, .inl t))]] := hD
  refine lv_iload_n hx hb dX4_skips_4 rfl (lv_at hl 1 rfl) ?_
  refine lv_icmp_ne (tgt := 12) hx hb dX4_skips_5 (by decide) (fun c_2 => ?_) (fun c_2 => ?_)
  · -- 5 taken
    refine lv_iconst (v := 0) hx hb dX4_skips_12 (by decide) ?_
    refine lv_istore_n (lv' := [(2, .int 0), (0, .ref a), (1, .int c)]) hx hb dX4_skips_13 rfl hl (by decide) rfl (fun ls hl => ?_)
    refine lv_aload_n hx hb dX4_skips_14 rfl (lv_at hl 1 rfl) ?_
    refine lv_dup hx hb dX4_skips_15 rfl ?_
    refine b_get (C := RX4) (T := TX4) (N := 16) (v := .int (i 11)) hx hb hts in_X4 hown hK (b_at (k := 0) hP rfl) rfl 11 (by decide) q1818 (fun _ h9 => h9) rfl dX4_skips_16 ?_
    refine b_top (h11) ?_
    refine lv_iload_n hx hb dX4_skips_19 rfl (lv_at hl 0 rfl) ?_
    refine lv_if_eq (tgt := 27) hx hb dX4_skips_20 (by decide) (fun c_3 => ?_) (fun c_3 => ?_)
    · -- 20 taken
      have n_3 : 0 = 0 := (nI_eq (by omega) (by omega)).mp (show nI 0 = nI 0 from c_3)
      refine lv_iconst (v := 0) hx hb dX4_skips_27 (by decide) ?_
      refine lv_iadd hx hb dX4_skips_28 ?_
      refine b_top (nI_addE (a := p) (b := 0) (c := p) rfl rfl (by first | omega | rfl)) ?_
      refine b_putM (C := RX4) (T := TX4) (N := 16) (ty := .int) (vv := (nI p)) hx hb hts in_X4 tyX4_ok nmX4 hown hK hP hD hS 0 rfl rfl 11 (by decide) q1818 (fun _ h9 => h9) rfl (by decide +kernel) rfl rfl (Nat.le_of_ble_eq_true rfl) (moL_set11 _ _ _) dX4_skips_29 (fun H locs hP hD hS => ?_)
      have hP : WP Γ [[(a, moE r (upd i 11 (nI p)))], [((r 9), .inl (Γ.2.1 0, 50, .inl t))]] H := hP
      have hD : WD A [[(a, moE r (upd i 11 (nI p)))], [((r 9), .inl (Γ.2.1 0, 50, .inl t))]] := hD
      refine lv_iload_n hx hb dX4_skips_32 rfl (lv_at hl 0 rfl) ?_
      exact b_zret hx hb hr hlocks hP hD hS (Nat.le_of_ble_eq_true rfl) (Nat.le_of_ble_eq_true rfl) rfl ⟨(by first | with_reducible rfl | (simp [c_2, n_3]; done) | rfl), (by first | with_reducible rfl | (simp [c_2, n_3]; done) | rfl)⟩ dX4_skips_33
    · -- 20 not taken
      have n_3 : ¬ (0 = 0) := fun h => c_3 ((nI_eq (a := 0) (b := 0) (by omega) (by omega)).mpr h)
      exact absurd n_3 (by omega)
  · -- 5 not taken
    exact absurd c_2 hs
set_option maxHeartbeats 4000000 in
set_option maxRecDepth 100000 in
theorem mt_Mo_number_yes (l : Launch) (Γ : GE) (sz : Nat) (a : Nat) (r : Nat → Nat) (i : Nat → Int32) (t : Nat → Int32) (n : Nat) (p : Nat) (h10 : i 10 = nI n) (hn : n ≤ 50) (h11 : i 11 = nI p) (hp : p ≤ n) (hs : ¬ inR (hereP t n p) 48 57 = 0) : KM l yX4_number cX4_number 2 (some FieldType.boolean) Γ 1 22 0 0 [.ref a] [[(a, moE r i)], [((r 9), .inl (Γ.2.1 0, 50, .inl t))]] [] sz (Qi Γ (fun r_ u_ => r_ = 1 ∧ u_ = [[(a, moE r (upd (upd i 12 (numP t n p).1) 11 (nI (numP t n p).2)))], [((r 9), .inl (Γ.2.1 0, 50, .inl t))]])) := by
  refine K_intro (by decide) (Nat.le_of_ble_eq_true rfl) ?_
  intro pr_ ev_ s mi_ below meth cd_ A ls hx hb hr hml hown hts hlocks hname hK hE hRo hP hD hA hS hsz hl
  have hl : lv_has ls 2 [(0, .ref a)] := hl
  have hown : s.vm.findClass RX4 = some mi_.cls := hown
  refine lv_aload_n hx hb dX4_number_0 rfl (lv_at hl 0 rfl) ?_
  refine b_calli (br := []) (b_runV ⟨hx, hb, hml, hown, hts⟩ (mt_Mo_here l Γ _ a r i t n p h10 (by first | exact hn | omega) (by first | exact h11 | rfl) (by first | exact hp | omega)) (lw_V q2159 q2161 qs55 q73 q2162) rfl rfl 0 (by decide +kernel) ⟨(Nat.le_of_ble_eq_true rfl), (Nat.le_of_ble_eq_true rfl)⟩ (c_pre hP hD hS hA hK hE [0, 1] rfl rfl ro_nil) (recv_at (q := (RX4, TX4, 16)) hK (b_at (k := 0) hP rfl) rfl) rfl hl.1 rfl (Nat.le_of_ble_eq_true rfl) dX4_number_1 ⟨(Nat.le_of_ble_eq_true rfl), (Nat.le_of_ble_eq_true rfl)⟩) hP hD hS hA [0, 1] [] rfl rfl rfl (fun r_1 u_1 H locs hw_1 hP hD hS _ => ?_)
  obtain ⟨rfl, rfl⟩ := hw_1
  have hP : WP Γ [[(a, moE r i)], [((r 9), .inl (Γ.2.1 0, 50, .inl t))]] H := hP
  have hD : WD A [[(a, moE r i)], [((r 9), .inl (Γ.2.1 0, 50, .inl t))]] := hD
  refine lv_bipush (v := 48) hx hb dX4_number_4 (by decide) ?_
  refine lv_bipush (v := 57) hx hb dX4_number_6 (by decide) ?_
  refine b_calli (br := [[(a, moE r i)], [((r 9), .inl (Γ.2.1 0, 50, .inl t))]]) (b_runS ⟨hx, hb, hml, hown, hts⟩ (mt_Mo_in l Γ _ (hereP t n p) 48 57) (lw_S q1879 q1880 q73 q1881) rfl rfl 3 (by decide +kernel) ⟨(Nat.le_of_ble_eq_true rfl), (Nat.le_of_ble_eq_true rfl)⟩ (c_pre hP hD hS hA hK hE [] rfl rfl ro_nil) rfl hl.1 rfl (Nat.le_of_ble_eq_true rfl) dX4_number_8 ⟨(Nat.le_of_ble_eq_true rfl), (Nat.le_of_ble_eq_true rfl)⟩) hP hD hS hA [] [0, 1] rfl rfl rfl (fun r_2 u_2 H locs hw_2 hP hD hS _ => ?_)
  obtain ⟨rfl, rfl⟩ := hw_2
  have hP : WP Γ [[(a, moE r i)], [((r 9), .inl (Γ.2.1 0, 50, .inl t))]] H := hP
  have hD : WD A [[(a, moE r i)], [((r 9), .inl (Γ.2.1 0, 50, .inl t))]] := hD
  refine lv_if_ne (tgt := 16) hx hb dX4_number_11 (by decide) (fun c_3 => ?_) (fun c_3 => ?_)
  · -- 11 taken
    have hp0 := hereP_in (by decide) c_3
    refine lv_aload_n hx hb dX4_number_16 rfl (lv_at hl 0 rfl) ?_
    refine lv_aload_n hx hb dX4_number_17 rfl (lv_at hl 0 rfl) ?_
    refine b_calli (br := []) (b_runV ⟨hx, hb, hml, hown, hts⟩ (mt_Mo_here l Γ _ a r i t n p h10 (by first | exact hn | omega) (by first | exact h11 | rfl) (by first | exact hp | omega)) (lw_V q2159 q2161 qs55 q73 q2162) rfl rfl 0 (by decide +kernel) ⟨(Nat.le_of_ble_eq_true rfl), (Nat.le_of_ble_eq_true rfl)⟩ (c_pre hP hD hS hA hK hE [0, 1] rfl rfl ro_nil) (recv_at (q := (RX4, TX4, 16)) hK (b_at (k := 0) hP rfl) rfl) rfl hl.1 rfl (Nat.le_of_ble_eq_true rfl) dX4_number_18 ⟨(Nat.le_of_ble_eq_true rfl), (Nat.le_of_ble_eq_true rfl)⟩) hP hD hS hA [0, 1] [] rfl rfl rfl (fun r_4 u_4 H locs hw_4 hP hD hS _ => ?_)
    obtain ⟨rfl, rfl⟩ := hw_4
    have hP : WP Γ [[(a, moE r i)], [((r 9), .inl (Γ.2.1 0, 50, .inl t))]] H := hP
    have hD : WD A [[(a, moE r i)], [((r 9), .inl (Γ.2.1 0, 50, .inl t))]] := hD
    refine lv_bipush (v := 48) hx hb dX4_number_21 (by decide) ?_
    refine lv_isub hx hb dX4_number_23 ?_
    refine b_putM (C := RX4) (T := TX4) (N := 16) (ty := .int) (vv := ((hereP t n p) - 48)) hx hb hts in_X4 tyX4_ok nmX4 hown hK hP hD hS 0 rfl rfl 12 (by decide) q1819 (fun _ h9 => h9) rfl (by decide +kernel) rfl rfl (Nat.le_of_ble_eq_true rfl) (moL_set12 _ _ _) dX4_number_24 (fun H locs hP hD hS => ?_)
    have hP : WP Γ [[(a, moE r (upd i 12 ((hereP t n p) - 48)))], [((r 9), .inl (Γ.2.1 0, 50, .inl t))]] H := hP
    have hD : WD A [[(a, moE r (upd i 12 ((hereP t n p) - 48)))], [((r 9), .inl (Γ.2.1 0, 50, .inl t))]] := hD
    refine lv_aload_n hx hb dX4_number_27 rfl (lv_at hl 0 rfl) ?_
    refine lv_dup hx hb dX4_number_28 rfl ?_
    refine b_get (C := RX4) (T := TX4) (N := 16) (v := .int (i 11)) hx hb hts in_X4 hown hK (b_at (k := 0) hP rfl) rfl 11 (by decide) q1818 (fun _ h9 => h9) rfl dX4_number_29 ?_
    refine b_top (h11) ?_
    refine lv_iconst (v := 1) hx hb dX4_number_32 (by decide) ?_
    refine lv_iadd hx hb dX4_number_33 ?_
    refine b_top (nI_addE (a := p) (b := 1) (c := p + 1) rfl rfl (by first | omega | rfl)) ?_
    refine b_putM (C := RX4) (T := TX4) (N := 16) (ty := .int) (vv := (nI (p + 1))) hx hb hts in_X4 tyX4_ok nmX4 hown hK hP hD hS 0 rfl rfl 11 (by decide) q1818 (fun _ h9 => h9) rfl (by decide +kernel) rfl rfl (Nat.le_of_ble_eq_true rfl) (moL_set11 _ _ _) dX4_number_34 (fun H locs hP hD hS => ?_)
    have hP : WP Γ [[(a, moE r (upd (upd i 12 ((hereP t n p) - 48)) 11 (nI (p + 1))))], [((r 9), .inl (Γ.2.1 0, 50, .inl t))]] H := hP
    have hD : WD A [[(a, moE r (upd (upd i 12 ((hereP t n p) - 48)) 11 (nI (p + 1))))], [((r 9), .inl (Γ.2.1 0, 50, .inl t))]] := hD
    refine lv_iconst (v := 1) hx hb dX4_number_37 (by decide) ?_
    refine lv_istore_n (lv' := [(1, .int 1), (0, .ref a)]) hx hb dX4_number_38 rfl hl (by decide) rfl (fun ls hl => ?_)
    refine lv_iload_n hx hb dX4_number_39 rfl (lv_at hl 0 rfl) ?_
    refine lv_iconst (v := 3) hx hb dX4_number_40 (by decide) ?_
    refine lv_icmp_ge (tgt := 100) hx hb dX4_number_41 (by decide) (fun c_5 => ?_) (fun c_5 => ?_)
    · -- 41 taken
      have n_5 : 3 ≤ 1 := (nI_leI (by omega) (by omega)).mp (show nI 3 ≤ nI 1 from c_5)
      exact absurd n_5 (by omega)
    · -- 41 not taken
      have n_5 : ¬ (3 ≤ 1) := fun h => c_5 ((nI_leI (a := 3) (b := 1) (by omega) (by omega)).mpr h)
      refine lv_aload_n hx hb dX4_number_44 rfl (lv_at hl 1 rfl) ?_
      refine b_get (C := RX4) (T := TX4) (N := 16) (v := .int ((hereP t n p) - 48)) hx hb hts in_X4 hown hK (b_at (k := 0) hP rfl) rfl 12 (by decide) q1819 (fun _ h9 => h9) rfl dX4_number_45 ?_
      refine lv_if_le (tgt := 100) hx hb dX4_number_48 (by decide) (fun c_6 => ?_) (fun c_6 => ?_)
      · -- 48 taken
        have d_6 := Int32.not_lt.mpr c_6
        refine lv_iconst (v := 1) hx hb dX4_number_100 (by decide) ?_
        exact b_zret hx hb hr hlocks hP hD hS (Nat.le_of_ble_eq_true rfl) (Nat.le_of_ble_eq_true rfl) rfl ⟨(by first | with_reducible rfl | (simp [numP, digF, c_3, n_5, c_6, d_6]; done) | rfl), (by first | with_reducible rfl | (simp [numP, digF, c_3, n_5, c_6, d_6]; done) | rfl)⟩ dX4_number_101
      · -- 48 not taken
        have d_6 := Int32.not_le.mp c_6
        refine lv_aload_n hx hb dX4_number_51 rfl (lv_at hl 1 rfl) ?_
        refine b_calli (br := []) (b_runV ⟨hx, hb, hml, hown, hts⟩ (mt_Mo_here l Γ _ a r (upd (upd i 12 ((hereP t n p) - 48)) 11 (nI (p + 1))) t n (p + 1) h10 (by first | exact hn | omega) (by first | exact h11 | rfl) (by first | exact hp | omega)) (lw_V q2159 q2161 qs55 q73 q2162) rfl rfl 0 (by decide +kernel) ⟨(Nat.le_of_ble_eq_true rfl), (Nat.le_of_ble_eq_true rfl)⟩ (c_pre hP hD hS hA hK hE [0, 1] rfl rfl ro_nil) (recv_at (q := (RX4, TX4, 16)) hK (b_at (k := 0) hP rfl) rfl) rfl hl.1 rfl (Nat.le_of_ble_eq_true rfl) dX4_number_52 ⟨(Nat.le_of_ble_eq_true rfl), (Nat.le_of_ble_eq_true rfl)⟩) hP hD hS hA [0, 1] [] rfl rfl rfl (fun r_7 u_7 H locs hw_7 hP hD hS _ => ?_)
        obtain ⟨rfl, rfl⟩ := hw_7
        have hP : WP Γ [[(a, moE r (upd (upd i 12 ((hereP t n p) - 48)) 11 (nI (p + 1))))], [((r 9), .inl (Γ.2.1 0, 50, .inl t))]] H := hP
        have hD : WD A [[(a, moE r (upd (upd i 12 ((hereP t n p) - 48)) 11 (nI (p + 1))))], [((r 9), .inl (Γ.2.1 0, 50, .inl t))]] := hD
        refine lv_bipush (v := 48) hx hb dX4_number_55 (by decide) ?_
        refine lv_bipush (v := 57) hx hb dX4_number_57 (by decide) ?_
        refine b_calli (br := [[(a, moE r (upd (upd i 12 ((hereP t n p) - 48)) 11 (nI (p + 1))))], [((r 9), .inl (Γ.2.1 0, 50, .inl t))]]) (b_runS ⟨hx, hb, hml, hown, hts⟩ (mt_Mo_in l Γ _ (hereP t n (p + 1)) 48 57) (lw_S q1879 q1880 q73 q1881) rfl rfl 3 (by decide +kernel) ⟨(Nat.le_of_ble_eq_true rfl), (Nat.le_of_ble_eq_true rfl)⟩ (c_pre hP hD hS hA hK hE [] rfl rfl ro_nil) rfl hl.1 rfl (Nat.le_of_ble_eq_true rfl) dX4_number_59 ⟨(Nat.le_of_ble_eq_true rfl), (Nat.le_of_ble_eq_true rfl)⟩) hP hD hS hA [] [0, 1] rfl rfl rfl (fun r_8 u_8 H locs hw_8 hP hD hS _ => ?_)
        obtain ⟨rfl, rfl⟩ := hw_8
        have hP : WP Γ [[(a, moE r (upd (upd i 12 ((hereP t n p) - 48)) 11 (nI (p + 1))))], [((r 9), .inl (Γ.2.1 0, 50, .inl t))]] H := hP
        have hD : WD A [[(a, moE r (upd (upd i 12 ((hereP t n p) - 48)) 11 (nI (p + 1))))], [((r 9), .inl (Γ.2.1 0, 50, .inl t))]] := hD
        refine lv_if_eq (tgt := 100) hx hb dX4_number_62 (by decide) (fun c_9 => ?_) (fun c_9 => ?_)
        · -- 62 taken
          refine lv_iconst (v := 1) hx hb dX4_number_100 (by decide) ?_
          exact b_zret hx hb hr hlocks hP hD hS (Nat.le_of_ble_eq_true rfl) (Nat.le_of_ble_eq_true rfl) rfl ⟨(by first | with_reducible rfl | (simp [numP, digF, c_3, n_5, c_6, d_6, c_9]; done) | rfl), (by first | with_reducible rfl | (simp [numP, digF, c_3, n_5, c_6, d_6, c_9]; done) | rfl)⟩ dX4_number_101
        · -- 62 not taken
          have hp1 := hereP_in (by decide) c_9
          refine lv_aload_n hx hb dX4_number_65 rfl (lv_at hl 1 rfl) ?_
          refine lv_bipush (v := 10) hx hb dX4_number_66 (by decide) ?_
          refine lv_aload_n hx hb dX4_number_68 rfl (lv_at hl 1 rfl) ?_
          refine b_get (C := RX4) (T := TX4) (N := 16) (v := .int ((hereP t n p) - 48)) hx hb hts in_X4 hown hK (b_at (k := 0) hP rfl) rfl 12 (by decide) q1819 (fun _ h9 => h9) rfl dX4_number_69 ?_
          refine lv_imul hx hb dX4_number_72 ?_
          refine lv_aload_n hx hb dX4_number_73 rfl (lv_at hl 1 rfl) ?_
          refine b_calli (br := []) (b_runV ⟨hx, hb, hml, hown, hts⟩ (mt_Mo_here l Γ _ a r (upd (upd i 12 ((hereP t n p) - 48)) 11 (nI (p + 1))) t n (p + 1) h10 (by first | exact hn | omega) (by first | exact h11 | rfl) (by first | exact hp | omega)) (lw_V q2159 q2161 qs55 q73 q2162) rfl rfl 0 (by decide +kernel) ⟨(Nat.le_of_ble_eq_true rfl), (Nat.le_of_ble_eq_true rfl)⟩ (c_pre hP hD hS hA hK hE [0, 1] rfl rfl ro_nil) (recv_at (q := (RX4, TX4, 16)) hK (b_at (k := 0) hP rfl) rfl) rfl hl.1 rfl (Nat.le_of_ble_eq_true rfl) dX4_number_74 ⟨(Nat.le_of_ble_eq_true rfl), (Nat.le_of_ble_eq_true rfl)⟩) hP hD hS hA [0, 1] [] rfl rfl rfl (fun r_10 u_10 H locs hw_10 hP hD hS _ => ?_)
          obtain ⟨rfl, rfl⟩ := hw_10
          have hP : WP Γ [[(a, moE r (upd (upd i 12 ((hereP t n p) - 48)) 11 (nI (p + 1))))], [((r 9), .inl (Γ.2.1 0, 50, .inl t))]] H := hP
          have hD : WD A [[(a, moE r (upd (upd i 12 ((hereP t n p) - 48)) 11 (nI (p + 1))))], [((r 9), .inl (Γ.2.1 0, 50, .inl t))]] := hD
          refine lv_iadd hx hb dX4_number_77 ?_
          refine lv_bipush (v := 48) hx hb dX4_number_78 (by decide) ?_
          refine lv_isub hx hb dX4_number_80 ?_
          refine b_putM (C := RX4) (T := TX4) (N := 16) (ty := .int) (vv := (((10 * ((hereP t n p) - 48)) + (hereP t n (p + 1))) - 48)) hx hb hts in_X4 tyX4_ok nmX4 hown hK hP hD hS 0 rfl rfl 12 (by decide) q1819 (fun _ h9 => h9) rfl (by decide +kernel) rfl rfl (Nat.le_of_ble_eq_true rfl) (moL_set12 _ _ _) dX4_number_81 (fun H locs hP hD hS => ?_)
          have hP : WP Γ [[(a, moE r (upd (upd (upd i 12 ((hereP t n p) - 48)) 11 (nI (p + 1))) 12 (((10 * ((hereP t n p) - 48)) + (hereP t n (p + 1))) - 48)))], [((r 9), .inl (Γ.2.1 0, 50, .inl t))]] H := hP
          have hD : WD A [[(a, moE r (upd (upd (upd i 12 ((hereP t n p) - 48)) 11 (nI (p + 1))) 12 (((10 * ((hereP t n p) - 48)) + (hereP t n (p + 1))) - 48)))], [((r 9), .inl (Γ.2.1 0, 50, .inl t))]] := hD
          rw [show (upd (upd (upd i 12 ((hereP t n p) - 48)) 11 (nI (p + 1))) 12 (((10 * ((hereP t n p) - 48)) + (hereP t n (p + 1))) - 48)) = (upd (upd i 11 (nI (p + 1))) 12 (((10 * ((hereP t n p) - 48)) + (hereP t n (p + 1))) - 48)) from upd_drop _ _ _ _ (by intro q h9; simp [upd, h9])] at hP hD
          refine lv_aload_n hx hb dX4_number_84 rfl (lv_at hl 1 rfl) ?_
          refine lv_dup hx hb dX4_number_85 rfl ?_
          refine b_get (C := RX4) (T := TX4) (N := 16) (v := .int (nI (p + 1))) hx hb hts in_X4 hown hK (b_at (k := 0) hP rfl) rfl 11 (by decide) q1818 (fun _ h9 => h9) rfl dX4_number_86 ?_
          refine lv_iconst (v := 1) hx hb dX4_number_89 (by decide) ?_
          refine lv_iadd hx hb dX4_number_90 ?_
          refine b_top (nI_addE (a := p + 1) (b := 1) (c := p + 2) rfl rfl (by first | omega | rfl)) ?_
          refine b_putM (C := RX4) (T := TX4) (N := 16) (ty := .int) (vv := (nI (p + 2))) hx hb hts in_X4 tyX4_ok nmX4 hown hK hP hD hS 0 rfl rfl 11 (by decide) q1818 (fun _ h9 => h9) rfl (by decide +kernel) rfl rfl (Nat.le_of_ble_eq_true rfl) (moL_set11 _ _ _) dX4_number_91 (fun H locs hP hD hS => ?_)
          have hP : WP Γ [[(a, moE r (upd (upd (upd i 11 (nI (p + 1))) 12 (((10 * ((hereP t n p) - 48)) + (hereP t n (p + 1))) - 48)) 11 (nI (p + 2))))], [((r 9), .inl (Γ.2.1 0, 50, .inl t))]] H := hP
          have hD : WD A [[(a, moE r (upd (upd (upd i 11 (nI (p + 1))) 12 (((10 * ((hereP t n p) - 48)) + (hereP t n (p + 1))) - 48)) 11 (nI (p + 2))))], [((r 9), .inl (Γ.2.1 0, 50, .inl t))]] := hD
          rw [show (upd (upd (upd i 11 (nI (p + 1))) 12 (((10 * ((hereP t n p) - 48)) + (hereP t n (p + 1))) - 48)) 11 (nI (p + 2))) = (upd (upd i 12 (((10 * ((hereP t n p) - 48)) + (hereP t n (p + 1))) - 48)) 11 (nI (p + 2))) from upd_drop _ _ _ _ (by intro q h9; simp [upd, h9])] at hP hD
          refine lv_iinc (v := (nI 2)) (lv' := [(1, .int (nI 2)), (0, .ref a)]) hx hb dX4_number_94 hl (k := 0) rfl (nI_addE (a := 1) (b := 1) (c := 2) rfl rfl (by first | omega | rfl)) (by decide) rfl (fun ls hl => ?_)
          refine lv_goto (tgt := 39) hx hb dX4_number_97 (by decide) ?_
          refine lv_iload_n hx hb dX4_number_39 rfl (lv_at hl 0 rfl) ?_
          refine lv_iconst (v := 3) hx hb dX4_number_40 (by decide) ?_
          refine lv_icmp_ge (tgt := 100) hx hb dX4_number_41 (by decide) (fun c_11 => ?_) (fun c_11 => ?_)
          · -- 41 taken
            have n_11 : 3 ≤ 2 := (nI_leI (by omega) (by omega)).mp (show nI 3 ≤ nI 2 from c_11)
            exact absurd n_11 (by omega)
          · -- 41 not taken
            have n_11 : ¬ (3 ≤ 2) := fun h => c_11 ((nI_leI (a := 3) (b := 2) (by omega) (by omega)).mpr h)
            refine lv_aload_n hx hb dX4_number_44 rfl (lv_at hl 1 rfl) ?_
            refine b_get (C := RX4) (T := TX4) (N := 16) (v := .int (((10 * ((hereP t n p) - 48)) + (hereP t n (p + 1))) - 48)) hx hb hts in_X4 hown hK (b_at (k := 0) hP rfl) rfl 12 (by decide) q1819 (fun _ h9 => h9) rfl dX4_number_45 ?_
            refine lv_if_le (tgt := 100) hx hb dX4_number_48 (by decide) (fun c_12 => ?_) (fun c_12 => ?_)
            · -- 48 taken
              have d_12 := Int32.not_lt.mpr c_12
              refine lv_iconst (v := 1) hx hb dX4_number_100 (by decide) ?_
              exact b_zret hx hb hr hlocks hP hD hS (Nat.le_of_ble_eq_true rfl) (Nat.le_of_ble_eq_true rfl) rfl ⟨(by first | with_reducible rfl | (simp [numP, digF, c_3, n_5, c_6, d_6, c_9, n_11, c_12, d_12]; done) | rfl), (by first | with_reducible rfl | (simp [numP, digF, c_3, n_5, c_6, d_6, c_9, n_11, c_12, d_12]; done) | rfl)⟩ dX4_number_101
            · -- 48 not taken
              have d_12 := Int32.not_le.mp c_12
              refine lv_aload_n hx hb dX4_number_51 rfl (lv_at hl 1 rfl) ?_
              refine b_calli (br := []) (b_runV ⟨hx, hb, hml, hown, hts⟩ (mt_Mo_here l Γ _ a r (upd (upd i 12 (((10 * ((hereP t n p) - 48)) + (hereP t n (p + 1))) - 48)) 11 (nI (p + 2))) t n (p + 2) h10 (by first | exact hn | omega) (by first | exact h11 | rfl) (by first | exact hp | omega)) (lw_V q2159 q2161 qs55 q73 q2162) rfl rfl 0 (by decide +kernel) ⟨(Nat.le_of_ble_eq_true rfl), (Nat.le_of_ble_eq_true rfl)⟩ (c_pre hP hD hS hA hK hE [0, 1] rfl rfl ro_nil) (recv_at (q := (RX4, TX4, 16)) hK (b_at (k := 0) hP rfl) rfl) rfl hl.1 rfl (Nat.le_of_ble_eq_true rfl) dX4_number_52 ⟨(Nat.le_of_ble_eq_true rfl), (Nat.le_of_ble_eq_true rfl)⟩) hP hD hS hA [0, 1] [] rfl rfl rfl (fun r_13 u_13 H locs hw_13 hP hD hS _ => ?_)
              obtain ⟨rfl, rfl⟩ := hw_13
              have hP : WP Γ [[(a, moE r (upd (upd i 12 (((10 * ((hereP t n p) - 48)) + (hereP t n (p + 1))) - 48)) 11 (nI (p + 2))))], [((r 9), .inl (Γ.2.1 0, 50, .inl t))]] H := hP
              have hD : WD A [[(a, moE r (upd (upd i 12 (((10 * ((hereP t n p) - 48)) + (hereP t n (p + 1))) - 48)) 11 (nI (p + 2))))], [((r 9), .inl (Γ.2.1 0, 50, .inl t))]] := hD
              refine lv_bipush (v := 48) hx hb dX4_number_55 (by decide) ?_
              refine lv_bipush (v := 57) hx hb dX4_number_57 (by decide) ?_
              refine b_calli (br := [[(a, moE r (upd (upd i 12 (((10 * ((hereP t n p) - 48)) + (hereP t n (p + 1))) - 48)) 11 (nI (p + 2))))], [((r 9), .inl (Γ.2.1 0, 50, .inl t))]]) (b_runS ⟨hx, hb, hml, hown, hts⟩ (mt_Mo_in l Γ _ (hereP t n (p + 2)) 48 57) (lw_S q1879 q1880 q73 q1881) rfl rfl 3 (by decide +kernel) ⟨(Nat.le_of_ble_eq_true rfl), (Nat.le_of_ble_eq_true rfl)⟩ (c_pre hP hD hS hA hK hE [] rfl rfl ro_nil) rfl hl.1 rfl (Nat.le_of_ble_eq_true rfl) dX4_number_59 ⟨(Nat.le_of_ble_eq_true rfl), (Nat.le_of_ble_eq_true rfl)⟩) hP hD hS hA [] [0, 1] rfl rfl rfl (fun r_14 u_14 H locs hw_14 hP hD hS _ => ?_)
              obtain ⟨rfl, rfl⟩ := hw_14
              have hP : WP Γ [[(a, moE r (upd (upd i 12 (((10 * ((hereP t n p) - 48)) + (hereP t n (p + 1))) - 48)) 11 (nI (p + 2))))], [((r 9), .inl (Γ.2.1 0, 50, .inl t))]] H := hP
              have hD : WD A [[(a, moE r (upd (upd i 12 (((10 * ((hereP t n p) - 48)) + (hereP t n (p + 1))) - 48)) 11 (nI (p + 2))))], [((r 9), .inl (Γ.2.1 0, 50, .inl t))]] := hD
              refine lv_if_eq (tgt := 100) hx hb dX4_number_62 (by decide) (fun c_15 => ?_) (fun c_15 => ?_)
              · -- 62 taken
                refine lv_iconst (v := 1) hx hb dX4_number_100 (by decide) ?_
                exact b_zret hx hb hr hlocks hP hD hS (Nat.le_of_ble_eq_true rfl) (Nat.le_of_ble_eq_true rfl) rfl ⟨(by first | with_reducible rfl | (simp [numP, digF, c_3, n_5, c_6, d_6, c_9, n_11, c_12, d_12, c_15]; done) | rfl), (by first | with_reducible rfl | (simp [numP, digF, c_3, n_5, c_6, d_6, c_9, n_11, c_12, d_12, c_15]; done) | rfl)⟩ dX4_number_101
              · -- 62 not taken
                have hp2 := hereP_in (by decide) c_15
                refine lv_aload_n hx hb dX4_number_65 rfl (lv_at hl 1 rfl) ?_
                refine lv_bipush (v := 10) hx hb dX4_number_66 (by decide) ?_
                refine lv_aload_n hx hb dX4_number_68 rfl (lv_at hl 1 rfl) ?_
                refine b_get (C := RX4) (T := TX4) (N := 16) (v := .int (((10 * ((hereP t n p) - 48)) + (hereP t n (p + 1))) - 48)) hx hb hts in_X4 hown hK (b_at (k := 0) hP rfl) rfl 12 (by decide) q1819 (fun _ h9 => h9) rfl dX4_number_69 ?_
                refine lv_imul hx hb dX4_number_72 ?_
                refine lv_aload_n hx hb dX4_number_73 rfl (lv_at hl 1 rfl) ?_
                refine b_calli (br := []) (b_runV ⟨hx, hb, hml, hown, hts⟩ (mt_Mo_here l Γ _ a r (upd (upd i 12 (((10 * ((hereP t n p) - 48)) + (hereP t n (p + 1))) - 48)) 11 (nI (p + 2))) t n (p + 2) h10 (by first | exact hn | omega) (by first | exact h11 | rfl) (by first | exact hp | omega)) (lw_V q2159 q2161 qs55 q73 q2162) rfl rfl 0 (by decide +kernel) ⟨(Nat.le_of_ble_eq_true rfl), (Nat.le_of_ble_eq_true rfl)⟩ (c_pre hP hD hS hA hK hE [0, 1] rfl rfl ro_nil) (recv_at (q := (RX4, TX4, 16)) hK (b_at (k := 0) hP rfl) rfl) rfl hl.1 rfl (Nat.le_of_ble_eq_true rfl) dX4_number_74 ⟨(Nat.le_of_ble_eq_true rfl), (Nat.le_of_ble_eq_true rfl)⟩) hP hD hS hA [0, 1] [] rfl rfl rfl (fun r_16 u_16 H locs hw_16 hP hD hS _ => ?_)
                obtain ⟨rfl, rfl⟩ := hw_16
                have hP : WP Γ [[(a, moE r (upd (upd i 12 (((10 * ((hereP t n p) - 48)) + (hereP t n (p + 1))) - 48)) 11 (nI (p + 2))))], [((r 9), .inl (Γ.2.1 0, 50, .inl t))]] H := hP
                have hD : WD A [[(a, moE r (upd (upd i 12 (((10 * ((hereP t n p) - 48)) + (hereP t n (p + 1))) - 48)) 11 (nI (p + 2))))], [((r 9), .inl (Γ.2.1 0, 50, .inl t))]] := hD
                refine lv_iadd hx hb dX4_number_77 ?_
                refine lv_bipush (v := 48) hx hb dX4_number_78 (by decide) ?_
                refine lv_isub hx hb dX4_number_80 ?_
                refine b_putM (C := RX4) (T := TX4) (N := 16) (ty := .int) (vv := (((10 * (((10 * ((hereP t n p) - 48)) + (hereP t n (p + 1))) - 48)) + (hereP t n (p + 2))) - 48)) hx hb hts in_X4 tyX4_ok nmX4 hown hK hP hD hS 0 rfl rfl 12 (by decide) q1819 (fun _ h9 => h9) rfl (by decide +kernel) rfl rfl (Nat.le_of_ble_eq_true rfl) (moL_set12 _ _ _) dX4_number_81 (fun H locs hP hD hS => ?_)
                have hP : WP Γ [[(a, moE r (upd (upd (upd i 12 (((10 * ((hereP t n p) - 48)) + (hereP t n (p + 1))) - 48)) 11 (nI (p + 2))) 12 (((10 * (((10 * ((hereP t n p) - 48)) + (hereP t n (p + 1))) - 48)) + (hereP t n (p + 2))) - 48)))], [((r 9), .inl (Γ.2.1 0, 50, .inl t))]] H := hP
                have hD : WD A [[(a, moE r (upd (upd (upd i 12 (((10 * ((hereP t n p) - 48)) + (hereP t n (p + 1))) - 48)) 11 (nI (p + 2))) 12 (((10 * (((10 * ((hereP t n p) - 48)) + (hereP t n (p + 1))) - 48)) + (hereP t n (p + 2))) - 48)))], [((r 9), .inl (Γ.2.1 0, 50, .inl t))]] := hD
                rw [show (upd (upd (upd i 12 (((10 * ((hereP t n p) - 48)) + (hereP t n (p + 1))) - 48)) 11 (nI (p + 2))) 12 (((10 * (((10 * ((hereP t n p) - 48)) + (hereP t n (p + 1))) - 48)) + (hereP t n (p + 2))) - 48)) = (upd (upd i 11 (nI (p + 2))) 12 (((10 * (((10 * ((hereP t n p) - 48)) + (hereP t n (p + 1))) - 48)) + (hereP t n (p + 2))) - 48)) from upd_drop _ _ _ _ (by intro q h9; simp [upd, h9])] at hP hD
                refine lv_aload_n hx hb dX4_number_84 rfl (lv_at hl 1 rfl) ?_
                refine lv_dup hx hb dX4_number_85 rfl ?_
                refine b_get (C := RX4) (T := TX4) (N := 16) (v := .int (nI (p + 2))) hx hb hts in_X4 hown hK (b_at (k := 0) hP rfl) rfl 11 (by decide) q1818 (fun _ h9 => h9) rfl dX4_number_86 ?_
                refine lv_iconst (v := 1) hx hb dX4_number_89 (by decide) ?_
                refine lv_iadd hx hb dX4_number_90 ?_
                refine b_top (nI_addE (a := p + 2) (b := 1) (c := p + 3) rfl rfl (by first | omega | rfl)) ?_
                refine b_putM (C := RX4) (T := TX4) (N := 16) (ty := .int) (vv := (nI (p + 3))) hx hb hts in_X4 tyX4_ok nmX4 hown hK hP hD hS 0 rfl rfl 11 (by decide) q1818 (fun _ h9 => h9) rfl (by decide +kernel) rfl rfl (Nat.le_of_ble_eq_true rfl) (moL_set11 _ _ _) dX4_number_91 (fun H locs hP hD hS => ?_)
                have hP : WP Γ [[(a, moE r (upd (upd (upd i 11 (nI (p + 2))) 12 (((10 * (((10 * ((hereP t n p) - 48)) + (hereP t n (p + 1))) - 48)) + (hereP t n (p + 2))) - 48)) 11 (nI (p + 3))))], [((r 9), .inl (Γ.2.1 0, 50, .inl t))]] H := hP
                have hD : WD A [[(a, moE r (upd (upd (upd i 11 (nI (p + 2))) 12 (((10 * (((10 * ((hereP t n p) - 48)) + (hereP t n (p + 1))) - 48)) + (hereP t n (p + 2))) - 48)) 11 (nI (p + 3))))], [((r 9), .inl (Γ.2.1 0, 50, .inl t))]] := hD
                rw [show (upd (upd (upd i 11 (nI (p + 2))) 12 (((10 * (((10 * ((hereP t n p) - 48)) + (hereP t n (p + 1))) - 48)) + (hereP t n (p + 2))) - 48)) 11 (nI (p + 3))) = (upd (upd i 12 (((10 * (((10 * ((hereP t n p) - 48)) + (hereP t n (p + 1))) - 48)) + (hereP t n (p + 2))) - 48)) 11 (nI (p + 3))) from upd_drop _ _ _ _ (by intro q h9; simp [upd, h9])] at hP hD
                refine lv_iinc (v := (nI 3)) (lv' := [(1, .int (nI 3)), (0, .ref a)]) hx hb dX4_number_94 hl (k := 0) rfl (nI_addE (a := 2) (b := 1) (c := 3) rfl rfl (by first | omega | rfl)) (by decide) rfl (fun ls hl => ?_)
                refine lv_goto (tgt := 39) hx hb dX4_number_97 (by decide) ?_
                refine lv_iload_n hx hb dX4_number_39 rfl (lv_at hl 0 rfl) ?_
                refine lv_iconst (v := 3) hx hb dX4_number_40 (by decide) ?_
                refine lv_icmp_ge (tgt := 100) hx hb dX4_number_41 (by decide) (fun c_17 => ?_) (fun c_17 => ?_)
                · -- 41 taken
                  have n_17 : 3 ≤ 3 := (nI_leI (by omega) (by omega)).mp (show nI 3 ≤ nI 3 from c_17)
                  refine lv_iconst (v := 1) hx hb dX4_number_100 (by decide) ?_
                  exact b_zret hx hb hr hlocks hP hD hS (Nat.le_of_ble_eq_true rfl) (Nat.le_of_ble_eq_true rfl) rfl ⟨(by first | with_reducible rfl | (simp [numP, digF, c_3, n_5, c_6, d_6, c_9, n_11, c_12, d_12, c_15, n_17]; done) | rfl), (by first | with_reducible rfl | (simp [numP, digF, c_3, n_5, c_6, d_6, c_9, n_11, c_12, d_12, c_15, n_17]; done) | rfl)⟩ dX4_number_101
                · -- 41 not taken
                  have n_17 : ¬ (3 ≤ 3) := fun h => c_17 ((nI_leI (a := 3) (b := 3) (by omega) (by omega)).mpr h)
                  exact absurd n_17 (by omega)
  · -- 11 not taken
    exact absurd c_3 hs
set_option maxHeartbeats 4000000 in
set_option maxRecDepth 100000 in
theorem mt_Mo_number_no (l : Launch) (Γ : GE) (sz : Nat) (a : Nat) (r : Nat → Nat) (i : Nat → Int32) (t : Nat → Int32) (n : Nat) (p : Nat) (h10 : i 10 = nI n) (hn : n ≤ 50) (h11 : i 11 = nI p) (hp : p ≤ n) (hs : inR (hereP t n p) 48 57 = 0) : KM l yX4_number cX4_number 2 (some FieldType.boolean) Γ 1 22 0 0 [.ref a] [[(a, moE r i)], [((r 9), .inl (Γ.2.1 0, 50, .inl t))]] [] sz (Qi Γ (fun r_ u_ => r_ = 0 ∧ u_ = [[(a, moE r i)], [((r 9), .inl (Γ.2.1 0, 50, .inl t))]])) := by
  refine K_intro (by decide) (Nat.le_of_ble_eq_true rfl) ?_
  intro pr_ ev_ s mi_ below meth cd_ A ls hx hb hr hml hown hts hlocks hname hK hE hRo hP hD hA hS hsz hl
  have hl : lv_has ls 2 [(0, .ref a)] := hl
  have hown : s.vm.findClass RX4 = some mi_.cls := hown
  refine lv_aload_n hx hb dX4_number_0 rfl (lv_at hl 0 rfl) ?_
  refine b_calli (br := []) (b_runV ⟨hx, hb, hml, hown, hts⟩ (mt_Mo_here l Γ _ a r i t n p h10 (by first | exact hn | omega) (by first | exact h11 | rfl) (by first | exact hp | omega)) (lw_V q2159 q2161 qs55 q73 q2162) rfl rfl 0 (by decide +kernel) ⟨(Nat.le_of_ble_eq_true rfl), (Nat.le_of_ble_eq_true rfl)⟩ (c_pre hP hD hS hA hK hE [0, 1] rfl rfl ro_nil) (recv_at (q := (RX4, TX4, 16)) hK (b_at (k := 0) hP rfl) rfl) rfl hl.1 rfl (Nat.le_of_ble_eq_true rfl) dX4_number_1 ⟨(Nat.le_of_ble_eq_true rfl), (Nat.le_of_ble_eq_true rfl)⟩) hP hD hS hA [0, 1] [] rfl rfl rfl (fun r_1 u_1 H locs hw_1 hP hD hS _ => ?_)
  obtain ⟨rfl, rfl⟩ := hw_1
  have hP : WP Γ [[(a, moE r i)], [((r 9), .inl (Γ.2.1 0, 50, .inl t))]] H := hP
  have hD : WD A [[(a, moE r i)], [((r 9), .inl (Γ.2.1 0, 50, .inl t))]] := hD
  refine lv_bipush (v := 48) hx hb dX4_number_4 (by decide) ?_
  refine lv_bipush (v := 57) hx hb dX4_number_6 (by decide) ?_
  refine b_calli (br := [[(a, moE r i)], [((r 9), .inl (Γ.2.1 0, 50, .inl t))]]) (b_runS ⟨hx, hb, hml, hown, hts⟩ (mt_Mo_in l Γ _ (hereP t n p) 48 57) (lw_S q1879 q1880 q73 q1881) rfl rfl 3 (by decide +kernel) ⟨(Nat.le_of_ble_eq_true rfl), (Nat.le_of_ble_eq_true rfl)⟩ (c_pre hP hD hS hA hK hE [] rfl rfl ro_nil) rfl hl.1 rfl (Nat.le_of_ble_eq_true rfl) dX4_number_8 ⟨(Nat.le_of_ble_eq_true rfl), (Nat.le_of_ble_eq_true rfl)⟩) hP hD hS hA [] [0, 1] rfl rfl rfl (fun r_2 u_2 H locs hw_2 hP hD hS _ => ?_)
  obtain ⟨rfl, rfl⟩ := hw_2
  have hP : WP Γ [[(a, moE r i)], [((r 9), .inl (Γ.2.1 0, 50, .inl t))]] H := hP
  have hD : WD A [[(a, moE r i)], [((r 9), .inl (Γ.2.1 0, 50, .inl t))]] := hD
  refine lv_if_ne (tgt := 16) hx hb dX4_number_11 (by decide) (fun c_3 => ?_) (fun c_3 => ?_)
  · -- 11 taken
    exact absurd hs c_3
  · -- 11 not taken
    refine lv_iconst (v := 0) hx hb dX4_number_14 (by decide) ?_
    exact b_zret hx hb hr hlocks hP hD hS (Nat.le_of_ble_eq_true rfl) (Nat.le_of_ble_eq_true rfl) rfl ⟨(by first | with_reducible rfl | (simp [numP, digF, c_3]; done) | rfl), (by first | with_reducible rfl | (simp [numP, digF, c_3]; done) | rfl)⟩ dX4_number_15
def wEndF (t : Nat → Int32) (n : Nat) : Nat → Nat → Nat
  | 0, p => p
  | f + 1, p => if inR (hereP t n p) 97 122 = 0 then p else wEndF t n f (p + 1)
/-- the end of the letters a .. z from p on -/
def wEnd (t : Nat → Int32) (n p : Nat) : Nat := wEndF t n (n + 1 - p) p
theorem wEndF_in (t : Nat → Int32) (n : Nat) : ∀ (f p : Nat), p ≤ n → p ≤ wEndF t n f p ∧ wEndF t n f p ≤ n := by
  intro f
  induction f with
  | zero => intro p h; exact ⟨Nat.le_refl _, h⟩
  | succ f ih =>
    intro p h
    rw [wEndF]
    by_cases c : inR (hereP t n p) 97 122 = 0
    · rw [if_pos c]; exact ⟨Nat.le_refl _, h⟩
    · rw [if_neg c]
      have h2 := hereP_in (by decide) c
      have := ih (p + 1) (by omega)
      exact ⟨by omega, this.2⟩
theorem wEnd_in {t : Nat → Int32} {n p : Nat} (h : p ≤ n) : p ≤ wEnd t n p ∧ wEnd t n p ≤ n := wEndF_in t n _ p h
def wordNo (t : Nat → Int32) (fr to : Nat) : Int32 := if isW t fr to 31 4 = 0 then (if isW t fr to 32 5 = 0 then (if isW t fr to 33 5 = 0 then (if isW t fr to 34 3 = 0 then (if isW t fr to 35 4 = 0 then (if isW t fr to 36 5 = 0 then -1 else 5) else 4) else 3) else 2) else 1) else 0
theorem upd_same {f : Nat → Int32} {k : Nat} {x : Int32} (h : f k = x) : upd f k x = f := by
  funext q
  simp only [upd]
  split
  · rename_i e; rw [e, h]
  · rfl
set_option maxHeartbeats 4000000 in
set_option maxRecDepth 100000 in
theorem mt_Mo_wordHere_yes (l : Launch) (Γ : GE) (sz : Nat) (a : Nat) (r : Nat → Nat) (i : Nat → Int32) (t : Nat → Int32) (n : Nat) (p : Nat) (h10 : i 10 = nI n) (hn : n ≤ 50) (h11 : i 11 = nI p) (hp : p ≤ n) (hw : ¬ wordNo t p (wEnd t n p) < 0) : KM l yX4_wordHere cX4_wordHere 3 (some FieldType.int) Γ 5 110 0 0 [.ref a] [[(a, moE r i)], [((r 9), .inl (Γ.2.1 0, 50, .inl t))]] [] sz (Qi Γ (fun r_ u_ => r_ = (wordNo t p (wEnd t n p)) ∧ u_ = [[(a, moE r (upd i 11 (nI (wEnd t n p))))], [((r 9), .inl (Γ.2.1 0, 50, .inl t))]])) := by
  refine K_intro (by decide) (Nat.le_of_ble_eq_true rfl) ?_
  intro pr_ ev_ s mi_ below meth cd_ A ls hx hb hr hml hown hts hlocks hname hK hE hRo hP hD hA hS hsz hl
  have hl : lv_has ls 3 [(0, .ref a)] := hl
  have hown : s.vm.findClass RX4 = some mi_.cls := hown
  refine lv_aload_n hx hb dX4_wordHere_0 rfl (lv_at hl 0 rfl) ?_
  refine b_get (C := RX4) (T := TX4) (N := 16) (v := .int (i 11)) hx hb hts in_X4 hown hK (b_at (k := 0) hP rfl) rfl 11 (by decide) q1818 (fun _ h9 => h9) rfl dX4_wordHere_1 ?_
  refine b_top (h11) ?_
  refine lv_istore_n (lv' := [(1, .int (nI p)), (0, .ref a)]) hx hb dX4_wordHere_4 rfl hl (by decide) rfl (fun ls hl => ?_)
  rw [show i = upd i 11 (nI p) from (upd_same h11).symm] at hP hD
  have loop_1 : ∀ (fuel : Nat) (q : Nat), n + 1 - q < fuel → (q ≤ n) → (p ≤ q) → (wEnd t n p = wEndF t n (n + 1 - q) q) → ∀ (H : Heap) (locs : List Loc) (ls : Array Slot), WP Γ [[(a, moE r (upd i 11 (nI q)))], [((r 9), .inl (Γ.2.1 0, 50, .inl t))]] H → WD A [[(a, moE r (upd i 11 (nI q)))], [((r 9), .inl (Γ.2.1 0, 50, .inl t))]] → va_S A s.heap H locs → lv_has ls 3 [(1, .int (nI p)), (0, .ref a)] → W pr_ l ev_ { frames := 5, cells := 0, slots := 0, locals := 110 } s mi_ ([.ref a] : List Value).toArray below meth cd_ H locs 0 0 (MQ below (Qi Γ (fun r_ u_ => r_ = (wordNo t p (wEnd t n p)) ∧ u_ = [[(a, moE r (upd i 11 (nI (wEnd t n p))))], [((r 9), .inl (Γ.2.1 0, 50, .inl t))]]) A) ([.ref a] : List Value).toArray s 0 0 A) (F0 mi_ 5 ls ([])) := by
    intro fuel
    induction fuel with
    | zero => intro q hfuel; exact absurd hfuel (Nat.not_lt_zero _)
    | succ fuel ih =>
      intro q hfuel hq hpq hI H locs ls hP hD hS hl
      refine lv_aload_n hx hb dX4_wordHere_5 rfl (lv_at hl 1 rfl) ?_
      refine b_calli (br := []) (b_runV ⟨hx, hb, hml, hown, hts⟩ (mt_Mo_here l Γ _ a r (upd i 11 (nI q)) t n q h10 (by first | exact hn | omega) (by first | exact h11 | rfl) (by first | exact hp | omega)) (lw_V q2159 q2161 qs55 q73 q2162) rfl rfl 0 (by decide +kernel) ⟨(Nat.le_of_ble_eq_true rfl), (Nat.le_of_ble_eq_true rfl)⟩ (c_pre hP hD hS hA hK hE [0, 1] rfl rfl ro_nil) (recv_at (q := (RX4, TX4, 16)) hK (b_at (k := 0) hP rfl) rfl) rfl hl.1 rfl (Nat.le_of_ble_eq_true rfl) dX4_wordHere_6 ⟨(Nat.le_of_ble_eq_true rfl), (Nat.le_of_ble_eq_true rfl)⟩) hP hD hS hA [0, 1] [] rfl rfl rfl (fun r_2 u_2 H locs hw_2 hP hD hS _ => ?_)
      obtain ⟨rfl, rfl⟩ := hw_2
      have hP : WP Γ [[(a, moE r (upd i 11 (nI q)))], [((r 9), .inl (Γ.2.1 0, 50, .inl t))]] H := hP
      have hD : WD A [[(a, moE r (upd i 11 (nI q)))], [((r 9), .inl (Γ.2.1 0, 50, .inl t))]] := hD
      refine lv_bipush (v := 97) hx hb dX4_wordHere_9 (by decide) ?_
      refine lv_bipush (v := 122) hx hb dX4_wordHere_11 (by decide) ?_
      refine b_calli (br := [[(a, moE r (upd i 11 (nI q)))], [((r 9), .inl (Γ.2.1 0, 50, .inl t))]]) (b_runS ⟨hx, hb, hml, hown, hts⟩ (mt_Mo_in l Γ _ (hereP t n q) 97 122) (lw_S q1879 q1880 q73 q1881) rfl rfl 3 (by decide +kernel) ⟨(Nat.le_of_ble_eq_true rfl), (Nat.le_of_ble_eq_true rfl)⟩ (c_pre hP hD hS hA hK hE [] rfl rfl ro_nil) rfl hl.1 rfl (Nat.le_of_ble_eq_true rfl) dX4_wordHere_13 ⟨(Nat.le_of_ble_eq_true rfl), (Nat.le_of_ble_eq_true rfl)⟩) hP hD hS hA [] [0, 1] rfl rfl rfl (fun r_3 u_3 H locs hw_3 hP hD hS _ => ?_)
      obtain ⟨rfl, rfl⟩ := hw_3
      have hP : WP Γ [[(a, moE r (upd i 11 (nI q)))], [((r 9), .inl (Γ.2.1 0, 50, .inl t))]] H := hP
      have hD : WD A [[(a, moE r (upd i 11 (nI q)))], [((r 9), .inl (Γ.2.1 0, 50, .inl t))]] := hD
      refine lv_if_eq (tgt := 32) hx hb dX4_wordHere_16 (by decide) (fun c_4 => ?_) (fun c_4 => ?_)
      · -- 16 taken
        have hE9 : wEnd t n p = q := by rw [hI, show n + 1 - q = (n - q) + 1 by omega, wEndF, if_pos c_4]
        refine lv_iconst (v := 0) hx hb dX4_wordHere_32 (by decide) ?_
        refine lv_istore_n (lv' := [(2, .int 0), (1, .int (nI p)), (0, .ref a)]) hx hb dX4_wordHere_33 rfl hl (by decide) rfl (fun ls hl => ?_)
        refine lv_iload_n hx hb dX4_wordHere_34 rfl (lv_at hl 0 rfl) ?_
        refine lv_bipush (v := 6) hx hb dX4_wordHere_35 (by decide) ?_
        refine lv_icmp_ge (tgt := 61) hx hb dX4_wordHere_37 (by decide) (fun c_5 => ?_) (fun c_5 => ?_)
        · -- 37 taken
          have n_5 : 6 ≤ 0 := (nI_leI (by omega) (by omega)).mp (show nI 6 ≤ nI 0 from c_5)
          exact absurd n_5 (by omega)
        · -- 37 not taken
          have n_5 : ¬ (6 ≤ 0) := fun h => c_5 ((nI_leI (a := 6) (b := 0) (by omega) (by omega)).mpr h)
          refine lv_aload_n hx hb dX4_wordHere_40 rfl (lv_at hl 2 rfl) ?_
          refine lv_iload_n hx hb dX4_wordHere_41 rfl (lv_at hl 1 rfl) ?_
          refine lv_aload_n hx hb dX4_wordHere_42 rfl (lv_at hl 2 rfl) ?_
          refine b_get (C := RX4) (T := TX4) (N := 16) (v := .int (nI q)) hx hb hts in_X4 hown hK (b_at (k := 0) hP rfl) rfl 11 (by decide) q1818 (fun _ h9 => h9) rfl dX4_wordHere_43 ?_
          refine lv_iload_n hx hb dX4_wordHere_46 rfl (lv_at hl 0 rfl) ?_
          refine b_calli (br := []) (b_runV ⟨hx, hb, hml, hown, hts⟩ (mt_Mo_isWord_0 l Γ _ a r (upd i 11 (nI q)) t p q (by omega) (by omega)) (lw_V q2163 q2165 qs56 q73 q2166) rfl rfl 3 (by decide +kernel) ⟨(Nat.le_of_ble_eq_true rfl), (Nat.le_of_ble_eq_true rfl)⟩ (c_pre hP hD hS hA hK hE [0, 1] rfl rfl ro_nil) (recv_at (q := (RX4, TX4, 16)) hK (b_at (k := 0) hP rfl) rfl) rfl hl.1 rfl (Nat.le_of_ble_eq_true rfl) dX4_wordHere_47 ⟨(Nat.le_of_ble_eq_true rfl), (Nat.le_of_ble_eq_true rfl)⟩) hP hD hS hA [0, 1] [] rfl rfl rfl (fun r_6 u_6 H locs hw_6 hP hD hS _ => ?_)
          obtain ⟨rfl, rfl⟩ := hw_6
          have hP : WP Γ [[(a, moE r (upd i 11 (nI q)))], [((r 9), .inl (Γ.2.1 0, 50, .inl t))]] H := hP
          have hD : WD A [[(a, moE r (upd i 11 (nI q)))], [((r 9), .inl (Γ.2.1 0, 50, .inl t))]] := hD
          refine lv_if_eq (tgt := 55) hx hb dX4_wordHere_50 (by decide) (fun c_7 => ?_) (fun c_7 => ?_)
          · -- 50 taken
            refine lv_iinc (v := (nI 1)) (lv' := [(2, .int (nI 1)), (1, .int (nI p)), (0, .ref a)]) hx hb dX4_wordHere_55 hl (k := 0) rfl (nI_addE (a := 0) (b := 1) (c := 1) rfl rfl (by first | omega | rfl)) (by decide) rfl (fun ls hl => ?_)
            refine lv_goto (tgt := 34) hx hb dX4_wordHere_58 (by decide) ?_
            refine lv_iload_n hx hb dX4_wordHere_34 rfl (lv_at hl 0 rfl) ?_
            refine lv_bipush (v := 6) hx hb dX4_wordHere_35 (by decide) ?_
            refine lv_icmp_ge (tgt := 61) hx hb dX4_wordHere_37 (by decide) (fun c_8 => ?_) (fun c_8 => ?_)
            · -- 37 taken
              have n_8 : 6 ≤ 1 := (nI_leI (by omega) (by omega)).mp (show nI 6 ≤ nI 1 from c_8)
              exact absurd n_8 (by omega)
            · -- 37 not taken
              have n_8 : ¬ (6 ≤ 1) := fun h => c_8 ((nI_leI (a := 6) (b := 1) (by omega) (by omega)).mpr h)
              refine lv_aload_n hx hb dX4_wordHere_40 rfl (lv_at hl 2 rfl) ?_
              refine lv_iload_n hx hb dX4_wordHere_41 rfl (lv_at hl 1 rfl) ?_
              refine lv_aload_n hx hb dX4_wordHere_42 rfl (lv_at hl 2 rfl) ?_
              refine b_get (C := RX4) (T := TX4) (N := 16) (v := .int (nI q)) hx hb hts in_X4 hown hK (b_at (k := 0) hP rfl) rfl 11 (by decide) q1818 (fun _ h9 => h9) rfl dX4_wordHere_43 ?_
              refine lv_iload_n hx hb dX4_wordHere_46 rfl (lv_at hl 0 rfl) ?_
              refine b_calli (br := []) (b_runV ⟨hx, hb, hml, hown, hts⟩ (mt_Mo_isWord_1 l Γ _ a r (upd i 11 (nI q)) t p q (by omega) (by omega)) (lw_V q2163 q2165 qs56 q73 q2166) rfl rfl 3 (by decide +kernel) ⟨(Nat.le_of_ble_eq_true rfl), (Nat.le_of_ble_eq_true rfl)⟩ (c_pre hP hD hS hA hK hE [0, 1] rfl rfl ro_nil) (recv_at (q := (RX4, TX4, 16)) hK (b_at (k := 0) hP rfl) rfl) rfl hl.1 rfl (Nat.le_of_ble_eq_true rfl) dX4_wordHere_47 ⟨(Nat.le_of_ble_eq_true rfl), (Nat.le_of_ble_eq_true rfl)⟩) hP hD hS hA [0, 1] [] rfl rfl rfl (fun r_9 u_9 H locs hw_9 hP hD hS _ => ?_)
              obtain ⟨rfl, rfl⟩ := hw_9
              have hP : WP Γ [[(a, moE r (upd i 11 (nI q)))], [((r 9), .inl (Γ.2.1 0, 50, .inl t))]] H := hP
              have hD : WD A [[(a, moE r (upd i 11 (nI q)))], [((r 9), .inl (Γ.2.1 0, 50, .inl t))]] := hD
              refine lv_if_eq (tgt := 55) hx hb dX4_wordHere_50 (by decide) (fun c_10 => ?_) (fun c_10 => ?_)
              · -- 50 taken
                refine lv_iinc (v := (nI 2)) (lv' := [(2, .int (nI 2)), (1, .int (nI p)), (0, .ref a)]) hx hb dX4_wordHere_55 hl (k := 0) rfl (nI_addE (a := 1) (b := 1) (c := 2) rfl rfl (by first | omega | rfl)) (by decide) rfl (fun ls hl => ?_)
                refine lv_goto (tgt := 34) hx hb dX4_wordHere_58 (by decide) ?_
                refine lv_iload_n hx hb dX4_wordHere_34 rfl (lv_at hl 0 rfl) ?_
                refine lv_bipush (v := 6) hx hb dX4_wordHere_35 (by decide) ?_
                refine lv_icmp_ge (tgt := 61) hx hb dX4_wordHere_37 (by decide) (fun c_11 => ?_) (fun c_11 => ?_)
                · -- 37 taken
                  have n_11 : 6 ≤ 2 := (nI_leI (by omega) (by omega)).mp (show nI 6 ≤ nI 2 from c_11)
                  exact absurd n_11 (by omega)
                · -- 37 not taken
                  have n_11 : ¬ (6 ≤ 2) := fun h => c_11 ((nI_leI (a := 6) (b := 2) (by omega) (by omega)).mpr h)
                  refine lv_aload_n hx hb dX4_wordHere_40 rfl (lv_at hl 2 rfl) ?_
                  refine lv_iload_n hx hb dX4_wordHere_41 rfl (lv_at hl 1 rfl) ?_
                  refine lv_aload_n hx hb dX4_wordHere_42 rfl (lv_at hl 2 rfl) ?_
                  refine b_get (C := RX4) (T := TX4) (N := 16) (v := .int (nI q)) hx hb hts in_X4 hown hK (b_at (k := 0) hP rfl) rfl 11 (by decide) q1818 (fun _ h9 => h9) rfl dX4_wordHere_43 ?_
                  refine lv_iload_n hx hb dX4_wordHere_46 rfl (lv_at hl 0 rfl) ?_
                  refine b_calli (br := []) (b_runV ⟨hx, hb, hml, hown, hts⟩ (mt_Mo_isWord_2 l Γ _ a r (upd i 11 (nI q)) t p q (by omega) (by omega)) (lw_V q2163 q2165 qs56 q73 q2166) rfl rfl 3 (by decide +kernel) ⟨(Nat.le_of_ble_eq_true rfl), (Nat.le_of_ble_eq_true rfl)⟩ (c_pre hP hD hS hA hK hE [0, 1] rfl rfl ro_nil) (recv_at (q := (RX4, TX4, 16)) hK (b_at (k := 0) hP rfl) rfl) rfl hl.1 rfl (Nat.le_of_ble_eq_true rfl) dX4_wordHere_47 ⟨(Nat.le_of_ble_eq_true rfl), (Nat.le_of_ble_eq_true rfl)⟩) hP hD hS hA [0, 1] [] rfl rfl rfl (fun r_12 u_12 H locs hw_12 hP hD hS _ => ?_)
                  obtain ⟨rfl, rfl⟩ := hw_12
                  have hP : WP Γ [[(a, moE r (upd i 11 (nI q)))], [((r 9), .inl (Γ.2.1 0, 50, .inl t))]] H := hP
                  have hD : WD A [[(a, moE r (upd i 11 (nI q)))], [((r 9), .inl (Γ.2.1 0, 50, .inl t))]] := hD
                  refine lv_if_eq (tgt := 55) hx hb dX4_wordHere_50 (by decide) (fun c_13 => ?_) (fun c_13 => ?_)
                  · -- 50 taken
                    refine lv_iinc (v := (nI 3)) (lv' := [(2, .int (nI 3)), (1, .int (nI p)), (0, .ref a)]) hx hb dX4_wordHere_55 hl (k := 0) rfl (nI_addE (a := 2) (b := 1) (c := 3) rfl rfl (by first | omega | rfl)) (by decide) rfl (fun ls hl => ?_)
                    refine lv_goto (tgt := 34) hx hb dX4_wordHere_58 (by decide) ?_
                    refine lv_iload_n hx hb dX4_wordHere_34 rfl (lv_at hl 0 rfl) ?_
                    refine lv_bipush (v := 6) hx hb dX4_wordHere_35 (by decide) ?_
                    refine lv_icmp_ge (tgt := 61) hx hb dX4_wordHere_37 (by decide) (fun c_14 => ?_) (fun c_14 => ?_)
                    · -- 37 taken
                      have n_14 : 6 ≤ 3 := (nI_leI (by omega) (by omega)).mp (show nI 6 ≤ nI 3 from c_14)
                      exact absurd n_14 (by omega)
                    · -- 37 not taken
                      have n_14 : ¬ (6 ≤ 3) := fun h => c_14 ((nI_leI (a := 6) (b := 3) (by omega) (by omega)).mpr h)
                      refine lv_aload_n hx hb dX4_wordHere_40 rfl (lv_at hl 2 rfl) ?_
                      refine lv_iload_n hx hb dX4_wordHere_41 rfl (lv_at hl 1 rfl) ?_
                      refine lv_aload_n hx hb dX4_wordHere_42 rfl (lv_at hl 2 rfl) ?_
                      refine b_get (C := RX4) (T := TX4) (N := 16) (v := .int (nI q)) hx hb hts in_X4 hown hK (b_at (k := 0) hP rfl) rfl 11 (by decide) q1818 (fun _ h9 => h9) rfl dX4_wordHere_43 ?_
                      refine lv_iload_n hx hb dX4_wordHere_46 rfl (lv_at hl 0 rfl) ?_
                      refine b_calli (br := []) (b_runV ⟨hx, hb, hml, hown, hts⟩ (mt_Mo_isWord_3 l Γ _ a r (upd i 11 (nI q)) t p q (by omega) (by omega)) (lw_V q2163 q2165 qs56 q73 q2166) rfl rfl 3 (by decide +kernel) ⟨(Nat.le_of_ble_eq_true rfl), (Nat.le_of_ble_eq_true rfl)⟩ (c_pre hP hD hS hA hK hE [0, 1] rfl rfl ro_nil) (recv_at (q := (RX4, TX4, 16)) hK (b_at (k := 0) hP rfl) rfl) rfl hl.1 rfl (Nat.le_of_ble_eq_true rfl) dX4_wordHere_47 ⟨(Nat.le_of_ble_eq_true rfl), (Nat.le_of_ble_eq_true rfl)⟩) hP hD hS hA [0, 1] [] rfl rfl rfl (fun r_15 u_15 H locs hw_15 hP hD hS _ => ?_)
                      obtain ⟨rfl, rfl⟩ := hw_15
                      have hP : WP Γ [[(a, moE r (upd i 11 (nI q)))], [((r 9), .inl (Γ.2.1 0, 50, .inl t))]] H := hP
                      have hD : WD A [[(a, moE r (upd i 11 (nI q)))], [((r 9), .inl (Γ.2.1 0, 50, .inl t))]] := hD
                      refine lv_if_eq (tgt := 55) hx hb dX4_wordHere_50 (by decide) (fun c_16 => ?_) (fun c_16 => ?_)
                      · -- 50 taken
                        refine lv_iinc (v := (nI 4)) (lv' := [(2, .int (nI 4)), (1, .int (nI p)), (0, .ref a)]) hx hb dX4_wordHere_55 hl (k := 0) rfl (nI_addE (a := 3) (b := 1) (c := 4) rfl rfl (by first | omega | rfl)) (by decide) rfl (fun ls hl => ?_)
                        refine lv_goto (tgt := 34) hx hb dX4_wordHere_58 (by decide) ?_
                        refine lv_iload_n hx hb dX4_wordHere_34 rfl (lv_at hl 0 rfl) ?_
                        refine lv_bipush (v := 6) hx hb dX4_wordHere_35 (by decide) ?_
                        refine lv_icmp_ge (tgt := 61) hx hb dX4_wordHere_37 (by decide) (fun c_17 => ?_) (fun c_17 => ?_)
                        · -- 37 taken
                          have n_17 : 6 ≤ 4 := (nI_leI (by omega) (by omega)).mp (show nI 6 ≤ nI 4 from c_17)
                          exact absurd n_17 (by omega)
                        · -- 37 not taken
                          have n_17 : ¬ (6 ≤ 4) := fun h => c_17 ((nI_leI (a := 6) (b := 4) (by omega) (by omega)).mpr h)
                          refine lv_aload_n hx hb dX4_wordHere_40 rfl (lv_at hl 2 rfl) ?_
                          refine lv_iload_n hx hb dX4_wordHere_41 rfl (lv_at hl 1 rfl) ?_
                          refine lv_aload_n hx hb dX4_wordHere_42 rfl (lv_at hl 2 rfl) ?_
                          refine b_get (C := RX4) (T := TX4) (N := 16) (v := .int (nI q)) hx hb hts in_X4 hown hK (b_at (k := 0) hP rfl) rfl 11 (by decide) q1818 (fun _ h9 => h9) rfl dX4_wordHere_43 ?_
                          refine lv_iload_n hx hb dX4_wordHere_46 rfl (lv_at hl 0 rfl) ?_
                          refine b_calli (br := []) (b_runV ⟨hx, hb, hml, hown, hts⟩ (mt_Mo_isWord_4 l Γ _ a r (upd i 11 (nI q)) t p q (by omega) (by omega)) (lw_V q2163 q2165 qs56 q73 q2166) rfl rfl 3 (by decide +kernel) ⟨(Nat.le_of_ble_eq_true rfl), (Nat.le_of_ble_eq_true rfl)⟩ (c_pre hP hD hS hA hK hE [0, 1] rfl rfl ro_nil) (recv_at (q := (RX4, TX4, 16)) hK (b_at (k := 0) hP rfl) rfl) rfl hl.1 rfl (Nat.le_of_ble_eq_true rfl) dX4_wordHere_47 ⟨(Nat.le_of_ble_eq_true rfl), (Nat.le_of_ble_eq_true rfl)⟩) hP hD hS hA [0, 1] [] rfl rfl rfl (fun r_18 u_18 H locs hw_18 hP hD hS _ => ?_)
                          obtain ⟨rfl, rfl⟩ := hw_18
                          have hP : WP Γ [[(a, moE r (upd i 11 (nI q)))], [((r 9), .inl (Γ.2.1 0, 50, .inl t))]] H := hP
                          have hD : WD A [[(a, moE r (upd i 11 (nI q)))], [((r 9), .inl (Γ.2.1 0, 50, .inl t))]] := hD
                          refine lv_if_eq (tgt := 55) hx hb dX4_wordHere_50 (by decide) (fun c_19 => ?_) (fun c_19 => ?_)
                          · -- 50 taken
                            refine lv_iinc (v := (nI 5)) (lv' := [(2, .int (nI 5)), (1, .int (nI p)), (0, .ref a)]) hx hb dX4_wordHere_55 hl (k := 0) rfl (nI_addE (a := 4) (b := 1) (c := 5) rfl rfl (by first | omega | rfl)) (by decide) rfl (fun ls hl => ?_)
                            refine lv_goto (tgt := 34) hx hb dX4_wordHere_58 (by decide) ?_
                            refine lv_iload_n hx hb dX4_wordHere_34 rfl (lv_at hl 0 rfl) ?_
                            refine lv_bipush (v := 6) hx hb dX4_wordHere_35 (by decide) ?_
                            refine lv_icmp_ge (tgt := 61) hx hb dX4_wordHere_37 (by decide) (fun c_20 => ?_) (fun c_20 => ?_)
                            · -- 37 taken
                              have n_20 : 6 ≤ 5 := (nI_leI (by omega) (by omega)).mp (show nI 6 ≤ nI 5 from c_20)
                              exact absurd n_20 (by omega)
                            · -- 37 not taken
                              have n_20 : ¬ (6 ≤ 5) := fun h => c_20 ((nI_leI (a := 6) (b := 5) (by omega) (by omega)).mpr h)
                              refine lv_aload_n hx hb dX4_wordHere_40 rfl (lv_at hl 2 rfl) ?_
                              refine lv_iload_n hx hb dX4_wordHere_41 rfl (lv_at hl 1 rfl) ?_
                              refine lv_aload_n hx hb dX4_wordHere_42 rfl (lv_at hl 2 rfl) ?_
                              refine b_get (C := RX4) (T := TX4) (N := 16) (v := .int (nI q)) hx hb hts in_X4 hown hK (b_at (k := 0) hP rfl) rfl 11 (by decide) q1818 (fun _ h9 => h9) rfl dX4_wordHere_43 ?_
                              refine lv_iload_n hx hb dX4_wordHere_46 rfl (lv_at hl 0 rfl) ?_
                              refine b_calli (br := []) (b_runV ⟨hx, hb, hml, hown, hts⟩ (mt_Mo_isWord_5 l Γ _ a r (upd i 11 (nI q)) t p q (by omega) (by omega)) (lw_V q2163 q2165 qs56 q73 q2166) rfl rfl 3 (by decide +kernel) ⟨(Nat.le_of_ble_eq_true rfl), (Nat.le_of_ble_eq_true rfl)⟩ (c_pre hP hD hS hA hK hE [0, 1] rfl rfl ro_nil) (recv_at (q := (RX4, TX4, 16)) hK (b_at (k := 0) hP rfl) rfl) rfl hl.1 rfl (Nat.le_of_ble_eq_true rfl) dX4_wordHere_47 ⟨(Nat.le_of_ble_eq_true rfl), (Nat.le_of_ble_eq_true rfl)⟩) hP hD hS hA [0, 1] [] rfl rfl rfl (fun r_21 u_21 H locs hw_21 hP hD hS _ => ?_)
                              obtain ⟨rfl, rfl⟩ := hw_21
                              have hP : WP Γ [[(a, moE r (upd i 11 (nI q)))], [((r 9), .inl (Γ.2.1 0, 50, .inl t))]] H := hP
                              have hD : WD A [[(a, moE r (upd i 11 (nI q)))], [((r 9), .inl (Γ.2.1 0, 50, .inl t))]] := hD
                              refine lv_if_eq (tgt := 55) hx hb dX4_wordHere_50 (by decide) (fun c_22 => ?_) (fun c_22 => ?_)
                              · -- 50 taken
                                refine lv_iinc (v := (nI 6)) (lv' := [(2, .int (nI 6)), (1, .int (nI p)), (0, .ref a)]) hx hb dX4_wordHere_55 hl (k := 0) rfl (nI_addE (a := 5) (b := 1) (c := 6) rfl rfl (by first | omega | rfl)) (by decide) rfl (fun ls hl => ?_)
                                refine lv_goto (tgt := 34) hx hb dX4_wordHere_58 (by decide) ?_
                                refine lv_iload_n hx hb dX4_wordHere_34 rfl (lv_at hl 0 rfl) ?_
                                refine lv_bipush (v := 6) hx hb dX4_wordHere_35 (by decide) ?_
                                refine lv_icmp_ge (tgt := 61) hx hb dX4_wordHere_37 (by decide) (fun c_23 => ?_) (fun c_23 => ?_)
                                · -- 37 taken
                                  have n_23 : 6 ≤ 6 := (nI_leI (by omega) (by omega)).mp (show nI 6 ≤ nI 6 from c_23)
                                  exact absurd (show wordNo t p (wEnd t n p) < 0 from by rw [hE9]; simp [wordNo, n_5, c_7, n_8, c_10, n_11, c_13, n_14, c_16, n_17, c_19, n_20, c_22, n_23]) hw
                                · -- 37 not taken
                                  have n_23 : ¬ (6 ≤ 6) := fun h => c_23 ((nI_leI (a := 6) (b := 6) (by omega) (by omega)).mpr h)
                                  exact absurd n_23 (by omega)
                              · -- 50 not taken
                                refine lv_iload_n hx hb dX4_wordHere_53 rfl (lv_at hl 0 rfl) ?_
                                exact b_iret hx hb hr hlocks hP hD hS (Nat.le_of_ble_eq_true rfl) (Nat.le_of_ble_eq_true rfl) ⟨(by rw [hE9]; simp [wordNo, n_5, c_7, n_8, c_10, n_11, c_13, n_14, c_16, n_17, c_19, n_20, c_22] <;> rfl), (by rw [hE9])⟩ dX4_wordHere_54
                          · -- 50 not taken
                            refine lv_iload_n hx hb dX4_wordHere_53 rfl (lv_at hl 0 rfl) ?_
                            exact b_iret hx hb hr hlocks hP hD hS (Nat.le_of_ble_eq_true rfl) (Nat.le_of_ble_eq_true rfl) ⟨(by rw [hE9]; simp [wordNo, n_5, c_7, n_8, c_10, n_11, c_13, n_14, c_16, n_17, c_19] <;> rfl), (by rw [hE9])⟩ dX4_wordHere_54
                      · -- 50 not taken
                        refine lv_iload_n hx hb dX4_wordHere_53 rfl (lv_at hl 0 rfl) ?_
                        exact b_iret hx hb hr hlocks hP hD hS (Nat.le_of_ble_eq_true rfl) (Nat.le_of_ble_eq_true rfl) ⟨(by rw [hE9]; simp [wordNo, n_5, c_7, n_8, c_10, n_11, c_13, n_14, c_16] <;> rfl), (by rw [hE9])⟩ dX4_wordHere_54
                  · -- 50 not taken
                    refine lv_iload_n hx hb dX4_wordHere_53 rfl (lv_at hl 0 rfl) ?_
                    exact b_iret hx hb hr hlocks hP hD hS (Nat.le_of_ble_eq_true rfl) (Nat.le_of_ble_eq_true rfl) ⟨(by rw [hE9]; simp [wordNo, n_5, c_7, n_8, c_10, n_11, c_13] <;> rfl), (by rw [hE9])⟩ dX4_wordHere_54
              · -- 50 not taken
                refine lv_iload_n hx hb dX4_wordHere_53 rfl (lv_at hl 0 rfl) ?_
                exact b_iret hx hb hr hlocks hP hD hS (Nat.le_of_ble_eq_true rfl) (Nat.le_of_ble_eq_true rfl) ⟨(by rw [hE9]; simp [wordNo, n_5, c_7, n_8, c_10] <;> rfl), (by rw [hE9])⟩ dX4_wordHere_54
          · -- 50 not taken
            refine lv_iload_n hx hb dX4_wordHere_53 rfl (lv_at hl 0 rfl) ?_
            exact b_iret hx hb hr hlocks hP hD hS (Nat.le_of_ble_eq_true rfl) (Nat.le_of_ble_eq_true rfl) ⟨(by rw [hE9]; simp [wordNo, n_5, c_7] <;> rfl), (by rw [hE9])⟩ dX4_wordHere_54
      · -- 16 not taken
        have hq2 := hereP_in (by decide) c_4
        refine lv_aload_n hx hb dX4_wordHere_19 rfl (lv_at hl 1 rfl) ?_
        refine lv_dup hx hb dX4_wordHere_20 rfl ?_
        refine b_get (C := RX4) (T := TX4) (N := 16) (v := .int (nI q)) hx hb hts in_X4 hown hK (b_at (k := 0) hP rfl) rfl 11 (by decide) q1818 (fun _ h9 => h9) rfl dX4_wordHere_21 ?_
        refine lv_iconst (v := 1) hx hb dX4_wordHere_24 (by decide) ?_
        refine lv_iadd hx hb dX4_wordHere_25 ?_
        refine b_top (nI_addE (a := q) (b := 1) (c := q + 1) rfl rfl (by first | omega | rfl)) ?_
        refine b_putM (C := RX4) (T := TX4) (N := 16) (ty := .int) (vv := (nI (q + 1))) hx hb hts in_X4 tyX4_ok nmX4 hown hK hP hD hS 0 rfl rfl 11 (by decide) q1818 (fun _ h9 => h9) rfl (by decide +kernel) rfl rfl (Nat.le_of_ble_eq_true rfl) (moL_set11 _ _ _) dX4_wordHere_26 (fun H locs hP hD hS => ?_)
        have hP : WP Γ [[(a, moE r (upd (upd i 11 (nI q)) 11 (nI (q + 1))))], [((r 9), .inl (Γ.2.1 0, 50, .inl t))]] H := hP
        have hD : WD A [[(a, moE r (upd (upd i 11 (nI q)) 11 (nI (q + 1))))], [((r 9), .inl (Γ.2.1 0, 50, .inl t))]] := hD
        rw [show (upd (upd i 11 (nI q)) 11 (nI (q + 1))) = (upd i 11 (nI (q + 1))) from upd_drop _ _ _ _ (by intro q h9; simp [upd, h9])] at hP hD
        refine lv_goto (tgt := 5) hx hb dX4_wordHere_29 (by decide) ?_
        exact ih (q + 1) (by omega) (by omega) (by omega) (by rw [hI, show n + 1 - q = (n + 1 - (q + 1)) + 1 by omega, wEndF, if_neg c_4]) _ _ _ hP hD hS (lv_sub hl [0, 1] rfl)
  exact loop_1 ((n + 1 - p) + 1) p (Nat.lt_succ_self _) hp (Nat.le_refl _) rfl _ _ _ hP hD hS (lv_sub hl [0, 1] rfl)
set_option maxHeartbeats 4000000 in
set_option maxRecDepth 100000 in
theorem mt_Mo_wordHere_no (l : Launch) (Γ : GE) (sz : Nat) (a : Nat) (r : Nat → Nat) (i : Nat → Int32) (t : Nat → Int32) (n : Nat) (p : Nat) (h10 : i 10 = nI n) (hn : n ≤ 50) (h11 : i 11 = nI p) (hp : p ≤ n) (hw : wordNo t p (wEnd t n p) < 0) : KM l yX4_wordHere cX4_wordHere 3 (some FieldType.int) Γ 5 110 0 0 [.ref a] [[(a, moE r i)], [((r 9), .inl (Γ.2.1 0, 50, .inl t))]] [] sz (Qi Γ (fun r_ u_ => r_ = (-1) ∧ u_ = [[(a, moE r (upd i 11 (nI p)))], [((r 9), .inl (Γ.2.1 0, 50, .inl t))]])) := by
  refine K_intro (by decide) (Nat.le_of_ble_eq_true rfl) ?_
  intro pr_ ev_ s mi_ below meth cd_ A ls hx hb hr hml hown hts hlocks hname hK hE hRo hP hD hA hS hsz hl
  have hl : lv_has ls 3 [(0, .ref a)] := hl
  have hown : s.vm.findClass RX4 = some mi_.cls := hown
  refine lv_aload_n hx hb dX4_wordHere_0 rfl (lv_at hl 0 rfl) ?_
  refine b_get (C := RX4) (T := TX4) (N := 16) (v := .int (i 11)) hx hb hts in_X4 hown hK (b_at (k := 0) hP rfl) rfl 11 (by decide) q1818 (fun _ h9 => h9) rfl dX4_wordHere_1 ?_
  refine b_top (h11) ?_
  refine lv_istore_n (lv' := [(1, .int (nI p)), (0, .ref a)]) hx hb dX4_wordHere_4 rfl hl (by decide) rfl (fun ls hl => ?_)
  rw [show i = upd i 11 (nI p) from (upd_same h11).symm] at hP hD
  have loop_1 : ∀ (fuel : Nat) (q : Nat), n + 1 - q < fuel → (q ≤ n) → (p ≤ q) → (wEnd t n p = wEndF t n (n + 1 - q) q) → ∀ (H : Heap) (locs : List Loc) (ls : Array Slot), WP Γ [[(a, moE r (upd i 11 (nI q)))], [((r 9), .inl (Γ.2.1 0, 50, .inl t))]] H → WD A [[(a, moE r (upd i 11 (nI q)))], [((r 9), .inl (Γ.2.1 0, 50, .inl t))]] → va_S A s.heap H locs → lv_has ls 3 [(1, .int (nI p)), (0, .ref a)] → W pr_ l ev_ { frames := 5, cells := 0, slots := 0, locals := 110 } s mi_ ([.ref a] : List Value).toArray below meth cd_ H locs 0 0 (MQ below (Qi Γ (fun r_ u_ => r_ = (-1) ∧ u_ = [[(a, moE r (upd i 11 (nI p)))], [((r 9), .inl (Γ.2.1 0, 50, .inl t))]]) A) ([.ref a] : List Value).toArray s 0 0 A) (F0 mi_ 5 ls ([])) := by
    intro fuel
    induction fuel with
    | zero => intro q hfuel; exact absurd hfuel (Nat.not_lt_zero _)
    | succ fuel ih =>
      intro q hfuel hq hpq hI H locs ls hP hD hS hl
      refine lv_aload_n hx hb dX4_wordHere_5 rfl (lv_at hl 1 rfl) ?_
      refine b_calli (br := []) (b_runV ⟨hx, hb, hml, hown, hts⟩ (mt_Mo_here l Γ _ a r (upd i 11 (nI q)) t n q h10 (by first | exact hn | omega) (by first | exact h11 | rfl) (by first | exact hp | omega)) (lw_V q2159 q2161 qs55 q73 q2162) rfl rfl 0 (by decide +kernel) ⟨(Nat.le_of_ble_eq_true rfl), (Nat.le_of_ble_eq_true rfl)⟩ (c_pre hP hD hS hA hK hE [0, 1] rfl rfl ro_nil) (recv_at (q := (RX4, TX4, 16)) hK (b_at (k := 0) hP rfl) rfl) rfl hl.1 rfl (Nat.le_of_ble_eq_true rfl) dX4_wordHere_6 ⟨(Nat.le_of_ble_eq_true rfl), (Nat.le_of_ble_eq_true rfl)⟩) hP hD hS hA [0, 1] [] rfl rfl rfl (fun r_2 u_2 H locs hw_2 hP hD hS _ => ?_)
      obtain ⟨rfl, rfl⟩ := hw_2
      have hP : WP Γ [[(a, moE r (upd i 11 (nI q)))], [((r 9), .inl (Γ.2.1 0, 50, .inl t))]] H := hP
      have hD : WD A [[(a, moE r (upd i 11 (nI q)))], [((r 9), .inl (Γ.2.1 0, 50, .inl t))]] := hD
      refine lv_bipush (v := 97) hx hb dX4_wordHere_9 (by decide) ?_
      refine lv_bipush (v := 122) hx hb dX4_wordHere_11 (by decide) ?_
      refine b_calli (br := [[(a, moE r (upd i 11 (nI q)))], [((r 9), .inl (Γ.2.1 0, 50, .inl t))]]) (b_runS ⟨hx, hb, hml, hown, hts⟩ (mt_Mo_in l Γ _ (hereP t n q) 97 122) (lw_S q1879 q1880 q73 q1881) rfl rfl 3 (by decide +kernel) ⟨(Nat.le_of_ble_eq_true rfl), (Nat.le_of_ble_eq_true rfl)⟩ (c_pre hP hD hS hA hK hE [] rfl rfl ro_nil) rfl hl.1 rfl (Nat.le_of_ble_eq_true rfl) dX4_wordHere_13 ⟨(Nat.le_of_ble_eq_true rfl), (Nat.le_of_ble_eq_true rfl)⟩) hP hD hS hA [] [0, 1] rfl rfl rfl (fun r_3 u_3 H locs hw_3 hP hD hS _ => ?_)
      obtain ⟨rfl, rfl⟩ := hw_3
      have hP : WP Γ [[(a, moE r (upd i 11 (nI q)))], [((r 9), .inl (Γ.2.1 0, 50, .inl t))]] H := hP
      have hD : WD A [[(a, moE r (upd i 11 (nI q)))], [((r 9), .inl (Γ.2.1 0, 50, .inl t))]] := hD
      refine lv_if_eq (tgt := 32) hx hb dX4_wordHere_16 (by decide) (fun c_4 => ?_) (fun c_4 => ?_)
      · -- 16 taken
        have hE9 : wEnd t n p = q := by rw [hI, show n + 1 - q = (n - q) + 1 by omega, wEndF, if_pos c_4]
        refine lv_iconst (v := 0) hx hb dX4_wordHere_32 (by decide) ?_
        refine lv_istore_n (lv' := [(2, .int 0), (1, .int (nI p)), (0, .ref a)]) hx hb dX4_wordHere_33 rfl hl (by decide) rfl (fun ls hl => ?_)
        refine lv_iload_n hx hb dX4_wordHere_34 rfl (lv_at hl 0 rfl) ?_
        refine lv_bipush (v := 6) hx hb dX4_wordHere_35 (by decide) ?_
        refine lv_icmp_ge (tgt := 61) hx hb dX4_wordHere_37 (by decide) (fun c_5 => ?_) (fun c_5 => ?_)
        · -- 37 taken
          have n_5 : 6 ≤ 0 := (nI_leI (by omega) (by omega)).mp (show nI 6 ≤ nI 0 from c_5)
          exact absurd n_5 (by omega)
        · -- 37 not taken
          have n_5 : ¬ (6 ≤ 0) := fun h => c_5 ((nI_leI (a := 6) (b := 0) (by omega) (by omega)).mpr h)
          refine lv_aload_n hx hb dX4_wordHere_40 rfl (lv_at hl 2 rfl) ?_
          refine lv_iload_n hx hb dX4_wordHere_41 rfl (lv_at hl 1 rfl) ?_
          refine lv_aload_n hx hb dX4_wordHere_42 rfl (lv_at hl 2 rfl) ?_
          refine b_get (C := RX4) (T := TX4) (N := 16) (v := .int (nI q)) hx hb hts in_X4 hown hK (b_at (k := 0) hP rfl) rfl 11 (by decide) q1818 (fun _ h9 => h9) rfl dX4_wordHere_43 ?_
          refine lv_iload_n hx hb dX4_wordHere_46 rfl (lv_at hl 0 rfl) ?_
          refine b_calli (br := []) (b_runV ⟨hx, hb, hml, hown, hts⟩ (mt_Mo_isWord_0 l Γ _ a r (upd i 11 (nI q)) t p q (by omega) (by omega)) (lw_V q2163 q2165 qs56 q73 q2166) rfl rfl 3 (by decide +kernel) ⟨(Nat.le_of_ble_eq_true rfl), (Nat.le_of_ble_eq_true rfl)⟩ (c_pre hP hD hS hA hK hE [0, 1] rfl rfl ro_nil) (recv_at (q := (RX4, TX4, 16)) hK (b_at (k := 0) hP rfl) rfl) rfl hl.1 rfl (Nat.le_of_ble_eq_true rfl) dX4_wordHere_47 ⟨(Nat.le_of_ble_eq_true rfl), (Nat.le_of_ble_eq_true rfl)⟩) hP hD hS hA [0, 1] [] rfl rfl rfl (fun r_6 u_6 H locs hw_6 hP hD hS _ => ?_)
          obtain ⟨rfl, rfl⟩ := hw_6
          have hP : WP Γ [[(a, moE r (upd i 11 (nI q)))], [((r 9), .inl (Γ.2.1 0, 50, .inl t))]] H := hP
          have hD : WD A [[(a, moE r (upd i 11 (nI q)))], [((r 9), .inl (Γ.2.1 0, 50, .inl t))]] := hD
          refine lv_if_eq (tgt := 55) hx hb dX4_wordHere_50 (by decide) (fun c_7 => ?_) (fun c_7 => ?_)
          · -- 50 taken
            refine lv_iinc (v := (nI 1)) (lv' := [(2, .int (nI 1)), (1, .int (nI p)), (0, .ref a)]) hx hb dX4_wordHere_55 hl (k := 0) rfl (nI_addE (a := 0) (b := 1) (c := 1) rfl rfl (by first | omega | rfl)) (by decide) rfl (fun ls hl => ?_)
            refine lv_goto (tgt := 34) hx hb dX4_wordHere_58 (by decide) ?_
            refine lv_iload_n hx hb dX4_wordHere_34 rfl (lv_at hl 0 rfl) ?_
            refine lv_bipush (v := 6) hx hb dX4_wordHere_35 (by decide) ?_
            refine lv_icmp_ge (tgt := 61) hx hb dX4_wordHere_37 (by decide) (fun c_8 => ?_) (fun c_8 => ?_)
            · -- 37 taken
              have n_8 : 6 ≤ 1 := (nI_leI (by omega) (by omega)).mp (show nI 6 ≤ nI 1 from c_8)
              exact absurd n_8 (by omega)
            · -- 37 not taken
              have n_8 : ¬ (6 ≤ 1) := fun h => c_8 ((nI_leI (a := 6) (b := 1) (by omega) (by omega)).mpr h)
              refine lv_aload_n hx hb dX4_wordHere_40 rfl (lv_at hl 2 rfl) ?_
              refine lv_iload_n hx hb dX4_wordHere_41 rfl (lv_at hl 1 rfl) ?_
              refine lv_aload_n hx hb dX4_wordHere_42 rfl (lv_at hl 2 rfl) ?_
              refine b_get (C := RX4) (T := TX4) (N := 16) (v := .int (nI q)) hx hb hts in_X4 hown hK (b_at (k := 0) hP rfl) rfl 11 (by decide) q1818 (fun _ h9 => h9) rfl dX4_wordHere_43 ?_
              refine lv_iload_n hx hb dX4_wordHere_46 rfl (lv_at hl 0 rfl) ?_
              refine b_calli (br := []) (b_runV ⟨hx, hb, hml, hown, hts⟩ (mt_Mo_isWord_1 l Γ _ a r (upd i 11 (nI q)) t p q (by omega) (by omega)) (lw_V q2163 q2165 qs56 q73 q2166) rfl rfl 3 (by decide +kernel) ⟨(Nat.le_of_ble_eq_true rfl), (Nat.le_of_ble_eq_true rfl)⟩ (c_pre hP hD hS hA hK hE [0, 1] rfl rfl ro_nil) (recv_at (q := (RX4, TX4, 16)) hK (b_at (k := 0) hP rfl) rfl) rfl hl.1 rfl (Nat.le_of_ble_eq_true rfl) dX4_wordHere_47 ⟨(Nat.le_of_ble_eq_true rfl), (Nat.le_of_ble_eq_true rfl)⟩) hP hD hS hA [0, 1] [] rfl rfl rfl (fun r_9 u_9 H locs hw_9 hP hD hS _ => ?_)
              obtain ⟨rfl, rfl⟩ := hw_9
              have hP : WP Γ [[(a, moE r (upd i 11 (nI q)))], [((r 9), .inl (Γ.2.1 0, 50, .inl t))]] H := hP
              have hD : WD A [[(a, moE r (upd i 11 (nI q)))], [((r 9), .inl (Γ.2.1 0, 50, .inl t))]] := hD
              refine lv_if_eq (tgt := 55) hx hb dX4_wordHere_50 (by decide) (fun c_10 => ?_) (fun c_10 => ?_)
              · -- 50 taken
                refine lv_iinc (v := (nI 2)) (lv' := [(2, .int (nI 2)), (1, .int (nI p)), (0, .ref a)]) hx hb dX4_wordHere_55 hl (k := 0) rfl (nI_addE (a := 1) (b := 1) (c := 2) rfl rfl (by first | omega | rfl)) (by decide) rfl (fun ls hl => ?_)
                refine lv_goto (tgt := 34) hx hb dX4_wordHere_58 (by decide) ?_
                refine lv_iload_n hx hb dX4_wordHere_34 rfl (lv_at hl 0 rfl) ?_
                refine lv_bipush (v := 6) hx hb dX4_wordHere_35 (by decide) ?_
                refine lv_icmp_ge (tgt := 61) hx hb dX4_wordHere_37 (by decide) (fun c_11 => ?_) (fun c_11 => ?_)
                · -- 37 taken
                  have n_11 : 6 ≤ 2 := (nI_leI (by omega) (by omega)).mp (show nI 6 ≤ nI 2 from c_11)
                  exact absurd n_11 (by omega)
                · -- 37 not taken
                  have n_11 : ¬ (6 ≤ 2) := fun h => c_11 ((nI_leI (a := 6) (b := 2) (by omega) (by omega)).mpr h)
                  refine lv_aload_n hx hb dX4_wordHere_40 rfl (lv_at hl 2 rfl) ?_
                  refine lv_iload_n hx hb dX4_wordHere_41 rfl (lv_at hl 1 rfl) ?_
                  refine lv_aload_n hx hb dX4_wordHere_42 rfl (lv_at hl 2 rfl) ?_
                  refine b_get (C := RX4) (T := TX4) (N := 16) (v := .int (nI q)) hx hb hts in_X4 hown hK (b_at (k := 0) hP rfl) rfl 11 (by decide) q1818 (fun _ h9 => h9) rfl dX4_wordHere_43 ?_
                  refine lv_iload_n hx hb dX4_wordHere_46 rfl (lv_at hl 0 rfl) ?_
                  refine b_calli (br := []) (b_runV ⟨hx, hb, hml, hown, hts⟩ (mt_Mo_isWord_2 l Γ _ a r (upd i 11 (nI q)) t p q (by omega) (by omega)) (lw_V q2163 q2165 qs56 q73 q2166) rfl rfl 3 (by decide +kernel) ⟨(Nat.le_of_ble_eq_true rfl), (Nat.le_of_ble_eq_true rfl)⟩ (c_pre hP hD hS hA hK hE [0, 1] rfl rfl ro_nil) (recv_at (q := (RX4, TX4, 16)) hK (b_at (k := 0) hP rfl) rfl) rfl hl.1 rfl (Nat.le_of_ble_eq_true rfl) dX4_wordHere_47 ⟨(Nat.le_of_ble_eq_true rfl), (Nat.le_of_ble_eq_true rfl)⟩) hP hD hS hA [0, 1] [] rfl rfl rfl (fun r_12 u_12 H locs hw_12 hP hD hS _ => ?_)
                  obtain ⟨rfl, rfl⟩ := hw_12
                  have hP : WP Γ [[(a, moE r (upd i 11 (nI q)))], [((r 9), .inl (Γ.2.1 0, 50, .inl t))]] H := hP
                  have hD : WD A [[(a, moE r (upd i 11 (nI q)))], [((r 9), .inl (Γ.2.1 0, 50, .inl t))]] := hD
                  refine lv_if_eq (tgt := 55) hx hb dX4_wordHere_50 (by decide) (fun c_13 => ?_) (fun c_13 => ?_)
                  · -- 50 taken
                    refine lv_iinc (v := (nI 3)) (lv' := [(2, .int (nI 3)), (1, .int (nI p)), (0, .ref a)]) hx hb dX4_wordHere_55 hl (k := 0) rfl (nI_addE (a := 2) (b := 1) (c := 3) rfl rfl (by first | omega | rfl)) (by decide) rfl (fun ls hl => ?_)
                    refine lv_goto (tgt := 34) hx hb dX4_wordHere_58 (by decide) ?_
                    refine lv_iload_n hx hb dX4_wordHere_34 rfl (lv_at hl 0 rfl) ?_
                    refine lv_bipush (v := 6) hx hb dX4_wordHere_35 (by decide) ?_
                    refine lv_icmp_ge (tgt := 61) hx hb dX4_wordHere_37 (by decide) (fun c_14 => ?_) (fun c_14 => ?_)
                    · -- 37 taken
                      have n_14 : 6 ≤ 3 := (nI_leI (by omega) (by omega)).mp (show nI 6 ≤ nI 3 from c_14)
                      exact absurd n_14 (by omega)
                    · -- 37 not taken
                      have n_14 : ¬ (6 ≤ 3) := fun h => c_14 ((nI_leI (a := 6) (b := 3) (by omega) (by omega)).mpr h)
                      refine lv_aload_n hx hb dX4_wordHere_40 rfl (lv_at hl 2 rfl) ?_
                      refine lv_iload_n hx hb dX4_wordHere_41 rfl (lv_at hl 1 rfl) ?_
                      refine lv_aload_n hx hb dX4_wordHere_42 rfl (lv_at hl 2 rfl) ?_
                      refine b_get (C := RX4) (T := TX4) (N := 16) (v := .int (nI q)) hx hb hts in_X4 hown hK (b_at (k := 0) hP rfl) rfl 11 (by decide) q1818 (fun _ h9 => h9) rfl dX4_wordHere_43 ?_
                      refine lv_iload_n hx hb dX4_wordHere_46 rfl (lv_at hl 0 rfl) ?_
                      refine b_calli (br := []) (b_runV ⟨hx, hb, hml, hown, hts⟩ (mt_Mo_isWord_3 l Γ _ a r (upd i 11 (nI q)) t p q (by omega) (by omega)) (lw_V q2163 q2165 qs56 q73 q2166) rfl rfl 3 (by decide +kernel) ⟨(Nat.le_of_ble_eq_true rfl), (Nat.le_of_ble_eq_true rfl)⟩ (c_pre hP hD hS hA hK hE [0, 1] rfl rfl ro_nil) (recv_at (q := (RX4, TX4, 16)) hK (b_at (k := 0) hP rfl) rfl) rfl hl.1 rfl (Nat.le_of_ble_eq_true rfl) dX4_wordHere_47 ⟨(Nat.le_of_ble_eq_true rfl), (Nat.le_of_ble_eq_true rfl)⟩) hP hD hS hA [0, 1] [] rfl rfl rfl (fun r_15 u_15 H locs hw_15 hP hD hS _ => ?_)
                      obtain ⟨rfl, rfl⟩ := hw_15
                      have hP : WP Γ [[(a, moE r (upd i 11 (nI q)))], [((r 9), .inl (Γ.2.1 0, 50, .inl t))]] H := hP
                      have hD : WD A [[(a, moE r (upd i 11 (nI q)))], [((r 9), .inl (Γ.2.1 0, 50, .inl t))]] := hD
                      refine lv_if_eq (tgt := 55) hx hb dX4_wordHere_50 (by decide) (fun c_16 => ?_) (fun c_16 => ?_)
                      · -- 50 taken
                        refine lv_iinc (v := (nI 4)) (lv' := [(2, .int (nI 4)), (1, .int (nI p)), (0, .ref a)]) hx hb dX4_wordHere_55 hl (k := 0) rfl (nI_addE (a := 3) (b := 1) (c := 4) rfl rfl (by first | omega | rfl)) (by decide) rfl (fun ls hl => ?_)
                        refine lv_goto (tgt := 34) hx hb dX4_wordHere_58 (by decide) ?_
                        refine lv_iload_n hx hb dX4_wordHere_34 rfl (lv_at hl 0 rfl) ?_
                        refine lv_bipush (v := 6) hx hb dX4_wordHere_35 (by decide) ?_
                        refine lv_icmp_ge (tgt := 61) hx hb dX4_wordHere_37 (by decide) (fun c_17 => ?_) (fun c_17 => ?_)
                        · -- 37 taken
                          have n_17 : 6 ≤ 4 := (nI_leI (by omega) (by omega)).mp (show nI 6 ≤ nI 4 from c_17)
                          exact absurd n_17 (by omega)
                        · -- 37 not taken
                          have n_17 : ¬ (6 ≤ 4) := fun h => c_17 ((nI_leI (a := 6) (b := 4) (by omega) (by omega)).mpr h)
                          refine lv_aload_n hx hb dX4_wordHere_40 rfl (lv_at hl 2 rfl) ?_
                          refine lv_iload_n hx hb dX4_wordHere_41 rfl (lv_at hl 1 rfl) ?_
                          refine lv_aload_n hx hb dX4_wordHere_42 rfl (lv_at hl 2 rfl) ?_
                          refine b_get (C := RX4) (T := TX4) (N := 16) (v := .int (nI q)) hx hb hts in_X4 hown hK (b_at (k := 0) hP rfl) rfl 11 (by decide) q1818 (fun _ h9 => h9) rfl dX4_wordHere_43 ?_
                          refine lv_iload_n hx hb dX4_wordHere_46 rfl (lv_at hl 0 rfl) ?_
                          refine b_calli (br := []) (b_runV ⟨hx, hb, hml, hown, hts⟩ (mt_Mo_isWord_4 l Γ _ a r (upd i 11 (nI q)) t p q (by omega) (by omega)) (lw_V q2163 q2165 qs56 q73 q2166) rfl rfl 3 (by decide +kernel) ⟨(Nat.le_of_ble_eq_true rfl), (Nat.le_of_ble_eq_true rfl)⟩ (c_pre hP hD hS hA hK hE [0, 1] rfl rfl ro_nil) (recv_at (q := (RX4, TX4, 16)) hK (b_at (k := 0) hP rfl) rfl) rfl hl.1 rfl (Nat.le_of_ble_eq_true rfl) dX4_wordHere_47 ⟨(Nat.le_of_ble_eq_true rfl), (Nat.le_of_ble_eq_true rfl)⟩) hP hD hS hA [0, 1] [] rfl rfl rfl (fun r_18 u_18 H locs hw_18 hP hD hS _ => ?_)
                          obtain ⟨rfl, rfl⟩ := hw_18
                          have hP : WP Γ [[(a, moE r (upd i 11 (nI q)))], [((r 9), .inl (Γ.2.1 0, 50, .inl t))]] H := hP
                          have hD : WD A [[(a, moE r (upd i 11 (nI q)))], [((r 9), .inl (Γ.2.1 0, 50, .inl t))]] := hD
                          refine lv_if_eq (tgt := 55) hx hb dX4_wordHere_50 (by decide) (fun c_19 => ?_) (fun c_19 => ?_)
                          · -- 50 taken
                            refine lv_iinc (v := (nI 5)) (lv' := [(2, .int (nI 5)), (1, .int (nI p)), (0, .ref a)]) hx hb dX4_wordHere_55 hl (k := 0) rfl (nI_addE (a := 4) (b := 1) (c := 5) rfl rfl (by first | omega | rfl)) (by decide) rfl (fun ls hl => ?_)
                            refine lv_goto (tgt := 34) hx hb dX4_wordHere_58 (by decide) ?_
                            refine lv_iload_n hx hb dX4_wordHere_34 rfl (lv_at hl 0 rfl) ?_
                            refine lv_bipush (v := 6) hx hb dX4_wordHere_35 (by decide) ?_
                            refine lv_icmp_ge (tgt := 61) hx hb dX4_wordHere_37 (by decide) (fun c_20 => ?_) (fun c_20 => ?_)
                            · -- 37 taken
                              have n_20 : 6 ≤ 5 := (nI_leI (by omega) (by omega)).mp (show nI 6 ≤ nI 5 from c_20)
                              exact absurd n_20 (by omega)
                            · -- 37 not taken
                              have n_20 : ¬ (6 ≤ 5) := fun h => c_20 ((nI_leI (a := 6) (b := 5) (by omega) (by omega)).mpr h)
                              refine lv_aload_n hx hb dX4_wordHere_40 rfl (lv_at hl 2 rfl) ?_
                              refine lv_iload_n hx hb dX4_wordHere_41 rfl (lv_at hl 1 rfl) ?_
                              refine lv_aload_n hx hb dX4_wordHere_42 rfl (lv_at hl 2 rfl) ?_
                              refine b_get (C := RX4) (T := TX4) (N := 16) (v := .int (nI q)) hx hb hts in_X4 hown hK (b_at (k := 0) hP rfl) rfl 11 (by decide) q1818 (fun _ h9 => h9) rfl dX4_wordHere_43 ?_
                              refine lv_iload_n hx hb dX4_wordHere_46 rfl (lv_at hl 0 rfl) ?_
                              refine b_calli (br := []) (b_runV ⟨hx, hb, hml, hown, hts⟩ (mt_Mo_isWord_5 l Γ _ a r (upd i 11 (nI q)) t p q (by omega) (by omega)) (lw_V q2163 q2165 qs56 q73 q2166) rfl rfl 3 (by decide +kernel) ⟨(Nat.le_of_ble_eq_true rfl), (Nat.le_of_ble_eq_true rfl)⟩ (c_pre hP hD hS hA hK hE [0, 1] rfl rfl ro_nil) (recv_at (q := (RX4, TX4, 16)) hK (b_at (k := 0) hP rfl) rfl) rfl hl.1 rfl (Nat.le_of_ble_eq_true rfl) dX4_wordHere_47 ⟨(Nat.le_of_ble_eq_true rfl), (Nat.le_of_ble_eq_true rfl)⟩) hP hD hS hA [0, 1] [] rfl rfl rfl (fun r_21 u_21 H locs hw_21 hP hD hS _ => ?_)
                              obtain ⟨rfl, rfl⟩ := hw_21
                              have hP : WP Γ [[(a, moE r (upd i 11 (nI q)))], [((r 9), .inl (Γ.2.1 0, 50, .inl t))]] H := hP
                              have hD : WD A [[(a, moE r (upd i 11 (nI q)))], [((r 9), .inl (Γ.2.1 0, 50, .inl t))]] := hD
                              refine lv_if_eq (tgt := 55) hx hb dX4_wordHere_50 (by decide) (fun c_22 => ?_) (fun c_22 => ?_)
                              · -- 50 taken
                                refine lv_iinc (v := (nI 6)) (lv' := [(2, .int (nI 6)), (1, .int (nI p)), (0, .ref a)]) hx hb dX4_wordHere_55 hl (k := 0) rfl (nI_addE (a := 5) (b := 1) (c := 6) rfl rfl (by first | omega | rfl)) (by decide) rfl (fun ls hl => ?_)
                                refine lv_goto (tgt := 34) hx hb dX4_wordHere_58 (by decide) ?_
                                refine lv_iload_n hx hb dX4_wordHere_34 rfl (lv_at hl 0 rfl) ?_
                                refine lv_bipush (v := 6) hx hb dX4_wordHere_35 (by decide) ?_
                                refine lv_icmp_ge (tgt := 61) hx hb dX4_wordHere_37 (by decide) (fun c_23 => ?_) (fun c_23 => ?_)
                                · -- 37 taken
                                  have n_23 : 6 ≤ 6 := (nI_leI (by omega) (by omega)).mp (show nI 6 ≤ nI 6 from c_23)
                                  refine lv_aload_n hx hb dX4_wordHere_61 rfl (lv_at hl 2 rfl) ?_
                                  refine lv_iload_n hx hb dX4_wordHere_62 rfl (lv_at hl 1 rfl) ?_
                                  refine b_putM (C := RX4) (T := TX4) (N := 16) (ty := .int) (vv := (nI p)) hx hb hts in_X4 tyX4_ok nmX4 hown hK hP hD hS 0 rfl rfl 11 (by decide) q1818 (fun _ h9 => h9) rfl (by decide +kernel) rfl rfl (Nat.le_of_ble_eq_true rfl) (moL_set11 _ _ _) dX4_wordHere_63 (fun H locs hP hD hS => ?_)
                                  have hP : WP Γ [[(a, moE r (upd (upd i 11 (nI q)) 11 (nI p)))], [((r 9), .inl (Γ.2.1 0, 50, .inl t))]] H := hP
                                  have hD : WD A [[(a, moE r (upd (upd i 11 (nI q)) 11 (nI p)))], [((r 9), .inl (Γ.2.1 0, 50, .inl t))]] := hD
                                  rw [show (upd (upd i 11 (nI q)) 11 (nI p)) = (upd i 11 (nI p)) from upd_drop _ _ _ _ (by intro q h9; simp [upd, h9])] at hP hD
                                  refine lv_iconst (v := (-1)) hx hb dX4_wordHere_66 (by decide) ?_
                                  exact b_iret hx hb hr hlocks hP hD hS (Nat.le_of_ble_eq_true rfl) (Nat.le_of_ble_eq_true rfl) ⟨(by first | with_reducible rfl | (simp [wordNo, c_4, n_5, c_7, n_8, c_10, n_11, c_13, n_14, c_16, n_17, c_19, n_20, c_22, n_23]; done) | rfl), (by first | with_reducible rfl | (simp [wordNo, c_4, n_5, c_7, n_8, c_10, n_11, c_13, n_14, c_16, n_17, c_19, n_20, c_22, n_23]; done) | rfl)⟩ dX4_wordHere_67
                                · -- 37 not taken
                                  have n_23 : ¬ (6 ≤ 6) := fun h => c_23 ((nI_leI (a := 6) (b := 6) (by omega) (by omega)).mpr h)
                                  exact absurd n_23 (by omega)
                              · -- 50 not taken
                                exact absurd hw (show ¬ wordNo t p (wEnd t n p) < 0 from by rw [hE9]; simp [wordNo, n_5, c_7, n_8, c_10, n_11, c_13, n_14, c_16, n_17, c_19, n_20, c_22])
                          · -- 50 not taken
                            exact absurd hw (show ¬ wordNo t p (wEnd t n p) < 0 from by rw [hE9]; simp [wordNo, n_5, c_7, n_8, c_10, n_11, c_13, n_14, c_16, n_17, c_19])
                      · -- 50 not taken
                        exact absurd hw (show ¬ wordNo t p (wEnd t n p) < 0 from by rw [hE9]; simp [wordNo, n_5, c_7, n_8, c_10, n_11, c_13, n_14, c_16])
                  · -- 50 not taken
                    exact absurd hw (show ¬ wordNo t p (wEnd t n p) < 0 from by rw [hE9]; simp [wordNo, n_5, c_7, n_8, c_10, n_11, c_13])
              · -- 50 not taken
                exact absurd hw (show ¬ wordNo t p (wEnd t n p) < 0 from by rw [hE9]; simp [wordNo, n_5, c_7, n_8, c_10])
          · -- 50 not taken
            exact absurd hw (show ¬ wordNo t p (wEnd t n p) < 0 from by rw [hE9]; simp [wordNo, n_5, c_7])
      · -- 16 not taken
        have hq2 := hereP_in (by decide) c_4
        refine lv_aload_n hx hb dX4_wordHere_19 rfl (lv_at hl 1 rfl) ?_
        refine lv_dup hx hb dX4_wordHere_20 rfl ?_
        refine b_get (C := RX4) (T := TX4) (N := 16) (v := .int (nI q)) hx hb hts in_X4 hown hK (b_at (k := 0) hP rfl) rfl 11 (by decide) q1818 (fun _ h9 => h9) rfl dX4_wordHere_21 ?_
        refine lv_iconst (v := 1) hx hb dX4_wordHere_24 (by decide) ?_
        refine lv_iadd hx hb dX4_wordHere_25 ?_
        refine b_top (nI_addE (a := q) (b := 1) (c := q + 1) rfl rfl (by first | omega | rfl)) ?_
        refine b_putM (C := RX4) (T := TX4) (N := 16) (ty := .int) (vv := (nI (q + 1))) hx hb hts in_X4 tyX4_ok nmX4 hown hK hP hD hS 0 rfl rfl 11 (by decide) q1818 (fun _ h9 => h9) rfl (by decide +kernel) rfl rfl (Nat.le_of_ble_eq_true rfl) (moL_set11 _ _ _) dX4_wordHere_26 (fun H locs hP hD hS => ?_)
        have hP : WP Γ [[(a, moE r (upd (upd i 11 (nI q)) 11 (nI (q + 1))))], [((r 9), .inl (Γ.2.1 0, 50, .inl t))]] H := hP
        have hD : WD A [[(a, moE r (upd (upd i 11 (nI q)) 11 (nI (q + 1))))], [((r 9), .inl (Γ.2.1 0, 50, .inl t))]] := hD
        rw [show (upd (upd i 11 (nI q)) 11 (nI (q + 1))) = (upd i 11 (nI (q + 1))) from upd_drop _ _ _ _ (by intro q h9; simp [upd, h9])] at hP hD
        refine lv_goto (tgt := 5) hx hb dX4_wordHere_29 (by decide) ?_
        exact ih (q + 1) (by omega) (by omega) (by omega) (by rw [hI, show n + 1 - q = (n + 1 - (q + 1)) + 1 by omega, wEndF, if_neg c_4]) _ _ _ hP hD hS (lv_sub hl [0, 1] rfl)
  exact loop_1 ((n + 1 - p) + 1) p (Nat.lt_succ_self _) hp (Nat.le_refl _) rfl _ _ _ hP hD hS (lv_sub hl [0, 1] rfl)
theorem hereP_lt {t : Nat → Int32} {n p : Nat} {c : Int32} (hc : c ≠ -1) (h : hereP t n p = c) : p < n := by
  unfold hereP at h
  split at h
  · assumption
  · exact absurd h.symm hc
theorem digF_in (t : Nat → Int32) (n : Nat) : ∀ (f : Nat) (v : Int32) (p : Nat), p ≤ n → p ≤ (digF t n f v p).2 ∧ (digF t n f v p).2 ≤ n := by
  intro f
  induction f with
  | zero => intro v p h; exact ⟨Nat.le_refl _, h⟩
  | succ f ih =>
    intro v p h
    rw [digF]
    by_cases c0 : 0 < v
    · rw [if_pos c0]
      by_cases c : inR (hereP t n p) 48 57 = 0
      · rw [if_pos c]; exact ⟨Nat.le_refl _, h⟩
      · rw [if_neg c]
        have h2 := hereP_in (by decide) c
        have := ih (10 * v + hereP t n p - 48) (p + 1) (by omega)
        exact ⟨by omega, this.2⟩
    · rw [if_neg c0]; exact ⟨Nat.le_refl _, h⟩
theorem numP_in {t : Nat → Int32} {n p : Nat} (h : ¬ inR (hereP t n p) 48 57 = 0) : p + 1 ≤ (numP t n p).2 ∧ (numP t n p).2 ≤ n :=
  digF_in t n 2 _ (p + 1) (hereP_in (by decide) h)
/-- what a command leaves: taken or not, the place, the last number, how many are told, the told -/
abbrev CR : Type := Int32 × Nat × Int32 × Nat × (Nat → Int32)
def cmdT (t : Nat → Int32) (n p : Nat) (v : Int32) (k : Nat) (w : Nat → Int32) : CR :=
  if hereP t n p = 32 then
    if inR (hereP t n (p + 1)) 48 57 = 0 then (0, p + 1, v, k + 1, w)
    else (1, (numP t n (p + 1)).2, (numP t n (p + 1)).1, k + 1, upd w (3 * k + 2) (numP t n (p + 1)).1)
  else (0, p, v, k + 1, w)
def cmdU (t : Nat → Int32) (n p : Nat) (o : Int32) (k : Nat) (w : Nat → Int32) : CR :=
  if o < 2 then cmdT t n (numP t n p).2 (numP t n p).1 k (upd (upd (upd w (3 * k) o) (3 * k + 1) (numP t n p).1) (3 * k + 2) 0)
  else if o = 5 then cmdT t n (numP t n p).2 (numP t n p).1 k (upd (upd (upd w (3 * k) o) (3 * k + 1) (numP t n p).1) (3 * k + 2) 0)
  else (1, (numP t n p).2, (numP t n p).1, k + 1, upd (upd (upd w (3 * k) o) (3 * k + 1) (numP t n p).1) (3 * k + 2) 0)
def cmdR (t : Nat → Int32) (n p : Nat) (v : Int32) (k : Nat) (w : Nat → Int32) : CR :=
  if wordNo t p (wEnd t n p) < 0 then (0, p, v, k, w)
  else if hereP t n (wEnd t n p) = 32 then
    if inR (hereP t n (wEnd t n p + 1)) 48 57 = 0 then (0, wEnd t n p + 1, v, k, w)
    else cmdU t n (wEnd t n p + 1) (wordNo t p (wEnd t n p)) k w
  else (0, wEnd t n p, v, k, w)
theorem can3 {i f : Nat → Int32} {a b c : Int32} (h : ∀ q, q ≠ 11 → q ≠ 12 → q ≠ 15 → f q = i q) (h1 : f 11 = a) (h2 : f 12 = b) (h3 : f 15 = c) : f = upd (upd (upd i 15 c) 12 b) 11 a := by
  funext q
  by_cases e1 : q = 11
  · subst e1; rw [h1, pk_us]
  · rw [pk_un e1]
    by_cases e2 : q = 12
    · subst e2; rw [h2, pk_us]
    · rw [pk_un e2]
      by_cases e3 : q = 15
      · subst e3; rw [h3, pk_us]
      · rw [pk_un e3]; exact h q e1 e2 e3
set_option maxHeartbeats 4000000 in
set_option maxRecDepth 100000 in
theorem mt_Mo_command (l : Launch) (Γ : GE) (sz : Nat) (a : Nat) (r : Nat → Nat) (i : Nat → Int32) (t : Nat → Int32) (n : Nat) (p : Nat) (v : Int32) (k : Nat) (w : Nat → Int32) (h10 : i 10 = nI n) (hn : n ≤ 50) (h11 : i 11 = nI p) (hp : p ≤ n) (h12 : i 12 = v) (h15 : i 15 = nI k) (hk : k ≤ 19) : KM l yX4_command cX4_command 3 (some FieldType.boolean) Γ 6 132 0 0 [.ref a] [[(a, moE r i)], [((r 9), .inl (Γ.2.1 0, 50, .inl t))], [((r 14), .inl (Γ.2.1 0, 60, .inl w))]] [] sz (Qi Γ (fun r_ u_ => r_ = ((cmdR t n p v k w).1) ∧ u_ = [[(a, moE r (upd (upd (upd i 15 (nI (cmdR t n p v k w).2.2.2.1)) 12 (cmdR t n p v k w).2.2.1) 11 (nI (cmdR t n p v k w).2.1)))], [((r 9), .inl (Γ.2.1 0, 50, .inl t))], [((r 14), .inl (Γ.2.1 0, 60, .inl ((cmdR t n p v k w).2.2.2.2)))]])) := by
  refine K_intro (by decide) (Nat.le_of_ble_eq_true rfl) ?_
  intro pr_ ev_ s mi_ below meth cd_ A ls hx hb hr hml hown hts hlocks hname hK hE hRo hP hD hA hS hsz hl
  have hl : lv_has ls 3 [(0, .ref a)] := hl
  have hown : s.vm.findClass RX4 = some mi_.cls := hown
  refine lv_iconst (v := 3) hx hb dX4_command_0 (by decide) ?_
  refine lv_aload_n hx hb dX4_command_1 rfl (lv_at hl 0 rfl) ?_
  refine b_get (C := RX4) (T := TX4) (N := 16) (v := .int (i 15)) hx hb hts in_X4 hown hK (b_at (k := 0) hP rfl) rfl 15 (by decide) q1822 (fun _ h9 => h9) rfl dX4_command_2 ?_
  refine b_top (h15) ?_
  refine lv_imul hx hb dX4_command_5 ?_
  refine b_top (nI_mulE (a := 3) (b := k) (c := 3 * k) rfl rfl (by first | omega | rfl)) ?_
  refine lv_istore_n (lv' := [(1, .int (nI (3 * k))), (0, .ref a)]) hx hb dX4_command_6 rfl hl (by decide) rfl (fun ls hl => ?_)
  refine lv_aload_n hx hb dX4_command_7 rfl (lv_at hl 1 rfl) ?_
  by_cases bw : wordNo t p (wEnd t n p) < 0
  ·
    refine b_calli (br := [[((r 14), .inl (Γ.2.1 0, 60, .inl w))]]) (b_runV ⟨hx, hb, hml, hown, hts⟩ (mt_Mo_wordHere_no l Γ _ a r i t n p (by first | exact h10 | simp [upd, h10]) (by first | exact hn | omega) (by first | exact h11 | rfl | simp [upd, h11]) (by first | exact hp | exact (wEnd_in hp).2 | exact hereP_lt (by decide) b1 | exact hereP_lt (by decide) b3 | exact (numP_in b2).2 | exact (numP_in b4).2) bw) (lw_V q2155 q2157 qs54 q73 q2158) rfl rfl 0 (by decide +kernel) ⟨(Nat.le_of_ble_eq_true rfl), (Nat.le_of_ble_eq_true rfl)⟩ (c_pre hP hD hS hA hK hE [0, 1] rfl rfl ro_nil) (recv_at (q := (RX4, TX4, 16)) hK (b_at (k := 0) hP rfl) rfl) rfl hl.1 rfl (Nat.le_of_ble_eq_true rfl) dX4_command_8 ⟨(Nat.le_of_ble_eq_true rfl), (Nat.le_of_ble_eq_true rfl)⟩) hP hD hS hA [0, 1] [2] rfl rfl rfl (fun r_1 u_1 H locs hw_1 hP hD hS _ => ?_)
    obtain ⟨rfl, rfl⟩ := hw_1
    have hP : WP Γ [[(a, moE r (upd i 11 (nI p)))], [((r 9), .inl (Γ.2.1 0, 50, .inl t))], [((r 14), .inl (Γ.2.1 0, 60, .inl w))]] H := hP
    have hD : WD A [[(a, moE r (upd i 11 (nI p)))], [((r 9), .inl (Γ.2.1 0, 50, .inl t))], [((r 14), .inl (Γ.2.1 0, 60, .inl w))]] := hD
    refine lv_istore_n (lv' := [(2, .int (-1)), (1, .int (nI (3 * k))), (0, .ref a)]) hx hb dX4_command_11 rfl hl (by decide) rfl (fun ls hl => ?_)
    refine lv_iload_n hx hb dX4_command_12 rfl (lv_at hl 0 rfl) ?_
    refine lv_if_lt (tgt := 32) hx hb dX4_command_13 (by decide) (fun c_2 => ?_) (fun c_2 => ?_)
    · -- 13 taken
      have e9 : cmdR t n p v k w = (0, p, v, k, w) := by rw [cmdR, if_pos bw]
      rw [show (upd i 11 (nI p)) = (upd (upd (upd i 15 (nI k)) 12 v) 11 (nI p)) from can3 (by intro q a b c; simp [upd, a, b, c]) (by simp [upd, h11]) (by simp [upd, h12]) (by simp [upd, h15])] at hP hD
      refine lv_iconst (v := 0) hx hb dX4_command_32 (by decide) ?_
      exact b_zret hx hb hr hlocks hP hD hS (Nat.le_of_ble_eq_true rfl) (Nat.le_of_ble_eq_true rfl) rfl ⟨(by rw [e9]), (by rw [e9])⟩ dX4_command_33
    · -- 13 not taken
      exact absurd (show (-1 : Int32) < 0 by decide) c_2
  ·
    refine b_calli (br := [[((r 14), .inl (Γ.2.1 0, 60, .inl w))]]) (b_runV ⟨hx, hb, hml, hown, hts⟩ (mt_Mo_wordHere_yes l Γ _ a r i t n p (by first | exact h10 | simp [upd, h10]) (by first | exact hn | omega) (by first | exact h11 | rfl | simp [upd, h11]) (by first | exact hp | exact (wEnd_in hp).2 | exact hereP_lt (by decide) b1 | exact hereP_lt (by decide) b3 | exact (numP_in b2).2 | exact (numP_in b4).2) bw) (lw_V q2155 q2157 qs54 q73 q2158) rfl rfl 0 (by decide +kernel) ⟨(Nat.le_of_ble_eq_true rfl), (Nat.le_of_ble_eq_true rfl)⟩ (c_pre hP hD hS hA hK hE [0, 1] rfl rfl ro_nil) (recv_at (q := (RX4, TX4, 16)) hK (b_at (k := 0) hP rfl) rfl) rfl hl.1 rfl (Nat.le_of_ble_eq_true rfl) dX4_command_8 ⟨(Nat.le_of_ble_eq_true rfl), (Nat.le_of_ble_eq_true rfl)⟩) hP hD hS hA [0, 1] [2] rfl rfl rfl (fun r_3 u_3 H locs hw_3 hP hD hS _ => ?_)
    obtain ⟨rfl, rfl⟩ := hw_3
    have hP : WP Γ [[(a, moE r (upd i 11 (nI (wEnd t n p))))], [((r 9), .inl (Γ.2.1 0, 50, .inl t))], [((r 14), .inl (Γ.2.1 0, 60, .inl w))]] H := hP
    have hD : WD A [[(a, moE r (upd i 11 (nI (wEnd t n p))))], [((r 9), .inl (Γ.2.1 0, 50, .inl t))], [((r 14), .inl (Γ.2.1 0, 60, .inl w))]] := hD
    refine lv_istore_n (lv' := [(2, .int (wordNo t p (wEnd t n p))), (1, .int (nI (3 * k))), (0, .ref a)]) hx hb dX4_command_11 rfl hl (by decide) rfl (fun ls hl => ?_)
    refine lv_iload_n hx hb dX4_command_12 rfl (lv_at hl 0 rfl) ?_
    refine lv_if_lt (tgt := 32) hx hb dX4_command_13 (by decide) (fun c_4 => ?_) (fun c_4 => ?_)
    · -- 13 taken
      exact absurd c_4 bw
    · -- 13 not taken
      refine lv_aload_n hx hb dX4_command_16 rfl (lv_at hl 2 rfl) ?_
      refine lv_bipush (v := 32) hx hb dX4_command_17 (by decide) ?_
      by_cases b1 : hereP t n (wEnd t n p) = 32
      ·
        refine b_calli (br := [[((r 14), .inl (Γ.2.1 0, 60, .inl w))]]) (b_runV ⟨hx, hb, hml, hown, hts⟩ (mt_Mo_skips_yes l Γ _ a r (upd i 11 (nI (wEnd t n p))) t n (wEnd t n p) 32 (by first | exact h10 | simp [upd, h10]) (by first | exact hn | omega) (by first | exact h11 | rfl | simp [upd, h11]) (by first | exact hp | exact (wEnd_in hp).2 | exact hereP_lt (by decide) b1 | exact hereP_lt (by decide) b3 | exact (numP_in b2).2 | exact (numP_in b4).2) (by first | exact b4 | exact b3 | exact b2 | exact b1)) (lw_V q2178 q2180 qs57 q73 q2181) rfl rfl 1 (by decide +kernel) ⟨(Nat.le_of_ble_eq_true rfl), (Nat.le_of_ble_eq_true rfl)⟩ (c_pre hP hD hS hA hK hE [0, 1] rfl rfl ro_nil) (recv_at (q := (RX4, TX4, 16)) hK (b_at (k := 0) hP rfl) rfl) rfl hl.1 rfl (Nat.le_of_ble_eq_true rfl) dX4_command_19 ⟨(Nat.le_of_ble_eq_true rfl), (Nat.le_of_ble_eq_true rfl)⟩) hP hD hS hA [0, 1] [2] rfl rfl rfl (fun r_5 u_5 H locs hw_5 hP hD hS _ => ?_)
        obtain ⟨rfl, rfl⟩ := hw_5
        have hP : WP Γ [[(a, moE r (upd (upd i 11 (nI (wEnd t n p))) 11 (nI ((wEnd t n p) + 1))))], [((r 9), .inl (Γ.2.1 0, 50, .inl t))], [((r 14), .inl (Γ.2.1 0, 60, .inl w))]] H := hP
        have hD : WD A [[(a, moE r (upd (upd i 11 (nI (wEnd t n p))) 11 (nI ((wEnd t n p) + 1))))], [((r 9), .inl (Γ.2.1 0, 50, .inl t))], [((r 14), .inl (Γ.2.1 0, 60, .inl w))]] := hD
        refine lv_if_eq (tgt := 32) hx hb dX4_command_22 (by decide) (fun c_6 => ?_) (fun c_6 => ?_)
        · -- 22 taken
          have n_6 : 1 = 0 := (nI_eq (by omega) (by omega)).mp (show nI 1 = nI 0 from c_6)
          exact absurd n_6 (by omega)
        · -- 22 not taken
          have n_6 : ¬ (1 = 0) := fun h => c_6 ((nI_eq (a := 1) (b := 0) (by omega) (by omega)).mpr h)
          refine lv_aload_n hx hb dX4_command_25 rfl (lv_at hl 2 rfl) ?_
          by_cases b2 : inR (hereP t n ((wEnd t n p) + 1)) 48 57 = 0
          ·
            refine b_calli (br := [[((r 14), .inl (Γ.2.1 0, 60, .inl w))]]) (b_runV ⟨hx, hb, hml, hown, hts⟩ (mt_Mo_number_no l Γ _ a r (upd (upd i 11 (nI (wEnd t n p))) 11 (nI ((wEnd t n p) + 1))) t n ((wEnd t n p) + 1) (by first | exact h10 | simp [upd, h10]) (by first | exact hn | omega) (by first | exact h11 | rfl | simp [upd, h11]) (by first | exact hp | exact (wEnd_in hp).2 | exact hereP_lt (by decide) b1 | exact hereP_lt (by decide) b3 | exact (numP_in b2).2 | exact (numP_in b4).2) (by first | exact b4 | exact b3 | exact b2 | exact b1)) (lw_V q2182 q2184 qs58 q73 q2185) rfl rfl 0 (by decide +kernel) ⟨(Nat.le_of_ble_eq_true rfl), (Nat.le_of_ble_eq_true rfl)⟩ (c_pre hP hD hS hA hK hE [0, 1] rfl rfl ro_nil) (recv_at (q := (RX4, TX4, 16)) hK (b_at (k := 0) hP rfl) rfl) rfl hl.1 rfl (Nat.le_of_ble_eq_true rfl) dX4_command_26 ⟨(Nat.le_of_ble_eq_true rfl), (Nat.le_of_ble_eq_true rfl)⟩) hP hD hS hA [0, 1] [2] rfl rfl rfl (fun r_7 u_7 H locs hw_7 hP hD hS _ => ?_)
            obtain ⟨rfl, rfl⟩ := hw_7
            have hP : WP Γ [[(a, moE r (upd (upd i 11 (nI (wEnd t n p))) 11 (nI ((wEnd t n p) + 1))))], [((r 9), .inl (Γ.2.1 0, 50, .inl t))], [((r 14), .inl (Γ.2.1 0, 60, .inl w))]] H := hP
            have hD : WD A [[(a, moE r (upd (upd i 11 (nI (wEnd t n p))) 11 (nI ((wEnd t n p) + 1))))], [((r 9), .inl (Γ.2.1 0, 50, .inl t))], [((r 14), .inl (Γ.2.1 0, 60, .inl w))]] := hD
            refine lv_if_ne (tgt := 34) hx hb dX4_command_29 (by decide) (fun c_8 => ?_) (fun c_8 => ?_)
            · -- 29 taken
              have n_8 : ¬ (0 = 0) := fun h => c_8 ((nI_eq (a := 0) (b := 0) (by omega) (by omega)).mpr h)
              exact absurd n_8 (by omega)
            · -- 29 not taken
              have n_8 : 0 = 0 := (nI_eq (by omega) (by omega)).mp (show nI 0 = nI 0 from c_8)
              have e9 : cmdR t n p v k w = (0, ((wEnd t n p) + 1), v, k, w) := by rw [cmdR, if_neg bw, if_pos b1, if_pos b2]
              rw [show (upd (upd i 11 (nI (wEnd t n p))) 11 (nI ((wEnd t n p) + 1))) = (upd (upd (upd i 15 (nI k)) 12 v) 11 (nI ((wEnd t n p) + 1))) from can3 (by intro q a b c; simp [upd, a, b, c]) (by simp [upd, h11]) (by simp [upd, h12]) (by simp [upd, h15])] at hP hD
              refine lv_iconst (v := 0) hx hb dX4_command_32 (by decide) ?_
              exact b_zret hx hb hr hlocks hP hD hS (Nat.le_of_ble_eq_true rfl) (Nat.le_of_ble_eq_true rfl) rfl ⟨(by rw [e9]), (by rw [e9])⟩ dX4_command_33
          ·
            refine b_calli (br := [[((r 14), .inl (Γ.2.1 0, 60, .inl w))]]) (b_runV ⟨hx, hb, hml, hown, hts⟩ (mt_Mo_number_yes l Γ _ a r (upd (upd i 11 (nI (wEnd t n p))) 11 (nI ((wEnd t n p) + 1))) t n ((wEnd t n p) + 1) (by first | exact h10 | simp [upd, h10]) (by first | exact hn | omega) (by first | exact h11 | rfl | simp [upd, h11]) (by first | exact hp | exact (wEnd_in hp).2 | exact hereP_lt (by decide) b1 | exact hereP_lt (by decide) b3 | exact (numP_in b2).2 | exact (numP_in b4).2) (by first | exact b4 | exact b3 | exact b2 | exact b1)) (lw_V q2182 q2184 qs58 q73 q2185) rfl rfl 0 (by decide +kernel) ⟨(Nat.le_of_ble_eq_true rfl), (Nat.le_of_ble_eq_true rfl)⟩ (c_pre hP hD hS hA hK hE [0, 1] rfl rfl ro_nil) (recv_at (q := (RX4, TX4, 16)) hK (b_at (k := 0) hP rfl) rfl) rfl hl.1 rfl (Nat.le_of_ble_eq_true rfl) dX4_command_26 ⟨(Nat.le_of_ble_eq_true rfl), (Nat.le_of_ble_eq_true rfl)⟩) hP hD hS hA [0, 1] [2] rfl rfl rfl (fun r_9 u_9 H locs hw_9 hP hD hS _ => ?_)
            obtain ⟨rfl, rfl⟩ := hw_9
            have hP : WP Γ [[(a, moE r (upd (upd (upd (upd i 11 (nI (wEnd t n p))) 11 (nI ((wEnd t n p) + 1))) 12 (numP t n ((wEnd t n p) + 1)).1) 11 (nI (numP t n ((wEnd t n p) + 1)).2)))], [((r 9), .inl (Γ.2.1 0, 50, .inl t))], [((r 14), .inl (Γ.2.1 0, 60, .inl w))]] H := hP
            have hD : WD A [[(a, moE r (upd (upd (upd (upd i 11 (nI (wEnd t n p))) 11 (nI ((wEnd t n p) + 1))) 12 (numP t n ((wEnd t n p) + 1)).1) 11 (nI (numP t n ((wEnd t n p) + 1)).2)))], [((r 9), .inl (Γ.2.1 0, 50, .inl t))], [((r 14), .inl (Γ.2.1 0, 60, .inl w))]] := hD
            refine lv_if_ne (tgt := 34) hx hb dX4_command_29 (by decide) (fun c_10 => ?_) (fun c_10 => ?_)
            · -- 29 taken
              have n_10 : ¬ (1 = 0) := fun h => c_10 ((nI_eq (a := 1) (b := 0) (by omega) (by omega)).mpr h)
              refine lv_aload_n hx hb dX4_command_34 rfl (lv_at hl 2 rfl) ?_
              refine b_get (C := RX4) (T := TX4) (N := 16) (v := .ref (r 14)) hx hb hts in_X4 hown hK (b_at (k := 0) hP rfl) rfl 14 (by decide) q1821 (fun _ h9 => h9) rfl dX4_command_35 ?_
              refine lv_iload_n hx hb dX4_command_38 rfl (lv_at hl 1 rfl) ?_
              refine lv_iload_n hx hb dX4_command_39 rfl (lv_at hl 0 rfl) ?_
              refine b_iast hx hb hK hP hD hS 2 rfl (3 * k) rfl (by omega) (by omega) dX4_command_40 (fun H locs hP hD hS => ?_)
              have hP : WP Γ [[(a, moE r (upd (upd (upd (upd i 11 (nI (wEnd t n p))) 11 (nI ((wEnd t n p) + 1))) 12 (numP t n ((wEnd t n p) + 1)).1) 11 (nI (numP t n ((wEnd t n p) + 1)).2)))], [((r 9), .inl (Γ.2.1 0, 50, .inl t))], [((r 14), .inl (Γ.2.1 0, 60, .inl (upd w (3 * k) (wordNo t p (wEnd t n p)))))]] H := hP
              have hD : WD A [[(a, moE r (upd (upd (upd (upd i 11 (nI (wEnd t n p))) 11 (nI ((wEnd t n p) + 1))) 12 (numP t n ((wEnd t n p) + 1)).1) 11 (nI (numP t n ((wEnd t n p) + 1)).2)))], [((r 9), .inl (Γ.2.1 0, 50, .inl t))], [((r 14), .inl (Γ.2.1 0, 60, .inl (upd w (3 * k) (wordNo t p (wEnd t n p)))))]] := hD
              refine lv_aload_n hx hb dX4_command_41 rfl (lv_at hl 2 rfl) ?_
              refine b_get (C := RX4) (T := TX4) (N := 16) (v := .ref (r 14)) hx hb hts in_X4 hown hK (b_at (k := 0) hP rfl) rfl 14 (by decide) q1821 (fun _ h9 => h9) rfl dX4_command_42 ?_
              refine lv_iload_n hx hb dX4_command_45 rfl (lv_at hl 1 rfl) ?_
              refine lv_iconst (v := 1) hx hb dX4_command_46 (by decide) ?_
              refine lv_iadd hx hb dX4_command_47 ?_
              refine b_top (nI_addE (a := 3 * k) (b := 1) (c := 3 * k + 1) rfl rfl (by first | omega | rfl)) ?_
              refine lv_aload_n hx hb dX4_command_48 rfl (lv_at hl 2 rfl) ?_
              refine b_get (C := RX4) (T := TX4) (N := 16) (v := .int ((numP t n ((wEnd t n p) + 1)).1)) hx hb hts in_X4 hown hK (b_at (k := 0) hP rfl) rfl 12 (by decide) q1819 (fun _ h9 => h9) rfl dX4_command_49 ?_
              refine b_iast hx hb hK hP hD hS 2 rfl (3 * k + 1) rfl (by omega) (by omega) dX4_command_52 (fun H locs hP hD hS => ?_)
              have hP : WP Γ [[(a, moE r (upd (upd (upd (upd i 11 (nI (wEnd t n p))) 11 (nI ((wEnd t n p) + 1))) 12 (numP t n ((wEnd t n p) + 1)).1) 11 (nI (numP t n ((wEnd t n p) + 1)).2)))], [((r 9), .inl (Γ.2.1 0, 50, .inl t))], [((r 14), .inl (Γ.2.1 0, 60, .inl (upd (upd w (3 * k) (wordNo t p (wEnd t n p))) (3 * k + 1) ((numP t n ((wEnd t n p) + 1)).1))))]] H := hP
              have hD : WD A [[(a, moE r (upd (upd (upd (upd i 11 (nI (wEnd t n p))) 11 (nI ((wEnd t n p) + 1))) 12 (numP t n ((wEnd t n p) + 1)).1) 11 (nI (numP t n ((wEnd t n p) + 1)).2)))], [((r 9), .inl (Γ.2.1 0, 50, .inl t))], [((r 14), .inl (Γ.2.1 0, 60, .inl (upd (upd w (3 * k) (wordNo t p (wEnd t n p))) (3 * k + 1) ((numP t n ((wEnd t n p) + 1)).1))))]] := hD
              refine lv_aload_n hx hb dX4_command_53 rfl (lv_at hl 2 rfl) ?_
              refine b_get (C := RX4) (T := TX4) (N := 16) (v := .ref (r 14)) hx hb hts in_X4 hown hK (b_at (k := 0) hP rfl) rfl 14 (by decide) q1821 (fun _ h9 => h9) rfl dX4_command_54 ?_
              refine lv_iload_n hx hb dX4_command_57 rfl (lv_at hl 1 rfl) ?_
              refine lv_iconst (v := 2) hx hb dX4_command_58 (by decide) ?_
              refine lv_iadd hx hb dX4_command_59 ?_
              refine b_top (nI_addE (a := 3 * k) (b := 2) (c := 3 * k + 2) rfl rfl (by first | omega | rfl)) ?_
              refine lv_iconst (v := 0) hx hb dX4_command_60 (by decide) ?_
              refine b_iast hx hb hK hP hD hS 2 rfl (3 * k + 2) rfl (by omega) (by omega) dX4_command_61 (fun H locs hP hD hS => ?_)
              have hP : WP Γ [[(a, moE r (upd (upd (upd (upd i 11 (nI (wEnd t n p))) 11 (nI ((wEnd t n p) + 1))) 12 (numP t n ((wEnd t n p) + 1)).1) 11 (nI (numP t n ((wEnd t n p) + 1)).2)))], [((r 9), .inl (Γ.2.1 0, 50, .inl t))], [((r 14), .inl (Γ.2.1 0, 60, .inl (upd (upd (upd w (3 * k) (wordNo t p (wEnd t n p))) (3 * k + 1) ((numP t n ((wEnd t n p) + 1)).1)) (3 * k + 2) 0)))]] H := hP
              have hD : WD A [[(a, moE r (upd (upd (upd (upd i 11 (nI (wEnd t n p))) 11 (nI ((wEnd t n p) + 1))) 12 (numP t n ((wEnd t n p) + 1)).1) 11 (nI (numP t n ((wEnd t n p) + 1)).2)))], [((r 9), .inl (Γ.2.1 0, 50, .inl t))], [((r 14), .inl (Γ.2.1 0, 60, .inl (upd (upd (upd w (3 * k) (wordNo t p (wEnd t n p))) (3 * k + 1) ((numP t n ((wEnd t n p) + 1)).1)) (3 * k + 2) 0)))]] := hD
              refine lv_aload_n hx hb dX4_command_62 rfl (lv_at hl 2 rfl) ?_
              refine lv_dup hx hb dX4_command_63 rfl ?_
              refine b_get (C := RX4) (T := TX4) (N := 16) (v := .int (i 15)) hx hb hts in_X4 hown hK (b_at (k := 0) hP rfl) rfl 15 (by decide) q1822 (fun _ h9 => h9) rfl dX4_command_64 ?_
              refine b_top (h15) ?_
              refine lv_iconst (v := 1) hx hb dX4_command_67 (by decide) ?_
              refine lv_iadd hx hb dX4_command_68 ?_
              refine b_top (nI_addE (a := k) (b := 1) (c := k + 1) rfl rfl (by first | omega | rfl)) ?_
              refine b_putM (C := RX4) (T := TX4) (N := 16) (ty := .int) (vv := (nI (k + 1))) hx hb hts in_X4 tyX4_ok nmX4 hown hK hP hD hS 0 rfl rfl 15 (by decide) q1822 (fun _ h9 => h9) rfl (by decide +kernel) rfl rfl (Nat.le_of_ble_eq_true rfl) (moL_set15 _ _ _) dX4_command_69 (fun H locs hP hD hS => ?_)
              have hP : WP Γ [[(a, moE r (upd (upd (upd (upd (upd i 11 (nI (wEnd t n p))) 11 (nI ((wEnd t n p) + 1))) 12 (numP t n ((wEnd t n p) + 1)).1) 11 (nI (numP t n ((wEnd t n p) + 1)).2)) 15 (nI (k + 1))))], [((r 9), .inl (Γ.2.1 0, 50, .inl t))], [((r 14), .inl (Γ.2.1 0, 60, .inl (upd (upd (upd w (3 * k) (wordNo t p (wEnd t n p))) (3 * k + 1) ((numP t n ((wEnd t n p) + 1)).1)) (3 * k + 2) 0)))]] H := hP
              have hD : WD A [[(a, moE r (upd (upd (upd (upd (upd i 11 (nI (wEnd t n p))) 11 (nI ((wEnd t n p) + 1))) 12 (numP t n ((wEnd t n p) + 1)).1) 11 (nI (numP t n ((wEnd t n p) + 1)).2)) 15 (nI (k + 1))))], [((r 9), .inl (Γ.2.1 0, 50, .inl t))], [((r 14), .inl (Γ.2.1 0, 60, .inl (upd (upd (upd w (3 * k) (wordNo t p (wEnd t n p))) (3 * k + 1) ((numP t n ((wEnd t n p) + 1)).1)) (3 * k + 2) 0)))]] := hD
              refine lv_iload_n hx hb dX4_command_72 rfl (lv_at hl 0 rfl) ?_
              refine lv_iconst (v := 2) hx hb dX4_command_73 (by decide) ?_
              refine lv_icmp_lt (tgt := 82) hx hb dX4_command_74 (by decide) (fun c_11 => ?_) (fun c_11 => ?_)
              · -- 74 taken
                refine lv_aload_n hx hb dX4_command_82 rfl (lv_at hl 2 rfl) ?_
                refine lv_bipush (v := 32) hx hb dX4_command_83 (by decide) ?_
                by_cases b3 : hereP t n ((numP t n ((wEnd t n p) + 1)).2) = 32
                ·
                  refine b_calli (br := [[((r 14), .inl (Γ.2.1 0, 60, .inl (upd (upd (upd w (3 * k) (wordNo t p (wEnd t n p))) (3 * k + 1) ((numP t n ((wEnd t n p) + 1)).1)) (3 * k + 2) 0)))]]) (b_runV ⟨hx, hb, hml, hown, hts⟩ (mt_Mo_skips_yes l Γ _ a r (upd (upd (upd (upd (upd i 11 (nI (wEnd t n p))) 11 (nI ((wEnd t n p) + 1))) 12 (numP t n ((wEnd t n p) + 1)).1) 11 (nI (numP t n ((wEnd t n p) + 1)).2)) 15 (nI (k + 1))) t n ((numP t n ((wEnd t n p) + 1)).2) 32 (by first | exact h10 | simp [upd, h10]) (by first | exact hn | omega) (by first | exact h11 | rfl | simp [upd, h11]) (by first | exact hp | exact (wEnd_in hp).2 | exact hereP_lt (by decide) b1 | exact hereP_lt (by decide) b3 | exact (numP_in b2).2 | exact (numP_in b4).2) (by first | exact b4 | exact b3 | exact b2 | exact b1)) (lw_V q2178 q2180 qs57 q73 q2181) rfl rfl 1 (by decide +kernel) ⟨(Nat.le_of_ble_eq_true rfl), (Nat.le_of_ble_eq_true rfl)⟩ (c_pre hP hD hS hA hK hE [0, 1] rfl rfl ro_nil) (recv_at (q := (RX4, TX4, 16)) hK (b_at (k := 0) hP rfl) rfl) rfl hl.1 rfl (Nat.le_of_ble_eq_true rfl) dX4_command_85 ⟨(Nat.le_of_ble_eq_true rfl), (Nat.le_of_ble_eq_true rfl)⟩) hP hD hS hA [0, 1] [2] rfl rfl rfl (fun r_12 u_12 H locs hw_12 hP hD hS _ => ?_)
                  obtain ⟨rfl, rfl⟩ := hw_12
                  have hP : WP Γ [[(a, moE r (upd (upd (upd (upd (upd (upd i 11 (nI (wEnd t n p))) 11 (nI ((wEnd t n p) + 1))) 12 (numP t n ((wEnd t n p) + 1)).1) 11 (nI (numP t n ((wEnd t n p) + 1)).2)) 15 (nI (k + 1))) 11 (nI (((numP t n ((wEnd t n p) + 1)).2) + 1))))], [((r 9), .inl (Γ.2.1 0, 50, .inl t))], [((r 14), .inl (Γ.2.1 0, 60, .inl (upd (upd (upd w (3 * k) (wordNo t p (wEnd t n p))) (3 * k + 1) ((numP t n ((wEnd t n p) + 1)).1)) (3 * k + 2) 0)))]] H := hP
                  have hD : WD A [[(a, moE r (upd (upd (upd (upd (upd (upd i 11 (nI (wEnd t n p))) 11 (nI ((wEnd t n p) + 1))) 12 (numP t n ((wEnd t n p) + 1)).1) 11 (nI (numP t n ((wEnd t n p) + 1)).2)) 15 (nI (k + 1))) 11 (nI (((numP t n ((wEnd t n p) + 1)).2) + 1))))], [((r 9), .inl (Γ.2.1 0, 50, .inl t))], [((r 14), .inl (Γ.2.1 0, 60, .inl (upd (upd (upd w (3 * k) (wordNo t p (wEnd t n p))) (3 * k + 1) ((numP t n ((wEnd t n p) + 1)).1)) (3 * k + 2) 0)))]] := hD
                  refine lv_if_eq (tgt := 98) hx hb dX4_command_88 (by decide) (fun c_13 => ?_) (fun c_13 => ?_)
                  · -- 88 taken
                    have n_13 : 1 = 0 := (nI_eq (by omega) (by omega)).mp (show nI 1 = nI 0 from c_13)
                    exact absurd n_13 (by omega)
                  · -- 88 not taken
                    have n_13 : ¬ (1 = 0) := fun h => c_13 ((nI_eq (a := 1) (b := 0) (by omega) (by omega)).mpr h)
                    refine lv_aload_n hx hb dX4_command_91 rfl (lv_at hl 2 rfl) ?_
                    by_cases b4 : inR (hereP t n (((numP t n ((wEnd t n p) + 1)).2) + 1)) 48 57 = 0
                    ·
                      refine b_calli (br := [[((r 14), .inl (Γ.2.1 0, 60, .inl (upd (upd (upd w (3 * k) (wordNo t p (wEnd t n p))) (3 * k + 1) ((numP t n ((wEnd t n p) + 1)).1)) (3 * k + 2) 0)))]]) (b_runV ⟨hx, hb, hml, hown, hts⟩ (mt_Mo_number_no l Γ _ a r (upd (upd (upd (upd (upd (upd i 11 (nI (wEnd t n p))) 11 (nI ((wEnd t n p) + 1))) 12 (numP t n ((wEnd t n p) + 1)).1) 11 (nI (numP t n ((wEnd t n p) + 1)).2)) 15 (nI (k + 1))) 11 (nI (((numP t n ((wEnd t n p) + 1)).2) + 1))) t n (((numP t n ((wEnd t n p) + 1)).2) + 1) (by first | exact h10 | simp [upd, h10]) (by first | exact hn | omega) (by first | exact h11 | rfl | simp [upd, h11]) (by first | exact hp | exact (wEnd_in hp).2 | exact hereP_lt (by decide) b1 | exact hereP_lt (by decide) b3 | exact (numP_in b2).2 | exact (numP_in b4).2) (by first | exact b4 | exact b3 | exact b2 | exact b1)) (lw_V q2182 q2184 qs58 q73 q2185) rfl rfl 0 (by decide +kernel) ⟨(Nat.le_of_ble_eq_true rfl), (Nat.le_of_ble_eq_true rfl)⟩ (c_pre hP hD hS hA hK hE [0, 1] rfl rfl ro_nil) (recv_at (q := (RX4, TX4, 16)) hK (b_at (k := 0) hP rfl) rfl) rfl hl.1 rfl (Nat.le_of_ble_eq_true rfl) dX4_command_92 ⟨(Nat.le_of_ble_eq_true rfl), (Nat.le_of_ble_eq_true rfl)⟩) hP hD hS hA [0, 1] [2] rfl rfl rfl (fun r_14 u_14 H locs hw_14 hP hD hS _ => ?_)
                      obtain ⟨rfl, rfl⟩ := hw_14
                      have hP : WP Γ [[(a, moE r (upd (upd (upd (upd (upd (upd i 11 (nI (wEnd t n p))) 11 (nI ((wEnd t n p) + 1))) 12 (numP t n ((wEnd t n p) + 1)).1) 11 (nI (numP t n ((wEnd t n p) + 1)).2)) 15 (nI (k + 1))) 11 (nI (((numP t n ((wEnd t n p) + 1)).2) + 1))))], [((r 9), .inl (Γ.2.1 0, 50, .inl t))], [((r 14), .inl (Γ.2.1 0, 60, .inl (upd (upd (upd w (3 * k) (wordNo t p (wEnd t n p))) (3 * k + 1) ((numP t n ((wEnd t n p) + 1)).1)) (3 * k + 2) 0)))]] H := hP
                      have hD : WD A [[(a, moE r (upd (upd (upd (upd (upd (upd i 11 (nI (wEnd t n p))) 11 (nI ((wEnd t n p) + 1))) 12 (numP t n ((wEnd t n p) + 1)).1) 11 (nI (numP t n ((wEnd t n p) + 1)).2)) 15 (nI (k + 1))) 11 (nI (((numP t n ((wEnd t n p) + 1)).2) + 1))))], [((r 9), .inl (Γ.2.1 0, 50, .inl t))], [((r 14), .inl (Γ.2.1 0, 60, .inl (upd (upd (upd w (3 * k) (wordNo t p (wEnd t n p))) (3 * k + 1) ((numP t n ((wEnd t n p) + 1)).1)) (3 * k + 2) 0)))]] := hD
                      refine lv_if_ne (tgt := 100) hx hb dX4_command_95 (by decide) (fun c_15 => ?_) (fun c_15 => ?_)
                      · -- 95 taken
                        have n_15 : ¬ (0 = 0) := fun h => c_15 ((nI_eq (a := 0) (b := 0) (by omega) (by omega)).mpr h)
                        exact absurd n_15 (by omega)
                      · -- 95 not taken
                        have n_15 : 0 = 0 := (nI_eq (by omega) (by omega)).mp (show nI 0 = nI 0 from c_15)
                        have e9 : cmdR t n p v k w = (0, (((numP t n ((wEnd t n p) + 1)).2) + 1), (numP t n ((wEnd t n p) + 1)).1, (k + 1), (upd (upd (upd w (3 * k) (wordNo t p (wEnd t n p))) (3 * k + 1) ((numP t n ((wEnd t n p) + 1)).1)) (3 * k + 2) 0)) := by rw [cmdR, if_neg bw, if_pos b1, if_neg b2, cmdU, if_pos c_11, cmdT, if_pos b3, if_pos b4]
                        rw [show (upd (upd (upd (upd (upd (upd i 11 (nI (wEnd t n p))) 11 (nI ((wEnd t n p) + 1))) 12 (numP t n ((wEnd t n p) + 1)).1) 11 (nI (numP t n ((wEnd t n p) + 1)).2)) 15 (nI (k + 1))) 11 (nI (((numP t n ((wEnd t n p) + 1)).2) + 1))) = (upd (upd (upd i 15 (nI (k + 1))) 12 (numP t n ((wEnd t n p) + 1)).1) 11 (nI (((numP t n ((wEnd t n p) + 1)).2) + 1))) from can3 (by intro q a b c; simp [upd, a, b, c]) (by simp [upd, h11]) (by simp [upd, h12]) (by simp [upd, h15])] at hP hD
                        refine lv_iconst (v := 0) hx hb dX4_command_98 (by decide) ?_
                        exact b_zret hx hb hr hlocks hP hD hS (Nat.le_of_ble_eq_true rfl) (Nat.le_of_ble_eq_true rfl) rfl ⟨(by rw [e9]), (by rw [e9])⟩ dX4_command_99
                    ·
                      refine b_calli (br := [[((r 14), .inl (Γ.2.1 0, 60, .inl (upd (upd (upd w (3 * k) (wordNo t p (wEnd t n p))) (3 * k + 1) ((numP t n ((wEnd t n p) + 1)).1)) (3 * k + 2) 0)))]]) (b_runV ⟨hx, hb, hml, hown, hts⟩ (mt_Mo_number_yes l Γ _ a r (upd (upd (upd (upd (upd (upd i 11 (nI (wEnd t n p))) 11 (nI ((wEnd t n p) + 1))) 12 (numP t n ((wEnd t n p) + 1)).1) 11 (nI (numP t n ((wEnd t n p) + 1)).2)) 15 (nI (k + 1))) 11 (nI (((numP t n ((wEnd t n p) + 1)).2) + 1))) t n (((numP t n ((wEnd t n p) + 1)).2) + 1) (by first | exact h10 | simp [upd, h10]) (by first | exact hn | omega) (by first | exact h11 | rfl | simp [upd, h11]) (by first | exact hp | exact (wEnd_in hp).2 | exact hereP_lt (by decide) b1 | exact hereP_lt (by decide) b3 | exact (numP_in b2).2 | exact (numP_in b4).2) (by first | exact b4 | exact b3 | exact b2 | exact b1)) (lw_V q2182 q2184 qs58 q73 q2185) rfl rfl 0 (by decide +kernel) ⟨(Nat.le_of_ble_eq_true rfl), (Nat.le_of_ble_eq_true rfl)⟩ (c_pre hP hD hS hA hK hE [0, 1] rfl rfl ro_nil) (recv_at (q := (RX4, TX4, 16)) hK (b_at (k := 0) hP rfl) rfl) rfl hl.1 rfl (Nat.le_of_ble_eq_true rfl) dX4_command_92 ⟨(Nat.le_of_ble_eq_true rfl), (Nat.le_of_ble_eq_true rfl)⟩) hP hD hS hA [0, 1] [2] rfl rfl rfl (fun r_16 u_16 H locs hw_16 hP hD hS _ => ?_)
                      obtain ⟨rfl, rfl⟩ := hw_16
                      have hP : WP Γ [[(a, moE r (upd (upd (upd (upd (upd (upd (upd (upd i 11 (nI (wEnd t n p))) 11 (nI ((wEnd t n p) + 1))) 12 (numP t n ((wEnd t n p) + 1)).1) 11 (nI (numP t n ((wEnd t n p) + 1)).2)) 15 (nI (k + 1))) 11 (nI (((numP t n ((wEnd t n p) + 1)).2) + 1))) 12 (numP t n (((numP t n ((wEnd t n p) + 1)).2) + 1)).1) 11 (nI (numP t n (((numP t n ((wEnd t n p) + 1)).2) + 1)).2)))], [((r 9), .inl (Γ.2.1 0, 50, .inl t))], [((r 14), .inl (Γ.2.1 0, 60, .inl (upd (upd (upd w (3 * k) (wordNo t p (wEnd t n p))) (3 * k + 1) ((numP t n ((wEnd t n p) + 1)).1)) (3 * k + 2) 0)))]] H := hP
                      have hD : WD A [[(a, moE r (upd (upd (upd (upd (upd (upd (upd (upd i 11 (nI (wEnd t n p))) 11 (nI ((wEnd t n p) + 1))) 12 (numP t n ((wEnd t n p) + 1)).1) 11 (nI (numP t n ((wEnd t n p) + 1)).2)) 15 (nI (k + 1))) 11 (nI (((numP t n ((wEnd t n p) + 1)).2) + 1))) 12 (numP t n (((numP t n ((wEnd t n p) + 1)).2) + 1)).1) 11 (nI (numP t n (((numP t n ((wEnd t n p) + 1)).2) + 1)).2)))], [((r 9), .inl (Γ.2.1 0, 50, .inl t))], [((r 14), .inl (Γ.2.1 0, 60, .inl (upd (upd (upd w (3 * k) (wordNo t p (wEnd t n p))) (3 * k + 1) ((numP t n ((wEnd t n p) + 1)).1)) (3 * k + 2) 0)))]] := hD
                      refine lv_if_ne (tgt := 100) hx hb dX4_command_95 (by decide) (fun c_17 => ?_) (fun c_17 => ?_)
                      · -- 95 taken
                        have n_17 : ¬ (1 = 0) := fun h => c_17 ((nI_eq (a := 1) (b := 0) (by omega) (by omega)).mpr h)
                        refine lv_aload_n hx hb dX4_command_100 rfl (lv_at hl 2 rfl) ?_
                        refine b_get (C := RX4) (T := TX4) (N := 16) (v := .ref (r 14)) hx hb hts in_X4 hown hK (b_at (k := 0) hP rfl) rfl 14 (by decide) q1821 (fun _ h9 => h9) rfl dX4_command_101 ?_
                        refine lv_iload_n hx hb dX4_command_104 rfl (lv_at hl 1 rfl) ?_
                        refine lv_iconst (v := 2) hx hb dX4_command_105 (by decide) ?_
                        refine lv_iadd hx hb dX4_command_106 ?_
                        refine b_top (nI_addE (a := 3 * k) (b := 2) (c := 3 * k + 2) rfl rfl (by first | omega | rfl)) ?_
                        refine lv_aload_n hx hb dX4_command_107 rfl (lv_at hl 2 rfl) ?_
                        refine b_get (C := RX4) (T := TX4) (N := 16) (v := .int ((numP t n (((numP t n ((wEnd t n p) + 1)).2) + 1)).1)) hx hb hts in_X4 hown hK (b_at (k := 0) hP rfl) rfl 12 (by decide) q1819 (fun _ h9 => h9) rfl dX4_command_108 ?_
                        refine b_iast hx hb hK hP hD hS 2 rfl (3 * k + 2) rfl (by omega) (by omega) dX4_command_111 (fun H locs hP hD hS => ?_)
                        have hP : WP Γ [[(a, moE r (upd (upd (upd (upd (upd (upd (upd (upd i 11 (nI (wEnd t n p))) 11 (nI ((wEnd t n p) + 1))) 12 (numP t n ((wEnd t n p) + 1)).1) 11 (nI (numP t n ((wEnd t n p) + 1)).2)) 15 (nI (k + 1))) 11 (nI (((numP t n ((wEnd t n p) + 1)).2) + 1))) 12 (numP t n (((numP t n ((wEnd t n p) + 1)).2) + 1)).1) 11 (nI (numP t n (((numP t n ((wEnd t n p) + 1)).2) + 1)).2)))], [((r 9), .inl (Γ.2.1 0, 50, .inl t))], [((r 14), .inl (Γ.2.1 0, 60, .inl (upd (upd (upd (upd w (3 * k) (wordNo t p (wEnd t n p))) (3 * k + 1) ((numP t n ((wEnd t n p) + 1)).1)) (3 * k + 2) 0) (3 * k + 2) ((numP t n (((numP t n ((wEnd t n p) + 1)).2) + 1)).1))))]] H := hP
                        have hD : WD A [[(a, moE r (upd (upd (upd (upd (upd (upd (upd (upd i 11 (nI (wEnd t n p))) 11 (nI ((wEnd t n p) + 1))) 12 (numP t n ((wEnd t n p) + 1)).1) 11 (nI (numP t n ((wEnd t n p) + 1)).2)) 15 (nI (k + 1))) 11 (nI (((numP t n ((wEnd t n p) + 1)).2) + 1))) 12 (numP t n (((numP t n ((wEnd t n p) + 1)).2) + 1)).1) 11 (nI (numP t n (((numP t n ((wEnd t n p) + 1)).2) + 1)).2)))], [((r 9), .inl (Γ.2.1 0, 50, .inl t))], [((r 14), .inl (Γ.2.1 0, 60, .inl (upd (upd (upd (upd w (3 * k) (wordNo t p (wEnd t n p))) (3 * k + 1) ((numP t n ((wEnd t n p) + 1)).1)) (3 * k + 2) 0) (3 * k + 2) ((numP t n (((numP t n ((wEnd t n p) + 1)).2) + 1)).1))))]] := hD
                        have e9 : cmdR t n p v k w = (1, (numP t n (((numP t n ((wEnd t n p) + 1)).2) + 1)).2, (numP t n (((numP t n ((wEnd t n p) + 1)).2) + 1)).1, (k + 1), (upd (upd (upd (upd w (3 * k) (wordNo t p (wEnd t n p))) (3 * k + 1) ((numP t n ((wEnd t n p) + 1)).1)) (3 * k + 2) 0) (3 * k + 2) ((numP t n (((numP t n ((wEnd t n p) + 1)).2) + 1)).1))) := by rw [cmdR, if_neg bw, if_pos b1, if_neg b2, cmdU, if_pos c_11, cmdT, if_pos b3, if_neg b4]
                        rw [show (upd (upd (upd (upd (upd (upd (upd (upd i 11 (nI (wEnd t n p))) 11 (nI ((wEnd t n p) + 1))) 12 (numP t n ((wEnd t n p) + 1)).1) 11 (nI (numP t n ((wEnd t n p) + 1)).2)) 15 (nI (k + 1))) 11 (nI (((numP t n ((wEnd t n p) + 1)).2) + 1))) 12 (numP t n (((numP t n ((wEnd t n p) + 1)).2) + 1)).1) 11 (nI (numP t n (((numP t n ((wEnd t n p) + 1)).2) + 1)).2)) = (upd (upd (upd i 15 (nI (k + 1))) 12 (numP t n (((numP t n ((wEnd t n p) + 1)).2) + 1)).1) 11 (nI (numP t n (((numP t n ((wEnd t n p) + 1)).2) + 1)).2)) from can3 (by intro q a b c; simp [upd, a, b, c]) (by simp [upd, h11]) (by simp [upd, h12]) (by simp [upd, h15])] at hP hD
                        refine lv_iconst (v := 1) hx hb dX4_command_112 (by decide) ?_
                        exact b_zret hx hb hr hlocks hP hD hS (Nat.le_of_ble_eq_true rfl) (Nat.le_of_ble_eq_true rfl) rfl ⟨(by rw [e9]), (by rw [e9])⟩ dX4_command_113
                      · -- 95 not taken
                        have n_17 : 1 = 0 := (nI_eq (by omega) (by omega)).mp (show nI 1 = nI 0 from c_17)
                        exact absurd n_17 (by omega)
                ·
                  refine b_calli (br := [[((r 14), .inl (Γ.2.1 0, 60, .inl (upd (upd (upd w (3 * k) (wordNo t p (wEnd t n p))) (3 * k + 1) ((numP t n ((wEnd t n p) + 1)).1)) (3 * k + 2) 0)))]]) (b_runV ⟨hx, hb, hml, hown, hts⟩ (mt_Mo_skips_no l Γ _ a r (upd (upd (upd (upd (upd i 11 (nI (wEnd t n p))) 11 (nI ((wEnd t n p) + 1))) 12 (numP t n ((wEnd t n p) + 1)).1) 11 (nI (numP t n ((wEnd t n p) + 1)).2)) 15 (nI (k + 1))) t n ((numP t n ((wEnd t n p) + 1)).2) 32 (by first | exact h10 | simp [upd, h10]) (by first | exact hn | omega) (by first | exact h11 | rfl | simp [upd, h11]) (by first | exact hp | exact (wEnd_in hp).2 | exact hereP_lt (by decide) b1 | exact hereP_lt (by decide) b3 | exact (numP_in b2).2 | exact (numP_in b4).2) (by first | exact b4 | exact b3 | exact b2 | exact b1)) (lw_V q2178 q2180 qs57 q73 q2181) rfl rfl 1 (by decide +kernel) ⟨(Nat.le_of_ble_eq_true rfl), (Nat.le_of_ble_eq_true rfl)⟩ (c_pre hP hD hS hA hK hE [0, 1] rfl rfl ro_nil) (recv_at (q := (RX4, TX4, 16)) hK (b_at (k := 0) hP rfl) rfl) rfl hl.1 rfl (Nat.le_of_ble_eq_true rfl) dX4_command_85 ⟨(Nat.le_of_ble_eq_true rfl), (Nat.le_of_ble_eq_true rfl)⟩) hP hD hS hA [0, 1] [2] rfl rfl rfl (fun r_18 u_18 H locs hw_18 hP hD hS _ => ?_)
                  obtain ⟨rfl, rfl⟩ := hw_18
                  have hP : WP Γ [[(a, moE r (upd (upd (upd (upd (upd (upd i 11 (nI (wEnd t n p))) 11 (nI ((wEnd t n p) + 1))) 12 (numP t n ((wEnd t n p) + 1)).1) 11 (nI (numP t n ((wEnd t n p) + 1)).2)) 15 (nI (k + 1))) 11 (nI ((numP t n ((wEnd t n p) + 1)).2))))], [((r 9), .inl (Γ.2.1 0, 50, .inl t))], [((r 14), .inl (Γ.2.1 0, 60, .inl (upd (upd (upd w (3 * k) (wordNo t p (wEnd t n p))) (3 * k + 1) ((numP t n ((wEnd t n p) + 1)).1)) (3 * k + 2) 0)))]] H := hP
                  have hD : WD A [[(a, moE r (upd (upd (upd (upd (upd (upd i 11 (nI (wEnd t n p))) 11 (nI ((wEnd t n p) + 1))) 12 (numP t n ((wEnd t n p) + 1)).1) 11 (nI (numP t n ((wEnd t n p) + 1)).2)) 15 (nI (k + 1))) 11 (nI ((numP t n ((wEnd t n p) + 1)).2))))], [((r 9), .inl (Γ.2.1 0, 50, .inl t))], [((r 14), .inl (Γ.2.1 0, 60, .inl (upd (upd (upd w (3 * k) (wordNo t p (wEnd t n p))) (3 * k + 1) ((numP t n ((wEnd t n p) + 1)).1)) (3 * k + 2) 0)))]] := hD
                  refine lv_if_eq (tgt := 98) hx hb dX4_command_88 (by decide) (fun c_19 => ?_) (fun c_19 => ?_)
                  · -- 88 taken
                    have n_19 : 0 = 0 := (nI_eq (by omega) (by omega)).mp (show nI 0 = nI 0 from c_19)
                    have e9 : cmdR t n p v k w = (0, ((numP t n ((wEnd t n p) + 1)).2), (numP t n ((wEnd t n p) + 1)).1, (k + 1), (upd (upd (upd w (3 * k) (wordNo t p (wEnd t n p))) (3 * k + 1) ((numP t n ((wEnd t n p) + 1)).1)) (3 * k + 2) 0)) := by rw [cmdR, if_neg bw, if_pos b1, if_neg b2, cmdU, if_pos c_11, cmdT, if_neg b3]
                    rw [show (upd (upd (upd (upd (upd (upd i 11 (nI (wEnd t n p))) 11 (nI ((wEnd t n p) + 1))) 12 (numP t n ((wEnd t n p) + 1)).1) 11 (nI (numP t n ((wEnd t n p) + 1)).2)) 15 (nI (k + 1))) 11 (nI ((numP t n ((wEnd t n p) + 1)).2))) = (upd (upd (upd i 15 (nI (k + 1))) 12 (numP t n ((wEnd t n p) + 1)).1) 11 (nI ((numP t n ((wEnd t n p) + 1)).2))) from can3 (by intro q a b c; simp [upd, a, b, c]) (by simp [upd, h11]) (by simp [upd, h12]) (by simp [upd, h15])] at hP hD
                    refine lv_iconst (v := 0) hx hb dX4_command_98 (by decide) ?_
                    exact b_zret hx hb hr hlocks hP hD hS (Nat.le_of_ble_eq_true rfl) (Nat.le_of_ble_eq_true rfl) rfl ⟨(by rw [e9]), (by rw [e9])⟩ dX4_command_99
                  · -- 88 not taken
                    have n_19 : ¬ (0 = 0) := fun h => c_19 ((nI_eq (a := 0) (b := 0) (by omega) (by omega)).mpr h)
                    exact absurd n_19 (by omega)
              · -- 74 not taken
                refine lv_iload_n hx hb dX4_command_77 rfl (lv_at hl 0 rfl) ?_
                refine lv_iconst (v := 5) hx hb dX4_command_78 (by decide) ?_
                refine lv_icmp_ne (tgt := 112) hx hb dX4_command_79 (by decide) (fun c_20 => ?_) (fun c_20 => ?_)
                · -- 79 taken
                  have e9 : cmdR t n p v k w = (1, (numP t n ((wEnd t n p) + 1)).2, (numP t n ((wEnd t n p) + 1)).1, (k + 1), (upd (upd (upd w (3 * k) (wordNo t p (wEnd t n p))) (3 * k + 1) ((numP t n ((wEnd t n p) + 1)).1)) (3 * k + 2) 0)) := by rw [cmdR, if_neg bw, if_pos b1, if_neg b2, cmdU, if_neg c_11, if_neg c_20]
                  rw [show (upd (upd (upd (upd (upd i 11 (nI (wEnd t n p))) 11 (nI ((wEnd t n p) + 1))) 12 (numP t n ((wEnd t n p) + 1)).1) 11 (nI (numP t n ((wEnd t n p) + 1)).2)) 15 (nI (k + 1))) = (upd (upd (upd i 15 (nI (k + 1))) 12 (numP t n ((wEnd t n p) + 1)).1) 11 (nI (numP t n ((wEnd t n p) + 1)).2)) from can3 (by intro q a b c; simp [upd, a, b, c]) (by simp [upd, h11]) (by simp [upd, h12]) (by simp [upd, h15])] at hP hD
                  refine lv_iconst (v := 1) hx hb dX4_command_112 (by decide) ?_
                  exact b_zret hx hb hr hlocks hP hD hS (Nat.le_of_ble_eq_true rfl) (Nat.le_of_ble_eq_true rfl) rfl ⟨(by rw [e9]), (by rw [e9])⟩ dX4_command_113
                · -- 79 not taken
                  refine lv_aload_n hx hb dX4_command_82 rfl (lv_at hl 2 rfl) ?_
                  refine lv_bipush (v := 32) hx hb dX4_command_83 (by decide) ?_
                  by_cases b3 : hereP t n ((numP t n ((wEnd t n p) + 1)).2) = 32
                  ·
                    refine b_calli (br := [[((r 14), .inl (Γ.2.1 0, 60, .inl (upd (upd (upd w (3 * k) (wordNo t p (wEnd t n p))) (3 * k + 1) ((numP t n ((wEnd t n p) + 1)).1)) (3 * k + 2) 0)))]]) (b_runV ⟨hx, hb, hml, hown, hts⟩ (mt_Mo_skips_yes l Γ _ a r (upd (upd (upd (upd (upd i 11 (nI (wEnd t n p))) 11 (nI ((wEnd t n p) + 1))) 12 (numP t n ((wEnd t n p) + 1)).1) 11 (nI (numP t n ((wEnd t n p) + 1)).2)) 15 (nI (k + 1))) t n ((numP t n ((wEnd t n p) + 1)).2) 32 (by first | exact h10 | simp [upd, h10]) (by first | exact hn | omega) (by first | exact h11 | rfl | simp [upd, h11]) (by first | exact hp | exact (wEnd_in hp).2 | exact hereP_lt (by decide) b1 | exact hereP_lt (by decide) b3 | exact (numP_in b2).2 | exact (numP_in b4).2) (by first | exact b4 | exact b3 | exact b2 | exact b1)) (lw_V q2178 q2180 qs57 q73 q2181) rfl rfl 1 (by decide +kernel) ⟨(Nat.le_of_ble_eq_true rfl), (Nat.le_of_ble_eq_true rfl)⟩ (c_pre hP hD hS hA hK hE [0, 1] rfl rfl ro_nil) (recv_at (q := (RX4, TX4, 16)) hK (b_at (k := 0) hP rfl) rfl) rfl hl.1 rfl (Nat.le_of_ble_eq_true rfl) dX4_command_85 ⟨(Nat.le_of_ble_eq_true rfl), (Nat.le_of_ble_eq_true rfl)⟩) hP hD hS hA [0, 1] [2] rfl rfl rfl (fun r_21 u_21 H locs hw_21 hP hD hS _ => ?_)
                    obtain ⟨rfl, rfl⟩ := hw_21
                    have hP : WP Γ [[(a, moE r (upd (upd (upd (upd (upd (upd i 11 (nI (wEnd t n p))) 11 (nI ((wEnd t n p) + 1))) 12 (numP t n ((wEnd t n p) + 1)).1) 11 (nI (numP t n ((wEnd t n p) + 1)).2)) 15 (nI (k + 1))) 11 (nI (((numP t n ((wEnd t n p) + 1)).2) + 1))))], [((r 9), .inl (Γ.2.1 0, 50, .inl t))], [((r 14), .inl (Γ.2.1 0, 60, .inl (upd (upd (upd w (3 * k) (wordNo t p (wEnd t n p))) (3 * k + 1) ((numP t n ((wEnd t n p) + 1)).1)) (3 * k + 2) 0)))]] H := hP
                    have hD : WD A [[(a, moE r (upd (upd (upd (upd (upd (upd i 11 (nI (wEnd t n p))) 11 (nI ((wEnd t n p) + 1))) 12 (numP t n ((wEnd t n p) + 1)).1) 11 (nI (numP t n ((wEnd t n p) + 1)).2)) 15 (nI (k + 1))) 11 (nI (((numP t n ((wEnd t n p) + 1)).2) + 1))))], [((r 9), .inl (Γ.2.1 0, 50, .inl t))], [((r 14), .inl (Γ.2.1 0, 60, .inl (upd (upd (upd w (3 * k) (wordNo t p (wEnd t n p))) (3 * k + 1) ((numP t n ((wEnd t n p) + 1)).1)) (3 * k + 2) 0)))]] := hD
                    refine lv_if_eq (tgt := 98) hx hb dX4_command_88 (by decide) (fun c_22 => ?_) (fun c_22 => ?_)
                    · -- 88 taken
                      have n_22 : 1 = 0 := (nI_eq (by omega) (by omega)).mp (show nI 1 = nI 0 from c_22)
                      exact absurd n_22 (by omega)
                    · -- 88 not taken
                      have n_22 : ¬ (1 = 0) := fun h => c_22 ((nI_eq (a := 1) (b := 0) (by omega) (by omega)).mpr h)
                      refine lv_aload_n hx hb dX4_command_91 rfl (lv_at hl 2 rfl) ?_
                      by_cases b4 : inR (hereP t n (((numP t n ((wEnd t n p) + 1)).2) + 1)) 48 57 = 0
                      ·
                        refine b_calli (br := [[((r 14), .inl (Γ.2.1 0, 60, .inl (upd (upd (upd w (3 * k) (wordNo t p (wEnd t n p))) (3 * k + 1) ((numP t n ((wEnd t n p) + 1)).1)) (3 * k + 2) 0)))]]) (b_runV ⟨hx, hb, hml, hown, hts⟩ (mt_Mo_number_no l Γ _ a r (upd (upd (upd (upd (upd (upd i 11 (nI (wEnd t n p))) 11 (nI ((wEnd t n p) + 1))) 12 (numP t n ((wEnd t n p) + 1)).1) 11 (nI (numP t n ((wEnd t n p) + 1)).2)) 15 (nI (k + 1))) 11 (nI (((numP t n ((wEnd t n p) + 1)).2) + 1))) t n (((numP t n ((wEnd t n p) + 1)).2) + 1) (by first | exact h10 | simp [upd, h10]) (by first | exact hn | omega) (by first | exact h11 | rfl | simp [upd, h11]) (by first | exact hp | exact (wEnd_in hp).2 | exact hereP_lt (by decide) b1 | exact hereP_lt (by decide) b3 | exact (numP_in b2).2 | exact (numP_in b4).2) (by first | exact b4 | exact b3 | exact b2 | exact b1)) (lw_V q2182 q2184 qs58 q73 q2185) rfl rfl 0 (by decide +kernel) ⟨(Nat.le_of_ble_eq_true rfl), (Nat.le_of_ble_eq_true rfl)⟩ (c_pre hP hD hS hA hK hE [0, 1] rfl rfl ro_nil) (recv_at (q := (RX4, TX4, 16)) hK (b_at (k := 0) hP rfl) rfl) rfl hl.1 rfl (Nat.le_of_ble_eq_true rfl) dX4_command_92 ⟨(Nat.le_of_ble_eq_true rfl), (Nat.le_of_ble_eq_true rfl)⟩) hP hD hS hA [0, 1] [2] rfl rfl rfl (fun r_23 u_23 H locs hw_23 hP hD hS _ => ?_)
                        obtain ⟨rfl, rfl⟩ := hw_23
                        have hP : WP Γ [[(a, moE r (upd (upd (upd (upd (upd (upd i 11 (nI (wEnd t n p))) 11 (nI ((wEnd t n p) + 1))) 12 (numP t n ((wEnd t n p) + 1)).1) 11 (nI (numP t n ((wEnd t n p) + 1)).2)) 15 (nI (k + 1))) 11 (nI (((numP t n ((wEnd t n p) + 1)).2) + 1))))], [((r 9), .inl (Γ.2.1 0, 50, .inl t))], [((r 14), .inl (Γ.2.1 0, 60, .inl (upd (upd (upd w (3 * k) (wordNo t p (wEnd t n p))) (3 * k + 1) ((numP t n ((wEnd t n p) + 1)).1)) (3 * k + 2) 0)))]] H := hP
                        have hD : WD A [[(a, moE r (upd (upd (upd (upd (upd (upd i 11 (nI (wEnd t n p))) 11 (nI ((wEnd t n p) + 1))) 12 (numP t n ((wEnd t n p) + 1)).1) 11 (nI (numP t n ((wEnd t n p) + 1)).2)) 15 (nI (k + 1))) 11 (nI (((numP t n ((wEnd t n p) + 1)).2) + 1))))], [((r 9), .inl (Γ.2.1 0, 50, .inl t))], [((r 14), .inl (Γ.2.1 0, 60, .inl (upd (upd (upd w (3 * k) (wordNo t p (wEnd t n p))) (3 * k + 1) ((numP t n ((wEnd t n p) + 1)).1)) (3 * k + 2) 0)))]] := hD
                        refine lv_if_ne (tgt := 100) hx hb dX4_command_95 (by decide) (fun c_24 => ?_) (fun c_24 => ?_)
                        · -- 95 taken
                          have n_24 : ¬ (0 = 0) := fun h => c_24 ((nI_eq (a := 0) (b := 0) (by omega) (by omega)).mpr h)
                          exact absurd n_24 (by omega)
                        · -- 95 not taken
                          have n_24 : 0 = 0 := (nI_eq (by omega) (by omega)).mp (show nI 0 = nI 0 from c_24)
                          have e9 : cmdR t n p v k w = (0, (((numP t n ((wEnd t n p) + 1)).2) + 1), (numP t n ((wEnd t n p) + 1)).1, (k + 1), (upd (upd (upd w (3 * k) (wordNo t p (wEnd t n p))) (3 * k + 1) ((numP t n ((wEnd t n p) + 1)).1)) (3 * k + 2) 0)) := by rw [cmdR, if_neg bw, if_pos b1, if_neg b2, cmdU, if_neg c_11, if_pos c_20, cmdT, if_pos b3, if_pos b4]
                          rw [show (upd (upd (upd (upd (upd (upd i 11 (nI (wEnd t n p))) 11 (nI ((wEnd t n p) + 1))) 12 (numP t n ((wEnd t n p) + 1)).1) 11 (nI (numP t n ((wEnd t n p) + 1)).2)) 15 (nI (k + 1))) 11 (nI (((numP t n ((wEnd t n p) + 1)).2) + 1))) = (upd (upd (upd i 15 (nI (k + 1))) 12 (numP t n ((wEnd t n p) + 1)).1) 11 (nI (((numP t n ((wEnd t n p) + 1)).2) + 1))) from can3 (by intro q a b c; simp [upd, a, b, c]) (by simp [upd, h11]) (by simp [upd, h12]) (by simp [upd, h15])] at hP hD
                          refine lv_iconst (v := 0) hx hb dX4_command_98 (by decide) ?_
                          exact b_zret hx hb hr hlocks hP hD hS (Nat.le_of_ble_eq_true rfl) (Nat.le_of_ble_eq_true rfl) rfl ⟨(by rw [e9]), (by rw [e9])⟩ dX4_command_99
                      ·
                        refine b_calli (br := [[((r 14), .inl (Γ.2.1 0, 60, .inl (upd (upd (upd w (3 * k) (wordNo t p (wEnd t n p))) (3 * k + 1) ((numP t n ((wEnd t n p) + 1)).1)) (3 * k + 2) 0)))]]) (b_runV ⟨hx, hb, hml, hown, hts⟩ (mt_Mo_number_yes l Γ _ a r (upd (upd (upd (upd (upd (upd i 11 (nI (wEnd t n p))) 11 (nI ((wEnd t n p) + 1))) 12 (numP t n ((wEnd t n p) + 1)).1) 11 (nI (numP t n ((wEnd t n p) + 1)).2)) 15 (nI (k + 1))) 11 (nI (((numP t n ((wEnd t n p) + 1)).2) + 1))) t n (((numP t n ((wEnd t n p) + 1)).2) + 1) (by first | exact h10 | simp [upd, h10]) (by first | exact hn | omega) (by first | exact h11 | rfl | simp [upd, h11]) (by first | exact hp | exact (wEnd_in hp).2 | exact hereP_lt (by decide) b1 | exact hereP_lt (by decide) b3 | exact (numP_in b2).2 | exact (numP_in b4).2) (by first | exact b4 | exact b3 | exact b2 | exact b1)) (lw_V q2182 q2184 qs58 q73 q2185) rfl rfl 0 (by decide +kernel) ⟨(Nat.le_of_ble_eq_true rfl), (Nat.le_of_ble_eq_true rfl)⟩ (c_pre hP hD hS hA hK hE [0, 1] rfl rfl ro_nil) (recv_at (q := (RX4, TX4, 16)) hK (b_at (k := 0) hP rfl) rfl) rfl hl.1 rfl (Nat.le_of_ble_eq_true rfl) dX4_command_92 ⟨(Nat.le_of_ble_eq_true rfl), (Nat.le_of_ble_eq_true rfl)⟩) hP hD hS hA [0, 1] [2] rfl rfl rfl (fun r_25 u_25 H locs hw_25 hP hD hS _ => ?_)
                        obtain ⟨rfl, rfl⟩ := hw_25
                        have hP : WP Γ [[(a, moE r (upd (upd (upd (upd (upd (upd (upd (upd i 11 (nI (wEnd t n p))) 11 (nI ((wEnd t n p) + 1))) 12 (numP t n ((wEnd t n p) + 1)).1) 11 (nI (numP t n ((wEnd t n p) + 1)).2)) 15 (nI (k + 1))) 11 (nI (((numP t n ((wEnd t n p) + 1)).2) + 1))) 12 (numP t n (((numP t n ((wEnd t n p) + 1)).2) + 1)).1) 11 (nI (numP t n (((numP t n ((wEnd t n p) + 1)).2) + 1)).2)))], [((r 9), .inl (Γ.2.1 0, 50, .inl t))], [((r 14), .inl (Γ.2.1 0, 60, .inl (upd (upd (upd w (3 * k) (wordNo t p (wEnd t n p))) (3 * k + 1) ((numP t n ((wEnd t n p) + 1)).1)) (3 * k + 2) 0)))]] H := hP
                        have hD : WD A [[(a, moE r (upd (upd (upd (upd (upd (upd (upd (upd i 11 (nI (wEnd t n p))) 11 (nI ((wEnd t n p) + 1))) 12 (numP t n ((wEnd t n p) + 1)).1) 11 (nI (numP t n ((wEnd t n p) + 1)).2)) 15 (nI (k + 1))) 11 (nI (((numP t n ((wEnd t n p) + 1)).2) + 1))) 12 (numP t n (((numP t n ((wEnd t n p) + 1)).2) + 1)).1) 11 (nI (numP t n (((numP t n ((wEnd t n p) + 1)).2) + 1)).2)))], [((r 9), .inl (Γ.2.1 0, 50, .inl t))], [((r 14), .inl (Γ.2.1 0, 60, .inl (upd (upd (upd w (3 * k) (wordNo t p (wEnd t n p))) (3 * k + 1) ((numP t n ((wEnd t n p) + 1)).1)) (3 * k + 2) 0)))]] := hD
                        refine lv_if_ne (tgt := 100) hx hb dX4_command_95 (by decide) (fun c_26 => ?_) (fun c_26 => ?_)
                        · -- 95 taken
                          have n_26 : ¬ (1 = 0) := fun h => c_26 ((nI_eq (a := 1) (b := 0) (by omega) (by omega)).mpr h)
                          refine lv_aload_n hx hb dX4_command_100 rfl (lv_at hl 2 rfl) ?_
                          refine b_get (C := RX4) (T := TX4) (N := 16) (v := .ref (r 14)) hx hb hts in_X4 hown hK (b_at (k := 0) hP rfl) rfl 14 (by decide) q1821 (fun _ h9 => h9) rfl dX4_command_101 ?_
                          refine lv_iload_n hx hb dX4_command_104 rfl (lv_at hl 1 rfl) ?_
                          refine lv_iconst (v := 2) hx hb dX4_command_105 (by decide) ?_
                          refine lv_iadd hx hb dX4_command_106 ?_
                          refine b_top (nI_addE (a := 3 * k) (b := 2) (c := 3 * k + 2) rfl rfl (by first | omega | rfl)) ?_
                          refine lv_aload_n hx hb dX4_command_107 rfl (lv_at hl 2 rfl) ?_
                          refine b_get (C := RX4) (T := TX4) (N := 16) (v := .int ((numP t n (((numP t n ((wEnd t n p) + 1)).2) + 1)).1)) hx hb hts in_X4 hown hK (b_at (k := 0) hP rfl) rfl 12 (by decide) q1819 (fun _ h9 => h9) rfl dX4_command_108 ?_
                          refine b_iast hx hb hK hP hD hS 2 rfl (3 * k + 2) rfl (by omega) (by omega) dX4_command_111 (fun H locs hP hD hS => ?_)
                          have hP : WP Γ [[(a, moE r (upd (upd (upd (upd (upd (upd (upd (upd i 11 (nI (wEnd t n p))) 11 (nI ((wEnd t n p) + 1))) 12 (numP t n ((wEnd t n p) + 1)).1) 11 (nI (numP t n ((wEnd t n p) + 1)).2)) 15 (nI (k + 1))) 11 (nI (((numP t n ((wEnd t n p) + 1)).2) + 1))) 12 (numP t n (((numP t n ((wEnd t n p) + 1)).2) + 1)).1) 11 (nI (numP t n (((numP t n ((wEnd t n p) + 1)).2) + 1)).2)))], [((r 9), .inl (Γ.2.1 0, 50, .inl t))], [((r 14), .inl (Γ.2.1 0, 60, .inl (upd (upd (upd (upd w (3 * k) (wordNo t p (wEnd t n p))) (3 * k + 1) ((numP t n ((wEnd t n p) + 1)).1)) (3 * k + 2) 0) (3 * k + 2) ((numP t n (((numP t n ((wEnd t n p) + 1)).2) + 1)).1))))]] H := hP
                          have hD : WD A [[(a, moE r (upd (upd (upd (upd (upd (upd (upd (upd i 11 (nI (wEnd t n p))) 11 (nI ((wEnd t n p) + 1))) 12 (numP t n ((wEnd t n p) + 1)).1) 11 (nI (numP t n ((wEnd t n p) + 1)).2)) 15 (nI (k + 1))) 11 (nI (((numP t n ((wEnd t n p) + 1)).2) + 1))) 12 (numP t n (((numP t n ((wEnd t n p) + 1)).2) + 1)).1) 11 (nI (numP t n (((numP t n ((wEnd t n p) + 1)).2) + 1)).2)))], [((r 9), .inl (Γ.2.1 0, 50, .inl t))], [((r 14), .inl (Γ.2.1 0, 60, .inl (upd (upd (upd (upd w (3 * k) (wordNo t p (wEnd t n p))) (3 * k + 1) ((numP t n ((wEnd t n p) + 1)).1)) (3 * k + 2) 0) (3 * k + 2) ((numP t n (((numP t n ((wEnd t n p) + 1)).2) + 1)).1))))]] := hD
                          have e9 : cmdR t n p v k w = (1, (numP t n (((numP t n ((wEnd t n p) + 1)).2) + 1)).2, (numP t n (((numP t n ((wEnd t n p) + 1)).2) + 1)).1, (k + 1), (upd (upd (upd (upd w (3 * k) (wordNo t p (wEnd t n p))) (3 * k + 1) ((numP t n ((wEnd t n p) + 1)).1)) (3 * k + 2) 0) (3 * k + 2) ((numP t n (((numP t n ((wEnd t n p) + 1)).2) + 1)).1))) := by rw [cmdR, if_neg bw, if_pos b1, if_neg b2, cmdU, if_neg c_11, if_pos c_20, cmdT, if_pos b3, if_neg b4]
                          rw [show (upd (upd (upd (upd (upd (upd (upd (upd i 11 (nI (wEnd t n p))) 11 (nI ((wEnd t n p) + 1))) 12 (numP t n ((wEnd t n p) + 1)).1) 11 (nI (numP t n ((wEnd t n p) + 1)).2)) 15 (nI (k + 1))) 11 (nI (((numP t n ((wEnd t n p) + 1)).2) + 1))) 12 (numP t n (((numP t n ((wEnd t n p) + 1)).2) + 1)).1) 11 (nI (numP t n (((numP t n ((wEnd t n p) + 1)).2) + 1)).2)) = (upd (upd (upd i 15 (nI (k + 1))) 12 (numP t n (((numP t n ((wEnd t n p) + 1)).2) + 1)).1) 11 (nI (numP t n (((numP t n ((wEnd t n p) + 1)).2) + 1)).2)) from can3 (by intro q a b c; simp [upd, a, b, c]) (by simp [upd, h11]) (by simp [upd, h12]) (by simp [upd, h15])] at hP hD
                          refine lv_iconst (v := 1) hx hb dX4_command_112 (by decide) ?_
                          exact b_zret hx hb hr hlocks hP hD hS (Nat.le_of_ble_eq_true rfl) (Nat.le_of_ble_eq_true rfl) rfl ⟨(by rw [e9]), (by rw [e9])⟩ dX4_command_113
                        · -- 95 not taken
                          have n_26 : 1 = 0 := (nI_eq (by omega) (by omega)).mp (show nI 1 = nI 0 from c_26)
                          exact absurd n_26 (by omega)
                  ·
                    refine b_calli (br := [[((r 14), .inl (Γ.2.1 0, 60, .inl (upd (upd (upd w (3 * k) (wordNo t p (wEnd t n p))) (3 * k + 1) ((numP t n ((wEnd t n p) + 1)).1)) (3 * k + 2) 0)))]]) (b_runV ⟨hx, hb, hml, hown, hts⟩ (mt_Mo_skips_no l Γ _ a r (upd (upd (upd (upd (upd i 11 (nI (wEnd t n p))) 11 (nI ((wEnd t n p) + 1))) 12 (numP t n ((wEnd t n p) + 1)).1) 11 (nI (numP t n ((wEnd t n p) + 1)).2)) 15 (nI (k + 1))) t n ((numP t n ((wEnd t n p) + 1)).2) 32 (by first | exact h10 | simp [upd, h10]) (by first | exact hn | omega) (by first | exact h11 | rfl | simp [upd, h11]) (by first | exact hp | exact (wEnd_in hp).2 | exact hereP_lt (by decide) b1 | exact hereP_lt (by decide) b3 | exact (numP_in b2).2 | exact (numP_in b4).2) (by first | exact b4 | exact b3 | exact b2 | exact b1)) (lw_V q2178 q2180 qs57 q73 q2181) rfl rfl 1 (by decide +kernel) ⟨(Nat.le_of_ble_eq_true rfl), (Nat.le_of_ble_eq_true rfl)⟩ (c_pre hP hD hS hA hK hE [0, 1] rfl rfl ro_nil) (recv_at (q := (RX4, TX4, 16)) hK (b_at (k := 0) hP rfl) rfl) rfl hl.1 rfl (Nat.le_of_ble_eq_true rfl) dX4_command_85 ⟨(Nat.le_of_ble_eq_true rfl), (Nat.le_of_ble_eq_true rfl)⟩) hP hD hS hA [0, 1] [2] rfl rfl rfl (fun r_27 u_27 H locs hw_27 hP hD hS _ => ?_)
                    obtain ⟨rfl, rfl⟩ := hw_27
                    have hP : WP Γ [[(a, moE r (upd (upd (upd (upd (upd (upd i 11 (nI (wEnd t n p))) 11 (nI ((wEnd t n p) + 1))) 12 (numP t n ((wEnd t n p) + 1)).1) 11 (nI (numP t n ((wEnd t n p) + 1)).2)) 15 (nI (k + 1))) 11 (nI ((numP t n ((wEnd t n p) + 1)).2))))], [((r 9), .inl (Γ.2.1 0, 50, .inl t))], [((r 14), .inl (Γ.2.1 0, 60, .inl (upd (upd (upd w (3 * k) (wordNo t p (wEnd t n p))) (3 * k + 1) ((numP t n ((wEnd t n p) + 1)).1)) (3 * k + 2) 0)))]] H := hP
                    have hD : WD A [[(a, moE r (upd (upd (upd (upd (upd (upd i 11 (nI (wEnd t n p))) 11 (nI ((wEnd t n p) + 1))) 12 (numP t n ((wEnd t n p) + 1)).1) 11 (nI (numP t n ((wEnd t n p) + 1)).2)) 15 (nI (k + 1))) 11 (nI ((numP t n ((wEnd t n p) + 1)).2))))], [((r 9), .inl (Γ.2.1 0, 50, .inl t))], [((r 14), .inl (Γ.2.1 0, 60, .inl (upd (upd (upd w (3 * k) (wordNo t p (wEnd t n p))) (3 * k + 1) ((numP t n ((wEnd t n p) + 1)).1)) (3 * k + 2) 0)))]] := hD
                    refine lv_if_eq (tgt := 98) hx hb dX4_command_88 (by decide) (fun c_28 => ?_) (fun c_28 => ?_)
                    · -- 88 taken
                      have n_28 : 0 = 0 := (nI_eq (by omega) (by omega)).mp (show nI 0 = nI 0 from c_28)
                      have e9 : cmdR t n p v k w = (0, ((numP t n ((wEnd t n p) + 1)).2), (numP t n ((wEnd t n p) + 1)).1, (k + 1), (upd (upd (upd w (3 * k) (wordNo t p (wEnd t n p))) (3 * k + 1) ((numP t n ((wEnd t n p) + 1)).1)) (3 * k + 2) 0)) := by rw [cmdR, if_neg bw, if_pos b1, if_neg b2, cmdU, if_neg c_11, if_pos c_20, cmdT, if_neg b3]
                      rw [show (upd (upd (upd (upd (upd (upd i 11 (nI (wEnd t n p))) 11 (nI ((wEnd t n p) + 1))) 12 (numP t n ((wEnd t n p) + 1)).1) 11 (nI (numP t n ((wEnd t n p) + 1)).2)) 15 (nI (k + 1))) 11 (nI ((numP t n ((wEnd t n p) + 1)).2))) = (upd (upd (upd i 15 (nI (k + 1))) 12 (numP t n ((wEnd t n p) + 1)).1) 11 (nI ((numP t n ((wEnd t n p) + 1)).2))) from can3 (by intro q a b c; simp [upd, a, b, c]) (by simp [upd, h11]) (by simp [upd, h12]) (by simp [upd, h15])] at hP hD
                      refine lv_iconst (v := 0) hx hb dX4_command_98 (by decide) ?_
                      exact b_zret hx hb hr hlocks hP hD hS (Nat.le_of_ble_eq_true rfl) (Nat.le_of_ble_eq_true rfl) rfl ⟨(by rw [e9]), (by rw [e9])⟩ dX4_command_99
                    · -- 88 not taken
                      have n_28 : ¬ (0 = 0) := fun h => c_28 ((nI_eq (a := 0) (b := 0) (by omega) (by omega)).mpr h)
                      exact absurd n_28 (by omega)
            · -- 29 not taken
              have n_10 : 1 = 0 := (nI_eq (by omega) (by omega)).mp (show nI 1 = nI 0 from c_10)
              exact absurd n_10 (by omega)
      ·
        refine b_calli (br := [[((r 14), .inl (Γ.2.1 0, 60, .inl w))]]) (b_runV ⟨hx, hb, hml, hown, hts⟩ (mt_Mo_skips_no l Γ _ a r (upd i 11 (nI (wEnd t n p))) t n (wEnd t n p) 32 (by first | exact h10 | simp [upd, h10]) (by first | exact hn | omega) (by first | exact h11 | rfl | simp [upd, h11]) (by first | exact hp | exact (wEnd_in hp).2 | exact hereP_lt (by decide) b1 | exact hereP_lt (by decide) b3 | exact (numP_in b2).2 | exact (numP_in b4).2) (by first | exact b4 | exact b3 | exact b2 | exact b1)) (lw_V q2178 q2180 qs57 q73 q2181) rfl rfl 1 (by decide +kernel) ⟨(Nat.le_of_ble_eq_true rfl), (Nat.le_of_ble_eq_true rfl)⟩ (c_pre hP hD hS hA hK hE [0, 1] rfl rfl ro_nil) (recv_at (q := (RX4, TX4, 16)) hK (b_at (k := 0) hP rfl) rfl) rfl hl.1 rfl (Nat.le_of_ble_eq_true rfl) dX4_command_19 ⟨(Nat.le_of_ble_eq_true rfl), (Nat.le_of_ble_eq_true rfl)⟩) hP hD hS hA [0, 1] [2] rfl rfl rfl (fun r_29 u_29 H locs hw_29 hP hD hS _ => ?_)
        obtain ⟨rfl, rfl⟩ := hw_29
        have hP : WP Γ [[(a, moE r (upd (upd i 11 (nI (wEnd t n p))) 11 (nI (wEnd t n p))))], [((r 9), .inl (Γ.2.1 0, 50, .inl t))], [((r 14), .inl (Γ.2.1 0, 60, .inl w))]] H := hP
        have hD : WD A [[(a, moE r (upd (upd i 11 (nI (wEnd t n p))) 11 (nI (wEnd t n p))))], [((r 9), .inl (Γ.2.1 0, 50, .inl t))], [((r 14), .inl (Γ.2.1 0, 60, .inl w))]] := hD
        refine lv_if_eq (tgt := 32) hx hb dX4_command_22 (by decide) (fun c_30 => ?_) (fun c_30 => ?_)
        · -- 22 taken
          have n_30 : 0 = 0 := (nI_eq (by omega) (by omega)).mp (show nI 0 = nI 0 from c_30)
          have e9 : cmdR t n p v k w = (0, (wEnd t n p), v, k, w) := by rw [cmdR, if_neg bw, if_neg b1]
          rw [show (upd (upd i 11 (nI (wEnd t n p))) 11 (nI (wEnd t n p))) = (upd (upd (upd i 15 (nI k)) 12 v) 11 (nI (wEnd t n p))) from can3 (by intro q a b c; simp [upd, a, b, c]) (by simp [upd, h11]) (by simp [upd, h12]) (by simp [upd, h15])] at hP hD
          refine lv_iconst (v := 0) hx hb dX4_command_32 (by decide) ?_
          exact b_zret hx hb hr hlocks hP hD hS (Nat.le_of_ble_eq_true rfl) (Nat.le_of_ble_eq_true rfl) rfl ⟨(by rw [e9]), (by rw [e9])⟩ dX4_command_33
        · -- 22 not taken
          have n_30 : ¬ (0 = 0) := fun h => c_30 ((nI_eq (a := 0) (b := 0) (by omega) (by omega)).mpr h)
          exact absurd n_30 (by omega)
theorem isW_len {t : Nat → Int32} {fr to q L : Nat} (h : ¬ isW t fr to q L = 0) : to = fr + L := by
  unfold isW at h
  split at h
  · assumption
  · exact absurd rfl h
theorem wordNo_len {t : Nat → Int32} {fr to : Nat} (h : ¬ wordNo t fr to < 0) : fr + 3 ≤ to := by
  unfold wordNo at h
  split at h
  · split at h
    · split at h
      · split at h
        · split at h
          · split at h
            · exact absurd (show (-1 : Int32) < 0 by decide) h
            · rename_i c; have := isW_len c; omega
          · rename_i c; have := isW_len c; omega
        · rename_i c; have := isW_len c; omega
      · rename_i c; have := isW_len c; omega
    · rename_i c; have := isW_len c; omega
  · rename_i c; have := isW_len c; omega
theorem cmdT_in {t : Nat → Int32} {n p k : Nat} {v : Int32} {w : Nat → Int32} (h : ¬ (cmdT t n p v k w).1 = 0) (hp : p ≤ n) : p ≤ (cmdT t n p v k w).2.1 ∧ (cmdT t n p v k w).2.1 ≤ n ∧ (cmdT t n p v k w).2.2.2.1 = k + 1 := by
  unfold cmdT at h ⊢
  by_cases c1 : hereP t n p = 32
  · rw [if_pos c1] at h ⊢
    by_cases c2 : inR (hereP t n (p + 1)) 48 57 = 0
    · rw [if_pos c2] at h; exact absurd rfl h
    · rw [if_neg c2]
      have := numP_in c2
      exact ⟨by show p ≤ (numP t n (p + 1)).2; omega, this.2, rfl⟩
  · rw [if_neg c1] at h; exact absurd rfl h
theorem cmdU_in {t : Nat → Int32} {n p k : Nat} {o : Int32} {w : Nat → Int32} (hq : ¬ inR (hereP t n p) 48 57 = 0) (h : ¬ (cmdU t n p o k w).1 = 0) : p + 1 ≤ (cmdU t n p o k w).2.1 ∧ (cmdU t n p o k w).2.1 ≤ n ∧ (cmdU t n p o k w).2.2.2.1 = k + 1 := by
  have h2 := numP_in hq
  unfold cmdU at h ⊢
  split at h
  · rename_i c; rw [if_pos c]; have := cmdT_in h h2.2; exact ⟨by omega, this.2⟩
  · rename_i c; rw [if_neg c]
    split at h
    · rename_i c; rw [if_pos c]; have := cmdT_in h h2.2; exact ⟨by omega, this.2⟩
    · rename_i c; rw [if_neg c]; exact ⟨h2.1, h2.2, rfl⟩
theorem cmdR_in {t : Nat → Int32} {n p k : Nat} {v : Int32} {w : Nat → Int32} (h : ¬ (cmdR t n p v k w).1 = 0) : p + 5 ≤ (cmdR t n p v k w).2.1 ∧ (cmdR t n p v k w).2.1 ≤ n ∧ (cmdR t n p v k w).2.2.2.1 = k + 1 := by
  unfold cmdR at h ⊢
  by_cases c0 : wordNo t p (wEnd t n p) < 0
  · rw [if_pos c0] at h; exact absurd rfl h
  · rw [if_neg c0] at h ⊢
    have h3 := wordNo_len c0
    by_cases c1 : hereP t n (wEnd t n p) = 32
    · rw [if_pos c1] at h ⊢
      by_cases c2 : inR (hereP t n (wEnd t n p + 1)) 48 57 = 0
      · rw [if_pos c2] at h; exact absurd rfl h
      · rw [if_neg c2] at h ⊢
        have := cmdU_in c2 h
        exact ⟨by omega, this.2⟩
    · rw [if_neg c1] at h; exact absurd rfl h
def textF (t : Nat → Int32) (n : Nat) : Nat → Nat → Int32 → Nat → (Nat → Int32) → CR
  | 0, p, v, k, w => (0, p, v, k, w)
  | f + 1, p, v, k, w => if (cmdR t n p v k w).1 = 0 then cmdR t n p v k w else if hereP t n (cmdR t n p v k w).2.1 = 59 then textF t n f ((cmdR t n p v k w).2.1 + 1) (cmdR t n p v k w).2.2.1 (cmdR t n p v k w).2.2.2.1 (cmdR t n p v k w).2.2.2.2 else (if (cmdR t n p v k w).2.1 = n then 1 else 0, (cmdR t n p v k w).2)
/-- the whole text -/
def textR (t : Nat → Int32) (n : Nat) (v : Int32) (w : Nat → Int32) : CR := textF t n (n + 1) 0 v 0 w
set_option maxHeartbeats 4000000 in
set_option maxRecDepth 100000 in
theorem mt_Mo_isText (l : Launch) (Γ : GE) (sz : Nat) (a : Nat) (r : Nat → Nat) (i : Nat → Int32) (t : Nat → Int32) (n : Nat) (v : Int32) (w : Nat → Int32) (h10 : i 10 = nI n) (hn : n ≤ 50) (h12 : i 12 = v) : KM l yX4_isText cX4_isText 1 (some FieldType.boolean) Γ 7 154 0 0 [.ref a] [[(a, moE r i)], [((r 9), .inl (Γ.2.1 0, 50, .inl t))], [((r 14), .inl (Γ.2.1 0, 60, .inl w))]] [] sz (Qi Γ (fun r_ u_ => r_ = ((textR t n v w).1) ∧ u_ = [[(a, moE r (upd (upd (upd i 15 (nI (textR t n v w).2.2.2.1)) 12 (textR t n v w).2.2.1) 11 (nI (textR t n v w).2.1)))], [((r 9), .inl (Γ.2.1 0, 50, .inl t))], [((r 14), .inl (Γ.2.1 0, 60, .inl ((textR t n v w).2.2.2.2)))]])) := by
  refine K_intro (by decide) (Nat.le_of_ble_eq_true rfl) ?_
  intro pr_ ev_ s mi_ below meth cd_ A ls hx hb hr hml hown hts hlocks hname hK hE hRo hP hD hA hS hsz hl
  have hl : lv_has ls 1 [(0, .ref a)] := hl
  have hown : s.vm.findClass RX4 = some mi_.cls := hown
  refine lv_aload_n hx hb dX4_isText_0 rfl (lv_at hl 0 rfl) ?_
  refine lv_iconst (v := 0) hx hb dX4_isText_1 (by decide) ?_
  refine b_putM (C := RX4) (T := TX4) (N := 16) (ty := .int) (vv := 0) hx hb hts in_X4 tyX4_ok nmX4 hown hK hP hD hS 0 rfl rfl 11 (by decide) q1818 (fun _ h9 => h9) rfl (by decide +kernel) rfl rfl (Nat.le_of_ble_eq_true rfl) (moL_set11 _ _ _) dX4_isText_2 (fun H locs hP hD hS => ?_)
  have hP : WP Γ [[(a, moE r (upd i 11 0))], [((r 9), .inl (Γ.2.1 0, 50, .inl t))], [((r 14), .inl (Γ.2.1 0, 60, .inl w))]] H := hP
  have hD : WD A [[(a, moE r (upd i 11 0))], [((r 9), .inl (Γ.2.1 0, 50, .inl t))], [((r 14), .inl (Γ.2.1 0, 60, .inl w))]] := hD
  refine lv_aload_n hx hb dX4_isText_5 rfl (lv_at hl 0 rfl) ?_
  refine lv_iconst (v := 0) hx hb dX4_isText_6 (by decide) ?_
  refine b_putM (C := RX4) (T := TX4) (N := 16) (ty := .int) (vv := 0) hx hb hts in_X4 tyX4_ok nmX4 hown hK hP hD hS 0 rfl rfl 15 (by decide) q1822 (fun _ h9 => h9) rfl (by decide +kernel) rfl rfl (Nat.le_of_ble_eq_true rfl) (moL_set15 _ _ _) dX4_isText_7 (fun H locs hP hD hS => ?_)
  have hP : WP Γ [[(a, moE r (upd (upd i 11 0) 15 0))], [((r 9), .inl (Γ.2.1 0, 50, .inl t))], [((r 14), .inl (Γ.2.1 0, 60, .inl w))]] H := hP
  have hD : WD A [[(a, moE r (upd (upd i 11 0) 15 0))], [((r 9), .inl (Γ.2.1 0, 50, .inl t))], [((r 14), .inl (Γ.2.1 0, 60, .inl w))]] := hD
  rw [show (upd (upd i 11 0) 15 0) = (upd (upd (upd i 15 0) 12 v) 11 0) from can3 (by intro q a b c; simp [upd, a, b, c]) (by simp [upd]) (by simp [upd, h12]) (by simp [upd])] at hP hD
  rw [show (0 : Int32) = nI 0 from rfl] at hP hD
  have loop_1 : ∀ (fuel : Nat) (f : Nat) (q : Nat) (v1 : Int32) (k : Nat) (w1 : Nat → Int32), f < fuel → (q ≤ n) → (n + 1 ≤ q + f) → (6 * k ≤ q) → (textR t n v w = textF t n f q v1 k w1) → ∀ (H : Heap) (locs : List Loc) (ls : Array Slot), WP Γ [[(a, moE r (upd (upd (upd i 15 (nI k)) 12 v1) 11 (nI q)))], [((r 9), .inl (Γ.2.1 0, 50, .inl t))], [((r 14), .inl (Γ.2.1 0, 60, .inl w1))]] H → WD A [[(a, moE r (upd (upd (upd i 15 (nI k)) 12 v1) 11 (nI q)))], [((r 9), .inl (Γ.2.1 0, 50, .inl t))], [((r 14), .inl (Γ.2.1 0, 60, .inl w1))]] → va_S A s.heap H locs → lv_has ls 1 [(0, .ref a)] → W pr_ l ev_ { frames := 7, cells := 0, slots := 0, locals := 154 } s mi_ ([.ref a] : List Value).toArray below meth cd_ H locs 0 0 (MQ below (Qi Γ (fun r_ u_ => r_ = ((textR t n v w).1) ∧ u_ = [[(a, moE r (upd (upd (upd i 15 (nI (textR t n v w).2.2.2.1)) 12 (textR t n v w).2.2.1) 11 (nI (textR t n v w).2.1)))], [((r 9), .inl (Γ.2.1 0, 50, .inl t))], [((r 14), .inl (Γ.2.1 0, 60, .inl ((textR t n v w).2.2.2.2)))]]) A) ([.ref a] : List Value).toArray s 0 0 A) (F0 mi_ 10 ls ([])) := by
    intro fuel
    induction fuel with
    | zero => intro f q v1 k w1 hfuel; exact absurd hfuel (Nat.not_lt_zero _)
    | succ fuel ih =>
      intro f q v1 k w1 hfuel hq hf hk6 hI H locs ls hP hD hS hl
      refine lv_aload_n hx hb dX4_isText_10 rfl (lv_at hl 0 rfl) ?_
      refine b_calli (br := []) (b_runV ⟨hx, hb, hml, hown, hts⟩ (mt_Mo_command l Γ _ a r (upd (upd (upd i 15 (nI k)) 12 v1) 11 (nI q)) t n q v1 k w1 (by first | exact h10 | simp [upd, h10]) (by first | exact hn | omega) (by simp [upd]) (by omega) (by simp [upd]) (by simp [upd]) (by omega)) (lw_V q2151 q2153 qs53 q73 q2154) rfl rfl 0 (by decide +kernel) ⟨(Nat.le_of_ble_eq_true rfl), (Nat.le_of_ble_eq_true rfl)⟩ (c_pre hP hD hS hA hK hE [0, 1, 2] rfl rfl ro_nil) (recv_at (q := (RX4, TX4, 16)) hK (b_at (k := 0) hP rfl) rfl) rfl hl.1 rfl (Nat.le_of_ble_eq_true rfl) dX4_isText_11 ⟨(Nat.le_of_ble_eq_true rfl), (Nat.le_of_ble_eq_true rfl)⟩) hP hD hS hA [0, 1, 2] [] rfl rfl rfl (fun r_2 u_2 H locs hw_2 hP hD hS _ => ?_)
      obtain ⟨rfl, rfl⟩ := hw_2
      have hP : WP Γ [[(a, moE r (upd (upd (upd (upd (upd (upd i 15 (nI k)) 12 v1) 11 (nI q)) 15 (nI (cmdR t n q v1 k w1).2.2.2.1)) 12 (cmdR t n q v1 k w1).2.2.1) 11 (nI (cmdR t n q v1 k w1).2.1)))], [((r 9), .inl (Γ.2.1 0, 50, .inl t))], [((r 14), .inl (Γ.2.1 0, 60, .inl ((cmdR t n q v1 k w1).2.2.2.2)))]] H := hP
      have hD : WD A [[(a, moE r (upd (upd (upd (upd (upd (upd i 15 (nI k)) 12 v1) 11 (nI q)) 15 (nI (cmdR t n q v1 k w1).2.2.2.1)) 12 (cmdR t n q v1 k w1).2.2.1) 11 (nI (cmdR t n q v1 k w1).2.1)))], [((r 9), .inl (Γ.2.1 0, 50, .inl t))], [((r 14), .inl (Γ.2.1 0, 60, .inl ((cmdR t n q v1 k w1).2.2.2.2)))]] := hD
      rw [show (upd (upd (upd (upd (upd (upd i 15 (nI k)) 12 v1) 11 (nI q)) 15 (nI (cmdR t n q v1 k w1).2.2.2.1)) 12 (cmdR t n q v1 k w1).2.2.1) 11 (nI (cmdR t n q v1 k w1).2.1)) = (upd (upd (upd i 15 (nI (cmdR t n q v1 k w1).2.2.2.1)) 12 (cmdR t n q v1 k w1).2.2.1) 11 (nI (cmdR t n q v1 k w1).2.1)) from can3 (by intro q a b c; simp [upd, a, b, c]) (by simp [upd]) (by simp [upd, h12]) (by simp [upd])] at hP hD
      refine lv_if_ne (tgt := 19) hx hb dX4_isText_14 (by decide) (fun c_3 => ?_) (fun c_3 => ?_)
      · -- 14 taken
        have hR9 := cmdR_in c_3
        by_cases b1 : hereP t n (cmdR t n q v1 k w1).2.1 = 59
        ·
          have hR9 := cmdR_in c_3
          refine lv_aload_n hx hb dX4_isText_19 rfl (lv_at hl 0 rfl) ?_
          refine lv_bipush (v := 59) hx hb dX4_isText_20 (by decide) ?_
          refine b_calli (br := [[((r 14), .inl (Γ.2.1 0, 60, .inl ((cmdR t n q v1 k w1).2.2.2.2)))]]) (b_runV ⟨hx, hb, hml, hown, hts⟩ (mt_Mo_skips_yes l Γ _ a r (upd (upd (upd i 15 (nI (cmdR t n q v1 k w1).2.2.2.1)) 12 (cmdR t n q v1 k w1).2.2.1) 11 (nI (cmdR t n q v1 k w1).2.1)) t n ((cmdR t n q v1 k w1).2.1) 59 (by first | exact h10 | simp [upd, h10]) (by first | exact hn | omega) (by simp [upd]) hR9.2.1 b1) (lw_V q2178 q2180 qs57 q73 q2181) rfl rfl 1 (by decide +kernel) ⟨(Nat.le_of_ble_eq_true rfl), (Nat.le_of_ble_eq_true rfl)⟩ (c_pre hP hD hS hA hK hE [0, 1] rfl rfl ro_nil) (recv_at (q := (RX4, TX4, 16)) hK (b_at (k := 0) hP rfl) rfl) rfl hl.1 rfl (Nat.le_of_ble_eq_true rfl) dX4_isText_22 ⟨(Nat.le_of_ble_eq_true rfl), (Nat.le_of_ble_eq_true rfl)⟩) hP hD hS hA [0, 1] [2] rfl rfl rfl (fun r_4 u_4 H locs hw_4 hP hD hS _ => ?_)
          obtain ⟨rfl, rfl⟩ := hw_4
          have hP : WP Γ [[(a, moE r (upd (upd (upd (upd i 15 (nI (cmdR t n q v1 k w1).2.2.2.1)) 12 (cmdR t n q v1 k w1).2.2.1) 11 (nI (cmdR t n q v1 k w1).2.1)) 11 (nI (((cmdR t n q v1 k w1).2.1) + 1))))], [((r 9), .inl (Γ.2.1 0, 50, .inl t))], [((r 14), .inl (Γ.2.1 0, 60, .inl ((cmdR t n q v1 k w1).2.2.2.2)))]] H := hP
          have hD : WD A [[(a, moE r (upd (upd (upd (upd i 15 (nI (cmdR t n q v1 k w1).2.2.2.1)) 12 (cmdR t n q v1 k w1).2.2.1) 11 (nI (cmdR t n q v1 k w1).2.1)) 11 (nI (((cmdR t n q v1 k w1).2.1) + 1))))], [((r 9), .inl (Γ.2.1 0, 50, .inl t))], [((r 14), .inl (Γ.2.1 0, 60, .inl ((cmdR t n q v1 k w1).2.2.2.2)))]] := hD
          rw [show (upd (upd (upd (upd i 15 (nI (cmdR t n q v1 k w1).2.2.2.1)) 12 (cmdR t n q v1 k w1).2.2.1) 11 (nI (cmdR t n q v1 k w1).2.1)) 11 (nI (((cmdR t n q v1 k w1).2.1) + 1))) = (upd (upd (upd i 15 (nI (cmdR t n q v1 k w1).2.2.2.1)) 12 (cmdR t n q v1 k w1).2.2.1) 11 (nI (((cmdR t n q v1 k w1).2.1) + 1))) from can3 (by intro q a b c; simp [upd, a, b, c]) (by simp [upd]) (by simp [upd, h12]) (by simp [upd])] at hP hD
          refine lv_if_ne (tgt := 10) hx hb dX4_isText_25 (by decide) (fun c_5 => ?_) (fun c_5 => ?_)
          · -- 25 taken
            have n_5 : ¬ (1 = 0) := fun h => c_5 ((nI_eq (a := 1) (b := 0) (by omega) (by omega)).mpr h)
            exact ih (f - 1) ((cmdR t n q v1 k w1).2.1 + 1) ((cmdR t n q v1 k w1).2.2.1) ((cmdR t n q v1 k w1).2.2.2.1) ((cmdR t n q v1 k w1).2.2.2.2) (by omega) (by have := hereP_lt (by decide) b1; omega) (by omega) (by omega) (by rw [hI]; conv => lhs; rw [show f = (f - 1) + 1 by omega]; rw [textF, if_neg c_3, if_pos b1]) _ _ _ hP hD hS (lv_sub hl [0] rfl)
          · -- 25 not taken
            have n_5 : 1 = 0 := (nI_eq (by omega) (by omega)).mp (show nI 1 = nI 0 from c_5)
            exact absurd n_5 (by omega)
        ·
          have hR9 := cmdR_in c_3
          refine lv_aload_n hx hb dX4_isText_19 rfl (lv_at hl 0 rfl) ?_
          refine lv_bipush (v := 59) hx hb dX4_isText_20 (by decide) ?_
          refine b_calli (br := [[((r 14), .inl (Γ.2.1 0, 60, .inl ((cmdR t n q v1 k w1).2.2.2.2)))]]) (b_runV ⟨hx, hb, hml, hown, hts⟩ (mt_Mo_skips_no l Γ _ a r (upd (upd (upd i 15 (nI (cmdR t n q v1 k w1).2.2.2.1)) 12 (cmdR t n q v1 k w1).2.2.1) 11 (nI (cmdR t n q v1 k w1).2.1)) t n ((cmdR t n q v1 k w1).2.1) 59 (by first | exact h10 | simp [upd, h10]) (by first | exact hn | omega) (by simp [upd]) hR9.2.1 b1) (lw_V q2178 q2180 qs57 q73 q2181) rfl rfl 1 (by decide +kernel) ⟨(Nat.le_of_ble_eq_true rfl), (Nat.le_of_ble_eq_true rfl)⟩ (c_pre hP hD hS hA hK hE [0, 1] rfl rfl ro_nil) (recv_at (q := (RX4, TX4, 16)) hK (b_at (k := 0) hP rfl) rfl) rfl hl.1 rfl (Nat.le_of_ble_eq_true rfl) dX4_isText_22 ⟨(Nat.le_of_ble_eq_true rfl), (Nat.le_of_ble_eq_true rfl)⟩) hP hD hS hA [0, 1] [2] rfl rfl rfl (fun r_6 u_6 H locs hw_6 hP hD hS _ => ?_)
          obtain ⟨rfl, rfl⟩ := hw_6
          have hP : WP Γ [[(a, moE r (upd (upd (upd (upd i 15 (nI (cmdR t n q v1 k w1).2.2.2.1)) 12 (cmdR t n q v1 k w1).2.2.1) 11 (nI (cmdR t n q v1 k w1).2.1)) 11 (nI ((cmdR t n q v1 k w1).2.1))))], [((r 9), .inl (Γ.2.1 0, 50, .inl t))], [((r 14), .inl (Γ.2.1 0, 60, .inl ((cmdR t n q v1 k w1).2.2.2.2)))]] H := hP
          have hD : WD A [[(a, moE r (upd (upd (upd (upd i 15 (nI (cmdR t n q v1 k w1).2.2.2.1)) 12 (cmdR t n q v1 k w1).2.2.1) 11 (nI (cmdR t n q v1 k w1).2.1)) 11 (nI ((cmdR t n q v1 k w1).2.1))))], [((r 9), .inl (Γ.2.1 0, 50, .inl t))], [((r 14), .inl (Γ.2.1 0, 60, .inl ((cmdR t n q v1 k w1).2.2.2.2)))]] := hD
          rw [show (upd (upd (upd (upd i 15 (nI (cmdR t n q v1 k w1).2.2.2.1)) 12 (cmdR t n q v1 k w1).2.2.1) 11 (nI (cmdR t n q v1 k w1).2.1)) 11 (nI ((cmdR t n q v1 k w1).2.1))) = (upd (upd (upd i 15 (nI (cmdR t n q v1 k w1).2.2.2.1)) 12 (cmdR t n q v1 k w1).2.2.1) 11 (nI ((cmdR t n q v1 k w1).2.1))) from can3 (by intro q a b c; simp [upd, a, b, c]) (by simp [upd]) (by simp [upd, h12]) (by simp [upd])] at hP hD
          refine lv_if_ne (tgt := 10) hx hb dX4_isText_25 (by decide) (fun c_7 => ?_) (fun c_7 => ?_)
          · -- 25 taken
            have n_7 : ¬ (0 = 0) := fun h => c_7 ((nI_eq (a := 0) (b := 0) (by omega) (by omega)).mpr h)
            exact absurd n_7 (by omega)
          · -- 25 not taken
            have n_7 : 0 = 0 := (nI_eq (by omega) (by omega)).mp (show nI 0 = nI 0 from c_7)
            refine lv_aload_n hx hb dX4_isText_28 rfl (lv_at hl 0 rfl) ?_
            refine b_get (C := RX4) (T := TX4) (N := 16) (v := .int (nI (((cmdR t n q v1 k w1).2.1)))) hx hb hts in_X4 hown hK (b_at (k := 0) hP rfl) rfl 11 (by decide) q1818 (fun _ h9 => h9) rfl dX4_isText_29 ?_
            refine lv_aload_n hx hb dX4_isText_32 rfl (lv_at hl 0 rfl) ?_
            refine b_get (C := RX4) (T := TX4) (N := 16) (v := .int (i 10)) hx hb hts in_X4 hown hK (b_at (k := 0) hP rfl) rfl 10 (by decide) q1817 (fun _ h9 => h9) rfl dX4_isText_33 ?_
            refine b_top (h10) ?_
            refine lv_icmp_ne (tgt := 43) hx hb dX4_isText_36 (by decide) (fun c_8 => ?_) (fun c_8 => ?_)
            · -- 36 taken
              have n_8 : ¬ (((cmdR t n q v1 k w1).2.1) = n) := fun h => c_8 ((nI_eq (a := ((cmdR t n q v1 k w1).2.1)) (b := n) (by omega) (by omega)).mpr h)
              refine lv_iconst (v := 0) hx hb dX4_isText_43 (by decide) ?_
              have e9 : textR t n v w = (0, (cmdR t n q v1 k w1).2) := by rw [hI]; conv => lhs; rw [show f = (f - 1) + 1 by omega]; rw [textF, if_neg c_3, if_neg b1, if_neg n_8]
              exact b_zret hx hb hr hlocks hP hD hS (Nat.le_of_ble_eq_true rfl) (Nat.le_of_ble_eq_true rfl) rfl ⟨(by rw [e9]), (by rw [e9])⟩ dX4_isText_44
            · -- 36 not taken
              have n_8 : ((cmdR t n q v1 k w1).2.1) = n := (nI_eq (by omega) (by omega)).mp (show nI (((cmdR t n q v1 k w1).2.1)) = nI n from c_8)
              refine lv_iconst (v := 1) hx hb dX4_isText_39 (by decide) ?_
              refine lv_goto (tgt := 44) hx hb dX4_isText_40 (by decide) ?_
              have e9 : textR t n v w = (1, (cmdR t n q v1 k w1).2) := by rw [hI]; conv => lhs; rw [show f = (f - 1) + 1 by omega]; rw [textF, if_neg c_3, if_neg b1, if_pos n_8]
              exact b_zret hx hb hr hlocks hP hD hS (Nat.le_of_ble_eq_true rfl) (Nat.le_of_ble_eq_true rfl) rfl ⟨(by rw [e9]), (by rw [e9])⟩ dX4_isText_44
      · -- 14 not taken
        have e9 : textR t n v w = (cmdR t n q v1 k w1) := by rw [hI]; conv => lhs; rw [show f = (f - 1) + 1 by omega]; rw [textF, if_pos c_3]
        refine lv_iconst (v := 0) hx hb dX4_isText_17 (by decide) ?_
        exact b_zret hx hb hr hlocks hP hD hS (Nat.le_of_ble_eq_true rfl) (Nat.le_of_ble_eq_true rfl) rfl ⟨(by rw [e9]; first | exact c_3 | exact c_3.symm), (by rw [e9])⟩ dX4_isText_18
  exact loop_1 ((n + 1) + 1) (n + 1) 0 v 0 w (Nat.lt_succ_self _) (by omega) (by omega) (by omega) rfl _ _ _ hP hD hS (lv_sub hl [0] rfl)
