/-! MODEL, small members: the state is moE r i (fields by their places: r references, i numbers) and the row g -/
def inR (v lo hi : Int32) : Int32 := if v < lo then 0 else if hi < v then 0 else 1
theorem inR_nat {v x : Int32} {n : Nat} (hx : x = nI n) (hn : n < 2 ^ 31) (h : ¬ inR v 0 (x - 1) = 0) : ∃ k : Nat, k < n ∧ v = nI k := by
  unfold inR at h
  split at h
  · exact absurd rfl h
  · rename_i h1
    split at h
    · exact absurd rfl h
    · rename_i h2
      subst hx
      obtain ⟨k, hk, rfl⟩ := nI_of h1
      refine ⟨k, ?_, rfl⟩
      cases n with
      | zero => exact absurd (by rw [Int32.lt_iff_toInt_lt, nI_toInt hk]; exact Int.lt_of_lt_of_le (by decide) (Int.natCast_nonneg k)) h2
      | succ n =>
        rw [nI_pred] at h2
        have := (nI_ltI (a := n) (b := k) (by omega) (by omega))
        have h3 : ¬ n < k := fun z => h2 (this.mpr z)
        omega
theorem inR_of {n k : Nat} (hn : n < 2 ^ 31) (hk : k < n) : inR (nI k) 0 (nI n - 1) = 1 := by
  unfold inR
  rw [if_neg (nI_pos (by omega))]
  cases n with
  | zero => omega
  | succ n =>
    rw [nI_pred, if_neg (nI_nlt (by omega) (by omega))]
def moKept (g : Nat → Int32) (v : Int32) : Int32 := if inR v 0 (g 7 - 1) = 0 then 0 else if g (10 * v.toNatClampNeg + 19) < 2 then 1 else 0
def moMil (g : Nat → Int32) (k : Nat) : Int32 := if g (10 * k + 19) = 1 then 1 else 0
def moCar (g : Nat → Int32) (k : Nat) : Int32 := if g (10 * k + 19) < 2 then (if g (10 * k + 21) < 0 then 0 else 1) else 0
def moLit (g : Nat → Int32) (k : Nat) (t : Int32) : Int32 :=
  let up := g (10 * k + 15) / 2 + g (10 * k + 15) * t / 40
  let down := g (10 * k + 15) - g (10 * k + 16) * t / 20
  let least := if up < down then up else down
  if 0 < least then least else 0
def moFree (g : Nat → Int32) : Int32 := if g 8 < g 4 then g 4 - g 8 else 0
set_option maxHeartbeats 4000000 in
set_option maxRecDepth 100000 in
theorem mt_Mo_in (l : Launch) (Γ : GE) (sz : Nat) (v : Int32) (lo : Int32) (hi : Int32)  : KM l yX4_in cX4_in 3 (some FieldType.boolean) Γ 0 0 0 0 [.int v, .int lo, .int hi] [] [] sz (Qi Γ (fun r_ u_ => r_ = (inR v lo hi) ∧ u_ = [])) := by
  refine K_intro (by decide) (Nat.le_of_ble_eq_true rfl) ?_
  intro pr_ ev_ s mi_ below meth cd_ A ls hx hb hr hml hown hts hlocks hname hK hE hRo hP hD hA hS hsz hl
  have hl : lv_has ls 3 [(0, .int v), (1, .int lo), (2, .int hi)] := hl
  have hown : s.vm.findClass RX4 = some mi_.cls := hown
  refine lv_iload_n hx hb dX4_in_0 rfl (lv_at hl 0 rfl) ?_
  refine lv_iload_n hx hb dX4_in_1 rfl (lv_at hl 1 rfl) ?_
  refine lv_icmp_lt (tgt := 14) hx hb dX4_in_2 (by decide) (fun c_1 => ?_) (fun c_1 => ?_)
  · -- 2 taken
    refine lv_iconst (v := 0) hx hb dX4_in_14 (by decide) ?_
    exact b_zret hx hb hr hlocks hP hD hS (Nat.le_of_ble_eq_true rfl) (Nat.le_of_ble_eq_true rfl) rfl ⟨(by first | with_reducible rfl | (simp [inR, c_1]; done) | rfl), (by first | with_reducible rfl | (simp [inR, c_1]; done) | rfl)⟩ dX4_in_15
  · -- 2 not taken
    refine lv_iload_n hx hb dX4_in_5 rfl (lv_at hl 0 rfl) ?_
    refine lv_iload_n hx hb dX4_in_6 rfl (lv_at hl 2 rfl) ?_
    refine lv_icmp_gt (tgt := 14) hx hb dX4_in_7 (by decide) (fun c_2 => ?_) (fun c_2 => ?_)
    · -- 7 taken
      refine lv_iconst (v := 0) hx hb dX4_in_14 (by decide) ?_
      exact b_zret hx hb hr hlocks hP hD hS (Nat.le_of_ble_eq_true rfl) (Nat.le_of_ble_eq_true rfl) rfl ⟨(by first | with_reducible rfl | (simp [inR, c_1, c_2]; done) | rfl), (by first | with_reducible rfl | (simp [inR, c_1, c_2]; done) | rfl)⟩ dX4_in_15
    · -- 7 not taken
      refine lv_iconst (v := 1) hx hb dX4_in_10 (by decide) ?_
      refine lv_goto (tgt := 15) hx hb dX4_in_11 (by decide) ?_
      exact b_zret hx hb hr hlocks hP hD hS (Nat.le_of_ble_eq_true rfl) (Nat.le_of_ble_eq_true rfl) rfl ⟨(by first | with_reducible rfl | (simp [inR, c_1, c_2]; done) | rfl), (by first | with_reducible rfl | (simp [inR, c_1, c_2]; done) | rfl)⟩ dX4_in_15
set_option maxHeartbeats 4000000 in
set_option maxRecDepth 100000 in
theorem mt_Mo_at (l : Launch) (Γ : GE) (sz : Nat) (k : Nat) (w : Nat)  : KM l yX4_at cX4_at 2 (some FieldType.int) Γ 0 0 0 0 [.int (nI k), .int (nI w)] [] [] sz (Qi Γ (fun r_ u_ => r_ = (nI (10 * k + w + 15)) ∧ u_ = [])) := by
  refine K_intro (by decide) (Nat.le_of_ble_eq_true rfl) ?_
  intro pr_ ev_ s mi_ below meth cd_ A ls hx hb hr hml hown hts hlocks hname hK hE hRo hP hD hA hS hsz hl
  have hl : lv_has ls 2 [(0, .int (nI k)), (1, .int (nI w))] := hl
  have hown : s.vm.findClass RX4 = some mi_.cls := hown
  refine lv_bipush (v := 15) hx hb dX4_at_0 (by decide) ?_
  refine lv_bipush (v := 10) hx hb dX4_at_2 (by decide) ?_
  refine lv_iload_n hx hb dX4_at_4 rfl (lv_at hl 0 rfl) ?_
  refine lv_imul hx hb dX4_at_5 ?_
  refine b_top (nI_mulE (a := 10) (b := k) (c := 10 * k) rfl rfl (by first | omega | rfl)) ?_
  refine lv_iadd hx hb dX4_at_6 ?_
  refine b_top (nI_addE (a := 15) (b := 10 * k) (c := 10 * k + 15) rfl rfl (by first | omega | rfl)) ?_
  refine lv_iload_n hx hb dX4_at_7 rfl (lv_at hl 1 rfl) ?_
  refine lv_iadd hx hb dX4_at_8 ?_
  refine b_top (nI_addE (a := 10 * k + 15) (b := w) (c := 10 * k + w + 15) rfl rfl (by first | omega | rfl)) ?_
  exact b_iret hx hb hr hlocks hP hD hS (Nat.le_of_ble_eq_true rfl) (Nat.le_of_ble_eq_true rfl) ⟨(by first | rfl | (simp; done)), (by first | rfl | (simp; done))⟩ dX4_at_9
set_option maxHeartbeats 4000000 in
set_option maxRecDepth 100000 in
theorem mt_Mo_fails (l : Launch) (Γ : GE) (sz : Nat) (a : Nat) (r : Nat → Nat) (i : Nat → Int32) (v : Int32)  : KM l yX4_fails cX4_fails 2 (some FieldType.int) Γ 0 0 0 0 [.ref a, .int v] [[(a, moE r i)]] [] sz (Qi Γ (fun r_ u_ => r_ = 0 ∧ u_ = [[(a, moE r (upd i 7 v))]])) := by
  refine K_intro (by decide) (Nat.le_of_ble_eq_true rfl) ?_
  intro pr_ ev_ s mi_ below meth cd_ A ls hx hb hr hml hown hts hlocks hname hK hE hRo hP hD hA hS hsz hl
  have hl : lv_has ls 2 [(0, .ref a), (1, .int v)] := hl
  have hown : s.vm.findClass RX4 = some mi_.cls := hown
  refine lv_aload_n hx hb dX4_fails_0 rfl (lv_at hl 0 rfl) ?_
  refine lv_iload_n hx hb dX4_fails_1 rfl (lv_at hl 1 rfl) ?_
  refine b_putM (C := RX4) (T := TX4) (N := 16) (ty := .int) (vv := v) hx hb hts in_X4 tyX4_ok nmX4 hown hK hP hD hS 0 rfl rfl 7 (by decide) q1814 (fun _ h9 => h9) rfl (by decide +kernel) rfl rfl (Nat.le_of_ble_eq_true rfl) (moL_set7 _ _ _) dX4_fails_2 (fun H locs hP hD hS => ?_)
  have hP : WP Γ [[(a, moE r (upd i 7 v))]] H := hP
  have hD : WD A [[(a, moE r (upd i 7 v))]] := hD
  refine lv_iconst (v := 0) hx hb dX4_fails_5 (by decide) ?_
  exact b_iret hx hb hr hlocks hP hD hS (Nat.le_of_ble_eq_true rfl) (Nat.le_of_ble_eq_true rfl) ⟨(by first | rfl | (simp; done)), (by first | rfl | (simp; done))⟩ dX4_fails_6
set_option maxHeartbeats 4000000 in
set_option maxRecDepth 100000 in
theorem mt_Mo_thrown (l : Launch) (Γ : GE) (sz : Nat) (a : Nat) (r : Nat → Nat) (i : Nat → Int32)  : KM l yX4_thrown cX4_thrown 1 (some FieldType.int) Γ 0 0 0 0 [.ref a] [[(a, moE r i)]] [] sz (Qi Γ (fun r_ u_ => r_ = (i 7) ∧ u_ = [[(a, moE r i)]])) := by
  refine K_intro (by decide) (Nat.le_of_ble_eq_true rfl) ?_
  intro pr_ ev_ s mi_ below meth cd_ A ls hx hb hr hml hown hts hlocks hname hK hE hRo hP hD hA hS hsz hl
  have hl : lv_has ls 1 [(0, .ref a)] := hl
  have hown : s.vm.findClass RX4 = some mi_.cls := hown
  refine lv_aload_n hx hb dX4_thrown_0 rfl (lv_at hl 0 rfl) ?_
  refine b_get (C := RX4) (T := TX4) (N := 16) (v := .int (i 7)) hx hb hts in_X4 hown hK (b_at (k := 0) hP rfl) rfl 7 (by decide) q1814 (fun _ h9 => h9) rfl dX4_thrown_1 ?_
  exact b_iret hx hb hr hlocks hP hD hS (Nat.le_of_ble_eq_true rfl) (Nat.le_of_ble_eq_true rfl) ⟨(by first | rfl | (simp; done)), (by first | rfl | (simp; done))⟩ dX4_thrown_4
theorem inR_nar {v lo hi : Int32} : narrow .boolean (.int (inR v lo hi)) = .int (inR v lo hi) := by
  unfold inR
  split
  · rfl
  · split <;> rfl
set_option maxHeartbeats 4000000 in
set_option maxRecDepth 100000 in
theorem mt_Mo_isCow (l : Launch) (Γ : GE) (sz : Nat) (a : Nat) (r : Nat → Nat) (i : Nat → Int32) (g : Nat → Int32) (v : Int32)  : KM l yX4_isCow cX4_isCow 2 (some FieldType.boolean) Γ 1 22 0 0 [.ref a, .int v] [[(a, moE r i)], [((r 0), .inl (Γ.2.1 0, 523, .inl g))]] [] sz (Qi Γ (fun r_ u_ => r_ = (inR v 0 (g 7 - 1)) ∧ u_ = [[(a, moE r i)], [((r 0), .inl (Γ.2.1 0, 523, .inl g))]])) := by
  refine K_intro (by decide) (Nat.le_of_ble_eq_true rfl) ?_
  intro pr_ ev_ s mi_ below meth cd_ A ls hx hb hr hml hown hts hlocks hname hK hE hRo hP hD hA hS hsz hl
  have hl : lv_has ls 2 [(0, .ref a), (1, .int v)] := hl
  have hown : s.vm.findClass RX4 = some mi_.cls := hown
  refine lv_iload_n hx hb dX4_isCow_0 rfl (lv_at hl 1 rfl) ?_
  refine lv_iconst (v := 0) hx hb dX4_isCow_1 (by decide) ?_
  refine lv_aload_n hx hb dX4_isCow_2 rfl (lv_at hl 0 rfl) ?_
  refine b_get (C := RX4) (T := TX4) (N := 16) (v := .ref (r 0)) hx hb hts in_X4 hown hK (b_at (k := 0) hP rfl) rfl 0 (by decide) q1807 (fun _ h9 => h9) rfl dX4_isCow_3 ?_
  refine lv_bipush (v := 7) hx hb dX4_isCow_6 (by decide) ?_
  refine b_iald hx hb hK (b_at (k := 1) hP rfl) 7 rfl (by omega) (by omega) dX4_isCow_8 ?_
  refine lv_iconst (v := 1) hx hb dX4_isCow_9 (by decide) ?_
  refine lv_isub hx hb dX4_isCow_10 ?_
  refine b_calli (br := [[(a, moE r i)], [((r 0), .inl (Γ.2.1 0, 523, .inl g))]]) (b_runS ⟨hx, hb, hml, hown, hts⟩ (mt_Mo_in l Γ _ v 0 ((g 7) - 1)) (lw_S q1879 q1880 q73 q1881) rfl rfl 3 (by decide +kernel) ⟨(Nat.le_of_ble_eq_true rfl), (Nat.le_of_ble_eq_true rfl)⟩ (c_pre hP hD hS hA hK hE [] rfl rfl ro_nil) rfl hl.1 rfl (Nat.le_of_ble_eq_true rfl) dX4_isCow_11 ⟨(Nat.le_of_ble_eq_true rfl), (Nat.le_of_ble_eq_true rfl)⟩) hP hD hS hA [] [0, 1] rfl rfl rfl (fun r_1 u_1 H locs hw_1 hP hD hS _ => ?_)
  obtain ⟨rfl, rfl⟩ := hw_1
  have hP : WP Γ [[(a, moE r i)], [((r 0), .inl (Γ.2.1 0, 523, .inl g))]] H := hP
  have hD : WD A [[(a, moE r i)], [((r 0), .inl (Γ.2.1 0, 523, .inl g))]] := hD
  exact b_zret hx hb hr hlocks hP hD hS (Nat.le_of_ble_eq_true rfl) (Nat.le_of_ble_eq_true rfl) inR_nar ⟨(by first | rfl | (simp; done)), (by first | rfl | (simp; done))⟩ dX4_isCow_14
set_option maxHeartbeats 4000000 in
set_option maxRecDepth 100000 in
theorem mt_Mo_isKept (l : Launch) (Γ : GE) (sz : Nat) (a : Nat) (r : Nat → Nat) (i : Nat → Int32) (g : Nat → Int32) (v : Int32) (n : Nat) (hg7 : g 7 = nI n) (hn : n ≤ 8) : KM l yX4_isKept cX4_isKept 2 (some FieldType.boolean) Γ 2 43 0 0 [.ref a, .int v] [[(a, moE r i)], [((r 0), .inl (Γ.2.1 0, 523, .inl g))]] [] sz (Qi Γ (fun r_ u_ => r_ = (moKept g v) ∧ u_ = [[(a, moE r i)], [((r 0), .inl (Γ.2.1 0, 523, .inl g))]])) := by
  refine K_intro (by decide) (Nat.le_of_ble_eq_true rfl) ?_
  intro pr_ ev_ s mi_ below meth cd_ A ls hx hb hr hml hown hts hlocks hname hK hE hRo hP hD hA hS hsz hl
  have hl : lv_has ls 2 [(0, .ref a), (1, .int v)] := hl
  have hown : s.vm.findClass RX4 = some mi_.cls := hown
  refine lv_aload_n hx hb dX4_isKept_0 rfl (lv_at hl 0 rfl) ?_
  refine lv_iload_n hx hb dX4_isKept_1 rfl (lv_at hl 1 rfl) ?_
  refine b_calli (br := []) (b_runV ⟨hx, hb, hml, hown, hts⟩ (mt_Mo_isCow l Γ _ a r i g v) (lw_V q1920 q1922 qs36 q73 q1923) rfl rfl 1 (by decide +kernel) ⟨(Nat.le_of_ble_eq_true rfl), (Nat.le_of_ble_eq_true rfl)⟩ (c_pre hP hD hS hA hK hE [0, 1] rfl rfl ro_nil) (recv_at (q := (RX4, TX4, 16)) hK (b_at (k := 0) hP rfl) rfl) rfl hl.1 rfl (Nat.le_of_ble_eq_true rfl) dX4_isKept_2 ⟨(Nat.le_of_ble_eq_true rfl), (Nat.le_of_ble_eq_true rfl)⟩) hP hD hS hA [0, 1] [] rfl rfl rfl (fun r_1 u_1 H locs hw_1 hP hD hS _ => ?_)
  obtain ⟨rfl, rfl⟩ := hw_1
  have hP : WP Γ [[(a, moE r i)], [((r 0), .inl (Γ.2.1 0, 523, .inl g))]] H := hP
  have hD : WD A [[(a, moE r i)], [((r 0), .inl (Γ.2.1 0, 523, .inl g))]] := hD
  refine lv_if_eq (tgt := 26) hx hb dX4_isKept_5 (by decide) (fun c_2 => ?_) (fun c_2 => ?_)
  · -- 5 taken
    refine lv_iconst (v := 0) hx hb dX4_isKept_26 (by decide) ?_
    exact b_zret hx hb hr hlocks hP hD hS (Nat.le_of_ble_eq_true rfl) (Nat.le_of_ble_eq_true rfl) rfl ⟨(by first | with_reducible rfl | (simp [moKept, c_2]; done) | rfl), (by first | with_reducible rfl | (simp [moKept, c_2]; done) | rfl)⟩ dX4_isKept_27
  · -- 5 not taken
    obtain ⟨k, hk, rfl⟩ := inR_nat hg7 (by omega) c_2
    refine lv_aload_n hx hb dX4_isKept_8 rfl (lv_at hl 0 rfl) ?_
    refine b_get (C := RX4) (T := TX4) (N := 16) (v := .ref (r 0)) hx hb hts in_X4 hown hK (b_at (k := 0) hP rfl) rfl 0 (by decide) q1807 (fun _ h9 => h9) rfl dX4_isKept_9 ?_
    refine lv_iload_n hx hb dX4_isKept_12 rfl (lv_at hl 1 rfl) ?_
    refine lv_iconst (v := 4) hx hb dX4_isKept_13 (by decide) ?_
    refine b_calli (br := [[(a, moE r i)], [((r 0), .inl (Γ.2.1 0, 523, .inl g))]]) (b_runS ⟨hx, hb, hml, hown, hts⟩ (mt_Mo_at l Γ _ k 4) (lw_S q1886 q1887 q73 q1888) rfl rfl 2 (by decide +kernel) ⟨(Nat.le_of_ble_eq_true rfl), (Nat.le_of_ble_eq_true rfl)⟩ (c_pre hP hD hS hA hK hE [] rfl rfl ro_nil) rfl hl.1 rfl (Nat.le_of_ble_eq_true rfl) dX4_isKept_14 ⟨(Nat.le_of_ble_eq_true rfl), (Nat.le_of_ble_eq_true rfl)⟩) hP hD hS hA [] [0, 1] rfl rfl rfl (fun r_3 u_3 H locs hw_3 hP hD hS _ => ?_)
    obtain ⟨rfl, rfl⟩ := hw_3
    have hP : WP Γ [[(a, moE r i)], [((r 0), .inl (Γ.2.1 0, 523, .inl g))]] H := hP
    have hD : WD A [[(a, moE r i)], [((r 0), .inl (Γ.2.1 0, 523, .inl g))]] := hD
    refine b_iald hx hb hK (b_at (k := 1) hP rfl) (10 * k + 19) rfl (by omega) (by omega) dX4_isKept_17 ?_
    refine lv_iconst (v := 2) hx hb dX4_isKept_18 (by decide) ?_
    refine lv_icmp_ge (tgt := 26) hx hb dX4_isKept_19 (by decide) (fun c_4 => ?_) (fun c_4 => ?_)
    · -- 19 taken
      have d_4 := Int32.not_lt.mpr c_4
      refine lv_iconst (v := 0) hx hb dX4_isKept_26 (by decide) ?_
      exact b_zret hx hb hr hlocks hP hD hS (Nat.le_of_ble_eq_true rfl) (Nat.le_of_ble_eq_true rfl) rfl ⟨(by first | with_reducible rfl | (simp [moKept, c_2, nI_clamp (show k < 2 ^ 31 by omega), c_4, d_4]; done) | rfl), (by first | with_reducible rfl | (simp [moKept, c_2, nI_clamp (show k < 2 ^ 31 by omega), c_4, d_4]; done) | rfl)⟩ dX4_isKept_27
    · -- 19 not taken
      have d_4 := Int32.not_le.mp c_4
      refine lv_iconst (v := 1) hx hb dX4_isKept_22 (by decide) ?_
      refine lv_goto (tgt := 27) hx hb dX4_isKept_23 (by decide) ?_
      exact b_zret hx hb hr hlocks hP hD hS (Nat.le_of_ble_eq_true rfl) (Nat.le_of_ble_eq_true rfl) rfl ⟨(by first | with_reducible rfl | (simp [moKept, c_2, nI_clamp (show k < 2 ^ 31 by omega), c_4, d_4]; done) | rfl), (by first | with_reducible rfl | (simp [moKept, c_2, nI_clamp (show k < 2 ^ 31 by omega), c_4, d_4]; done) | rfl)⟩ dX4_isKept_27
set_option maxHeartbeats 4000000 in
set_option maxRecDepth 100000 in
theorem mt_Mo_isMilked (l : Launch) (Γ : GE) (sz : Nat) (a : Nat) (r : Nat → Nat) (i : Nat → Int32) (g : Nat → Int32) (k : Nat) (hk : k < 8) : KM l yX4_isMilked cX4_isMilked 2 (some FieldType.boolean) Γ 1 21 0 0 [.ref a, .int (nI k)] [[(a, moE r i)], [((r 0), .inl (Γ.2.1 0, 523, .inl g))]] [] sz (Qi Γ (fun r_ u_ => r_ = (moMil g k) ∧ u_ = [[(a, moE r i)], [((r 0), .inl (Γ.2.1 0, 523, .inl g))]])) := by
  refine K_intro (by decide) (Nat.le_of_ble_eq_true rfl) ?_
  intro pr_ ev_ s mi_ below meth cd_ A ls hx hb hr hml hown hts hlocks hname hK hE hRo hP hD hA hS hsz hl
  have hl : lv_has ls 2 [(0, .ref a), (1, .int (nI k))] := hl
  have hown : s.vm.findClass RX4 = some mi_.cls := hown
  refine lv_aload_n hx hb dX4_isMilked_0 rfl (lv_at hl 0 rfl) ?_
  refine b_get (C := RX4) (T := TX4) (N := 16) (v := .ref (r 0)) hx hb hts in_X4 hown hK (b_at (k := 0) hP rfl) rfl 0 (by decide) q1807 (fun _ h9 => h9) rfl dX4_isMilked_1 ?_
  refine lv_iload_n hx hb dX4_isMilked_4 rfl (lv_at hl 1 rfl) ?_
  refine lv_iconst (v := 4) hx hb dX4_isMilked_5 (by decide) ?_
  refine b_calli (br := [[(a, moE r i)], [((r 0), .inl (Γ.2.1 0, 523, .inl g))]]) (b_runS ⟨hx, hb, hml, hown, hts⟩ (mt_Mo_at l Γ _ k 4) (lw_S q1886 q1887 q73 q1888) rfl rfl 2 (by decide +kernel) ⟨(Nat.le_of_ble_eq_true rfl), (Nat.le_of_ble_eq_true rfl)⟩ (c_pre hP hD hS hA hK hE [] rfl rfl ro_nil) rfl hl.1 rfl (Nat.le_of_ble_eq_true rfl) dX4_isMilked_6 ⟨(Nat.le_of_ble_eq_true rfl), (Nat.le_of_ble_eq_true rfl)⟩) hP hD hS hA [] [0, 1] rfl rfl rfl (fun r_1 u_1 H locs hw_1 hP hD hS _ => ?_)
  obtain ⟨rfl, rfl⟩ := hw_1
  have hP : WP Γ [[(a, moE r i)], [((r 0), .inl (Γ.2.1 0, 523, .inl g))]] H := hP
  have hD : WD A [[(a, moE r i)], [((r 0), .inl (Γ.2.1 0, 523, .inl g))]] := hD
  refine b_iald hx hb hK (b_at (k := 1) hP rfl) (10 * k + 19) rfl (by omega) (by omega) dX4_isMilked_9 ?_
  refine lv_iconst (v := 1) hx hb dX4_isMilked_10 (by decide) ?_
  refine lv_icmp_ne (tgt := 18) hx hb dX4_isMilked_11 (by decide) (fun c_2 => ?_) (fun c_2 => ?_)
  · -- 11 taken
    refine lv_iconst (v := 0) hx hb dX4_isMilked_18 (by decide) ?_
    exact b_zret hx hb hr hlocks hP hD hS (Nat.le_of_ble_eq_true rfl) (Nat.le_of_ble_eq_true rfl) rfl ⟨(by first | with_reducible rfl | (simp [moMil, c_2]; done) | rfl), (by first | with_reducible rfl | (simp [moMil, c_2]; done) | rfl)⟩ dX4_isMilked_19
  · -- 11 not taken
    refine lv_iconst (v := 1) hx hb dX4_isMilked_14 (by decide) ?_
    refine lv_goto (tgt := 19) hx hb dX4_isMilked_15 (by decide) ?_
    exact b_zret hx hb hr hlocks hP hD hS (Nat.le_of_ble_eq_true rfl) (Nat.le_of_ble_eq_true rfl) rfl ⟨(by first | with_reducible rfl | (simp [moMil, c_2]; done) | rfl), (by first | with_reducible rfl | (simp [moMil, c_2]; done) | rfl)⟩ dX4_isMilked_19
set_option maxHeartbeats 4000000 in
set_option maxRecDepth 100000 in
theorem mt_Mo_isCarrying (l : Launch) (Γ : GE) (sz : Nat) (a : Nat) (r : Nat → Nat) (i : Nat → Int32) (g : Nat → Int32) (k : Nat) (hk : k < 8) : KM l yX4_isCarrying cX4_isCarrying 2 (some FieldType.boolean) Γ 1 21 0 0 [.ref a, .int (nI k)] [[(a, moE r i)], [((r 0), .inl (Γ.2.1 0, 523, .inl g))]] [] sz (Qi Γ (fun r_ u_ => r_ = (moCar g k) ∧ u_ = [[(a, moE r i)], [((r 0), .inl (Γ.2.1 0, 523, .inl g))]])) := by
  refine K_intro (by decide) (Nat.le_of_ble_eq_true rfl) ?_
  intro pr_ ev_ s mi_ below meth cd_ A ls hx hb hr hml hown hts hlocks hname hK hE hRo hP hD hA hS hsz hl
  have hl : lv_has ls 2 [(0, .ref a), (1, .int (nI k))] := hl
  have hown : s.vm.findClass RX4 = some mi_.cls := hown
  refine lv_aload_n hx hb dX4_isCarrying_0 rfl (lv_at hl 0 rfl) ?_
  refine b_get (C := RX4) (T := TX4) (N := 16) (v := .ref (r 0)) hx hb hts in_X4 hown hK (b_at (k := 0) hP rfl) rfl 0 (by decide) q1807 (fun _ h9 => h9) rfl dX4_isCarrying_1 ?_
  refine lv_iload_n hx hb dX4_isCarrying_4 rfl (lv_at hl 1 rfl) ?_
  refine lv_iconst (v := 4) hx hb dX4_isCarrying_5 (by decide) ?_
  refine b_calli (br := [[(a, moE r i)], [((r 0), .inl (Γ.2.1 0, 523, .inl g))]]) (b_runS ⟨hx, hb, hml, hown, hts⟩ (mt_Mo_at l Γ _ k 4) (lw_S q1886 q1887 q73 q1888) rfl rfl 2 (by decide +kernel) ⟨(Nat.le_of_ble_eq_true rfl), (Nat.le_of_ble_eq_true rfl)⟩ (c_pre hP hD hS hA hK hE [] rfl rfl ro_nil) rfl hl.1 rfl (Nat.le_of_ble_eq_true rfl) dX4_isCarrying_6 ⟨(Nat.le_of_ble_eq_true rfl), (Nat.le_of_ble_eq_true rfl)⟩) hP hD hS hA [] [0, 1] rfl rfl rfl (fun r_1 u_1 H locs hw_1 hP hD hS _ => ?_)
  obtain ⟨rfl, rfl⟩ := hw_1
  have hP : WP Γ [[(a, moE r i)], [((r 0), .inl (Γ.2.1 0, 523, .inl g))]] H := hP
  have hD : WD A [[(a, moE r i)], [((r 0), .inl (Γ.2.1 0, 523, .inl g))]] := hD
  refine b_iald hx hb hK (b_at (k := 1) hP rfl) (10 * k + 19) rfl (by omega) (by omega) dX4_isCarrying_9 ?_
  refine lv_iconst (v := 2) hx hb dX4_isCarrying_10 (by decide) ?_
  refine lv_icmp_ge (tgt := 32) hx hb dX4_isCarrying_11 (by decide) (fun c_2 => ?_) (fun c_2 => ?_)
  · -- 11 taken
    have d_2 := Int32.not_lt.mpr c_2
    refine lv_iconst (v := 0) hx hb dX4_isCarrying_32 (by decide) ?_
    exact b_zret hx hb hr hlocks hP hD hS (Nat.le_of_ble_eq_true rfl) (Nat.le_of_ble_eq_true rfl) rfl ⟨(by first | with_reducible rfl | (simp [moCar, c_2, d_2]; done) | rfl), (by first | with_reducible rfl | (simp [moCar, c_2, d_2]; done) | rfl)⟩ dX4_isCarrying_33
  · -- 11 not taken
    have d_2 := Int32.not_le.mp c_2
    refine lv_aload_n hx hb dX4_isCarrying_14 rfl (lv_at hl 0 rfl) ?_
    refine b_get (C := RX4) (T := TX4) (N := 16) (v := .ref (r 0)) hx hb hts in_X4 hown hK (b_at (k := 0) hP rfl) rfl 0 (by decide) q1807 (fun _ h9 => h9) rfl dX4_isCarrying_15 ?_
    refine lv_iload_n hx hb dX4_isCarrying_18 rfl (lv_at hl 1 rfl) ?_
    refine lv_bipush (v := 6) hx hb dX4_isCarrying_19 (by decide) ?_
    refine b_calli (br := [[(a, moE r i)], [((r 0), .inl (Γ.2.1 0, 523, .inl g))]]) (b_runS ⟨hx, hb, hml, hown, hts⟩ (mt_Mo_at l Γ _ k 6) (lw_S q1886 q1887 q73 q1888) rfl rfl 2 (by decide +kernel) ⟨(Nat.le_of_ble_eq_true rfl), (Nat.le_of_ble_eq_true rfl)⟩ (c_pre hP hD hS hA hK hE [] rfl rfl ro_nil) rfl hl.1 rfl (Nat.le_of_ble_eq_true rfl) dX4_isCarrying_21 ⟨(Nat.le_of_ble_eq_true rfl), (Nat.le_of_ble_eq_true rfl)⟩) hP hD hS hA [] [0, 1] rfl rfl rfl (fun r_3 u_3 H locs hw_3 hP hD hS _ => ?_)
    obtain ⟨rfl, rfl⟩ := hw_3
    have hP : WP Γ [[(a, moE r i)], [((r 0), .inl (Γ.2.1 0, 523, .inl g))]] H := hP
    have hD : WD A [[(a, moE r i)], [((r 0), .inl (Γ.2.1 0, 523, .inl g))]] := hD
    refine b_iald hx hb hK (b_at (k := 1) hP rfl) (10 * k + 21) rfl (by omega) (by omega) dX4_isCarrying_24 ?_
    refine lv_if_lt (tgt := 32) hx hb dX4_isCarrying_25 (by decide) (fun c_4 => ?_) (fun c_4 => ?_)
    · -- 25 taken
      refine lv_iconst (v := 0) hx hb dX4_isCarrying_32 (by decide) ?_
      exact b_zret hx hb hr hlocks hP hD hS (Nat.le_of_ble_eq_true rfl) (Nat.le_of_ble_eq_true rfl) rfl ⟨(by first | with_reducible rfl | (simp [moCar, c_2, d_2, c_4]; done) | rfl), (by first | with_reducible rfl | (simp [moCar, c_2, d_2, c_4]; done) | rfl)⟩ dX4_isCarrying_33
    · -- 25 not taken
      refine lv_iconst (v := 1) hx hb dX4_isCarrying_28 (by decide) ?_
      refine lv_goto (tgt := 33) hx hb dX4_isCarrying_29 (by decide) ?_
      exact b_zret hx hb hr hlocks hP hD hS (Nat.le_of_ble_eq_true rfl) (Nat.le_of_ble_eq_true rfl) rfl ⟨(by first | with_reducible rfl | (simp [moCar, c_2, d_2, c_4]; done) | rfl), (by first | with_reducible rfl | (simp [moCar, c_2, d_2, c_4]; done) | rfl)⟩ dX4_isCarrying_33
set_option maxHeartbeats 4000000 in
set_option maxRecDepth 100000 in
theorem mt_Mo_inMilk (l : Launch) (Γ : GE) (sz : Nat) (a : Nat) (r : Nat → Nat) (i : Nat → Int32) (g : Nat → Int32) (k : Nat) (hk : k < 8) : KM l yX4_inMilk cX4_inMilk 2 (some FieldType.int) Γ 1 21 0 0 [.ref a, .int (nI k)] [[(a, moE r i)], [((r 0), .inl (Γ.2.1 0, 523, .inl g))]] [] sz (Qi Γ (fun r_ u_ => r_ = (g 0 - g (10 * k + 20)) ∧ u_ = [[(a, moE r i)], [((r 0), .inl (Γ.2.1 0, 523, .inl g))]])) := by
  refine K_intro (by decide) (Nat.le_of_ble_eq_true rfl) ?_
  intro pr_ ev_ s mi_ below meth cd_ A ls hx hb hr hml hown hts hlocks hname hK hE hRo hP hD hA hS hsz hl
  have hl : lv_has ls 2 [(0, .ref a), (1, .int (nI k))] := hl
  have hown : s.vm.findClass RX4 = some mi_.cls := hown
  refine lv_aload_n hx hb dX4_inMilk_0 rfl (lv_at hl 0 rfl) ?_
  refine b_get (C := RX4) (T := TX4) (N := 16) (v := .ref (r 0)) hx hb hts in_X4 hown hK (b_at (k := 0) hP rfl) rfl 0 (by decide) q1807 (fun _ h9 => h9) rfl dX4_inMilk_1 ?_
  refine lv_iconst (v := 0) hx hb dX4_inMilk_4 (by decide) ?_
  refine b_iald hx hb hK (b_at (k := 1) hP rfl) 0 rfl (by omega) (by omega) dX4_inMilk_5 ?_
  refine lv_aload_n hx hb dX4_inMilk_6 rfl (lv_at hl 0 rfl) ?_
  refine b_get (C := RX4) (T := TX4) (N := 16) (v := .ref (r 0)) hx hb hts in_X4 hown hK (b_at (k := 0) hP rfl) rfl 0 (by decide) q1807 (fun _ h9 => h9) rfl dX4_inMilk_7 ?_
  refine lv_iload_n hx hb dX4_inMilk_10 rfl (lv_at hl 1 rfl) ?_
  refine lv_iconst (v := 5) hx hb dX4_inMilk_11 (by decide) ?_
  refine b_calli (br := [[(a, moE r i)], [((r 0), .inl (Γ.2.1 0, 523, .inl g))]]) (b_runS ⟨hx, hb, hml, hown, hts⟩ (mt_Mo_at l Γ _ k 5) (lw_S q1886 q1887 q73 q1888) rfl rfl 2 (by decide +kernel) ⟨(Nat.le_of_ble_eq_true rfl), (Nat.le_of_ble_eq_true rfl)⟩ (c_pre hP hD hS hA hK hE [] rfl rfl ro_nil) rfl hl.1 rfl (Nat.le_of_ble_eq_true rfl) dX4_inMilk_12 ⟨(Nat.le_of_ble_eq_true rfl), (Nat.le_of_ble_eq_true rfl)⟩) hP hD hS hA [] [0, 1] rfl rfl rfl (fun r_1 u_1 H locs hw_1 hP hD hS _ => ?_)
  obtain ⟨rfl, rfl⟩ := hw_1
  have hP : WP Γ [[(a, moE r i)], [((r 0), .inl (Γ.2.1 0, 523, .inl g))]] H := hP
  have hD : WD A [[(a, moE r i)], [((r 0), .inl (Γ.2.1 0, 523, .inl g))]] := hD
  refine b_iald hx hb hK (b_at (k := 1) hP rfl) (10 * k + 20) rfl (by omega) (by omega) dX4_inMilk_15 ?_
  refine lv_isub hx hb dX4_inMilk_16 ?_
  exact b_iret hx hb hr hlocks hP hD hS (Nat.le_of_ble_eq_true rfl) (Nat.le_of_ble_eq_true rfl) ⟨(by first | rfl | (simp; done)), (by first | rfl | (simp; done))⟩ dX4_inMilk_17
set_option maxHeartbeats 4000000 in
set_option maxRecDepth 100000 in
theorem mt_Mo_litres (l : Launch) (Γ : GE) (sz : Nat) (a : Nat) (r : Nat → Nat) (i : Nat → Int32) (g : Nat → Int32) (k : Nat) (t : Int32) (hk : k < 8) : KM l yX4_litres cX4_litres 6 (some FieldType.int) Γ 1 21 0 0 [.ref a, .int (nI k), .int t] [[(a, moE r i)], [((r 0), .inl (Γ.2.1 0, 523, .inl g))]] [] sz (Qi Γ (fun r_ u_ => r_ = (moLit g k t) ∧ u_ = [[(a, moE r i)], [((r 0), .inl (Γ.2.1 0, 523, .inl g))]])) := by
  refine K_intro (by decide) (Nat.le_of_ble_eq_true rfl) ?_
  intro pr_ ev_ s mi_ below meth cd_ A ls hx hb hr hml hown hts hlocks hname hK hE hRo hP hD hA hS hsz hl
  have hl : lv_has ls 6 [(0, .ref a), (1, .int (nI k)), (2, .int t)] := hl
  have hown : s.vm.findClass RX4 = some mi_.cls := hown
  refine lv_aload_n hx hb dX4_litres_0 rfl (lv_at hl 0 rfl) ?_
  refine b_get (C := RX4) (T := TX4) (N := 16) (v := .ref (r 0)) hx hb hts in_X4 hown hK (b_at (k := 0) hP rfl) rfl 0 (by decide) q1807 (fun _ h9 => h9) rfl dX4_litres_1 ?_
  refine lv_iload_n hx hb dX4_litres_4 rfl (lv_at hl 1 rfl) ?_
  refine lv_iconst (v := 0) hx hb dX4_litres_5 (by decide) ?_
  refine b_calli (br := [[(a, moE r i)], [((r 0), .inl (Γ.2.1 0, 523, .inl g))]]) (b_runS ⟨hx, hb, hml, hown, hts⟩ (mt_Mo_at l Γ _ k 0) (lw_S q1886 q1887 q73 q1888) rfl rfl 2 (by decide +kernel) ⟨(Nat.le_of_ble_eq_true rfl), (Nat.le_of_ble_eq_true rfl)⟩ (c_pre hP hD hS hA hK hE [] rfl rfl ro_nil) rfl hl.1 rfl (Nat.le_of_ble_eq_true rfl) dX4_litres_6 ⟨(Nat.le_of_ble_eq_true rfl), (Nat.le_of_ble_eq_true rfl)⟩) hP hD hS hA [] [0, 1] rfl rfl rfl (fun r_1 u_1 H locs hw_1 hP hD hS _ => ?_)
  obtain ⟨rfl, rfl⟩ := hw_1
  have hP : WP Γ [[(a, moE r i)], [((r 0), .inl (Γ.2.1 0, 523, .inl g))]] H := hP
  have hD : WD A [[(a, moE r i)], [((r 0), .inl (Γ.2.1 0, 523, .inl g))]] := hD
  refine b_iald hx hb hK (b_at (k := 1) hP rfl) (10 * k + 15) rfl (by omega) (by omega) dX4_litres_9 ?_
  refine lv_iconst (v := 2) hx hb dX4_litres_10 (by decide) ?_
  refine lv_idiv hx hb dX4_litres_11 (by decide) ?_
  refine lv_aload_n hx hb dX4_litres_12 rfl (lv_at hl 0 rfl) ?_
  refine b_get (C := RX4) (T := TX4) (N := 16) (v := .ref (r 0)) hx hb hts in_X4 hown hK (b_at (k := 0) hP rfl) rfl 0 (by decide) q1807 (fun _ h9 => h9) rfl dX4_litres_13 ?_
  refine lv_iload_n hx hb dX4_litres_16 rfl (lv_at hl 1 rfl) ?_
  refine lv_iconst (v := 0) hx hb dX4_litres_17 (by decide) ?_
  refine b_calli (br := [[(a, moE r i)], [((r 0), .inl (Γ.2.1 0, 523, .inl g))]]) (b_runS ⟨hx, hb, hml, hown, hts⟩ (mt_Mo_at l Γ _ k 0) (lw_S q1886 q1887 q73 q1888) rfl rfl 2 (by decide +kernel) ⟨(Nat.le_of_ble_eq_true rfl), (Nat.le_of_ble_eq_true rfl)⟩ (c_pre hP hD hS hA hK hE [] rfl rfl ro_nil) rfl hl.1 rfl (Nat.le_of_ble_eq_true rfl) dX4_litres_18 ⟨(Nat.le_of_ble_eq_true rfl), (Nat.le_of_ble_eq_true rfl)⟩) hP hD hS hA [] [0, 1] rfl rfl rfl (fun r_2 u_2 H locs hw_2 hP hD hS _ => ?_)
  obtain ⟨rfl, rfl⟩ := hw_2
  have hP : WP Γ [[(a, moE r i)], [((r 0), .inl (Γ.2.1 0, 523, .inl g))]] H := hP
  have hD : WD A [[(a, moE r i)], [((r 0), .inl (Γ.2.1 0, 523, .inl g))]] := hD
  refine b_iald hx hb hK (b_at (k := 1) hP rfl) (10 * k + 15) rfl (by omega) (by omega) dX4_litres_21 ?_
  refine lv_iload_n hx hb dX4_litres_22 rfl (lv_at hl 2 rfl) ?_
  refine lv_imul hx hb dX4_litres_23 ?_
  refine lv_bipush (v := 40) hx hb dX4_litres_24 (by decide) ?_
  refine lv_idiv hx hb dX4_litres_26 (by decide) ?_
  refine lv_iadd hx hb dX4_litres_27 ?_
  refine lv_istore_n (lv' := [(3, .int (((g (10 * k + 15)) / 2) + (((g (10 * k + 15)) * t) / 40))), (0, .ref a), (1, .int (nI k)), (2, .int t)]) hx hb dX4_litres_28 rfl hl (by decide) rfl (fun ls hl => ?_)
  refine lv_aload_n hx hb dX4_litres_29 rfl (lv_at hl 1 rfl) ?_
  refine b_get (C := RX4) (T := TX4) (N := 16) (v := .ref (r 0)) hx hb hts in_X4 hown hK (b_at (k := 0) hP rfl) rfl 0 (by decide) q1807 (fun _ h9 => h9) rfl dX4_litres_30 ?_
  refine lv_iload_n hx hb dX4_litres_33 rfl (lv_at hl 2 rfl) ?_
  refine lv_iconst (v := 0) hx hb dX4_litres_34 (by decide) ?_
  refine b_calli (br := [[(a, moE r i)], [((r 0), .inl (Γ.2.1 0, 523, .inl g))]]) (b_runS ⟨hx, hb, hml, hown, hts⟩ (mt_Mo_at l Γ _ k 0) (lw_S q1886 q1887 q73 q1888) rfl rfl 2 (by decide +kernel) ⟨(Nat.le_of_ble_eq_true rfl), (Nat.le_of_ble_eq_true rfl)⟩ (c_pre hP hD hS hA hK hE [] rfl rfl ro_nil) rfl hl.1 rfl (Nat.le_of_ble_eq_true rfl) dX4_litres_35 ⟨(Nat.le_of_ble_eq_true rfl), (Nat.le_of_ble_eq_true rfl)⟩) hP hD hS hA [] [0, 1] rfl rfl rfl (fun r_3 u_3 H locs hw_3 hP hD hS _ => ?_)
  obtain ⟨rfl, rfl⟩ := hw_3
  have hP : WP Γ [[(a, moE r i)], [((r 0), .inl (Γ.2.1 0, 523, .inl g))]] H := hP
  have hD : WD A [[(a, moE r i)], [((r 0), .inl (Γ.2.1 0, 523, .inl g))]] := hD
  refine b_iald hx hb hK (b_at (k := 1) hP rfl) (10 * k + 15) rfl (by omega) (by omega) dX4_litres_38 ?_
  refine lv_aload_n hx hb dX4_litres_39 rfl (lv_at hl 1 rfl) ?_
  refine b_get (C := RX4) (T := TX4) (N := 16) (v := .ref (r 0)) hx hb hts in_X4 hown hK (b_at (k := 0) hP rfl) rfl 0 (by decide) q1807 (fun _ h9 => h9) rfl dX4_litres_40 ?_
  refine lv_iload_n hx hb dX4_litres_43 rfl (lv_at hl 2 rfl) ?_
  refine lv_iconst (v := 1) hx hb dX4_litres_44 (by decide) ?_
  refine b_calli (br := [[(a, moE r i)], [((r 0), .inl (Γ.2.1 0, 523, .inl g))]]) (b_runS ⟨hx, hb, hml, hown, hts⟩ (mt_Mo_at l Γ _ k 1) (lw_S q1886 q1887 q73 q1888) rfl rfl 2 (by decide +kernel) ⟨(Nat.le_of_ble_eq_true rfl), (Nat.le_of_ble_eq_true rfl)⟩ (c_pre hP hD hS hA hK hE [] rfl rfl ro_nil) rfl hl.1 rfl (Nat.le_of_ble_eq_true rfl) dX4_litres_45 ⟨(Nat.le_of_ble_eq_true rfl), (Nat.le_of_ble_eq_true rfl)⟩) hP hD hS hA [] [0, 1] rfl rfl rfl (fun r_4 u_4 H locs hw_4 hP hD hS _ => ?_)
  obtain ⟨rfl, rfl⟩ := hw_4
  have hP : WP Γ [[(a, moE r i)], [((r 0), .inl (Γ.2.1 0, 523, .inl g))]] H := hP
  have hD : WD A [[(a, moE r i)], [((r 0), .inl (Γ.2.1 0, 523, .inl g))]] := hD
  refine b_iald hx hb hK (b_at (k := 1) hP rfl) (10 * k + 16) rfl (by omega) (by omega) dX4_litres_48 ?_
  refine lv_iload_n hx hb dX4_litres_49 rfl (lv_at hl 3 rfl) ?_
  refine lv_imul hx hb dX4_litres_50 ?_
  refine lv_bipush (v := 20) hx hb dX4_litres_51 (by decide) ?_
  refine lv_idiv hx hb dX4_litres_53 (by decide) ?_
  refine lv_isub hx hb dX4_litres_54 ?_
  refine lv_istore (lv' := [(4, .int ((g (10 * k + 15)) - (((g (10 * k + 16)) * t) / 20))), (3, .int (((g (10 * k + 15)) / 2) + (((g (10 * k + 15)) * t) / 40))), (0, .ref a), (1, .int (nI k)), (2, .int t)]) hx hb dX4_litres_55 hl (by decide) rfl (fun ls hl => ?_)
  refine lv_iload_n hx hb dX4_litres_57 rfl (lv_at hl 1 rfl) ?_
  refine lv_iload hx hb dX4_litres_58 (lv_at hl 0 rfl) ?_
  refine lv_icmp_ge (tgt := 67) hx hb dX4_litres_60 (by decide) (fun c_5 => ?_) (fun c_5 => ?_)
  · -- 60 taken
    have d_5 := Int32.not_lt.mpr c_5
    refine lv_iload hx hb dX4_litres_67 (lv_at hl 0 rfl) ?_
    refine lv_istore (lv' := [(5, .int ((g (10 * k + 15)) - (((g (10 * k + 16)) * t) / 20))), (4, .int ((g (10 * k + 15)) - (((g (10 * k + 16)) * t) / 20))), (3, .int (((g (10 * k + 15)) / 2) + (((g (10 * k + 15)) * t) / 40))), (0, .ref a), (1, .int (nI k)), (2, .int t)]) hx hb dX4_litres_69 hl (by decide) rfl (fun ls hl => ?_)
    refine lv_iload hx hb dX4_litres_71 (lv_at hl 0 rfl) ?_
    refine lv_if_le (tgt := 81) hx hb dX4_litres_73 (by decide) (fun c_6 => ?_) (fun c_6 => ?_)
    · -- 73 taken
      have d_6 := Int32.not_lt.mpr c_6
      refine lv_iconst (v := 0) hx hb dX4_litres_81 (by decide) ?_
      exact b_iret hx hb hr hlocks hP hD hS (Nat.le_of_ble_eq_true rfl) (Nat.le_of_ble_eq_true rfl) ⟨(by first | with_reducible rfl | (simp [moLit, c_5, d_5, c_6, d_6]; done) | rfl), (by first | with_reducible rfl | (simp [moLit, c_5, d_5, c_6, d_6]; done) | rfl)⟩ dX4_litres_82
    · -- 73 not taken
      have d_6 := Int32.not_le.mp c_6
      refine lv_iload hx hb dX4_litres_76 (lv_at hl 0 rfl) ?_
      refine lv_goto (tgt := 82) hx hb dX4_litres_78 (by decide) ?_
      exact b_iret hx hb hr hlocks hP hD hS (Nat.le_of_ble_eq_true rfl) (Nat.le_of_ble_eq_true rfl) ⟨(by first | with_reducible rfl | (simp [moLit, c_5, d_5, c_6, d_6]; done) | rfl), (by first | with_reducible rfl | (simp [moLit, c_5, d_5, c_6, d_6]; done) | rfl)⟩ dX4_litres_82
  · -- 60 not taken
    have d_5 := Int32.not_le.mp c_5
    refine lv_iload_n hx hb dX4_litres_63 rfl (lv_at hl 1 rfl) ?_
    refine lv_goto (tgt := 69) hx hb dX4_litres_64 (by decide) ?_
    refine lv_istore (lv' := [(5, .int (((g (10 * k + 15)) / 2) + (((g (10 * k + 15)) * t) / 40))), (4, .int ((g (10 * k + 15)) - (((g (10 * k + 16)) * t) / 20))), (3, .int (((g (10 * k + 15)) / 2) + (((g (10 * k + 15)) * t) / 40))), (0, .ref a), (1, .int (nI k)), (2, .int t)]) hx hb dX4_litres_69 hl (by decide) rfl (fun ls hl => ?_)
    refine lv_iload hx hb dX4_litres_71 (lv_at hl 0 rfl) ?_
    refine lv_if_le (tgt := 81) hx hb dX4_litres_73 (by decide) (fun c_7 => ?_) (fun c_7 => ?_)
    · -- 73 taken
      have d_7 := Int32.not_lt.mpr c_7
      refine lv_iconst (v := 0) hx hb dX4_litres_81 (by decide) ?_
      exact b_iret hx hb hr hlocks hP hD hS (Nat.le_of_ble_eq_true rfl) (Nat.le_of_ble_eq_true rfl) ⟨(by first | with_reducible rfl | (simp [moLit, c_5, d_5, c_7, d_7]; done) | rfl), (by first | with_reducible rfl | (simp [moLit, c_5, d_5, c_7, d_7]; done) | rfl)⟩ dX4_litres_82
    · -- 73 not taken
      have d_7 := Int32.not_le.mp c_7
      refine lv_iload hx hb dX4_litres_76 (lv_at hl 0 rfl) ?_
      refine lv_goto (tgt := 82) hx hb dX4_litres_78 (by decide) ?_
      exact b_iret hx hb hr hlocks hP hD hS (Nat.le_of_ble_eq_true rfl) (Nat.le_of_ble_eq_true rfl) ⟨(by first | with_reducible rfl | (simp [moLit, c_5, d_5, c_7, d_7]; done) | rfl), (by first | with_reducible rfl | (simp [moLit, c_5, d_5, c_7, d_7]; done) | rfl)⟩ dX4_litres_82
set_option maxHeartbeats 4000000 in
set_option maxRecDepth 100000 in
theorem mt_Mo_free (l : Launch) (Γ : GE) (sz : Nat) (a : Nat) (r : Nat → Nat) (i : Nat → Int32) (g : Nat → Int32)  : KM l yX4_free cX4_free 1 (some FieldType.int) Γ 0 0 0 0 [.ref a] [[(a, moE r i)], [((r 0), .inl (Γ.2.1 0, 523, .inl g))]] [] sz (Qi Γ (fun r_ u_ => r_ = (moFree g) ∧ u_ = [[(a, moE r i)], [((r 0), .inl (Γ.2.1 0, 523, .inl g))]])) := by
  refine K_intro (by decide) (Nat.le_of_ble_eq_true rfl) ?_
  intro pr_ ev_ s mi_ below meth cd_ A ls hx hb hr hml hown hts hlocks hname hK hE hRo hP hD hA hS hsz hl
  have hl : lv_has ls 1 [(0, .ref a)] := hl
  have hown : s.vm.findClass RX4 = some mi_.cls := hown
  refine lv_aload_n hx hb dX4_free_0 rfl (lv_at hl 0 rfl) ?_
  refine b_get (C := RX4) (T := TX4) (N := 16) (v := .ref (r 0)) hx hb hts in_X4 hown hK (b_at (k := 0) hP rfl) rfl 0 (by decide) q1807 (fun _ h9 => h9) rfl dX4_free_1 ?_
  refine lv_iconst (v := 4) hx hb dX4_free_4 (by decide) ?_
  refine b_iald hx hb hK (b_at (k := 1) hP rfl) 4 rfl (by omega) (by omega) dX4_free_5 ?_
  refine lv_aload_n hx hb dX4_free_6 rfl (lv_at hl 0 rfl) ?_
  refine b_get (C := RX4) (T := TX4) (N := 16) (v := .ref (r 0)) hx hb hts in_X4 hown hK (b_at (k := 0) hP rfl) rfl 0 (by decide) q1807 (fun _ h9 => h9) rfl dX4_free_7 ?_
  refine lv_bipush (v := 8) hx hb dX4_free_10 (by decide) ?_
  refine b_iald hx hb hK (b_at (k := 1) hP rfl) 8 rfl (by omega) (by omega) dX4_free_12 ?_
  refine lv_icmp_le (tgt := 33) hx hb dX4_free_13 (by decide) (fun c_1 => ?_) (fun c_1 => ?_)
  · -- 13 taken
    have d_1 := Int32.not_lt.mpr c_1
    refine lv_iconst (v := 0) hx hb dX4_free_33 (by decide) ?_
    exact b_iret hx hb hr hlocks hP hD hS (Nat.le_of_ble_eq_true rfl) (Nat.le_of_ble_eq_true rfl) ⟨(by first | with_reducible rfl | (simp [moFree, c_1, d_1]; done) | rfl), (by first | with_reducible rfl | (simp [moFree, c_1, d_1]; done) | rfl)⟩ dX4_free_34
  · -- 13 not taken
    have d_1 := Int32.not_le.mp c_1
    refine lv_aload_n hx hb dX4_free_16 rfl (lv_at hl 0 rfl) ?_
    refine b_get (C := RX4) (T := TX4) (N := 16) (v := .ref (r 0)) hx hb hts in_X4 hown hK (b_at (k := 0) hP rfl) rfl 0 (by decide) q1807 (fun _ h9 => h9) rfl dX4_free_17 ?_
    refine lv_iconst (v := 4) hx hb dX4_free_20 (by decide) ?_
    refine b_iald hx hb hK (b_at (k := 1) hP rfl) 4 rfl (by omega) (by omega) dX4_free_21 ?_
    refine lv_aload_n hx hb dX4_free_22 rfl (lv_at hl 0 rfl) ?_
    refine b_get (C := RX4) (T := TX4) (N := 16) (v := .ref (r 0)) hx hb hts in_X4 hown hK (b_at (k := 0) hP rfl) rfl 0 (by decide) q1807 (fun _ h9 => h9) rfl dX4_free_23 ?_
    refine lv_bipush (v := 8) hx hb dX4_free_26 (by decide) ?_
    refine b_iald hx hb hK (b_at (k := 1) hP rfl) 8 rfl (by omega) (by omega) dX4_free_28 ?_
    refine lv_isub hx hb dX4_free_29 ?_
    refine lv_goto (tgt := 34) hx hb dX4_free_30 (by decide) ?_
    exact b_iret hx hb hr hlocks hP hD hS (Nat.le_of_ble_eq_true rfl) (Nat.le_of_ble_eq_true rfl) ⟨(by first | with_reducible rfl | (simp [moFree, c_1, d_1]; done) | rfl), (by first | with_reducible rfl | (simp [moFree, c_1, d_1]; done) | rfl)⟩ dX4_free_34
def moRowF (g : Nat → Int32) (lim : Int32) : Nat → Nat → Int32
  | 0, _ => -1
  | f + 1, j => if g (2 * j + 95) = lim then nI j else moRowF g lim f (j + 1)
def moRow (g : Nat → Int32) (lim : Int32) (n : Nat) : Int32 := moRowF g lim n 0
def moBonF (g : Nat → Int32) (mean : Int32) : Nat → Nat → Int32
  | 0, _ => 0
  | f + 1, j => if g (2 * j + 95) < mean then moBonF g mean f (j + 1) else g (2 * j + 96)
def moBon (g : Nat → Int32) (mean : Int32) (n : Nat) : Int32 := moBonF g mean n 0
set_option maxHeartbeats 4000000 in
set_option maxRecDepth 100000 in
theorem mt_Mo_rowOf (l : Launch) (Γ : GE) (sz : Nat) (a : Nat) (r : Nat → Nat) (i : Nat → Int32) (g : Nat → Int32) (lim : Int32) (n : Nat) (hg10 : g 10 = nI n) (hn : n ≤ 200) : KM l yX4_rowOf cX4_rowOf 3 (some FieldType.int) Γ 0 0 0 0 [.ref a, .int lim] [[(a, moE r i)], [((r 0), .inl (Γ.2.1 0, 523, .inl g))]] [] sz (Qi Γ (fun r_ u_ => r_ = (moRow g lim n) ∧ u_ = [[(a, moE r i)], [((r 0), .inl (Γ.2.1 0, 523, .inl g))]])) := by
  refine K_intro (by decide) (Nat.le_of_ble_eq_true rfl) ?_
  intro pr_ ev_ s mi_ below meth cd_ A ls hx hb hr hml hown hts hlocks hname hK hE hRo hP hD hA hS hsz hl
  have hl : lv_has ls 3 [(0, .ref a), (1, .int lim)] := hl
  have hown : s.vm.findClass RX4 = some mi_.cls := hown
  refine lv_iconst (v := 0) hx hb dX4_rowOf_0 (by decide) ?_
  refine lv_istore_n (lv' := [(2, .int 0), (0, .ref a), (1, .int lim)]) hx hb dX4_rowOf_1 rfl hl (by decide) rfl (fun ls hl => ?_)
  have loop_1 : ∀ (fuel : Nat) (j : Nat), n - j < fuel → (j ≤ n) → (moRowF g lim n 0 = moRowF g lim (n - j) j) → ∀ (H : Heap) (locs : List Loc) (ls : Array Slot), WP Γ [[(a, moE r i)], [((r 0), .inl (Γ.2.1 0, 523, .inl g))]] H → WD A [[(a, moE r i)], [((r 0), .inl (Γ.2.1 0, 523, .inl g))]] → va_S A s.heap H locs → lv_has ls 3 [(2, .int (nI j)), (0, .ref a), (1, .int lim)] → W pr_ l ev_ { frames := 0, cells := 0, slots := 0, locals := 0 } s mi_ ([.ref a, .int lim] : List Value).toArray below meth cd_ H locs 0 0 (MQ below (Qi Γ (fun r_ u_ => r_ = (moRow g lim n) ∧ u_ = [[(a, moE r i)], [((r 0), .inl (Γ.2.1 0, 523, .inl g))]]) A) ([.ref a, .int lim] : List Value).toArray s 0 0 A) (F0 mi_ 2 ls ([])) := by
    intro fuel
    induction fuel with
    | zero => intro j hfuel; exact absurd hfuel (Nat.not_lt_zero _)
    | succ fuel ih =>
      intro j hfuel hj hI H locs ls hP hD hS hl
      refine lv_iload_n hx hb dX4_rowOf_2 rfl (lv_at hl 0 rfl) ?_
      refine lv_aload_n hx hb dX4_rowOf_3 rfl (lv_at hl 1 rfl) ?_
      refine b_get (C := RX4) (T := TX4) (N := 16) (v := .ref (r 0)) hx hb hts in_X4 hown hK (b_at (k := 0) hP rfl) rfl 0 (by decide) q1807 (fun _ h9 => h9) rfl dX4_rowOf_4 ?_
      refine lv_bipush (v := 10) hx hb dX4_rowOf_7 (by decide) ?_
      refine b_iald hx hb hK (b_at (k := 1) hP rfl) 10 rfl (by omega) (by omega) dX4_rowOf_9 ?_
      refine b_top (hg10) ?_
      refine lv_icmp_ge (tgt := 36) hx hb dX4_rowOf_10 (by decide) (fun c_2 => ?_) (fun c_2 => ?_)
      · -- 10 taken
        have n_2 : n ≤ j := (nI_leI (by omega) (by omega)).mp (show nI n ≤ nI j from c_2)
        have m_2 : ¬ (j < n) := by omega
        have d_2 := Int32.not_lt.mpr c_2
        refine lv_iconst (v := (-1)) hx hb dX4_rowOf_36 (by decide) ?_
        exact b_iret hx hb hr hlocks hP hD hS (Nat.le_of_ble_eq_true rfl) (Nat.le_of_ble_eq_true rfl) ⟨(by rw [moRow, hI, show n - j = 0 by omega]; rfl), (by first | with_reducible rfl | (simp [n_2, m_2, d_2]; done) | rfl)⟩ dX4_rowOf_37
      · -- 10 not taken
        have n_2 : ¬ (n ≤ j) := fun h => c_2 ((nI_leI (a := n) (b := j) (by omega) (by omega)).mpr h)
        have m_2 : j < n := by omega
        have d_2 := Int32.not_le.mp c_2
        refine lv_aload_n hx hb dX4_rowOf_13 rfl (lv_at hl 1 rfl) ?_
        refine b_get (C := RX4) (T := TX4) (N := 16) (v := .ref (r 0)) hx hb hts in_X4 hown hK (b_at (k := 0) hP rfl) rfl 0 (by decide) q1807 (fun _ h9 => h9) rfl dX4_rowOf_14 ?_
        refine lv_bipush (v := 95) hx hb dX4_rowOf_17 (by decide) ?_
        refine lv_iconst (v := 2) hx hb dX4_rowOf_19 (by decide) ?_
        refine lv_iload_n hx hb dX4_rowOf_20 rfl (lv_at hl 0 rfl) ?_
        refine lv_imul hx hb dX4_rowOf_21 ?_
        refine b_top (nI_mulE (a := 2) (b := j) (c := 2 * j) rfl rfl (by first | omega | rfl)) ?_
        refine lv_iadd hx hb dX4_rowOf_22 ?_
        refine b_top (nI_addE (a := 95) (b := 2 * j) (c := 2 * j + 95) rfl rfl (by first | omega | rfl)) ?_
        refine b_iald hx hb hK (b_at (k := 1) hP rfl) (2 * j + 95) rfl (by omega) (by omega) dX4_rowOf_23 ?_
        refine lv_iload_n hx hb dX4_rowOf_24 rfl (lv_at hl 2 rfl) ?_
        refine lv_icmp_ne (tgt := 30) hx hb dX4_rowOf_25 (by decide) (fun c_3 => ?_) (fun c_3 => ?_)
        · -- 25 taken
          refine lv_iinc (v := (nI (j + 1))) (lv' := [(2, .int (nI (j + 1))), (0, .ref a), (1, .int lim)]) hx hb dX4_rowOf_30 hl (k := 0) rfl (nI_addE (a := j) (b := 1) (c := j + 1) rfl rfl (by first | omega | rfl)) (by decide) rfl (fun ls hl => ?_)
          refine lv_goto (tgt := 2) hx hb dX4_rowOf_33 (by decide) ?_
          exact ih (j + 1) (by omega) (by omega) (by rw [hI, show n - j = (n - (j + 1)) + 1 by omega, moRowF, if_neg c_3]) _ _ _ hP hD hS (lv_sub hl [0, 1, 2] rfl)
        · -- 25 not taken
          refine lv_iload_n hx hb dX4_rowOf_28 rfl (lv_at hl 0 rfl) ?_
          exact b_iret hx hb hr hlocks hP hD hS (Nat.le_of_ble_eq_true rfl) (Nat.le_of_ble_eq_true rfl) ⟨(by rw [moRow, hI, show n - j = (n - (j + 1)) + 1 by omega, moRowF, if_pos c_3]), (by first | with_reducible rfl | (simp [n_2, m_2, d_2, c_3]; done) | rfl)⟩ dX4_rowOf_29
  exact loop_1 ((n - 0) + 1) 0 (Nat.lt_succ_self _) (Nat.zero_le _) rfl _ _ _ hP hD hS (lv_sub hl [0, 1, 2] rfl)
set_option maxHeartbeats 4000000 in
set_option maxRecDepth 100000 in
theorem mt_Mo_bonusFor (l : Launch) (Γ : GE) (sz : Nat) (a : Nat) (r : Nat → Nat) (i : Nat → Int32) (g : Nat → Int32) (mean : Int32) (n : Nat) (hg10 : g 10 = nI n) (hn : n ≤ 200) : KM l yX4_bonusFor cX4_bonusFor 3 (some FieldType.int) Γ 0 0 0 0 [.ref a, .int mean] [[(a, moE r i)], [((r 0), .inl (Γ.2.1 0, 523, .inl g))]] [] sz (Qi Γ (fun r_ u_ => r_ = (moBon g mean n) ∧ u_ = [[(a, moE r i)], [((r 0), .inl (Γ.2.1 0, 523, .inl g))]])) := by
  refine K_intro (by decide) (Nat.le_of_ble_eq_true rfl) ?_
  intro pr_ ev_ s mi_ below meth cd_ A ls hx hb hr hml hown hts hlocks hname hK hE hRo hP hD hA hS hsz hl
  have hl : lv_has ls 3 [(0, .ref a), (1, .int mean)] := hl
  have hown : s.vm.findClass RX4 = some mi_.cls := hown
  refine lv_iconst (v := 0) hx hb dX4_bonusFor_0 (by decide) ?_
  refine lv_istore_n (lv' := [(2, .int 0), (0, .ref a), (1, .int mean)]) hx hb dX4_bonusFor_1 rfl hl (by decide) rfl (fun ls hl => ?_)
  have loop_1 : ∀ (fuel : Nat) (j : Nat), n - j < fuel → (j ≤ n) → (moBonF g mean n 0 = moBonF g mean (n - j) j) → ∀ (H : Heap) (locs : List Loc) (ls : Array Slot), WP Γ [[(a, moE r i)], [((r 0), .inl (Γ.2.1 0, 523, .inl g))]] H → WD A [[(a, moE r i)], [((r 0), .inl (Γ.2.1 0, 523, .inl g))]] → va_S A s.heap H locs → lv_has ls 3 [(2, .int (nI j)), (0, .ref a), (1, .int mean)] → W pr_ l ev_ { frames := 0, cells := 0, slots := 0, locals := 0 } s mi_ ([.ref a, .int mean] : List Value).toArray below meth cd_ H locs 0 0 (MQ below (Qi Γ (fun r_ u_ => r_ = (moBon g mean n) ∧ u_ = [[(a, moE r i)], [((r 0), .inl (Γ.2.1 0, 523, .inl g))]]) A) ([.ref a, .int mean] : List Value).toArray s 0 0 A) (F0 mi_ 2 ls ([])) := by
    intro fuel
    induction fuel with
    | zero => intro j hfuel; exact absurd hfuel (Nat.not_lt_zero _)
    | succ fuel ih =>
      intro j hfuel hj hI H locs ls hP hD hS hl
      refine lv_iload_n hx hb dX4_bonusFor_2 rfl (lv_at hl 0 rfl) ?_
      refine lv_aload_n hx hb dX4_bonusFor_3 rfl (lv_at hl 1 rfl) ?_
      refine b_get (C := RX4) (T := TX4) (N := 16) (v := .ref (r 0)) hx hb hts in_X4 hown hK (b_at (k := 0) hP rfl) rfl 0 (by decide) q1807 (fun _ h9 => h9) rfl dX4_bonusFor_4 ?_
      refine lv_bipush (v := 10) hx hb dX4_bonusFor_7 (by decide) ?_
      refine b_iald hx hb hK (b_at (k := 1) hP rfl) 10 rfl (by omega) (by omega) dX4_bonusFor_9 ?_
      refine b_top (hg10) ?_
      refine lv_icmp_ge (tgt := 48) hx hb dX4_bonusFor_10 (by decide) (fun c_2 => ?_) (fun c_2 => ?_)
      · -- 10 taken
        have n_2 : n ≤ j := (nI_leI (by omega) (by omega)).mp (show nI n ≤ nI j from c_2)
        have m_2 : ¬ (j < n) := by omega
        have d_2 := Int32.not_lt.mpr c_2
        refine lv_iconst (v := 0) hx hb dX4_bonusFor_48 (by decide) ?_
        exact b_iret hx hb hr hlocks hP hD hS (Nat.le_of_ble_eq_true rfl) (Nat.le_of_ble_eq_true rfl) ⟨(by rw [moBon, hI, show n - j = 0 by omega]; rfl), (by first | with_reducible rfl | (simp [n_2, m_2, d_2]; done) | rfl)⟩ dX4_bonusFor_49
      · -- 10 not taken
        have n_2 : ¬ (n ≤ j) := fun h => c_2 ((nI_leI (a := n) (b := j) (by omega) (by omega)).mpr h)
        have m_2 : j < n := by omega
        have d_2 := Int32.not_le.mp c_2
        refine lv_aload_n hx hb dX4_bonusFor_13 rfl (lv_at hl 1 rfl) ?_
        refine b_get (C := RX4) (T := TX4) (N := 16) (v := .ref (r 0)) hx hb hts in_X4 hown hK (b_at (k := 0) hP rfl) rfl 0 (by decide) q1807 (fun _ h9 => h9) rfl dX4_bonusFor_14 ?_
        refine lv_bipush (v := 95) hx hb dX4_bonusFor_17 (by decide) ?_
        refine lv_iconst (v := 2) hx hb dX4_bonusFor_19 (by decide) ?_
        refine lv_iload_n hx hb dX4_bonusFor_20 rfl (lv_at hl 0 rfl) ?_
        refine lv_imul hx hb dX4_bonusFor_21 ?_
        refine b_top (nI_mulE (a := 2) (b := j) (c := 2 * j) rfl rfl (by first | omega | rfl)) ?_
        refine lv_iadd hx hb dX4_bonusFor_22 ?_
        refine b_top (nI_addE (a := 95) (b := 2 * j) (c := 2 * j + 95) rfl rfl (by first | omega | rfl)) ?_
        refine b_iald hx hb hK (b_at (k := 1) hP rfl) (2 * j + 95) rfl (by omega) (by omega) dX4_bonusFor_23 ?_
        refine lv_iload_n hx hb dX4_bonusFor_24 rfl (lv_at hl 2 rfl) ?_
        refine lv_icmp_lt (tgt := 42) hx hb dX4_bonusFor_25 (by decide) (fun c_3 => ?_) (fun c_3 => ?_)
        · -- 25 taken
          refine lv_iinc (v := (nI (j + 1))) (lv' := [(2, .int (nI (j + 1))), (0, .ref a), (1, .int mean)]) hx hb dX4_bonusFor_42 hl (k := 0) rfl (nI_addE (a := j) (b := 1) (c := j + 1) rfl rfl (by first | omega | rfl)) (by decide) rfl (fun ls hl => ?_)
          refine lv_goto (tgt := 2) hx hb dX4_bonusFor_45 (by decide) ?_
          exact ih (j + 1) (by omega) (by omega) (by rw [hI, show n - j = (n - (j + 1)) + 1 by omega, moBonF, if_pos c_3]) _ _ _ hP hD hS (lv_sub hl [0, 1, 2] rfl)
        · -- 25 not taken
          refine lv_aload_n hx hb dX4_bonusFor_28 rfl (lv_at hl 1 rfl) ?_
          refine b_get (C := RX4) (T := TX4) (N := 16) (v := .ref (r 0)) hx hb hts in_X4 hown hK (b_at (k := 0) hP rfl) rfl 0 (by decide) q1807 (fun _ h9 => h9) rfl dX4_bonusFor_29 ?_
          refine lv_bipush (v := 95) hx hb dX4_bonusFor_32 (by decide) ?_
          refine lv_iconst (v := 2) hx hb dX4_bonusFor_34 (by decide) ?_
          refine lv_iload_n hx hb dX4_bonusFor_35 rfl (lv_at hl 0 rfl) ?_
          refine lv_imul hx hb dX4_bonusFor_36 ?_
          refine b_top (nI_mulE (a := 2) (b := j) (c := 2 * j) rfl rfl (by first | omega | rfl)) ?_
          refine lv_iadd hx hb dX4_bonusFor_37 ?_
          refine b_top (nI_addE (a := 95) (b := 2 * j) (c := 2 * j + 95) rfl rfl (by first | omega | rfl)) ?_
          refine lv_iconst (v := 1) hx hb dX4_bonusFor_38 (by decide) ?_
          refine lv_iadd hx hb dX4_bonusFor_39 ?_
          refine b_top (nI_addE (a := 2 * j + 95) (b := 1) (c := 2 * j + 96) rfl rfl (by first | omega | rfl)) ?_
          refine b_iald hx hb hK (b_at (k := 1) hP rfl) (2 * j + 96) rfl (by omega) (by omega) dX4_bonusFor_40 ?_
          exact b_iret hx hb hr hlocks hP hD hS (Nat.le_of_ble_eq_true rfl) (Nat.le_of_ble_eq_true rfl) ⟨(by rw [moBon, hI, show n - j = (n - (j + 1)) + 1 by omega, moBonF, if_neg c_3]), (by first | with_reducible rfl | (simp [n_2, m_2, d_2, c_3]; done) | rfl)⟩ dX4_bonusFor_41
  exact loop_1 ((n - 0) + 1) 0 (Nat.lt_succ_self _) (Nat.zero_le _) rfl _ _ _ hP hD hS (lv_sub hl [0, 1, 2] rfl)
theorem nI_cond1 (x : Int32) (c : Prop) [Decidable c] (h : c) : x + 1 = x + (if c then 1 else 0) := by rw [if_pos h]
def moHerd (g : Nat → Int32) (n : Nat) : Int32 := bx_sum (fun j => if moKept g (nI j) = 0 then 0 else 1) n
def moSum (g : Nat → Int32) (w n : Nat) : Int32 := bx_sum (fun j => g (10 * j + w + 15)) n
def moThat (g : Nat → Int32) (w : Int32) (n : Nat) : Int32 := bx_sum (fun j => if w = 1 then (if moMil g j = 0 then 0 else 1) else (if moCar g j = 0 then 0 else 1)) n
set_option maxHeartbeats 4000000 in
set_option maxRecDepth 100000 in
theorem mt_Mo_herd (l : Launch) (Γ : GE) (sz : Nat) (a : Nat) (r : Nat → Nat) (i : Nat → Int32) (g : Nat → Int32) (n : Nat) (hg7 : g 7 = nI n) (hn : n ≤ 8) : KM l yX4_herd cX4_herd 3 (some FieldType.int) Γ 3 64 0 0 [.ref a] [[(a, moE r i)], [((r 0), .inl (Γ.2.1 0, 523, .inl g))]] [] sz (Qi Γ (fun r_ u_ => r_ = (moHerd g n) ∧ u_ = [[(a, moE r i)], [((r 0), .inl (Γ.2.1 0, 523, .inl g))]])) := by
  refine K_intro (by decide) (Nat.le_of_ble_eq_true rfl) ?_
  intro pr_ ev_ s mi_ below meth cd_ A ls hx hb hr hml hown hts hlocks hname hK hE hRo hP hD hA hS hsz hl
  have hl : lv_has ls 3 [(0, .ref a)] := hl
  have hown : s.vm.findClass RX4 = some mi_.cls := hown
  refine lv_iconst (v := 0) hx hb dX4_herd_0 (by decide) ?_
  refine lv_istore_n (lv' := [(1, .int 0), (0, .ref a)]) hx hb dX4_herd_1 rfl hl (by decide) rfl (fun ls hl => ?_)
  refine lv_iconst (v := 0) hx hb dX4_herd_2 (by decide) ?_
  refine lv_istore_n (lv' := [(2, .int 0), (1, .int 0), (0, .ref a)]) hx hb dX4_herd_3 rfl hl (by decide) rfl (fun ls hl => ?_)
  have loop_1 : ∀ (fuel : Nat) (j : Nat), n - j < fuel → (j ≤ n) → ∀ (H : Heap) (locs : List Loc) (ls : Array Slot), WP Γ [[(a, moE r i)], [((r 0), .inl (Γ.2.1 0, 523, .inl g))]] H → WD A [[(a, moE r i)], [((r 0), .inl (Γ.2.1 0, 523, .inl g))]] → va_S A s.heap H locs → lv_has ls 3 [(2, .int (nI j)), (1, .int (bx_sum (fun j => if moKept g (nI j) = 0 then 0 else 1) j)), (0, .ref a)] → W pr_ l ev_ { frames := 3, cells := 0, slots := 0, locals := 64 } s mi_ ([.ref a] : List Value).toArray below meth cd_ H locs 0 0 (MQ below (Qi Γ (fun r_ u_ => r_ = (moHerd g n) ∧ u_ = [[(a, moE r i)], [((r 0), .inl (Γ.2.1 0, 523, .inl g))]]) A) ([.ref a] : List Value).toArray s 0 0 A) (F0 mi_ 4 ls ([])) := by
    intro fuel
    induction fuel with
    | zero => intro j hfuel; exact absurd hfuel (Nat.not_lt_zero _)
    | succ fuel ih =>
      intro j hfuel hj H locs ls hP hD hS hl
      refine lv_iload_n hx hb dX4_herd_4 rfl (lv_at hl 0 rfl) ?_
      refine lv_aload_n hx hb dX4_herd_5 rfl (lv_at hl 2 rfl) ?_
      refine b_get (C := RX4) (T := TX4) (N := 16) (v := .ref (r 0)) hx hb hts in_X4 hown hK (b_at (k := 0) hP rfl) rfl 0 (by decide) q1807 (fun _ h9 => h9) rfl dX4_herd_6 ?_
      refine lv_bipush (v := 7) hx hb dX4_herd_9 (by decide) ?_
      refine b_iald hx hb hK (b_at (k := 1) hP rfl) 7 rfl (by omega) (by omega) dX4_herd_11 ?_
      refine b_top (hg7) ?_
      refine lv_icmp_ge (tgt := 37) hx hb dX4_herd_12 (by decide) (fun c_2 => ?_) (fun c_2 => ?_)
      · -- 12 taken
        have n_2 : n ≤ j := (nI_leI (by omega) (by omega)).mp (show nI n ≤ nI j from c_2)
        have m_2 : ¬ (j < n) := by omega
        have d_2 := Int32.not_lt.mpr c_2
        refine lv_iload_n hx hb dX4_herd_37 rfl (lv_at hl 1 rfl) ?_
        exact b_iret hx hb hr hlocks hP hD hS (Nat.le_of_ble_eq_true rfl) (Nat.le_of_ble_eq_true rfl) ⟨(by rw [moHerd, show n = j by omega]), (by first | with_reducible rfl | (simp [n_2, m_2, d_2]; done) | rfl)⟩ dX4_herd_38
      · -- 12 not taken
        have n_2 : ¬ (n ≤ j) := fun h => c_2 ((nI_leI (a := n) (b := j) (by omega) (by omega)).mpr h)
        have m_2 : j < n := by omega
        have d_2 := Int32.not_le.mp c_2
        refine lv_iload_n hx hb dX4_herd_15 rfl (lv_at hl 1 rfl) ?_
        refine lv_aload_n hx hb dX4_herd_16 rfl (lv_at hl 2 rfl) ?_
        refine lv_iload_n hx hb dX4_herd_17 rfl (lv_at hl 0 rfl) ?_
        refine b_calli (br := []) (b_runV ⟨hx, hb, hml, hown, hts⟩ (mt_Mo_isKept l Γ _ a r i g (nI j) n (by first | exact hg7 | omega) (by first | exact hn | omega)) (lw_V q1916 q1918 qs35 q73 q1919) rfl rfl 1 (by decide +kernel) ⟨(Nat.le_of_ble_eq_true rfl), (Nat.le_of_ble_eq_true rfl)⟩ (c_pre hP hD hS hA hK hE [0, 1] rfl rfl ro_nil) (recv_at (q := (RX4, TX4, 16)) hK (b_at (k := 0) hP rfl) rfl) rfl hl.1 rfl (Nat.le_of_ble_eq_true rfl) dX4_herd_18 ⟨(Nat.le_of_ble_eq_true rfl), (Nat.le_of_ble_eq_true rfl)⟩) hP hD hS hA [0, 1] [] rfl rfl rfl (fun r_3 u_3 H locs hw_3 hP hD hS _ => ?_)
        obtain ⟨rfl, rfl⟩ := hw_3
        have hP : WP Γ [[(a, moE r i)], [((r 0), .inl (Γ.2.1 0, 523, .inl g))]] H := hP
        have hD : WD A [[(a, moE r i)], [((r 0), .inl (Γ.2.1 0, 523, .inl g))]] := hD
        refine lv_if_eq (tgt := 28) hx hb dX4_herd_21 (by decide) (fun c_4 => ?_) (fun c_4 => ?_)
        · -- 21 taken
          refine lv_iconst (v := 0) hx hb dX4_herd_28 (by decide) ?_
          refine lv_iadd hx hb dX4_herd_29 ?_
          refine b_top (show ((bx_sum (fun j => if moKept g (nI j) = 0 then 0 else 1) j) + 0) = bx_sum (fun j => if moKept g (nI j) = 0 then 0 else 1) (j + 1) from by simp [bx_sum, n_2, m_2, d_2, c_4]) ?_
          refine lv_istore_n (lv' := [(1, .int (bx_sum (fun j => if moKept g (nI j) = 0 then 0 else 1) (j + 1))), (2, .int (nI j)), (0, .ref a)]) hx hb dX4_herd_30 rfl hl (by decide) rfl (fun ls hl => ?_)
          refine lv_iinc (v := (nI (j + 1))) (lv' := [(2, .int (nI (j + 1))), (1, .int (bx_sum (fun j => if moKept g (nI j) = 0 then 0 else 1) (j + 1))), (0, .ref a)]) hx hb dX4_herd_31 hl (k := 1) rfl (nI_addE (a := j) (b := 1) (c := j + 1) rfl rfl (by first | omega | rfl)) (by decide) rfl (fun ls hl => ?_)
          refine lv_goto (tgt := 4) hx hb dX4_herd_34 (by decide) ?_
          exact ih (j + 1) (by omega) (by omega) _ _ _ hP hD hS (lv_sub hl [0, 1, 2] rfl)
        · -- 21 not taken
          refine lv_iconst (v := 1) hx hb dX4_herd_24 (by decide) ?_
          refine lv_goto (tgt := 29) hx hb dX4_herd_25 (by decide) ?_
          refine lv_iadd hx hb dX4_herd_29 ?_
          refine b_top (show ((bx_sum (fun j => if moKept g (nI j) = 0 then 0 else 1) j) + 1) = bx_sum (fun j => if moKept g (nI j) = 0 then 0 else 1) (j + 1) from by simp [bx_sum, n_2, m_2, d_2, c_4]) ?_
          refine lv_istore_n (lv' := [(1, .int (bx_sum (fun j => if moKept g (nI j) = 0 then 0 else 1) (j + 1))), (2, .int (nI j)), (0, .ref a)]) hx hb dX4_herd_30 rfl hl (by decide) rfl (fun ls hl => ?_)
          refine lv_iinc (v := (nI (j + 1))) (lv' := [(2, .int (nI (j + 1))), (1, .int (bx_sum (fun j => if moKept g (nI j) = 0 then 0 else 1) (j + 1))), (0, .ref a)]) hx hb dX4_herd_31 hl (k := 1) rfl (nI_addE (a := j) (b := 1) (c := j + 1) rfl rfl (by first | omega | rfl)) (by decide) rfl (fun ls hl => ?_)
          refine lv_goto (tgt := 4) hx hb dX4_herd_34 (by decide) ?_
          exact ih (j + 1) (by omega) (by omega) _ _ _ hP hD hS (lv_sub hl [0, 1, 2] rfl)
  exact loop_1 ((n - 0) + 1) 0 (Nat.lt_succ_self _) (Nat.zero_le _) _ _ _ hP hD hS (lv_sub hl [0, 1, 2] rfl)
set_option maxHeartbeats 4000000 in
set_option maxRecDepth 100000 in
theorem mt_Mo_sums (l : Launch) (Γ : GE) (sz : Nat) (a : Nat) (r : Nat → Nat) (i : Nat → Int32) (g : Nat → Int32) (w : Nat) (n : Nat) (hg7 : g 7 = nI n) (hn : n ≤ 8) (hw : w ≤ 9) : KM l yX4_sums cX4_sums 4 (some FieldType.int) Γ 1 21 0 0 [.ref a, .int (nI w)] [[(a, moE r i)], [((r 0), .inl (Γ.2.1 0, 523, .inl g))]] [] sz (Qi Γ (fun r_ u_ => r_ = (moSum g w n) ∧ u_ = [[(a, moE r i)], [((r 0), .inl (Γ.2.1 0, 523, .inl g))]])) := by
  refine K_intro (by decide) (Nat.le_of_ble_eq_true rfl) ?_
  intro pr_ ev_ s mi_ below meth cd_ A ls hx hb hr hml hown hts hlocks hname hK hE hRo hP hD hA hS hsz hl
  have hl : lv_has ls 4 [(0, .ref a), (1, .int (nI w))] := hl
  have hown : s.vm.findClass RX4 = some mi_.cls := hown
  refine lv_iconst (v := 0) hx hb dX4_sums_0 (by decide) ?_
  refine lv_istore_n (lv' := [(2, .int 0), (0, .ref a), (1, .int (nI w))]) hx hb dX4_sums_1 rfl hl (by decide) rfl (fun ls hl => ?_)
  refine lv_iconst (v := 0) hx hb dX4_sums_2 (by decide) ?_
  refine lv_istore_n (lv' := [(3, .int 0), (2, .int 0), (0, .ref a), (1, .int (nI w))]) hx hb dX4_sums_3 rfl hl (by decide) rfl (fun ls hl => ?_)
  have loop_1 : ∀ (fuel : Nat) (j : Nat), n - j < fuel → (j ≤ n) → ∀ (H : Heap) (locs : List Loc) (ls : Array Slot), WP Γ [[(a, moE r i)], [((r 0), .inl (Γ.2.1 0, 523, .inl g))]] H → WD A [[(a, moE r i)], [((r 0), .inl (Γ.2.1 0, 523, .inl g))]] → va_S A s.heap H locs → lv_has ls 4 [(3, .int (nI j)), (2, .int (bx_sum (fun j => g (10 * j + w + 15)) j)), (0, .ref a), (1, .int (nI w))] → W pr_ l ev_ { frames := 1, cells := 0, slots := 0, locals := 21 } s mi_ ([.ref a, .int (nI w)] : List Value).toArray below meth cd_ H locs 0 0 (MQ below (Qi Γ (fun r_ u_ => r_ = (moSum g w n) ∧ u_ = [[(a, moE r i)], [((r 0), .inl (Γ.2.1 0, 523, .inl g))]]) A) ([.ref a, .int (nI w)] : List Value).toArray s 0 0 A) (F0 mi_ 4 ls ([])) := by
    intro fuel
    induction fuel with
    | zero => intro j hfuel; exact absurd hfuel (Nat.not_lt_zero _)
    | succ fuel ih =>
      intro j hfuel hj H locs ls hP hD hS hl
      refine lv_iload_n hx hb dX4_sums_4 rfl (lv_at hl 0 rfl) ?_
      refine lv_aload_n hx hb dX4_sums_5 rfl (lv_at hl 2 rfl) ?_
      refine b_get (C := RX4) (T := TX4) (N := 16) (v := .ref (r 0)) hx hb hts in_X4 hown hK (b_at (k := 0) hP rfl) rfl 0 (by decide) q1807 (fun _ h9 => h9) rfl dX4_sums_6 ?_
      refine lv_bipush (v := 7) hx hb dX4_sums_9 (by decide) ?_
      refine b_iald hx hb hK (b_at (k := 1) hP rfl) 7 rfl (by omega) (by omega) dX4_sums_11 ?_
      refine b_top (hg7) ?_
      refine lv_icmp_ge (tgt := 34) hx hb dX4_sums_12 (by decide) (fun c_2 => ?_) (fun c_2 => ?_)
      · -- 12 taken
        have n_2 : n ≤ j := (nI_leI (by omega) (by omega)).mp (show nI n ≤ nI j from c_2)
        have m_2 : ¬ (j < n) := by omega
        have d_2 := Int32.not_lt.mpr c_2
        refine lv_iload_n hx hb dX4_sums_34 rfl (lv_at hl 1 rfl) ?_
        exact b_iret hx hb hr hlocks hP hD hS (Nat.le_of_ble_eq_true rfl) (Nat.le_of_ble_eq_true rfl) ⟨(by rw [moSum, show n = j by omega]), (by first | with_reducible rfl | (simp [n_2, m_2, d_2]; done) | rfl)⟩ dX4_sums_35
      · -- 12 not taken
        have n_2 : ¬ (n ≤ j) := fun h => c_2 ((nI_leI (a := n) (b := j) (by omega) (by omega)).mpr h)
        have m_2 : j < n := by omega
        have d_2 := Int32.not_le.mp c_2
        refine lv_iload_n hx hb dX4_sums_15 rfl (lv_at hl 1 rfl) ?_
        refine lv_aload_n hx hb dX4_sums_16 rfl (lv_at hl 2 rfl) ?_
        refine b_get (C := RX4) (T := TX4) (N := 16) (v := .ref (r 0)) hx hb hts in_X4 hown hK (b_at (k := 0) hP rfl) rfl 0 (by decide) q1807 (fun _ h9 => h9) rfl dX4_sums_17 ?_
        refine lv_iload_n hx hb dX4_sums_20 rfl (lv_at hl 0 rfl) ?_
        refine lv_iload_n hx hb dX4_sums_21 rfl (lv_at hl 3 rfl) ?_
        refine b_calli (br := [[(a, moE r i)], [((r 0), .inl (Γ.2.1 0, 523, .inl g))]]) (b_runS ⟨hx, hb, hml, hown, hts⟩ (mt_Mo_at l Γ _ j w) (lw_S q1886 q1887 q73 q1888) rfl rfl 2 (by decide +kernel) ⟨(Nat.le_of_ble_eq_true rfl), (Nat.le_of_ble_eq_true rfl)⟩ (c_pre hP hD hS hA hK hE [] rfl rfl ro_nil) rfl hl.1 rfl (Nat.le_of_ble_eq_true rfl) dX4_sums_22 ⟨(Nat.le_of_ble_eq_true rfl), (Nat.le_of_ble_eq_true rfl)⟩) hP hD hS hA [] [0, 1] rfl rfl rfl (fun r_3 u_3 H locs hw_3 hP hD hS _ => ?_)
        obtain ⟨rfl, rfl⟩ := hw_3
        have hP : WP Γ [[(a, moE r i)], [((r 0), .inl (Γ.2.1 0, 523, .inl g))]] H := hP
        have hD : WD A [[(a, moE r i)], [((r 0), .inl (Γ.2.1 0, 523, .inl g))]] := hD
        refine b_iald hx hb hK (b_at (k := 1) hP rfl) (10 * j + w + 15) rfl (by omega) (by omega) dX4_sums_25 ?_
        refine lv_iadd hx hb dX4_sums_26 ?_
        refine b_top (show ((bx_sum (fun j => g (10 * j + w + 15)) j) + (g (10 * j + w + 15))) = bx_sum (fun j => g (10 * j + w + 15)) (j + 1) from by simp [bx_sum, n_2, m_2, d_2]) ?_
        refine lv_istore_n (lv' := [(2, .int (bx_sum (fun j => g (10 * j + w + 15)) (j + 1))), (3, .int (nI j)), (0, .ref a), (1, .int (nI w))]) hx hb dX4_sums_27 rfl hl (by decide) rfl (fun ls hl => ?_)
        refine lv_iinc (v := (nI (j + 1))) (lv' := [(3, .int (nI (j + 1))), (2, .int (bx_sum (fun j => g (10 * j + w + 15)) (j + 1))), (0, .ref a), (1, .int (nI w))]) hx hb dX4_sums_28 hl (k := 1) rfl (nI_addE (a := j) (b := 1) (c := j + 1) rfl rfl (by first | omega | rfl)) (by decide) rfl (fun ls hl => ?_)
        refine lv_goto (tgt := 4) hx hb dX4_sums_31 (by decide) ?_
        exact ih (j + 1) (by omega) (by omega) _ _ _ hP hD hS (lv_sub hl [0, 1, 2, 3] rfl)
  exact loop_1 ((n - 0) + 1) 0 (Nat.lt_succ_self _) (Nat.zero_le _) _ _ _ hP hD hS (lv_sub hl [0, 1, 2, 3] rfl)
set_option maxHeartbeats 4000000 in
set_option maxRecDepth 100000 in
theorem mt_Mo_cowsThat (l : Launch) (Γ : GE) (sz : Nat) (a : Nat) (r : Nat → Nat) (i : Nat → Int32) (g : Nat → Int32) (v : Int32) (n : Nat) (hg7 : g 7 = nI n) (hn : n ≤ 8) : KM l yX4_cowsThat cX4_cowsThat 4 (some FieldType.int) Γ 2 42 0 0 [.ref a, .int v] [[(a, moE r i)], [((r 0), .inl (Γ.2.1 0, 523, .inl g))]] [] sz (Qi Γ (fun r_ u_ => r_ = (moThat g v n) ∧ u_ = [[(a, moE r i)], [((r 0), .inl (Γ.2.1 0, 523, .inl g))]])) := by
  refine K_intro (by decide) (Nat.le_of_ble_eq_true rfl) ?_
  intro pr_ ev_ s mi_ below meth cd_ A ls hx hb hr hml hown hts hlocks hname hK hE hRo hP hD hA hS hsz hl
  have hl : lv_has ls 4 [(0, .ref a), (1, .int v)] := hl
  have hown : s.vm.findClass RX4 = some mi_.cls := hown
  refine lv_iconst (v := 0) hx hb dX4_cowsThat_0 (by decide) ?_
  refine lv_istore_n (lv' := [(2, .int 0), (0, .ref a), (1, .int v)]) hx hb dX4_cowsThat_1 rfl hl (by decide) rfl (fun ls hl => ?_)
  refine lv_iconst (v := 0) hx hb dX4_cowsThat_2 (by decide) ?_
  refine lv_istore_n (lv' := [(3, .int 0), (2, .int 0), (0, .ref a), (1, .int v)]) hx hb dX4_cowsThat_3 rfl hl (by decide) rfl (fun ls hl => ?_)
  have loop_1 : ∀ (fuel : Nat) (j : Nat), n - j < fuel → (j ≤ n) → ∀ (H : Heap) (locs : List Loc) (ls : Array Slot), WP Γ [[(a, moE r i)], [((r 0), .inl (Γ.2.1 0, 523, .inl g))]] H → WD A [[(a, moE r i)], [((r 0), .inl (Γ.2.1 0, 523, .inl g))]] → va_S A s.heap H locs → lv_has ls 4 [(3, .int (nI j)), (2, .int (bx_sum (fun j => if v = 1 then (if moMil g j = 0 then 0 else 1) else (if moCar g j = 0 then 0 else 1)) j)), (0, .ref a), (1, .int v)] → W pr_ l ev_ { frames := 2, cells := 0, slots := 0, locals := 42 } s mi_ ([.ref a, .int v] : List Value).toArray below meth cd_ H locs 0 0 (MQ below (Qi Γ (fun r_ u_ => r_ = (moThat g v n) ∧ u_ = [[(a, moE r i)], [((r 0), .inl (Γ.2.1 0, 523, .inl g))]]) A) ([.ref a, .int v] : List Value).toArray s 0 0 A) (F0 mi_ 4 ls ([])) := by
    intro fuel
    induction fuel with
    | zero => intro j hfuel; exact absurd hfuel (Nat.not_lt_zero _)
    | succ fuel ih =>
      intro j hfuel hj H locs ls hP hD hS hl
      refine lv_iload_n hx hb dX4_cowsThat_4 rfl (lv_at hl 0 rfl) ?_
      refine lv_aload_n hx hb dX4_cowsThat_5 rfl (lv_at hl 2 rfl) ?_
      refine b_get (C := RX4) (T := TX4) (N := 16) (v := .ref (r 0)) hx hb hts in_X4 hown hK (b_at (k := 0) hP rfl) rfl 0 (by decide) q1807 (fun _ h9 => h9) rfl dX4_cowsThat_6 ?_
      refine lv_bipush (v := 7) hx hb dX4_cowsThat_9 (by decide) ?_
      refine b_iald hx hb hK (b_at (k := 1) hP rfl) 7 rfl (by omega) (by omega) dX4_cowsThat_11 ?_
      refine b_top (hg7) ?_
      refine lv_icmp_ge (tgt := 58) hx hb dX4_cowsThat_12 (by decide) (fun c_2 => ?_) (fun c_2 => ?_)
      · -- 12 taken
        have n_2 : n ≤ j := (nI_leI (by omega) (by omega)).mp (show nI n ≤ nI j from c_2)
        have m_2 : ¬ (j < n) := by omega
        have d_2 := Int32.not_lt.mpr c_2
        refine lv_iload_n hx hb dX4_cowsThat_58 rfl (lv_at hl 1 rfl) ?_
        exact b_iret hx hb hr hlocks hP hD hS (Nat.le_of_ble_eq_true rfl) (Nat.le_of_ble_eq_true rfl) ⟨(by rw [moThat, show n = j by omega]), (by first | with_reducible rfl | (simp [n_2, m_2, d_2]; done) | rfl)⟩ dX4_cowsThat_59
      · -- 12 not taken
        have n_2 : ¬ (n ≤ j) := fun h => c_2 ((nI_leI (a := n) (b := j) (by omega) (by omega)).mpr h)
        have m_2 : j < n := by omega
        have d_2 := Int32.not_le.mp c_2
        refine lv_iload_n hx hb dX4_cowsThat_15 rfl (lv_at hl 1 rfl) ?_
        refine lv_iload_n hx hb dX4_cowsThat_16 rfl (lv_at hl 3 rfl) ?_
        refine lv_iconst (v := 1) hx hb dX4_cowsThat_17 (by decide) ?_
        refine lv_icmp_ne (tgt := 37) hx hb dX4_cowsThat_18 (by decide) (fun c_3 => ?_) (fun c_3 => ?_)
        · -- 18 taken
          refine lv_aload_n hx hb dX4_cowsThat_37 rfl (lv_at hl 2 rfl) ?_
          refine lv_iload_n hx hb dX4_cowsThat_38 rfl (lv_at hl 0 rfl) ?_
          refine b_calli (br := []) (b_runV ⟨hx, hb, hml, hown, hts⟩ (mt_Mo_isCarrying l Γ _ a r i g j (by omega)) (lw_V q1924 q1926 qs37 q73 q1927) rfl rfl 1 (by decide +kernel) ⟨(Nat.le_of_ble_eq_true rfl), (Nat.le_of_ble_eq_true rfl)⟩ (c_pre hP hD hS hA hK hE [0, 1] rfl rfl ro_nil) (recv_at (q := (RX4, TX4, 16)) hK (b_at (k := 0) hP rfl) rfl) rfl hl.1 rfl (Nat.le_of_ble_eq_true rfl) dX4_cowsThat_39 ⟨(Nat.le_of_ble_eq_true rfl), (Nat.le_of_ble_eq_true rfl)⟩) hP hD hS hA [0, 1] [] rfl rfl rfl (fun r_4 u_4 H locs hw_4 hP hD hS _ => ?_)
          obtain ⟨rfl, rfl⟩ := hw_4
          have hP : WP Γ [[(a, moE r i)], [((r 0), .inl (Γ.2.1 0, 523, .inl g))]] H := hP
          have hD : WD A [[(a, moE r i)], [((r 0), .inl (Γ.2.1 0, 523, .inl g))]] := hD
          refine lv_if_eq (tgt := 49) hx hb dX4_cowsThat_42 (by decide) (fun c_5 => ?_) (fun c_5 => ?_)
          · -- 42 taken
            refine lv_iconst (v := 0) hx hb dX4_cowsThat_49 (by decide) ?_
            refine lv_iadd hx hb dX4_cowsThat_50 ?_
            refine b_top (show ((bx_sum (fun j => if v = 1 then (if moMil g j = 0 then 0 else 1) else (if moCar g j = 0 then 0 else 1)) j) + 0) = bx_sum (fun j => if v = 1 then (if moMil g j = 0 then 0 else 1) else (if moCar g j = 0 then 0 else 1)) (j + 1) from by simp [bx_sum, n_2, m_2, d_2, c_3, c_5]) ?_
            refine lv_istore_n (lv' := [(2, .int (bx_sum (fun j => if v = 1 then (if moMil g j = 0 then 0 else 1) else (if moCar g j = 0 then 0 else 1)) (j + 1))), (3, .int (nI j)), (0, .ref a), (1, .int v)]) hx hb dX4_cowsThat_51 rfl hl (by decide) rfl (fun ls hl => ?_)
            refine lv_iinc (v := (nI (j + 1))) (lv' := [(3, .int (nI (j + 1))), (2, .int (bx_sum (fun j => if v = 1 then (if moMil g j = 0 then 0 else 1) else (if moCar g j = 0 then 0 else 1)) (j + 1))), (0, .ref a), (1, .int v)]) hx hb dX4_cowsThat_52 hl (k := 1) rfl (nI_addE (a := j) (b := 1) (c := j + 1) rfl rfl (by first | omega | rfl)) (by decide) rfl (fun ls hl => ?_)
            refine lv_goto (tgt := 4) hx hb dX4_cowsThat_55 (by decide) ?_
            exact ih (j + 1) (by omega) (by omega) _ _ _ hP hD hS (lv_sub hl [0, 1, 2, 3] rfl)
          · -- 42 not taken
            refine lv_iconst (v := 1) hx hb dX4_cowsThat_45 (by decide) ?_
            refine lv_goto (tgt := 50) hx hb dX4_cowsThat_46 (by decide) ?_
            refine lv_iadd hx hb dX4_cowsThat_50 ?_
            refine b_top (show ((bx_sum (fun j => if v = 1 then (if moMil g j = 0 then 0 else 1) else (if moCar g j = 0 then 0 else 1)) j) + 1) = bx_sum (fun j => if v = 1 then (if moMil g j = 0 then 0 else 1) else (if moCar g j = 0 then 0 else 1)) (j + 1) from by simp [bx_sum, n_2, m_2, d_2, c_3, c_5]) ?_
            refine lv_istore_n (lv' := [(2, .int (bx_sum (fun j => if v = 1 then (if moMil g j = 0 then 0 else 1) else (if moCar g j = 0 then 0 else 1)) (j + 1))), (3, .int (nI j)), (0, .ref a), (1, .int v)]) hx hb dX4_cowsThat_51 rfl hl (by decide) rfl (fun ls hl => ?_)
            refine lv_iinc (v := (nI (j + 1))) (lv' := [(3, .int (nI (j + 1))), (2, .int (bx_sum (fun j => if v = 1 then (if moMil g j = 0 then 0 else 1) else (if moCar g j = 0 then 0 else 1)) (j + 1))), (0, .ref a), (1, .int v)]) hx hb dX4_cowsThat_52 hl (k := 1) rfl (nI_addE (a := j) (b := 1) (c := j + 1) rfl rfl (by first | omega | rfl)) (by decide) rfl (fun ls hl => ?_)
            refine lv_goto (tgt := 4) hx hb dX4_cowsThat_55 (by decide) ?_
            exact ih (j + 1) (by omega) (by omega) _ _ _ hP hD hS (lv_sub hl [0, 1, 2, 3] rfl)
        · -- 18 not taken
          refine lv_aload_n hx hb dX4_cowsThat_21 rfl (lv_at hl 2 rfl) ?_
          refine lv_iload_n hx hb dX4_cowsThat_22 rfl (lv_at hl 0 rfl) ?_
          refine b_calli (br := []) (b_runV ⟨hx, hb, hml, hown, hts⟩ (mt_Mo_isMilked l Γ _ a r i g j (by omega)) (lw_V q1928 q1930 qs38 q73 q1931) rfl rfl 1 (by decide +kernel) ⟨(Nat.le_of_ble_eq_true rfl), (Nat.le_of_ble_eq_true rfl)⟩ (c_pre hP hD hS hA hK hE [0, 1] rfl rfl ro_nil) (recv_at (q := (RX4, TX4, 16)) hK (b_at (k := 0) hP rfl) rfl) rfl hl.1 rfl (Nat.le_of_ble_eq_true rfl) dX4_cowsThat_23 ⟨(Nat.le_of_ble_eq_true rfl), (Nat.le_of_ble_eq_true rfl)⟩) hP hD hS hA [0, 1] [] rfl rfl rfl (fun r_6 u_6 H locs hw_6 hP hD hS _ => ?_)
          obtain ⟨rfl, rfl⟩ := hw_6
          have hP : WP Γ [[(a, moE r i)], [((r 0), .inl (Γ.2.1 0, 523, .inl g))]] H := hP
          have hD : WD A [[(a, moE r i)], [((r 0), .inl (Γ.2.1 0, 523, .inl g))]] := hD
          refine lv_if_eq (tgt := 33) hx hb dX4_cowsThat_26 (by decide) (fun c_7 => ?_) (fun c_7 => ?_)
          · -- 26 taken
            refine lv_iconst (v := 0) hx hb dX4_cowsThat_33 (by decide) ?_
            refine lv_goto (tgt := 50) hx hb dX4_cowsThat_34 (by decide) ?_
            refine lv_iadd hx hb dX4_cowsThat_50 ?_
            refine b_top (show ((bx_sum (fun j => if v = 1 then (if moMil g j = 0 then 0 else 1) else (if moCar g j = 0 then 0 else 1)) j) + 0) = bx_sum (fun j => if v = 1 then (if moMil g j = 0 then 0 else 1) else (if moCar g j = 0 then 0 else 1)) (j + 1) from by simp [bx_sum, n_2, m_2, d_2, c_3, c_7]) ?_
            refine lv_istore_n (lv' := [(2, .int (bx_sum (fun j => if v = 1 then (if moMil g j = 0 then 0 else 1) else (if moCar g j = 0 then 0 else 1)) (j + 1))), (3, .int (nI j)), (0, .ref a), (1, .int v)]) hx hb dX4_cowsThat_51 rfl hl (by decide) rfl (fun ls hl => ?_)
            refine lv_iinc (v := (nI (j + 1))) (lv' := [(3, .int (nI (j + 1))), (2, .int (bx_sum (fun j => if v = 1 then (if moMil g j = 0 then 0 else 1) else (if moCar g j = 0 then 0 else 1)) (j + 1))), (0, .ref a), (1, .int v)]) hx hb dX4_cowsThat_52 hl (k := 1) rfl (nI_addE (a := j) (b := 1) (c := j + 1) rfl rfl (by first | omega | rfl)) (by decide) rfl (fun ls hl => ?_)
            refine lv_goto (tgt := 4) hx hb dX4_cowsThat_55 (by decide) ?_
            exact ih (j + 1) (by omega) (by omega) _ _ _ hP hD hS (lv_sub hl [0, 1, 2, 3] rfl)
          · -- 26 not taken
            refine lv_iconst (v := 1) hx hb dX4_cowsThat_29 (by decide) ?_
            refine lv_goto (tgt := 50) hx hb dX4_cowsThat_30 (by decide) ?_
            refine lv_iadd hx hb dX4_cowsThat_50 ?_
            refine b_top (show ((bx_sum (fun j => if v = 1 then (if moMil g j = 0 then 0 else 1) else (if moCar g j = 0 then 0 else 1)) j) + 1) = bx_sum (fun j => if v = 1 then (if moMil g j = 0 then 0 else 1) else (if moCar g j = 0 then 0 else 1)) (j + 1) from by simp [bx_sum, n_2, m_2, d_2, c_3, c_7]) ?_
            refine lv_istore_n (lv' := [(2, .int (bx_sum (fun j => if v = 1 then (if moMil g j = 0 then 0 else 1) else (if moCar g j = 0 then 0 else 1)) (j + 1))), (3, .int (nI j)), (0, .ref a), (1, .int v)]) hx hb dX4_cowsThat_51 rfl hl (by decide) rfl (fun ls hl => ?_)
            refine lv_iinc (v := (nI (j + 1))) (lv' := [(3, .int (nI (j + 1))), (2, .int (bx_sum (fun j => if v = 1 then (if moMil g j = 0 then 0 else 1) else (if moCar g j = 0 then 0 else 1)) (j + 1))), (0, .ref a), (1, .int v)]) hx hb dX4_cowsThat_52 hl (k := 1) rfl (nI_addE (a := j) (b := 1) (c := j + 1) rfl rfl (by first | omega | rfl)) (by decide) rfl (fun ls hl => ?_)
            refine lv_goto (tgt := 4) hx hb dX4_cowsThat_55 (by decide) ?_
            exact ih (j + 1) (by omega) (by omega) _ _ _ hP hD hS (lv_sub hl [0, 1, 2, 3] rfl)
  exact loop_1 ((n - 0) + 1) 0 (Nat.lt_succ_self _) (Nat.zero_le _) _ _ _ hP hD hS (lv_sub hl [0, 1, 2, 3] rfl)
theorem cpy_step {α : Type} (f t : Nat → α) (sp dp j : Nat) : va_up (va_cpy f t sp dp j) (dp + j) (f (sp + j)) = va_cpy f t sp dp (j + 1) := by
  funext q
  simp only [va_up, va_cpy]
  by_cases h : q = dp + j
  · subst h
    rw [if_pos rfl, if_pos (by omega), show dp + j - dp = j by omega]
  · rw [if_neg h]
    by_cases h2 : dp ≤ q ∧ q < dp + j
    · rw [if_pos h2, if_pos (by omega)]
    · rw [if_neg h2, if_neg (by omega)]
theorem cpy_stepI (f t : Nat → Int32) (sp dp j : Nat) : upd (va_cpy f t sp dp j) (j + dp) (f (j + sp)) = va_cpy f t sp dp (j + 1) := by
  rw [Nat.add_comm j dp, Nat.add_comm j sp]
  exact cpy_step f t sp dp j
theorem cpy_0 {α : Type} (f t : Nat → α) (sp dp : Nat) : va_cpy f t sp dp 0 = t := by
  funext q
  simp only [va_cpy]
  rw [if_neg (by omega)]
def moShift (f : Nat → Int32) (j : Nat) : Nat → Int32 := fun q => if q < j then f (q + 523) else f q
theorem moShift_0 (f : Nat → Int32) : moShift f 0 = f := by
  funext q
  simp [moShift]
theorem moShift_step (f : Nat → Int32) (j : Nat) : upd (moShift f j) j (moShift f j (j + 523)) = moShift f (j + 1) := by
  funext q
  simp only [upd, moShift]
  by_cases h : q = j
  · subst h
    rw [if_pos rfl, if_neg (by omega), if_pos (by omega)]
  · rw [if_neg h]
    by_cases h2 : q < j
    · rw [if_pos h2, if_pos (by omega)]
    · rw [if_neg h2, if_neg (by omega)]
def moPush (f ps : Nat → Int32) (n : Nat) : Nat → Int32 := if n = 8 then va_cpy f (moShift ps 3661) 0 3661 523 else va_cpy f ps 0 (523 * n) 523
def moPushN (n : Nat) : Nat := if n = 8 then 8 else n + 1
set_option maxHeartbeats 4000000 in
set_option maxRecDepth 100000 in
theorem mt_Mo_copies (l : Launch) (Γ : GE) (sz : Nat) (b : Nat) (d : Nat) (f : Nat → Int32) (t : Nat → Int32) (nf : Nat) (nt : Nat) (sp : Nat) (dp : Nat) (h1 : sp + 523 ≤ nf) (h2 : dp + 523 ≤ nt) (h3 : nf < 2 ^ 30 ∧ nt < 2 ^ 30) : KM l yX4_copies cX4_copies 5 none Γ 0 0 0 0 [.ref b, .int (nI sp), .ref d, .int (nI dp)] [[(b, .inl (Γ.2.1 0, nf, .inl f))], [(d, .inl (Γ.2.1 0, nt, .inl t))]] [] sz (Qv Γ (fun u_ => u_ = [[(b, .inl (Γ.2.1 0, nf, .inl f))], [(d, .inl (Γ.2.1 0, nt, .inl (va_cpy f t sp dp 523)))]])) := by
  refine K_intro (by decide) (Nat.le_of_ble_eq_true rfl) ?_
  intro pr_ ev_ s mi_ below meth cd_ A ls hx hb hr hml hown hts hlocks hname hK hE hRo hP hD hA hS hsz hl
  have hl : lv_has ls 5 [(0, .ref b), (1, .int (nI sp)), (2, .ref d), (3, .int (nI dp))] := hl
  have hown : s.vm.findClass RX4 = some mi_.cls := hown
  refine lv_iconst (v := 0) hx hb dX4_copies_0 (by decide) ?_
  refine lv_istore (lv' := [(4, .int 0), (0, .ref b), (1, .int (nI sp)), (2, .ref d), (3, .int (nI dp))]) hx hb dX4_copies_1 hl (by decide) rfl (fun ls hl => ?_)
  rw [show t = (va_cpy f t sp dp 0) from (cpy_0 f t sp dp).symm] at hP hD
  have loop_1 : ∀ (fuel : Nat) (j : Nat), 523 - j < fuel → (j ≤ 523) → ∀ (H : Heap) (locs : List Loc) (ls : Array Slot), WP Γ [[(b, .inl (Γ.2.1 0, nf, .inl f))], [(d, .inl (Γ.2.1 0, nt, .inl (va_cpy f t sp dp j)))]] H → WD A [[(b, .inl (Γ.2.1 0, nf, .inl f))], [(d, .inl (Γ.2.1 0, nt, .inl (va_cpy f t sp dp j)))]] → va_S A s.heap H locs → lv_has ls 5 [(4, .int (nI j)), (0, .ref b), (1, .int (nI sp)), (2, .ref d), (3, .int (nI dp))] → W pr_ l ev_ { frames := 0, cells := 0, slots := 0, locals := 0 } s mi_ ([.ref b, .int (nI sp), .ref d, .int (nI dp)] : List Value).toArray below meth cd_ H locs 0 0 (MQ below (Qv Γ (fun u_ => u_ = [[(b, .inl (Γ.2.1 0, nf, .inl f))], [(d, .inl (Γ.2.1 0, nt, .inl (va_cpy f t sp dp 523)))]]) A) ([.ref b, .int (nI sp), .ref d, .int (nI dp)] : List Value).toArray s 0 0 A) (F0 mi_ 3 ls ([])) := by
    intro fuel
    induction fuel with
    | zero => intro j hfuel; exact absurd hfuel (Nat.not_lt_zero _)
    | succ fuel ih =>
      intro j hfuel hj H locs ls hP hD hS hl
      refine lv_iload hx hb dX4_copies_3 (lv_at hl 0 rfl) ?_
      refine lv_sipush (v := 523) hx hb dX4_copies_5 (by decide) ?_
      refine lv_icmp_ge (tgt := 29) hx hb dX4_copies_8 (by decide) (fun c_2 => ?_) (fun c_2 => ?_)
      · -- 8 taken
        have n_2 : 523 ≤ j := (nI_leI (by omega) (by omega)).mp (show nI 523 ≤ nI j from c_2)
        have m_2 : ¬ (j < 523) := by omega
        have d_2 := Int32.not_lt.mpr c_2
        exact b_vret hx hb hr hlocks hP hD hS (Nat.le_of_ble_eq_true rfl) (Nat.le_of_ble_eq_true rfl) (by rw [show (523 : Nat) = j by omega]) dX4_copies_29
      · -- 8 not taken
        have n_2 : ¬ (523 ≤ j) := fun h => c_2 ((nI_leI (a := 523) (b := j) (by omega) (by omega)).mpr h)
        have m_2 : j < 523 := by omega
        have d_2 := Int32.not_le.mp c_2
        refine lv_aload_n hx hb dX4_copies_11 rfl (lv_at hl 3 rfl) ?_
        refine lv_iload_n hx hb dX4_copies_12 rfl (lv_at hl 4 rfl) ?_
        refine lv_iload hx hb dX4_copies_13 (lv_at hl 0 rfl) ?_
        refine lv_iadd hx hb dX4_copies_15 ?_
        refine b_top (nI_addE (a := dp) (b := j) (c := dp + j) rfl rfl (by first | omega | rfl)) ?_
        refine lv_aload_n hx hb dX4_copies_16 rfl (lv_at hl 1 rfl) ?_
        refine lv_iload_n hx hb dX4_copies_17 rfl (lv_at hl 2 rfl) ?_
        refine lv_iload hx hb dX4_copies_18 (lv_at hl 0 rfl) ?_
        refine lv_iadd hx hb dX4_copies_20 ?_
        refine b_top (nI_addE (a := sp) (b := j) (c := sp + j) rfl rfl (by first | omega | rfl)) ?_
        refine b_iald hx hb hK (b_at (k := 0) hP rfl) (sp + j) rfl (by omega) (by omega) dX4_copies_21 ?_
        refine b_iast hx hb hK hP hD hS 1 rfl (dp + j) rfl (by omega) (by omega) dX4_copies_22 (fun H locs hP hD hS => ?_)
        have hP : WP Γ [[(b, .inl (Γ.2.1 0, nf, .inl f))], [(d, .inl (Γ.2.1 0, nt, .inl (upd (va_cpy f t sp dp j) (dp + j) (f (sp + j)))))]] H := hP
        have hD : WD A [[(b, .inl (Γ.2.1 0, nf, .inl f))], [(d, .inl (Γ.2.1 0, nt, .inl (upd (va_cpy f t sp dp j) (dp + j) (f (sp + j)))))]] := hD
        rw [show (upd (va_cpy f t sp dp j) (dp + j) (f (sp + j))) = (va_cpy f t sp dp (j + 1)) from by first | exact cpy_stepI f t sp dp j | (rw [Nat.add_comm dp j, Nat.add_comm sp j]; exact cpy_stepI f t sp dp j)] at hP hD
        refine lv_iinc (v := (nI (j + 1))) (lv' := [(4, .int (nI (j + 1))), (0, .ref b), (1, .int (nI sp)), (2, .ref d), (3, .int (nI dp))]) hx hb dX4_copies_23 hl (k := 0) rfl (nI_addE (a := j) (b := 1) (c := j + 1) rfl rfl (by first | omega | rfl)) (by decide) rfl (fun ls hl => ?_)
        refine lv_goto (tgt := 3) hx hb dX4_copies_26 (by decide) ?_
        exact ih (j + 1) (by omega) (by omega) _ _ _ hP hD hS (lv_sub hl [0, 1, 2, 3, 4] rfl)
  exact loop_1 ((523 - 0) + 1) 0 (Nat.lt_succ_self _) (Nat.zero_le _) _ _ _ hP hD hS (lv_sub hl [0, 1, 2, 3, 4] rfl)
theorem upd_upd (f : Nat → Int32) (k : Nat) (x y : Int32) : upd (upd f k x) k y = upd f k y := by
  funext q
  simp only [upd]
  split <;> rfl
set_option maxHeartbeats 4000000 in
set_option maxRecDepth 100000 in
theorem mt_Mo_changes (l : Launch) (Γ : GE) (sz : Nat) (a : Nat) (r : Nat → Nat) (i : Nat → Int32) (b : Nat) (f : Nat → Int32) (ps : Nat → Int32) (n : Nat) (h5 : i 5 = nI n) (hn : n ≤ 8) : KM l yX4_changes cX4_changes 3 none Γ 1 24 0 0 [.ref a, .ref b] [[(a, moE r i)], [(b, .inl (Γ.2.1 0, 523, .inl f))], [((r 4), .inl (Γ.2.1 0, 4184, .inl ps))]] [] sz (Qv Γ (fun u_ => u_ = [[(a, moE r (upd i 5 (nI (moPushN n))))], [(b, .inl (Γ.2.1 0, 523, .inl f))], [((r 4), .inl (Γ.2.1 0, 4184, .inl (moPush f ps n)))]])) := by
  refine K_intro (by decide) (Nat.le_of_ble_eq_true rfl) ?_
  intro pr_ ev_ s mi_ below meth cd_ A ls hx hb hr hml hown hts hlocks hname hK hE hRo hP hD hA hS hsz hl
  have hl : lv_has ls 3 [(0, .ref a), (1, .ref b)] := hl
  have hown : s.vm.findClass RX4 = some mi_.cls := hown
  refine lv_aload_n hx hb dX4_changes_0 rfl (lv_at hl 0 rfl) ?_
  refine b_get (C := RX4) (T := TX4) (N := 16) (v := .int (i 5)) hx hb hts in_X4 hown hK (b_at (k := 0) hP rfl) rfl 5 (by decide) q1812 (fun _ h9 => h9) rfl dX4_changes_1 ?_
  refine b_top (h5) ?_
  refine lv_bipush (v := 8) hx hb dX4_changes_4 (by decide) ?_
  refine lv_icmp_ne (tgt := 50) hx hb dX4_changes_6 (by decide) (fun c_1 => ?_) (fun c_1 => ?_)
  · -- 6 taken
    have n_1 : ¬ (n = 8) := fun h => c_1 ((nI_eq (a := n) (b := 8) (by omega) (by omega)).mpr h)
    refine lv_aload_n hx hb dX4_changes_50 rfl (lv_at hl 1 rfl) ?_
    refine lv_iconst (v := 0) hx hb dX4_changes_51 (by decide) ?_
    refine lv_aload_n hx hb dX4_changes_52 rfl (lv_at hl 0 rfl) ?_
    refine b_get (C := RX4) (T := TX4) (N := 16) (v := .ref (r 4)) hx hb hts in_X4 hown hK (b_at (k := 0) hP rfl) rfl 4 (by decide) q1811 (fun _ h9 => h9) rfl dX4_changes_53 ?_
    refine lv_sipush (v := 523) hx hb dX4_changes_56 (by decide) ?_
    refine lv_aload_n hx hb dX4_changes_59 rfl (lv_at hl 0 rfl) ?_
    refine b_get (C := RX4) (T := TX4) (N := 16) (v := .int (i 5)) hx hb hts in_X4 hown hK (b_at (k := 0) hP rfl) rfl 5 (by decide) q1812 (fun _ h9 => h9) rfl dX4_changes_60 ?_
    refine b_top (h5) ?_
    refine lv_imul hx hb dX4_changes_63 ?_
    refine b_top (nI_mulE (a := 523) (b := n) (c := 523 * n) rfl rfl (by first | omega | rfl)) ?_
    refine b_callv (br := [[(a, moE r i)]]) (b_runS ⟨hx, hb, hml, hown, hts⟩ (mt_Mo_copies l Γ _ b (r 4) f ps 523 4184 0 (523 * n) (by omega) (by omega) (by omega)) (lw_S q1864 q1865 q73 q1866) rfl rfl 4 (by decide +kernel) ⟨(Nat.le_of_ble_eq_true rfl), (Nat.le_of_ble_eq_true rfl)⟩ (c_pre hP hD hS hA hK hE [1, 2] rfl rfl ro_nil) rfl hl.1 rfl (Nat.le_of_ble_eq_true rfl) dX4_changes_64 ⟨(Nat.le_of_ble_eq_true rfl), (Nat.le_of_ble_eq_true rfl)⟩) hP hD hS hA [1, 2] [0] rfl rfl rfl (fun u_2 H locs hw_2 hP hD hS _ => ?_)
    obtain rfl := hw_2
    have hP : WP Γ [[(b, .inl (Γ.2.1 0, 523, .inl f))], [((r 4), .inl (Γ.2.1 0, 4184, .inl (va_cpy f ps 0 (523 * n) 523)))], [(a, moE r i)]] H := hP
    have hD : WD A [[(b, .inl (Γ.2.1 0, 523, .inl f))], [((r 4), .inl (Γ.2.1 0, 4184, .inl (va_cpy f ps 0 (523 * n) 523)))], [(a, moE r i)]] := hD
    refine lv_aload_n hx hb dX4_changes_67 rfl (lv_at hl 0 rfl) ?_
    refine lv_dup hx hb dX4_changes_68 rfl ?_
    refine b_get (C := RX4) (T := TX4) (N := 16) (v := .int (i 5)) hx hb hts in_X4 hown hK (b_at (k := 2) hP rfl) rfl 5 (by decide) q1812 (fun _ h9 => h9) rfl dX4_changes_69 ?_
    refine b_top (h5) ?_
    refine lv_iconst (v := 1) hx hb dX4_changes_72 (by decide) ?_
    refine lv_iadd hx hb dX4_changes_73 ?_
    refine b_top (nI_addE (a := n) (b := 1) (c := n + 1) rfl rfl (by first | omega | rfl)) ?_
    refine b_putM (C := RX4) (T := TX4) (N := 16) (ty := .int) (vv := (nI (n + 1))) hx hb hts in_X4 tyX4_ok nmX4 hown hK hP hD hS 2 rfl rfl 5 (by decide) q1812 (fun _ h9 => h9) rfl (by decide +kernel) rfl rfl (Nat.le_of_ble_eq_true rfl) (moL_set5 _ _ _) dX4_changes_74 (fun H locs hP hD hS => ?_)
    have hP : WP Γ [[(b, .inl (Γ.2.1 0, 523, .inl f))], [((r 4), .inl (Γ.2.1 0, 4184, .inl (va_cpy f ps 0 (523 * n) 523)))], [(a, moE r (upd i 5 (nI (n + 1))))]] H := hP
    have hD : WD A [[(b, .inl (Γ.2.1 0, 523, .inl f))], [((r 4), .inl (Γ.2.1 0, 4184, .inl (va_cpy f ps 0 (523 * n) 523)))], [(a, moE r (upd i 5 (nI (n + 1))))]] := hD
    have hP : WP Γ [[(a, moE r (upd i 5 (nI (n + 1))))], [(b, .inl (Γ.2.1 0, 523, .inl f))], [((r 4), .inl (Γ.2.1 0, 4184, .inl (va_cpy f ps 0 (523 * n) 523)))]] H := bP_sel hP [2, 0, 1] rfl
    have hD : WD A [[(a, moE r (upd i 5 (nI (n + 1))))], [(b, .inl (Γ.2.1 0, 523, .inl f))], [((r 4), .inl (Γ.2.1 0, 4184, .inl (va_cpy f ps 0 (523 * n) 523)))]] := bD_sel hD [2, 0, 1] rfl rfl
    exact b_vret hx hb hr hlocks hP hD hS (Nat.le_of_ble_eq_true rfl) (Nat.le_of_ble_eq_true rfl) (by first | with_reducible rfl | (simp [moPush, moPushN, upd_upd, n_1]; done) | rfl) dX4_changes_77
  · -- 6 not taken
    have n_1 : n = 8 := (nI_eq (by omega) (by omega)).mp (show nI n = nI 8 from c_1)
    subst n_1
    refine lv_iconst (v := 0) hx hb dX4_changes_9 (by decide) ?_
    refine lv_istore_n (lv' := [(2, .int 0), (0, .ref a), (1, .ref b)]) hx hb dX4_changes_10 rfl hl (by decide) rfl (fun ls hl => ?_)
    rw [show ps = (moShift ps 0) from (moShift_0 ps).symm] at hP hD
    have loop_3 : ∀ (fuel : Nat) (j : Nat), 3661 - j < fuel → (j ≤ 3661) → ∀ (H : Heap) (locs : List Loc) (ls : Array Slot), WP Γ [[(a, moE r i)], [(b, .inl (Γ.2.1 0, 523, .inl f))], [((r 4), .inl (Γ.2.1 0, 4184, .inl (moShift ps j)))]] H → WD A [[(a, moE r i)], [(b, .inl (Γ.2.1 0, 523, .inl f))], [((r 4), .inl (Γ.2.1 0, 4184, .inl (moShift ps j)))]] → va_S A s.heap H locs → lv_has ls 3 [(2, .int (nI j)), (0, .ref a), (1, .ref b)] → W pr_ l ev_ { frames := 1, cells := 0, slots := 0, locals := 24 } s mi_ ([.ref a, .ref b] : List Value).toArray below meth cd_ H locs 0 0 (MQ below (Qv Γ (fun u_ => u_ = [[(a, moE r (upd i 5 (nI (moPushN 8))))], [(b, .inl (Γ.2.1 0, 523, .inl f))], [((r 4), .inl (Γ.2.1 0, 4184, .inl (moPush f ps 8)))]]) A) ([.ref a, .ref b] : List Value).toArray s 0 0 A) (F0 mi_ 11 ls ([])) := by
      intro fuel
      induction fuel with
      | zero => intro j hfuel; exact absurd hfuel (Nat.not_lt_zero _)
      | succ fuel ih =>
        intro j hfuel hj H locs ls hP hD hS hl
        refine lv_iload_n hx hb dX4_changes_11 rfl (lv_at hl 0 rfl) ?_
        refine lv_sipush (v := 3661) hx hb dX4_changes_12 (by decide) ?_
        refine lv_icmp_ge (tgt := 40) hx hb dX4_changes_15 (by decide) (fun c_4 => ?_) (fun c_4 => ?_)
        · -- 15 taken
          have n_4 : 3661 ≤ j := (nI_leI (by omega) (by omega)).mp (show nI 3661 ≤ nI j from c_4)
          have m_4 : ¬ (j < 3661) := by omega
          have d_4 := Int32.not_lt.mpr c_4
          refine lv_aload_n hx hb dX4_changes_40 rfl (lv_at hl 1 rfl) ?_
          refine lv_dup hx hb dX4_changes_41 rfl ?_
          refine b_get (C := RX4) (T := TX4) (N := 16) (v := .int (i 5)) hx hb hts in_X4 hown hK (b_at (k := 0) hP rfl) rfl 5 (by decide) q1812 (fun _ h9 => h9) rfl dX4_changes_42 ?_
          refine b_top (h5) ?_
          refine lv_iconst (v := 1) hx hb dX4_changes_45 (by decide) ?_
          refine lv_isub hx hb dX4_changes_46 ?_
          refine b_top (nI_subE (a := 8) (b := 1) (c := 7) rfl rfl (by first | omega | rfl)) ?_
          refine b_putM (C := RX4) (T := TX4) (N := 16) (ty := .int) (vv := (nI 7)) hx hb hts in_X4 tyX4_ok nmX4 hown hK hP hD hS 0 rfl rfl 5 (by decide) q1812 (fun _ h9 => h9) rfl (by decide +kernel) rfl rfl (Nat.le_of_ble_eq_true rfl) (moL_set5 _ _ _) dX4_changes_47 (fun H locs hP hD hS => ?_)
          have hP : WP Γ [[(a, moE r (upd i 5 (nI 7)))], [(b, .inl (Γ.2.1 0, 523, .inl f))], [((r 4), .inl (Γ.2.1 0, 4184, .inl (moShift ps j)))]] H := hP
          have hD : WD A [[(a, moE r (upd i 5 (nI 7)))], [(b, .inl (Γ.2.1 0, 523, .inl f))], [((r 4), .inl (Γ.2.1 0, 4184, .inl (moShift ps j)))]] := hD
          refine lv_aload_n hx hb dX4_changes_50 rfl (lv_at hl 2 rfl) ?_
          refine lv_iconst (v := 0) hx hb dX4_changes_51 (by decide) ?_
          refine lv_aload_n hx hb dX4_changes_52 rfl (lv_at hl 1 rfl) ?_
          refine b_get (C := RX4) (T := TX4) (N := 16) (v := .ref (r 4)) hx hb hts in_X4 hown hK (b_at (k := 0) hP rfl) rfl 4 (by decide) q1811 (fun _ h9 => h9) rfl dX4_changes_53 ?_
          refine lv_sipush (v := 523) hx hb dX4_changes_56 (by decide) ?_
          refine lv_aload_n hx hb dX4_changes_59 rfl (lv_at hl 1 rfl) ?_
          refine b_get (C := RX4) (T := TX4) (N := 16) (v := .int (nI 7)) hx hb hts in_X4 hown hK (b_at (k := 0) hP rfl) rfl 5 (by decide) q1812 (fun _ h9 => h9) rfl dX4_changes_60 ?_
          refine lv_imul hx hb dX4_changes_63 ?_
          refine b_top (nI_mulE (a := 523) (b := 7) (c := 3661) rfl rfl (by first | omega | rfl)) ?_
          refine b_callv (br := [[(a, moE r (upd i 5 (nI 7)))]]) (b_runS ⟨hx, hb, hml, hown, hts⟩ (mt_Mo_copies l Γ _ b (r 4) f (moShift ps j) 523 4184 0 3661 (by omega) (by omega) (by omega)) (lw_S q1864 q1865 q73 q1866) rfl rfl 4 (by decide +kernel) ⟨(Nat.le_of_ble_eq_true rfl), (Nat.le_of_ble_eq_true rfl)⟩ (c_pre hP hD hS hA hK hE [1, 2] rfl rfl ro_nil) rfl hl.1 rfl (Nat.le_of_ble_eq_true rfl) dX4_changes_64 ⟨(Nat.le_of_ble_eq_true rfl), (Nat.le_of_ble_eq_true rfl)⟩) hP hD hS hA [1, 2] [0] rfl rfl rfl (fun u_5 H locs hw_5 hP hD hS _ => ?_)
          obtain rfl := hw_5
          have hP : WP Γ [[(b, .inl (Γ.2.1 0, 523, .inl f))], [((r 4), .inl (Γ.2.1 0, 4184, .inl (va_cpy f (moShift ps j) 0 3661 523)))], [(a, moE r (upd i 5 (nI 7)))]] H := hP
          have hD : WD A [[(b, .inl (Γ.2.1 0, 523, .inl f))], [((r 4), .inl (Γ.2.1 0, 4184, .inl (va_cpy f (moShift ps j) 0 3661 523)))], [(a, moE r (upd i 5 (nI 7)))]] := hD
          refine lv_aload_n hx hb dX4_changes_67 rfl (lv_at hl 1 rfl) ?_
          refine lv_dup hx hb dX4_changes_68 rfl ?_
          refine b_get (C := RX4) (T := TX4) (N := 16) (v := .int (nI 7)) hx hb hts in_X4 hown hK (b_at (k := 2) hP rfl) rfl 5 (by decide) q1812 (fun _ h9 => h9) rfl dX4_changes_69 ?_
          refine lv_iconst (v := 1) hx hb dX4_changes_72 (by decide) ?_
          refine lv_iadd hx hb dX4_changes_73 ?_
          refine b_top (nI_addE (a := 7) (b := 1) (c := 8) rfl rfl (by first | omega | rfl)) ?_
          refine b_putM (C := RX4) (T := TX4) (N := 16) (ty := .int) (vv := (nI 8)) hx hb hts in_X4 tyX4_ok nmX4 hown hK hP hD hS 2 rfl rfl 5 (by decide) q1812 (fun _ h9 => h9) rfl (by decide +kernel) rfl rfl (Nat.le_of_ble_eq_true rfl) (moL_set5 _ _ _) dX4_changes_74 (fun H locs hP hD hS => ?_)
          have hP : WP Γ [[(b, .inl (Γ.2.1 0, 523, .inl f))], [((r 4), .inl (Γ.2.1 0, 4184, .inl (va_cpy f (moShift ps j) 0 3661 523)))], [(a, moE r (upd (upd i 5 (nI 7)) 5 (nI 8)))]] H := hP
          have hD : WD A [[(b, .inl (Γ.2.1 0, 523, .inl f))], [((r 4), .inl (Γ.2.1 0, 4184, .inl (va_cpy f (moShift ps j) 0 3661 523)))], [(a, moE r (upd (upd i 5 (nI 7)) 5 (nI 8)))]] := hD
          rw [show (upd (upd i 5 (nI 7)) 5 (nI 8)) = (upd i 5 (nI 8)) from upd_drop _ _ _ _ (by intro q h9; simp [upd, h9])] at hP hD
          have hP : WP Γ [[(a, moE r (upd i 5 (nI 8)))], [(b, .inl (Γ.2.1 0, 523, .inl f))], [((r 4), .inl (Γ.2.1 0, 4184, .inl (va_cpy f (moShift ps j) 0 3661 523)))]] H := bP_sel hP [2, 0, 1] rfl
          have hD : WD A [[(a, moE r (upd i 5 (nI 8)))], [(b, .inl (Γ.2.1 0, 523, .inl f))], [((r 4), .inl (Γ.2.1 0, 4184, .inl (va_cpy f (moShift ps j) 0 3661 523)))]] := bD_sel hD [2, 0, 1] rfl rfl
          exact b_vret hx hb hr hlocks hP hD hS (Nat.le_of_ble_eq_true rfl) (Nat.le_of_ble_eq_true rfl) (by have e9 : j = 3661 := (by omega); subst e9; simp [moPush, moPushN, upd_upd]) dX4_changes_77
        · -- 15 not taken
          have n_4 : ¬ (3661 ≤ j) := fun h => c_4 ((nI_leI (a := 3661) (b := j) (by omega) (by omega)).mpr h)
          have m_4 : j < 3661 := by omega
          have d_4 := Int32.not_le.mp c_4
          refine lv_aload_n hx hb dX4_changes_18 rfl (lv_at hl 1 rfl) ?_
          refine b_get (C := RX4) (T := TX4) (N := 16) (v := .ref (r 4)) hx hb hts in_X4 hown hK (b_at (k := 0) hP rfl) rfl 4 (by decide) q1811 (fun _ h9 => h9) rfl dX4_changes_19 ?_
          refine lv_iload_n hx hb dX4_changes_22 rfl (lv_at hl 0 rfl) ?_
          refine lv_aload_n hx hb dX4_changes_23 rfl (lv_at hl 1 rfl) ?_
          refine b_get (C := RX4) (T := TX4) (N := 16) (v := .ref (r 4)) hx hb hts in_X4 hown hK (b_at (k := 0) hP rfl) rfl 4 (by decide) q1811 (fun _ h9 => h9) rfl dX4_changes_24 ?_
          refine lv_iload_n hx hb dX4_changes_27 rfl (lv_at hl 0 rfl) ?_
          refine lv_sipush (v := 523) hx hb dX4_changes_28 (by decide) ?_
          refine lv_iadd hx hb dX4_changes_31 ?_
          refine b_top (nI_addE (a := j) (b := 523) (c := j + 523) rfl rfl (by first | omega | rfl)) ?_
          refine b_iald hx hb hK (b_at (k := 2) hP rfl) (j + 523) rfl (by omega) (by omega) dX4_changes_32 ?_
          refine b_iast hx hb hK hP hD hS 2 rfl j rfl (by omega) (by omega) dX4_changes_33 (fun H locs hP hD hS => ?_)
          have hP : WP Γ [[(a, moE r i)], [(b, .inl (Γ.2.1 0, 523, .inl f))], [((r 4), .inl (Γ.2.1 0, 4184, .inl (upd (moShift ps j) j (moShift ps j (j + 523)))))]] H := hP
          have hD : WD A [[(a, moE r i)], [(b, .inl (Γ.2.1 0, 523, .inl f))], [((r 4), .inl (Γ.2.1 0, 4184, .inl (upd (moShift ps j) j (moShift ps j (j + 523)))))]] := hD
          rw [show (upd (moShift ps j) j (moShift ps j (j + 523))) = (moShift ps (j + 1)) from moShift_step ps j] at hP hD
          refine lv_iinc (v := (nI (j + 1))) (lv' := [(2, .int (nI (j + 1))), (0, .ref a), (1, .ref b)]) hx hb dX4_changes_34 hl (k := 0) rfl (nI_addE (a := j) (b := 1) (c := j + 1) rfl rfl (by first | omega | rfl)) (by decide) rfl (fun ls hl => ?_)
          refine lv_goto (tgt := 11) hx hb dX4_changes_37 (by decide) ?_
          exact ih (j + 1) (by omega) (by omega) _ _ _ hP hD hS (lv_sub hl [0, 1, 2] rfl)
    exact loop_3 ((3661 - 0) + 1) 0 (Nat.lt_succ_self _) (Nat.zero_le _) _ _ _ hP hD hS (lv_sub hl [0, 1, 2] rfl)
