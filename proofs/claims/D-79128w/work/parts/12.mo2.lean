/-! MODEL: commands, milking -/
theorem moKept_nat {g : Nat → Int32} {v : Int32} {n : Nat} (hg : g 7 = nI n) (hn : n ≤ 8) (h : ¬ moKept g v = 0) : ∃ k : Nat, k < n ∧ v = nI k := by
  unfold moKept at h
  split at h
  · exact absurd rfl h
  · rename_i h1
    exact inR_nat hg (by omega) h1
def moAg0 (g : Nat → Int32) (c v : Int32) : Int32 := if moKept g c = 0 then 1 else if inR v 1 30 = 0 then 2 else 0
def moAg1 (g : Nat → Int32) (c : Int32) : Int32 := if moKept g c = 0 then 1 else 0
def moAg2 (g : Nat → Int32) (c : Int32) : Int32 := if moKept g c = 0 then 1 else if moCar g c.toNatClampNeg = 0 then (if moMil g c.toNatClampNeg = 0 then 0 else if g 0 - g (10 * c.toNatClampNeg + 20) < 20 then 3 else 0) else 3
def moAg3 (g : Nat → Int32) (c : Int32) : Int32 := if moKept g c = 0 then 1 else if moMil g c.toNatClampNeg = 0 then 4 else 0
def moAg5 (g : Nat → Int32) (c v : Int32) (n : Nat) : Int32 := if inR c 0 999 = 0 then 5 else if inR v 0 20 = 0 then 5 else if n = 4 then (if moRow g c n < 0 then 5 else 0) else 0
set_option maxHeartbeats 4000000 in
set_option maxRecDepth 100000 in
theorem mt_Mo_against_0 (l : Launch) (Γ : GE) (sz : Nat) (a : Nat) (r : Nat → Nat) (i : Nat → Int32) (g : Nat → Int32) (c : Int32) (v : Int32) (n : Nat) (hg7 : g 7 = nI n) (hn : n ≤ 8) : KM l yX4_against cX4_against 4 (some FieldType.int) Γ 3 64 0 0 [.ref a, .int 0, .int c, .int v] [[(a, moE r i)], [((r 0), .inl (Γ.2.1 0, 523, .inl g))]] [] sz (Qi Γ (fun r_ u_ => r_ = (moAg0 g c v) ∧ u_ = [[(a, moE r i)], [((r 0), .inl (Γ.2.1 0, 523, .inl g))]])) := by
  refine K_intro (by decide) (Nat.le_of_ble_eq_true rfl) ?_
  intro pr_ ev_ s mi_ below meth cd_ A ls hx hb hr hml hown hts hlocks hname hK hE hRo hP hD hA hS hsz hl
  have hl : lv_has ls 4 [(0, .ref a), (1, .int 0), (2, .int c), (3, .int v)] := hl
  have hown : s.vm.findClass RX4 = some mi_.cls := hown
  refine lv_iload_n hx hb dX4_against_0 rfl (lv_at hl 1 rfl) ?_
  refine lv_iconst (v := 5) hx hb dX4_against_1 (by decide) ?_
  refine lv_icmp_ne (tgt := 51) hx hb dX4_against_2 (by decide) (fun c_1 => ?_) (fun c_1 => ?_)
  · -- 2 taken
    have n_1 : ¬ (0 = 5) := fun h => c_1 ((nI_eq (a := 0) (b := 5) (by omega) (by omega)).mpr h)
    refine lv_aload_n hx hb dX4_against_51 rfl (lv_at hl 0 rfl) ?_
    refine lv_iload_n hx hb dX4_against_52 rfl (lv_at hl 2 rfl) ?_
    refine b_calli (br := []) (b_runV ⟨hx, hb, hml, hown, hts⟩ (mt_Mo_isKept l Γ _ a r i g c n (by first | exact hg7 | omega) (by first | exact hn | omega)) (lw_V q1916 q1918 qs35 q73 q1919) rfl rfl 1 (by decide +kernel) ⟨(Nat.le_of_ble_eq_true rfl), (Nat.le_of_ble_eq_true rfl)⟩ (c_pre hP hD hS hA hK hE [0, 1] rfl rfl ro_nil) (recv_at (q := (RX4, TX4, 16)) hK (b_at (k := 0) hP rfl) rfl) rfl hl.1 rfl (Nat.le_of_ble_eq_true rfl) dX4_against_53 ⟨(Nat.le_of_ble_eq_true rfl), (Nat.le_of_ble_eq_true rfl)⟩) hP hD hS hA [0, 1] [] rfl rfl rfl (fun r_2 u_2 H locs hw_2 hP hD hS _ => ?_)
    obtain ⟨rfl, rfl⟩ := hw_2
    have hP : WP Γ [[(a, moE r i)], [((r 0), .inl (Γ.2.1 0, 523, .inl g))]] H := hP
    have hD : WD A [[(a, moE r i)], [((r 0), .inl (Γ.2.1 0, 523, .inl g))]] := hD
    refine lv_if_ne (tgt := 61) hx hb dX4_against_56 (by decide) (fun c_3 => ?_) (fun c_3 => ?_)
    · -- 56 taken
      obtain ⟨k, hk, rfl⟩ := moKept_nat hg7 hn c_3
      refine lv_iload_n hx hb dX4_against_61 rfl (lv_at hl 1 rfl) ?_
      refine lv_tableIn (tgt := 92) hx hb dX4_against_62 (by decide) (by decide) rfl (by decide) ?_
      refine lv_iload_n hx hb dX4_against_92 rfl (lv_at hl 3 rfl) ?_
      refine lv_iconst (v := 1) hx hb dX4_against_93 (by decide) ?_
      refine lv_bipush (v := 30) hx hb dX4_against_94 (by decide) ?_
      refine b_calli (br := [[(a, moE r i)], [((r 0), .inl (Γ.2.1 0, 523, .inl g))]]) (b_runS ⟨hx, hb, hml, hown, hts⟩ (mt_Mo_in l Γ _ v 1 30) (lw_S q1879 q1880 q73 q1881) rfl rfl 3 (by decide +kernel) ⟨(Nat.le_of_ble_eq_true rfl), (Nat.le_of_ble_eq_true rfl)⟩ (c_pre hP hD hS hA hK hE [] rfl rfl ro_nil) rfl hl.1 rfl (Nat.le_of_ble_eq_true rfl) dX4_against_96 ⟨(Nat.le_of_ble_eq_true rfl), (Nat.le_of_ble_eq_true rfl)⟩) hP hD hS hA [] [0, 1] rfl rfl rfl (fun r_4 u_4 H locs hw_4 hP hD hS _ => ?_)
      obtain ⟨rfl, rfl⟩ := hw_4
      have hP : WP Γ [[(a, moE r i)], [((r 0), .inl (Γ.2.1 0, 523, .inl g))]] H := hP
      have hD : WD A [[(a, moE r i)], [((r 0), .inl (Γ.2.1 0, 523, .inl g))]] := hD
      refine lv_if_eq (tgt := 106) hx hb dX4_against_99 (by decide) (fun c_5 => ?_) (fun c_5 => ?_)
      · -- 99 taken
        refine lv_iconst (v := 2) hx hb dX4_against_106 (by decide) ?_
        exact b_iret hx hb hr hlocks hP hD hS (Nat.le_of_ble_eq_true rfl) (Nat.le_of_ble_eq_true rfl) ⟨(by first | with_reducible rfl | (simp [moAg0, n_1, c_3, nI_clamp (show k < 2 ^ 31 by omega), c_5]; done) | rfl), (by first | with_reducible rfl | (simp [moAg0, n_1, c_3, nI_clamp (show k < 2 ^ 31 by omega), c_5]; done) | rfl)⟩ dX4_against_107
      · -- 99 not taken
        refine lv_iconst (v := 0) hx hb dX4_against_102 (by decide) ?_
        refine lv_goto (tgt := 107) hx hb dX4_against_103 (by decide) ?_
        exact b_iret hx hb hr hlocks hP hD hS (Nat.le_of_ble_eq_true rfl) (Nat.le_of_ble_eq_true rfl) ⟨(by first | with_reducible rfl | (simp [moAg0, n_1, c_3, nI_clamp (show k < 2 ^ 31 by omega), c_5]; done) | rfl), (by first | with_reducible rfl | (simp [moAg0, n_1, c_3, nI_clamp (show k < 2 ^ 31 by omega), c_5]; done) | rfl)⟩ dX4_against_107
    · -- 56 not taken
      refine lv_iconst (v := 1) hx hb dX4_against_59 (by decide) ?_
      exact b_iret hx hb hr hlocks hP hD hS (Nat.le_of_ble_eq_true rfl) (Nat.le_of_ble_eq_true rfl) ⟨(by first | with_reducible rfl | (simp [moAg0, n_1, c_3]; done) | rfl), (by first | with_reducible rfl | (simp [moAg0, n_1, c_3]; done) | rfl)⟩ dX4_against_60
  · -- 2 not taken
    have n_1 : 0 = 5 := (nI_eq (by omega) (by omega)).mp (show nI 0 = nI 5 from c_1)
    exact absurd n_1 (by omega)
set_option maxHeartbeats 4000000 in
set_option maxRecDepth 100000 in
theorem mt_Mo_against_1 (l : Launch) (Γ : GE) (sz : Nat) (a : Nat) (r : Nat → Nat) (i : Nat → Int32) (g : Nat → Int32) (c : Int32) (v : Int32) (n : Nat) (hg7 : g 7 = nI n) (hn : n ≤ 8) : KM l yX4_against cX4_against 4 (some FieldType.int) Γ 3 64 0 0 [.ref a, .int 1, .int c, .int v] [[(a, moE r i)], [((r 0), .inl (Γ.2.1 0, 523, .inl g))]] [] sz (Qi Γ (fun r_ u_ => r_ = (moAg1 g c) ∧ u_ = [[(a, moE r i)], [((r 0), .inl (Γ.2.1 0, 523, .inl g))]])) := by
  refine K_intro (by decide) (Nat.le_of_ble_eq_true rfl) ?_
  intro pr_ ev_ s mi_ below meth cd_ A ls hx hb hr hml hown hts hlocks hname hK hE hRo hP hD hA hS hsz hl
  have hl : lv_has ls 4 [(0, .ref a), (1, .int 1), (2, .int c), (3, .int v)] := hl
  have hown : s.vm.findClass RX4 = some mi_.cls := hown
  refine lv_iload_n hx hb dX4_against_0 rfl (lv_at hl 1 rfl) ?_
  refine lv_iconst (v := 5) hx hb dX4_against_1 (by decide) ?_
  refine lv_icmp_ne (tgt := 51) hx hb dX4_against_2 (by decide) (fun c_1 => ?_) (fun c_1 => ?_)
  · -- 2 taken
    have n_1 : ¬ (1 = 5) := fun h => c_1 ((nI_eq (a := 1) (b := 5) (by omega) (by omega)).mpr h)
    refine lv_aload_n hx hb dX4_against_51 rfl (lv_at hl 0 rfl) ?_
    refine lv_iload_n hx hb dX4_against_52 rfl (lv_at hl 2 rfl) ?_
    refine b_calli (br := []) (b_runV ⟨hx, hb, hml, hown, hts⟩ (mt_Mo_isKept l Γ _ a r i g c n (by first | exact hg7 | omega) (by first | exact hn | omega)) (lw_V q1916 q1918 qs35 q73 q1919) rfl rfl 1 (by decide +kernel) ⟨(Nat.le_of_ble_eq_true rfl), (Nat.le_of_ble_eq_true rfl)⟩ (c_pre hP hD hS hA hK hE [0, 1] rfl rfl ro_nil) (recv_at (q := (RX4, TX4, 16)) hK (b_at (k := 0) hP rfl) rfl) rfl hl.1 rfl (Nat.le_of_ble_eq_true rfl) dX4_against_53 ⟨(Nat.le_of_ble_eq_true rfl), (Nat.le_of_ble_eq_true rfl)⟩) hP hD hS hA [0, 1] [] rfl rfl rfl (fun r_2 u_2 H locs hw_2 hP hD hS _ => ?_)
    obtain ⟨rfl, rfl⟩ := hw_2
    have hP : WP Γ [[(a, moE r i)], [((r 0), .inl (Γ.2.1 0, 523, .inl g))]] H := hP
    have hD : WD A [[(a, moE r i)], [((r 0), .inl (Γ.2.1 0, 523, .inl g))]] := hD
    refine lv_if_ne (tgt := 61) hx hb dX4_against_56 (by decide) (fun c_3 => ?_) (fun c_3 => ?_)
    · -- 56 taken
      obtain ⟨k, hk, rfl⟩ := moKept_nat hg7 hn c_3
      refine lv_iload_n hx hb dX4_against_61 rfl (lv_at hl 1 rfl) ?_
      refine lv_tableIn (tgt := 154) hx hb dX4_against_62 (by decide) (by decide) rfl (by decide) ?_
      refine lv_iconst (v := 0) hx hb dX4_against_154 (by decide) ?_
      exact b_iret hx hb hr hlocks hP hD hS (Nat.le_of_ble_eq_true rfl) (Nat.le_of_ble_eq_true rfl) ⟨(by first | with_reducible rfl | (simp [moAg1, n_1, c_3, nI_clamp (show k < 2 ^ 31 by omega)]; done) | rfl), (by first | with_reducible rfl | (simp [moAg1, n_1, c_3, nI_clamp (show k < 2 ^ 31 by omega)]; done) | rfl)⟩ dX4_against_155
    · -- 56 not taken
      refine lv_iconst (v := 1) hx hb dX4_against_59 (by decide) ?_
      exact b_iret hx hb hr hlocks hP hD hS (Nat.le_of_ble_eq_true rfl) (Nat.le_of_ble_eq_true rfl) ⟨(by first | with_reducible rfl | (simp [moAg1, n_1, c_3]; done) | rfl), (by first | with_reducible rfl | (simp [moAg1, n_1, c_3]; done) | rfl)⟩ dX4_against_60
  · -- 2 not taken
    have n_1 : 1 = 5 := (nI_eq (by omega) (by omega)).mp (show nI 1 = nI 5 from c_1)
    exact absurd n_1 (by omega)
set_option maxHeartbeats 4000000 in
set_option maxRecDepth 100000 in
theorem mt_Mo_against_2 (l : Launch) (Γ : GE) (sz : Nat) (a : Nat) (r : Nat → Nat) (i : Nat → Int32) (g : Nat → Int32) (c : Int32) (v : Int32) (n : Nat) (hg7 : g 7 = nI n) (hn : n ≤ 8) : KM l yX4_against cX4_against 4 (some FieldType.int) Γ 3 64 0 0 [.ref a, .int 2, .int c, .int v] [[(a, moE r i)], [((r 0), .inl (Γ.2.1 0, 523, .inl g))]] [] sz (Qi Γ (fun r_ u_ => r_ = (moAg2 g c) ∧ u_ = [[(a, moE r i)], [((r 0), .inl (Γ.2.1 0, 523, .inl g))]])) := by
  refine K_intro (by decide) (Nat.le_of_ble_eq_true rfl) ?_
  intro pr_ ev_ s mi_ below meth cd_ A ls hx hb hr hml hown hts hlocks hname hK hE hRo hP hD hA hS hsz hl
  have hl : lv_has ls 4 [(0, .ref a), (1, .int 2), (2, .int c), (3, .int v)] := hl
  have hown : s.vm.findClass RX4 = some mi_.cls := hown
  refine lv_iload_n hx hb dX4_against_0 rfl (lv_at hl 1 rfl) ?_
  refine lv_iconst (v := 5) hx hb dX4_against_1 (by decide) ?_
  refine lv_icmp_ne (tgt := 51) hx hb dX4_against_2 (by decide) (fun c_1 => ?_) (fun c_1 => ?_)
  · -- 2 taken
    have n_1 : ¬ (2 = 5) := fun h => c_1 ((nI_eq (a := 2) (b := 5) (by omega) (by omega)).mpr h)
    refine lv_aload_n hx hb dX4_against_51 rfl (lv_at hl 0 rfl) ?_
    refine lv_iload_n hx hb dX4_against_52 rfl (lv_at hl 2 rfl) ?_
    refine b_calli (br := []) (b_runV ⟨hx, hb, hml, hown, hts⟩ (mt_Mo_isKept l Γ _ a r i g c n (by first | exact hg7 | omega) (by first | exact hn | omega)) (lw_V q1916 q1918 qs35 q73 q1919) rfl rfl 1 (by decide +kernel) ⟨(Nat.le_of_ble_eq_true rfl), (Nat.le_of_ble_eq_true rfl)⟩ (c_pre hP hD hS hA hK hE [0, 1] rfl rfl ro_nil) (recv_at (q := (RX4, TX4, 16)) hK (b_at (k := 0) hP rfl) rfl) rfl hl.1 rfl (Nat.le_of_ble_eq_true rfl) dX4_against_53 ⟨(Nat.le_of_ble_eq_true rfl), (Nat.le_of_ble_eq_true rfl)⟩) hP hD hS hA [0, 1] [] rfl rfl rfl (fun r_2 u_2 H locs hw_2 hP hD hS _ => ?_)
    obtain ⟨rfl, rfl⟩ := hw_2
    have hP : WP Γ [[(a, moE r i)], [((r 0), .inl (Γ.2.1 0, 523, .inl g))]] H := hP
    have hD : WD A [[(a, moE r i)], [((r 0), .inl (Γ.2.1 0, 523, .inl g))]] := hD
    refine lv_if_ne (tgt := 61) hx hb dX4_against_56 (by decide) (fun c_3 => ?_) (fun c_3 => ?_)
    · -- 56 taken
      obtain ⟨k, hk, rfl⟩ := moKept_nat hg7 hn c_3
      refine lv_iload_n hx hb dX4_against_61 rfl (lv_at hl 1 rfl) ?_
      refine lv_tableIn (tgt := 108) hx hb dX4_against_62 (by decide) (by decide) rfl (by decide) ?_
      refine lv_aload_n hx hb dX4_against_108 rfl (lv_at hl 0 rfl) ?_
      refine lv_iload_n hx hb dX4_against_109 rfl (lv_at hl 2 rfl) ?_
      refine b_calli (br := []) (b_runV ⟨hx, hb, hml, hown, hts⟩ (mt_Mo_isCarrying l Γ _ a r i g k (by omega)) (lw_V q1924 q1926 qs37 q73 q1927) rfl rfl 1 (by decide +kernel) ⟨(Nat.le_of_ble_eq_true rfl), (Nat.le_of_ble_eq_true rfl)⟩ (c_pre hP hD hS hA hK hE [0, 1] rfl rfl ro_nil) (recv_at (q := (RX4, TX4, 16)) hK (b_at (k := 0) hP rfl) rfl) rfl hl.1 rfl (Nat.le_of_ble_eq_true rfl) dX4_against_110 ⟨(Nat.le_of_ble_eq_true rfl), (Nat.le_of_ble_eq_true rfl)⟩) hP hD hS hA [0, 1] [] rfl rfl rfl (fun r_4 u_4 H locs hw_4 hP hD hS _ => ?_)
      obtain ⟨rfl, rfl⟩ := hw_4
      have hP : WP Γ [[(a, moE r i)], [((r 0), .inl (Γ.2.1 0, 523, .inl g))]] H := hP
      have hD : WD A [[(a, moE r i)], [((r 0), .inl (Γ.2.1 0, 523, .inl g))]] := hD
      refine lv_if_ne (tgt := 134) hx hb dX4_against_113 (by decide) (fun c_5 => ?_) (fun c_5 => ?_)
      · -- 113 taken
        refine lv_iconst (v := 3) hx hb dX4_against_134 (by decide) ?_
        refine lv_goto (tgt := 139) hx hb dX4_against_135 (by decide) ?_
        exact b_iret hx hb hr hlocks hP hD hS (Nat.le_of_ble_eq_true rfl) (Nat.le_of_ble_eq_true rfl) ⟨(by first | with_reducible rfl | (simp [moAg2, n_1, c_3, nI_clamp (show k < 2 ^ 31 by omega), c_5]; done) | rfl), (by first | with_reducible rfl | (simp [moAg2, n_1, c_3, nI_clamp (show k < 2 ^ 31 by omega), c_5]; done) | rfl)⟩ dX4_against_139
      · -- 113 not taken
        refine lv_aload_n hx hb dX4_against_116 rfl (lv_at hl 0 rfl) ?_
        refine lv_iload_n hx hb dX4_against_117 rfl (lv_at hl 2 rfl) ?_
        refine b_calli (br := []) (b_runV ⟨hx, hb, hml, hown, hts⟩ (mt_Mo_isMilked l Γ _ a r i g k (by omega)) (lw_V q1928 q1930 qs38 q73 q1931) rfl rfl 1 (by decide +kernel) ⟨(Nat.le_of_ble_eq_true rfl), (Nat.le_of_ble_eq_true rfl)⟩ (c_pre hP hD hS hA hK hE [0, 1] rfl rfl ro_nil) (recv_at (q := (RX4, TX4, 16)) hK (b_at (k := 0) hP rfl) rfl) rfl hl.1 rfl (Nat.le_of_ble_eq_true rfl) dX4_against_118 ⟨(Nat.le_of_ble_eq_true rfl), (Nat.le_of_ble_eq_true rfl)⟩) hP hD hS hA [0, 1] [] rfl rfl rfl (fun r_6 u_6 H locs hw_6 hP hD hS _ => ?_)
        obtain ⟨rfl, rfl⟩ := hw_6
        have hP : WP Γ [[(a, moE r i)], [((r 0), .inl (Γ.2.1 0, 523, .inl g))]] H := hP
        have hD : WD A [[(a, moE r i)], [((r 0), .inl (Γ.2.1 0, 523, .inl g))]] := hD
        refine lv_if_eq (tgt := 138) hx hb dX4_against_121 (by decide) (fun c_7 => ?_) (fun c_7 => ?_)
        · -- 121 taken
          refine lv_iconst (v := 0) hx hb dX4_against_138 (by decide) ?_
          exact b_iret hx hb hr hlocks hP hD hS (Nat.le_of_ble_eq_true rfl) (Nat.le_of_ble_eq_true rfl) ⟨(by first | with_reducible rfl | (simp [moAg2, n_1, c_3, nI_clamp (show k < 2 ^ 31 by omega), c_5, c_7]; done) | rfl), (by first | with_reducible rfl | (simp [moAg2, n_1, c_3, nI_clamp (show k < 2 ^ 31 by omega), c_5, c_7]; done) | rfl)⟩ dX4_against_139
        · -- 121 not taken
          refine lv_aload_n hx hb dX4_against_124 rfl (lv_at hl 0 rfl) ?_
          refine lv_iload_n hx hb dX4_against_125 rfl (lv_at hl 2 rfl) ?_
          refine b_calli (br := []) (b_runV ⟨hx, hb, hml, hown, hts⟩ (mt_Mo_inMilk l Γ _ a r i g k (by omega)) (lw_V q1932 q1934 qs39 q73 q1935) rfl rfl 1 (by decide +kernel) ⟨(Nat.le_of_ble_eq_true rfl), (Nat.le_of_ble_eq_true rfl)⟩ (c_pre hP hD hS hA hK hE [0, 1] rfl rfl ro_nil) (recv_at (q := (RX4, TX4, 16)) hK (b_at (k := 0) hP rfl) rfl) rfl hl.1 rfl (Nat.le_of_ble_eq_true rfl) dX4_against_126 ⟨(Nat.le_of_ble_eq_true rfl), (Nat.le_of_ble_eq_true rfl)⟩) hP hD hS hA [0, 1] [] rfl rfl rfl (fun r_8 u_8 H locs hw_8 hP hD hS _ => ?_)
          obtain ⟨rfl, rfl⟩ := hw_8
          have hP : WP Γ [[(a, moE r i)], [((r 0), .inl (Γ.2.1 0, 523, .inl g))]] H := hP
          have hD : WD A [[(a, moE r i)], [((r 0), .inl (Γ.2.1 0, 523, .inl g))]] := hD
          refine lv_bipush (v := 20) hx hb dX4_against_129 (by decide) ?_
          refine lv_icmp_ge (tgt := 138) hx hb dX4_against_131 (by decide) (fun c_9 => ?_) (fun c_9 => ?_)
          · -- 131 taken
            have d_9 := Int32.not_lt.mpr c_9
            refine lv_iconst (v := 0) hx hb dX4_against_138 (by decide) ?_
            exact b_iret hx hb hr hlocks hP hD hS (Nat.le_of_ble_eq_true rfl) (Nat.le_of_ble_eq_true rfl) ⟨(by first | with_reducible rfl | (simp [moAg2, n_1, c_3, nI_clamp (show k < 2 ^ 31 by omega), c_5, c_7, c_9, d_9]; done) | rfl), (by first | with_reducible rfl | (simp [moAg2, n_1, c_3, nI_clamp (show k < 2 ^ 31 by omega), c_5, c_7, c_9, d_9]; done) | rfl)⟩ dX4_against_139
          · -- 131 not taken
            have d_9 := Int32.not_le.mp c_9
            refine lv_iconst (v := 3) hx hb dX4_against_134 (by decide) ?_
            refine lv_goto (tgt := 139) hx hb dX4_against_135 (by decide) ?_
            exact b_iret hx hb hr hlocks hP hD hS (Nat.le_of_ble_eq_true rfl) (Nat.le_of_ble_eq_true rfl) ⟨(by first | with_reducible rfl | (simp [moAg2, n_1, c_3, nI_clamp (show k < 2 ^ 31 by omega), c_5, c_7, c_9, d_9]; done) | rfl), (by first | with_reducible rfl | (simp [moAg2, n_1, c_3, nI_clamp (show k < 2 ^ 31 by omega), c_5, c_7, c_9, d_9]; done) | rfl)⟩ dX4_against_139
    · -- 56 not taken
      refine lv_iconst (v := 1) hx hb dX4_against_59 (by decide) ?_
      exact b_iret hx hb hr hlocks hP hD hS (Nat.le_of_ble_eq_true rfl) (Nat.le_of_ble_eq_true rfl) ⟨(by first | with_reducible rfl | (simp [moAg2, n_1, c_3]; done) | rfl), (by first | with_reducible rfl | (simp [moAg2, n_1, c_3]; done) | rfl)⟩ dX4_against_60
  · -- 2 not taken
    have n_1 : 2 = 5 := (nI_eq (by omega) (by omega)).mp (show nI 2 = nI 5 from c_1)
    exact absurd n_1 (by omega)
set_option maxHeartbeats 4000000 in
set_option maxRecDepth 100000 in
theorem mt_Mo_against_3 (l : Launch) (Γ : GE) (sz : Nat) (a : Nat) (r : Nat → Nat) (i : Nat → Int32) (g : Nat → Int32) (c : Int32) (v : Int32) (n : Nat) (hg7 : g 7 = nI n) (hn : n ≤ 8) : KM l yX4_against cX4_against 4 (some FieldType.int) Γ 3 64 0 0 [.ref a, .int 3, .int c, .int v] [[(a, moE r i)], [((r 0), .inl (Γ.2.1 0, 523, .inl g))]] [] sz (Qi Γ (fun r_ u_ => r_ = (moAg3 g c) ∧ u_ = [[(a, moE r i)], [((r 0), .inl (Γ.2.1 0, 523, .inl g))]])) := by
  refine K_intro (by decide) (Nat.le_of_ble_eq_true rfl) ?_
  intro pr_ ev_ s mi_ below meth cd_ A ls hx hb hr hml hown hts hlocks hname hK hE hRo hP hD hA hS hsz hl
  have hl : lv_has ls 4 [(0, .ref a), (1, .int 3), (2, .int c), (3, .int v)] := hl
  have hown : s.vm.findClass RX4 = some mi_.cls := hown
  refine lv_iload_n hx hb dX4_against_0 rfl (lv_at hl 1 rfl) ?_
  refine lv_iconst (v := 5) hx hb dX4_against_1 (by decide) ?_
  refine lv_icmp_ne (tgt := 51) hx hb dX4_against_2 (by decide) (fun c_1 => ?_) (fun c_1 => ?_)
  · -- 2 taken
    have n_1 : ¬ (3 = 5) := fun h => c_1 ((nI_eq (a := 3) (b := 5) (by omega) (by omega)).mpr h)
    refine lv_aload_n hx hb dX4_against_51 rfl (lv_at hl 0 rfl) ?_
    refine lv_iload_n hx hb dX4_against_52 rfl (lv_at hl 2 rfl) ?_
    refine b_calli (br := []) (b_runV ⟨hx, hb, hml, hown, hts⟩ (mt_Mo_isKept l Γ _ a r i g c n (by first | exact hg7 | omega) (by first | exact hn | omega)) (lw_V q1916 q1918 qs35 q73 q1919) rfl rfl 1 (by decide +kernel) ⟨(Nat.le_of_ble_eq_true rfl), (Nat.le_of_ble_eq_true rfl)⟩ (c_pre hP hD hS hA hK hE [0, 1] rfl rfl ro_nil) (recv_at (q := (RX4, TX4, 16)) hK (b_at (k := 0) hP rfl) rfl) rfl hl.1 rfl (Nat.le_of_ble_eq_true rfl) dX4_against_53 ⟨(Nat.le_of_ble_eq_true rfl), (Nat.le_of_ble_eq_true rfl)⟩) hP hD hS hA [0, 1] [] rfl rfl rfl (fun r_2 u_2 H locs hw_2 hP hD hS _ => ?_)
    obtain ⟨rfl, rfl⟩ := hw_2
    have hP : WP Γ [[(a, moE r i)], [((r 0), .inl (Γ.2.1 0, 523, .inl g))]] H := hP
    have hD : WD A [[(a, moE r i)], [((r 0), .inl (Γ.2.1 0, 523, .inl g))]] := hD
    refine lv_if_ne (tgt := 61) hx hb dX4_against_56 (by decide) (fun c_3 => ?_) (fun c_3 => ?_)
    · -- 56 taken
      obtain ⟨k, hk, rfl⟩ := moKept_nat hg7 hn c_3
      refine lv_iload_n hx hb dX4_against_61 rfl (lv_at hl 1 rfl) ?_
      refine lv_tableIn (tgt := 140) hx hb dX4_against_62 (by decide) (by decide) rfl (by decide) ?_
      refine lv_aload_n hx hb dX4_against_140 rfl (lv_at hl 0 rfl) ?_
      refine lv_iload_n hx hb dX4_against_141 rfl (lv_at hl 2 rfl) ?_
      refine b_calli (br := []) (b_runV ⟨hx, hb, hml, hown, hts⟩ (mt_Mo_isMilked l Γ _ a r i g k (by omega)) (lw_V q1928 q1930 qs38 q73 q1931) rfl rfl 1 (by decide +kernel) ⟨(Nat.le_of_ble_eq_true rfl), (Nat.le_of_ble_eq_true rfl)⟩ (c_pre hP hD hS hA hK hE [0, 1] rfl rfl ro_nil) (recv_at (q := (RX4, TX4, 16)) hK (b_at (k := 0) hP rfl) rfl) rfl hl.1 rfl (Nat.le_of_ble_eq_true rfl) dX4_against_142 ⟨(Nat.le_of_ble_eq_true rfl), (Nat.le_of_ble_eq_true rfl)⟩) hP hD hS hA [0, 1] [] rfl rfl rfl (fun r_4 u_4 H locs hw_4 hP hD hS _ => ?_)
      obtain ⟨rfl, rfl⟩ := hw_4
      have hP : WP Γ [[(a, moE r i)], [((r 0), .inl (Γ.2.1 0, 523, .inl g))]] H := hP
      have hD : WD A [[(a, moE r i)], [((r 0), .inl (Γ.2.1 0, 523, .inl g))]] := hD
      refine lv_if_eq (tgt := 152) hx hb dX4_against_145 (by decide) (fun c_5 => ?_) (fun c_5 => ?_)
      · -- 145 taken
        refine lv_iconst (v := 4) hx hb dX4_against_152 (by decide) ?_
        exact b_iret hx hb hr hlocks hP hD hS (Nat.le_of_ble_eq_true rfl) (Nat.le_of_ble_eq_true rfl) ⟨(by first | with_reducible rfl | (simp [moAg3, n_1, c_3, nI_clamp (show k < 2 ^ 31 by omega), c_5]; done) | rfl), (by first | with_reducible rfl | (simp [moAg3, n_1, c_3, nI_clamp (show k < 2 ^ 31 by omega), c_5]; done) | rfl)⟩ dX4_against_153
      · -- 145 not taken
        refine lv_iconst (v := 0) hx hb dX4_against_148 (by decide) ?_
        refine lv_goto (tgt := 153) hx hb dX4_against_149 (by decide) ?_
        exact b_iret hx hb hr hlocks hP hD hS (Nat.le_of_ble_eq_true rfl) (Nat.le_of_ble_eq_true rfl) ⟨(by first | with_reducible rfl | (simp [moAg3, n_1, c_3, nI_clamp (show k < 2 ^ 31 by omega), c_5]; done) | rfl), (by first | with_reducible rfl | (simp [moAg3, n_1, c_3, nI_clamp (show k < 2 ^ 31 by omega), c_5]; done) | rfl)⟩ dX4_against_153
    · -- 56 not taken
      refine lv_iconst (v := 1) hx hb dX4_against_59 (by decide) ?_
      exact b_iret hx hb hr hlocks hP hD hS (Nat.le_of_ble_eq_true rfl) (Nat.le_of_ble_eq_true rfl) ⟨(by first | with_reducible rfl | (simp [moAg3, n_1, c_3]; done) | rfl), (by first | with_reducible rfl | (simp [moAg3, n_1, c_3]; done) | rfl)⟩ dX4_against_60
  · -- 2 not taken
    have n_1 : 3 = 5 := (nI_eq (by omega) (by omega)).mp (show nI 3 = nI 5 from c_1)
    exact absurd n_1 (by omega)
set_option maxHeartbeats 4000000 in
set_option maxRecDepth 100000 in
theorem mt_Mo_against_4 (l : Launch) (Γ : GE) (sz : Nat) (a : Nat) (r : Nat → Nat) (i : Nat → Int32) (g : Nat → Int32) (c : Int32) (v : Int32) (n : Nat) (hg7 : g 7 = nI n) (hn : n ≤ 8) : KM l yX4_against cX4_against 4 (some FieldType.int) Γ 3 64 0 0 [.ref a, .int 4, .int c, .int v] [[(a, moE r i)], [((r 0), .inl (Γ.2.1 0, 523, .inl g))]] [] sz (Qi Γ (fun r_ u_ => r_ = (moAg1 g c) ∧ u_ = [[(a, moE r i)], [((r 0), .inl (Γ.2.1 0, 523, .inl g))]])) := by
  refine K_intro (by decide) (Nat.le_of_ble_eq_true rfl) ?_
  intro pr_ ev_ s mi_ below meth cd_ A ls hx hb hr hml hown hts hlocks hname hK hE hRo hP hD hA hS hsz hl
  have hl : lv_has ls 4 [(0, .ref a), (1, .int 4), (2, .int c), (3, .int v)] := hl
  have hown : s.vm.findClass RX4 = some mi_.cls := hown
  refine lv_iload_n hx hb dX4_against_0 rfl (lv_at hl 1 rfl) ?_
  refine lv_iconst (v := 5) hx hb dX4_against_1 (by decide) ?_
  refine lv_icmp_ne (tgt := 51) hx hb dX4_against_2 (by decide) (fun c_1 => ?_) (fun c_1 => ?_)
  · -- 2 taken
    have n_1 : ¬ (4 = 5) := fun h => c_1 ((nI_eq (a := 4) (b := 5) (by omega) (by omega)).mpr h)
    refine lv_aload_n hx hb dX4_against_51 rfl (lv_at hl 0 rfl) ?_
    refine lv_iload_n hx hb dX4_against_52 rfl (lv_at hl 2 rfl) ?_
    refine b_calli (br := []) (b_runV ⟨hx, hb, hml, hown, hts⟩ (mt_Mo_isKept l Γ _ a r i g c n (by first | exact hg7 | omega) (by first | exact hn | omega)) (lw_V q1916 q1918 qs35 q73 q1919) rfl rfl 1 (by decide +kernel) ⟨(Nat.le_of_ble_eq_true rfl), (Nat.le_of_ble_eq_true rfl)⟩ (c_pre hP hD hS hA hK hE [0, 1] rfl rfl ro_nil) (recv_at (q := (RX4, TX4, 16)) hK (b_at (k := 0) hP rfl) rfl) rfl hl.1 rfl (Nat.le_of_ble_eq_true rfl) dX4_against_53 ⟨(Nat.le_of_ble_eq_true rfl), (Nat.le_of_ble_eq_true rfl)⟩) hP hD hS hA [0, 1] [] rfl rfl rfl (fun r_2 u_2 H locs hw_2 hP hD hS _ => ?_)
    obtain ⟨rfl, rfl⟩ := hw_2
    have hP : WP Γ [[(a, moE r i)], [((r 0), .inl (Γ.2.1 0, 523, .inl g))]] H := hP
    have hD : WD A [[(a, moE r i)], [((r 0), .inl (Γ.2.1 0, 523, .inl g))]] := hD
    refine lv_if_ne (tgt := 61) hx hb dX4_against_56 (by decide) (fun c_3 => ?_) (fun c_3 => ?_)
    · -- 56 taken
      obtain ⟨k, hk, rfl⟩ := moKept_nat hg7 hn c_3
      refine lv_iload_n hx hb dX4_against_61 rfl (lv_at hl 1 rfl) ?_
      refine lv_tableOut (tgt := 154) hx hb dX4_against_62 (by decide) (by decide) ?_
      refine lv_iconst (v := 0) hx hb dX4_against_154 (by decide) ?_
      exact b_iret hx hb hr hlocks hP hD hS (Nat.le_of_ble_eq_true rfl) (Nat.le_of_ble_eq_true rfl) ⟨(by first | with_reducible rfl | (simp [moAg1, n_1, c_3, nI_clamp (show k < 2 ^ 31 by omega)]; done) | rfl), (by first | with_reducible rfl | (simp [moAg1, n_1, c_3, nI_clamp (show k < 2 ^ 31 by omega)]; done) | rfl)⟩ dX4_against_155
    · -- 56 not taken
      refine lv_iconst (v := 1) hx hb dX4_against_59 (by decide) ?_
      exact b_iret hx hb hr hlocks hP hD hS (Nat.le_of_ble_eq_true rfl) (Nat.le_of_ble_eq_true rfl) ⟨(by first | with_reducible rfl | (simp [moAg1, n_1, c_3]; done) | rfl), (by first | with_reducible rfl | (simp [moAg1, n_1, c_3]; done) | rfl)⟩ dX4_against_60
  · -- 2 not taken
    have n_1 : 4 = 5 := (nI_eq (by omega) (by omega)).mp (show nI 4 = nI 5 from c_1)
    exact absurd n_1 (by omega)
set_option maxHeartbeats 4000000 in
set_option maxRecDepth 100000 in
theorem mt_Mo_against_5 (l : Launch) (Γ : GE) (sz : Nat) (a : Nat) (r : Nat → Nat) (i : Nat → Int32) (g : Nat → Int32) (c : Int32) (v : Int32) (n : Nat) (hg10 : g 10 = nI n) (hn : n ≤ 200) : KM l yX4_against cX4_against 4 (some FieldType.int) Γ 1 22 0 0 [.ref a, .int 5, .int c, .int v] [[(a, moE r i)], [((r 0), .inl (Γ.2.1 0, 523, .inl g))]] [] sz (Qi Γ (fun r_ u_ => r_ = (moAg5 g c v n) ∧ u_ = [[(a, moE r i)], [((r 0), .inl (Γ.2.1 0, 523, .inl g))]])) := by
  refine K_intro (by decide) (Nat.le_of_ble_eq_true rfl) ?_
  intro pr_ ev_ s mi_ below meth cd_ A ls hx hb hr hml hown hts hlocks hname hK hE hRo hP hD hA hS hsz hl
  have hl : lv_has ls 4 [(0, .ref a), (1, .int 5), (2, .int c), (3, .int v)] := hl
  have hown : s.vm.findClass RX4 = some mi_.cls := hown
  refine lv_iload_n hx hb dX4_against_0 rfl (lv_at hl 1 rfl) ?_
  refine lv_iconst (v := 5) hx hb dX4_against_1 (by decide) ?_
  refine lv_icmp_ne (tgt := 51) hx hb dX4_against_2 (by decide) (fun c_1 => ?_) (fun c_1 => ?_)
  · -- 2 taken
    have n_1 : ¬ (5 = 5) := fun h => c_1 ((nI_eq (a := 5) (b := 5) (by omega) (by omega)).mpr h)
    exact absurd n_1 (by omega)
  · -- 2 not taken
    have n_1 : 5 = 5 := (nI_eq (by omega) (by omega)).mp (show nI 5 = nI 5 from c_1)
    refine lv_iload_n hx hb dX4_against_5 rfl (lv_at hl 2 rfl) ?_
    refine lv_iconst (v := 0) hx hb dX4_against_6 (by decide) ?_
    refine lv_sipush (v := 999) hx hb dX4_against_7 (by decide) ?_
    refine b_calli (br := [[(a, moE r i)], [((r 0), .inl (Γ.2.1 0, 523, .inl g))]]) (b_runS ⟨hx, hb, hml, hown, hts⟩ (mt_Mo_in l Γ _ c 0 999) (lw_S q1879 q1880 q73 q1881) rfl rfl 3 (by decide +kernel) ⟨(Nat.le_of_ble_eq_true rfl), (Nat.le_of_ble_eq_true rfl)⟩ (c_pre hP hD hS hA hK hE [] rfl rfl ro_nil) rfl hl.1 rfl (Nat.le_of_ble_eq_true rfl) dX4_against_10 ⟨(Nat.le_of_ble_eq_true rfl), (Nat.le_of_ble_eq_true rfl)⟩) hP hD hS hA [] [0, 1] rfl rfl rfl (fun r_2 u_2 H locs hw_2 hP hD hS _ => ?_)
    obtain ⟨rfl, rfl⟩ := hw_2
    have hP : WP Γ [[(a, moE r i)], [((r 0), .inl (Γ.2.1 0, 523, .inl g))]] H := hP
    have hD : WD A [[(a, moE r i)], [((r 0), .inl (Γ.2.1 0, 523, .inl g))]] := hD
    refine lv_if_eq (tgt := 45) hx hb dX4_against_13 (by decide) (fun c_3 => ?_) (fun c_3 => ?_)
    · -- 13 taken
      refine lv_iconst (v := 5) hx hb dX4_against_45 (by decide) ?_
      refine lv_goto (tgt := 50) hx hb dX4_against_46 (by decide) ?_
      exact b_iret hx hb hr hlocks hP hD hS (Nat.le_of_ble_eq_true rfl) (Nat.le_of_ble_eq_true rfl) ⟨(by first | with_reducible rfl | (simp [moAg5, n_1, c_3]; done) | rfl), (by first | with_reducible rfl | (simp [moAg5, n_1, c_3]; done) | rfl)⟩ dX4_against_50
    · -- 13 not taken
      refine lv_iload_n hx hb dX4_against_16 rfl (lv_at hl 3 rfl) ?_
      refine lv_iconst (v := 0) hx hb dX4_against_17 (by decide) ?_
      refine lv_bipush (v := 20) hx hb dX4_against_18 (by decide) ?_
      refine b_calli (br := [[(a, moE r i)], [((r 0), .inl (Γ.2.1 0, 523, .inl g))]]) (b_runS ⟨hx, hb, hml, hown, hts⟩ (mt_Mo_in l Γ _ v 0 20) (lw_S q1879 q1880 q73 q1881) rfl rfl 3 (by decide +kernel) ⟨(Nat.le_of_ble_eq_true rfl), (Nat.le_of_ble_eq_true rfl)⟩ (c_pre hP hD hS hA hK hE [] rfl rfl ro_nil) rfl hl.1 rfl (Nat.le_of_ble_eq_true rfl) dX4_against_20 ⟨(Nat.le_of_ble_eq_true rfl), (Nat.le_of_ble_eq_true rfl)⟩) hP hD hS hA [] [0, 1] rfl rfl rfl (fun r_4 u_4 H locs hw_4 hP hD hS _ => ?_)
      obtain ⟨rfl, rfl⟩ := hw_4
      have hP : WP Γ [[(a, moE r i)], [((r 0), .inl (Γ.2.1 0, 523, .inl g))]] H := hP
      have hD : WD A [[(a, moE r i)], [((r 0), .inl (Γ.2.1 0, 523, .inl g))]] := hD
      refine lv_if_eq (tgt := 45) hx hb dX4_against_23 (by decide) (fun c_5 => ?_) (fun c_5 => ?_)
      · -- 23 taken
        refine lv_iconst (v := 5) hx hb dX4_against_45 (by decide) ?_
        refine lv_goto (tgt := 50) hx hb dX4_against_46 (by decide) ?_
        exact b_iret hx hb hr hlocks hP hD hS (Nat.le_of_ble_eq_true rfl) (Nat.le_of_ble_eq_true rfl) ⟨(by first | with_reducible rfl | (simp [moAg5, n_1, c_3, c_5]; done) | rfl), (by first | with_reducible rfl | (simp [moAg5, n_1, c_3, c_5]; done) | rfl)⟩ dX4_against_50
      · -- 23 not taken
        refine lv_aload_n hx hb dX4_against_26 rfl (lv_at hl 0 rfl) ?_
        refine b_get (C := RX4) (T := TX4) (N := 16) (v := .ref (r 0)) hx hb hts in_X4 hown hK (b_at (k := 0) hP rfl) rfl 0 (by decide) q1807 (fun _ h9 => h9) rfl dX4_against_27 ?_
        refine lv_bipush (v := 10) hx hb dX4_against_30 (by decide) ?_
        refine b_iald hx hb hK (b_at (k := 1) hP rfl) 10 rfl (by omega) (by omega) dX4_against_32 ?_
        refine b_top (hg10) ?_
        refine lv_iconst (v := 4) hx hb dX4_against_33 (by decide) ?_
        refine lv_icmp_ne (tgt := 49) hx hb dX4_against_34 (by decide) (fun c_6 => ?_) (fun c_6 => ?_)
        · -- 34 taken
          have n_6 : ¬ (n = 4) := fun h => c_6 ((nI_eq (a := n) (b := 4) (by omega) (by omega)).mpr h)
          refine lv_iconst (v := 0) hx hb dX4_against_49 (by decide) ?_
          exact b_iret hx hb hr hlocks hP hD hS (Nat.le_of_ble_eq_true rfl) (Nat.le_of_ble_eq_true rfl) ⟨(by first | with_reducible rfl | (simp [moAg5, n_1, c_3, c_5, n_6]; done) | rfl), (by first | with_reducible rfl | (simp [moAg5, n_1, c_3, c_5, n_6]; done) | rfl)⟩ dX4_against_50
        · -- 34 not taken
          have n_6 : n = 4 := (nI_eq (by omega) (by omega)).mp (show nI n = nI 4 from c_6)
          refine lv_aload_n hx hb dX4_against_37 rfl (lv_at hl 0 rfl) ?_
          refine lv_iload_n hx hb dX4_against_38 rfl (lv_at hl 2 rfl) ?_
          refine b_calli (br := []) (b_runV ⟨hx, hb, hml, hown, hts⟩ (mt_Mo_rowOf l Γ _ a r i g c n (by first | exact hg10 | omega) (by first | exact hn | omega)) (lw_V q1912 q1914 qs34 q73 q1915) rfl rfl 1 (by decide +kernel) ⟨(Nat.le_of_ble_eq_true rfl), (Nat.le_of_ble_eq_true rfl)⟩ (c_pre hP hD hS hA hK hE [0, 1] rfl rfl ro_nil) (recv_at (q := (RX4, TX4, 16)) hK (b_at (k := 0) hP rfl) rfl) rfl hl.1 rfl (Nat.le_of_ble_eq_true rfl) dX4_against_39 ⟨(Nat.le_of_ble_eq_true rfl), (Nat.le_of_ble_eq_true rfl)⟩) hP hD hS hA [0, 1] [] rfl rfl rfl (fun r_7 u_7 H locs hw_7 hP hD hS _ => ?_)
          obtain ⟨rfl, rfl⟩ := hw_7
          have hP : WP Γ [[(a, moE r i)], [((r 0), .inl (Γ.2.1 0, 523, .inl g))]] H := hP
          have hD : WD A [[(a, moE r i)], [((r 0), .inl (Γ.2.1 0, 523, .inl g))]] := hD
          refine lv_if_ge (tgt := 49) hx hb dX4_against_42 (by decide) (fun c_8 => ?_) (fun c_8 => ?_)
          · -- 42 taken
            have d_8 := Int32.not_lt.mpr c_8
            refine lv_iconst (v := 0) hx hb dX4_against_49 (by decide) ?_
            exact b_iret hx hb hr hlocks hP hD hS (Nat.le_of_ble_eq_true rfl) (Nat.le_of_ble_eq_true rfl) ⟨(by first | with_reducible rfl | (simp [moAg5, n_1, c_3, c_5, n_6, c_8, d_8]; done) | (subst n_6; simp [moAg5, n_1, c_3, c_5, c_8, d_8]; done) | rfl), (by first | with_reducible rfl | (simp [moAg5, n_1, c_3, c_5, n_6, c_8, d_8]; done) | (subst n_6; simp [moAg5, n_1, c_3, c_5, c_8, d_8]; done) | rfl)⟩ dX4_against_50
          · -- 42 not taken
            have d_8 := Int32.not_le.mp c_8
            refine lv_iconst (v := 5) hx hb dX4_against_45 (by decide) ?_
            refine lv_goto (tgt := 50) hx hb dX4_against_46 (by decide) ?_
            exact b_iret hx hb hr hlocks hP hD hS (Nat.le_of_ble_eq_true rfl) (Nat.le_of_ble_eq_true rfl) ⟨(by first | with_reducible rfl | (simp [moAg5, n_1, c_3, c_5, n_6, c_8, d_8]; done) | (subst n_6; simp [moAg5, n_1, c_3, c_5, c_8, d_8]; done) | rfl), (by first | with_reducible rfl | (simp [moAg5, n_1, c_3, c_5, n_6, c_8, d_8]; done) | (subst n_6; simp [moAg5, n_1, c_3, c_5, c_8, d_8]; done) | rfl)⟩ dX4_against_50
theorem moRowF_nat {g : Nat → Int32} {lim : Int32} : ∀ (f j : Nat), j + f < 2 ^ 31 → ¬ moRowF g lim f j < 0 → ∃ k : Nat, j ≤ k ∧ k < j + f ∧ moRowF g lim f j = nI k ∧ g (2 * k + 95) = lim := by
  intro f
  induction f with
  | zero => intro j _ h; exact absurd (show (-1 : Int32) < 0 by decide) h
  | succ f ih =>
    intro j hj h
    rw [moRowF] at h ⊢
    by_cases e : g (2 * j + 95) = lim
    · rw [if_pos e]
      exact ⟨j, by omega, by omega, rfl, e⟩
    · rw [if_neg e] at h ⊢
      obtain ⟨k, h1, h2, h3, h4⟩ := ih (j + 1) (by omega) h
      exact ⟨k, by omega, by omega, h3, h4⟩
theorem moRow_nat {g : Nat → Int32} {lim : Int32} {n : Nat} (hn : n < 2 ^ 31) (h : ¬ moRow g lim n < 0) : ∃ k : Nat, k < n ∧ moRow g lim n = nI k := by
  obtain ⟨k, -, h2, h3, -⟩ := moRowF_nat (f := n) (j := 0) (by omega) h
  exact ⟨k, by omega, h3⟩
def moRowPut (g : Nat → Int32) (lim bon : Int32) (k : Nat) : Nat → Int32 := upd (upd g (2 * k + 95) lim) (2 * k + 96) bon
def moRowEnd (g : Nat → Int32) (lim bon : Int32) (k : Nat) : Nat → Int32 := moRowPut (upd g 10 (g 10 + 1)) lim bon k
def moIns (lim bon : Int32) : (Nat → Int32) → Nat → (Nat → Int32)
  | g, 0 => moRowEnd g lim bon 0
  | g, k + 1 => if lim < g (2 * k + 95) then moIns lim bon (upd (upd g (2 * k + 97) (g (2 * k + 95))) (2 * k + 98) (g (2 * k + 96))) k else moRowEnd g lim bon (k + 1)
def moRows (g : Nat → Int32) (lim bon : Int32) (n : Nat) : Nat → Int32 := if moRow g lim n < 0 then moIns lim bon g n else moRowPut g lim bon (moRow g lim n).toNatClampNeg
set_option maxHeartbeats 4000000 in
set_option maxRecDepth 100000 in
theorem mt_Mo_rows (l : Launch) (Γ : GE) (sz : Nat) (a : Nat) (r : Nat → Nat) (i : Nat → Int32) (g : Nat → Int32) (lim : Int32) (bon : Int32) (n : Nat) (hg10 : g 10 = nI n) (hn : n ≤ 200) : KM l yX4_rows cX4_rows 4 (some FieldType.int) Γ 1 22 0 0 [.ref a, .int lim, .int bon] [[(a, moE r i)], [((r 0), .inl (Γ.2.1 0, 523, .inl g))]] [] sz (Qi Γ (fun r_ u_ => r_ = (moRows g lim bon n 10) ∧ u_ = [[(a, moE r i)], [((r 0), .inl (Γ.2.1 0, 523, .inl (moRows g lim bon n)))]])) := by
  refine K_intro (by decide) (Nat.le_of_ble_eq_true rfl) ?_
  intro pr_ ev_ s mi_ below meth cd_ A ls hx hb hr hml hown hts hlocks hname hK hE hRo hP hD hA hS hsz hl
  have hl : lv_has ls 4 [(0, .ref a), (1, .int lim), (2, .int bon)] := hl
  have hown : s.vm.findClass RX4 = some mi_.cls := hown
  refine lv_aload_n hx hb dX4_rows_0 rfl (lv_at hl 0 rfl) ?_
  refine lv_iload_n hx hb dX4_rows_1 rfl (lv_at hl 1 rfl) ?_
  refine b_calli (br := []) (b_runV ⟨hx, hb, hml, hown, hts⟩ (mt_Mo_rowOf l Γ _ a r i g lim n (by first | exact hg10 | omega) (by first | exact hn | omega)) (lw_V q1912 q1914 qs34 q73 q1915) rfl rfl 1 (by decide +kernel) ⟨(Nat.le_of_ble_eq_true rfl), (Nat.le_of_ble_eq_true rfl)⟩ (c_pre hP hD hS hA hK hE [0, 1] rfl rfl ro_nil) (recv_at (q := (RX4, TX4, 16)) hK (b_at (k := 0) hP rfl) rfl) rfl hl.1 rfl (Nat.le_of_ble_eq_true rfl) dX4_rows_2 ⟨(Nat.le_of_ble_eq_true rfl), (Nat.le_of_ble_eq_true rfl)⟩) hP hD hS hA [0, 1] [] rfl rfl rfl (fun r_1 u_1 H locs hw_1 hP hD hS _ => ?_)
  obtain ⟨rfl, rfl⟩ := hw_1
  have hP : WP Γ [[(a, moE r i)], [((r 0), .inl (Γ.2.1 0, 523, .inl g))]] H := hP
  have hD : WD A [[(a, moE r i)], [((r 0), .inl (Γ.2.1 0, 523, .inl g))]] := hD
  refine lv_istore_n (lv' := [(3, .int (moRow g lim n)), (0, .ref a), (1, .int lim), (2, .int bon)]) hx hb dX4_rows_5 rfl hl (by decide) rfl (fun ls hl => ?_)
  refine lv_iload_n hx hb dX4_rows_6 rfl (lv_at hl 0 rfl) ?_
  refine lv_if_ge (tgt := 106) hx hb dX4_rows_7 (by decide) (fun c_2 => ?_) (fun c_2 => ?_)
  · -- 7 taken
    have d_2 := Int32.not_lt.mpr c_2
    obtain ⟨k, hk, ek⟩ := moRow_nat (by omega) d_2
    rw [ek] at hl
    have em : moRows g lim bon n = moRowPut g lim bon k := by rw [moRows, if_neg (by rw [ek]; exact nI_pos (by omega)), ek, nI_clamp (by omega)]
    refine lv_aload_n hx hb dX4_rows_106 rfl (lv_at hl 1 rfl) ?_
    refine b_get (C := RX4) (T := TX4) (N := 16) (v := .ref (r 0)) hx hb hts in_X4 hown hK (b_at (k := 0) hP rfl) rfl 0 (by decide) q1807 (fun _ h9 => h9) rfl dX4_rows_107 ?_
    refine lv_bipush (v := 95) hx hb dX4_rows_110 (by decide) ?_
    refine lv_iconst (v := 2) hx hb dX4_rows_112 (by decide) ?_
    refine lv_iload_n hx hb dX4_rows_113 rfl (lv_at hl 0 rfl) ?_
    refine lv_imul hx hb dX4_rows_114 ?_
    refine b_top (nI_mulE (a := 2) (b := k) (c := 2 * k) rfl rfl (by first | omega | rfl)) ?_
    refine lv_iadd hx hb dX4_rows_115 ?_
    refine b_top (nI_addE (a := 95) (b := 2 * k) (c := 2 * k + 95) rfl rfl (by first | omega | rfl)) ?_
    refine lv_iload_n hx hb dX4_rows_116 rfl (lv_at hl 2 rfl) ?_
    refine b_iast hx hb hK hP hD hS 1 rfl (2 * k + 95) rfl (by omega) (by omega) dX4_rows_117 (fun H locs hP hD hS => ?_)
    have hP : WP Γ [[(a, moE r i)], [((r 0), .inl (Γ.2.1 0, 523, .inl (upd g (2 * k + 95) lim)))]] H := hP
    have hD : WD A [[(a, moE r i)], [((r 0), .inl (Γ.2.1 0, 523, .inl (upd g (2 * k + 95) lim)))]] := hD
    refine lv_aload_n hx hb dX4_rows_118 rfl (lv_at hl 1 rfl) ?_
    refine b_get (C := RX4) (T := TX4) (N := 16) (v := .ref (r 0)) hx hb hts in_X4 hown hK (b_at (k := 0) hP rfl) rfl 0 (by decide) q1807 (fun _ h9 => h9) rfl dX4_rows_119 ?_
    refine lv_bipush (v := 95) hx hb dX4_rows_122 (by decide) ?_
    refine lv_iconst (v := 2) hx hb dX4_rows_124 (by decide) ?_
    refine lv_iload_n hx hb dX4_rows_125 rfl (lv_at hl 0 rfl) ?_
    refine lv_imul hx hb dX4_rows_126 ?_
    refine b_top (nI_mulE (a := 2) (b := k) (c := 2 * k) rfl rfl (by first | omega | rfl)) ?_
    refine lv_iadd hx hb dX4_rows_127 ?_
    refine b_top (nI_addE (a := 95) (b := 2 * k) (c := 2 * k + 95) rfl rfl (by first | omega | rfl)) ?_
    refine lv_iconst (v := 1) hx hb dX4_rows_128 (by decide) ?_
    refine lv_iadd hx hb dX4_rows_129 ?_
    refine b_top (nI_addE (a := 2 * k + 95) (b := 1) (c := 2 * k + 96) rfl rfl (by first | omega | rfl)) ?_
    refine lv_iload_n hx hb dX4_rows_130 rfl (lv_at hl 3 rfl) ?_
    refine b_iast hx hb hK hP hD hS 1 rfl (2 * k + 96) rfl (by omega) (by omega) dX4_rows_131 (fun H locs hP hD hS => ?_)
    have hP : WP Γ [[(a, moE r i)], [((r 0), .inl (Γ.2.1 0, 523, .inl (upd (upd g (2 * k + 95) lim) (2 * k + 96) bon)))]] H := hP
    have hD : WD A [[(a, moE r i)], [((r 0), .inl (Γ.2.1 0, 523, .inl (upd (upd g (2 * k + 95) lim) (2 * k + 96) bon)))]] := hD
    refine lv_aload_n hx hb dX4_rows_132 rfl (lv_at hl 1 rfl) ?_
    refine b_get (C := RX4) (T := TX4) (N := 16) (v := .ref (r 0)) hx hb hts in_X4 hown hK (b_at (k := 0) hP rfl) rfl 0 (by decide) q1807 (fun _ h9 => h9) rfl dX4_rows_133 ?_
    refine lv_bipush (v := 10) hx hb dX4_rows_136 (by decide) ?_
    refine b_iald hx hb hK (b_at (k := 1) hP rfl) 10 rfl (by omega) (by omega) dX4_rows_138 ?_
    refine b_top (show (upd (upd g (2 * k + 95) lim) (2 * k + 96) bon 10) = (g 10) from by rw [pk_un (by omega), pk_un (by omega)]) ?_
    refine b_top (hg10) ?_
    exact b_iret hx hb hr hlocks hP hD hS (Nat.le_of_ble_eq_true rfl) (Nat.le_of_ble_eq_true rfl) ⟨(by rw [em]; simp [moRowEnd, moRowPut, upd, Nat.mul_add, hg10]), (by rw [em]; simp [moRowEnd, moRowPut, Nat.mul_add])⟩ dX4_rows_139
  · -- 7 not taken
    have d_2 := Int32.not_le.mp c_2
    refine lv_aload_n hx hb dX4_rows_10 rfl (lv_at hl 1 rfl) ?_
    refine b_get (C := RX4) (T := TX4) (N := 16) (v := .ref (r 0)) hx hb hts in_X4 hown hK (b_at (k := 0) hP rfl) rfl 0 (by decide) q1807 (fun _ h9 => h9) rfl dX4_rows_11 ?_
    refine lv_bipush (v := 10) hx hb dX4_rows_14 (by decide) ?_
    refine b_iald hx hb hK (b_at (k := 1) hP rfl) 10 rfl (by omega) (by omega) dX4_rows_16 ?_
    refine b_top (hg10) ?_
    refine lv_istore_n (lv' := [(3, .int (nI n)), (0, .ref a), (1, .int lim), (2, .int bon)]) hx hb dX4_rows_17 rfl hl (by decide) rfl (fun ls hl => ?_)
    have loop_3 : ∀ (fuel : Nat) (gq : Nat → Int32) (k : Nat), k < fuel → (k ≤ n) → (moRows g lim bon n = moIns lim bon gq k) → ∀ (H : Heap) (locs : List Loc) (ls : Array Slot), WP Γ [[(a, moE r i)], [((r 0), .inl (Γ.2.1 0, 523, .inl gq))]] H → WD A [[(a, moE r i)], [((r 0), .inl (Γ.2.1 0, 523, .inl gq))]] → va_S A s.heap H locs → lv_has ls 4 [(3, .int (nI k)), (0, .ref a), (1, .int lim), (2, .int bon)] → W pr_ l ev_ { frames := 1, cells := 0, slots := 0, locals := 22 } s mi_ ([.ref a, .int lim, .int bon] : List Value).toArray below meth cd_ H locs 0 0 (MQ below (Qi Γ (fun r_ u_ => r_ = (moRows g lim bon n 10) ∧ u_ = [[(a, moE r i)], [((r 0), .inl (Γ.2.1 0, 523, .inl (moRows g lim bon n)))]]) A) ([.ref a, .int lim, .int bon] : List Value).toArray s 0 0 A) (F0 mi_ 18 ls ([])) := by
      intro fuel
      induction fuel with
      | zero => intro gq k hfuel; exact absurd hfuel (Nat.not_lt_zero _)
      | succ fuel ih =>
        intro gq k hfuel hk hI H locs ls hP hD hS hl
        refine lv_iload_n hx hb dX4_rows_18 rfl (lv_at hl 0 rfl) ?_
        refine lv_if_le (tgt := 95) hx hb dX4_rows_19 (by decide) (fun c_4 => ?_) (fun c_4 => ?_)
        · -- 19 taken
          have n_4 : k ≤ 0 := (nI_leI (by omega) (by omega)).mp (show nI k ≤ nI 0 from c_4)
          have m_4 : ¬ (0 < k) := by omega
          have d_4 := Int32.not_lt.mpr c_4
          obtain rfl : k = 0 := by omega
          have em : moRows g lim bon n = moRowEnd gq lim bon 0 := by rw [hI, moIns]
          refine lv_aload_n hx hb dX4_rows_95 rfl (lv_at hl 1 rfl) ?_
          refine b_get (C := RX4) (T := TX4) (N := 16) (v := .ref (r 0)) hx hb hts in_X4 hown hK (b_at (k := 0) hP rfl) rfl 0 (by decide) q1807 (fun _ h9 => h9) rfl dX4_rows_96 ?_
          refine lv_bipush (v := 10) hx hb dX4_rows_99 (by decide) ?_
          refine lv_dup2_11 hx hb dX4_rows_101 rfl rfl ?_
          refine b_iald hx hb hK (b_at (k := 1) hP rfl) 10 rfl (by omega) (by omega) dX4_rows_102 ?_
          refine lv_iconst (v := 1) hx hb dX4_rows_103 (by decide) ?_
          refine lv_iadd hx hb dX4_rows_104 ?_
          refine b_iast hx hb hK hP hD hS 1 rfl 10 rfl (by omega) (by omega) dX4_rows_105 (fun H locs hP hD hS => ?_)
          have hP : WP Γ [[(a, moE r i)], [((r 0), .inl (Γ.2.1 0, 523, .inl (upd gq 10 ((gq 10) + 1))))]] H := hP
          have hD : WD A [[(a, moE r i)], [((r 0), .inl (Γ.2.1 0, 523, .inl (upd gq 10 ((gq 10) + 1))))]] := hD
          refine lv_aload_n hx hb dX4_rows_106 rfl (lv_at hl 1 rfl) ?_
          refine b_get (C := RX4) (T := TX4) (N := 16) (v := .ref (r 0)) hx hb hts in_X4 hown hK (b_at (k := 0) hP rfl) rfl 0 (by decide) q1807 (fun _ h9 => h9) rfl dX4_rows_107 ?_
          refine lv_bipush (v := 95) hx hb dX4_rows_110 (by decide) ?_
          refine lv_iconst (v := 2) hx hb dX4_rows_112 (by decide) ?_
          refine lv_iload_n hx hb dX4_rows_113 rfl (lv_at hl 0 rfl) ?_
          refine lv_imul hx hb dX4_rows_114 ?_
          refine b_top (nI_mulE (a := 2) (b := 0) (c := 0) rfl rfl (by first | omega | rfl)) ?_
          refine lv_iadd hx hb dX4_rows_115 ?_
          refine b_top (nI_addE (a := 95) (b := 0) (c := 95) rfl rfl (by first | omega | rfl)) ?_
          refine lv_iload_n hx hb dX4_rows_116 rfl (lv_at hl 2 rfl) ?_
          refine b_iast hx hb hK hP hD hS 1 rfl 95 rfl (by omega) (by omega) dX4_rows_117 (fun H locs hP hD hS => ?_)
          have hP : WP Γ [[(a, moE r i)], [((r 0), .inl (Γ.2.1 0, 523, .inl (upd (upd gq 10 ((gq 10) + 1)) 95 lim)))]] H := hP
          have hD : WD A [[(a, moE r i)], [((r 0), .inl (Γ.2.1 0, 523, .inl (upd (upd gq 10 ((gq 10) + 1)) 95 lim)))]] := hD
          refine lv_aload_n hx hb dX4_rows_118 rfl (lv_at hl 1 rfl) ?_
          refine b_get (C := RX4) (T := TX4) (N := 16) (v := .ref (r 0)) hx hb hts in_X4 hown hK (b_at (k := 0) hP rfl) rfl 0 (by decide) q1807 (fun _ h9 => h9) rfl dX4_rows_119 ?_
          refine lv_bipush (v := 95) hx hb dX4_rows_122 (by decide) ?_
          refine lv_iconst (v := 2) hx hb dX4_rows_124 (by decide) ?_
          refine lv_iload_n hx hb dX4_rows_125 rfl (lv_at hl 0 rfl) ?_
          refine lv_imul hx hb dX4_rows_126 ?_
          refine b_top (nI_mulE (a := 2) (b := 0) (c := 0) rfl rfl (by first | omega | rfl)) ?_
          refine lv_iadd hx hb dX4_rows_127 ?_
          refine b_top (nI_addE (a := 95) (b := 0) (c := 95) rfl rfl (by first | omega | rfl)) ?_
          refine lv_iconst (v := 1) hx hb dX4_rows_128 (by decide) ?_
          refine lv_iadd hx hb dX4_rows_129 ?_
          refine b_top (nI_addE (a := 95) (b := 1) (c := 96) rfl rfl (by first | omega | rfl)) ?_
          refine lv_iload_n hx hb dX4_rows_130 rfl (lv_at hl 3 rfl) ?_
          refine b_iast hx hb hK hP hD hS 1 rfl 96 rfl (by omega) (by omega) dX4_rows_131 (fun H locs hP hD hS => ?_)
          have hP : WP Γ [[(a, moE r i)], [((r 0), .inl (Γ.2.1 0, 523, .inl (upd (upd (upd gq 10 ((gq 10) + 1)) 95 lim) 96 bon)))]] H := hP
          have hD : WD A [[(a, moE r i)], [((r 0), .inl (Γ.2.1 0, 523, .inl (upd (upd (upd gq 10 ((gq 10) + 1)) 95 lim) 96 bon)))]] := hD
          refine lv_aload_n hx hb dX4_rows_132 rfl (lv_at hl 1 rfl) ?_
          refine b_get (C := RX4) (T := TX4) (N := 16) (v := .ref (r 0)) hx hb hts in_X4 hown hK (b_at (k := 0) hP rfl) rfl 0 (by decide) q1807 (fun _ h9 => h9) rfl dX4_rows_133 ?_
          refine lv_bipush (v := 10) hx hb dX4_rows_136 (by decide) ?_
          refine b_iald hx hb hK (b_at (k := 1) hP rfl) 10 rfl (by omega) (by omega) dX4_rows_138 ?_
          refine b_top (show (upd (upd (upd gq 10 ((gq 10) + 1)) 95 lim) 96 bon 10) = ((gq 10) + 1) from by rw [pk_un (by omega), pk_un (by omega), pk_us]) ?_
          exact b_iret hx hb hr hlocks hP hD hS (Nat.le_of_ble_eq_true rfl) (Nat.le_of_ble_eq_true rfl) ⟨(by rw [em]; simp [moRowEnd, moRowPut, upd, Nat.mul_add, hg10]), (by rw [em]; simp [moRowEnd, moRowPut, Nat.mul_add])⟩ dX4_rows_139
        · -- 19 not taken
          have n_4 : ¬ (k ≤ 0) := fun h => c_4 ((nI_leI (a := k) (b := 0) (by omega) (by omega)).mpr h)
          have m_4 : 0 < k := by omega
          have d_4 := Int32.not_le.mp c_4
          obtain ⟨k1, rfl⟩ : ∃ q, k = q + 1 := ⟨k - 1, by omega⟩
          refine lv_aload_n hx hb dX4_rows_22 rfl (lv_at hl 1 rfl) ?_
          refine b_get (C := RX4) (T := TX4) (N := 16) (v := .ref (r 0)) hx hb hts in_X4 hown hK (b_at (k := 0) hP rfl) rfl 0 (by decide) q1807 (fun _ h9 => h9) rfl dX4_rows_23 ?_
          refine lv_bipush (v := 95) hx hb dX4_rows_26 (by decide) ?_
          refine lv_iconst (v := 2) hx hb dX4_rows_28 (by decide) ?_
          refine lv_iload_n hx hb dX4_rows_29 rfl (lv_at hl 0 rfl) ?_
          refine lv_imul hx hb dX4_rows_30 ?_
          refine b_top (nI_mulE (a := 2) (b := k1 + 1) (c := 2 * k1 + 2) rfl rfl (by first | omega | rfl)) ?_
          refine lv_iadd hx hb dX4_rows_31 ?_
          refine b_top (nI_addE (a := 95) (b := 2 * k1 + 2) (c := 2 * k1 + 97) rfl rfl (by first | omega | rfl)) ?_
          refine lv_iconst (v := 2) hx hb dX4_rows_32 (by decide) ?_
          refine lv_isub hx hb dX4_rows_33 ?_
          refine b_top (nI_subE (a := 2 * k1 + 97) (b := 2) (c := 2 * k1 + 95) rfl rfl (by first | omega | rfl)) ?_
          refine b_iald hx hb hK (b_at (k := 1) hP rfl) (2 * k1 + 95) rfl (by omega) (by omega) dX4_rows_34 ?_
          refine lv_iload_n hx hb dX4_rows_35 rfl (lv_at hl 2 rfl) ?_
          refine lv_icmp_le (tgt := 95) hx hb dX4_rows_36 (by decide) (fun c_5 => ?_) (fun c_5 => ?_)
          · -- 36 taken
            have d_5 := Int32.not_lt.mpr c_5
            have em : moRows g lim bon n = moRowEnd gq lim bon (k1 + 1) := by rw [hI, moIns, if_neg d_5]
            refine lv_aload_n hx hb dX4_rows_95 rfl (lv_at hl 1 rfl) ?_
            refine b_get (C := RX4) (T := TX4) (N := 16) (v := .ref (r 0)) hx hb hts in_X4 hown hK (b_at (k := 0) hP rfl) rfl 0 (by decide) q1807 (fun _ h9 => h9) rfl dX4_rows_96 ?_
            refine lv_bipush (v := 10) hx hb dX4_rows_99 (by decide) ?_
            refine lv_dup2_11 hx hb dX4_rows_101 rfl rfl ?_
            refine b_iald hx hb hK (b_at (k := 1) hP rfl) 10 rfl (by omega) (by omega) dX4_rows_102 ?_
            refine lv_iconst (v := 1) hx hb dX4_rows_103 (by decide) ?_
            refine lv_iadd hx hb dX4_rows_104 ?_
            refine b_iast hx hb hK hP hD hS 1 rfl 10 rfl (by omega) (by omega) dX4_rows_105 (fun H locs hP hD hS => ?_)
            have hP : WP Γ [[(a, moE r i)], [((r 0), .inl (Γ.2.1 0, 523, .inl (upd gq 10 ((gq 10) + 1))))]] H := hP
            have hD : WD A [[(a, moE r i)], [((r 0), .inl (Γ.2.1 0, 523, .inl (upd gq 10 ((gq 10) + 1))))]] := hD
            refine lv_aload_n hx hb dX4_rows_106 rfl (lv_at hl 1 rfl) ?_
            refine b_get (C := RX4) (T := TX4) (N := 16) (v := .ref (r 0)) hx hb hts in_X4 hown hK (b_at (k := 0) hP rfl) rfl 0 (by decide) q1807 (fun _ h9 => h9) rfl dX4_rows_107 ?_
            refine lv_bipush (v := 95) hx hb dX4_rows_110 (by decide) ?_
            refine lv_iconst (v := 2) hx hb dX4_rows_112 (by decide) ?_
            refine lv_iload_n hx hb dX4_rows_113 rfl (lv_at hl 0 rfl) ?_
            refine lv_imul hx hb dX4_rows_114 ?_
            refine b_top (nI_mulE (a := 2) (b := k1 + 1) (c := 2 * k1 + 2) rfl rfl (by first | omega | rfl)) ?_
            refine lv_iadd hx hb dX4_rows_115 ?_
            refine b_top (nI_addE (a := 95) (b := 2 * k1 + 2) (c := 2 * k1 + 97) rfl rfl (by first | omega | rfl)) ?_
            refine lv_iload_n hx hb dX4_rows_116 rfl (lv_at hl 2 rfl) ?_
            refine b_iast hx hb hK hP hD hS 1 rfl (2 * k1 + 97) rfl (by omega) (by omega) dX4_rows_117 (fun H locs hP hD hS => ?_)
            have hP : WP Γ [[(a, moE r i)], [((r 0), .inl (Γ.2.1 0, 523, .inl (upd (upd gq 10 ((gq 10) + 1)) (2 * k1 + 97) lim)))]] H := hP
            have hD : WD A [[(a, moE r i)], [((r 0), .inl (Γ.2.1 0, 523, .inl (upd (upd gq 10 ((gq 10) + 1)) (2 * k1 + 97) lim)))]] := hD
            refine lv_aload_n hx hb dX4_rows_118 rfl (lv_at hl 1 rfl) ?_
            refine b_get (C := RX4) (T := TX4) (N := 16) (v := .ref (r 0)) hx hb hts in_X4 hown hK (b_at (k := 0) hP rfl) rfl 0 (by decide) q1807 (fun _ h9 => h9) rfl dX4_rows_119 ?_
            refine lv_bipush (v := 95) hx hb dX4_rows_122 (by decide) ?_
            refine lv_iconst (v := 2) hx hb dX4_rows_124 (by decide) ?_
            refine lv_iload_n hx hb dX4_rows_125 rfl (lv_at hl 0 rfl) ?_
            refine lv_imul hx hb dX4_rows_126 ?_
            refine b_top (nI_mulE (a := 2) (b := k1 + 1) (c := 2 * k1 + 2) rfl rfl (by first | omega | rfl)) ?_
            refine lv_iadd hx hb dX4_rows_127 ?_
            refine b_top (nI_addE (a := 95) (b := 2 * k1 + 2) (c := 2 * k1 + 97) rfl rfl (by first | omega | rfl)) ?_
            refine lv_iconst (v := 1) hx hb dX4_rows_128 (by decide) ?_
            refine lv_iadd hx hb dX4_rows_129 ?_
            refine b_top (nI_addE (a := 2 * k1 + 97) (b := 1) (c := 2 * k1 + 98) rfl rfl (by first | omega | rfl)) ?_
            refine lv_iload_n hx hb dX4_rows_130 rfl (lv_at hl 3 rfl) ?_
            refine b_iast hx hb hK hP hD hS 1 rfl (2 * k1 + 98) rfl (by omega) (by omega) dX4_rows_131 (fun H locs hP hD hS => ?_)
            have hP : WP Γ [[(a, moE r i)], [((r 0), .inl (Γ.2.1 0, 523, .inl (upd (upd (upd gq 10 ((gq 10) + 1)) (2 * k1 + 97) lim) (2 * k1 + 98) bon)))]] H := hP
            have hD : WD A [[(a, moE r i)], [((r 0), .inl (Γ.2.1 0, 523, .inl (upd (upd (upd gq 10 ((gq 10) + 1)) (2 * k1 + 97) lim) (2 * k1 + 98) bon)))]] := hD
            refine lv_aload_n hx hb dX4_rows_132 rfl (lv_at hl 1 rfl) ?_
            refine b_get (C := RX4) (T := TX4) (N := 16) (v := .ref (r 0)) hx hb hts in_X4 hown hK (b_at (k := 0) hP rfl) rfl 0 (by decide) q1807 (fun _ h9 => h9) rfl dX4_rows_133 ?_
            refine lv_bipush (v := 10) hx hb dX4_rows_136 (by decide) ?_
            refine b_iald hx hb hK (b_at (k := 1) hP rfl) 10 rfl (by omega) (by omega) dX4_rows_138 ?_
            refine b_top (show (upd (upd (upd gq 10 ((gq 10) + 1)) (2 * k1 + 97) lim) (2 * k1 + 98) bon 10) = ((gq 10) + 1) from by rw [pk_un (by omega), pk_un (by omega), pk_us]) ?_
            exact b_iret hx hb hr hlocks hP hD hS (Nat.le_of_ble_eq_true rfl) (Nat.le_of_ble_eq_true rfl) ⟨(by rw [em]; simp [moRowEnd, moRowPut, upd, Nat.mul_add, hg10]), (by rw [em]; simp [moRowEnd, moRowPut, Nat.mul_add])⟩ dX4_rows_139
          · -- 36 not taken
            have d_5 := Int32.not_le.mp c_5
            refine lv_aload_n hx hb dX4_rows_39 rfl (lv_at hl 1 rfl) ?_
            refine b_get (C := RX4) (T := TX4) (N := 16) (v := .ref (r 0)) hx hb hts in_X4 hown hK (b_at (k := 0) hP rfl) rfl 0 (by decide) q1807 (fun _ h9 => h9) rfl dX4_rows_40 ?_
            refine lv_bipush (v := 95) hx hb dX4_rows_43 (by decide) ?_
            refine lv_iconst (v := 2) hx hb dX4_rows_45 (by decide) ?_
            refine lv_iload_n hx hb dX4_rows_46 rfl (lv_at hl 0 rfl) ?_
            refine lv_imul hx hb dX4_rows_47 ?_
            refine b_top (nI_mulE (a := 2) (b := k1 + 1) (c := 2 * k1 + 2) rfl rfl (by first | omega | rfl)) ?_
            refine lv_iadd hx hb dX4_rows_48 ?_
            refine b_top (nI_addE (a := 95) (b := 2 * k1 + 2) (c := 2 * k1 + 97) rfl rfl (by first | omega | rfl)) ?_
            refine lv_aload_n hx hb dX4_rows_49 rfl (lv_at hl 1 rfl) ?_
            refine b_get (C := RX4) (T := TX4) (N := 16) (v := .ref (r 0)) hx hb hts in_X4 hown hK (b_at (k := 0) hP rfl) rfl 0 (by decide) q1807 (fun _ h9 => h9) rfl dX4_rows_50 ?_
            refine lv_bipush (v := 95) hx hb dX4_rows_53 (by decide) ?_
            refine lv_iconst (v := 2) hx hb dX4_rows_55 (by decide) ?_
            refine lv_iload_n hx hb dX4_rows_56 rfl (lv_at hl 0 rfl) ?_
            refine lv_imul hx hb dX4_rows_57 ?_
            refine b_top (nI_mulE (a := 2) (b := k1 + 1) (c := 2 * k1 + 2) rfl rfl (by first | omega | rfl)) ?_
            refine lv_iadd hx hb dX4_rows_58 ?_
            refine b_top (nI_addE (a := 95) (b := 2 * k1 + 2) (c := 2 * k1 + 97) rfl rfl (by first | omega | rfl)) ?_
            refine lv_iconst (v := 2) hx hb dX4_rows_59 (by decide) ?_
            refine lv_isub hx hb dX4_rows_60 ?_
            refine b_top (nI_subE (a := 2 * k1 + 97) (b := 2) (c := 2 * k1 + 95) rfl rfl (by first | omega | rfl)) ?_
            refine b_iald hx hb hK (b_at (k := 1) hP rfl) (2 * k1 + 95) rfl (by omega) (by omega) dX4_rows_61 ?_
            refine b_iast hx hb hK hP hD hS 1 rfl (2 * k1 + 97) rfl (by omega) (by omega) dX4_rows_62 (fun H locs hP hD hS => ?_)
            have hP : WP Γ [[(a, moE r i)], [((r 0), .inl (Γ.2.1 0, 523, .inl (upd gq (2 * k1 + 97) (gq (2 * k1 + 95)))))]] H := hP
            have hD : WD A [[(a, moE r i)], [((r 0), .inl (Γ.2.1 0, 523, .inl (upd gq (2 * k1 + 97) (gq (2 * k1 + 95)))))]] := hD
            refine lv_aload_n hx hb dX4_rows_63 rfl (lv_at hl 1 rfl) ?_
            refine b_get (C := RX4) (T := TX4) (N := 16) (v := .ref (r 0)) hx hb hts in_X4 hown hK (b_at (k := 0) hP rfl) rfl 0 (by decide) q1807 (fun _ h9 => h9) rfl dX4_rows_64 ?_
            refine lv_bipush (v := 95) hx hb dX4_rows_67 (by decide) ?_
            refine lv_iconst (v := 2) hx hb dX4_rows_69 (by decide) ?_
            refine lv_iload_n hx hb dX4_rows_70 rfl (lv_at hl 0 rfl) ?_
            refine lv_imul hx hb dX4_rows_71 ?_
            refine b_top (nI_mulE (a := 2) (b := k1 + 1) (c := 2 * k1 + 2) rfl rfl (by first | omega | rfl)) ?_
            refine lv_iadd hx hb dX4_rows_72 ?_
            refine b_top (nI_addE (a := 95) (b := 2 * k1 + 2) (c := 2 * k1 + 97) rfl rfl (by first | omega | rfl)) ?_
            refine lv_iconst (v := 1) hx hb dX4_rows_73 (by decide) ?_
            refine lv_iadd hx hb dX4_rows_74 ?_
            refine b_top (nI_addE (a := 2 * k1 + 97) (b := 1) (c := 2 * k1 + 98) rfl rfl (by first | omega | rfl)) ?_
            refine lv_aload_n hx hb dX4_rows_75 rfl (lv_at hl 1 rfl) ?_
            refine b_get (C := RX4) (T := TX4) (N := 16) (v := .ref (r 0)) hx hb hts in_X4 hown hK (b_at (k := 0) hP rfl) rfl 0 (by decide) q1807 (fun _ h9 => h9) rfl dX4_rows_76 ?_
            refine lv_bipush (v := 95) hx hb dX4_rows_79 (by decide) ?_
            refine lv_iconst (v := 2) hx hb dX4_rows_81 (by decide) ?_
            refine lv_iload_n hx hb dX4_rows_82 rfl (lv_at hl 0 rfl) ?_
            refine lv_imul hx hb dX4_rows_83 ?_
            refine b_top (nI_mulE (a := 2) (b := k1 + 1) (c := 2 * k1 + 2) rfl rfl (by first | omega | rfl)) ?_
            refine lv_iadd hx hb dX4_rows_84 ?_
            refine b_top (nI_addE (a := 95) (b := 2 * k1 + 2) (c := 2 * k1 + 97) rfl rfl (by first | omega | rfl)) ?_
            refine lv_iconst (v := 1) hx hb dX4_rows_85 (by decide) ?_
            refine lv_isub hx hb dX4_rows_86 ?_
            refine b_top (nI_subE (a := 2 * k1 + 97) (b := 1) (c := 2 * k1 + 96) rfl rfl (by first | omega | rfl)) ?_
            refine b_iald hx hb hK (b_at (k := 1) hP rfl) (2 * k1 + 96) rfl (by omega) (by omega) dX4_rows_87 ?_
            refine b_top (show (upd gq (2 * k1 + 97) (gq (2 * k1 + 95)) (2 * k1 + 96)) = (gq (2 * k1 + 96)) from by rw [pk_un (by omega)]) ?_
            refine b_iast hx hb hK hP hD hS 1 rfl (2 * k1 + 98) rfl (by omega) (by omega) dX4_rows_88 (fun H locs hP hD hS => ?_)
            have hP : WP Γ [[(a, moE r i)], [((r 0), .inl (Γ.2.1 0, 523, .inl (upd (upd gq (2 * k1 + 97) (gq (2 * k1 + 95))) (2 * k1 + 98) (gq (2 * k1 + 96)))))]] H := hP
            have hD : WD A [[(a, moE r i)], [((r 0), .inl (Γ.2.1 0, 523, .inl (upd (upd gq (2 * k1 + 97) (gq (2 * k1 + 95))) (2 * k1 + 98) (gq (2 * k1 + 96)))))]] := hD
            refine lv_iinc (v := (nI k1)) (lv' := [(3, .int (nI k1)), (0, .ref a), (1, .int lim), (2, .int bon)]) hx hb dX4_rows_89 hl (k := 0) rfl (nI_decE (a := k1 + 1) (b := 1) (c := k1) rfl rfl (by first | omega | rfl)) (by decide) rfl (fun ls hl => ?_)
            refine lv_goto (tgt := 18) hx hb dX4_rows_92 (by decide) ?_
            exact ih (upd (upd gq (2 * k1 + 97) (gq (2 * k1 + 95))) (2 * k1 + 98) (gq (2 * k1 + 96))) k1 (by omega) (by omega) (by rw [hI, moIns, if_pos d_5]) _ _ _ hP hD hS (lv_sub hl [0, 1, 2, 3] rfl)
    exact loop_3 (n + 1) g n (Nat.lt_succ_self _) (Nat.le_refl _) (by rw [moRows, if_pos d_2]) _ _ _ hP hD hS (lv_sub hl [0, 1, 2, 3] rfl)
def moDo0 (g : Nat → Int32) (k : Nat) (v : Int32) : Nat → Int32 := upd g (10 * k + 22) (if g 0 + v < g (10 * k + 22) then g (10 * k + 22) else g 0 + v)
def moDo1 (g : Nat → Int32) (k : Nat) (v : Int32) : Nat → Int32 := upd g (10 * k + 17) v
def moDo2 (g : Nat → Int32) (k : Nat) : Nat → Int32 := upd g (10 * k + 21) (g 0 + g 1)
def moDo3 (g : Nat → Int32) (k : Nat) : Nat → Int32 := upd g (10 * k + 19) 0
def moDo4 (g : Nat → Int32) (k : Nat) : Nat → Int32 := upd g (10 * k + 19) 2
set_option maxHeartbeats 4000000 in
set_option maxRecDepth 100000 in
theorem mt_Mo_does_0 (l : Launch) (Γ : GE) (sz : Nat) (a : Nat) (r : Nat → Nat) (i : Nat → Int32) (g : Nat → Int32) (k : Nat) (v : Int32) (n : Nat) (hg7 : g 7 = nI n) (hn : n ≤ 8) (hk : k < n) : KM l yX4_does cX4_does 5 (some FieldType.int) Γ 1 21 0 0 [.ref a, .int 0, .int (nI k), .int v] [[(a, moE r i)], [((r 0), .inl (Γ.2.1 0, 523, .inl g))]] [] sz (Qi Γ (fun r_ u_ => r_ = (moDo0 g k v (10 * k + 22)) ∧ u_ = [[(a, moE r i)], [((r 0), .inl (Γ.2.1 0, 523, .inl (moDo0 g k v)))]])) := by
  refine K_intro (by decide) (Nat.le_of_ble_eq_true rfl) ?_
  intro pr_ ev_ s mi_ below meth cd_ A ls hx hb hr hml hown hts hlocks hname hK hE hRo hP hD hA hS hsz hl
  have hl : lv_has ls 5 [(0, .ref a), (1, .int 0), (2, .int (nI k)), (3, .int v)] := hl
  have hown : s.vm.findClass RX4 = some mi_.cls := hown
  refine lv_iload_n hx hb dX4_does_0 rfl (lv_at hl 1 rfl) ?_
  refine lv_tableIn (tgt := 36) hx hb dX4_does_1 (by decide) (by decide) rfl (by decide) ?_
  refine lv_aload_n hx hb dX4_does_36 rfl (lv_at hl 0 rfl) ?_
  refine b_get (C := RX4) (T := TX4) (N := 16) (v := .ref (r 0)) hx hb hts in_X4 hown hK (b_at (k := 0) hP rfl) rfl 0 (by decide) q1807 (fun _ h9 => h9) rfl dX4_does_37 ?_
  refine lv_iload_n hx hb dX4_does_40 rfl (lv_at hl 2 rfl) ?_
  refine lv_bipush (v := 7) hx hb dX4_does_41 (by decide) ?_
  refine b_calli (br := [[(a, moE r i)], [((r 0), .inl (Γ.2.1 0, 523, .inl g))]]) (b_runS ⟨hx, hb, hml, hown, hts⟩ (mt_Mo_at l Γ _ k 7) (lw_S q1886 q1887 q73 q1888) rfl rfl 2 (by decide +kernel) ⟨(Nat.le_of_ble_eq_true rfl), (Nat.le_of_ble_eq_true rfl)⟩ (c_pre hP hD hS hA hK hE [] rfl rfl ro_nil) rfl hl.1 rfl (Nat.le_of_ble_eq_true rfl) dX4_does_43 ⟨(Nat.le_of_ble_eq_true rfl), (Nat.le_of_ble_eq_true rfl)⟩) hP hD hS hA [] [0, 1] rfl rfl rfl (fun r_1 u_1 H locs hw_1 hP hD hS _ => ?_)
  obtain ⟨rfl, rfl⟩ := hw_1
  have hP : WP Γ [[(a, moE r i)], [((r 0), .inl (Γ.2.1 0, 523, .inl g))]] H := hP
  have hD : WD A [[(a, moE r i)], [((r 0), .inl (Γ.2.1 0, 523, .inl g))]] := hD
  refine lv_aload_n hx hb dX4_does_46 rfl (lv_at hl 0 rfl) ?_
  refine b_get (C := RX4) (T := TX4) (N := 16) (v := .ref (r 0)) hx hb hts in_X4 hown hK (b_at (k := 0) hP rfl) rfl 0 (by decide) q1807 (fun _ h9 => h9) rfl dX4_does_47 ?_
  refine lv_iload_n hx hb dX4_does_50 rfl (lv_at hl 2 rfl) ?_
  refine lv_bipush (v := 7) hx hb dX4_does_51 (by decide) ?_
  refine b_calli (br := [[(a, moE r i)], [((r 0), .inl (Γ.2.1 0, 523, .inl g))]]) (b_runS ⟨hx, hb, hml, hown, hts⟩ (mt_Mo_at l Γ _ k 7) (lw_S q1886 q1887 q73 q1888) rfl rfl 2 (by decide +kernel) ⟨(Nat.le_of_ble_eq_true rfl), (Nat.le_of_ble_eq_true rfl)⟩ (c_pre hP hD hS hA hK hE [] rfl rfl ro_nil) rfl hl.1 rfl (Nat.le_of_ble_eq_true rfl) dX4_does_53 ⟨(Nat.le_of_ble_eq_true rfl), (Nat.le_of_ble_eq_true rfl)⟩) hP hD hS hA [] [0, 1] rfl rfl rfl (fun r_2 u_2 H locs hw_2 hP hD hS _ => ?_)
  obtain ⟨rfl, rfl⟩ := hw_2
  have hP : WP Γ [[(a, moE r i)], [((r 0), .inl (Γ.2.1 0, 523, .inl g))]] H := hP
  have hD : WD A [[(a, moE r i)], [((r 0), .inl (Γ.2.1 0, 523, .inl g))]] := hD
  refine b_iald hx hb hK (b_at (k := 1) hP rfl) (10 * k + 22) rfl (by omega) (by omega) dX4_does_56 ?_
  refine lv_aload_n hx hb dX4_does_57 rfl (lv_at hl 0 rfl) ?_
  refine b_get (C := RX4) (T := TX4) (N := 16) (v := .ref (r 0)) hx hb hts in_X4 hown hK (b_at (k := 0) hP rfl) rfl 0 (by decide) q1807 (fun _ h9 => h9) rfl dX4_does_58 ?_
  refine lv_iconst (v := 0) hx hb dX4_does_61 (by decide) ?_
  refine b_iald hx hb hK (b_at (k := 1) hP rfl) 0 rfl (by omega) (by omega) dX4_does_62 ?_
  refine lv_iload_n hx hb dX4_does_63 rfl (lv_at hl 3 rfl) ?_
  refine lv_iadd hx hb dX4_does_64 ?_
  refine lv_icmp_le (tgt := 82) hx hb dX4_does_65 (by decide) (fun c_3 => ?_) (fun c_3 => ?_)
  · -- 65 taken
    have d_3 := Int32.not_lt.mpr c_3
    refine lv_aload_n hx hb dX4_does_82 rfl (lv_at hl 0 rfl) ?_
    refine b_get (C := RX4) (T := TX4) (N := 16) (v := .ref (r 0)) hx hb hts in_X4 hown hK (b_at (k := 0) hP rfl) rfl 0 (by decide) q1807 (fun _ h9 => h9) rfl dX4_does_83 ?_
    refine lv_iconst (v := 0) hx hb dX4_does_86 (by decide) ?_
    refine b_iald hx hb hK (b_at (k := 1) hP rfl) 0 rfl (by omega) (by omega) dX4_does_87 ?_
    refine lv_iload_n hx hb dX4_does_88 rfl (lv_at hl 3 rfl) ?_
    refine lv_iadd hx hb dX4_does_89 ?_
    refine b_iast hx hb hK hP hD hS 1 rfl (10 * k + 22) rfl (by omega) (by omega) dX4_does_90 (fun H locs hP hD hS => ?_)
    have hP : WP Γ [[(a, moE r i)], [((r 0), .inl (Γ.2.1 0, 523, .inl (upd g (10 * k + 22) ((g 0) + v))))]] H := hP
    have hD : WD A [[(a, moE r i)], [((r 0), .inl (Γ.2.1 0, 523, .inl (upd g (10 * k + 22) ((g 0) + v))))]] := hD
    refine lv_aload_n hx hb dX4_does_91 rfl (lv_at hl 0 rfl) ?_
    refine b_get (C := RX4) (T := TX4) (N := 16) (v := .ref (r 0)) hx hb hts in_X4 hown hK (b_at (k := 0) hP rfl) rfl 0 (by decide) q1807 (fun _ h9 => h9) rfl dX4_does_92 ?_
    refine lv_iload_n hx hb dX4_does_95 rfl (lv_at hl 2 rfl) ?_
    refine lv_bipush (v := 7) hx hb dX4_does_96 (by decide) ?_
    refine b_calli (br := [[(a, moE r i)], [((r 0), .inl (Γ.2.1 0, 523, .inl (upd g (10 * k + 22) ((g 0) + v))))]]) (b_runS ⟨hx, hb, hml, hown, hts⟩ (mt_Mo_at l Γ _ k 7) (lw_S q1886 q1887 q73 q1888) rfl rfl 2 (by decide +kernel) ⟨(Nat.le_of_ble_eq_true rfl), (Nat.le_of_ble_eq_true rfl)⟩ (c_pre hP hD hS hA hK hE [] rfl rfl ro_nil) rfl hl.1 rfl (Nat.le_of_ble_eq_true rfl) dX4_does_98 ⟨(Nat.le_of_ble_eq_true rfl), (Nat.le_of_ble_eq_true rfl)⟩) hP hD hS hA [] [0, 1] rfl rfl rfl (fun r_4 u_4 H locs hw_4 hP hD hS _ => ?_)
    obtain ⟨rfl, rfl⟩ := hw_4
    have hP : WP Γ [[(a, moE r i)], [((r 0), .inl (Γ.2.1 0, 523, .inl (upd g (10 * k + 22) ((g 0) + v))))]] H := hP
    have hD : WD A [[(a, moE r i)], [((r 0), .inl (Γ.2.1 0, 523, .inl (upd g (10 * k + 22) ((g 0) + v))))]] := hD
    refine b_iald hx hb hK (b_at (k := 1) hP rfl) (10 * k + 22) rfl (by omega) (by omega) dX4_does_101 ?_
    refine b_top (show (upd g (10 * k + 22) ((g 0) + v) (10 * k + 22)) = ((g 0) + v) from by rw [pk_us]) ?_
    exact b_iret hx hb hr hlocks hP hD hS (Nat.le_of_ble_eq_true rfl) (Nat.le_of_ble_eq_true rfl) ⟨(by first | with_reducible rfl | (simp [moDo0, upd, c_3, d_3]; done) | rfl), (by first | with_reducible rfl | (simp [moDo0, upd, c_3, d_3]; done) | rfl)⟩ dX4_does_102
  · -- 65 not taken
    have d_3 := Int32.not_le.mp c_3
    refine lv_aload_n hx hb dX4_does_68 rfl (lv_at hl 0 rfl) ?_
    refine b_get (C := RX4) (T := TX4) (N := 16) (v := .ref (r 0)) hx hb hts in_X4 hown hK (b_at (k := 0) hP rfl) rfl 0 (by decide) q1807 (fun _ h9 => h9) rfl dX4_does_69 ?_
    refine lv_iload_n hx hb dX4_does_72 rfl (lv_at hl 2 rfl) ?_
    refine lv_bipush (v := 7) hx hb dX4_does_73 (by decide) ?_
    refine b_calli (br := [[(a, moE r i)], [((r 0), .inl (Γ.2.1 0, 523, .inl g))]]) (b_runS ⟨hx, hb, hml, hown, hts⟩ (mt_Mo_at l Γ _ k 7) (lw_S q1886 q1887 q73 q1888) rfl rfl 2 (by decide +kernel) ⟨(Nat.le_of_ble_eq_true rfl), (Nat.le_of_ble_eq_true rfl)⟩ (c_pre hP hD hS hA hK hE [] rfl rfl ro_nil) rfl hl.1 rfl (Nat.le_of_ble_eq_true rfl) dX4_does_75 ⟨(Nat.le_of_ble_eq_true rfl), (Nat.le_of_ble_eq_true rfl)⟩) hP hD hS hA [] [0, 1] rfl rfl rfl (fun r_5 u_5 H locs hw_5 hP hD hS _ => ?_)
    obtain ⟨rfl, rfl⟩ := hw_5
    have hP : WP Γ [[(a, moE r i)], [((r 0), .inl (Γ.2.1 0, 523, .inl g))]] H := hP
    have hD : WD A [[(a, moE r i)], [((r 0), .inl (Γ.2.1 0, 523, .inl g))]] := hD
    refine b_iald hx hb hK (b_at (k := 1) hP rfl) (10 * k + 22) rfl (by omega) (by omega) dX4_does_78 ?_
    refine lv_goto (tgt := 90) hx hb dX4_does_79 (by decide) ?_
    refine b_iast hx hb hK hP hD hS 1 rfl (10 * k + 22) rfl (by omega) (by omega) dX4_does_90 (fun H locs hP hD hS => ?_)
    have hP : WP Γ [[(a, moE r i)], [((r 0), .inl (Γ.2.1 0, 523, .inl (upd g (10 * k + 22) (g (10 * k + 22)))))]] H := hP
    have hD : WD A [[(a, moE r i)], [((r 0), .inl (Γ.2.1 0, 523, .inl (upd g (10 * k + 22) (g (10 * k + 22)))))]] := hD
    refine lv_aload_n hx hb dX4_does_91 rfl (lv_at hl 0 rfl) ?_
    refine b_get (C := RX4) (T := TX4) (N := 16) (v := .ref (r 0)) hx hb hts in_X4 hown hK (b_at (k := 0) hP rfl) rfl 0 (by decide) q1807 (fun _ h9 => h9) rfl dX4_does_92 ?_
    refine lv_iload_n hx hb dX4_does_95 rfl (lv_at hl 2 rfl) ?_
    refine lv_bipush (v := 7) hx hb dX4_does_96 (by decide) ?_
    refine b_calli (br := [[(a, moE r i)], [((r 0), .inl (Γ.2.1 0, 523, .inl (upd g (10 * k + 22) (g (10 * k + 22)))))]]) (b_runS ⟨hx, hb, hml, hown, hts⟩ (mt_Mo_at l Γ _ k 7) (lw_S q1886 q1887 q73 q1888) rfl rfl 2 (by decide +kernel) ⟨(Nat.le_of_ble_eq_true rfl), (Nat.le_of_ble_eq_true rfl)⟩ (c_pre hP hD hS hA hK hE [] rfl rfl ro_nil) rfl hl.1 rfl (Nat.le_of_ble_eq_true rfl) dX4_does_98 ⟨(Nat.le_of_ble_eq_true rfl), (Nat.le_of_ble_eq_true rfl)⟩) hP hD hS hA [] [0, 1] rfl rfl rfl (fun r_6 u_6 H locs hw_6 hP hD hS _ => ?_)
    obtain ⟨rfl, rfl⟩ := hw_6
    have hP : WP Γ [[(a, moE r i)], [((r 0), .inl (Γ.2.1 0, 523, .inl (upd g (10 * k + 22) (g (10 * k + 22)))))]] H := hP
    have hD : WD A [[(a, moE r i)], [((r 0), .inl (Γ.2.1 0, 523, .inl (upd g (10 * k + 22) (g (10 * k + 22)))))]] := hD
    refine b_iald hx hb hK (b_at (k := 1) hP rfl) (10 * k + 22) rfl (by omega) (by omega) dX4_does_101 ?_
    refine b_top (show (upd g (10 * k + 22) (g (10 * k + 22)) (10 * k + 22)) = (g (10 * k + 22)) from by rw [pk_us]) ?_
    exact b_iret hx hb hr hlocks hP hD hS (Nat.le_of_ble_eq_true rfl) (Nat.le_of_ble_eq_true rfl) ⟨(by first | with_reducible rfl | (simp [moDo0, upd, c_3, d_3]; done) | rfl), (by first | with_reducible rfl | (simp [moDo0, upd, c_3, d_3]; done) | rfl)⟩ dX4_does_102
set_option maxHeartbeats 4000000 in
set_option maxRecDepth 100000 in
theorem mt_Mo_does_1 (l : Launch) (Γ : GE) (sz : Nat) (a : Nat) (r : Nat → Nat) (i : Nat → Int32) (g : Nat → Int32) (k : Nat) (v : Int32) (n : Nat) (hg7 : g 7 = nI n) (hn : n ≤ 8) (hk : k < n) : KM l yX4_does cX4_does 5 (some FieldType.int) Γ 1 21 0 0 [.ref a, .int 1, .int (nI k), .int v] [[(a, moE r i)], [((r 0), .inl (Γ.2.1 0, 523, .inl g))]] [] sz (Qi Γ (fun r_ u_ => r_ = (g (10 * k + 17)) ∧ u_ = [[(a, moE r i)], [((r 0), .inl (Γ.2.1 0, 523, .inl (moDo1 g k v)))]])) := by
  refine K_intro (by decide) (Nat.le_of_ble_eq_true rfl) ?_
  intro pr_ ev_ s mi_ below meth cd_ A ls hx hb hr hml hown hts hlocks hname hK hE hRo hP hD hA hS hsz hl
  have hl : lv_has ls 5 [(0, .ref a), (1, .int 1), (2, .int (nI k)), (3, .int v)] := hl
  have hown : s.vm.findClass RX4 = some mi_.cls := hown
  refine lv_iload_n hx hb dX4_does_0 rfl (lv_at hl 1 rfl) ?_
  refine lv_tableIn (tgt := 103) hx hb dX4_does_1 (by decide) (by decide) rfl (by decide) ?_
  refine lv_aload_n hx hb dX4_does_103 rfl (lv_at hl 0 rfl) ?_
  refine b_get (C := RX4) (T := TX4) (N := 16) (v := .ref (r 0)) hx hb hts in_X4 hown hK (b_at (k := 0) hP rfl) rfl 0 (by decide) q1807 (fun _ h9 => h9) rfl dX4_does_104 ?_
  refine lv_iload_n hx hb dX4_does_107 rfl (lv_at hl 2 rfl) ?_
  refine lv_iconst (v := 2) hx hb dX4_does_108 (by decide) ?_
  refine b_calli (br := [[(a, moE r i)], [((r 0), .inl (Γ.2.1 0, 523, .inl g))]]) (b_runS ⟨hx, hb, hml, hown, hts⟩ (mt_Mo_at l Γ _ k 2) (lw_S q1886 q1887 q73 q1888) rfl rfl 2 (by decide +kernel) ⟨(Nat.le_of_ble_eq_true rfl), (Nat.le_of_ble_eq_true rfl)⟩ (c_pre hP hD hS hA hK hE [] rfl rfl ro_nil) rfl hl.1 rfl (Nat.le_of_ble_eq_true rfl) dX4_does_109 ⟨(Nat.le_of_ble_eq_true rfl), (Nat.le_of_ble_eq_true rfl)⟩) hP hD hS hA [] [0, 1] rfl rfl rfl (fun r_1 u_1 H locs hw_1 hP hD hS _ => ?_)
  obtain ⟨rfl, rfl⟩ := hw_1
  have hP : WP Γ [[(a, moE r i)], [((r 0), .inl (Γ.2.1 0, 523, .inl g))]] H := hP
  have hD : WD A [[(a, moE r i)], [((r 0), .inl (Γ.2.1 0, 523, .inl g))]] := hD
  refine b_iald hx hb hK (b_at (k := 1) hP rfl) (10 * k + 17) rfl (by omega) (by omega) dX4_does_112 ?_
  refine lv_istore (lv' := [(4, .int (g (10 * k + 17))), (0, .ref a), (1, .int 1), (2, .int (nI k)), (3, .int v)]) hx hb dX4_does_113 hl (by decide) rfl (fun ls hl => ?_)
  refine lv_aload_n hx hb dX4_does_115 rfl (lv_at hl 1 rfl) ?_
  refine b_get (C := RX4) (T := TX4) (N := 16) (v := .ref (r 0)) hx hb hts in_X4 hown hK (b_at (k := 0) hP rfl) rfl 0 (by decide) q1807 (fun _ h9 => h9) rfl dX4_does_116 ?_
  refine lv_iload_n hx hb dX4_does_119 rfl (lv_at hl 3 rfl) ?_
  refine lv_iconst (v := 2) hx hb dX4_does_120 (by decide) ?_
  refine b_calli (br := [[(a, moE r i)], [((r 0), .inl (Γ.2.1 0, 523, .inl g))]]) (b_runS ⟨hx, hb, hml, hown, hts⟩ (mt_Mo_at l Γ _ k 2) (lw_S q1886 q1887 q73 q1888) rfl rfl 2 (by decide +kernel) ⟨(Nat.le_of_ble_eq_true rfl), (Nat.le_of_ble_eq_true rfl)⟩ (c_pre hP hD hS hA hK hE [] rfl rfl ro_nil) rfl hl.1 rfl (Nat.le_of_ble_eq_true rfl) dX4_does_121 ⟨(Nat.le_of_ble_eq_true rfl), (Nat.le_of_ble_eq_true rfl)⟩) hP hD hS hA [] [0, 1] rfl rfl rfl (fun r_2 u_2 H locs hw_2 hP hD hS _ => ?_)
  obtain ⟨rfl, rfl⟩ := hw_2
  have hP : WP Γ [[(a, moE r i)], [((r 0), .inl (Γ.2.1 0, 523, .inl g))]] H := hP
  have hD : WD A [[(a, moE r i)], [((r 0), .inl (Γ.2.1 0, 523, .inl g))]] := hD
  refine lv_iload_n hx hb dX4_does_124 rfl (lv_at hl 4 rfl) ?_
  refine b_iast hx hb hK hP hD hS 1 rfl (10 * k + 17) rfl (by omega) (by omega) dX4_does_125 (fun H locs hP hD hS => ?_)
  have hP : WP Γ [[(a, moE r i)], [((r 0), .inl (Γ.2.1 0, 523, .inl (upd g (10 * k + 17) v)))]] H := hP
  have hD : WD A [[(a, moE r i)], [((r 0), .inl (Γ.2.1 0, 523, .inl (upd g (10 * k + 17) v)))]] := hD
  refine lv_iload hx hb dX4_does_126 (lv_at hl 0 rfl) ?_
  exact b_iret hx hb hr hlocks hP hD hS (Nat.le_of_ble_eq_true rfl) (Nat.le_of_ble_eq_true rfl) ⟨(by first | with_reducible rfl | (simp [moDo1]; done) | rfl), (by first | with_reducible rfl | (simp [moDo1]; done) | rfl)⟩ dX4_does_128
set_option maxHeartbeats 4000000 in
set_option maxRecDepth 100000 in
theorem mt_Mo_does_2 (l : Launch) (Γ : GE) (sz : Nat) (a : Nat) (r : Nat → Nat) (i : Nat → Int32) (g : Nat → Int32) (k : Nat) (v : Int32) (n : Nat) (hg7 : g 7 = nI n) (hn : n ≤ 8) (hk : k < n) : KM l yX4_does cX4_does 5 (some FieldType.int) Γ 1 21 0 0 [.ref a, .int 2, .int (nI k), .int v] [[(a, moE r i)], [((r 0), .inl (Γ.2.1 0, 523, .inl g))]] [] sz (Qi Γ (fun r_ u_ => r_ = (g 0 + g 1) ∧ u_ = [[(a, moE r i)], [((r 0), .inl (Γ.2.1 0, 523, .inl (moDo2 g k)))]])) := by
  refine K_intro (by decide) (Nat.le_of_ble_eq_true rfl) ?_
  intro pr_ ev_ s mi_ below meth cd_ A ls hx hb hr hml hown hts hlocks hname hK hE hRo hP hD hA hS hsz hl
  have hl : lv_has ls 5 [(0, .ref a), (1, .int 2), (2, .int (nI k)), (3, .int v)] := hl
  have hown : s.vm.findClass RX4 = some mi_.cls := hown
  refine lv_iload_n hx hb dX4_does_0 rfl (lv_at hl 1 rfl) ?_
  refine lv_tableIn (tgt := 129) hx hb dX4_does_1 (by decide) (by decide) rfl (by decide) ?_
  refine lv_aload_n hx hb dX4_does_129 rfl (lv_at hl 0 rfl) ?_
  refine b_get (C := RX4) (T := TX4) (N := 16) (v := .ref (r 0)) hx hb hts in_X4 hown hK (b_at (k := 0) hP rfl) rfl 0 (by decide) q1807 (fun _ h9 => h9) rfl dX4_does_130 ?_
  refine lv_iload_n hx hb dX4_does_133 rfl (lv_at hl 2 rfl) ?_
  refine lv_bipush (v := 6) hx hb dX4_does_134 (by decide) ?_
  refine b_calli (br := [[(a, moE r i)], [((r 0), .inl (Γ.2.1 0, 523, .inl g))]]) (b_runS ⟨hx, hb, hml, hown, hts⟩ (mt_Mo_at l Γ _ k 6) (lw_S q1886 q1887 q73 q1888) rfl rfl 2 (by decide +kernel) ⟨(Nat.le_of_ble_eq_true rfl), (Nat.le_of_ble_eq_true rfl)⟩ (c_pre hP hD hS hA hK hE [] rfl rfl ro_nil) rfl hl.1 rfl (Nat.le_of_ble_eq_true rfl) dX4_does_136 ⟨(Nat.le_of_ble_eq_true rfl), (Nat.le_of_ble_eq_true rfl)⟩) hP hD hS hA [] [0, 1] rfl rfl rfl (fun r_1 u_1 H locs hw_1 hP hD hS _ => ?_)
  obtain ⟨rfl, rfl⟩ := hw_1
  have hP : WP Γ [[(a, moE r i)], [((r 0), .inl (Γ.2.1 0, 523, .inl g))]] H := hP
  have hD : WD A [[(a, moE r i)], [((r 0), .inl (Γ.2.1 0, 523, .inl g))]] := hD
  refine lv_aload_n hx hb dX4_does_139 rfl (lv_at hl 0 rfl) ?_
  refine b_get (C := RX4) (T := TX4) (N := 16) (v := .ref (r 0)) hx hb hts in_X4 hown hK (b_at (k := 0) hP rfl) rfl 0 (by decide) q1807 (fun _ h9 => h9) rfl dX4_does_140 ?_
  refine lv_iconst (v := 0) hx hb dX4_does_143 (by decide) ?_
  refine b_iald hx hb hK (b_at (k := 1) hP rfl) 0 rfl (by omega) (by omega) dX4_does_144 ?_
  refine lv_aload_n hx hb dX4_does_145 rfl (lv_at hl 0 rfl) ?_
  refine b_get (C := RX4) (T := TX4) (N := 16) (v := .ref (r 0)) hx hb hts in_X4 hown hK (b_at (k := 0) hP rfl) rfl 0 (by decide) q1807 (fun _ h9 => h9) rfl dX4_does_146 ?_
  refine lv_iconst (v := 1) hx hb dX4_does_149 (by decide) ?_
  refine b_iald hx hb hK (b_at (k := 1) hP rfl) 1 rfl (by omega) (by omega) dX4_does_150 ?_
  refine lv_iadd hx hb dX4_does_151 ?_
  refine b_iast hx hb hK hP hD hS 1 rfl (10 * k + 21) rfl (by omega) (by omega) dX4_does_152 (fun H locs hP hD hS => ?_)
  have hP : WP Γ [[(a, moE r i)], [((r 0), .inl (Γ.2.1 0, 523, .inl (upd g (10 * k + 21) ((g 0) + (g 1)))))]] H := hP
  have hD : WD A [[(a, moE r i)], [((r 0), .inl (Γ.2.1 0, 523, .inl (upd g (10 * k + 21) ((g 0) + (g 1)))))]] := hD
  refine lv_aload_n hx hb dX4_does_153 rfl (lv_at hl 0 rfl) ?_
  refine b_get (C := RX4) (T := TX4) (N := 16) (v := .ref (r 0)) hx hb hts in_X4 hown hK (b_at (k := 0) hP rfl) rfl 0 (by decide) q1807 (fun _ h9 => h9) rfl dX4_does_154 ?_
  refine lv_iload_n hx hb dX4_does_157 rfl (lv_at hl 2 rfl) ?_
  refine lv_bipush (v := 6) hx hb dX4_does_158 (by decide) ?_
  refine b_calli (br := [[(a, moE r i)], [((r 0), .inl (Γ.2.1 0, 523, .inl (upd g (10 * k + 21) ((g 0) + (g 1)))))]]) (b_runS ⟨hx, hb, hml, hown, hts⟩ (mt_Mo_at l Γ _ k 6) (lw_S q1886 q1887 q73 q1888) rfl rfl 2 (by decide +kernel) ⟨(Nat.le_of_ble_eq_true rfl), (Nat.le_of_ble_eq_true rfl)⟩ (c_pre hP hD hS hA hK hE [] rfl rfl ro_nil) rfl hl.1 rfl (Nat.le_of_ble_eq_true rfl) dX4_does_160 ⟨(Nat.le_of_ble_eq_true rfl), (Nat.le_of_ble_eq_true rfl)⟩) hP hD hS hA [] [0, 1] rfl rfl rfl (fun r_2 u_2 H locs hw_2 hP hD hS _ => ?_)
  obtain ⟨rfl, rfl⟩ := hw_2
  have hP : WP Γ [[(a, moE r i)], [((r 0), .inl (Γ.2.1 0, 523, .inl (upd g (10 * k + 21) ((g 0) + (g 1)))))]] H := hP
  have hD : WD A [[(a, moE r i)], [((r 0), .inl (Γ.2.1 0, 523, .inl (upd g (10 * k + 21) ((g 0) + (g 1)))))]] := hD
  refine b_iald hx hb hK (b_at (k := 1) hP rfl) (10 * k + 21) rfl (by omega) (by omega) dX4_does_163 ?_
  refine b_top (show (upd g (10 * k + 21) ((g 0) + (g 1)) (10 * k + 21)) = ((g 0) + (g 1)) from by rw [pk_us]) ?_
  exact b_iret hx hb hr hlocks hP hD hS (Nat.le_of_ble_eq_true rfl) (Nat.le_of_ble_eq_true rfl) ⟨(by first | with_reducible rfl | (simp [moDo2]; done) | rfl), (by first | with_reducible rfl | (simp [moDo2]; done) | rfl)⟩ dX4_does_164
set_option maxHeartbeats 4000000 in
set_option maxRecDepth 100000 in
theorem mt_Mo_does_3 (l : Launch) (Γ : GE) (sz : Nat) (a : Nat) (r : Nat → Nat) (i : Nat → Int32) (g : Nat → Int32) (k : Nat) (v : Int32) (n : Nat) (hg7 : g 7 = nI n) (hn : n ≤ 8) (hk : k < n) : KM l yX4_does cX4_does 5 (some FieldType.int) Γ 2 42 0 0 [.ref a, .int 3, .int (nI k), .int v] [[(a, moE r i)], [((r 0), .inl (Γ.2.1 0, 523, .inl g))]] [] sz (Qi Γ (fun r_ u_ => r_ = (g 0 - g (10 * k + 20)) ∧ u_ = [[(a, moE r i)], [((r 0), .inl (Γ.2.1 0, 523, .inl (moDo3 g k)))]])) := by
  refine K_intro (by decide) (Nat.le_of_ble_eq_true rfl) ?_
  intro pr_ ev_ s mi_ below meth cd_ A ls hx hb hr hml hown hts hlocks hname hK hE hRo hP hD hA hS hsz hl
  have hl : lv_has ls 5 [(0, .ref a), (1, .int 3), (2, .int (nI k)), (3, .int v)] := hl
  have hown : s.vm.findClass RX4 = some mi_.cls := hown
  refine lv_iload_n hx hb dX4_does_0 rfl (lv_at hl 1 rfl) ?_
  refine lv_tableIn (tgt := 165) hx hb dX4_does_1 (by decide) (by decide) rfl (by decide) ?_
  refine lv_aload_n hx hb dX4_does_165 rfl (lv_at hl 0 rfl) ?_
  refine lv_iload_n hx hb dX4_does_166 rfl (lv_at hl 2 rfl) ?_
  refine b_calli (br := []) (b_runV ⟨hx, hb, hml, hown, hts⟩ (mt_Mo_inMilk l Γ _ a r i g k (by first | exact hk | omega)) (lw_V q1932 q1934 qs39 q73 q1935) rfl rfl 1 (by decide +kernel) ⟨(Nat.le_of_ble_eq_true rfl), (Nat.le_of_ble_eq_true rfl)⟩ (c_pre hP hD hS hA hK hE [0, 1] rfl rfl ro_nil) (recv_at (q := (RX4, TX4, 16)) hK (b_at (k := 0) hP rfl) rfl) rfl hl.1 rfl (Nat.le_of_ble_eq_true rfl) dX4_does_167 ⟨(Nat.le_of_ble_eq_true rfl), (Nat.le_of_ble_eq_true rfl)⟩) hP hD hS hA [0, 1] [] rfl rfl rfl (fun r_1 u_1 H locs hw_1 hP hD hS _ => ?_)
  obtain ⟨rfl, rfl⟩ := hw_1
  have hP : WP Γ [[(a, moE r i)], [((r 0), .inl (Γ.2.1 0, 523, .inl g))]] H := hP
  have hD : WD A [[(a, moE r i)], [((r 0), .inl (Γ.2.1 0, 523, .inl g))]] := hD
  refine lv_istore (lv' := [(4, .int (g 0 - g (10 * k + 20))), (0, .ref a), (1, .int 3), (2, .int (nI k)), (3, .int v)]) hx hb dX4_does_170 hl (by decide) rfl (fun ls hl => ?_)
  refine lv_aload_n hx hb dX4_does_172 rfl (lv_at hl 1 rfl) ?_
  refine b_get (C := RX4) (T := TX4) (N := 16) (v := .ref (r 0)) hx hb hts in_X4 hown hK (b_at (k := 0) hP rfl) rfl 0 (by decide) q1807 (fun _ h9 => h9) rfl dX4_does_173 ?_
  refine lv_iload_n hx hb dX4_does_176 rfl (lv_at hl 3 rfl) ?_
  refine lv_iconst (v := 4) hx hb dX4_does_177 (by decide) ?_
  refine b_calli (br := [[(a, moE r i)], [((r 0), .inl (Γ.2.1 0, 523, .inl g))]]) (b_runS ⟨hx, hb, hml, hown, hts⟩ (mt_Mo_at l Γ _ k 4) (lw_S q1886 q1887 q73 q1888) rfl rfl 2 (by decide +kernel) ⟨(Nat.le_of_ble_eq_true rfl), (Nat.le_of_ble_eq_true rfl)⟩ (c_pre hP hD hS hA hK hE [] rfl rfl ro_nil) rfl hl.1 rfl (Nat.le_of_ble_eq_true rfl) dX4_does_178 ⟨(Nat.le_of_ble_eq_true rfl), (Nat.le_of_ble_eq_true rfl)⟩) hP hD hS hA [] [0, 1] rfl rfl rfl (fun r_2 u_2 H locs hw_2 hP hD hS _ => ?_)
  obtain ⟨rfl, rfl⟩ := hw_2
  have hP : WP Γ [[(a, moE r i)], [((r 0), .inl (Γ.2.1 0, 523, .inl g))]] H := hP
  have hD : WD A [[(a, moE r i)], [((r 0), .inl (Γ.2.1 0, 523, .inl g))]] := hD
  refine lv_iconst (v := 0) hx hb dX4_does_181 (by decide) ?_
  refine b_iast hx hb hK hP hD hS 1 rfl (10 * k + 19) rfl (by omega) (by omega) dX4_does_182 (fun H locs hP hD hS => ?_)
  have hP : WP Γ [[(a, moE r i)], [((r 0), .inl (Γ.2.1 0, 523, .inl (upd g (10 * k + 19) 0)))]] H := hP
  have hD : WD A [[(a, moE r i)], [((r 0), .inl (Γ.2.1 0, 523, .inl (upd g (10 * k + 19) 0)))]] := hD
  refine lv_iload hx hb dX4_does_183 (lv_at hl 0 rfl) ?_
  exact b_iret hx hb hr hlocks hP hD hS (Nat.le_of_ble_eq_true rfl) (Nat.le_of_ble_eq_true rfl) ⟨(by first | with_reducible rfl | (simp [moDo3]; done) | rfl), (by first | with_reducible rfl | (simp [moDo3]; done) | rfl)⟩ dX4_does_185
set_option maxHeartbeats 4000000 in
set_option maxRecDepth 100000 in
theorem mt_Mo_does_4 (l : Launch) (Γ : GE) (sz : Nat) (a : Nat) (r : Nat → Nat) (i : Nat → Int32) (g : Nat → Int32) (k : Nat) (v : Int32) (n : Nat) (hg7 : g 7 = nI n) (hn : n ≤ 8) (hk : k < n) : KM l yX4_does cX4_does 5 (some FieldType.int) Γ 4 86 0 0 [.ref a, .int 4, .int (nI k), .int v] [[(a, moE r i)], [((r 0), .inl (Γ.2.1 0, 523, .inl g))]] [] sz (Qi Γ (fun r_ u_ => r_ = (moHerd (moDo4 g k) n) ∧ u_ = [[(a, moE r i)], [((r 0), .inl (Γ.2.1 0, 523, .inl (moDo4 g k)))]])) := by
  refine K_intro (by decide) (Nat.le_of_ble_eq_true rfl) ?_
  intro pr_ ev_ s mi_ below meth cd_ A ls hx hb hr hml hown hts hlocks hname hK hE hRo hP hD hA hS hsz hl
  have hl : lv_has ls 5 [(0, .ref a), (1, .int 4), (2, .int (nI k)), (3, .int v)] := hl
  have hown : s.vm.findClass RX4 = some mi_.cls := hown
  refine lv_iload_n hx hb dX4_does_0 rfl (lv_at hl 1 rfl) ?_
  refine lv_tableIn (tgt := 186) hx hb dX4_does_1 (by decide) (by decide) rfl (by decide) ?_
  refine lv_aload_n hx hb dX4_does_186 rfl (lv_at hl 0 rfl) ?_
  refine b_get (C := RX4) (T := TX4) (N := 16) (v := .ref (r 0)) hx hb hts in_X4 hown hK (b_at (k := 0) hP rfl) rfl 0 (by decide) q1807 (fun _ h9 => h9) rfl dX4_does_187 ?_
  refine lv_iload_n hx hb dX4_does_190 rfl (lv_at hl 2 rfl) ?_
  refine lv_iconst (v := 4) hx hb dX4_does_191 (by decide) ?_
  refine b_calli (br := [[(a, moE r i)], [((r 0), .inl (Γ.2.1 0, 523, .inl g))]]) (b_runS ⟨hx, hb, hml, hown, hts⟩ (mt_Mo_at l Γ _ k 4) (lw_S q1886 q1887 q73 q1888) rfl rfl 2 (by decide +kernel) ⟨(Nat.le_of_ble_eq_true rfl), (Nat.le_of_ble_eq_true rfl)⟩ (c_pre hP hD hS hA hK hE [] rfl rfl ro_nil) rfl hl.1 rfl (Nat.le_of_ble_eq_true rfl) dX4_does_192 ⟨(Nat.le_of_ble_eq_true rfl), (Nat.le_of_ble_eq_true rfl)⟩) hP hD hS hA [] [0, 1] rfl rfl rfl (fun r_1 u_1 H locs hw_1 hP hD hS _ => ?_)
  obtain ⟨rfl, rfl⟩ := hw_1
  have hP : WP Γ [[(a, moE r i)], [((r 0), .inl (Γ.2.1 0, 523, .inl g))]] H := hP
  have hD : WD A [[(a, moE r i)], [((r 0), .inl (Γ.2.1 0, 523, .inl g))]] := hD
  refine lv_iconst (v := 2) hx hb dX4_does_195 (by decide) ?_
  refine b_iast hx hb hK hP hD hS 1 rfl (10 * k + 19) rfl (by omega) (by omega) dX4_does_196 (fun H locs hP hD hS => ?_)
  have hP : WP Γ [[(a, moE r i)], [((r 0), .inl (Γ.2.1 0, 523, .inl (upd g (10 * k + 19) 2)))]] H := hP
  have hD : WD A [[(a, moE r i)], [((r 0), .inl (Γ.2.1 0, 523, .inl (upd g (10 * k + 19) 2)))]] := hD
  rw [show (upd g (10 * k + 19) 2) = (moDo4 g k) from rfl] at hP hD
  refine lv_aload_n hx hb dX4_does_197 rfl (lv_at hl 0 rfl) ?_
  refine b_calli (br := []) (b_runV ⟨hx, hb, hml, hown, hts⟩ (mt_Mo_herd l Γ _ a r i (moDo4 g k) n (by rw [moDo4, pk_un (by omega)]; exact hg7) (by first | exact hn | omega)) (lw_V q1944 q1946 qs42 q73 q1947) rfl rfl 0 (by decide +kernel) ⟨(Nat.le_of_ble_eq_true rfl), (Nat.le_of_ble_eq_true rfl)⟩ (c_pre hP hD hS hA hK hE [0, 1] rfl rfl ro_nil) (recv_at (q := (RX4, TX4, 16)) hK (b_at (k := 0) hP rfl) rfl) rfl hl.1 rfl (Nat.le_of_ble_eq_true rfl) dX4_does_198 ⟨(Nat.le_of_ble_eq_true rfl), (Nat.le_of_ble_eq_true rfl)⟩) hP hD hS hA [0, 1] [] rfl rfl rfl (fun r_2 u_2 H locs hw_2 hP hD hS _ => ?_)
  obtain ⟨rfl, rfl⟩ := hw_2
  have hP : WP Γ [[(a, moE r i)], [((r 0), .inl (Γ.2.1 0, 523, .inl (moDo4 g k)))]] H := hP
  have hD : WD A [[(a, moE r i)], [((r 0), .inl (Γ.2.1 0, 523, .inl (moDo4 g k)))]] := hD
  exact b_iret hx hb hr hlocks hP hD hS (Nat.le_of_ble_eq_true rfl) (Nat.le_of_ble_eq_true rfl) ⟨(by first | with_reducible rfl | (simp [moDo4]; done) | rfl), (by first | with_reducible rfl | (simp [moDo4]; done) | rfl)⟩ dX4_does_201
set_option maxHeartbeats 4000000 in
set_option maxRecDepth 100000 in
theorem mt_Mo_does_5 (l : Launch) (Γ : GE) (sz : Nat) (a : Nat) (r : Nat → Nat) (i : Nat → Int32) (g : Nat → Int32) (c : Int32) (v : Int32) (n : Nat) (hg10 : g 10 = nI n) (hn : n ≤ 200) : KM l yX4_does cX4_does 5 (some FieldType.int) Γ 2 45 0 0 [.ref a, .int 5, .int c, .int v] [[(a, moE r i)], [((r 0), .inl (Γ.2.1 0, 523, .inl g))]] [] sz (Qi Γ (fun r_ u_ => r_ = (moRows g c v n 10) ∧ u_ = [[(a, moE r i)], [((r 0), .inl (Γ.2.1 0, 523, .inl (moRows g c v n)))]])) := by
  refine K_intro (by decide) (Nat.le_of_ble_eq_true rfl) ?_
  intro pr_ ev_ s mi_ below meth cd_ A ls hx hb hr hml hown hts hlocks hname hK hE hRo hP hD hA hS hsz hl
  have hl : lv_has ls 5 [(0, .ref a), (1, .int 5), (2, .int c), (3, .int v)] := hl
  have hown : s.vm.findClass RX4 = some mi_.cls := hown
  refine lv_iload_n hx hb dX4_does_0 rfl (lv_at hl 1 rfl) ?_
  refine lv_tableOut (tgt := 202) hx hb dX4_does_1 (by decide) (by decide) ?_
  refine lv_aload_n hx hb dX4_does_202 rfl (lv_at hl 0 rfl) ?_
  refine lv_iload_n hx hb dX4_does_203 rfl (lv_at hl 2 rfl) ?_
  refine lv_iload_n hx hb dX4_does_204 rfl (lv_at hl 3 rfl) ?_
  refine b_calli (br := []) (b_runV ⟨hx, hb, hml, hown, hts⟩ (mt_Mo_rows l Γ _ a r i g c v n (by first | exact hg10 | omega) (by first | exact hn | omega)) (lw_V q1948 q1950 qs43 q73 q1951) rfl rfl 2 (by decide +kernel) ⟨(Nat.le_of_ble_eq_true rfl), (Nat.le_of_ble_eq_true rfl)⟩ (c_pre hP hD hS hA hK hE [0, 1] rfl rfl ro_nil) (recv_at (q := (RX4, TX4, 16)) hK (b_at (k := 0) hP rfl) rfl) rfl hl.1 rfl (Nat.le_of_ble_eq_true rfl) dX4_does_205 ⟨(Nat.le_of_ble_eq_true rfl), (Nat.le_of_ble_eq_true rfl)⟩) hP hD hS hA [0, 1] [] rfl rfl rfl (fun r_1 u_1 H locs hw_1 hP hD hS _ => ?_)
  obtain ⟨rfl, rfl⟩ := hw_1
  have hP : WP Γ [[(a, moE r i)], [((r 0), .inl (Γ.2.1 0, 523, .inl (moRows g c v n)))]] H := hP
  have hD : WD A [[(a, moE r i)], [((r 0), .inl (Γ.2.1 0, 523, .inl (moRows g c v n)))]] := hD
  exact b_iret hx hb hr hlocks hP hD hS (Nat.le_of_ble_eq_true rfl) (Nat.le_of_ble_eq_true rfl) ⟨(by first | rfl | (simp; done)), (by first | rfl | (simp; done))⟩ dX4_does_208
theorem moAg0_k {g : Nat → Int32} {c v : Int32} (h : ¬ 0 < moAg0 g c v) : ¬ moKept g c = 0 := by
  intro e; rw [moAg0, if_pos e] at h; exact h (by decide)
theorem moAg1_k {g : Nat → Int32} {c : Int32} (h : ¬ 0 < moAg1 g c) : ¬ moKept g c = 0 := by
  intro e; rw [moAg1, if_pos e] at h; exact h (by decide)
theorem moAg2_k {g : Nat → Int32} {c : Int32} (h : ¬ 0 < moAg2 g c) : ¬ moKept g c = 0 := by
  intro e; rw [moAg2, if_pos e] at h; exact h (by decide)
theorem moAg3_k {g : Nat → Int32} {c : Int32} (h : ¬ 0 < moAg3 g c) : ¬ moKept g c = 0 := by
  intro e; rw [moAg3, if_pos e] at h; exact h (by decide)
def oI (i : Nat → Int32) (no : Int32) (n : Nat) : Nat → Int32 := if 0 < no then upd (upd i 6 no) 7 1 else upd (upd i 7 0) 5 (nI (moPushN n))
def oP (no : Int32) (g ps : Nat → Int32) (n : Nat) : Nat → Int32 := if 0 < no then ps else moPush g ps n
def oG (no : Int32) (g g2 : Nat → Int32) : Nat → Int32 := if 0 < no then g else g2
def oR (no r : Int32) : Int32 := if 0 < no then 0 else r
def oI1 (i : Nat → Int32) (no v : Int32) (n : Nat) : Nat → Int32 := if 0 < no then upd (upd i 6 no) 7 1 else if inR v 0 999 = 0 then upd i 7 2 else upd (upd i 7 0) 5 (nI (moPushN n))
def oP1 (no v : Int32) (g ps : Nat → Int32) (n : Nat) : Nat → Int32 := if 0 < no then ps else if inR v 0 999 = 0 then ps else moPush g ps n
def oG1 (no v : Int32) (g g2 : Nat → Int32) : Nat → Int32 := if 0 < no then g else if inR v 0 999 = 0 then g else g2
def oR1 (no v r : Int32) : Int32 := if 0 < no then 0 else if inR v 0 999 = 0 then 0 else r
set_option maxHeartbeats 4000000 in
set_option maxRecDepth 100000 in
theorem mt_Mo_orders_0 (l : Launch) (Γ : GE) (sz : Nat) (a : Nat) (r : Nat → Nat) (i : Nat → Int32) (g : Nat → Int32) (ps : Nat → Int32) (c : Int32) (v : Int32) (n : Nat) (pn : Nat) (hg7 : g 7 = nI n) (hn : n ≤ 8) (h5 : i 5 = nI pn) (hpn : pn ≤ 8) : KM l yX4_orders cX4_orders 5 (some FieldType.int) Γ 4 87 0 0 [.ref a, .int 0, .int c, .int v] [[(a, moE r i)], [((r 0), .inl (Γ.2.1 0, 523, .inl g))], [((r 4), .inl (Γ.2.1 0, 4184, .inl ps))]] [] sz (Qi Γ (fun r_ u_ => r_ = (oR (moAg0 g c v) (moDo0 g c.toNatClampNeg v (10 * c.toNatClampNeg + 22))) ∧ u_ = [[(a, moE r (oI i (moAg0 g c v) pn))], [((r 0), .inl (Γ.2.1 0, 523, .inl (oG (moAg0 g c v) g (moDo0 g c.toNatClampNeg v))))], [((r 4), .inl (Γ.2.1 0, 4184, .inl (oP (moAg0 g c v) g ps pn)))]])) := by
  refine K_intro (by decide) (Nat.le_of_ble_eq_true rfl) ?_
  intro pr_ ev_ s mi_ below meth cd_ A ls hx hb hr hml hown hts hlocks hname hK hE hRo hP hD hA hS hsz hl
  have hl : lv_has ls 5 [(0, .ref a), (1, .int 0), (2, .int c), (3, .int v)] := hl
  have hown : s.vm.findClass RX4 = some mi_.cls := hown
  refine lv_aload_n hx hb dX4_orders_0 rfl (lv_at hl 0 rfl) ?_
  refine lv_iload_n hx hb dX4_orders_1 rfl (lv_at hl 1 rfl) ?_
  refine lv_iload_n hx hb dX4_orders_2 rfl (lv_at hl 2 rfl) ?_
  refine lv_iload_n hx hb dX4_orders_3 rfl (lv_at hl 3 rfl) ?_
  refine b_calli (br := [[((r 4), .inl (Γ.2.1 0, 4184, .inl ps))]]) (b_runV ⟨hx, hb, hml, hown, hts⟩ (mt_Mo_against_0 l Γ _ a r i g c v n (by first | exact hg7 | omega) (by first | exact hn | omega)) (lw_V q1908 q1910 qs33 q73 q1911) rfl rfl 3 (by decide +kernel) ⟨(Nat.le_of_ble_eq_true rfl), (Nat.le_of_ble_eq_true rfl)⟩ (c_pre hP hD hS hA hK hE [0, 1] rfl rfl ro_nil) (recv_at (q := (RX4, TX4, 16)) hK (b_at (k := 0) hP rfl) rfl) rfl hl.1 rfl (Nat.le_of_ble_eq_true rfl) dX4_orders_4 ⟨(Nat.le_of_ble_eq_true rfl), (Nat.le_of_ble_eq_true rfl)⟩) hP hD hS hA [0, 1] [2] rfl rfl rfl (fun r_1 u_1 H locs hw_1 hP hD hS _ => ?_)
  obtain ⟨rfl, rfl⟩ := hw_1
  have hP : WP Γ [[(a, moE r i)], [((r 0), .inl (Γ.2.1 0, 523, .inl g))], [((r 4), .inl (Γ.2.1 0, 4184, .inl ps))]] H := hP
  have hD : WD A [[(a, moE r i)], [((r 0), .inl (Γ.2.1 0, 523, .inl g))], [((r 4), .inl (Γ.2.1 0, 4184, .inl ps))]] := hD
  refine lv_istore (lv' := [(4, .int (moAg0 g c v)), (0, .ref a), (1, .int 0), (2, .int c), (3, .int v)]) hx hb dX4_orders_7 hl (by decide) rfl (fun ls hl => ?_)
  refine lv_iload hx hb dX4_orders_9 (lv_at hl 0 rfl) ?_
  refine lv_if_le (tgt := 26) hx hb dX4_orders_11 (by decide) (fun c_2 => ?_) (fun c_2 => ?_)
  · -- 11 taken
    have d_2 := Int32.not_lt.mpr c_2
    obtain ⟨k, hk, rfl⟩ := moKept_nat hg7 hn (moAg0_k d_2)
    refine lv_iload_n hx hb dX4_orders_26 rfl (lv_at hl 2 rfl) ?_
    refine lv_iconst (v := 1) hx hb dX4_orders_27 (by decide) ?_
    refine lv_icmp_ne (tgt := 48) hx hb dX4_orders_28 (by decide) (fun c_3 => ?_) (fun c_3 => ?_)
    · -- 28 taken
      have n_3 : ¬ (0 = 1) := fun h => c_3 ((nI_eq (a := 0) (b := 1) (by omega) (by omega)).mpr h)
      refine lv_aload_n hx hb dX4_orders_48 rfl (lv_at hl 1 rfl) ?_
      refine lv_iconst (v := 0) hx hb dX4_orders_49 (by decide) ?_
      refine b_putM (C := RX4) (T := TX4) (N := 16) (ty := .int) (vv := 0) hx hb hts in_X4 tyX4_ok nmX4 hown hK hP hD hS 0 rfl rfl 7 (by decide) q1814 (fun _ h9 => h9) rfl (by decide +kernel) rfl rfl (Nat.le_of_ble_eq_true rfl) (moL_set7 _ _ _) dX4_orders_50 (fun H locs hP hD hS => ?_)
      have hP : WP Γ [[(a, moE r (upd i 7 0))], [((r 0), .inl (Γ.2.1 0, 523, .inl g))], [((r 4), .inl (Γ.2.1 0, 4184, .inl ps))]] H := hP
      have hD : WD A [[(a, moE r (upd i 7 0))], [((r 0), .inl (Γ.2.1 0, 523, .inl g))], [((r 4), .inl (Γ.2.1 0, 4184, .inl ps))]] := hD
      refine lv_aload_n hx hb dX4_orders_53 rfl (lv_at hl 1 rfl) ?_
      refine lv_aload_n hx hb dX4_orders_54 rfl (lv_at hl 1 rfl) ?_
      refine b_get (C := RX4) (T := TX4) (N := 16) (v := .ref (r 0)) hx hb hts in_X4 hown hK (b_at (k := 0) hP rfl) rfl 0 (by decide) q1807 (fun _ h9 => h9) rfl dX4_orders_55 ?_
      refine b_callv (br := []) (b_runV ⟨hx, hb, hml, hown, hts⟩ (mt_Mo_changes l Γ _ a r (upd i 7 0) (r 0) g ps pn (by first | exact h5 | (show i 5 = nI pn; exact h5)) hpn) (lw_V q1882 q1884 qs31 q73 q1885) rfl rfl 1 (by decide +kernel) ⟨(Nat.le_of_ble_eq_true rfl), (Nat.le_of_ble_eq_true rfl)⟩ (c_pre hP hD hS hA hK hE [0, 1, 2] rfl rfl ro_nil) (recv_at (q := (RX4, TX4, 16)) hK (b_at (k := 0) hP rfl) rfl) rfl hl.1 rfl (Nat.le_of_ble_eq_true rfl) dX4_orders_58 ⟨(Nat.le_of_ble_eq_true rfl), (Nat.le_of_ble_eq_true rfl)⟩) hP hD hS hA [0, 1, 2] [] rfl rfl rfl (fun u_4 H locs hw_4 hP hD hS _ => ?_)
      obtain rfl := hw_4
      have hP : WP Γ [[(a, moE r (upd (upd i 7 0) 5 (nI (moPushN pn))))], [((r 0), .inl (Γ.2.1 0, 523, .inl g))], [((r 4), .inl (Γ.2.1 0, 4184, .inl (moPush g ps pn)))]] H := hP
      have hD : WD A [[(a, moE r (upd (upd i 7 0) 5 (nI (moPushN pn))))], [((r 0), .inl (Γ.2.1 0, 523, .inl g))], [((r 4), .inl (Γ.2.1 0, 4184, .inl (moPush g ps pn)))]] := hD
      refine lv_aload_n hx hb dX4_orders_61 rfl (lv_at hl 1 rfl) ?_
      refine lv_iload_n hx hb dX4_orders_62 rfl (lv_at hl 2 rfl) ?_
      refine lv_iload_n hx hb dX4_orders_63 rfl (lv_at hl 3 rfl) ?_
      refine lv_iload_n hx hb dX4_orders_64 rfl (lv_at hl 4 rfl) ?_
      refine b_calli (br := [[((r 4), .inl (Γ.2.1 0, 4184, .inl (moPush g ps pn)))]]) (b_runV ⟨hx, hb, hml, hown, hts⟩ (mt_Mo_does_0 l Γ _ a r (upd (upd i 7 0) 5 (nI (moPushN pn))) g k v n (by first | exact hg7 | omega) (by first | exact hn | omega) (by omega)) (lw_V q1940 q1942 qs41 q73 q1943) rfl rfl 3 (by decide +kernel) ⟨(Nat.le_of_ble_eq_true rfl), (Nat.le_of_ble_eq_true rfl)⟩ (c_pre hP hD hS hA hK hE [0, 1] rfl rfl ro_nil) (recv_at (q := (RX4, TX4, 16)) hK (b_at (k := 0) hP rfl) rfl) rfl hl.1 rfl (Nat.le_of_ble_eq_true rfl) dX4_orders_65 ⟨(Nat.le_of_ble_eq_true rfl), (Nat.le_of_ble_eq_true rfl)⟩) hP hD hS hA [0, 1] [2] rfl rfl rfl (fun r_5 u_5 H locs hw_5 hP hD hS _ => ?_)
      obtain ⟨rfl, rfl⟩ := hw_5
      have hP : WP Γ [[(a, moE r (upd (upd i 7 0) 5 (nI (moPushN pn))))], [((r 0), .inl (Γ.2.1 0, 523, .inl (moDo0 g k v)))], [((r 4), .inl (Γ.2.1 0, 4184, .inl (moPush g ps pn)))]] H := hP
      have hD : WD A [[(a, moE r (upd (upd i 7 0) 5 (nI (moPushN pn))))], [((r 0), .inl (Γ.2.1 0, 523, .inl (moDo0 g k v)))], [((r 4), .inl (Γ.2.1 0, 4184, .inl (moPush g ps pn)))]] := hD
      exact b_iret hx hb hr hlocks hP hD hS (Nat.le_of_ble_eq_true rfl) (Nat.le_of_ble_eq_true rfl) ⟨(by first | with_reducible rfl | (simp [oI, oP, oG, oR, c_2, d_2, nI_clamp (show k < 2 ^ 31 by omega), n_3]; done) | rfl), (by first | with_reducible rfl | (simp [oI, oP, oG, oR, c_2, d_2, nI_clamp (show k < 2 ^ 31 by omega), n_3]; done) | rfl)⟩ dX4_orders_68
    · -- 28 not taken
      have n_3 : 0 = 1 := (nI_eq (by omega) (by omega)).mp (show nI 0 = nI 1 from c_3)
      exact absurd n_3 (by omega)
  · -- 11 not taken
    have d_2 := Int32.not_le.mp c_2
    refine lv_aload_n hx hb dX4_orders_14 rfl (lv_at hl 1 rfl) ?_
    refine lv_iload hx hb dX4_orders_15 (lv_at hl 0 rfl) ?_
    refine b_putM (C := RX4) (T := TX4) (N := 16) (ty := .int) (vv := (moAg0 g c v)) hx hb hts in_X4 tyX4_ok nmX4 hown hK hP hD hS 0 rfl rfl 6 (by decide) q1813 (fun _ h9 => h9) rfl (by decide +kernel) rfl rfl (Nat.le_of_ble_eq_true rfl) (moL_set6 _ _ _) dX4_orders_17 (fun H locs hP hD hS => ?_)
    have hP : WP Γ [[(a, moE r (upd i 6 (moAg0 g c v)))], [((r 0), .inl (Γ.2.1 0, 523, .inl g))], [((r 4), .inl (Γ.2.1 0, 4184, .inl ps))]] H := hP
    have hD : WD A [[(a, moE r (upd i 6 (moAg0 g c v)))], [((r 0), .inl (Γ.2.1 0, 523, .inl g))], [((r 4), .inl (Γ.2.1 0, 4184, .inl ps))]] := hD
    refine lv_aload_n hx hb dX4_orders_20 rfl (lv_at hl 1 rfl) ?_
    refine lv_iconst (v := 1) hx hb dX4_orders_21 (by decide) ?_
    refine b_calli (br := [[((r 0), .inl (Γ.2.1 0, 523, .inl g))], [((r 4), .inl (Γ.2.1 0, 4184, .inl ps))]]) (b_runV ⟨hx, hb, hml, hown, hts⟩ (mt_Mo_fails l Γ _ a r (upd i 6 (moAg0 g c v)) 1) (lw_V q1936 q1938 qs40 q73 q1939) rfl rfl 1 (by decide +kernel) ⟨(Nat.le_of_ble_eq_true rfl), (Nat.le_of_ble_eq_true rfl)⟩ (c_pre hP hD hS hA hK hE [0] rfl rfl ro_nil) (recv_at (q := (RX4, TX4, 16)) hK (b_at (k := 0) hP rfl) rfl) rfl hl.1 rfl (Nat.le_of_ble_eq_true rfl) dX4_orders_22 ⟨(Nat.le_of_ble_eq_true rfl), (Nat.le_of_ble_eq_true rfl)⟩) hP hD hS hA [0] [1, 2] rfl rfl rfl (fun r_6 u_6 H locs hw_6 hP hD hS _ => ?_)
    obtain ⟨rfl, rfl⟩ := hw_6
    have hP : WP Γ [[(a, moE r (upd (upd i 6 (moAg0 g c v)) 7 1))], [((r 0), .inl (Γ.2.1 0, 523, .inl g))], [((r 4), .inl (Γ.2.1 0, 4184, .inl ps))]] H := hP
    have hD : WD A [[(a, moE r (upd (upd i 6 (moAg0 g c v)) 7 1))], [((r 0), .inl (Γ.2.1 0, 523, .inl g))], [((r 4), .inl (Γ.2.1 0, 4184, .inl ps))]] := hD
    exact b_iret hx hb hr hlocks hP hD hS (Nat.le_of_ble_eq_true rfl) (Nat.le_of_ble_eq_true rfl) ⟨(by first | with_reducible rfl | (simp [oI, oP, oG, oR, c_2, d_2]; done) | rfl), (by first | with_reducible rfl | (simp [oI, oP, oG, oR, c_2, d_2]; done) | rfl)⟩ dX4_orders_25
set_option maxHeartbeats 4000000 in
set_option maxRecDepth 100000 in
theorem mt_Mo_orders_1 (l : Launch) (Γ : GE) (sz : Nat) (a : Nat) (r : Nat → Nat) (i : Nat → Int32) (g : Nat → Int32) (ps : Nat → Int32) (c : Int32) (v : Int32) (n : Nat) (pn : Nat) (hg7 : g 7 = nI n) (hn : n ≤ 8) (h5 : i 5 = nI pn) (hpn : pn ≤ 8) : KM l yX4_orders cX4_orders 5 (some FieldType.int) Γ 4 87 0 0 [.ref a, .int 1, .int c, .int v] [[(a, moE r i)], [((r 0), .inl (Γ.2.1 0, 523, .inl g))], [((r 4), .inl (Γ.2.1 0, 4184, .inl ps))]] [] sz (Qi Γ (fun r_ u_ => r_ = (oR1 (moAg1 g c) v (g (10 * c.toNatClampNeg + 17))) ∧ u_ = [[(a, moE r (oI1 i (moAg1 g c) v pn))], [((r 0), .inl (Γ.2.1 0, 523, .inl (oG1 (moAg1 g c) v g (moDo1 g c.toNatClampNeg v))))], [((r 4), .inl (Γ.2.1 0, 4184, .inl (oP1 (moAg1 g c) v g ps pn)))]])) := by
  refine K_intro (by decide) (Nat.le_of_ble_eq_true rfl) ?_
  intro pr_ ev_ s mi_ below meth cd_ A ls hx hb hr hml hown hts hlocks hname hK hE hRo hP hD hA hS hsz hl
  have hl : lv_has ls 5 [(0, .ref a), (1, .int 1), (2, .int c), (3, .int v)] := hl
  have hown : s.vm.findClass RX4 = some mi_.cls := hown
  refine lv_aload_n hx hb dX4_orders_0 rfl (lv_at hl 0 rfl) ?_
  refine lv_iload_n hx hb dX4_orders_1 rfl (lv_at hl 1 rfl) ?_
  refine lv_iload_n hx hb dX4_orders_2 rfl (lv_at hl 2 rfl) ?_
  refine lv_iload_n hx hb dX4_orders_3 rfl (lv_at hl 3 rfl) ?_
  refine b_calli (br := [[((r 4), .inl (Γ.2.1 0, 4184, .inl ps))]]) (b_runV ⟨hx, hb, hml, hown, hts⟩ (mt_Mo_against_1 l Γ _ a r i g c v n (by first | exact hg7 | omega) (by first | exact hn | omega)) (lw_V q1908 q1910 qs33 q73 q1911) rfl rfl 3 (by decide +kernel) ⟨(Nat.le_of_ble_eq_true rfl), (Nat.le_of_ble_eq_true rfl)⟩ (c_pre hP hD hS hA hK hE [0, 1] rfl rfl ro_nil) (recv_at (q := (RX4, TX4, 16)) hK (b_at (k := 0) hP rfl) rfl) rfl hl.1 rfl (Nat.le_of_ble_eq_true rfl) dX4_orders_4 ⟨(Nat.le_of_ble_eq_true rfl), (Nat.le_of_ble_eq_true rfl)⟩) hP hD hS hA [0, 1] [2] rfl rfl rfl (fun r_1 u_1 H locs hw_1 hP hD hS _ => ?_)
  obtain ⟨rfl, rfl⟩ := hw_1
  have hP : WP Γ [[(a, moE r i)], [((r 0), .inl (Γ.2.1 0, 523, .inl g))], [((r 4), .inl (Γ.2.1 0, 4184, .inl ps))]] H := hP
  have hD : WD A [[(a, moE r i)], [((r 0), .inl (Γ.2.1 0, 523, .inl g))], [((r 4), .inl (Γ.2.1 0, 4184, .inl ps))]] := hD
  refine lv_istore (lv' := [(4, .int (moAg1 g c)), (0, .ref a), (1, .int 1), (2, .int c), (3, .int v)]) hx hb dX4_orders_7 hl (by decide) rfl (fun ls hl => ?_)
  refine lv_iload hx hb dX4_orders_9 (lv_at hl 0 rfl) ?_
  refine lv_if_le (tgt := 26) hx hb dX4_orders_11 (by decide) (fun c_2 => ?_) (fun c_2 => ?_)
  · -- 11 taken
    have d_2 := Int32.not_lt.mpr c_2
    obtain ⟨k, hk, rfl⟩ := moKept_nat hg7 hn (moAg1_k d_2)
    refine lv_iload_n hx hb dX4_orders_26 rfl (lv_at hl 2 rfl) ?_
    refine lv_iconst (v := 1) hx hb dX4_orders_27 (by decide) ?_
    refine lv_icmp_ne (tgt := 48) hx hb dX4_orders_28 (by decide) (fun c_3 => ?_) (fun c_3 => ?_)
    · -- 28 taken
      have n_3 : ¬ (1 = 1) := fun h => c_3 ((nI_eq (a := 1) (b := 1) (by omega) (by omega)).mpr h)
      exact absurd n_3 (by omega)
    · -- 28 not taken
      have n_3 : 1 = 1 := (nI_eq (by omega) (by omega)).mp (show nI 1 = nI 1 from c_3)
      refine lv_iload_n hx hb dX4_orders_31 rfl (lv_at hl 4 rfl) ?_
      refine lv_iconst (v := 0) hx hb dX4_orders_32 (by decide) ?_
      refine lv_sipush (v := 999) hx hb dX4_orders_33 (by decide) ?_
      refine b_calli (br := [[(a, moE r i)], [((r 0), .inl (Γ.2.1 0, 523, .inl g))], [((r 4), .inl (Γ.2.1 0, 4184, .inl ps))]]) (b_runS ⟨hx, hb, hml, hown, hts⟩ (mt_Mo_in l Γ _ v 0 999) (lw_S q1879 q1880 q73 q1881) rfl rfl 3 (by decide +kernel) ⟨(Nat.le_of_ble_eq_true rfl), (Nat.le_of_ble_eq_true rfl)⟩ (c_pre hP hD hS hA hK hE [] rfl rfl ro_nil) rfl hl.1 rfl (Nat.le_of_ble_eq_true rfl) dX4_orders_36 ⟨(Nat.le_of_ble_eq_true rfl), (Nat.le_of_ble_eq_true rfl)⟩) hP hD hS hA [] [0, 1, 2] rfl rfl rfl (fun r_4 u_4 H locs hw_4 hP hD hS _ => ?_)
      obtain ⟨rfl, rfl⟩ := hw_4
      have hP : WP Γ [[(a, moE r i)], [((r 0), .inl (Γ.2.1 0, 523, .inl g))], [((r 4), .inl (Γ.2.1 0, 4184, .inl ps))]] H := hP
      have hD : WD A [[(a, moE r i)], [((r 0), .inl (Γ.2.1 0, 523, .inl g))], [((r 4), .inl (Γ.2.1 0, 4184, .inl ps))]] := hD
      refine lv_if_ne (tgt := 48) hx hb dX4_orders_39 (by decide) (fun c_5 => ?_) (fun c_5 => ?_)
      · -- 39 taken
        refine lv_aload_n hx hb dX4_orders_48 rfl (lv_at hl 1 rfl) ?_
        refine lv_iconst (v := 0) hx hb dX4_orders_49 (by decide) ?_
        refine b_putM (C := RX4) (T := TX4) (N := 16) (ty := .int) (vv := 0) hx hb hts in_X4 tyX4_ok nmX4 hown hK hP hD hS 0 rfl rfl 7 (by decide) q1814 (fun _ h9 => h9) rfl (by decide +kernel) rfl rfl (Nat.le_of_ble_eq_true rfl) (moL_set7 _ _ _) dX4_orders_50 (fun H locs hP hD hS => ?_)
        have hP : WP Γ [[(a, moE r (upd i 7 0))], [((r 0), .inl (Γ.2.1 0, 523, .inl g))], [((r 4), .inl (Γ.2.1 0, 4184, .inl ps))]] H := hP
        have hD : WD A [[(a, moE r (upd i 7 0))], [((r 0), .inl (Γ.2.1 0, 523, .inl g))], [((r 4), .inl (Γ.2.1 0, 4184, .inl ps))]] := hD
        refine lv_aload_n hx hb dX4_orders_53 rfl (lv_at hl 1 rfl) ?_
        refine lv_aload_n hx hb dX4_orders_54 rfl (lv_at hl 1 rfl) ?_
        refine b_get (C := RX4) (T := TX4) (N := 16) (v := .ref (r 0)) hx hb hts in_X4 hown hK (b_at (k := 0) hP rfl) rfl 0 (by decide) q1807 (fun _ h9 => h9) rfl dX4_orders_55 ?_
        refine b_callv (br := []) (b_runV ⟨hx, hb, hml, hown, hts⟩ (mt_Mo_changes l Γ _ a r (upd i 7 0) (r 0) g ps pn (by first | exact h5 | (show i 5 = nI pn; exact h5)) hpn) (lw_V q1882 q1884 qs31 q73 q1885) rfl rfl 1 (by decide +kernel) ⟨(Nat.le_of_ble_eq_true rfl), (Nat.le_of_ble_eq_true rfl)⟩ (c_pre hP hD hS hA hK hE [0, 1, 2] rfl rfl ro_nil) (recv_at (q := (RX4, TX4, 16)) hK (b_at (k := 0) hP rfl) rfl) rfl hl.1 rfl (Nat.le_of_ble_eq_true rfl) dX4_orders_58 ⟨(Nat.le_of_ble_eq_true rfl), (Nat.le_of_ble_eq_true rfl)⟩) hP hD hS hA [0, 1, 2] [] rfl rfl rfl (fun u_6 H locs hw_6 hP hD hS _ => ?_)
        obtain rfl := hw_6
        have hP : WP Γ [[(a, moE r (upd (upd i 7 0) 5 (nI (moPushN pn))))], [((r 0), .inl (Γ.2.1 0, 523, .inl g))], [((r 4), .inl (Γ.2.1 0, 4184, .inl (moPush g ps pn)))]] H := hP
        have hD : WD A [[(a, moE r (upd (upd i 7 0) 5 (nI (moPushN pn))))], [((r 0), .inl (Γ.2.1 0, 523, .inl g))], [((r 4), .inl (Γ.2.1 0, 4184, .inl (moPush g ps pn)))]] := hD
        refine lv_aload_n hx hb dX4_orders_61 rfl (lv_at hl 1 rfl) ?_
        refine lv_iload_n hx hb dX4_orders_62 rfl (lv_at hl 2 rfl) ?_
        refine lv_iload_n hx hb dX4_orders_63 rfl (lv_at hl 3 rfl) ?_
        refine lv_iload_n hx hb dX4_orders_64 rfl (lv_at hl 4 rfl) ?_
        refine b_calli (br := [[((r 4), .inl (Γ.2.1 0, 4184, .inl (moPush g ps pn)))]]) (b_runV ⟨hx, hb, hml, hown, hts⟩ (mt_Mo_does_1 l Γ _ a r (upd (upd i 7 0) 5 (nI (moPushN pn))) g k v n (by first | exact hg7 | omega) (by first | exact hn | omega) (by omega)) (lw_V q1940 q1942 qs41 q73 q1943) rfl rfl 3 (by decide +kernel) ⟨(Nat.le_of_ble_eq_true rfl), (Nat.le_of_ble_eq_true rfl)⟩ (c_pre hP hD hS hA hK hE [0, 1] rfl rfl ro_nil) (recv_at (q := (RX4, TX4, 16)) hK (b_at (k := 0) hP rfl) rfl) rfl hl.1 rfl (Nat.le_of_ble_eq_true rfl) dX4_orders_65 ⟨(Nat.le_of_ble_eq_true rfl), (Nat.le_of_ble_eq_true rfl)⟩) hP hD hS hA [0, 1] [2] rfl rfl rfl (fun r_7 u_7 H locs hw_7 hP hD hS _ => ?_)
        obtain ⟨rfl, rfl⟩ := hw_7
        have hP : WP Γ [[(a, moE r (upd (upd i 7 0) 5 (nI (moPushN pn))))], [((r 0), .inl (Γ.2.1 0, 523, .inl (moDo1 g k v)))], [((r 4), .inl (Γ.2.1 0, 4184, .inl (moPush g ps pn)))]] H := hP
        have hD : WD A [[(a, moE r (upd (upd i 7 0) 5 (nI (moPushN pn))))], [((r 0), .inl (Γ.2.1 0, 523, .inl (moDo1 g k v)))], [((r 4), .inl (Γ.2.1 0, 4184, .inl (moPush g ps pn)))]] := hD
        exact b_iret hx hb hr hlocks hP hD hS (Nat.le_of_ble_eq_true rfl) (Nat.le_of_ble_eq_true rfl) ⟨(by first | with_reducible rfl | (simp [oI, oP, oG, oR, oI1, oP1, oG1, oR1, c_2, d_2, nI_clamp (show k < 2 ^ 31 by omega), n_3, c_5]; done) | rfl), (by first | with_reducible rfl | (simp [oI, oP, oG, oR, oI1, oP1, oG1, oR1, c_2, d_2, nI_clamp (show k < 2 ^ 31 by omega), n_3, c_5]; done) | rfl)⟩ dX4_orders_68
      · -- 39 not taken
        refine lv_aload_n hx hb dX4_orders_42 rfl (lv_at hl 1 rfl) ?_
        refine lv_iconst (v := 2) hx hb dX4_orders_43 (by decide) ?_
        refine b_calli (br := [[((r 0), .inl (Γ.2.1 0, 523, .inl g))], [((r 4), .inl (Γ.2.1 0, 4184, .inl ps))]]) (b_runV ⟨hx, hb, hml, hown, hts⟩ (mt_Mo_fails l Γ _ a r i 2) (lw_V q1936 q1938 qs40 q73 q1939) rfl rfl 1 (by decide +kernel) ⟨(Nat.le_of_ble_eq_true rfl), (Nat.le_of_ble_eq_true rfl)⟩ (c_pre hP hD hS hA hK hE [0] rfl rfl ro_nil) (recv_at (q := (RX4, TX4, 16)) hK (b_at (k := 0) hP rfl) rfl) rfl hl.1 rfl (Nat.le_of_ble_eq_true rfl) dX4_orders_44 ⟨(Nat.le_of_ble_eq_true rfl), (Nat.le_of_ble_eq_true rfl)⟩) hP hD hS hA [0] [1, 2] rfl rfl rfl (fun r_8 u_8 H locs hw_8 hP hD hS _ => ?_)
        obtain ⟨rfl, rfl⟩ := hw_8
        have hP : WP Γ [[(a, moE r (upd i 7 2))], [((r 0), .inl (Γ.2.1 0, 523, .inl g))], [((r 4), .inl (Γ.2.1 0, 4184, .inl ps))]] H := hP
        have hD : WD A [[(a, moE r (upd i 7 2))], [((r 0), .inl (Γ.2.1 0, 523, .inl g))], [((r 4), .inl (Γ.2.1 0, 4184, .inl ps))]] := hD
        exact b_iret hx hb hr hlocks hP hD hS (Nat.le_of_ble_eq_true rfl) (Nat.le_of_ble_eq_true rfl) ⟨(by first | with_reducible rfl | (simp [oI, oP, oG, oR, oI1, oP1, oG1, oR1, c_2, d_2, nI_clamp (show k < 2 ^ 31 by omega), n_3, c_5]; done) | rfl), (by first | with_reducible rfl | (simp [oI, oP, oG, oR, oI1, oP1, oG1, oR1, c_2, d_2, nI_clamp (show k < 2 ^ 31 by omega), n_3, c_5]; done) | rfl)⟩ dX4_orders_47
  · -- 11 not taken
    have d_2 := Int32.not_le.mp c_2
    refine lv_aload_n hx hb dX4_orders_14 rfl (lv_at hl 1 rfl) ?_
    refine lv_iload hx hb dX4_orders_15 (lv_at hl 0 rfl) ?_
    refine b_putM (C := RX4) (T := TX4) (N := 16) (ty := .int) (vv := (moAg1 g c)) hx hb hts in_X4 tyX4_ok nmX4 hown hK hP hD hS 0 rfl rfl 6 (by decide) q1813 (fun _ h9 => h9) rfl (by decide +kernel) rfl rfl (Nat.le_of_ble_eq_true rfl) (moL_set6 _ _ _) dX4_orders_17 (fun H locs hP hD hS => ?_)
    have hP : WP Γ [[(a, moE r (upd i 6 (moAg1 g c)))], [((r 0), .inl (Γ.2.1 0, 523, .inl g))], [((r 4), .inl (Γ.2.1 0, 4184, .inl ps))]] H := hP
    have hD : WD A [[(a, moE r (upd i 6 (moAg1 g c)))], [((r 0), .inl (Γ.2.1 0, 523, .inl g))], [((r 4), .inl (Γ.2.1 0, 4184, .inl ps))]] := hD
    refine lv_aload_n hx hb dX4_orders_20 rfl (lv_at hl 1 rfl) ?_
    refine lv_iconst (v := 1) hx hb dX4_orders_21 (by decide) ?_
    refine b_calli (br := [[((r 0), .inl (Γ.2.1 0, 523, .inl g))], [((r 4), .inl (Γ.2.1 0, 4184, .inl ps))]]) (b_runV ⟨hx, hb, hml, hown, hts⟩ (mt_Mo_fails l Γ _ a r (upd i 6 (moAg1 g c)) 1) (lw_V q1936 q1938 qs40 q73 q1939) rfl rfl 1 (by decide +kernel) ⟨(Nat.le_of_ble_eq_true rfl), (Nat.le_of_ble_eq_true rfl)⟩ (c_pre hP hD hS hA hK hE [0] rfl rfl ro_nil) (recv_at (q := (RX4, TX4, 16)) hK (b_at (k := 0) hP rfl) rfl) rfl hl.1 rfl (Nat.le_of_ble_eq_true rfl) dX4_orders_22 ⟨(Nat.le_of_ble_eq_true rfl), (Nat.le_of_ble_eq_true rfl)⟩) hP hD hS hA [0] [1, 2] rfl rfl rfl (fun r_9 u_9 H locs hw_9 hP hD hS _ => ?_)
    obtain ⟨rfl, rfl⟩ := hw_9
    have hP : WP Γ [[(a, moE r (upd (upd i 6 (moAg1 g c)) 7 1))], [((r 0), .inl (Γ.2.1 0, 523, .inl g))], [((r 4), .inl (Γ.2.1 0, 4184, .inl ps))]] H := hP
    have hD : WD A [[(a, moE r (upd (upd i 6 (moAg1 g c)) 7 1))], [((r 0), .inl (Γ.2.1 0, 523, .inl g))], [((r 4), .inl (Γ.2.1 0, 4184, .inl ps))]] := hD
    exact b_iret hx hb hr hlocks hP hD hS (Nat.le_of_ble_eq_true rfl) (Nat.le_of_ble_eq_true rfl) ⟨(by first | with_reducible rfl | (simp [oI, oP, oG, oR, oI1, oP1, oG1, oR1, c_2, d_2]; done) | rfl), (by first | with_reducible rfl | (simp [oI, oP, oG, oR, oI1, oP1, oG1, oR1, c_2, d_2]; done) | rfl)⟩ dX4_orders_25
set_option maxHeartbeats 4000000 in
set_option maxRecDepth 100000 in
theorem mt_Mo_orders_2 (l : Launch) (Γ : GE) (sz : Nat) (a : Nat) (r : Nat → Nat) (i : Nat → Int32) (g : Nat → Int32) (ps : Nat → Int32) (c : Int32) (v : Int32) (n : Nat) (pn : Nat) (hg7 : g 7 = nI n) (hn : n ≤ 8) (h5 : i 5 = nI pn) (hpn : pn ≤ 8) : KM l yX4_orders cX4_orders 5 (some FieldType.int) Γ 4 87 0 0 [.ref a, .int 2, .int c, .int v] [[(a, moE r i)], [((r 0), .inl (Γ.2.1 0, 523, .inl g))], [((r 4), .inl (Γ.2.1 0, 4184, .inl ps))]] [] sz (Qi Γ (fun r_ u_ => r_ = (oR (moAg2 g c) (g 0 + g 1)) ∧ u_ = [[(a, moE r (oI i (moAg2 g c) pn))], [((r 0), .inl (Γ.2.1 0, 523, .inl (oG (moAg2 g c) g (moDo2 g c.toNatClampNeg))))], [((r 4), .inl (Γ.2.1 0, 4184, .inl (oP (moAg2 g c) g ps pn)))]])) := by
  refine K_intro (by decide) (Nat.le_of_ble_eq_true rfl) ?_
  intro pr_ ev_ s mi_ below meth cd_ A ls hx hb hr hml hown hts hlocks hname hK hE hRo hP hD hA hS hsz hl
  have hl : lv_has ls 5 [(0, .ref a), (1, .int 2), (2, .int c), (3, .int v)] := hl
  have hown : s.vm.findClass RX4 = some mi_.cls := hown
  refine lv_aload_n hx hb dX4_orders_0 rfl (lv_at hl 0 rfl) ?_
  refine lv_iload_n hx hb dX4_orders_1 rfl (lv_at hl 1 rfl) ?_
  refine lv_iload_n hx hb dX4_orders_2 rfl (lv_at hl 2 rfl) ?_
  refine lv_iload_n hx hb dX4_orders_3 rfl (lv_at hl 3 rfl) ?_
  refine b_calli (br := [[((r 4), .inl (Γ.2.1 0, 4184, .inl ps))]]) (b_runV ⟨hx, hb, hml, hown, hts⟩ (mt_Mo_against_2 l Γ _ a r i g c v n (by first | exact hg7 | omega) (by first | exact hn | omega)) (lw_V q1908 q1910 qs33 q73 q1911) rfl rfl 3 (by decide +kernel) ⟨(Nat.le_of_ble_eq_true rfl), (Nat.le_of_ble_eq_true rfl)⟩ (c_pre hP hD hS hA hK hE [0, 1] rfl rfl ro_nil) (recv_at (q := (RX4, TX4, 16)) hK (b_at (k := 0) hP rfl) rfl) rfl hl.1 rfl (Nat.le_of_ble_eq_true rfl) dX4_orders_4 ⟨(Nat.le_of_ble_eq_true rfl), (Nat.le_of_ble_eq_true rfl)⟩) hP hD hS hA [0, 1] [2] rfl rfl rfl (fun r_1 u_1 H locs hw_1 hP hD hS _ => ?_)
  obtain ⟨rfl, rfl⟩ := hw_1
  have hP : WP Γ [[(a, moE r i)], [((r 0), .inl (Γ.2.1 0, 523, .inl g))], [((r 4), .inl (Γ.2.1 0, 4184, .inl ps))]] H := hP
  have hD : WD A [[(a, moE r i)], [((r 0), .inl (Γ.2.1 0, 523, .inl g))], [((r 4), .inl (Γ.2.1 0, 4184, .inl ps))]] := hD
  refine lv_istore (lv' := [(4, .int (moAg2 g c)), (0, .ref a), (1, .int 2), (2, .int c), (3, .int v)]) hx hb dX4_orders_7 hl (by decide) rfl (fun ls hl => ?_)
  refine lv_iload hx hb dX4_orders_9 (lv_at hl 0 rfl) ?_
  refine lv_if_le (tgt := 26) hx hb dX4_orders_11 (by decide) (fun c_2 => ?_) (fun c_2 => ?_)
  · -- 11 taken
    have d_2 := Int32.not_lt.mpr c_2
    obtain ⟨k, hk, rfl⟩ := moKept_nat hg7 hn (moAg2_k d_2)
    refine lv_iload_n hx hb dX4_orders_26 rfl (lv_at hl 2 rfl) ?_
    refine lv_iconst (v := 1) hx hb dX4_orders_27 (by decide) ?_
    refine lv_icmp_ne (tgt := 48) hx hb dX4_orders_28 (by decide) (fun c_3 => ?_) (fun c_3 => ?_)
    · -- 28 taken
      have n_3 : ¬ (2 = 1) := fun h => c_3 ((nI_eq (a := 2) (b := 1) (by omega) (by omega)).mpr h)
      refine lv_aload_n hx hb dX4_orders_48 rfl (lv_at hl 1 rfl) ?_
      refine lv_iconst (v := 0) hx hb dX4_orders_49 (by decide) ?_
      refine b_putM (C := RX4) (T := TX4) (N := 16) (ty := .int) (vv := 0) hx hb hts in_X4 tyX4_ok nmX4 hown hK hP hD hS 0 rfl rfl 7 (by decide) q1814 (fun _ h9 => h9) rfl (by decide +kernel) rfl rfl (Nat.le_of_ble_eq_true rfl) (moL_set7 _ _ _) dX4_orders_50 (fun H locs hP hD hS => ?_)
      have hP : WP Γ [[(a, moE r (upd i 7 0))], [((r 0), .inl (Γ.2.1 0, 523, .inl g))], [((r 4), .inl (Γ.2.1 0, 4184, .inl ps))]] H := hP
      have hD : WD A [[(a, moE r (upd i 7 0))], [((r 0), .inl (Γ.2.1 0, 523, .inl g))], [((r 4), .inl (Γ.2.1 0, 4184, .inl ps))]] := hD
      refine lv_aload_n hx hb dX4_orders_53 rfl (lv_at hl 1 rfl) ?_
      refine lv_aload_n hx hb dX4_orders_54 rfl (lv_at hl 1 rfl) ?_
      refine b_get (C := RX4) (T := TX4) (N := 16) (v := .ref (r 0)) hx hb hts in_X4 hown hK (b_at (k := 0) hP rfl) rfl 0 (by decide) q1807 (fun _ h9 => h9) rfl dX4_orders_55 ?_
      refine b_callv (br := []) (b_runV ⟨hx, hb, hml, hown, hts⟩ (mt_Mo_changes l Γ _ a r (upd i 7 0) (r 0) g ps pn (by first | exact h5 | (show i 5 = nI pn; exact h5)) hpn) (lw_V q1882 q1884 qs31 q73 q1885) rfl rfl 1 (by decide +kernel) ⟨(Nat.le_of_ble_eq_true rfl), (Nat.le_of_ble_eq_true rfl)⟩ (c_pre hP hD hS hA hK hE [0, 1, 2] rfl rfl ro_nil) (recv_at (q := (RX4, TX4, 16)) hK (b_at (k := 0) hP rfl) rfl) rfl hl.1 rfl (Nat.le_of_ble_eq_true rfl) dX4_orders_58 ⟨(Nat.le_of_ble_eq_true rfl), (Nat.le_of_ble_eq_true rfl)⟩) hP hD hS hA [0, 1, 2] [] rfl rfl rfl (fun u_4 H locs hw_4 hP hD hS _ => ?_)
      obtain rfl := hw_4
      have hP : WP Γ [[(a, moE r (upd (upd i 7 0) 5 (nI (moPushN pn))))], [((r 0), .inl (Γ.2.1 0, 523, .inl g))], [((r 4), .inl (Γ.2.1 0, 4184, .inl (moPush g ps pn)))]] H := hP
      have hD : WD A [[(a, moE r (upd (upd i 7 0) 5 (nI (moPushN pn))))], [((r 0), .inl (Γ.2.1 0, 523, .inl g))], [((r 4), .inl (Γ.2.1 0, 4184, .inl (moPush g ps pn)))]] := hD
      refine lv_aload_n hx hb dX4_orders_61 rfl (lv_at hl 1 rfl) ?_
      refine lv_iload_n hx hb dX4_orders_62 rfl (lv_at hl 2 rfl) ?_
      refine lv_iload_n hx hb dX4_orders_63 rfl (lv_at hl 3 rfl) ?_
      refine lv_iload_n hx hb dX4_orders_64 rfl (lv_at hl 4 rfl) ?_
      refine b_calli (br := [[((r 4), .inl (Γ.2.1 0, 4184, .inl (moPush g ps pn)))]]) (b_runV ⟨hx, hb, hml, hown, hts⟩ (mt_Mo_does_2 l Γ _ a r (upd (upd i 7 0) 5 (nI (moPushN pn))) g k v n (by first | exact hg7 | omega) (by first | exact hn | omega) (by omega)) (lw_V q1940 q1942 qs41 q73 q1943) rfl rfl 3 (by decide +kernel) ⟨(Nat.le_of_ble_eq_true rfl), (Nat.le_of_ble_eq_true rfl)⟩ (c_pre hP hD hS hA hK hE [0, 1] rfl rfl ro_nil) (recv_at (q := (RX4, TX4, 16)) hK (b_at (k := 0) hP rfl) rfl) rfl hl.1 rfl (Nat.le_of_ble_eq_true rfl) dX4_orders_65 ⟨(Nat.le_of_ble_eq_true rfl), (Nat.le_of_ble_eq_true rfl)⟩) hP hD hS hA [0, 1] [2] rfl rfl rfl (fun r_5 u_5 H locs hw_5 hP hD hS _ => ?_)
      obtain ⟨rfl, rfl⟩ := hw_5
      have hP : WP Γ [[(a, moE r (upd (upd i 7 0) 5 (nI (moPushN pn))))], [((r 0), .inl (Γ.2.1 0, 523, .inl (moDo2 g k)))], [((r 4), .inl (Γ.2.1 0, 4184, .inl (moPush g ps pn)))]] H := hP
      have hD : WD A [[(a, moE r (upd (upd i 7 0) 5 (nI (moPushN pn))))], [((r 0), .inl (Γ.2.1 0, 523, .inl (moDo2 g k)))], [((r 4), .inl (Γ.2.1 0, 4184, .inl (moPush g ps pn)))]] := hD
      exact b_iret hx hb hr hlocks hP hD hS (Nat.le_of_ble_eq_true rfl) (Nat.le_of_ble_eq_true rfl) ⟨(by first | with_reducible rfl | (simp [oI, oP, oG, oR, c_2, d_2, nI_clamp (show k < 2 ^ 31 by omega), n_3]; done) | rfl), (by first | with_reducible rfl | (simp [oI, oP, oG, oR, c_2, d_2, nI_clamp (show k < 2 ^ 31 by omega), n_3]; done) | rfl)⟩ dX4_orders_68
    · -- 28 not taken
      have n_3 : 2 = 1 := (nI_eq (by omega) (by omega)).mp (show nI 2 = nI 1 from c_3)
      exact absurd n_3 (by omega)
  · -- 11 not taken
    have d_2 := Int32.not_le.mp c_2
    refine lv_aload_n hx hb dX4_orders_14 rfl (lv_at hl 1 rfl) ?_
    refine lv_iload hx hb dX4_orders_15 (lv_at hl 0 rfl) ?_
    refine b_putM (C := RX4) (T := TX4) (N := 16) (ty := .int) (vv := (moAg2 g c)) hx hb hts in_X4 tyX4_ok nmX4 hown hK hP hD hS 0 rfl rfl 6 (by decide) q1813 (fun _ h9 => h9) rfl (by decide +kernel) rfl rfl (Nat.le_of_ble_eq_true rfl) (moL_set6 _ _ _) dX4_orders_17 (fun H locs hP hD hS => ?_)
    have hP : WP Γ [[(a, moE r (upd i 6 (moAg2 g c)))], [((r 0), .inl (Γ.2.1 0, 523, .inl g))], [((r 4), .inl (Γ.2.1 0, 4184, .inl ps))]] H := hP
    have hD : WD A [[(a, moE r (upd i 6 (moAg2 g c)))], [((r 0), .inl (Γ.2.1 0, 523, .inl g))], [((r 4), .inl (Γ.2.1 0, 4184, .inl ps))]] := hD
    refine lv_aload_n hx hb dX4_orders_20 rfl (lv_at hl 1 rfl) ?_
    refine lv_iconst (v := 1) hx hb dX4_orders_21 (by decide) ?_
    refine b_calli (br := [[((r 0), .inl (Γ.2.1 0, 523, .inl g))], [((r 4), .inl (Γ.2.1 0, 4184, .inl ps))]]) (b_runV ⟨hx, hb, hml, hown, hts⟩ (mt_Mo_fails l Γ _ a r (upd i 6 (moAg2 g c)) 1) (lw_V q1936 q1938 qs40 q73 q1939) rfl rfl 1 (by decide +kernel) ⟨(Nat.le_of_ble_eq_true rfl), (Nat.le_of_ble_eq_true rfl)⟩ (c_pre hP hD hS hA hK hE [0] rfl rfl ro_nil) (recv_at (q := (RX4, TX4, 16)) hK (b_at (k := 0) hP rfl) rfl) rfl hl.1 rfl (Nat.le_of_ble_eq_true rfl) dX4_orders_22 ⟨(Nat.le_of_ble_eq_true rfl), (Nat.le_of_ble_eq_true rfl)⟩) hP hD hS hA [0] [1, 2] rfl rfl rfl (fun r_6 u_6 H locs hw_6 hP hD hS _ => ?_)
    obtain ⟨rfl, rfl⟩ := hw_6
    have hP : WP Γ [[(a, moE r (upd (upd i 6 (moAg2 g c)) 7 1))], [((r 0), .inl (Γ.2.1 0, 523, .inl g))], [((r 4), .inl (Γ.2.1 0, 4184, .inl ps))]] H := hP
    have hD : WD A [[(a, moE r (upd (upd i 6 (moAg2 g c)) 7 1))], [((r 0), .inl (Γ.2.1 0, 523, .inl g))], [((r 4), .inl (Γ.2.1 0, 4184, .inl ps))]] := hD
    exact b_iret hx hb hr hlocks hP hD hS (Nat.le_of_ble_eq_true rfl) (Nat.le_of_ble_eq_true rfl) ⟨(by first | with_reducible rfl | (simp [oI, oP, oG, oR, c_2, d_2]; done) | rfl), (by first | with_reducible rfl | (simp [oI, oP, oG, oR, c_2, d_2]; done) | rfl)⟩ dX4_orders_25
set_option maxHeartbeats 4000000 in
set_option maxRecDepth 100000 in
theorem mt_Mo_orders_3 (l : Launch) (Γ : GE) (sz : Nat) (a : Nat) (r : Nat → Nat) (i : Nat → Int32) (g : Nat → Int32) (ps : Nat → Int32) (c : Int32) (v : Int32) (n : Nat) (pn : Nat) (hg7 : g 7 = nI n) (hn : n ≤ 8) (h5 : i 5 = nI pn) (hpn : pn ≤ 8) : KM l yX4_orders cX4_orders 5 (some FieldType.int) Γ 4 87 0 0 [.ref a, .int 3, .int c, .int v] [[(a, moE r i)], [((r 0), .inl (Γ.2.1 0, 523, .inl g))], [((r 4), .inl (Γ.2.1 0, 4184, .inl ps))]] [] sz (Qi Γ (fun r_ u_ => r_ = (oR (moAg3 g c) (g 0 - g (10 * c.toNatClampNeg + 20))) ∧ u_ = [[(a, moE r (oI i (moAg3 g c) pn))], [((r 0), .inl (Γ.2.1 0, 523, .inl (oG (moAg3 g c) g (moDo3 g c.toNatClampNeg))))], [((r 4), .inl (Γ.2.1 0, 4184, .inl (oP (moAg3 g c) g ps pn)))]])) := by
  refine K_intro (by decide) (Nat.le_of_ble_eq_true rfl) ?_
  intro pr_ ev_ s mi_ below meth cd_ A ls hx hb hr hml hown hts hlocks hname hK hE hRo hP hD hA hS hsz hl
  have hl : lv_has ls 5 [(0, .ref a), (1, .int 3), (2, .int c), (3, .int v)] := hl
  have hown : s.vm.findClass RX4 = some mi_.cls := hown
  refine lv_aload_n hx hb dX4_orders_0 rfl (lv_at hl 0 rfl) ?_
  refine lv_iload_n hx hb dX4_orders_1 rfl (lv_at hl 1 rfl) ?_
  refine lv_iload_n hx hb dX4_orders_2 rfl (lv_at hl 2 rfl) ?_
  refine lv_iload_n hx hb dX4_orders_3 rfl (lv_at hl 3 rfl) ?_
  refine b_calli (br := [[((r 4), .inl (Γ.2.1 0, 4184, .inl ps))]]) (b_runV ⟨hx, hb, hml, hown, hts⟩ (mt_Mo_against_3 l Γ _ a r i g c v n (by first | exact hg7 | omega) (by first | exact hn | omega)) (lw_V q1908 q1910 qs33 q73 q1911) rfl rfl 3 (by decide +kernel) ⟨(Nat.le_of_ble_eq_true rfl), (Nat.le_of_ble_eq_true rfl)⟩ (c_pre hP hD hS hA hK hE [0, 1] rfl rfl ro_nil) (recv_at (q := (RX4, TX4, 16)) hK (b_at (k := 0) hP rfl) rfl) rfl hl.1 rfl (Nat.le_of_ble_eq_true rfl) dX4_orders_4 ⟨(Nat.le_of_ble_eq_true rfl), (Nat.le_of_ble_eq_true rfl)⟩) hP hD hS hA [0, 1] [2] rfl rfl rfl (fun r_1 u_1 H locs hw_1 hP hD hS _ => ?_)
  obtain ⟨rfl, rfl⟩ := hw_1
  have hP : WP Γ [[(a, moE r i)], [((r 0), .inl (Γ.2.1 0, 523, .inl g))], [((r 4), .inl (Γ.2.1 0, 4184, .inl ps))]] H := hP
  have hD : WD A [[(a, moE r i)], [((r 0), .inl (Γ.2.1 0, 523, .inl g))], [((r 4), .inl (Γ.2.1 0, 4184, .inl ps))]] := hD
  refine lv_istore (lv' := [(4, .int (moAg3 g c)), (0, .ref a), (1, .int 3), (2, .int c), (3, .int v)]) hx hb dX4_orders_7 hl (by decide) rfl (fun ls hl => ?_)
  refine lv_iload hx hb dX4_orders_9 (lv_at hl 0 rfl) ?_
  refine lv_if_le (tgt := 26) hx hb dX4_orders_11 (by decide) (fun c_2 => ?_) (fun c_2 => ?_)
  · -- 11 taken
    have d_2 := Int32.not_lt.mpr c_2
    obtain ⟨k, hk, rfl⟩ := moKept_nat hg7 hn (moAg3_k d_2)
    refine lv_iload_n hx hb dX4_orders_26 rfl (lv_at hl 2 rfl) ?_
    refine lv_iconst (v := 1) hx hb dX4_orders_27 (by decide) ?_
    refine lv_icmp_ne (tgt := 48) hx hb dX4_orders_28 (by decide) (fun c_3 => ?_) (fun c_3 => ?_)
    · -- 28 taken
      have n_3 : ¬ (3 = 1) := fun h => c_3 ((nI_eq (a := 3) (b := 1) (by omega) (by omega)).mpr h)
      refine lv_aload_n hx hb dX4_orders_48 rfl (lv_at hl 1 rfl) ?_
      refine lv_iconst (v := 0) hx hb dX4_orders_49 (by decide) ?_
      refine b_putM (C := RX4) (T := TX4) (N := 16) (ty := .int) (vv := 0) hx hb hts in_X4 tyX4_ok nmX4 hown hK hP hD hS 0 rfl rfl 7 (by decide) q1814 (fun _ h9 => h9) rfl (by decide +kernel) rfl rfl (Nat.le_of_ble_eq_true rfl) (moL_set7 _ _ _) dX4_orders_50 (fun H locs hP hD hS => ?_)
      have hP : WP Γ [[(a, moE r (upd i 7 0))], [((r 0), .inl (Γ.2.1 0, 523, .inl g))], [((r 4), .inl (Γ.2.1 0, 4184, .inl ps))]] H := hP
      have hD : WD A [[(a, moE r (upd i 7 0))], [((r 0), .inl (Γ.2.1 0, 523, .inl g))], [((r 4), .inl (Γ.2.1 0, 4184, .inl ps))]] := hD
      refine lv_aload_n hx hb dX4_orders_53 rfl (lv_at hl 1 rfl) ?_
      refine lv_aload_n hx hb dX4_orders_54 rfl (lv_at hl 1 rfl) ?_
      refine b_get (C := RX4) (T := TX4) (N := 16) (v := .ref (r 0)) hx hb hts in_X4 hown hK (b_at (k := 0) hP rfl) rfl 0 (by decide) q1807 (fun _ h9 => h9) rfl dX4_orders_55 ?_
      refine b_callv (br := []) (b_runV ⟨hx, hb, hml, hown, hts⟩ (mt_Mo_changes l Γ _ a r (upd i 7 0) (r 0) g ps pn (by first | exact h5 | (show i 5 = nI pn; exact h5)) hpn) (lw_V q1882 q1884 qs31 q73 q1885) rfl rfl 1 (by decide +kernel) ⟨(Nat.le_of_ble_eq_true rfl), (Nat.le_of_ble_eq_true rfl)⟩ (c_pre hP hD hS hA hK hE [0, 1, 2] rfl rfl ro_nil) (recv_at (q := (RX4, TX4, 16)) hK (b_at (k := 0) hP rfl) rfl) rfl hl.1 rfl (Nat.le_of_ble_eq_true rfl) dX4_orders_58 ⟨(Nat.le_of_ble_eq_true rfl), (Nat.le_of_ble_eq_true rfl)⟩) hP hD hS hA [0, 1, 2] [] rfl rfl rfl (fun u_4 H locs hw_4 hP hD hS _ => ?_)
      obtain rfl := hw_4
      have hP : WP Γ [[(a, moE r (upd (upd i 7 0) 5 (nI (moPushN pn))))], [((r 0), .inl (Γ.2.1 0, 523, .inl g))], [((r 4), .inl (Γ.2.1 0, 4184, .inl (moPush g ps pn)))]] H := hP
      have hD : WD A [[(a, moE r (upd (upd i 7 0) 5 (nI (moPushN pn))))], [((r 0), .inl (Γ.2.1 0, 523, .inl g))], [((r 4), .inl (Γ.2.1 0, 4184, .inl (moPush g ps pn)))]] := hD
      refine lv_aload_n hx hb dX4_orders_61 rfl (lv_at hl 1 rfl) ?_
      refine lv_iload_n hx hb dX4_orders_62 rfl (lv_at hl 2 rfl) ?_
      refine lv_iload_n hx hb dX4_orders_63 rfl (lv_at hl 3 rfl) ?_
      refine lv_iload_n hx hb dX4_orders_64 rfl (lv_at hl 4 rfl) ?_
      refine b_calli (br := [[((r 4), .inl (Γ.2.1 0, 4184, .inl (moPush g ps pn)))]]) (b_runV ⟨hx, hb, hml, hown, hts⟩ (mt_Mo_does_3 l Γ _ a r (upd (upd i 7 0) 5 (nI (moPushN pn))) g k v n (by first | exact hg7 | omega) (by first | exact hn | omega) (by omega)) (lw_V q1940 q1942 qs41 q73 q1943) rfl rfl 3 (by decide +kernel) ⟨(Nat.le_of_ble_eq_true rfl), (Nat.le_of_ble_eq_true rfl)⟩ (c_pre hP hD hS hA hK hE [0, 1] rfl rfl ro_nil) (recv_at (q := (RX4, TX4, 16)) hK (b_at (k := 0) hP rfl) rfl) rfl hl.1 rfl (Nat.le_of_ble_eq_true rfl) dX4_orders_65 ⟨(Nat.le_of_ble_eq_true rfl), (Nat.le_of_ble_eq_true rfl)⟩) hP hD hS hA [0, 1] [2] rfl rfl rfl (fun r_5 u_5 H locs hw_5 hP hD hS _ => ?_)
      obtain ⟨rfl, rfl⟩ := hw_5
      have hP : WP Γ [[(a, moE r (upd (upd i 7 0) 5 (nI (moPushN pn))))], [((r 0), .inl (Γ.2.1 0, 523, .inl (moDo3 g k)))], [((r 4), .inl (Γ.2.1 0, 4184, .inl (moPush g ps pn)))]] H := hP
      have hD : WD A [[(a, moE r (upd (upd i 7 0) 5 (nI (moPushN pn))))], [((r 0), .inl (Γ.2.1 0, 523, .inl (moDo3 g k)))], [((r 4), .inl (Γ.2.1 0, 4184, .inl (moPush g ps pn)))]] := hD
      exact b_iret hx hb hr hlocks hP hD hS (Nat.le_of_ble_eq_true rfl) (Nat.le_of_ble_eq_true rfl) ⟨(by first | with_reducible rfl | (simp [oI, oP, oG, oR, c_2, d_2, nI_clamp (show k < 2 ^ 31 by omega), n_3]; done) | rfl), (by first | with_reducible rfl | (simp [oI, oP, oG, oR, c_2, d_2, nI_clamp (show k < 2 ^ 31 by omega), n_3]; done) | rfl)⟩ dX4_orders_68
    · -- 28 not taken
      have n_3 : 3 = 1 := (nI_eq (by omega) (by omega)).mp (show nI 3 = nI 1 from c_3)
      exact absurd n_3 (by omega)
  · -- 11 not taken
    have d_2 := Int32.not_le.mp c_2
    refine lv_aload_n hx hb dX4_orders_14 rfl (lv_at hl 1 rfl) ?_
    refine lv_iload hx hb dX4_orders_15 (lv_at hl 0 rfl) ?_
    refine b_putM (C := RX4) (T := TX4) (N := 16) (ty := .int) (vv := (moAg3 g c)) hx hb hts in_X4 tyX4_ok nmX4 hown hK hP hD hS 0 rfl rfl 6 (by decide) q1813 (fun _ h9 => h9) rfl (by decide +kernel) rfl rfl (Nat.le_of_ble_eq_true rfl) (moL_set6 _ _ _) dX4_orders_17 (fun H locs hP hD hS => ?_)
    have hP : WP Γ [[(a, moE r (upd i 6 (moAg3 g c)))], [((r 0), .inl (Γ.2.1 0, 523, .inl g))], [((r 4), .inl (Γ.2.1 0, 4184, .inl ps))]] H := hP
    have hD : WD A [[(a, moE r (upd i 6 (moAg3 g c)))], [((r 0), .inl (Γ.2.1 0, 523, .inl g))], [((r 4), .inl (Γ.2.1 0, 4184, .inl ps))]] := hD
    refine lv_aload_n hx hb dX4_orders_20 rfl (lv_at hl 1 rfl) ?_
    refine lv_iconst (v := 1) hx hb dX4_orders_21 (by decide) ?_
    refine b_calli (br := [[((r 0), .inl (Γ.2.1 0, 523, .inl g))], [((r 4), .inl (Γ.2.1 0, 4184, .inl ps))]]) (b_runV ⟨hx, hb, hml, hown, hts⟩ (mt_Mo_fails l Γ _ a r (upd i 6 (moAg3 g c)) 1) (lw_V q1936 q1938 qs40 q73 q1939) rfl rfl 1 (by decide +kernel) ⟨(Nat.le_of_ble_eq_true rfl), (Nat.le_of_ble_eq_true rfl)⟩ (c_pre hP hD hS hA hK hE [0] rfl rfl ro_nil) (recv_at (q := (RX4, TX4, 16)) hK (b_at (k := 0) hP rfl) rfl) rfl hl.1 rfl (Nat.le_of_ble_eq_true rfl) dX4_orders_22 ⟨(Nat.le_of_ble_eq_true rfl), (Nat.le_of_ble_eq_true rfl)⟩) hP hD hS hA [0] [1, 2] rfl rfl rfl (fun r_6 u_6 H locs hw_6 hP hD hS _ => ?_)
    obtain ⟨rfl, rfl⟩ := hw_6
    have hP : WP Γ [[(a, moE r (upd (upd i 6 (moAg3 g c)) 7 1))], [((r 0), .inl (Γ.2.1 0, 523, .inl g))], [((r 4), .inl (Γ.2.1 0, 4184, .inl ps))]] H := hP
    have hD : WD A [[(a, moE r (upd (upd i 6 (moAg3 g c)) 7 1))], [((r 0), .inl (Γ.2.1 0, 523, .inl g))], [((r 4), .inl (Γ.2.1 0, 4184, .inl ps))]] := hD
    exact b_iret hx hb hr hlocks hP hD hS (Nat.le_of_ble_eq_true rfl) (Nat.le_of_ble_eq_true rfl) ⟨(by first | with_reducible rfl | (simp [oI, oP, oG, oR, c_2, d_2]; done) | rfl), (by first | with_reducible rfl | (simp [oI, oP, oG, oR, c_2, d_2]; done) | rfl)⟩ dX4_orders_25
set_option maxHeartbeats 4000000 in
set_option maxRecDepth 100000 in
theorem mt_Mo_orders_4 (l : Launch) (Γ : GE) (sz : Nat) (a : Nat) (r : Nat → Nat) (i : Nat → Int32) (g : Nat → Int32) (ps : Nat → Int32) (c : Int32) (v : Int32) (n : Nat) (pn : Nat) (hg7 : g 7 = nI n) (hn : n ≤ 8) (h5 : i 5 = nI pn) (hpn : pn ≤ 8) : KM l yX4_orders cX4_orders 5 (some FieldType.int) Γ 5 110 0 0 [.ref a, .int 4, .int c, .int v] [[(a, moE r i)], [((r 0), .inl (Γ.2.1 0, 523, .inl g))], [((r 4), .inl (Γ.2.1 0, 4184, .inl ps))]] [] sz (Qi Γ (fun r_ u_ => r_ = (oR (moAg1 g c) (moHerd (moDo4 g c.toNatClampNeg) n)) ∧ u_ = [[(a, moE r (oI i (moAg1 g c) pn))], [((r 0), .inl (Γ.2.1 0, 523, .inl (oG (moAg1 g c) g (moDo4 g c.toNatClampNeg))))], [((r 4), .inl (Γ.2.1 0, 4184, .inl (oP (moAg1 g c) g ps pn)))]])) := by
  refine K_intro (by decide) (Nat.le_of_ble_eq_true rfl) ?_
  intro pr_ ev_ s mi_ below meth cd_ A ls hx hb hr hml hown hts hlocks hname hK hE hRo hP hD hA hS hsz hl
  have hl : lv_has ls 5 [(0, .ref a), (1, .int 4), (2, .int c), (3, .int v)] := hl
  have hown : s.vm.findClass RX4 = some mi_.cls := hown
  refine lv_aload_n hx hb dX4_orders_0 rfl (lv_at hl 0 rfl) ?_
  refine lv_iload_n hx hb dX4_orders_1 rfl (lv_at hl 1 rfl) ?_
  refine lv_iload_n hx hb dX4_orders_2 rfl (lv_at hl 2 rfl) ?_
  refine lv_iload_n hx hb dX4_orders_3 rfl (lv_at hl 3 rfl) ?_
  refine b_calli (br := [[((r 4), .inl (Γ.2.1 0, 4184, .inl ps))]]) (b_runV ⟨hx, hb, hml, hown, hts⟩ (mt_Mo_against_4 l Γ _ a r i g c v n (by first | exact hg7 | omega) (by first | exact hn | omega)) (lw_V q1908 q1910 qs33 q73 q1911) rfl rfl 3 (by decide +kernel) ⟨(Nat.le_of_ble_eq_true rfl), (Nat.le_of_ble_eq_true rfl)⟩ (c_pre hP hD hS hA hK hE [0, 1] rfl rfl ro_nil) (recv_at (q := (RX4, TX4, 16)) hK (b_at (k := 0) hP rfl) rfl) rfl hl.1 rfl (Nat.le_of_ble_eq_true rfl) dX4_orders_4 ⟨(Nat.le_of_ble_eq_true rfl), (Nat.le_of_ble_eq_true rfl)⟩) hP hD hS hA [0, 1] [2] rfl rfl rfl (fun r_1 u_1 H locs hw_1 hP hD hS _ => ?_)
  obtain ⟨rfl, rfl⟩ := hw_1
  have hP : WP Γ [[(a, moE r i)], [((r 0), .inl (Γ.2.1 0, 523, .inl g))], [((r 4), .inl (Γ.2.1 0, 4184, .inl ps))]] H := hP
  have hD : WD A [[(a, moE r i)], [((r 0), .inl (Γ.2.1 0, 523, .inl g))], [((r 4), .inl (Γ.2.1 0, 4184, .inl ps))]] := hD
  refine lv_istore (lv' := [(4, .int (moAg1 g c)), (0, .ref a), (1, .int 4), (2, .int c), (3, .int v)]) hx hb dX4_orders_7 hl (by decide) rfl (fun ls hl => ?_)
  refine lv_iload hx hb dX4_orders_9 (lv_at hl 0 rfl) ?_
  refine lv_if_le (tgt := 26) hx hb dX4_orders_11 (by decide) (fun c_2 => ?_) (fun c_2 => ?_)
  · -- 11 taken
    have d_2 := Int32.not_lt.mpr c_2
    obtain ⟨k, hk, rfl⟩ := moKept_nat hg7 hn (moAg1_k d_2)
    refine lv_iload_n hx hb dX4_orders_26 rfl (lv_at hl 2 rfl) ?_
    refine lv_iconst (v := 1) hx hb dX4_orders_27 (by decide) ?_
    refine lv_icmp_ne (tgt := 48) hx hb dX4_orders_28 (by decide) (fun c_3 => ?_) (fun c_3 => ?_)
    · -- 28 taken
      have n_3 : ¬ (4 = 1) := fun h => c_3 ((nI_eq (a := 4) (b := 1) (by omega) (by omega)).mpr h)
      refine lv_aload_n hx hb dX4_orders_48 rfl (lv_at hl 1 rfl) ?_
      refine lv_iconst (v := 0) hx hb dX4_orders_49 (by decide) ?_
      refine b_putM (C := RX4) (T := TX4) (N := 16) (ty := .int) (vv := 0) hx hb hts in_X4 tyX4_ok nmX4 hown hK hP hD hS 0 rfl rfl 7 (by decide) q1814 (fun _ h9 => h9) rfl (by decide +kernel) rfl rfl (Nat.le_of_ble_eq_true rfl) (moL_set7 _ _ _) dX4_orders_50 (fun H locs hP hD hS => ?_)
      have hP : WP Γ [[(a, moE r (upd i 7 0))], [((r 0), .inl (Γ.2.1 0, 523, .inl g))], [((r 4), .inl (Γ.2.1 0, 4184, .inl ps))]] H := hP
      have hD : WD A [[(a, moE r (upd i 7 0))], [((r 0), .inl (Γ.2.1 0, 523, .inl g))], [((r 4), .inl (Γ.2.1 0, 4184, .inl ps))]] := hD
      refine lv_aload_n hx hb dX4_orders_53 rfl (lv_at hl 1 rfl) ?_
      refine lv_aload_n hx hb dX4_orders_54 rfl (lv_at hl 1 rfl) ?_
      refine b_get (C := RX4) (T := TX4) (N := 16) (v := .ref (r 0)) hx hb hts in_X4 hown hK (b_at (k := 0) hP rfl) rfl 0 (by decide) q1807 (fun _ h9 => h9) rfl dX4_orders_55 ?_
      refine b_callv (br := []) (b_runV ⟨hx, hb, hml, hown, hts⟩ (mt_Mo_changes l Γ _ a r (upd i 7 0) (r 0) g ps pn (by first | exact h5 | (show i 5 = nI pn; exact h5)) hpn) (lw_V q1882 q1884 qs31 q73 q1885) rfl rfl 1 (by decide +kernel) ⟨(Nat.le_of_ble_eq_true rfl), (Nat.le_of_ble_eq_true rfl)⟩ (c_pre hP hD hS hA hK hE [0, 1, 2] rfl rfl ro_nil) (recv_at (q := (RX4, TX4, 16)) hK (b_at (k := 0) hP rfl) rfl) rfl hl.1 rfl (Nat.le_of_ble_eq_true rfl) dX4_orders_58 ⟨(Nat.le_of_ble_eq_true rfl), (Nat.le_of_ble_eq_true rfl)⟩) hP hD hS hA [0, 1, 2] [] rfl rfl rfl (fun u_4 H locs hw_4 hP hD hS _ => ?_)
      obtain rfl := hw_4
      have hP : WP Γ [[(a, moE r (upd (upd i 7 0) 5 (nI (moPushN pn))))], [((r 0), .inl (Γ.2.1 0, 523, .inl g))], [((r 4), .inl (Γ.2.1 0, 4184, .inl (moPush g ps pn)))]] H := hP
      have hD : WD A [[(a, moE r (upd (upd i 7 0) 5 (nI (moPushN pn))))], [((r 0), .inl (Γ.2.1 0, 523, .inl g))], [((r 4), .inl (Γ.2.1 0, 4184, .inl (moPush g ps pn)))]] := hD
      refine lv_aload_n hx hb dX4_orders_61 rfl (lv_at hl 1 rfl) ?_
      refine lv_iload_n hx hb dX4_orders_62 rfl (lv_at hl 2 rfl) ?_
      refine lv_iload_n hx hb dX4_orders_63 rfl (lv_at hl 3 rfl) ?_
      refine lv_iload_n hx hb dX4_orders_64 rfl (lv_at hl 4 rfl) ?_
      refine b_calli (br := [[((r 4), .inl (Γ.2.1 0, 4184, .inl (moPush g ps pn)))]]) (b_runV ⟨hx, hb, hml, hown, hts⟩ (mt_Mo_does_4 l Γ _ a r (upd (upd i 7 0) 5 (nI (moPushN pn))) g k v n (by first | exact hg7 | omega) (by first | exact hn | omega) (by omega)) (lw_V q1940 q1942 qs41 q73 q1943) rfl rfl 3 (by decide +kernel) ⟨(Nat.le_of_ble_eq_true rfl), (Nat.le_of_ble_eq_true rfl)⟩ (c_pre hP hD hS hA hK hE [0, 1] rfl rfl ro_nil) (recv_at (q := (RX4, TX4, 16)) hK (b_at (k := 0) hP rfl) rfl) rfl hl.1 rfl (Nat.le_of_ble_eq_true rfl) dX4_orders_65 ⟨(Nat.le_of_ble_eq_true rfl), (Nat.le_of_ble_eq_true rfl)⟩) hP hD hS hA [0, 1] [2] rfl rfl rfl (fun r_5 u_5 H locs hw_5 hP hD hS _ => ?_)
      obtain ⟨rfl, rfl⟩ := hw_5
      have hP : WP Γ [[(a, moE r (upd (upd i 7 0) 5 (nI (moPushN pn))))], [((r 0), .inl (Γ.2.1 0, 523, .inl (moDo4 g k)))], [((r 4), .inl (Γ.2.1 0, 4184, .inl (moPush g ps pn)))]] H := hP
      have hD : WD A [[(a, moE r (upd (upd i 7 0) 5 (nI (moPushN pn))))], [((r 0), .inl (Γ.2.1 0, 523, .inl (moDo4 g k)))], [((r 4), .inl (Γ.2.1 0, 4184, .inl (moPush g ps pn)))]] := hD
      exact b_iret hx hb hr hlocks hP hD hS (Nat.le_of_ble_eq_true rfl) (Nat.le_of_ble_eq_true rfl) ⟨(by first | with_reducible rfl | (simp [oI, oP, oG, oR, c_2, d_2, nI_clamp (show k < 2 ^ 31 by omega), n_3]; done) | rfl), (by first | with_reducible rfl | (simp [oI, oP, oG, oR, c_2, d_2, nI_clamp (show k < 2 ^ 31 by omega), n_3]; done) | rfl)⟩ dX4_orders_68
    · -- 28 not taken
      have n_3 : 4 = 1 := (nI_eq (by omega) (by omega)).mp (show nI 4 = nI 1 from c_3)
      exact absurd n_3 (by omega)
  · -- 11 not taken
    have d_2 := Int32.not_le.mp c_2
    refine lv_aload_n hx hb dX4_orders_14 rfl (lv_at hl 1 rfl) ?_
    refine lv_iload hx hb dX4_orders_15 (lv_at hl 0 rfl) ?_
    refine b_putM (C := RX4) (T := TX4) (N := 16) (ty := .int) (vv := (moAg1 g c)) hx hb hts in_X4 tyX4_ok nmX4 hown hK hP hD hS 0 rfl rfl 6 (by decide) q1813 (fun _ h9 => h9) rfl (by decide +kernel) rfl rfl (Nat.le_of_ble_eq_true rfl) (moL_set6 _ _ _) dX4_orders_17 (fun H locs hP hD hS => ?_)
    have hP : WP Γ [[(a, moE r (upd i 6 (moAg1 g c)))], [((r 0), .inl (Γ.2.1 0, 523, .inl g))], [((r 4), .inl (Γ.2.1 0, 4184, .inl ps))]] H := hP
    have hD : WD A [[(a, moE r (upd i 6 (moAg1 g c)))], [((r 0), .inl (Γ.2.1 0, 523, .inl g))], [((r 4), .inl (Γ.2.1 0, 4184, .inl ps))]] := hD
    refine lv_aload_n hx hb dX4_orders_20 rfl (lv_at hl 1 rfl) ?_
    refine lv_iconst (v := 1) hx hb dX4_orders_21 (by decide) ?_
    refine b_calli (br := [[((r 0), .inl (Γ.2.1 0, 523, .inl g))], [((r 4), .inl (Γ.2.1 0, 4184, .inl ps))]]) (b_runV ⟨hx, hb, hml, hown, hts⟩ (mt_Mo_fails l Γ _ a r (upd i 6 (moAg1 g c)) 1) (lw_V q1936 q1938 qs40 q73 q1939) rfl rfl 1 (by decide +kernel) ⟨(Nat.le_of_ble_eq_true rfl), (Nat.le_of_ble_eq_true rfl)⟩ (c_pre hP hD hS hA hK hE [0] rfl rfl ro_nil) (recv_at (q := (RX4, TX4, 16)) hK (b_at (k := 0) hP rfl) rfl) rfl hl.1 rfl (Nat.le_of_ble_eq_true rfl) dX4_orders_22 ⟨(Nat.le_of_ble_eq_true rfl), (Nat.le_of_ble_eq_true rfl)⟩) hP hD hS hA [0] [1, 2] rfl rfl rfl (fun r_6 u_6 H locs hw_6 hP hD hS _ => ?_)
    obtain ⟨rfl, rfl⟩ := hw_6
    have hP : WP Γ [[(a, moE r (upd (upd i 6 (moAg1 g c)) 7 1))], [((r 0), .inl (Γ.2.1 0, 523, .inl g))], [((r 4), .inl (Γ.2.1 0, 4184, .inl ps))]] H := hP
    have hD : WD A [[(a, moE r (upd (upd i 6 (moAg1 g c)) 7 1))], [((r 0), .inl (Γ.2.1 0, 523, .inl g))], [((r 4), .inl (Γ.2.1 0, 4184, .inl ps))]] := hD
    exact b_iret hx hb hr hlocks hP hD hS (Nat.le_of_ble_eq_true rfl) (Nat.le_of_ble_eq_true rfl) ⟨(by first | with_reducible rfl | (simp [oI, oP, oG, oR, c_2, d_2]; done) | rfl), (by first | with_reducible rfl | (simp [oI, oP, oG, oR, c_2, d_2]; done) | rfl)⟩ dX4_orders_25
set_option maxHeartbeats 4000000 in
set_option maxRecDepth 100000 in
theorem mt_Mo_orders_5 (l : Launch) (Γ : GE) (sz : Nat) (a : Nat) (r : Nat → Nat) (i : Nat → Int32) (g : Nat → Int32) (ps : Nat → Int32) (c : Int32) (v : Int32) (n : Nat) (pn : Nat) (hg10 : g 10 = nI n) (hn : n ≤ 200) (h5 : i 5 = nI pn) (hpn : pn ≤ 8) : KM l yX4_orders cX4_orders 5 (some FieldType.int) Γ 3 69 0 0 [.ref a, .int 5, .int c, .int v] [[(a, moE r i)], [((r 0), .inl (Γ.2.1 0, 523, .inl g))], [((r 4), .inl (Γ.2.1 0, 4184, .inl ps))]] [] sz (Qi Γ (fun r_ u_ => r_ = (oR (moAg5 g c v n) (moRows g c v n 10)) ∧ u_ = [[(a, moE r (oI i (moAg5 g c v n) pn))], [((r 0), .inl (Γ.2.1 0, 523, .inl (oG (moAg5 g c v n) g (moRows g c v n))))], [((r 4), .inl (Γ.2.1 0, 4184, .inl (oP (moAg5 g c v n) g ps pn)))]])) := by
  refine K_intro (by decide) (Nat.le_of_ble_eq_true rfl) ?_
  intro pr_ ev_ s mi_ below meth cd_ A ls hx hb hr hml hown hts hlocks hname hK hE hRo hP hD hA hS hsz hl
  have hl : lv_has ls 5 [(0, .ref a), (1, .int 5), (2, .int c), (3, .int v)] := hl
  have hown : s.vm.findClass RX4 = some mi_.cls := hown
  refine lv_aload_n hx hb dX4_orders_0 rfl (lv_at hl 0 rfl) ?_
  refine lv_iload_n hx hb dX4_orders_1 rfl (lv_at hl 1 rfl) ?_
  refine lv_iload_n hx hb dX4_orders_2 rfl (lv_at hl 2 rfl) ?_
  refine lv_iload_n hx hb dX4_orders_3 rfl (lv_at hl 3 rfl) ?_
  refine b_calli (br := [[((r 4), .inl (Γ.2.1 0, 4184, .inl ps))]]) (b_runV ⟨hx, hb, hml, hown, hts⟩ (mt_Mo_against_5 l Γ _ a r i g c v n (by first | exact hg10 | omega) (by first | exact hn | omega)) (lw_V q1908 q1910 qs33 q73 q1911) rfl rfl 3 (by decide +kernel) ⟨(Nat.le_of_ble_eq_true rfl), (Nat.le_of_ble_eq_true rfl)⟩ (c_pre hP hD hS hA hK hE [0, 1] rfl rfl ro_nil) (recv_at (q := (RX4, TX4, 16)) hK (b_at (k := 0) hP rfl) rfl) rfl hl.1 rfl (Nat.le_of_ble_eq_true rfl) dX4_orders_4 ⟨(Nat.le_of_ble_eq_true rfl), (Nat.le_of_ble_eq_true rfl)⟩) hP hD hS hA [0, 1] [2] rfl rfl rfl (fun r_1 u_1 H locs hw_1 hP hD hS _ => ?_)
  obtain ⟨rfl, rfl⟩ := hw_1
  have hP : WP Γ [[(a, moE r i)], [((r 0), .inl (Γ.2.1 0, 523, .inl g))], [((r 4), .inl (Γ.2.1 0, 4184, .inl ps))]] H := hP
  have hD : WD A [[(a, moE r i)], [((r 0), .inl (Γ.2.1 0, 523, .inl g))], [((r 4), .inl (Γ.2.1 0, 4184, .inl ps))]] := hD
  refine lv_istore (lv' := [(4, .int (moAg5 g c v n)), (0, .ref a), (1, .int 5), (2, .int c), (3, .int v)]) hx hb dX4_orders_7 hl (by decide) rfl (fun ls hl => ?_)
  refine lv_iload hx hb dX4_orders_9 (lv_at hl 0 rfl) ?_
  refine lv_if_le (tgt := 26) hx hb dX4_orders_11 (by decide) (fun c_2 => ?_) (fun c_2 => ?_)
  · -- 11 taken
    have d_2 := Int32.not_lt.mpr c_2
    refine lv_iload_n hx hb dX4_orders_26 rfl (lv_at hl 2 rfl) ?_
    refine lv_iconst (v := 1) hx hb dX4_orders_27 (by decide) ?_
    refine lv_icmp_ne (tgt := 48) hx hb dX4_orders_28 (by decide) (fun c_3 => ?_) (fun c_3 => ?_)
    · -- 28 taken
      have n_3 : ¬ (5 = 1) := fun h => c_3 ((nI_eq (a := 5) (b := 1) (by omega) (by omega)).mpr h)
      refine lv_aload_n hx hb dX4_orders_48 rfl (lv_at hl 1 rfl) ?_
      refine lv_iconst (v := 0) hx hb dX4_orders_49 (by decide) ?_
      refine b_putM (C := RX4) (T := TX4) (N := 16) (ty := .int) (vv := 0) hx hb hts in_X4 tyX4_ok nmX4 hown hK hP hD hS 0 rfl rfl 7 (by decide) q1814 (fun _ h9 => h9) rfl (by decide +kernel) rfl rfl (Nat.le_of_ble_eq_true rfl) (moL_set7 _ _ _) dX4_orders_50 (fun H locs hP hD hS => ?_)
      have hP : WP Γ [[(a, moE r (upd i 7 0))], [((r 0), .inl (Γ.2.1 0, 523, .inl g))], [((r 4), .inl (Γ.2.1 0, 4184, .inl ps))]] H := hP
      have hD : WD A [[(a, moE r (upd i 7 0))], [((r 0), .inl (Γ.2.1 0, 523, .inl g))], [((r 4), .inl (Γ.2.1 0, 4184, .inl ps))]] := hD
      refine lv_aload_n hx hb dX4_orders_53 rfl (lv_at hl 1 rfl) ?_
      refine lv_aload_n hx hb dX4_orders_54 rfl (lv_at hl 1 rfl) ?_
      refine b_get (C := RX4) (T := TX4) (N := 16) (v := .ref (r 0)) hx hb hts in_X4 hown hK (b_at (k := 0) hP rfl) rfl 0 (by decide) q1807 (fun _ h9 => h9) rfl dX4_orders_55 ?_
      refine b_callv (br := []) (b_runV ⟨hx, hb, hml, hown, hts⟩ (mt_Mo_changes l Γ _ a r (upd i 7 0) (r 0) g ps pn (by first | exact h5 | (show i 5 = nI pn; exact h5)) hpn) (lw_V q1882 q1884 qs31 q73 q1885) rfl rfl 1 (by decide +kernel) ⟨(Nat.le_of_ble_eq_true rfl), (Nat.le_of_ble_eq_true rfl)⟩ (c_pre hP hD hS hA hK hE [0, 1, 2] rfl rfl ro_nil) (recv_at (q := (RX4, TX4, 16)) hK (b_at (k := 0) hP rfl) rfl) rfl hl.1 rfl (Nat.le_of_ble_eq_true rfl) dX4_orders_58 ⟨(Nat.le_of_ble_eq_true rfl), (Nat.le_of_ble_eq_true rfl)⟩) hP hD hS hA [0, 1, 2] [] rfl rfl rfl (fun u_4 H locs hw_4 hP hD hS _ => ?_)
      obtain rfl := hw_4
      have hP : WP Γ [[(a, moE r (upd (upd i 7 0) 5 (nI (moPushN pn))))], [((r 0), .inl (Γ.2.1 0, 523, .inl g))], [((r 4), .inl (Γ.2.1 0, 4184, .inl (moPush g ps pn)))]] H := hP
      have hD : WD A [[(a, moE r (upd (upd i 7 0) 5 (nI (moPushN pn))))], [((r 0), .inl (Γ.2.1 0, 523, .inl g))], [((r 4), .inl (Γ.2.1 0, 4184, .inl (moPush g ps pn)))]] := hD
      refine lv_aload_n hx hb dX4_orders_61 rfl (lv_at hl 1 rfl) ?_
      refine lv_iload_n hx hb dX4_orders_62 rfl (lv_at hl 2 rfl) ?_
      refine lv_iload_n hx hb dX4_orders_63 rfl (lv_at hl 3 rfl) ?_
      refine lv_iload_n hx hb dX4_orders_64 rfl (lv_at hl 4 rfl) ?_
      refine b_calli (br := [[((r 4), .inl (Γ.2.1 0, 4184, .inl (moPush g ps pn)))]]) (b_runV ⟨hx, hb, hml, hown, hts⟩ (mt_Mo_does_5 l Γ _ a r (upd (upd i 7 0) 5 (nI (moPushN pn))) g c v n (by first | exact hg10 | omega) (by first | exact hn | omega)) (lw_V q1940 q1942 qs41 q73 q1943) rfl rfl 3 (by decide +kernel) ⟨(Nat.le_of_ble_eq_true rfl), (Nat.le_of_ble_eq_true rfl)⟩ (c_pre hP hD hS hA hK hE [0, 1] rfl rfl ro_nil) (recv_at (q := (RX4, TX4, 16)) hK (b_at (k := 0) hP rfl) rfl) rfl hl.1 rfl (Nat.le_of_ble_eq_true rfl) dX4_orders_65 ⟨(Nat.le_of_ble_eq_true rfl), (Nat.le_of_ble_eq_true rfl)⟩) hP hD hS hA [0, 1] [2] rfl rfl rfl (fun r_5 u_5 H locs hw_5 hP hD hS _ => ?_)
      obtain ⟨rfl, rfl⟩ := hw_5
      have hP : WP Γ [[(a, moE r (upd (upd i 7 0) 5 (nI (moPushN pn))))], [((r 0), .inl (Γ.2.1 0, 523, .inl (moRows g c v n)))], [((r 4), .inl (Γ.2.1 0, 4184, .inl (moPush g ps pn)))]] H := hP
      have hD : WD A [[(a, moE r (upd (upd i 7 0) 5 (nI (moPushN pn))))], [((r 0), .inl (Γ.2.1 0, 523, .inl (moRows g c v n)))], [((r 4), .inl (Γ.2.1 0, 4184, .inl (moPush g ps pn)))]] := hD
      exact b_iret hx hb hr hlocks hP hD hS (Nat.le_of_ble_eq_true rfl) (Nat.le_of_ble_eq_true rfl) ⟨(by first | with_reducible rfl | (simp [oI, oP, oG, oR, c_2, d_2, n_3]; done) | rfl), (by first | with_reducible rfl | (simp [oI, oP, oG, oR, c_2, d_2, n_3]; done) | rfl)⟩ dX4_orders_68
    · -- 28 not taken
      have n_3 : 5 = 1 := (nI_eq (by omega) (by omega)).mp (show nI 5 = nI 1 from c_3)
      exact absurd n_3 (by omega)
  · -- 11 not taken
    have d_2 := Int32.not_le.mp c_2
    refine lv_aload_n hx hb dX4_orders_14 rfl (lv_at hl 1 rfl) ?_
    refine lv_iload hx hb dX4_orders_15 (lv_at hl 0 rfl) ?_
    refine b_putM (C := RX4) (T := TX4) (N := 16) (ty := .int) (vv := (moAg5 g c v n)) hx hb hts in_X4 tyX4_ok nmX4 hown hK hP hD hS 0 rfl rfl 6 (by decide) q1813 (fun _ h9 => h9) rfl (by decide +kernel) rfl rfl (Nat.le_of_ble_eq_true rfl) (moL_set6 _ _ _) dX4_orders_17 (fun H locs hP hD hS => ?_)
    have hP : WP Γ [[(a, moE r (upd i 6 (moAg5 g c v n)))], [((r 0), .inl (Γ.2.1 0, 523, .inl g))], [((r 4), .inl (Γ.2.1 0, 4184, .inl ps))]] H := hP
    have hD : WD A [[(a, moE r (upd i 6 (moAg5 g c v n)))], [((r 0), .inl (Γ.2.1 0, 523, .inl g))], [((r 4), .inl (Γ.2.1 0, 4184, .inl ps))]] := hD
    refine lv_aload_n hx hb dX4_orders_20 rfl (lv_at hl 1 rfl) ?_
    refine lv_iconst (v := 1) hx hb dX4_orders_21 (by decide) ?_
    refine b_calli (br := [[((r 0), .inl (Γ.2.1 0, 523, .inl g))], [((r 4), .inl (Γ.2.1 0, 4184, .inl ps))]]) (b_runV ⟨hx, hb, hml, hown, hts⟩ (mt_Mo_fails l Γ _ a r (upd i 6 (moAg5 g c v n)) 1) (lw_V q1936 q1938 qs40 q73 q1939) rfl rfl 1 (by decide +kernel) ⟨(Nat.le_of_ble_eq_true rfl), (Nat.le_of_ble_eq_true rfl)⟩ (c_pre hP hD hS hA hK hE [0] rfl rfl ro_nil) (recv_at (q := (RX4, TX4, 16)) hK (b_at (k := 0) hP rfl) rfl) rfl hl.1 rfl (Nat.le_of_ble_eq_true rfl) dX4_orders_22 ⟨(Nat.le_of_ble_eq_true rfl), (Nat.le_of_ble_eq_true rfl)⟩) hP hD hS hA [0] [1, 2] rfl rfl rfl (fun r_6 u_6 H locs hw_6 hP hD hS _ => ?_)
    obtain ⟨rfl, rfl⟩ := hw_6
    have hP : WP Γ [[(a, moE r (upd (upd i 6 (moAg5 g c v n)) 7 1))], [((r 0), .inl (Γ.2.1 0, 523, .inl g))], [((r 4), .inl (Γ.2.1 0, 4184, .inl ps))]] H := hP
    have hD : WD A [[(a, moE r (upd (upd i 6 (moAg5 g c v n)) 7 1))], [((r 0), .inl (Γ.2.1 0, 523, .inl g))], [((r 4), .inl (Γ.2.1 0, 4184, .inl ps))]] := hD
    exact b_iret hx hb hr hlocks hP hD hS (Nat.le_of_ble_eq_true rfl) (Nat.le_of_ble_eq_true rfl) ⟨(by first | with_reducible rfl | (simp [oI, oP, oG, oR, c_2, d_2]; done) | rfl), (by first | with_reducible rfl | (simp [oI, oP, oG, oR, c_2, d_2]; done) | rfl)⟩ dX4_orders_25
set_option maxHeartbeats 4000000 in
set_option maxRecDepth 100000 in
theorem mt_Mo_hold (l : Launch) (Γ : GE) (sz : Nat) (a : Nat) (r : Nat → Nat) (i : Nat → Int32) (g : Nat → Int32) (ps : Nat → Int32) (c : Int32) (v : Int32) (n : Nat) (pn : Nat) (hg7 : g 7 = nI n) (hn : n ≤ 8) (h5 : i 5 = nI pn) (hpn : pn ≤ 8) : KM l yX4_hold cX4_hold 3 (some FieldType.int) Γ 5 111 0 0 [.ref a, .int c, .int v] [[(a, moE r i)], [((r 0), .inl (Γ.2.1 0, 523, .inl g))], [((r 4), .inl (Γ.2.1 0, 4184, .inl ps))]] [] sz (Qi Γ (fun r_ u_ => r_ = (oR (moAg0 g c v) (moDo0 g c.toNatClampNeg v (10 * c.toNatClampNeg + 22))) ∧ u_ = [[(a, moE r (oI i (moAg0 g c v) pn))], [((r 0), .inl (Γ.2.1 0, 523, .inl (oG (moAg0 g c v) g (moDo0 g c.toNatClampNeg v))))], [((r 4), .inl (Γ.2.1 0, 4184, .inl (oP (moAg0 g c v) g ps pn)))]])) := by
  refine K_intro (by decide) (Nat.le_of_ble_eq_true rfl) ?_
  intro pr_ ev_ s mi_ below meth cd_ A ls hx hb hr hml hown hts hlocks hname hK hE hRo hP hD hA hS hsz hl
  have hl : lv_has ls 3 [(0, .ref a), (1, .int c), (2, .int v)] := hl
  have hown : s.vm.findClass RX4 = some mi_.cls := hown
  refine lv_aload_n hx hb dX4_hold_0 rfl (lv_at hl 0 rfl) ?_
  refine lv_iconst (v := 0) hx hb dX4_hold_1 (by decide) ?_
  refine lv_iload_n hx hb dX4_hold_2 rfl (lv_at hl 1 rfl) ?_
  refine lv_iload_n hx hb dX4_hold_3 rfl (lv_at hl 2 rfl) ?_
  refine b_calli (br := []) (b_runV ⟨hx, hb, hml, hown, hts⟩ (mt_Mo_orders_0 l Γ _ a r i g ps c v n pn (by first | exact hg7 | omega) (by first | exact hn | omega) (by first | exact h5 | omega) (by first | exact hpn | omega)) (lw_V q1904 q1906 qs32 q73 q1907) rfl rfl 3 (by decide +kernel) ⟨(Nat.le_of_ble_eq_true rfl), (Nat.le_of_ble_eq_true rfl)⟩ (c_pre hP hD hS hA hK hE [0, 1, 2] rfl rfl ro_nil) (recv_at (q := (RX4, TX4, 16)) hK (b_at (k := 0) hP rfl) rfl) rfl hl.1 rfl (Nat.le_of_ble_eq_true rfl) dX4_hold_4 ⟨(Nat.le_of_ble_eq_true rfl), (Nat.le_of_ble_eq_true rfl)⟩) hP hD hS hA [0, 1, 2] [] rfl rfl rfl (fun r_1 u_1 H locs hw_1 hP hD hS _ => ?_)
  obtain ⟨rfl, rfl⟩ := hw_1
  have hP : WP Γ [[(a, moE r (oI i (moAg0 g c v) pn))], [((r 0), .inl (Γ.2.1 0, 523, .inl (oG (moAg0 g c v) g (moDo0 g c.toNatClampNeg v))))], [((r 4), .inl (Γ.2.1 0, 4184, .inl (oP (moAg0 g c v) g ps pn)))]] H := hP
  have hD : WD A [[(a, moE r (oI i (moAg0 g c v) pn))], [((r 0), .inl (Γ.2.1 0, 523, .inl (oG (moAg0 g c v) g (moDo0 g c.toNatClampNeg v))))], [((r 4), .inl (Γ.2.1 0, 4184, .inl (oP (moAg0 g c v) g ps pn)))]] := hD
  exact b_iret hx hb hr hlocks hP hD hS (Nat.le_of_ble_eq_true rfl) (Nat.le_of_ble_eq_true rfl) ⟨(by first | rfl | (simp; done)), (by first | rfl | (simp; done))⟩ dX4_hold_7
set_option maxHeartbeats 4000000 in
set_option maxRecDepth 100000 in
theorem mt_Mo_setCells (l : Launch) (Γ : GE) (sz : Nat) (a : Nat) (r : Nat → Nat) (i : Nat → Int32) (g : Nat → Int32) (ps : Nat → Int32) (c : Int32) (v : Int32) (n : Nat) (pn : Nat) (hg7 : g 7 = nI n) (hn : n ≤ 8) (h5 : i 5 = nI pn) (hpn : pn ≤ 8) : KM l yX4_setCells cX4_setCells 3 (some FieldType.int) Γ 5 111 0 0 [.ref a, .int c, .int v] [[(a, moE r i)], [((r 0), .inl (Γ.2.1 0, 523, .inl g))], [((r 4), .inl (Γ.2.1 0, 4184, .inl ps))]] [] sz (Qi Γ (fun r_ u_ => r_ = (oR1 (moAg1 g c) v (g (10 * c.toNatClampNeg + 17))) ∧ u_ = [[(a, moE r (oI1 i (moAg1 g c) v pn))], [((r 0), .inl (Γ.2.1 0, 523, .inl (oG1 (moAg1 g c) v g (moDo1 g c.toNatClampNeg v))))], [((r 4), .inl (Γ.2.1 0, 4184, .inl (oP1 (moAg1 g c) v g ps pn)))]])) := by
  refine K_intro (by decide) (Nat.le_of_ble_eq_true rfl) ?_
  intro pr_ ev_ s mi_ below meth cd_ A ls hx hb hr hml hown hts hlocks hname hK hE hRo hP hD hA hS hsz hl
  have hl : lv_has ls 3 [(0, .ref a), (1, .int c), (2, .int v)] := hl
  have hown : s.vm.findClass RX4 = some mi_.cls := hown
  refine lv_aload_n hx hb dX4_setCells_0 rfl (lv_at hl 0 rfl) ?_
  refine lv_iconst (v := 1) hx hb dX4_setCells_1 (by decide) ?_
  refine lv_iload_n hx hb dX4_setCells_2 rfl (lv_at hl 1 rfl) ?_
  refine lv_iload_n hx hb dX4_setCells_3 rfl (lv_at hl 2 rfl) ?_
  refine b_calli (br := []) (b_runV ⟨hx, hb, hml, hown, hts⟩ (mt_Mo_orders_1 l Γ _ a r i g ps c v n pn (by first | exact hg7 | omega) (by first | exact hn | omega) (by first | exact h5 | omega) (by first | exact hpn | omega)) (lw_V q1904 q1906 qs32 q73 q1907) rfl rfl 3 (by decide +kernel) ⟨(Nat.le_of_ble_eq_true rfl), (Nat.le_of_ble_eq_true rfl)⟩ (c_pre hP hD hS hA hK hE [0, 1, 2] rfl rfl ro_nil) (recv_at (q := (RX4, TX4, 16)) hK (b_at (k := 0) hP rfl) rfl) rfl hl.1 rfl (Nat.le_of_ble_eq_true rfl) dX4_setCells_4 ⟨(Nat.le_of_ble_eq_true rfl), (Nat.le_of_ble_eq_true rfl)⟩) hP hD hS hA [0, 1, 2] [] rfl rfl rfl (fun r_1 u_1 H locs hw_1 hP hD hS _ => ?_)
  obtain ⟨rfl, rfl⟩ := hw_1
  have hP : WP Γ [[(a, moE r (oI1 i (moAg1 g c) v pn))], [((r 0), .inl (Γ.2.1 0, 523, .inl (oG1 (moAg1 g c) v g (moDo1 g c.toNatClampNeg v))))], [((r 4), .inl (Γ.2.1 0, 4184, .inl (oP1 (moAg1 g c) v g ps pn)))]] H := hP
  have hD : WD A [[(a, moE r (oI1 i (moAg1 g c) v pn))], [((r 0), .inl (Γ.2.1 0, 523, .inl (oG1 (moAg1 g c) v g (moDo1 g c.toNatClampNeg v))))], [((r 4), .inl (Γ.2.1 0, 4184, .inl (oP1 (moAg1 g c) v g ps pn)))]] := hD
  exact b_iret hx hb hr hlocks hP hD hS (Nat.le_of_ble_eq_true rfl) (Nat.le_of_ble_eq_true rfl) ⟨(by first | rfl | (simp; done)), (by first | rfl | (simp; done))⟩ dX4_setCells_7
set_option maxHeartbeats 4000000 in
set_option maxRecDepth 100000 in
theorem mt_Mo_serve (l : Launch) (Γ : GE) (sz : Nat) (a : Nat) (r : Nat → Nat) (i : Nat → Int32) (g : Nat → Int32) (ps : Nat → Int32) (c : Int32) (n : Nat) (pn : Nat) (hg7 : g 7 = nI n) (hn : n ≤ 8) (h5 : i 5 = nI pn) (hpn : pn ≤ 8) : KM l yX4_serve cX4_serve 2 (some FieldType.int) Γ 5 111 0 0 [.ref a, .int c] [[(a, moE r i)], [((r 0), .inl (Γ.2.1 0, 523, .inl g))], [((r 4), .inl (Γ.2.1 0, 4184, .inl ps))]] [] sz (Qi Γ (fun r_ u_ => r_ = (oR (moAg2 g c) (g 0 + g 1)) ∧ u_ = [[(a, moE r (oI i (moAg2 g c) pn))], [((r 0), .inl (Γ.2.1 0, 523, .inl (oG (moAg2 g c) g (moDo2 g c.toNatClampNeg))))], [((r 4), .inl (Γ.2.1 0, 4184, .inl (oP (moAg2 g c) g ps pn)))]])) := by
  refine K_intro (by decide) (Nat.le_of_ble_eq_true rfl) ?_
  intro pr_ ev_ s mi_ below meth cd_ A ls hx hb hr hml hown hts hlocks hname hK hE hRo hP hD hA hS hsz hl
  have hl : lv_has ls 2 [(0, .ref a), (1, .int c)] := hl
  have hown : s.vm.findClass RX4 = some mi_.cls := hown
  refine lv_aload_n hx hb dX4_serve_0 rfl (lv_at hl 0 rfl) ?_
  refine lv_iconst (v := 2) hx hb dX4_serve_1 (by decide) ?_
  refine lv_iload_n hx hb dX4_serve_2 rfl (lv_at hl 1 rfl) ?_
  refine lv_iconst (v := 0) hx hb dX4_serve_3 (by decide) ?_
  refine b_calli (br := []) (b_runV ⟨hx, hb, hml, hown, hts⟩ (mt_Mo_orders_2 l Γ _ a r i g ps c 0 n pn (by first | exact hg7 | omega) (by first | exact hn | omega) (by first | exact h5 | omega) (by first | exact hpn | omega)) (lw_V q1904 q1906 qs32 q73 q1907) rfl rfl 3 (by decide +kernel) ⟨(Nat.le_of_ble_eq_true rfl), (Nat.le_of_ble_eq_true rfl)⟩ (c_pre hP hD hS hA hK hE [0, 1, 2] rfl rfl ro_nil) (recv_at (q := (RX4, TX4, 16)) hK (b_at (k := 0) hP rfl) rfl) rfl hl.1 rfl (Nat.le_of_ble_eq_true rfl) dX4_serve_4 ⟨(Nat.le_of_ble_eq_true rfl), (Nat.le_of_ble_eq_true rfl)⟩) hP hD hS hA [0, 1, 2] [] rfl rfl rfl (fun r_1 u_1 H locs hw_1 hP hD hS _ => ?_)
  obtain ⟨rfl, rfl⟩ := hw_1
  have hP : WP Γ [[(a, moE r (oI i (moAg2 g c) pn))], [((r 0), .inl (Γ.2.1 0, 523, .inl (oG (moAg2 g c) g (moDo2 g c.toNatClampNeg))))], [((r 4), .inl (Γ.2.1 0, 4184, .inl (oP (moAg2 g c) g ps pn)))]] H := hP
  have hD : WD A [[(a, moE r (oI i (moAg2 g c) pn))], [((r 0), .inl (Γ.2.1 0, 523, .inl (oG (moAg2 g c) g (moDo2 g c.toNatClampNeg))))], [((r 4), .inl (Γ.2.1 0, 4184, .inl (oP (moAg2 g c) g ps pn)))]] := hD
  exact b_iret hx hb hr hlocks hP hD hS (Nat.le_of_ble_eq_true rfl) (Nat.le_of_ble_eq_true rfl) ⟨(by first | rfl | (simp; done)), (by first | rfl | (simp; done))⟩ dX4_serve_7
set_option maxHeartbeats 4000000 in
set_option maxRecDepth 100000 in
theorem mt_Mo_dry (l : Launch) (Γ : GE) (sz : Nat) (a : Nat) (r : Nat → Nat) (i : Nat → Int32) (g : Nat → Int32) (ps : Nat → Int32) (c : Int32) (n : Nat) (pn : Nat) (hg7 : g 7 = nI n) (hn : n ≤ 8) (h5 : i 5 = nI pn) (hpn : pn ≤ 8) : KM l yX4_dry cX4_dry 2 (some FieldType.int) Γ 5 111 0 0 [.ref a, .int c] [[(a, moE r i)], [((r 0), .inl (Γ.2.1 0, 523, .inl g))], [((r 4), .inl (Γ.2.1 0, 4184, .inl ps))]] [] sz (Qi Γ (fun r_ u_ => r_ = (oR (moAg3 g c) (g 0 - g (10 * c.toNatClampNeg + 20))) ∧ u_ = [[(a, moE r (oI i (moAg3 g c) pn))], [((r 0), .inl (Γ.2.1 0, 523, .inl (oG (moAg3 g c) g (moDo3 g c.toNatClampNeg))))], [((r 4), .inl (Γ.2.1 0, 4184, .inl (oP (moAg3 g c) g ps pn)))]])) := by
  refine K_intro (by decide) (Nat.le_of_ble_eq_true rfl) ?_
  intro pr_ ev_ s mi_ below meth cd_ A ls hx hb hr hml hown hts hlocks hname hK hE hRo hP hD hA hS hsz hl
  have hl : lv_has ls 2 [(0, .ref a), (1, .int c)] := hl
  have hown : s.vm.findClass RX4 = some mi_.cls := hown
  refine lv_aload_n hx hb dX4_dry_0 rfl (lv_at hl 0 rfl) ?_
  refine lv_iconst (v := 3) hx hb dX4_dry_1 (by decide) ?_
  refine lv_iload_n hx hb dX4_dry_2 rfl (lv_at hl 1 rfl) ?_
  refine lv_iconst (v := 0) hx hb dX4_dry_3 (by decide) ?_
  refine b_calli (br := []) (b_runV ⟨hx, hb, hml, hown, hts⟩ (mt_Mo_orders_3 l Γ _ a r i g ps c 0 n pn (by first | exact hg7 | omega) (by first | exact hn | omega) (by first | exact h5 | omega) (by first | exact hpn | omega)) (lw_V q1904 q1906 qs32 q73 q1907) rfl rfl 3 (by decide +kernel) ⟨(Nat.le_of_ble_eq_true rfl), (Nat.le_of_ble_eq_true rfl)⟩ (c_pre hP hD hS hA hK hE [0, 1, 2] rfl rfl ro_nil) (recv_at (q := (RX4, TX4, 16)) hK (b_at (k := 0) hP rfl) rfl) rfl hl.1 rfl (Nat.le_of_ble_eq_true rfl) dX4_dry_4 ⟨(Nat.le_of_ble_eq_true rfl), (Nat.le_of_ble_eq_true rfl)⟩) hP hD hS hA [0, 1, 2] [] rfl rfl rfl (fun r_1 u_1 H locs hw_1 hP hD hS _ => ?_)
  obtain ⟨rfl, rfl⟩ := hw_1
  have hP : WP Γ [[(a, moE r (oI i (moAg3 g c) pn))], [((r 0), .inl (Γ.2.1 0, 523, .inl (oG (moAg3 g c) g (moDo3 g c.toNatClampNeg))))], [((r 4), .inl (Γ.2.1 0, 4184, .inl (oP (moAg3 g c) g ps pn)))]] H := hP
  have hD : WD A [[(a, moE r (oI i (moAg3 g c) pn))], [((r 0), .inl (Γ.2.1 0, 523, .inl (oG (moAg3 g c) g (moDo3 g c.toNatClampNeg))))], [((r 4), .inl (Γ.2.1 0, 4184, .inl (oP (moAg3 g c) g ps pn)))]] := hD
  exact b_iret hx hb hr hlocks hP hD hS (Nat.le_of_ble_eq_true rfl) (Nat.le_of_ble_eq_true rfl) ⟨(by first | rfl | (simp; done)), (by first | rfl | (simp; done))⟩ dX4_dry_7
set_option maxHeartbeats 4000000 in
set_option maxRecDepth 100000 in
theorem mt_Mo_sell (l : Launch) (Γ : GE) (sz : Nat) (a : Nat) (r : Nat → Nat) (i : Nat → Int32) (g : Nat → Int32) (ps : Nat → Int32) (c : Int32) (n : Nat) (pn : Nat) (hg7 : g 7 = nI n) (hn : n ≤ 8) (h5 : i 5 = nI pn) (hpn : pn ≤ 8) : KM l yX4_sell cX4_sell 2 (some FieldType.int) Γ 6 134 0 0 [.ref a, .int c] [[(a, moE r i)], [((r 0), .inl (Γ.2.1 0, 523, .inl g))], [((r 4), .inl (Γ.2.1 0, 4184, .inl ps))]] [] sz (Qi Γ (fun r_ u_ => r_ = (oR (moAg1 g c) (moHerd (moDo4 g c.toNatClampNeg) n)) ∧ u_ = [[(a, moE r (oI i (moAg1 g c) pn))], [((r 0), .inl (Γ.2.1 0, 523, .inl (oG (moAg1 g c) g (moDo4 g c.toNatClampNeg))))], [((r 4), .inl (Γ.2.1 0, 4184, .inl (oP (moAg1 g c) g ps pn)))]])) := by
  refine K_intro (by decide) (Nat.le_of_ble_eq_true rfl) ?_
  intro pr_ ev_ s mi_ below meth cd_ A ls hx hb hr hml hown hts hlocks hname hK hE hRo hP hD hA hS hsz hl
  have hl : lv_has ls 2 [(0, .ref a), (1, .int c)] := hl
  have hown : s.vm.findClass RX4 = some mi_.cls := hown
  refine lv_aload_n hx hb dX4_sell_0 rfl (lv_at hl 0 rfl) ?_
  refine lv_iconst (v := 4) hx hb dX4_sell_1 (by decide) ?_
  refine lv_iload_n hx hb dX4_sell_2 rfl (lv_at hl 1 rfl) ?_
  refine lv_iconst (v := 0) hx hb dX4_sell_3 (by decide) ?_
  refine b_calli (br := []) (b_runV ⟨hx, hb, hml, hown, hts⟩ (mt_Mo_orders_4 l Γ _ a r i g ps c 0 n pn (by first | exact hg7 | omega) (by first | exact hn | omega) (by first | exact h5 | omega) (by first | exact hpn | omega)) (lw_V q1904 q1906 qs32 q73 q1907) rfl rfl 3 (by decide +kernel) ⟨(Nat.le_of_ble_eq_true rfl), (Nat.le_of_ble_eq_true rfl)⟩ (c_pre hP hD hS hA hK hE [0, 1, 2] rfl rfl ro_nil) (recv_at (q := (RX4, TX4, 16)) hK (b_at (k := 0) hP rfl) rfl) rfl hl.1 rfl (Nat.le_of_ble_eq_true rfl) dX4_sell_4 ⟨(Nat.le_of_ble_eq_true rfl), (Nat.le_of_ble_eq_true rfl)⟩) hP hD hS hA [0, 1, 2] [] rfl rfl rfl (fun r_1 u_1 H locs hw_1 hP hD hS _ => ?_)
  obtain ⟨rfl, rfl⟩ := hw_1
  have hP : WP Γ [[(a, moE r (oI i (moAg1 g c) pn))], [((r 0), .inl (Γ.2.1 0, 523, .inl (oG (moAg1 g c) g (moDo4 g c.toNatClampNeg))))], [((r 4), .inl (Γ.2.1 0, 4184, .inl (oP (moAg1 g c) g ps pn)))]] H := hP
  have hD : WD A [[(a, moE r (oI i (moAg1 g c) pn))], [((r 0), .inl (Γ.2.1 0, 523, .inl (oG (moAg1 g c) g (moDo4 g c.toNatClampNeg))))], [((r 4), .inl (Γ.2.1 0, 4184, .inl (oP (moAg1 g c) g ps pn)))]] := hD
  exact b_iret hx hb hr hlocks hP hD hS (Nat.le_of_ble_eq_true rfl) (Nat.le_of_ble_eq_true rfl) ⟨(by first | rfl | (simp; done)), (by first | rfl | (simp; done))⟩ dX4_sell_7
set_option maxHeartbeats 4000000 in
set_option maxRecDepth 100000 in
theorem mt_Mo_setBonus (l : Launch) (Γ : GE) (sz : Nat) (a : Nat) (r : Nat → Nat) (i : Nat → Int32) (g : Nat → Int32) (ps : Nat → Int32) (c : Int32) (v : Int32) (n : Nat) (pn : Nat) (hg10 : g 10 = nI n) (hn : n ≤ 200) (h5 : i 5 = nI pn) (hpn : pn ≤ 8) : KM l yX4_setBonus cX4_setBonus 3 (some FieldType.int) Γ 4 93 0 0 [.ref a, .int c, .int v] [[(a, moE r i)], [((r 0), .inl (Γ.2.1 0, 523, .inl g))], [((r 4), .inl (Γ.2.1 0, 4184, .inl ps))]] [] sz (Qi Γ (fun r_ u_ => r_ = (oR (moAg5 g c v n) (moRows g c v n 10)) ∧ u_ = [[(a, moE r (oI i (moAg5 g c v n) pn))], [((r 0), .inl (Γ.2.1 0, 523, .inl (oG (moAg5 g c v n) g (moRows g c v n))))], [((r 4), .inl (Γ.2.1 0, 4184, .inl (oP (moAg5 g c v n) g ps pn)))]])) := by
  refine K_intro (by decide) (Nat.le_of_ble_eq_true rfl) ?_
  intro pr_ ev_ s mi_ below meth cd_ A ls hx hb hr hml hown hts hlocks hname hK hE hRo hP hD hA hS hsz hl
  have hl : lv_has ls 3 [(0, .ref a), (1, .int c), (2, .int v)] := hl
  have hown : s.vm.findClass RX4 = some mi_.cls := hown
  refine lv_aload_n hx hb dX4_setBonus_0 rfl (lv_at hl 0 rfl) ?_
  refine lv_iconst (v := 5) hx hb dX4_setBonus_1 (by decide) ?_
  refine lv_iload_n hx hb dX4_setBonus_2 rfl (lv_at hl 1 rfl) ?_
  refine lv_iload_n hx hb dX4_setBonus_3 rfl (lv_at hl 2 rfl) ?_
  refine b_calli (br := []) (b_runV ⟨hx, hb, hml, hown, hts⟩ (mt_Mo_orders_5 l Γ _ a r i g ps c v n pn (by first | exact hg10 | omega) (by first | exact hn | omega) (by first | exact h5 | omega) (by first | exact hpn | omega)) (lw_V q1904 q1906 qs32 q73 q1907) rfl rfl 3 (by decide +kernel) ⟨(Nat.le_of_ble_eq_true rfl), (Nat.le_of_ble_eq_true rfl)⟩ (c_pre hP hD hS hA hK hE [0, 1, 2] rfl rfl ro_nil) (recv_at (q := (RX4, TX4, 16)) hK (b_at (k := 0) hP rfl) rfl) rfl hl.1 rfl (Nat.le_of_ble_eq_true rfl) dX4_setBonus_4 ⟨(Nat.le_of_ble_eq_true rfl), (Nat.le_of_ble_eq_true rfl)⟩) hP hD hS hA [0, 1, 2] [] rfl rfl rfl (fun r_1 u_1 H locs hw_1 hP hD hS _ => ?_)
  obtain ⟨rfl, rfl⟩ := hw_1
  have hP : WP Γ [[(a, moE r (oI i (moAg5 g c v n) pn))], [((r 0), .inl (Γ.2.1 0, 523, .inl (oG (moAg5 g c v n) g (moRows g c v n))))], [((r 4), .inl (Γ.2.1 0, 4184, .inl (oP (moAg5 g c v n) g ps pn)))]] H := hP
  have hD : WD A [[(a, moE r (oI i (moAg5 g c v n) pn))], [((r 0), .inl (Γ.2.1 0, 523, .inl (oG (moAg5 g c v n) g (moRows g c v n))))], [((r 4), .inl (Γ.2.1 0, 4184, .inl (oP (moAg5 g c v n) g ps pn)))]] := hD
  exact b_iret hx hb hr hlocks hP hD hS (Nat.le_of_ble_eq_true rfl) (Nat.le_of_ble_eq_true rfl) ⟨(by first | rfl | (simp; done)), (by first | rfl | (simp; done))⟩ dX4_setBonus_7
