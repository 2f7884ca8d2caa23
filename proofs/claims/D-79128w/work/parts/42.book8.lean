/-! COMPONENT: letters put. The text's builder is Latin (0) or not (1) -/
set_option maxHeartbeats 4000000 in
set_option maxRecDepth 100000 in
theorem mt_DB_append_L (l : Launch) (Γ : GE) (sz : Nat) (b : Nat) (h : HB) (tt : Nat) (sv : Nat) (zs : Int32) (da : Nat) (tx : Nat) (wr : Nat) (fl : Int32) (rf : Int32) (x : SBT) (L : List Int32) (c : Int32) (hsb : sbF 0 x L) (hL : L.length ≤ 49) (hc : ¬ 255 < c) (hl9 : isL c) : KM l yX1_append cX1_append 2 none Γ 6 146 2 2048 [.ref b, .int c] [[(b, .inr (0, [.ref h.e0, .ref tt, .ref sv, .int zs, .ref da, .ref tx, .ref wr, .int fl, .int rf]))], [(tx, .inr (13, [.ref x.1, .int 0, .int x.2.2.2, .int (nI L.length)]))], [(x.1, .inl (Γ.2.1 1, x.2.1, .inl x.2.2.1))]] [] sz (Qv Γ (fun u_ => ∃ y : SBT, sbF 0 y (L ++ [c]) ∧ u_ = [[(b, .inr (0, [.ref h.e0, .ref tt, .ref sv, .int zs, .ref da, .ref tx, .ref wr, .int fl, .int rf]))], [(tx, .inr (13, [.ref y.1, .int 0, .int y.2.2.2, .int (nI (L ++ [c]).length)]))], [(y.1, .inl (Γ.2.1 1, y.2.1, .inl y.2.2.1))]])) := by
  refine K_intro (by decide) (Nat.le_of_ble_eq_true rfl) ?_
  intro pr_ ev_ s mi_ below meth cd_ A ls hx hb hr hml hown hts hlocks hname hK hE hRo hP hD hA hS hsz hl
  have hl : lv_has ls 2 [(0, .ref b), (1, .int c)] := hl
  have hown : s.vm.findClass RX1 = some mi_.cls := hown
  have hxl := sbF_len hsb
  refine lv_aload_n hx hb dX1_append_0 rfl (lv_at hl 0 rfl) ?_
  refine b_get (C := RX1) (T := TX1) (N := 9) (v := .ref tx) hx hb hts in_X1 hown hK (b_at (k := 0) hP rfl) rfl 5 (by decide) q253 (fun _ h9 => h9) rfl dX1_append_1 ?_
  refine b_calli (br := [[(b, .inr (0, [.ref h.e0, .ref tt, .ref sv, .int zs, .ref da, .ref tx, .ref wr, .int fl, .int rf]))], [(x.1, .inl (Γ.2.1 1, x.2.1, .inl x.2.2.1))]]) (b_runV ⟨hx, hb, hml, hown, hts⟩ (mt_SB_length_0 l Γ _ tx x.1 x.2.2.2 L.length) (lw_V q1509 q730 q2217 q70 q731) rfl rfl 0 (by decide +kernel) ⟨(Nat.le_of_ble_eq_true rfl), (Nat.le_of_ble_eq_true rfl)⟩ (c_pre hP hD hS hA hK hE [1] rfl rfl ro_nil) (recv_at (q := (RJ5, TJ5, 4)) hK (b_at (k := 1) hP rfl) rfl) rfl hl.1 rfl (Nat.le_of_ble_eq_true rfl) dX1_append_4 ⟨(Nat.le_of_ble_eq_true rfl), (Nat.le_of_ble_eq_true rfl)⟩) hP hD hS hA [1] [0, 2] rfl rfl rfl (fun r_1 u_1 H locs hw_1 hP hD hS _ => ?_)
  obtain ⟨rfl, rfl⟩ := hw_1
  have hP : WP Γ [[(tx, .inr (13, [.ref x.1, .int 0, .int x.2.2.2, .int (nI L.length)]))], [(b, .inr (0, [.ref h.e0, .ref tt, .ref sv, .int zs, .ref da, .ref tx, .ref wr, .int fl, .int rf]))], [(x.1, .inl (Γ.2.1 1, x.2.1, .inl x.2.2.1))]] H := hP
  have hD : WD A [[(tx, .inr (13, [.ref x.1, .int 0, .int x.2.2.2, .int (nI L.length)]))], [(b, .inr (0, [.ref h.e0, .ref tt, .ref sv, .int zs, .ref da, .ref tx, .ref wr, .int fl, .int rf]))], [(x.1, .inl (Γ.2.1 1, x.2.1, .inl x.2.2.1))]] := hD
  refine lv_bipush (v := 50) hx hb dX1_append_7 (by decide) ?_
  refine lv_icmp_ge (tgt := 16) hx hb dX1_append_9 (by decide) (fun c_2 => ?_) (fun c_2 => ?_)
  · -- 9 taken
    have n_2 : 50 ≤ L.length := (nI_leI (by omega) (by omega)).mp (show nI 50 ≤ nI L.length from c_2)
    have m_2 : ¬ (L.length < 50) := by omega
    have d_2 := Int32.not_lt.mpr c_2
    exfalso; omega
  · -- 9 not taken
    have n_2 : ¬ (50 ≤ L.length) := fun hh7 => c_2 ((nI_leI (a := 50) (b := L.length) (by omega) (by omega)).mpr hh7)
    have m_2 : L.length < 50 := by omega
    have d_2 := Int32.not_le.mp c_2
    refine lv_iconst (v := 1) hx hb dX1_append_12 (by decide) ?_
    refine lv_goto (tgt := 17) hx hb dX1_append_13 (by decide) ?_
    refine b_callv (br := [[(tx, .inr (13, [.ref x.1, .int 0, .int x.2.2.2, .int (nI L.length)]))], [(b, .inr (0, [.ref h.e0, .ref tt, .ref sv, .int zs, .ref da, .ref tx, .ref wr, .int fl, .int rf]))], [(x.1, .inl (Γ.2.1 1, x.2.1, .inl x.2.2.1))]]) (b_runS ⟨hx, hb, hml, hown, hts⟩ (mt_DB_checkState_ok l Γ _ 1 (by first | assumption | decide)) (lw_S q821 q822 q62 q823) rfl rfl 1 (by decide +kernel) ⟨(Nat.le_of_ble_eq_true rfl), (Nat.le_of_ble_eq_true rfl)⟩ (c_pre hP hD hS hA hK hE [] rfl rfl ro_nil) rfl hl.1 rfl (Nat.le_of_ble_eq_true rfl) dX1_append_17 ⟨(Nat.le_of_ble_eq_true rfl), (Nat.le_of_ble_eq_true rfl)⟩) hP hD hS hA [] [0, 1, 2] rfl rfl rfl (fun u_3 H locs hw_3 hP hD hS _ => ?_)
    obtain rfl := hw_3
    have hP : WP Γ [[(tx, .inr (13, [.ref x.1, .int 0, .int x.2.2.2, .int (nI L.length)]))], [(b, .inr (0, [.ref h.e0, .ref tt, .ref sv, .int zs, .ref da, .ref tx, .ref wr, .int fl, .int rf]))], [(x.1, .inl (Γ.2.1 1, x.2.1, .inl x.2.2.1))]] H := hP
    have hD : WD A [[(tx, .inr (13, [.ref x.1, .int 0, .int x.2.2.2, .int (nI L.length)]))], [(b, .inr (0, [.ref h.e0, .ref tt, .ref sv, .int zs, .ref da, .ref tx, .ref wr, .int fl, .int rf]))], [(x.1, .inl (Γ.2.1 1, x.2.1, .inl x.2.2.1))]] := hD
    refine lv_aload_n hx hb dX1_append_20 rfl (lv_at hl 0 rfl) ?_
    refine b_get (C := RX1) (T := TX1) (N := 9) (v := .ref tx) hx hb hts in_X1 hown hK (b_at (k := 1) hP rfl) rfl 5 (by decide) q253 (fun _ h9 => h9) rfl dX1_append_21 ?_
    refine lv_iload_n hx hb dX1_append_24 rfl (lv_at hl 1 rfl) ?_
    refine b_callq (br := [[(b, .inr (0, [.ref h.e0, .ref tt, .ref sv, .int zs, .ref da, .ref tx, .ref wr, .int fl, .int rf]))]]) (b_runV ⟨hx, hb, hml, hown, hts⟩ (mt_SB_appc l Γ _ tx x L c hsb (by omega) (by first | decide | assumption) (by first | exact isL_dec (by decide +kernel) | assumption)) (lw_V q1510 q1511 q1512 q70 q1513) rfl rfl 1 (by decide +kernel) ⟨(Nat.le_of_ble_eq_true rfl), (Nat.le_of_ble_eq_true rfl)⟩ (c_pre hP hD hS hA hK hE [0, 2] rfl rfl ro_nil) (recv_at (q := (RJ5, TJ5, 4)) hK (b_at (k := 0) hP rfl) rfl) rfl hl.1 rfl (Nat.le_of_ble_eq_true rfl) dX1_append_25 ⟨(Nat.le_of_ble_eq_true rfl), (Nat.le_of_ble_eq_true rfl)⟩) hP hD hS hA [0, 2] [1] rfl rfl rfl (fun r_4 u_4 H locs hw_4 hP hD hS _ => ?_)
    obtain ⟨y_4, hy_4, rfl, rfl⟩ := hw_4
    have hP : WP Γ [[(tx, .inr (13, [.ref y_4.1, .int 0, .int y_4.2.2.2, .int (nI (L ++ [c]).length)]))], [(y_4.1, .inl (Γ.2.1 1, y_4.2.1, .inl y_4.2.2.1))], [(b, .inr (0, [.ref h.e0, .ref tt, .ref sv, .int zs, .ref da, .ref tx, .ref wr, .int fl, .int rf]))]] H := hP
    have hD : WD A [[(tx, .inr (13, [.ref y_4.1, .int 0, .int y_4.2.2.2, .int (nI (L ++ [c]).length)]))], [(y_4.1, .inl (Γ.2.1 1, y_4.2.1, .inl y_4.2.2.1))], [(b, .inr (0, [.ref h.e0, .ref tt, .ref sv, .int zs, .ref da, .ref tx, .ref wr, .int fl, .int rf]))]] := hD
    refine W.eq (g2 := F0 mi_ 28 ls ([.ref tx])) rfl ?_
    refine lv_pop hx hb dX1_append_28 rfl ?_
    have hP : WP Γ [[(b, .inr (0, [.ref h.e0, .ref tt, .ref sv, .int zs, .ref da, .ref tx, .ref wr, .int fl, .int rf]))], [(tx, .inr (13, [.ref y_4.1, .int 0, .int y_4.2.2.2, .int (nI (L ++ [c]).length)]))], [(y_4.1, .inl (Γ.2.1 1, y_4.2.1, .inl y_4.2.2.1))]] H := bP_sel hP [2, 0, 1] rfl
    have hD : WD A [[(b, .inr (0, [.ref h.e0, .ref tt, .ref sv, .int zs, .ref da, .ref tx, .ref wr, .int fl, .int rf]))], [(tx, .inr (13, [.ref y_4.1, .int 0, .int y_4.2.2.2, .int (nI (L ++ [c]).length)]))], [(y_4.1, .inl (Γ.2.1 1, y_4.2.1, .inl y_4.2.2.1))]] := bD_sel hD [2, 0, 1] rfl rfl
    exact b_vret hx hb hr hlocks hP hD hS (Nat.le_of_ble_eq_true rfl) (Nat.le_of_ble_eq_true rfl) ⟨y_4, hy_4, rfl⟩ dX1_append_29
set_option maxHeartbeats 4000000 in
set_option maxRecDepth 100000 in
theorem mt_DB_append_U0 (l : Launch) (Γ : GE) (sz : Nat) (b : Nat) (h : HB) (tt : Nat) (sv : Nat) (zs : Int32) (da : Nat) (tx : Nat) (wr : Nat) (fl : Int32) (rf : Int32) (x : SBT) (L : List Int32) (c : Int32) (hsb : sbF 0 x L) (hL : L.length ≤ 49) (hc : 255 < c) (hch : isCh c) : KM l yX1_append cX1_append 2 none Γ 8 179 2 2048 [.ref b, .int c] [[(b, .inr (0, [.ref h.e0, .ref tt, .ref sv, .int zs, .ref da, .ref tx, .ref wr, .int fl, .int rf]))], [(tx, .inr (13, [.ref x.1, .int 0, .int x.2.2.2, .int (nI L.length)]))], [(x.1, .inl (Γ.2.1 1, x.2.1, .inl x.2.2.1))]] [] sz (Qv Γ (fun u_ => ∃ y : SBT, sbF 1 y (L ++ [c]) ∧ y.2.2.2 = x.2.2.2 ∧ u_ = [[(b, .inr (0, [.ref h.e0, .ref tt, .ref sv, .int zs, .ref da, .ref tx, .ref wr, .int fl, .int rf]))], [(tx, .inr (13, [.ref y.1, .int 1, .int y.2.2.2, .int (nI (L ++ [c]).length)]))], [(y.1, .inl (Γ.2.1 1, 2 * y.2.1, .inl y.2.2.1))]])) := by
  refine K_intro (by decide) (Nat.le_of_ble_eq_true rfl) ?_
  intro pr_ ev_ s mi_ below meth cd_ A ls hx hb hr hml hown hts hlocks hname hK hE hRo hP hD hA hS hsz hl
  have hl : lv_has ls 2 [(0, .ref b), (1, .int c)] := hl
  have hown : s.vm.findClass RX1 = some mi_.cls := hown
  have hxl := sbF_len hsb
  refine lv_aload_n hx hb dX1_append_0 rfl (lv_at hl 0 rfl) ?_
  refine b_get (C := RX1) (T := TX1) (N := 9) (v := .ref tx) hx hb hts in_X1 hown hK (b_at (k := 0) hP rfl) rfl 5 (by decide) q253 (fun _ h9 => h9) rfl dX1_append_1 ?_
  refine b_calli (br := [[(b, .inr (0, [.ref h.e0, .ref tt, .ref sv, .int zs, .ref da, .ref tx, .ref wr, .int fl, .int rf]))], [(x.1, .inl (Γ.2.1 1, x.2.1, .inl x.2.2.1))]]) (b_runV ⟨hx, hb, hml, hown, hts⟩ (mt_SB_length_0 l Γ _ tx x.1 x.2.2.2 L.length) (lw_V q1509 q730 q2217 q70 q731) rfl rfl 0 (by decide +kernel) ⟨(Nat.le_of_ble_eq_true rfl), (Nat.le_of_ble_eq_true rfl)⟩ (c_pre hP hD hS hA hK hE [1] rfl rfl ro_nil) (recv_at (q := (RJ5, TJ5, 4)) hK (b_at (k := 1) hP rfl) rfl) rfl hl.1 rfl (Nat.le_of_ble_eq_true rfl) dX1_append_4 ⟨(Nat.le_of_ble_eq_true rfl), (Nat.le_of_ble_eq_true rfl)⟩) hP hD hS hA [1] [0, 2] rfl rfl rfl (fun r_1 u_1 H locs hw_1 hP hD hS _ => ?_)
  obtain ⟨rfl, rfl⟩ := hw_1
  have hP : WP Γ [[(tx, .inr (13, [.ref x.1, .int 0, .int x.2.2.2, .int (nI L.length)]))], [(b, .inr (0, [.ref h.e0, .ref tt, .ref sv, .int zs, .ref da, .ref tx, .ref wr, .int fl, .int rf]))], [(x.1, .inl (Γ.2.1 1, x.2.1, .inl x.2.2.1))]] H := hP
  have hD : WD A [[(tx, .inr (13, [.ref x.1, .int 0, .int x.2.2.2, .int (nI L.length)]))], [(b, .inr (0, [.ref h.e0, .ref tt, .ref sv, .int zs, .ref da, .ref tx, .ref wr, .int fl, .int rf]))], [(x.1, .inl (Γ.2.1 1, x.2.1, .inl x.2.2.1))]] := hD
  refine lv_bipush (v := 50) hx hb dX1_append_7 (by decide) ?_
  refine lv_icmp_ge (tgt := 16) hx hb dX1_append_9 (by decide) (fun c_2 => ?_) (fun c_2 => ?_)
  · -- 9 taken
    have n_2 : 50 ≤ L.length := (nI_leI (by omega) (by omega)).mp (show nI 50 ≤ nI L.length from c_2)
    have m_2 : ¬ (L.length < 50) := by omega
    have d_2 := Int32.not_lt.mpr c_2
    exfalso; omega
  · -- 9 not taken
    have n_2 : ¬ (50 ≤ L.length) := fun hh7 => c_2 ((nI_leI (a := 50) (b := L.length) (by omega) (by omega)).mpr hh7)
    have m_2 : L.length < 50 := by omega
    have d_2 := Int32.not_le.mp c_2
    refine lv_iconst (v := 1) hx hb dX1_append_12 (by decide) ?_
    refine lv_goto (tgt := 17) hx hb dX1_append_13 (by decide) ?_
    refine b_callv (br := [[(tx, .inr (13, [.ref x.1, .int 0, .int x.2.2.2, .int (nI L.length)]))], [(b, .inr (0, [.ref h.e0, .ref tt, .ref sv, .int zs, .ref da, .ref tx, .ref wr, .int fl, .int rf]))], [(x.1, .inl (Γ.2.1 1, x.2.1, .inl x.2.2.1))]]) (b_runS ⟨hx, hb, hml, hown, hts⟩ (mt_DB_checkState_ok l Γ _ 1 (by first | assumption | decide)) (lw_S q821 q822 q62 q823) rfl rfl 1 (by decide +kernel) ⟨(Nat.le_of_ble_eq_true rfl), (Nat.le_of_ble_eq_true rfl)⟩ (c_pre hP hD hS hA hK hE [] rfl rfl ro_nil) rfl hl.1 rfl (Nat.le_of_ble_eq_true rfl) dX1_append_17 ⟨(Nat.le_of_ble_eq_true rfl), (Nat.le_of_ble_eq_true rfl)⟩) hP hD hS hA [] [0, 1, 2] rfl rfl rfl (fun u_3 H locs hw_3 hP hD hS _ => ?_)
    obtain rfl := hw_3
    have hP : WP Γ [[(tx, .inr (13, [.ref x.1, .int 0, .int x.2.2.2, .int (nI L.length)]))], [(b, .inr (0, [.ref h.e0, .ref tt, .ref sv, .int zs, .ref da, .ref tx, .ref wr, .int fl, .int rf]))], [(x.1, .inl (Γ.2.1 1, x.2.1, .inl x.2.2.1))]] H := hP
    have hD : WD A [[(tx, .inr (13, [.ref x.1, .int 0, .int x.2.2.2, .int (nI L.length)]))], [(b, .inr (0, [.ref h.e0, .ref tt, .ref sv, .int zs, .ref da, .ref tx, .ref wr, .int fl, .int rf]))], [(x.1, .inl (Γ.2.1 1, x.2.1, .inl x.2.2.1))]] := hD
    refine lv_aload_n hx hb dX1_append_20 rfl (lv_at hl 0 rfl) ?_
    refine b_get (C := RX1) (T := TX1) (N := 9) (v := .ref tx) hx hb hts in_X1 hown hK (b_at (k := 1) hP rfl) rfl 5 (by decide) q253 (fun _ h9 => h9) rfl dX1_append_21 ?_
    refine lv_iload_n hx hb dX1_append_24 rfl (lv_at hl 1 rfl) ?_
    refine b_callq (br := [[(b, .inr (0, [.ref h.e0, .ref tt, .ref sv, .int zs, .ref da, .ref tx, .ref wr, .int fl, .int rf]))]]) (b_runV ⟨hx, hb, hml, hown, hts⟩ (mt_SB_appU_0 l Γ _ tx x L c hsb (by omega) (by assumption) (by assumption)) (lw_V q1510 q1511 q1512 q70 q1513) rfl rfl 1 (by decide +kernel) ⟨(Nat.le_of_ble_eq_true rfl), (Nat.le_of_ble_eq_true rfl)⟩ (c_pre hP hD hS hA hK hE [0, 2] rfl rfl ro_nil) (recv_at (q := (RJ5, TJ5, 4)) hK (b_at (k := 0) hP rfl) rfl) rfl hl.1 rfl (Nat.le_of_ble_eq_true rfl) dX1_append_25 ⟨(Nat.le_of_ble_eq_true rfl), (Nat.le_of_ble_eq_true rfl)⟩) hP hD hS hA [0, 2] [1] rfl rfl rfl (fun r_4 u_4 H locs hw_4 hP hD hS _ => ?_)
    obtain ⟨y_4, hy_4, hyz_4, rfl, rfl⟩ := hw_4
    have hP : WP Γ [[(tx, .inr (13, [.ref y_4.1, .int 1, .int y_4.2.2.2, .int (nI (L ++ [c]).length)]))], [(y_4.1, .inl (Γ.2.1 1, 2 * y_4.2.1, .inl y_4.2.2.1))], [(b, .inr (0, [.ref h.e0, .ref tt, .ref sv, .int zs, .ref da, .ref tx, .ref wr, .int fl, .int rf]))]] H := hP
    have hD : WD A [[(tx, .inr (13, [.ref y_4.1, .int 1, .int y_4.2.2.2, .int (nI (L ++ [c]).length)]))], [(y_4.1, .inl (Γ.2.1 1, 2 * y_4.2.1, .inl y_4.2.2.1))], [(b, .inr (0, [.ref h.e0, .ref tt, .ref sv, .int zs, .ref da, .ref tx, .ref wr, .int fl, .int rf]))]] := hD
    refine W.eq (g2 := F0 mi_ 28 ls ([.ref tx])) rfl ?_
    refine lv_pop hx hb dX1_append_28 rfl ?_
    have hP : WP Γ [[(b, .inr (0, [.ref h.e0, .ref tt, .ref sv, .int zs, .ref da, .ref tx, .ref wr, .int fl, .int rf]))], [(tx, .inr (13, [.ref y_4.1, .int 1, .int y_4.2.2.2, .int (nI (L ++ [c]).length)]))], [(y_4.1, .inl (Γ.2.1 1, 2 * y_4.2.1, .inl y_4.2.2.1))]] H := bP_sel hP [2, 0, 1] rfl
    have hD : WD A [[(b, .inr (0, [.ref h.e0, .ref tt, .ref sv, .int zs, .ref da, .ref tx, .ref wr, .int fl, .int rf]))], [(tx, .inr (13, [.ref y_4.1, .int 1, .int y_4.2.2.2, .int (nI (L ++ [c]).length)]))], [(y_4.1, .inl (Γ.2.1 1, 2 * y_4.2.1, .inl y_4.2.2.1))]] := bD_sel hD [2, 0, 1] rfl rfl
    exact b_vret hx hb hr hlocks hP hD hS (Nat.le_of_ble_eq_true rfl) (Nat.le_of_ble_eq_true rfl) ⟨y_4, hy_4, hyz_4, rfl⟩ dX1_append_29
set_option maxHeartbeats 4000000 in
set_option maxRecDepth 100000 in
theorem mt_DB_append_U1 (l : Launch) (Γ : GE) (sz : Nat) (b : Nat) (h : HB) (tt : Nat) (sv : Nat) (zs : Int32) (da : Nat) (tx : Nat) (wr : Nat) (fl : Int32) (rf : Int32) (x : SBT) (L : List Int32) (c : Int32) (hsb : sbF 1 x L) (hL : L.length ≤ 49) (hch : isCh c) : KM l yX1_append cX1_append 2 none Γ 6 146 2 2048 [.ref b, .int c] [[(b, .inr (0, [.ref h.e0, .ref tt, .ref sv, .int zs, .ref da, .ref tx, .ref wr, .int fl, .int rf]))], [(tx, .inr (13, [.ref x.1, .int 1, .int x.2.2.2, .int (nI L.length)]))], [(x.1, .inl (Γ.2.1 1, 2 * x.2.1, .inl x.2.2.1))]] [] sz (Qv Γ (fun u_ => ∃ y : SBT, sbF 1 y (L ++ [c]) ∧ y.2.2.2 = x.2.2.2 ∧ u_ = [[(b, .inr (0, [.ref h.e0, .ref tt, .ref sv, .int zs, .ref da, .ref tx, .ref wr, .int fl, .int rf]))], [(tx, .inr (13, [.ref y.1, .int 1, .int y.2.2.2, .int (nI (L ++ [c]).length)]))], [(y.1, .inl (Γ.2.1 1, 2 * y.2.1, .inl y.2.2.1))]])) := by
  refine K_intro (by decide) (Nat.le_of_ble_eq_true rfl) ?_
  intro pr_ ev_ s mi_ below meth cd_ A ls hx hb hr hml hown hts hlocks hname hK hE hRo hP hD hA hS hsz hl
  have hl : lv_has ls 2 [(0, .ref b), (1, .int c)] := hl
  have hown : s.vm.findClass RX1 = some mi_.cls := hown
  refine lv_aload_n hx hb dX1_append_0 rfl (lv_at hl 0 rfl) ?_
  refine b_get (C := RX1) (T := TX1) (N := 9) (v := .ref tx) hx hb hts in_X1 hown hK (b_at (k := 0) hP rfl) rfl 5 (by decide) q253 (fun _ h9 => h9) rfl dX1_append_1 ?_
  refine b_calli (br := [[(b, .inr (0, [.ref h.e0, .ref tt, .ref sv, .int zs, .ref da, .ref tx, .ref wr, .int fl, .int rf]))], [(x.1, .inl (Γ.2.1 1, 2 * x.2.1, .inl x.2.2.1))]]) (b_runV ⟨hx, hb, hml, hown, hts⟩ (mt_SB_length_1 l Γ _ tx x.1 x.2.2.2 L.length) (lw_V q1509 q730 q2217 q70 q731) rfl rfl 0 (by decide +kernel) ⟨(Nat.le_of_ble_eq_true rfl), (Nat.le_of_ble_eq_true rfl)⟩ (c_pre hP hD hS hA hK hE [1] rfl rfl ro_nil) (recv_at (q := (RJ5, TJ5, 4)) hK (b_at (k := 1) hP rfl) rfl) rfl hl.1 rfl (Nat.le_of_ble_eq_true rfl) dX1_append_4 ⟨(Nat.le_of_ble_eq_true rfl), (Nat.le_of_ble_eq_true rfl)⟩) hP hD hS hA [1] [0, 2] rfl rfl rfl (fun r_1 u_1 H locs hw_1 hP hD hS _ => ?_)
  obtain ⟨rfl, rfl⟩ := hw_1
  have hP : WP Γ [[(tx, .inr (13, [.ref x.1, .int 1, .int x.2.2.2, .int (nI L.length)]))], [(b, .inr (0, [.ref h.e0, .ref tt, .ref sv, .int zs, .ref da, .ref tx, .ref wr, .int fl, .int rf]))], [(x.1, .inl (Γ.2.1 1, 2 * x.2.1, .inl x.2.2.1))]] H := hP
  have hD : WD A [[(tx, .inr (13, [.ref x.1, .int 1, .int x.2.2.2, .int (nI L.length)]))], [(b, .inr (0, [.ref h.e0, .ref tt, .ref sv, .int zs, .ref da, .ref tx, .ref wr, .int fl, .int rf]))], [(x.1, .inl (Γ.2.1 1, 2 * x.2.1, .inl x.2.2.1))]] := hD
  refine lv_bipush (v := 50) hx hb dX1_append_7 (by decide) ?_
  refine lv_icmp_ge (tgt := 16) hx hb dX1_append_9 (by decide) (fun c_2 => ?_) (fun c_2 => ?_)
  · -- 9 taken
    have n_2 : 50 ≤ L.length := (nI_leI (by omega) (by omega)).mp (show nI 50 ≤ nI L.length from c_2)
    have m_2 : ¬ (L.length < 50) := by omega
    have d_2 := Int32.not_lt.mpr c_2
    exfalso; omega
  · -- 9 not taken
    have n_2 : ¬ (50 ≤ L.length) := fun hh7 => c_2 ((nI_leI (a := 50) (b := L.length) (by omega) (by omega)).mpr hh7)
    have m_2 : L.length < 50 := by omega
    have d_2 := Int32.not_le.mp c_2
    refine lv_iconst (v := 1) hx hb dX1_append_12 (by decide) ?_
    refine lv_goto (tgt := 17) hx hb dX1_append_13 (by decide) ?_
    refine b_callv (br := [[(tx, .inr (13, [.ref x.1, .int 1, .int x.2.2.2, .int (nI L.length)]))], [(b, .inr (0, [.ref h.e0, .ref tt, .ref sv, .int zs, .ref da, .ref tx, .ref wr, .int fl, .int rf]))], [(x.1, .inl (Γ.2.1 1, 2 * x.2.1, .inl x.2.2.1))]]) (b_runS ⟨hx, hb, hml, hown, hts⟩ (mt_DB_checkState_ok l Γ _ 1 (by first | assumption | decide)) (lw_S q821 q822 q62 q823) rfl rfl 1 (by decide +kernel) ⟨(Nat.le_of_ble_eq_true rfl), (Nat.le_of_ble_eq_true rfl)⟩ (c_pre hP hD hS hA hK hE [] rfl rfl ro_nil) rfl hl.1 rfl (Nat.le_of_ble_eq_true rfl) dX1_append_17 ⟨(Nat.le_of_ble_eq_true rfl), (Nat.le_of_ble_eq_true rfl)⟩) hP hD hS hA [] [0, 1, 2] rfl rfl rfl (fun u_3 H locs hw_3 hP hD hS _ => ?_)
    obtain rfl := hw_3
    have hP : WP Γ [[(tx, .inr (13, [.ref x.1, .int 1, .int x.2.2.2, .int (nI L.length)]))], [(b, .inr (0, [.ref h.e0, .ref tt, .ref sv, .int zs, .ref da, .ref tx, .ref wr, .int fl, .int rf]))], [(x.1, .inl (Γ.2.1 1, 2 * x.2.1, .inl x.2.2.1))]] H := hP
    have hD : WD A [[(tx, .inr (13, [.ref x.1, .int 1, .int x.2.2.2, .int (nI L.length)]))], [(b, .inr (0, [.ref h.e0, .ref tt, .ref sv, .int zs, .ref da, .ref tx, .ref wr, .int fl, .int rf]))], [(x.1, .inl (Γ.2.1 1, 2 * x.2.1, .inl x.2.2.1))]] := hD
    refine lv_aload_n hx hb dX1_append_20 rfl (lv_at hl 0 rfl) ?_
    refine b_get (C := RX1) (T := TX1) (N := 9) (v := .ref tx) hx hb hts in_X1 hown hK (b_at (k := 1) hP rfl) rfl 5 (by decide) q253 (fun _ h9 => h9) rfl dX1_append_21 ?_
    refine lv_iload_n hx hb dX1_append_24 rfl (lv_at hl 1 rfl) ?_
    refine b_callq (br := [[(b, .inr (0, [.ref h.e0, .ref tt, .ref sv, .int zs, .ref da, .ref tx, .ref wr, .int fl, .int rf]))]]) (b_runV ⟨hx, hb, hml, hown, hts⟩ (mt_SB_appU_1 l Γ _ tx x L c hsb (by omega) (by assumption)) (lw_V q1510 q1511 q1512 q70 q1513) rfl rfl 1 (by decide +kernel) ⟨(Nat.le_of_ble_eq_true rfl), (Nat.le_of_ble_eq_true rfl)⟩ (c_pre hP hD hS hA hK hE [0, 2] rfl rfl ro_nil) (recv_at (q := (RJ5, TJ5, 4)) hK (b_at (k := 0) hP rfl) rfl) rfl hl.1 rfl (Nat.le_of_ble_eq_true rfl) dX1_append_25 ⟨(Nat.le_of_ble_eq_true rfl), (Nat.le_of_ble_eq_true rfl)⟩) hP hD hS hA [0, 2] [1] rfl rfl rfl (fun r_4 u_4 H locs hw_4 hP hD hS _ => ?_)
    obtain ⟨y_4, hy_4, hyz_4, rfl, rfl⟩ := hw_4
    have hP : WP Γ [[(tx, .inr (13, [.ref y_4.1, .int 1, .int y_4.2.2.2, .int (nI (L ++ [c]).length)]))], [(y_4.1, .inl (Γ.2.1 1, 2 * y_4.2.1, .inl y_4.2.2.1))], [(b, .inr (0, [.ref h.e0, .ref tt, .ref sv, .int zs, .ref da, .ref tx, .ref wr, .int fl, .int rf]))]] H := hP
    have hD : WD A [[(tx, .inr (13, [.ref y_4.1, .int 1, .int y_4.2.2.2, .int (nI (L ++ [c]).length)]))], [(y_4.1, .inl (Γ.2.1 1, 2 * y_4.2.1, .inl y_4.2.2.1))], [(b, .inr (0, [.ref h.e0, .ref tt, .ref sv, .int zs, .ref da, .ref tx, .ref wr, .int fl, .int rf]))]] := hD
    refine W.eq (g2 := F0 mi_ 28 ls ([.ref tx])) rfl ?_
    refine lv_pop hx hb dX1_append_28 rfl ?_
    have hP : WP Γ [[(b, .inr (0, [.ref h.e0, .ref tt, .ref sv, .int zs, .ref da, .ref tx, .ref wr, .int fl, .int rf]))], [(tx, .inr (13, [.ref y_4.1, .int 1, .int y_4.2.2.2, .int (nI (L ++ [c]).length)]))], [(y_4.1, .inl (Γ.2.1 1, 2 * y_4.2.1, .inl y_4.2.2.1))]] H := bP_sel hP [2, 0, 1] rfl
    have hD : WD A [[(b, .inr (0, [.ref h.e0, .ref tt, .ref sv, .int zs, .ref da, .ref tx, .ref wr, .int fl, .int rf]))], [(tx, .inr (13, [.ref y_4.1, .int 1, .int y_4.2.2.2, .int (nI (L ++ [c]).length)]))], [(y_4.1, .inl (Γ.2.1 1, 2 * y_4.2.1, .inl y_4.2.2.1))]] := bD_sel hD [2, 0, 1] rfl rfl
    exact b_vret hx hb hr hlocks hP hD hS (Nat.le_of_ble_eq_true rfl) (Nat.le_of_ble_eq_true rfl) ⟨y_4, hy_4, hyz_4, rfl⟩ dX1_append_29
set_option maxHeartbeats 4000000 in
set_option maxRecDepth 100000 in
theorem mt_DB_written_ok (l : Launch) (Γ : GE) (sz : Nat) (b : Nat) (h : HB) (tt : Nat) (sv : Nat) (zs : Int32) (da : Nat) (tx : Nat) (wr : Nat) (fl : Int32) (rf : Int32) (y : SST) (L : List Int32) (hh : Int32) (zz : Int32) (k : Nat) (hst : stF y L) (hk9 : k < L.length) (hi9 : ¬ inC (nI k) 0 (nI L.length - 1) = 0) : KM l yX1_written cX1_written 2 (some FieldType.char) Γ 4 85 0 0 [.ref b, .int (nI k)] [[(b, .inr (0, [.ref h.e0, .ref tt, .ref sv, .int zs, .ref da, .ref tx, .ref wr, .int fl, .int rf]))], [(wr, .inr (14, [.ref y.1, .int 0, .int hh, .int zz]))], [(y.1, .inl (Γ.2.1 1, L.length, .inl y.2))]] [] sz (Qi Γ (fun r_ u_ => r_ = (L.getD k 0) ∧ u_ = [[(b, .inr (0, [.ref h.e0, .ref tt, .ref sv, .int zs, .ref da, .ref tx, .ref wr, .int fl, .int rf]))], [(wr, .inr (14, [.ref y.1, .int 0, .int hh, .int zz]))], [(y.1, .inl (Γ.2.1 1, L.length, .inl y.2))]])) := by
  refine K_intro (by decide) (Nat.le_of_ble_eq_true rfl) ?_
  intro pr_ ev_ s mi_ below meth cd_ A ls hx hb hr hml hown hts hlocks hname hK hE hRo hP hD hA hS hsz hl
  have hl : lv_has ls 2 [(0, .ref b), (1, .int (nI k))] := hl
  have hown : s.vm.findClass RX1 = some mi_.cls := hown
  have hll := hst.1
  refine lv_iload_n hx hb dX1_written_0 rfl (lv_at hl 1 rfl) ?_
  refine lv_iconst (v := 0) hx hb dX1_written_1 (by decide) ?_
  refine lv_aload_n hx hb dX1_written_2 rfl (lv_at hl 0 rfl) ?_
  refine b_get (C := RX1) (T := TX1) (N := 9) (v := .ref wr) hx hb hts in_X1 hown hK (b_at (k := 0) hP rfl) rfl 6 (by decide) q254 (fun _ h9 => h9) rfl dX1_written_3 ?_
  refine b_calli (br := [[(b, .inr (0, [.ref h.e0, .ref tt, .ref sv, .int zs, .ref da, .ref tx, .ref wr, .int fl, .int rf]))], [(wr, .inr (14, [.ref y.1, .int 0, .int hh, .int zz]))], [(y.1, .inl (Γ.2.1 1, L.length, .inl y.2))]]) (b_runV ⟨hx, hb, hml, hown, hts⟩ (mt_Str_length_0 l Γ _ wr y.1 hh zz L.length y.2 (by omega)) (lw_V q1465 q666 q667 q71 q668) rfl rfl 0 (by decide +kernel) ⟨(Nat.le_of_ble_eq_true rfl), (Nat.le_of_ble_eq_true rfl)⟩ (c_pre hP hD hS hA hK hE [] rfl rfl (ro_app (ro_own (br := [[(wr, .inr (14, [.ref y.1, .int 0, .int hh, .int zz]))]]) hP hD [] [1] rfl rfl rfl) (ro_own (br := [[(y.1, .inl (Γ.2.1 1, L.length, .inl y.2))]]) hP hD [] [2] rfl rfl rfl))) (recv_at (q := (RJ6, TJ6, 4)) hK (b_at (k := 1) hP rfl) rfl) rfl hl.1 rfl (Nat.le_of_ble_eq_true rfl) dX1_written_6 ⟨(Nat.le_of_ble_eq_true rfl), (Nat.le_of_ble_eq_true rfl)⟩) hP hD hS hA [] [0, 1, 2] rfl rfl rfl (fun r_1 u_1 H locs hw_1 hP hD hS _ => ?_)
  obtain ⟨rfl, rfl⟩ := hw_1
  have hP : WP Γ [[(b, .inr (0, [.ref h.e0, .ref tt, .ref sv, .int zs, .ref da, .ref tx, .ref wr, .int fl, .int rf]))], [(wr, .inr (14, [.ref y.1, .int 0, .int hh, .int zz]))], [(y.1, .inl (Γ.2.1 1, L.length, .inl y.2))]] H := hP
  have hD : WD A [[(b, .inr (0, [.ref h.e0, .ref tt, .ref sv, .int zs, .ref da, .ref tx, .ref wr, .int fl, .int rf]))], [(wr, .inr (14, [.ref y.1, .int 0, .int hh, .int zz]))], [(y.1, .inl (Γ.2.1 1, L.length, .inl y.2))]] := hD
  refine lv_iconst (v := 1) hx hb dX1_written_9 (by decide) ?_
  refine lv_isub hx hb dX1_written_10 ?_
  refine b_calli (br := [[(b, .inr (0, [.ref h.e0, .ref tt, .ref sv, .int zs, .ref da, .ref tx, .ref wr, .int fl, .int rf]))], [(wr, .inr (14, [.ref y.1, .int 0, .int hh, .int zz]))], [(y.1, .inl (Γ.2.1 1, L.length, .inl y.2))]]) (b_runS ⟨hx, hb, hml, hown, hts⟩ (mt_DB_in l Γ _ (nI k) 0 ((nI L.length) - 1)) (lw_S q806 q807 q62 q808) rfl rfl 3 (by decide +kernel) ⟨(Nat.le_of_ble_eq_true rfl), (Nat.le_of_ble_eq_true rfl)⟩ (c_pre hP hD hS hA hK hE [] rfl rfl ro_nil) rfl hl.1 rfl (Nat.le_of_ble_eq_true rfl) dX1_written_11 ⟨(Nat.le_of_ble_eq_true rfl), (Nat.le_of_ble_eq_true rfl)⟩) hP hD hS hA [] [0, 1, 2] rfl rfl rfl (fun r_2 u_2 H locs hw_2 hP hD hS _ => ?_)
  obtain ⟨rfl, rfl⟩ := hw_2
  have hP : WP Γ [[(b, .inr (0, [.ref h.e0, .ref tt, .ref sv, .int zs, .ref da, .ref tx, .ref wr, .int fl, .int rf]))], [(wr, .inr (14, [.ref y.1, .int 0, .int hh, .int zz]))], [(y.1, .inl (Γ.2.1 1, L.length, .inl y.2))]] H := hP
  have hD : WD A [[(b, .inr (0, [.ref h.e0, .ref tt, .ref sv, .int zs, .ref da, .ref tx, .ref wr, .int fl, .int rf]))], [(wr, .inr (14, [.ref y.1, .int 0, .int hh, .int zz]))], [(y.1, .inl (Γ.2.1 1, L.length, .inl y.2))]] := hD
  refine b_callv (br := [[(b, .inr (0, [.ref h.e0, .ref tt, .ref sv, .int zs, .ref da, .ref tx, .ref wr, .int fl, .int rf]))], [(wr, .inr (14, [.ref y.1, .int 0, .int hh, .int zz]))], [(y.1, .inl (Γ.2.1 1, L.length, .inl y.2))]]) (b_runS ⟨hx, hb, hml, hown, hts⟩ (mt_DB_checkElement_ok l Γ _ (inC (nI k) 0 ((nI L.length) - 1)) (by first | assumption | decide)) (lw_S q1172 q1173 q62 q1174) rfl rfl 1 (by decide +kernel) ⟨(Nat.le_of_ble_eq_true rfl), (Nat.le_of_ble_eq_true rfl)⟩ (c_pre hP hD hS hA hK hE [] rfl rfl ro_nil) rfl hl.1 rfl (Nat.le_of_ble_eq_true rfl) dX1_written_14 ⟨(Nat.le_of_ble_eq_true rfl), (Nat.le_of_ble_eq_true rfl)⟩) hP hD hS hA [] [0, 1, 2] rfl rfl rfl (fun u_3 H locs hw_3 hP hD hS _ => ?_)
  obtain rfl := hw_3
  have hP : WP Γ [[(b, .inr (0, [.ref h.e0, .ref tt, .ref sv, .int zs, .ref da, .ref tx, .ref wr, .int fl, .int rf]))], [(wr, .inr (14, [.ref y.1, .int 0, .int hh, .int zz]))], [(y.1, .inl (Γ.2.1 1, L.length, .inl y.2))]] H := hP
  have hD : WD A [[(b, .inr (0, [.ref h.e0, .ref tt, .ref sv, .int zs, .ref da, .ref tx, .ref wr, .int fl, .int rf]))], [(wr, .inr (14, [.ref y.1, .int 0, .int hh, .int zz]))], [(y.1, .inl (Γ.2.1 1, L.length, .inl y.2))]] := hD
  refine lv_aload_n hx hb dX1_written_17 rfl (lv_at hl 0 rfl) ?_
  refine b_get (C := RX1) (T := TX1) (N := 9) (v := .ref wr) hx hb hts in_X1 hown hK (b_at (k := 0) hP rfl) rfl 6 (by decide) q254 (fun _ h9 => h9) rfl dX1_written_18 ?_
  refine lv_iload_n hx hb dX1_written_21 rfl (lv_at hl 1 rfl) ?_
  refine b_calli (br := [[(b, .inr (0, [.ref h.e0, .ref tt, .ref sv, .int zs, .ref da, .ref tx, .ref wr, .int fl, .int rf]))], [(wr, .inr (14, [.ref y.1, .int 0, .int hh, .int zz]))], [(y.1, .inl (Γ.2.1 1, L.length, .inl y.2))]]) (b_runV ⟨hx, hb, hml, hown, hts⟩ (mt_Str_charAt_0 l Γ _ wr y.1 hh zz L.length y.2 k (by omega) (by omega)) (lw_V q1480 q1481 q1482 q71 q1483) rfl rfl 1 (by decide +kernel) ⟨(Nat.le_of_ble_eq_true rfl), (Nat.le_of_ble_eq_true rfl)⟩ (c_pre hP hD hS hA hK hE [] rfl rfl (ro_app (ro_own (br := [[(wr, .inr (14, [.ref y.1, .int 0, .int hh, .int zz]))]]) hP hD [] [1] rfl rfl rfl) (ro_own (br := [[(y.1, .inl (Γ.2.1 1, L.length, .inl y.2))]]) hP hD [] [2] rfl rfl rfl))) (recv_at (q := (RJ6, TJ6, 4)) hK (b_at (k := 1) hP rfl) rfl) rfl hl.1 rfl (Nat.le_of_ble_eq_true rfl) dX1_written_22 ⟨(Nat.le_of_ble_eq_true rfl), (Nat.le_of_ble_eq_true rfl)⟩) hP hD hS hA [] [0, 1, 2] rfl rfl rfl (fun r_4 u_4 H locs hw_4 hP hD hS _ => ?_)
  obtain ⟨rfl, rfl⟩ := hw_4
  have hP : WP Γ [[(b, .inr (0, [.ref h.e0, .ref tt, .ref sv, .int zs, .ref da, .ref tx, .ref wr, .int fl, .int rf]))], [(wr, .inr (14, [.ref y.1, .int 0, .int hh, .int zz]))], [(y.1, .inl (Γ.2.1 1, L.length, .inl y.2))]] H := hP
  have hD : WD A [[(b, .inr (0, [.ref h.e0, .ref tt, .ref sv, .int zs, .ref da, .ref tx, .ref wr, .int fl, .int rf]))], [(wr, .inr (14, [.ref y.1, .int 0, .int hh, .int zz]))], [(y.1, .inl (Γ.2.1 1, L.length, .inl y.2))]] := hD
  exact b_zret hx hb hr hlocks hP hD hS (Nat.le_of_ble_eq_true rfl) (Nat.le_of_ble_eq_true rfl) (pk_nc _) ⟨(hst.2.2 k hk9), (by first | rfl | (simp; done))⟩ dX1_written_25
