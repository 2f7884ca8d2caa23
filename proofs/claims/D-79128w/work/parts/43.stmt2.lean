/-! COMPONENT: statements made -/
set_option maxHeartbeats 4000000 in
set_option maxRecDepth 100000 in
theorem mt_St_toString (l : Launch) (Γ : GE) (sz : Nat) (a : Nat) (b : Nat) (x : SBT) (L : List Int32) (hsb : sbF 0 x L) (hb : L.length ≤ 230) : KM l yX9_toString cX9_toString 1 (some (FieldType.object "java/lang/String")) Γ 6 171 2 1028 [.ref a] [[(a, .inr (7, [.ref b]))], [(b, .inr (13, [.ref x.1, .int 0, .int x.2.2.2, .int (nI L.length)]))], [(x.1, .inl (Γ.2.1 1, x.2.1, .inl x.2.2.1))]] [] sz (Qq Γ (fun r_ u_ => ∃ o : Nat, ∃ y : SST, stF y L ∧ r_ = some o ∧ u_ = [[(o, .inr (14, [.ref y.1, .int 0, .int 0, .int 0]))], [(y.1, .inl (Γ.2.1 1, L.length, .inl y.2))], [(a, .inr (7, [.ref b]))], [(b, .inr (13, [.ref x.1, .int 0, .int x.2.2.2, .int (nI L.length)]))], [(x.1, .inl (Γ.2.1 1, x.2.1, .inl x.2.2.1))]])) := by
  refine K_intro (by decide) (Nat.le_of_ble_eq_true rfl) ?_
  intro pr_ ev_ s mi_ below meth cd_ A ls hx hb hr hml hown hts hlocks hname hK hE hRo hP hD hA hS hsz hl
  have hl : lv_has ls 1 [(0, .ref a)] := hl
  have hown : s.vm.findClass RX9 = some mi_.cls := hown
  refine lv_aload_n hx hb dX9_toString_0 rfl (lv_at hl 0 rfl) ?_
  refine b_get (C := RX9) (T := TX9) (N := 1) (v := .ref b) hx hb hts in_X9 hown hK (b_at (k := 0) hP rfl) rfl 0 (by decide) q1415 (fun _ h9 => h9) rfl dX9_toString_1 ?_
  refine b_callq (br := [[(a, .inr (7, [.ref b]))]]) (b_runV ⟨hx, hb, hml, hown, hts⟩ (mt_SB_toString_0 l Γ _ b x L hsb) (lw_V q1463 q709 q710 q70 q711) rfl rfl 0 (by decide +kernel) ⟨(Nat.le_of_ble_eq_true rfl), (Nat.le_of_ble_eq_true rfl)⟩ (c_pre hP hD hS hA hK hE [1, 2] rfl rfl ro_nil) (recv_at (q := (RJ5, TJ5, 4)) hK (b_at (k := 1) hP rfl) rfl) rfl hl.1 rfl (Nat.le_of_ble_eq_true rfl) dX9_toString_4 ⟨(Nat.le_of_ble_eq_true rfl), (Nat.le_of_ble_eq_true rfl)⟩) hP hD hS hA [1, 2] [0] rfl rfl rfl (fun r_1 u_1 H locs hw_1 hP hD hS _ => ?_)
  obtain ⟨o_1, y_1, hs_1, rfl, rfl⟩ := hw_1
  have hP : WP Γ [[(o_1, .inr (14, [.ref y_1.1, .int 0, .int 0, .int 0]))], [(y_1.1, .inl (Γ.2.1 1, L.length, .inl y_1.2))], [(b, .inr (13, [.ref x.1, .int 0, .int x.2.2.2, .int (nI L.length)]))], [(x.1, .inl (Γ.2.1 1, x.2.1, .inl x.2.2.1))], [(a, .inr (7, [.ref b]))]] H := hP
  have hD : WD A [[(o_1, .inr (14, [.ref y_1.1, .int 0, .int 0, .int 0]))], [(y_1.1, .inl (Γ.2.1 1, L.length, .inl y_1.2))], [(b, .inr (13, [.ref x.1, .int 0, .int x.2.2.2, .int (nI L.length)]))], [(x.1, .inl (Γ.2.1 1, x.2.1, .inl x.2.2.1))], [(a, .inr (7, [.ref b]))]] := hD
  refine W.eq (g2 := F0 mi_ 7 ls ([.ref o_1])) rfl ?_
  have hP : WP Γ [[(o_1, .inr (14, [.ref y_1.1, .int 0, .int 0, .int 0]))], [(y_1.1, .inl (Γ.2.1 1, L.length, .inl y_1.2))], [(a, .inr (7, [.ref b]))], [(b, .inr (13, [.ref x.1, .int 0, .int x.2.2.2, .int (nI L.length)]))], [(x.1, .inl (Γ.2.1 1, x.2.1, .inl x.2.2.1))]] H := bP_sel hP [0, 1, 4, 2, 3] rfl
  have hD : WD A [[(o_1, .inr (14, [.ref y_1.1, .int 0, .int 0, .int 0]))], [(y_1.1, .inl (Γ.2.1 1, L.length, .inl y_1.2))], [(a, .inr (7, [.ref b]))], [(b, .inr (13, [.ref x.1, .int 0, .int x.2.2.2, .int (nI L.length)]))], [(x.1, .inl (Γ.2.1 1, x.2.1, .inl x.2.2.1))]] := bD_sel hD [0, 1, 4, 2, 3] rfl rfl
  exact b_aret hx hb hr (by first | exact Or.inl ⟨_, rfl⟩ | exact Or.inr ⟨_, rfl⟩) hlocks hP hD hS (Nat.le_of_ble_eq_true rfl) (Nat.le_of_ble_eq_true rfl) ⟨o_1, y_1, hs_1, (by first | rfl | (simp; done)), rfl⟩ dX9_toString_7
set_option maxHeartbeats 4000000 in
set_option maxRecDepth 100000 in
theorem mt_Pickup_state_r (l : Launch) (Γ : GE) (sz : Nat) (a : Nat) (c : Nat → Int32) (e : Nat) (b : Nat) (x : SBT) (t : Int32) (hsb : sbF 0 x []) (hz : ¬ c 1 = 0) : KM l yX7_state cX7_state 3 none Γ 7 169 12 6144 [.ref a, .ref e, .int t] [[(e, .inr (7, [.ref b]))], [(b, .inr (13, [.ref x.1, .int 0, .int x.2.2.2, .int (nI ([] : List Int32).length)]))], [(x.1, .inl (Γ.2.1 1, x.2.1, .inl x.2.2.1))]] [[(a, pickE c)]] sz (Qv Γ (fun u_ => ∃ y : SBT, sbF 0 y (psT c) ∧ u_ = [[(e, .inr (7, [.ref b]))], [(b, .inr (13, [.ref y.1, .int 0, .int y.2.2.2, .int (nI (psT c).length)]))], [(y.1, .inl (Γ.2.1 1, y.2.1, .inl y.2.2.1))]])) := by
  refine K_intro (by decide) (Nat.le_of_ble_eq_true rfl) ?_
  intro pr_ ev_ s mi_ below meth cd_ A ls hx hb hr hml hown hts hlocks hname hK hE hRo hP hD hA hS hsz hl
  have hl : lv_has ls 3 [(0, .ref a), (1, .ref e), (2, .int t)] := hl
  have hown : s.vm.findClass RX7 = some mi_.cls := hown
  refine lv_aload_n hx hb dX7_state_0 rfl (lv_at hl 1 rfl) ?_
  refine va_ldcS hx hb hown (hE.2.2 9 (by decide)) dX7_state_1 ?_
  have hi_1 := str_len 9 (by decide)
  refine b_callq (br := []) (b_runV ⟨hx, hb, hml, hown, hts⟩ (mt_St_puts l Γ _ e b x ([] : List Int32) 9 hsb (by simp only [List.length_append, List.length_cons, List.length_nil]; omega) (by first | decide | assumption)) (lw_V q1453 q1435 q1436 q97 q1437) rfl rfl 1 (by decide +kernel) ⟨(Nat.le_of_ble_eq_true rfl), (Nat.le_of_ble_eq_true rfl)⟩ (c_pre hP hD hS hA hK hE [0, 1, 2] rfl rfl (hE.str hS (bFree hD hS hA [0, 1, 2] rfl) 9 (by decide))) (recv_at (q := (RX9, TX9, 1)) hK (b_at (k := 0) hP rfl) rfl) rfl hl.1 rfl (Nat.le_of_ble_eq_true rfl) dX7_state_3 ⟨(Nat.le_of_ble_eq_true rfl), (Nat.le_of_ble_eq_true rfl)⟩) hP hD hS hA [0, 1, 2] [] rfl rfl rfl (fun r_2 u_2 H locs hw_2 hP hD hS _ => ?_)
  obtain ⟨y_2, hy_2, rfl, rfl⟩ := hw_2
  have hP : WP Γ [[(e, .inr (7, [.ref b]))], [(b, .inr (13, [.ref y_2.1, .int 0, .int y_2.2.2.2, .int (nI (([] : List Int32) ++ str_by 9).length)]))], [(y_2.1, .inl (Γ.2.1 1, y_2.2.1, .inl y_2.2.2.1))]] H := hP
  have hD : WD A [[(e, .inr (7, [.ref b]))], [(b, .inr (13, [.ref y_2.1, .int 0, .int y_2.2.2.2, .int (nI (([] : List Int32) ++ str_by 9).length)]))], [(y_2.1, .inl (Γ.2.1 1, y_2.2.1, .inl y_2.2.2.1))]] := hD
  refine W.eq (g2 := F0 mi_ 6 ls ([.ref e])) rfl ?_
  refine lv_aload_n hx hb dX7_state_6 rfl (lv_at hl 0 rfl) ?_
  refine b_get (C := RX7) (T := TX7) (N := 6) (v := .int (c 0)) hx hb hts in_X7 hown hK (Rc.obj (by decide) ((hRo (a, pickE c) (by simp)).keep hS (fun _ h => h))) rfl 0 (by decide) q1243 (fun _ h9 => h9) rfl dX7_state_7 ?_
  have hi_3 := intL_le ((c 0))
  refine b_callq (br := []) (b_runV ⟨hx, hb, hml, hown, hts⟩ (mt_St_puti l Γ _ e b y_2 (([] : List Int32) ++ str_by 9) (c 0) hy_2 (by simp only [List.length_append, List.length_cons, List.length_nil]; omega)) (lw_V q1454 q1429 q1430 q97 q1431) rfl rfl 1 (by decide +kernel) ⟨(Nat.le_of_ble_eq_true rfl), (Nat.le_of_ble_eq_true rfl)⟩ (c_pre hP hD hS hA hK hE [0, 1, 2] rfl rfl ro_nil) (recv_at (q := (RX9, TX9, 1)) hK (b_at (k := 0) hP rfl) rfl) rfl hl.1 rfl (Nat.le_of_ble_eq_true rfl) dX7_state_10 ⟨(Nat.le_of_ble_eq_true rfl), (Nat.le_of_ble_eq_true rfl)⟩) hP hD hS hA [0, 1, 2] [] rfl rfl rfl (fun r_4 u_4 H locs hw_4 hP hD hS _ => ?_)
  obtain ⟨y_4, hy_4, rfl, rfl⟩ := hw_4
  have hP : WP Γ [[(e, .inr (7, [.ref b]))], [(b, .inr (13, [.ref y_4.1, .int 0, .int y_4.2.2.2, .int (nI ((([] : List Int32) ++ str_by 9) ++ intL (c 0)).length)]))], [(y_4.1, .inl (Γ.2.1 1, y_4.2.1, .inl y_4.2.2.1))]] H := hP
  have hD : WD A [[(e, .inr (7, [.ref b]))], [(b, .inr (13, [.ref y_4.1, .int 0, .int y_4.2.2.2, .int (nI ((([] : List Int32) ++ str_by 9) ++ intL (c 0)).length)]))], [(y_4.1, .inl (Γ.2.1 1, y_4.2.1, .inl y_4.2.2.1))]] := hD
  refine W.eq (g2 := F0 mi_ 13 ls ([.ref e])) rfl ?_
  refine va_ldcS hx hb hown (hE.2.2 10 (by decide)) dX7_state_13 ?_
  have hi_5 := str_len 10 (by decide)
  refine b_callq (br := []) (b_runV ⟨hx, hb, hml, hown, hts⟩ (mt_St_puts l Γ _ e b y_4 ((([] : List Int32) ++ str_by 9) ++ intL (c 0)) 10 hy_4 (by simp only [List.length_append, List.length_cons, List.length_nil]; omega) (by first | decide | assumption)) (lw_V q1453 q1435 q1436 q97 q1437) rfl rfl 1 (by decide +kernel) ⟨(Nat.le_of_ble_eq_true rfl), (Nat.le_of_ble_eq_true rfl)⟩ (c_pre hP hD hS hA hK hE [0, 1, 2] rfl rfl (hE.str hS (bFree hD hS hA [0, 1, 2] rfl) 10 (by decide))) (recv_at (q := (RX9, TX9, 1)) hK (b_at (k := 0) hP rfl) rfl) rfl hl.1 rfl (Nat.le_of_ble_eq_true rfl) dX7_state_15 ⟨(Nat.le_of_ble_eq_true rfl), (Nat.le_of_ble_eq_true rfl)⟩) hP hD hS hA [0, 1, 2] [] rfl rfl rfl (fun r_6 u_6 H locs hw_6 hP hD hS _ => ?_)
  obtain ⟨y_6, hy_6, rfl, rfl⟩ := hw_6
  have hP : WP Γ [[(e, .inr (7, [.ref b]))], [(b, .inr (13, [.ref y_6.1, .int 0, .int y_6.2.2.2, .int (nI (((([] : List Int32) ++ str_by 9) ++ intL (c 0)) ++ str_by 10).length)]))], [(y_6.1, .inl (Γ.2.1 1, y_6.2.1, .inl y_6.2.2.1))]] H := hP
  have hD : WD A [[(e, .inr (7, [.ref b]))], [(b, .inr (13, [.ref y_6.1, .int 0, .int y_6.2.2.2, .int (nI (((([] : List Int32) ++ str_by 9) ++ intL (c 0)) ++ str_by 10).length)]))], [(y_6.1, .inl (Γ.2.1 1, y_6.2.1, .inl y_6.2.2.1))]] := hD
  refine W.eq (g2 := F0 mi_ 18 ls ([.ref e])) rfl ?_
  refine lv_aload_n hx hb dX7_state_18 rfl (lv_at hl 0 rfl) ?_
  refine b_get (C := RX7) (T := TX7) (N := 6) (v := .int (c 1)) hx hb hts in_X7 hown hK (Rc.obj (by decide) ((hRo (a, pickE c) (by simp)).keep hS (fun _ h => h))) rfl 1 (by decide) q1244 (fun _ h9 => h9) rfl dX7_state_19 ?_
  have hi_7 := intL_le ((c 1))
  refine b_callq (br := []) (b_runV ⟨hx, hb, hml, hown, hts⟩ (mt_St_puti l Γ _ e b y_6 (((([] : List Int32) ++ str_by 9) ++ intL (c 0)) ++ str_by 10) (c 1) hy_6 (by simp only [List.length_append, List.length_cons, List.length_nil]; omega)) (lw_V q1454 q1429 q1430 q97 q1431) rfl rfl 1 (by decide +kernel) ⟨(Nat.le_of_ble_eq_true rfl), (Nat.le_of_ble_eq_true rfl)⟩ (c_pre hP hD hS hA hK hE [0, 1, 2] rfl rfl ro_nil) (recv_at (q := (RX9, TX9, 1)) hK (b_at (k := 0) hP rfl) rfl) rfl hl.1 rfl (Nat.le_of_ble_eq_true rfl) dX7_state_22 ⟨(Nat.le_of_ble_eq_true rfl), (Nat.le_of_ble_eq_true rfl)⟩) hP hD hS hA [0, 1, 2] [] rfl rfl rfl (fun r_8 u_8 H locs hw_8 hP hD hS _ => ?_)
  obtain ⟨y_8, hy_8, rfl, rfl⟩ := hw_8
  have hP : WP Γ [[(e, .inr (7, [.ref b]))], [(b, .inr (13, [.ref y_8.1, .int 0, .int y_8.2.2.2, .int (nI ((((([] : List Int32) ++ str_by 9) ++ intL (c 0)) ++ str_by 10) ++ intL (c 1)).length)]))], [(y_8.1, .inl (Γ.2.1 1, y_8.2.1, .inl y_8.2.2.1))]] H := hP
  have hD : WD A [[(e, .inr (7, [.ref b]))], [(b, .inr (13, [.ref y_8.1, .int 0, .int y_8.2.2.2, .int (nI ((((([] : List Int32) ++ str_by 9) ++ intL (c 0)) ++ str_by 10) ++ intL (c 1)).length)]))], [(y_8.1, .inl (Γ.2.1 1, y_8.2.1, .inl y_8.2.2.1))]] := hD
  refine W.eq (g2 := F0 mi_ 25 ls ([.ref e])) rfl ?_
  refine va_ldcS hx hb hown (hE.2.2 11 (by decide)) dX7_state_25 ?_
  have hi_9 := str_len 11 (by decide)
  refine b_callq (br := []) (b_runV ⟨hx, hb, hml, hown, hts⟩ (mt_St_puts l Γ _ e b y_8 ((((([] : List Int32) ++ str_by 9) ++ intL (c 0)) ++ str_by 10) ++ intL (c 1)) 11 hy_8 (by simp only [List.length_append, List.length_cons, List.length_nil]; omega) (by first | decide | assumption)) (lw_V q1453 q1435 q1436 q97 q1437) rfl rfl 1 (by decide +kernel) ⟨(Nat.le_of_ble_eq_true rfl), (Nat.le_of_ble_eq_true rfl)⟩ (c_pre hP hD hS hA hK hE [0, 1, 2] rfl rfl (hE.str hS (bFree hD hS hA [0, 1, 2] rfl) 11 (by decide))) (recv_at (q := (RX9, TX9, 1)) hK (b_at (k := 0) hP rfl) rfl) rfl hl.1 rfl (Nat.le_of_ble_eq_true rfl) dX7_state_27 ⟨(Nat.le_of_ble_eq_true rfl), (Nat.le_of_ble_eq_true rfl)⟩) hP hD hS hA [0, 1, 2] [] rfl rfl rfl (fun r_10 u_10 H locs hw_10 hP hD hS _ => ?_)
  obtain ⟨y_10, hy_10, rfl, rfl⟩ := hw_10
  have hP : WP Γ [[(e, .inr (7, [.ref b]))], [(b, .inr (13, [.ref y_10.1, .int 0, .int y_10.2.2.2, .int (nI (((((([] : List Int32) ++ str_by 9) ++ intL (c 0)) ++ str_by 10) ++ intL (c 1)) ++ str_by 11).length)]))], [(y_10.1, .inl (Γ.2.1 1, y_10.2.1, .inl y_10.2.2.1))]] H := hP
  have hD : WD A [[(e, .inr (7, [.ref b]))], [(b, .inr (13, [.ref y_10.1, .int 0, .int y_10.2.2.2, .int (nI (((((([] : List Int32) ++ str_by 9) ++ intL (c 0)) ++ str_by 10) ++ intL (c 1)) ++ str_by 11).length)]))], [(y_10.1, .inl (Γ.2.1 1, y_10.2.1, .inl y_10.2.2.1))]] := hD
  refine W.eq (g2 := F0 mi_ 30 ls ([.ref e])) rfl ?_
  refine lv_aload_n hx hb dX7_state_30 rfl (lv_at hl 0 rfl) ?_
  refine b_calli (br := [[(e, .inr (7, [.ref b]))], [(b, .inr (13, [.ref y_10.1, .int 0, .int y_10.2.2.2, .int (nI (((((([] : List Int32) ++ str_by 9) ++ intL (c 0)) ++ str_by 10) ++ intL (c 1)) ++ str_by 11).length)]))], [(y_10.1, .inl (Γ.2.1 1, y_10.2.1, .inl y_10.2.2.1))]]) (b_runV ⟨hx, hb, hml, hown, hts⟩ (mt_Pickup_count_r l Γ _ a c hz) (lw_V q1362 q1363 q1364 q95 q1365) rfl rfl 0 (by decide +kernel) ⟨(Nat.le_of_ble_eq_true rfl), (Nat.le_of_ble_eq_true rfl)⟩ (c_pre hP hD hS hA hK hE [] rfl rfl (ro_pass (ro_sel (ro2 := [[(a, pickE c)]]) hRo [0] rfl) hD hS hA [] rfl)) (recv_at (q := (RX7, TX7, 6)) hK (Rc.obj (by decide) ((hRo (a, pickE c) (by simp)).keep hS (fun _ h => h))) rfl) rfl hl.1 rfl (Nat.le_of_ble_eq_true rfl) dX7_state_31 ⟨(Nat.le_of_ble_eq_true rfl), (Nat.le_of_ble_eq_true rfl)⟩) hP hD hS hA [] [0, 1, 2] rfl rfl rfl (fun r_11 u_11 H locs hw_11 hP hD hS _ => ?_)
  obtain ⟨rfl, rfl⟩ := hw_11
  have hP : WP Γ [[(e, .inr (7, [.ref b]))], [(b, .inr (13, [.ref y_10.1, .int 0, .int y_10.2.2.2, .int (nI (((((([] : List Int32) ++ str_by 9) ++ intL (c 0)) ++ str_by 10) ++ intL (c 1)) ++ str_by 11).length)]))], [(y_10.1, .inl (Γ.2.1 1, y_10.2.1, .inl y_10.2.2.1))]] H := hP
  have hD : WD A [[(e, .inr (7, [.ref b]))], [(b, .inr (13, [.ref y_10.1, .int 0, .int y_10.2.2.2, .int (nI (((((([] : List Int32) ++ str_by 9) ++ intL (c 0)) ++ str_by 10) ++ intL (c 1)) ++ str_by 11).length)]))], [(y_10.1, .inl (Γ.2.1 1, y_10.2.1, .inl y_10.2.2.1))]] := hD
  have hi_12 := intL_le ((c 2 / c 1))
  refine b_callq (br := []) (b_runV ⟨hx, hb, hml, hown, hts⟩ (mt_St_puti l Γ _ e b y_10 (((((([] : List Int32) ++ str_by 9) ++ intL (c 0)) ++ str_by 10) ++ intL (c 1)) ++ str_by 11) (c 2 / c 1) hy_10 (by simp only [List.length_append, List.length_cons, List.length_nil]; omega)) (lw_V q1454 q1429 q1430 q97 q1431) rfl rfl 1 (by decide +kernel) ⟨(Nat.le_of_ble_eq_true rfl), (Nat.le_of_ble_eq_true rfl)⟩ (c_pre hP hD hS hA hK hE [0, 1, 2] rfl rfl ro_nil) (recv_at (q := (RX9, TX9, 1)) hK (b_at (k := 0) hP rfl) rfl) rfl hl.1 rfl (Nat.le_of_ble_eq_true rfl) dX7_state_34 ⟨(Nat.le_of_ble_eq_true rfl), (Nat.le_of_ble_eq_true rfl)⟩) hP hD hS hA [0, 1, 2] [] rfl rfl rfl (fun r_13 u_13 H locs hw_13 hP hD hS _ => ?_)
  obtain ⟨y_13, hy_13, rfl, rfl⟩ := hw_13
  have hP : WP Γ [[(e, .inr (7, [.ref b]))], [(b, .inr (13, [.ref y_13.1, .int 0, .int y_13.2.2.2, .int (nI ((((((([] : List Int32) ++ str_by 9) ++ intL (c 0)) ++ str_by 10) ++ intL (c 1)) ++ str_by 11) ++ intL (c 2 / c 1)).length)]))], [(y_13.1, .inl (Γ.2.1 1, y_13.2.1, .inl y_13.2.2.1))]] H := hP
  have hD : WD A [[(e, .inr (7, [.ref b]))], [(b, .inr (13, [.ref y_13.1, .int 0, .int y_13.2.2.2, .int (nI ((((((([] : List Int32) ++ str_by 9) ++ intL (c 0)) ++ str_by 10) ++ intL (c 1)) ++ str_by 11) ++ intL (c 2 / c 1)).length)]))], [(y_13.1, .inl (Γ.2.1 1, y_13.2.1, .inl y_13.2.2.1))]] := hD
  refine W.eq (g2 := F0 mi_ 37 ls ([.ref e])) rfl ?_
  refine va_ldcS hx hb hown (hE.2.2 12 (by decide)) dX7_state_37 ?_
  have hi_14 := str_len 12 (by decide)
  refine b_callq (br := []) (b_runV ⟨hx, hb, hml, hown, hts⟩ (mt_St_puts l Γ _ e b y_13 ((((((([] : List Int32) ++ str_by 9) ++ intL (c 0)) ++ str_by 10) ++ intL (c 1)) ++ str_by 11) ++ intL (c 2 / c 1)) 12 hy_13 (by simp only [List.length_append, List.length_cons, List.length_nil]; omega) (by first | decide | assumption)) (lw_V q1453 q1435 q1436 q97 q1437) rfl rfl 1 (by decide +kernel) ⟨(Nat.le_of_ble_eq_true rfl), (Nat.le_of_ble_eq_true rfl)⟩ (c_pre hP hD hS hA hK hE [0, 1, 2] rfl rfl (hE.str hS (bFree hD hS hA [0, 1, 2] rfl) 12 (by decide))) (recv_at (q := (RX9, TX9, 1)) hK (b_at (k := 0) hP rfl) rfl) rfl hl.1 rfl (Nat.le_of_ble_eq_true rfl) dX7_state_39 ⟨(Nat.le_of_ble_eq_true rfl), (Nat.le_of_ble_eq_true rfl)⟩) hP hD hS hA [0, 1, 2] [] rfl rfl rfl (fun r_15 u_15 H locs hw_15 hP hD hS _ => ?_)
  obtain ⟨y_15, hy_15, rfl, rfl⟩ := hw_15
  have hP : WP Γ [[(e, .inr (7, [.ref b]))], [(b, .inr (13, [.ref y_15.1, .int 0, .int y_15.2.2.2, .int (nI (((((((([] : List Int32) ++ str_by 9) ++ intL (c 0)) ++ str_by 10) ++ intL (c 1)) ++ str_by 11) ++ intL (c 2 / c 1)) ++ str_by 12).length)]))], [(y_15.1, .inl (Γ.2.1 1, y_15.2.1, .inl y_15.2.2.1))]] H := hP
  have hD : WD A [[(e, .inr (7, [.ref b]))], [(b, .inr (13, [.ref y_15.1, .int 0, .int y_15.2.2.2, .int (nI (((((((([] : List Int32) ++ str_by 9) ++ intL (c 0)) ++ str_by 10) ++ intL (c 1)) ++ str_by 11) ++ intL (c 2 / c 1)) ++ str_by 12).length)]))], [(y_15.1, .inl (Γ.2.1 1, y_15.2.1, .inl y_15.2.2.1))]] := hD
  refine W.eq (g2 := F0 mi_ 42 ls ([.ref e])) rfl ?_
  refine lv_aload_n hx hb dX7_state_42 rfl (lv_at hl 0 rfl) ?_
  refine b_get (C := RX7) (T := TX7) (N := 6) (v := .int (c 3)) hx hb hts in_X7 hown hK (Rc.obj (by decide) ((hRo (a, pickE c) (by simp)).keep hS (fun _ h => h))) rfl 3 (by decide) q1250 (fun _ h9 => h9) rfl dX7_state_43 ?_
  have hi_16 := intL_le ((c 3))
  refine b_callq (br := []) (b_runV ⟨hx, hb, hml, hown, hts⟩ (mt_St_puti l Γ _ e b y_15 (((((((([] : List Int32) ++ str_by 9) ++ intL (c 0)) ++ str_by 10) ++ intL (c 1)) ++ str_by 11) ++ intL (c 2 / c 1)) ++ str_by 12) (c 3) hy_15 (by simp only [List.length_append, List.length_cons, List.length_nil]; omega)) (lw_V q1454 q1429 q1430 q97 q1431) rfl rfl 1 (by decide +kernel) ⟨(Nat.le_of_ble_eq_true rfl), (Nat.le_of_ble_eq_true rfl)⟩ (c_pre hP hD hS hA hK hE [0, 1, 2] rfl rfl ro_nil) (recv_at (q := (RX9, TX9, 1)) hK (b_at (k := 0) hP rfl) rfl) rfl hl.1 rfl (Nat.le_of_ble_eq_true rfl) dX7_state_46 ⟨(Nat.le_of_ble_eq_true rfl), (Nat.le_of_ble_eq_true rfl)⟩) hP hD hS hA [0, 1, 2] [] rfl rfl rfl (fun r_17 u_17 H locs hw_17 hP hD hS _ => ?_)
  obtain ⟨y_17, hy_17, rfl, rfl⟩ := hw_17
  have hP : WP Γ [[(e, .inr (7, [.ref b]))], [(b, .inr (13, [.ref y_17.1, .int 0, .int y_17.2.2.2, .int (nI ((((((((([] : List Int32) ++ str_by 9) ++ intL (c 0)) ++ str_by 10) ++ intL (c 1)) ++ str_by 11) ++ intL (c 2 / c 1)) ++ str_by 12) ++ intL (c 3)).length)]))], [(y_17.1, .inl (Γ.2.1 1, y_17.2.1, .inl y_17.2.2.1))]] H := hP
  have hD : WD A [[(e, .inr (7, [.ref b]))], [(b, .inr (13, [.ref y_17.1, .int 0, .int y_17.2.2.2, .int (nI ((((((((([] : List Int32) ++ str_by 9) ++ intL (c 0)) ++ str_by 10) ++ intL (c 1)) ++ str_by 11) ++ intL (c 2 / c 1)) ++ str_by 12) ++ intL (c 3)).length)]))], [(y_17.1, .inl (Γ.2.1 1, y_17.2.1, .inl y_17.2.2.1))]] := hD
  refine W.eq (g2 := F0 mi_ 49 ls ([.ref e])) rfl ?_
  refine va_ldcS hx hb hown (hE.2.2 13 (by decide)) dX7_state_49 ?_
  have hi_18 := str_len 13 (by decide)
  refine b_callq (br := []) (b_runV ⟨hx, hb, hml, hown, hts⟩ (mt_St_puts l Γ _ e b y_17 ((((((((([] : List Int32) ++ str_by 9) ++ intL (c 0)) ++ str_by 10) ++ intL (c 1)) ++ str_by 11) ++ intL (c 2 / c 1)) ++ str_by 12) ++ intL (c 3)) 13 hy_17 (by simp only [List.length_append, List.length_cons, List.length_nil]; omega) (by first | decide | assumption)) (lw_V q1453 q1435 q1436 q97 q1437) rfl rfl 1 (by decide +kernel) ⟨(Nat.le_of_ble_eq_true rfl), (Nat.le_of_ble_eq_true rfl)⟩ (c_pre hP hD hS hA hK hE [0, 1, 2] rfl rfl (hE.str hS (bFree hD hS hA [0, 1, 2] rfl) 13 (by decide))) (recv_at (q := (RX9, TX9, 1)) hK (b_at (k := 0) hP rfl) rfl) rfl hl.1 rfl (Nat.le_of_ble_eq_true rfl) dX7_state_51 ⟨(Nat.le_of_ble_eq_true rfl), (Nat.le_of_ble_eq_true rfl)⟩) hP hD hS hA [0, 1, 2] [] rfl rfl rfl (fun r_19 u_19 H locs hw_19 hP hD hS _ => ?_)
  obtain ⟨y_19, hy_19, rfl, rfl⟩ := hw_19
  have hP : WP Γ [[(e, .inr (7, [.ref b]))], [(b, .inr (13, [.ref y_19.1, .int 0, .int y_19.2.2.2, .int (nI (((((((((([] : List Int32) ++ str_by 9) ++ intL (c 0)) ++ str_by 10) ++ intL (c 1)) ++ str_by 11) ++ intL (c 2 / c 1)) ++ str_by 12) ++ intL (c 3)) ++ str_by 13).length)]))], [(y_19.1, .inl (Γ.2.1 1, y_19.2.1, .inl y_19.2.2.1))]] H := hP
  have hD : WD A [[(e, .inr (7, [.ref b]))], [(b, .inr (13, [.ref y_19.1, .int 0, .int y_19.2.2.2, .int (nI (((((((((([] : List Int32) ++ str_by 9) ++ intL (c 0)) ++ str_by 10) ++ intL (c 1)) ++ str_by 11) ++ intL (c 2 / c 1)) ++ str_by 12) ++ intL (c 3)) ++ str_by 13).length)]))], [(y_19.1, .inl (Γ.2.1 1, y_19.2.1, .inl y_19.2.2.1))]] := hD
  refine W.eq (g2 := F0 mi_ 54 ls ([.ref e])) rfl ?_
  refine lv_aload_n hx hb dX7_state_54 rfl (lv_at hl 0 rfl) ?_
  refine b_get (C := RX7) (T := TX7) (N := 6) (v := .int (c 4)) hx hb hts in_X7 hown hK (Rc.obj (by decide) ((hRo (a, pickE c) (by simp)).keep hS (fun _ h => h))) rfl 4 (by decide) q1251 (fun _ h9 => h9) rfl dX7_state_55 ?_
  have hi_20 := intL_le ((c 4))
  refine b_callq (br := []) (b_runV ⟨hx, hb, hml, hown, hts⟩ (mt_St_puti l Γ _ e b y_19 (((((((((([] : List Int32) ++ str_by 9) ++ intL (c 0)) ++ str_by 10) ++ intL (c 1)) ++ str_by 11) ++ intL (c 2 / c 1)) ++ str_by 12) ++ intL (c 3)) ++ str_by 13) (c 4) hy_19 (by simp only [List.length_append, List.length_cons, List.length_nil]; omega)) (lw_V q1454 q1429 q1430 q97 q1431) rfl rfl 1 (by decide +kernel) ⟨(Nat.le_of_ble_eq_true rfl), (Nat.le_of_ble_eq_true rfl)⟩ (c_pre hP hD hS hA hK hE [0, 1, 2] rfl rfl ro_nil) (recv_at (q := (RX9, TX9, 1)) hK (b_at (k := 0) hP rfl) rfl) rfl hl.1 rfl (Nat.le_of_ble_eq_true rfl) dX7_state_58 ⟨(Nat.le_of_ble_eq_true rfl), (Nat.le_of_ble_eq_true rfl)⟩) hP hD hS hA [0, 1, 2] [] rfl rfl rfl (fun r_21 u_21 H locs hw_21 hP hD hS _ => ?_)
  obtain ⟨y_21, hy_21, rfl, rfl⟩ := hw_21
  have hP : WP Γ [[(e, .inr (7, [.ref b]))], [(b, .inr (13, [.ref y_21.1, .int 0, .int y_21.2.2.2, .int (nI ((((((((((([] : List Int32) ++ str_by 9) ++ intL (c 0)) ++ str_by 10) ++ intL (c 1)) ++ str_by 11) ++ intL (c 2 / c 1)) ++ str_by 12) ++ intL (c 3)) ++ str_by 13) ++ intL (c 4)).length)]))], [(y_21.1, .inl (Γ.2.1 1, y_21.2.1, .inl y_21.2.2.1))]] H := hP
  have hD : WD A [[(e, .inr (7, [.ref b]))], [(b, .inr (13, [.ref y_21.1, .int 0, .int y_21.2.2.2, .int (nI ((((((((((([] : List Int32) ++ str_by 9) ++ intL (c 0)) ++ str_by 10) ++ intL (c 1)) ++ str_by 11) ++ intL (c 2 / c 1)) ++ str_by 12) ++ intL (c 3)) ++ str_by 13) ++ intL (c 4)).length)]))], [(y_21.1, .inl (Γ.2.1 1, y_21.2.1, .inl y_21.2.2.1))]] := hD
  refine W.eq (g2 := F0 mi_ 61 ls ([.ref e])) rfl ?_
  refine va_ldcS hx hb hown (hE.2.2 10 (by decide)) dX7_state_61 ?_
  have hi_22 := str_len 10 (by decide)
  refine b_callq (br := []) (b_runV ⟨hx, hb, hml, hown, hts⟩ (mt_St_puts l Γ _ e b y_21 ((((((((((([] : List Int32) ++ str_by 9) ++ intL (c 0)) ++ str_by 10) ++ intL (c 1)) ++ str_by 11) ++ intL (c 2 / c 1)) ++ str_by 12) ++ intL (c 3)) ++ str_by 13) ++ intL (c 4)) 10 hy_21 (by simp only [List.length_append, List.length_cons, List.length_nil]; omega) (by first | decide | assumption)) (lw_V q1453 q1435 q1436 q97 q1437) rfl rfl 1 (by decide +kernel) ⟨(Nat.le_of_ble_eq_true rfl), (Nat.le_of_ble_eq_true rfl)⟩ (c_pre hP hD hS hA hK hE [0, 1, 2] rfl rfl (hE.str hS (bFree hD hS hA [0, 1, 2] rfl) 10 (by decide))) (recv_at (q := (RX9, TX9, 1)) hK (b_at (k := 0) hP rfl) rfl) rfl hl.1 rfl (Nat.le_of_ble_eq_true rfl) dX7_state_63 ⟨(Nat.le_of_ble_eq_true rfl), (Nat.le_of_ble_eq_true rfl)⟩) hP hD hS hA [0, 1, 2] [] rfl rfl rfl (fun r_23 u_23 H locs hw_23 hP hD hS _ => ?_)
  obtain ⟨y_23, hy_23, rfl, rfl⟩ := hw_23
  have hP : WP Γ [[(e, .inr (7, [.ref b]))], [(b, .inr (13, [.ref y_23.1, .int 0, .int y_23.2.2.2, .int (nI (((((((((((([] : List Int32) ++ str_by 9) ++ intL (c 0)) ++ str_by 10) ++ intL (c 1)) ++ str_by 11) ++ intL (c 2 / c 1)) ++ str_by 12) ++ intL (c 3)) ++ str_by 13) ++ intL (c 4)) ++ str_by 10).length)]))], [(y_23.1, .inl (Γ.2.1 1, y_23.2.1, .inl y_23.2.2.1))]] H := hP
  have hD : WD A [[(e, .inr (7, [.ref b]))], [(b, .inr (13, [.ref y_23.1, .int 0, .int y_23.2.2.2, .int (nI (((((((((((([] : List Int32) ++ str_by 9) ++ intL (c 0)) ++ str_by 10) ++ intL (c 1)) ++ str_by 11) ++ intL (c 2 / c 1)) ++ str_by 12) ++ intL (c 3)) ++ str_by 13) ++ intL (c 4)) ++ str_by 10).length)]))], [(y_23.1, .inl (Γ.2.1 1, y_23.2.1, .inl y_23.2.2.1))]] := hD
  refine W.eq (g2 := F0 mi_ 66 ls ([.ref e])) rfl ?_
  refine lv_aload_n hx hb dX7_state_66 rfl (lv_at hl 0 rfl) ?_
  refine b_get (C := RX7) (T := TX7) (N := 6) (v := .int (c 5)) hx hb hts in_X7 hown hK (Rc.obj (by decide) ((hRo (a, pickE c) (by simp)).keep hS (fun _ h => h))) rfl 5 (by decide) q1252 (fun _ h9 => h9) rfl dX7_state_67 ?_
  have hi_24 := intL_le ((c 5))
  refine b_callq (br := []) (b_runV ⟨hx, hb, hml, hown, hts⟩ (mt_St_puti l Γ _ e b y_23 (((((((((((([] : List Int32) ++ str_by 9) ++ intL (c 0)) ++ str_by 10) ++ intL (c 1)) ++ str_by 11) ++ intL (c 2 / c 1)) ++ str_by 12) ++ intL (c 3)) ++ str_by 13) ++ intL (c 4)) ++ str_by 10) (c 5) hy_23 (by simp only [List.length_append, List.length_cons, List.length_nil]; omega)) (lw_V q1454 q1429 q1430 q97 q1431) rfl rfl 1 (by decide +kernel) ⟨(Nat.le_of_ble_eq_true rfl), (Nat.le_of_ble_eq_true rfl)⟩ (c_pre hP hD hS hA hK hE [0, 1, 2] rfl rfl ro_nil) (recv_at (q := (RX9, TX9, 1)) hK (b_at (k := 0) hP rfl) rfl) rfl hl.1 rfl (Nat.le_of_ble_eq_true rfl) dX7_state_70 ⟨(Nat.le_of_ble_eq_true rfl), (Nat.le_of_ble_eq_true rfl)⟩) hP hD hS hA [0, 1, 2] [] rfl rfl rfl (fun r_25 u_25 H locs hw_25 hP hD hS _ => ?_)
  obtain ⟨y_25, hy_25, rfl, rfl⟩ := hw_25
  have hP : WP Γ [[(e, .inr (7, [.ref b]))], [(b, .inr (13, [.ref y_25.1, .int 0, .int y_25.2.2.2, .int (nI ((((((((((((([] : List Int32) ++ str_by 9) ++ intL (c 0)) ++ str_by 10) ++ intL (c 1)) ++ str_by 11) ++ intL (c 2 / c 1)) ++ str_by 12) ++ intL (c 3)) ++ str_by 13) ++ intL (c 4)) ++ str_by 10) ++ intL (c 5)).length)]))], [(y_25.1, .inl (Γ.2.1 1, y_25.2.1, .inl y_25.2.2.1))]] H := hP
  have hD : WD A [[(e, .inr (7, [.ref b]))], [(b, .inr (13, [.ref y_25.1, .int 0, .int y_25.2.2.2, .int (nI ((((((((((((([] : List Int32) ++ str_by 9) ++ intL (c 0)) ++ str_by 10) ++ intL (c 1)) ++ str_by 11) ++ intL (c 2 / c 1)) ++ str_by 12) ++ intL (c 3)) ++ str_by 13) ++ intL (c 4)) ++ str_by 10) ++ intL (c 5)).length)]))], [(y_25.1, .inl (Γ.2.1 1, y_25.2.1, .inl y_25.2.2.1))]] := hD
  refine W.eq (g2 := F0 mi_ 73 ls ([.ref e])) rfl ?_
  refine lv_pop hx hb dX7_state_73 rfl ?_
  have hE9 : psT c = (((((((((((([] : List Int32) ++ str_by 9) ++ intL (c 0)) ++ str_by 10) ++ intL (c 1)) ++ str_by 11) ++ intL (c 2 / c 1)) ++ str_by 12) ++ intL (c 3)) ++ str_by 13) ++ intL (c 4)) ++ str_by 10) ++ intL (c 5) := by unfold psT; simp []
  exact b_vret hx hb hr hlocks hP hD hS (Nat.le_of_ble_eq_true rfl) (Nat.le_of_ble_eq_true rfl) ⟨y_25, (by rw [hE9]; exact hy_25), (by rw [hE9])⟩ dX7_state_74
theorem csT_len (c : Nat → Int32) (t : Int32) : (csT c t).length ≤ 230 := by
  have l0 := intL_le (c 0)
  have l4 := intL_le (c 4)
  have l7 := intL_le (t - c 7)
  have l3 := intL_le (c 3)
  have l9 := intL_le (c 9)
  have l8 := intL_le (c 8)
  have hs : ∀ i, i < nStr → (str_by i).length ≤ 10 := by decide +kernel
  have s1 := hs 1 (by decide)
  have s2 := hs 2 (by decide)
  have s3 := hs 3 (by decide)
  have s4 := hs 4 (by decide)
  have s5 := hs 5 (by decide)
  have s6 := hs 6 (by decide)
  have s7 := hs 7 (by decide)
  have s8 := hs 8 (by decide)
  unfold csT
  dsimp only
  split
  · split <;> split <;> split <;> simp only [List.length_append, List.length_nil] <;> omega
  · simp only [List.length_append, List.length_nil]
    omega
theorem psT_len (c : Nat → Int32) : (psT c).length ≤ 230 := by
  have l0 := intL_le (c 0)
  have l1 := intL_le (c 1)
  have l2 := intL_le (c 2 / c 1)
  have l3 := intL_le (c 3)
  have l4 := intL_le (c 4)
  have l5 := intL_le (c 5)
  have hs : ∀ i, i < nStr → (str_by i).length ≤ 10 := by decide +kernel
  have s9 := hs 9 (by decide)
  have s10 := hs 10 (by decide)
  have s11 := hs 11 (by decide)
  have s12 := hs 12 (by decide)
  have s13 := hs 13 (by decide)
  unfold psT
  simp only [List.length_append, List.length_nil]
  omega
set_option maxHeartbeats 4000000 in
set_option maxRecDepth 100000 in
theorem mt_Sd_cow (l : Launch) (Γ : GE) (sz : Nat) (a : Nat) (c : Nat → Int32) (t : Int32)  : KM l yX8_statement cX8_statement 3 (some (FieldType.object "java/lang/String")) Γ 8 191 17 7203 [.ref a, .int t] [[(a, cowE c)]] [] sz (Qq Γ (fun r_ u_ => ∃ o : Nat, ∃ y : SST, stF y (csT c t) ∧ r_ = some o ∧ u_ = [[(a, cowE c)], [(o, .inr (14, [.ref y.1, .int 0, .int 0, .int 0]))], [(y.1, .inl (Γ.2.1 1, (csT c t).length, .inl y.2))]])) := by
  refine K_intro (by decide) (Nat.le_of_ble_eq_true rfl) ?_
  intro pr_ ev_ s mi_ below meth cd_ A ls hx hb hr hml hown hts hlocks hname hK hE hRo hP hD hA hS hsz hl
  have hl : lv_has ls 3 [(0, .ref a), (1, .int t)] := hl
  have hown : s.vm.findClass RX8 = some mi_.cls := hown
  refine b_new (ci := 7) (fs := [.null]) (C := RX9) (T := TX9) (N := 1) hx hb hts in_X9 tyX9_ok hown q1407 q1408 q97 hK hP hD hS hA rfl (fun j hj => by rcases (show j = 0 by omega) with rfl <;> rfl) (Nat.le_of_ble_eq_true rfl) (Nat.le_of_ble_eq_true rfl) dX8_statement_0 (fun a_1 H hP hD hS => ?_)
  have hP : WP Γ [[(a, cowE c)], [(a_1, .inr (7, [.null]))]] H := hP
  have hD : WD A [[(a, cowE c)], [(a_1, .inr (7, [.null]))]] := hD
  refine lv_dup hx hb dX8_statement_3 rfl ?_
  refine b_callv (br := [[(a, cowE c)]]) (b_runIN ⟨hx, hb, hml, hown, hts⟩ (mt_St_init l Γ _ a_1) (hE.1.1 _ q1409 rfl) rfl q1410 q97 q1411 rfl rfl 0 ⟨by decide, by decide, by decide +kernel⟩ ⟨(Nat.le_of_ble_eq_true rfl), (Nat.le_of_ble_eq_true rfl)⟩ (c_pre hP hD hS hA hK hE [1] rfl rfl ro_nil) rfl hl.1 rfl (Nat.le_of_ble_eq_true rfl) dX8_statement_4 ⟨(Nat.le_of_ble_eq_true rfl), (Nat.le_of_ble_eq_true rfl)⟩) hP hD hS hA [1] [0] rfl rfl rfl (fun u_2 H locs hw_2 hP hD hS _ => ?_)
  obtain ⟨b_2, y_2, hy_2, rfl⟩ := hw_2
  have hP : WP Γ [[(a_1, .inr (7, [.ref b_2]))], [(b_2, .inr (13, [.ref y_2.1, .int 0, .int y_2.2.2.2, .int (nI ([] : List Int32).length)]))], [(y_2.1, .inl (Γ.2.1 1, y_2.2.1, .inl y_2.2.2.1))], [(a, cowE c)]] H := hP
  have hD : WD A [[(a_1, .inr (7, [.ref b_2]))], [(b_2, .inr (13, [.ref y_2.1, .int 0, .int y_2.2.2.2, .int (nI ([] : List Int32).length)]))], [(y_2.1, .inl (Γ.2.1 1, y_2.2.1, .inl y_2.2.2.1))], [(a, cowE c)]] := hD
  refine lv_astore_n (lv' := [(2, .ref a_1), (0, .ref a), (1, .int t)]) hx hb dX8_statement_7 rfl hl (by decide) rfl (fun ls hl => ?_)
  refine lv_aload_n hx hb dX8_statement_8 rfl (lv_at hl 1 rfl) ?_
  refine lv_aload_n hx hb dX8_statement_9 rfl (lv_at hl 0 rfl) ?_
  refine lv_iload_n hx hb dX8_statement_10 rfl (lv_at hl 2 rfl) ?_
  refine b_call5v (br := []) (b_runF (x := ⟨"DairyBook$Stated", "state", "(LDairyBook$Statement;I)V"⟩) (hK.1 4 _ rfl).2 ⟨hx, hb, hml, hown, hts⟩ (mt_Cow_state l Γ _ a c a_1 b_2 y_2 t hy_2) (hE.1.2.1.1 (fwL[3]'(by decide)) (List.getElem_mem _)) q1420 q1423 q1425 q81 q1427 rfl rfl 2 ⟨by decide, by decide, by decide +kernel⟩ ⟨(Nat.le_of_ble_eq_true rfl), (Nat.le_of_ble_eq_true rfl)⟩ (c_pre hP hD hS hA hK hE [3, 0, 1, 2] rfl rfl ro_nil) (recv_at (q := (RX5, TX5, 12)) hK (b_at (k := 3) hP rfl) rfl) rfl hl.1 rfl (Nat.le_of_ble_eq_true rfl) dX8_statement_11 ⟨(Nat.le_of_ble_eq_true rfl), (Nat.le_of_ble_eq_true rfl)⟩) hP hD hS hA [3, 0, 1, 2] [] rfl rfl rfl (fun u_3 H locs hw_3 hP hD hS _ => ?_)
  obtain ⟨y_3, hy_3, rfl⟩ := hw_3
  have hP : WP Γ [[(a, cowE c)], [(a_1, .inr (7, [.ref b_2]))], [(b_2, .inr (13, [.ref y_3.1, .int 0, .int y_3.2.2.2, .int (nI (csT c t).length)]))], [(y_3.1, .inl (Γ.2.1 1, y_3.2.1, .inl y_3.2.2.1))]] H := hP
  have hD : WD A [[(a, cowE c)], [(a_1, .inr (7, [.ref b_2]))], [(b_2, .inr (13, [.ref y_3.1, .int 0, .int y_3.2.2.2, .int (nI (csT c t).length)]))], [(y_3.1, .inl (Γ.2.1 1, y_3.2.1, .inl y_3.2.2.1))]] := hD
  refine lv_aload_n hx hb dX8_statement_16 rfl (lv_at hl 0 rfl) ?_
  refine b_callq (br := [[(a, cowE c)]]) (b_runV ⟨hx, hb, hml, hown, hts⟩ (mt_St_toString l Γ _ a_1 b_2 y_3 (csT c t) hy_3 (csT_len _ _)) (lw_V q1459 q1460 q1461 q97 q1462) rfl rfl 0 (by decide +kernel) ⟨(Nat.le_of_ble_eq_true rfl), (Nat.le_of_ble_eq_true rfl)⟩ (c_pre hP hD hS hA hK hE [1, 2, 3] rfl rfl ro_nil) (recv_at (q := (RX9, TX9, 1)) hK (b_at (k := 1) hP rfl) rfl) rfl hl.1 rfl (Nat.le_of_ble_eq_true rfl) dX8_statement_17 ⟨(Nat.le_of_ble_eq_true rfl), (Nat.le_of_ble_eq_true rfl)⟩) hP hD hS hA [1, 2, 3] [0] rfl rfl rfl (fun r_4 u_4 H locs hw_4 hP hD hS _ => ?_)
  obtain ⟨o_4, y_4, hs_4, rfl, rfl⟩ := hw_4
  have hP : WP Γ [[(o_4, .inr (14, [.ref y_4.1, .int 0, .int 0, .int 0]))], [(y_4.1, .inl (Γ.2.1 1, (csT c t).length, .inl y_4.2))], [(a_1, .inr (7, [.ref b_2]))], [(b_2, .inr (13, [.ref y_3.1, .int 0, .int y_3.2.2.2, .int (nI (csT c t).length)]))], [(y_3.1, .inl (Γ.2.1 1, y_3.2.1, .inl y_3.2.2.1))], [(a, cowE c)]] H := hP
  have hD : WD A [[(o_4, .inr (14, [.ref y_4.1, .int 0, .int 0, .int 0]))], [(y_4.1, .inl (Γ.2.1 1, (csT c t).length, .inl y_4.2))], [(a_1, .inr (7, [.ref b_2]))], [(b_2, .inr (13, [.ref y_3.1, .int 0, .int y_3.2.2.2, .int (nI (csT c t).length)]))], [(y_3.1, .inl (Γ.2.1 1, y_3.2.1, .inl y_3.2.2.1))], [(a, cowE c)]] := hD
  refine W.eq (g2 := F0 mi_ 20 ls ([.ref o_4])) rfl ?_
  have hP : WP Γ [[(a, cowE c)], [(o_4, .inr (14, [.ref y_4.1, .int 0, .int 0, .int 0]))], [(y_4.1, .inl (Γ.2.1 1, (csT c t).length, .inl y_4.2))]] H := bP_sel hP [5, 0, 1] rfl
  have hD : WD A [[(a, cowE c)], [(o_4, .inr (14, [.ref y_4.1, .int 0, .int 0, .int 0]))], [(y_4.1, .inl (Γ.2.1 1, (csT c t).length, .inl y_4.2))]] := bD_sel hD [5, 0, 1] rfl rfl
  exact b_aret hx hb hr (by first | exact Or.inl ⟨_, rfl⟩ | exact Or.inr ⟨_, rfl⟩) hlocks hP hD hS (Nat.le_of_ble_eq_true rfl) (Nat.le_of_ble_eq_true rfl) ⟨o_4, y_4, hs_4, (by first | rfl | (simp; done)), rfl⟩ dX8_statement_20
set_option maxHeartbeats 4000000 in
set_option maxRecDepth 100000 in
theorem mt_Sd_pickup (l : Launch) (Γ : GE) (sz : Nat) (a : Nat) (c : Nat → Int32) (t : Int32) (hz : ¬ c 1 = 0) : KM l yX8_statement cX8_statement 3 (some (FieldType.object "java/lang/String")) Γ 8 191 17 7203 [.ref a, .int t] [] [[(a, pickE c)]] sz (Qq Γ (fun r_ u_ => ∃ o : Nat, ∃ y : SST, stF y (psT c) ∧ r_ = some o ∧ u_ = [[(o, .inr (14, [.ref y.1, .int 0, .int 0, .int 0]))], [(y.1, .inl (Γ.2.1 1, (psT c).length, .inl y.2))]])) := by
  refine K_intro (by decide) (Nat.le_of_ble_eq_true rfl) ?_
  intro pr_ ev_ s mi_ below meth cd_ A ls hx hb hr hml hown hts hlocks hname hK hE hRo hP hD hA hS hsz hl
  have hl : lv_has ls 3 [(0, .ref a), (1, .int t)] := hl
  have hown : s.vm.findClass RX8 = some mi_.cls := hown
  refine b_new (ci := 7) (fs := [.null]) (C := RX9) (T := TX9) (N := 1) hx hb hts in_X9 tyX9_ok hown q1407 q1408 q97 hK hP hD hS hA rfl (fun j hj => by rcases (show j = 0 by omega) with rfl <;> rfl) (Nat.le_of_ble_eq_true rfl) (Nat.le_of_ble_eq_true rfl) dX8_statement_0 (fun a_1 H hP hD hS => ?_)
  have hP : WP Γ [[(a_1, .inr (7, [.null]))]] H := hP
  have hD : WD A [[(a_1, .inr (7, [.null]))]] := hD
  refine lv_dup hx hb dX8_statement_3 rfl ?_
  refine b_callv (br := []) (b_runIN ⟨hx, hb, hml, hown, hts⟩ (mt_St_init l Γ _ a_1) (hE.1.1 _ q1409 rfl) rfl q1410 q97 q1411 rfl rfl 0 ⟨by decide, by decide, by decide +kernel⟩ ⟨(Nat.le_of_ble_eq_true rfl), (Nat.le_of_ble_eq_true rfl)⟩ (c_pre hP hD hS hA hK hE [0] rfl rfl ro_nil) rfl hl.1 rfl (Nat.le_of_ble_eq_true rfl) dX8_statement_4 ⟨(Nat.le_of_ble_eq_true rfl), (Nat.le_of_ble_eq_true rfl)⟩) hP hD hS hA [0] [] rfl rfl rfl (fun u_2 H locs hw_2 hP hD hS _ => ?_)
  obtain ⟨b_2, y_2, hy_2, rfl⟩ := hw_2
  have hP : WP Γ [[(a_1, .inr (7, [.ref b_2]))], [(b_2, .inr (13, [.ref y_2.1, .int 0, .int y_2.2.2.2, .int (nI ([] : List Int32).length)]))], [(y_2.1, .inl (Γ.2.1 1, y_2.2.1, .inl y_2.2.2.1))]] H := hP
  have hD : WD A [[(a_1, .inr (7, [.ref b_2]))], [(b_2, .inr (13, [.ref y_2.1, .int 0, .int y_2.2.2.2, .int (nI ([] : List Int32).length)]))], [(y_2.1, .inl (Γ.2.1 1, y_2.2.1, .inl y_2.2.2.1))]] := hD
  refine lv_astore_n (lv' := [(2, .ref a_1), (0, .ref a), (1, .int t)]) hx hb dX8_statement_7 rfl hl (by decide) rfl (fun ls hl => ?_)
  refine lv_aload_n hx hb dX8_statement_8 rfl (lv_at hl 1 rfl) ?_
  refine lv_aload_n hx hb dX8_statement_9 rfl (lv_at hl 0 rfl) ?_
  refine lv_iload_n hx hb dX8_statement_10 rfl (lv_at hl 2 rfl) ?_
  refine b_call5v (br := []) (b_runF (x := ⟨"DairyBook$Stated", "state", "(LDairyBook$Statement;I)V"⟩) (hK.1 6 _ rfl).2 ⟨hx, hb, hml, hown, hts⟩ (mt_Pickup_state_r l Γ _ a c a_1 b_2 y_2 t hy_2 hz) (hE.1.2.1.1 (fwL[4]'(by decide)) (List.getElem_mem _)) q1420 q1447 q1449 q95 q1451 rfl rfl 2 ⟨by decide, by decide, by decide +kernel⟩ ⟨(Nat.le_of_ble_eq_true rfl), (Nat.le_of_ble_eq_true rfl)⟩ (c_pre hP hD hS hA hK hE [0, 1, 2] rfl rfl (ro_pass (ro_sel (ro2 := [[(a, pickE c)]]) hRo [0] rfl) hD hS hA [0, 1, 2] rfl)) (recv_at (q := (RX7, TX7, 6)) hK (Rc.obj (by decide) ((hRo (a, pickE c) (by simp)).keep hS (fun _ h => h))) rfl) rfl hl.1 rfl (Nat.le_of_ble_eq_true rfl) dX8_statement_11 ⟨(Nat.le_of_ble_eq_true rfl), (Nat.le_of_ble_eq_true rfl)⟩) hP hD hS hA [0, 1, 2] [] rfl rfl rfl (fun u_3 H locs hw_3 hP hD hS _ => ?_)
  obtain ⟨y_3, hy_3, rfl⟩ := hw_3
  have hP : WP Γ [[(a_1, .inr (7, [.ref b_2]))], [(b_2, .inr (13, [.ref y_3.1, .int 0, .int y_3.2.2.2, .int (nI (psT c).length)]))], [(y_3.1, .inl (Γ.2.1 1, y_3.2.1, .inl y_3.2.2.1))]] H := hP
  have hD : WD A [[(a_1, .inr (7, [.ref b_2]))], [(b_2, .inr (13, [.ref y_3.1, .int 0, .int y_3.2.2.2, .int (nI (psT c).length)]))], [(y_3.1, .inl (Γ.2.1 1, y_3.2.1, .inl y_3.2.2.1))]] := hD
  refine lv_aload_n hx hb dX8_statement_16 rfl (lv_at hl 0 rfl) ?_
  refine b_callq (br := []) (b_runV ⟨hx, hb, hml, hown, hts⟩ (mt_St_toString l Γ _ a_1 b_2 y_3 (psT c) hy_3 (psT_len _)) (lw_V q1459 q1460 q1461 q97 q1462) rfl rfl 0 (by decide +kernel) ⟨(Nat.le_of_ble_eq_true rfl), (Nat.le_of_ble_eq_true rfl)⟩ (c_pre hP hD hS hA hK hE [0, 1, 2] rfl rfl ro_nil) (recv_at (q := (RX9, TX9, 1)) hK (b_at (k := 0) hP rfl) rfl) rfl hl.1 rfl (Nat.le_of_ble_eq_true rfl) dX8_statement_17 ⟨(Nat.le_of_ble_eq_true rfl), (Nat.le_of_ble_eq_true rfl)⟩) hP hD hS hA [0, 1, 2] [] rfl rfl rfl (fun r_4 u_4 H locs hw_4 hP hD hS _ => ?_)
  obtain ⟨o_4, y_4, hs_4, rfl, rfl⟩ := hw_4
  have hP : WP Γ [[(o_4, .inr (14, [.ref y_4.1, .int 0, .int 0, .int 0]))], [(y_4.1, .inl (Γ.2.1 1, (psT c).length, .inl y_4.2))], [(a_1, .inr (7, [.ref b_2]))], [(b_2, .inr (13, [.ref y_3.1, .int 0, .int y_3.2.2.2, .int (nI (psT c).length)]))], [(y_3.1, .inl (Γ.2.1 1, y_3.2.1, .inl y_3.2.2.1))]] H := hP
  have hD : WD A [[(o_4, .inr (14, [.ref y_4.1, .int 0, .int 0, .int 0]))], [(y_4.1, .inl (Γ.2.1 1, (psT c).length, .inl y_4.2))], [(a_1, .inr (7, [.ref b_2]))], [(b_2, .inr (13, [.ref y_3.1, .int 0, .int y_3.2.2.2, .int (nI (psT c).length)]))], [(y_3.1, .inl (Γ.2.1 1, y_3.2.1, .inl y_3.2.2.1))]] := hD
  refine W.eq (g2 := F0 mi_ 20 ls ([.ref o_4])) rfl ?_
  have hP : WP Γ [[(o_4, .inr (14, [.ref y_4.1, .int 0, .int 0, .int 0]))], [(y_4.1, .inl (Γ.2.1 1, (psT c).length, .inl y_4.2))]] H := bP_sel hP [0, 1] rfl
  have hD : WD A [[(o_4, .inr (14, [.ref y_4.1, .int 0, .int 0, .int 0]))], [(y_4.1, .inl (Γ.2.1 1, (psT c).length, .inl y_4.2))]] := bD_sel hD [0, 1] rfl rfl
  exact b_aret hx hb hr (by first | exact Or.inl ⟨_, rfl⟩ | exact Or.inr ⟨_, rfl⟩) hlocks hP hD hS (Nat.le_of_ble_eq_true rfl) (Nat.le_of_ble_eq_true rfl) ⟨o_4, y_4, hs_4, (by first | rfl | (simp; done)), rfl⟩ dX8_statement_20
