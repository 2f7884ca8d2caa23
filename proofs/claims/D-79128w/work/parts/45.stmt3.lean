/-! COMPONENT: Stated.of -/
set_option maxHeartbeats 4000000 in
set_option maxRecDepth 100000 in
theorem mt_Of_cow (l : Launch) (Γ : GE) (sz : Nat) (a : Nat) (c : Nat → Int32) (t : Int32)  : KM l yX8_of cX8_of 2 (some (FieldType.object "java/lang/String")) Γ 9 213 17 7203 [.ref a, .int t] [[(a, cowE c)]] [] sz (Qq Γ (fun r_ u_ => ∃ o : Nat, ∃ y : SST, stF y (csT c t) ∧ r_ = some o ∧ u_ = [[(a, cowE c)], [(o, .inr (14, [.ref y.1, .int 0, .int 0, .int 0]))], [(y.1, .inl (Γ.2.1 1, (csT c t).length, .inl y.2))]])) := by
  refine K_intro (by decide) (Nat.le_of_ble_eq_true rfl) ?_
  intro pr_ ev_ s mi_ below meth cd_ A ls hx hb hr hml hown hts hlocks hname hK hE hRo hP hD hA hS hsz hl
  have hl : lv_has ls 2 [(0, .ref a), (1, .int t)] := hl
  have hown : s.vm.findClass RX8 = some mi_.cls := hown
  refine lv_aload_n hx hb dX8_of_0 rfl (lv_at hl 0 rfl) ?_
  refine lv_iload_n hx hb dX8_of_1 rfl (lv_at hl 1 rfl) ?_
  refine b_call5q (br := []) (b_runFD (x := ⟨"DairyBook$Stated", "statement", "(I)Ljava/lang/String;"⟩) (y := ⟨"DairyBook$Stated", "statement", "(I)Ljava/lang/String;"⟩) (hK.1 4 _ rfl).2 ⟨hx, hb, hml, hown, hts⟩ (mt_Sd_cow l Γ _ a c t) hE.1.2.1.2.1.1 q1399 q1404 q96 q1406 rfl rfl 1 ⟨by decide, by decide, by decide +kernel⟩ ⟨(Nat.le_of_ble_eq_true rfl), (Nat.le_of_ble_eq_true rfl)⟩ (c_pre hP hD hS hA hK hE [0] rfl rfl ro_nil) (recv_at (q := (RX5, TX5, 12)) hK (b_at (k := 0) hP rfl) rfl) rfl hl.1 rfl (Nat.le_of_ble_eq_true rfl) dX8_of_2 ⟨(Nat.le_of_ble_eq_true rfl), (Nat.le_of_ble_eq_true rfl)⟩) hP hD hS hA [0] [] rfl rfl rfl (fun r_1 u_1 H locs hw_1 hP hD hS _ => ?_)
  obtain ⟨o_1, y_1, hs_1, rfl, rfl⟩ := hw_1
  have hP : WP Γ [[(a, cowE c)], [(o_1, .inr (14, [.ref y_1.1, .int 0, .int 0, .int 0]))], [(y_1.1, .inl (Γ.2.1 1, (csT c t).length, .inl y_1.2))]] H := hP
  have hD : WD A [[(a, cowE c)], [(o_1, .inr (14, [.ref y_1.1, .int 0, .int 0, .int 0]))], [(y_1.1, .inl (Γ.2.1 1, (csT c t).length, .inl y_1.2))]] := hD
  refine W.eq (g2 := F0 mi_ 7 ls ([.ref o_1])) rfl ?_
  exact b_aret hx hb hr (by first | exact Or.inl ⟨_, rfl⟩ | exact Or.inr ⟨_, rfl⟩) hlocks hP hD hS (Nat.le_of_ble_eq_true rfl) (Nat.le_of_ble_eq_true rfl) ⟨o_1, y_1, hs_1, (by first | rfl | (simp; done)), rfl⟩ dX8_of_7
set_option maxHeartbeats 4000000 in
set_option maxRecDepth 100000 in
theorem mt_Of_pickup (l : Launch) (Γ : GE) (sz : Nat) (a : Nat) (c : Nat → Int32) (t : Int32) (hz : ¬ c 1 = 0) : KM l yX8_of cX8_of 2 (some (FieldType.object "java/lang/String")) Γ 9 213 17 7203 [.ref a, .int t] [] [[(a, pickE c)]] sz (Qq Γ (fun r_ u_ => ∃ o : Nat, ∃ y : SST, stF y (psT c) ∧ r_ = some o ∧ u_ = [[(o, .inr (14, [.ref y.1, .int 0, .int 0, .int 0]))], [(y.1, .inl (Γ.2.1 1, (psT c).length, .inl y.2))]])) := by
  refine K_intro (by decide) (Nat.le_of_ble_eq_true rfl) ?_
  intro pr_ ev_ s mi_ below meth cd_ A ls hx hb hr hml hown hts hlocks hname hK hE hRo hP hD hA hS hsz hl
  have hl : lv_has ls 2 [(0, .ref a), (1, .int t)] := hl
  have hown : s.vm.findClass RX8 = some mi_.cls := hown
  refine lv_aload_n hx hb dX8_of_0 rfl (lv_at hl 0 rfl) ?_
  refine lv_iload_n hx hb dX8_of_1 rfl (lv_at hl 1 rfl) ?_
  refine b_call5q (br := []) (b_runFD (x := ⟨"DairyBook$Stated", "statement", "(I)Ljava/lang/String;"⟩) (y := ⟨"DairyBook$Stated", "statement", "(I)Ljava/lang/String;"⟩) (hK.1 6 _ rfl).2 ⟨hx, hb, hml, hown, hts⟩ (mt_Sd_pickup l Γ _ a c t hz) hE.1.2.1.2.1.2 q1399 q1404 q96 q1406 rfl rfl 1 ⟨by decide, by decide, by decide +kernel⟩ ⟨(Nat.le_of_ble_eq_true rfl), (Nat.le_of_ble_eq_true rfl)⟩ (c_pre hP hD hS hA hK hE [] rfl rfl (ro_pass (ro_sel (ro2 := [[(a, pickE c)]]) hRo [0] rfl) hD hS hA [] rfl)) (recv_at (q := (RX7, TX7, 6)) hK (Rc.obj (by decide) ((hRo (a, pickE c) (by simp)).keep hS (fun _ h => h))) rfl) rfl hl.1 rfl (Nat.le_of_ble_eq_true rfl) dX8_of_2 ⟨(Nat.le_of_ble_eq_true rfl), (Nat.le_of_ble_eq_true rfl)⟩) hP hD hS hA [] [] rfl rfl rfl (fun r_1 u_1 H locs hw_1 hP hD hS _ => ?_)
  obtain ⟨o_1, y_1, hs_1, rfl, rfl⟩ := hw_1
  have hP : WP Γ [[(o_1, .inr (14, [.ref y_1.1, .int 0, .int 0, .int 0]))], [(y_1.1, .inl (Γ.2.1 1, (psT c).length, .inl y_1.2))]] H := hP
  have hD : WD A [[(o_1, .inr (14, [.ref y_1.1, .int 0, .int 0, .int 0]))], [(y_1.1, .inl (Γ.2.1 1, (psT c).length, .inl y_1.2))]] := hD
  refine W.eq (g2 := F0 mi_ 7 ls ([.ref o_1])) rfl ?_
  exact b_aret hx hb hr (by first | exact Or.inl ⟨_, rfl⟩ | exact Or.inr ⟨_, rfl⟩) hlocks hP hD hS (Nat.le_of_ble_eq_true rfl) (Nat.le_of_ble_eq_true rfl) ⟨o_1, y_1, hs_1, (by first | rfl | (simp; done)), rfl⟩ dX8_of_7
