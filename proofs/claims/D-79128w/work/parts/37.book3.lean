/-! COMPONENT: more of the book's members where nothing is thrown -/
def tkW (li ce cap w : Int32) : Int32 := if w = 0 then li else if w = 1 then ce else if w = 2 then tkCount li ce else tkRoom li cap
def HB.setPk (h : HB) (S : HS) (x2 : LST) (m2 : Int32) (pa : Nat → Nat) : HB := (h.1, S, h.2.2.1, h.2.2.2.1, (x2, m2, pa), h.2.2.2.2.2)
set_option maxHeartbeats 4000000 in
set_option maxRecDepth 100000 in
theorem mt_Pickup_count_r (l : Launch) (Γ : GE) (sz : Nat) (a : Nat) (c : Nat → Int32) (hz : ¬ c 1 = 0) : KM l yX7_count cX7_count 1 (some FieldType.int) Γ 0 0 0 0 [.ref a] [] [[(a, pickE c)]] sz (Qi Γ (fun r_ u_ => r_ = (c 2 / c 1) ∧ u_ = [])) := by
  refine K_intro (by decide) (Nat.le_of_ble_eq_true rfl) ?_
  intro pr_ ev_ s mi_ below meth cd_ A ls hx hb hr hml hown hts hlocks hname hK hE hRo hP hD hA hS hsz hl
  have hl : lv_has ls 1 [(0, .ref a)] := hl
  have hown : s.vm.findClass RX7 = some mi_.cls := hown
  refine lv_aload_n hx hb dX7_count_0 rfl (lv_at hl 0 rfl) ?_
  refine b_get (C := RX7) (T := TX7) (N := 6) (v := .int (c 2)) hx hb hts in_X7 hown hK (Rc.obj (by decide) ((hRo (a, pickE c) (by simp)).keep hS (fun _ h => h))) rfl 2 (by decide) q1247 (fun _ h9 => h9) rfl dX7_count_1 ?_
  refine lv_aload_n hx hb dX7_count_4 rfl (lv_at hl 0 rfl) ?_
  refine b_get (C := RX7) (T := TX7) (N := 6) (v := .int (c 1)) hx hb hts in_X7 hown hK (Rc.obj (by decide) ((hRo (a, pickE c) (by simp)).keep hS (fun _ h => h))) rfl 1 (by decide) q1244 (fun _ h9 => h9) rfl dX7_count_5 ?_
  refine lv_idiv hx hb dX7_count_8 (hz) ?_
  exact b_iret hx hb hr hlocks hP hD hS (Nat.le_of_ble_eq_true rfl) (Nat.le_of_ble_eq_true rfl) ⟨(by first | rfl | (simp; done)), (by first | rfl | (simp; done))⟩ dX7_count_9
set_option maxHeartbeats 4000000 in
set_option maxRecDepth 100000 in
theorem mt_Pickup_told_r (l : Launch) (Γ : GE) (sz : Nat) (a : Nat) (c : Nat → Int32) (w : Int32) (hz : ¬ c 1 = 0) : KM l yX7_told cX7_told 2 (some FieldType.int) Γ 1 20 0 0 [.ref a, .int w] [] [[(a, pickE c)]] sz (Qi Γ (fun r_ u_ => r_ = (pickTold c w) ∧ u_ = [])) := by
  refine K_intro (by decide) (Nat.le_of_ble_eq_true rfl) ?_
  intro pr_ ev_ s mi_ below meth cd_ A ls hx hb hr hml hown hts hlocks hname hK hE hRo hP hD hA hS hsz hl
  have hl : lv_has ls 2 [(0, .ref a), (1, .int w)] := hl
  have hown : s.vm.findClass RX7 = some mi_.cls := hown
  refine lv_iload_n hx hb dX7_told_0 rfl (lv_at hl 1 rfl) ?_
  by_cases c_1_0 : w = 0
  · -- case 0
    subst c_1_0
    refine lv_tableIn (tgt := 40) hx hb dX7_told_1 (by decide) (by decide) rfl (by decide) ?_
    refine lv_aload_n hx hb dX7_told_40 rfl (lv_at hl 0 rfl) ?_
    refine b_get (C := RX7) (T := TX7) (N := 6) (v := .int (c 0)) hx hb hts in_X7 hown hK (Rc.obj (by decide) ((hRo (a, pickE c) (by simp)).keep hS (fun _ h => h))) rfl 0 (by decide) q1243 (fun _ h9 => h9) rfl dX7_told_41 ?_
    exact b_iret hx hb hr hlocks hP hD hS (Nat.le_of_ble_eq_true rfl) (Nat.le_of_ble_eq_true rfl) ⟨(by first | with_reducible rfl | (simp [pickTold]; done) | rfl), (by first | with_reducible rfl | (simp [pickTold]; done) | rfl)⟩ dX7_told_44
  by_cases c_1_1 : w = 1
  · -- case 1
    subst c_1_1
    refine lv_tableIn (tgt := 45) hx hb dX7_told_1 (by decide) (by decide) rfl (by decide) ?_
    refine lv_aload_n hx hb dX7_told_45 rfl (lv_at hl 0 rfl) ?_
    refine b_get (C := RX7) (T := TX7) (N := 6) (v := .int (c 1)) hx hb hts in_X7 hown hK (Rc.obj (by decide) ((hRo (a, pickE c) (by simp)).keep hS (fun _ h => h))) rfl 1 (by decide) q1244 (fun _ h9 => h9) rfl dX7_told_46 ?_
    exact b_iret hx hb hr hlocks hP hD hS (Nat.le_of_ble_eq_true rfl) (Nat.le_of_ble_eq_true rfl) ⟨(by first | with_reducible rfl | (simp [pickTold, c_1_0]; done) | rfl), (by first | with_reducible rfl | (simp [pickTold, c_1_0]; done) | rfl)⟩ dX7_told_49
  by_cases c_1_2 : w = 2
  · -- case 2
    subst c_1_2
    refine lv_tableIn (tgt := 50) hx hb dX7_told_1 (by decide) (by decide) rfl (by decide) ?_
    refine lv_aload_n hx hb dX7_told_50 rfl (lv_at hl 0 rfl) ?_
    refine b_get (C := RX7) (T := TX7) (N := 6) (v := .int (c 2)) hx hb hts in_X7 hown hK (Rc.obj (by decide) ((hRo (a, pickE c) (by simp)).keep hS (fun _ h => h))) rfl 2 (by decide) q1247 (fun _ h9 => h9) rfl dX7_told_51 ?_
    exact b_iret hx hb hr hlocks hP hD hS (Nat.le_of_ble_eq_true rfl) (Nat.le_of_ble_eq_true rfl) ⟨(by first | with_reducible rfl | (simp [pickTold, c_1_0, c_1_1]; done) | rfl), (by first | with_reducible rfl | (simp [pickTold, c_1_0, c_1_1]; done) | rfl)⟩ dX7_told_54
  by_cases c_1_3 : w = 3
  · -- case 3
    subst c_1_3
    refine lv_tableIn (tgt := 55) hx hb dX7_told_1 (by decide) (by decide) rfl (by decide) ?_
    refine lv_aload_n hx hb dX7_told_55 rfl (lv_at hl 0 rfl) ?_
    refine b_calli (br := []) (b_runV ⟨hx, hb, hml, hown, hts⟩ (mt_Pickup_count_r l Γ _ a c hz) (lw_V q1362 q1363 q1364 q95 q1365) rfl rfl 0 (by decide +kernel) ⟨(Nat.le_of_ble_eq_true rfl), (Nat.le_of_ble_eq_true rfl)⟩ (c_pre hP hD hS hA hK hE [] rfl rfl (ro_pass (ro_sel (ro2 := [[(a, pickE c)]]) hRo [0] rfl) hD hS hA [] rfl)) (recv_at (q := (RX7, TX7, 6)) hK (Rc.obj (by decide) ((hRo (a, pickE c) (by simp)).keep hS (fun _ h => h))) rfl) rfl hl.1 rfl (Nat.le_of_ble_eq_true rfl) dX7_told_56 ⟨(Nat.le_of_ble_eq_true rfl), (Nat.le_of_ble_eq_true rfl)⟩) hP hD hS hA [] [] rfl rfl rfl (fun r_2 u_2 H locs hw_2 hP hD hS _ => ?_)
    obtain ⟨rfl, rfl⟩ := hw_2
    have hP : WP Γ [] H := hP
    have hD : WD A [] := hD
    exact b_iret hx hb hr hlocks hP hD hS (Nat.le_of_ble_eq_true rfl) (Nat.le_of_ble_eq_true rfl) ⟨(by first | with_reducible rfl | (simp [pickTold, c_1_0, c_1_1, c_1_2]; done) | rfl), (by first | with_reducible rfl | (simp [pickTold, c_1_0, c_1_1, c_1_2]; done) | rfl)⟩ dX7_told_59
  by_cases c_1_4 : w = 4
  · -- case 4
    subst c_1_4
    refine lv_tableIn (tgt := 60) hx hb dX7_told_1 (by decide) (by decide) rfl (by decide) ?_
    refine lv_aload_n hx hb dX7_told_60 rfl (lv_at hl 0 rfl) ?_
    refine b_get (C := RX7) (T := TX7) (N := 6) (v := .int (c 3)) hx hb hts in_X7 hown hK (Rc.obj (by decide) ((hRo (a, pickE c) (by simp)).keep hS (fun _ h => h))) rfl 3 (by decide) q1250 (fun _ h9 => h9) rfl dX7_told_61 ?_
    exact b_iret hx hb hr hlocks hP hD hS (Nat.le_of_ble_eq_true rfl) (Nat.le_of_ble_eq_true rfl) ⟨(by first | with_reducible rfl | (simp [pickTold, c_1_0, c_1_1, c_1_2, c_1_3]; done) | rfl), (by first | with_reducible rfl | (simp [pickTold, c_1_0, c_1_1, c_1_2, c_1_3]; done) | rfl)⟩ dX7_told_64
  by_cases c_1_5 : w = 5
  · -- case 5
    subst c_1_5
    refine lv_tableIn (tgt := 65) hx hb dX7_told_1 (by decide) (by decide) rfl (by decide) ?_
    refine lv_aload_n hx hb dX7_told_65 rfl (lv_at hl 0 rfl) ?_
    refine b_get (C := RX7) (T := TX7) (N := 6) (v := .int (c 4)) hx hb hts in_X7 hown hK (Rc.obj (by decide) ((hRo (a, pickE c) (by simp)).keep hS (fun _ h => h))) rfl 4 (by decide) q1251 (fun _ h9 => h9) rfl dX7_told_66 ?_
    exact b_iret hx hb hr hlocks hP hD hS (Nat.le_of_ble_eq_true rfl) (Nat.le_of_ble_eq_true rfl) ⟨(by first | with_reducible rfl | (simp [pickTold, c_1_0, c_1_1, c_1_2, c_1_3, c_1_4]; done) | rfl), (by first | with_reducible rfl | (simp [pickTold, c_1_0, c_1_1, c_1_2, c_1_3, c_1_4]; done) | rfl)⟩ dX7_told_69
  refine lv_tableOut (tgt := 70) hx hb dX7_told_1 (sw_out 0 5 (by decide) (fun j h1 h2 => by rcases (show j = 0 ∨ j = 1 ∨ j = 2 ∨ j = 3 ∨ j = 4 ∨ j = 5 by omega) with rfl | rfl | rfl | rfl | rfl | rfl <;> assumption)) (by decide) ?_
  refine lv_aload_n hx hb dX7_told_70 rfl (lv_at hl 0 rfl) ?_
  refine b_get (C := RX7) (T := TX7) (N := 6) (v := .int (c 5)) hx hb hts in_X7 hown hK (Rc.obj (by decide) ((hRo (a, pickE c) (by simp)).keep hS (fun _ h => h))) rfl 5 (by decide) q1252 (fun _ h9 => h9) rfl dX7_told_71 ?_
  exact b_iret hx hb hr hlocks hP hD hS (Nat.le_of_ble_eq_true rfl) (Nat.le_of_ble_eq_true rfl) ⟨(by first | with_reducible rfl | (simp [pickTold, c_1_0, c_1_1, c_1_2, c_1_3, c_1_4, c_1_5]; done) | rfl), (by first | with_reducible rfl | (simp [pickTold, c_1_0, c_1_1, c_1_2, c_1_3, c_1_4, c_1_5]; done) | rfl)⟩ dX7_told_74
set_option maxHeartbeats 4000000 in
set_option maxRecDepth 100000 in
theorem mt_DB_pickup_ok (l : Launch) (Γ : GE) (sz : Nat) (b : Nat) (h : HB) (tt : Nat) (sv : Nat) (zs : Int32) (da : Nat) (tx : Nat) (wr : Nat) (fl : Int32) (rf : Int32) (P : va_W) (k : Nat) (w : Int32) (ho : hdOk Γ P h) (hk9 : k < h.S.np) (hi9 : ¬ inC (nI k) 0 (nI h.S.np - 1) = 0) (hw9 : ¬ inC w 0 6 = 0) (hz : ¬ h.S.pv k 1 = 0) : KM l yX1_pickup cX1_pickup 4 (some FieldType.int) Γ 4 85 0 0 [.ref b, .int (nI k), .int w] [[(b, .inr (0, [.ref h.e0, .ref tt, .ref sv, .int zs, .ref da, .ref tx, .ref wr, .int fl, .int rf]))], (hdB Γ h)] [P] sz (Qi Γ (fun r_ u_ => r_ = (pickTold (h.S.pv k) w) ∧ u_ = [[(b, .inr (0, [.ref h.e0, .ref tt, .ref sv, .int zs, .ref da, .ref tx, .ref wr, .int fl, .int rf]))], (hdB Γ h)])) := by
  refine K_intro (by decide) (Nat.le_of_ble_eq_true rfl) ?_
  intro pr_ ev_ s mi_ below meth cd_ A ls hx hb hr hml hown hts hlocks hname hK hE hRo hP hD hA hS hsz hl
  have hl : lv_has ls 4 [(0, .ref b), (1, .int (nI k)), (2, .int w)] := hl
  have hown : s.vm.findClass RX1 = some mi_.cls := hown
  refine lv_aload_n hx hb dX1_pickup_0 rfl (lv_at hl 0 rfl) ?_
  refine lv_iload_n hx hb dX1_pickup_1 rfl (lv_at hl 1 rfl) ?_
  refine b_callq (br := []) (b_runV ⟨hx, hb, hml, hown, hts⟩ (mt_DB_pickupAt_ok l Γ _ b h tt sv zs da tx wr fl rf P k (by assumption) hk9 hi9) (lw_V q1353 q1355 qs23 q62 q1356) rfl rfl 1 (by decide +kernel) ⟨(Nat.le_of_ble_eq_true rfl), (Nat.le_of_ble_eq_true rfl)⟩ (c_pre hP hD hS hA hK hE [0, 1] rfl rfl (ro_pass (ro_sel (ro2 := [P]) hRo [0] rfl) hD hS hA [0, 1] rfl)) (recv_at (q := (RX1, TX1, 9)) hK (b_at (k := 0) hP rfl) rfl) rfl hl.1 rfl (Nat.le_of_ble_eq_true rfl) dX1_pickup_2 ⟨(Nat.le_of_ble_eq_true rfl), (Nat.le_of_ble_eq_true rfl)⟩) hP hD hS hA [0, 1] [] rfl rfl rfl (fun r_1 u_1 H locs hw_1 hP hD hS _ => ?_)
  obtain ⟨rfl, rfl⟩ := hw_1
  have hP : WP Γ [[(b, .inr (0, [.ref h.e0, .ref tt, .ref sv, .int zs, .ref da, .ref tx, .ref wr, .int fl, .int rf]))], (hdB Γ h)] H := hP
  have hD : WD A [[(b, .inr (0, [.ref h.e0, .ref tt, .ref sv, .int zs, .ref da, .ref tx, .ref wr, .int fl, .int rf]))], (hdB Γ h)] := hD
  refine W.eq (g2 := F0 mi_ 5 ls ([.ref (h.pa k)])) rfl ?_
  have hpk := ho.2.2.2.2.2.2.2.1
  refine lv_astore_n (lv' := [(3, .ref (h.pa k)), (0, .ref b), (1, .int (nI k)), (2, .int w)]) hx hb dX1_pickup_5 rfl hl (by decide) rfl (fun ls hl => ?_)
  refine lv_iload_n hx hb dX1_pickup_6 rfl (lv_at hl 3 rfl) ?_
  refine lv_iconst (v := 0) hx hb dX1_pickup_7 (by decide) ?_
  refine lv_bipush (v := 6) hx hb dX1_pickup_8 (by decide) ?_
  refine b_calli (br := [[(b, .inr (0, [.ref h.e0, .ref tt, .ref sv, .int zs, .ref da, .ref tx, .ref wr, .int fl, .int rf]))], (hdB Γ h)]) (b_runS ⟨hx, hb, hml, hown, hts⟩ (mt_DB_in l Γ _ w 0 6) (lw_S q806 q807 q62 q808) rfl rfl 3 (by decide +kernel) ⟨(Nat.le_of_ble_eq_true rfl), (Nat.le_of_ble_eq_true rfl)⟩ (c_pre hP hD hS hA hK hE [] rfl rfl ro_nil) rfl hl.1 rfl (Nat.le_of_ble_eq_true rfl) dX1_pickup_10 ⟨(Nat.le_of_ble_eq_true rfl), (Nat.le_of_ble_eq_true rfl)⟩) hP hD hS hA [] [0, 1] rfl rfl rfl (fun r_2 u_2 H locs hw_2 hP hD hS _ => ?_)
  obtain ⟨rfl, rfl⟩ := hw_2
  have hP : WP Γ [[(b, .inr (0, [.ref h.e0, .ref tt, .ref sv, .int zs, .ref da, .ref tx, .ref wr, .int fl, .int rf]))], (hdB Γ h)] H := hP
  have hD : WD A [[(b, .inr (0, [.ref h.e0, .ref tt, .ref sv, .int zs, .ref da, .ref tx, .ref wr, .int fl, .int rf]))], (hdB Γ h)] := hD
  refine b_callv (br := [[(b, .inr (0, [.ref h.e0, .ref tt, .ref sv, .int zs, .ref da, .ref tx, .ref wr, .int fl, .int rf]))], (hdB Γ h)]) (b_runS ⟨hx, hb, hml, hown, hts⟩ (mt_DB_check_ok l Γ _ (inC w 0 6) (by first | assumption | decide)) (lw_S q809 q810 q62 q811) rfl rfl 1 (by decide +kernel) ⟨(Nat.le_of_ble_eq_true rfl), (Nat.le_of_ble_eq_true rfl)⟩ (c_pre hP hD hS hA hK hE [] rfl rfl ro_nil) rfl hl.1 rfl (Nat.le_of_ble_eq_true rfl) dX1_pickup_13 ⟨(Nat.le_of_ble_eq_true rfl), (Nat.le_of_ble_eq_true rfl)⟩) hP hD hS hA [] [0, 1] rfl rfl rfl (fun u_3 H locs hw_3 hP hD hS _ => ?_)
  obtain rfl := hw_3
  have hP : WP Γ [[(b, .inr (0, [.ref h.e0, .ref tt, .ref sv, .int zs, .ref da, .ref tx, .ref wr, .int fl, .int rf]))], (hdB Γ h)] H := hP
  have hD : WD A [[(b, .inr (0, [.ref h.e0, .ref tt, .ref sv, .int zs, .ref da, .ref tx, .ref wr, .int fl, .int rf]))], (hdB Γ h)] := hD
  refine lv_aload_n hx hb dX1_pickup_16 rfl (lv_at hl 0 rfl) ?_
  refine lv_iload_n hx hb dX1_pickup_17 rfl (lv_at hl 3 rfl) ?_
  refine b_calli (br := [[(b, .inr (0, [.ref h.e0, .ref tt, .ref sv, .int zs, .ref da, .ref tx, .ref wr, .int fl, .int rf]))], (hdB Γ h)]) (b_runV ⟨hx, hb, hml, hown, hts⟩ (mt_Pickup_told_r l Γ _ (h.pa k) (h.S.pv k) w hz) (lw_V q1358 q1359 q1360 q95 q1361) rfl rfl 1 (by decide +kernel) ⟨(Nat.le_of_ble_eq_true rfl), (Nat.le_of_ble_eq_true rfl)⟩ (c_pre hP hD hS hA hK hE [] rfl rfl (ro_one ((hRo _ (mem_blk (k := 0) rfl (hpk k hk9))).keep hS (bFree hD hS hA [] rfl)))) (recv_at (q := (RX7, TX7, 6)) hK (Rc.obj (by decide) ((hRo _ (mem_blk (k := 0) rfl (hpk k hk9))).keep hS (fun _ h => h))) rfl) rfl hl.1 rfl (Nat.le_of_ble_eq_true rfl) dX1_pickup_18 ⟨(Nat.le_of_ble_eq_true rfl), (Nat.le_of_ble_eq_true rfl)⟩) hP hD hS hA [] [0, 1] rfl rfl rfl (fun r_4 u_4 H locs hw_4 hP hD hS _ => ?_)
  obtain ⟨rfl, rfl⟩ := hw_4
  have hP : WP Γ [[(b, .inr (0, [.ref h.e0, .ref tt, .ref sv, .int zs, .ref da, .ref tx, .ref wr, .int fl, .int rf]))], (hdB Γ h)] H := hP
  have hD : WD A [[(b, .inr (0, [.ref h.e0, .ref tt, .ref sv, .int zs, .ref da, .ref tx, .ref wr, .int fl, .int rf]))], (hdB Γ h)] := hD
  exact b_iret hx hb hr hlocks hP hD hS (Nat.le_of_ble_eq_true rfl) (Nat.le_of_ble_eq_true rfl) ⟨(by first | rfl | (simp; done)), (by first | rfl | (simp; done))⟩ dX1_pickup_21
set_option maxHeartbeats 4000000 in
set_option maxRecDepth 100000 in
theorem mt_DB_bonus_ok (l : Launch) (Γ : GE) (sz : Nat) (b : Nat) (h : HB) (tt : Nat) (sv : Nat) (zs : Int32) (da : Nat) (tx : Nat) (wr : Nat) (fl : Int32) (rf : Int32) (P : va_W) (k : Nat) (z : Int32) (ho : hdOk Γ P h) (hk9 : k < h.nr) (hi9 : ¬ inC (nI k) 0 (nI h.nr - 1) = 0) : KM l yX1_bonus cX1_bonus 4 (some FieldType.int) Γ 3 64 0 0 [.ref b, .int (nI k), .int z] [[(b, .inr (0, [.ref h.e0, .ref tt, .ref sv, .int zs, .ref da, .ref tx, .ref wr, .int fl, .int rf]))], (hdB Γ h)] [P] sz (Qi Γ (fun r_ u_ => r_ = (if z = 0 then h.rv k 0 else h.rv k 1) ∧ u_ = [[(b, .inr (0, [.ref h.e0, .ref tt, .ref sv, .int zs, .ref da, .ref tx, .ref wr, .int fl, .int rf]))], (hdB Γ h)])) := by
  refine K_intro (by decide) (Nat.le_of_ble_eq_true rfl) ?_
  intro pr_ ev_ s mi_ below meth cd_ A ls hx hb hr hml hown hts hlocks hname hK hE hRo hP hD hA hS hsz hl
  have hl : lv_has ls 4 [(0, .ref b), (1, .int (nI k)), (2, .int z)] := hl
  have hown : s.vm.findClass RX1 = some mi_.cls := hown
  have hP : WP Γ [(hdB Γ h), [(b, .inr (0, [.ref h.e0, .ref tt, .ref sv, .int zs, .ref da, .ref tx, .ref wr, .int fl, .int rf]))]] s.heap := bP_sel hP [1, 0] rfl
  have hD : WD A [(hdB Γ h), [(b, .inr (0, [.ref h.e0, .ref tt, .ref sv, .int zs, .ref da, .ref tx, .ref wr, .int fl, .int rf]))]] := bD_sel hD [1, 0] rfl rfl
  have hP : WP Γ [[(h.e0, .inr (1, [.ref h.e1, .ref h.e2, .ref h.e3, .ref h.e4, .ref h.e5, .int h.S.td, .int h.S.pk, .int h.S.pd]))], [(h.e1, .inr (11, [.int h.m0, .ref h.x0.1, .int (nI h.n)]))], (alA Γ h.x0), (cowsB h.n h.ca h.S.cv), [(h.e2, .inr (11, [.int h.m1, .ref h.x1.1, .int (nI h.nr)]))], (alA Γ h.x1), [(h.e3, .inr (11, [.int h.m2, .ref h.x2.1, .int (nI h.S.np)]))], (alA Γ h.x2), [(h.e4, .inr (2, [.int h.S.li, .int h.S.ce]))], [(h.e5, .inl (Γ.2.1 0, 6, .inl h.se))], [(b, .inr (0, [.ref h.e0, .ref tt, .ref sv, .int zs, .ref da, .ref tx, .ref wr, .int fl, .int rf]))]] s.heap := hdP_ex (Bs := hdL Γ h) hP
  have hD : WD A [[(h.e0, .inr (1, [.ref h.e1, .ref h.e2, .ref h.e3, .ref h.e4, .ref h.e5, .int h.S.td, .int h.S.pk, .int h.S.pd]))], [(h.e1, .inr (11, [.int h.m0, .ref h.x0.1, .int (nI h.n)]))], (alA Γ h.x0), (cowsB h.n h.ca h.S.cv), [(h.e2, .inr (11, [.int h.m1, .ref h.x1.1, .int (nI h.nr)]))], (alA Γ h.x1), [(h.e3, .inr (11, [.int h.m2, .ref h.x2.1, .int (nI h.S.np)]))], (alA Γ h.x2), [(h.e4, .inr (2, [.int h.S.li, .int h.S.ce]))], [(h.e5, .inl (Γ.2.1 0, 6, .inl h.se))], [(b, .inr (0, [.ref h.e0, .ref tt, .ref sv, .int zs, .ref da, .ref tx, .ref wr, .int fl, .int rf]))]] := hdD_ex (Bs := hdL Γ h) hD
  have hal0 : alI Γ h.x0 h.n h.ca := ho.1
  have hn8 : h.n ≤ 8 := ho.2.1
  have hal1 : alI Γ h.x1 h.nr h.ra := ho.2.2.1
  have nr4 : h.nr ≤ 4 := ho.2.2.2.1
  have hrw : ∀ k, k < h.nr → (h.ra k, rowE (h.rv k)) ∈ P := ho.2.2.2.2.1
  have hal2 : alI Γ h.x2 h.S.np h.pa := ho.2.2.2.2.2.1
  have np60 : h.S.np ≤ 60 := ho.2.2.2.2.2.2.1
  have hpk : ∀ k, k < h.S.np → (h.pa k, pickE (h.S.pv k)) ∈ P := ho.2.2.2.2.2.2.2.1
  have hcb : ∀ k, k < h.n → cowB (h.S.cv k) := ho.2.2.2.2.2.2.2.2
  refine lv_iload_n hx hb dX1_bonus_0 rfl (lv_at hl 1 rfl) ?_
  refine lv_iconst (v := 0) hx hb dX1_bonus_1 (by decide) ?_
  refine lv_aload_n hx hb dX1_bonus_2 rfl (lv_at hl 0 rfl) ?_
  refine b_get (C := RX1) (T := TX1) (N := 9) (v := .ref h.e0) hx hb hts in_X1 hown hK (b_at (k := 10) hP rfl) rfl 0 (by decide) q248 (fun _ h9 => h9) rfl dX1_bonus_3 ?_
  refine b_getN (C := RX2) (T := TX2) (N := 8) (v := .ref h.e2) hx hb hts hE in_X2 hown hK (b_at (k := 0) hP rfl) rfl 1 (by decide) q167 (fun _ h9 => h9) rfl dX1_bonus_6 ?_
  refine b_calli (br := [[(h.e0, .inr (1, [.ref h.e1, .ref h.e2, .ref h.e3, .ref h.e4, .ref h.e5, .int h.S.td, .int h.S.pk, .int h.S.pd]))], [(h.e1, .inr (11, [.int h.m0, .ref h.x0.1, .int (nI h.n)]))], (alA Γ h.x0), (cowsB h.n h.ca h.S.cv), (alA Γ h.x1), [(h.e3, .inr (11, [.int h.m2, .ref h.x2.1, .int (nI h.S.np)]))], (alA Γ h.x2), [(h.e4, .inr (2, [.int h.S.li, .int h.S.ce]))], [(h.e5, .inl (Γ.2.1 0, 6, .inl h.se))], [(b, .inr (0, [.ref h.e0, .ref tt, .ref sv, .int zs, .ref da, .ref tx, .ref wr, .int fl, .int rf]))]]) (b_runV ⟨hx, hb, hml, hown, hts⟩ (mt_AL_size l Γ _ h.e2 h.m1 h.x1.1 h.nr) (lw_V q817 q818 q819 q66 q820) rfl rfl 0 (by decide +kernel) ⟨(Nat.le_of_ble_eq_true rfl), (Nat.le_of_ble_eq_true rfl)⟩ (c_pre hP hD hS hA hK hE [4] rfl rfl ro_nil) (recv_at (q := (RJ2, TJ2, 3)) hK (b_at (k := 4) hP rfl) rfl) rfl hl.1 rfl (Nat.le_of_ble_eq_true rfl) dX1_bonus_9 ⟨(Nat.le_of_ble_eq_true rfl), (Nat.le_of_ble_eq_true rfl)⟩) hP hD hS hA [4] [0, 1, 2, 3, 5, 6, 7, 8, 9, 10] rfl rfl rfl (fun r_1 u_1 H locs hw_1 hP hD hS _ => ?_)
  obtain ⟨rfl, rfl⟩ := hw_1
  have hP : WP Γ [[(h.e2, .inr (11, [.int h.m1, .ref h.x1.1, .int (nI h.nr)]))], [(h.e0, .inr (1, [.ref h.e1, .ref h.e2, .ref h.e3, .ref h.e4, .ref h.e5, .int h.S.td, .int h.S.pk, .int h.S.pd]))], [(h.e1, .inr (11, [.int h.m0, .ref h.x0.1, .int (nI h.n)]))], (alA Γ h.x0), (cowsB h.n h.ca h.S.cv), (alA Γ h.x1), [(h.e3, .inr (11, [.int h.m2, .ref h.x2.1, .int (nI h.S.np)]))], (alA Γ h.x2), [(h.e4, .inr (2, [.int h.S.li, .int h.S.ce]))], [(h.e5, .inl (Γ.2.1 0, 6, .inl h.se))], [(b, .inr (0, [.ref h.e0, .ref tt, .ref sv, .int zs, .ref da, .ref tx, .ref wr, .int fl, .int rf]))]] H := hP
  have hD : WD A [[(h.e2, .inr (11, [.int h.m1, .ref h.x1.1, .int (nI h.nr)]))], [(h.e0, .inr (1, [.ref h.e1, .ref h.e2, .ref h.e3, .ref h.e4, .ref h.e5, .int h.S.td, .int h.S.pk, .int h.S.pd]))], [(h.e1, .inr (11, [.int h.m0, .ref h.x0.1, .int (nI h.n)]))], (alA Γ h.x0), (cowsB h.n h.ca h.S.cv), (alA Γ h.x1), [(h.e3, .inr (11, [.int h.m2, .ref h.x2.1, .int (nI h.S.np)]))], (alA Γ h.x2), [(h.e4, .inr (2, [.int h.S.li, .int h.S.ce]))], [(h.e5, .inl (Γ.2.1 0, 6, .inl h.se))], [(b, .inr (0, [.ref h.e0, .ref tt, .ref sv, .int zs, .ref da, .ref tx, .ref wr, .int fl, .int rf]))]] := hD
  refine lv_iconst (v := 1) hx hb dX1_bonus_12 (by decide) ?_
  refine lv_isub hx hb dX1_bonus_13 ?_
  refine b_calli (br := [[(h.e2, .inr (11, [.int h.m1, .ref h.x1.1, .int (nI h.nr)]))], [(h.e0, .inr (1, [.ref h.e1, .ref h.e2, .ref h.e3, .ref h.e4, .ref h.e5, .int h.S.td, .int h.S.pk, .int h.S.pd]))], [(h.e1, .inr (11, [.int h.m0, .ref h.x0.1, .int (nI h.n)]))], (alA Γ h.x0), (cowsB h.n h.ca h.S.cv), (alA Γ h.x1), [(h.e3, .inr (11, [.int h.m2, .ref h.x2.1, .int (nI h.S.np)]))], (alA Γ h.x2), [(h.e4, .inr (2, [.int h.S.li, .int h.S.ce]))], [(h.e5, .inl (Γ.2.1 0, 6, .inl h.se))], [(b, .inr (0, [.ref h.e0, .ref tt, .ref sv, .int zs, .ref da, .ref tx, .ref wr, .int fl, .int rf]))]]) (b_runS ⟨hx, hb, hml, hown, hts⟩ (mt_DB_in l Γ _ (nI k) 0 ((nI h.nr) - 1)) (lw_S q806 q807 q62 q808) rfl rfl 3 (by decide +kernel) ⟨(Nat.le_of_ble_eq_true rfl), (Nat.le_of_ble_eq_true rfl)⟩ (c_pre hP hD hS hA hK hE [] rfl rfl ro_nil) rfl hl.1 rfl (Nat.le_of_ble_eq_true rfl) dX1_bonus_14 ⟨(Nat.le_of_ble_eq_true rfl), (Nat.le_of_ble_eq_true rfl)⟩) hP hD hS hA [] [0, 1, 2, 3, 4, 5, 6, 7, 8, 9, 10] rfl rfl rfl (fun r_2 u_2 H locs hw_2 hP hD hS _ => ?_)
  obtain ⟨rfl, rfl⟩ := hw_2
  have hP : WP Γ [[(h.e2, .inr (11, [.int h.m1, .ref h.x1.1, .int (nI h.nr)]))], [(h.e0, .inr (1, [.ref h.e1, .ref h.e2, .ref h.e3, .ref h.e4, .ref h.e5, .int h.S.td, .int h.S.pk, .int h.S.pd]))], [(h.e1, .inr (11, [.int h.m0, .ref h.x0.1, .int (nI h.n)]))], (alA Γ h.x0), (cowsB h.n h.ca h.S.cv), (alA Γ h.x1), [(h.e3, .inr (11, [.int h.m2, .ref h.x2.1, .int (nI h.S.np)]))], (alA Γ h.x2), [(h.e4, .inr (2, [.int h.S.li, .int h.S.ce]))], [(h.e5, .inl (Γ.2.1 0, 6, .inl h.se))], [(b, .inr (0, [.ref h.e0, .ref tt, .ref sv, .int zs, .ref da, .ref tx, .ref wr, .int fl, .int rf]))]] H := hP
  have hD : WD A [[(h.e2, .inr (11, [.int h.m1, .ref h.x1.1, .int (nI h.nr)]))], [(h.e0, .inr (1, [.ref h.e1, .ref h.e2, .ref h.e3, .ref h.e4, .ref h.e5, .int h.S.td, .int h.S.pk, .int h.S.pd]))], [(h.e1, .inr (11, [.int h.m0, .ref h.x0.1, .int (nI h.n)]))], (alA Γ h.x0), (cowsB h.n h.ca h.S.cv), (alA Γ h.x1), [(h.e3, .inr (11, [.int h.m2, .ref h.x2.1, .int (nI h.S.np)]))], (alA Γ h.x2), [(h.e4, .inr (2, [.int h.S.li, .int h.S.ce]))], [(h.e5, .inl (Γ.2.1 0, 6, .inl h.se))], [(b, .inr (0, [.ref h.e0, .ref tt, .ref sv, .int zs, .ref da, .ref tx, .ref wr, .int fl, .int rf]))]] := hD
  refine b_callv (br := [[(h.e2, .inr (11, [.int h.m1, .ref h.x1.1, .int (nI h.nr)]))], [(h.e0, .inr (1, [.ref h.e1, .ref h.e2, .ref h.e3, .ref h.e4, .ref h.e5, .int h.S.td, .int h.S.pk, .int h.S.pd]))], [(h.e1, .inr (11, [.int h.m0, .ref h.x0.1, .int (nI h.n)]))], (alA Γ h.x0), (cowsB h.n h.ca h.S.cv), (alA Γ h.x1), [(h.e3, .inr (11, [.int h.m2, .ref h.x2.1, .int (nI h.S.np)]))], (alA Γ h.x2), [(h.e4, .inr (2, [.int h.S.li, .int h.S.ce]))], [(h.e5, .inl (Γ.2.1 0, 6, .inl h.se))], [(b, .inr (0, [.ref h.e0, .ref tt, .ref sv, .int zs, .ref da, .ref tx, .ref wr, .int fl, .int rf]))]]) (b_runS ⟨hx, hb, hml, hown, hts⟩ (mt_DB_checkIndex_ok l Γ _ (inC (nI k) 0 ((nI h.nr) - 1)) (by first | assumption | decide)) (lw_S q914 q915 q62 q916) rfl rfl 1 (by decide +kernel) ⟨(Nat.le_of_ble_eq_true rfl), (Nat.le_of_ble_eq_true rfl)⟩ (c_pre hP hD hS hA hK hE [] rfl rfl ro_nil) rfl hl.1 rfl (Nat.le_of_ble_eq_true rfl) dX1_bonus_17 ⟨(Nat.le_of_ble_eq_true rfl), (Nat.le_of_ble_eq_true rfl)⟩) hP hD hS hA [] [0, 1, 2, 3, 4, 5, 6, 7, 8, 9, 10] rfl rfl rfl (fun u_3 H locs hw_3 hP hD hS _ => ?_)
  obtain rfl := hw_3
  have hP : WP Γ [[(h.e2, .inr (11, [.int h.m1, .ref h.x1.1, .int (nI h.nr)]))], [(h.e0, .inr (1, [.ref h.e1, .ref h.e2, .ref h.e3, .ref h.e4, .ref h.e5, .int h.S.td, .int h.S.pk, .int h.S.pd]))], [(h.e1, .inr (11, [.int h.m0, .ref h.x0.1, .int (nI h.n)]))], (alA Γ h.x0), (cowsB h.n h.ca h.S.cv), (alA Γ h.x1), [(h.e3, .inr (11, [.int h.m2, .ref h.x2.1, .int (nI h.S.np)]))], (alA Γ h.x2), [(h.e4, .inr (2, [.int h.S.li, .int h.S.ce]))], [(h.e5, .inl (Γ.2.1 0, 6, .inl h.se))], [(b, .inr (0, [.ref h.e0, .ref tt, .ref sv, .int zs, .ref da, .ref tx, .ref wr, .int fl, .int rf]))]] H := hP
  have hD : WD A [[(h.e2, .inr (11, [.int h.m1, .ref h.x1.1, .int (nI h.nr)]))], [(h.e0, .inr (1, [.ref h.e1, .ref h.e2, .ref h.e3, .ref h.e4, .ref h.e5, .int h.S.td, .int h.S.pk, .int h.S.pd]))], [(h.e1, .inr (11, [.int h.m0, .ref h.x0.1, .int (nI h.n)]))], (alA Γ h.x0), (cowsB h.n h.ca h.S.cv), (alA Γ h.x1), [(h.e3, .inr (11, [.int h.m2, .ref h.x2.1, .int (nI h.S.np)]))], (alA Γ h.x2), [(h.e4, .inr (2, [.int h.S.li, .int h.S.ce]))], [(h.e5, .inl (Γ.2.1 0, 6, .inl h.se))], [(b, .inr (0, [.ref h.e0, .ref tt, .ref sv, .int zs, .ref da, .ref tx, .ref wr, .int fl, .int rf]))]] := hD
  refine lv_aload_n hx hb dX1_bonus_20 rfl (lv_at hl 0 rfl) ?_
  refine b_get (C := RX1) (T := TX1) (N := 9) (v := .ref h.e0) hx hb hts in_X1 hown hK (b_at (k := 10) hP rfl) rfl 0 (by decide) q248 (fun _ h9 => h9) rfl dX1_bonus_21 ?_
  refine b_getN (C := RX2) (T := TX2) (N := 8) (v := .ref h.e2) hx hb hts hE in_X2 hown hK (b_at (k := 1) hP rfl) rfl 1 (by decide) q167 (fun _ h9 => h9) rfl dX1_bonus_24 ?_
  refine lv_iload_n hx hb dX1_bonus_27 rfl (lv_at hl 1 rfl) ?_
  refine b_callq (br := [[(h.e0, .inr (1, [.ref h.e1, .ref h.e2, .ref h.e3, .ref h.e4, .ref h.e5, .int h.S.td, .int h.S.pk, .int h.S.pd]))], [(h.e1, .inr (11, [.int h.m0, .ref h.x0.1, .int (nI h.n)]))], (alA Γ h.x0), (cowsB h.n h.ca h.S.cv), [(h.e3, .inr (11, [.int h.m2, .ref h.x2.1, .int (nI h.S.np)]))], (alA Γ h.x2), [(h.e4, .inr (2, [.int h.S.li, .int h.S.ce]))], [(h.e5, .inl (Γ.2.1 0, 6, .inl h.se))], [(b, .inr (0, [.ref h.e0, .ref tt, .ref sv, .int zs, .ref da, .ref tx, .ref wr, .int fl, .int rf]))]]) (b_runV ⟨hx, hb, hml, hown, hts⟩ (mt_AL_get l Γ _ h.e2 h.m1 h.x1 h.nr h.ra k hal1 hk9) (lw_V q1012 q964 q965 q66 q966) rfl rfl 1 (by decide +kernel) ⟨(Nat.le_of_ble_eq_true rfl), (Nat.le_of_ble_eq_true rfl)⟩ (c_pre hP hD hS hA hK hE [0, 5] rfl rfl ro_nil) (recv_at (q := (RJ2, TJ2, 3)) hK (b_at (k := 0) hP rfl) rfl) rfl hl.1 rfl (Nat.le_of_ble_eq_true rfl) dX1_bonus_28 ⟨(Nat.le_of_ble_eq_true rfl), (Nat.le_of_ble_eq_true rfl)⟩) hP hD hS hA [0, 5] [1, 2, 3, 4, 6, 7, 8, 9, 10] rfl rfl rfl (fun r_4 u_4 H locs hw_4 hP hD hS _ => ?_)
  obtain ⟨rfl, rfl⟩ := hw_4
  have hP : WP Γ [[(h.e2, .inr (11, [.int h.m1, .ref h.x1.1, .int (nI h.nr)]))], (alA Γ h.x1), [(h.e0, .inr (1, [.ref h.e1, .ref h.e2, .ref h.e3, .ref h.e4, .ref h.e5, .int h.S.td, .int h.S.pk, .int h.S.pd]))], [(h.e1, .inr (11, [.int h.m0, .ref h.x0.1, .int (nI h.n)]))], (alA Γ h.x0), (cowsB h.n h.ca h.S.cv), [(h.e3, .inr (11, [.int h.m2, .ref h.x2.1, .int (nI h.S.np)]))], (alA Γ h.x2), [(h.e4, .inr (2, [.int h.S.li, .int h.S.ce]))], [(h.e5, .inl (Γ.2.1 0, 6, .inl h.se))], [(b, .inr (0, [.ref h.e0, .ref tt, .ref sv, .int zs, .ref da, .ref tx, .ref wr, .int fl, .int rf]))]] H := hP
  have hD : WD A [[(h.e2, .inr (11, [.int h.m1, .ref h.x1.1, .int (nI h.nr)]))], (alA Γ h.x1), [(h.e0, .inr (1, [.ref h.e1, .ref h.e2, .ref h.e3, .ref h.e4, .ref h.e5, .int h.S.td, .int h.S.pk, .int h.S.pd]))], [(h.e1, .inr (11, [.int h.m0, .ref h.x0.1, .int (nI h.n)]))], (alA Γ h.x0), (cowsB h.n h.ca h.S.cv), [(h.e3, .inr (11, [.int h.m2, .ref h.x2.1, .int (nI h.S.np)]))], (alA Γ h.x2), [(h.e4, .inr (2, [.int h.S.li, .int h.S.ce]))], [(h.e5, .inl (Γ.2.1 0, 6, .inl h.se))], [(b, .inr (0, [.ref h.e0, .ref tt, .ref sv, .int zs, .ref da, .ref tx, .ref wr, .int fl, .int rf]))]] := hD
  refine W.eq (g2 := F0 mi_ 31 ls ([.ref (h.ra k)])) rfl ?_
  refine va_castS hx hb hown (hts _ q1163) (hK.1 5 _ rfl).2 (recv_at (q := (RX6, TX6, 2)) hK (Rc.obj (by decide) ((hRo _ (mem_blk (k := 0) rfl (hrw k (by omega)))).keep hS (fun _ h => h))) rfl) dX1_bonus_31 ?_
  refine lv_astore_n (lv' := [(3, .ref (h.ra k)), (0, .ref b), (1, .int (nI k)), (2, .int z)]) hx hb dX1_bonus_34 rfl hl (by decide) rfl (fun ls hl => ?_)
  refine lv_iload_n hx hb dX1_bonus_35 rfl (lv_at hl 3 rfl) ?_
  refine lv_if_eq (tgt := 46) hx hb dX1_bonus_36 (by decide) (fun c_5 => ?_) (fun c_5 => ?_)
  · -- 36 taken
    subst c_5
    refine lv_aload_n hx hb dX1_bonus_46 rfl (lv_at hl 0 rfl) ?_
    refine b_getN (C := RX6) (T := TX6) (N := 2) (v := .int (h.rv k 0)) hx hb hts hE in_X6 hown hK (Rc.obj (by decide) ((hRo _ (mem_blk (k := 0) rfl (hrw k (by omega)))).keep hS (fun _ h => h))) rfl 0 (by decide) q1122 (fun _ h9 => h9) rfl dX1_bonus_47 ?_
    have hP : WP Γ [[(h.e0, .inr (1, [.ref h.e1, .ref h.e2, .ref h.e3, .ref h.e4, .ref h.e5, .int h.S.td, .int h.S.pk, .int h.S.pd]))], [(h.e1, .inr (11, [.int h.m0, .ref h.x0.1, .int (nI h.n)]))], (alA Γ h.x0), (cowsB h.n h.ca h.S.cv), [(h.e2, .inr (11, [.int h.m1, .ref h.x1.1, .int (nI h.nr)]))], (alA Γ h.x1), [(h.e3, .inr (11, [.int h.m2, .ref h.x2.1, .int (nI h.S.np)]))], (alA Γ h.x2), [(h.e4, .inr (2, [.int h.S.li, .int h.S.ce]))], [(h.e5, .inl (Γ.2.1 0, 6, .inl h.se))], [(b, .inr (0, [.ref h.e0, .ref tt, .ref sv, .int zs, .ref da, .ref tx, .ref wr, .int fl, .int rf]))]] H := bP_sel hP [2, 3, 4, 5, 0, 1, 6, 7, 8, 9, 10] rfl
    have hD : WD A [[(h.e0, .inr (1, [.ref h.e1, .ref h.e2, .ref h.e3, .ref h.e4, .ref h.e5, .int h.S.td, .int h.S.pk, .int h.S.pd]))], [(h.e1, .inr (11, [.int h.m0, .ref h.x0.1, .int (nI h.n)]))], (alA Γ h.x0), (cowsB h.n h.ca h.S.cv), [(h.e2, .inr (11, [.int h.m1, .ref h.x1.1, .int (nI h.nr)]))], (alA Γ h.x1), [(h.e3, .inr (11, [.int h.m2, .ref h.x2.1, .int (nI h.S.np)]))], (alA Γ h.x2), [(h.e4, .inr (2, [.int h.S.li, .int h.S.ce]))], [(h.e5, .inl (Γ.2.1 0, 6, .inl h.se))], [(b, .inr (0, [.ref h.e0, .ref tt, .ref sv, .int zs, .ref da, .ref tx, .ref wr, .int fl, .int rf]))]] := bD_sel hD [2, 3, 4, 5, 0, 1, 6, 7, 8, 9, 10] rfl rfl
    have hP : WP Γ [(hdB Γ h), [(b, .inr (0, [.ref h.e0, .ref tt, .ref sv, .int zs, .ref da, .ref tx, .ref wr, .int fl, .int rf]))]] H := (hdP_un (Bs := hdL Γ h) hP)
    have hD : WD A [(hdB Γ h), [(b, .inr (0, [.ref h.e0, .ref tt, .ref sv, .int zs, .ref da, .ref tx, .ref wr, .int fl, .int rf]))]] := (hdD_un (Bs := hdL Γ h) hD)
    have hP : WP Γ [[(b, .inr (0, [.ref h.e0, .ref tt, .ref sv, .int zs, .ref da, .ref tx, .ref wr, .int fl, .int rf]))], (hdB Γ h)] H := bP_sel hP [1, 0] rfl
    have hD : WD A [[(b, .inr (0, [.ref h.e0, .ref tt, .ref sv, .int zs, .ref da, .ref tx, .ref wr, .int fl, .int rf]))], (hdB Γ h)] := bD_sel hD [1, 0] rfl rfl
    exact b_iret hx hb hr hlocks hP hD hS (Nat.le_of_ble_eq_true rfl) (Nat.le_of_ble_eq_true rfl) ⟨(by first | rfl | (simp; done)), (by first | rfl | (simp; done))⟩ dX1_bonus_50
  · -- 36 not taken
    refine lv_aload_n hx hb dX1_bonus_39 rfl (lv_at hl 0 rfl) ?_
    refine b_getN (C := RX6) (T := TX6) (N := 2) (v := .int (h.rv k 1)) hx hb hts hE in_X6 hown hK (Rc.obj (by decide) ((hRo _ (mem_blk (k := 0) rfl (hrw k (by omega)))).keep hS (fun _ h => h))) rfl 1 (by decide) q1125 (fun _ h9 => h9) rfl dX1_bonus_40 ?_
    refine lv_goto (tgt := 50) hx hb dX1_bonus_43 (by decide) ?_
    have hP : WP Γ [[(h.e0, .inr (1, [.ref h.e1, .ref h.e2, .ref h.e3, .ref h.e4, .ref h.e5, .int h.S.td, .int h.S.pk, .int h.S.pd]))], [(h.e1, .inr (11, [.int h.m0, .ref h.x0.1, .int (nI h.n)]))], (alA Γ h.x0), (cowsB h.n h.ca h.S.cv), [(h.e2, .inr (11, [.int h.m1, .ref h.x1.1, .int (nI h.nr)]))], (alA Γ h.x1), [(h.e3, .inr (11, [.int h.m2, .ref h.x2.1, .int (nI h.S.np)]))], (alA Γ h.x2), [(h.e4, .inr (2, [.int h.S.li, .int h.S.ce]))], [(h.e5, .inl (Γ.2.1 0, 6, .inl h.se))], [(b, .inr (0, [.ref h.e0, .ref tt, .ref sv, .int zs, .ref da, .ref tx, .ref wr, .int fl, .int rf]))]] H := bP_sel hP [2, 3, 4, 5, 0, 1, 6, 7, 8, 9, 10] rfl
    have hD : WD A [[(h.e0, .inr (1, [.ref h.e1, .ref h.e2, .ref h.e3, .ref h.e4, .ref h.e5, .int h.S.td, .int h.S.pk, .int h.S.pd]))], [(h.e1, .inr (11, [.int h.m0, .ref h.x0.1, .int (nI h.n)]))], (alA Γ h.x0), (cowsB h.n h.ca h.S.cv), [(h.e2, .inr (11, [.int h.m1, .ref h.x1.1, .int (nI h.nr)]))], (alA Γ h.x1), [(h.e3, .inr (11, [.int h.m2, .ref h.x2.1, .int (nI h.S.np)]))], (alA Γ h.x2), [(h.e4, .inr (2, [.int h.S.li, .int h.S.ce]))], [(h.e5, .inl (Γ.2.1 0, 6, .inl h.se))], [(b, .inr (0, [.ref h.e0, .ref tt, .ref sv, .int zs, .ref da, .ref tx, .ref wr, .int fl, .int rf]))]] := bD_sel hD [2, 3, 4, 5, 0, 1, 6, 7, 8, 9, 10] rfl rfl
    have hP : WP Γ [(hdB Γ h), [(b, .inr (0, [.ref h.e0, .ref tt, .ref sv, .int zs, .ref da, .ref tx, .ref wr, .int fl, .int rf]))]] H := (hdP_un (Bs := hdL Γ h) hP)
    have hD : WD A [(hdB Γ h), [(b, .inr (0, [.ref h.e0, .ref tt, .ref sv, .int zs, .ref da, .ref tx, .ref wr, .int fl, .int rf]))]] := (hdD_un (Bs := hdL Γ h) hD)
    have hP : WP Γ [[(b, .inr (0, [.ref h.e0, .ref tt, .ref sv, .int zs, .ref da, .ref tx, .ref wr, .int fl, .int rf]))], (hdB Γ h)] H := bP_sel hP [1, 0] rfl
    have hD : WD A [[(b, .inr (0, [.ref h.e0, .ref tt, .ref sv, .int zs, .ref da, .ref tx, .ref wr, .int fl, .int rf]))], (hdB Γ h)] := bD_sel hD [1, 0] rfl rfl
    exact b_iret hx hb hr hlocks hP hD hS (Nat.le_of_ble_eq_true rfl) (Nat.le_of_ble_eq_true rfl) ⟨(by first | with_reducible rfl | (simp [c_5]; done) | rfl), (by first | with_reducible rfl | (simp [c_5]; done) | rfl)⟩ dX1_bonus_50
set_option maxHeartbeats 4000000 in
set_option maxRecDepth 100000 in
theorem mt_DB_tank_ok (l : Launch) (Γ : GE) (sz : Nat) (b : Nat) (h : HB) (tt : Nat) (sv : Nat) (zs : Int32) (da : Nat) (tx : Nat) (wr : Nat) (fl : Int32) (rf : Int32) (P : va_W) (w : Int32) (ho : hdOk Γ P h) (hw9 : w = 0 ∨ w = 1 ∨ w = 2 ∨ w = 3) : KM l yX1_tank cX1_tank 2 (some FieldType.int) Γ 2 51 0 0 [.ref b, .int w] [[(b, .inr (0, [.ref h.e0, .ref tt, .ref sv, .int zs, .ref da, .ref tx, .ref wr, .int fl, .int rf]))], (hdB Γ h)] [P] sz (Qi Γ (fun r_ u_ => r_ = (tkW h.S.li h.S.ce (h.se 3) w) ∧ u_ = [[(b, .inr (0, [.ref h.e0, .ref tt, .ref sv, .int zs, .ref da, .ref tx, .ref wr, .int fl, .int rf]))], (hdB Γ h)])) := by
  refine K_intro (by decide) (Nat.le_of_ble_eq_true rfl) ?_
  intro pr_ ev_ s mi_ below meth cd_ A ls hx hb hr hml hown hts hlocks hname hK hE hRo hP hD hA hS hsz hl
  have hl : lv_has ls 2 [(0, .ref b), (1, .int w)] := hl
  have hown : s.vm.findClass RX1 = some mi_.cls := hown
  have hP : WP Γ [(hdB Γ h), [(b, .inr (0, [.ref h.e0, .ref tt, .ref sv, .int zs, .ref da, .ref tx, .ref wr, .int fl, .int rf]))]] s.heap := bP_sel hP [1, 0] rfl
  have hD : WD A [(hdB Γ h), [(b, .inr (0, [.ref h.e0, .ref tt, .ref sv, .int zs, .ref da, .ref tx, .ref wr, .int fl, .int rf]))]] := bD_sel hD [1, 0] rfl rfl
  have hP : WP Γ [[(h.e0, .inr (1, [.ref h.e1, .ref h.e2, .ref h.e3, .ref h.e4, .ref h.e5, .int h.S.td, .int h.S.pk, .int h.S.pd]))], [(h.e1, .inr (11, [.int h.m0, .ref h.x0.1, .int (nI h.n)]))], (alA Γ h.x0), (cowsB h.n h.ca h.S.cv), [(h.e2, .inr (11, [.int h.m1, .ref h.x1.1, .int (nI h.nr)]))], (alA Γ h.x1), [(h.e3, .inr (11, [.int h.m2, .ref h.x2.1, .int (nI h.S.np)]))], (alA Γ h.x2), [(h.e4, .inr (2, [.int h.S.li, .int h.S.ce]))], [(h.e5, .inl (Γ.2.1 0, 6, .inl h.se))], [(b, .inr (0, [.ref h.e0, .ref tt, .ref sv, .int zs, .ref da, .ref tx, .ref wr, .int fl, .int rf]))]] s.heap := hdP_ex (Bs := hdL Γ h) hP
  have hD : WD A [[(h.e0, .inr (1, [.ref h.e1, .ref h.e2, .ref h.e3, .ref h.e4, .ref h.e5, .int h.S.td, .int h.S.pk, .int h.S.pd]))], [(h.e1, .inr (11, [.int h.m0, .ref h.x0.1, .int (nI h.n)]))], (alA Γ h.x0), (cowsB h.n h.ca h.S.cv), [(h.e2, .inr (11, [.int h.m1, .ref h.x1.1, .int (nI h.nr)]))], (alA Γ h.x1), [(h.e3, .inr (11, [.int h.m2, .ref h.x2.1, .int (nI h.S.np)]))], (alA Γ h.x2), [(h.e4, .inr (2, [.int h.S.li, .int h.S.ce]))], [(h.e5, .inl (Γ.2.1 0, 6, .inl h.se))], [(b, .inr (0, [.ref h.e0, .ref tt, .ref sv, .int zs, .ref da, .ref tx, .ref wr, .int fl, .int rf]))]] := hdD_ex (Bs := hdL Γ h) hD
  have hal0 : alI Γ h.x0 h.n h.ca := ho.1
  have hn8 : h.n ≤ 8 := ho.2.1
  have hal1 : alI Γ h.x1 h.nr h.ra := ho.2.2.1
  have nr4 : h.nr ≤ 4 := ho.2.2.2.1
  have hrw : ∀ k, k < h.nr → (h.ra k, rowE (h.rv k)) ∈ P := ho.2.2.2.2.1
  have hal2 : alI Γ h.x2 h.S.np h.pa := ho.2.2.2.2.2.1
  have np60 : h.S.np ≤ 60 := ho.2.2.2.2.2.2.1
  have hpk : ∀ k, k < h.S.np → (h.pa k, pickE (h.S.pv k)) ∈ P := ho.2.2.2.2.2.2.2.1
  have hcb : ∀ k, k < h.n → cowB (h.S.cv k) := ho.2.2.2.2.2.2.2.2
  refine lv_iload_n hx hb dX1_tank_0 rfl (lv_at hl 1 rfl) ?_
  by_cases c_1_0 : w = 0
  · -- case 0
    subst c_1_0
    refine lv_tableIn (tgt := 32) hx hb dX1_tank_1 (by decide) (by decide) rfl (by decide) ?_
    refine lv_aload_n hx hb dX1_tank_32 rfl (lv_at hl 0 rfl) ?_
    refine b_get (C := RX1) (T := TX1) (N := 9) (v := .ref h.e0) hx hb hts in_X1 hown hK (b_at (k := 10) hP rfl) rfl 0 (by decide) q248 (fun _ h9 => h9) rfl dX1_tank_33 ?_
    refine b_getN (C := RX2) (T := TX2) (N := 8) (v := .ref h.e4) hx hb hts hE in_X2 hown hK (b_at (k := 0) hP rfl) rfl 3 (by decide) q171 (fun _ h9 => h9) rfl dX1_tank_36 ?_
    refine b_getN (C := RX3) (T := TX3) (N := 2) (v := .int h.S.li) hx hb hts hE in_X3 hown hK (b_at (k := 8) hP rfl) rfl 0 (by decide) q154 (fun _ h9 => h9) rfl dX1_tank_39 ?_
    have hP : WP Γ [(hdB Γ h), [(b, .inr (0, [.ref h.e0, .ref tt, .ref sv, .int zs, .ref da, .ref tx, .ref wr, .int fl, .int rf]))]] s.heap := (hdP_un (Bs := hdL Γ h) hP)
    have hD : WD A [(hdB Γ h), [(b, .inr (0, [.ref h.e0, .ref tt, .ref sv, .int zs, .ref da, .ref tx, .ref wr, .int fl, .int rf]))]] := (hdD_un (Bs := hdL Γ h) hD)
    have hP : WP Γ [[(b, .inr (0, [.ref h.e0, .ref tt, .ref sv, .int zs, .ref da, .ref tx, .ref wr, .int fl, .int rf]))], (hdB Γ h)] s.heap := bP_sel hP [1, 0] rfl
    have hD : WD A [[(b, .inr (0, [.ref h.e0, .ref tt, .ref sv, .int zs, .ref da, .ref tx, .ref wr, .int fl, .int rf]))], (hdB Γ h)] := bD_sel hD [1, 0] rfl rfl
    exact b_iret hx hb hr hlocks hP hD hS (Nat.le_of_ble_eq_true rfl) (Nat.le_of_ble_eq_true rfl) ⟨(by first | with_reducible rfl | (simp [tkW]; done) | rfl), (by first | with_reducible rfl | (simp [tkW]; done) | rfl)⟩ dX1_tank_42
  by_cases c_1_1 : w = 1
  · -- case 1
    subst c_1_1
    refine lv_tableIn (tgt := 43) hx hb dX1_tank_1 (by decide) (by decide) rfl (by decide) ?_
    refine lv_aload_n hx hb dX1_tank_43 rfl (lv_at hl 0 rfl) ?_
    refine b_get (C := RX1) (T := TX1) (N := 9) (v := .ref h.e0) hx hb hts in_X1 hown hK (b_at (k := 10) hP rfl) rfl 0 (by decide) q248 (fun _ h9 => h9) rfl dX1_tank_44 ?_
    refine b_getN (C := RX2) (T := TX2) (N := 8) (v := .ref h.e4) hx hb hts hE in_X2 hown hK (b_at (k := 0) hP rfl) rfl 3 (by decide) q171 (fun _ h9 => h9) rfl dX1_tank_47 ?_
    refine b_getN (C := RX3) (T := TX3) (N := 2) (v := .int h.S.ce) hx hb hts hE in_X3 hown hK (b_at (k := 8) hP rfl) rfl 1 (by decide) q157 (fun _ h9 => h9) rfl dX1_tank_50 ?_
    have hP : WP Γ [(hdB Γ h), [(b, .inr (0, [.ref h.e0, .ref tt, .ref sv, .int zs, .ref da, .ref tx, .ref wr, .int fl, .int rf]))]] s.heap := (hdP_un (Bs := hdL Γ h) hP)
    have hD : WD A [(hdB Γ h), [(b, .inr (0, [.ref h.e0, .ref tt, .ref sv, .int zs, .ref da, .ref tx, .ref wr, .int fl, .int rf]))]] := (hdD_un (Bs := hdL Γ h) hD)
    have hP : WP Γ [[(b, .inr (0, [.ref h.e0, .ref tt, .ref sv, .int zs, .ref da, .ref tx, .ref wr, .int fl, .int rf]))], (hdB Γ h)] s.heap := bP_sel hP [1, 0] rfl
    have hD : WD A [[(b, .inr (0, [.ref h.e0, .ref tt, .ref sv, .int zs, .ref da, .ref tx, .ref wr, .int fl, .int rf]))], (hdB Γ h)] := bD_sel hD [1, 0] rfl rfl
    exact b_iret hx hb hr hlocks hP hD hS (Nat.le_of_ble_eq_true rfl) (Nat.le_of_ble_eq_true rfl) ⟨(by first | with_reducible rfl | (simp [tkW, c_1_0]; done) | rfl), (by first | with_reducible rfl | (simp [tkW, c_1_0]; done) | rfl)⟩ dX1_tank_53
  by_cases c_1_2 : w = 2
  · -- case 2
    subst c_1_2
    refine lv_tableIn (tgt := 54) hx hb dX1_tank_1 (by decide) (by decide) rfl (by decide) ?_
    refine lv_aload_n hx hb dX1_tank_54 rfl (lv_at hl 0 rfl) ?_
    refine b_get (C := RX1) (T := TX1) (N := 9) (v := .ref h.e0) hx hb hts in_X1 hown hK (b_at (k := 10) hP rfl) rfl 0 (by decide) q248 (fun _ h9 => h9) rfl dX1_tank_55 ?_
    refine b_getN (C := RX2) (T := TX2) (N := 8) (v := .ref h.e4) hx hb hts hE in_X2 hown hK (b_at (k := 0) hP rfl) rfl 3 (by decide) q171 (fun _ h9 => h9) rfl dX1_tank_58 ?_
    refine b_calli (br := [[(h.e0, .inr (1, [.ref h.e1, .ref h.e2, .ref h.e3, .ref h.e4, .ref h.e5, .int h.S.td, .int h.S.pk, .int h.S.pd]))], [(h.e1, .inr (11, [.int h.m0, .ref h.x0.1, .int (nI h.n)]))], (alA Γ h.x0), (cowsB h.n h.ca h.S.cv), [(h.e2, .inr (11, [.int h.m1, .ref h.x1.1, .int (nI h.nr)]))], (alA Γ h.x1), [(h.e3, .inr (11, [.int h.m2, .ref h.x2.1, .int (nI h.S.np)]))], (alA Γ h.x2), [(h.e5, .inl (Γ.2.1 0, 6, .inl h.se))], [(b, .inr (0, [.ref h.e0, .ref tt, .ref sv, .int zs, .ref da, .ref tx, .ref wr, .int fl, .int rf]))]]) (b_runV ⟨hx, hb, hml, hown, hts⟩ (mt_Tank_count l Γ _ h.e4 h.S.li h.S.ce) (lw_V q1341 q1342 q1343 q67 q1344) rfl rfl 0 (by decide +kernel) ⟨(Nat.le_of_ble_eq_true rfl), (Nat.le_of_ble_eq_true rfl)⟩ (c_pre hP hD hS hA hK hE [8] rfl rfl ro_nil) (recv_at (q := (RX3, TX3, 2)) hK (b_at (k := 8) hP rfl) rfl) rfl hl.1 rfl (Nat.le_of_ble_eq_true rfl) dX1_tank_61 ⟨(Nat.le_of_ble_eq_true rfl), (Nat.le_of_ble_eq_true rfl)⟩) hP hD hS hA [8] [0, 1, 2, 3, 4, 5, 6, 7, 9, 10] rfl rfl rfl (fun r_2 u_2 H locs hw_2 hP hD hS _ => ?_)
    obtain ⟨rfl, rfl⟩ := hw_2
    have hP : WP Γ [[(h.e4, .inr (2, [.int h.S.li, .int h.S.ce]))], [(h.e0, .inr (1, [.ref h.e1, .ref h.e2, .ref h.e3, .ref h.e4, .ref h.e5, .int h.S.td, .int h.S.pk, .int h.S.pd]))], [(h.e1, .inr (11, [.int h.m0, .ref h.x0.1, .int (nI h.n)]))], (alA Γ h.x0), (cowsB h.n h.ca h.S.cv), [(h.e2, .inr (11, [.int h.m1, .ref h.x1.1, .int (nI h.nr)]))], (alA Γ h.x1), [(h.e3, .inr (11, [.int h.m2, .ref h.x2.1, .int (nI h.S.np)]))], (alA Γ h.x2), [(h.e5, .inl (Γ.2.1 0, 6, .inl h.se))], [(b, .inr (0, [.ref h.e0, .ref tt, .ref sv, .int zs, .ref da, .ref tx, .ref wr, .int fl, .int rf]))]] H := hP
    have hD : WD A [[(h.e4, .inr (2, [.int h.S.li, .int h.S.ce]))], [(h.e0, .inr (1, [.ref h.e1, .ref h.e2, .ref h.e3, .ref h.e4, .ref h.e5, .int h.S.td, .int h.S.pk, .int h.S.pd]))], [(h.e1, .inr (11, [.int h.m0, .ref h.x0.1, .int (nI h.n)]))], (alA Γ h.x0), (cowsB h.n h.ca h.S.cv), [(h.e2, .inr (11, [.int h.m1, .ref h.x1.1, .int (nI h.nr)]))], (alA Γ h.x1), [(h.e3, .inr (11, [.int h.m2, .ref h.x2.1, .int (nI h.S.np)]))], (alA Γ h.x2), [(h.e5, .inl (Γ.2.1 0, 6, .inl h.se))], [(b, .inr (0, [.ref h.e0, .ref tt, .ref sv, .int zs, .ref da, .ref tx, .ref wr, .int fl, .int rf]))]] := hD
    have hP : WP Γ [[(h.e0, .inr (1, [.ref h.e1, .ref h.e2, .ref h.e3, .ref h.e4, .ref h.e5, .int h.S.td, .int h.S.pk, .int h.S.pd]))], [(h.e1, .inr (11, [.int h.m0, .ref h.x0.1, .int (nI h.n)]))], (alA Γ h.x0), (cowsB h.n h.ca h.S.cv), [(h.e2, .inr (11, [.int h.m1, .ref h.x1.1, .int (nI h.nr)]))], (alA Γ h.x1), [(h.e3, .inr (11, [.int h.m2, .ref h.x2.1, .int (nI h.S.np)]))], (alA Γ h.x2), [(h.e4, .inr (2, [.int h.S.li, .int h.S.ce]))], [(h.e5, .inl (Γ.2.1 0, 6, .inl h.se))], [(b, .inr (0, [.ref h.e0, .ref tt, .ref sv, .int zs, .ref da, .ref tx, .ref wr, .int fl, .int rf]))]] H := bP_sel hP [1, 2, 3, 4, 5, 6, 7, 8, 0, 9, 10] rfl
    have hD : WD A [[(h.e0, .inr (1, [.ref h.e1, .ref h.e2, .ref h.e3, .ref h.e4, .ref h.e5, .int h.S.td, .int h.S.pk, .int h.S.pd]))], [(h.e1, .inr (11, [.int h.m0, .ref h.x0.1, .int (nI h.n)]))], (alA Γ h.x0), (cowsB h.n h.ca h.S.cv), [(h.e2, .inr (11, [.int h.m1, .ref h.x1.1, .int (nI h.nr)]))], (alA Γ h.x1), [(h.e3, .inr (11, [.int h.m2, .ref h.x2.1, .int (nI h.S.np)]))], (alA Γ h.x2), [(h.e4, .inr (2, [.int h.S.li, .int h.S.ce]))], [(h.e5, .inl (Γ.2.1 0, 6, .inl h.se))], [(b, .inr (0, [.ref h.e0, .ref tt, .ref sv, .int zs, .ref da, .ref tx, .ref wr, .int fl, .int rf]))]] := bD_sel hD [1, 2, 3, 4, 5, 6, 7, 8, 0, 9, 10] rfl rfl
    have hP : WP Γ [(hdB Γ h), [(b, .inr (0, [.ref h.e0, .ref tt, .ref sv, .int zs, .ref da, .ref tx, .ref wr, .int fl, .int rf]))]] H := (hdP_un (Bs := hdL Γ h) hP)
    have hD : WD A [(hdB Γ h), [(b, .inr (0, [.ref h.e0, .ref tt, .ref sv, .int zs, .ref da, .ref tx, .ref wr, .int fl, .int rf]))]] := (hdD_un (Bs := hdL Γ h) hD)
    have hP : WP Γ [[(b, .inr (0, [.ref h.e0, .ref tt, .ref sv, .int zs, .ref da, .ref tx, .ref wr, .int fl, .int rf]))], (hdB Γ h)] H := bP_sel hP [1, 0] rfl
    have hD : WD A [[(b, .inr (0, [.ref h.e0, .ref tt, .ref sv, .int zs, .ref da, .ref tx, .ref wr, .int fl, .int rf]))], (hdB Γ h)] := bD_sel hD [1, 0] rfl rfl
    exact b_iret hx hb hr hlocks hP hD hS (Nat.le_of_ble_eq_true rfl) (Nat.le_of_ble_eq_true rfl) ⟨(by first | with_reducible rfl | (simp [tkW, c_1_0, c_1_1]; done) | rfl), (by first | with_reducible rfl | (simp [tkW, c_1_0, c_1_1]; done) | rfl)⟩ dX1_tank_64
  by_cases c_1_3 : w = 3
  · -- case 3
    subst c_1_3
    refine lv_tableIn (tgt := 65) hx hb dX1_tank_1 (by decide) (by decide) rfl (by decide) ?_
    refine lv_aload_n hx hb dX1_tank_65 rfl (lv_at hl 0 rfl) ?_
    refine b_get (C := RX1) (T := TX1) (N := 9) (v := .ref h.e0) hx hb hts in_X1 hown hK (b_at (k := 10) hP rfl) rfl 0 (by decide) q248 (fun _ h9 => h9) rfl dX1_tank_66 ?_
    refine b_getN (C := RX2) (T := TX2) (N := 8) (v := .ref h.e4) hx hb hts hE in_X2 hown hK (b_at (k := 0) hP rfl) rfl 3 (by decide) q171 (fun _ h9 => h9) rfl dX1_tank_69 ?_
    refine lv_aload_n hx hb dX1_tank_72 rfl (lv_at hl 0 rfl) ?_
    refine b_get (C := RX1) (T := TX1) (N := 9) (v := .ref h.e0) hx hb hts in_X1 hown hK (b_at (k := 10) hP rfl) rfl 0 (by decide) q248 (fun _ h9 => h9) rfl dX1_tank_73 ?_
    refine b_getN (C := RX2) (T := TX2) (N := 8) (v := .ref h.e5) hx hb hts hE in_X2 hown hK (b_at (k := 0) hP rfl) rfl 4 (by decide) q173 (fun _ h9 => h9) rfl dX1_tank_76 ?_
    refine lv_iconst (v := 3) hx hb dX1_tank_79 (by decide) ?_
    refine b_iald hx hb hK (b_at (k := 9) hP rfl) 3 rfl (by omega) (by omega) dX1_tank_80 ?_
    refine b_calli (br := [[(h.e0, .inr (1, [.ref h.e1, .ref h.e2, .ref h.e3, .ref h.e4, .ref h.e5, .int h.S.td, .int h.S.pk, .int h.S.pd]))], [(h.e1, .inr (11, [.int h.m0, .ref h.x0.1, .int (nI h.n)]))], (alA Γ h.x0), (cowsB h.n h.ca h.S.cv), [(h.e2, .inr (11, [.int h.m1, .ref h.x1.1, .int (nI h.nr)]))], (alA Γ h.x1), [(h.e3, .inr (11, [.int h.m2, .ref h.x2.1, .int (nI h.S.np)]))], (alA Γ h.x2), [(h.e5, .inl (Γ.2.1 0, 6, .inl h.se))], [(b, .inr (0, [.ref h.e0, .ref tt, .ref sv, .int zs, .ref da, .ref tx, .ref wr, .int fl, .int rf]))]]) (b_runV ⟨hx, hb, hml, hown, hts⟩ (mt_Tank_room l Γ _ h.e4 h.S.li h.S.ce (h.se 3)) (lw_V q1345 q1228 q1229 q67 q1230) rfl rfl 1 (by decide +kernel) ⟨(Nat.le_of_ble_eq_true rfl), (Nat.le_of_ble_eq_true rfl)⟩ (c_pre hP hD hS hA hK hE [8] rfl rfl ro_nil) (recv_at (q := (RX3, TX3, 2)) hK (b_at (k := 8) hP rfl) rfl) rfl hl.1 rfl (Nat.le_of_ble_eq_true rfl) dX1_tank_81 ⟨(Nat.le_of_ble_eq_true rfl), (Nat.le_of_ble_eq_true rfl)⟩) hP hD hS hA [8] [0, 1, 2, 3, 4, 5, 6, 7, 9, 10] rfl rfl rfl (fun r_3 u_3 H locs hw_3 hP hD hS _ => ?_)
    obtain ⟨rfl, rfl⟩ := hw_3
    have hP : WP Γ [[(h.e4, .inr (2, [.int h.S.li, .int h.S.ce]))], [(h.e0, .inr (1, [.ref h.e1, .ref h.e2, .ref h.e3, .ref h.e4, .ref h.e5, .int h.S.td, .int h.S.pk, .int h.S.pd]))], [(h.e1, .inr (11, [.int h.m0, .ref h.x0.1, .int (nI h.n)]))], (alA Γ h.x0), (cowsB h.n h.ca h.S.cv), [(h.e2, .inr (11, [.int h.m1, .ref h.x1.1, .int (nI h.nr)]))], (alA Γ h.x1), [(h.e3, .inr (11, [.int h.m2, .ref h.x2.1, .int (nI h.S.np)]))], (alA Γ h.x2), [(h.e5, .inl (Γ.2.1 0, 6, .inl h.se))], [(b, .inr (0, [.ref h.e0, .ref tt, .ref sv, .int zs, .ref da, .ref tx, .ref wr, .int fl, .int rf]))]] H := hP
    have hD : WD A [[(h.e4, .inr (2, [.int h.S.li, .int h.S.ce]))], [(h.e0, .inr (1, [.ref h.e1, .ref h.e2, .ref h.e3, .ref h.e4, .ref h.e5, .int h.S.td, .int h.S.pk, .int h.S.pd]))], [(h.e1, .inr (11, [.int h.m0, .ref h.x0.1, .int (nI h.n)]))], (alA Γ h.x0), (cowsB h.n h.ca h.S.cv), [(h.e2, .inr (11, [.int h.m1, .ref h.x1.1, .int (nI h.nr)]))], (alA Γ h.x1), [(h.e3, .inr (11, [.int h.m2, .ref h.x2.1, .int (nI h.S.np)]))], (alA Γ h.x2), [(h.e5, .inl (Γ.2.1 0, 6, .inl h.se))], [(b, .inr (0, [.ref h.e0, .ref tt, .ref sv, .int zs, .ref da, .ref tx, .ref wr, .int fl, .int rf]))]] := hD
    have hP : WP Γ [[(h.e0, .inr (1, [.ref h.e1, .ref h.e2, .ref h.e3, .ref h.e4, .ref h.e5, .int h.S.td, .int h.S.pk, .int h.S.pd]))], [(h.e1, .inr (11, [.int h.m0, .ref h.x0.1, .int (nI h.n)]))], (alA Γ h.x0), (cowsB h.n h.ca h.S.cv), [(h.e2, .inr (11, [.int h.m1, .ref h.x1.1, .int (nI h.nr)]))], (alA Γ h.x1), [(h.e3, .inr (11, [.int h.m2, .ref h.x2.1, .int (nI h.S.np)]))], (alA Γ h.x2), [(h.e4, .inr (2, [.int h.S.li, .int h.S.ce]))], [(h.e5, .inl (Γ.2.1 0, 6, .inl h.se))], [(b, .inr (0, [.ref h.e0, .ref tt, .ref sv, .int zs, .ref da, .ref tx, .ref wr, .int fl, .int rf]))]] H := bP_sel hP [1, 2, 3, 4, 5, 6, 7, 8, 0, 9, 10] rfl
    have hD : WD A [[(h.e0, .inr (1, [.ref h.e1, .ref h.e2, .ref h.e3, .ref h.e4, .ref h.e5, .int h.S.td, .int h.S.pk, .int h.S.pd]))], [(h.e1, .inr (11, [.int h.m0, .ref h.x0.1, .int (nI h.n)]))], (alA Γ h.x0), (cowsB h.n h.ca h.S.cv), [(h.e2, .inr (11, [.int h.m1, .ref h.x1.1, .int (nI h.nr)]))], (alA Γ h.x1), [(h.e3, .inr (11, [.int h.m2, .ref h.x2.1, .int (nI h.S.np)]))], (alA Γ h.x2), [(h.e4, .inr (2, [.int h.S.li, .int h.S.ce]))], [(h.e5, .inl (Γ.2.1 0, 6, .inl h.se))], [(b, .inr (0, [.ref h.e0, .ref tt, .ref sv, .int zs, .ref da, .ref tx, .ref wr, .int fl, .int rf]))]] := bD_sel hD [1, 2, 3, 4, 5, 6, 7, 8, 0, 9, 10] rfl rfl
    have hP : WP Γ [(hdB Γ h), [(b, .inr (0, [.ref h.e0, .ref tt, .ref sv, .int zs, .ref da, .ref tx, .ref wr, .int fl, .int rf]))]] H := (hdP_un (Bs := hdL Γ h) hP)
    have hD : WD A [(hdB Γ h), [(b, .inr (0, [.ref h.e0, .ref tt, .ref sv, .int zs, .ref da, .ref tx, .ref wr, .int fl, .int rf]))]] := (hdD_un (Bs := hdL Γ h) hD)
    have hP : WP Γ [[(b, .inr (0, [.ref h.e0, .ref tt, .ref sv, .int zs, .ref da, .ref tx, .ref wr, .int fl, .int rf]))], (hdB Γ h)] H := bP_sel hP [1, 0] rfl
    have hD : WD A [[(b, .inr (0, [.ref h.e0, .ref tt, .ref sv, .int zs, .ref da, .ref tx, .ref wr, .int fl, .int rf]))], (hdB Γ h)] := bD_sel hD [1, 0] rfl rfl
    exact b_iret hx hb hr hlocks hP hD hS (Nat.le_of_ble_eq_true rfl) (Nat.le_of_ble_eq_true rfl) ⟨(by first | with_reducible rfl | (simp [tkW, c_1_0, c_1_1, c_1_2]; done) | rfl), (by first | with_reducible rfl | (simp [tkW, c_1_0, c_1_1, c_1_2]; done) | rfl)⟩ dX1_tank_84
  refine lv_tableOut (tgt := 85) hx hb dX1_tank_1 (sw_out 0 3 (by decide) (fun j h1 h2 => by rcases (show j = 0 ∨ j = 1 ∨ j = 2 ∨ j = 3 by omega) with rfl | rfl | rfl | rfl <;> assumption)) (by decide) ?_
  rcases hw9 with h9 | h9 | h9 | h9 <;> exact absurd h9 (by assumption)
set_option maxHeartbeats 4000000 in
set_option maxRecDepth 100000 in
theorem mt_DB_pass_ok (l : Launch) (Γ : GE) (sz : Nat) (b : Nat) (h : HB) (tt : Nat) (sv : Nat) (zs : Int32) (da : Nat) (tx : Nat) (wr : Nat) (fl : Int32) (rf : Int32) (dv : Nat) (df : Nat → Option Nat) (dp : Nat) (kn : Nat) (hk : Nat → HB) (P : va_W) (q : Nat) (w : Nat) (ho : hdOk Γ P h) (hko : ∀ k, k < kn → hdOk Γ P (hk k)) (hk8 : kn ≤ 8) (hdq : dqI df dp kn (kpA hk)) (hq1 : 1 ≤ q) (hq30 : q ≤ 30) (hcp : ¬ cpS h.S.td (nI q) = 0) (hw : h.se 4 = nI w) (hw9 : w ≤ 9) (hs2 : ¬ h.se 2 = 0) (hz : ∀ j, j < q → dyOk h.n h.se w (dyN h.n h.nr h.rv h.se w h.S j)) : KM l yX1_pass cX1_pass 2 (some FieldType.int) Γ 10 259 (2 * h.n + 30 + 6 * q) (112 * h.n + 700 + 140 * q) [.ref b, .int (nI q)] [[(b, .inr (0, [.ref h.e0, .ref tt, .ref sv, .int zs, .ref da, .ref tx, .ref wr, .int fl, .int rf]))], (hdB Γ h), [(da, .inr (12, [.ref dv, .int (nI dp), .int (nI ((dp + kn) % 17))]))], [(dv, .inl (Γ.2.1 2, 17, .inr (.inr (.inr (.inr df)))))], (kpB Γ kn hk), P] [] sz (Qi Γ (fun r_ u_ => ∃ g : HB, ∃ f2 : Nat → Option Nat, ∃ y : LST, ∃ m : Int32, ∃ pb : Nat → Nat, ∃ Q : va_W, hvEq g h ∧ hdOk Γ P g ∧ dqI f2 (kpP9 kn dp) (kpN kn) (kpA (kpH kn hk g)) ∧ alI Γ y (dyN h.n h.nr h.rv h.se w h.S q).np pb ∧ (∀ k, k < (dyN h.n h.nr h.rv h.se w h.S q).np → (pb k, pickE ((dyN h.n h.nr h.rv h.se w h.S q).pv k)) ∈ Q) ∧ (∀ z, z ∈ P → z ∈ Q) ∧ r_ = (dyP h.n h.nr h.rv h.se w h.S q) ∧ u_ = [[(b, .inr (0, [.ref h.e0, .ref tt, .ref sv, .int zs, .ref da, .ref tx, .ref wr, .int fl, .int rf]))], (hdB Γ (HB.setPk h (dyN h.n h.nr h.rv h.se w h.S q) y m pb)), [(da, .inr (12, [.ref dv, .int (nI (kpP9 kn dp)), .int (nI (((kpP9 kn dp) + (kpN kn)) % 17))]))], [(dv, .inl (Γ.2.1 2, 17, .inr (.inr (.inr (.inr f2)))))], (kpB Γ (kpN kn) (kpH kn hk g)), Q])) := by
  refine K_intro (by decide) (Nat.le_of_ble_eq_true rfl) ?_
  intro pr_ ev_ s mi_ below meth cd_ A ls hx hb hr hml hown hts hlocks hname hK hE hRo hP hD hA hS hsz hl
  have hl : lv_has ls 2 [(0, .ref b), (1, .int (nI q))] := hl
  have hown : s.vm.findClass RX1 = some mi_.cls := hown
  refine lv_iload_n hx hb dX1_pass_0 rfl (lv_at hl 1 rfl) ?_
  refine lv_iconst (v := 1) hx hb dX1_pass_1 (by decide) ?_
  refine lv_icmp_lt (tgt := 17) hx hb dX1_pass_2 (by decide) (fun c_1 => ?_) (fun c_1 => ?_)
  · -- 2 taken
    have n_1 : q < 1 := (nI_ltI (by omega) (by omega)).mp (show nI q < nI 1 from c_1)
    exfalso; omega
  · -- 2 not taken
    have n_1 : ¬ (q < 1) := fun h => c_1 ((nI_ltI (a := q) (b := 1) (by omega) (by omega)).mpr h)
    refine lv_aload_n hx hb dX1_pass_5 rfl (lv_at hl 0 rfl) ?_
    refine lv_iload_n hx hb dX1_pass_6 rfl (lv_at hl 1 rfl) ?_
    refine b_calli (br := [[(da, .inr (12, [.ref dv, .int (nI dp), .int (nI ((dp + kn) % 17))]))], [(dv, .inl (Γ.2.1 2, 17, .inr (.inr (.inr (.inr df)))))], (kpB Γ kn hk), P]) (b_runV ⟨hx, hb, hml, hown, hts⟩ (mt_DB_canPass l Γ _ b h tt sv zs da tx wr fl rf P (nI q) (by assumption)) (lw_V q1184 q1186 qs13 q62 q1187) rfl rfl 1 (by decide +kernel) ⟨(Nat.le_of_ble_eq_true rfl), (Nat.le_of_ble_eq_true rfl)⟩ (c_pre hP hD hS hA hK hE [0, 1] rfl rfl (ro_own (br := [P]) hP hD [0, 1] [5] rfl rfl rfl)) (recv_at (q := (RX1, TX1, 9)) hK (b_at (k := 0) hP rfl) rfl) rfl hl.1 rfl (Nat.le_of_ble_eq_true rfl) dX1_pass_7 ⟨(by first | omega | (dsimp only; omega)), (by first | omega | (dsimp only; omega))⟩) hP hD hS hA [0, 1] [2, 3, 4, 5] rfl rfl rfl (fun r_2 u_2 H locs hw_2 hP hD hS _ => ?_)
    obtain ⟨rfl, rfl⟩ := hw_2
    have hP : WP Γ [[(b, .inr (0, [.ref h.e0, .ref tt, .ref sv, .int zs, .ref da, .ref tx, .ref wr, .int fl, .int rf]))], (hdB Γ h), [(da, .inr (12, [.ref dv, .int (nI dp), .int (nI ((dp + kn) % 17))]))], [(dv, .inl (Γ.2.1 2, 17, .inr (.inr (.inr (.inr df)))))], (kpB Γ kn hk), P] H := hP
    have hD : WD A [[(b, .inr (0, [.ref h.e0, .ref tt, .ref sv, .int zs, .ref da, .ref tx, .ref wr, .int fl, .int rf]))], (hdB Γ h), [(da, .inr (12, [.ref dv, .int (nI dp), .int (nI ((dp + kn) % 17))]))], [(dv, .inl (Γ.2.1 2, 17, .inr (.inr (.inr (.inr df)))))], (kpB Γ kn hk), P] := hD
    refine lv_if_eq (tgt := 17) hx hb dX1_pass_10 (by decide) (fun c_3 => ?_) (fun c_3 => ?_)
    · -- 10 taken
      exact absurd c_3 hcp
    · -- 10 not taken
      refine lv_iconst (v := 1) hx hb dX1_pass_13 (by decide) ?_
      refine lv_goto (tgt := 18) hx hb dX1_pass_14 (by decide) ?_
      refine b_callv (br := [[(b, .inr (0, [.ref h.e0, .ref tt, .ref sv, .int zs, .ref da, .ref tx, .ref wr, .int fl, .int rf]))], (hdB Γ h), [(da, .inr (12, [.ref dv, .int (nI dp), .int (nI ((dp + kn) % 17))]))], [(dv, .inl (Γ.2.1 2, 17, .inr (.inr (.inr (.inr df)))))], (kpB Γ kn hk), P]) (b_runS ⟨hx, hb, hml, hown, hts⟩ (mt_DB_check_ok l Γ _ 1 (by first | assumption | decide)) (lw_S q809 q810 q62 q811) rfl rfl 1 (by decide +kernel) ⟨(Nat.le_of_ble_eq_true rfl), (Nat.le_of_ble_eq_true rfl)⟩ (c_pre hP hD hS hA hK hE [] rfl rfl ro_nil) rfl hl.1 rfl (Nat.le_of_ble_eq_true rfl) dX1_pass_18 ⟨(by first | omega | (dsimp only; omega)), (by first | omega | (dsimp only; omega))⟩) hP hD hS hA [] [0, 1, 2, 3, 4, 5] rfl rfl rfl (fun u_4 H locs hw_4 hP hD hS _ => ?_)
      obtain rfl := hw_4
      have hP : WP Γ [[(b, .inr (0, [.ref h.e0, .ref tt, .ref sv, .int zs, .ref da, .ref tx, .ref wr, .int fl, .int rf]))], (hdB Γ h), [(da, .inr (12, [.ref dv, .int (nI dp), .int (nI ((dp + kn) % 17))]))], [(dv, .inl (Γ.2.1 2, 17, .inr (.inr (.inr (.inr df)))))], (kpB Γ kn hk), P] H := hP
      have hD : WD A [[(b, .inr (0, [.ref h.e0, .ref tt, .ref sv, .int zs, .ref da, .ref tx, .ref wr, .int fl, .int rf]))], (hdB Γ h), [(da, .inr (12, [.ref dv, .int (nI dp), .int (nI ((dp + kn) % 17))]))], [(dv, .inl (Γ.2.1 2, 17, .inr (.inr (.inr (.inr df)))))], (kpB Γ kn hk), P] := hD
      refine lv_aload_n hx hb dX1_pass_21 rfl (lv_at hl 0 rfl) ?_
      refine b_callv (br := [P]) (b_runV ⟨hx, hb, hml, hown, hts⟩ (mt_DB_keep l Γ _ b h tt sv zs da tx wr fl rf dv df dp kn hk P (by assumption) (by assumption) (by first | assumption | omega) (by assumption)) (lw_V q839 q841 qs5 q62 q842) rfl rfl 0 (by decide +kernel) ⟨(Nat.le_of_ble_eq_true rfl), (Nat.le_of_ble_eq_true rfl)⟩ (c_pre hP hD hS hA hK hE [0, 1, 2, 3, 4] rfl rfl (ro_own (br := [P]) hP hD [0, 1, 2, 3, 4] [5] rfl rfl rfl)) (recv_at (q := (RX1, TX1, 9)) hK (b_at (k := 0) hP rfl) rfl) rfl hl.1 rfl (Nat.le_of_ble_eq_true rfl) dX1_pass_22 ⟨(by first | omega | (dsimp only; omega)), (by first | omega | (dsimp only; omega))⟩) hP hD hS hA [0, 1, 2, 3, 4] [5] rfl rfl rfl (fun u_5 H locs hw_5 hP hD hS _ => ?_)
      obtain ⟨g_5, f2_5, hv_5, hG_5, hq_5, rfl⟩ := hw_5
      have hP : WP Γ [[(b, .inr (0, [.ref h.e0, .ref tt, .ref sv, .int zs, .ref da, .ref tx, .ref wr, .int fl, .int rf]))], (hdB Γ h), [(da, .inr (12, [.ref dv, .int (nI (kpP9 kn dp)), .int (nI (((kpP9 kn dp) + (kpN kn)) % 17))]))], [(dv, .inl (Γ.2.1 2, 17, .inr (.inr (.inr (.inr f2_5)))))], (kpB Γ (kpN kn) (kpH kn hk g_5)), P] H := hP
      have hD : WD A [[(b, .inr (0, [.ref h.e0, .ref tt, .ref sv, .int zs, .ref da, .ref tx, .ref wr, .int fl, .int rf]))], (hdB Γ h), [(da, .inr (12, [.ref dv, .int (nI (kpP9 kn dp)), .int (nI (((kpP9 kn dp) + (kpN kn)) % 17))]))], [(dv, .inl (Γ.2.1 2, 17, .inr (.inr (.inr (.inr f2_5)))))], (kpB Γ (kpN kn) (kpH kn hk g_5)), P] := hD
      have hP : WP Γ [(hdB Γ h), [(b, .inr (0, [.ref h.e0, .ref tt, .ref sv, .int zs, .ref da, .ref tx, .ref wr, .int fl, .int rf]))], [(da, .inr (12, [.ref dv, .int (nI (kpP9 kn dp)), .int (nI (((kpP9 kn dp) + (kpN kn)) % 17))]))], [(dv, .inl (Γ.2.1 2, 17, .inr (.inr (.inr (.inr f2_5)))))], (kpB Γ (kpN kn) (kpH kn hk g_5)), P] H := bP_sel hP [1, 0, 2, 3, 4, 5] rfl
      have hD : WD A [(hdB Γ h), [(b, .inr (0, [.ref h.e0, .ref tt, .ref sv, .int zs, .ref da, .ref tx, .ref wr, .int fl, .int rf]))], [(da, .inr (12, [.ref dv, .int (nI (kpP9 kn dp)), .int (nI (((kpP9 kn dp) + (kpN kn)) % 17))]))], [(dv, .inl (Γ.2.1 2, 17, .inr (.inr (.inr (.inr f2_5)))))], (kpB Γ (kpN kn) (kpH kn hk g_5)), P] := bD_sel hD [1, 0, 2, 3, 4, 5] rfl rfl
      have hP : WP Γ [[(h.e0, .inr (1, [.ref h.e1, .ref h.e2, .ref h.e3, .ref h.e4, .ref h.e5, .int h.S.td, .int h.S.pk, .int h.S.pd]))], [(h.e1, .inr (11, [.int h.m0, .ref h.x0.1, .int (nI h.n)]))], (alA Γ h.x0), (cowsB h.n h.ca h.S.cv), [(h.e2, .inr (11, [.int h.m1, .ref h.x1.1, .int (nI h.nr)]))], (alA Γ h.x1), [(h.e3, .inr (11, [.int h.m2, .ref h.x2.1, .int (nI h.S.np)]))], (alA Γ h.x2), [(h.e4, .inr (2, [.int h.S.li, .int h.S.ce]))], [(h.e5, .inl (Γ.2.1 0, 6, .inl h.se))], [(b, .inr (0, [.ref h.e0, .ref tt, .ref sv, .int zs, .ref da, .ref tx, .ref wr, .int fl, .int rf]))], [(da, .inr (12, [.ref dv, .int (nI (kpP9 kn dp)), .int (nI (((kpP9 kn dp) + (kpN kn)) % 17))]))], [(dv, .inl (Γ.2.1 2, 17, .inr (.inr (.inr (.inr f2_5)))))], (kpB Γ (kpN kn) (kpH kn hk g_5)), P] H := hdP_ex (Bs := hdL Γ h) hP
      have hD : WD A [[(h.e0, .inr (1, [.ref h.e1, .ref h.e2, .ref h.e3, .ref h.e4, .ref h.e5, .int h.S.td, .int h.S.pk, .int h.S.pd]))], [(h.e1, .inr (11, [.int h.m0, .ref h.x0.1, .int (nI h.n)]))], (alA Γ h.x0), (cowsB h.n h.ca h.S.cv), [(h.e2, .inr (11, [.int h.m1, .ref h.x1.1, .int (nI h.nr)]))], (alA Γ h.x1), [(h.e3, .inr (11, [.int h.m2, .ref h.x2.1, .int (nI h.S.np)]))], (alA Γ h.x2), [(h.e4, .inr (2, [.int h.S.li, .int h.S.ce]))], [(h.e5, .inl (Γ.2.1 0, 6, .inl h.se))], [(b, .inr (0, [.ref h.e0, .ref tt, .ref sv, .int zs, .ref da, .ref tx, .ref wr, .int fl, .int rf]))], [(da, .inr (12, [.ref dv, .int (nI (kpP9 kn dp)), .int (nI (((kpP9 kn dp) + (kpN kn)) % 17))]))], [(dv, .inl (Γ.2.1 2, 17, .inr (.inr (.inr (.inr f2_5)))))], (kpB Γ (kpN kn) (kpH kn hk g_5)), P] := hdD_ex (Bs := hdL Γ h) hD
      have hal0 : alI Γ h.x0 h.n h.ca := ho.1
      have hn8 : h.n ≤ 8 := ho.2.1
      have hal1 : alI Γ h.x1 h.nr h.ra := ho.2.2.1
      have nr4 : h.nr ≤ 4 := ho.2.2.2.1
      have hrw : ∀ k, k < h.nr → (h.ra k, rowE (h.rv k)) ∈ P := ho.2.2.2.2.1
      have hal2 : alI Γ h.x2 h.S.np h.pa := ho.2.2.2.2.2.1
      have np60 : h.S.np ≤ 60 := ho.2.2.2.2.2.2.1
      have hpk : ∀ k, k < h.S.np → (h.pa k, pickE (h.S.pv k)) ∈ P := ho.2.2.2.2.2.2.2.1
      have hcb : ∀ k, k < h.n → cowB (h.S.cv k) := ho.2.2.2.2.2.2.2.2
      refine lv_aload_n hx hb dX1_pass_25 rfl (lv_at hl 0 rfl) ?_
      refine b_get (C := RX1) (T := TX1) (N := 9) (v := .ref h.e0) hx hb hts in_X1 hown hK (b_at (k := 10) hP rfl) rfl 0 (by decide) q248 (fun _ h9 => h9) rfl dX1_pass_26 ?_
      refine lv_iload_n hx hb dX1_pass_29 rfl (lv_at hl 1 rfl) ?_
      refine b_calli (br := [[(b, .inr (0, [.ref h.e0, .ref tt, .ref sv, .int zs, .ref da, .ref tx, .ref wr, .int fl, .int rf]))], [(da, .inr (12, [.ref dv, .int (nI (kpP9 kn dp)), .int (nI (((kpP9 kn dp) + (kpN kn)) % 17))]))], [(dv, .inl (Γ.2.1 2, 17, .inr (.inr (.inr (.inr f2_5)))))], (kpB Γ (kpN kn) (kpH kn hk g_5))]) (b_runV ⟨hx, hb, hml, hown, hts⟩ (mt_Hd_pass l Γ _ h.e0 h.e1 h.e2 h.e3 h.e4 h.e5 h.S h.x0 h.m0 h.n h.ca h.x1 h.m1 h.nr h.ra h.rv P h.x2 h.m2 h.pa h.se w q (by assumption) (by first | assumption | omega) (by assumption) (by first | assumption | omega) (by assumption) (by assumption) (by first | assumption | omega) (by assumption) (by assumption) (by assumption) (by assumption) (by omega) hz) (lw_V q1188 q1189 q1190 q63 q1191) rfl rfl 1 (by decide +kernel) ⟨(Nat.le_of_ble_eq_true rfl), (Nat.le_of_ble_eq_true rfl)⟩ (c_pre hP hD hS hA hK hE [0, 1, 2, 3, 4, 5, 6, 7, 8, 9, 14] rfl rfl ro_nil) (recv_at (q := (RX2, TX2, 8)) hK (b_at (k := 0) hP rfl) rfl) rfl hl.1 rfl (Nat.le_of_ble_eq_true rfl) dX1_pass_30 ⟨(by first | omega | (dsimp only; omega)), (by first | omega | (dsimp only; omega))⟩) hP hD hS hA [0, 1, 2, 3, 4, 5, 6, 7, 8, 9, 14] [10, 11, 12, 13] rfl rfl rfl (fun r_6 u_6 H locs hw_6 hP hD hS _ => ?_)
      obtain ⟨y_6, m_6, pb_6, Q_6, hy_6, hq_6, hs_6, rfl, rfl⟩ := hw_6
      have hP : WP Γ [[(h.e0, .inr (1, [.ref h.e1, .ref h.e2, .ref h.e3, .ref h.e4, .ref h.e5, .int (dyN h.n h.nr h.rv h.se w h.S q).td, .int (dyN h.n h.nr h.rv h.se w h.S q).pk, .int (dyN h.n h.nr h.rv h.se w h.S q).pd]))], [(h.e1, .inr (11, [.int h.m0, .ref h.x0.1, .int (nI h.n)]))], (alA Γ h.x0), (cowsB h.n h.ca (dyN h.n h.nr h.rv h.se w h.S q).cv), [(h.e2, .inr (11, [.int h.m1, .ref h.x1.1, .int (nI h.nr)]))], (alA Γ h.x1), [(h.e3, .inr (11, [.int m_6, .ref y_6.1, .int (nI ((dyN h.n h.nr h.rv h.se w h.S q).np))]))], (alA Γ y_6), [(h.e4, .inr (2, [.int (dyN h.n h.nr h.rv h.se w h.S q).li, .int (dyN h.n h.nr h.rv h.se w h.S q).ce]))], [(h.e5, .inl (Γ.2.1 0, 6, .inl h.se))], Q_6, [(b, .inr (0, [.ref h.e0, .ref tt, .ref sv, .int zs, .ref da, .ref tx, .ref wr, .int fl, .int rf]))], [(da, .inr (12, [.ref dv, .int (nI (kpP9 kn dp)), .int (nI (((kpP9 kn dp) + (kpN kn)) % 17))]))], [(dv, .inl (Γ.2.1 2, 17, .inr (.inr (.inr (.inr f2_5)))))], (kpB Γ (kpN kn) (kpH kn hk g_5))] H := hP
      have hD : WD A [[(h.e0, .inr (1, [.ref h.e1, .ref h.e2, .ref h.e3, .ref h.e4, .ref h.e5, .int (dyN h.n h.nr h.rv h.se w h.S q).td, .int (dyN h.n h.nr h.rv h.se w h.S q).pk, .int (dyN h.n h.nr h.rv h.se w h.S q).pd]))], [(h.e1, .inr (11, [.int h.m0, .ref h.x0.1, .int (nI h.n)]))], (alA Γ h.x0), (cowsB h.n h.ca (dyN h.n h.nr h.rv h.se w h.S q).cv), [(h.e2, .inr (11, [.int h.m1, .ref h.x1.1, .int (nI h.nr)]))], (alA Γ h.x1), [(h.e3, .inr (11, [.int m_6, .ref y_6.1, .int (nI ((dyN h.n h.nr h.rv h.se w h.S q).np))]))], (alA Γ y_6), [(h.e4, .inr (2, [.int (dyN h.n h.nr h.rv h.se w h.S q).li, .int (dyN h.n h.nr h.rv h.se w h.S q).ce]))], [(h.e5, .inl (Γ.2.1 0, 6, .inl h.se))], Q_6, [(b, .inr (0, [.ref h.e0, .ref tt, .ref sv, .int zs, .ref da, .ref tx, .ref wr, .int fl, .int rf]))], [(da, .inr (12, [.ref dv, .int (nI (kpP9 kn dp)), .int (nI (((kpP9 kn dp) + (kpN kn)) % 17))]))], [(dv, .inl (Γ.2.1 2, 17, .inr (.inr (.inr (.inr f2_5)))))], (kpB Γ (kpN kn) (kpH kn hk g_5))] := hD
      have hP : WP Γ [(hdB Γ (HB.setPk h (dyN h.n h.nr h.rv h.se w h.S q) y_6 m_6 pb_6)), Q_6, [(b, .inr (0, [.ref h.e0, .ref tt, .ref sv, .int zs, .ref da, .ref tx, .ref wr, .int fl, .int rf]))], [(da, .inr (12, [.ref dv, .int (nI (kpP9 kn dp)), .int (nI (((kpP9 kn dp) + (kpN kn)) % 17))]))], [(dv, .inl (Γ.2.1 2, 17, .inr (.inr (.inr (.inr f2_5)))))], (kpB Γ (kpN kn) (kpH kn hk g_5))] H := (hdP_un (Bs := hdL Γ (HB.setPk h (dyN h.n h.nr h.rv h.se w h.S q) y_6 m_6 pb_6)) hP)
      have hD : WD A [(hdB Γ (HB.setPk h (dyN h.n h.nr h.rv h.se w h.S q) y_6 m_6 pb_6)), Q_6, [(b, .inr (0, [.ref h.e0, .ref tt, .ref sv, .int zs, .ref da, .ref tx, .ref wr, .int fl, .int rf]))], [(da, .inr (12, [.ref dv, .int (nI (kpP9 kn dp)), .int (nI (((kpP9 kn dp) + (kpN kn)) % 17))]))], [(dv, .inl (Γ.2.1 2, 17, .inr (.inr (.inr (.inr f2_5)))))], (kpB Γ (kpN kn) (kpH kn hk g_5))] := (hdD_un (Bs := hdL Γ (HB.setPk h (dyN h.n h.nr h.rv h.se w h.S q) y_6 m_6 pb_6)) hD)
      have hP : WP Γ [[(b, .inr (0, [.ref h.e0, .ref tt, .ref sv, .int zs, .ref da, .ref tx, .ref wr, .int fl, .int rf]))], (hdB Γ (HB.setPk h (dyN h.n h.nr h.rv h.se w h.S q) y_6 m_6 pb_6)), [(da, .inr (12, [.ref dv, .int (nI (kpP9 kn dp)), .int (nI (((kpP9 kn dp) + (kpN kn)) % 17))]))], [(dv, .inl (Γ.2.1 2, 17, .inr (.inr (.inr (.inr f2_5)))))], (kpB Γ (kpN kn) (kpH kn hk g_5)), Q_6] H := bP_sel hP [2, 0, 3, 4, 5, 1] rfl
      have hD : WD A [[(b, .inr (0, [.ref h.e0, .ref tt, .ref sv, .int zs, .ref da, .ref tx, .ref wr, .int fl, .int rf]))], (hdB Γ (HB.setPk h (dyN h.n h.nr h.rv h.se w h.S q) y_6 m_6 pb_6)), [(da, .inr (12, [.ref dv, .int (nI (kpP9 kn dp)), .int (nI (((kpP9 kn dp) + (kpN kn)) % 17))]))], [(dv, .inl (Γ.2.1 2, 17, .inr (.inr (.inr (.inr f2_5)))))], (kpB Γ (kpN kn) (kpH kn hk g_5)), Q_6] := bD_sel hD [2, 0, 3, 4, 5, 1] rfl rfl
      exact b_iret hx hb hr hlocks hP hD hS (by first | omega | (dsimp only; omega)) (by first | omega | (dsimp only; omega)) ⟨g_5, f2_5, y_6, m_6, pb_6, Q_6, hv_5, hG_5, hq_5, hy_6, hq_6, hs_6, (by first | with_reducible rfl | (simp [n_1, c_1, c_3]; done) | rfl), (by first | with_reducible rfl | (simp [n_1, c_1, c_3]; done) | rfl)⟩ dX1_pass_33
