/-! LAW: what catches the exceptions, method by method -/
set_option maxHeartbeats 4000000 in
set_option maxRecDepth 100000 in
theorem mt_Law_addCow_ok (l : Launch) (Γ : GE) (sz : Nat) (b : Nat) (h : HB) (tt : Nat) (sv : Nat) (zs : Int32) (da : Nat) (tx : Nat) (wr : Nat) (fl : Int32) (rf : Int32) (dv : Nat) (df : Nat → Option Nat) (dp : Nat) (kn : Nat) (hk : Nat → HB) (P : va_W) (p : Int32) (d : Int32) (days : Int32) (ou : Nat) (ov : Nat → Int64) (hnt : l.stackTraces = false) (ho : hdOk Γ P h) (hko : ∀ k, k < kn → hdOk Γ P (hk k)) (hk8 : kn ≤ 8) (hdq : dqI df dp kn (kpA hk)) (hp9 : ¬ inC p 8 40 = 0) (hd9 : ¬ inC d 0 9 = 0) (he9 : ¬ inC days (-1) 99 = 0) (hn7 : h.n ≤ 7) : KMH l yX0_addCow cX0_addCow 6 (some FieldType.int) [(0, 12, 15, 13), (0, 12, 19, 15)] Γ 10 259 (2 * h.n + 30) (112 * h.n + 700) [.ref b, .int p, .int d, .int days, .ref ou] [[(b, .inr (0, [.ref h.e0, .ref tt, .ref sv, .int zs, .ref da, .ref tx, .ref wr, .int fl, .int rf]))], (hdB Γ h), [(da, .inr (12, [.ref dv, .int (nI dp), .int (nI ((dp + kn) % 17))]))], [(dv, .inl (Γ.2.1 2, 17, .inr (.inr (.inr (.inr df)))))], (kpB Γ kn hk), [(ou, .inl (Γ.2.1 3, 1, .inr (.inl ov)))]] [P] sz (Qi Γ (fun r_ u_ => ∃ g : HB, ∃ f2 : Nat → Option Nat, ∃ a : Nat, ∃ y : LST, hvEq g h ∧ hdOk Γ P g ∧ dqI f2 (kpP9 kn dp) (kpN kn) (kpA (kpH kn hk g)) ∧ alI Γ y (h.n + 1) (va_up h.ca h.n a) ∧ r_ = 0 ∧ u_ = [[(b, .inr (0, [.ref h.e0, .ref tt, .ref sv, .int zs, .ref da, .ref tx, .ref wr, .int fl, .int rf]))], (hdB Γ (HB.setCw h y (h.m0 + 1) (h.n + 1) (va_up h.ca h.n a) (va_up h.S.cv h.n (addC h.n p d days h.S.td)))), [(da, .inr (12, [.ref dv, .int (nI (kpP9 kn dp)), .int (nI (((kpP9 kn dp) + (kpN kn)) % 17))]))], [(dv, .inl (Γ.2.1 2, 17, .inr (.inr (.inr (.inr f2)))))], (kpB Γ (kpN kn) (kpH kn hk g)), [(ou, .inl (Γ.2.1 3, 1, .inr (.inl (vp_updL ov 0 (nI h.n).toInt64))))]])) := by
  refine K_introH (by decide) (Nat.le_of_ble_eq_true rfl) ?_
  intro pr_ ev_ s mi_ below meth cd_ A ls hx hb hr hml hown hts hlocks hname hK hE hRo hP hD hA hS hsz hl htb9
  have hl : lv_has ls 6 [(0, .ref b), (1, .int p), (2, .int d), (3, .int days), (4, .ref ou)] := hl
  have hown : s.vm.findClass RX0 = some mi_.cls := hown
  refine lv_aload hx hb dX0_addCow_0 (lv_at hl 4 rfl) ?_
  refine lv_iconst (v := 0) hx hb dX0_addCow_2 (by decide) ?_
  refine lv_aload_n hx hb dX0_addCow_3 rfl (lv_at hl 0 rfl) ?_
  refine lv_iload_n hx hb dX0_addCow_4 rfl (lv_at hl 1 rfl) ?_
  refine lv_iload_n hx hb dX0_addCow_5 rfl (lv_at hl 2 rfl) ?_
  refine lv_iload_n hx hb dX0_addCow_6 rfl (lv_at hl 3 rfl) ?_
  refine b_calli (br := [[(ou, .inl (Γ.2.1 3, 1, .inr (.inl ov)))]]) (b_runV ⟨hx, hb, hml, hown, hts⟩ (mt_DB_addCow_ok l Γ _ b h tt sv zs da tx wr fl rf dv df dp kn hk P p d days ho hko hk8 hdq hp9 hd9 he9 hn7) (lw_V q802 q803 q804 q62 q805) rfl rfl 3 (by decide +kernel) ⟨(Nat.le_of_ble_eq_true rfl), (Nat.le_of_ble_eq_true rfl)⟩ (c_pre hP hD hS hA hK hE [0, 1, 2, 3, 4] rfl rfl (ro_pass (ro_sel (ro2 := [P]) hRo [0] rfl) hD hS hA [0, 1, 2, 3, 4] rfl)) (recv_at (q := (RX1, TX1, 9)) hK (b_at (k := 0) hP rfl) rfl) rfl hl.1 rfl (Nat.le_of_ble_eq_true rfl) dX0_addCow_7 ⟨(by first | omega | (dsimp only; omega)), (by first | omega | (dsimp only; omega))⟩) hP hD hS hA [0, 1, 2, 3, 4] [5] rfl rfl rfl (fun r_1 u_1 H locs hw_1 hP hD hS _ => ?_)
  obtain ⟨g_1, f2_1, a_1, y_1, hv_1, hG_1, hq_1, hy_1, rfl, rfl⟩ := hw_1
  have hP : WP Γ [[(b, .inr (0, [.ref h.e0, .ref tt, .ref sv, .int zs, .ref da, .ref tx, .ref wr, .int fl, .int rf]))], (hdB Γ (HB.setCw h y_1 (h.m0 + 1) (h.n + 1) (va_up h.ca h.n a_1) (va_up h.S.cv h.n (addC h.n p d days h.S.td)))), [(da, .inr (12, [.ref dv, .int (nI (kpP9 kn dp)), .int (nI (((kpP9 kn dp) + (kpN kn)) % 17))]))], [(dv, .inl (Γ.2.1 2, 17, .inr (.inr (.inr (.inr f2_1)))))], (kpB Γ (kpN kn) (kpH kn hk g_1)), [(ou, .inl (Γ.2.1 3, 1, .inr (.inl ov)))]] H := hP
  have hD : WD A [[(b, .inr (0, [.ref h.e0, .ref tt, .ref sv, .int zs, .ref da, .ref tx, .ref wr, .int fl, .int rf]))], (hdB Γ (HB.setCw h y_1 (h.m0 + 1) (h.n + 1) (va_up h.ca h.n a_1) (va_up h.S.cv h.n (addC h.n p d days h.S.td)))), [(da, .inr (12, [.ref dv, .int (nI (kpP9 kn dp)), .int (nI (((kpP9 kn dp) + (kpN kn)) % 17))]))], [(dv, .inl (Γ.2.1 2, 17, .inr (.inr (.inr (.inr f2_1)))))], (kpB Γ (kpN kn) (kpH kn hk g_1)), [(ou, .inl (Γ.2.1 3, 1, .inr (.inl ov)))]] := hD
  refine lv_i2l hx hb dX0_addCow_10 rfl ?_
  refine b_last hx hb hK hP hD hS 5 rfl 0 rfl (by omega) (by omega) dX0_addCow_11 (fun H locs hP hD hS => ?_)
  have hP : WP Γ [[(b, .inr (0, [.ref h.e0, .ref tt, .ref sv, .int zs, .ref da, .ref tx, .ref wr, .int fl, .int rf]))], (hdB Γ (HB.setCw h y_1 (h.m0 + 1) (h.n + 1) (va_up h.ca h.n a_1) (va_up h.S.cv h.n (addC h.n p d days h.S.td)))), [(da, .inr (12, [.ref dv, .int (nI (kpP9 kn dp)), .int (nI (((kpP9 kn dp) + (kpN kn)) % 17))]))], [(dv, .inl (Γ.2.1 2, 17, .inr (.inr (.inr (.inr f2_1)))))], (kpB Γ (kpN kn) (kpH kn hk g_1)), [(ou, .inl (Γ.2.1 3, 1, .inr (.inl (vp_updL ov 0 (nI h.n).toInt64))))]] H := hP
  have hD : WD A [[(b, .inr (0, [.ref h.e0, .ref tt, .ref sv, .int zs, .ref da, .ref tx, .ref wr, .int fl, .int rf]))], (hdB Γ (HB.setCw h y_1 (h.m0 + 1) (h.n + 1) (va_up h.ca h.n a_1) (va_up h.S.cv h.n (addC h.n p d days h.S.td)))), [(da, .inr (12, [.ref dv, .int (nI (kpP9 kn dp)), .int (nI (((kpP9 kn dp) + (kpN kn)) % 17))]))], [(dv, .inl (Γ.2.1 2, 17, .inr (.inr (.inr (.inr f2_1)))))], (kpB Γ (kpN kn) (kpH kn hk g_1)), [(ou, .inl (Γ.2.1 3, 1, .inr (.inl (vp_updL ov 0 (nI h.n).toInt64))))]] := hD
  refine lv_goto (tgt := 23) hx hb dX0_addCow_12 (by decide) ?_
  refine lv_iconst (v := 0) hx hb dX0_addCow_23 (by decide) ?_
  exact b_iret hx hb hr hlocks hP hD hS (by first | omega | (dsimp only; omega)) (by first | omega | (dsimp only; omega)) ⟨g_1, f2_1, a_1, y_1, hv_1, hG_1, hq_1, hy_1, (by first | rfl | (simp; done)), (by first | rfl | (simp; done))⟩ dX0_addCow_24
set_option maxHeartbeats 4000000 in
set_option maxRecDepth 100000 in
theorem mt_Law_addCow_x1 (l : Launch) (Γ : GE) (sz : Nat) (b : Nat) (h : HB) (tt : Nat) (sv : Nat) (zs : Int32) (da : Nat) (tx : Nat) (wr : Nat) (fl : Int32) (rf : Int32) (p : Int32) (d : Int32) (days : Int32) (ou : Nat) (ov : Nat → Int64) (hnt : l.stackTraces = false) (hx9 : inC p 8 40 = 0 ∨ inC d 0 9 = 0 ∨ inC days (-1) 99 = 0) : KMH l yX0_addCow cX0_addCow 6 (some FieldType.int) [(0, 12, 15, 13), (0, 12, 19, 15)] Γ 8 134 1 6 [.ref b, .int p, .int d, .int days, .ref ou] [[(b, .inr (0, [.ref h.e0, .ref tt, .ref sv, .int zs, .ref da, .ref tx, .ref wr, .int fl, .int rf]))], [(ou, .inl (Γ.2.1 3, 1, .inr (.inl ov)))]] [] sz (Qi Γ (fun r_ u_ => r_ = 1 ∧ u_ = [[(b, .inr (0, [.ref h.e0, .ref tt, .ref sv, .int zs, .ref da, .ref tx, .ref wr, .int fl, .int rf]))], [(ou, .inl (Γ.2.1 3, 1, .inr (.inl ov)))]])) := by
  refine K_introH (by decide) (Nat.le_of_ble_eq_true rfl) ?_
  intro pr_ ev_ s mi_ below meth cd_ A ls hx hb hr hml hown hts hlocks hname hK hE hRo hP hD hA hS hsz hl htb9
  have hl : lv_has ls 6 [(0, .ref b), (1, .int p), (2, .int d), (3, .int days), (4, .ref ou)] := hl
  have hown : s.vm.findClass RX0 = some mi_.cls := hown
  refine lv_aload hx hb dX0_addCow_0 (lv_at hl 4 rfl) ?_
  refine lv_iconst (v := 0) hx hb dX0_addCow_2 (by decide) ?_
  refine lv_aload_n hx hb dX0_addCow_3 rfl (lv_at hl 0 rfl) ?_
  refine lv_iload_n hx hb dX0_addCow_4 rfl (lv_at hl 1 rfl) ?_
  refine lv_iload_n hx hb dX0_addCow_5 rfl (lv_at hl 2 rfl) ?_
  refine lv_iload_n hx hb dX0_addCow_6 rfl (lv_at hl 3 rfl) ?_
  refine b_callx (br := [[(ou, .inl (Γ.2.1 3, 1, .inr (.inl ov)))]]) (b_runVx ⟨hx, hb, hml, hown, hts⟩ (mt_DB_addCow_x1 l Γ _ b h tt sv zs da tx wr fl rf p d days hnt hx9) (lw_V q802 q803 q804 q62 q805) rfl rfl 3 (by decide +kernel) ⟨(Nat.le_of_ble_eq_true rfl), (Nat.le_of_ble_eq_true rfl)⟩ (c_pre hP hD hS hA hK hE [0] rfl rfl ro_nil) (recv_at (q := (RX1, TX1, 9)) hK (b_at (k := 0) hP rfl) rfl) rfl hl.1 rfl (Nat.le_of_ble_eq_true rfl) dX0_addCow_7 ⟨(Nat.le_of_ble_eq_true rfl), (Nat.le_of_ble_eq_true rfl)⟩) hP hD hS hA [0] [1] rfl rfl rfl (fun q_1 ce_1 u_1 H locs hw_1 hP hD hS _ hce_1 hcv_1 hcl_1 => ?_)
  obtain rfl := hw_1
  have hP : WP Γ [[(b, .inr (0, [.ref h.e0, .ref tt, .ref sv, .int zs, .ref da, .ref tx, .ref wr, .int fl, .int rf]))], [(ou, .inl (Γ.2.1 3, 1, .inr (.inl ov)))]] H := hP
  have hD : WD A [[(b, .inr (0, [.ref h.e0, .ref tt, .ref sv, .int zs, .ref da, .ref tx, .ref wr, .int fl, .int rf]))], [(ou, .inl (Γ.2.1 3, 1, .inr (.inl ov)))]] := hD
  refine vx_catch (name := "java/lang/IllegalArgumentException") hown [] ⟨0, 12, 15, 13⟩ [⟨0, 12, 19, 15⟩] (htb9.trans rfl) (fun z hz => nomatch hz) (by decide) (by decide) (hts _ q800) (va_Nw.use rfl (hE.1.1 _ q568 rfl)) hce_1 hcv_1 hcl_1 ?_
  refine W.eq (g2 := F0 mi_ 15 ls ([.ref q_1])) rfl ?_
  refine lv_astore (lv' := [(5, .ref q_1), (0, .ref b), (1, .int p), (2, .int d), (3, .int days), (4, .ref ou)]) hx hb dX0_addCow_15 hl (by decide) rfl (fun ls hl => ?_)
  refine lv_iconst (v := 1) hx hb dX0_addCow_17 (by decide) ?_
  exact b_iret hx hb hr hlocks hP hD hS (Nat.le_of_ble_eq_true rfl) (Nat.le_of_ble_eq_true rfl) ⟨(by first | rfl | (simp; done)), (by first | rfl | (simp; done))⟩ dX0_addCow_18
set_option maxHeartbeats 4000000 in
set_option maxRecDepth 100000 in
theorem mt_Law_addCow_x2 (l : Launch) (Γ : GE) (sz : Nat) (b : Nat) (h : HB) (tt : Nat) (sv : Nat) (zs : Int32) (da : Nat) (tx : Nat) (wr : Nat) (fl : Int32) (rf : Int32) (P : va_W) (p : Int32) (d : Int32) (days : Int32) (ou : Nat) (ov : Nat → Int64) (hnt : l.stackTraces = false) (ho : hdOk Γ P h) (hp9 : ¬ inC p 8 40 = 0) (hd9 : ¬ inC d 0 9 = 0) (he9 : ¬ inC days (-1) 99 = 0) (hn8x : h.n = 8) : KMH l yX0_addCow cX0_addCow 6 (some FieldType.int) [(0, 12, 15, 13), (0, 12, 19, 15)] Γ 8 134 1 6 [.ref b, .int p, .int d, .int days, .ref ou] [[(b, .inr (0, [.ref h.e0, .ref tt, .ref sv, .int zs, .ref da, .ref tx, .ref wr, .int fl, .int rf]))], (hdB Γ h), [(ou, .inl (Γ.2.1 3, 1, .inr (.inl ov)))]] [P] sz (Qi Γ (fun r_ u_ => r_ = 2 ∧ u_ = [[(b, .inr (0, [.ref h.e0, .ref tt, .ref sv, .int zs, .ref da, .ref tx, .ref wr, .int fl, .int rf]))], (hdB Γ h), [(ou, .inl (Γ.2.1 3, 1, .inr (.inl ov)))]])) := by
  refine K_introH (by decide) (Nat.le_of_ble_eq_true rfl) ?_
  intro pr_ ev_ s mi_ below meth cd_ A ls hx hb hr hml hown hts hlocks hname hK hE hRo hP hD hA hS hsz hl htb9
  have hl : lv_has ls 6 [(0, .ref b), (1, .int p), (2, .int d), (3, .int days), (4, .ref ou)] := hl
  have hown : s.vm.findClass RX0 = some mi_.cls := hown
  refine lv_aload hx hb dX0_addCow_0 (lv_at hl 4 rfl) ?_
  refine lv_iconst (v := 0) hx hb dX0_addCow_2 (by decide) ?_
  refine lv_aload_n hx hb dX0_addCow_3 rfl (lv_at hl 0 rfl) ?_
  refine lv_iload_n hx hb dX0_addCow_4 rfl (lv_at hl 1 rfl) ?_
  refine lv_iload_n hx hb dX0_addCow_5 rfl (lv_at hl 2 rfl) ?_
  refine lv_iload_n hx hb dX0_addCow_6 rfl (lv_at hl 3 rfl) ?_
  refine b_callx (br := [[(ou, .inl (Γ.2.1 3, 1, .inr (.inl ov)))]]) (b_runVx ⟨hx, hb, hml, hown, hts⟩ (mt_DB_addCow_x2 l Γ _ b h tt sv zs da tx wr fl rf P p d days hnt ho hp9 hd9 he9 hn8x) (lw_V q802 q803 q804 q62 q805) rfl rfl 3 (by decide +kernel) ⟨(Nat.le_of_ble_eq_true rfl), (Nat.le_of_ble_eq_true rfl)⟩ (c_pre hP hD hS hA hK hE [0, 1] rfl rfl (ro_pass (ro_sel (ro2 := [P]) hRo [0] rfl) hD hS hA [0, 1] rfl)) (recv_at (q := (RX1, TX1, 9)) hK (b_at (k := 0) hP rfl) rfl) rfl hl.1 rfl (Nat.le_of_ble_eq_true rfl) dX0_addCow_7 ⟨(Nat.le_of_ble_eq_true rfl), (Nat.le_of_ble_eq_true rfl)⟩) hP hD hS hA [0, 1] [2] rfl rfl rfl (fun q_1 ce_1 u_1 H locs hw_1 hP hD hS _ hce_1 hcv_1 hcl_1 => ?_)
  obtain rfl := hw_1
  have hP : WP Γ [[(b, .inr (0, [.ref h.e0, .ref tt, .ref sv, .int zs, .ref da, .ref tx, .ref wr, .int fl, .int rf]))], (hdB Γ h), [(ou, .inl (Γ.2.1 3, 1, .inr (.inl ov)))]] H := hP
  have hD : WD A [[(b, .inr (0, [.ref h.e0, .ref tt, .ref sv, .int zs, .ref da, .ref tx, .ref wr, .int fl, .int rf]))], (hdB Γ h), [(ou, .inl (Γ.2.1 3, 1, .inr (.inl ov)))]] := hD
  refine vx_catch (name := "java/lang/IllegalStateException") hown [⟨0, 12, 15, 13⟩] ⟨0, 12, 19, 15⟩ [] (htb9.trans rfl) (fun z hz => by rw [List.mem_singleton.mp hz]; exact Or.inr ⟨by decide, "java/lang/IllegalArgumentException", hts _ q800, hE.1.2.2.2 _ (List.mem_of_getElem? (i := 0) rfl)⟩) (by decide) (by decide) (hts _ q801) (va_Nw.use rfl (hE.1.1 _ q826 rfl)) hce_1 hcv_1 hcl_1 ?_
  refine W.eq (g2 := F0 mi_ 19 ls ([.ref q_1])) rfl ?_
  refine lv_astore (lv' := [(5, .ref q_1), (0, .ref b), (1, .int p), (2, .int d), (3, .int days), (4, .ref ou)]) hx hb dX0_addCow_19 hl (by decide) rfl (fun ls hl => ?_)
  refine lv_iconst (v := 2) hx hb dX0_addCow_21 (by decide) ?_
  exact b_iret hx hb hr hlocks hP hD hS (Nat.le_of_ble_eq_true rfl) (Nat.le_of_ble_eq_true rfl) ⟨(by first | rfl | (simp; done)), (by first | rfl | (simp; done))⟩ dX0_addCow_22
set_option maxHeartbeats 4000000 in
set_option maxRecDepth 100000 in
theorem mt_Law_set_ok (l : Launch) (Γ : GE) (sz : Nat) (b : Nat) (h : HB) (tt : Nat) (sv : Nat) (zs : Int32) (da : Nat) (tx : Nat) (wr : Nat) (fl : Int32) (rf : Int32) (dv : Nat) (df : Nat → Option Nat) (dp : Nat) (kn : Nat) (hk : Nat → HB) (P : va_W) (k : Nat) (v : Int32) (ou : Nat) (ov : Nat → Int64) (hnt : l.stackTraces = false) (ho : hdOk Γ P h) (hko : ∀ k, k < kn → hdOk Γ P (hk k)) (hk8 : kn ≤ 8) (hdq : dqI df dp kn (kpA hk)) (hk9 : k < 6) (hi9 : ¬ inC (nI k) 0 5 = 0) (hv9 : ¬ inC v (loS (nI k)) (hiS (nI k)) = 0) : KMH l yX0_set cX0_set 5 (some FieldType.int) [(0, 10, 13, 21), (0, 10, 17, 13)] Γ 10 258 (2 * h.n + 30) (112 * h.n + 700) [.ref b, .int (nI k), .int v, .ref ou] [[(b, .inr (0, [.ref h.e0, .ref tt, .ref sv, .int zs, .ref da, .ref tx, .ref wr, .int fl, .int rf]))], (hdB Γ h), [(da, .inr (12, [.ref dv, .int (nI dp), .int (nI ((dp + kn) % 17))]))], [(dv, .inl (Γ.2.1 2, 17, .inr (.inr (.inr (.inr df)))))], (kpB Γ kn hk), [(ou, .inl (Γ.2.1 3, 1, .inr (.inl ov)))]] [P] sz (Qi Γ (fun r_ u_ => ∃ g : HB, ∃ f2 : Nat → Option Nat, hvEq g h ∧ hdOk Γ P g ∧ dqI f2 (kpP9 kn dp) (kpN kn) (kpA (kpH kn hk g)) ∧ r_ = 0 ∧ u_ = [[(b, .inr (0, [.ref h.e0, .ref tt, .ref sv, .int zs, .ref da, .ref tx, .ref wr, .int fl, .int rf]))], (hdB Γ (HB.setSe h (va_up h.se k v))), [(da, .inr (12, [.ref dv, .int (nI (kpP9 kn dp)), .int (nI (((kpP9 kn dp) + (kpN kn)) % 17))]))], [(dv, .inl (Γ.2.1 2, 17, .inr (.inr (.inr (.inr f2)))))], (kpB Γ (kpN kn) (kpH kn hk g)), [(ou, .inl (Γ.2.1 3, 1, .inr (.inl (vp_updL ov 0 (h.se k).toInt64))))]])) := by
  refine K_introH (by decide) (Nat.le_of_ble_eq_true rfl) ?_
  intro pr_ ev_ s mi_ below meth cd_ A ls hx hb hr hml hown hts hlocks hname hK hE hRo hP hD hA hS hsz hl htb9
  have hl : lv_has ls 5 [(0, .ref b), (1, .int (nI k)), (2, .int v), (3, .ref ou)] := hl
  have hown : s.vm.findClass RX0 = some mi_.cls := hown
  refine lv_aload_n hx hb dX0_set_0 rfl (lv_at hl 3 rfl) ?_
  refine lv_iconst (v := 0) hx hb dX0_set_1 (by decide) ?_
  refine lv_aload_n hx hb dX0_set_2 rfl (lv_at hl 0 rfl) ?_
  refine lv_iload_n hx hb dX0_set_3 rfl (lv_at hl 1 rfl) ?_
  refine lv_iload_n hx hb dX0_set_4 rfl (lv_at hl 2 rfl) ?_
  refine b_calli (br := [[(ou, .inl (Γ.2.1 3, 1, .inr (.inl ov)))]]) (b_runV ⟨hx, hb, hml, hown, hts⟩ (mt_DB_set_ok l Γ _ b h tt sv zs da tx wr fl rf dv df dp kn hk P k v ho hko hk8 hdq hk9 hi9 hv9) (lw_V q910 q911 q912 q62 q913) rfl rfl 2 (by decide +kernel) ⟨(Nat.le_of_ble_eq_true rfl), (Nat.le_of_ble_eq_true rfl)⟩ (c_pre hP hD hS hA hK hE [0, 1, 2, 3, 4] rfl rfl (ro_pass (ro_sel (ro2 := [P]) hRo [0] rfl) hD hS hA [0, 1, 2, 3, 4] rfl)) (recv_at (q := (RX1, TX1, 9)) hK (b_at (k := 0) hP rfl) rfl) rfl hl.1 rfl (Nat.le_of_ble_eq_true rfl) dX0_set_5 ⟨(by first | omega | (dsimp only; omega)), (by first | omega | (dsimp only; omega))⟩) hP hD hS hA [0, 1, 2, 3, 4] [5] rfl rfl rfl (fun r_1 u_1 H locs hw_1 hP hD hS _ => ?_)
  obtain ⟨g_1, f2_1, hv_1, hG_1, hq_1, rfl, rfl⟩ := hw_1
  have hP : WP Γ [[(b, .inr (0, [.ref h.e0, .ref tt, .ref sv, .int zs, .ref da, .ref tx, .ref wr, .int fl, .int rf]))], (hdB Γ (HB.setSe h (va_up h.se k v))), [(da, .inr (12, [.ref dv, .int (nI (kpP9 kn dp)), .int (nI (((kpP9 kn dp) + (kpN kn)) % 17))]))], [(dv, .inl (Γ.2.1 2, 17, .inr (.inr (.inr (.inr f2_1)))))], (kpB Γ (kpN kn) (kpH kn hk g_1)), [(ou, .inl (Γ.2.1 3, 1, .inr (.inl ov)))]] H := hP
  have hD : WD A [[(b, .inr (0, [.ref h.e0, .ref tt, .ref sv, .int zs, .ref da, .ref tx, .ref wr, .int fl, .int rf]))], (hdB Γ (HB.setSe h (va_up h.se k v))), [(da, .inr (12, [.ref dv, .int (nI (kpP9 kn dp)), .int (nI (((kpP9 kn dp) + (kpN kn)) % 17))]))], [(dv, .inl (Γ.2.1 2, 17, .inr (.inr (.inr (.inr f2_1)))))], (kpB Γ (kpN kn) (kpH kn hk g_1)), [(ou, .inl (Γ.2.1 3, 1, .inr (.inl ov)))]] := hD
  refine lv_i2l hx hb dX0_set_8 rfl ?_
  refine b_last hx hb hK hP hD hS 5 rfl 0 rfl (by omega) (by omega) dX0_set_9 (fun H locs hP hD hS => ?_)
  have hP : WP Γ [[(b, .inr (0, [.ref h.e0, .ref tt, .ref sv, .int zs, .ref da, .ref tx, .ref wr, .int fl, .int rf]))], (hdB Γ (HB.setSe h (va_up h.se k v))), [(da, .inr (12, [.ref dv, .int (nI (kpP9 kn dp)), .int (nI (((kpP9 kn dp) + (kpN kn)) % 17))]))], [(dv, .inl (Γ.2.1 2, 17, .inr (.inr (.inr (.inr f2_1)))))], (kpB Γ (kpN kn) (kpH kn hk g_1)), [(ou, .inl (Γ.2.1 3, 1, .inr (.inl (vp_updL ov 0 (h.se k).toInt64))))]] H := hP
  have hD : WD A [[(b, .inr (0, [.ref h.e0, .ref tt, .ref sv, .int zs, .ref da, .ref tx, .ref wr, .int fl, .int rf]))], (hdB Γ (HB.setSe h (va_up h.se k v))), [(da, .inr (12, [.ref dv, .int (nI (kpP9 kn dp)), .int (nI (((kpP9 kn dp) + (kpN kn)) % 17))]))], [(dv, .inl (Γ.2.1 2, 17, .inr (.inr (.inr (.inr f2_1)))))], (kpB Γ (kpN kn) (kpH kn hk g_1)), [(ou, .inl (Γ.2.1 3, 1, .inr (.inl (vp_updL ov 0 (h.se k).toInt64))))]] := hD
  refine lv_goto (tgt := 21) hx hb dX0_set_10 (by decide) ?_
  refine lv_iconst (v := 0) hx hb dX0_set_21 (by decide) ?_
  exact b_iret hx hb hr hlocks hP hD hS (by first | omega | (dsimp only; omega)) (by first | omega | (dsimp only; omega)) ⟨g_1, f2_1, hv_1, hG_1, hq_1, (by first | rfl | (simp; done)), (by first | rfl | (simp; done))⟩ dX0_set_22
set_option maxHeartbeats 4000000 in
set_option maxRecDepth 100000 in
theorem mt_Law_set_x1 (l : Launch) (Γ : GE) (sz : Nat) (b : Nat) (h : HB) (tt : Nat) (sv : Nat) (zs : Int32) (da : Nat) (tx : Nat) (wr : Nat) (fl : Int32) (rf : Int32) (c : Int32) (w : Int32) (ou : Nat) (ov : Nat → Int64) (hnt : l.stackTraces = false) (hx9 : inC c 0 5 = 0) : KMH l yX0_set cX0_set 5 (some FieldType.int) [(0, 10, 13, 21), (0, 10, 17, 13)] Γ 8 133 1 6 [.ref b, .int c, .int w, .ref ou] [[(b, .inr (0, [.ref h.e0, .ref tt, .ref sv, .int zs, .ref da, .ref tx, .ref wr, .int fl, .int rf]))], [(ou, .inl (Γ.2.1 3, 1, .inr (.inl ov)))]] [] sz (Qi Γ (fun r_ u_ => r_ = 1 ∧ u_ = [[(b, .inr (0, [.ref h.e0, .ref tt, .ref sv, .int zs, .ref da, .ref tx, .ref wr, .int fl, .int rf]))], [(ou, .inl (Γ.2.1 3, 1, .inr (.inl ov)))]])) := by
  refine K_introH (by decide) (Nat.le_of_ble_eq_true rfl) ?_
  intro pr_ ev_ s mi_ below meth cd_ A ls hx hb hr hml hown hts hlocks hname hK hE hRo hP hD hA hS hsz hl htb9
  have hl : lv_has ls 5 [(0, .ref b), (1, .int c), (2, .int w), (3, .ref ou)] := hl
  have hown : s.vm.findClass RX0 = some mi_.cls := hown
  refine lv_aload_n hx hb dX0_set_0 rfl (lv_at hl 3 rfl) ?_
  refine lv_iconst (v := 0) hx hb dX0_set_1 (by decide) ?_
  refine lv_aload_n hx hb dX0_set_2 rfl (lv_at hl 0 rfl) ?_
  refine lv_iload_n hx hb dX0_set_3 rfl (lv_at hl 1 rfl) ?_
  refine lv_iload_n hx hb dX0_set_4 rfl (lv_at hl 2 rfl) ?_
  refine b_callx (br := [[(ou, .inl (Γ.2.1 3, 1, .inr (.inl ov)))]]) (b_runVx ⟨hx, hb, hml, hown, hts⟩ (mt_DB_set_x1 l Γ _ b h tt sv zs da tx wr fl rf c w hnt hx9) (lw_V q910 q911 q912 q62 q913) rfl rfl 2 (by decide +kernel) ⟨(Nat.le_of_ble_eq_true rfl), (Nat.le_of_ble_eq_true rfl)⟩ (c_pre hP hD hS hA hK hE [0] rfl rfl ro_nil) (recv_at (q := (RX1, TX1, 9)) hK (b_at (k := 0) hP rfl) rfl) rfl hl.1 rfl (Nat.le_of_ble_eq_true rfl) dX0_set_5 ⟨(Nat.le_of_ble_eq_true rfl), (Nat.le_of_ble_eq_true rfl)⟩) hP hD hS hA [0] [1] rfl rfl rfl (fun q_1 ce_1 u_1 H locs hw_1 hP hD hS _ hce_1 hcv_1 hcl_1 => ?_)
  obtain rfl := hw_1
  have hP : WP Γ [[(b, .inr (0, [.ref h.e0, .ref tt, .ref sv, .int zs, .ref da, .ref tx, .ref wr, .int fl, .int rf]))], [(ou, .inl (Γ.2.1 3, 1, .inr (.inl ov)))]] H := hP
  have hD : WD A [[(b, .inr (0, [.ref h.e0, .ref tt, .ref sv, .int zs, .ref da, .ref tx, .ref wr, .int fl, .int rf]))], [(ou, .inl (Γ.2.1 3, 1, .inr (.inl ov)))]] := hD
  refine vx_catch (name := "java/lang/IndexOutOfBoundsException") hown [] ⟨0, 10, 13, 21⟩ [⟨0, 10, 17, 13⟩] (htb9.trans rfl) (fun z hz => nomatch hz) (by decide) (by decide) (hts _ q891) (va_Nw.use rfl (hE.1.1 _ q919 rfl)) hce_1 hcv_1 hcl_1 ?_
  refine W.eq (g2 := F0 mi_ 13 ls ([.ref q_1])) rfl ?_
  refine lv_astore (lv' := [(4, .ref q_1), (0, .ref b), (1, .int c), (2, .int w), (3, .ref ou)]) hx hb dX0_set_13 hl (by decide) rfl (fun ls hl => ?_)
  refine lv_iconst (v := 1) hx hb dX0_set_15 (by decide) ?_
  exact b_iret hx hb hr hlocks hP hD hS (Nat.le_of_ble_eq_true rfl) (Nat.le_of_ble_eq_true rfl) ⟨(by first | rfl | (simp; done)), (by first | rfl | (simp; done))⟩ dX0_set_16
set_option maxHeartbeats 4000000 in
set_option maxRecDepth 100000 in
theorem mt_Law_set_x2 (l : Launch) (Γ : GE) (sz : Nat) (b : Nat) (h : HB) (tt : Nat) (sv : Nat) (zs : Int32) (da : Nat) (tx : Nat) (wr : Nat) (fl : Int32) (rf : Int32) (c : Int32) (w : Int32) (ou : Nat) (ov : Nat → Int64) (hnt : l.stackTraces = false) (hi9 : ¬ inC c 0 5 = 0) (hx9 : inC w (loS c) (hiS c) = 0) : KMH l yX0_set cX0_set 5 (some FieldType.int) [(0, 10, 13, 21), (0, 10, 17, 13)] Γ 8 133 1 6 [.ref b, .int c, .int w, .ref ou] [[(b, .inr (0, [.ref h.e0, .ref tt, .ref sv, .int zs, .ref da, .ref tx, .ref wr, .int fl, .int rf]))], [(ou, .inl (Γ.2.1 3, 1, .inr (.inl ov)))]] [] sz (Qi Γ (fun r_ u_ => r_ = 2 ∧ u_ = [[(b, .inr (0, [.ref h.e0, .ref tt, .ref sv, .int zs, .ref da, .ref tx, .ref wr, .int fl, .int rf]))], [(ou, .inl (Γ.2.1 3, 1, .inr (.inl ov)))]])) := by
  refine K_introH (by decide) (Nat.le_of_ble_eq_true rfl) ?_
  intro pr_ ev_ s mi_ below meth cd_ A ls hx hb hr hml hown hts hlocks hname hK hE hRo hP hD hA hS hsz hl htb9
  have hl : lv_has ls 5 [(0, .ref b), (1, .int c), (2, .int w), (3, .ref ou)] := hl
  have hown : s.vm.findClass RX0 = some mi_.cls := hown
  refine lv_aload_n hx hb dX0_set_0 rfl (lv_at hl 3 rfl) ?_
  refine lv_iconst (v := 0) hx hb dX0_set_1 (by decide) ?_
  refine lv_aload_n hx hb dX0_set_2 rfl (lv_at hl 0 rfl) ?_
  refine lv_iload_n hx hb dX0_set_3 rfl (lv_at hl 1 rfl) ?_
  refine lv_iload_n hx hb dX0_set_4 rfl (lv_at hl 2 rfl) ?_
  refine b_callx (br := [[(ou, .inl (Γ.2.1 3, 1, .inr (.inl ov)))]]) (b_runVx ⟨hx, hb, hml, hown, hts⟩ (mt_DB_set_x2 l Γ _ b h tt sv zs da tx wr fl rf c w hnt hi9 hx9) (lw_V q910 q911 q912 q62 q913) rfl rfl 2 (by decide +kernel) ⟨(Nat.le_of_ble_eq_true rfl), (Nat.le_of_ble_eq_true rfl)⟩ (c_pre hP hD hS hA hK hE [0] rfl rfl ro_nil) (recv_at (q := (RX1, TX1, 9)) hK (b_at (k := 0) hP rfl) rfl) rfl hl.1 rfl (Nat.le_of_ble_eq_true rfl) dX0_set_5 ⟨(Nat.le_of_ble_eq_true rfl), (Nat.le_of_ble_eq_true rfl)⟩) hP hD hS hA [0] [1] rfl rfl rfl (fun q_1 ce_1 u_1 H locs hw_1 hP hD hS _ hce_1 hcv_1 hcl_1 => ?_)
  obtain rfl := hw_1
  have hP : WP Γ [[(b, .inr (0, [.ref h.e0, .ref tt, .ref sv, .int zs, .ref da, .ref tx, .ref wr, .int fl, .int rf]))], [(ou, .inl (Γ.2.1 3, 1, .inr (.inl ov)))]] H := hP
  have hD : WD A [[(b, .inr (0, [.ref h.e0, .ref tt, .ref sv, .int zs, .ref da, .ref tx, .ref wr, .int fl, .int rf]))], [(ou, .inl (Γ.2.1 3, 1, .inr (.inl ov)))]] := hD
  refine vx_catch (name := "java/lang/IllegalArgumentException") hown [⟨0, 10, 13, 21⟩] ⟨0, 10, 17, 13⟩ [] (htb9.trans rfl) (fun z hz => by rw [List.mem_singleton.mp hz]; exact Or.inr ⟨by decide, "java/lang/IndexOutOfBoundsException", hts _ q891, hE.1.2.2.2 _ (List.mem_of_getElem? (i := 1) rfl)⟩) (by decide) (by decide) (hts _ q800) (va_Nw.use rfl (hE.1.1 _ q568 rfl)) hce_1 hcv_1 hcl_1 ?_
  refine W.eq (g2 := F0 mi_ 17 ls ([.ref q_1])) rfl ?_
  refine lv_astore (lv' := [(4, .ref q_1), (0, .ref b), (1, .int c), (2, .int w), (3, .ref ou)]) hx hb dX0_set_17 hl (by decide) rfl (fun ls hl => ?_)
  refine lv_iconst (v := 2) hx hb dX0_set_19 (by decide) ?_
  exact b_iret hx hb hr hlocks hP hD hS (Nat.le_of_ble_eq_true rfl) (Nat.le_of_ble_eq_true rfl) ⟨(by first | rfl | (simp; done)), (by first | rfl | (simp; done))⟩ dX0_set_20
set_option maxHeartbeats 4000000 in
set_option maxRecDepth 100000 in
theorem mt_Law_setting_ok (l : Launch) (Γ : GE) (sz : Nat) (b : Nat) (h : HB) (tt : Nat) (sv : Nat) (zs : Int32) (da : Nat) (tx : Nat) (wr : Nat) (fl : Int32) (rf : Int32) (P : va_W) (k : Nat) (ou : Nat) (ov : Nat → Int64) (hnt : l.stackTraces = false) (ho : hdOk Γ P h) (hk9 : k < 6) (hi9 : ¬ inC (nI k) 0 5 = 0) : KMH l yX0_setting cX0_setting 4 (some FieldType.int) [(0, 9, 12, 21)] Γ 2 43 0 0 [.ref b, .int (nI k), .ref ou] [[(b, .inr (0, [.ref h.e0, .ref tt, .ref sv, .int zs, .ref da, .ref tx, .ref wr, .int fl, .int rf]))], (hdB Γ h), [(ou, .inl (Γ.2.1 3, 1, .inr (.inl ov)))]] [P] sz (Qi Γ (fun r_ u_ => r_ = 0 ∧ u_ = [[(b, .inr (0, [.ref h.e0, .ref tt, .ref sv, .int zs, .ref da, .ref tx, .ref wr, .int fl, .int rf]))], (hdB Γ h), [(ou, .inl (Γ.2.1 3, 1, .inr (.inl (vp_updL ov 0 (h.se k).toInt64))))]])) := by
  refine K_introH (by decide) (Nat.le_of_ble_eq_true rfl) ?_
  intro pr_ ev_ s mi_ below meth cd_ A ls hx hb hr hml hown hts hlocks hname hK hE hRo hP hD hA hS hsz hl htb9
  have hl : lv_has ls 4 [(0, .ref b), (1, .int (nI k)), (2, .ref ou)] := hl
  have hown : s.vm.findClass RX0 = some mi_.cls := hown
  refine lv_aload_n hx hb dX0_setting_0 rfl (lv_at hl 2 rfl) ?_
  refine lv_iconst (v := 0) hx hb dX0_setting_1 (by decide) ?_
  refine lv_aload_n hx hb dX0_setting_2 rfl (lv_at hl 0 rfl) ?_
  refine lv_iload_n hx hb dX0_setting_3 rfl (lv_at hl 1 rfl) ?_
  refine b_calli (br := [[(ou, .inl (Γ.2.1 3, 1, .inr (.inl ov)))]]) (b_runV ⟨hx, hb, hml, hown, hts⟩ (mt_DB_setting_ok l Γ _ b h tt sv zs da tx wr fl rf P k ho hk9 hi9) (lw_V q941 q942 q943 q62 q944) rfl rfl 1 (by decide +kernel) ⟨(Nat.le_of_ble_eq_true rfl), (Nat.le_of_ble_eq_true rfl)⟩ (c_pre hP hD hS hA hK hE [0, 1] rfl rfl (ro_pass (ro_sel (ro2 := [P]) hRo [0] rfl) hD hS hA [0, 1] rfl)) (recv_at (q := (RX1, TX1, 9)) hK (b_at (k := 0) hP rfl) rfl) rfl hl.1 rfl (Nat.le_of_ble_eq_true rfl) dX0_setting_4 ⟨(Nat.le_of_ble_eq_true rfl), (Nat.le_of_ble_eq_true rfl)⟩) hP hD hS hA [0, 1] [2] rfl rfl rfl (fun r_1 u_1 H locs hw_1 hP hD hS _ => ?_)
  obtain ⟨rfl, rfl⟩ := hw_1
  have hP : WP Γ [[(b, .inr (0, [.ref h.e0, .ref tt, .ref sv, .int zs, .ref da, .ref tx, .ref wr, .int fl, .int rf]))], (hdB Γ h), [(ou, .inl (Γ.2.1 3, 1, .inr (.inl ov)))]] H := hP
  have hD : WD A [[(b, .inr (0, [.ref h.e0, .ref tt, .ref sv, .int zs, .ref da, .ref tx, .ref wr, .int fl, .int rf]))], (hdB Γ h), [(ou, .inl (Γ.2.1 3, 1, .inr (.inl ov)))]] := hD
  refine lv_i2l hx hb dX0_setting_7 rfl ?_
  refine b_last hx hb hK hP hD hS 2 rfl 0 rfl (by omega) (by omega) dX0_setting_8 (fun H locs hP hD hS => ?_)
  have hP : WP Γ [[(b, .inr (0, [.ref h.e0, .ref tt, .ref sv, .int zs, .ref da, .ref tx, .ref wr, .int fl, .int rf]))], (hdB Γ h), [(ou, .inl (Γ.2.1 3, 1, .inr (.inl (vp_updL ov 0 (h.se k).toInt64))))]] H := hP
  have hD : WD A [[(b, .inr (0, [.ref h.e0, .ref tt, .ref sv, .int zs, .ref da, .ref tx, .ref wr, .int fl, .int rf]))], (hdB Γ h), [(ou, .inl (Γ.2.1 3, 1, .inr (.inl (vp_updL ov 0 (h.se k).toInt64))))]] := hD
  refine lv_goto (tgt := 15) hx hb dX0_setting_9 (by decide) ?_
  refine lv_iconst (v := 0) hx hb dX0_setting_15 (by decide) ?_
  exact b_iret hx hb hr hlocks hP hD hS (Nat.le_of_ble_eq_true rfl) (Nat.le_of_ble_eq_true rfl) ⟨(by first | rfl | (simp; done)), (by first | rfl | (simp; done))⟩ dX0_setting_16
set_option maxHeartbeats 4000000 in
set_option maxRecDepth 100000 in
theorem mt_Law_setting_x (l : Launch) (Γ : GE) (sz : Nat) (b : Nat) (h : HB) (tt : Nat) (sv : Nat) (zs : Int32) (da : Nat) (tx : Nat) (wr : Nat) (fl : Int32) (rf : Int32) (c : Int32) (ou : Nat) (ov : Nat → Int64) (hnt : l.stackTraces = false) (hx9 : inC c 0 5 = 0) : KMH l yX0_setting cX0_setting 4 (some FieldType.int) [(0, 9, 12, 21)] Γ 8 131 1 6 [.ref b, .int c, .ref ou] [[(b, .inr (0, [.ref h.e0, .ref tt, .ref sv, .int zs, .ref da, .ref tx, .ref wr, .int fl, .int rf]))], [(ou, .inl (Γ.2.1 3, 1, .inr (.inl ov)))]] [] sz (Qi Γ (fun r_ u_ => r_ = 1 ∧ u_ = [[(b, .inr (0, [.ref h.e0, .ref tt, .ref sv, .int zs, .ref da, .ref tx, .ref wr, .int fl, .int rf]))], [(ou, .inl (Γ.2.1 3, 1, .inr (.inl ov)))]])) := by
  refine K_introH (by decide) (Nat.le_of_ble_eq_true rfl) ?_
  intro pr_ ev_ s mi_ below meth cd_ A ls hx hb hr hml hown hts hlocks hname hK hE hRo hP hD hA hS hsz hl htb9
  have hl : lv_has ls 4 [(0, .ref b), (1, .int c), (2, .ref ou)] := hl
  have hown : s.vm.findClass RX0 = some mi_.cls := hown
  refine lv_aload_n hx hb dX0_setting_0 rfl (lv_at hl 2 rfl) ?_
  refine lv_iconst (v := 0) hx hb dX0_setting_1 (by decide) ?_
  refine lv_aload_n hx hb dX0_setting_2 rfl (lv_at hl 0 rfl) ?_
  refine lv_iload_n hx hb dX0_setting_3 rfl (lv_at hl 1 rfl) ?_
  refine b_callx (br := [[(ou, .inl (Γ.2.1 3, 1, .inr (.inl ov)))]]) (b_runVx ⟨hx, hb, hml, hown, hts⟩ (mt_DB_setting_x l Γ _ b h tt sv zs da tx wr fl rf c hnt hx9) (lw_V q941 q942 q943 q62 q944) rfl rfl 1 (by decide +kernel) ⟨(Nat.le_of_ble_eq_true rfl), (Nat.le_of_ble_eq_true rfl)⟩ (c_pre hP hD hS hA hK hE [0] rfl rfl ro_nil) (recv_at (q := (RX1, TX1, 9)) hK (b_at (k := 0) hP rfl) rfl) rfl hl.1 rfl (Nat.le_of_ble_eq_true rfl) dX0_setting_4 ⟨(Nat.le_of_ble_eq_true rfl), (Nat.le_of_ble_eq_true rfl)⟩) hP hD hS hA [0] [1] rfl rfl rfl (fun q_1 ce_1 u_1 H locs hw_1 hP hD hS _ hce_1 hcv_1 hcl_1 => ?_)
  obtain rfl := hw_1
  have hP : WP Γ [[(b, .inr (0, [.ref h.e0, .ref tt, .ref sv, .int zs, .ref da, .ref tx, .ref wr, .int fl, .int rf]))], [(ou, .inl (Γ.2.1 3, 1, .inr (.inl ov)))]] H := hP
  have hD : WD A [[(b, .inr (0, [.ref h.e0, .ref tt, .ref sv, .int zs, .ref da, .ref tx, .ref wr, .int fl, .int rf]))], [(ou, .inl (Γ.2.1 3, 1, .inr (.inl ov)))]] := hD
  refine vx_catch (name := "java/lang/IndexOutOfBoundsException") hown [] ⟨0, 9, 12, 21⟩ [] (htb9.trans rfl) (fun z hz => nomatch hz) (by decide) (by decide) (hts _ q891) (va_Nw.use rfl (hE.1.1 _ q919 rfl)) hce_1 hcv_1 hcl_1 ?_
  refine W.eq (g2 := F0 mi_ 12 ls ([.ref q_1])) rfl ?_
  refine lv_astore_n (lv' := [(3, .ref q_1), (0, .ref b), (1, .int c), (2, .ref ou)]) hx hb dX0_setting_12 rfl hl (by decide) rfl (fun ls hl => ?_)
  refine lv_iconst (v := 1) hx hb dX0_setting_13 (by decide) ?_
  exact b_iret hx hb hr hlocks hP hD hS (Nat.le_of_ble_eq_true rfl) (Nat.le_of_ble_eq_true rfl) ⟨(by first | rfl | (simp; done)), (by first | rfl | (simp; done))⟩ dX0_setting_14
set_option maxHeartbeats 4000000 in
set_option maxRecDepth 100000 in
theorem mt_Law_hold_ok (l : Launch) (Γ : GE) (sz : Nat) (b : Nat) (h : HB) (tt : Nat) (sv : Nat) (zs : Int32) (da : Nat) (tx : Nat) (wr : Nat) (fl : Int32) (rf : Int32) (dv : Nat) (df : Nat → Option Nat) (dp : Nat) (kn : Nat) (hk : Nat → HB) (P : va_W) (k : Nat) (v : Int32) (ou : Nat) (ov : Nat → Int64) (hnt : l.stackTraces = false) (ho : hdOk Γ P h) (hko : ∀ k, k < kn → hdOk Γ P (hk k)) (hk8 : kn ≤ 8) (hdq : dqI df dp kn (kpA hk)) (hk9 : k < h.n) (hR : rfHold h.n h.S.cv (nI k) v = 0) : KMH l yX0_hold cX0_hold 5 (some FieldType.int) [(0, 10, 13, 30)] Γ 10 257 (2 * h.n + 30) (112 * h.n + 700) [.ref b, .int (nI k), .int v, .ref ou] [[(b, .inr (0, [.ref h.e0, .ref tt, .ref sv, .int zs, .ref da, .ref tx, .ref wr, .int fl, .int rf]))], (hdB Γ h), [(da, .inr (12, [.ref dv, .int (nI dp), .int (nI ((dp + kn) % 17))]))], [(dv, .inl (Γ.2.1 2, 17, .inr (.inr (.inr (.inr df)))))], (kpB Γ kn hk), [(ou, .inl (Γ.2.1 3, 1, .inr (.inl ov)))]] [P] sz (Qi Γ (fun r_ u_ => ∃ g : HB, ∃ f2 : Nat → Option Nat, hvEq g h ∧ hdOk Γ P g ∧ dqI f2 (kpP9 kn dp) (kpN kn) (kpA (kpH kn hk g)) ∧ r_ = 0 ∧ u_ = [[(b, .inr (0, [.ref h.e0, .ref tt, .ref sv, .int zs, .ref da, .ref tx, .ref wr, .int fl, .int rf]))], (hdB Γ (HB.setS h (HS.setCv h.S (va_up h.S.cv k (upd (h.S.cv k) 9 (mxI ((h.S.cv k) 9) (h.S.td + v))))))), [(da, .inr (12, [.ref dv, .int (nI (kpP9 kn dp)), .int (nI (((kpP9 kn dp) + (kpN kn)) % 17))]))], [(dv, .inl (Γ.2.1 2, 17, .inr (.inr (.inr (.inr f2)))))], (kpB Γ (kpN kn) (kpH kn hk g)), [(ou, .inl (Γ.2.1 3, 1, .inr (.inl (vp_updL ov 0 (mxI ((h.S.cv k) 9) (h.S.td + v)).toInt64))))]])) := by
  refine K_introH (by decide) (Nat.le_of_ble_eq_true rfl) ?_
  intro pr_ ev_ s mi_ below meth cd_ A ls hx hb hr hml hown hts hlocks hname hK hE hRo hP hD hA hS hsz hl htb9
  have hl : lv_has ls 5 [(0, .ref b), (1, .int (nI k)), (2, .int v), (3, .ref ou)] := hl
  have hown : s.vm.findClass RX0 = some mi_.cls := hown
  refine lv_aload_n hx hb dX0_hold_0 rfl (lv_at hl 3 rfl) ?_
  refine lv_iconst (v := 0) hx hb dX0_hold_1 (by decide) ?_
  refine lv_aload_n hx hb dX0_hold_2 rfl (lv_at hl 0 rfl) ?_
  refine lv_iload_n hx hb dX0_hold_3 rfl (lv_at hl 1 rfl) ?_
  refine lv_iload_n hx hb dX0_hold_4 rfl (lv_at hl 2 rfl) ?_
  refine b_calli (br := [[(ou, .inl (Γ.2.1 3, 1, .inr (.inl ov)))]]) (b_runV ⟨hx, hb, hml, hown, hts⟩ (mt_DB_hold_ok l Γ _ b h tt sv zs da tx wr fl rf dv df dp kn hk P k v ho hko hk8 hdq hk9 hR) (lw_V q949 q950 q951 q62 q952) rfl rfl 2 (by decide +kernel) ⟨(Nat.le_of_ble_eq_true rfl), (Nat.le_of_ble_eq_true rfl)⟩ (c_pre hP hD hS hA hK hE [0, 1, 2, 3, 4] rfl rfl (ro_pass (ro_sel (ro2 := [P]) hRo [0] rfl) hD hS hA [0, 1, 2, 3, 4] rfl)) (recv_at (q := (RX1, TX1, 9)) hK (b_at (k := 0) hP rfl) rfl) rfl hl.1 rfl (Nat.le_of_ble_eq_true rfl) dX0_hold_5 ⟨(by first | omega | (dsimp only; omega)), (by first | omega | (dsimp only; omega))⟩) hP hD hS hA [0, 1, 2, 3, 4] [5] rfl rfl rfl (fun r_1 u_1 H locs hw_1 hP hD hS _ => ?_)
  obtain ⟨g_1, f2_1, hv_1, hG_1, hq_1, rfl, rfl⟩ := hw_1
  have hP : WP Γ [[(b, .inr (0, [.ref h.e0, .ref tt, .ref sv, .int zs, .ref da, .ref tx, .ref wr, .int fl, .int rf]))], (hdB Γ (HB.setS h (HS.setCv h.S (va_up h.S.cv k (upd (h.S.cv k) 9 (mxI ((h.S.cv k) 9) (h.S.td + v))))))), [(da, .inr (12, [.ref dv, .int (nI (kpP9 kn dp)), .int (nI (((kpP9 kn dp) + (kpN kn)) % 17))]))], [(dv, .inl (Γ.2.1 2, 17, .inr (.inr (.inr (.inr f2_1)))))], (kpB Γ (kpN kn) (kpH kn hk g_1)), [(ou, .inl (Γ.2.1 3, 1, .inr (.inl ov)))]] H := hP
  have hD : WD A [[(b, .inr (0, [.ref h.e0, .ref tt, .ref sv, .int zs, .ref da, .ref tx, .ref wr, .int fl, .int rf]))], (hdB Γ (HB.setS h (HS.setCv h.S (va_up h.S.cv k (upd (h.S.cv k) 9 (mxI ((h.S.cv k) 9) (h.S.td + v))))))), [(da, .inr (12, [.ref dv, .int (nI (kpP9 kn dp)), .int (nI (((kpP9 kn dp) + (kpN kn)) % 17))]))], [(dv, .inl (Γ.2.1 2, 17, .inr (.inr (.inr (.inr f2_1)))))], (kpB Γ (kpN kn) (kpH kn hk g_1)), [(ou, .inl (Γ.2.1 3, 1, .inr (.inl ov)))]] := hD
  refine lv_i2l hx hb dX0_hold_8 rfl ?_
  refine b_last hx hb hK hP hD hS 5 rfl 0 rfl (by omega) (by omega) dX0_hold_9 (fun H locs hP hD hS => ?_)
  have hP : WP Γ [[(b, .inr (0, [.ref h.e0, .ref tt, .ref sv, .int zs, .ref da, .ref tx, .ref wr, .int fl, .int rf]))], (hdB Γ (HB.setS h (HS.setCv h.S (va_up h.S.cv k (upd (h.S.cv k) 9 (mxI ((h.S.cv k) 9) (h.S.td + v))))))), [(da, .inr (12, [.ref dv, .int (nI (kpP9 kn dp)), .int (nI (((kpP9 kn dp) + (kpN kn)) % 17))]))], [(dv, .inl (Γ.2.1 2, 17, .inr (.inr (.inr (.inr f2_1)))))], (kpB Γ (kpN kn) (kpH kn hk g_1)), [(ou, .inl (Γ.2.1 3, 1, .inr (.inl (vp_updL ov 0 (mxI ((h.S.cv k) 9) (h.S.td + v)).toInt64))))]] H := hP
  have hD : WD A [[(b, .inr (0, [.ref h.e0, .ref tt, .ref sv, .int zs, .ref da, .ref tx, .ref wr, .int fl, .int rf]))], (hdB Γ (HB.setS h (HS.setCv h.S (va_up h.S.cv k (upd (h.S.cv k) 9 (mxI ((h.S.cv k) 9) (h.S.td + v))))))), [(da, .inr (12, [.ref dv, .int (nI (kpP9 kn dp)), .int (nI (((kpP9 kn dp) + (kpN kn)) % 17))]))], [(dv, .inl (Γ.2.1 2, 17, .inr (.inr (.inr (.inr f2_1)))))], (kpB Γ (kpN kn) (kpH kn hk g_1)), [(ou, .inl (Γ.2.1 3, 1, .inr (.inl (vp_updL ov 0 (mxI ((h.S.cv k) 9) (h.S.td + v)).toInt64))))]] := hD
  refine lv_goto (tgt := 17) hx hb dX0_hold_10 (by decide) ?_
  refine lv_iconst (v := 0) hx hb dX0_hold_17 (by decide) ?_
  exact b_iret hx hb hr hlocks hP hD hS (by first | omega | (dsimp only; omega)) (by first | omega | (dsimp only; omega)) ⟨g_1, f2_1, hv_1, hG_1, hq_1, (by first | rfl | (simp; done)), (by first | rfl | (simp; done))⟩ dX0_hold_18
set_option maxHeartbeats 4000000 in
set_option maxRecDepth 100000 in
theorem mt_Law_hold_x (l : Launch) (Γ : GE) (sz : Nat) (b : Nat) (h : HB) (tt : Nat) (sv : Nat) (zs : Int32) (da : Nat) (tx : Nat) (wr : Nat) (fl : Int32) (rf : Int32) (P : va_W) (c : Int32) (v : Int32) (ou : Nat) (ov : Nat → Int64) (hnt : l.stackTraces = false) (ho : hdOk Γ P h) (hR : 0 < rfHold h.n h.S.cv c v) : KMH l yX0_hold cX0_hold 5 (some FieldType.int) [(0, 10, 13, 30)] Γ 8 133 1 6 [.ref b, .int c, .int v, .ref ou] [[(b, .inr (0, [.ref h.e0, .ref tt, .ref sv, .int zs, .ref da, .ref tx, .ref wr, .int fl, .int rf]))], (hdB Γ h), [(ou, .inl (Γ.2.1 3, 1, .inr (.inl ov)))]] [P] sz (Qi Γ (fun r_ u_ => r_ = 1 ∧ u_ = [[(b, .inr (0, [.ref h.e0, .ref tt, .ref sv, .int zs, .ref da, .ref tx, .ref wr, .int fl, .int (rfHold h.n h.S.cv c v)]))], (hdB Γ h), [(ou, .inl (Γ.2.1 3, 1, .inr (.inl ov)))]])) := by
  refine K_introH (by decide) (Nat.le_of_ble_eq_true rfl) ?_
  intro pr_ ev_ s mi_ below meth cd_ A ls hx hb hr hml hown hts hlocks hname hK hE hRo hP hD hA hS hsz hl htb9
  have hl : lv_has ls 5 [(0, .ref b), (1, .int c), (2, .int v), (3, .ref ou)] := hl
  have hown : s.vm.findClass RX0 = some mi_.cls := hown
  refine lv_aload_n hx hb dX0_hold_0 rfl (lv_at hl 3 rfl) ?_
  refine lv_iconst (v := 0) hx hb dX0_hold_1 (by decide) ?_
  refine lv_aload_n hx hb dX0_hold_2 rfl (lv_at hl 0 rfl) ?_
  refine lv_iload_n hx hb dX0_hold_3 rfl (lv_at hl 1 rfl) ?_
  refine lv_iload_n hx hb dX0_hold_4 rfl (lv_at hl 2 rfl) ?_
  refine b_callx (br := [[(ou, .inl (Γ.2.1 3, 1, .inr (.inl ov)))]]) (b_runVx ⟨hx, hb, hml, hown, hts⟩ (mt_DB_hold_x l Γ _ b h tt sv zs da tx wr fl rf P c v hnt ho hR) (lw_V q949 q950 q951 q62 q952) rfl rfl 2 (by decide +kernel) ⟨(Nat.le_of_ble_eq_true rfl), (Nat.le_of_ble_eq_true rfl)⟩ (c_pre hP hD hS hA hK hE [0, 1] rfl rfl (ro_pass (ro_sel (ro2 := [P]) hRo [0] rfl) hD hS hA [0, 1] rfl)) (recv_at (q := (RX1, TX1, 9)) hK (b_at (k := 0) hP rfl) rfl) rfl hl.1 rfl (Nat.le_of_ble_eq_true rfl) dX0_hold_5 ⟨(Nat.le_of_ble_eq_true rfl), (Nat.le_of_ble_eq_true rfl)⟩) hP hD hS hA [0, 1] [2] rfl rfl rfl (fun q_1 ce_1 u_1 H locs hw_1 hP hD hS _ hce_1 hcv_1 hcl_1 => ?_)
  obtain rfl := hw_1
  have hP : WP Γ [[(b, .inr (0, [.ref h.e0, .ref tt, .ref sv, .int zs, .ref da, .ref tx, .ref wr, .int fl, .int (rfHold h.n h.S.cv c v)]))], (hdB Γ h), [(ou, .inl (Γ.2.1 3, 1, .inr (.inl ov)))]] H := hP
  have hD : WD A [[(b, .inr (0, [.ref h.e0, .ref tt, .ref sv, .int zs, .ref da, .ref tx, .ref wr, .int fl, .int (rfHold h.n h.S.cv c v)]))], (hdB Γ h), [(ou, .inl (Γ.2.1 3, 1, .inr (.inl ov)))]] := hD
  refine vx_catch (name := "java/lang/UnsupportedOperationException") hown [] ⟨0, 10, 13, 30⟩ [] (htb9.trans rfl) (fun z hz => nomatch hz) (by decide) (by decide) (hts _ q948) (va_Nw.use rfl (hE.1.1 _ q983 rfl)) hce_1 hcv_1 hcl_1 ?_
  refine W.eq (g2 := F0 mi_ 13 ls ([.ref q_1])) rfl ?_
  refine lv_astore (lv' := [(4, .ref q_1), (0, .ref b), (1, .int c), (2, .int v), (3, .ref ou)]) hx hb dX0_hold_13 hl (by decide) rfl (fun ls hl => ?_)
  refine lv_iconst (v := 1) hx hb dX0_hold_15 (by decide) ?_
  exact b_iret hx hb hr hlocks hP hD hS (Nat.le_of_ble_eq_true rfl) (Nat.le_of_ble_eq_true rfl) ⟨(by first | rfl | (simp; done)), (by first | rfl | (simp; done))⟩ dX0_hold_16
set_option maxHeartbeats 4000000 in
set_option maxRecDepth 100000 in
theorem mt_Law_setCells_ok (l : Launch) (Γ : GE) (sz : Nat) (b : Nat) (h : HB) (tt : Nat) (sv : Nat) (zs : Int32) (da : Nat) (tx : Nat) (wr : Nat) (fl : Int32) (rf : Int32) (dv : Nat) (df : Nat → Option Nat) (dp : Nat) (kn : Nat) (hk : Nat → HB) (P : va_W) (k : Nat) (v : Int32) (ou : Nat) (ov : Nat → Int64) (hnt : l.stackTraces = false) (ho : hdOk Γ P h) (hko : ∀ k, k < kn → hdOk Γ P (hk k)) (hk8 : kn ≤ 8) (hdq : dqI df dp kn (kpA hk)) (hk9 : k < h.n) (hR : rfCow h.n h.S.cv (nI k) = 0) (hv9 : ¬ inC v 0 999 = 0) : KMH l yX0_setCells cX0_setCells 5 (some FieldType.int) [(0, 10, 13, 30), (0, 10, 17, 13)] Γ 10 259 (2 * h.n + 30) (112 * h.n + 700) [.ref b, .int (nI k), .int v, .ref ou] [[(b, .inr (0, [.ref h.e0, .ref tt, .ref sv, .int zs, .ref da, .ref tx, .ref wr, .int fl, .int rf]))], (hdB Γ h), [(da, .inr (12, [.ref dv, .int (nI dp), .int (nI ((dp + kn) % 17))]))], [(dv, .inl (Γ.2.1 2, 17, .inr (.inr (.inr (.inr df)))))], (kpB Γ kn hk), [(ou, .inl (Γ.2.1 3, 1, .inr (.inl ov)))]] [P] sz (Qi Γ (fun r_ u_ => ∃ g : HB, ∃ f2 : Nat → Option Nat, hvEq g h ∧ hdOk Γ P g ∧ dqI f2 (kpP9 kn dp) (kpN kn) (kpA (kpH kn hk g)) ∧ r_ = 0 ∧ u_ = [[(b, .inr (0, [.ref h.e0, .ref tt, .ref sv, .int zs, .ref da, .ref tx, .ref wr, .int fl, .int rf]))], (hdB Γ (HB.setS h (HS.setCv h.S (va_up h.S.cv k (upd (h.S.cv k) 3 v))))), [(da, .inr (12, [.ref dv, .int (nI (kpP9 kn dp)), .int (nI (((kpP9 kn dp) + (kpN kn)) % 17))]))], [(dv, .inl (Γ.2.1 2, 17, .inr (.inr (.inr (.inr f2)))))], (kpB Γ (kpN kn) (kpH kn hk g)), [(ou, .inl (Γ.2.1 3, 1, .inr (.inl (vp_updL ov 0 ((h.S.cv k) 3).toInt64))))]])) := by
  refine K_introH (by decide) (Nat.le_of_ble_eq_true rfl) ?_
  intro pr_ ev_ s mi_ below meth cd_ A ls hx hb hr hml hown hts hlocks hname hK hE hRo hP hD hA hS hsz hl htb9
  have hl : lv_has ls 5 [(0, .ref b), (1, .int (nI k)), (2, .int v), (3, .ref ou)] := hl
  have hown : s.vm.findClass RX0 = some mi_.cls := hown
  refine lv_aload_n hx hb dX0_setCells_0 rfl (lv_at hl 3 rfl) ?_
  refine lv_iconst (v := 0) hx hb dX0_setCells_1 (by decide) ?_
  refine lv_aload_n hx hb dX0_setCells_2 rfl (lv_at hl 0 rfl) ?_
  refine lv_iload_n hx hb dX0_setCells_3 rfl (lv_at hl 1 rfl) ?_
  refine lv_iload_n hx hb dX0_setCells_4 rfl (lv_at hl 2 rfl) ?_
  refine b_calli (br := [[(ou, .inl (Γ.2.1 3, 1, .inr (.inl ov)))]]) (b_runV ⟨hx, hb, hml, hown, hts⟩ (mt_DB_setCells_ok l Γ _ b h tt sv zs da tx wr fl rf dv df dp kn hk P k v ho hko hk8 hdq hk9 hR hv9) (lw_V q1004 q1005 q1006 q62 q1007) rfl rfl 2 (by decide +kernel) ⟨(Nat.le_of_ble_eq_true rfl), (Nat.le_of_ble_eq_true rfl)⟩ (c_pre hP hD hS hA hK hE [0, 1, 2, 3, 4] rfl rfl (ro_pass (ro_sel (ro2 := [P]) hRo [0] rfl) hD hS hA [0, 1, 2, 3, 4] rfl)) (recv_at (q := (RX1, TX1, 9)) hK (b_at (k := 0) hP rfl) rfl) rfl hl.1 rfl (Nat.le_of_ble_eq_true rfl) dX0_setCells_5 ⟨(by first | omega | (dsimp only; omega)), (by first | omega | (dsimp only; omega))⟩) hP hD hS hA [0, 1, 2, 3, 4] [5] rfl rfl rfl (fun r_1 u_1 H locs hw_1 hP hD hS _ => ?_)
  obtain ⟨g_1, f2_1, hv_1, hG_1, hq_1, rfl, rfl⟩ := hw_1
  have hP : WP Γ [[(b, .inr (0, [.ref h.e0, .ref tt, .ref sv, .int zs, .ref da, .ref tx, .ref wr, .int fl, .int rf]))], (hdB Γ (HB.setS h (HS.setCv h.S (va_up h.S.cv k (upd (h.S.cv k) 3 v))))), [(da, .inr (12, [.ref dv, .int (nI (kpP9 kn dp)), .int (nI (((kpP9 kn dp) + (kpN kn)) % 17))]))], [(dv, .inl (Γ.2.1 2, 17, .inr (.inr (.inr (.inr f2_1)))))], (kpB Γ (kpN kn) (kpH kn hk g_1)), [(ou, .inl (Γ.2.1 3, 1, .inr (.inl ov)))]] H := hP
  have hD : WD A [[(b, .inr (0, [.ref h.e0, .ref tt, .ref sv, .int zs, .ref da, .ref tx, .ref wr, .int fl, .int rf]))], (hdB Γ (HB.setS h (HS.setCv h.S (va_up h.S.cv k (upd (h.S.cv k) 3 v))))), [(da, .inr (12, [.ref dv, .int (nI (kpP9 kn dp)), .int (nI (((kpP9 kn dp) + (kpN kn)) % 17))]))], [(dv, .inl (Γ.2.1 2, 17, .inr (.inr (.inr (.inr f2_1)))))], (kpB Γ (kpN kn) (kpH kn hk g_1)), [(ou, .inl (Γ.2.1 3, 1, .inr (.inl ov)))]] := hD
  refine lv_i2l hx hb dX0_setCells_8 rfl ?_
  refine b_last hx hb hK hP hD hS 5 rfl 0 rfl (by omega) (by omega) dX0_setCells_9 (fun H locs hP hD hS => ?_)
  have hP : WP Γ [[(b, .inr (0, [.ref h.e0, .ref tt, .ref sv, .int zs, .ref da, .ref tx, .ref wr, .int fl, .int rf]))], (hdB Γ (HB.setS h (HS.setCv h.S (va_up h.S.cv k (upd (h.S.cv k) 3 v))))), [(da, .inr (12, [.ref dv, .int (nI (kpP9 kn dp)), .int (nI (((kpP9 kn dp) + (kpN kn)) % 17))]))], [(dv, .inl (Γ.2.1 2, 17, .inr (.inr (.inr (.inr f2_1)))))], (kpB Γ (kpN kn) (kpH kn hk g_1)), [(ou, .inl (Γ.2.1 3, 1, .inr (.inl (vp_updL ov 0 ((h.S.cv k) 3).toInt64))))]] H := hP
  have hD : WD A [[(b, .inr (0, [.ref h.e0, .ref tt, .ref sv, .int zs, .ref da, .ref tx, .ref wr, .int fl, .int rf]))], (hdB Γ (HB.setS h (HS.setCv h.S (va_up h.S.cv k (upd (h.S.cv k) 3 v))))), [(da, .inr (12, [.ref dv, .int (nI (kpP9 kn dp)), .int (nI (((kpP9 kn dp) + (kpN kn)) % 17))]))], [(dv, .inl (Γ.2.1 2, 17, .inr (.inr (.inr (.inr f2_1)))))], (kpB Γ (kpN kn) (kpH kn hk g_1)), [(ou, .inl (Γ.2.1 3, 1, .inr (.inl (vp_updL ov 0 ((h.S.cv k) 3).toInt64))))]] := hD
  refine lv_goto (tgt := 21) hx hb dX0_setCells_10 (by decide) ?_
  refine lv_iconst (v := 0) hx hb dX0_setCells_21 (by decide) ?_
  exact b_iret hx hb hr hlocks hP hD hS (by first | omega | (dsimp only; omega)) (by first | omega | (dsimp only; omega)) ⟨g_1, f2_1, hv_1, hG_1, hq_1, (by first | rfl | (simp; done)), (by first | rfl | (simp; done))⟩ dX0_setCells_22
set_option maxHeartbeats 4000000 in
set_option maxRecDepth 100000 in
theorem mt_Law_setCells_x1 (l : Launch) (Γ : GE) (sz : Nat) (b : Nat) (h : HB) (tt : Nat) (sv : Nat) (zs : Int32) (da : Nat) (tx : Nat) (wr : Nat) (fl : Int32) (rf : Int32) (P : va_W) (c : Int32) (v : Int32) (ou : Nat) (ov : Nat → Int64) (hnt : l.stackTraces = false) (ho : hdOk Γ P h) (hR : 0 < rfCow h.n h.S.cv c) : KMH l yX0_setCells cX0_setCells 5 (some FieldType.int) [(0, 10, 13, 30), (0, 10, 17, 13)] Γ 8 135 1 6 [.ref b, .int c, .int v, .ref ou] [[(b, .inr (0, [.ref h.e0, .ref tt, .ref sv, .int zs, .ref da, .ref tx, .ref wr, .int fl, .int rf]))], (hdB Γ h), [(ou, .inl (Γ.2.1 3, 1, .inr (.inl ov)))]] [P] sz (Qi Γ (fun r_ u_ => r_ = 1 ∧ u_ = [[(b, .inr (0, [.ref h.e0, .ref tt, .ref sv, .int zs, .ref da, .ref tx, .ref wr, .int fl, .int (rfCow h.n h.S.cv c)]))], (hdB Γ h), [(ou, .inl (Γ.2.1 3, 1, .inr (.inl ov)))]])) := by
  refine K_introH (by decide) (Nat.le_of_ble_eq_true rfl) ?_
  intro pr_ ev_ s mi_ below meth cd_ A ls hx hb hr hml hown hts hlocks hname hK hE hRo hP hD hA hS hsz hl htb9
  have hl : lv_has ls 5 [(0, .ref b), (1, .int c), (2, .int v), (3, .ref ou)] := hl
  have hown : s.vm.findClass RX0 = some mi_.cls := hown
  refine lv_aload_n hx hb dX0_setCells_0 rfl (lv_at hl 3 rfl) ?_
  refine lv_iconst (v := 0) hx hb dX0_setCells_1 (by decide) ?_
  refine lv_aload_n hx hb dX0_setCells_2 rfl (lv_at hl 0 rfl) ?_
  refine lv_iload_n hx hb dX0_setCells_3 rfl (lv_at hl 1 rfl) ?_
  refine lv_iload_n hx hb dX0_setCells_4 rfl (lv_at hl 2 rfl) ?_
  refine b_callx (br := [[(ou, .inl (Γ.2.1 3, 1, .inr (.inl ov)))]]) (b_runVx ⟨hx, hb, hml, hown, hts⟩ (mt_DB_setCells_x1 l Γ _ b h tt sv zs da tx wr fl rf P c v hnt ho hR) (lw_V q1004 q1005 q1006 q62 q1007) rfl rfl 2 (by decide +kernel) ⟨(Nat.le_of_ble_eq_true rfl), (Nat.le_of_ble_eq_true rfl)⟩ (c_pre hP hD hS hA hK hE [0, 1] rfl rfl (ro_pass (ro_sel (ro2 := [P]) hRo [0] rfl) hD hS hA [0, 1] rfl)) (recv_at (q := (RX1, TX1, 9)) hK (b_at (k := 0) hP rfl) rfl) rfl hl.1 rfl (Nat.le_of_ble_eq_true rfl) dX0_setCells_5 ⟨(Nat.le_of_ble_eq_true rfl), (Nat.le_of_ble_eq_true rfl)⟩) hP hD hS hA [0, 1] [2] rfl rfl rfl (fun q_1 ce_1 u_1 H locs hw_1 hP hD hS _ hce_1 hcv_1 hcl_1 => ?_)
  obtain rfl := hw_1
  have hP : WP Γ [[(b, .inr (0, [.ref h.e0, .ref tt, .ref sv, .int zs, .ref da, .ref tx, .ref wr, .int fl, .int (rfCow h.n h.S.cv c)]))], (hdB Γ h), [(ou, .inl (Γ.2.1 3, 1, .inr (.inl ov)))]] H := hP
  have hD : WD A [[(b, .inr (0, [.ref h.e0, .ref tt, .ref sv, .int zs, .ref da, .ref tx, .ref wr, .int fl, .int (rfCow h.n h.S.cv c)]))], (hdB Γ h), [(ou, .inl (Γ.2.1 3, 1, .inr (.inl ov)))]] := hD
  refine vx_catch (name := "java/lang/UnsupportedOperationException") hown [] ⟨0, 10, 13, 30⟩ [⟨0, 10, 17, 13⟩] (htb9.trans rfl) (fun z hz => nomatch hz) (by decide) (by decide) (hts _ q948) (va_Nw.use rfl (hE.1.1 _ q983 rfl)) hce_1 hcv_1 hcl_1 ?_
  refine W.eq (g2 := F0 mi_ 13 ls ([.ref q_1])) rfl ?_
  refine lv_astore (lv' := [(4, .ref q_1), (0, .ref b), (1, .int c), (2, .int v), (3, .ref ou)]) hx hb dX0_setCells_13 hl (by decide) rfl (fun ls hl => ?_)
  refine lv_iconst (v := 1) hx hb dX0_setCells_15 (by decide) ?_
  exact b_iret hx hb hr hlocks hP hD hS (Nat.le_of_ble_eq_true rfl) (Nat.le_of_ble_eq_true rfl) ⟨(by first | rfl | (simp; done)), (by first | rfl | (simp; done))⟩ dX0_setCells_16
set_option maxHeartbeats 4000000 in
set_option maxRecDepth 100000 in
theorem mt_Law_setCells_x2 (l : Launch) (Γ : GE) (sz : Nat) (b : Nat) (h : HB) (tt : Nat) (sv : Nat) (zs : Int32) (da : Nat) (tx : Nat) (wr : Nat) (fl : Int32) (rf : Int32) (P : va_W) (c : Int32) (v : Int32) (ou : Nat) (ov : Nat → Int64) (hnt : l.stackTraces = false) (ho : hdOk Γ P h) (hR : rfCow h.n h.S.cv c = 0) (hx9 : inC v 0 999 = 0) : KMH l yX0_setCells cX0_setCells 5 (some FieldType.int) [(0, 10, 13, 30), (0, 10, 17, 13)] Γ 8 134 1 6 [.ref b, .int c, .int v, .ref ou] [[(b, .inr (0, [.ref h.e0, .ref tt, .ref sv, .int zs, .ref da, .ref tx, .ref wr, .int fl, .int rf]))], (hdB Γ h), [(ou, .inl (Γ.2.1 3, 1, .inr (.inl ov)))]] [P] sz (Qi Γ (fun r_ u_ => r_ = 2 ∧ u_ = [[(b, .inr (0, [.ref h.e0, .ref tt, .ref sv, .int zs, .ref da, .ref tx, .ref wr, .int fl, .int rf]))], (hdB Γ h), [(ou, .inl (Γ.2.1 3, 1, .inr (.inl ov)))]])) := by
  refine K_introH (by decide) (Nat.le_of_ble_eq_true rfl) ?_
  intro pr_ ev_ s mi_ below meth cd_ A ls hx hb hr hml hown hts hlocks hname hK hE hRo hP hD hA hS hsz hl htb9
  have hl : lv_has ls 5 [(0, .ref b), (1, .int c), (2, .int v), (3, .ref ou)] := hl
  have hown : s.vm.findClass RX0 = some mi_.cls := hown
  refine lv_aload_n hx hb dX0_setCells_0 rfl (lv_at hl 3 rfl) ?_
  refine lv_iconst (v := 0) hx hb dX0_setCells_1 (by decide) ?_
  refine lv_aload_n hx hb dX0_setCells_2 rfl (lv_at hl 0 rfl) ?_
  refine lv_iload_n hx hb dX0_setCells_3 rfl (lv_at hl 1 rfl) ?_
  refine lv_iload_n hx hb dX0_setCells_4 rfl (lv_at hl 2 rfl) ?_
  refine b_callx (br := [[(ou, .inl (Γ.2.1 3, 1, .inr (.inl ov)))]]) (b_runVx ⟨hx, hb, hml, hown, hts⟩ (mt_DB_setCells_x2 l Γ _ b h tt sv zs da tx wr fl rf P c v hnt ho hR hx9) (lw_V q1004 q1005 q1006 q62 q1007) rfl rfl 2 (by decide +kernel) ⟨(Nat.le_of_ble_eq_true rfl), (Nat.le_of_ble_eq_true rfl)⟩ (c_pre hP hD hS hA hK hE [0, 1] rfl rfl (ro_pass (ro_sel (ro2 := [P]) hRo [0] rfl) hD hS hA [0, 1] rfl)) (recv_at (q := (RX1, TX1, 9)) hK (b_at (k := 0) hP rfl) rfl) rfl hl.1 rfl (Nat.le_of_ble_eq_true rfl) dX0_setCells_5 ⟨(Nat.le_of_ble_eq_true rfl), (Nat.le_of_ble_eq_true rfl)⟩) hP hD hS hA [0, 1] [2] rfl rfl rfl (fun q_1 ce_1 u_1 H locs hw_1 hP hD hS _ hce_1 hcv_1 hcl_1 => ?_)
  obtain rfl := hw_1
  have hP : WP Γ [[(b, .inr (0, [.ref h.e0, .ref tt, .ref sv, .int zs, .ref da, .ref tx, .ref wr, .int fl, .int rf]))], (hdB Γ h), [(ou, .inl (Γ.2.1 3, 1, .inr (.inl ov)))]] H := hP
  have hD : WD A [[(b, .inr (0, [.ref h.e0, .ref tt, .ref sv, .int zs, .ref da, .ref tx, .ref wr, .int fl, .int rf]))], (hdB Γ h), [(ou, .inl (Γ.2.1 3, 1, .inr (.inl ov)))]] := hD
  refine vx_catch (name := "java/lang/IllegalArgumentException") hown [⟨0, 10, 13, 30⟩] ⟨0, 10, 17, 13⟩ [] (htb9.trans rfl) (fun z hz => by rw [List.mem_singleton.mp hz]; exact Or.inr ⟨by decide, "java/lang/UnsupportedOperationException", hts _ q948, hE.1.2.2.2 _ (List.mem_of_getElem? (i := 2) rfl)⟩) (by decide) (by decide) (hts _ q800) (va_Nw.use rfl (hE.1.1 _ q568 rfl)) hce_1 hcv_1 hcl_1 ?_
  refine W.eq (g2 := F0 mi_ 17 ls ([.ref q_1])) rfl ?_
  refine lv_astore (lv' := [(4, .ref q_1), (0, .ref b), (1, .int c), (2, .int v), (3, .ref ou)]) hx hb dX0_setCells_17 hl (by decide) rfl (fun ls hl => ?_)
  refine lv_iconst (v := 2) hx hb dX0_setCells_19 (by decide) ?_
  exact b_iret hx hb hr hlocks hP hD hS (Nat.le_of_ble_eq_true rfl) (Nat.le_of_ble_eq_true rfl) ⟨(by first | rfl | (simp; done)), (by first | rfl | (simp; done))⟩ dX0_setCells_20
set_option maxHeartbeats 4000000 in
set_option maxRecDepth 100000 in
theorem mt_Law_serve_ok (l : Launch) (Γ : GE) (sz : Nat) (b : Nat) (h : HB) (tt : Nat) (sv : Nat) (zs : Int32) (da : Nat) (tx : Nat) (wr : Nat) (fl : Int32) (rf : Int32) (dv : Nat) (df : Nat → Option Nat) (dp : Nat) (kn : Nat) (hk : Nat → HB) (P : va_W) (k : Nat) (ou : Nat) (ov : Nat → Int64) (hnt : l.stackTraces = false) (ho : hdOk Γ P h) (hko : ∀ k, k < kn → hdOk Γ P (hk k)) (hk8 : kn ≤ 8) (hdq : dqI df dp kn (kpA hk)) (hk9 : k < h.n) (hR : rfServe h.n h.S.cv h.S.td (nI k) = 0) : KMH l yX0_serve cX0_serve 4 (some FieldType.int) [(0, 9, 12, 30)] Γ 10 256 (2 * h.n + 30) (112 * h.n + 700) [.ref b, .int (nI k), .ref ou] [[(b, .inr (0, [.ref h.e0, .ref tt, .ref sv, .int zs, .ref da, .ref tx, .ref wr, .int fl, .int rf]))], (hdB Γ h), [(da, .inr (12, [.ref dv, .int (nI dp), .int (nI ((dp + kn) % 17))]))], [(dv, .inl (Γ.2.1 2, 17, .inr (.inr (.inr (.inr df)))))], (kpB Γ kn hk), [(ou, .inl (Γ.2.1 3, 1, .inr (.inl ov)))]] [P] sz (Qi Γ (fun r_ u_ => ∃ g : HB, ∃ f2 : Nat → Option Nat, hvEq g h ∧ hdOk Γ P g ∧ dqI f2 (kpP9 kn dp) (kpN kn) (kpA (kpH kn hk g)) ∧ r_ = 0 ∧ u_ = [[(b, .inr (0, [.ref h.e0, .ref tt, .ref sv, .int zs, .ref da, .ref tx, .ref wr, .int fl, .int rf]))], (hdB Γ (HB.setS h (HS.setCv h.S (va_up h.S.cv k (upd (h.S.cv k) 8 (h.S.td + h.se 0)))))), [(da, .inr (12, [.ref dv, .int (nI (kpP9 kn dp)), .int (nI (((kpP9 kn dp) + (kpN kn)) % 17))]))], [(dv, .inl (Γ.2.1 2, 17, .inr (.inr (.inr (.inr f2)))))], (kpB Γ (kpN kn) (kpH kn hk g)), [(ou, .inl (Γ.2.1 3, 1, .inr (.inl (vp_updL ov 0 (h.S.td + h.se 0).toInt64))))]])) := by
  refine K_introH (by decide) (Nat.le_of_ble_eq_true rfl) ?_
  intro pr_ ev_ s mi_ below meth cd_ A ls hx hb hr hml hown hts hlocks hname hK hE hRo hP hD hA hS hsz hl htb9
  have hl : lv_has ls 4 [(0, .ref b), (1, .int (nI k)), (2, .ref ou)] := hl
  have hown : s.vm.findClass RX0 = some mi_.cls := hown
  refine lv_aload_n hx hb dX0_serve_0 rfl (lv_at hl 2 rfl) ?_
  refine lv_iconst (v := 0) hx hb dX0_serve_1 (by decide) ?_
  refine lv_aload_n hx hb dX0_serve_2 rfl (lv_at hl 0 rfl) ?_
  refine lv_iload_n hx hb dX0_serve_3 rfl (lv_at hl 1 rfl) ?_
  refine b_calli (br := [[(ou, .inl (Γ.2.1 3, 1, .inr (.inl ov)))]]) (b_runV ⟨hx, hb, hml, hown, hts⟩ (mt_DB_serve_ok l Γ _ b h tt sv zs da tx wr fl rf dv df dp kn hk P k ho hko hk8 hdq hk9 hR) (lw_V q1016 q1017 q1018 q62 q1019) rfl rfl 1 (by decide +kernel) ⟨(Nat.le_of_ble_eq_true rfl), (Nat.le_of_ble_eq_true rfl)⟩ (c_pre hP hD hS hA hK hE [0, 1, 2, 3, 4] rfl rfl (ro_pass (ro_sel (ro2 := [P]) hRo [0] rfl) hD hS hA [0, 1, 2, 3, 4] rfl)) (recv_at (q := (RX1, TX1, 9)) hK (b_at (k := 0) hP rfl) rfl) rfl hl.1 rfl (Nat.le_of_ble_eq_true rfl) dX0_serve_4 ⟨(by first | omega | (dsimp only; omega)), (by first | omega | (dsimp only; omega))⟩) hP hD hS hA [0, 1, 2, 3, 4] [5] rfl rfl rfl (fun r_1 u_1 H locs hw_1 hP hD hS _ => ?_)
  obtain ⟨g_1, f2_1, hv_1, hG_1, hq_1, rfl, rfl⟩ := hw_1
  have hP : WP Γ [[(b, .inr (0, [.ref h.e0, .ref tt, .ref sv, .int zs, .ref da, .ref tx, .ref wr, .int fl, .int rf]))], (hdB Γ (HB.setS h (HS.setCv h.S (va_up h.S.cv k (upd (h.S.cv k) 8 (h.S.td + h.se 0)))))), [(da, .inr (12, [.ref dv, .int (nI (kpP9 kn dp)), .int (nI (((kpP9 kn dp) + (kpN kn)) % 17))]))], [(dv, .inl (Γ.2.1 2, 17, .inr (.inr (.inr (.inr f2_1)))))], (kpB Γ (kpN kn) (kpH kn hk g_1)), [(ou, .inl (Γ.2.1 3, 1, .inr (.inl ov)))]] H := hP
  have hD : WD A [[(b, .inr (0, [.ref h.e0, .ref tt, .ref sv, .int zs, .ref da, .ref tx, .ref wr, .int fl, .int rf]))], (hdB Γ (HB.setS h (HS.setCv h.S (va_up h.S.cv k (upd (h.S.cv k) 8 (h.S.td + h.se 0)))))), [(da, .inr (12, [.ref dv, .int (nI (kpP9 kn dp)), .int (nI (((kpP9 kn dp) + (kpN kn)) % 17))]))], [(dv, .inl (Γ.2.1 2, 17, .inr (.inr (.inr (.inr f2_1)))))], (kpB Γ (kpN kn) (kpH kn hk g_1)), [(ou, .inl (Γ.2.1 3, 1, .inr (.inl ov)))]] := hD
  refine lv_i2l hx hb dX0_serve_7 rfl ?_
  refine b_last hx hb hK hP hD hS 5 rfl 0 rfl (by omega) (by omega) dX0_serve_8 (fun H locs hP hD hS => ?_)
  have hP : WP Γ [[(b, .inr (0, [.ref h.e0, .ref tt, .ref sv, .int zs, .ref da, .ref tx, .ref wr, .int fl, .int rf]))], (hdB Γ (HB.setS h (HS.setCv h.S (va_up h.S.cv k (upd (h.S.cv k) 8 (h.S.td + h.se 0)))))), [(da, .inr (12, [.ref dv, .int (nI (kpP9 kn dp)), .int (nI (((kpP9 kn dp) + (kpN kn)) % 17))]))], [(dv, .inl (Γ.2.1 2, 17, .inr (.inr (.inr (.inr f2_1)))))], (kpB Γ (kpN kn) (kpH kn hk g_1)), [(ou, .inl (Γ.2.1 3, 1, .inr (.inl (vp_updL ov 0 (h.S.td + h.se 0).toInt64))))]] H := hP
  have hD : WD A [[(b, .inr (0, [.ref h.e0, .ref tt, .ref sv, .int zs, .ref da, .ref tx, .ref wr, .int fl, .int rf]))], (hdB Γ (HB.setS h (HS.setCv h.S (va_up h.S.cv k (upd (h.S.cv k) 8 (h.S.td + h.se 0)))))), [(da, .inr (12, [.ref dv, .int (nI (kpP9 kn dp)), .int (nI (((kpP9 kn dp) + (kpN kn)) % 17))]))], [(dv, .inl (Γ.2.1 2, 17, .inr (.inr (.inr (.inr f2_1)))))], (kpB Γ (kpN kn) (kpH kn hk g_1)), [(ou, .inl (Γ.2.1 3, 1, .inr (.inl (vp_updL ov 0 (h.S.td + h.se 0).toInt64))))]] := hD
  refine lv_goto (tgt := 15) hx hb dX0_serve_9 (by decide) ?_
  refine lv_iconst (v := 0) hx hb dX0_serve_15 (by decide) ?_
  exact b_iret hx hb hr hlocks hP hD hS (by first | omega | (dsimp only; omega)) (by first | omega | (dsimp only; omega)) ⟨g_1, f2_1, hv_1, hG_1, hq_1, (by first | rfl | (simp; done)), (by first | rfl | (simp; done))⟩ dX0_serve_16
set_option maxHeartbeats 4000000 in
set_option maxRecDepth 100000 in
theorem mt_Law_serve_x (l : Launch) (Γ : GE) (sz : Nat) (b : Nat) (h : HB) (tt : Nat) (sv : Nat) (zs : Int32) (da : Nat) (tx : Nat) (wr : Nat) (fl : Int32) (rf : Int32) (P : va_W) (c : Int32) (ou : Nat) (ov : Nat → Int64) (hnt : l.stackTraces = false) (ho : hdOk Γ P h) (hR : 0 < rfServe h.n h.S.cv h.S.td c) : KMH l yX0_serve cX0_serve 4 (some FieldType.int) [(0, 9, 12, 30)] Γ 8 132 1 6 [.ref b, .int c, .ref ou] [[(b, .inr (0, [.ref h.e0, .ref tt, .ref sv, .int zs, .ref da, .ref tx, .ref wr, .int fl, .int rf]))], (hdB Γ h), [(ou, .inl (Γ.2.1 3, 1, .inr (.inl ov)))]] [P] sz (Qi Γ (fun r_ u_ => r_ = 1 ∧ u_ = [[(b, .inr (0, [.ref h.e0, .ref tt, .ref sv, .int zs, .ref da, .ref tx, .ref wr, .int fl, .int (rfServe h.n h.S.cv h.S.td c)]))], (hdB Γ h), [(ou, .inl (Γ.2.1 3, 1, .inr (.inl ov)))]])) := by
  refine K_introH (by decide) (Nat.le_of_ble_eq_true rfl) ?_
  intro pr_ ev_ s mi_ below meth cd_ A ls hx hb hr hml hown hts hlocks hname hK hE hRo hP hD hA hS hsz hl htb9
  have hl : lv_has ls 4 [(0, .ref b), (1, .int c), (2, .ref ou)] := hl
  have hown : s.vm.findClass RX0 = some mi_.cls := hown
  refine lv_aload_n hx hb dX0_serve_0 rfl (lv_at hl 2 rfl) ?_
  refine lv_iconst (v := 0) hx hb dX0_serve_1 (by decide) ?_
  refine lv_aload_n hx hb dX0_serve_2 rfl (lv_at hl 0 rfl) ?_
  refine lv_iload_n hx hb dX0_serve_3 rfl (lv_at hl 1 rfl) ?_
  refine b_callx (br := [[(ou, .inl (Γ.2.1 3, 1, .inr (.inl ov)))]]) (b_runVx ⟨hx, hb, hml, hown, hts⟩ (mt_DB_serve_x l Γ _ b h tt sv zs da tx wr fl rf P c hnt ho hR) (lw_V q1016 q1017 q1018 q62 q1019) rfl rfl 1 (by decide +kernel) ⟨(Nat.le_of_ble_eq_true rfl), (Nat.le_of_ble_eq_true rfl)⟩ (c_pre hP hD hS hA hK hE [0, 1] rfl rfl (ro_pass (ro_sel (ro2 := [P]) hRo [0] rfl) hD hS hA [0, 1] rfl)) (recv_at (q := (RX1, TX1, 9)) hK (b_at (k := 0) hP rfl) rfl) rfl hl.1 rfl (Nat.le_of_ble_eq_true rfl) dX0_serve_4 ⟨(Nat.le_of_ble_eq_true rfl), (Nat.le_of_ble_eq_true rfl)⟩) hP hD hS hA [0, 1] [2] rfl rfl rfl (fun q_1 ce_1 u_1 H locs hw_1 hP hD hS _ hce_1 hcv_1 hcl_1 => ?_)
  obtain rfl := hw_1
  have hP : WP Γ [[(b, .inr (0, [.ref h.e0, .ref tt, .ref sv, .int zs, .ref da, .ref tx, .ref wr, .int fl, .int (rfServe h.n h.S.cv h.S.td c)]))], (hdB Γ h), [(ou, .inl (Γ.2.1 3, 1, .inr (.inl ov)))]] H := hP
  have hD : WD A [[(b, .inr (0, [.ref h.e0, .ref tt, .ref sv, .int zs, .ref da, .ref tx, .ref wr, .int fl, .int (rfServe h.n h.S.cv h.S.td c)]))], (hdB Γ h), [(ou, .inl (Γ.2.1 3, 1, .inr (.inl ov)))]] := hD
  refine vx_catch (name := "java/lang/UnsupportedOperationException") hown [] ⟨0, 9, 12, 30⟩ [] (htb9.trans rfl) (fun z hz => nomatch hz) (by decide) (by decide) (hts _ q948) (va_Nw.use rfl (hE.1.1 _ q983 rfl)) hce_1 hcv_1 hcl_1 ?_
  refine W.eq (g2 := F0 mi_ 12 ls ([.ref q_1])) rfl ?_
  refine lv_astore_n (lv' := [(3, .ref q_1), (0, .ref b), (1, .int c), (2, .ref ou)]) hx hb dX0_serve_12 rfl hl (by decide) rfl (fun ls hl => ?_)
  refine lv_iconst (v := 1) hx hb dX0_serve_13 (by decide) ?_
  exact b_iret hx hb hr hlocks hP hD hS (Nat.le_of_ble_eq_true rfl) (Nat.le_of_ble_eq_true rfl) ⟨(by first | rfl | (simp; done)), (by first | rfl | (simp; done))⟩ dX0_serve_14
set_option maxHeartbeats 4000000 in
set_option maxRecDepth 100000 in
theorem mt_Law_dry_ok (l : Launch) (Γ : GE) (sz : Nat) (b : Nat) (h : HB) (tt : Nat) (sv : Nat) (zs : Int32) (da : Nat) (tx : Nat) (wr : Nat) (fl : Int32) (rf : Int32) (dv : Nat) (df : Nat → Option Nat) (dp : Nat) (kn : Nat) (hk : Nat → HB) (P : va_W) (k : Nat) (ou : Nat) (ov : Nat → Int64) (hnt : l.stackTraces = false) (ho : hdOk Γ P h) (hko : ∀ k, k < kn → hdOk Γ P (hk k)) (hk8 : kn ≤ 8) (hdq : dqI df dp kn (kpA hk)) (hk9 : k < h.n) (hR : rfDry h.n h.S.cv (nI k) = 0) : KMH l yX0_dry cX0_dry 4 (some FieldType.int) [(0, 9, 12, 30)] Γ 10 256 (2 * h.n + 30) (112 * h.n + 700) [.ref b, .int (nI k), .ref ou] [[(b, .inr (0, [.ref h.e0, .ref tt, .ref sv, .int zs, .ref da, .ref tx, .ref wr, .int fl, .int rf]))], (hdB Γ h), [(da, .inr (12, [.ref dv, .int (nI dp), .int (nI ((dp + kn) % 17))]))], [(dv, .inl (Γ.2.1 2, 17, .inr (.inr (.inr (.inr df)))))], (kpB Γ kn hk), [(ou, .inl (Γ.2.1 3, 1, .inr (.inl ov)))]] [P] sz (Qi Γ (fun r_ u_ => ∃ g : HB, ∃ f2 : Nat → Option Nat, hvEq g h ∧ hdOk Γ P g ∧ dqI f2 (kpP9 kn dp) (kpN kn) (kpA (kpH kn hk g)) ∧ r_ = 0 ∧ u_ = [[(b, .inr (0, [.ref h.e0, .ref tt, .ref sv, .int zs, .ref da, .ref tx, .ref wr, .int fl, .int rf]))], (hdB Γ (HB.setS h (HS.setCv h.S (va_up h.S.cv k (upd (h.S.cv k) 5 0))))), [(da, .inr (12, [.ref dv, .int (nI (kpP9 kn dp)), .int (nI (((kpP9 kn dp) + (kpN kn)) % 17))]))], [(dv, .inl (Γ.2.1 2, 17, .inr (.inr (.inr (.inr f2)))))], (kpB Γ (kpN kn) (kpH kn hk g)), [(ou, .inl (Γ.2.1 3, 1, .inr (.inl (vp_updL ov 0 (h.S.td - (h.S.cv k) 7).toInt64))))]])) := by
  refine K_introH (by decide) (Nat.le_of_ble_eq_true rfl) ?_
  intro pr_ ev_ s mi_ below meth cd_ A ls hx hb hr hml hown hts hlocks hname hK hE hRo hP hD hA hS hsz hl htb9
  have hl : lv_has ls 4 [(0, .ref b), (1, .int (nI k)), (2, .ref ou)] := hl
  have hown : s.vm.findClass RX0 = some mi_.cls := hown
  refine lv_aload_n hx hb dX0_dry_0 rfl (lv_at hl 2 rfl) ?_
  refine lv_iconst (v := 0) hx hb dX0_dry_1 (by decide) ?_
  refine lv_aload_n hx hb dX0_dry_2 rfl (lv_at hl 0 rfl) ?_
  refine lv_iload_n hx hb dX0_dry_3 rfl (lv_at hl 1 rfl) ?_
  refine b_calli (br := [[(ou, .inl (Γ.2.1 3, 1, .inr (.inl ov)))]]) (b_runV ⟨hx, hb, hml, hown, hts⟩ (mt_DB_dry_ok l Γ _ b h tt sv zs da tx wr fl rf dv df dp kn hk P k ho hko hk8 hdq hk9 hR) (lw_V q1044 q1045 q1046 q62 q1047) rfl rfl 1 (by decide +kernel) ⟨(Nat.le_of_ble_eq_true rfl), (Nat.le_of_ble_eq_true rfl)⟩ (c_pre hP hD hS hA hK hE [0, 1, 2, 3, 4] rfl rfl (ro_pass (ro_sel (ro2 := [P]) hRo [0] rfl) hD hS hA [0, 1, 2, 3, 4] rfl)) (recv_at (q := (RX1, TX1, 9)) hK (b_at (k := 0) hP rfl) rfl) rfl hl.1 rfl (Nat.le_of_ble_eq_true rfl) dX0_dry_4 ⟨(by first | omega | (dsimp only; omega)), (by first | omega | (dsimp only; omega))⟩) hP hD hS hA [0, 1, 2, 3, 4] [5] rfl rfl rfl (fun r_1 u_1 H locs hw_1 hP hD hS _ => ?_)
  obtain ⟨g_1, f2_1, hv_1, hG_1, hq_1, rfl, rfl⟩ := hw_1
  have hP : WP Γ [[(b, .inr (0, [.ref h.e0, .ref tt, .ref sv, .int zs, .ref da, .ref tx, .ref wr, .int fl, .int rf]))], (hdB Γ (HB.setS h (HS.setCv h.S (va_up h.S.cv k (upd (h.S.cv k) 5 0))))), [(da, .inr (12, [.ref dv, .int (nI (kpP9 kn dp)), .int (nI (((kpP9 kn dp) + (kpN kn)) % 17))]))], [(dv, .inl (Γ.2.1 2, 17, .inr (.inr (.inr (.inr f2_1)))))], (kpB Γ (kpN kn) (kpH kn hk g_1)), [(ou, .inl (Γ.2.1 3, 1, .inr (.inl ov)))]] H := hP
  have hD : WD A [[(b, .inr (0, [.ref h.e0, .ref tt, .ref sv, .int zs, .ref da, .ref tx, .ref wr, .int fl, .int rf]))], (hdB Γ (HB.setS h (HS.setCv h.S (va_up h.S.cv k (upd (h.S.cv k) 5 0))))), [(da, .inr (12, [.ref dv, .int (nI (kpP9 kn dp)), .int (nI (((kpP9 kn dp) + (kpN kn)) % 17))]))], [(dv, .inl (Γ.2.1 2, 17, .inr (.inr (.inr (.inr f2_1)))))], (kpB Γ (kpN kn) (kpH kn hk g_1)), [(ou, .inl (Γ.2.1 3, 1, .inr (.inl ov)))]] := hD
  refine lv_i2l hx hb dX0_dry_7 rfl ?_
  refine b_last hx hb hK hP hD hS 5 rfl 0 rfl (by omega) (by omega) dX0_dry_8 (fun H locs hP hD hS => ?_)
  have hP : WP Γ [[(b, .inr (0, [.ref h.e0, .ref tt, .ref sv, .int zs, .ref da, .ref tx, .ref wr, .int fl, .int rf]))], (hdB Γ (HB.setS h (HS.setCv h.S (va_up h.S.cv k (upd (h.S.cv k) 5 0))))), [(da, .inr (12, [.ref dv, .int (nI (kpP9 kn dp)), .int (nI (((kpP9 kn dp) + (kpN kn)) % 17))]))], [(dv, .inl (Γ.2.1 2, 17, .inr (.inr (.inr (.inr f2_1)))))], (kpB Γ (kpN kn) (kpH kn hk g_1)), [(ou, .inl (Γ.2.1 3, 1, .inr (.inl (vp_updL ov 0 (h.S.td - (h.S.cv k) 7).toInt64))))]] H := hP
  have hD : WD A [[(b, .inr (0, [.ref h.e0, .ref tt, .ref sv, .int zs, .ref da, .ref tx, .ref wr, .int fl, .int rf]))], (hdB Γ (HB.setS h (HS.setCv h.S (va_up h.S.cv k (upd (h.S.cv k) 5 0))))), [(da, .inr (12, [.ref dv, .int (nI (kpP9 kn dp)), .int (nI (((kpP9 kn dp) + (kpN kn)) % 17))]))], [(dv, .inl (Γ.2.1 2, 17, .inr (.inr (.inr (.inr f2_1)))))], (kpB Γ (kpN kn) (kpH kn hk g_1)), [(ou, .inl (Γ.2.1 3, 1, .inr (.inl (vp_updL ov 0 (h.S.td - (h.S.cv k) 7).toInt64))))]] := hD
  refine lv_goto (tgt := 15) hx hb dX0_dry_9 (by decide) ?_
  refine lv_iconst (v := 0) hx hb dX0_dry_15 (by decide) ?_
  exact b_iret hx hb hr hlocks hP hD hS (by first | omega | (dsimp only; omega)) (by first | omega | (dsimp only; omega)) ⟨g_1, f2_1, hv_1, hG_1, hq_1, (by first | rfl | (simp; done)), (by first | rfl | (simp; done))⟩ dX0_dry_16
set_option maxHeartbeats 4000000 in
set_option maxRecDepth 100000 in
theorem mt_Law_dry_x (l : Launch) (Γ : GE) (sz : Nat) (b : Nat) (h : HB) (tt : Nat) (sv : Nat) (zs : Int32) (da : Nat) (tx : Nat) (wr : Nat) (fl : Int32) (rf : Int32) (P : va_W) (c : Int32) (ou : Nat) (ov : Nat → Int64) (hnt : l.stackTraces = false) (ho : hdOk Γ P h) (hR : 0 < rfDry h.n h.S.cv c) : KMH l yX0_dry cX0_dry 4 (some FieldType.int) [(0, 9, 12, 30)] Γ 8 132 1 6 [.ref b, .int c, .ref ou] [[(b, .inr (0, [.ref h.e0, .ref tt, .ref sv, .int zs, .ref da, .ref tx, .ref wr, .int fl, .int rf]))], (hdB Γ h), [(ou, .inl (Γ.2.1 3, 1, .inr (.inl ov)))]] [P] sz (Qi Γ (fun r_ u_ => r_ = 1 ∧ u_ = [[(b, .inr (0, [.ref h.e0, .ref tt, .ref sv, .int zs, .ref da, .ref tx, .ref wr, .int fl, .int (rfDry h.n h.S.cv c)]))], (hdB Γ h), [(ou, .inl (Γ.2.1 3, 1, .inr (.inl ov)))]])) := by
  refine K_introH (by decide) (Nat.le_of_ble_eq_true rfl) ?_
  intro pr_ ev_ s mi_ below meth cd_ A ls hx hb hr hml hown hts hlocks hname hK hE hRo hP hD hA hS hsz hl htb9
  have hl : lv_has ls 4 [(0, .ref b), (1, .int c), (2, .ref ou)] := hl
  have hown : s.vm.findClass RX0 = some mi_.cls := hown
  refine lv_aload_n hx hb dX0_dry_0 rfl (lv_at hl 2 rfl) ?_
  refine lv_iconst (v := 0) hx hb dX0_dry_1 (by decide) ?_
  refine lv_aload_n hx hb dX0_dry_2 rfl (lv_at hl 0 rfl) ?_
  refine lv_iload_n hx hb dX0_dry_3 rfl (lv_at hl 1 rfl) ?_
  refine b_callx (br := [[(ou, .inl (Γ.2.1 3, 1, .inr (.inl ov)))]]) (b_runVx ⟨hx, hb, hml, hown, hts⟩ (mt_DB_dry_x l Γ _ b h tt sv zs da tx wr fl rf P c hnt ho hR) (lw_V q1044 q1045 q1046 q62 q1047) rfl rfl 1 (by decide +kernel) ⟨(Nat.le_of_ble_eq_true rfl), (Nat.le_of_ble_eq_true rfl)⟩ (c_pre hP hD hS hA hK hE [0, 1] rfl rfl (ro_pass (ro_sel (ro2 := [P]) hRo [0] rfl) hD hS hA [0, 1] rfl)) (recv_at (q := (RX1, TX1, 9)) hK (b_at (k := 0) hP rfl) rfl) rfl hl.1 rfl (Nat.le_of_ble_eq_true rfl) dX0_dry_4 ⟨(Nat.le_of_ble_eq_true rfl), (Nat.le_of_ble_eq_true rfl)⟩) hP hD hS hA [0, 1] [2] rfl rfl rfl (fun q_1 ce_1 u_1 H locs hw_1 hP hD hS _ hce_1 hcv_1 hcl_1 => ?_)
  obtain rfl := hw_1
  have hP : WP Γ [[(b, .inr (0, [.ref h.e0, .ref tt, .ref sv, .int zs, .ref da, .ref tx, .ref wr, .int fl, .int (rfDry h.n h.S.cv c)]))], (hdB Γ h), [(ou, .inl (Γ.2.1 3, 1, .inr (.inl ov)))]] H := hP
  have hD : WD A [[(b, .inr (0, [.ref h.e0, .ref tt, .ref sv, .int zs, .ref da, .ref tx, .ref wr, .int fl, .int (rfDry h.n h.S.cv c)]))], (hdB Γ h), [(ou, .inl (Γ.2.1 3, 1, .inr (.inl ov)))]] := hD
  refine vx_catch (name := "java/lang/UnsupportedOperationException") hown [] ⟨0, 9, 12, 30⟩ [] (htb9.trans rfl) (fun z hz => nomatch hz) (by decide) (by decide) (hts _ q948) (va_Nw.use rfl (hE.1.1 _ q983 rfl)) hce_1 hcv_1 hcl_1 ?_
  refine W.eq (g2 := F0 mi_ 12 ls ([.ref q_1])) rfl ?_
  refine lv_astore_n (lv' := [(3, .ref q_1), (0, .ref b), (1, .int c), (2, .ref ou)]) hx hb dX0_dry_12 rfl hl (by decide) rfl (fun ls hl => ?_)
  refine lv_iconst (v := 1) hx hb dX0_dry_13 (by decide) ?_
  exact b_iret hx hb hr hlocks hP hD hS (Nat.le_of_ble_eq_true rfl) (Nat.le_of_ble_eq_true rfl) ⟨(by first | rfl | (simp; done)), (by first | rfl | (simp; done))⟩ dX0_dry_14
set_option maxHeartbeats 4000000 in
set_option maxRecDepth 100000 in
theorem mt_Law_sell_ok (l : Launch) (Γ : GE) (sz : Nat) (b : Nat) (h : HB) (tt : Nat) (sv : Nat) (zs : Int32) (da : Nat) (tx : Nat) (wr : Nat) (fl : Int32) (rf : Int32) (dv : Nat) (df : Nat → Option Nat) (dp : Nat) (kn : Nat) (hk : Nat → HB) (P : va_W) (k : Nat) (ou : Nat) (ov : Nat → Int64) (hnt : l.stackTraces = false) (ho : hdOk Γ P h) (hko : ∀ k, k < kn → hdOk Γ P (hk k)) (hk8 : kn ≤ 8) (hdq : dqI df dp kn (kpA hk)) (hk9 : k < h.n) (hR : rfCow h.n h.S.cv (nI k) = 0) : KMH l yX0_sell cX0_sell 4 (some FieldType.int) [(0, 9, 12, 30)] Γ 10 3123 (2 * h.n + 30) (112 * h.n + 700) [.ref b, .int (nI k), .ref ou] [[(b, .inr (0, [.ref h.e0, .ref tt, .ref sv, .int zs, .ref da, .ref tx, .ref wr, .int fl, .int rf]))], (hdB Γ h), [(da, .inr (12, [.ref dv, .int (nI dp), .int (nI ((dp + kn) % 17))]))], [(dv, .inl (Γ.2.1 2, 17, .inr (.inr (.inr (.inr df)))))], (kpB Γ kn hk), [(ou, .inl (Γ.2.1 3, 1, .inr (.inl ov)))]] [P] sz (Qi Γ (fun r_ u_ => ∃ g : HB, ∃ f2 : Nat → Option Nat, hvEq g h ∧ hdOk Γ P g ∧ dqI f2 (kpP9 kn dp) (kpN kn) (kpA (kpH kn hk g)) ∧ r_ = 0 ∧ u_ = [[(b, .inr (0, [.ref h.e0, .ref tt, .ref sv, .int zs, .ref da, .ref tx, .ref wr, .int fl, .int rf]))], (hdB Γ (HB.setS h (HS.setCv h.S (va_up h.S.cv k (upd (h.S.cv k) 6 1))))), [(da, .inr (12, [.ref dv, .int (nI (kpP9 kn dp)), .int (nI (((kpP9 kn dp) + (kpN kn)) % 17))]))], [(dv, .inl (Γ.2.1 2, 17, .inr (.inr (.inr (.inr f2)))))], (kpB Γ (kpN kn) (kpH kn hk g)), [(ou, .inl (Γ.2.1 3, 1, .inr (.inl (vp_updL ov 0 (accV (va_up h.S.cv k (upd (h.S.cv k) 6 1)) h.S.pk h.S.pd h.S.np h.n 0).toInt64))))]])) := by
  refine K_introH (by decide) (Nat.le_of_ble_eq_true rfl) ?_
  intro pr_ ev_ s mi_ below meth cd_ A ls hx hb hr hml hown hts hlocks hname hK hE hRo hP hD hA hS hsz hl htb9
  have hl : lv_has ls 4 [(0, .ref b), (1, .int (nI k)), (2, .ref ou)] := hl
  have hown : s.vm.findClass RX0 = some mi_.cls := hown
  refine lv_aload_n hx hb dX0_sell_0 rfl (lv_at hl 2 rfl) ?_
  refine lv_iconst (v := 0) hx hb dX0_sell_1 (by decide) ?_
  refine lv_aload_n hx hb dX0_sell_2 rfl (lv_at hl 0 rfl) ?_
  refine lv_iload_n hx hb dX0_sell_3 rfl (lv_at hl 1 rfl) ?_
  refine b_calli (br := [[(ou, .inl (Γ.2.1 3, 1, .inr (.inl ov)))]]) (b_runV ⟨hx, hb, hml, hown, hts⟩ (mt_DB_sell_ok l Γ _ b h tt sv zs da tx wr fl rf dv df dp kn hk P k ho hko hk8 hdq hk9 hR) (lw_V q1059 q1060 q1061 q62 q1062) rfl rfl 1 (by decide +kernel) ⟨(Nat.le_of_ble_eq_true rfl), (Nat.le_of_ble_eq_true rfl)⟩ (c_pre hP hD hS hA hK hE [0, 1, 2, 3, 4] rfl rfl (ro_pass (ro_sel (ro2 := [P]) hRo [0] rfl) hD hS hA [0, 1, 2, 3, 4] rfl)) (recv_at (q := (RX1, TX1, 9)) hK (b_at (k := 0) hP rfl) rfl) rfl hl.1 rfl (Nat.le_of_ble_eq_true rfl) dX0_sell_4 ⟨(by first | omega | (dsimp only; omega)), (by first | omega | (dsimp only; omega))⟩) hP hD hS hA [0, 1, 2, 3, 4] [5] rfl rfl rfl (fun r_1 u_1 H locs hw_1 hP hD hS _ => ?_)
  obtain ⟨g_1, f2_1, hv_1, hG_1, hq_1, rfl, rfl⟩ := hw_1
  have hP : WP Γ [[(b, .inr (0, [.ref h.e0, .ref tt, .ref sv, .int zs, .ref da, .ref tx, .ref wr, .int fl, .int rf]))], (hdB Γ (HB.setS h (HS.setCv h.S (va_up h.S.cv k (upd (h.S.cv k) 6 1))))), [(da, .inr (12, [.ref dv, .int (nI (kpP9 kn dp)), .int (nI (((kpP9 kn dp) + (kpN kn)) % 17))]))], [(dv, .inl (Γ.2.1 2, 17, .inr (.inr (.inr (.inr f2_1)))))], (kpB Γ (kpN kn) (kpH kn hk g_1)), [(ou, .inl (Γ.2.1 3, 1, .inr (.inl ov)))]] H := hP
  have hD : WD A [[(b, .inr (0, [.ref h.e0, .ref tt, .ref sv, .int zs, .ref da, .ref tx, .ref wr, .int fl, .int rf]))], (hdB Γ (HB.setS h (HS.setCv h.S (va_up h.S.cv k (upd (h.S.cv k) 6 1))))), [(da, .inr (12, [.ref dv, .int (nI (kpP9 kn dp)), .int (nI (((kpP9 kn dp) + (kpN kn)) % 17))]))], [(dv, .inl (Γ.2.1 2, 17, .inr (.inr (.inr (.inr f2_1)))))], (kpB Γ (kpN kn) (kpH kn hk g_1)), [(ou, .inl (Γ.2.1 3, 1, .inr (.inl ov)))]] := hD
  refine lv_i2l hx hb dX0_sell_7 rfl ?_
  refine b_last hx hb hK hP hD hS 5 rfl 0 rfl (by omega) (by omega) dX0_sell_8 (fun H locs hP hD hS => ?_)
  have hP : WP Γ [[(b, .inr (0, [.ref h.e0, .ref tt, .ref sv, .int zs, .ref da, .ref tx, .ref wr, .int fl, .int rf]))], (hdB Γ (HB.setS h (HS.setCv h.S (va_up h.S.cv k (upd (h.S.cv k) 6 1))))), [(da, .inr (12, [.ref dv, .int (nI (kpP9 kn dp)), .int (nI (((kpP9 kn dp) + (kpN kn)) % 17))]))], [(dv, .inl (Γ.2.1 2, 17, .inr (.inr (.inr (.inr f2_1)))))], (kpB Γ (kpN kn) (kpH kn hk g_1)), [(ou, .inl (Γ.2.1 3, 1, .inr (.inl (vp_updL ov 0 (accV (va_up h.S.cv k (upd (h.S.cv k) 6 1)) h.S.pk h.S.pd h.S.np h.n 0).toInt64))))]] H := hP
  have hD : WD A [[(b, .inr (0, [.ref h.e0, .ref tt, .ref sv, .int zs, .ref da, .ref tx, .ref wr, .int fl, .int rf]))], (hdB Γ (HB.setS h (HS.setCv h.S (va_up h.S.cv k (upd (h.S.cv k) 6 1))))), [(da, .inr (12, [.ref dv, .int (nI (kpP9 kn dp)), .int (nI (((kpP9 kn dp) + (kpN kn)) % 17))]))], [(dv, .inl (Γ.2.1 2, 17, .inr (.inr (.inr (.inr f2_1)))))], (kpB Γ (kpN kn) (kpH kn hk g_1)), [(ou, .inl (Γ.2.1 3, 1, .inr (.inl (vp_updL ov 0 (accV (va_up h.S.cv k (upd (h.S.cv k) 6 1)) h.S.pk h.S.pd h.S.np h.n 0).toInt64))))]] := hD
  refine lv_goto (tgt := 15) hx hb dX0_sell_9 (by decide) ?_
  refine lv_iconst (v := 0) hx hb dX0_sell_15 (by decide) ?_
  exact b_iret hx hb hr hlocks hP hD hS (by first | omega | (dsimp only; omega)) (by first | omega | (dsimp only; omega)) ⟨g_1, f2_1, hv_1, hG_1, hq_1, (by first | rfl | (simp; done)), (by first | rfl | (simp; done))⟩ dX0_sell_16
set_option maxHeartbeats 4000000 in
set_option maxRecDepth 100000 in
theorem mt_Law_sell_x (l : Launch) (Γ : GE) (sz : Nat) (b : Nat) (h : HB) (tt : Nat) (sv : Nat) (zs : Int32) (da : Nat) (tx : Nat) (wr : Nat) (fl : Int32) (rf : Int32) (P : va_W) (c : Int32) (ou : Nat) (ov : Nat → Int64) (hnt : l.stackTraces = false) (ho : hdOk Γ P h) (hR : 0 < rfCow h.n h.S.cv c) : KMH l yX0_sell cX0_sell 4 (some FieldType.int) [(0, 9, 12, 30)] Γ 8 132 1 6 [.ref b, .int c, .ref ou] [[(b, .inr (0, [.ref h.e0, .ref tt, .ref sv, .int zs, .ref da, .ref tx, .ref wr, .int fl, .int rf]))], (hdB Γ h), [(ou, .inl (Γ.2.1 3, 1, .inr (.inl ov)))]] [P] sz (Qi Γ (fun r_ u_ => r_ = 1 ∧ u_ = [[(b, .inr (0, [.ref h.e0, .ref tt, .ref sv, .int zs, .ref da, .ref tx, .ref wr, .int fl, .int (rfCow h.n h.S.cv c)]))], (hdB Γ h), [(ou, .inl (Γ.2.1 3, 1, .inr (.inl ov)))]])) := by
  refine K_introH (by decide) (Nat.le_of_ble_eq_true rfl) ?_
  intro pr_ ev_ s mi_ below meth cd_ A ls hx hb hr hml hown hts hlocks hname hK hE hRo hP hD hA hS hsz hl htb9
  have hl : lv_has ls 4 [(0, .ref b), (1, .int c), (2, .ref ou)] := hl
  have hown : s.vm.findClass RX0 = some mi_.cls := hown
  refine lv_aload_n hx hb dX0_sell_0 rfl (lv_at hl 2 rfl) ?_
  refine lv_iconst (v := 0) hx hb dX0_sell_1 (by decide) ?_
  refine lv_aload_n hx hb dX0_sell_2 rfl (lv_at hl 0 rfl) ?_
  refine lv_iload_n hx hb dX0_sell_3 rfl (lv_at hl 1 rfl) ?_
  refine b_callx (br := [[(ou, .inl (Γ.2.1 3, 1, .inr (.inl ov)))]]) (b_runVx ⟨hx, hb, hml, hown, hts⟩ (mt_DB_sell_x l Γ _ b h tt sv zs da tx wr fl rf P c hnt ho hR) (lw_V q1059 q1060 q1061 q62 q1062) rfl rfl 1 (by decide +kernel) ⟨(Nat.le_of_ble_eq_true rfl), (Nat.le_of_ble_eq_true rfl)⟩ (c_pre hP hD hS hA hK hE [0, 1] rfl rfl (ro_pass (ro_sel (ro2 := [P]) hRo [0] rfl) hD hS hA [0, 1] rfl)) (recv_at (q := (RX1, TX1, 9)) hK (b_at (k := 0) hP rfl) rfl) rfl hl.1 rfl (Nat.le_of_ble_eq_true rfl) dX0_sell_4 ⟨(Nat.le_of_ble_eq_true rfl), (Nat.le_of_ble_eq_true rfl)⟩) hP hD hS hA [0, 1] [2] rfl rfl rfl (fun q_1 ce_1 u_1 H locs hw_1 hP hD hS _ hce_1 hcv_1 hcl_1 => ?_)
  obtain rfl := hw_1
  have hP : WP Γ [[(b, .inr (0, [.ref h.e0, .ref tt, .ref sv, .int zs, .ref da, .ref tx, .ref wr, .int fl, .int (rfCow h.n h.S.cv c)]))], (hdB Γ h), [(ou, .inl (Γ.2.1 3, 1, .inr (.inl ov)))]] H := hP
  have hD : WD A [[(b, .inr (0, [.ref h.e0, .ref tt, .ref sv, .int zs, .ref da, .ref tx, .ref wr, .int fl, .int (rfCow h.n h.S.cv c)]))], (hdB Γ h), [(ou, .inl (Γ.2.1 3, 1, .inr (.inl ov)))]] := hD
  refine vx_catch (name := "java/lang/UnsupportedOperationException") hown [] ⟨0, 9, 12, 30⟩ [] (htb9.trans rfl) (fun z hz => nomatch hz) (by decide) (by decide) (hts _ q948) (va_Nw.use rfl (hE.1.1 _ q983 rfl)) hce_1 hcv_1 hcl_1 ?_
  refine W.eq (g2 := F0 mi_ 12 ls ([.ref q_1])) rfl ?_
  refine lv_astore_n (lv' := [(3, .ref q_1), (0, .ref b), (1, .int c), (2, .ref ou)]) hx hb dX0_sell_12 rfl hl (by decide) rfl (fun ls hl => ?_)
  refine lv_iconst (v := 1) hx hb dX0_sell_13 (by decide) ?_
  exact b_iret hx hb hr hlocks hP hD hS (Nat.le_of_ble_eq_true rfl) (Nat.le_of_ble_eq_true rfl) ⟨(by first | rfl | (simp; done)), (by first | rfl | (simp; done))⟩ dX0_sell_14
set_option maxHeartbeats 4000000 in
set_option maxRecDepth 100000 in
theorem mt_Law_setBonus_hit (l : Launch) (Γ : GE) (sz : Nat) (b : Nat) (h : HB) (tt : Nat) (sv : Nat) (zs : Int32) (da : Nat) (tx : Nat) (wr : Nat) (fl : Int32) (rf : Int32) (dv : Nat) (df : Nat → Option Nat) (dp : Nat) (kn : Nat) (hk : Nat → HB) (P : va_W) (lim : Int32) (bon : Int32) (ou : Nat) (ov : Nat → Int64) (hnt : l.stackTraces = false) (ho : hdOk Γ P h) (hko : ∀ k, k < kn → hdOk Γ P (hk k)) (hk8 : kn ≤ 8) (hdq : dqI df dp kn (kpA hk)) (hR : rfBonus h.rv h.nr lim bon = 0) (hkn : rowK h.rv lim h.nr < h.nr) (hke : h.rv (rowK h.rv lim h.nr) 0 = lim) : KMH l yX0_setBonus cX0_setBonus 5 (some FieldType.int) [(0, 10, 13, 30)] Γ 10 257 (2 * h.n + 30) (112 * h.n + 700) [.ref b, .int lim, .int bon, .ref ou] [[(b, .inr (0, [.ref h.e0, .ref tt, .ref sv, .int zs, .ref da, .ref tx, .ref wr, .int fl, .int rf]))], (hdB Γ h), [(da, .inr (12, [.ref dv, .int (nI dp), .int (nI ((dp + kn) % 17))]))], [(dv, .inl (Γ.2.1 2, 17, .inr (.inr (.inr (.inr df)))))], (kpB Γ kn hk), P, [(ou, .inl (Γ.2.1 3, 1, .inr (.inl ov)))]] [] sz (Qi Γ (fun r_ u_ => ∃ g : HB, ∃ f2 : Nat → Option Nat, ∃ a : Nat, ∃ y : LST, hvEq g h ∧ hdOk Γ P g ∧ dqI f2 (kpP9 kn dp) (kpN kn) (kpA (kpH kn hk g)) ∧ hdOk Γ ([(a, rowE (rwNew lim bon))] ++ P) (HB.setRw h y h.m1 h.nr (va_up h.ra (rowK h.rv lim h.nr) a) (va_up h.rv (rowK h.rv lim h.nr) (rwNew lim bon))) ∧ r_ = 0 ∧ u_ = [[(b, .inr (0, [.ref h.e0, .ref tt, .ref sv, .int zs, .ref da, .ref tx, .ref wr, .int fl, .int rf]))], (hdB Γ (HB.setRw h y h.m1 h.nr (va_up h.ra (rowK h.rv lim h.nr) a) (va_up h.rv (rowK h.rv lim h.nr) (rwNew lim bon)))), [(da, .inr (12, [.ref dv, .int (nI (kpP9 kn dp)), .int (nI (((kpP9 kn dp) + (kpN kn)) % 17))]))], [(dv, .inl (Γ.2.1 2, 17, .inr (.inr (.inr (.inr f2)))))], (kpB Γ (kpN kn) (kpH kn hk g)), ([(a, rowE (rwNew lim bon))] ++ P), [(ou, .inl (Γ.2.1 3, 1, .inr (.inl (vp_updL ov 0 (nI h.nr).toInt64))))]])) := by
  refine K_introH (by decide) (Nat.le_of_ble_eq_true rfl) ?_
  intro pr_ ev_ s mi_ below meth cd_ A ls hx hb hr hml hown hts hlocks hname hK hE hRo hP hD hA hS hsz hl htb9
  have hl : lv_has ls 5 [(0, .ref b), (1, .int lim), (2, .int bon), (3, .ref ou)] := hl
  have hown : s.vm.findClass RX0 = some mi_.cls := hown
  refine lv_aload_n hx hb dX0_setBonus_0 rfl (lv_at hl 3 rfl) ?_
  refine lv_iconst (v := 0) hx hb dX0_setBonus_1 (by decide) ?_
  refine lv_aload_n hx hb dX0_setBonus_2 rfl (lv_at hl 0 rfl) ?_
  refine lv_iload_n hx hb dX0_setBonus_3 rfl (lv_at hl 1 rfl) ?_
  refine lv_iload_n hx hb dX0_setBonus_4 rfl (lv_at hl 2 rfl) ?_
  refine b_calli (br := [[(ou, .inl (Γ.2.1 3, 1, .inr (.inl ov)))]]) (b_runV ⟨hx, hb, hml, hown, hts⟩ (mt_DB_setBonus_hit l Γ _ b h tt sv zs da tx wr fl rf dv df dp kn hk P lim bon ho hko hk8 hdq hR hkn hke) (lw_V q1098 q1099 q1100 q62 q1101) rfl rfl 2 (by decide +kernel) ⟨(Nat.le_of_ble_eq_true rfl), (Nat.le_of_ble_eq_true rfl)⟩ (c_pre hP hD hS hA hK hE [0, 1, 2, 3, 4, 5] rfl rfl ro_nil) (recv_at (q := (RX1, TX1, 9)) hK (b_at (k := 0) hP rfl) rfl) rfl hl.1 rfl (Nat.le_of_ble_eq_true rfl) dX0_setBonus_5 ⟨(by first | omega | (dsimp only; omega)), (by first | omega | (dsimp only; omega))⟩) hP hD hS hA [0, 1, 2, 3, 4, 5] [6] rfl rfl rfl (fun r_1 u_1 H locs hw_1 hP hD hS _ => ?_)
  obtain ⟨g_1, f2_1, a_1, y_1, hv_1, hG_1, hq_1, hO_1, rfl, rfl⟩ := hw_1
  have hP : WP Γ [[(b, .inr (0, [.ref h.e0, .ref tt, .ref sv, .int zs, .ref da, .ref tx, .ref wr, .int fl, .int rf]))], (hdB Γ (HB.setRw h y_1 h.m1 h.nr (va_up h.ra (rowK h.rv lim h.nr) a_1) (va_up h.rv (rowK h.rv lim h.nr) (rwNew lim bon)))), [(da, .inr (12, [.ref dv, .int (nI (kpP9 kn dp)), .int (nI (((kpP9 kn dp) + (kpN kn)) % 17))]))], [(dv, .inl (Γ.2.1 2, 17, .inr (.inr (.inr (.inr f2_1)))))], (kpB Γ (kpN kn) (kpH kn hk g_1)), ([(a_1, rowE (rwNew lim bon))] ++ P), [(ou, .inl (Γ.2.1 3, 1, .inr (.inl ov)))]] H := hP
  have hD : WD A [[(b, .inr (0, [.ref h.e0, .ref tt, .ref sv, .int zs, .ref da, .ref tx, .ref wr, .int fl, .int rf]))], (hdB Γ (HB.setRw h y_1 h.m1 h.nr (va_up h.ra (rowK h.rv lim h.nr) a_1) (va_up h.rv (rowK h.rv lim h.nr) (rwNew lim bon)))), [(da, .inr (12, [.ref dv, .int (nI (kpP9 kn dp)), .int (nI (((kpP9 kn dp) + (kpN kn)) % 17))]))], [(dv, .inl (Γ.2.1 2, 17, .inr (.inr (.inr (.inr f2_1)))))], (kpB Γ (kpN kn) (kpH kn hk g_1)), ([(a_1, rowE (rwNew lim bon))] ++ P), [(ou, .inl (Γ.2.1 3, 1, .inr (.inl ov)))]] := hD
  refine lv_i2l hx hb dX0_setBonus_8 rfl ?_
  refine b_last hx hb hK hP hD hS 6 rfl 0 rfl (by omega) (by omega) dX0_setBonus_9 (fun H locs hP hD hS => ?_)
  have hP : WP Γ [[(b, .inr (0, [.ref h.e0, .ref tt, .ref sv, .int zs, .ref da, .ref tx, .ref wr, .int fl, .int rf]))], (hdB Γ (HB.setRw h y_1 h.m1 h.nr (va_up h.ra (rowK h.rv lim h.nr) a_1) (va_up h.rv (rowK h.rv lim h.nr) (rwNew lim bon)))), [(da, .inr (12, [.ref dv, .int (nI (kpP9 kn dp)), .int (nI (((kpP9 kn dp) + (kpN kn)) % 17))]))], [(dv, .inl (Γ.2.1 2, 17, .inr (.inr (.inr (.inr f2_1)))))], (kpB Γ (kpN kn) (kpH kn hk g_1)), ([(a_1, rowE (rwNew lim bon))] ++ P), [(ou, .inl (Γ.2.1 3, 1, .inr (.inl (vp_updL ov 0 (nI h.nr).toInt64))))]] H := hP
  have hD : WD A [[(b, .inr (0, [.ref h.e0, .ref tt, .ref sv, .int zs, .ref da, .ref tx, .ref wr, .int fl, .int rf]))], (hdB Γ (HB.setRw h y_1 h.m1 h.nr (va_up h.ra (rowK h.rv lim h.nr) a_1) (va_up h.rv (rowK h.rv lim h.nr) (rwNew lim bon)))), [(da, .inr (12, [.ref dv, .int (nI (kpP9 kn dp)), .int (nI (((kpP9 kn dp) + (kpN kn)) % 17))]))], [(dv, .inl (Γ.2.1 2, 17, .inr (.inr (.inr (.inr f2_1)))))], (kpB Γ (kpN kn) (kpH kn hk g_1)), ([(a_1, rowE (rwNew lim bon))] ++ P), [(ou, .inl (Γ.2.1 3, 1, .inr (.inl (vp_updL ov 0 (nI h.nr).toInt64))))]] := hD
  refine lv_goto (tgt := 17) hx hb dX0_setBonus_10 (by decide) ?_
  refine lv_iconst (v := 0) hx hb dX0_setBonus_17 (by decide) ?_
  exact b_iret hx hb hr hlocks hP hD hS (by first | omega | (dsimp only; omega)) (by first | omega | (dsimp only; omega)) ⟨g_1, f2_1, a_1, y_1, hv_1, hG_1, hq_1, hO_1, (by first | rfl | (simp; done)), (by first | rfl | (simp; done))⟩ dX0_setBonus_18
set_option maxHeartbeats 4000000 in
set_option maxRecDepth 100000 in
theorem mt_Law_setBonus_miss (l : Launch) (Γ : GE) (sz : Nat) (b : Nat) (h : HB) (tt : Nat) (sv : Nat) (zs : Int32) (da : Nat) (tx : Nat) (wr : Nat) (fl : Int32) (rf : Int32) (dv : Nat) (df : Nat → Option Nat) (dp : Nat) (kn : Nat) (hk : Nat → HB) (P : va_W) (lim : Int32) (bon : Int32) (ou : Nat) (ov : Nat → Int64) (hnt : l.stackTraces = false) (ho : hdOk Γ P h) (hko : ∀ k, k < kn → hdOk Γ P (hk k)) (hk8 : kn ≤ 8) (hdq : dqI df dp kn (kpA hk)) (hR : rfBonus h.rv h.nr lim bon = 0) (nr3 : h.nr ≤ 3) (hkn : rowK h.rv lim h.nr < h.nr → ¬ h.rv (rowK h.rv lim h.nr) 0 = lim) : KMH l yX0_setBonus cX0_setBonus 5 (some FieldType.int) [(0, 10, 13, 30)] Γ 10 257 (2 * h.n + 30) (112 * h.n + 700) [.ref b, .int lim, .int bon, .ref ou] [[(b, .inr (0, [.ref h.e0, .ref tt, .ref sv, .int zs, .ref da, .ref tx, .ref wr, .int fl, .int rf]))], (hdB Γ h), [(da, .inr (12, [.ref dv, .int (nI dp), .int (nI ((dp + kn) % 17))]))], [(dv, .inl (Γ.2.1 2, 17, .inr (.inr (.inr (.inr df)))))], (kpB Γ kn hk), P, [(ou, .inl (Γ.2.1 3, 1, .inr (.inl ov)))]] [] sz (Qi Γ (fun r_ u_ => ∃ g : HB, ∃ f2 : Nat → Option Nat, ∃ a : Nat, ∃ y : LST, hvEq g h ∧ hdOk Γ P g ∧ dqI f2 (kpP9 kn dp) (kpN kn) (kpA (kpH kn hk g)) ∧ hdOk Γ ([(a, rowE (rwNew lim bon))] ++ P) (HB.setRw h y (h.m1 + 1) (h.nr + 1) (insN h.ra (rowK h.rv lim h.nr) a) (insV h.rv (rowK h.rv lim h.nr) (rwNew lim bon))) ∧ r_ = 0 ∧ u_ = [[(b, .inr (0, [.ref h.e0, .ref tt, .ref sv, .int zs, .ref da, .ref tx, .ref wr, .int fl, .int rf]))], (hdB Γ (HB.setRw h y (h.m1 + 1) (h.nr + 1) (insN h.ra (rowK h.rv lim h.nr) a) (insV h.rv (rowK h.rv lim h.nr) (rwNew lim bon)))), [(da, .inr (12, [.ref dv, .int (nI (kpP9 kn dp)), .int (nI (((kpP9 kn dp) + (kpN kn)) % 17))]))], [(dv, .inl (Γ.2.1 2, 17, .inr (.inr (.inr (.inr f2)))))], (kpB Γ (kpN kn) (kpH kn hk g)), ([(a, rowE (rwNew lim bon))] ++ P), [(ou, .inl (Γ.2.1 3, 1, .inr (.inl (vp_updL ov 0 (nI (h.nr + 1)).toInt64))))]])) := by
  refine K_introH (by decide) (Nat.le_of_ble_eq_true rfl) ?_
  intro pr_ ev_ s mi_ below meth cd_ A ls hx hb hr hml hown hts hlocks hname hK hE hRo hP hD hA hS hsz hl htb9
  have hl : lv_has ls 5 [(0, .ref b), (1, .int lim), (2, .int bon), (3, .ref ou)] := hl
  have hown : s.vm.findClass RX0 = some mi_.cls := hown
  refine lv_aload_n hx hb dX0_setBonus_0 rfl (lv_at hl 3 rfl) ?_
  refine lv_iconst (v := 0) hx hb dX0_setBonus_1 (by decide) ?_
  refine lv_aload_n hx hb dX0_setBonus_2 rfl (lv_at hl 0 rfl) ?_
  refine lv_iload_n hx hb dX0_setBonus_3 rfl (lv_at hl 1 rfl) ?_
  refine lv_iload_n hx hb dX0_setBonus_4 rfl (lv_at hl 2 rfl) ?_
  refine b_calli (br := [[(ou, .inl (Γ.2.1 3, 1, .inr (.inl ov)))]]) (b_runV ⟨hx, hb, hml, hown, hts⟩ (mt_DB_setBonus_miss l Γ _ b h tt sv zs da tx wr fl rf dv df dp kn hk P lim bon ho hko hk8 hdq hR nr3 hkn) (lw_V q1098 q1099 q1100 q62 q1101) rfl rfl 2 (by decide +kernel) ⟨(Nat.le_of_ble_eq_true rfl), (Nat.le_of_ble_eq_true rfl)⟩ (c_pre hP hD hS hA hK hE [0, 1, 2, 3, 4, 5] rfl rfl ro_nil) (recv_at (q := (RX1, TX1, 9)) hK (b_at (k := 0) hP rfl) rfl) rfl hl.1 rfl (Nat.le_of_ble_eq_true rfl) dX0_setBonus_5 ⟨(by first | omega | (dsimp only; omega)), (by first | omega | (dsimp only; omega))⟩) hP hD hS hA [0, 1, 2, 3, 4, 5] [6] rfl rfl rfl (fun r_1 u_1 H locs hw_1 hP hD hS _ => ?_)
  obtain ⟨g_1, f2_1, a_1, y_1, hv_1, hG_1, hq_1, hO_1, rfl, rfl⟩ := hw_1
  have hP : WP Γ [[(b, .inr (0, [.ref h.e0, .ref tt, .ref sv, .int zs, .ref da, .ref tx, .ref wr, .int fl, .int rf]))], (hdB Γ (HB.setRw h y_1 (h.m1 + 1) (h.nr + 1) (insN h.ra (rowK h.rv lim h.nr) a_1) (insV h.rv (rowK h.rv lim h.nr) (rwNew lim bon)))), [(da, .inr (12, [.ref dv, .int (nI (kpP9 kn dp)), .int (nI (((kpP9 kn dp) + (kpN kn)) % 17))]))], [(dv, .inl (Γ.2.1 2, 17, .inr (.inr (.inr (.inr f2_1)))))], (kpB Γ (kpN kn) (kpH kn hk g_1)), ([(a_1, rowE (rwNew lim bon))] ++ P), [(ou, .inl (Γ.2.1 3, 1, .inr (.inl ov)))]] H := hP
  have hD : WD A [[(b, .inr (0, [.ref h.e0, .ref tt, .ref sv, .int zs, .ref da, .ref tx, .ref wr, .int fl, .int rf]))], (hdB Γ (HB.setRw h y_1 (h.m1 + 1) (h.nr + 1) (insN h.ra (rowK h.rv lim h.nr) a_1) (insV h.rv (rowK h.rv lim h.nr) (rwNew lim bon)))), [(da, .inr (12, [.ref dv, .int (nI (kpP9 kn dp)), .int (nI (((kpP9 kn dp) + (kpN kn)) % 17))]))], [(dv, .inl (Γ.2.1 2, 17, .inr (.inr (.inr (.inr f2_1)))))], (kpB Γ (kpN kn) (kpH kn hk g_1)), ([(a_1, rowE (rwNew lim bon))] ++ P), [(ou, .inl (Γ.2.1 3, 1, .inr (.inl ov)))]] := hD
  refine lv_i2l hx hb dX0_setBonus_8 rfl ?_
  refine b_last hx hb hK hP hD hS 6 rfl 0 rfl (by omega) (by omega) dX0_setBonus_9 (fun H locs hP hD hS => ?_)
  have hP : WP Γ [[(b, .inr (0, [.ref h.e0, .ref tt, .ref sv, .int zs, .ref da, .ref tx, .ref wr, .int fl, .int rf]))], (hdB Γ (HB.setRw h y_1 (h.m1 + 1) (h.nr + 1) (insN h.ra (rowK h.rv lim h.nr) a_1) (insV h.rv (rowK h.rv lim h.nr) (rwNew lim bon)))), [(da, .inr (12, [.ref dv, .int (nI (kpP9 kn dp)), .int (nI (((kpP9 kn dp) + (kpN kn)) % 17))]))], [(dv, .inl (Γ.2.1 2, 17, .inr (.inr (.inr (.inr f2_1)))))], (kpB Γ (kpN kn) (kpH kn hk g_1)), ([(a_1, rowE (rwNew lim bon))] ++ P), [(ou, .inl (Γ.2.1 3, 1, .inr (.inl (vp_updL ov 0 (nI (h.nr + 1)).toInt64))))]] H := hP
  have hD : WD A [[(b, .inr (0, [.ref h.e0, .ref tt, .ref sv, .int zs, .ref da, .ref tx, .ref wr, .int fl, .int rf]))], (hdB Γ (HB.setRw h y_1 (h.m1 + 1) (h.nr + 1) (insN h.ra (rowK h.rv lim h.nr) a_1) (insV h.rv (rowK h.rv lim h.nr) (rwNew lim bon)))), [(da, .inr (12, [.ref dv, .int (nI (kpP9 kn dp)), .int (nI (((kpP9 kn dp) + (kpN kn)) % 17))]))], [(dv, .inl (Γ.2.1 2, 17, .inr (.inr (.inr (.inr f2_1)))))], (kpB Γ (kpN kn) (kpH kn hk g_1)), ([(a_1, rowE (rwNew lim bon))] ++ P), [(ou, .inl (Γ.2.1 3, 1, .inr (.inl (vp_updL ov 0 (nI (h.nr + 1)).toInt64))))]] := hD
  refine lv_goto (tgt := 17) hx hb dX0_setBonus_10 (by decide) ?_
  refine lv_iconst (v := 0) hx hb dX0_setBonus_17 (by decide) ?_
  exact b_iret hx hb hr hlocks hP hD hS (by first | omega | (dsimp only; omega)) (by first | omega | (dsimp only; omega)) ⟨g_1, f2_1, a_1, y_1, hv_1, hG_1, hq_1, hO_1, (by first | rfl | (simp; done)), (by first | rfl | (simp; done))⟩ dX0_setBonus_18
set_option maxHeartbeats 4000000 in
set_option maxRecDepth 100000 in
theorem mt_Law_setBonus_x (l : Launch) (Γ : GE) (sz : Nat) (b : Nat) (h : HB) (tt : Nat) (sv : Nat) (zs : Int32) (da : Nat) (tx : Nat) (wr : Nat) (fl : Int32) (rf : Int32) (P : va_W) (c : Int32) (v : Int32) (ou : Nat) (ov : Nat → Int64) (hnt : l.stackTraces = false) (ho : hdOk Γ P h) (hR : 0 < rfBonus h.rv h.nr c v) : KMH l yX0_setBonus cX0_setBonus 5 (some FieldType.int) [(0, 10, 13, 30)] Γ 8 133 1 6 [.ref b, .int c, .int v, .ref ou] [[(b, .inr (0, [.ref h.e0, .ref tt, .ref sv, .int zs, .ref da, .ref tx, .ref wr, .int fl, .int rf]))], (hdB Γ h), [(ou, .inl (Γ.2.1 3, 1, .inr (.inl ov)))]] [P] sz (Qi Γ (fun r_ u_ => r_ = 1 ∧ u_ = [[(b, .inr (0, [.ref h.e0, .ref tt, .ref sv, .int zs, .ref da, .ref tx, .ref wr, .int fl, .int (rfBonus h.rv h.nr c v)]))], (hdB Γ h), [(ou, .inl (Γ.2.1 3, 1, .inr (.inl ov)))]])) := by
  refine K_introH (by decide) (Nat.le_of_ble_eq_true rfl) ?_
  intro pr_ ev_ s mi_ below meth cd_ A ls hx hb hr hml hown hts hlocks hname hK hE hRo hP hD hA hS hsz hl htb9
  have hl : lv_has ls 5 [(0, .ref b), (1, .int c), (2, .int v), (3, .ref ou)] := hl
  have hown : s.vm.findClass RX0 = some mi_.cls := hown
  refine lv_aload_n hx hb dX0_setBonus_0 rfl (lv_at hl 3 rfl) ?_
  refine lv_iconst (v := 0) hx hb dX0_setBonus_1 (by decide) ?_
  refine lv_aload_n hx hb dX0_setBonus_2 rfl (lv_at hl 0 rfl) ?_
  refine lv_iload_n hx hb dX0_setBonus_3 rfl (lv_at hl 1 rfl) ?_
  refine lv_iload_n hx hb dX0_setBonus_4 rfl (lv_at hl 2 rfl) ?_
  refine b_callx (br := [[(ou, .inl (Γ.2.1 3, 1, .inr (.inl ov)))]]) (b_runVx ⟨hx, hb, hml, hown, hts⟩ (mt_DB_setBonus_x l Γ _ b h tt sv zs da tx wr fl rf P c v hnt ho hR) (lw_V q1098 q1099 q1100 q62 q1101) rfl rfl 2 (by decide +kernel) ⟨(Nat.le_of_ble_eq_true rfl), (Nat.le_of_ble_eq_true rfl)⟩ (c_pre hP hD hS hA hK hE [0, 1] rfl rfl (ro_pass (ro_sel (ro2 := [P]) hRo [0] rfl) hD hS hA [0, 1] rfl)) (recv_at (q := (RX1, TX1, 9)) hK (b_at (k := 0) hP rfl) rfl) rfl hl.1 rfl (Nat.le_of_ble_eq_true rfl) dX0_setBonus_5 ⟨(Nat.le_of_ble_eq_true rfl), (Nat.le_of_ble_eq_true rfl)⟩) hP hD hS hA [0, 1] [2] rfl rfl rfl (fun q_1 ce_1 u_1 H locs hw_1 hP hD hS _ hce_1 hcv_1 hcl_1 => ?_)
  obtain rfl := hw_1
  have hP : WP Γ [[(b, .inr (0, [.ref h.e0, .ref tt, .ref sv, .int zs, .ref da, .ref tx, .ref wr, .int fl, .int (rfBonus h.rv h.nr c v)]))], (hdB Γ h), [(ou, .inl (Γ.2.1 3, 1, .inr (.inl ov)))]] H := hP
  have hD : WD A [[(b, .inr (0, [.ref h.e0, .ref tt, .ref sv, .int zs, .ref da, .ref tx, .ref wr, .int fl, .int (rfBonus h.rv h.nr c v)]))], (hdB Γ h), [(ou, .inl (Γ.2.1 3, 1, .inr (.inl ov)))]] := hD
  refine vx_catch (name := "java/lang/UnsupportedOperationException") hown [] ⟨0, 10, 13, 30⟩ [] (htb9.trans rfl) (fun z hz => nomatch hz) (by decide) (by decide) (hts _ q948) (va_Nw.use rfl (hE.1.1 _ q983 rfl)) hce_1 hcv_1 hcl_1 ?_
  refine W.eq (g2 := F0 mi_ 13 ls ([.ref q_1])) rfl ?_
  refine lv_astore (lv' := [(4, .ref q_1), (0, .ref b), (1, .int c), (2, .int v), (3, .ref ou)]) hx hb dX0_setBonus_13 hl (by decide) rfl (fun ls hl => ?_)
  refine lv_iconst (v := 1) hx hb dX0_setBonus_15 (by decide) ?_
  exact b_iret hx hb hr hlocks hP hD hS (Nat.le_of_ble_eq_true rfl) (Nat.le_of_ble_eq_true rfl) ⟨(by first | rfl | (simp; done)), (by first | rfl | (simp; done))⟩ dX0_setBonus_16
set_option maxHeartbeats 4000000 in
set_option maxRecDepth 100000 in
theorem mt_Law_bonus_ok (l : Launch) (Γ : GE) (sz : Nat) (b : Nat) (h : HB) (tt : Nat) (sv : Nat) (zs : Int32) (da : Nat) (tx : Nat) (wr : Nat) (fl : Int32) (rf : Int32) (P : va_W) (k : Nat) (z : Int32) (ou : Nat) (ov : Nat → Int64) (hnt : l.stackTraces = false) (ho : hdOk Γ P h) (hk9 : k < h.nr) (hi9 : ¬ inC (nI k) 0 (nI h.nr - 1) = 0) : KMH l yX0_bonus cX0_bonus 5 (some FieldType.int) [(0, 10, 13, 21)] Γ 4 87 0 0 [.ref b, .int (nI k), .int z, .ref ou] [[(b, .inr (0, [.ref h.e0, .ref tt, .ref sv, .int zs, .ref da, .ref tx, .ref wr, .int fl, .int rf]))], (hdB Γ h), [(ou, .inl (Γ.2.1 3, 1, .inr (.inl ov)))]] [P] sz (Qi Γ (fun r_ u_ => r_ = 0 ∧ u_ = [[(b, .inr (0, [.ref h.e0, .ref tt, .ref sv, .int zs, .ref da, .ref tx, .ref wr, .int fl, .int rf]))], (hdB Γ h), [(ou, .inl (Γ.2.1 3, 1, .inr (.inl (vp_updL ov 0 (if z = 0 then h.rv k 0 else h.rv k 1).toInt64))))]])) := by
  refine K_introH (by decide) (Nat.le_of_ble_eq_true rfl) ?_
  intro pr_ ev_ s mi_ below meth cd_ A ls hx hb hr hml hown hts hlocks hname hK hE hRo hP hD hA hS hsz hl htb9
  have hl : lv_has ls 5 [(0, .ref b), (1, .int (nI k)), (2, .int z), (3, .ref ou)] := hl
  have hown : s.vm.findClass RX0 = some mi_.cls := hown
  refine lv_aload_n hx hb dX0_bonus_0 rfl (lv_at hl 3 rfl) ?_
  refine lv_iconst (v := 0) hx hb dX0_bonus_1 (by decide) ?_
  refine lv_aload_n hx hb dX0_bonus_2 rfl (lv_at hl 0 rfl) ?_
  refine lv_iload_n hx hb dX0_bonus_3 rfl (lv_at hl 1 rfl) ?_
  refine lv_iload_n hx hb dX0_bonus_4 rfl (lv_at hl 2 rfl) ?_
  refine b_calli (br := [[(ou, .inl (Γ.2.1 3, 1, .inr (.inl ov)))]]) (b_runV ⟨hx, hb, hml, hown, hts⟩ (mt_DB_bonus_ok l Γ _ b h tt sv zs da tx wr fl rf P k z ho hk9 hi9) (lw_V q1159 q1160 q1161 q62 q1162) rfl rfl 2 (by decide +kernel) ⟨(Nat.le_of_ble_eq_true rfl), (Nat.le_of_ble_eq_true rfl)⟩ (c_pre hP hD hS hA hK hE [0, 1] rfl rfl (ro_pass (ro_sel (ro2 := [P]) hRo [0] rfl) hD hS hA [0, 1] rfl)) (recv_at (q := (RX1, TX1, 9)) hK (b_at (k := 0) hP rfl) rfl) rfl hl.1 rfl (Nat.le_of_ble_eq_true rfl) dX0_bonus_5 ⟨(Nat.le_of_ble_eq_true rfl), (Nat.le_of_ble_eq_true rfl)⟩) hP hD hS hA [0, 1] [2] rfl rfl rfl (fun r_1 u_1 H locs hw_1 hP hD hS _ => ?_)
  obtain ⟨rfl, rfl⟩ := hw_1
  have hP : WP Γ [[(b, .inr (0, [.ref h.e0, .ref tt, .ref sv, .int zs, .ref da, .ref tx, .ref wr, .int fl, .int rf]))], (hdB Γ h), [(ou, .inl (Γ.2.1 3, 1, .inr (.inl ov)))]] H := hP
  have hD : WD A [[(b, .inr (0, [.ref h.e0, .ref tt, .ref sv, .int zs, .ref da, .ref tx, .ref wr, .int fl, .int rf]))], (hdB Γ h), [(ou, .inl (Γ.2.1 3, 1, .inr (.inl ov)))]] := hD
  refine lv_i2l hx hb dX0_bonus_8 rfl ?_
  refine b_last hx hb hK hP hD hS 2 rfl 0 rfl (by omega) (by omega) dX0_bonus_9 (fun H locs hP hD hS => ?_)
  have hP : WP Γ [[(b, .inr (0, [.ref h.e0, .ref tt, .ref sv, .int zs, .ref da, .ref tx, .ref wr, .int fl, .int rf]))], (hdB Γ h), [(ou, .inl (Γ.2.1 3, 1, .inr (.inl (vp_updL ov 0 (if z = 0 then h.rv k 0 else h.rv k 1).toInt64))))]] H := hP
  have hD : WD A [[(b, .inr (0, [.ref h.e0, .ref tt, .ref sv, .int zs, .ref da, .ref tx, .ref wr, .int fl, .int rf]))], (hdB Γ h), [(ou, .inl (Γ.2.1 3, 1, .inr (.inl (vp_updL ov 0 (if z = 0 then h.rv k 0 else h.rv k 1).toInt64))))]] := hD
  refine lv_goto (tgt := 17) hx hb dX0_bonus_10 (by decide) ?_
  refine lv_iconst (v := 0) hx hb dX0_bonus_17 (by decide) ?_
  exact b_iret hx hb hr hlocks hP hD hS (Nat.le_of_ble_eq_true rfl) (Nat.le_of_ble_eq_true rfl) ⟨(by first | rfl | (simp; done)), (by first | rfl | (simp; done))⟩ dX0_bonus_18
set_option maxHeartbeats 4000000 in
set_option maxRecDepth 100000 in
theorem mt_Law_bonus_x (l : Launch) (Γ : GE) (sz : Nat) (b : Nat) (h : HB) (tt : Nat) (sv : Nat) (zs : Int32) (da : Nat) (tx : Nat) (wr : Nat) (fl : Int32) (rf : Int32) (P : va_W) (c : Int32) (z : Int32) (ou : Nat) (ov : Nat → Int64) (hnt : l.stackTraces = false) (ho : hdOk Γ P h) (hx9 : inC c 0 (nI h.nr - 1) = 0) : KMH l yX0_bonus cX0_bonus 5 (some FieldType.int) [(0, 10, 13, 21)] Γ 8 133 1 6 [.ref b, .int c, .int z, .ref ou] [[(b, .inr (0, [.ref h.e0, .ref tt, .ref sv, .int zs, .ref da, .ref tx, .ref wr, .int fl, .int rf]))], (hdB Γ h), [(ou, .inl (Γ.2.1 3, 1, .inr (.inl ov)))]] [P] sz (Qi Γ (fun r_ u_ => r_ = 1 ∧ u_ = [[(b, .inr (0, [.ref h.e0, .ref tt, .ref sv, .int zs, .ref da, .ref tx, .ref wr, .int fl, .int rf]))], (hdB Γ h), [(ou, .inl (Γ.2.1 3, 1, .inr (.inl ov)))]])) := by
  refine K_introH (by decide) (Nat.le_of_ble_eq_true rfl) ?_
  intro pr_ ev_ s mi_ below meth cd_ A ls hx hb hr hml hown hts hlocks hname hK hE hRo hP hD hA hS hsz hl htb9
  have hl : lv_has ls 5 [(0, .ref b), (1, .int c), (2, .int z), (3, .ref ou)] := hl
  have hown : s.vm.findClass RX0 = some mi_.cls := hown
  refine lv_aload_n hx hb dX0_bonus_0 rfl (lv_at hl 3 rfl) ?_
  refine lv_iconst (v := 0) hx hb dX0_bonus_1 (by decide) ?_
  refine lv_aload_n hx hb dX0_bonus_2 rfl (lv_at hl 0 rfl) ?_
  refine lv_iload_n hx hb dX0_bonus_3 rfl (lv_at hl 1 rfl) ?_
  refine lv_iload_n hx hb dX0_bonus_4 rfl (lv_at hl 2 rfl) ?_
  refine b_callx (br := [[(ou, .inl (Γ.2.1 3, 1, .inr (.inl ov)))]]) (b_runVx ⟨hx, hb, hml, hown, hts⟩ (mt_DB_bonus_x l Γ _ b h tt sv zs da tx wr fl rf P c z hnt ho hx9) (lw_V q1159 q1160 q1161 q62 q1162) rfl rfl 2 (by decide +kernel) ⟨(Nat.le_of_ble_eq_true rfl), (Nat.le_of_ble_eq_true rfl)⟩ (c_pre hP hD hS hA hK hE [0, 1] rfl rfl (ro_pass (ro_sel (ro2 := [P]) hRo [0] rfl) hD hS hA [0, 1] rfl)) (recv_at (q := (RX1, TX1, 9)) hK (b_at (k := 0) hP rfl) rfl) rfl hl.1 rfl (Nat.le_of_ble_eq_true rfl) dX0_bonus_5 ⟨(Nat.le_of_ble_eq_true rfl), (Nat.le_of_ble_eq_true rfl)⟩) hP hD hS hA [0, 1] [2] rfl rfl rfl (fun q_1 ce_1 u_1 H locs hw_1 hP hD hS _ hce_1 hcv_1 hcl_1 => ?_)
  obtain rfl := hw_1
  have hP : WP Γ [[(b, .inr (0, [.ref h.e0, .ref tt, .ref sv, .int zs, .ref da, .ref tx, .ref wr, .int fl, .int rf]))], (hdB Γ h), [(ou, .inl (Γ.2.1 3, 1, .inr (.inl ov)))]] H := hP
  have hD : WD A [[(b, .inr (0, [.ref h.e0, .ref tt, .ref sv, .int zs, .ref da, .ref tx, .ref wr, .int fl, .int rf]))], (hdB Γ h), [(ou, .inl (Γ.2.1 3, 1, .inr (.inl ov)))]] := hD
  refine vx_catch (name := "java/lang/IndexOutOfBoundsException") hown [] ⟨0, 10, 13, 21⟩ [] (htb9.trans rfl) (fun z hz => nomatch hz) (by decide) (by decide) (hts _ q891) (va_Nw.use rfl (hE.1.1 _ q919 rfl)) hce_1 hcv_1 hcl_1 ?_
  refine W.eq (g2 := F0 mi_ 13 ls ([.ref q_1])) rfl ?_
  refine lv_astore (lv' := [(4, .ref q_1), (0, .ref b), (1, .int c), (2, .int z), (3, .ref ou)]) hx hb dX0_bonus_13 hl (by decide) rfl (fun ls hl => ?_)
  refine lv_iconst (v := 1) hx hb dX0_bonus_15 (by decide) ?_
  exact b_iret hx hb hr hlocks hP hD hS (Nat.le_of_ble_eq_true rfl) (Nat.le_of_ble_eq_true rfl) ⟨(by first | rfl | (simp; done)), (by first | rfl | (simp; done))⟩ dX0_bonus_16
set_option maxHeartbeats 4000000 in
set_option maxRecDepth 100000 in
theorem mt_Law_refusal_ok (l : Launch) (Γ : GE) (sz : Nat) (b : Nat) (h : HB) (tt : Nat) (sv : Nat) (zs : Int32) (da : Nat) (tx : Nat) (wr : Nat) (fl : Int32) (rf : Int32) (ou : Nat) (ov : Nat → Int64) (hnt : l.stackTraces = false) (hr9 : 0 < rf) : KMH l yX0_refusal cX0_refusal 3 (some FieldType.int) [(0, 8, 11, 55)] Γ 2 40 0 0 [.ref b, .ref ou] [[(b, .inr (0, [.ref h.e0, .ref tt, .ref sv, .int zs, .ref da, .ref tx, .ref wr, .int fl, .int rf]))], [(ou, .inl (Γ.2.1 3, 1, .inr (.inl ov)))]] [] sz (Qi Γ (fun r_ u_ => r_ = 0 ∧ u_ = [[(b, .inr (0, [.ref h.e0, .ref tt, .ref sv, .int zs, .ref da, .ref tx, .ref wr, .int fl, .int rf]))], [(ou, .inl (Γ.2.1 3, 1, .inr (.inl (vp_updL ov 0 rf.toInt64))))]])) := by
  refine K_introH (by decide) (Nat.le_of_ble_eq_true rfl) ?_
  intro pr_ ev_ s mi_ below meth cd_ A ls hx hb hr hml hown hts hlocks hname hK hE hRo hP hD hA hS hsz hl htb9
  have hl : lv_has ls 3 [(0, .ref b), (1, .ref ou)] := hl
  have hown : s.vm.findClass RX0 = some mi_.cls := hown
  refine lv_aload_n hx hb dX0_refusal_0 rfl (lv_at hl 1 rfl) ?_
  refine lv_iconst (v := 0) hx hb dX0_refusal_1 (by decide) ?_
  refine lv_aload_n hx hb dX0_refusal_2 rfl (lv_at hl 0 rfl) ?_
  refine b_calli (br := [[(ou, .inl (Γ.2.1 3, 1, .inr (.inl ov)))]]) (b_runV ⟨hx, hb, hml, hown, hts⟩ (mt_DB_refusal_ok l Γ _ b h tt sv zs da tx wr fl rf hr9) (lw_V q1168 q1169 q1170 q62 q1171) rfl rfl 0 (by decide +kernel) ⟨(Nat.le_of_ble_eq_true rfl), (Nat.le_of_ble_eq_true rfl)⟩ (c_pre hP hD hS hA hK hE [0] rfl rfl ro_nil) (recv_at (q := (RX1, TX1, 9)) hK (b_at (k := 0) hP rfl) rfl) rfl hl.1 rfl (Nat.le_of_ble_eq_true rfl) dX0_refusal_3 ⟨(Nat.le_of_ble_eq_true rfl), (Nat.le_of_ble_eq_true rfl)⟩) hP hD hS hA [0] [1] rfl rfl rfl (fun r_1 u_1 H locs hw_1 hP hD hS _ => ?_)
  obtain ⟨er_1, rfl⟩ := hw_1
  rw [er_1]
  have hP : WP Γ [[(b, .inr (0, [.ref h.e0, .ref tt, .ref sv, .int zs, .ref da, .ref tx, .ref wr, .int fl, .int rf]))], [(ou, .inl (Γ.2.1 3, 1, .inr (.inl ov)))]] H := hP
  have hD : WD A [[(b, .inr (0, [.ref h.e0, .ref tt, .ref sv, .int zs, .ref da, .ref tx, .ref wr, .int fl, .int rf]))], [(ou, .inl (Γ.2.1 3, 1, .inr (.inl ov)))]] := hD
  refine lv_i2l hx hb dX0_refusal_6 rfl ?_
  refine b_last hx hb hK hP hD hS 1 rfl 0 rfl (by omega) (by omega) dX0_refusal_7 (fun H locs hP hD hS => ?_)
  have hP : WP Γ [[(b, .inr (0, [.ref h.e0, .ref tt, .ref sv, .int zs, .ref da, .ref tx, .ref wr, .int fl, .int rf]))], [(ou, .inl (Γ.2.1 3, 1, .inr (.inl (vp_updL ov 0 rf.toInt64))))]] H := hP
  have hD : WD A [[(b, .inr (0, [.ref h.e0, .ref tt, .ref sv, .int zs, .ref da, .ref tx, .ref wr, .int fl, .int rf]))], [(ou, .inl (Γ.2.1 3, 1, .inr (.inl (vp_updL ov 0 rf.toInt64))))]] := hD
  refine lv_goto (tgt := 14) hx hb dX0_refusal_8 (by decide) ?_
  refine lv_iconst (v := 0) hx hb dX0_refusal_14 (by decide) ?_
  exact b_iret hx hb hr hlocks hP hD hS (Nat.le_of_ble_eq_true rfl) (Nat.le_of_ble_eq_true rfl) ⟨(by first | rfl | (simp; done)), (by first | rfl | (simp; done))⟩ dX0_refusal_15
set_option maxHeartbeats 4000000 in
set_option maxRecDepth 100000 in
theorem mt_Law_refusal_x (l : Launch) (Γ : GE) (sz : Nat) (b : Nat) (h : HB) (tt : Nat) (sv : Nat) (zs : Int32) (da : Nat) (tx : Nat) (wr : Nat) (fl : Int32) (rf : Int32) (ou : Nat) (ov : Nat → Int64) (hnt : l.stackTraces = false) (hx9 : ¬ 0 < rf) : KMH l yX0_refusal cX0_refusal 3 (some FieldType.int) [(0, 8, 11, 55)] Γ 8 130 1 6 [.ref b, .ref ou] [[(b, .inr (0, [.ref h.e0, .ref tt, .ref sv, .int zs, .ref da, .ref tx, .ref wr, .int fl, .int rf]))], [(ou, .inl (Γ.2.1 3, 1, .inr (.inl ov)))]] [] sz (Qi Γ (fun r_ u_ => r_ = 1 ∧ u_ = [[(b, .inr (0, [.ref h.e0, .ref tt, .ref sv, .int zs, .ref da, .ref tx, .ref wr, .int fl, .int rf]))], [(ou, .inl (Γ.2.1 3, 1, .inr (.inl ov)))]])) := by
  refine K_introH (by decide) (Nat.le_of_ble_eq_true rfl) ?_
  intro pr_ ev_ s mi_ below meth cd_ A ls hx hb hr hml hown hts hlocks hname hK hE hRo hP hD hA hS hsz hl htb9
  have hl : lv_has ls 3 [(0, .ref b), (1, .ref ou)] := hl
  have hown : s.vm.findClass RX0 = some mi_.cls := hown
  refine lv_aload_n hx hb dX0_refusal_0 rfl (lv_at hl 1 rfl) ?_
  refine lv_iconst (v := 0) hx hb dX0_refusal_1 (by decide) ?_
  refine lv_aload_n hx hb dX0_refusal_2 rfl (lv_at hl 0 rfl) ?_
  refine b_callx (br := [[(ou, .inl (Γ.2.1 3, 1, .inr (.inl ov)))]]) (b_runVx ⟨hx, hb, hml, hown, hts⟩ (mt_DB_refusal_x l Γ _ b h tt sv zs da tx wr fl rf hnt hx9) (lw_V q1168 q1169 q1170 q62 q1171) rfl rfl 0 (by decide +kernel) ⟨(Nat.le_of_ble_eq_true rfl), (Nat.le_of_ble_eq_true rfl)⟩ (c_pre hP hD hS hA hK hE [0] rfl rfl ro_nil) (recv_at (q := (RX1, TX1, 9)) hK (b_at (k := 0) hP rfl) rfl) rfl hl.1 rfl (Nat.le_of_ble_eq_true rfl) dX0_refusal_3 ⟨(Nat.le_of_ble_eq_true rfl), (Nat.le_of_ble_eq_true rfl)⟩) hP hD hS hA [0] [1] rfl rfl rfl (fun q_1 ce_1 u_1 H locs hw_1 hP hD hS _ hce_1 hcv_1 hcl_1 => ?_)
  obtain rfl := hw_1
  have hP : WP Γ [[(b, .inr (0, [.ref h.e0, .ref tt, .ref sv, .int zs, .ref da, .ref tx, .ref wr, .int fl, .int rf]))], [(ou, .inl (Γ.2.1 3, 1, .inr (.inl ov)))]] H := hP
  have hD : WD A [[(b, .inr (0, [.ref h.e0, .ref tt, .ref sv, .int zs, .ref da, .ref tx, .ref wr, .int fl, .int rf]))], [(ou, .inl (Γ.2.1 3, 1, .inr (.inl ov)))]] := hD
  refine vx_catch (name := "java/util/NoSuchElementException") hown [] ⟨0, 8, 11, 55⟩ [] (htb9.trans rfl) (fun z hz => nomatch hz) (by decide) (by decide) (hts _ q1167) (va_Nw.use rfl (hE.1.1 _ q344 rfl)) hce_1 hcv_1 hcl_1 ?_
  refine W.eq (g2 := F0 mi_ 11 ls ([.ref q_1])) rfl ?_
  refine lv_astore_n (lv' := [(2, .ref q_1), (0, .ref b), (1, .ref ou)]) hx hb dX0_refusal_11 rfl hl (by decide) rfl (fun ls hl => ?_)
  refine lv_iconst (v := 1) hx hb dX0_refusal_12 (by decide) ?_
  exact b_iret hx hb hr hlocks hP hD hS (Nat.le_of_ble_eq_true rfl) (Nat.le_of_ble_eq_true rfl) ⟨(by first | rfl | (simp; done)), (by first | rfl | (simp; done))⟩ dX0_refusal_13
set_option maxHeartbeats 4000000 in
set_option maxRecDepth 100000 in
theorem mt_Law_pass_ok (l : Launch) (Γ : GE) (sz : Nat) (b : Nat) (h : HB) (tt : Nat) (sv : Nat) (zs : Int32) (da : Nat) (tx : Nat) (wr : Nat) (fl : Int32) (rf : Int32) (dv : Nat) (df : Nat → Option Nat) (dp : Nat) (kn : Nat) (hk : Nat → HB) (P : va_W) (q : Nat) (w : Nat) (ou : Nat) (ov : Nat → Int64) (hnt : l.stackTraces = false) (ho : hdOk Γ P h) (hko : ∀ k, k < kn → hdOk Γ P (hk k)) (hk8 : kn ≤ 8) (hdq : dqI df dp kn (kpA hk)) (hq1 : 1 ≤ q) (hq30 : q ≤ 30) (hcp : ¬ cpS h.S.td (nI q) = 0) (hw : h.se 4 = nI w) (hw9 : w ≤ 9) (hs2 : ¬ h.se 2 = 0) (hz : ∀ j, j < q → dyOk h.n h.se w (dyN h.n h.nr h.rv h.se w h.S j)) : KMH l yX0_pass cX0_pass 4 (some FieldType.int) [(0, 9, 12, 13)] Γ 11 280 (2 * h.n + 30 + 6 * q) (112 * h.n + 700 + 140 * q) [.ref b, .int (nI q), .ref ou] [[(b, .inr (0, [.ref h.e0, .ref tt, .ref sv, .int zs, .ref da, .ref tx, .ref wr, .int fl, .int rf]))], (hdB Γ h), [(da, .inr (12, [.ref dv, .int (nI dp), .int (nI ((dp + kn) % 17))]))], [(dv, .inl (Γ.2.1 2, 17, .inr (.inr (.inr (.inr df)))))], (kpB Γ kn hk), P, [(ou, .inl (Γ.2.1 3, 1, .inr (.inl ov)))]] [] sz (Qi Γ (fun r_ u_ => ∃ g : HB, ∃ f2 : Nat → Option Nat, ∃ y : LST, ∃ m : Int32, ∃ pb : Nat → Nat, ∃ Q : va_W, hvEq g h ∧ hdOk Γ P g ∧ dqI f2 (kpP9 kn dp) (kpN kn) (kpA (kpH kn hk g)) ∧ alI Γ y (dyN h.n h.nr h.rv h.se w h.S q).np pb ∧ (∀ k, k < (dyN h.n h.nr h.rv h.se w h.S q).np → (pb k, pickE ((dyN h.n h.nr h.rv h.se w h.S q).pv k)) ∈ Q) ∧ (∀ z, z ∈ P → z ∈ Q) ∧ r_ = 0 ∧ u_ = [[(b, .inr (0, [.ref h.e0, .ref tt, .ref sv, .int zs, .ref da, .ref tx, .ref wr, .int fl, .int rf]))], (hdB Γ (HB.setPk h (dyN h.n h.nr h.rv h.se w h.S q) y m pb)), [(da, .inr (12, [.ref dv, .int (nI (kpP9 kn dp)), .int (nI (((kpP9 kn dp) + (kpN kn)) % 17))]))], [(dv, .inl (Γ.2.1 2, 17, .inr (.inr (.inr (.inr f2)))))], (kpB Γ (kpN kn) (kpH kn hk g)), Q, [(ou, .inl (Γ.2.1 3, 1, .inr (.inl (vp_updL ov 0 (dyP h.n h.nr h.rv h.se w h.S q).toInt64))))]])) := by
  refine K_introH (by decide) (Nat.le_of_ble_eq_true rfl) ?_
  intro pr_ ev_ s mi_ below meth cd_ A ls hx hb hr hml hown hts hlocks hname hK hE hRo hP hD hA hS hsz hl htb9
  have hl : lv_has ls 4 [(0, .ref b), (1, .int (nI q)), (2, .ref ou)] := hl
  have hown : s.vm.findClass RX0 = some mi_.cls := hown
  refine lv_aload_n hx hb dX0_pass_0 rfl (lv_at hl 2 rfl) ?_
  refine lv_iconst (v := 0) hx hb dX0_pass_1 (by decide) ?_
  refine lv_aload_n hx hb dX0_pass_2 rfl (lv_at hl 0 rfl) ?_
  refine lv_iload_n hx hb dX0_pass_3 rfl (lv_at hl 1 rfl) ?_
  refine b_calli (br := [[(ou, .inl (Γ.2.1 3, 1, .inr (.inl ov)))]]) (b_runV ⟨hx, hb, hml, hown, hts⟩ (mt_DB_pass_ok l Γ _ b h tt sv zs da tx wr fl rf dv df dp kn hk P q w ho hko hk8 hdq hq1 hq30 hcp hw hw9 hs2 hz) (lw_V q1180 q1181 q1182 q62 q1183) rfl rfl 1 (by decide +kernel) ⟨(Nat.le_of_ble_eq_true rfl), (Nat.le_of_ble_eq_true rfl)⟩ (c_pre hP hD hS hA hK hE [0, 1, 2, 3, 4, 5] rfl rfl ro_nil) (recv_at (q := (RX1, TX1, 9)) hK (b_at (k := 0) hP rfl) rfl) rfl hl.1 rfl (Nat.le_of_ble_eq_true rfl) dX0_pass_4 ⟨(by first | omega | (dsimp only; omega)), (by first | omega | (dsimp only; omega))⟩) hP hD hS hA [0, 1, 2, 3, 4, 5] [6] rfl rfl rfl (fun r_1 u_1 H locs hw_1 hP hD hS _ => ?_)
  obtain ⟨g_1, f2_1, y_1, m_1, pb_1, Q_1, hv_1, hG_1, hq_1, hy_1, hqq_1, hs_1, rfl, rfl⟩ := hw_1
  have hP : WP Γ [[(b, .inr (0, [.ref h.e0, .ref tt, .ref sv, .int zs, .ref da, .ref tx, .ref wr, .int fl, .int rf]))], (hdB Γ (HB.setPk h (dyN h.n h.nr h.rv h.se w h.S q) y_1 m_1 pb_1)), [(da, .inr (12, [.ref dv, .int (nI (kpP9 kn dp)), .int (nI (((kpP9 kn dp) + (kpN kn)) % 17))]))], [(dv, .inl (Γ.2.1 2, 17, .inr (.inr (.inr (.inr f2_1)))))], (kpB Γ (kpN kn) (kpH kn hk g_1)), Q_1, [(ou, .inl (Γ.2.1 3, 1, .inr (.inl ov)))]] H := hP
  have hD : WD A [[(b, .inr (0, [.ref h.e0, .ref tt, .ref sv, .int zs, .ref da, .ref tx, .ref wr, .int fl, .int rf]))], (hdB Γ (HB.setPk h (dyN h.n h.nr h.rv h.se w h.S q) y_1 m_1 pb_1)), [(da, .inr (12, [.ref dv, .int (nI (kpP9 kn dp)), .int (nI (((kpP9 kn dp) + (kpN kn)) % 17))]))], [(dv, .inl (Γ.2.1 2, 17, .inr (.inr (.inr (.inr f2_1)))))], (kpB Γ (kpN kn) (kpH kn hk g_1)), Q_1, [(ou, .inl (Γ.2.1 3, 1, .inr (.inl ov)))]] := hD
  refine lv_i2l hx hb dX0_pass_7 rfl ?_
  refine b_last hx hb hK hP hD hS 6 rfl 0 rfl (by omega) (by omega) dX0_pass_8 (fun H locs hP hD hS => ?_)
  have hP : WP Γ [[(b, .inr (0, [.ref h.e0, .ref tt, .ref sv, .int zs, .ref da, .ref tx, .ref wr, .int fl, .int rf]))], (hdB Γ (HB.setPk h (dyN h.n h.nr h.rv h.se w h.S q) y_1 m_1 pb_1)), [(da, .inr (12, [.ref dv, .int (nI (kpP9 kn dp)), .int (nI (((kpP9 kn dp) + (kpN kn)) % 17))]))], [(dv, .inl (Γ.2.1 2, 17, .inr (.inr (.inr (.inr f2_1)))))], (kpB Γ (kpN kn) (kpH kn hk g_1)), Q_1, [(ou, .inl (Γ.2.1 3, 1, .inr (.inl (vp_updL ov 0 (dyP h.n h.nr h.rv h.se w h.S q).toInt64))))]] H := hP
  have hD : WD A [[(b, .inr (0, [.ref h.e0, .ref tt, .ref sv, .int zs, .ref da, .ref tx, .ref wr, .int fl, .int rf]))], (hdB Γ (HB.setPk h (dyN h.n h.nr h.rv h.se w h.S q) y_1 m_1 pb_1)), [(da, .inr (12, [.ref dv, .int (nI (kpP9 kn dp)), .int (nI (((kpP9 kn dp) + (kpN kn)) % 17))]))], [(dv, .inl (Γ.2.1 2, 17, .inr (.inr (.inr (.inr f2_1)))))], (kpB Γ (kpN kn) (kpH kn hk g_1)), Q_1, [(ou, .inl (Γ.2.1 3, 1, .inr (.inl (vp_updL ov 0 (dyP h.n h.nr h.rv h.se w h.S q).toInt64))))]] := hD
  refine lv_goto (tgt := 15) hx hb dX0_pass_9 (by decide) ?_
  refine lv_iconst (v := 0) hx hb dX0_pass_15 (by decide) ?_
  exact b_iret hx hb hr hlocks hP hD hS (by first | omega | (dsimp only; omega)) (by first | omega | (dsimp only; omega)) ⟨g_1, f2_1, y_1, m_1, pb_1, Q_1, hv_1, hG_1, hq_1, hy_1, hqq_1, hs_1, (by first | rfl | (simp; done)), (by first | rfl | (simp; done))⟩ dX0_pass_16
set_option maxHeartbeats 4000000 in
set_option maxRecDepth 100000 in
theorem mt_Law_pass_x (l : Launch) (Γ : GE) (sz : Nat) (b : Nat) (h : HB) (tt : Nat) (sv : Nat) (zs : Int32) (da : Nat) (tx : Nat) (wr : Nat) (fl : Int32) (rf : Int32) (P : va_W) (d : Int32) (ou : Nat) (ov : Nat → Int64) (hnt : l.stackTraces = false) (ho : hdOk Γ P h) (hx9 : d < 1 ∨ cpS h.S.td d = 0) : KMH l yX0_pass cX0_pass 4 (some FieldType.int) [(0, 9, 12, 13)] Γ 8 131 1 6 [.ref b, .int d, .ref ou] [[(b, .inr (0, [.ref h.e0, .ref tt, .ref sv, .int zs, .ref da, .ref tx, .ref wr, .int fl, .int rf]))], (hdB Γ h), [(ou, .inl (Γ.2.1 3, 1, .inr (.inl ov)))]] [P] sz (Qi Γ (fun r_ u_ => r_ = 1 ∧ u_ = [[(b, .inr (0, [.ref h.e0, .ref tt, .ref sv, .int zs, .ref da, .ref tx, .ref wr, .int fl, .int rf]))], (hdB Γ h), [(ou, .inl (Γ.2.1 3, 1, .inr (.inl ov)))]])) := by
  refine K_introH (by decide) (Nat.le_of_ble_eq_true rfl) ?_
  intro pr_ ev_ s mi_ below meth cd_ A ls hx hb hr hml hown hts hlocks hname hK hE hRo hP hD hA hS hsz hl htb9
  have hl : lv_has ls 4 [(0, .ref b), (1, .int d), (2, .ref ou)] := hl
  have hown : s.vm.findClass RX0 = some mi_.cls := hown
  refine lv_aload_n hx hb dX0_pass_0 rfl (lv_at hl 2 rfl) ?_
  refine lv_iconst (v := 0) hx hb dX0_pass_1 (by decide) ?_
  refine lv_aload_n hx hb dX0_pass_2 rfl (lv_at hl 0 rfl) ?_
  refine lv_iload_n hx hb dX0_pass_3 rfl (lv_at hl 1 rfl) ?_
  refine b_callx (br := [[(ou, .inl (Γ.2.1 3, 1, .inr (.inl ov)))]]) (b_runVx ⟨hx, hb, hml, hown, hts⟩ (mt_DB_pass_x l Γ _ b h tt sv zs da tx wr fl rf P d hnt ho hx9) (lw_V q1180 q1181 q1182 q62 q1183) rfl rfl 1 (by decide +kernel) ⟨(Nat.le_of_ble_eq_true rfl), (Nat.le_of_ble_eq_true rfl)⟩ (c_pre hP hD hS hA hK hE [0, 1] rfl rfl (ro_pass (ro_sel (ro2 := [P]) hRo [0] rfl) hD hS hA [0, 1] rfl)) (recv_at (q := (RX1, TX1, 9)) hK (b_at (k := 0) hP rfl) rfl) rfl hl.1 rfl (Nat.le_of_ble_eq_true rfl) dX0_pass_4 ⟨(Nat.le_of_ble_eq_true rfl), (Nat.le_of_ble_eq_true rfl)⟩) hP hD hS hA [0, 1] [2] rfl rfl rfl (fun q_1 ce_1 u_1 H locs hw_1 hP hD hS _ hce_1 hcv_1 hcl_1 => ?_)
  obtain rfl := hw_1
  have hP : WP Γ [[(b, .inr (0, [.ref h.e0, .ref tt, .ref sv, .int zs, .ref da, .ref tx, .ref wr, .int fl, .int rf]))], (hdB Γ h), [(ou, .inl (Γ.2.1 3, 1, .inr (.inl ov)))]] H := hP
  have hD : WD A [[(b, .inr (0, [.ref h.e0, .ref tt, .ref sv, .int zs, .ref da, .ref tx, .ref wr, .int fl, .int rf]))], (hdB Γ h), [(ou, .inl (Γ.2.1 3, 1, .inr (.inl ov)))]] := hD
  refine vx_catch (name := "java/lang/IllegalArgumentException") hown [] ⟨0, 9, 12, 13⟩ [] (htb9.trans rfl) (fun z hz => nomatch hz) (by decide) (by decide) (hts _ q800) (va_Nw.use rfl (hE.1.1 _ q568 rfl)) hce_1 hcv_1 hcl_1 ?_
  refine W.eq (g2 := F0 mi_ 12 ls ([.ref q_1])) rfl ?_
  refine lv_astore_n (lv' := [(3, .ref q_1), (0, .ref b), (1, .int d), (2, .ref ou)]) hx hb dX0_pass_12 rfl hl (by decide) rfl (fun ls hl => ?_)
  refine lv_iconst (v := 1) hx hb dX0_pass_13 (by decide) ?_
  exact b_iret hx hb hr hlocks hP hD hS (Nat.le_of_ble_eq_true rfl) (Nat.le_of_ble_eq_true rfl) ⟨(by first | rfl | (simp; done)), (by first | rfl | (simp; done))⟩ dX0_pass_14
set_option maxHeartbeats 4000000 in
set_option maxRecDepth 100000 in
theorem mt_Law_cow_ok (l : Launch) (Γ : GE) (sz : Nat) (b : Nat) (h : HB) (tt : Nat) (sv : Nat) (zs : Int32) (da : Nat) (tx : Nat) (wr : Nat) (fl : Int32) (rf : Int32) (P : va_W) (k : Nat) (w : Int32) (ou : Nat) (ov : Nat → Int64) (hnt : l.stackTraces = false) (ho : hdOk Γ P h) (hk9 : k < h.n) (hi9 : ¬ inC (nI k) 0 (nI h.n - 1) = 0) (hw9 : ¬ inC w 0 8 = 0) : KMH l yX0_cow cX0_cow 5 (some FieldType.int) [(0, 10, 13, 21), (0, 10, 17, 13)] Γ 5 120 0 0 [.ref b, .int (nI k), .int w, .ref ou] [[(b, .inr (0, [.ref h.e0, .ref tt, .ref sv, .int zs, .ref da, .ref tx, .ref wr, .int fl, .int rf]))], (hdB Γ h), [(ou, .inl (Γ.2.1 3, 1, .inr (.inl ov)))]] [P] sz (Qi Γ (fun r_ u_ => r_ = 0 ∧ u_ = [[(b, .inr (0, [.ref h.e0, .ref tt, .ref sv, .int zs, .ref da, .ref tx, .ref wr, .int fl, .int rf]))], (hdB Γ h), [(ou, .inl (Γ.2.1 3, 1, .inr (.inl (vp_updL ov 0 (cowTold (h.S.cv k) w h.S.td).toInt64))))]])) := by
  refine K_introH (by decide) (Nat.le_of_ble_eq_true rfl) ?_
  intro pr_ ev_ s mi_ below meth cd_ A ls hx hb hr hml hown hts hlocks hname hK hE hRo hP hD hA hS hsz hl htb9
  have hl : lv_has ls 5 [(0, .ref b), (1, .int (nI k)), (2, .int w), (3, .ref ou)] := hl
  have hown : s.vm.findClass RX0 = some mi_.cls := hown
  refine lv_aload_n hx hb dX0_cow_0 rfl (lv_at hl 3 rfl) ?_
  refine lv_iconst (v := 0) hx hb dX0_cow_1 (by decide) ?_
  refine lv_aload_n hx hb dX0_cow_2 rfl (lv_at hl 0 rfl) ?_
  refine lv_iload_n hx hb dX0_cow_3 rfl (lv_at hl 1 rfl) ?_
  refine lv_iload_n hx hb dX0_cow_4 rfl (lv_at hl 2 rfl) ?_
  refine b_calli (br := [[(ou, .inl (Γ.2.1 3, 1, .inr (.inl ov)))]]) (b_runV ⟨hx, hb, hml, hown, hts⟩ (mt_DB_cow_ok l Γ _ b h tt sv zs da tx wr fl rf P k w ho hk9 hi9 hw9) (lw_V q1290 q1291 q1292 q62 q1293) rfl rfl 2 (by decide +kernel) ⟨(Nat.le_of_ble_eq_true rfl), (Nat.le_of_ble_eq_true rfl)⟩ (c_pre hP hD hS hA hK hE [0, 1] rfl rfl (ro_pass (ro_sel (ro2 := [P]) hRo [0] rfl) hD hS hA [0, 1] rfl)) (recv_at (q := (RX1, TX1, 9)) hK (b_at (k := 0) hP rfl) rfl) rfl hl.1 rfl (Nat.le_of_ble_eq_true rfl) dX0_cow_5 ⟨(Nat.le_of_ble_eq_true rfl), (Nat.le_of_ble_eq_true rfl)⟩) hP hD hS hA [0, 1] [2] rfl rfl rfl (fun r_1 u_1 H locs hw_1 hP hD hS _ => ?_)
  obtain ⟨rfl, rfl⟩ := hw_1
  have hP : WP Γ [[(b, .inr (0, [.ref h.e0, .ref tt, .ref sv, .int zs, .ref da, .ref tx, .ref wr, .int fl, .int rf]))], (hdB Γ h), [(ou, .inl (Γ.2.1 3, 1, .inr (.inl ov)))]] H := hP
  have hD : WD A [[(b, .inr (0, [.ref h.e0, .ref tt, .ref sv, .int zs, .ref da, .ref tx, .ref wr, .int fl, .int rf]))], (hdB Γ h), [(ou, .inl (Γ.2.1 3, 1, .inr (.inl ov)))]] := hD
  refine lv_i2l hx hb dX0_cow_8 rfl ?_
  refine b_last hx hb hK hP hD hS 2 rfl 0 rfl (by omega) (by omega) dX0_cow_9 (fun H locs hP hD hS => ?_)
  have hP : WP Γ [[(b, .inr (0, [.ref h.e0, .ref tt, .ref sv, .int zs, .ref da, .ref tx, .ref wr, .int fl, .int rf]))], (hdB Γ h), [(ou, .inl (Γ.2.1 3, 1, .inr (.inl (vp_updL ov 0 (cowTold (h.S.cv k) w h.S.td).toInt64))))]] H := hP
  have hD : WD A [[(b, .inr (0, [.ref h.e0, .ref tt, .ref sv, .int zs, .ref da, .ref tx, .ref wr, .int fl, .int rf]))], (hdB Γ h), [(ou, .inl (Γ.2.1 3, 1, .inr (.inl (vp_updL ov 0 (cowTold (h.S.cv k) w h.S.td).toInt64))))]] := hD
  refine lv_goto (tgt := 21) hx hb dX0_cow_10 (by decide) ?_
  refine lv_iconst (v := 0) hx hb dX0_cow_21 (by decide) ?_
  exact b_iret hx hb hr hlocks hP hD hS (Nat.le_of_ble_eq_true rfl) (Nat.le_of_ble_eq_true rfl) ⟨(by first | rfl | (simp; done)), (by first | rfl | (simp; done))⟩ dX0_cow_22
set_option maxHeartbeats 4000000 in
set_option maxRecDepth 100000 in
theorem mt_Law_cow_x1 (l : Launch) (Γ : GE) (sz : Nat) (b : Nat) (h : HB) (tt : Nat) (sv : Nat) (zs : Int32) (da : Nat) (tx : Nat) (wr : Nat) (fl : Int32) (rf : Int32) (P : va_W) (c : Int32) (w : Int32) (ou : Nat) (ov : Nat → Int64) (hnt : l.stackTraces = false) (ho : hdOk Γ P h) (hx9 : inC c 0 (nI h.n - 1) = 0) : KMH l yX0_cow cX0_cow 5 (some FieldType.int) [(0, 10, 13, 21), (0, 10, 17, 13)] Γ 9 154 1 6 [.ref b, .int c, .int w, .ref ou] [[(b, .inr (0, [.ref h.e0, .ref tt, .ref sv, .int zs, .ref da, .ref tx, .ref wr, .int fl, .int rf]))], (hdB Γ h), [(ou, .inl (Γ.2.1 3, 1, .inr (.inl ov)))]] [P] sz (Qi Γ (fun r_ u_ => r_ = 1 ∧ u_ = [[(b, .inr (0, [.ref h.e0, .ref tt, .ref sv, .int zs, .ref da, .ref tx, .ref wr, .int fl, .int rf]))], (hdB Γ h), [(ou, .inl (Γ.2.1 3, 1, .inr (.inl ov)))]])) := by
  refine K_introH (by decide) (Nat.le_of_ble_eq_true rfl) ?_
  intro pr_ ev_ s mi_ below meth cd_ A ls hx hb hr hml hown hts hlocks hname hK hE hRo hP hD hA hS hsz hl htb9
  have hl : lv_has ls 5 [(0, .ref b), (1, .int c), (2, .int w), (3, .ref ou)] := hl
  have hown : s.vm.findClass RX0 = some mi_.cls := hown
  refine lv_aload_n hx hb dX0_cow_0 rfl (lv_at hl 3 rfl) ?_
  refine lv_iconst (v := 0) hx hb dX0_cow_1 (by decide) ?_
  refine lv_aload_n hx hb dX0_cow_2 rfl (lv_at hl 0 rfl) ?_
  refine lv_iload_n hx hb dX0_cow_3 rfl (lv_at hl 1 rfl) ?_
  refine lv_iload_n hx hb dX0_cow_4 rfl (lv_at hl 2 rfl) ?_
  refine b_callx (br := [[(ou, .inl (Γ.2.1 3, 1, .inr (.inl ov)))]]) (b_runVx ⟨hx, hb, hml, hown, hts⟩ (mt_DB_cow_x1 l Γ _ b h tt sv zs da tx wr fl rf P c w hnt ho hx9) (lw_V q1290 q1291 q1292 q62 q1293) rfl rfl 2 (by decide +kernel) ⟨(Nat.le_of_ble_eq_true rfl), (Nat.le_of_ble_eq_true rfl)⟩ (c_pre hP hD hS hA hK hE [0, 1] rfl rfl (ro_pass (ro_sel (ro2 := [P]) hRo [0] rfl) hD hS hA [0, 1] rfl)) (recv_at (q := (RX1, TX1, 9)) hK (b_at (k := 0) hP rfl) rfl) rfl hl.1 rfl (Nat.le_of_ble_eq_true rfl) dX0_cow_5 ⟨(Nat.le_of_ble_eq_true rfl), (Nat.le_of_ble_eq_true rfl)⟩) hP hD hS hA [0, 1] [2] rfl rfl rfl (fun q_1 ce_1 u_1 H locs hw_1 hP hD hS _ hce_1 hcv_1 hcl_1 => ?_)
  obtain rfl := hw_1
  have hP : WP Γ [[(b, .inr (0, [.ref h.e0, .ref tt, .ref sv, .int zs, .ref da, .ref tx, .ref wr, .int fl, .int rf]))], (hdB Γ h), [(ou, .inl (Γ.2.1 3, 1, .inr (.inl ov)))]] H := hP
  have hD : WD A [[(b, .inr (0, [.ref h.e0, .ref tt, .ref sv, .int zs, .ref da, .ref tx, .ref wr, .int fl, .int rf]))], (hdB Γ h), [(ou, .inl (Γ.2.1 3, 1, .inr (.inl ov)))]] := hD
  refine vx_catch (name := "java/lang/IndexOutOfBoundsException") hown [] ⟨0, 10, 13, 21⟩ [⟨0, 10, 17, 13⟩] (htb9.trans rfl) (fun z hz => nomatch hz) (by decide) (by decide) (hts _ q891) (va_Nw.use rfl (hE.1.1 _ q919 rfl)) hce_1 hcv_1 hcl_1 ?_
  refine W.eq (g2 := F0 mi_ 13 ls ([.ref q_1])) rfl ?_
  refine lv_astore (lv' := [(4, .ref q_1), (0, .ref b), (1, .int c), (2, .int w), (3, .ref ou)]) hx hb dX0_cow_13 hl (by decide) rfl (fun ls hl => ?_)
  refine lv_iconst (v := 1) hx hb dX0_cow_15 (by decide) ?_
  exact b_iret hx hb hr hlocks hP hD hS (Nat.le_of_ble_eq_true rfl) (Nat.le_of_ble_eq_true rfl) ⟨(by first | rfl | (simp; done)), (by first | rfl | (simp; done))⟩ dX0_cow_16
set_option maxHeartbeats 4000000 in
set_option maxRecDepth 100000 in
theorem mt_Law_cow_x2 (l : Launch) (Γ : GE) (sz : Nat) (b : Nat) (h : HB) (tt : Nat) (sv : Nat) (zs : Int32) (da : Nat) (tx : Nat) (wr : Nat) (fl : Int32) (rf : Int32) (P : va_W) (k : Nat) (w : Int32) (ou : Nat) (ov : Nat → Int64) (hnt : l.stackTraces = false) (ho : hdOk Γ P h) (hk9 : k < h.n) (hi9 : ¬ inC (nI k) 0 (nI h.n - 1) = 0) (hx9 : inC w 0 8 = 0) : KMH l yX0_cow cX0_cow 5 (some FieldType.int) [(0, 10, 13, 21), (0, 10, 17, 13)] Γ 8 133 1 6 [.ref b, .int (nI k), .int w, .ref ou] [[(b, .inr (0, [.ref h.e0, .ref tt, .ref sv, .int zs, .ref da, .ref tx, .ref wr, .int fl, .int rf]))], (hdB Γ h), [(ou, .inl (Γ.2.1 3, 1, .inr (.inl ov)))]] [P] sz (Qi Γ (fun r_ u_ => r_ = 2 ∧ u_ = [[(b, .inr (0, [.ref h.e0, .ref tt, .ref sv, .int zs, .ref da, .ref tx, .ref wr, .int fl, .int rf]))], (hdB Γ h), [(ou, .inl (Γ.2.1 3, 1, .inr (.inl ov)))]])) := by
  refine K_introH (by decide) (Nat.le_of_ble_eq_true rfl) ?_
  intro pr_ ev_ s mi_ below meth cd_ A ls hx hb hr hml hown hts hlocks hname hK hE hRo hP hD hA hS hsz hl htb9
  have hl : lv_has ls 5 [(0, .ref b), (1, .int (nI k)), (2, .int w), (3, .ref ou)] := hl
  have hown : s.vm.findClass RX0 = some mi_.cls := hown
  refine lv_aload_n hx hb dX0_cow_0 rfl (lv_at hl 3 rfl) ?_
  refine lv_iconst (v := 0) hx hb dX0_cow_1 (by decide) ?_
  refine lv_aload_n hx hb dX0_cow_2 rfl (lv_at hl 0 rfl) ?_
  refine lv_iload_n hx hb dX0_cow_3 rfl (lv_at hl 1 rfl) ?_
  refine lv_iload_n hx hb dX0_cow_4 rfl (lv_at hl 2 rfl) ?_
  refine b_callx (br := [[(ou, .inl (Γ.2.1 3, 1, .inr (.inl ov)))]]) (b_runVx ⟨hx, hb, hml, hown, hts⟩ (mt_DB_cow_x2 l Γ _ b h tt sv zs da tx wr fl rf P k w hnt ho hk9 hi9 hx9) (lw_V q1290 q1291 q1292 q62 q1293) rfl rfl 2 (by decide +kernel) ⟨(Nat.le_of_ble_eq_true rfl), (Nat.le_of_ble_eq_true rfl)⟩ (c_pre hP hD hS hA hK hE [0, 1] rfl rfl (ro_pass (ro_sel (ro2 := [P]) hRo [0] rfl) hD hS hA [0, 1] rfl)) (recv_at (q := (RX1, TX1, 9)) hK (b_at (k := 0) hP rfl) rfl) rfl hl.1 rfl (Nat.le_of_ble_eq_true rfl) dX0_cow_5 ⟨(Nat.le_of_ble_eq_true rfl), (Nat.le_of_ble_eq_true rfl)⟩) hP hD hS hA [0, 1] [2] rfl rfl rfl (fun q_1 ce_1 u_1 H locs hw_1 hP hD hS _ hce_1 hcv_1 hcl_1 => ?_)
  obtain rfl := hw_1
  have hP : WP Γ [[(b, .inr (0, [.ref h.e0, .ref tt, .ref sv, .int zs, .ref da, .ref tx, .ref wr, .int fl, .int rf]))], (hdB Γ h), [(ou, .inl (Γ.2.1 3, 1, .inr (.inl ov)))]] H := hP
  have hD : WD A [[(b, .inr (0, [.ref h.e0, .ref tt, .ref sv, .int zs, .ref da, .ref tx, .ref wr, .int fl, .int rf]))], (hdB Γ h), [(ou, .inl (Γ.2.1 3, 1, .inr (.inl ov)))]] := hD
  refine vx_catch (name := "java/lang/IllegalArgumentException") hown [⟨0, 10, 13, 21⟩] ⟨0, 10, 17, 13⟩ [] (htb9.trans rfl) (fun z hz => by rw [List.mem_singleton.mp hz]; exact Or.inr ⟨by decide, "java/lang/IndexOutOfBoundsException", hts _ q891, hE.1.2.2.2 _ (List.mem_of_getElem? (i := 1) rfl)⟩) (by decide) (by decide) (hts _ q800) (va_Nw.use rfl (hE.1.1 _ q568 rfl)) hce_1 hcv_1 hcl_1 ?_
  refine W.eq (g2 := F0 mi_ 17 ls ([.ref q_1])) rfl ?_
  refine lv_astore (lv' := [(4, .ref q_1), (0, .ref b), (1, .int (nI k)), (2, .int w), (3, .ref ou)]) hx hb dX0_cow_17 hl (by decide) rfl (fun ls hl => ?_)
  refine lv_iconst (v := 2) hx hb dX0_cow_19 (by decide) ?_
  exact b_iret hx hb hr hlocks hP hD hS (Nat.le_of_ble_eq_true rfl) (Nat.le_of_ble_eq_true rfl) ⟨(by first | rfl | (simp; done)), (by first | rfl | (simp; done))⟩ dX0_cow_20
set_option maxHeartbeats 4000000 in
set_option maxRecDepth 100000 in
theorem mt_Law_curve_ok (l : Launch) (Γ : GE) (sz : Nat) (b : Nat) (h : HB) (tt : Nat) (sv : Nat) (zs : Int32) (da : Nat) (tx : Nat) (wr : Nat) (fl : Int32) (rf : Int32) (P : va_W) (k : Nat) (w : Int32) (ou : Nat) (ov : Nat → Int64) (hnt : l.stackTraces = false) (ho : hdOk Γ P h) (hk9 : k < h.n) (hi9 : ¬ inC (nI k) 0 (nI h.n - 1) = 0) (hw9 : ¬ inC w 0 400 = 0) : KMH l yX0_curve cX0_curve 5 (some FieldType.int) [(0, 10, 13, 21), (0, 10, 17, 13)] Γ 5 108 0 0 [.ref b, .int (nI k), .int w, .ref ou] [[(b, .inr (0, [.ref h.e0, .ref tt, .ref sv, .int zs, .ref da, .ref tx, .ref wr, .int fl, .int rf]))], (hdB Γ h), [(ou, .inl (Γ.2.1 3, 1, .inr (.inl ov)))]] [P] sz (Qi Γ (fun r_ u_ => r_ = 0 ∧ u_ = [[(b, .inr (0, [.ref h.e0, .ref tt, .ref sv, .int zs, .ref da, .ref tx, .ref wr, .int fl, .int rf]))], (hdB Γ h), [(ou, .inl (Γ.2.1 3, 1, .inr (.inl (vp_updL ov 0 (cvCurve ((h.S.cv k) 1) ((h.S.cv k) 2) w).toInt64))))]])) := by
  refine K_introH (by decide) (Nat.le_of_ble_eq_true rfl) ?_
  intro pr_ ev_ s mi_ below meth cd_ A ls hx hb hr hml hown hts hlocks hname hK hE hRo hP hD hA hS hsz hl htb9
  have hl : lv_has ls 5 [(0, .ref b), (1, .int (nI k)), (2, .int w), (3, .ref ou)] := hl
  have hown : s.vm.findClass RX0 = some mi_.cls := hown
  refine lv_aload_n hx hb dX0_curve_0 rfl (lv_at hl 3 rfl) ?_
  refine lv_iconst (v := 0) hx hb dX0_curve_1 (by decide) ?_
  refine lv_aload_n hx hb dX0_curve_2 rfl (lv_at hl 0 rfl) ?_
  refine lv_iload_n hx hb dX0_curve_3 rfl (lv_at hl 1 rfl) ?_
  refine lv_iload_n hx hb dX0_curve_4 rfl (lv_at hl 2 rfl) ?_
  refine b_calli (br := [[(ou, .inl (Γ.2.1 3, 1, .inr (.inl ov)))]]) (b_runV ⟨hx, hb, hml, hown, hts⟩ (mt_DB_curve_ok l Γ _ b h tt sv zs da tx wr fl rf P k w ho hk9 hi9 hw9) (lw_V q1312 q1313 q1314 q62 q1315) rfl rfl 2 (by decide +kernel) ⟨(Nat.le_of_ble_eq_true rfl), (Nat.le_of_ble_eq_true rfl)⟩ (c_pre hP hD hS hA hK hE [0, 1] rfl rfl (ro_pass (ro_sel (ro2 := [P]) hRo [0] rfl) hD hS hA [0, 1] rfl)) (recv_at (q := (RX1, TX1, 9)) hK (b_at (k := 0) hP rfl) rfl) rfl hl.1 rfl (Nat.le_of_ble_eq_true rfl) dX0_curve_5 ⟨(Nat.le_of_ble_eq_true rfl), (Nat.le_of_ble_eq_true rfl)⟩) hP hD hS hA [0, 1] [2] rfl rfl rfl (fun r_1 u_1 H locs hw_1 hP hD hS _ => ?_)
  obtain ⟨rfl, rfl⟩ := hw_1
  have hP : WP Γ [[(b, .inr (0, [.ref h.e0, .ref tt, .ref sv, .int zs, .ref da, .ref tx, .ref wr, .int fl, .int rf]))], (hdB Γ h), [(ou, .inl (Γ.2.1 3, 1, .inr (.inl ov)))]] H := hP
  have hD : WD A [[(b, .inr (0, [.ref h.e0, .ref tt, .ref sv, .int zs, .ref da, .ref tx, .ref wr, .int fl, .int rf]))], (hdB Γ h), [(ou, .inl (Γ.2.1 3, 1, .inr (.inl ov)))]] := hD
  refine lv_i2l hx hb dX0_curve_8 rfl ?_
  refine b_last hx hb hK hP hD hS 2 rfl 0 rfl (by omega) (by omega) dX0_curve_9 (fun H locs hP hD hS => ?_)
  have hP : WP Γ [[(b, .inr (0, [.ref h.e0, .ref tt, .ref sv, .int zs, .ref da, .ref tx, .ref wr, .int fl, .int rf]))], (hdB Γ h), [(ou, .inl (Γ.2.1 3, 1, .inr (.inl (vp_updL ov 0 (cvCurve ((h.S.cv k) 1) ((h.S.cv k) 2) w).toInt64))))]] H := hP
  have hD : WD A [[(b, .inr (0, [.ref h.e0, .ref tt, .ref sv, .int zs, .ref da, .ref tx, .ref wr, .int fl, .int rf]))], (hdB Γ h), [(ou, .inl (Γ.2.1 3, 1, .inr (.inl (vp_updL ov 0 (cvCurve ((h.S.cv k) 1) ((h.S.cv k) 2) w).toInt64))))]] := hD
  refine lv_goto (tgt := 21) hx hb dX0_curve_10 (by decide) ?_
  refine lv_iconst (v := 0) hx hb dX0_curve_21 (by decide) ?_
  exact b_iret hx hb hr hlocks hP hD hS (Nat.le_of_ble_eq_true rfl) (Nat.le_of_ble_eq_true rfl) ⟨(by first | rfl | (simp; done)), (by first | rfl | (simp; done))⟩ dX0_curve_22
set_option maxHeartbeats 4000000 in
set_option maxRecDepth 100000 in
theorem mt_Law_curve_x1 (l : Launch) (Γ : GE) (sz : Nat) (b : Nat) (h : HB) (tt : Nat) (sv : Nat) (zs : Int32) (da : Nat) (tx : Nat) (wr : Nat) (fl : Int32) (rf : Int32) (P : va_W) (c : Int32) (w : Int32) (ou : Nat) (ov : Nat → Int64) (hnt : l.stackTraces = false) (ho : hdOk Γ P h) (hx9 : inC c 0 (nI h.n - 1) = 0) : KMH l yX0_curve cX0_curve 5 (some FieldType.int) [(0, 10, 13, 21), (0, 10, 17, 13)] Γ 9 154 1 6 [.ref b, .int c, .int w, .ref ou] [[(b, .inr (0, [.ref h.e0, .ref tt, .ref sv, .int zs, .ref da, .ref tx, .ref wr, .int fl, .int rf]))], (hdB Γ h), [(ou, .inl (Γ.2.1 3, 1, .inr (.inl ov)))]] [P] sz (Qi Γ (fun r_ u_ => r_ = 1 ∧ u_ = [[(b, .inr (0, [.ref h.e0, .ref tt, .ref sv, .int zs, .ref da, .ref tx, .ref wr, .int fl, .int rf]))], (hdB Γ h), [(ou, .inl (Γ.2.1 3, 1, .inr (.inl ov)))]])) := by
  refine K_introH (by decide) (Nat.le_of_ble_eq_true rfl) ?_
  intro pr_ ev_ s mi_ below meth cd_ A ls hx hb hr hml hown hts hlocks hname hK hE hRo hP hD hA hS hsz hl htb9
  have hl : lv_has ls 5 [(0, .ref b), (1, .int c), (2, .int w), (3, .ref ou)] := hl
  have hown : s.vm.findClass RX0 = some mi_.cls := hown
  refine lv_aload_n hx hb dX0_curve_0 rfl (lv_at hl 3 rfl) ?_
  refine lv_iconst (v := 0) hx hb dX0_curve_1 (by decide) ?_
  refine lv_aload_n hx hb dX0_curve_2 rfl (lv_at hl 0 rfl) ?_
  refine lv_iload_n hx hb dX0_curve_3 rfl (lv_at hl 1 rfl) ?_
  refine lv_iload_n hx hb dX0_curve_4 rfl (lv_at hl 2 rfl) ?_
  refine b_callx (br := [[(ou, .inl (Γ.2.1 3, 1, .inr (.inl ov)))]]) (b_runVx ⟨hx, hb, hml, hown, hts⟩ (mt_DB_curve_x1 l Γ _ b h tt sv zs da tx wr fl rf P c w hnt ho hx9) (lw_V q1312 q1313 q1314 q62 q1315) rfl rfl 2 (by decide +kernel) ⟨(Nat.le_of_ble_eq_true rfl), (Nat.le_of_ble_eq_true rfl)⟩ (c_pre hP hD hS hA hK hE [0, 1] rfl rfl (ro_pass (ro_sel (ro2 := [P]) hRo [0] rfl) hD hS hA [0, 1] rfl)) (recv_at (q := (RX1, TX1, 9)) hK (b_at (k := 0) hP rfl) rfl) rfl hl.1 rfl (Nat.le_of_ble_eq_true rfl) dX0_curve_5 ⟨(Nat.le_of_ble_eq_true rfl), (Nat.le_of_ble_eq_true rfl)⟩) hP hD hS hA [0, 1] [2] rfl rfl rfl (fun q_1 ce_1 u_1 H locs hw_1 hP hD hS _ hce_1 hcv_1 hcl_1 => ?_)
  obtain rfl := hw_1
  have hP : WP Γ [[(b, .inr (0, [.ref h.e0, .ref tt, .ref sv, .int zs, .ref da, .ref tx, .ref wr, .int fl, .int rf]))], (hdB Γ h), [(ou, .inl (Γ.2.1 3, 1, .inr (.inl ov)))]] H := hP
  have hD : WD A [[(b, .inr (0, [.ref h.e0, .ref tt, .ref sv, .int zs, .ref da, .ref tx, .ref wr, .int fl, .int rf]))], (hdB Γ h), [(ou, .inl (Γ.2.1 3, 1, .inr (.inl ov)))]] := hD
  refine vx_catch (name := "java/lang/IndexOutOfBoundsException") hown [] ⟨0, 10, 13, 21⟩ [⟨0, 10, 17, 13⟩] (htb9.trans rfl) (fun z hz => nomatch hz) (by decide) (by decide) (hts _ q891) (va_Nw.use rfl (hE.1.1 _ q919 rfl)) hce_1 hcv_1 hcl_1 ?_
  refine W.eq (g2 := F0 mi_ 13 ls ([.ref q_1])) rfl ?_
  refine lv_astore (lv' := [(4, .ref q_1), (0, .ref b), (1, .int c), (2, .int w), (3, .ref ou)]) hx hb dX0_curve_13 hl (by decide) rfl (fun ls hl => ?_)
  refine lv_iconst (v := 1) hx hb dX0_curve_15 (by decide) ?_
  exact b_iret hx hb hr hlocks hP hD hS (Nat.le_of_ble_eq_true rfl) (Nat.le_of_ble_eq_true rfl) ⟨(by first | rfl | (simp; done)), (by first | rfl | (simp; done))⟩ dX0_curve_16
set_option maxHeartbeats 4000000 in
set_option maxRecDepth 100000 in
theorem mt_Law_curve_x2 (l : Launch) (Γ : GE) (sz : Nat) (b : Nat) (h : HB) (tt : Nat) (sv : Nat) (zs : Int32) (da : Nat) (tx : Nat) (wr : Nat) (fl : Int32) (rf : Int32) (P : va_W) (k : Nat) (w : Int32) (ou : Nat) (ov : Nat → Int64) (hnt : l.stackTraces = false) (ho : hdOk Γ P h) (hk9 : k < h.n) (hi9 : ¬ inC (nI k) 0 (nI h.n - 1) = 0) (hx9 : inC w 0 400 = 0) : KMH l yX0_curve cX0_curve 5 (some FieldType.int) [(0, 10, 13, 21), (0, 10, 17, 13)] Γ 8 133 1 6 [.ref b, .int (nI k), .int w, .ref ou] [[(b, .inr (0, [.ref h.e0, .ref tt, .ref sv, .int zs, .ref da, .ref tx, .ref wr, .int fl, .int rf]))], (hdB Γ h), [(ou, .inl (Γ.2.1 3, 1, .inr (.inl ov)))]] [P] sz (Qi Γ (fun r_ u_ => r_ = 2 ∧ u_ = [[(b, .inr (0, [.ref h.e0, .ref tt, .ref sv, .int zs, .ref da, .ref tx, .ref wr, .int fl, .int rf]))], (hdB Γ h), [(ou, .inl (Γ.2.1 3, 1, .inr (.inl ov)))]])) := by
  refine K_introH (by decide) (Nat.le_of_ble_eq_true rfl) ?_
  intro pr_ ev_ s mi_ below meth cd_ A ls hx hb hr hml hown hts hlocks hname hK hE hRo hP hD hA hS hsz hl htb9
  have hl : lv_has ls 5 [(0, .ref b), (1, .int (nI k)), (2, .int w), (3, .ref ou)] := hl
  have hown : s.vm.findClass RX0 = some mi_.cls := hown
  refine lv_aload_n hx hb dX0_curve_0 rfl (lv_at hl 3 rfl) ?_
  refine lv_iconst (v := 0) hx hb dX0_curve_1 (by decide) ?_
  refine lv_aload_n hx hb dX0_curve_2 rfl (lv_at hl 0 rfl) ?_
  refine lv_iload_n hx hb dX0_curve_3 rfl (lv_at hl 1 rfl) ?_
  refine lv_iload_n hx hb dX0_curve_4 rfl (lv_at hl 2 rfl) ?_
  refine b_callx (br := [[(ou, .inl (Γ.2.1 3, 1, .inr (.inl ov)))]]) (b_runVx ⟨hx, hb, hml, hown, hts⟩ (mt_DB_curve_x2 l Γ _ b h tt sv zs da tx wr fl rf P k w hnt ho hk9 hi9 hx9) (lw_V q1312 q1313 q1314 q62 q1315) rfl rfl 2 (by decide +kernel) ⟨(Nat.le_of_ble_eq_true rfl), (Nat.le_of_ble_eq_true rfl)⟩ (c_pre hP hD hS hA hK hE [0, 1] rfl rfl (ro_pass (ro_sel (ro2 := [P]) hRo [0] rfl) hD hS hA [0, 1] rfl)) (recv_at (q := (RX1, TX1, 9)) hK (b_at (k := 0) hP rfl) rfl) rfl hl.1 rfl (Nat.le_of_ble_eq_true rfl) dX0_curve_5 ⟨(Nat.le_of_ble_eq_true rfl), (Nat.le_of_ble_eq_true rfl)⟩) hP hD hS hA [0, 1] [2] rfl rfl rfl (fun q_1 ce_1 u_1 H locs hw_1 hP hD hS _ hce_1 hcv_1 hcl_1 => ?_)
  obtain rfl := hw_1
  have hP : WP Γ [[(b, .inr (0, [.ref h.e0, .ref tt, .ref sv, .int zs, .ref da, .ref tx, .ref wr, .int fl, .int rf]))], (hdB Γ h), [(ou, .inl (Γ.2.1 3, 1, .inr (.inl ov)))]] H := hP
  have hD : WD A [[(b, .inr (0, [.ref h.e0, .ref tt, .ref sv, .int zs, .ref da, .ref tx, .ref wr, .int fl, .int rf]))], (hdB Γ h), [(ou, .inl (Γ.2.1 3, 1, .inr (.inl ov)))]] := hD
  refine vx_catch (name := "java/lang/IllegalArgumentException") hown [⟨0, 10, 13, 21⟩] ⟨0, 10, 17, 13⟩ [] (htb9.trans rfl) (fun z hz => by rw [List.mem_singleton.mp hz]; exact Or.inr ⟨by decide, "java/lang/IndexOutOfBoundsException", hts _ q891, hE.1.2.2.2 _ (List.mem_of_getElem? (i := 1) rfl)⟩) (by decide) (by decide) (hts _ q800) (va_Nw.use rfl (hE.1.1 _ q568 rfl)) hce_1 hcv_1 hcl_1 ?_
  refine W.eq (g2 := F0 mi_ 17 ls ([.ref q_1])) rfl ?_
  refine lv_astore (lv' := [(4, .ref q_1), (0, .ref b), (1, .int (nI k)), (2, .int w), (3, .ref ou)]) hx hb dX0_curve_17 hl (by decide) rfl (fun ls hl => ?_)
  refine lv_iconst (v := 2) hx hb dX0_curve_19 (by decide) ?_
  exact b_iret hx hb hr hlocks hP hD hS (Nat.le_of_ble_eq_true rfl) (Nat.le_of_ble_eq_true rfl) ⟨(by first | rfl | (simp; done)), (by first | rfl | (simp; done))⟩ dX0_curve_20
set_option maxHeartbeats 4000000 in
set_option maxRecDepth 100000 in
theorem mt_Law_dryDay_ok (l : Launch) (Γ : GE) (sz : Nat) (b : Nat) (h : HB) (tt : Nat) (sv : Nat) (zs : Int32) (da : Nat) (tx : Nat) (wr : Nat) (fl : Int32) (rf : Int32) (P : va_W) (k : Nat) (ou : Nat) (ov : Nat → Int64) (hnt : l.stackTraces = false) (ho : hdOk Γ P h) (hk9 : k < h.n) (hi9 : ¬ inC (nI k) 0 (nI h.n - 1) = 0) (hm9 : ¬ cowMil (h.S.cv k) = 0) (hc9 : ¬ cowCar (h.S.cv k) = 0) : KMH l yX0_dryDay cX0_dryDay 4 (some FieldType.int) [(0, 9, 12, 21), (0, 9, 15, 15)] Γ 5 107 0 0 [.ref b, .int (nI k), .ref ou] [[(b, .inr (0, [.ref h.e0, .ref tt, .ref sv, .int zs, .ref da, .ref tx, .ref wr, .int fl, .int rf]))], (hdB Γ h), [(ou, .inl (Γ.2.1 3, 1, .inr (.inl ov)))]] [P] sz (Qi Γ (fun r_ u_ => r_ = 0 ∧ u_ = [[(b, .inr (0, [.ref h.e0, .ref tt, .ref sv, .int zs, .ref da, .ref tx, .ref wr, .int fl, .int rf]))], (hdB Γ h), [(ou, .inl (Γ.2.1 3, 1, .inr (.inl (vp_updL ov 0 (mxI h.S.td ((h.S.cv k) 8 - h.se 1)).toInt64))))]])) := by
  refine K_introH (by decide) (Nat.le_of_ble_eq_true rfl) ?_
  intro pr_ ev_ s mi_ below meth cd_ A ls hx hb hr hml hown hts hlocks hname hK hE hRo hP hD hA hS hsz hl htb9
  have hl : lv_has ls 4 [(0, .ref b), (1, .int (nI k)), (2, .ref ou)] := hl
  have hown : s.vm.findClass RX0 = some mi_.cls := hown
  refine lv_aload_n hx hb dX0_dryDay_0 rfl (lv_at hl 2 rfl) ?_
  refine lv_iconst (v := 0) hx hb dX0_dryDay_1 (by decide) ?_
  refine lv_aload_n hx hb dX0_dryDay_2 rfl (lv_at hl 0 rfl) ?_
  refine lv_iload_n hx hb dX0_dryDay_3 rfl (lv_at hl 1 rfl) ?_
  refine b_calli (br := [[(ou, .inl (Γ.2.1 3, 1, .inr (.inl ov)))]]) (b_runV ⟨hx, hb, hml, hown, hts⟩ (mt_DB_dryDay_ok l Γ _ b h tt sv zs da tx wr fl rf P k ho hk9 hi9 hm9 hc9) (lw_V q1320 q1321 q1322 q62 q1323) rfl rfl 1 (by decide +kernel) ⟨(Nat.le_of_ble_eq_true rfl), (Nat.le_of_ble_eq_true rfl)⟩ (c_pre hP hD hS hA hK hE [0, 1] rfl rfl (ro_pass (ro_sel (ro2 := [P]) hRo [0] rfl) hD hS hA [0, 1] rfl)) (recv_at (q := (RX1, TX1, 9)) hK (b_at (k := 0) hP rfl) rfl) rfl hl.1 rfl (Nat.le_of_ble_eq_true rfl) dX0_dryDay_4 ⟨(Nat.le_of_ble_eq_true rfl), (Nat.le_of_ble_eq_true rfl)⟩) hP hD hS hA [0, 1] [2] rfl rfl rfl (fun r_1 u_1 H locs hw_1 hP hD hS _ => ?_)
  obtain ⟨rfl, rfl⟩ := hw_1
  have hP : WP Γ [[(b, .inr (0, [.ref h.e0, .ref tt, .ref sv, .int zs, .ref da, .ref tx, .ref wr, .int fl, .int rf]))], (hdB Γ h), [(ou, .inl (Γ.2.1 3, 1, .inr (.inl ov)))]] H := hP
  have hD : WD A [[(b, .inr (0, [.ref h.e0, .ref tt, .ref sv, .int zs, .ref da, .ref tx, .ref wr, .int fl, .int rf]))], (hdB Γ h), [(ou, .inl (Γ.2.1 3, 1, .inr (.inl ov)))]] := hD
  refine lv_i2l hx hb dX0_dryDay_7 rfl ?_
  refine b_last hx hb hK hP hD hS 2 rfl 0 rfl (by omega) (by omega) dX0_dryDay_8 (fun H locs hP hD hS => ?_)
  have hP : WP Γ [[(b, .inr (0, [.ref h.e0, .ref tt, .ref sv, .int zs, .ref da, .ref tx, .ref wr, .int fl, .int rf]))], (hdB Γ h), [(ou, .inl (Γ.2.1 3, 1, .inr (.inl (vp_updL ov 0 (mxI h.S.td ((h.S.cv k) 8 - h.se 1)).toInt64))))]] H := hP
  have hD : WD A [[(b, .inr (0, [.ref h.e0, .ref tt, .ref sv, .int zs, .ref da, .ref tx, .ref wr, .int fl, .int rf]))], (hdB Γ h), [(ou, .inl (Γ.2.1 3, 1, .inr (.inl (vp_updL ov 0 (mxI h.S.td ((h.S.cv k) 8 - h.se 1)).toInt64))))]] := hD
  refine lv_goto (tgt := 18) hx hb dX0_dryDay_9 (by decide) ?_
  refine lv_iconst (v := 0) hx hb dX0_dryDay_18 (by decide) ?_
  exact b_iret hx hb hr hlocks hP hD hS (Nat.le_of_ble_eq_true rfl) (Nat.le_of_ble_eq_true rfl) ⟨(by first | rfl | (simp; done)), (by first | rfl | (simp; done))⟩ dX0_dryDay_19
set_option maxHeartbeats 4000000 in
set_option maxRecDepth 100000 in
theorem mt_Law_dryDay_x1 (l : Launch) (Γ : GE) (sz : Nat) (b : Nat) (h : HB) (tt : Nat) (sv : Nat) (zs : Int32) (da : Nat) (tx : Nat) (wr : Nat) (fl : Int32) (rf : Int32) (P : va_W) (c : Int32) (ou : Nat) (ov : Nat → Int64) (hnt : l.stackTraces = false) (ho : hdOk Γ P h) (hx9 : inC c 0 (nI h.n - 1) = 0) : KMH l yX0_dryDay cX0_dryDay 4 (some FieldType.int) [(0, 9, 12, 21), (0, 9, 15, 15)] Γ 9 153 1 6 [.ref b, .int c, .ref ou] [[(b, .inr (0, [.ref h.e0, .ref tt, .ref sv, .int zs, .ref da, .ref tx, .ref wr, .int fl, .int rf]))], (hdB Γ h), [(ou, .inl (Γ.2.1 3, 1, .inr (.inl ov)))]] [P] sz (Qi Γ (fun r_ u_ => r_ = 1 ∧ u_ = [[(b, .inr (0, [.ref h.e0, .ref tt, .ref sv, .int zs, .ref da, .ref tx, .ref wr, .int fl, .int rf]))], (hdB Γ h), [(ou, .inl (Γ.2.1 3, 1, .inr (.inl ov)))]])) := by
  refine K_introH (by decide) (Nat.le_of_ble_eq_true rfl) ?_
  intro pr_ ev_ s mi_ below meth cd_ A ls hx hb hr hml hown hts hlocks hname hK hE hRo hP hD hA hS hsz hl htb9
  have hl : lv_has ls 4 [(0, .ref b), (1, .int c), (2, .ref ou)] := hl
  have hown : s.vm.findClass RX0 = some mi_.cls := hown
  refine lv_aload_n hx hb dX0_dryDay_0 rfl (lv_at hl 2 rfl) ?_
  refine lv_iconst (v := 0) hx hb dX0_dryDay_1 (by decide) ?_
  refine lv_aload_n hx hb dX0_dryDay_2 rfl (lv_at hl 0 rfl) ?_
  refine lv_iload_n hx hb dX0_dryDay_3 rfl (lv_at hl 1 rfl) ?_
  refine b_callx (br := [[(ou, .inl (Γ.2.1 3, 1, .inr (.inl ov)))]]) (b_runVx ⟨hx, hb, hml, hown, hts⟩ (mt_DB_dryDay_x1 l Γ _ b h tt sv zs da tx wr fl rf P c hnt ho hx9) (lw_V q1320 q1321 q1322 q62 q1323) rfl rfl 1 (by decide +kernel) ⟨(Nat.le_of_ble_eq_true rfl), (Nat.le_of_ble_eq_true rfl)⟩ (c_pre hP hD hS hA hK hE [0, 1] rfl rfl (ro_pass (ro_sel (ro2 := [P]) hRo [0] rfl) hD hS hA [0, 1] rfl)) (recv_at (q := (RX1, TX1, 9)) hK (b_at (k := 0) hP rfl) rfl) rfl hl.1 rfl (Nat.le_of_ble_eq_true rfl) dX0_dryDay_4 ⟨(Nat.le_of_ble_eq_true rfl), (Nat.le_of_ble_eq_true rfl)⟩) hP hD hS hA [0, 1] [2] rfl rfl rfl (fun q_1 ce_1 u_1 H locs hw_1 hP hD hS _ hce_1 hcv_1 hcl_1 => ?_)
  obtain rfl := hw_1
  have hP : WP Γ [[(b, .inr (0, [.ref h.e0, .ref tt, .ref sv, .int zs, .ref da, .ref tx, .ref wr, .int fl, .int rf]))], (hdB Γ h), [(ou, .inl (Γ.2.1 3, 1, .inr (.inl ov)))]] H := hP
  have hD : WD A [[(b, .inr (0, [.ref h.e0, .ref tt, .ref sv, .int zs, .ref da, .ref tx, .ref wr, .int fl, .int rf]))], (hdB Γ h), [(ou, .inl (Γ.2.1 3, 1, .inr (.inl ov)))]] := hD
  refine vx_catch (name := "java/lang/IndexOutOfBoundsException") hown [] ⟨0, 9, 12, 21⟩ [⟨0, 9, 15, 15⟩] (htb9.trans rfl) (fun z hz => nomatch hz) (by decide) (by decide) (hts _ q891) (va_Nw.use rfl (hE.1.1 _ q919 rfl)) hce_1 hcv_1 hcl_1 ?_
  refine W.eq (g2 := F0 mi_ 12 ls ([.ref q_1])) rfl ?_
  refine lv_astore_n (lv' := [(3, .ref q_1), (0, .ref b), (1, .int c), (2, .ref ou)]) hx hb dX0_dryDay_12 rfl hl (by decide) rfl (fun ls hl => ?_)
  refine lv_iconst (v := 1) hx hb dX0_dryDay_13 (by decide) ?_
  exact b_iret hx hb hr hlocks hP hD hS (Nat.le_of_ble_eq_true rfl) (Nat.le_of_ble_eq_true rfl) ⟨(by first | rfl | (simp; done)), (by first | rfl | (simp; done))⟩ dX0_dryDay_14
set_option maxHeartbeats 4000000 in
set_option maxRecDepth 100000 in
theorem mt_Law_dryDay_x2 (l : Launch) (Γ : GE) (sz : Nat) (b : Nat) (h : HB) (tt : Nat) (sv : Nat) (zs : Int32) (da : Nat) (tx : Nat) (wr : Nat) (fl : Int32) (rf : Int32) (P : va_W) (k : Nat) (ou : Nat) (ov : Nat → Int64) (hnt : l.stackTraces = false) (ho : hdOk Γ P h) (hk9 : k < h.n) (hi9 : ¬ inC (nI k) 0 (nI h.n - 1) = 0) (hx9 : cowMil (h.S.cv k) = 0 ∨ cowCar (h.S.cv k) = 0) : KMH l yX0_dryDay cX0_dryDay 4 (some FieldType.int) [(0, 9, 12, 21), (0, 9, 15, 15)] Γ 8 132 1 6 [.ref b, .int (nI k), .ref ou] [[(b, .inr (0, [.ref h.e0, .ref tt, .ref sv, .int zs, .ref da, .ref tx, .ref wr, .int fl, .int rf]))], (hdB Γ h), [(ou, .inl (Γ.2.1 3, 1, .inr (.inl ov)))]] [P] sz (Qi Γ (fun r_ u_ => r_ = 2 ∧ u_ = [[(b, .inr (0, [.ref h.e0, .ref tt, .ref sv, .int zs, .ref da, .ref tx, .ref wr, .int fl, .int rf]))], (hdB Γ h), [(ou, .inl (Γ.2.1 3, 1, .inr (.inl ov)))]])) := by
  refine K_introH (by decide) (Nat.le_of_ble_eq_true rfl) ?_
  intro pr_ ev_ s mi_ below meth cd_ A ls hx hb hr hml hown hts hlocks hname hK hE hRo hP hD hA hS hsz hl htb9
  have hl : lv_has ls 4 [(0, .ref b), (1, .int (nI k)), (2, .ref ou)] := hl
  have hown : s.vm.findClass RX0 = some mi_.cls := hown
  refine lv_aload_n hx hb dX0_dryDay_0 rfl (lv_at hl 2 rfl) ?_
  refine lv_iconst (v := 0) hx hb dX0_dryDay_1 (by decide) ?_
  refine lv_aload_n hx hb dX0_dryDay_2 rfl (lv_at hl 0 rfl) ?_
  refine lv_iload_n hx hb dX0_dryDay_3 rfl (lv_at hl 1 rfl) ?_
  refine b_callx (br := [[(ou, .inl (Γ.2.1 3, 1, .inr (.inl ov)))]]) (b_runVx ⟨hx, hb, hml, hown, hts⟩ (mt_DB_dryDay_x2 l Γ _ b h tt sv zs da tx wr fl rf P k hnt ho hk9 hi9 hx9) (lw_V q1320 q1321 q1322 q62 q1323) rfl rfl 1 (by decide +kernel) ⟨(Nat.le_of_ble_eq_true rfl), (Nat.le_of_ble_eq_true rfl)⟩ (c_pre hP hD hS hA hK hE [0, 1] rfl rfl (ro_pass (ro_sel (ro2 := [P]) hRo [0] rfl) hD hS hA [0, 1] rfl)) (recv_at (q := (RX1, TX1, 9)) hK (b_at (k := 0) hP rfl) rfl) rfl hl.1 rfl (Nat.le_of_ble_eq_true rfl) dX0_dryDay_4 ⟨(Nat.le_of_ble_eq_true rfl), (Nat.le_of_ble_eq_true rfl)⟩) hP hD hS hA [0, 1] [2] rfl rfl rfl (fun q_1 ce_1 u_1 H locs hw_1 hP hD hS _ hce_1 hcv_1 hcl_1 => ?_)
  obtain rfl := hw_1
  have hP : WP Γ [[(b, .inr (0, [.ref h.e0, .ref tt, .ref sv, .int zs, .ref da, .ref tx, .ref wr, .int fl, .int rf]))], (hdB Γ h), [(ou, .inl (Γ.2.1 3, 1, .inr (.inl ov)))]] H := hP
  have hD : WD A [[(b, .inr (0, [.ref h.e0, .ref tt, .ref sv, .int zs, .ref da, .ref tx, .ref wr, .int fl, .int rf]))], (hdB Γ h), [(ou, .inl (Γ.2.1 3, 1, .inr (.inl ov)))]] := hD
  refine vx_catch (name := "java/lang/IllegalStateException") hown [⟨0, 9, 12, 21⟩] ⟨0, 9, 15, 15⟩ [] (htb9.trans rfl) (fun z hz => by rw [List.mem_singleton.mp hz]; exact Or.inr ⟨by decide, "java/lang/IndexOutOfBoundsException", hts _ q891, hE.1.2.2.2 _ (List.mem_of_getElem? (i := 3) rfl)⟩) (by decide) (by decide) (hts _ q801) (va_Nw.use rfl (hE.1.1 _ q826 rfl)) hce_1 hcv_1 hcl_1 ?_
  refine W.eq (g2 := F0 mi_ 15 ls ([.ref q_1])) rfl ?_
  refine lv_astore_n (lv' := [(3, .ref q_1), (0, .ref b), (1, .int (nI k)), (2, .ref ou)]) hx hb dX0_dryDay_15 rfl hl (by decide) rfl (fun ls hl => ?_)
  refine lv_iconst (v := 2) hx hb dX0_dryDay_16 (by decide) ?_
  exact b_iret hx hb hr hlocks hP hD hS (Nat.le_of_ble_eq_true rfl) (Nat.le_of_ble_eq_true rfl) ⟨(by first | rfl | (simp; done)), (by first | rfl | (simp; done))⟩ dX0_dryDay_17
set_option maxHeartbeats 4000000 in
set_option maxRecDepth 100000 in
theorem mt_Law_forecast_ok (l : Launch) (Γ : GE) (sz : Nat) (b : Nat) (h : HB) (sv : Nat) (zs : Int32) (da : Nat) (tx : Nat) (wr : Nat) (fl : Int32) (rf : Int32) (t : HB) (P : va_W) (q : Nat) (w : Nat) (ou : Nat) (ov : Nat → Int64) (hnt : l.stackTraces = false) (ho : hdOk Γ P h) (ht0 : hdOk0 Γ t) (hq30 : q ≤ 30) (hcp : ¬ cpS h.S.td (nI q) = 0) (hw : h.se 4 = nI w) (hw9 : w ≤ 9) (hs2 : ¬ h.se 2 = 0) (hz : ∀ g : HB, hvEq g h → ∀ j, j < q → dyOk g.n g.se w (dyN g.n g.nr g.rv g.se w g.S j)) : KMH l yX0_forecast cX0_forecast 4 (some FieldType.int) [(0, 9, 12, 13)] Γ 11 280 (2 * h.n + 5 + 6 * q) (112 * h.n + 404 + 140 * q) [.ref b, .int (nI q), .ref ou] [[(b, .inr (0, [.ref h.e0, .ref t.e0, .ref sv, .int zs, .ref da, .ref tx, .ref wr, .int fl, .int rf]))], (hdB Γ h), (hdB Γ t), P, [(ou, .inl (Γ.2.1 3, 1, .inr (.inl ov)))]] [] sz (Qi Γ (fun r_ u_ => ∃ t9 : HB, ∃ y : LST, ∃ m : Int32, ∃ pb : Nat → Nat, ∃ Q : va_W, hvEq t9 h ∧ hdOk Γ P t9 ∧ alI Γ y (dyN t9.n t9.nr t9.rv t9.se w t9.S q).np pb ∧ (∀ k, k < (dyN t9.n t9.nr t9.rv t9.se w t9.S q).np → (pb k, pickE ((dyN t9.n t9.nr t9.rv t9.se w t9.S q).pv k)) ∈ Q) ∧ (∀ z, z ∈ P → z ∈ Q) ∧ r_ = 0 ∧ u_ = [[(b, .inr (0, [.ref h.e0, .ref t9.e0, .ref sv, .int zs, .ref da, .ref tx, .ref wr, .int fl, .int rf]))], (hdB Γ h), (hdB Γ (HB.setPk t9 (dyN t9.n t9.nr t9.rv t9.se w t9.S q) y m pb)), Q, [(ou, .inl (Γ.2.1 3, 1, .inr (.inl (vp_updL ov 0 (dyP t9.n t9.nr t9.rv t9.se w t9.S q).toInt64))))]])) := by
  refine K_introH (by decide) (Nat.le_of_ble_eq_true rfl) ?_
  intro pr_ ev_ s mi_ below meth cd_ A ls hx hb hr hml hown hts hlocks hname hK hE hRo hP hD hA hS hsz hl htb9
  have hl : lv_has ls 4 [(0, .ref b), (1, .int (nI q)), (2, .ref ou)] := hl
  have hown : s.vm.findClass RX0 = some mi_.cls := hown
  refine lv_aload_n hx hb dX0_forecast_0 rfl (lv_at hl 2 rfl) ?_
  refine lv_iconst (v := 0) hx hb dX0_forecast_1 (by decide) ?_
  refine lv_aload_n hx hb dX0_forecast_2 rfl (lv_at hl 0 rfl) ?_
  refine lv_iload_n hx hb dX0_forecast_3 rfl (lv_at hl 1 rfl) ?_
  refine b_calli (br := [[(ou, .inl (Γ.2.1 3, 1, .inr (.inl ov)))]]) (b_runV ⟨hx, hb, hml, hown, hts⟩ (mt_DB_forecast_ok l Γ _ b h sv zs da tx wr fl rf t P q w ho ht0 hq30 hcp hw hw9 hs2 hz) (lw_V q1330 q1331 q1332 q62 q1333) rfl rfl 1 (by decide +kernel) ⟨(Nat.le_of_ble_eq_true rfl), (Nat.le_of_ble_eq_true rfl)⟩ (c_pre hP hD hS hA hK hE [0, 1, 2, 3] rfl rfl ro_nil) (recv_at (q := (RX1, TX1, 9)) hK (b_at (k := 0) hP rfl) rfl) rfl hl.1 rfl (Nat.le_of_ble_eq_true rfl) dX0_forecast_4 ⟨(by first | omega | (dsimp only; omega)), (by first | omega | (dsimp only; omega))⟩) hP hD hS hA [0, 1, 2, 3] [4] rfl rfl rfl (fun r_1 u_1 H locs hw_1 hP hD hS _ => ?_)
  obtain ⟨t9_1, y_1, m_1, pb_1, Q_1, hv_1, hO_1, hy_1, hqq_1, hs_1, rfl, rfl⟩ := hw_1
  have hP : WP Γ [[(b, .inr (0, [.ref h.e0, .ref t9_1.e0, .ref sv, .int zs, .ref da, .ref tx, .ref wr, .int fl, .int rf]))], (hdB Γ h), (hdB Γ (HB.setPk t9_1 (dyN t9_1.n t9_1.nr t9_1.rv t9_1.se w t9_1.S q) y_1 m_1 pb_1)), Q_1, [(ou, .inl (Γ.2.1 3, 1, .inr (.inl ov)))]] H := hP
  have hD : WD A [[(b, .inr (0, [.ref h.e0, .ref t9_1.e0, .ref sv, .int zs, .ref da, .ref tx, .ref wr, .int fl, .int rf]))], (hdB Γ h), (hdB Γ (HB.setPk t9_1 (dyN t9_1.n t9_1.nr t9_1.rv t9_1.se w t9_1.S q) y_1 m_1 pb_1)), Q_1, [(ou, .inl (Γ.2.1 3, 1, .inr (.inl ov)))]] := hD
  refine lv_i2l hx hb dX0_forecast_7 rfl ?_
  refine b_last hx hb hK hP hD hS 4 rfl 0 rfl (by omega) (by omega) dX0_forecast_8 (fun H locs hP hD hS => ?_)
  have hP : WP Γ [[(b, .inr (0, [.ref h.e0, .ref t9_1.e0, .ref sv, .int zs, .ref da, .ref tx, .ref wr, .int fl, .int rf]))], (hdB Γ h), (hdB Γ (HB.setPk t9_1 (dyN t9_1.n t9_1.nr t9_1.rv t9_1.se w t9_1.S q) y_1 m_1 pb_1)), Q_1, [(ou, .inl (Γ.2.1 3, 1, .inr (.inl (vp_updL ov 0 (dyP t9_1.n t9_1.nr t9_1.rv t9_1.se w t9_1.S q).toInt64))))]] H := hP
  have hD : WD A [[(b, .inr (0, [.ref h.e0, .ref t9_1.e0, .ref sv, .int zs, .ref da, .ref tx, .ref wr, .int fl, .int rf]))], (hdB Γ h), (hdB Γ (HB.setPk t9_1 (dyN t9_1.n t9_1.nr t9_1.rv t9_1.se w t9_1.S q) y_1 m_1 pb_1)), Q_1, [(ou, .inl (Γ.2.1 3, 1, .inr (.inl (vp_updL ov 0 (dyP t9_1.n t9_1.nr t9_1.rv t9_1.se w t9_1.S q).toInt64))))]] := hD
  refine lv_goto (tgt := 15) hx hb dX0_forecast_9 (by decide) ?_
  refine lv_iconst (v := 0) hx hb dX0_forecast_15 (by decide) ?_
  exact b_iret hx hb hr hlocks hP hD hS (by first | omega | (dsimp only; omega)) (by first | omega | (dsimp only; omega)) ⟨t9_1, y_1, m_1, pb_1, Q_1, hv_1, hO_1, hy_1, hqq_1, hs_1, (by first | rfl | (simp; done)), (by first | rfl | (simp; done))⟩ dX0_forecast_16
set_option maxHeartbeats 4000000 in
set_option maxRecDepth 100000 in
theorem mt_Law_forecast_x (l : Launch) (Γ : GE) (sz : Nat) (b : Nat) (h : HB) (tt : Nat) (sv : Nat) (zs : Int32) (da : Nat) (tx : Nat) (wr : Nat) (fl : Int32) (rf : Int32) (P : va_W) (d : Int32) (ou : Nat) (ov : Nat → Int64) (hnt : l.stackTraces = false) (ho : hdOk Γ P h) (hx9 : d < 0 ∨ cpS h.S.td d = 0) : KMH l yX0_forecast cX0_forecast 4 (some FieldType.int) [(0, 9, 12, 13)] Γ 8 131 1 6 [.ref b, .int d, .ref ou] [[(b, .inr (0, [.ref h.e0, .ref tt, .ref sv, .int zs, .ref da, .ref tx, .ref wr, .int fl, .int rf]))], (hdB Γ h), [(ou, .inl (Γ.2.1 3, 1, .inr (.inl ov)))]] [P] sz (Qi Γ (fun r_ u_ => r_ = 1 ∧ u_ = [[(b, .inr (0, [.ref h.e0, .ref tt, .ref sv, .int zs, .ref da, .ref tx, .ref wr, .int fl, .int rf]))], (hdB Γ h), [(ou, .inl (Γ.2.1 3, 1, .inr (.inl ov)))]])) := by
  refine K_introH (by decide) (Nat.le_of_ble_eq_true rfl) ?_
  intro pr_ ev_ s mi_ below meth cd_ A ls hx hb hr hml hown hts hlocks hname hK hE hRo hP hD hA hS hsz hl htb9
  have hl : lv_has ls 4 [(0, .ref b), (1, .int d), (2, .ref ou)] := hl
  have hown : s.vm.findClass RX0 = some mi_.cls := hown
  refine lv_aload_n hx hb dX0_forecast_0 rfl (lv_at hl 2 rfl) ?_
  refine lv_iconst (v := 0) hx hb dX0_forecast_1 (by decide) ?_
  refine lv_aload_n hx hb dX0_forecast_2 rfl (lv_at hl 0 rfl) ?_
  refine lv_iload_n hx hb dX0_forecast_3 rfl (lv_at hl 1 rfl) ?_
  refine b_callx (br := [[(ou, .inl (Γ.2.1 3, 1, .inr (.inl ov)))]]) (b_runVx ⟨hx, hb, hml, hown, hts⟩ (mt_DB_forecast_x l Γ _ b h tt sv zs da tx wr fl rf P d hnt ho hx9) (lw_V q1330 q1331 q1332 q62 q1333) rfl rfl 1 (by decide +kernel) ⟨(Nat.le_of_ble_eq_true rfl), (Nat.le_of_ble_eq_true rfl)⟩ (c_pre hP hD hS hA hK hE [0, 1] rfl rfl (ro_pass (ro_sel (ro2 := [P]) hRo [0] rfl) hD hS hA [0, 1] rfl)) (recv_at (q := (RX1, TX1, 9)) hK (b_at (k := 0) hP rfl) rfl) rfl hl.1 rfl (Nat.le_of_ble_eq_true rfl) dX0_forecast_4 ⟨(Nat.le_of_ble_eq_true rfl), (Nat.le_of_ble_eq_true rfl)⟩) hP hD hS hA [0, 1] [2] rfl rfl rfl (fun q_1 ce_1 u_1 H locs hw_1 hP hD hS _ hce_1 hcv_1 hcl_1 => ?_)
  obtain rfl := hw_1
  have hP : WP Γ [[(b, .inr (0, [.ref h.e0, .ref tt, .ref sv, .int zs, .ref da, .ref tx, .ref wr, .int fl, .int rf]))], (hdB Γ h), [(ou, .inl (Γ.2.1 3, 1, .inr (.inl ov)))]] H := hP
  have hD : WD A [[(b, .inr (0, [.ref h.e0, .ref tt, .ref sv, .int zs, .ref da, .ref tx, .ref wr, .int fl, .int rf]))], (hdB Γ h), [(ou, .inl (Γ.2.1 3, 1, .inr (.inl ov)))]] := hD
  refine vx_catch (name := "java/lang/IllegalArgumentException") hown [] ⟨0, 9, 12, 13⟩ [] (htb9.trans rfl) (fun z hz => nomatch hz) (by decide) (by decide) (hts _ q800) (va_Nw.use rfl (hE.1.1 _ q568 rfl)) hce_1 hcv_1 hcl_1 ?_
  refine W.eq (g2 := F0 mi_ 12 ls ([.ref q_1])) rfl ?_
  refine lv_astore_n (lv' := [(3, .ref q_1), (0, .ref b), (1, .int d), (2, .ref ou)]) hx hb dX0_forecast_12 rfl hl (by decide) rfl (fun ls hl => ?_)
  refine lv_iconst (v := 1) hx hb dX0_forecast_13 (by decide) ?_
  exact b_iret hx hb hr hlocks hP hD hS (Nat.le_of_ble_eq_true rfl) (Nat.le_of_ble_eq_true rfl) ⟨(by first | rfl | (simp; done)), (by first | rfl | (simp; done))⟩ dX0_forecast_14
set_option maxHeartbeats 4000000 in
set_option maxRecDepth 100000 in
theorem mt_Law_tank_ok (l : Launch) (Γ : GE) (sz : Nat) (b : Nat) (h : HB) (tt : Nat) (sv : Nat) (zs : Int32) (da : Nat) (tx : Nat) (wr : Nat) (fl : Int32) (rf : Int32) (P : va_W) (w : Int32) (ou : Nat) (ov : Nat → Int64) (hnt : l.stackTraces = false) (ho : hdOk Γ P h) (hw9 : w = 0 ∨ w = 1 ∨ w = 2 ∨ w = 3) : KMH l yX0_tank cX0_tank 4 (some FieldType.int) [(0, 9, 12, 13)] Γ 3 72 0 0 [.ref b, .int w, .ref ou] [[(b, .inr (0, [.ref h.e0, .ref tt, .ref sv, .int zs, .ref da, .ref tx, .ref wr, .int fl, .int rf]))], (hdB Γ h), [(ou, .inl (Γ.2.1 3, 1, .inr (.inl ov)))]] [P] sz (Qi Γ (fun r_ u_ => r_ = 0 ∧ u_ = [[(b, .inr (0, [.ref h.e0, .ref tt, .ref sv, .int zs, .ref da, .ref tx, .ref wr, .int fl, .int rf]))], (hdB Γ h), [(ou, .inl (Γ.2.1 3, 1, .inr (.inl (vp_updL ov 0 (tkW h.S.li h.S.ce (h.se 3) w).toInt64))))]])) := by
  refine K_introH (by decide) (Nat.le_of_ble_eq_true rfl) ?_
  intro pr_ ev_ s mi_ below meth cd_ A ls hx hb hr hml hown hts hlocks hname hK hE hRo hP hD hA hS hsz hl htb9
  have hl : lv_has ls 4 [(0, .ref b), (1, .int w), (2, .ref ou)] := hl
  have hown : s.vm.findClass RX0 = some mi_.cls := hown
  refine lv_aload_n hx hb dX0_tank_0 rfl (lv_at hl 2 rfl) ?_
  refine lv_iconst (v := 0) hx hb dX0_tank_1 (by decide) ?_
  refine lv_aload_n hx hb dX0_tank_2 rfl (lv_at hl 0 rfl) ?_
  refine lv_iload_n hx hb dX0_tank_3 rfl (lv_at hl 1 rfl) ?_
  refine b_calli (br := [[(ou, .inl (Γ.2.1 3, 1, .inr (.inl ov)))]]) (b_runV ⟨hx, hb, hml, hown, hts⟩ (mt_DB_tank_ok l Γ _ b h tt sv zs da tx wr fl rf P w ho hw9) (lw_V q1337 q1338 q1339 q62 q1340) rfl rfl 1 (by decide +kernel) ⟨(Nat.le_of_ble_eq_true rfl), (Nat.le_of_ble_eq_true rfl)⟩ (c_pre hP hD hS hA hK hE [0, 1] rfl rfl (ro_pass (ro_sel (ro2 := [P]) hRo [0] rfl) hD hS hA [0, 1] rfl)) (recv_at (q := (RX1, TX1, 9)) hK (b_at (k := 0) hP rfl) rfl) rfl hl.1 rfl (Nat.le_of_ble_eq_true rfl) dX0_tank_4 ⟨(Nat.le_of_ble_eq_true rfl), (Nat.le_of_ble_eq_true rfl)⟩) hP hD hS hA [0, 1] [2] rfl rfl rfl (fun r_1 u_1 H locs hw_1 hP hD hS _ => ?_)
  obtain ⟨rfl, rfl⟩ := hw_1
  have hP : WP Γ [[(b, .inr (0, [.ref h.e0, .ref tt, .ref sv, .int zs, .ref da, .ref tx, .ref wr, .int fl, .int rf]))], (hdB Γ h), [(ou, .inl (Γ.2.1 3, 1, .inr (.inl ov)))]] H := hP
  have hD : WD A [[(b, .inr (0, [.ref h.e0, .ref tt, .ref sv, .int zs, .ref da, .ref tx, .ref wr, .int fl, .int rf]))], (hdB Γ h), [(ou, .inl (Γ.2.1 3, 1, .inr (.inl ov)))]] := hD
  refine lv_i2l hx hb dX0_tank_7 rfl ?_
  refine b_last hx hb hK hP hD hS 2 rfl 0 rfl (by omega) (by omega) dX0_tank_8 (fun H locs hP hD hS => ?_)
  have hP : WP Γ [[(b, .inr (0, [.ref h.e0, .ref tt, .ref sv, .int zs, .ref da, .ref tx, .ref wr, .int fl, .int rf]))], (hdB Γ h), [(ou, .inl (Γ.2.1 3, 1, .inr (.inl (vp_updL ov 0 (tkW h.S.li h.S.ce (h.se 3) w).toInt64))))]] H := hP
  have hD : WD A [[(b, .inr (0, [.ref h.e0, .ref tt, .ref sv, .int zs, .ref da, .ref tx, .ref wr, .int fl, .int rf]))], (hdB Γ h), [(ou, .inl (Γ.2.1 3, 1, .inr (.inl (vp_updL ov 0 (tkW h.S.li h.S.ce (h.se 3) w).toInt64))))]] := hD
  refine lv_goto (tgt := 15) hx hb dX0_tank_9 (by decide) ?_
  refine lv_iconst (v := 0) hx hb dX0_tank_15 (by decide) ?_
  exact b_iret hx hb hr hlocks hP hD hS (Nat.le_of_ble_eq_true rfl) (Nat.le_of_ble_eq_true rfl) ⟨(by first | rfl | (simp; done)), (by first | rfl | (simp; done))⟩ dX0_tank_16
set_option maxHeartbeats 4000000 in
set_option maxRecDepth 100000 in
theorem mt_Law_tank_x (l : Launch) (Γ : GE) (sz : Nat) (b : Nat) (h : HB) (tt : Nat) (sv : Nat) (zs : Int32) (da : Nat) (tx : Nat) (wr : Nat) (fl : Int32) (rf : Int32) (w : Int32) (ou : Nat) (ov : Nat → Int64) (hnt : l.stackTraces = false) (hx9 : ¬ (w = 0 ∨ w = 1 ∨ w = 2 ∨ w = 3)) : KMH l yX0_tank cX0_tank 4 (some FieldType.int) [(0, 9, 12, 13)] Γ 7 111 1 6 [.ref b, .int w, .ref ou] [[(b, .inr (0, [.ref h.e0, .ref tt, .ref sv, .int zs, .ref da, .ref tx, .ref wr, .int fl, .int rf]))], [(ou, .inl (Γ.2.1 3, 1, .inr (.inl ov)))]] [] sz (Qi Γ (fun r_ u_ => r_ = 1 ∧ u_ = [[(b, .inr (0, [.ref h.e0, .ref tt, .ref sv, .int zs, .ref da, .ref tx, .ref wr, .int fl, .int rf]))], [(ou, .inl (Γ.2.1 3, 1, .inr (.inl ov)))]])) := by
  refine K_introH (by decide) (Nat.le_of_ble_eq_true rfl) ?_
  intro pr_ ev_ s mi_ below meth cd_ A ls hx hb hr hml hown hts hlocks hname hK hE hRo hP hD hA hS hsz hl htb9
  have hl : lv_has ls 4 [(0, .ref b), (1, .int w), (2, .ref ou)] := hl
  have hown : s.vm.findClass RX0 = some mi_.cls := hown
  refine lv_aload_n hx hb dX0_tank_0 rfl (lv_at hl 2 rfl) ?_
  refine lv_iconst (v := 0) hx hb dX0_tank_1 (by decide) ?_
  refine lv_aload_n hx hb dX0_tank_2 rfl (lv_at hl 0 rfl) ?_
  refine lv_iload_n hx hb dX0_tank_3 rfl (lv_at hl 1 rfl) ?_
  refine b_callx (br := [[(ou, .inl (Γ.2.1 3, 1, .inr (.inl ov)))]]) (b_runVx ⟨hx, hb, hml, hown, hts⟩ (mt_DB_tank_x l Γ _ b h tt sv zs da tx wr fl rf w hnt hx9) (lw_V q1337 q1338 q1339 q62 q1340) rfl rfl 1 (by decide +kernel) ⟨(Nat.le_of_ble_eq_true rfl), (Nat.le_of_ble_eq_true rfl)⟩ (c_pre hP hD hS hA hK hE [0] rfl rfl ro_nil) (recv_at (q := (RX1, TX1, 9)) hK (b_at (k := 0) hP rfl) rfl) rfl hl.1 rfl (Nat.le_of_ble_eq_true rfl) dX0_tank_4 ⟨(Nat.le_of_ble_eq_true rfl), (Nat.le_of_ble_eq_true rfl)⟩) hP hD hS hA [0] [1] rfl rfl rfl (fun q_1 ce_1 u_1 H locs hw_1 hP hD hS _ hce_1 hcv_1 hcl_1 => ?_)
  obtain rfl := hw_1
  have hP : WP Γ [[(b, .inr (0, [.ref h.e0, .ref tt, .ref sv, .int zs, .ref da, .ref tx, .ref wr, .int fl, .int rf]))], [(ou, .inl (Γ.2.1 3, 1, .inr (.inl ov)))]] H := hP
  have hD : WD A [[(b, .inr (0, [.ref h.e0, .ref tt, .ref sv, .int zs, .ref da, .ref tx, .ref wr, .int fl, .int rf]))], [(ou, .inl (Γ.2.1 3, 1, .inr (.inl ov)))]] := hD
  refine vx_catch (name := "java/lang/IllegalArgumentException") hown [] ⟨0, 9, 12, 13⟩ [] (htb9.trans rfl) (fun z hz => nomatch hz) (by decide) (by decide) (hts _ q800) (va_Nw.use rfl (hE.1.1 _ q568 rfl)) hce_1 hcv_1 hcl_1 ?_
  refine W.eq (g2 := F0 mi_ 12 ls ([.ref q_1])) rfl ?_
  refine lv_astore_n (lv' := [(3, .ref q_1), (0, .ref b), (1, .int w), (2, .ref ou)]) hx hb dX0_tank_12 rfl hl (by decide) rfl (fun ls hl => ?_)
  refine lv_iconst (v := 1) hx hb dX0_tank_13 (by decide) ?_
  exact b_iret hx hb hr hlocks hP hD hS (Nat.le_of_ble_eq_true rfl) (Nat.le_of_ble_eq_true rfl) ⟨(by first | rfl | (simp; done)), (by first | rfl | (simp; done))⟩ dX0_tank_14
set_option maxHeartbeats 4000000 in
set_option maxRecDepth 100000 in
theorem mt_Law_pickup_ok (l : Launch) (Γ : GE) (sz : Nat) (b : Nat) (h : HB) (tt : Nat) (sv : Nat) (zs : Int32) (da : Nat) (tx : Nat) (wr : Nat) (fl : Int32) (rf : Int32) (P : va_W) (k : Nat) (w : Int32) (ou : Nat) (ov : Nat → Int64) (hnt : l.stackTraces = false) (ho : hdOk Γ P h) (hk9 : k < h.S.np) (hi9 : ¬ inC (nI k) 0 (nI h.S.np - 1) = 0) (hw9 : ¬ inC w 0 6 = 0) (hz : ¬ h.S.pv k 1 = 0) : KMH l yX0_pickup cX0_pickup 5 (some FieldType.int) [(0, 10, 13, 21), (0, 10, 17, 13)] Γ 5 108 0 0 [.ref b, .int (nI k), .int w, .ref ou] [[(b, .inr (0, [.ref h.e0, .ref tt, .ref sv, .int zs, .ref da, .ref tx, .ref wr, .int fl, .int rf]))], (hdB Γ h), [(ou, .inl (Γ.2.1 3, 1, .inr (.inl ov)))]] [P] sz (Qi Γ (fun r_ u_ => r_ = 0 ∧ u_ = [[(b, .inr (0, [.ref h.e0, .ref tt, .ref sv, .int zs, .ref da, .ref tx, .ref wr, .int fl, .int rf]))], (hdB Γ h), [(ou, .inl (Γ.2.1 3, 1, .inr (.inl (vp_updL ov 0 (pickTold (h.S.pv k) w).toInt64))))]])) := by
  refine K_introH (by decide) (Nat.le_of_ble_eq_true rfl) ?_
  intro pr_ ev_ s mi_ below meth cd_ A ls hx hb hr hml hown hts hlocks hname hK hE hRo hP hD hA hS hsz hl htb9
  have hl : lv_has ls 5 [(0, .ref b), (1, .int (nI k)), (2, .int w), (3, .ref ou)] := hl
  have hown : s.vm.findClass RX0 = some mi_.cls := hown
  refine lv_aload_n hx hb dX0_pickup_0 rfl (lv_at hl 3 rfl) ?_
  refine lv_iconst (v := 0) hx hb dX0_pickup_1 (by decide) ?_
  refine lv_aload_n hx hb dX0_pickup_2 rfl (lv_at hl 0 rfl) ?_
  refine lv_iload_n hx hb dX0_pickup_3 rfl (lv_at hl 1 rfl) ?_
  refine lv_iload_n hx hb dX0_pickup_4 rfl (lv_at hl 2 rfl) ?_
  refine b_calli (br := [[(ou, .inl (Γ.2.1 3, 1, .inr (.inl ov)))]]) (b_runV ⟨hx, hb, hml, hown, hts⟩ (mt_DB_pickup_ok l Γ _ b h tt sv zs da tx wr fl rf P k w ho hk9 hi9 hw9 hz) (lw_V q1349 q1350 q1351 q62 q1352) rfl rfl 2 (by decide +kernel) ⟨(Nat.le_of_ble_eq_true rfl), (Nat.le_of_ble_eq_true rfl)⟩ (c_pre hP hD hS hA hK hE [0, 1] rfl rfl (ro_pass (ro_sel (ro2 := [P]) hRo [0] rfl) hD hS hA [0, 1] rfl)) (recv_at (q := (RX1, TX1, 9)) hK (b_at (k := 0) hP rfl) rfl) rfl hl.1 rfl (Nat.le_of_ble_eq_true rfl) dX0_pickup_5 ⟨(Nat.le_of_ble_eq_true rfl), (Nat.le_of_ble_eq_true rfl)⟩) hP hD hS hA [0, 1] [2] rfl rfl rfl (fun r_1 u_1 H locs hw_1 hP hD hS _ => ?_)
  obtain ⟨rfl, rfl⟩ := hw_1
  have hP : WP Γ [[(b, .inr (0, [.ref h.e0, .ref tt, .ref sv, .int zs, .ref da, .ref tx, .ref wr, .int fl, .int rf]))], (hdB Γ h), [(ou, .inl (Γ.2.1 3, 1, .inr (.inl ov)))]] H := hP
  have hD : WD A [[(b, .inr (0, [.ref h.e0, .ref tt, .ref sv, .int zs, .ref da, .ref tx, .ref wr, .int fl, .int rf]))], (hdB Γ h), [(ou, .inl (Γ.2.1 3, 1, .inr (.inl ov)))]] := hD
  refine lv_i2l hx hb dX0_pickup_8 rfl ?_
  refine b_last hx hb hK hP hD hS 2 rfl 0 rfl (by omega) (by omega) dX0_pickup_9 (fun H locs hP hD hS => ?_)
  have hP : WP Γ [[(b, .inr (0, [.ref h.e0, .ref tt, .ref sv, .int zs, .ref da, .ref tx, .ref wr, .int fl, .int rf]))], (hdB Γ h), [(ou, .inl (Γ.2.1 3, 1, .inr (.inl (vp_updL ov 0 (pickTold (h.S.pv k) w).toInt64))))]] H := hP
  have hD : WD A [[(b, .inr (0, [.ref h.e0, .ref tt, .ref sv, .int zs, .ref da, .ref tx, .ref wr, .int fl, .int rf]))], (hdB Γ h), [(ou, .inl (Γ.2.1 3, 1, .inr (.inl (vp_updL ov 0 (pickTold (h.S.pv k) w).toInt64))))]] := hD
  refine lv_goto (tgt := 21) hx hb dX0_pickup_10 (by decide) ?_
  refine lv_iconst (v := 0) hx hb dX0_pickup_21 (by decide) ?_
  exact b_iret hx hb hr hlocks hP hD hS (Nat.le_of_ble_eq_true rfl) (Nat.le_of_ble_eq_true rfl) ⟨(by first | rfl | (simp; done)), (by first | rfl | (simp; done))⟩ dX0_pickup_22
set_option maxHeartbeats 4000000 in
set_option maxRecDepth 100000 in
theorem mt_Law_pickup_x1 (l : Launch) (Γ : GE) (sz : Nat) (b : Nat) (h : HB) (tt : Nat) (sv : Nat) (zs : Int32) (da : Nat) (tx : Nat) (wr : Nat) (fl : Int32) (rf : Int32) (P : va_W) (c : Int32) (w : Int32) (ou : Nat) (ov : Nat → Int64) (hnt : l.stackTraces = false) (ho : hdOk Γ P h) (hx9 : inC c 0 (nI h.S.np - 1) = 0) : KMH l yX0_pickup cX0_pickup 5 (some FieldType.int) [(0, 10, 13, 21), (0, 10, 17, 13)] Γ 9 154 1 6 [.ref b, .int c, .int w, .ref ou] [[(b, .inr (0, [.ref h.e0, .ref tt, .ref sv, .int zs, .ref da, .ref tx, .ref wr, .int fl, .int rf]))], (hdB Γ h), [(ou, .inl (Γ.2.1 3, 1, .inr (.inl ov)))]] [P] sz (Qi Γ (fun r_ u_ => r_ = 1 ∧ u_ = [[(b, .inr (0, [.ref h.e0, .ref tt, .ref sv, .int zs, .ref da, .ref tx, .ref wr, .int fl, .int rf]))], (hdB Γ h), [(ou, .inl (Γ.2.1 3, 1, .inr (.inl ov)))]])) := by
  refine K_introH (by decide) (Nat.le_of_ble_eq_true rfl) ?_
  intro pr_ ev_ s mi_ below meth cd_ A ls hx hb hr hml hown hts hlocks hname hK hE hRo hP hD hA hS hsz hl htb9
  have hl : lv_has ls 5 [(0, .ref b), (1, .int c), (2, .int w), (3, .ref ou)] := hl
  have hown : s.vm.findClass RX0 = some mi_.cls := hown
  refine lv_aload_n hx hb dX0_pickup_0 rfl (lv_at hl 3 rfl) ?_
  refine lv_iconst (v := 0) hx hb dX0_pickup_1 (by decide) ?_
  refine lv_aload_n hx hb dX0_pickup_2 rfl (lv_at hl 0 rfl) ?_
  refine lv_iload_n hx hb dX0_pickup_3 rfl (lv_at hl 1 rfl) ?_
  refine lv_iload_n hx hb dX0_pickup_4 rfl (lv_at hl 2 rfl) ?_
  refine b_callx (br := [[(ou, .inl (Γ.2.1 3, 1, .inr (.inl ov)))]]) (b_runVx ⟨hx, hb, hml, hown, hts⟩ (mt_DB_pickup_x1 l Γ _ b h tt sv zs da tx wr fl rf P c w hnt ho hx9) (lw_V q1349 q1350 q1351 q62 q1352) rfl rfl 2 (by decide +kernel) ⟨(Nat.le_of_ble_eq_true rfl), (Nat.le_of_ble_eq_true rfl)⟩ (c_pre hP hD hS hA hK hE [0, 1] rfl rfl (ro_pass (ro_sel (ro2 := [P]) hRo [0] rfl) hD hS hA [0, 1] rfl)) (recv_at (q := (RX1, TX1, 9)) hK (b_at (k := 0) hP rfl) rfl) rfl hl.1 rfl (Nat.le_of_ble_eq_true rfl) dX0_pickup_5 ⟨(Nat.le_of_ble_eq_true rfl), (Nat.le_of_ble_eq_true rfl)⟩) hP hD hS hA [0, 1] [2] rfl rfl rfl (fun q_1 ce_1 u_1 H locs hw_1 hP hD hS _ hce_1 hcv_1 hcl_1 => ?_)
  obtain rfl := hw_1
  have hP : WP Γ [[(b, .inr (0, [.ref h.e0, .ref tt, .ref sv, .int zs, .ref da, .ref tx, .ref wr, .int fl, .int rf]))], (hdB Γ h), [(ou, .inl (Γ.2.1 3, 1, .inr (.inl ov)))]] H := hP
  have hD : WD A [[(b, .inr (0, [.ref h.e0, .ref tt, .ref sv, .int zs, .ref da, .ref tx, .ref wr, .int fl, .int rf]))], (hdB Γ h), [(ou, .inl (Γ.2.1 3, 1, .inr (.inl ov)))]] := hD
  refine vx_catch (name := "java/lang/IndexOutOfBoundsException") hown [] ⟨0, 10, 13, 21⟩ [⟨0, 10, 17, 13⟩] (htb9.trans rfl) (fun z hz => nomatch hz) (by decide) (by decide) (hts _ q891) (va_Nw.use rfl (hE.1.1 _ q919 rfl)) hce_1 hcv_1 hcl_1 ?_
  refine W.eq (g2 := F0 mi_ 13 ls ([.ref q_1])) rfl ?_
  refine lv_astore (lv' := [(4, .ref q_1), (0, .ref b), (1, .int c), (2, .int w), (3, .ref ou)]) hx hb dX0_pickup_13 hl (by decide) rfl (fun ls hl => ?_)
  refine lv_iconst (v := 1) hx hb dX0_pickup_15 (by decide) ?_
  exact b_iret hx hb hr hlocks hP hD hS (Nat.le_of_ble_eq_true rfl) (Nat.le_of_ble_eq_true rfl) ⟨(by first | rfl | (simp; done)), (by first | rfl | (simp; done))⟩ dX0_pickup_16
set_option maxHeartbeats 4000000 in
set_option maxRecDepth 100000 in
theorem mt_Law_pickup_x2 (l : Launch) (Γ : GE) (sz : Nat) (b : Nat) (h : HB) (tt : Nat) (sv : Nat) (zs : Int32) (da : Nat) (tx : Nat) (wr : Nat) (fl : Int32) (rf : Int32) (P : va_W) (k : Nat) (w : Int32) (ou : Nat) (ov : Nat → Int64) (hnt : l.stackTraces = false) (ho : hdOk Γ P h) (hk9 : k < h.S.np) (hi9 : ¬ inC (nI k) 0 (nI h.S.np - 1) = 0) (hx9 : inC w 0 6 = 0) : KMH l yX0_pickup cX0_pickup 5 (some FieldType.int) [(0, 10, 13, 21), (0, 10, 17, 13)] Γ 8 133 1 6 [.ref b, .int (nI k), .int w, .ref ou] [[(b, .inr (0, [.ref h.e0, .ref tt, .ref sv, .int zs, .ref da, .ref tx, .ref wr, .int fl, .int rf]))], (hdB Γ h), [(ou, .inl (Γ.2.1 3, 1, .inr (.inl ov)))]] [P] sz (Qi Γ (fun r_ u_ => r_ = 2 ∧ u_ = [[(b, .inr (0, [.ref h.e0, .ref tt, .ref sv, .int zs, .ref da, .ref tx, .ref wr, .int fl, .int rf]))], (hdB Γ h), [(ou, .inl (Γ.2.1 3, 1, .inr (.inl ov)))]])) := by
  refine K_introH (by decide) (Nat.le_of_ble_eq_true rfl) ?_
  intro pr_ ev_ s mi_ below meth cd_ A ls hx hb hr hml hown hts hlocks hname hK hE hRo hP hD hA hS hsz hl htb9
  have hl : lv_has ls 5 [(0, .ref b), (1, .int (nI k)), (2, .int w), (3, .ref ou)] := hl
  have hown : s.vm.findClass RX0 = some mi_.cls := hown
  refine lv_aload_n hx hb dX0_pickup_0 rfl (lv_at hl 3 rfl) ?_
  refine lv_iconst (v := 0) hx hb dX0_pickup_1 (by decide) ?_
  refine lv_aload_n hx hb dX0_pickup_2 rfl (lv_at hl 0 rfl) ?_
  refine lv_iload_n hx hb dX0_pickup_3 rfl (lv_at hl 1 rfl) ?_
  refine lv_iload_n hx hb dX0_pickup_4 rfl (lv_at hl 2 rfl) ?_
  refine b_callx (br := [[(ou, .inl (Γ.2.1 3, 1, .inr (.inl ov)))]]) (b_runVx ⟨hx, hb, hml, hown, hts⟩ (mt_DB_pickup_x2 l Γ _ b h tt sv zs da tx wr fl rf P k w hnt ho hk9 hi9 hx9) (lw_V q1349 q1350 q1351 q62 q1352) rfl rfl 2 (by decide +kernel) ⟨(Nat.le_of_ble_eq_true rfl), (Nat.le_of_ble_eq_true rfl)⟩ (c_pre hP hD hS hA hK hE [0, 1] rfl rfl (ro_pass (ro_sel (ro2 := [P]) hRo [0] rfl) hD hS hA [0, 1] rfl)) (recv_at (q := (RX1, TX1, 9)) hK (b_at (k := 0) hP rfl) rfl) rfl hl.1 rfl (Nat.le_of_ble_eq_true rfl) dX0_pickup_5 ⟨(Nat.le_of_ble_eq_true rfl), (Nat.le_of_ble_eq_true rfl)⟩) hP hD hS hA [0, 1] [2] rfl rfl rfl (fun q_1 ce_1 u_1 H locs hw_1 hP hD hS _ hce_1 hcv_1 hcl_1 => ?_)
  obtain rfl := hw_1
  have hP : WP Γ [[(b, .inr (0, [.ref h.e0, .ref tt, .ref sv, .int zs, .ref da, .ref tx, .ref wr, .int fl, .int rf]))], (hdB Γ h), [(ou, .inl (Γ.2.1 3, 1, .inr (.inl ov)))]] H := hP
  have hD : WD A [[(b, .inr (0, [.ref h.e0, .ref tt, .ref sv, .int zs, .ref da, .ref tx, .ref wr, .int fl, .int rf]))], (hdB Γ h), [(ou, .inl (Γ.2.1 3, 1, .inr (.inl ov)))]] := hD
  refine vx_catch (name := "java/lang/IllegalArgumentException") hown [⟨0, 10, 13, 21⟩] ⟨0, 10, 17, 13⟩ [] (htb9.trans rfl) (fun z hz => by rw [List.mem_singleton.mp hz]; exact Or.inr ⟨by decide, "java/lang/IndexOutOfBoundsException", hts _ q891, hE.1.2.2.2 _ (List.mem_of_getElem? (i := 1) rfl)⟩) (by decide) (by decide) (hts _ q800) (va_Nw.use rfl (hE.1.1 _ q568 rfl)) hce_1 hcv_1 hcl_1 ?_
  refine W.eq (g2 := F0 mi_ 17 ls ([.ref q_1])) rfl ?_
  refine lv_astore (lv' := [(4, .ref q_1), (0, .ref b), (1, .int (nI k)), (2, .int w), (3, .ref ou)]) hx hb dX0_pickup_17 hl (by decide) rfl (fun ls hl => ?_)
  refine lv_iconst (v := 2) hx hb dX0_pickup_19 (by decide) ?_
  exact b_iret hx hb hr hlocks hP hD hS (Nat.le_of_ble_eq_true rfl) (Nat.le_of_ble_eq_true rfl) ⟨(by first | rfl | (simp; done)), (by first | rfl | (simp; done))⟩ dX0_pickup_20
set_option maxHeartbeats 4000000 in
set_option maxRecDepth 100000 in
theorem mt_Law_mean_ok (l : Launch) (Γ : GE) (sz : Nat) (b : Nat) (h : HB) (tt : Nat) (sv : Nat) (zs : Int32) (da : Nat) (tx : Nat) (wr : Nat) (fl : Int32) (rf : Int32) (P : va_W) (k : Nat) (q : Nat) (ou : Nat) (ov : Nat → UInt64) (hnt : l.stackTraces = false) (ho : hdOk Γ P h) (hk9 : k < h.S.np) (hq9 : q < h.S.np) (hi9 : ¬ inC (nI k) 0 (nI h.S.np - 1) = 0) (hi8 : ¬ inC (nI q) 0 (nI h.S.np - 1) = 0) (hkq : k ≤ q) (hnan : vf_n64 (FP.ddiv (FP.i2d (pSm h.S.pv 2 k (q + 1))) (FP.i2d (pSm h.S.pv 1 k (q + 1))))) : KMH l yX0_mean cX0_mean 5 (some FieldType.int) [(0, 9, 12, 21), (0, 9, 16, 13)] Γ 5 110 0 0 [.ref b, .int (nI k), .int (nI q), .ref ou] [[(b, .inr (0, [.ref h.e0, .ref tt, .ref sv, .int zs, .ref da, .ref tx, .ref wr, .int fl, .int rf]))], (hdB Γ h), [(ou, .inl (Γ.2.1 4, 1, .inr (.inr (.inr (.inl ov)))))]] [P] sz (Qi Γ (fun r_ u_ => r_ = 0 ∧ u_ = [[(b, .inr (0, [.ref h.e0, .ref tt, .ref sv, .int zs, .ref da, .ref tx, .ref wr, .int fl, .int rf]))], (hdB Γ h), [(ou, .inl (Γ.2.1 4, 1, .inr (.inr (.inr (.inl (vf_upd ov 0 (FP.ddiv (FP.i2d (pSm h.S.pv 2 k (q + 1))) (FP.i2d (pSm h.S.pv 1 k (q + 1))))))))))]])) := by
  refine K_introH (by decide) (Nat.le_of_ble_eq_true rfl) ?_
  intro pr_ ev_ s mi_ below meth cd_ A ls hx hb hr hml hown hts hlocks hname hK hE hRo hP hD hA hS hsz hl htb9
  have hl : lv_has ls 5 [(0, .ref b), (1, .int (nI k)), (2, .int (nI q)), (3, .ref ou)] := hl
  have hown : s.vm.findClass RX0 = some mi_.cls := hown
  refine lv_aload_n hx hb dX0_mean_0 rfl (lv_at hl 3 rfl) ?_
  refine lv_iconst (v := 0) hx hb dX0_mean_1 (by decide) ?_
  refine lv_aload_n hx hb dX0_mean_2 rfl (lv_at hl 0 rfl) ?_
  refine lv_iload_n hx hb dX0_mean_3 rfl (lv_at hl 1 rfl) ?_
  refine lv_iload_n hx hb dX0_mean_4 rfl (lv_at hl 2 rfl) ?_
  refine b_calld (br := [[(ou, .inl (Γ.2.1 4, 1, .inr (.inr (.inr (.inl ov)))))]]) (b_runV ⟨hx, hb, hml, hown, hts⟩ (mt_DB_mean_ok l Γ _ b h tt sv zs da tx wr fl rf P k q ho hk9 hq9 hi9 hi8 hkq hnan) (lw_V q1369 q1370 q1371 q62 q1372) rfl rfl 2 (by decide +kernel) ⟨(Nat.le_of_ble_eq_true rfl), (Nat.le_of_ble_eq_true rfl)⟩ (c_pre hP hD hS hA hK hE [0, 1] rfl rfl (ro_pass (ro_sel (ro2 := [P]) hRo [0] rfl) hD hS hA [0, 1] rfl)) (recv_at (q := (RX1, TX1, 9)) hK (b_at (k := 0) hP rfl) rfl) rfl hl.1 rfl (Nat.le_of_ble_eq_true rfl) dX0_mean_5 ⟨(Nat.le_of_ble_eq_true rfl), (Nat.le_of_ble_eq_true rfl)⟩) hP hD hS hA [0, 1] [2] rfl rfl rfl (fun r_1 u_1 H locs hw_1 hP hD hS _ => ?_)
  obtain ⟨rfl, rfl⟩ := hw_1
  have hP : WP Γ [[(b, .inr (0, [.ref h.e0, .ref tt, .ref sv, .int zs, .ref da, .ref tx, .ref wr, .int fl, .int rf]))], (hdB Γ h), [(ou, .inl (Γ.2.1 4, 1, .inr (.inr (.inr (.inl ov)))))]] H := hP
  have hD : WD A [[(b, .inr (0, [.ref h.e0, .ref tt, .ref sv, .int zs, .ref da, .ref tx, .ref wr, .int fl, .int rf]))], (hdB Γ h), [(ou, .inl (Γ.2.1 4, 1, .inr (.inr (.inr (.inl ov)))))]] := hD
  refine b_dast hx hb hK hP hD hS 2 rfl 0 rfl (by omega) (by omega) dX0_mean_8 (fun H locs hP hD hS => ?_)
  have hP : WP Γ [[(b, .inr (0, [.ref h.e0, .ref tt, .ref sv, .int zs, .ref da, .ref tx, .ref wr, .int fl, .int rf]))], (hdB Γ h), [(ou, .inl (Γ.2.1 4, 1, .inr (.inr (.inr (.inl (vf_upd ov 0 (FP.ddiv (FP.i2d (pSm h.S.pv 2 k (q + 1))) (FP.i2d (pSm h.S.pv 1 k (q + 1))))))))))]] H := hP
  have hD : WD A [[(b, .inr (0, [.ref h.e0, .ref tt, .ref sv, .int zs, .ref da, .ref tx, .ref wr, .int fl, .int rf]))], (hdB Γ h), [(ou, .inl (Γ.2.1 4, 1, .inr (.inr (.inr (.inl (vf_upd ov 0 (FP.ddiv (FP.i2d (pSm h.S.pv 2 k (q + 1))) (FP.i2d (pSm h.S.pv 1 k (q + 1))))))))))]] := hD
  refine lv_goto (tgt := 20) hx hb dX0_mean_9 (by decide) ?_
  refine lv_iconst (v := 0) hx hb dX0_mean_20 (by decide) ?_
  exact b_iret hx hb hr hlocks hP hD hS (Nat.le_of_ble_eq_true rfl) (Nat.le_of_ble_eq_true rfl) ⟨(by first | rfl | (simp; done)), (by first | rfl | (simp; done))⟩ dX0_mean_21
set_option maxHeartbeats 4000000 in
set_option maxRecDepth 100000 in
theorem mt_Law_mean_x1 (l : Launch) (Γ : GE) (sz : Nat) (b : Nat) (h : HB) (tt : Nat) (sv : Nat) (zs : Int32) (da : Nat) (tx : Nat) (wr : Nat) (fl : Int32) (rf : Int32) (P : va_W) (c : Int32) (w : Int32) (ou : Nat) (ov : Nat → UInt64) (hnt : l.stackTraces = false) (ho : hdOk Γ P h) (hx9 : inC c 0 (nI h.S.np - 1) = 0) : KMH l yX0_mean cX0_mean 5 (some FieldType.int) [(0, 9, 12, 21), (0, 9, 16, 13)] Γ 9 156 1 6 [.ref b, .int c, .int w, .ref ou] [[(b, .inr (0, [.ref h.e0, .ref tt, .ref sv, .int zs, .ref da, .ref tx, .ref wr, .int fl, .int rf]))], (hdB Γ h), [(ou, .inl (Γ.2.1 4, 1, .inr (.inr (.inr (.inl ov)))))]] [P] sz (Qi Γ (fun r_ u_ => r_ = 1 ∧ u_ = [[(b, .inr (0, [.ref h.e0, .ref tt, .ref sv, .int zs, .ref da, .ref tx, .ref wr, .int fl, .int rf]))], (hdB Γ h), [(ou, .inl (Γ.2.1 4, 1, .inr (.inr (.inr (.inl ov)))))]])) := by
  refine K_introH (by decide) (Nat.le_of_ble_eq_true rfl) ?_
  intro pr_ ev_ s mi_ below meth cd_ A ls hx hb hr hml hown hts hlocks hname hK hE hRo hP hD hA hS hsz hl htb9
  have hl : lv_has ls 5 [(0, .ref b), (1, .int c), (2, .int w), (3, .ref ou)] := hl
  have hown : s.vm.findClass RX0 = some mi_.cls := hown
  refine lv_aload_n hx hb dX0_mean_0 rfl (lv_at hl 3 rfl) ?_
  refine lv_iconst (v := 0) hx hb dX0_mean_1 (by decide) ?_
  refine lv_aload_n hx hb dX0_mean_2 rfl (lv_at hl 0 rfl) ?_
  refine lv_iload_n hx hb dX0_mean_3 rfl (lv_at hl 1 rfl) ?_
  refine lv_iload_n hx hb dX0_mean_4 rfl (lv_at hl 2 rfl) ?_
  refine b_callx (br := [[(ou, .inl (Γ.2.1 4, 1, .inr (.inr (.inr (.inl ov)))))]]) (b_runVx ⟨hx, hb, hml, hown, hts⟩ (mt_DB_mean_x1 l Γ _ b h tt sv zs da tx wr fl rf P c w hnt ho hx9) (lw_V q1369 q1370 q1371 q62 q1372) rfl rfl 2 (by decide +kernel) ⟨(Nat.le_of_ble_eq_true rfl), (Nat.le_of_ble_eq_true rfl)⟩ (c_pre hP hD hS hA hK hE [0, 1] rfl rfl (ro_pass (ro_sel (ro2 := [P]) hRo [0] rfl) hD hS hA [0, 1] rfl)) (recv_at (q := (RX1, TX1, 9)) hK (b_at (k := 0) hP rfl) rfl) rfl hl.1 rfl (Nat.le_of_ble_eq_true rfl) dX0_mean_5 ⟨(Nat.le_of_ble_eq_true rfl), (Nat.le_of_ble_eq_true rfl)⟩) hP hD hS hA [0, 1] [2] rfl rfl rfl (fun q_1 ce_1 u_1 H locs hw_1 hP hD hS _ hce_1 hcv_1 hcl_1 => ?_)
  obtain rfl := hw_1
  have hP : WP Γ [[(b, .inr (0, [.ref h.e0, .ref tt, .ref sv, .int zs, .ref da, .ref tx, .ref wr, .int fl, .int rf]))], (hdB Γ h), [(ou, .inl (Γ.2.1 4, 1, .inr (.inr (.inr (.inl ov)))))]] H := hP
  have hD : WD A [[(b, .inr (0, [.ref h.e0, .ref tt, .ref sv, .int zs, .ref da, .ref tx, .ref wr, .int fl, .int rf]))], (hdB Γ h), [(ou, .inl (Γ.2.1 4, 1, .inr (.inr (.inr (.inl ov)))))]] := hD
  refine vx_catch (name := "java/lang/IndexOutOfBoundsException") hown [] ⟨0, 9, 12, 21⟩ [⟨0, 9, 16, 13⟩] (htb9.trans rfl) (fun z hz => nomatch hz) (by decide) (by decide) (hts _ q891) (va_Nw.use rfl (hE.1.1 _ q919 rfl)) hce_1 hcv_1 hcl_1 ?_
  refine W.eq (g2 := F0 mi_ 12 ls ([.ref q_1])) rfl ?_
  refine lv_astore (lv' := [(4, .ref q_1), (0, .ref b), (1, .int c), (2, .int w), (3, .ref ou)]) hx hb dX0_mean_12 hl (by decide) rfl (fun ls hl => ?_)
  refine lv_iconst (v := 1) hx hb dX0_mean_14 (by decide) ?_
  exact b_iret hx hb hr hlocks hP hD hS (Nat.le_of_ble_eq_true rfl) (Nat.le_of_ble_eq_true rfl) ⟨(by first | rfl | (simp; done)), (by first | rfl | (simp; done))⟩ dX0_mean_15
set_option maxHeartbeats 4000000 in
set_option maxRecDepth 100000 in
theorem mt_Law_mean_x1b (l : Launch) (Γ : GE) (sz : Nat) (b : Nat) (h : HB) (tt : Nat) (sv : Nat) (zs : Int32) (da : Nat) (tx : Nat) (wr : Nat) (fl : Int32) (rf : Int32) (P : va_W) (k : Nat) (c : Int32) (ou : Nat) (ov : Nat → UInt64) (hnt : l.stackTraces = false) (ho : hdOk Γ P h) (hk9 : k < h.S.np) (hi9 : ¬ inC (nI k) 0 (nI h.S.np - 1) = 0) (hx9 : inC c 0 (nI h.S.np - 1) = 0) : KMH l yX0_mean cX0_mean 5 (some FieldType.int) [(0, 9, 12, 21), (0, 9, 16, 13)] Γ 9 156 1 6 [.ref b, .int (nI k), .int c, .ref ou] [[(b, .inr (0, [.ref h.e0, .ref tt, .ref sv, .int zs, .ref da, .ref tx, .ref wr, .int fl, .int rf]))], (hdB Γ h), [(ou, .inl (Γ.2.1 4, 1, .inr (.inr (.inr (.inl ov)))))]] [P] sz (Qi Γ (fun r_ u_ => r_ = 1 ∧ u_ = [[(b, .inr (0, [.ref h.e0, .ref tt, .ref sv, .int zs, .ref da, .ref tx, .ref wr, .int fl, .int rf]))], (hdB Γ h), [(ou, .inl (Γ.2.1 4, 1, .inr (.inr (.inr (.inl ov)))))]])) := by
  refine K_introH (by decide) (Nat.le_of_ble_eq_true rfl) ?_
  intro pr_ ev_ s mi_ below meth cd_ A ls hx hb hr hml hown hts hlocks hname hK hE hRo hP hD hA hS hsz hl htb9
  have hl : lv_has ls 5 [(0, .ref b), (1, .int (nI k)), (2, .int c), (3, .ref ou)] := hl
  have hown : s.vm.findClass RX0 = some mi_.cls := hown
  refine lv_aload_n hx hb dX0_mean_0 rfl (lv_at hl 3 rfl) ?_
  refine lv_iconst (v := 0) hx hb dX0_mean_1 (by decide) ?_
  refine lv_aload_n hx hb dX0_mean_2 rfl (lv_at hl 0 rfl) ?_
  refine lv_iload_n hx hb dX0_mean_3 rfl (lv_at hl 1 rfl) ?_
  refine lv_iload_n hx hb dX0_mean_4 rfl (lv_at hl 2 rfl) ?_
  refine b_callx (br := [[(ou, .inl (Γ.2.1 4, 1, .inr (.inr (.inr (.inl ov)))))]]) (b_runVx ⟨hx, hb, hml, hown, hts⟩ (mt_DB_mean_x1b l Γ _ b h tt sv zs da tx wr fl rf P k c hnt ho hk9 hi9 hx9) (lw_V q1369 q1370 q1371 q62 q1372) rfl rfl 2 (by decide +kernel) ⟨(Nat.le_of_ble_eq_true rfl), (Nat.le_of_ble_eq_true rfl)⟩ (c_pre hP hD hS hA hK hE [0, 1] rfl rfl (ro_pass (ro_sel (ro2 := [P]) hRo [0] rfl) hD hS hA [0, 1] rfl)) (recv_at (q := (RX1, TX1, 9)) hK (b_at (k := 0) hP rfl) rfl) rfl hl.1 rfl (Nat.le_of_ble_eq_true rfl) dX0_mean_5 ⟨(Nat.le_of_ble_eq_true rfl), (Nat.le_of_ble_eq_true rfl)⟩) hP hD hS hA [0, 1] [2] rfl rfl rfl (fun q_1 ce_1 u_1 H locs hw_1 hP hD hS _ hce_1 hcv_1 hcl_1 => ?_)
  obtain rfl := hw_1
  have hP : WP Γ [[(b, .inr (0, [.ref h.e0, .ref tt, .ref sv, .int zs, .ref da, .ref tx, .ref wr, .int fl, .int rf]))], (hdB Γ h), [(ou, .inl (Γ.2.1 4, 1, .inr (.inr (.inr (.inl ov)))))]] H := hP
  have hD : WD A [[(b, .inr (0, [.ref h.e0, .ref tt, .ref sv, .int zs, .ref da, .ref tx, .ref wr, .int fl, .int rf]))], (hdB Γ h), [(ou, .inl (Γ.2.1 4, 1, .inr (.inr (.inr (.inl ov)))))]] := hD
  refine vx_catch (name := "java/lang/IndexOutOfBoundsException") hown [] ⟨0, 9, 12, 21⟩ [⟨0, 9, 16, 13⟩] (htb9.trans rfl) (fun z hz => nomatch hz) (by decide) (by decide) (hts _ q891) (va_Nw.use rfl (hE.1.1 _ q919 rfl)) hce_1 hcv_1 hcl_1 ?_
  refine W.eq (g2 := F0 mi_ 12 ls ([.ref q_1])) rfl ?_
  refine lv_astore (lv' := [(4, .ref q_1), (0, .ref b), (1, .int (nI k)), (2, .int c), (3, .ref ou)]) hx hb dX0_mean_12 hl (by decide) rfl (fun ls hl => ?_)
  refine lv_iconst (v := 1) hx hb dX0_mean_14 (by decide) ?_
  exact b_iret hx hb hr hlocks hP hD hS (Nat.le_of_ble_eq_true rfl) (Nat.le_of_ble_eq_true rfl) ⟨(by first | rfl | (simp; done)), (by first | rfl | (simp; done))⟩ dX0_mean_15
set_option maxHeartbeats 4000000 in
set_option maxRecDepth 100000 in
theorem mt_Law_mean_x2 (l : Launch) (Γ : GE) (sz : Nat) (b : Nat) (h : HB) (tt : Nat) (sv : Nat) (zs : Int32) (da : Nat) (tx : Nat) (wr : Nat) (fl : Int32) (rf : Int32) (P : va_W) (k : Nat) (q : Nat) (ou : Nat) (ov : Nat → UInt64) (hnt : l.stackTraces = false) (ho : hdOk Γ P h) (hk9 : k < h.S.np) (hi9 : ¬ inC (nI k) 0 (nI h.S.np - 1) = 0) (hq9 : q < h.S.np) (hi8 : ¬ inC (nI q) 0 (nI h.S.np - 1) = 0) (hkq : q < k) : KMH l yX0_mean cX0_mean 5 (some FieldType.int) [(0, 9, 12, 21), (0, 9, 16, 13)] Γ 8 135 1 6 [.ref b, .int (nI k), .int (nI q), .ref ou] [[(b, .inr (0, [.ref h.e0, .ref tt, .ref sv, .int zs, .ref da, .ref tx, .ref wr, .int fl, .int rf]))], (hdB Γ h), [(ou, .inl (Γ.2.1 4, 1, .inr (.inr (.inr (.inl ov)))))]] [P] sz (Qi Γ (fun r_ u_ => r_ = 2 ∧ u_ = [[(b, .inr (0, [.ref h.e0, .ref tt, .ref sv, .int zs, .ref da, .ref tx, .ref wr, .int fl, .int rf]))], (hdB Γ h), [(ou, .inl (Γ.2.1 4, 1, .inr (.inr (.inr (.inl ov)))))]])) := by
  refine K_introH (by decide) (Nat.le_of_ble_eq_true rfl) ?_
  intro pr_ ev_ s mi_ below meth cd_ A ls hx hb hr hml hown hts hlocks hname hK hE hRo hP hD hA hS hsz hl htb9
  have hl : lv_has ls 5 [(0, .ref b), (1, .int (nI k)), (2, .int (nI q)), (3, .ref ou)] := hl
  have hown : s.vm.findClass RX0 = some mi_.cls := hown
  refine lv_aload_n hx hb dX0_mean_0 rfl (lv_at hl 3 rfl) ?_
  refine lv_iconst (v := 0) hx hb dX0_mean_1 (by decide) ?_
  refine lv_aload_n hx hb dX0_mean_2 rfl (lv_at hl 0 rfl) ?_
  refine lv_iload_n hx hb dX0_mean_3 rfl (lv_at hl 1 rfl) ?_
  refine lv_iload_n hx hb dX0_mean_4 rfl (lv_at hl 2 rfl) ?_
  refine b_callx (br := [[(ou, .inl (Γ.2.1 4, 1, .inr (.inr (.inr (.inl ov)))))]]) (b_runVx ⟨hx, hb, hml, hown, hts⟩ (mt_DB_mean_x2 l Γ _ b h tt sv zs da tx wr fl rf P k q hnt ho hk9 hi9 hq9 hi8 hkq) (lw_V q1369 q1370 q1371 q62 q1372) rfl rfl 2 (by decide +kernel) ⟨(Nat.le_of_ble_eq_true rfl), (Nat.le_of_ble_eq_true rfl)⟩ (c_pre hP hD hS hA hK hE [0, 1] rfl rfl (ro_pass (ro_sel (ro2 := [P]) hRo [0] rfl) hD hS hA [0, 1] rfl)) (recv_at (q := (RX1, TX1, 9)) hK (b_at (k := 0) hP rfl) rfl) rfl hl.1 rfl (Nat.le_of_ble_eq_true rfl) dX0_mean_5 ⟨(Nat.le_of_ble_eq_true rfl), (Nat.le_of_ble_eq_true rfl)⟩) hP hD hS hA [0, 1] [2] rfl rfl rfl (fun q_1 ce_1 u_1 H locs hw_1 hP hD hS _ hce_1 hcv_1 hcl_1 => ?_)
  obtain rfl := hw_1
  have hP : WP Γ [[(b, .inr (0, [.ref h.e0, .ref tt, .ref sv, .int zs, .ref da, .ref tx, .ref wr, .int fl, .int rf]))], (hdB Γ h), [(ou, .inl (Γ.2.1 4, 1, .inr (.inr (.inr (.inl ov)))))]] H := hP
  have hD : WD A [[(b, .inr (0, [.ref h.e0, .ref tt, .ref sv, .int zs, .ref da, .ref tx, .ref wr, .int fl, .int rf]))], (hdB Γ h), [(ou, .inl (Γ.2.1 4, 1, .inr (.inr (.inr (.inl ov)))))]] := hD
  refine vx_catch (name := "java/lang/IllegalArgumentException") hown [⟨0, 9, 12, 21⟩] ⟨0, 9, 16, 13⟩ [] (htb9.trans rfl) (fun z hz => by rw [List.mem_singleton.mp hz]; exact Or.inr ⟨by decide, "java/lang/IndexOutOfBoundsException", hts _ q891, hE.1.2.2.2 _ (List.mem_of_getElem? (i := 1) rfl)⟩) (by decide) (by decide) (hts _ q800) (va_Nw.use rfl (hE.1.1 _ q568 rfl)) hce_1 hcv_1 hcl_1 ?_
  refine W.eq (g2 := F0 mi_ 16 ls ([.ref q_1])) rfl ?_
  refine lv_astore (lv' := [(4, .ref q_1), (0, .ref b), (1, .int (nI k)), (2, .int (nI q)), (3, .ref ou)]) hx hb dX0_mean_16 hl (by decide) rfl (fun ls hl => ?_)
  refine lv_iconst (v := 2) hx hb dX0_mean_18 (by decide) ?_
  exact b_iret hx hb hr hlocks hP hD hS (Nat.le_of_ble_eq_true rfl) (Nat.le_of_ble_eq_true rfl) ⟨(by first | rfl | (simp; done)), (by first | rfl | (simp; done))⟩ dX0_mean_19
set_option maxHeartbeats 4000000 in
set_option maxRecDepth 100000 in
theorem mt_Law_greatest_ok (l : Launch) (Γ : GE) (sz : Nat) (b : Nat) (h : HB) (tt : Nat) (sv : Nat) (zs : Int32) (da : Nat) (tx : Nat) (wr : Nat) (fl : Int32) (rf : Int32) (P : va_W) (w : Int32) (ou : Nat) (ov : Nat → Int64) (hnt : l.stackTraces = false) (ho : hdOk Γ P h) (hw9 : ¬ inC w 0 6 = 0) (hnp : 0 < h.S.np) (hz : ∀ k, k < h.S.np → ¬ h.S.pv k 1 = 0) : KMH l yX0_greatest cX0_greatest 4 (some FieldType.int) [(0, 9, 12, 13), (0, 9, 15, 55)] Γ 4 87 0 0 [.ref b, .int w, .ref ou] [[(b, .inr (0, [.ref h.e0, .ref tt, .ref sv, .int zs, .ref da, .ref tx, .ref wr, .int fl, .int rf]))], (hdB Γ h), [(ou, .inl (Γ.2.1 3, 1, .inr (.inl ov)))]] [P] sz (Qi Γ (fun r_ u_ => r_ = 0 ∧ u_ = [[(b, .inr (0, [.ref h.e0, .ref tt, .ref sv, .int zs, .ref da, .ref tx, .ref wr, .int fl, .int rf]))], (hdB Γ h), [(ou, .inl (Γ.2.1 3, 1, .inr (.inl (vp_updL ov 0 (nI (bsN (fun q => pickTold (h.S.pv q) w) h.S.np)).toInt64))))]])) := by
  refine K_introH (by decide) (Nat.le_of_ble_eq_true rfl) ?_
  intro pr_ ev_ s mi_ below meth cd_ A ls hx hb hr hml hown hts hlocks hname hK hE hRo hP hD hA hS hsz hl htb9
  have hl : lv_has ls 4 [(0, .ref b), (1, .int w), (2, .ref ou)] := hl
  have hown : s.vm.findClass RX0 = some mi_.cls := hown
  refine lv_aload_n hx hb dX0_greatest_0 rfl (lv_at hl 2 rfl) ?_
  refine lv_iconst (v := 0) hx hb dX0_greatest_1 (by decide) ?_
  refine lv_aload_n hx hb dX0_greatest_2 rfl (lv_at hl 0 rfl) ?_
  refine lv_iload_n hx hb dX0_greatest_3 rfl (lv_at hl 1 rfl) ?_
  refine b_calli (br := [[(ou, .inl (Γ.2.1 3, 1, .inr (.inl ov)))]]) (b_runV ⟨hx, hb, hml, hown, hts⟩ (mt_DB_greatest_ok l Γ _ b h tt sv zs da tx wr fl rf P w ho hw9 hnp hz) (lw_V q1376 q1377 q1378 q62 q1379) rfl rfl 1 (by decide +kernel) ⟨(Nat.le_of_ble_eq_true rfl), (Nat.le_of_ble_eq_true rfl)⟩ (c_pre hP hD hS hA hK hE [0, 1] rfl rfl (ro_pass (ro_sel (ro2 := [P]) hRo [0] rfl) hD hS hA [0, 1] rfl)) (recv_at (q := (RX1, TX1, 9)) hK (b_at (k := 0) hP rfl) rfl) rfl hl.1 rfl (Nat.le_of_ble_eq_true rfl) dX0_greatest_4 ⟨(Nat.le_of_ble_eq_true rfl), (Nat.le_of_ble_eq_true rfl)⟩) hP hD hS hA [0, 1] [2] rfl rfl rfl (fun r_1 u_1 H locs hw_1 hP hD hS _ => ?_)
  obtain ⟨rfl, rfl⟩ := hw_1
  have hP : WP Γ [[(b, .inr (0, [.ref h.e0, .ref tt, .ref sv, .int zs, .ref da, .ref tx, .ref wr, .int fl, .int rf]))], (hdB Γ h), [(ou, .inl (Γ.2.1 3, 1, .inr (.inl ov)))]] H := hP
  have hD : WD A [[(b, .inr (0, [.ref h.e0, .ref tt, .ref sv, .int zs, .ref da, .ref tx, .ref wr, .int fl, .int rf]))], (hdB Γ h), [(ou, .inl (Γ.2.1 3, 1, .inr (.inl ov)))]] := hD
  refine lv_i2l hx hb dX0_greatest_7 rfl ?_
  refine b_last hx hb hK hP hD hS 2 rfl 0 rfl (by omega) (by omega) dX0_greatest_8 (fun H locs hP hD hS => ?_)
  have hP : WP Γ [[(b, .inr (0, [.ref h.e0, .ref tt, .ref sv, .int zs, .ref da, .ref tx, .ref wr, .int fl, .int rf]))], (hdB Γ h), [(ou, .inl (Γ.2.1 3, 1, .inr (.inl (vp_updL ov 0 (nI (bsN (fun q => pickTold (h.S.pv q) w) h.S.np)).toInt64))))]] H := hP
  have hD : WD A [[(b, .inr (0, [.ref h.e0, .ref tt, .ref sv, .int zs, .ref da, .ref tx, .ref wr, .int fl, .int rf]))], (hdB Γ h), [(ou, .inl (Γ.2.1 3, 1, .inr (.inl (vp_updL ov 0 (nI (bsN (fun q => pickTold (h.S.pv q) w) h.S.np)).toInt64))))]] := hD
  refine lv_goto (tgt := 18) hx hb dX0_greatest_9 (by decide) ?_
  refine lv_iconst (v := 0) hx hb dX0_greatest_18 (by decide) ?_
  exact b_iret hx hb hr hlocks hP hD hS (Nat.le_of_ble_eq_true rfl) (Nat.le_of_ble_eq_true rfl) ⟨(by first | rfl | (simp; done)), (by first | rfl | (simp; done))⟩ dX0_greatest_19
set_option maxHeartbeats 4000000 in
set_option maxRecDepth 100000 in
theorem mt_Law_greatest_x1 (l : Launch) (Γ : GE) (sz : Nat) (b : Nat) (h : HB) (tt : Nat) (sv : Nat) (zs : Int32) (da : Nat) (tx : Nat) (wr : Nat) (fl : Int32) (rf : Int32) (w : Int32) (ou : Nat) (ov : Nat → Int64) (hnt : l.stackTraces = false) (hx9 : inC w 0 6 = 0) : KMH l yX0_greatest cX0_greatest 4 (some FieldType.int) [(0, 9, 12, 13), (0, 9, 15, 55)] Γ 8 133 1 6 [.ref b, .int w, .ref ou] [[(b, .inr (0, [.ref h.e0, .ref tt, .ref sv, .int zs, .ref da, .ref tx, .ref wr, .int fl, .int rf]))], [(ou, .inl (Γ.2.1 3, 1, .inr (.inl ov)))]] [] sz (Qi Γ (fun r_ u_ => r_ = 1 ∧ u_ = [[(b, .inr (0, [.ref h.e0, .ref tt, .ref sv, .int zs, .ref da, .ref tx, .ref wr, .int fl, .int rf]))], [(ou, .inl (Γ.2.1 3, 1, .inr (.inl ov)))]])) := by
  refine K_introH (by decide) (Nat.le_of_ble_eq_true rfl) ?_
  intro pr_ ev_ s mi_ below meth cd_ A ls hx hb hr hml hown hts hlocks hname hK hE hRo hP hD hA hS hsz hl htb9
  have hl : lv_has ls 4 [(0, .ref b), (1, .int w), (2, .ref ou)] := hl
  have hown : s.vm.findClass RX0 = some mi_.cls := hown
  refine lv_aload_n hx hb dX0_greatest_0 rfl (lv_at hl 2 rfl) ?_
  refine lv_iconst (v := 0) hx hb dX0_greatest_1 (by decide) ?_
  refine lv_aload_n hx hb dX0_greatest_2 rfl (lv_at hl 0 rfl) ?_
  refine lv_iload_n hx hb dX0_greatest_3 rfl (lv_at hl 1 rfl) ?_
  refine b_callx (br := [[(ou, .inl (Γ.2.1 3, 1, .inr (.inl ov)))]]) (b_runVx ⟨hx, hb, hml, hown, hts⟩ (mt_DB_greatest_x1 l Γ _ b h tt sv zs da tx wr fl rf w hnt hx9) (lw_V q1376 q1377 q1378 q62 q1379) rfl rfl 1 (by decide +kernel) ⟨(Nat.le_of_ble_eq_true rfl), (Nat.le_of_ble_eq_true rfl)⟩ (c_pre hP hD hS hA hK hE [0] rfl rfl ro_nil) (recv_at (q := (RX1, TX1, 9)) hK (b_at (k := 0) hP rfl) rfl) rfl hl.1 rfl (Nat.le_of_ble_eq_true rfl) dX0_greatest_4 ⟨(Nat.le_of_ble_eq_true rfl), (Nat.le_of_ble_eq_true rfl)⟩) hP hD hS hA [0] [1] rfl rfl rfl (fun q_1 ce_1 u_1 H locs hw_1 hP hD hS _ hce_1 hcv_1 hcl_1 => ?_)
  obtain rfl := hw_1
  have hP : WP Γ [[(b, .inr (0, [.ref h.e0, .ref tt, .ref sv, .int zs, .ref da, .ref tx, .ref wr, .int fl, .int rf]))], [(ou, .inl (Γ.2.1 3, 1, .inr (.inl ov)))]] H := hP
  have hD : WD A [[(b, .inr (0, [.ref h.e0, .ref tt, .ref sv, .int zs, .ref da, .ref tx, .ref wr, .int fl, .int rf]))], [(ou, .inl (Γ.2.1 3, 1, .inr (.inl ov)))]] := hD
  refine vx_catch (name := "java/lang/IllegalArgumentException") hown [] ⟨0, 9, 12, 13⟩ [⟨0, 9, 15, 55⟩] (htb9.trans rfl) (fun z hz => nomatch hz) (by decide) (by decide) (hts _ q800) (va_Nw.use rfl (hE.1.1 _ q568 rfl)) hce_1 hcv_1 hcl_1 ?_
  refine W.eq (g2 := F0 mi_ 12 ls ([.ref q_1])) rfl ?_
  refine lv_astore_n (lv' := [(3, .ref q_1), (0, .ref b), (1, .int w), (2, .ref ou)]) hx hb dX0_greatest_12 rfl hl (by decide) rfl (fun ls hl => ?_)
  refine lv_iconst (v := 1) hx hb dX0_greatest_13 (by decide) ?_
  exact b_iret hx hb hr hlocks hP hD hS (Nat.le_of_ble_eq_true rfl) (Nat.le_of_ble_eq_true rfl) ⟨(by first | rfl | (simp; done)), (by first | rfl | (simp; done))⟩ dX0_greatest_14
set_option maxHeartbeats 4000000 in
set_option maxRecDepth 100000 in
theorem mt_Law_greatest_x2 (l : Launch) (Γ : GE) (sz : Nat) (b : Nat) (h : HB) (tt : Nat) (sv : Nat) (zs : Int32) (da : Nat) (tx : Nat) (wr : Nat) (fl : Int32) (rf : Int32) (P : va_W) (w : Int32) (ou : Nat) (ov : Nat → Int64) (hnt : l.stackTraces = false) (ho : hdOk Γ P h) (hw9 : ¬ inC w 0 6 = 0) (hn0 : h.S.np = 0) : KMH l yX0_greatest cX0_greatest 4 (some FieldType.int) [(0, 9, 12, 13), (0, 9, 15, 55)] Γ 8 133 1 6 [.ref b, .int w, .ref ou] [[(b, .inr (0, [.ref h.e0, .ref tt, .ref sv, .int zs, .ref da, .ref tx, .ref wr, .int fl, .int rf]))], (hdB Γ h), [(ou, .inl (Γ.2.1 3, 1, .inr (.inl ov)))]] [P] sz (Qi Γ (fun r_ u_ => r_ = 2 ∧ u_ = [[(b, .inr (0, [.ref h.e0, .ref tt, .ref sv, .int zs, .ref da, .ref tx, .ref wr, .int fl, .int rf]))], (hdB Γ h), [(ou, .inl (Γ.2.1 3, 1, .inr (.inl ov)))]])) := by
  refine K_introH (by decide) (Nat.le_of_ble_eq_true rfl) ?_
  intro pr_ ev_ s mi_ below meth cd_ A ls hx hb hr hml hown hts hlocks hname hK hE hRo hP hD hA hS hsz hl htb9
  have hl : lv_has ls 4 [(0, .ref b), (1, .int w), (2, .ref ou)] := hl
  have hown : s.vm.findClass RX0 = some mi_.cls := hown
  refine lv_aload_n hx hb dX0_greatest_0 rfl (lv_at hl 2 rfl) ?_
  refine lv_iconst (v := 0) hx hb dX0_greatest_1 (by decide) ?_
  refine lv_aload_n hx hb dX0_greatest_2 rfl (lv_at hl 0 rfl) ?_
  refine lv_iload_n hx hb dX0_greatest_3 rfl (lv_at hl 1 rfl) ?_
  refine b_callx (br := [[(ou, .inl (Γ.2.1 3, 1, .inr (.inl ov)))]]) (b_runVx ⟨hx, hb, hml, hown, hts⟩ (mt_DB_greatest_x2 l Γ _ b h tt sv zs da tx wr fl rf P w hnt ho hw9 hn0) (lw_V q1376 q1377 q1378 q62 q1379) rfl rfl 1 (by decide +kernel) ⟨(Nat.le_of_ble_eq_true rfl), (Nat.le_of_ble_eq_true rfl)⟩ (c_pre hP hD hS hA hK hE [0, 1] rfl rfl (ro_pass (ro_sel (ro2 := [P]) hRo [0] rfl) hD hS hA [0, 1] rfl)) (recv_at (q := (RX1, TX1, 9)) hK (b_at (k := 0) hP rfl) rfl) rfl hl.1 rfl (Nat.le_of_ble_eq_true rfl) dX0_greatest_4 ⟨(Nat.le_of_ble_eq_true rfl), (Nat.le_of_ble_eq_true rfl)⟩) hP hD hS hA [0, 1] [2] rfl rfl rfl (fun q_1 ce_1 u_1 H locs hw_1 hP hD hS _ hce_1 hcv_1 hcl_1 => ?_)
  obtain rfl := hw_1
  have hP : WP Γ [[(b, .inr (0, [.ref h.e0, .ref tt, .ref sv, .int zs, .ref da, .ref tx, .ref wr, .int fl, .int rf]))], (hdB Γ h), [(ou, .inl (Γ.2.1 3, 1, .inr (.inl ov)))]] H := hP
  have hD : WD A [[(b, .inr (0, [.ref h.e0, .ref tt, .ref sv, .int zs, .ref da, .ref tx, .ref wr, .int fl, .int rf]))], (hdB Γ h), [(ou, .inl (Γ.2.1 3, 1, .inr (.inl ov)))]] := hD
  refine vx_catch (name := "java/util/NoSuchElementException") hown [⟨0, 9, 12, 13⟩] ⟨0, 9, 15, 55⟩ [] (htb9.trans rfl) (fun z hz => by rw [List.mem_singleton.mp hz]; exact Or.inr ⟨by decide, "java/lang/IllegalArgumentException", hts _ q800, hE.1.2.2.2 _ (List.mem_of_getElem? (i := 4) rfl)⟩) (by decide) (by decide) (hts _ q1167) (va_Nw.use rfl (hE.1.1 _ q344 rfl)) hce_1 hcv_1 hcl_1 ?_
  refine W.eq (g2 := F0 mi_ 15 ls ([.ref q_1])) rfl ?_
  refine lv_astore_n (lv' := [(3, .ref q_1), (0, .ref b), (1, .int w), (2, .ref ou)]) hx hb dX0_greatest_15 rfl hl (by decide) rfl (fun ls hl => ?_)
  refine lv_iconst (v := 2) hx hb dX0_greatest_16 (by decide) ?_
  exact b_iret hx hb hr hlocks hP hD hS (Nat.le_of_ble_eq_true rfl) (Nat.le_of_ble_eq_true rfl) ⟨(by first | rfl | (simp; done)), (by first | rfl | (simp; done))⟩ dX0_greatest_17
set_option maxHeartbeats 4000000 in
set_option maxRecDepth 100000 in
theorem mt_Law_writes_pickup (l : Launch) (Γ : GE) (sz : Nat) (b : Nat) (h : HB) (tt : Nat) (sv : Nat) (zs : Int32) (da : Nat) (tx : Nat) (wr : Nat) (fl : Int32) (rf : Int32) (P : va_W) (k : Nat) (ou : Nat) (ov : Nat → Int64) (hnt : l.stackTraces = false) (ho : hdOk Γ P h) (hk9 : k < h.S.np) (hz : ¬ h.S.pv k 1 = 0) (hi9 : ¬ inC (nI k) 0 (nI h.S.np - 1) = 0) : KMH l yX0_writePickup cX0_writePickup 4 (some FieldType.int) [(0, 9, 12, 21)] Γ 12 276 17 7203 [.ref b, .int (nI k), .ref ou] [[(b, .inr (0, [.ref h.e0, .ref tt, .ref sv, .int zs, .ref da, .ref tx, .ref wr, .int fl, .int rf]))], (hdB Γ h), [(ou, .inl (Γ.2.1 3, 1, .inr (.inl ov)))]] [P] sz (Qi Γ (fun r_ u_ => ∃ o : Nat, ∃ y : SST, stF y (psT (h.S.pv k)) ∧ r_ = 0 ∧ u_ = [[(b, .inr (0, [.ref h.e0, .ref tt, .ref sv, .int zs, .ref da, .ref tx, .ref o, .int fl, .int rf]))], (hdB Γ h), [(o, .inr (14, [.ref y.1, .int 0, .int 0, .int 0]))], [(y.1, .inl (Γ.2.1 1, (psT (h.S.pv k)).length, .inl y.2))], [(ou, .inl (Γ.2.1 3, 1, .inr (.inl (vp_updL ov 0 (nI (psT (h.S.pv k)).length).toInt64))))]])) := by
  refine K_introH (by decide) (Nat.le_of_ble_eq_true rfl) ?_
  intro pr_ ev_ s mi_ below meth cd_ A ls hx hb hr hml hown hts hlocks hname hK hE hRo hP hD hA hS hsz hl htb9
  have hl : lv_has ls 4 [(0, .ref b), (1, .int (nI k)), (2, .ref ou)] := hl
  have hown : s.vm.findClass RX0 = some mi_.cls := hown
  refine lv_aload_n hx hb dX0_writePickup_0 rfl (lv_at hl 2 rfl) ?_
  refine lv_iconst (v := 0) hx hb dX0_writePickup_1 (by decide) ?_
  refine lv_aload_n hx hb dX0_writePickup_2 rfl (lv_at hl 0 rfl) ?_
  refine lv_iload_n hx hb dX0_writePickup_3 rfl (lv_at hl 1 rfl) ?_
  refine b_calli (br := [[(ou, .inl (Γ.2.1 3, 1, .inr (.inl ov)))]]) (b_runV ⟨hx, hb, hml, hown, hts⟩ (mt_DB_writes_pickup l Γ _ b h tt sv zs da tx wr fl rf P k ho hk9 hz hi9) (lw_V q1387 q1388 q1389 q62 q1390) rfl rfl 1 (by decide +kernel) ⟨(Nat.le_of_ble_eq_true rfl), (Nat.le_of_ble_eq_true rfl)⟩ (c_pre hP hD hS hA hK hE [0, 1] rfl rfl (ro_pass (ro_sel (ro2 := [P]) hRo [0] rfl) hD hS hA [0, 1] rfl)) (recv_at (q := (RX1, TX1, 9)) hK (b_at (k := 0) hP rfl) rfl) rfl hl.1 rfl (Nat.le_of_ble_eq_true rfl) dX0_writePickup_4 ⟨(Nat.le_of_ble_eq_true rfl), (Nat.le_of_ble_eq_true rfl)⟩) hP hD hS hA [0, 1] [2] rfl rfl rfl (fun r_1 u_1 H locs hw_1 hP hD hS _ => ?_)
  obtain ⟨o_1, y_1, hs_1, rfl, rfl⟩ := hw_1
  have hP : WP Γ [[(b, .inr (0, [.ref h.e0, .ref tt, .ref sv, .int zs, .ref da, .ref tx, .ref o_1, .int fl, .int rf]))], (hdB Γ h), [(o_1, .inr (14, [.ref y_1.1, .int 0, .int 0, .int 0]))], [(y_1.1, .inl (Γ.2.1 1, (psT (h.S.pv k)).length, .inl y_1.2))], [(ou, .inl (Γ.2.1 3, 1, .inr (.inl ov)))]] H := hP
  have hD : WD A [[(b, .inr (0, [.ref h.e0, .ref tt, .ref sv, .int zs, .ref da, .ref tx, .ref o_1, .int fl, .int rf]))], (hdB Γ h), [(o_1, .inr (14, [.ref y_1.1, .int 0, .int 0, .int 0]))], [(y_1.1, .inl (Γ.2.1 1, (psT (h.S.pv k)).length, .inl y_1.2))], [(ou, .inl (Γ.2.1 3, 1, .inr (.inl ov)))]] := hD
  refine lv_i2l hx hb dX0_writePickup_7 rfl ?_
  refine b_last hx hb hK hP hD hS 4 rfl 0 rfl (by omega) (by omega) dX0_writePickup_8 (fun H locs hP hD hS => ?_)
  have hP : WP Γ [[(b, .inr (0, [.ref h.e0, .ref tt, .ref sv, .int zs, .ref da, .ref tx, .ref o_1, .int fl, .int rf]))], (hdB Γ h), [(o_1, .inr (14, [.ref y_1.1, .int 0, .int 0, .int 0]))], [(y_1.1, .inl (Γ.2.1 1, (psT (h.S.pv k)).length, .inl y_1.2))], [(ou, .inl (Γ.2.1 3, 1, .inr (.inl (vp_updL ov 0 (nI (psT (h.S.pv k)).length).toInt64))))]] H := hP
  have hD : WD A [[(b, .inr (0, [.ref h.e0, .ref tt, .ref sv, .int zs, .ref da, .ref tx, .ref o_1, .int fl, .int rf]))], (hdB Γ h), [(o_1, .inr (14, [.ref y_1.1, .int 0, .int 0, .int 0]))], [(y_1.1, .inl (Γ.2.1 1, (psT (h.S.pv k)).length, .inl y_1.2))], [(ou, .inl (Γ.2.1 3, 1, .inr (.inl (vp_updL ov 0 (nI (psT (h.S.pv k)).length).toInt64))))]] := hD
  refine lv_goto (tgt := 15) hx hb dX0_writePickup_9 (by decide) ?_
  refine lv_iconst (v := 0) hx hb dX0_writePickup_15 (by decide) ?_
  exact b_iret hx hb hr hlocks hP hD hS (Nat.le_of_ble_eq_true rfl) (Nat.le_of_ble_eq_true rfl) ⟨o_1, y_1, hs_1, (by first | rfl | (simp; done)), (by first | rfl | (simp; done))⟩ dX0_writePickup_16
set_option maxHeartbeats 4000000 in
set_option maxRecDepth 100000 in
theorem mt_Law_writePickup_x (l : Launch) (Γ : GE) (sz : Nat) (b : Nat) (h : HB) (tt : Nat) (sv : Nat) (zs : Int32) (da : Nat) (tx : Nat) (wr : Nat) (fl : Int32) (rf : Int32) (P : va_W) (c : Int32) (ou : Nat) (ov : Nat → Int64) (hnt : l.stackTraces = false) (ho : hdOk Γ P h) (hx9 : inC c 0 (nI h.S.np - 1) = 0) : KMH l yX0_writePickup cX0_writePickup 4 (some FieldType.int) [(0, 9, 12, 21)] Γ 9 152 1 6 [.ref b, .int c, .ref ou] [[(b, .inr (0, [.ref h.e0, .ref tt, .ref sv, .int zs, .ref da, .ref tx, .ref wr, .int fl, .int rf]))], (hdB Γ h), [(ou, .inl (Γ.2.1 3, 1, .inr (.inl ov)))]] [P] sz (Qi Γ (fun r_ u_ => r_ = 1 ∧ u_ = [[(b, .inr (0, [.ref h.e0, .ref tt, .ref sv, .int zs, .ref da, .ref tx, .ref wr, .int fl, .int rf]))], (hdB Γ h), [(ou, .inl (Γ.2.1 3, 1, .inr (.inl ov)))]])) := by
  refine K_introH (by decide) (Nat.le_of_ble_eq_true rfl) ?_
  intro pr_ ev_ s mi_ below meth cd_ A ls hx hb hr hml hown hts hlocks hname hK hE hRo hP hD hA hS hsz hl htb9
  have hl : lv_has ls 4 [(0, .ref b), (1, .int c), (2, .ref ou)] := hl
  have hown : s.vm.findClass RX0 = some mi_.cls := hown
  refine lv_aload_n hx hb dX0_writePickup_0 rfl (lv_at hl 2 rfl) ?_
  refine lv_iconst (v := 0) hx hb dX0_writePickup_1 (by decide) ?_
  refine lv_aload_n hx hb dX0_writePickup_2 rfl (lv_at hl 0 rfl) ?_
  refine lv_iload_n hx hb dX0_writePickup_3 rfl (lv_at hl 1 rfl) ?_
  refine b_callx (br := [[(ou, .inl (Γ.2.1 3, 1, .inr (.inl ov)))]]) (b_runVx ⟨hx, hb, hml, hown, hts⟩ (mt_DB_writePickup_x l Γ _ b h tt sv zs da tx wr fl rf P c hnt ho hx9) (lw_V q1387 q1388 q1389 q62 q1390) rfl rfl 1 (by decide +kernel) ⟨(Nat.le_of_ble_eq_true rfl), (Nat.le_of_ble_eq_true rfl)⟩ (c_pre hP hD hS hA hK hE [0, 1] rfl rfl (ro_pass (ro_sel (ro2 := [P]) hRo [0] rfl) hD hS hA [0, 1] rfl)) (recv_at (q := (RX1, TX1, 9)) hK (b_at (k := 0) hP rfl) rfl) rfl hl.1 rfl (Nat.le_of_ble_eq_true rfl) dX0_writePickup_4 ⟨(Nat.le_of_ble_eq_true rfl), (Nat.le_of_ble_eq_true rfl)⟩) hP hD hS hA [0, 1] [2] rfl rfl rfl (fun q_1 ce_1 u_1 H locs hw_1 hP hD hS _ hce_1 hcv_1 hcl_1 => ?_)
  obtain rfl := hw_1
  have hP : WP Γ [[(b, .inr (0, [.ref h.e0, .ref tt, .ref sv, .int zs, .ref da, .ref tx, .ref wr, .int fl, .int rf]))], (hdB Γ h), [(ou, .inl (Γ.2.1 3, 1, .inr (.inl ov)))]] H := hP
  have hD : WD A [[(b, .inr (0, [.ref h.e0, .ref tt, .ref sv, .int zs, .ref da, .ref tx, .ref wr, .int fl, .int rf]))], (hdB Γ h), [(ou, .inl (Γ.2.1 3, 1, .inr (.inl ov)))]] := hD
  refine vx_catch (name := "java/lang/IndexOutOfBoundsException") hown [] ⟨0, 9, 12, 21⟩ [] (htb9.trans rfl) (fun z hz => nomatch hz) (by decide) (by decide) (hts _ q891) (va_Nw.use rfl (hE.1.1 _ q919 rfl)) hce_1 hcv_1 hcl_1 ?_
  refine W.eq (g2 := F0 mi_ 12 ls ([.ref q_1])) rfl ?_
  refine lv_astore_n (lv' := [(3, .ref q_1), (0, .ref b), (1, .int c), (2, .ref ou)]) hx hb dX0_writePickup_12 rfl hl (by decide) rfl (fun ls hl => ?_)
  refine lv_iconst (v := 1) hx hb dX0_writePickup_13 (by decide) ?_
  exact b_iret hx hb hr hlocks hP hD hS (Nat.le_of_ble_eq_true rfl) (Nat.le_of_ble_eq_true rfl) ⟨(by first | rfl | (simp; done)), (by first | rfl | (simp; done))⟩ dX0_writePickup_14
set_option maxHeartbeats 4000000 in
set_option maxRecDepth 100000 in
theorem mt_Law_writes_cow (l : Launch) (Γ : GE) (sz : Nat) (b : Nat) (h : HB) (tt : Nat) (sv : Nat) (zs : Int32) (da : Nat) (tx : Nat) (wr : Nat) (fl : Int32) (rf : Int32) (P : va_W) (k : Nat) (ou : Nat) (ov : Nat → Int64) (hnt : l.stackTraces = false) (ho : hdOk Γ P h) (hk9 : k < h.n) (hi9 : ¬ inC (nI k) 0 (nI h.n - 1) = 0) : KMH l yX0_writeCow cX0_writeCow 4 (some FieldType.int) [(0, 9, 12, 21)] Γ 12 276 17 7203 [.ref b, .int (nI k), .ref ou] [[(b, .inr (0, [.ref h.e0, .ref tt, .ref sv, .int zs, .ref da, .ref tx, .ref wr, .int fl, .int rf]))], (hdB Γ h), [(ou, .inl (Γ.2.1 3, 1, .inr (.inl ov)))]] [P] sz (Qi Γ (fun r_ u_ => ∃ o : Nat, ∃ y : SST, stF y (csT (h.S.cv k) h.S.td) ∧ r_ = 0 ∧ u_ = [[(b, .inr (0, [.ref h.e0, .ref tt, .ref sv, .int zs, .ref da, .ref tx, .ref o, .int fl, .int rf]))], (hdB Γ h), [(o, .inr (14, [.ref y.1, .int 0, .int 0, .int 0]))], [(y.1, .inl (Γ.2.1 1, (csT (h.S.cv k) h.S.td).length, .inl y.2))], [(ou, .inl (Γ.2.1 3, 1, .inr (.inl (vp_updL ov 0 (nI (csT (h.S.cv k) h.S.td).length).toInt64))))]])) := by
  refine K_introH (by decide) (Nat.le_of_ble_eq_true rfl) ?_
  intro pr_ ev_ s mi_ below meth cd_ A ls hx hb hr hml hown hts hlocks hname hK hE hRo hP hD hA hS hsz hl htb9
  have hl : lv_has ls 4 [(0, .ref b), (1, .int (nI k)), (2, .ref ou)] := hl
  have hown : s.vm.findClass RX0 = some mi_.cls := hown
  refine lv_aload_n hx hb dX0_writeCow_0 rfl (lv_at hl 2 rfl) ?_
  refine lv_iconst (v := 0) hx hb dX0_writeCow_1 (by decide) ?_
  refine lv_aload_n hx hb dX0_writeCow_2 rfl (lv_at hl 0 rfl) ?_
  refine lv_iload_n hx hb dX0_writeCow_3 rfl (lv_at hl 1 rfl) ?_
  refine b_calli (br := [[(ou, .inl (Γ.2.1 3, 1, .inr (.inl ov)))]]) (b_runV ⟨hx, hb, hml, hown, hts⟩ (mt_DB_writes_cow l Γ _ b h tt sv zs da tx wr fl rf P k ho hk9 hi9) (lw_V q1469 q1470 q1471 q62 q1472) rfl rfl 1 (by decide +kernel) ⟨(Nat.le_of_ble_eq_true rfl), (Nat.le_of_ble_eq_true rfl)⟩ (c_pre hP hD hS hA hK hE [0, 1] rfl rfl (ro_pass (ro_sel (ro2 := [P]) hRo [0] rfl) hD hS hA [0, 1] rfl)) (recv_at (q := (RX1, TX1, 9)) hK (b_at (k := 0) hP rfl) rfl) rfl hl.1 rfl (Nat.le_of_ble_eq_true rfl) dX0_writeCow_4 ⟨(Nat.le_of_ble_eq_true rfl), (Nat.le_of_ble_eq_true rfl)⟩) hP hD hS hA [0, 1] [2] rfl rfl rfl (fun r_1 u_1 H locs hw_1 hP hD hS _ => ?_)
  obtain ⟨o_1, y_1, hs_1, rfl, rfl⟩ := hw_1
  have hP : WP Γ [[(b, .inr (0, [.ref h.e0, .ref tt, .ref sv, .int zs, .ref da, .ref tx, .ref o_1, .int fl, .int rf]))], (hdB Γ h), [(o_1, .inr (14, [.ref y_1.1, .int 0, .int 0, .int 0]))], [(y_1.1, .inl (Γ.2.1 1, (csT (h.S.cv k) h.S.td).length, .inl y_1.2))], [(ou, .inl (Γ.2.1 3, 1, .inr (.inl ov)))]] H := hP
  have hD : WD A [[(b, .inr (0, [.ref h.e0, .ref tt, .ref sv, .int zs, .ref da, .ref tx, .ref o_1, .int fl, .int rf]))], (hdB Γ h), [(o_1, .inr (14, [.ref y_1.1, .int 0, .int 0, .int 0]))], [(y_1.1, .inl (Γ.2.1 1, (csT (h.S.cv k) h.S.td).length, .inl y_1.2))], [(ou, .inl (Γ.2.1 3, 1, .inr (.inl ov)))]] := hD
  refine lv_i2l hx hb dX0_writeCow_7 rfl ?_
  refine b_last hx hb hK hP hD hS 4 rfl 0 rfl (by omega) (by omega) dX0_writeCow_8 (fun H locs hP hD hS => ?_)
  have hP : WP Γ [[(b, .inr (0, [.ref h.e0, .ref tt, .ref sv, .int zs, .ref da, .ref tx, .ref o_1, .int fl, .int rf]))], (hdB Γ h), [(o_1, .inr (14, [.ref y_1.1, .int 0, .int 0, .int 0]))], [(y_1.1, .inl (Γ.2.1 1, (csT (h.S.cv k) h.S.td).length, .inl y_1.2))], [(ou, .inl (Γ.2.1 3, 1, .inr (.inl (vp_updL ov 0 (nI (csT (h.S.cv k) h.S.td).length).toInt64))))]] H := hP
  have hD : WD A [[(b, .inr (0, [.ref h.e0, .ref tt, .ref sv, .int zs, .ref da, .ref tx, .ref o_1, .int fl, .int rf]))], (hdB Γ h), [(o_1, .inr (14, [.ref y_1.1, .int 0, .int 0, .int 0]))], [(y_1.1, .inl (Γ.2.1 1, (csT (h.S.cv k) h.S.td).length, .inl y_1.2))], [(ou, .inl (Γ.2.1 3, 1, .inr (.inl (vp_updL ov 0 (nI (csT (h.S.cv k) h.S.td).length).toInt64))))]] := hD
  refine lv_goto (tgt := 15) hx hb dX0_writeCow_9 (by decide) ?_
  refine lv_iconst (v := 0) hx hb dX0_writeCow_15 (by decide) ?_
  exact b_iret hx hb hr hlocks hP hD hS (Nat.le_of_ble_eq_true rfl) (Nat.le_of_ble_eq_true rfl) ⟨o_1, y_1, hs_1, (by first | rfl | (simp; done)), (by first | rfl | (simp; done))⟩ dX0_writeCow_16
set_option maxHeartbeats 4000000 in
set_option maxRecDepth 100000 in
theorem mt_Law_writeCow_x (l : Launch) (Γ : GE) (sz : Nat) (b : Nat) (h : HB) (tt : Nat) (sv : Nat) (zs : Int32) (da : Nat) (tx : Nat) (wr : Nat) (fl : Int32) (rf : Int32) (P : va_W) (c : Int32) (ou : Nat) (ov : Nat → Int64) (hnt : l.stackTraces = false) (ho : hdOk Γ P h) (hx9 : inC c 0 (nI h.n - 1) = 0) : KMH l yX0_writeCow cX0_writeCow 4 (some FieldType.int) [(0, 9, 12, 21)] Γ 9 152 1 6 [.ref b, .int c, .ref ou] [[(b, .inr (0, [.ref h.e0, .ref tt, .ref sv, .int zs, .ref da, .ref tx, .ref wr, .int fl, .int rf]))], (hdB Γ h), [(ou, .inl (Γ.2.1 3, 1, .inr (.inl ov)))]] [P] sz (Qi Γ (fun r_ u_ => r_ = 1 ∧ u_ = [[(b, .inr (0, [.ref h.e0, .ref tt, .ref sv, .int zs, .ref da, .ref tx, .ref wr, .int fl, .int rf]))], (hdB Γ h), [(ou, .inl (Γ.2.1 3, 1, .inr (.inl ov)))]])) := by
  refine K_introH (by decide) (Nat.le_of_ble_eq_true rfl) ?_
  intro pr_ ev_ s mi_ below meth cd_ A ls hx hb hr hml hown hts hlocks hname hK hE hRo hP hD hA hS hsz hl htb9
  have hl : lv_has ls 4 [(0, .ref b), (1, .int c), (2, .ref ou)] := hl
  have hown : s.vm.findClass RX0 = some mi_.cls := hown
  refine lv_aload_n hx hb dX0_writeCow_0 rfl (lv_at hl 2 rfl) ?_
  refine lv_iconst (v := 0) hx hb dX0_writeCow_1 (by decide) ?_
  refine lv_aload_n hx hb dX0_writeCow_2 rfl (lv_at hl 0 rfl) ?_
  refine lv_iload_n hx hb dX0_writeCow_3 rfl (lv_at hl 1 rfl) ?_
  refine b_callx (br := [[(ou, .inl (Γ.2.1 3, 1, .inr (.inl ov)))]]) (b_runVx ⟨hx, hb, hml, hown, hts⟩ (mt_DB_writeCow_x l Γ _ b h tt sv zs da tx wr fl rf P c hnt ho hx9) (lw_V q1469 q1470 q1471 q62 q1472) rfl rfl 1 (by decide +kernel) ⟨(Nat.le_of_ble_eq_true rfl), (Nat.le_of_ble_eq_true rfl)⟩ (c_pre hP hD hS hA hK hE [0, 1] rfl rfl (ro_pass (ro_sel (ro2 := [P]) hRo [0] rfl) hD hS hA [0, 1] rfl)) (recv_at (q := (RX1, TX1, 9)) hK (b_at (k := 0) hP rfl) rfl) rfl hl.1 rfl (Nat.le_of_ble_eq_true rfl) dX0_writeCow_4 ⟨(Nat.le_of_ble_eq_true rfl), (Nat.le_of_ble_eq_true rfl)⟩) hP hD hS hA [0, 1] [2] rfl rfl rfl (fun q_1 ce_1 u_1 H locs hw_1 hP hD hS _ hce_1 hcv_1 hcl_1 => ?_)
  obtain rfl := hw_1
  have hP : WP Γ [[(b, .inr (0, [.ref h.e0, .ref tt, .ref sv, .int zs, .ref da, .ref tx, .ref wr, .int fl, .int rf]))], (hdB Γ h), [(ou, .inl (Γ.2.1 3, 1, .inr (.inl ov)))]] H := hP
  have hD : WD A [[(b, .inr (0, [.ref h.e0, .ref tt, .ref sv, .int zs, .ref da, .ref tx, .ref wr, .int fl, .int rf]))], (hdB Γ h), [(ou, .inl (Γ.2.1 3, 1, .inr (.inl ov)))]] := hD
  refine vx_catch (name := "java/lang/IndexOutOfBoundsException") hown [] ⟨0, 9, 12, 21⟩ [] (htb9.trans rfl) (fun z hz => nomatch hz) (by decide) (by decide) (hts _ q891) (va_Nw.use rfl (hE.1.1 _ q919 rfl)) hce_1 hcv_1 hcl_1 ?_
  refine W.eq (g2 := F0 mi_ 12 ls ([.ref q_1])) rfl ?_
  refine lv_astore_n (lv' := [(3, .ref q_1), (0, .ref b), (1, .int c), (2, .ref ou)]) hx hb dX0_writeCow_12 rfl hl (by decide) rfl (fun ls hl => ?_)
  refine lv_iconst (v := 1) hx hb dX0_writeCow_13 (by decide) ?_
  exact b_iret hx hb hr hlocks hP hD hS (Nat.le_of_ble_eq_true rfl) (Nat.le_of_ble_eq_true rfl) ⟨(by first | rfl | (simp; done)), (by first | rfl | (simp; done))⟩ dX0_writeCow_14
set_option maxHeartbeats 4000000 in
set_option maxRecDepth 100000 in
theorem mt_Law_written_ok (l : Launch) (Γ : GE) (sz : Nat) (b : Nat) (h : HB) (tt : Nat) (sv : Nat) (zs : Int32) (da : Nat) (tx : Nat) (wr : Nat) (fl : Int32) (rf : Int32) (y : SST) (L : List Int32) (hh : Int32) (zz : Int32) (k : Nat) (ou : Nat) (ov : Nat → Int64) (hnt : l.stackTraces = false) (hst : stF y L) (hk9 : k < L.length) (hi9 : ¬ inC (nI k) 0 (nI L.length - 1) = 0) : KMH l yX0_written cX0_written 4 (some FieldType.int) [(0, 9, 12, 55)] Γ 5 106 0 0 [.ref b, .int (nI k), .ref ou] [[(b, .inr (0, [.ref h.e0, .ref tt, .ref sv, .int zs, .ref da, .ref tx, .ref wr, .int fl, .int rf]))], [(wr, .inr (14, [.ref y.1, .int 0, .int hh, .int zz]))], [(y.1, .inl (Γ.2.1 1, L.length, .inl y.2))], [(ou, .inl (Γ.2.1 3, 1, .inr (.inl ov)))]] [] sz (Qi Γ (fun r_ u_ => r_ = 0 ∧ u_ = [[(b, .inr (0, [.ref h.e0, .ref tt, .ref sv, .int zs, .ref da, .ref tx, .ref wr, .int fl, .int rf]))], [(wr, .inr (14, [.ref y.1, .int 0, .int hh, .int zz]))], [(y.1, .inl (Γ.2.1 1, L.length, .inl y.2))], [(ou, .inl (Γ.2.1 3, 1, .inr (.inl (vp_updL ov 0 (L.getD k 0).toInt64))))]])) := by
  refine K_introH (by decide) (Nat.le_of_ble_eq_true rfl) ?_
  intro pr_ ev_ s mi_ below meth cd_ A ls hx hb hr hml hown hts hlocks hname hK hE hRo hP hD hA hS hsz hl htb9
  have hl : lv_has ls 4 [(0, .ref b), (1, .int (nI k)), (2, .ref ou)] := hl
  have hown : s.vm.findClass RX0 = some mi_.cls := hown
  refine lv_aload_n hx hb dX0_written_0 rfl (lv_at hl 2 rfl) ?_
  refine lv_iconst (v := 0) hx hb dX0_written_1 (by decide) ?_
  refine lv_aload_n hx hb dX0_written_2 rfl (lv_at hl 0 rfl) ?_
  refine lv_iload_n hx hb dX0_written_3 rfl (lv_at hl 1 rfl) ?_
  refine b_calli (br := [[(ou, .inl (Γ.2.1 3, 1, .inr (.inl ov)))]]) (b_runV ⟨hx, hb, hml, hown, hts⟩ (mt_DB_written_ok l Γ _ b h tt sv zs da tx wr fl rf y L hh zz k hst hk9 hi9) (lw_V q1476 q1477 q1478 q62 q1479) rfl rfl 1 (by decide +kernel) ⟨(Nat.le_of_ble_eq_true rfl), (Nat.le_of_ble_eq_true rfl)⟩ (c_pre hP hD hS hA hK hE [0, 1, 2] rfl rfl ro_nil) (recv_at (q := (RX1, TX1, 9)) hK (b_at (k := 0) hP rfl) rfl) rfl hl.1 rfl (Nat.le_of_ble_eq_true rfl) dX0_written_4 ⟨(Nat.le_of_ble_eq_true rfl), (Nat.le_of_ble_eq_true rfl)⟩) hP hD hS hA [0, 1, 2] [3] rfl rfl rfl (fun r_1 u_1 H locs hw_1 hP hD hS _ => ?_)
  obtain ⟨rfl, rfl⟩ := hw_1
  have hP : WP Γ [[(b, .inr (0, [.ref h.e0, .ref tt, .ref sv, .int zs, .ref da, .ref tx, .ref wr, .int fl, .int rf]))], [(wr, .inr (14, [.ref y.1, .int 0, .int hh, .int zz]))], [(y.1, .inl (Γ.2.1 1, L.length, .inl y.2))], [(ou, .inl (Γ.2.1 3, 1, .inr (.inl ov)))]] H := hP
  have hD : WD A [[(b, .inr (0, [.ref h.e0, .ref tt, .ref sv, .int zs, .ref da, .ref tx, .ref wr, .int fl, .int rf]))], [(wr, .inr (14, [.ref y.1, .int 0, .int hh, .int zz]))], [(y.1, .inl (Γ.2.1 1, L.length, .inl y.2))], [(ou, .inl (Γ.2.1 3, 1, .inr (.inl ov)))]] := hD
  refine lv_i2l hx hb dX0_written_7 rfl ?_
  refine b_last hx hb hK hP hD hS 3 rfl 0 rfl (by omega) (by omega) dX0_written_8 (fun H locs hP hD hS => ?_)
  have hP : WP Γ [[(b, .inr (0, [.ref h.e0, .ref tt, .ref sv, .int zs, .ref da, .ref tx, .ref wr, .int fl, .int rf]))], [(wr, .inr (14, [.ref y.1, .int 0, .int hh, .int zz]))], [(y.1, .inl (Γ.2.1 1, L.length, .inl y.2))], [(ou, .inl (Γ.2.1 3, 1, .inr (.inl (vp_updL ov 0 (L.getD k 0).toInt64))))]] H := hP
  have hD : WD A [[(b, .inr (0, [.ref h.e0, .ref tt, .ref sv, .int zs, .ref da, .ref tx, .ref wr, .int fl, .int rf]))], [(wr, .inr (14, [.ref y.1, .int 0, .int hh, .int zz]))], [(y.1, .inl (Γ.2.1 1, L.length, .inl y.2))], [(ou, .inl (Γ.2.1 3, 1, .inr (.inl (vp_updL ov 0 (L.getD k 0).toInt64))))]] := hD
  refine lv_goto (tgt := 15) hx hb dX0_written_9 (by decide) ?_
  refine lv_iconst (v := 0) hx hb dX0_written_15 (by decide) ?_
  exact b_iret hx hb hr hlocks hP hD hS (Nat.le_of_ble_eq_true rfl) (Nat.le_of_ble_eq_true rfl) ⟨(by first | rfl | (simp; done)), (by first | rfl | (simp; done))⟩ dX0_written_16
set_option maxHeartbeats 4000000 in
set_option maxRecDepth 100000 in
theorem mt_Law_written_x (l : Launch) (Γ : GE) (sz : Nat) (b : Nat) (h : HB) (tt : Nat) (sv : Nat) (zs : Int32) (da : Nat) (tx : Nat) (wr : Nat) (fl : Int32) (rf : Int32) (y : SST) (L : List Int32) (hh : Int32) (zz : Int32) (c : Int32) (ou : Nat) (ov : Nat → Int64) (hnt : l.stackTraces = false) (hst : stF y L) (hx9 : inC c 0 (nI L.length - 1) = 0) : KMH l yX0_written cX0_written 4 (some FieldType.int) [(0, 9, 12, 55)] Γ 8 131 1 6 [.ref b, .int c, .ref ou] [[(b, .inr (0, [.ref h.e0, .ref tt, .ref sv, .int zs, .ref da, .ref tx, .ref wr, .int fl, .int rf]))], [(ou, .inl (Γ.2.1 3, 1, .inr (.inl ov)))]] [[(wr, .inr (14, [.ref y.1, .int 0, .int hh, .int zz]))], [(y.1, .inl (Γ.2.1 1, L.length, .inl y.2))]] sz (Qi Γ (fun r_ u_ => r_ = 1 ∧ u_ = [[(b, .inr (0, [.ref h.e0, .ref tt, .ref sv, .int zs, .ref da, .ref tx, .ref wr, .int fl, .int rf]))], [(ou, .inl (Γ.2.1 3, 1, .inr (.inl ov)))]])) := by
  refine K_introH (by decide) (Nat.le_of_ble_eq_true rfl) ?_
  intro pr_ ev_ s mi_ below meth cd_ A ls hx hb hr hml hown hts hlocks hname hK hE hRo hP hD hA hS hsz hl htb9
  have hl : lv_has ls 4 [(0, .ref b), (1, .int c), (2, .ref ou)] := hl
  have hown : s.vm.findClass RX0 = some mi_.cls := hown
  refine lv_aload_n hx hb dX0_written_0 rfl (lv_at hl 2 rfl) ?_
  refine lv_iconst (v := 0) hx hb dX0_written_1 (by decide) ?_
  refine lv_aload_n hx hb dX0_written_2 rfl (lv_at hl 0 rfl) ?_
  refine lv_iload_n hx hb dX0_written_3 rfl (lv_at hl 1 rfl) ?_
  refine b_callx (br := [[(ou, .inl (Γ.2.1 3, 1, .inr (.inl ov)))]]) (b_runVx ⟨hx, hb, hml, hown, hts⟩ (mt_DB_written_x l Γ _ b h tt sv zs da tx wr fl rf y L hh zz c hnt hst hx9) (lw_V q1476 q1477 q1478 q62 q1479) rfl rfl 1 (by decide +kernel) ⟨(Nat.le_of_ble_eq_true rfl), (Nat.le_of_ble_eq_true rfl)⟩ (c_pre hP hD hS hA hK hE [0] rfl rfl (ro_app (ro_pass (ro_sel (ro2 := [[(wr, .inr (14, [.ref y.1, .int 0, .int hh, .int zz]))]]) hRo [0] rfl) hD hS hA [0] rfl) (ro_pass (ro_sel (ro2 := [[(y.1, .inl (Γ.2.1 1, L.length, .inl y.2))]]) hRo [1] rfl) hD hS hA [0] rfl))) (recv_at (q := (RX1, TX1, 9)) hK (b_at (k := 0) hP rfl) rfl) rfl hl.1 rfl (Nat.le_of_ble_eq_true rfl) dX0_written_4 ⟨(Nat.le_of_ble_eq_true rfl), (Nat.le_of_ble_eq_true rfl)⟩) hP hD hS hA [0] [1] rfl rfl rfl (fun q_1 ce_1 u_1 H locs hw_1 hP hD hS _ hce_1 hcv_1 hcl_1 => ?_)
  obtain rfl := hw_1
  have hP : WP Γ [[(b, .inr (0, [.ref h.e0, .ref tt, .ref sv, .int zs, .ref da, .ref tx, .ref wr, .int fl, .int rf]))], [(ou, .inl (Γ.2.1 3, 1, .inr (.inl ov)))]] H := hP
  have hD : WD A [[(b, .inr (0, [.ref h.e0, .ref tt, .ref sv, .int zs, .ref da, .ref tx, .ref wr, .int fl, .int rf]))], [(ou, .inl (Γ.2.1 3, 1, .inr (.inl ov)))]] := hD
  refine vx_catch (name := "java/util/NoSuchElementException") hown [] ⟨0, 9, 12, 55⟩ [] (htb9.trans rfl) (fun z hz => nomatch hz) (by decide) (by decide) (hts _ q1167) (va_Nw.use rfl (hE.1.1 _ q344 rfl)) hce_1 hcv_1 hcl_1 ?_
  refine W.eq (g2 := F0 mi_ 12 ls ([.ref q_1])) rfl ?_
  refine lv_astore_n (lv' := [(3, .ref q_1), (0, .ref b), (1, .int c), (2, .ref ou)]) hx hb dX0_written_12 rfl hl (by decide) rfl (fun ls hl => ?_)
  refine lv_iconst (v := 1) hx hb dX0_written_13 (by decide) ?_
  exact b_iret hx hb hr hlocks hP hD hS (Nat.le_of_ble_eq_true rfl) (Nat.le_of_ble_eq_true rfl) ⟨(by first | rfl | (simp; done)), (by first | rfl | (simp; done))⟩ dX0_written_14
set_option maxHeartbeats 4000000 in
set_option maxRecDepth 100000 in
theorem mt_Law_append_Lz (l : Launch) (Γ : GE) (sz : Nat) (b : Nat) (h : HB) (tt : Nat) (sv : Nat) (zs : Int32) (da : Nat) (tx : Nat) (wr : Nat) (fl : Int32) (rf : Int32) (x : SBT) (L : List Int32) (c : Int32) (hnt : l.stackTraces = false) (hsb : sbF 0 x L) (hL : L.length ≤ 49) (hc : ¬ 255 < c) (hl9 : isL c) : KMH l yX0_append cX0_append 3 (some FieldType.int) [(0, 5, 8, 15)] Γ 7 167 2 2048 [.ref b, .int c] [[(b, .inr (0, [.ref h.e0, .ref tt, .ref sv, .int zs, .ref da, .ref tx, .ref wr, .int fl, .int rf]))], [(tx, .inr (13, [.ref x.1, .int 0, .int x.2.2.2, .int (nI L.length)]))], [(x.1, .inl (Γ.2.1 1, x.2.1, .inl x.2.2.1))]] [] sz (Qi Γ (fun r_ u_ => ∃ y : SBT, sbF 0 y (L ++ [c]) ∧ y.2.2.2 = x.2.2.2 ∧ r_ = 0 ∧ u_ = [[(b, .inr (0, [.ref h.e0, .ref tt, .ref sv, .int zs, .ref da, .ref tx, .ref wr, .int fl, .int rf]))], [(tx, .inr (13, [.ref y.1, .int 0, .int y.2.2.2, .int (nI (L ++ [c]).length)]))], [(y.1, .inl (Γ.2.1 1, y.2.1, .inl y.2.2.1))]])) := by
  refine K_introH (by decide) (Nat.le_of_ble_eq_true rfl) ?_
  intro pr_ ev_ s mi_ below meth cd_ A ls hx hb hr hml hown hts hlocks hname hK hE hRo hP hD hA hS hsz hl htb9
  have hl : lv_has ls 3 [(0, .ref b), (1, .int c)] := hl
  have hown : s.vm.findClass RX0 = some mi_.cls := hown
  refine lv_aload_n hx hb dX0_append_0 rfl (lv_at hl 0 rfl) ?_
  refine lv_iload_n hx hb dX0_append_1 rfl (lv_at hl 1 rfl) ?_
  refine b_callv (br := []) (b_runV ⟨hx, hb, hml, hown, hts⟩ (mt_DB_append_Lz l Γ _ b h tt sv zs da tx wr fl rf x L c hsb hL hc hl9) (lw_V q1505 q1506 q1507 q62 q1508) rfl rfl 1 (by decide +kernel) ⟨(Nat.le_of_ble_eq_true rfl), (Nat.le_of_ble_eq_true rfl)⟩ (c_pre hP hD hS hA hK hE [0, 1, 2] rfl rfl ro_nil) (recv_at (q := (RX1, TX1, 9)) hK (b_at (k := 0) hP rfl) rfl) rfl hl.1 rfl (Nat.le_of_ble_eq_true rfl) dX0_append_2 ⟨(Nat.le_of_ble_eq_true rfl), (Nat.le_of_ble_eq_true rfl)⟩) hP hD hS hA [0, 1, 2] [] rfl rfl rfl (fun u_1 H locs hw_1 hP hD hS _ => ?_)
  obtain ⟨y_1, hy_1, hyz_1, rfl⟩ := hw_1
  have hP : WP Γ [[(b, .inr (0, [.ref h.e0, .ref tt, .ref sv, .int zs, .ref da, .ref tx, .ref wr, .int fl, .int rf]))], [(tx, .inr (13, [.ref y_1.1, .int 0, .int y_1.2.2.2, .int (nI (L ++ [c]).length)]))], [(y_1.1, .inl (Γ.2.1 1, y_1.2.1, .inl y_1.2.2.1))]] H := hP
  have hD : WD A [[(b, .inr (0, [.ref h.e0, .ref tt, .ref sv, .int zs, .ref da, .ref tx, .ref wr, .int fl, .int rf]))], [(tx, .inr (13, [.ref y_1.1, .int 0, .int y_1.2.2.2, .int (nI (L ++ [c]).length)]))], [(y_1.1, .inl (Γ.2.1 1, y_1.2.1, .inl y_1.2.2.1))]] := hD
  refine lv_goto (tgt := 11) hx hb dX0_append_5 (by decide) ?_
  refine lv_iconst (v := 0) hx hb dX0_append_11 (by decide) ?_
  exact b_iret hx hb hr hlocks hP hD hS (Nat.le_of_ble_eq_true rfl) (Nat.le_of_ble_eq_true rfl) ⟨y_1, hy_1, hyz_1, (by first | rfl | (simp; done)), (by first | rfl | (simp; done))⟩ dX0_append_12
set_option maxHeartbeats 4000000 in
set_option maxRecDepth 100000 in
theorem mt_Law_append_U0 (l : Launch) (Γ : GE) (sz : Nat) (b : Nat) (h : HB) (tt : Nat) (sv : Nat) (zs : Int32) (da : Nat) (tx : Nat) (wr : Nat) (fl : Int32) (rf : Int32) (x : SBT) (L : List Int32) (c : Int32) (hnt : l.stackTraces = false) (hsb : sbF 0 x L) (hL : L.length ≤ 49) (hc : 255 < c) (hch : isCh c) : KMH l yX0_append cX0_append 3 (some FieldType.int) [(0, 5, 8, 15)] Γ 9 200 2 2048 [.ref b, .int c] [[(b, .inr (0, [.ref h.e0, .ref tt, .ref sv, .int zs, .ref da, .ref tx, .ref wr, .int fl, .int rf]))], [(tx, .inr (13, [.ref x.1, .int 0, .int x.2.2.2, .int (nI L.length)]))], [(x.1, .inl (Γ.2.1 1, x.2.1, .inl x.2.2.1))]] [] sz (Qi Γ (fun r_ u_ => ∃ y : SBT, sbF 1 y (L ++ [c]) ∧ y.2.2.2 = x.2.2.2 ∧ r_ = 0 ∧ u_ = [[(b, .inr (0, [.ref h.e0, .ref tt, .ref sv, .int zs, .ref da, .ref tx, .ref wr, .int fl, .int rf]))], [(tx, .inr (13, [.ref y.1, .int 1, .int y.2.2.2, .int (nI (L ++ [c]).length)]))], [(y.1, .inl (Γ.2.1 1, 2 * y.2.1, .inl y.2.2.1))]])) := by
  refine K_introH (by decide) (Nat.le_of_ble_eq_true rfl) ?_
  intro pr_ ev_ s mi_ below meth cd_ A ls hx hb hr hml hown hts hlocks hname hK hE hRo hP hD hA hS hsz hl htb9
  have hl : lv_has ls 3 [(0, .ref b), (1, .int c)] := hl
  have hown : s.vm.findClass RX0 = some mi_.cls := hown
  refine lv_aload_n hx hb dX0_append_0 rfl (lv_at hl 0 rfl) ?_
  refine lv_iload_n hx hb dX0_append_1 rfl (lv_at hl 1 rfl) ?_
  refine b_callv (br := []) (b_runV ⟨hx, hb, hml, hown, hts⟩ (mt_DB_append_U0 l Γ _ b h tt sv zs da tx wr fl rf x L c hsb hL hc hch) (lw_V q1505 q1506 q1507 q62 q1508) rfl rfl 1 (by decide +kernel) ⟨(Nat.le_of_ble_eq_true rfl), (Nat.le_of_ble_eq_true rfl)⟩ (c_pre hP hD hS hA hK hE [0, 1, 2] rfl rfl ro_nil) (recv_at (q := (RX1, TX1, 9)) hK (b_at (k := 0) hP rfl) rfl) rfl hl.1 rfl (Nat.le_of_ble_eq_true rfl) dX0_append_2 ⟨(Nat.le_of_ble_eq_true rfl), (Nat.le_of_ble_eq_true rfl)⟩) hP hD hS hA [0, 1, 2] [] rfl rfl rfl (fun u_1 H locs hw_1 hP hD hS _ => ?_)
  obtain ⟨y_1, hy_1, hyz_1, rfl⟩ := hw_1
  have hP : WP Γ [[(b, .inr (0, [.ref h.e0, .ref tt, .ref sv, .int zs, .ref da, .ref tx, .ref wr, .int fl, .int rf]))], [(tx, .inr (13, [.ref y_1.1, .int 1, .int y_1.2.2.2, .int (nI (L ++ [c]).length)]))], [(y_1.1, .inl (Γ.2.1 1, 2 * y_1.2.1, .inl y_1.2.2.1))]] H := hP
  have hD : WD A [[(b, .inr (0, [.ref h.e0, .ref tt, .ref sv, .int zs, .ref da, .ref tx, .ref wr, .int fl, .int rf]))], [(tx, .inr (13, [.ref y_1.1, .int 1, .int y_1.2.2.2, .int (nI (L ++ [c]).length)]))], [(y_1.1, .inl (Γ.2.1 1, 2 * y_1.2.1, .inl y_1.2.2.1))]] := hD
  refine lv_goto (tgt := 11) hx hb dX0_append_5 (by decide) ?_
  refine lv_iconst (v := 0) hx hb dX0_append_11 (by decide) ?_
  exact b_iret hx hb hr hlocks hP hD hS (Nat.le_of_ble_eq_true rfl) (Nat.le_of_ble_eq_true rfl) ⟨y_1, hy_1, hyz_1, (by first | rfl | (simp; done)), (by first | rfl | (simp; done))⟩ dX0_append_12
set_option maxHeartbeats 4000000 in
set_option maxRecDepth 100000 in
theorem mt_Law_append_U1 (l : Launch) (Γ : GE) (sz : Nat) (b : Nat) (h : HB) (tt : Nat) (sv : Nat) (zs : Int32) (da : Nat) (tx : Nat) (wr : Nat) (fl : Int32) (rf : Int32) (x : SBT) (L : List Int32) (c : Int32) (hnt : l.stackTraces = false) (hsb : sbF 1 x L) (hL : L.length ≤ 49) (hch : isCh c) : KMH l yX0_append cX0_append 3 (some FieldType.int) [(0, 5, 8, 15)] Γ 7 167 2 2048 [.ref b, .int c] [[(b, .inr (0, [.ref h.e0, .ref tt, .ref sv, .int zs, .ref da, .ref tx, .ref wr, .int fl, .int rf]))], [(tx, .inr (13, [.ref x.1, .int 1, .int x.2.2.2, .int (nI L.length)]))], [(x.1, .inl (Γ.2.1 1, 2 * x.2.1, .inl x.2.2.1))]] [] sz (Qi Γ (fun r_ u_ => ∃ y : SBT, sbF 1 y (L ++ [c]) ∧ y.2.2.2 = x.2.2.2 ∧ r_ = 0 ∧ u_ = [[(b, .inr (0, [.ref h.e0, .ref tt, .ref sv, .int zs, .ref da, .ref tx, .ref wr, .int fl, .int rf]))], [(tx, .inr (13, [.ref y.1, .int 1, .int y.2.2.2, .int (nI (L ++ [c]).length)]))], [(y.1, .inl (Γ.2.1 1, 2 * y.2.1, .inl y.2.2.1))]])) := by
  refine K_introH (by decide) (Nat.le_of_ble_eq_true rfl) ?_
  intro pr_ ev_ s mi_ below meth cd_ A ls hx hb hr hml hown hts hlocks hname hK hE hRo hP hD hA hS hsz hl htb9
  have hl : lv_has ls 3 [(0, .ref b), (1, .int c)] := hl
  have hown : s.vm.findClass RX0 = some mi_.cls := hown
  refine lv_aload_n hx hb dX0_append_0 rfl (lv_at hl 0 rfl) ?_
  refine lv_iload_n hx hb dX0_append_1 rfl (lv_at hl 1 rfl) ?_
  refine b_callv (br := []) (b_runV ⟨hx, hb, hml, hown, hts⟩ (mt_DB_append_U1 l Γ _ b h tt sv zs da tx wr fl rf x L c hsb hL hch) (lw_V q1505 q1506 q1507 q62 q1508) rfl rfl 1 (by decide +kernel) ⟨(Nat.le_of_ble_eq_true rfl), (Nat.le_of_ble_eq_true rfl)⟩ (c_pre hP hD hS hA hK hE [0, 1, 2] rfl rfl ro_nil) (recv_at (q := (RX1, TX1, 9)) hK (b_at (k := 0) hP rfl) rfl) rfl hl.1 rfl (Nat.le_of_ble_eq_true rfl) dX0_append_2 ⟨(Nat.le_of_ble_eq_true rfl), (Nat.le_of_ble_eq_true rfl)⟩) hP hD hS hA [0, 1, 2] [] rfl rfl rfl (fun u_1 H locs hw_1 hP hD hS _ => ?_)
  obtain ⟨y_1, hy_1, hyz_1, rfl⟩ := hw_1
  have hP : WP Γ [[(b, .inr (0, [.ref h.e0, .ref tt, .ref sv, .int zs, .ref da, .ref tx, .ref wr, .int fl, .int rf]))], [(tx, .inr (13, [.ref y_1.1, .int 1, .int y_1.2.2.2, .int (nI (L ++ [c]).length)]))], [(y_1.1, .inl (Γ.2.1 1, 2 * y_1.2.1, .inl y_1.2.2.1))]] H := hP
  have hD : WD A [[(b, .inr (0, [.ref h.e0, .ref tt, .ref sv, .int zs, .ref da, .ref tx, .ref wr, .int fl, .int rf]))], [(tx, .inr (13, [.ref y_1.1, .int 1, .int y_1.2.2.2, .int (nI (L ++ [c]).length)]))], [(y_1.1, .inl (Γ.2.1 1, 2 * y_1.2.1, .inl y_1.2.2.1))]] := hD
  refine lv_goto (tgt := 11) hx hb dX0_append_5 (by decide) ?_
  refine lv_iconst (v := 0) hx hb dX0_append_11 (by decide) ?_
  exact b_iret hx hb hr hlocks hP hD hS (Nat.le_of_ble_eq_true rfl) (Nat.le_of_ble_eq_true rfl) ⟨y_1, hy_1, hyz_1, (by first | rfl | (simp; done)), (by first | rfl | (simp; done))⟩ dX0_append_12
set_option maxHeartbeats 4000000 in
set_option maxRecDepth 100000 in
theorem mt_Law_append_x0 (l : Launch) (Γ : GE) (sz : Nat) (b : Nat) (h : HB) (tt : Nat) (sv : Nat) (zs : Int32) (da : Nat) (tx : Nat) (wr : Nat) (fl : Int32) (rf : Int32) (x : SBT) (L : List Int32) (c : Int32) (hnt : l.stackTraces = false) (hsb : sbF 0 x L) (hL : L.length = 50) : KMH l yX0_append cX0_append 3 (some FieldType.int) [(0, 5, 8, 15)] Γ 8 131 1 6 [.ref b, .int c] [[(b, .inr (0, [.ref h.e0, .ref tt, .ref sv, .int zs, .ref da, .ref tx, .ref wr, .int fl, .int rf]))], [(tx, .inr (13, [.ref x.1, .int 0, .int x.2.2.2, .int (nI L.length)]))], [(x.1, .inl (Γ.2.1 1, x.2.1, .inl x.2.2.1))]] [] sz (Qi Γ (fun r_ u_ => r_ = 1 ∧ u_ = [[(b, .inr (0, [.ref h.e0, .ref tt, .ref sv, .int zs, .ref da, .ref tx, .ref wr, .int fl, .int rf]))], [(tx, .inr (13, [.ref x.1, .int 0, .int x.2.2.2, .int (nI L.length)]))], [(x.1, .inl (Γ.2.1 1, x.2.1, .inl x.2.2.1))]])) := by
  refine K_introH (by decide) (Nat.le_of_ble_eq_true rfl) ?_
  intro pr_ ev_ s mi_ below meth cd_ A ls hx hb hr hml hown hts hlocks hname hK hE hRo hP hD hA hS hsz hl htb9
  have hl : lv_has ls 3 [(0, .ref b), (1, .int c)] := hl
  have hown : s.vm.findClass RX0 = some mi_.cls := hown
  refine lv_aload_n hx hb dX0_append_0 rfl (lv_at hl 0 rfl) ?_
  refine lv_iload_n hx hb dX0_append_1 rfl (lv_at hl 1 rfl) ?_
  refine b_callx (br := []) (b_runVx ⟨hx, hb, hml, hown, hts⟩ (mt_DB_append_x0 l Γ _ b h tt sv zs da tx wr fl rf x L c hnt hsb hL) (lw_V q1505 q1506 q1507 q62 q1508) rfl rfl 1 (by decide +kernel) ⟨(Nat.le_of_ble_eq_true rfl), (Nat.le_of_ble_eq_true rfl)⟩ (c_pre hP hD hS hA hK hE [0, 1, 2] rfl rfl ro_nil) (recv_at (q := (RX1, TX1, 9)) hK (b_at (k := 0) hP rfl) rfl) rfl hl.1 rfl (Nat.le_of_ble_eq_true rfl) dX0_append_2 ⟨(Nat.le_of_ble_eq_true rfl), (Nat.le_of_ble_eq_true rfl)⟩) hP hD hS hA [0, 1, 2] [] rfl rfl rfl (fun q_1 ce_1 u_1 H locs hw_1 hP hD hS _ hce_1 hcv_1 hcl_1 => ?_)
  obtain rfl := hw_1
  have hP : WP Γ [[(b, .inr (0, [.ref h.e0, .ref tt, .ref sv, .int zs, .ref da, .ref tx, .ref wr, .int fl, .int rf]))], [(tx, .inr (13, [.ref x.1, .int 0, .int x.2.2.2, .int (nI L.length)]))], [(x.1, .inl (Γ.2.1 1, x.2.1, .inl x.2.2.1))]] H := hP
  have hD : WD A [[(b, .inr (0, [.ref h.e0, .ref tt, .ref sv, .int zs, .ref da, .ref tx, .ref wr, .int fl, .int rf]))], [(tx, .inr (13, [.ref x.1, .int 0, .int x.2.2.2, .int (nI L.length)]))], [(x.1, .inl (Γ.2.1 1, x.2.1, .inl x.2.2.1))]] := hD
  refine vx_catch (name := "java/lang/IllegalStateException") hown [] ⟨0, 5, 8, 15⟩ [] (htb9.trans rfl) (fun z hz => nomatch hz) (by decide) (by decide) (hts _ q801) (va_Nw.use rfl (hE.1.1 _ q826 rfl)) hce_1 hcv_1 hcl_1 ?_
  refine W.eq (g2 := F0 mi_ 8 ls ([.ref q_1])) rfl ?_
  refine lv_astore_n (lv' := [(2, .ref q_1), (0, .ref b), (1, .int c)]) hx hb dX0_append_8 rfl hl (by decide) rfl (fun ls hl => ?_)
  refine lv_iconst (v := 1) hx hb dX0_append_9 (by decide) ?_
  exact b_iret hx hb hr hlocks hP hD hS (Nat.le_of_ble_eq_true rfl) (Nat.le_of_ble_eq_true rfl) ⟨(by first | rfl | (simp; done)), (by first | rfl | (simp; done))⟩ dX0_append_10
set_option maxHeartbeats 4000000 in
set_option maxRecDepth 100000 in
theorem mt_Law_append_x1 (l : Launch) (Γ : GE) (sz : Nat) (b : Nat) (h : HB) (tt : Nat) (sv : Nat) (zs : Int32) (da : Nat) (tx : Nat) (wr : Nat) (fl : Int32) (rf : Int32) (x : SBT) (L : List Int32) (c : Int32) (hnt : l.stackTraces = false) (hsb : sbF 1 x L) (hL : L.length = 50) : KMH l yX0_append cX0_append 3 (some FieldType.int) [(0, 5, 8, 15)] Γ 8 131 1 6 [.ref b, .int c] [[(b, .inr (0, [.ref h.e0, .ref tt, .ref sv, .int zs, .ref da, .ref tx, .ref wr, .int fl, .int rf]))], [(tx, .inr (13, [.ref x.1, .int 1, .int x.2.2.2, .int (nI L.length)]))], [(x.1, .inl (Γ.2.1 1, 2 * x.2.1, .inl x.2.2.1))]] [] sz (Qi Γ (fun r_ u_ => r_ = 1 ∧ u_ = [[(b, .inr (0, [.ref h.e0, .ref tt, .ref sv, .int zs, .ref da, .ref tx, .ref wr, .int fl, .int rf]))], [(tx, .inr (13, [.ref x.1, .int 1, .int x.2.2.2, .int (nI L.length)]))], [(x.1, .inl (Γ.2.1 1, 2 * x.2.1, .inl x.2.2.1))]])) := by
  refine K_introH (by decide) (Nat.le_of_ble_eq_true rfl) ?_
  intro pr_ ev_ s mi_ below meth cd_ A ls hx hb hr hml hown hts hlocks hname hK hE hRo hP hD hA hS hsz hl htb9
  have hl : lv_has ls 3 [(0, .ref b), (1, .int c)] := hl
  have hown : s.vm.findClass RX0 = some mi_.cls := hown
  refine lv_aload_n hx hb dX0_append_0 rfl (lv_at hl 0 rfl) ?_
  refine lv_iload_n hx hb dX0_append_1 rfl (lv_at hl 1 rfl) ?_
  refine b_callx (br := []) (b_runVx ⟨hx, hb, hml, hown, hts⟩ (mt_DB_append_x1 l Γ _ b h tt sv zs da tx wr fl rf x L c hnt hsb hL) (lw_V q1505 q1506 q1507 q62 q1508) rfl rfl 1 (by decide +kernel) ⟨(Nat.le_of_ble_eq_true rfl), (Nat.le_of_ble_eq_true rfl)⟩ (c_pre hP hD hS hA hK hE [0, 1, 2] rfl rfl ro_nil) (recv_at (q := (RX1, TX1, 9)) hK (b_at (k := 0) hP rfl) rfl) rfl hl.1 rfl (Nat.le_of_ble_eq_true rfl) dX0_append_2 ⟨(Nat.le_of_ble_eq_true rfl), (Nat.le_of_ble_eq_true rfl)⟩) hP hD hS hA [0, 1, 2] [] rfl rfl rfl (fun q_1 ce_1 u_1 H locs hw_1 hP hD hS _ hce_1 hcv_1 hcl_1 => ?_)
  obtain rfl := hw_1
  have hP : WP Γ [[(b, .inr (0, [.ref h.e0, .ref tt, .ref sv, .int zs, .ref da, .ref tx, .ref wr, .int fl, .int rf]))], [(tx, .inr (13, [.ref x.1, .int 1, .int x.2.2.2, .int (nI L.length)]))], [(x.1, .inl (Γ.2.1 1, 2 * x.2.1, .inl x.2.2.1))]] H := hP
  have hD : WD A [[(b, .inr (0, [.ref h.e0, .ref tt, .ref sv, .int zs, .ref da, .ref tx, .ref wr, .int fl, .int rf]))], [(tx, .inr (13, [.ref x.1, .int 1, .int x.2.2.2, .int (nI L.length)]))], [(x.1, .inl (Γ.2.1 1, 2 * x.2.1, .inl x.2.2.1))]] := hD
  refine vx_catch (name := "java/lang/IllegalStateException") hown [] ⟨0, 5, 8, 15⟩ [] (htb9.trans rfl) (fun z hz => nomatch hz) (by decide) (by decide) (hts _ q801) (va_Nw.use rfl (hE.1.1 _ q826 rfl)) hce_1 hcv_1 hcl_1 ?_
  refine W.eq (g2 := F0 mi_ 8 ls ([.ref q_1])) rfl ?_
  refine lv_astore_n (lv' := [(2, .ref q_1), (0, .ref b), (1, .int c)]) hx hb dX0_append_8 rfl hl (by decide) rfl (fun ls hl => ?_)
  refine lv_iconst (v := 1) hx hb dX0_append_9 (by decide) ?_
  exact b_iret hx hb hr hlocks hP hD hS (Nat.le_of_ble_eq_true rfl) (Nat.le_of_ble_eq_true rfl) ⟨(by first | rfl | (simp; done)), (by first | rfl | (simp; done))⟩ dX0_append_10
set_option maxHeartbeats 4000000 in
set_option maxRecDepth 100000 in
theorem mt_Law_order_ok_0 (l : Launch) (Γ : GE) (sz : Nat) (b : Nat) (h : HB) (sv : Nat) (zs : Int32) (da : Nat) (tx : Nat) (wr : Nat) (fl : Int32) (rf : Int32) (t : HB) (dv : Nat) (df : Nat → Option Nat) (dp : Nat) (kn : Nat) (hk : Nat → HB) (P : va_W) (x : SBT) (L : List Int32) (Rl : Nat → HB → Prop) (ou : Nat) (ov : Nat → Int64) (hnt : l.stackTraces = false) (ho : hdOk Γ P h) (hko : ∀ k, k < kn → hdOk Γ P (hk k)) (hk8 : kn ≤ 8) (hdq : dqI df dp kn (kpA hk)) (ht0 : hdOk0 Γ t) (hsb : sbF 0 x L) (hL5 : L.length ≤ 50) (hcs9 : (txS L).1 = 1) (hR0 : ∀ t2 : HB, hvEq t2 h → Rl 0 t2) (hr0 : ∀ (j : Nat) (t2 : HB) (q : CM), j < (txPS L).length → cmOk L ((txPS L).getD j 0) q → Rl j t2 → cmRf q.w t2 q.f q.g = 0) (hrs : ∀ (j : Nat) (t2 t3 : HB) (q : CM), j < (txPS L).length → cmOk L ((txPS L).getD j 0) q → Rl j t2 → cmSt q.w q.f q.g t2 t3 → Rl (j + 1) t3) : KMH l yX0_order cX0_order 3 (some FieldType.int) [(0, 8, 11, 13), (0, 8, 14, 30)] Γ 10 261 1000 70000 [.ref b, .ref ou] [[(b, .inr (0, [.ref h.e0, .ref t.e0, .ref sv, .int zs, .ref da, .ref tx, .ref wr, .int fl, .int rf]))], (hdB Γ h), (hdB Γ t), [(da, .inr (12, [.ref dv, .int (nI dp), .int (nI ((dp + kn) % 17))]))], [(dv, .inl (Γ.2.1 2, 17, .inr (.inr (.inr (.inr df)))))], (kpB Γ kn hk), P, [(tx, .inr (13, [.ref x.1, .int 0, .int x.2.2.2, .int (nI L.length)]))], [(x.1, .inl (Γ.2.1 1, x.2.1, .inl x.2.2.1))], [(ou, .inl (Γ.2.1 3, 1, .inr (.inl ov)))]] [] sz (Qi Γ (fun r_ u_ => ∃ tx2 : Nat, ∃ x2 : SBT, ∃ t9 : HB, ∃ P9 : va_W, ∃ h9 : HB, ∃ g : HB, ∃ f2 : Nat → Option Nat, sbF 0 x2 [] ∧ x2.2.2.2 = 0 ∧ hdOk0 Γ t9 ∧ (∀ z, z ∈ P → z ∈ P9) ∧ Rl (txPS L).length t9 ∧ hvEq h9 t9 ∧ hdOk Γ P9 h9 ∧ hvEq g h ∧ hdOk Γ P9 g ∧ dqI f2 (kpP9 kn dp) (kpN kn) (kpA (kpH kn hk g)) ∧ r_ = 0 ∧ u_ = [[(b, .inr (0, [.ref h9.e0, .ref t9.e0, .ref sv, .int zs, .ref da, .ref tx2, .ref wr, .int (-1), .int rf]))], (hdB Γ h9), (hdB Γ t9), [(da, .inr (12, [.ref dv, .int (nI (kpP9 kn dp)), .int (nI (((kpP9 kn dp) + (kpN kn)) % 17))]))], [(dv, .inl (Γ.2.1 2, 17, .inr (.inr (.inr (.inr f2)))))], (kpB Γ (kpN kn) (kpH kn hk g)), P9, [(tx2, .inr (13, [.ref x2.1, .int 0, .int x2.2.2.2, .int (nI ([] : List Int32).length)]))], [(x2.1, .inl (Γ.2.1 1, x2.2.1, .inl x2.2.2.1))], [(ou, .inl (Γ.2.1 3, 1, .inr (.inl (vp_updL ov 0 (nI (txPS L).length).toInt64))))]])) := by
  refine K_introH (by decide) (Nat.le_of_ble_eq_true rfl) ?_
  intro pr_ ev_ s mi_ below meth cd_ A ls hx hb hr hml hown hts hlocks hname hK hE hRo hP hD hA hS hsz hl htb9
  have hl : lv_has ls 3 [(0, .ref b), (1, .ref ou)] := hl
  have hown : s.vm.findClass RX0 = some mi_.cls := hown
  refine lv_aload_n hx hb dX0_order_0 rfl (lv_at hl 1 rfl) ?_
  refine lv_iconst (v := 0) hx hb dX0_order_1 (by decide) ?_
  refine lv_aload_n hx hb dX0_order_2 rfl (lv_at hl 0 rfl) ?_
  refine b_calli (br := [[(ou, .inl (Γ.2.1 3, 1, .inr (.inl ov)))]]) (b_runVW ⟨hx, hb, hml, hown, hts⟩ (mt_DB_order_ok_0 l Γ _ b h sv zs da tx wr fl rf t dv df dp kn hk P x L Rl ho hko hk8 hdq ht0 hsb hL5 hcs9 hR0 hr0 hrs) (lw_VW q1526 q1527 q1528 q62 q1529) rfl rfl 0 (by decide +kernel) ⟨(Nat.le_of_ble_eq_true rfl), (Nat.le_of_ble_eq_true rfl)⟩ (c_pre hP hD hS hA hK hE [0, 1, 2, 3, 4, 5, 6, 7, 8] rfl rfl ro_nil) (recv_at (q := (RX1, TX1, 9)) hK (b_at (k := 0) hP rfl) rfl) rfl hl.1 rfl (Nat.le_of_ble_eq_true rfl) dX0_order_3 ⟨(Nat.le_of_ble_eq_true rfl), (Nat.le_of_ble_eq_true rfl)⟩) hP hD hS hA [0, 1, 2, 3, 4, 5, 6, 7, 8] [9] rfl rfl rfl (fun r_1 u_1 H locs hw_1 hP hD hS _ => ?_)
  obtain ⟨tx2_1, x2_1, t9_1, P9_1, h9_1, g_1, f2_1, hs2_1, hz2_1, hto_1, hsP_1, hRn_1, hv9_1, hG9_1, hv_1, hG_1, hq_1, rfl, rfl⟩ := hw_1
  have hP : WP Γ [[(b, .inr (0, [.ref h9_1.e0, .ref t9_1.e0, .ref sv, .int zs, .ref da, .ref tx2_1, .ref wr, .int (-1), .int rf]))], (hdB Γ h9_1), (hdB Γ t9_1), [(da, .inr (12, [.ref dv, .int (nI (kpP9 kn dp)), .int (nI (((kpP9 kn dp) + (kpN kn)) % 17))]))], [(dv, .inl (Γ.2.1 2, 17, .inr (.inr (.inr (.inr f2_1)))))], (kpB Γ (kpN kn) (kpH kn hk g_1)), P9_1, [(tx2_1, .inr (13, [.ref x2_1.1, .int 0, .int x2_1.2.2.2, .int (nI ([] : List Int32).length)]))], [(x2_1.1, .inl (Γ.2.1 1, x2_1.2.1, .inl x2_1.2.2.1))], [(ou, .inl (Γ.2.1 3, 1, .inr (.inl ov)))]] H := hP
  have hD : WD A [[(b, .inr (0, [.ref h9_1.e0, .ref t9_1.e0, .ref sv, .int zs, .ref da, .ref tx2_1, .ref wr, .int (-1), .int rf]))], (hdB Γ h9_1), (hdB Γ t9_1), [(da, .inr (12, [.ref dv, .int (nI (kpP9 kn dp)), .int (nI (((kpP9 kn dp) + (kpN kn)) % 17))]))], [(dv, .inl (Γ.2.1 2, 17, .inr (.inr (.inr (.inr f2_1)))))], (kpB Γ (kpN kn) (kpH kn hk g_1)), P9_1, [(tx2_1, .inr (13, [.ref x2_1.1, .int 0, .int x2_1.2.2.2, .int (nI ([] : List Int32).length)]))], [(x2_1.1, .inl (Γ.2.1 1, x2_1.2.1, .inl x2_1.2.2.1))], [(ou, .inl (Γ.2.1 3, 1, .inr (.inl ov)))]] := hD
  refine lv_i2l hx hb dX0_order_6 rfl ?_
  refine b_last hx hb hK hP hD hS 9 rfl 0 rfl (by omega) (by omega) dX0_order_7 (fun H locs hP hD hS => ?_)
  have hP : WP Γ [[(b, .inr (0, [.ref h9_1.e0, .ref t9_1.e0, .ref sv, .int zs, .ref da, .ref tx2_1, .ref wr, .int (-1), .int rf]))], (hdB Γ h9_1), (hdB Γ t9_1), [(da, .inr (12, [.ref dv, .int (nI (kpP9 kn dp)), .int (nI (((kpP9 kn dp) + (kpN kn)) % 17))]))], [(dv, .inl (Γ.2.1 2, 17, .inr (.inr (.inr (.inr f2_1)))))], (kpB Γ (kpN kn) (kpH kn hk g_1)), P9_1, [(tx2_1, .inr (13, [.ref x2_1.1, .int 0, .int x2_1.2.2.2, .int (nI ([] : List Int32).length)]))], [(x2_1.1, .inl (Γ.2.1 1, x2_1.2.1, .inl x2_1.2.2.1))], [(ou, .inl (Γ.2.1 3, 1, .inr (.inl (vp_updL ov 0 (nI (txPS L).length).toInt64))))]] H := hP
  have hD : WD A [[(b, .inr (0, [.ref h9_1.e0, .ref t9_1.e0, .ref sv, .int zs, .ref da, .ref tx2_1, .ref wr, .int (-1), .int rf]))], (hdB Γ h9_1), (hdB Γ t9_1), [(da, .inr (12, [.ref dv, .int (nI (kpP9 kn dp)), .int (nI (((kpP9 kn dp) + (kpN kn)) % 17))]))], [(dv, .inl (Γ.2.1 2, 17, .inr (.inr (.inr (.inr f2_1)))))], (kpB Γ (kpN kn) (kpH kn hk g_1)), P9_1, [(tx2_1, .inr (13, [.ref x2_1.1, .int 0, .int x2_1.2.2.2, .int (nI ([] : List Int32).length)]))], [(x2_1.1, .inl (Γ.2.1 1, x2_1.2.1, .inl x2_1.2.2.1))], [(ou, .inl (Γ.2.1 3, 1, .inr (.inl (vp_updL ov 0 (nI (txPS L).length).toInt64))))]] := hD
  refine lv_goto (tgt := 17) hx hb dX0_order_8 (by decide) ?_
  refine lv_iconst (v := 0) hx hb dX0_order_17 (by decide) ?_
  exact b_iret hx hb hr hlocks hP hD hS (Nat.le_of_ble_eq_true rfl) (Nat.le_of_ble_eq_true rfl) ⟨tx2_1, x2_1, t9_1, P9_1, h9_1, g_1, f2_1, hs2_1, hz2_1, hto_1, hsP_1, hRn_1, hv9_1, hG9_1, hv_1, hG_1, hq_1, (by first | rfl | (simp; done)), (by first | rfl | (simp; done))⟩ dX0_order_18
set_option maxHeartbeats 4000000 in
set_option maxRecDepth 100000 in
theorem mt_Law_order_x1_0 (l : Launch) (Γ : GE) (sz : Nat) (b : Nat) (h : HB) (tt : Nat) (sv : Nat) (zs : Int32) (da : Nat) (tx : Nat) (wr : Nat) (fl : Int32) (rf : Int32) (x : SBT) (L : List Int32) (ou : Nat) (ov : Nat → Int64) (hnt : l.stackTraces = false) (hsb : sbF 0 x L) (hL5 : L.length ≤ 50) (hcs9 : (txS L).1 = 0) : KMH l yX0_order cX0_order 3 (some FieldType.int) [(0, 8, 11, 13), (0, 8, 14, 30)] Γ 10 261 1000 60000 [.ref b, .ref ou] [[(b, .inr (0, [.ref h.e0, .ref tt, .ref sv, .int zs, .ref da, .ref tx, .ref wr, .int fl, .int rf]))], [(tx, .inr (13, [.ref x.1, .int 0, .int x.2.2.2, .int (nI L.length)]))], [(x.1, .inl (Γ.2.1 1, x.2.1, .inl x.2.2.1))], [(ou, .inl (Γ.2.1 3, 1, .inr (.inl ov)))]] [] sz (Qi Γ (fun r_ u_ => ∃ tx2 : Nat, ∃ x2 : SBT, sbF 0 x2 [] ∧ x2.2.2.2 = 0 ∧ r_ = 1 ∧ u_ = [[(b, .inr (0, [.ref h.e0, .ref tt, .ref sv, .int zs, .ref da, .ref tx2, .ref wr, .int (nI (txS L).2), .int rf]))], [(tx2, .inr (13, [.ref x2.1, .int 0, .int x2.2.2.2, .int (nI ([] : List Int32).length)]))], [(x2.1, .inl (Γ.2.1 1, x2.2.1, .inl x2.2.2.1))], [(ou, .inl (Γ.2.1 3, 1, .inr (.inl ov)))]])) := by
  refine K_introH (by decide) (Nat.le_of_ble_eq_true rfl) ?_
  intro pr_ ev_ s mi_ below meth cd_ A ls hx hb hr hml hown hts hlocks hname hK hE hRo hP hD hA hS hsz hl htb9
  have hl : lv_has ls 3 [(0, .ref b), (1, .ref ou)] := hl
  have hown : s.vm.findClass RX0 = some mi_.cls := hown
  refine lv_aload_n hx hb dX0_order_0 rfl (lv_at hl 1 rfl) ?_
  refine lv_iconst (v := 0) hx hb dX0_order_1 (by decide) ?_
  refine lv_aload_n hx hb dX0_order_2 rfl (lv_at hl 0 rfl) ?_
  refine b_callx (br := [[(ou, .inl (Γ.2.1 3, 1, .inr (.inl ov)))]]) (b_runVXW ⟨hx, hb, hml, hown, hts⟩ (mt_DB_order_x1_0 l Γ _ b h tt sv zs da tx wr fl rf x L hnt hsb hL5 hcs9) (lw_VW q1526 q1527 q1528 q62 q1529) rfl rfl 0 (by decide +kernel) ⟨(Nat.le_of_ble_eq_true rfl), (Nat.le_of_ble_eq_true rfl)⟩ (c_pre hP hD hS hA hK hE [0, 1, 2] rfl rfl ro_nil) (recv_at (q := (RX1, TX1, 9)) hK (b_at (k := 0) hP rfl) rfl) rfl hl.1 rfl (Nat.le_of_ble_eq_true rfl) dX0_order_3 ⟨(Nat.le_of_ble_eq_true rfl), (Nat.le_of_ble_eq_true rfl)⟩) hP hD hS hA [0, 1, 2] [3] rfl rfl rfl (fun q_1 ce_1 u_1 H locs hw_1 hP hD hS _ hce_1 hcv_1 hcl_1 => ?_)
  obtain ⟨tx2_1, x2_1, hs2_1, hz2_1, rfl⟩ := hw_1
  have hP : WP Γ [[(b, .inr (0, [.ref h.e0, .ref tt, .ref sv, .int zs, .ref da, .ref tx2_1, .ref wr, .int (nI (txS L).2), .int rf]))], [(tx2_1, .inr (13, [.ref x2_1.1, .int 0, .int x2_1.2.2.2, .int (nI ([] : List Int32).length)]))], [(x2_1.1, .inl (Γ.2.1 1, x2_1.2.1, .inl x2_1.2.2.1))], [(ou, .inl (Γ.2.1 3, 1, .inr (.inl ov)))]] H := hP
  have hD : WD A [[(b, .inr (0, [.ref h.e0, .ref tt, .ref sv, .int zs, .ref da, .ref tx2_1, .ref wr, .int (nI (txS L).2), .int rf]))], [(tx2_1, .inr (13, [.ref x2_1.1, .int 0, .int x2_1.2.2.2, .int (nI ([] : List Int32).length)]))], [(x2_1.1, .inl (Γ.2.1 1, x2_1.2.1, .inl x2_1.2.2.1))], [(ou, .inl (Γ.2.1 3, 1, .inr (.inl ov)))]] := hD
  refine vx_catch (name := "java/lang/IllegalArgumentException") hown [] ⟨0, 8, 11, 13⟩ [⟨0, 8, 14, 30⟩] (htb9.trans rfl) (fun z hz => nomatch hz) (by decide) (by decide) (hts _ q800) (va_Nw.use rfl (hE.1.1 _ q568 rfl)) hce_1 hcv_1 hcl_1 ?_
  refine W.eq (g2 := F0 mi_ 11 ls ([.ref q_1])) rfl ?_
  refine lv_astore_n (lv' := [(2, .ref q_1), (0, .ref b), (1, .ref ou)]) hx hb dX0_order_11 rfl hl (by decide) rfl (fun ls hl => ?_)
  refine lv_iconst (v := 1) hx hb dX0_order_12 (by decide) ?_
  exact b_iret hx hb hr hlocks hP hD hS (Nat.le_of_ble_eq_true rfl) (Nat.le_of_ble_eq_true rfl) ⟨tx2_1, x2_1, hs2_1, hz2_1, (by first | rfl | (simp; done)), (by first | rfl | (simp; done))⟩ dX0_order_13
set_option maxHeartbeats 4000000 in
set_option maxRecDepth 100000 in
theorem mt_Law_order_x2_0 (l : Launch) (Γ : GE) (sz : Nat) (b : Nat) (h : HB) (sv : Nat) (zs : Int32) (da : Nat) (tx : Nat) (wr : Nat) (fl : Int32) (rf : Int32) (t : HB) (dv : Nat) (df : Nat → Option Nat) (dp : Nat) (kn : Nat) (hk : Nat → HB) (P : va_W) (x : SBT) (L : List Int32) (Rl : Nat → HB → Prop) (jx : Nat) (rx : Int32) (ou : Nat) (ov : Nat → Int64) (hnt : l.stackTraces = false) (ho : hdOk Γ P h) (hko : ∀ k, k < kn → hdOk Γ P (hk k)) (hk8 : kn ≤ 8) (hdq : dqI df dp kn (kpA hk)) (ht0 : hdOk0 Γ t) (hsb : sbF 0 x L) (hL5 : L.length ≤ 50) (hcs9 : (txS L).1 = 1) (hR0 : ∀ t2 : HB, hvEq t2 h → Rl 0 t2) (hjx : jx < (txPS L).length) (hr0 : ∀ (j : Nat) (t2 : HB) (q : CM), j < jx → cmOk L ((txPS L).getD j 0) q → Rl j t2 → cmRf q.w t2 q.f q.g = 0) (hrx : ∀ (t2 : HB) (q : CM), cmOk L ((txPS L).getD jx 0) q → Rl jx t2 → cmRf q.w t2 q.f q.g = rx) (hrp : 0 < rx) (hrs : ∀ (j : Nat) (t2 t3 : HB) (q : CM), j < (txPS L).length → cmOk L ((txPS L).getD j 0) q → Rl j t2 → cmSt q.w q.f q.g t2 t3 → Rl (j + 1) t3) : KMH l yX0_order cX0_order 3 (some FieldType.int) [(0, 8, 11, 13), (0, 8, 14, 30)] Γ 10 261 1000 70000 [.ref b, .ref ou] [[(b, .inr (0, [.ref h.e0, .ref t.e0, .ref sv, .int zs, .ref da, .ref tx, .ref wr, .int fl, .int rf]))], (hdB Γ h), (hdB Γ t), [(da, .inr (12, [.ref dv, .int (nI dp), .int (nI ((dp + kn) % 17))]))], [(dv, .inl (Γ.2.1 2, 17, .inr (.inr (.inr (.inr df)))))], (kpB Γ kn hk), P, [(tx, .inr (13, [.ref x.1, .int 0, .int x.2.2.2, .int (nI L.length)]))], [(x.1, .inl (Γ.2.1 1, x.2.1, .inl x.2.2.1))], [(ou, .inl (Γ.2.1 3, 1, .inr (.inl ov)))]] [] sz (Qi Γ (fun r_ u_ => ∃ tx2 : Nat, ∃ x2 : SBT, ∃ t9 : HB, ∃ P9 : va_W, sbF 0 x2 [] ∧ x2.2.2.2 = 0 ∧ hdOk0 Γ t9 ∧ (∀ z, z ∈ P → z ∈ P9) ∧ r_ = 2 ∧ u_ = [[(b, .inr (0, [.ref h.e0, .ref t9.e0, .ref sv, .int zs, .ref da, .ref tx2, .ref wr, .int (-1), .int rx]))], (hdB Γ h), (hdB Γ t9), [(da, .inr (12, [.ref dv, .int (nI dp), .int (nI ((dp + kn) % 17))]))], [(dv, .inl (Γ.2.1 2, 17, .inr (.inr (.inr (.inr df)))))], (kpB Γ kn hk), P9, [(tx2, .inr (13, [.ref x2.1, .int 0, .int x2.2.2.2, .int (nI ([] : List Int32).length)]))], [(x2.1, .inl (Γ.2.1 1, x2.2.1, .inl x2.2.2.1))], [(ou, .inl (Γ.2.1 3, 1, .inr (.inl ov)))]])) := by
  refine K_introH (by decide) (Nat.le_of_ble_eq_true rfl) ?_
  intro pr_ ev_ s mi_ below meth cd_ A ls hx hb hr hml hown hts hlocks hname hK hE hRo hP hD hA hS hsz hl htb9
  have hl : lv_has ls 3 [(0, .ref b), (1, .ref ou)] := hl
  have hown : s.vm.findClass RX0 = some mi_.cls := hown
  refine lv_aload_n hx hb dX0_order_0 rfl (lv_at hl 1 rfl) ?_
  refine lv_iconst (v := 0) hx hb dX0_order_1 (by decide) ?_
  refine lv_aload_n hx hb dX0_order_2 rfl (lv_at hl 0 rfl) ?_
  refine b_callx (br := [[(ou, .inl (Γ.2.1 3, 1, .inr (.inl ov)))]]) (b_runVXW ⟨hx, hb, hml, hown, hts⟩ (mt_DB_order_x2_0 l Γ _ b h sv zs da tx wr fl rf t dv df dp kn hk P x L Rl jx rx hnt ho hko hk8 hdq ht0 hsb hL5 hcs9 hR0 hjx hr0 hrx hrp hrs) (lw_VW q1526 q1527 q1528 q62 q1529) rfl rfl 0 (by decide +kernel) ⟨(Nat.le_of_ble_eq_true rfl), (Nat.le_of_ble_eq_true rfl)⟩ (c_pre hP hD hS hA hK hE [0, 1, 2, 3, 4, 5, 6, 7, 8] rfl rfl ro_nil) (recv_at (q := (RX1, TX1, 9)) hK (b_at (k := 0) hP rfl) rfl) rfl hl.1 rfl (Nat.le_of_ble_eq_true rfl) dX0_order_3 ⟨(Nat.le_of_ble_eq_true rfl), (Nat.le_of_ble_eq_true rfl)⟩) hP hD hS hA [0, 1, 2, 3, 4, 5, 6, 7, 8] [9] rfl rfl rfl (fun q_1 ce_1 u_1 H locs hw_1 hP hD hS _ hce_1 hcv_1 hcl_1 => ?_)
  obtain ⟨tx2_1, x2_1, t9_1, P9_1, hs2_1, hz2_1, hto_1, hsP_1, rfl⟩ := hw_1
  have hP : WP Γ [[(b, .inr (0, [.ref h.e0, .ref t9_1.e0, .ref sv, .int zs, .ref da, .ref tx2_1, .ref wr, .int (-1), .int rx]))], (hdB Γ h), (hdB Γ t9_1), [(da, .inr (12, [.ref dv, .int (nI dp), .int (nI ((dp + kn) % 17))]))], [(dv, .inl (Γ.2.1 2, 17, .inr (.inr (.inr (.inr df)))))], (kpB Γ kn hk), P9_1, [(tx2_1, .inr (13, [.ref x2_1.1, .int 0, .int x2_1.2.2.2, .int (nI ([] : List Int32).length)]))], [(x2_1.1, .inl (Γ.2.1 1, x2_1.2.1, .inl x2_1.2.2.1))], [(ou, .inl (Γ.2.1 3, 1, .inr (.inl ov)))]] H := hP
  have hD : WD A [[(b, .inr (0, [.ref h.e0, .ref t9_1.e0, .ref sv, .int zs, .ref da, .ref tx2_1, .ref wr, .int (-1), .int rx]))], (hdB Γ h), (hdB Γ t9_1), [(da, .inr (12, [.ref dv, .int (nI dp), .int (nI ((dp + kn) % 17))]))], [(dv, .inl (Γ.2.1 2, 17, .inr (.inr (.inr (.inr df)))))], (kpB Γ kn hk), P9_1, [(tx2_1, .inr (13, [.ref x2_1.1, .int 0, .int x2_1.2.2.2, .int (nI ([] : List Int32).length)]))], [(x2_1.1, .inl (Γ.2.1 1, x2_1.2.1, .inl x2_1.2.2.1))], [(ou, .inl (Γ.2.1 3, 1, .inr (.inl ov)))]] := hD
  refine vx_catch (name := "java/lang/UnsupportedOperationException") hown [⟨0, 8, 11, 13⟩] ⟨0, 8, 14, 30⟩ [] (htb9.trans rfl) (fun z hz => by rw [List.mem_singleton.mp hz]; exact Or.inr ⟨by decide, "java/lang/IllegalArgumentException", hts _ q800, hE.1.2.2.2 _ (List.mem_of_getElem? (i := 5) rfl)⟩) (by decide) (by decide) (hts _ q948) (va_Nw.use rfl (hE.1.1 _ q983 rfl)) hce_1 hcv_1 hcl_1 ?_
  refine W.eq (g2 := F0 mi_ 14 ls ([.ref q_1])) rfl ?_
  refine lv_astore_n (lv' := [(2, .ref q_1), (0, .ref b), (1, .ref ou)]) hx hb dX0_order_14 rfl hl (by decide) rfl (fun ls hl => ?_)
  refine lv_iconst (v := 2) hx hb dX0_order_15 (by decide) ?_
  exact b_iret hx hb hr hlocks hP hD hS (Nat.le_of_ble_eq_true rfl) (Nat.le_of_ble_eq_true rfl) ⟨tx2_1, x2_1, t9_1, P9_1, hs2_1, hz2_1, hto_1, hsP_1, (by first | rfl | (simp; done)), (by first | rfl | (simp; done))⟩ dX0_order_16
set_option maxHeartbeats 4000000 in
set_option maxRecDepth 100000 in
theorem mt_Law_order_ok_1 (l : Launch) (Γ : GE) (sz : Nat) (b : Nat) (h : HB) (sv : Nat) (zs : Int32) (da : Nat) (tx : Nat) (wr : Nat) (fl : Int32) (rf : Int32) (t : HB) (dv : Nat) (df : Nat → Option Nat) (dp : Nat) (kn : Nat) (hk : Nat → HB) (P : va_W) (x : SBT) (L : List Int32) (Rl : Nat → HB → Prop) (ou : Nat) (ov : Nat → Int64) (hnt : l.stackTraces = false) (ho : hdOk Γ P h) (hko : ∀ k, k < kn → hdOk Γ P (hk k)) (hk8 : kn ≤ 8) (hdq : dqI df dp kn (kpA hk)) (ht0 : hdOk0 Γ t) (hsb : sbF 1 x L) (hmz : x.2.2.2 = 0) (hL5 : L.length ≤ 50) (hcs9 : (txS L).1 = 1) (hR0 : ∀ t2 : HB, hvEq t2 h → Rl 0 t2) (hr0 : ∀ (j : Nat) (t2 : HB) (q : CM), j < (txPS L).length → cmOk L ((txPS L).getD j 0) q → Rl j t2 → cmRf q.w t2 q.f q.g = 0) (hrs : ∀ (j : Nat) (t2 t3 : HB) (q : CM), j < (txPS L).length → cmOk L ((txPS L).getD j 0) q → Rl j t2 → cmSt q.w q.f q.g t2 t3 → Rl (j + 1) t3) : KMH l yX0_order cX0_order 3 (some FieldType.int) [(0, 8, 11, 13), (0, 8, 14, 30)] Γ 11 261 1000 70000 [.ref b, .ref ou] [[(b, .inr (0, [.ref h.e0, .ref t.e0, .ref sv, .int zs, .ref da, .ref tx, .ref wr, .int fl, .int rf]))], (hdB Γ h), (hdB Γ t), [(da, .inr (12, [.ref dv, .int (nI dp), .int (nI ((dp + kn) % 17))]))], [(dv, .inl (Γ.2.1 2, 17, .inr (.inr (.inr (.inr df)))))], (kpB Γ kn hk), P, [(tx, .inr (13, [.ref x.1, .int 1, .int x.2.2.2, .int (nI L.length)]))], [(x.1, .inl (Γ.2.1 1, 2 * x.2.1, .inl x.2.2.1))], [(ou, .inl (Γ.2.1 3, 1, .inr (.inl ov)))]] [] sz (Qi Γ (fun r_ u_ => ∃ tx2 : Nat, ∃ x2 : SBT, ∃ t9 : HB, ∃ P9 : va_W, ∃ h9 : HB, ∃ g : HB, ∃ f2 : Nat → Option Nat, sbF 0 x2 [] ∧ x2.2.2.2 = 0 ∧ hdOk0 Γ t9 ∧ (∀ z, z ∈ P → z ∈ P9) ∧ Rl (txPS L).length t9 ∧ hvEq h9 t9 ∧ hdOk Γ P9 h9 ∧ hvEq g h ∧ hdOk Γ P9 g ∧ dqI f2 (kpP9 kn dp) (kpN kn) (kpA (kpH kn hk g)) ∧ r_ = 0 ∧ u_ = [[(b, .inr (0, [.ref h9.e0, .ref t9.e0, .ref sv, .int zs, .ref da, .ref tx2, .ref wr, .int (-1), .int rf]))], (hdB Γ h9), (hdB Γ t9), [(da, .inr (12, [.ref dv, .int (nI (kpP9 kn dp)), .int (nI (((kpP9 kn dp) + (kpN kn)) % 17))]))], [(dv, .inl (Γ.2.1 2, 17, .inr (.inr (.inr (.inr f2)))))], (kpB Γ (kpN kn) (kpH kn hk g)), P9, [(tx2, .inr (13, [.ref x2.1, .int 0, .int x2.2.2.2, .int (nI ([] : List Int32).length)]))], [(x2.1, .inl (Γ.2.1 1, x2.2.1, .inl x2.2.2.1))], [(ou, .inl (Γ.2.1 3, 1, .inr (.inl (vp_updL ov 0 (nI (txPS L).length).toInt64))))]])) := by
  refine K_introH (by decide) (Nat.le_of_ble_eq_true rfl) ?_
  intro pr_ ev_ s mi_ below meth cd_ A ls hx hb hr hml hown hts hlocks hname hK hE hRo hP hD hA hS hsz hl htb9
  have hl : lv_has ls 3 [(0, .ref b), (1, .ref ou)] := hl
  have hown : s.vm.findClass RX0 = some mi_.cls := hown
  refine lv_aload_n hx hb dX0_order_0 rfl (lv_at hl 1 rfl) ?_
  refine lv_iconst (v := 0) hx hb dX0_order_1 (by decide) ?_
  refine lv_aload_n hx hb dX0_order_2 rfl (lv_at hl 0 rfl) ?_
  refine b_calli (br := [[(ou, .inl (Γ.2.1 3, 1, .inr (.inl ov)))]]) (b_runVW ⟨hx, hb, hml, hown, hts⟩ (mt_DB_order_ok_1 l Γ _ b h sv zs da tx wr fl rf t dv df dp kn hk P x L Rl ho hko hk8 hdq ht0 hsb hmz hL5 hcs9 hR0 hr0 hrs) (lw_VW q1526 q1527 q1528 q62 q1529) rfl rfl 0 (by decide +kernel) ⟨(Nat.le_of_ble_eq_true rfl), (Nat.le_of_ble_eq_true rfl)⟩ (c_pre hP hD hS hA hK hE [0, 1, 2, 3, 4, 5, 6, 7, 8] rfl rfl ro_nil) (recv_at (q := (RX1, TX1, 9)) hK (b_at (k := 0) hP rfl) rfl) rfl hl.1 rfl (Nat.le_of_ble_eq_true rfl) dX0_order_3 ⟨(Nat.le_of_ble_eq_true rfl), (Nat.le_of_ble_eq_true rfl)⟩) hP hD hS hA [0, 1, 2, 3, 4, 5, 6, 7, 8] [9] rfl rfl rfl (fun r_1 u_1 H locs hw_1 hP hD hS _ => ?_)
  obtain ⟨tx2_1, x2_1, t9_1, P9_1, h9_1, g_1, f2_1, hs2_1, hz2_1, hto_1, hsP_1, hRn_1, hv9_1, hG9_1, hv_1, hG_1, hq_1, rfl, rfl⟩ := hw_1
  have hP : WP Γ [[(b, .inr (0, [.ref h9_1.e0, .ref t9_1.e0, .ref sv, .int zs, .ref da, .ref tx2_1, .ref wr, .int (-1), .int rf]))], (hdB Γ h9_1), (hdB Γ t9_1), [(da, .inr (12, [.ref dv, .int (nI (kpP9 kn dp)), .int (nI (((kpP9 kn dp) + (kpN kn)) % 17))]))], [(dv, .inl (Γ.2.1 2, 17, .inr (.inr (.inr (.inr f2_1)))))], (kpB Γ (kpN kn) (kpH kn hk g_1)), P9_1, [(tx2_1, .inr (13, [.ref x2_1.1, .int 0, .int x2_1.2.2.2, .int (nI ([] : List Int32).length)]))], [(x2_1.1, .inl (Γ.2.1 1, x2_1.2.1, .inl x2_1.2.2.1))], [(ou, .inl (Γ.2.1 3, 1, .inr (.inl ov)))]] H := hP
  have hD : WD A [[(b, .inr (0, [.ref h9_1.e0, .ref t9_1.e0, .ref sv, .int zs, .ref da, .ref tx2_1, .ref wr, .int (-1), .int rf]))], (hdB Γ h9_1), (hdB Γ t9_1), [(da, .inr (12, [.ref dv, .int (nI (kpP9 kn dp)), .int (nI (((kpP9 kn dp) + (kpN kn)) % 17))]))], [(dv, .inl (Γ.2.1 2, 17, .inr (.inr (.inr (.inr f2_1)))))], (kpB Γ (kpN kn) (kpH kn hk g_1)), P9_1, [(tx2_1, .inr (13, [.ref x2_1.1, .int 0, .int x2_1.2.2.2, .int (nI ([] : List Int32).length)]))], [(x2_1.1, .inl (Γ.2.1 1, x2_1.2.1, .inl x2_1.2.2.1))], [(ou, .inl (Γ.2.1 3, 1, .inr (.inl ov)))]] := hD
  refine lv_i2l hx hb dX0_order_6 rfl ?_
  refine b_last hx hb hK hP hD hS 9 rfl 0 rfl (by omega) (by omega) dX0_order_7 (fun H locs hP hD hS => ?_)
  have hP : WP Γ [[(b, .inr (0, [.ref h9_1.e0, .ref t9_1.e0, .ref sv, .int zs, .ref da, .ref tx2_1, .ref wr, .int (-1), .int rf]))], (hdB Γ h9_1), (hdB Γ t9_1), [(da, .inr (12, [.ref dv, .int (nI (kpP9 kn dp)), .int (nI (((kpP9 kn dp) + (kpN kn)) % 17))]))], [(dv, .inl (Γ.2.1 2, 17, .inr (.inr (.inr (.inr f2_1)))))], (kpB Γ (kpN kn) (kpH kn hk g_1)), P9_1, [(tx2_1, .inr (13, [.ref x2_1.1, .int 0, .int x2_1.2.2.2, .int (nI ([] : List Int32).length)]))], [(x2_1.1, .inl (Γ.2.1 1, x2_1.2.1, .inl x2_1.2.2.1))], [(ou, .inl (Γ.2.1 3, 1, .inr (.inl (vp_updL ov 0 (nI (txPS L).length).toInt64))))]] H := hP
  have hD : WD A [[(b, .inr (0, [.ref h9_1.e0, .ref t9_1.e0, .ref sv, .int zs, .ref da, .ref tx2_1, .ref wr, .int (-1), .int rf]))], (hdB Γ h9_1), (hdB Γ t9_1), [(da, .inr (12, [.ref dv, .int (nI (kpP9 kn dp)), .int (nI (((kpP9 kn dp) + (kpN kn)) % 17))]))], [(dv, .inl (Γ.2.1 2, 17, .inr (.inr (.inr (.inr f2_1)))))], (kpB Γ (kpN kn) (kpH kn hk g_1)), P9_1, [(tx2_1, .inr (13, [.ref x2_1.1, .int 0, .int x2_1.2.2.2, .int (nI ([] : List Int32).length)]))], [(x2_1.1, .inl (Γ.2.1 1, x2_1.2.1, .inl x2_1.2.2.1))], [(ou, .inl (Γ.2.1 3, 1, .inr (.inl (vp_updL ov 0 (nI (txPS L).length).toInt64))))]] := hD
  refine lv_goto (tgt := 17) hx hb dX0_order_8 (by decide) ?_
  refine lv_iconst (v := 0) hx hb dX0_order_17 (by decide) ?_
  exact b_iret hx hb hr hlocks hP hD hS (Nat.le_of_ble_eq_true rfl) (Nat.le_of_ble_eq_true rfl) ⟨tx2_1, x2_1, t9_1, P9_1, h9_1, g_1, f2_1, hs2_1, hz2_1, hto_1, hsP_1, hRn_1, hv9_1, hG9_1, hv_1, hG_1, hq_1, (by first | rfl | (simp; done)), (by first | rfl | (simp; done))⟩ dX0_order_18
set_option maxHeartbeats 4000000 in
set_option maxRecDepth 100000 in
theorem mt_Law_order_x1_1 (l : Launch) (Γ : GE) (sz : Nat) (b : Nat) (h : HB) (tt : Nat) (sv : Nat) (zs : Int32) (da : Nat) (tx : Nat) (wr : Nat) (fl : Int32) (rf : Int32) (x : SBT) (L : List Int32) (ou : Nat) (ov : Nat → Int64) (hnt : l.stackTraces = false) (hsb : sbF 1 x L) (hmz : x.2.2.2 = 0) (hL5 : L.length ≤ 50) (hcs9 : (txS L).1 = 0) : KMH l yX0_order cX0_order 3 (some FieldType.int) [(0, 8, 11, 13), (0, 8, 14, 30)] Γ 11 261 1000 60000 [.ref b, .ref ou] [[(b, .inr (0, [.ref h.e0, .ref tt, .ref sv, .int zs, .ref da, .ref tx, .ref wr, .int fl, .int rf]))], [(tx, .inr (13, [.ref x.1, .int 1, .int x.2.2.2, .int (nI L.length)]))], [(x.1, .inl (Γ.2.1 1, 2 * x.2.1, .inl x.2.2.1))], [(ou, .inl (Γ.2.1 3, 1, .inr (.inl ov)))]] [] sz (Qi Γ (fun r_ u_ => ∃ tx2 : Nat, ∃ x2 : SBT, sbF 0 x2 [] ∧ x2.2.2.2 = 0 ∧ r_ = 1 ∧ u_ = [[(b, .inr (0, [.ref h.e0, .ref tt, .ref sv, .int zs, .ref da, .ref tx2, .ref wr, .int (nI (txS L).2), .int rf]))], [(tx2, .inr (13, [.ref x2.1, .int 0, .int x2.2.2.2, .int (nI ([] : List Int32).length)]))], [(x2.1, .inl (Γ.2.1 1, x2.2.1, .inl x2.2.2.1))], [(ou, .inl (Γ.2.1 3, 1, .inr (.inl ov)))]])) := by
  refine K_introH (by decide) (Nat.le_of_ble_eq_true rfl) ?_
  intro pr_ ev_ s mi_ below meth cd_ A ls hx hb hr hml hown hts hlocks hname hK hE hRo hP hD hA hS hsz hl htb9
  have hl : lv_has ls 3 [(0, .ref b), (1, .ref ou)] := hl
  have hown : s.vm.findClass RX0 = some mi_.cls := hown
  refine lv_aload_n hx hb dX0_order_0 rfl (lv_at hl 1 rfl) ?_
  refine lv_iconst (v := 0) hx hb dX0_order_1 (by decide) ?_
  refine lv_aload_n hx hb dX0_order_2 rfl (lv_at hl 0 rfl) ?_
  refine b_callx (br := [[(ou, .inl (Γ.2.1 3, 1, .inr (.inl ov)))]]) (b_runVXW ⟨hx, hb, hml, hown, hts⟩ (mt_DB_order_x1_1 l Γ _ b h tt sv zs da tx wr fl rf x L hnt hsb hmz hL5 hcs9) (lw_VW q1526 q1527 q1528 q62 q1529) rfl rfl 0 (by decide +kernel) ⟨(Nat.le_of_ble_eq_true rfl), (Nat.le_of_ble_eq_true rfl)⟩ (c_pre hP hD hS hA hK hE [0, 1, 2] rfl rfl ro_nil) (recv_at (q := (RX1, TX1, 9)) hK (b_at (k := 0) hP rfl) rfl) rfl hl.1 rfl (Nat.le_of_ble_eq_true rfl) dX0_order_3 ⟨(Nat.le_of_ble_eq_true rfl), (Nat.le_of_ble_eq_true rfl)⟩) hP hD hS hA [0, 1, 2] [3] rfl rfl rfl (fun q_1 ce_1 u_1 H locs hw_1 hP hD hS _ hce_1 hcv_1 hcl_1 => ?_)
  obtain ⟨tx2_1, x2_1, hs2_1, hz2_1, rfl⟩ := hw_1
  have hP : WP Γ [[(b, .inr (0, [.ref h.e0, .ref tt, .ref sv, .int zs, .ref da, .ref tx2_1, .ref wr, .int (nI (txS L).2), .int rf]))], [(tx2_1, .inr (13, [.ref x2_1.1, .int 0, .int x2_1.2.2.2, .int (nI ([] : List Int32).length)]))], [(x2_1.1, .inl (Γ.2.1 1, x2_1.2.1, .inl x2_1.2.2.1))], [(ou, .inl (Γ.2.1 3, 1, .inr (.inl ov)))]] H := hP
  have hD : WD A [[(b, .inr (0, [.ref h.e0, .ref tt, .ref sv, .int zs, .ref da, .ref tx2_1, .ref wr, .int (nI (txS L).2), .int rf]))], [(tx2_1, .inr (13, [.ref x2_1.1, .int 0, .int x2_1.2.2.2, .int (nI ([] : List Int32).length)]))], [(x2_1.1, .inl (Γ.2.1 1, x2_1.2.1, .inl x2_1.2.2.1))], [(ou, .inl (Γ.2.1 3, 1, .inr (.inl ov)))]] := hD
  refine vx_catch (name := "java/lang/IllegalArgumentException") hown [] ⟨0, 8, 11, 13⟩ [⟨0, 8, 14, 30⟩] (htb9.trans rfl) (fun z hz => nomatch hz) (by decide) (by decide) (hts _ q800) (va_Nw.use rfl (hE.1.1 _ q568 rfl)) hce_1 hcv_1 hcl_1 ?_
  refine W.eq (g2 := F0 mi_ 11 ls ([.ref q_1])) rfl ?_
  refine lv_astore_n (lv' := [(2, .ref q_1), (0, .ref b), (1, .ref ou)]) hx hb dX0_order_11 rfl hl (by decide) rfl (fun ls hl => ?_)
  refine lv_iconst (v := 1) hx hb dX0_order_12 (by decide) ?_
  exact b_iret hx hb hr hlocks hP hD hS (Nat.le_of_ble_eq_true rfl) (Nat.le_of_ble_eq_true rfl) ⟨tx2_1, x2_1, hs2_1, hz2_1, (by first | rfl | (simp; done)), (by first | rfl | (simp; done))⟩ dX0_order_13
set_option maxHeartbeats 4000000 in
set_option maxRecDepth 100000 in
theorem mt_Law_order_x2_1 (l : Launch) (Γ : GE) (sz : Nat) (b : Nat) (h : HB) (sv : Nat) (zs : Int32) (da : Nat) (tx : Nat) (wr : Nat) (fl : Int32) (rf : Int32) (t : HB) (dv : Nat) (df : Nat → Option Nat) (dp : Nat) (kn : Nat) (hk : Nat → HB) (P : va_W) (x : SBT) (L : List Int32) (Rl : Nat → HB → Prop) (jx : Nat) (rx : Int32) (ou : Nat) (ov : Nat → Int64) (hnt : l.stackTraces = false) (ho : hdOk Γ P h) (hko : ∀ k, k < kn → hdOk Γ P (hk k)) (hk8 : kn ≤ 8) (hdq : dqI df dp kn (kpA hk)) (ht0 : hdOk0 Γ t) (hsb : sbF 1 x L) (hmz : x.2.2.2 = 0) (hL5 : L.length ≤ 50) (hcs9 : (txS L).1 = 1) (hR0 : ∀ t2 : HB, hvEq t2 h → Rl 0 t2) (hjx : jx < (txPS L).length) (hr0 : ∀ (j : Nat) (t2 : HB) (q : CM), j < jx → cmOk L ((txPS L).getD j 0) q → Rl j t2 → cmRf q.w t2 q.f q.g = 0) (hrx : ∀ (t2 : HB) (q : CM), cmOk L ((txPS L).getD jx 0) q → Rl jx t2 → cmRf q.w t2 q.f q.g = rx) (hrp : 0 < rx) (hrs : ∀ (j : Nat) (t2 t3 : HB) (q : CM), j < (txPS L).length → cmOk L ((txPS L).getD j 0) q → Rl j t2 → cmSt q.w q.f q.g t2 t3 → Rl (j + 1) t3) : KMH l yX0_order cX0_order 3 (some FieldType.int) [(0, 8, 11, 13), (0, 8, 14, 30)] Γ 11 261 1000 70000 [.ref b, .ref ou] [[(b, .inr (0, [.ref h.e0, .ref t.e0, .ref sv, .int zs, .ref da, .ref tx, .ref wr, .int fl, .int rf]))], (hdB Γ h), (hdB Γ t), [(da, .inr (12, [.ref dv, .int (nI dp), .int (nI ((dp + kn) % 17))]))], [(dv, .inl (Γ.2.1 2, 17, .inr (.inr (.inr (.inr df)))))], (kpB Γ kn hk), P, [(tx, .inr (13, [.ref x.1, .int 1, .int x.2.2.2, .int (nI L.length)]))], [(x.1, .inl (Γ.2.1 1, 2 * x.2.1, .inl x.2.2.1))], [(ou, .inl (Γ.2.1 3, 1, .inr (.inl ov)))]] [] sz (Qi Γ (fun r_ u_ => ∃ tx2 : Nat, ∃ x2 : SBT, ∃ t9 : HB, ∃ P9 : va_W, sbF 0 x2 [] ∧ x2.2.2.2 = 0 ∧ hdOk0 Γ t9 ∧ (∀ z, z ∈ P → z ∈ P9) ∧ r_ = 2 ∧ u_ = [[(b, .inr (0, [.ref h.e0, .ref t9.e0, .ref sv, .int zs, .ref da, .ref tx2, .ref wr, .int (-1), .int rx]))], (hdB Γ h), (hdB Γ t9), [(da, .inr (12, [.ref dv, .int (nI dp), .int (nI ((dp + kn) % 17))]))], [(dv, .inl (Γ.2.1 2, 17, .inr (.inr (.inr (.inr df)))))], (kpB Γ kn hk), P9, [(tx2, .inr (13, [.ref x2.1, .int 0, .int x2.2.2.2, .int (nI ([] : List Int32).length)]))], [(x2.1, .inl (Γ.2.1 1, x2.2.1, .inl x2.2.2.1))], [(ou, .inl (Γ.2.1 3, 1, .inr (.inl ov)))]])) := by
  refine K_introH (by decide) (Nat.le_of_ble_eq_true rfl) ?_
  intro pr_ ev_ s mi_ below meth cd_ A ls hx hb hr hml hown hts hlocks hname hK hE hRo hP hD hA hS hsz hl htb9
  have hl : lv_has ls 3 [(0, .ref b), (1, .ref ou)] := hl
  have hown : s.vm.findClass RX0 = some mi_.cls := hown
  refine lv_aload_n hx hb dX0_order_0 rfl (lv_at hl 1 rfl) ?_
  refine lv_iconst (v := 0) hx hb dX0_order_1 (by decide) ?_
  refine lv_aload_n hx hb dX0_order_2 rfl (lv_at hl 0 rfl) ?_
  refine b_callx (br := [[(ou, .inl (Γ.2.1 3, 1, .inr (.inl ov)))]]) (b_runVXW ⟨hx, hb, hml, hown, hts⟩ (mt_DB_order_x2_1 l Γ _ b h sv zs da tx wr fl rf t dv df dp kn hk P x L Rl jx rx hnt ho hko hk8 hdq ht0 hsb hmz hL5 hcs9 hR0 hjx hr0 hrx hrp hrs) (lw_VW q1526 q1527 q1528 q62 q1529) rfl rfl 0 (by decide +kernel) ⟨(Nat.le_of_ble_eq_true rfl), (Nat.le_of_ble_eq_true rfl)⟩ (c_pre hP hD hS hA hK hE [0, 1, 2, 3, 4, 5, 6, 7, 8] rfl rfl ro_nil) (recv_at (q := (RX1, TX1, 9)) hK (b_at (k := 0) hP rfl) rfl) rfl hl.1 rfl (Nat.le_of_ble_eq_true rfl) dX0_order_3 ⟨(Nat.le_of_ble_eq_true rfl), (Nat.le_of_ble_eq_true rfl)⟩) hP hD hS hA [0, 1, 2, 3, 4, 5, 6, 7, 8] [9] rfl rfl rfl (fun q_1 ce_1 u_1 H locs hw_1 hP hD hS _ hce_1 hcv_1 hcl_1 => ?_)
  obtain ⟨tx2_1, x2_1, t9_1, P9_1, hs2_1, hz2_1, hto_1, hsP_1, rfl⟩ := hw_1
  have hP : WP Γ [[(b, .inr (0, [.ref h.e0, .ref t9_1.e0, .ref sv, .int zs, .ref da, .ref tx2_1, .ref wr, .int (-1), .int rx]))], (hdB Γ h), (hdB Γ t9_1), [(da, .inr (12, [.ref dv, .int (nI dp), .int (nI ((dp + kn) % 17))]))], [(dv, .inl (Γ.2.1 2, 17, .inr (.inr (.inr (.inr df)))))], (kpB Γ kn hk), P9_1, [(tx2_1, .inr (13, [.ref x2_1.1, .int 0, .int x2_1.2.2.2, .int (nI ([] : List Int32).length)]))], [(x2_1.1, .inl (Γ.2.1 1, x2_1.2.1, .inl x2_1.2.2.1))], [(ou, .inl (Γ.2.1 3, 1, .inr (.inl ov)))]] H := hP
  have hD : WD A [[(b, .inr (0, [.ref h.e0, .ref t9_1.e0, .ref sv, .int zs, .ref da, .ref tx2_1, .ref wr, .int (-1), .int rx]))], (hdB Γ h), (hdB Γ t9_1), [(da, .inr (12, [.ref dv, .int (nI dp), .int (nI ((dp + kn) % 17))]))], [(dv, .inl (Γ.2.1 2, 17, .inr (.inr (.inr (.inr df)))))], (kpB Γ kn hk), P9_1, [(tx2_1, .inr (13, [.ref x2_1.1, .int 0, .int x2_1.2.2.2, .int (nI ([] : List Int32).length)]))], [(x2_1.1, .inl (Γ.2.1 1, x2_1.2.1, .inl x2_1.2.2.1))], [(ou, .inl (Γ.2.1 3, 1, .inr (.inl ov)))]] := hD
  refine vx_catch (name := "java/lang/UnsupportedOperationException") hown [⟨0, 8, 11, 13⟩] ⟨0, 8, 14, 30⟩ [] (htb9.trans rfl) (fun z hz => by rw [List.mem_singleton.mp hz]; exact Or.inr ⟨by decide, "java/lang/IllegalArgumentException", hts _ q800, hE.1.2.2.2 _ (List.mem_of_getElem? (i := 5) rfl)⟩) (by decide) (by decide) (hts _ q948) (va_Nw.use rfl (hE.1.1 _ q983 rfl)) hce_1 hcv_1 hcl_1 ?_
  refine W.eq (g2 := F0 mi_ 14 ls ([.ref q_1])) rfl ?_
  refine lv_astore_n (lv' := [(2, .ref q_1), (0, .ref b), (1, .ref ou)]) hx hb dX0_order_14 rfl hl (by decide) rfl (fun ls hl => ?_)
  refine lv_iconst (v := 2) hx hb dX0_order_15 (by decide) ?_
  exact b_iret hx hb hr hlocks hP hD hS (Nat.le_of_ble_eq_true rfl) (Nat.le_of_ble_eq_true rfl) ⟨tx2_1, x2_1, t9_1, P9_1, hs2_1, hz2_1, hto_1, hsP_1, (by first | rfl | (simp; done)), (by first | rfl | (simp; done))⟩ dX0_order_16
set_option maxHeartbeats 4000000 in
set_option maxRecDepth 100000 in
theorem mt_Law_account_ok (l : Launch) (Γ : GE) (sz : Nat) (b : Nat) (h : HB) (tt : Nat) (sv : Nat) (zs : Int32) (da : Nat) (tx : Nat) (wr : Nat) (fl : Int32) (rf : Int32) (P : va_W) (w : Int32) (ou : Nat) (ov : Nat → Int64) (hnt : l.stackTraces = false) (ho : hdOk Γ P h) (hw9 : ¬ inC w 0 8 = 0) : KMH l yX0_account cX0_account 4 (some FieldType.int) [(0, 9, 12, 13)] Γ 6 3123 1 4 [.ref b, .int w, .ref ou] [[(b, .inr (0, [.ref h.e0, .ref tt, .ref sv, .int zs, .ref da, .ref tx, .ref wr, .int fl, .int rf]))], (hdB Γ h), [(ou, .inl (Γ.2.1 3, 1, .inr (.inl ov)))]] [P] sz (Qi Γ (fun r_ u_ => r_ = 0 ∧ u_ = [[(b, .inr (0, [.ref h.e0, .ref tt, .ref sv, .int zs, .ref da, .ref tx, .ref wr, .int fl, .int rf]))], (hdB Γ h), [(ou, .inl (Γ.2.1 3, 1, .inr (.inl (vp_updL ov 0 (accV h.S.cv h.S.pk h.S.pd h.S.np h.n w).toInt64))))]])) := by
  refine K_introH (by decide) (Nat.le_of_ble_eq_true rfl) ?_
  intro pr_ ev_ s mi_ below meth cd_ A ls hx hb hr hml hown hts hlocks hname hK hE hRo hP hD hA hS hsz hl htb9
  have hl : lv_has ls 4 [(0, .ref b), (1, .int w), (2, .ref ou)] := hl
  have hown : s.vm.findClass RX0 = some mi_.cls := hown
  refine lv_aload_n hx hb dX0_account_0 rfl (lv_at hl 2 rfl) ?_
  refine lv_iconst (v := 0) hx hb dX0_account_1 (by decide) ?_
  refine lv_aload_n hx hb dX0_account_2 rfl (lv_at hl 0 rfl) ?_
  refine lv_iload_n hx hb dX0_account_3 rfl (lv_at hl 1 rfl) ?_
  refine b_calli (br := [[(ou, .inl (Γ.2.1 3, 1, .inr (.inl ov)))]]) (b_runV ⟨hx, hb, hml, hown, hts⟩ (mt_DB_account_ok l Γ _ b h tt sv zs da tx wr fl rf P w ho hw9) (lw_V q1730 q1731 q1732 q62 q1733) rfl rfl 1 (by decide +kernel) ⟨(Nat.le_of_ble_eq_true rfl), (Nat.le_of_ble_eq_true rfl)⟩ (c_pre hP hD hS hA hK hE [0, 1] rfl rfl (ro_pass (ro_sel (ro2 := [P]) hRo [0] rfl) hD hS hA [0, 1] rfl)) (recv_at (q := (RX1, TX1, 9)) hK (b_at (k := 0) hP rfl) rfl) rfl hl.1 rfl (Nat.le_of_ble_eq_true rfl) dX0_account_4 ⟨(Nat.le_of_ble_eq_true rfl), (Nat.le_of_ble_eq_true rfl)⟩) hP hD hS hA [0, 1] [2] rfl rfl rfl (fun r_1 u_1 H locs hw_1 hP hD hS _ => ?_)
  obtain ⟨rfl, rfl⟩ := hw_1
  have hP : WP Γ [[(b, .inr (0, [.ref h.e0, .ref tt, .ref sv, .int zs, .ref da, .ref tx, .ref wr, .int fl, .int rf]))], (hdB Γ h), [(ou, .inl (Γ.2.1 3, 1, .inr (.inl ov)))]] H := hP
  have hD : WD A [[(b, .inr (0, [.ref h.e0, .ref tt, .ref sv, .int zs, .ref da, .ref tx, .ref wr, .int fl, .int rf]))], (hdB Γ h), [(ou, .inl (Γ.2.1 3, 1, .inr (.inl ov)))]] := hD
  refine lv_i2l hx hb dX0_account_7 rfl ?_
  refine b_last hx hb hK hP hD hS 2 rfl 0 rfl (by omega) (by omega) dX0_account_8 (fun H locs hP hD hS => ?_)
  have hP : WP Γ [[(b, .inr (0, [.ref h.e0, .ref tt, .ref sv, .int zs, .ref da, .ref tx, .ref wr, .int fl, .int rf]))], (hdB Γ h), [(ou, .inl (Γ.2.1 3, 1, .inr (.inl (vp_updL ov 0 (accV h.S.cv h.S.pk h.S.pd h.S.np h.n w).toInt64))))]] H := hP
  have hD : WD A [[(b, .inr (0, [.ref h.e0, .ref tt, .ref sv, .int zs, .ref da, .ref tx, .ref wr, .int fl, .int rf]))], (hdB Γ h), [(ou, .inl (Γ.2.1 3, 1, .inr (.inl (vp_updL ov 0 (accV h.S.cv h.S.pk h.S.pd h.S.np h.n w).toInt64))))]] := hD
  refine lv_goto (tgt := 15) hx hb dX0_account_9 (by decide) ?_
  refine lv_iconst (v := 0) hx hb dX0_account_15 (by decide) ?_
  exact b_iret hx hb hr hlocks hP hD hS (Nat.le_of_ble_eq_true rfl) (Nat.le_of_ble_eq_true rfl) ⟨(by first | rfl | (simp; done)), (by first | rfl | (simp; done))⟩ dX0_account_16
set_option maxHeartbeats 4000000 in
set_option maxRecDepth 100000 in
theorem mt_Law_account_x (l : Launch) (Γ : GE) (sz : Nat) (b : Nat) (h : HB) (tt : Nat) (sv : Nat) (zs : Int32) (da : Nat) (tx : Nat) (wr : Nat) (fl : Int32) (rf : Int32) (w : Int32) (ou : Nat) (ov : Nat → Int64) (hnt : l.stackTraces = false) (hx9 : inC w 0 8 = 0) : KMH l yX0_account cX0_account 4 (some FieldType.int) [(0, 9, 12, 13)] Γ 8 131 1 6 [.ref b, .int w, .ref ou] [[(b, .inr (0, [.ref h.e0, .ref tt, .ref sv, .int zs, .ref da, .ref tx, .ref wr, .int fl, .int rf]))], [(ou, .inl (Γ.2.1 3, 1, .inr (.inl ov)))]] [] sz (Qi Γ (fun r_ u_ => r_ = 1 ∧ u_ = [[(b, .inr (0, [.ref h.e0, .ref tt, .ref sv, .int zs, .ref da, .ref tx, .ref wr, .int fl, .int rf]))], [(ou, .inl (Γ.2.1 3, 1, .inr (.inl ov)))]])) := by
  refine K_introH (by decide) (Nat.le_of_ble_eq_true rfl) ?_
  intro pr_ ev_ s mi_ below meth cd_ A ls hx hb hr hml hown hts hlocks hname hK hE hRo hP hD hA hS hsz hl htb9
  have hl : lv_has ls 4 [(0, .ref b), (1, .int w), (2, .ref ou)] := hl
  have hown : s.vm.findClass RX0 = some mi_.cls := hown
  refine lv_aload_n hx hb dX0_account_0 rfl (lv_at hl 2 rfl) ?_
  refine lv_iconst (v := 0) hx hb dX0_account_1 (by decide) ?_
  refine lv_aload_n hx hb dX0_account_2 rfl (lv_at hl 0 rfl) ?_
  refine lv_iload_n hx hb dX0_account_3 rfl (lv_at hl 1 rfl) ?_
  refine b_callx (br := [[(ou, .inl (Γ.2.1 3, 1, .inr (.inl ov)))]]) (b_runVx ⟨hx, hb, hml, hown, hts⟩ (mt_DB_account_x l Γ _ b h tt sv zs da tx wr fl rf w hnt hx9) (lw_V q1730 q1731 q1732 q62 q1733) rfl rfl 1 (by decide +kernel) ⟨(Nat.le_of_ble_eq_true rfl), (Nat.le_of_ble_eq_true rfl)⟩ (c_pre hP hD hS hA hK hE [0] rfl rfl ro_nil) (recv_at (q := (RX1, TX1, 9)) hK (b_at (k := 0) hP rfl) rfl) rfl hl.1 rfl (Nat.le_of_ble_eq_true rfl) dX0_account_4 ⟨(Nat.le_of_ble_eq_true rfl), (Nat.le_of_ble_eq_true rfl)⟩) hP hD hS hA [0] [1] rfl rfl rfl (fun q_1 ce_1 u_1 H locs hw_1 hP hD hS _ hce_1 hcv_1 hcl_1 => ?_)
  obtain rfl := hw_1
  have hP : WP Γ [[(b, .inr (0, [.ref h.e0, .ref tt, .ref sv, .int zs, .ref da, .ref tx, .ref wr, .int fl, .int rf]))], [(ou, .inl (Γ.2.1 3, 1, .inr (.inl ov)))]] H := hP
  have hD : WD A [[(b, .inr (0, [.ref h.e0, .ref tt, .ref sv, .int zs, .ref da, .ref tx, .ref wr, .int fl, .int rf]))], [(ou, .inl (Γ.2.1 3, 1, .inr (.inl ov)))]] := hD
  refine vx_catch (name := "java/lang/IllegalArgumentException") hown [] ⟨0, 9, 12, 13⟩ [] (htb9.trans rfl) (fun z hz => nomatch hz) (by decide) (by decide) (hts _ q800) (va_Nw.use rfl (hE.1.1 _ q568 rfl)) hce_1 hcv_1 hcl_1 ?_
  refine W.eq (g2 := F0 mi_ 12 ls ([.ref q_1])) rfl ?_
  refine lv_astore_n (lv' := [(3, .ref q_1), (0, .ref b), (1, .int w), (2, .ref ou)]) hx hb dX0_account_12 rfl hl (by decide) rfl (fun ls hl => ?_)
  refine lv_iconst (v := 1) hx hb dX0_account_13 (by decide) ?_
  exact b_iret hx hb hr hlocks hP hD hS (Nat.le_of_ble_eq_true rfl) (Nat.le_of_ble_eq_true rfl) ⟨(by first | rfl | (simp; done)), (by first | rfl | (simp; done))⟩ dX0_account_14
set_option maxHeartbeats 4000000 in
set_option maxRecDepth 100000 in
theorem mt_Law_bestCow_ok (l : Launch) (Γ : GE) (sz : Nat) (b : Nat) (h : HB) (tt : Nat) (sv : Nat) (zs : Int32) (da : Nat) (tx : Nat) (wr : Nat) (fl : Int32) (rf : Int32) (P : va_W) (ou : Nat) (ov : Nat → Int64) (hnt : l.stackTraces = false) (ho : hdOk Γ P h) (hn0 : 0 < h.n) (hnum : ∀ k, k < h.n → h.S.cv k 0 = nI k) : KMH l yX0_bestCow cX0_bestCow 3 (some FieldType.int) [(0, 8, 11, 55)] Γ 4 94 1 4 [.ref b, .ref ou] [[(b, .inr (0, [.ref h.e0, .ref tt, .ref sv, .int zs, .ref da, .ref tx, .ref wr, .int fl, .int rf]))], (hdB Γ h), [(ou, .inl (Γ.2.1 3, 1, .inr (.inl ov)))]] [P] sz (Qi Γ (fun r_ u_ => r_ = 0 ∧ u_ = [[(b, .inr (0, [.ref h.e0, .ref tt, .ref sv, .int zs, .ref da, .ref tx, .ref wr, .int fl, .int rf]))], (hdB Γ h), [(ou, .inl (Γ.2.1 3, 1, .inr (.inl (vp_updL ov 0 (nI (bsN (fun q => h.S.cv q 10) h.n)).toInt64))))]])) := by
  refine K_introH (by decide) (Nat.le_of_ble_eq_true rfl) ?_
  intro pr_ ev_ s mi_ below meth cd_ A ls hx hb hr hml hown hts hlocks hname hK hE hRo hP hD hA hS hsz hl htb9
  have hl : lv_has ls 3 [(0, .ref b), (1, .ref ou)] := hl
  have hown : s.vm.findClass RX0 = some mi_.cls := hown
  refine lv_aload_n hx hb dX0_bestCow_0 rfl (lv_at hl 1 rfl) ?_
  refine lv_iconst (v := 0) hx hb dX0_bestCow_1 (by decide) ?_
  refine lv_aload_n hx hb dX0_bestCow_2 rfl (lv_at hl 0 rfl) ?_
  refine b_calli (br := [[(ou, .inl (Γ.2.1 3, 1, .inr (.inl ov)))]]) (b_runV ⟨hx, hb, hml, hown, hts⟩ (mt_DB_bestCow_ok l Γ _ b h tt sv zs da tx wr fl rf P ho hn0 hnum) (lw_V q1737 q1738 q1739 q62 q1740) rfl rfl 0 (by decide +kernel) ⟨(Nat.le_of_ble_eq_true rfl), (Nat.le_of_ble_eq_true rfl)⟩ (c_pre hP hD hS hA hK hE [0, 1] rfl rfl (ro_pass (ro_sel (ro2 := [P]) hRo [0] rfl) hD hS hA [0, 1] rfl)) (recv_at (q := (RX1, TX1, 9)) hK (b_at (k := 0) hP rfl) rfl) rfl hl.1 rfl (Nat.le_of_ble_eq_true rfl) dX0_bestCow_3 ⟨(Nat.le_of_ble_eq_true rfl), (Nat.le_of_ble_eq_true rfl)⟩) hP hD hS hA [0, 1] [2] rfl rfl rfl (fun r_1 u_1 H locs hw_1 hP hD hS _ => ?_)
  obtain ⟨rfl, rfl⟩ := hw_1
  have hP : WP Γ [[(b, .inr (0, [.ref h.e0, .ref tt, .ref sv, .int zs, .ref da, .ref tx, .ref wr, .int fl, .int rf]))], (hdB Γ h), [(ou, .inl (Γ.2.1 3, 1, .inr (.inl ov)))]] H := hP
  have hD : WD A [[(b, .inr (0, [.ref h.e0, .ref tt, .ref sv, .int zs, .ref da, .ref tx, .ref wr, .int fl, .int rf]))], (hdB Γ h), [(ou, .inl (Γ.2.1 3, 1, .inr (.inl ov)))]] := hD
  refine lv_i2l hx hb dX0_bestCow_6 rfl ?_
  refine b_last hx hb hK hP hD hS 2 rfl 0 rfl (by omega) (by omega) dX0_bestCow_7 (fun H locs hP hD hS => ?_)
  have hP : WP Γ [[(b, .inr (0, [.ref h.e0, .ref tt, .ref sv, .int zs, .ref da, .ref tx, .ref wr, .int fl, .int rf]))], (hdB Γ h), [(ou, .inl (Γ.2.1 3, 1, .inr (.inl (vp_updL ov 0 (nI (bsN (fun q => h.S.cv q 10) h.n)).toInt64))))]] H := hP
  have hD : WD A [[(b, .inr (0, [.ref h.e0, .ref tt, .ref sv, .int zs, .ref da, .ref tx, .ref wr, .int fl, .int rf]))], (hdB Γ h), [(ou, .inl (Γ.2.1 3, 1, .inr (.inl (vp_updL ov 0 (nI (bsN (fun q => h.S.cv q 10) h.n)).toInt64))))]] := hD
  refine lv_goto (tgt := 14) hx hb dX0_bestCow_8 (by decide) ?_
  refine lv_iconst (v := 0) hx hb dX0_bestCow_14 (by decide) ?_
  exact b_iret hx hb hr hlocks hP hD hS (Nat.le_of_ble_eq_true rfl) (Nat.le_of_ble_eq_true rfl) ⟨(by first | rfl | (simp; done)), (by first | rfl | (simp; done))⟩ dX0_bestCow_15
set_option maxHeartbeats 4000000 in
set_option maxRecDepth 100000 in
theorem mt_Law_bestCow_x (l : Launch) (Γ : GE) (sz : Nat) (b : Nat) (h : HB) (tt : Nat) (sv : Nat) (zs : Int32) (da : Nat) (tx : Nat) (wr : Nat) (fl : Int32) (rf : Int32) (P : va_W) (ou : Nat) (ov : Nat → Int64) (hnt : l.stackTraces = false) (ho : hdOk Γ P h) (hn0 : h.n = 0) : KMH l yX0_bestCow cX0_bestCow 3 (some FieldType.int) [(0, 8, 11, 55)] Γ 8 133 1 6 [.ref b, .ref ou] [[(b, .inr (0, [.ref h.e0, .ref tt, .ref sv, .int zs, .ref da, .ref tx, .ref wr, .int fl, .int rf]))], (hdB Γ h), [(ou, .inl (Γ.2.1 3, 1, .inr (.inl ov)))]] [P] sz (Qi Γ (fun r_ u_ => r_ = 1 ∧ u_ = [[(b, .inr (0, [.ref h.e0, .ref tt, .ref sv, .int zs, .ref da, .ref tx, .ref wr, .int fl, .int rf]))], (hdB Γ h), [(ou, .inl (Γ.2.1 3, 1, .inr (.inl ov)))]])) := by
  refine K_introH (by decide) (Nat.le_of_ble_eq_true rfl) ?_
  intro pr_ ev_ s mi_ below meth cd_ A ls hx hb hr hml hown hts hlocks hname hK hE hRo hP hD hA hS hsz hl htb9
  have hl : lv_has ls 3 [(0, .ref b), (1, .ref ou)] := hl
  have hown : s.vm.findClass RX0 = some mi_.cls := hown
  refine lv_aload_n hx hb dX0_bestCow_0 rfl (lv_at hl 1 rfl) ?_
  refine lv_iconst (v := 0) hx hb dX0_bestCow_1 (by decide) ?_
  refine lv_aload_n hx hb dX0_bestCow_2 rfl (lv_at hl 0 rfl) ?_
  refine b_callx (br := [[(ou, .inl (Γ.2.1 3, 1, .inr (.inl ov)))]]) (b_runVx ⟨hx, hb, hml, hown, hts⟩ (mt_DB_bestCow_x l Γ _ b h tt sv zs da tx wr fl rf P hnt ho hn0) (lw_V q1737 q1738 q1739 q62 q1740) rfl rfl 0 (by decide +kernel) ⟨(Nat.le_of_ble_eq_true rfl), (Nat.le_of_ble_eq_true rfl)⟩ (c_pre hP hD hS hA hK hE [0, 1] rfl rfl (ro_pass (ro_sel (ro2 := [P]) hRo [0] rfl) hD hS hA [0, 1] rfl)) (recv_at (q := (RX1, TX1, 9)) hK (b_at (k := 0) hP rfl) rfl) rfl hl.1 rfl (Nat.le_of_ble_eq_true rfl) dX0_bestCow_3 ⟨(Nat.le_of_ble_eq_true rfl), (Nat.le_of_ble_eq_true rfl)⟩) hP hD hS hA [0, 1] [2] rfl rfl rfl (fun q_1 ce_1 u_1 H locs hw_1 hP hD hS _ hce_1 hcv_1 hcl_1 => ?_)
  obtain rfl := hw_1
  have hP : WP Γ [[(b, .inr (0, [.ref h.e0, .ref tt, .ref sv, .int zs, .ref da, .ref tx, .ref wr, .int fl, .int rf]))], (hdB Γ h), [(ou, .inl (Γ.2.1 3, 1, .inr (.inl ov)))]] H := hP
  have hD : WD A [[(b, .inr (0, [.ref h.e0, .ref tt, .ref sv, .int zs, .ref da, .ref tx, .ref wr, .int fl, .int rf]))], (hdB Γ h), [(ou, .inl (Γ.2.1 3, 1, .inr (.inl ov)))]] := hD
  refine vx_catch (name := "java/util/NoSuchElementException") hown [] ⟨0, 8, 11, 55⟩ [] (htb9.trans rfl) (fun z hz => nomatch hz) (by decide) (by decide) (hts _ q1167) (va_Nw.use rfl (hE.1.1 _ q344 rfl)) hce_1 hcv_1 hcl_1 ?_
  refine W.eq (g2 := F0 mi_ 11 ls ([.ref q_1])) rfl ?_
  refine lv_astore_n (lv' := [(2, .ref q_1), (0, .ref b), (1, .ref ou)]) hx hb dX0_bestCow_11 rfl hl (by decide) rfl (fun ls hl => ?_)
  refine lv_iconst (v := 1) hx hb dX0_bestCow_12 (by decide) ?_
  exact b_iret hx hb hr hlocks hP hD hS (Nat.le_of_ble_eq_true rfl) (Nat.le_of_ble_eq_true rfl) ⟨(by first | rfl | (simp; done)), (by first | rfl | (simp; done))⟩ dX0_bestCow_13
set_option maxHeartbeats 4000000 in
set_option maxRecDepth 100000 in
theorem mt_Law_share_ok (l : Launch) (Γ : GE) (sz : Nat) (b : Nat) (h : HB) (tt : Nat) (sv : Nat) (zs : Int32) (da : Nat) (tx : Nat) (wr : Nat) (fl : Int32) (rf : Int32) (P : va_W) (ou : Nat) (ov : Nat → UInt64) (hnt : l.stackTraces = false) (ho : hdOk Γ P h) (hz : ¬ accV h.S.cv h.S.pk h.S.pd h.S.np h.n 3 = 0) (hnan : vf_n64 (FP.ddiv (FP.i2d (accV h.S.cv h.S.pk h.S.pd h.S.np h.n 4)) (FP.i2d (accV h.S.cv h.S.pk h.S.pd h.S.np h.n 3)))) : KMH l yX0_share cX0_share 3 (some FieldType.int) [(0, 7, 10, 112)] Γ 6 3123 2 8 [.ref b, .ref ou] [[(b, .inr (0, [.ref h.e0, .ref tt, .ref sv, .int zs, .ref da, .ref tx, .ref wr, .int fl, .int rf]))], (hdB Γ h), [(ou, .inl (Γ.2.1 4, 1, .inr (.inr (.inr (.inl ov)))))]] [P] sz (Qi Γ (fun r_ u_ => r_ = 0 ∧ u_ = [[(b, .inr (0, [.ref h.e0, .ref tt, .ref sv, .int zs, .ref da, .ref tx, .ref wr, .int fl, .int rf]))], (hdB Γ h), [(ou, .inl (Γ.2.1 4, 1, .inr (.inr (.inr (.inl (vf_upd ov 0 (FP.ddiv (FP.i2d (accV h.S.cv h.S.pk h.S.pd h.S.np h.n 4)) (FP.i2d (accV h.S.cv h.S.pk h.S.pd h.S.np h.n 3)))))))))]])) := by
  refine K_introH (by decide) (Nat.le_of_ble_eq_true rfl) ?_
  intro pr_ ev_ s mi_ below meth cd_ A ls hx hb hr hml hown hts hlocks hname hK hE hRo hP hD hA hS hsz hl htb9
  have hl : lv_has ls 3 [(0, .ref b), (1, .ref ou)] := hl
  have hown : s.vm.findClass RX0 = some mi_.cls := hown
  refine lv_aload_n hx hb dX0_share_0 rfl (lv_at hl 1 rfl) ?_
  refine lv_iconst (v := 0) hx hb dX0_share_1 (by decide) ?_
  refine lv_aload_n hx hb dX0_share_2 rfl (lv_at hl 0 rfl) ?_
  refine b_calld (br := [[(ou, .inl (Γ.2.1 4, 1, .inr (.inr (.inr (.inl ov)))))]]) (b_runV ⟨hx, hb, hml, hown, hts⟩ (mt_DB_share_ok l Γ _ b h tt sv zs da tx wr fl rf P ho hz hnan) (lw_V q1758 q1759 q1760 q62 q1761) rfl rfl 0 (by decide +kernel) ⟨(Nat.le_of_ble_eq_true rfl), (Nat.le_of_ble_eq_true rfl)⟩ (c_pre hP hD hS hA hK hE [0, 1] rfl rfl (ro_pass (ro_sel (ro2 := [P]) hRo [0] rfl) hD hS hA [0, 1] rfl)) (recv_at (q := (RX1, TX1, 9)) hK (b_at (k := 0) hP rfl) rfl) rfl hl.1 rfl (Nat.le_of_ble_eq_true rfl) dX0_share_3 ⟨(Nat.le_of_ble_eq_true rfl), (Nat.le_of_ble_eq_true rfl)⟩) hP hD hS hA [0, 1] [2] rfl rfl rfl (fun r_1 u_1 H locs hw_1 hP hD hS _ => ?_)
  obtain ⟨rfl, rfl⟩ := hw_1
  have hP : WP Γ [[(b, .inr (0, [.ref h.e0, .ref tt, .ref sv, .int zs, .ref da, .ref tx, .ref wr, .int fl, .int rf]))], (hdB Γ h), [(ou, .inl (Γ.2.1 4, 1, .inr (.inr (.inr (.inl ov)))))]] H := hP
  have hD : WD A [[(b, .inr (0, [.ref h.e0, .ref tt, .ref sv, .int zs, .ref da, .ref tx, .ref wr, .int fl, .int rf]))], (hdB Γ h), [(ou, .inl (Γ.2.1 4, 1, .inr (.inr (.inr (.inl ov)))))]] := hD
  refine b_dast hx hb hK hP hD hS 2 rfl 0 rfl (by omega) (by omega) dX0_share_6 (fun H locs hP hD hS => ?_)
  have hP : WP Γ [[(b, .inr (0, [.ref h.e0, .ref tt, .ref sv, .int zs, .ref da, .ref tx, .ref wr, .int fl, .int rf]))], (hdB Γ h), [(ou, .inl (Γ.2.1 4, 1, .inr (.inr (.inr (.inl (vf_upd ov 0 (FP.ddiv (FP.i2d (accV h.S.cv h.S.pk h.S.pd h.S.np h.n 4)) (FP.i2d (accV h.S.cv h.S.pk h.S.pd h.S.np h.n 3)))))))))]] H := hP
  have hD : WD A [[(b, .inr (0, [.ref h.e0, .ref tt, .ref sv, .int zs, .ref da, .ref tx, .ref wr, .int fl, .int rf]))], (hdB Γ h), [(ou, .inl (Γ.2.1 4, 1, .inr (.inr (.inr (.inl (vf_upd ov 0 (FP.ddiv (FP.i2d (accV h.S.cv h.S.pk h.S.pd h.S.np h.n 4)) (FP.i2d (accV h.S.cv h.S.pk h.S.pd h.S.np h.n 3)))))))))]] := hD
  refine lv_goto (tgt := 13) hx hb dX0_share_7 (by decide) ?_
  refine lv_iconst (v := 0) hx hb dX0_share_13 (by decide) ?_
  exact b_iret hx hb hr hlocks hP hD hS (Nat.le_of_ble_eq_true rfl) (Nat.le_of_ble_eq_true rfl) ⟨(by first | rfl | (simp; done)), (by first | rfl | (simp; done))⟩ dX0_share_14
set_option maxHeartbeats 4000000 in
set_option maxRecDepth 100000 in
theorem mt_Law_share_x (l : Launch) (Γ : GE) (sz : Nat) (b : Nat) (h : HB) (tt : Nat) (sv : Nat) (zs : Int32) (da : Nat) (tx : Nat) (wr : Nat) (fl : Int32) (rf : Int32) (P : va_W) (ou : Nat) (ov : Nat → UInt64) (hnt : l.stackTraces = false) (ho : hdOk Γ P h) (hz : accV h.S.cv h.S.pk h.S.pd h.S.np h.n 3 = 0) : KMH l yX0_share cX0_share 3 (some FieldType.int) [(0, 7, 10, 112)] Γ 7 3123 2 10 [.ref b, .ref ou] [[(b, .inr (0, [.ref h.e0, .ref tt, .ref sv, .int zs, .ref da, .ref tx, .ref wr, .int fl, .int rf]))], (hdB Γ h), [(ou, .inl (Γ.2.1 4, 1, .inr (.inr (.inr (.inl ov)))))]] [P] sz (Qi Γ (fun r_ u_ => r_ = 1 ∧ u_ = [[(b, .inr (0, [.ref h.e0, .ref tt, .ref sv, .int zs, .ref da, .ref tx, .ref wr, .int fl, .int rf]))], (hdB Γ h), [(ou, .inl (Γ.2.1 4, 1, .inr (.inr (.inr (.inl ov)))))]])) := by
  refine K_introH (by decide) (Nat.le_of_ble_eq_true rfl) ?_
  intro pr_ ev_ s mi_ below meth cd_ A ls hx hb hr hml hown hts hlocks hname hK hE hRo hP hD hA hS hsz hl htb9
  have hl : lv_has ls 3 [(0, .ref b), (1, .ref ou)] := hl
  have hown : s.vm.findClass RX0 = some mi_.cls := hown
  refine lv_aload_n hx hb dX0_share_0 rfl (lv_at hl 1 rfl) ?_
  refine lv_iconst (v := 0) hx hb dX0_share_1 (by decide) ?_
  refine lv_aload_n hx hb dX0_share_2 rfl (lv_at hl 0 rfl) ?_
  refine b_callx (br := [[(ou, .inl (Γ.2.1 4, 1, .inr (.inr (.inr (.inl ov)))))]]) (b_runVx ⟨hx, hb, hml, hown, hts⟩ (mt_DB_share_x l Γ _ b h tt sv zs da tx wr fl rf P hnt ho hz) (lw_V q1758 q1759 q1760 q62 q1761) rfl rfl 0 (by decide +kernel) ⟨(Nat.le_of_ble_eq_true rfl), (Nat.le_of_ble_eq_true rfl)⟩ (c_pre hP hD hS hA hK hE [0, 1] rfl rfl (ro_pass (ro_sel (ro2 := [P]) hRo [0] rfl) hD hS hA [0, 1] rfl)) (recv_at (q := (RX1, TX1, 9)) hK (b_at (k := 0) hP rfl) rfl) rfl hl.1 rfl (Nat.le_of_ble_eq_true rfl) dX0_share_3 ⟨(Nat.le_of_ble_eq_true rfl), (Nat.le_of_ble_eq_true rfl)⟩) hP hD hS hA [0, 1] [2] rfl rfl rfl (fun q_1 ce_1 u_1 H locs hw_1 hP hD hS _ hce_1 hcv_1 hcl_1 => ?_)
  obtain rfl := hw_1
  have hP : WP Γ [[(b, .inr (0, [.ref h.e0, .ref tt, .ref sv, .int zs, .ref da, .ref tx, .ref wr, .int fl, .int rf]))], (hdB Γ h), [(ou, .inl (Γ.2.1 4, 1, .inr (.inr (.inr (.inl ov)))))]] H := hP
  have hD : WD A [[(b, .inr (0, [.ref h.e0, .ref tt, .ref sv, .int zs, .ref da, .ref tx, .ref wr, .int fl, .int rf]))], (hdB Γ h), [(ou, .inl (Γ.2.1 4, 1, .inr (.inr (.inr (.inl ov)))))]] := hD
  refine vx_catch (name := "java/lang/ArithmeticException") hown [] ⟨0, 7, 10, 112⟩ [] (htb9.trans rfl) (fun z hz => nomatch hz) (by decide) (by decide) (hts _ q1744) (va_Nw.use rfl (hE.1.1 _ q1756 rfl)) hce_1 hcv_1 hcl_1 ?_
  refine W.eq (g2 := F0 mi_ 10 ls ([.ref q_1])) rfl ?_
  refine lv_astore_n (lv' := [(2, .ref q_1), (0, .ref b), (1, .ref ou)]) hx hb dX0_share_10 rfl hl (by decide) rfl (fun ls hl => ?_)
  refine lv_iconst (v := 1) hx hb dX0_share_11 (by decide) ?_
  exact b_iret hx hb hr hlocks hP hD hS (Nat.le_of_ble_eq_true rfl) (Nat.le_of_ble_eq_true rfl) ⟨(by first | rfl | (simp; done)), (by first | rfl | (simp; done))⟩ dX0_share_12
set_option maxHeartbeats 4000000 in
set_option maxRecDepth 100000 in
theorem mt_Law_undo_ok (l : Launch) (Γ : GE) (sz : Nat) (b : Nat) (h : HB) (tt : Nat) (sv : Nat) (zs : Int32) (da : Nat) (tx : Nat) (wr : Nat) (fl : Int32) (rf : Int32) (dv : Nat) (df : Nat → Option Nat) (dp : Nat) (kn : Nat) (hk : Nat → HB) (P : va_W) (ou : Nat) (ov : Nat → Int64) (hnt : l.stackTraces = false) (ho0 : hdOk0 Γ h) (hl9 : hdOk Γ P (hk kn)) (hk7 : kn ≤ 7) (hdq : dqI df dp (kn + 1) (kpA hk)) : KMH l yX0_undo cX0_undo 3 (some FieldType.int) [(0, 8, 11, 15)] Γ 9 234 (2 * (hk kn).n + 5) (112 * (hk kn).n + 404) [.ref b, .ref ou] [[(b, .inr (0, [.ref h.e0, .ref tt, .ref sv, .int zs, .ref da, .ref tx, .ref wr, .int fl, .int rf]))], (hdB Γ h), [(da, .inr (12, [.ref dv, .int (nI dp), .int (nI ((dp + (kn + 1)) % 17))]))], [(dv, .inl (Γ.2.1 2, 17, .inr (.inr (.inr (.inr df)))))], (kpB Γ (kn + 1) hk), [(ou, .inl (Γ.2.1 3, 1, .inr (.inl ov)))]] [P] sz (Qi Γ (fun r_ u_ => ∃ g : HB, ∃ f2 : Nat → Option Nat, hvEq g (hk kn) ∧ hdOk Γ P g ∧ dqI f2 dp kn (kpA hk) ∧ r_ = 0 ∧ u_ = [[(b, .inr (0, [.ref g.e0, .ref tt, .ref sv, .int zs, .ref da, .ref tx, .ref wr, .int fl, .int rf]))], (hdB Γ g), [(da, .inr (12, [.ref dv, .int (nI dp), .int (nI ((dp + kn) % 17))]))], [(dv, .inl (Γ.2.1 2, 17, .inr (.inr (.inr (.inr f2)))))], (kpB Γ kn hk), [(ou, .inl (Γ.2.1 3, 1, .inr (.inl (vp_updL ov 0 (nI kn).toInt64))))]])) := by
  refine K_introH (by decide) (Nat.le_of_ble_eq_true rfl) ?_
  intro pr_ ev_ s mi_ below meth cd_ A ls hx hb hr hml hown hts hlocks hname hK hE hRo hP hD hA hS hsz hl htb9
  have hl : lv_has ls 3 [(0, .ref b), (1, .ref ou)] := hl
  have hown : s.vm.findClass RX0 = some mi_.cls := hown
  refine lv_aload_n hx hb dX0_undo_0 rfl (lv_at hl 1 rfl) ?_
  refine lv_iconst (v := 0) hx hb dX0_undo_1 (by decide) ?_
  refine lv_aload_n hx hb dX0_undo_2 rfl (lv_at hl 0 rfl) ?_
  refine b_calli (br := [[(ou, .inl (Γ.2.1 3, 1, .inr (.inl ov)))]]) (b_runV ⟨hx, hb, hml, hown, hts⟩ (mt_DB_undo_ok l Γ _ b h tt sv zs da tx wr fl rf dv df dp kn hk P ho0 hl9 hk7 hdq) (lw_V q1770 q1771 q1772 q62 q1773) rfl rfl 0 (by decide +kernel) ⟨(Nat.le_of_ble_eq_true rfl), (Nat.le_of_ble_eq_true rfl)⟩ (c_pre hP hD hS hA hK hE [0, 1, 2, 3, 4] rfl rfl (ro_pass (ro_sel (ro2 := [P]) hRo [0] rfl) hD hS hA [0, 1, 2, 3, 4] rfl)) (recv_at (q := (RX1, TX1, 9)) hK (b_at (k := 0) hP rfl) rfl) rfl hl.1 rfl (Nat.le_of_ble_eq_true rfl) dX0_undo_3 ⟨(by first | omega | (dsimp only; omega)), (by first | omega | (dsimp only; omega))⟩) hP hD hS hA [0, 1, 2, 3, 4] [5] rfl rfl rfl (fun r_1 u_1 H locs hw_1 hP hD hS _ => ?_)
  obtain ⟨g_1, f2_1, hv_1, hG_1, hq_1, rfl, rfl⟩ := hw_1
  have hP : WP Γ [[(b, .inr (0, [.ref g_1.e0, .ref tt, .ref sv, .int zs, .ref da, .ref tx, .ref wr, .int fl, .int rf]))], (hdB Γ g_1), [(da, .inr (12, [.ref dv, .int (nI dp), .int (nI ((dp + kn) % 17))]))], [(dv, .inl (Γ.2.1 2, 17, .inr (.inr (.inr (.inr f2_1)))))], (kpB Γ kn hk), [(ou, .inl (Γ.2.1 3, 1, .inr (.inl ov)))]] H := hP
  have hD : WD A [[(b, .inr (0, [.ref g_1.e0, .ref tt, .ref sv, .int zs, .ref da, .ref tx, .ref wr, .int fl, .int rf]))], (hdB Γ g_1), [(da, .inr (12, [.ref dv, .int (nI dp), .int (nI ((dp + kn) % 17))]))], [(dv, .inl (Γ.2.1 2, 17, .inr (.inr (.inr (.inr f2_1)))))], (kpB Γ kn hk), [(ou, .inl (Γ.2.1 3, 1, .inr (.inl ov)))]] := hD
  refine lv_i2l hx hb dX0_undo_6 rfl ?_
  refine b_last hx hb hK hP hD hS 5 rfl 0 rfl (by omega) (by omega) dX0_undo_7 (fun H locs hP hD hS => ?_)
  have hP : WP Γ [[(b, .inr (0, [.ref g_1.e0, .ref tt, .ref sv, .int zs, .ref da, .ref tx, .ref wr, .int fl, .int rf]))], (hdB Γ g_1), [(da, .inr (12, [.ref dv, .int (nI dp), .int (nI ((dp + kn) % 17))]))], [(dv, .inl (Γ.2.1 2, 17, .inr (.inr (.inr (.inr f2_1)))))], (kpB Γ kn hk), [(ou, .inl (Γ.2.1 3, 1, .inr (.inl (vp_updL ov 0 (nI kn).toInt64))))]] H := hP
  have hD : WD A [[(b, .inr (0, [.ref g_1.e0, .ref tt, .ref sv, .int zs, .ref da, .ref tx, .ref wr, .int fl, .int rf]))], (hdB Γ g_1), [(da, .inr (12, [.ref dv, .int (nI dp), .int (nI ((dp + kn) % 17))]))], [(dv, .inl (Γ.2.1 2, 17, .inr (.inr (.inr (.inr f2_1)))))], (kpB Γ kn hk), [(ou, .inl (Γ.2.1 3, 1, .inr (.inl (vp_updL ov 0 (nI kn).toInt64))))]] := hD
  refine lv_goto (tgt := 14) hx hb dX0_undo_8 (by decide) ?_
  refine lv_iconst (v := 0) hx hb dX0_undo_14 (by decide) ?_
  exact b_iret hx hb hr hlocks hP hD hS (by first | omega | (dsimp only; omega)) (by first | omega | (dsimp only; omega)) ⟨g_1, f2_1, hv_1, hG_1, hq_1, (by first | rfl | (simp; done)), (by first | rfl | (simp; done))⟩ dX0_undo_15
set_option maxHeartbeats 4000000 in
set_option maxRecDepth 100000 in
theorem mt_Law_undo_x (l : Launch) (Γ : GE) (sz : Nat) (b : Nat) (h : HB) (tt : Nat) (sv : Nat) (zs : Int32) (da : Nat) (tx : Nat) (wr : Nat) (fl : Int32) (rf : Int32) (dv : Nat) (df : Nat → Option Nat) (dp : Nat) (ou : Nat) (ov : Nat → Int64) (hnt : l.stackTraces = false) (hdb : dp < 17) : KMH l yX0_undo cX0_undo 3 (some FieldType.int) [(0, 8, 11, 15)] Γ 8 130 1 6 [.ref b, .ref ou] [[(b, .inr (0, [.ref h.e0, .ref tt, .ref sv, .int zs, .ref da, .ref tx, .ref wr, .int fl, .int rf]))], [(da, .inr (12, [.ref dv, .int (nI dp), .int (nI ((dp + 0) % 17))]))], [(dv, .inl (Γ.2.1 2, 17, .inr (.inr (.inr (.inr df)))))], [(ou, .inl (Γ.2.1 3, 1, .inr (.inl ov)))]] [] sz (Qi Γ (fun r_ u_ => r_ = 1 ∧ u_ = [[(b, .inr (0, [.ref h.e0, .ref tt, .ref sv, .int zs, .ref da, .ref tx, .ref wr, .int fl, .int rf]))], [(da, .inr (12, [.ref dv, .int (nI dp), .int (nI ((dp + 0) % 17))]))], [(dv, .inl (Γ.2.1 2, 17, .inr (.inr (.inr (.inr df)))))], [(ou, .inl (Γ.2.1 3, 1, .inr (.inl ov)))]])) := by
  refine K_introH (by decide) (Nat.le_of_ble_eq_true rfl) ?_
  intro pr_ ev_ s mi_ below meth cd_ A ls hx hb hr hml hown hts hlocks hname hK hE hRo hP hD hA hS hsz hl htb9
  have hl : lv_has ls 3 [(0, .ref b), (1, .ref ou)] := hl
  have hown : s.vm.findClass RX0 = some mi_.cls := hown
  refine lv_aload_n hx hb dX0_undo_0 rfl (lv_at hl 1 rfl) ?_
  refine lv_iconst (v := 0) hx hb dX0_undo_1 (by decide) ?_
  refine lv_aload_n hx hb dX0_undo_2 rfl (lv_at hl 0 rfl) ?_
  refine b_callx (br := [[(ou, .inl (Γ.2.1 3, 1, .inr (.inl ov)))]]) (b_runVx ⟨hx, hb, hml, hown, hts⟩ (mt_DB_undo_x l Γ _ b h tt sv zs da tx wr fl rf dv df dp hnt hdb) (lw_V q1770 q1771 q1772 q62 q1773) rfl rfl 0 (by decide +kernel) ⟨(Nat.le_of_ble_eq_true rfl), (Nat.le_of_ble_eq_true rfl)⟩ (c_pre hP hD hS hA hK hE [0, 1, 2] rfl rfl ro_nil) (recv_at (q := (RX1, TX1, 9)) hK (b_at (k := 0) hP rfl) rfl) rfl hl.1 rfl (Nat.le_of_ble_eq_true rfl) dX0_undo_3 ⟨(Nat.le_of_ble_eq_true rfl), (Nat.le_of_ble_eq_true rfl)⟩) hP hD hS hA [0, 1, 2] [3] rfl rfl rfl (fun q_1 ce_1 u_1 H locs hw_1 hP hD hS _ hce_1 hcv_1 hcl_1 => ?_)
  obtain rfl := hw_1
  have hP : WP Γ [[(b, .inr (0, [.ref h.e0, .ref tt, .ref sv, .int zs, .ref da, .ref tx, .ref wr, .int fl, .int rf]))], [(da, .inr (12, [.ref dv, .int (nI dp), .int (nI ((dp + 0) % 17))]))], [(dv, .inl (Γ.2.1 2, 17, .inr (.inr (.inr (.inr df)))))], [(ou, .inl (Γ.2.1 3, 1, .inr (.inl ov)))]] H := hP
  have hD : WD A [[(b, .inr (0, [.ref h.e0, .ref tt, .ref sv, .int zs, .ref da, .ref tx, .ref wr, .int fl, .int rf]))], [(da, .inr (12, [.ref dv, .int (nI dp), .int (nI ((dp + 0) % 17))]))], [(dv, .inl (Γ.2.1 2, 17, .inr (.inr (.inr (.inr df)))))], [(ou, .inl (Γ.2.1 3, 1, .inr (.inl ov)))]] := hD
  refine vx_catch (name := "java/lang/IllegalStateException") hown [] ⟨0, 8, 11, 15⟩ [] (htb9.trans rfl) (fun z hz => nomatch hz) (by decide) (by decide) (hts _ q801) (va_Nw.use rfl (hE.1.1 _ q826 rfl)) hce_1 hcv_1 hcl_1 ?_
  refine W.eq (g2 := F0 mi_ 11 ls ([.ref q_1])) rfl ?_
  refine lv_astore_n (lv' := [(2, .ref q_1), (0, .ref b), (1, .ref ou)]) hx hb dX0_undo_11 rfl hl (by decide) rfl (fun ls hl => ?_)
  refine lv_iconst (v := 1) hx hb dX0_undo_12 (by decide) ?_
  exact b_iret hx hb hr hlocks hP hD hS (Nat.le_of_ble_eq_true rfl) (Nat.le_of_ble_eq_true rfl) ⟨(by first | rfl | (simp; done)), (by first | rfl | (simp; done))⟩ dX0_undo_13
set_option maxHeartbeats 4000000 in
set_option maxRecDepth 100000 in
theorem mt_Law_restore_ok (l : Launch) (Γ : GE) (sz : Nat) (b : Nat) (h : HB) (tt : Nat) (zs : Int32) (da : Nat) (tx : Nat) (wr : Nat) (fl : Int32) (rf : Int32) (t : HB) (dv : Nat) (df : Nat → Option Nat) (dp : Nat) (kn : Nat) (hk : Nat → HB) (P : va_W) (hnt : l.stackTraces = false) (ht : hdOk Γ P t) (ho0 : hdOk0 Γ h) (hz9 : ¬ zs = 0) (hdq : dqI df dp kn (kpA hk)) : KMH l yX0_restore cX0_restore 2 (some FieldType.int) [(0, 4, 7, 15)] Γ 9 234 (2 * t.n + 5) (112 * t.n + 404) [.ref b] [[(b, .inr (0, [.ref h.e0, .ref tt, .ref t.e0, .int zs, .ref da, .ref tx, .ref wr, .int fl, .int rf]))], (hdB Γ h), (hdB Γ t), [(da, .inr (12, [.ref dv, .int (nI dp), .int (nI ((dp + kn) % 17))]))], [(dv, .inl (Γ.2.1 2, 17, .inr (.inr (.inr (.inr df)))))]] [P] sz (Qi Γ (fun r_ u_ => ∃ g : HB, ∃ f2 : Nat → Option Nat, hvEq g t ∧ hdOk Γ P g ∧ r_ = 0 ∧ u_ = [[(b, .inr (0, [.ref g.e0, .ref tt, .ref t.e0, .int zs, .ref da, .ref tx, .ref wr, .int fl, .int rf]))], (hdB Γ g), (hdB Γ t), [(da, .inr (12, [.ref dv, .int (nI 0), .int (nI ((0 + 0) % 17))]))], [(dv, .inl (Γ.2.1 2, 17, .inr (.inr (.inr (.inr f2)))))]])) := by
  refine K_introH (by decide) (Nat.le_of_ble_eq_true rfl) ?_
  intro pr_ ev_ s mi_ below meth cd_ A ls hx hb hr hml hown hts hlocks hname hK hE hRo hP hD hA hS hsz hl htb9
  have hl : lv_has ls 2 [(0, .ref b)] := hl
  have hown : s.vm.findClass RX0 = some mi_.cls := hown
  refine lv_aload_n hx hb dX0_restore_0 rfl (lv_at hl 0 rfl) ?_
  refine b_callv (br := []) (b_runV ⟨hx, hb, hml, hown, hts⟩ (mt_DB_restore_ok l Γ _ b h tt zs da tx wr fl rf t dv df dp kn hk P ht ho0 hz9 hdq) (lw_V q1788 q1789 q1790 q62 q1791) rfl rfl 0 (by decide +kernel) ⟨(Nat.le_of_ble_eq_true rfl), (Nat.le_of_ble_eq_true rfl)⟩ (c_pre hP hD hS hA hK hE [0, 1, 2, 3, 4] rfl rfl (ro_pass (ro_sel (ro2 := [P]) hRo [0] rfl) hD hS hA [0, 1, 2, 3, 4] rfl)) (recv_at (q := (RX1, TX1, 9)) hK (b_at (k := 0) hP rfl) rfl) rfl hl.1 rfl (Nat.le_of_ble_eq_true rfl) dX0_restore_1 ⟨(by first | omega | (dsimp only; omega)), (by first | omega | (dsimp only; omega))⟩) hP hD hS hA [0, 1, 2, 3, 4] [] rfl rfl rfl (fun u_1 H locs hw_1 hP hD hS _ => ?_)
  obtain ⟨g_1, f2_1, hv_1, hG_1, rfl⟩ := hw_1
  have hP : WP Γ [[(b, .inr (0, [.ref g_1.e0, .ref tt, .ref t.e0, .int zs, .ref da, .ref tx, .ref wr, .int fl, .int rf]))], (hdB Γ g_1), (hdB Γ t), [(da, .inr (12, [.ref dv, .int (nI 0), .int (nI ((0 + 0) % 17))]))], [(dv, .inl (Γ.2.1 2, 17, .inr (.inr (.inr (.inr f2_1)))))]] H := hP
  have hD : WD A [[(b, .inr (0, [.ref g_1.e0, .ref tt, .ref t.e0, .int zs, .ref da, .ref tx, .ref wr, .int fl, .int rf]))], (hdB Γ g_1), (hdB Γ t), [(da, .inr (12, [.ref dv, .int (nI 0), .int (nI ((0 + 0) % 17))]))], [(dv, .inl (Γ.2.1 2, 17, .inr (.inr (.inr (.inr f2_1)))))]] := hD
  refine lv_goto (tgt := 10) hx hb dX0_restore_4 (by decide) ?_
  refine lv_iconst (v := 0) hx hb dX0_restore_10 (by decide) ?_
  exact b_iret hx hb hr hlocks hP hD hS (by first | omega | (dsimp only; omega)) (by first | omega | (dsimp only; omega)) ⟨g_1, f2_1, hv_1, hG_1, (by first | rfl | (simp; done)), (by first | rfl | (simp; done))⟩ dX0_restore_11
set_option maxHeartbeats 4000000 in
set_option maxRecDepth 100000 in
theorem mt_Law_restore_x (l : Launch) (Γ : GE) (sz : Nat) (b : Nat) (h : HB) (tt : Nat) (sv : Nat) (zs : Int32) (da : Nat) (tx : Nat) (wr : Nat) (fl : Int32) (rf : Int32) (hnt : l.stackTraces = false) (hz9 : zs = 0) : KMH l yX0_restore cX0_restore 2 (some FieldType.int) [(0, 4, 7, 15)] Γ 8 130 1 6 [.ref b] [[(b, .inr (0, [.ref h.e0, .ref tt, .ref sv, .int zs, .ref da, .ref tx, .ref wr, .int fl, .int rf]))]] [] sz (Qi Γ (fun r_ u_ => r_ = 1 ∧ u_ = [[(b, .inr (0, [.ref h.e0, .ref tt, .ref sv, .int zs, .ref da, .ref tx, .ref wr, .int fl, .int rf]))]])) := by
  refine K_introH (by decide) (Nat.le_of_ble_eq_true rfl) ?_
  intro pr_ ev_ s mi_ below meth cd_ A ls hx hb hr hml hown hts hlocks hname hK hE hRo hP hD hA hS hsz hl htb9
  have hl : lv_has ls 2 [(0, .ref b)] := hl
  have hown : s.vm.findClass RX0 = some mi_.cls := hown
  refine lv_aload_n hx hb dX0_restore_0 rfl (lv_at hl 0 rfl) ?_
  refine b_callx (br := []) (b_runVx ⟨hx, hb, hml, hown, hts⟩ (mt_DB_restore_x l Γ _ b h tt sv zs da tx wr fl rf hnt hz9) (lw_V q1788 q1789 q1790 q62 q1791) rfl rfl 0 (by decide +kernel) ⟨(Nat.le_of_ble_eq_true rfl), (Nat.le_of_ble_eq_true rfl)⟩ (c_pre hP hD hS hA hK hE [0] rfl rfl ro_nil) (recv_at (q := (RX1, TX1, 9)) hK (b_at (k := 0) hP rfl) rfl) rfl hl.1 rfl (Nat.le_of_ble_eq_true rfl) dX0_restore_1 ⟨(Nat.le_of_ble_eq_true rfl), (Nat.le_of_ble_eq_true rfl)⟩) hP hD hS hA [0] [] rfl rfl rfl (fun q_1 ce_1 u_1 H locs hw_1 hP hD hS _ hce_1 hcv_1 hcl_1 => ?_)
  obtain rfl := hw_1
  have hP : WP Γ [[(b, .inr (0, [.ref h.e0, .ref tt, .ref sv, .int zs, .ref da, .ref tx, .ref wr, .int fl, .int rf]))]] H := hP
  have hD : WD A [[(b, .inr (0, [.ref h.e0, .ref tt, .ref sv, .int zs, .ref da, .ref tx, .ref wr, .int fl, .int rf]))]] := hD
  refine vx_catch (name := "java/lang/IllegalStateException") hown [] ⟨0, 4, 7, 15⟩ [] (htb9.trans rfl) (fun z hz => nomatch hz) (by decide) (by decide) (hts _ q801) (va_Nw.use rfl (hE.1.1 _ q826 rfl)) hce_1 hcv_1 hcl_1 ?_
  refine W.eq (g2 := F0 mi_ 7 ls ([.ref q_1])) rfl ?_
  refine lv_astore_n (lv' := [(1, .ref q_1), (0, .ref b)]) hx hb dX0_restore_7 rfl hl (by decide) rfl (fun ls hl => ?_)
  refine lv_iconst (v := 1) hx hb dX0_restore_8 (by decide) ?_
  exact b_iret hx hb hr hlocks hP hD hS (Nat.le_of_ble_eq_true rfl) (Nat.le_of_ble_eq_true rfl) ⟨(by first | rfl | (simp; done)), (by first | rfl | (simp; done))⟩ dX0_restore_9
