/-! COMPONENT: the book's members where something is thrown -/
set_option maxHeartbeats 4000000 in
set_option maxRecDepth 100000 in
theorem mt_DB_check_x (l : Launch) (Γ : GE) (sz : Nat) (v : Int32) (hnt : l.stackTraces = false) (hv : v = 0) : KMX l yX1_check cX1_check 1 none Γ 6 90 1 6 [.int v] [] [] sz "java/lang/IllegalArgumentException" (fun q_ u_ => u_ = []) := by
  refine K_introX (by decide) (Nat.le_of_ble_eq_true rfl) ?_
  intro pr_ ev_ s mi_ below meth cd_ A ls hx hb hr hml hown hts hlocks hname hK hE hRo hP hD hA hS hsz hl ht9
  have hl : lv_has ls 1 [(0, .int v)] := hl
  have hown : s.vm.findClass RX1 = some mi_.cls := hown
  refine lv_iload_n hx hb dX1_check_0 rfl (lv_at hl 0 rfl) ?_
  refine lv_if_ne (tgt := 12) hx hb dX1_check_1 (by decide) (fun c_1 => ?_) (fun c_1 => ?_)
  · -- 1 taken
    exact absurd hv c_1
  · -- 1 not taken
    exact b_throw0 hx hb hnt hts hE hown (by decide +kernel) exN_fit q812 q77 at_IAE ag_IAE hP hD hS (hml.trans hl.1.symm) dX1_check_4 dX1_check_7 dX1_check_8 dX1_check_11 ht9 (Nat.le_of_ble_eq_true rfl) (Nat.le_of_ble_eq_true rfl) (Nat.le_of_ble_eq_true rfl) (Nat.le_of_ble_eq_true rfl) hlocks (fun q9 => (by first | with_reducible rfl | (simp [c_1]; done) | rfl)) (Nat.le_of_ble_eq_true rfl) (Nat.le_of_ble_eq_true rfl)
set_option maxHeartbeats 4000000 in
set_option maxRecDepth 100000 in
theorem mt_DB_checkIndex_x (l : Launch) (Γ : GE) (sz : Nat) (v : Int32) (hnt : l.stackTraces = false) (hv : v = 0) : KMX l yX1_checkIndex cX1_checkIndex 1 none Γ 6 90 1 6 [.int v] [] [] sz "java/lang/IndexOutOfBoundsException" (fun q_ u_ => u_ = []) := by
  refine K_introX (by decide) (Nat.le_of_ble_eq_true rfl) ?_
  intro pr_ ev_ s mi_ below meth cd_ A ls hx hb hr hml hown hts hlocks hname hK hE hRo hP hD hA hS hsz hl ht9
  have hl : lv_has ls 1 [(0, .int v)] := hl
  have hown : s.vm.findClass RX1 = some mi_.cls := hown
  refine lv_iload_n hx hb dX1_checkIndex_0 rfl (lv_at hl 0 rfl) ?_
  refine lv_if_ne (tgt := 12) hx hb dX1_checkIndex_1 (by decide) (fun c_1 => ?_) (fun c_1 => ?_)
  · -- 1 taken
    exact absurd hv c_1
  · -- 1 not taken
    exact b_throw0 hx hb hnt hts hE hown (by decide +kernel) exN_fit q917 q90 at_IOE ag_IOE hP hD hS (hml.trans hl.1.symm) dX1_checkIndex_4 dX1_checkIndex_7 dX1_checkIndex_8 dX1_checkIndex_11 ht9 (Nat.le_of_ble_eq_true rfl) (Nat.le_of_ble_eq_true rfl) (Nat.le_of_ble_eq_true rfl) (Nat.le_of_ble_eq_true rfl) hlocks (fun q9 => (by first | with_reducible rfl | (simp [c_1]; done) | rfl)) (Nat.le_of_ble_eq_true rfl) (Nat.le_of_ble_eq_true rfl)
set_option maxHeartbeats 4000000 in
set_option maxRecDepth 100000 in
theorem mt_DB_checkElement_x (l : Launch) (Γ : GE) (sz : Nat) (v : Int32) (hnt : l.stackTraces = false) (hv : v = 0) : KMX l yX1_checkElement cX1_checkElement 1 none Γ 6 90 1 6 [.int v] [] [] sz "java/util/NoSuchElementException" (fun q_ u_ => u_ = []) := by
  refine K_introX (by decide) (Nat.le_of_ble_eq_true rfl) ?_
  intro pr_ ev_ s mi_ below meth cd_ A ls hx hb hr hml hown hts hlocks hname hK hE hRo hP hD hA hS hsz hl ht9
  have hl : lv_has ls 1 [(0, .int v)] := hl
  have hown : s.vm.findClass RX1 = some mi_.cls := hown
  refine lv_iload_n hx hb dX1_checkElement_0 rfl (lv_at hl 0 rfl) ?_
  refine lv_if_ne (tgt := 12) hx hb dX1_checkElement_1 (by decide) (fun c_1 => ?_) (fun c_1 => ?_)
  · -- 1 taken
    exact absurd hv c_1
  · -- 1 not taken
    exact b_throw0 hx hb hnt hts hE hown (by decide +kernel) exN_fit q1175 q80 at_NSE ag_NSE hP hD hS (hml.trans hl.1.symm) dX1_checkElement_4 dX1_checkElement_7 dX1_checkElement_8 dX1_checkElement_11 ht9 (Nat.le_of_ble_eq_true rfl) (Nat.le_of_ble_eq_true rfl) (Nat.le_of_ble_eq_true rfl) (Nat.le_of_ble_eq_true rfl) hlocks (fun q9 => (by first | with_reducible rfl | (simp [c_1]; done) | rfl)) (Nat.le_of_ble_eq_true rfl) (Nat.le_of_ble_eq_true rfl)
set_option maxHeartbeats 4000000 in
set_option maxRecDepth 100000 in
theorem mt_DB_checkState_x (l : Launch) (Γ : GE) (sz : Nat) (v : Int32) (hnt : l.stackTraces = false) (hv : v = 0) : KMX l yX1_checkState cX1_checkState 1 none Γ 6 90 1 6 [.int v] [] [] sz "java/lang/IllegalStateException" (fun q_ u_ => u_ = []) := by
  refine K_introX (by decide) (Nat.le_of_ble_eq_true rfl) ?_
  intro pr_ ev_ s mi_ below meth cd_ A ls hx hb hr hml hown hts hlocks hname hK hE hRo hP hD hA hS hsz hl ht9
  have hl : lv_has ls 1 [(0, .int v)] := hl
  have hown : s.vm.findClass RX1 = some mi_.cls := hown
  refine lv_iload_n hx hb dX1_checkState_0 rfl (lv_at hl 0 rfl) ?_
  refine lv_if_ne (tgt := 12) hx hb dX1_checkState_1 (by decide) (fun c_1 => ?_) (fun c_1 => ?_)
  · -- 1 taken
    exact absurd hv c_1
  · -- 1 not taken
    exact b_throw0 hx hb hnt hts hE hown (by decide +kernel) exN_fit q824 q78 at_ISE ag_ISE hP hD hS (hml.trans hl.1.symm) dX1_checkState_4 dX1_checkState_7 dX1_checkState_8 dX1_checkState_11 ht9 (Nat.le_of_ble_eq_true rfl) (Nat.le_of_ble_eq_true rfl) (Nat.le_of_ble_eq_true rfl) (Nat.le_of_ble_eq_true rfl) hlocks (fun q9 => (by first | with_reducible rfl | (simp [c_1]; done) | rfl)) (Nat.le_of_ble_eq_true rfl) (Nat.le_of_ble_eq_true rfl)
set_option maxHeartbeats 4000000 in
set_option maxRecDepth 100000 in
theorem mt_DB_checkSupported_x (l : Launch) (Γ : GE) (sz : Nat) (b : Nat) (h : HB) (tt : Nat) (sv : Nat) (zs : Int32) (da : Nat) (tx : Nat) (wr : Nat) (fl : Int32) (rf : Int32) (v : Int32) (hnt : l.stackTraces = false) (hv : 0 < v) : KMX l yX1_checkSupported cX1_checkSupported 2 none Γ 6 90 1 6 [.ref b, .int v] [[(b, .inr (0, [.ref h.e0, .ref tt, .ref sv, .int zs, .ref da, .ref tx, .ref wr, .int fl, .int rf]))]] [] sz "java/lang/UnsupportedOperationException" (fun q_ u_ => u_ = [[(b, .inr (0, [.ref h.e0, .ref tt, .ref sv, .int zs, .ref da, .ref tx, .ref wr, .int fl, .int v]))]]) := by
  refine K_introX (by decide) (Nat.le_of_ble_eq_true rfl) ?_
  intro pr_ ev_ s mi_ below meth cd_ A ls hx hb hr hml hown hts hlocks hname hK hE hRo hP hD hA hS hsz hl ht9
  have hl : lv_has ls 2 [(0, .ref b), (1, .int v)] := hl
  have hown : s.vm.findClass RX1 = some mi_.cls := hown
  refine lv_iload_n hx hb dX1_checkSupported_0 rfl (lv_at hl 1 rfl) ?_
  refine lv_if_le (tgt := 17) hx hb dX1_checkSupported_1 (by decide) (fun c_1 => ?_) (fun c_1 => ?_)
  · -- 1 taken
    have d_1 := Int32.not_lt.mpr c_1
    exact absurd hv (Int32.not_lt.mpr c_1)
  · -- 1 not taken
    have d_1 := Int32.not_le.mp c_1
    refine lv_aload_n hx hb dX1_checkSupported_4 rfl (lv_at hl 0 rfl) ?_
    refine lv_iload_n hx hb dX1_checkSupported_5 rfl (lv_at hl 1 rfl) ?_
    refine b_put (C := RX1) (T := TX1) (N := 9) (ty := .int) (v := .int v) hx hb hts in_X1 tyX1_ok nmX1 hown hK hP hD hS 0 rfl rfl 8 (by decide) q256 (fun _ h9 => h9) rfl (by decide +kernel) rfl rfl (Nat.le_of_ble_eq_true rfl) dX1_checkSupported_6 (fun H locs hP hD hS => ?_)
    have hP : WP Γ [[(b, .inr (0, [.ref h.e0, .ref tt, .ref sv, .int zs, .ref da, .ref tx, .ref wr, .int fl, .int v]))]] H := hP
    have hD : WD A [[(b, .inr (0, [.ref h.e0, .ref tt, .ref sv, .int zs, .ref da, .ref tx, .ref wr, .int fl, .int v]))]] := hD
    exact b_throw0 hx hb hnt hts hE hown (by decide +kernel) exN_fit q981 q93 at_UOE ag_UOE hP hD hS (hml.trans hl.1.symm) dX1_checkSupported_9 dX1_checkSupported_12 dX1_checkSupported_13 dX1_checkSupported_16 ht9 (Nat.le_of_ble_eq_true rfl) (Nat.le_of_ble_eq_true rfl) (Nat.le_of_ble_eq_true rfl) (Nat.le_of_ble_eq_true rfl) hlocks (fun q9 => (by first | with_reducible rfl | (simp [c_1, d_1]; done) | rfl)) (Nat.le_of_ble_eq_true rfl) (Nat.le_of_ble_eq_true rfl)
set_option maxHeartbeats 4000000 in
set_option maxRecDepth 100000 in
theorem mt_DB_cowAt_x (l : Launch) (Γ : GE) (sz : Nat) (b : Nat) (h : HB) (tt : Nat) (sv : Nat) (zs : Int32) (da : Nat) (tx : Nat) (wr : Nat) (fl : Int32) (rf : Int32) (P : va_W) (c : Int32) (hnt : l.stackTraces = false) (ho : hdOk Γ P h) (hx9 : inC c 0 (nI h.n - 1) = 0) : KMX l yX1_cowAt cX1_cowAt 2 (some (FieldType.object "DairyBook$Cow")) Γ 7 110 1 6 [.ref b, .int c] [[(b, .inr (0, [.ref h.e0, .ref tt, .ref sv, .int zs, .ref da, .ref tx, .ref wr, .int fl, .int rf]))], (hdB Γ h)] [P] sz "java/lang/IndexOutOfBoundsException" (fun q_ u_ => u_ = [[(b, .inr (0, [.ref h.e0, .ref tt, .ref sv, .int zs, .ref da, .ref tx, .ref wr, .int fl, .int rf]))], (hdB Γ h)]) := by
  refine K_introX (by decide) (Nat.le_of_ble_eq_true rfl) ?_
  intro pr_ ev_ s mi_ below meth cd_ A ls hx hb hr hml hown hts hlocks hname hK hE hRo hP hD hA hS hsz hl ht9
  have hl : lv_has ls 2 [(0, .ref b), (1, .int c)] := hl
  have hown : s.vm.findClass RX1 = some mi_.cls := hown
  have hP : WP Γ [(hdB Γ h), [(b, .inr (0, [.ref h.e0, .ref tt, .ref sv, .int zs, .ref da, .ref tx, .ref wr, .int fl, .int rf]))]] s.heap := bP_sel hP [1, 0] rfl
  have hD : WD A [(hdB Γ h), [(b, .inr (0, [.ref h.e0, .ref tt, .ref sv, .int zs, .ref da, .ref tx, .ref wr, .int fl, .int rf]))]] := bD_sel hD [1, 0] rfl rfl
  have hP : WP Γ [[(h.e0, .inr (1, [.ref h.e1, .ref h.e2, .ref h.e3, .ref h.e4, .ref h.e5, .int h.S.td, .int h.S.pk, .int h.S.pd]))], [(h.e1, .inr (11, [.int h.m0, .ref h.x0.1, .int (nI h.n)]))], (alA Γ h.x0), (cowsB h.n h.ca h.S.cv), [(h.e2, .inr (11, [.int h.m1, .ref h.x1.1, .int (nI h.nr)]))], (alA Γ h.x1), [(h.e3, .inr (11, [.int h.m2, .ref h.x2.1, .int (nI h.S.np)]))], (alA Γ h.x2), [(h.e4, .inr (2, [.int h.S.li, .int h.S.ce]))], [(h.e5, .inl (Γ.2.1 0, 6, .inl h.se))], [(b, .inr (0, [.ref h.e0, .ref tt, .ref sv, .int zs, .ref da, .ref tx, .ref wr, .int fl, .int rf]))]] s.heap := hdP_ex (Bs := hdL Γ h) hP
  have hD : WD A [[(h.e0, .inr (1, [.ref h.e1, .ref h.e2, .ref h.e3, .ref h.e4, .ref h.e5, .int h.S.td, .int h.S.pk, .int h.S.pd]))], [(h.e1, .inr (11, [.int h.m0, .ref h.x0.1, .int (nI h.n)]))], (alA Γ h.x0), (cowsB h.n h.ca h.S.cv), [(h.e2, .inr (11, [.int h.m1, .ref h.x1.1, .int (nI h.nr)]))], (alA Γ h.x1), [(h.e3, .inr (11, [.int h.m2, .ref h.x2.1, .int (nI h.S.np)]))], (alA Γ h.x2), [(h.e4, .inr (2, [.int h.S.li, .int h.S.ce]))], [(h.e5, .inl (Γ.2.1 0, 6, .inl h.se))], [(b, .inr (0, [.ref h.e0, .ref tt, .ref sv, .int zs, .ref da, .ref tx, .ref wr, .int fl, .int rf]))]] := hdD_ex (Bs := hdL Γ h) hD
  have hal0 : alI Γ h.x0 h.n h.ca := ho.1
  have hn8 : h.n ≤ 8 := ho.2.1
  have hal1 : alI Γ h.x1 h.nr h.ra := ho.2.2.1
  have nr4 : h.nr ≤ 4 := ho.2.2.2.1
  have hrw : ∀ k, k < h.nr → (h.ra k, rowE (h.rv k)) ∈ P := ho.2.2.2.2.1
  have hal2 : alI Γ h.x2 h.S.np h.pa := ho.2.2.2.2.2.1
  have np60 : h.S.np ≤ 60 := ho.2.2.2.2.2.2.1
  have hpk : ∀ k, k < h.S.np → (h.pa k, pickE (h.S.pv k)) ∈ P := ho.2.2.2.2.2.2.2.1
  have hcb : ∀ k, k < h.n → cowB (h.S.cv k) := ho.2.2.2.2.2.2.2.2
  refine lv_iload_n hx hb dX1_cowAt_0 rfl (lv_at hl 1 rfl) ?_
  refine lv_iconst (v := 0) hx hb dX1_cowAt_1 (by decide) ?_
  refine lv_aload_n hx hb dX1_cowAt_2 rfl (lv_at hl 0 rfl) ?_
  refine b_get (C := RX1) (T := TX1) (N := 9) (v := .ref h.e0) hx hb hts in_X1 hown hK (b_at (k := 10) hP rfl) rfl 0 (by decide) q248 (fun _ h9 => h9) rfl dX1_cowAt_3 ?_
  refine b_getN (C := RX2) (T := TX2) (N := 8) (v := .ref h.e1) hx hb hts hE in_X2 hown hK (b_at (k := 0) hP rfl) rfl 0 (by decide) q165 (fun _ h9 => h9) rfl dX1_cowAt_6 ?_
  refine b_calli (br := [[(h.e0, .inr (1, [.ref h.e1, .ref h.e2, .ref h.e3, .ref h.e4, .ref h.e5, .int h.S.td, .int h.S.pk, .int h.S.pd]))], (alA Γ h.x0), (cowsB h.n h.ca h.S.cv), [(h.e2, .inr (11, [.int h.m1, .ref h.x1.1, .int (nI h.nr)]))], (alA Γ h.x1), [(h.e3, .inr (11, [.int h.m2, .ref h.x2.1, .int (nI h.S.np)]))], (alA Γ h.x2), [(h.e4, .inr (2, [.int h.S.li, .int h.S.ce]))], [(h.e5, .inl (Γ.2.1 0, 6, .inl h.se))], [(b, .inr (0, [.ref h.e0, .ref tt, .ref sv, .int zs, .ref da, .ref tx, .ref wr, .int fl, .int rf]))]]) (b_runV ⟨hx, hb, hml, hown, hts⟩ (mt_AL_size l Γ _ h.e1 h.m0 h.x0.1 h.n) (lw_V q817 q818 q819 q66 q820) rfl rfl 0 (by decide +kernel) ⟨(Nat.le_of_ble_eq_true rfl), (Nat.le_of_ble_eq_true rfl)⟩ (c_pre hP hD hS hA hK hE [1] rfl rfl ro_nil) (recv_at (q := (RJ2, TJ2, 3)) hK (b_at (k := 1) hP rfl) rfl) rfl hl.1 rfl (Nat.le_of_ble_eq_true rfl) dX1_cowAt_9 ⟨(Nat.le_of_ble_eq_true rfl), (Nat.le_of_ble_eq_true rfl)⟩) hP hD hS hA [1] [0, 2, 3, 4, 5, 6, 7, 8, 9, 10] rfl rfl rfl (fun r_1 u_1 H locs hw_1 hP hD hS _ => ?_)
  obtain ⟨rfl, rfl⟩ := hw_1
  have hP : WP Γ [[(h.e1, .inr (11, [.int h.m0, .ref h.x0.1, .int (nI h.n)]))], [(h.e0, .inr (1, [.ref h.e1, .ref h.e2, .ref h.e3, .ref h.e4, .ref h.e5, .int h.S.td, .int h.S.pk, .int h.S.pd]))], (alA Γ h.x0), (cowsB h.n h.ca h.S.cv), [(h.e2, .inr (11, [.int h.m1, .ref h.x1.1, .int (nI h.nr)]))], (alA Γ h.x1), [(h.e3, .inr (11, [.int h.m2, .ref h.x2.1, .int (nI h.S.np)]))], (alA Γ h.x2), [(h.e4, .inr (2, [.int h.S.li, .int h.S.ce]))], [(h.e5, .inl (Γ.2.1 0, 6, .inl h.se))], [(b, .inr (0, [.ref h.e0, .ref tt, .ref sv, .int zs, .ref da, .ref tx, .ref wr, .int fl, .int rf]))]] H := hP
  have hD : WD A [[(h.e1, .inr (11, [.int h.m0, .ref h.x0.1, .int (nI h.n)]))], [(h.e0, .inr (1, [.ref h.e1, .ref h.e2, .ref h.e3, .ref h.e4, .ref h.e5, .int h.S.td, .int h.S.pk, .int h.S.pd]))], (alA Γ h.x0), (cowsB h.n h.ca h.S.cv), [(h.e2, .inr (11, [.int h.m1, .ref h.x1.1, .int (nI h.nr)]))], (alA Γ h.x1), [(h.e3, .inr (11, [.int h.m2, .ref h.x2.1, .int (nI h.S.np)]))], (alA Γ h.x2), [(h.e4, .inr (2, [.int h.S.li, .int h.S.ce]))], [(h.e5, .inl (Γ.2.1 0, 6, .inl h.se))], [(b, .inr (0, [.ref h.e0, .ref tt, .ref sv, .int zs, .ref da, .ref tx, .ref wr, .int fl, .int rf]))]] := hD
  refine lv_iconst (v := 1) hx hb dX1_cowAt_12 (by decide) ?_
  refine lv_isub hx hb dX1_cowAt_13 ?_
  refine b_calli (br := [[(h.e1, .inr (11, [.int h.m0, .ref h.x0.1, .int (nI h.n)]))], [(h.e0, .inr (1, [.ref h.e1, .ref h.e2, .ref h.e3, .ref h.e4, .ref h.e5, .int h.S.td, .int h.S.pk, .int h.S.pd]))], (alA Γ h.x0), (cowsB h.n h.ca h.S.cv), [(h.e2, .inr (11, [.int h.m1, .ref h.x1.1, .int (nI h.nr)]))], (alA Γ h.x1), [(h.e3, .inr (11, [.int h.m2, .ref h.x2.1, .int (nI h.S.np)]))], (alA Γ h.x2), [(h.e4, .inr (2, [.int h.S.li, .int h.S.ce]))], [(h.e5, .inl (Γ.2.1 0, 6, .inl h.se))], [(b, .inr (0, [.ref h.e0, .ref tt, .ref sv, .int zs, .ref da, .ref tx, .ref wr, .int fl, .int rf]))]]) (b_runS ⟨hx, hb, hml, hown, hts⟩ (mt_DB_in l Γ _ c 0 ((nI h.n) - 1)) (lw_S q806 q807 q62 q808) rfl rfl 3 (by decide +kernel) ⟨(Nat.le_of_ble_eq_true rfl), (Nat.le_of_ble_eq_true rfl)⟩ (c_pre hP hD hS hA hK hE [] rfl rfl ro_nil) rfl hl.1 rfl (Nat.le_of_ble_eq_true rfl) dX1_cowAt_14 ⟨(Nat.le_of_ble_eq_true rfl), (Nat.le_of_ble_eq_true rfl)⟩) hP hD hS hA [] [0, 1, 2, 3, 4, 5, 6, 7, 8, 9, 10] rfl rfl rfl (fun r_2 u_2 H locs hw_2 hP hD hS _ => ?_)
  obtain ⟨rfl, rfl⟩ := hw_2
  have hP : WP Γ [[(h.e1, .inr (11, [.int h.m0, .ref h.x0.1, .int (nI h.n)]))], [(h.e0, .inr (1, [.ref h.e1, .ref h.e2, .ref h.e3, .ref h.e4, .ref h.e5, .int h.S.td, .int h.S.pk, .int h.S.pd]))], (alA Γ h.x0), (cowsB h.n h.ca h.S.cv), [(h.e2, .inr (11, [.int h.m1, .ref h.x1.1, .int (nI h.nr)]))], (alA Γ h.x1), [(h.e3, .inr (11, [.int h.m2, .ref h.x2.1, .int (nI h.S.np)]))], (alA Γ h.x2), [(h.e4, .inr (2, [.int h.S.li, .int h.S.ce]))], [(h.e5, .inl (Γ.2.1 0, 6, .inl h.se))], [(b, .inr (0, [.ref h.e0, .ref tt, .ref sv, .int zs, .ref da, .ref tx, .ref wr, .int fl, .int rf]))]] H := hP
  have hD : WD A [[(h.e1, .inr (11, [.int h.m0, .ref h.x0.1, .int (nI h.n)]))], [(h.e0, .inr (1, [.ref h.e1, .ref h.e2, .ref h.e3, .ref h.e4, .ref h.e5, .int h.S.td, .int h.S.pk, .int h.S.pd]))], (alA Γ h.x0), (cowsB h.n h.ca h.S.cv), [(h.e2, .inr (11, [.int h.m1, .ref h.x1.1, .int (nI h.nr)]))], (alA Γ h.x1), [(h.e3, .inr (11, [.int h.m2, .ref h.x2.1, .int (nI h.S.np)]))], (alA Γ h.x2), [(h.e4, .inr (2, [.int h.S.li, .int h.S.ce]))], [(h.e5, .inl (Γ.2.1 0, 6, .inl h.se))], [(b, .inr (0, [.ref h.e0, .ref tt, .ref sv, .int zs, .ref da, .ref tx, .ref wr, .int fl, .int rf]))]] := hD
  have hP : WP Γ [[(h.e0, .inr (1, [.ref h.e1, .ref h.e2, .ref h.e3, .ref h.e4, .ref h.e5, .int h.S.td, .int h.S.pk, .int h.S.pd]))], [(h.e1, .inr (11, [.int h.m0, .ref h.x0.1, .int (nI h.n)]))], (alA Γ h.x0), (cowsB h.n h.ca h.S.cv), [(h.e2, .inr (11, [.int h.m1, .ref h.x1.1, .int (nI h.nr)]))], (alA Γ h.x1), [(h.e3, .inr (11, [.int h.m2, .ref h.x2.1, .int (nI h.S.np)]))], (alA Γ h.x2), [(h.e4, .inr (2, [.int h.S.li, .int h.S.ce]))], [(h.e5, .inl (Γ.2.1 0, 6, .inl h.se))], [(b, .inr (0, [.ref h.e0, .ref tt, .ref sv, .int zs, .ref da, .ref tx, .ref wr, .int fl, .int rf]))]] H := bP_sel hP [1, 0, 2, 3, 4, 5, 6, 7, 8, 9, 10] rfl
  have hD : WD A [[(h.e0, .inr (1, [.ref h.e1, .ref h.e2, .ref h.e3, .ref h.e4, .ref h.e5, .int h.S.td, .int h.S.pk, .int h.S.pd]))], [(h.e1, .inr (11, [.int h.m0, .ref h.x0.1, .int (nI h.n)]))], (alA Γ h.x0), (cowsB h.n h.ca h.S.cv), [(h.e2, .inr (11, [.int h.m1, .ref h.x1.1, .int (nI h.nr)]))], (alA Γ h.x1), [(h.e3, .inr (11, [.int h.m2, .ref h.x2.1, .int (nI h.S.np)]))], (alA Γ h.x2), [(h.e4, .inr (2, [.int h.S.li, .int h.S.ce]))], [(h.e5, .inl (Γ.2.1 0, 6, .inl h.se))], [(b, .inr (0, [.ref h.e0, .ref tt, .ref sv, .int zs, .ref da, .ref tx, .ref wr, .int fl, .int rf]))]] := bD_sel hD [1, 0, 2, 3, 4, 5, 6, 7, 8, 9, 10] rfl rfl
  have hP : WP Γ [(hdB Γ h), [(b, .inr (0, [.ref h.e0, .ref tt, .ref sv, .int zs, .ref da, .ref tx, .ref wr, .int fl, .int rf]))]] H := (hdP_un (Bs := hdL Γ h) hP)
  have hD : WD A [(hdB Γ h), [(b, .inr (0, [.ref h.e0, .ref tt, .ref sv, .int zs, .ref da, .ref tx, .ref wr, .int fl, .int rf]))]] := (hdD_un (Bs := hdL Γ h) hD)
  refine b_callx (br := [(hdB Γ h), [(b, .inr (0, [.ref h.e0, .ref tt, .ref sv, .int zs, .ref da, .ref tx, .ref wr, .int fl, .int rf]))]]) (b_runSx ⟨hx, hb, hml, hown, hts⟩ (mt_DB_checkIndex_x l Γ _ (inC c 0 ((nI h.n) - 1)) hnt (by first | assumption | rfl)) (lw_S q914 q915 q62 q916) rfl rfl 1 (by decide +kernel) ⟨(Nat.le_of_ble_eq_true rfl), (Nat.le_of_ble_eq_true rfl)⟩ (c_pre hP hD hS hA hK hE [] rfl rfl ro_nil) rfl hl.1 rfl (Nat.le_of_ble_eq_true rfl) dX1_cowAt_17 ⟨(Nat.le_of_ble_eq_true rfl), (Nat.le_of_ble_eq_true rfl)⟩) hP hD hS hA [] [0, 1] rfl rfl rfl (fun q_3 ce_3 u_3 H locs hw_3 hP hD hS _ hce_3 hcv_3 hcl_3 => ?_)
  obtain rfl := hw_3
  have hP : WP Γ [(hdB Γ h), [(b, .inr (0, [.ref h.e0, .ref tt, .ref sv, .int zs, .ref da, .ref tx, .ref wr, .int fl, .int rf]))]] H := hP
  have hD : WD A [(hdB Γ h), [(b, .inr (0, [.ref h.e0, .ref tt, .ref sv, .int zs, .ref da, .ref tx, .ref wr, .int fl, .int rf]))]] := hD
  have hP : WP Γ [[(b, .inr (0, [.ref h.e0, .ref tt, .ref sv, .int zs, .ref da, .ref tx, .ref wr, .int fl, .int rf]))], (hdB Γ h)] H := bP_sel hP [1, 0] rfl
  have hD : WD A [[(b, .inr (0, [.ref h.e0, .ref tt, .ref sv, .int zs, .ref da, .ref tx, .ref wr, .int fl, .int rf]))], (hdB Γ h)] := bD_sel hD [1, 0] rfl rfl
  exact b_outx hlocks (fun x hx9 => (ht9 x hx9).elim) hP hD hS hce_3 hcv_3 hcl_3 (by first | rfl | (simp; done)) (Nat.le_of_ble_eq_true rfl) (Nat.le_of_ble_eq_true rfl)
set_option maxHeartbeats 4000000 in
set_option maxRecDepth 100000 in
theorem mt_DB_pickupAt_x (l : Launch) (Γ : GE) (sz : Nat) (b : Nat) (h : HB) (tt : Nat) (sv : Nat) (zs : Int32) (da : Nat) (tx : Nat) (wr : Nat) (fl : Int32) (rf : Int32) (P : va_W) (c : Int32) (hnt : l.stackTraces = false) (ho : hdOk Γ P h) (hx9 : inC c 0 (nI h.S.np - 1) = 0) : KMX l yX1_pickupAt cX1_pickupAt 2 (some (FieldType.object "DairyBook$Pickup")) Γ 7 110 1 6 [.ref b, .int c] [[(b, .inr (0, [.ref h.e0, .ref tt, .ref sv, .int zs, .ref da, .ref tx, .ref wr, .int fl, .int rf]))], (hdB Γ h)] [P] sz "java/lang/IndexOutOfBoundsException" (fun q_ u_ => u_ = [[(b, .inr (0, [.ref h.e0, .ref tt, .ref sv, .int zs, .ref da, .ref tx, .ref wr, .int fl, .int rf]))], (hdB Γ h)]) := by
  refine K_introX (by decide) (Nat.le_of_ble_eq_true rfl) ?_
  intro pr_ ev_ s mi_ below meth cd_ A ls hx hb hr hml hown hts hlocks hname hK hE hRo hP hD hA hS hsz hl ht9
  have hl : lv_has ls 2 [(0, .ref b), (1, .int c)] := hl
  have hown : s.vm.findClass RX1 = some mi_.cls := hown
  have hP : WP Γ [(hdB Γ h), [(b, .inr (0, [.ref h.e0, .ref tt, .ref sv, .int zs, .ref da, .ref tx, .ref wr, .int fl, .int rf]))]] s.heap := bP_sel hP [1, 0] rfl
  have hD : WD A [(hdB Γ h), [(b, .inr (0, [.ref h.e0, .ref tt, .ref sv, .int zs, .ref da, .ref tx, .ref wr, .int fl, .int rf]))]] := bD_sel hD [1, 0] rfl rfl
  have hP : WP Γ [[(h.e0, .inr (1, [.ref h.e1, .ref h.e2, .ref h.e3, .ref h.e4, .ref h.e5, .int h.S.td, .int h.S.pk, .int h.S.pd]))], [(h.e1, .inr (11, [.int h.m0, .ref h.x0.1, .int (nI h.n)]))], (alA Γ h.x0), (cowsB h.n h.ca h.S.cv), [(h.e2, .inr (11, [.int h.m1, .ref h.x1.1, .int (nI h.nr)]))], (alA Γ h.x1), [(h.e3, .inr (11, [.int h.m2, .ref h.x2.1, .int (nI h.S.np)]))], (alA Γ h.x2), [(h.e4, .inr (2, [.int h.S.li, .int h.S.ce]))], [(h.e5, .inl (Γ.2.1 0, 6, .inl h.se))], [(b, .inr (0, [.ref h.e0, .ref tt, .ref sv, .int zs, .ref da, .ref tx, .ref wr, .int fl, .int rf]))]] s.heap := hdP_ex (Bs := hdL Γ h) hP
  have hD : WD A [[(h.e0, .inr (1, [.ref h.e1, .ref h.e2, .ref h.e3, .ref h.e4, .ref h.e5, .int h.S.td, .int h.S.pk, .int h.S.pd]))], [(h.e1, .inr (11, [.int h.m0, .ref h.x0.1, .int (nI h.n)]))], (alA Γ h.x0), (cowsB h.n h.ca h.S.cv), [(h.e2, .inr (11, [.int h.m1, .ref h.x1.1, .int (nI h.nr)]))], (alA Γ h.x1), [(h.e3, .inr (11, [.int h.m2, .ref h.x2.1, .int (nI h.S.np)]))], (alA Γ h.x2), [(h.e4, .inr (2, [.int h.S.li, .int h.S.ce]))], [(h.e5, .inl (Γ.2.1 0, 6, .inl h.se))], [(b, .inr (0, [.ref h.e0, .ref tt, .ref sv, .int zs, .ref da, .ref tx, .ref wr, .int fl, .int rf]))]] := hdD_ex (Bs := hdL Γ h) hD
  have hal0 : alI Γ h.x0 h.n h.ca := ho.1
  have hn8 : h.n ≤ 8 := ho.2.1
  have hal1 : alI Γ h.x1 h.nr h.ra := ho.2.2.1
  have nr4 : h.nr ≤ 4 := ho.2.2.2.1
  have hrw : ∀ k, k < h.nr → (h.ra k, rowE (h.rv k)) ∈ P := ho.2.2.2.2.1
  have hal2 : alI Γ h.x2 h.S.np h.pa := ho.2.2.2.2.2.1
  have np60 : h.S.np ≤ 60 := ho.2.2.2.2.2.2.1
  have hpk : ∀ k, k < h.S.np → (h.pa k, pickE (h.S.pv k)) ∈ P := ho.2.2.2.2.2.2.2.1
  have hcb : ∀ k, k < h.n → cowB (h.S.cv k) := ho.2.2.2.2.2.2.2.2
  refine lv_iload_n hx hb dX1_pickupAt_0 rfl (lv_at hl 1 rfl) ?_
  refine lv_iconst (v := 0) hx hb dX1_pickupAt_1 (by decide) ?_
  refine lv_aload_n hx hb dX1_pickupAt_2 rfl (lv_at hl 0 rfl) ?_
  refine b_get (C := RX1) (T := TX1) (N := 9) (v := .ref h.e0) hx hb hts in_X1 hown hK (b_at (k := 10) hP rfl) rfl 0 (by decide) q248 (fun _ h9 => h9) rfl dX1_pickupAt_3 ?_
  refine b_getN (C := RX2) (T := TX2) (N := 8) (v := .ref h.e3) hx hb hts hE in_X2 hown hK (b_at (k := 0) hP rfl) rfl 2 (by decide) q169 (fun _ h9 => h9) rfl dX1_pickupAt_6 ?_
  refine b_calli (br := [[(h.e0, .inr (1, [.ref h.e1, .ref h.e2, .ref h.e3, .ref h.e4, .ref h.e5, .int h.S.td, .int h.S.pk, .int h.S.pd]))], [(h.e1, .inr (11, [.int h.m0, .ref h.x0.1, .int (nI h.n)]))], (alA Γ h.x0), (cowsB h.n h.ca h.S.cv), [(h.e2, .inr (11, [.int h.m1, .ref h.x1.1, .int (nI h.nr)]))], (alA Γ h.x1), (alA Γ h.x2), [(h.e4, .inr (2, [.int h.S.li, .int h.S.ce]))], [(h.e5, .inl (Γ.2.1 0, 6, .inl h.se))], [(b, .inr (0, [.ref h.e0, .ref tt, .ref sv, .int zs, .ref da, .ref tx, .ref wr, .int fl, .int rf]))]]) (b_runV ⟨hx, hb, hml, hown, hts⟩ (mt_AL_size l Γ _ h.e3 h.m2 h.x2.1 h.S.np) (lw_V q817 q818 q819 q66 q820) rfl rfl 0 (by decide +kernel) ⟨(Nat.le_of_ble_eq_true rfl), (Nat.le_of_ble_eq_true rfl)⟩ (c_pre hP hD hS hA hK hE [6] rfl rfl ro_nil) (recv_at (q := (RJ2, TJ2, 3)) hK (b_at (k := 6) hP rfl) rfl) rfl hl.1 rfl (Nat.le_of_ble_eq_true rfl) dX1_pickupAt_9 ⟨(Nat.le_of_ble_eq_true rfl), (Nat.le_of_ble_eq_true rfl)⟩) hP hD hS hA [6] [0, 1, 2, 3, 4, 5, 7, 8, 9, 10] rfl rfl rfl (fun r_1 u_1 H locs hw_1 hP hD hS _ => ?_)
  obtain ⟨rfl, rfl⟩ := hw_1
  have hP : WP Γ [[(h.e3, .inr (11, [.int h.m2, .ref h.x2.1, .int (nI h.S.np)]))], [(h.e0, .inr (1, [.ref h.e1, .ref h.e2, .ref h.e3, .ref h.e4, .ref h.e5, .int h.S.td, .int h.S.pk, .int h.S.pd]))], [(h.e1, .inr (11, [.int h.m0, .ref h.x0.1, .int (nI h.n)]))], (alA Γ h.x0), (cowsB h.n h.ca h.S.cv), [(h.e2, .inr (11, [.int h.m1, .ref h.x1.1, .int (nI h.nr)]))], (alA Γ h.x1), (alA Γ h.x2), [(h.e4, .inr (2, [.int h.S.li, .int h.S.ce]))], [(h.e5, .inl (Γ.2.1 0, 6, .inl h.se))], [(b, .inr (0, [.ref h.e0, .ref tt, .ref sv, .int zs, .ref da, .ref tx, .ref wr, .int fl, .int rf]))]] H := hP
  have hD : WD A [[(h.e3, .inr (11, [.int h.m2, .ref h.x2.1, .int (nI h.S.np)]))], [(h.e0, .inr (1, [.ref h.e1, .ref h.e2, .ref h.e3, .ref h.e4, .ref h.e5, .int h.S.td, .int h.S.pk, .int h.S.pd]))], [(h.e1, .inr (11, [.int h.m0, .ref h.x0.1, .int (nI h.n)]))], (alA Γ h.x0), (cowsB h.n h.ca h.S.cv), [(h.e2, .inr (11, [.int h.m1, .ref h.x1.1, .int (nI h.nr)]))], (alA Γ h.x1), (alA Γ h.x2), [(h.e4, .inr (2, [.int h.S.li, .int h.S.ce]))], [(h.e5, .inl (Γ.2.1 0, 6, .inl h.se))], [(b, .inr (0, [.ref h.e0, .ref tt, .ref sv, .int zs, .ref da, .ref tx, .ref wr, .int fl, .int rf]))]] := hD
  refine lv_iconst (v := 1) hx hb dX1_pickupAt_12 (by decide) ?_
  refine lv_isub hx hb dX1_pickupAt_13 ?_
  refine b_calli (br := [[(h.e3, .inr (11, [.int h.m2, .ref h.x2.1, .int (nI h.S.np)]))], [(h.e0, .inr (1, [.ref h.e1, .ref h.e2, .ref h.e3, .ref h.e4, .ref h.e5, .int h.S.td, .int h.S.pk, .int h.S.pd]))], [(h.e1, .inr (11, [.int h.m0, .ref h.x0.1, .int (nI h.n)]))], (alA Γ h.x0), (cowsB h.n h.ca h.S.cv), [(h.e2, .inr (11, [.int h.m1, .ref h.x1.1, .int (nI h.nr)]))], (alA Γ h.x1), (alA Γ h.x2), [(h.e4, .inr (2, [.int h.S.li, .int h.S.ce]))], [(h.e5, .inl (Γ.2.1 0, 6, .inl h.se))], [(b, .inr (0, [.ref h.e0, .ref tt, .ref sv, .int zs, .ref da, .ref tx, .ref wr, .int fl, .int rf]))]]) (b_runS ⟨hx, hb, hml, hown, hts⟩ (mt_DB_in l Γ _ c 0 ((nI h.S.np) - 1)) (lw_S q806 q807 q62 q808) rfl rfl 3 (by decide +kernel) ⟨(Nat.le_of_ble_eq_true rfl), (Nat.le_of_ble_eq_true rfl)⟩ (c_pre hP hD hS hA hK hE [] rfl rfl ro_nil) rfl hl.1 rfl (Nat.le_of_ble_eq_true rfl) dX1_pickupAt_14 ⟨(Nat.le_of_ble_eq_true rfl), (Nat.le_of_ble_eq_true rfl)⟩) hP hD hS hA [] [0, 1, 2, 3, 4, 5, 6, 7, 8, 9, 10] rfl rfl rfl (fun r_2 u_2 H locs hw_2 hP hD hS _ => ?_)
  obtain ⟨rfl, rfl⟩ := hw_2
  have hP : WP Γ [[(h.e3, .inr (11, [.int h.m2, .ref h.x2.1, .int (nI h.S.np)]))], [(h.e0, .inr (1, [.ref h.e1, .ref h.e2, .ref h.e3, .ref h.e4, .ref h.e5, .int h.S.td, .int h.S.pk, .int h.S.pd]))], [(h.e1, .inr (11, [.int h.m0, .ref h.x0.1, .int (nI h.n)]))], (alA Γ h.x0), (cowsB h.n h.ca h.S.cv), [(h.e2, .inr (11, [.int h.m1, .ref h.x1.1, .int (nI h.nr)]))], (alA Γ h.x1), (alA Γ h.x2), [(h.e4, .inr (2, [.int h.S.li, .int h.S.ce]))], [(h.e5, .inl (Γ.2.1 0, 6, .inl h.se))], [(b, .inr (0, [.ref h.e0, .ref tt, .ref sv, .int zs, .ref da, .ref tx, .ref wr, .int fl, .int rf]))]] H := hP
  have hD : WD A [[(h.e3, .inr (11, [.int h.m2, .ref h.x2.1, .int (nI h.S.np)]))], [(h.e0, .inr (1, [.ref h.e1, .ref h.e2, .ref h.e3, .ref h.e4, .ref h.e5, .int h.S.td, .int h.S.pk, .int h.S.pd]))], [(h.e1, .inr (11, [.int h.m0, .ref h.x0.1, .int (nI h.n)]))], (alA Γ h.x0), (cowsB h.n h.ca h.S.cv), [(h.e2, .inr (11, [.int h.m1, .ref h.x1.1, .int (nI h.nr)]))], (alA Γ h.x1), (alA Γ h.x2), [(h.e4, .inr (2, [.int h.S.li, .int h.S.ce]))], [(h.e5, .inl (Γ.2.1 0, 6, .inl h.se))], [(b, .inr (0, [.ref h.e0, .ref tt, .ref sv, .int zs, .ref da, .ref tx, .ref wr, .int fl, .int rf]))]] := hD
  have hP : WP Γ [[(h.e0, .inr (1, [.ref h.e1, .ref h.e2, .ref h.e3, .ref h.e4, .ref h.e5, .int h.S.td, .int h.S.pk, .int h.S.pd]))], [(h.e1, .inr (11, [.int h.m0, .ref h.x0.1, .int (nI h.n)]))], (alA Γ h.x0), (cowsB h.n h.ca h.S.cv), [(h.e2, .inr (11, [.int h.m1, .ref h.x1.1, .int (nI h.nr)]))], (alA Γ h.x1), [(h.e3, .inr (11, [.int h.m2, .ref h.x2.1, .int (nI h.S.np)]))], (alA Γ h.x2), [(h.e4, .inr (2, [.int h.S.li, .int h.S.ce]))], [(h.e5, .inl (Γ.2.1 0, 6, .inl h.se))], [(b, .inr (0, [.ref h.e0, .ref tt, .ref sv, .int zs, .ref da, .ref tx, .ref wr, .int fl, .int rf]))]] H := bP_sel hP [1, 2, 3, 4, 5, 6, 0, 7, 8, 9, 10] rfl
  have hD : WD A [[(h.e0, .inr (1, [.ref h.e1, .ref h.e2, .ref h.e3, .ref h.e4, .ref h.e5, .int h.S.td, .int h.S.pk, .int h.S.pd]))], [(h.e1, .inr (11, [.int h.m0, .ref h.x0.1, .int (nI h.n)]))], (alA Γ h.x0), (cowsB h.n h.ca h.S.cv), [(h.e2, .inr (11, [.int h.m1, .ref h.x1.1, .int (nI h.nr)]))], (alA Γ h.x1), [(h.e3, .inr (11, [.int h.m2, .ref h.x2.1, .int (nI h.S.np)]))], (alA Γ h.x2), [(h.e4, .inr (2, [.int h.S.li, .int h.S.ce]))], [(h.e5, .inl (Γ.2.1 0, 6, .inl h.se))], [(b, .inr (0, [.ref h.e0, .ref tt, .ref sv, .int zs, .ref da, .ref tx, .ref wr, .int fl, .int rf]))]] := bD_sel hD [1, 2, 3, 4, 5, 6, 0, 7, 8, 9, 10] rfl rfl
  have hP : WP Γ [(hdB Γ h), [(b, .inr (0, [.ref h.e0, .ref tt, .ref sv, .int zs, .ref da, .ref tx, .ref wr, .int fl, .int rf]))]] H := (hdP_un (Bs := hdL Γ h) hP)
  have hD : WD A [(hdB Γ h), [(b, .inr (0, [.ref h.e0, .ref tt, .ref sv, .int zs, .ref da, .ref tx, .ref wr, .int fl, .int rf]))]] := (hdD_un (Bs := hdL Γ h) hD)
  refine b_callx (br := [(hdB Γ h), [(b, .inr (0, [.ref h.e0, .ref tt, .ref sv, .int zs, .ref da, .ref tx, .ref wr, .int fl, .int rf]))]]) (b_runSx ⟨hx, hb, hml, hown, hts⟩ (mt_DB_checkIndex_x l Γ _ (inC c 0 ((nI h.S.np) - 1)) hnt (by first | assumption | rfl)) (lw_S q914 q915 q62 q916) rfl rfl 1 (by decide +kernel) ⟨(Nat.le_of_ble_eq_true rfl), (Nat.le_of_ble_eq_true rfl)⟩ (c_pre hP hD hS hA hK hE [] rfl rfl ro_nil) rfl hl.1 rfl (Nat.le_of_ble_eq_true rfl) dX1_pickupAt_17 ⟨(Nat.le_of_ble_eq_true rfl), (Nat.le_of_ble_eq_true rfl)⟩) hP hD hS hA [] [0, 1] rfl rfl rfl (fun q_3 ce_3 u_3 H locs hw_3 hP hD hS _ hce_3 hcv_3 hcl_3 => ?_)
  obtain rfl := hw_3
  have hP : WP Γ [(hdB Γ h), [(b, .inr (0, [.ref h.e0, .ref tt, .ref sv, .int zs, .ref da, .ref tx, .ref wr, .int fl, .int rf]))]] H := hP
  have hD : WD A [(hdB Γ h), [(b, .inr (0, [.ref h.e0, .ref tt, .ref sv, .int zs, .ref da, .ref tx, .ref wr, .int fl, .int rf]))]] := hD
  have hP : WP Γ [[(b, .inr (0, [.ref h.e0, .ref tt, .ref sv, .int zs, .ref da, .ref tx, .ref wr, .int fl, .int rf]))], (hdB Γ h)] H := bP_sel hP [1, 0] rfl
  have hD : WD A [[(b, .inr (0, [.ref h.e0, .ref tt, .ref sv, .int zs, .ref da, .ref tx, .ref wr, .int fl, .int rf]))], (hdB Γ h)] := bD_sel hD [1, 0] rfl rfl
  exact b_outx hlocks (fun x hx9 => (ht9 x hx9).elim) hP hD hS hce_3 hcv_3 hcl_3 (by first | rfl | (simp; done)) (Nat.le_of_ble_eq_true rfl) (Nat.le_of_ble_eq_true rfl)
set_option maxHeartbeats 4000000 in
set_option maxRecDepth 100000 in
theorem mt_DB_bonus_x (l : Launch) (Γ : GE) (sz : Nat) (b : Nat) (h : HB) (tt : Nat) (sv : Nat) (zs : Int32) (da : Nat) (tx : Nat) (wr : Nat) (fl : Int32) (rf : Int32) (P : va_W) (c : Int32) (z : Int32) (hnt : l.stackTraces = false) (ho : hdOk Γ P h) (hx9 : inC c 0 (nI h.nr - 1) = 0) : KMX l yX1_bonus cX1_bonus 4 (some FieldType.int) Γ 7 110 1 6 [.ref b, .int c, .int z] [[(b, .inr (0, [.ref h.e0, .ref tt, .ref sv, .int zs, .ref da, .ref tx, .ref wr, .int fl, .int rf]))], (hdB Γ h)] [P] sz "java/lang/IndexOutOfBoundsException" (fun q_ u_ => u_ = [[(b, .inr (0, [.ref h.e0, .ref tt, .ref sv, .int zs, .ref da, .ref tx, .ref wr, .int fl, .int rf]))], (hdB Γ h)]) := by
  refine K_introX (by decide) (Nat.le_of_ble_eq_true rfl) ?_
  intro pr_ ev_ s mi_ below meth cd_ A ls hx hb hr hml hown hts hlocks hname hK hE hRo hP hD hA hS hsz hl ht9
  have hl : lv_has ls 4 [(0, .ref b), (1, .int c), (2, .int z)] := hl
  have hown : s.vm.findClass RX1 = some mi_.cls := hown
  have hP : WP Γ [(hdB Γ h), [(b, .inr (0, [.ref h.e0, .ref tt, .ref sv, .int zs, .ref da, .ref tx, .ref wr, .int fl, .int rf]))]] s.heap := bP_sel hP [1, 0] rfl
  have hD : WD A [(hdB Γ h), [(b, .inr (0, [.ref h.e0, .ref tt, .ref sv, .int zs, .ref da, .ref tx, .ref wr, .int fl, .int rf]))]] := bD_sel hD [1, 0] rfl rfl
  have hP : WP Γ [[(h.e0, .inr (1, [.ref h.e1, .ref h.e2, .ref h.e3, .ref h.e4, .ref h.e5, .int h.S.td, .int h.S.pk, .int h.S.pd]))], [(h.e1, .inr (11, [.int h.m0, .ref h.x0.1, .int (nI h.n)]))], (alA Γ h.x0), (cowsB h.n h.ca h.S.cv), [(h.e2, .inr (11, [.int h.m1, .ref h.x1.1, .int (nI h.nr)]))], (alA Γ h.x1), [(h.e3, .inr (11, [.int h.m2, .ref h.x2.1, .int (nI h.S.np)]))], (alA Γ h.x2), [(h.e4, .inr (2, [.int h.S.li, .int h.S.ce]))], [(h.e5, .inl (Γ.2.1 0, 6, .inl h.se))], [(b, .inr (0, [.ref h.e0, .ref tt, .ref sv, .int zs, .ref da, .ref tx, .ref wr, .int fl, .int rf]))]] s.heap := hdP_ex (Bs := hdL Γ h) hP
  have hD : WD A [[(h.e0, .inr (1, [.ref h.e1, .ref h.e2, .ref h.e3, .ref h.e4, .ref h.e5, .int h.S.td, .int h.S.pk, .int h.S.pd]))], [(h.e1, .inr (11, [.int h.m0, .ref h.x0.1, .int (nI h.n)]))], (alA Γ h.x0), (cowsB h.n h.ca h.S.cv), [(h.e2, .inr (11, [.int h.m1, .ref h.x1.1, .int (nI h.nr)]))], (alA Γ h.x1), [(h.e3, .inr (11, [.int h.m2, .ref h.x2.1, .int (nI h.S.np)]))], (alA Γ h.x2), [(h.e4, .inr (2, [.int h.S.li, .int h.S.ce]))], [(h.e5, .inl (Γ.2.1 0, 6, .inl h.se))], [(b, .inr (0, [.ref h.e0, .ref tt, .ref sv, .int zs, .ref da, .ref tx, .ref wr, .int fl, .int rf]))]] := hdD_ex (Bs := hdL Γ h) hD
  have hal0 : alI Γ h.x0 h.n h.ca := ho.1
  have hn8 : h.n ≤ 8 := ho.2.1
  have hal1 : alI Γ h.x1 h.nr h.ra := ho.2.2.1
  have nr4 : h.nr ≤ 4 := ho.2.2.2.1
  have hrw : ∀ k, k < h.nr → (h.ra k, rowE (h.rv k)) ∈ P := ho.2.2.2.2.1
  have hal2 : alI Γ h.x2 h.S.np h.pa := ho.2.2.2.2.2.1
  have np60 : h.S.np ≤ 60 := ho.2.2.2.2.2.2.1
  have hpk : ∀ k, k < h.S.np → (h.pa k, pickE (h.S.pv k)) ∈ P := ho.2.2.2.2.2.2.2.1
  have hcb : ∀ k, k < h.n → cowB (h.S.cv k) := ho.2.2.2.2.2.2.2.2
  refine lv_iload_n hx hb dX1_bonus_0 rfl (lv_at hl 1 rfl) ?_
  refine lv_iconst (v := 0) hx hb dX1_bonus_1 (by decide) ?_
  refine lv_aload_n hx hb dX1_bonus_2 rfl (lv_at hl 0 rfl) ?_
  refine b_get (C := RX1) (T := TX1) (N := 9) (v := .ref h.e0) hx hb hts in_X1 hown hK (b_at (k := 10) hP rfl) rfl 0 (by decide) q248 (fun _ h9 => h9) rfl dX1_bonus_3 ?_
  refine b_getN (C := RX2) (T := TX2) (N := 8) (v := .ref h.e2) hx hb hts hE in_X2 hown hK (b_at (k := 0) hP rfl) rfl 1 (by decide) q167 (fun _ h9 => h9) rfl dX1_bonus_6 ?_
  refine b_calli (br := [[(h.e0, .inr (1, [.ref h.e1, .ref h.e2, .ref h.e3, .ref h.e4, .ref h.e5, .int h.S.td, .int h.S.pk, .int h.S.pd]))], [(h.e1, .inr (11, [.int h.m0, .ref h.x0.1, .int (nI h.n)]))], (alA Γ h.x0), (cowsB h.n h.ca h.S.cv), (alA Γ h.x1), [(h.e3, .inr (11, [.int h.m2, .ref h.x2.1, .int (nI h.S.np)]))], (alA Γ h.x2), [(h.e4, .inr (2, [.int h.S.li, .int h.S.ce]))], [(h.e5, .inl (Γ.2.1 0, 6, .inl h.se))], [(b, .inr (0, [.ref h.e0, .ref tt, .ref sv, .int zs, .ref da, .ref tx, .ref wr, .int fl, .int rf]))]]) (b_runV ⟨hx, hb, hml, hown, hts⟩ (mt_AL_size l Γ _ h.e2 h.m1 h.x1.1 h.nr) (lw_V q817 q818 q819 q66 q820) rfl rfl 0 (by decide +kernel) ⟨(Nat.le_of_ble_eq_true rfl), (Nat.le_of_ble_eq_true rfl)⟩ (c_pre hP hD hS hA hK hE [4] rfl rfl ro_nil) (recv_at (q := (RJ2, TJ2, 3)) hK (b_at (k := 4) hP rfl) rfl) rfl hl.1 rfl (Nat.le_of_ble_eq_true rfl) dX1_bonus_9 ⟨(Nat.le_of_ble_eq_true rfl), (Nat.le_of_ble_eq_true rfl)⟩) hP hD hS hA [4] [0, 1, 2, 3, 5, 6, 7, 8, 9, 10] rfl rfl rfl (fun r_1 u_1 H locs hw_1 hP hD hS _ => ?_)
  obtain ⟨rfl, rfl⟩ := hw_1
  have hP : WP Γ [[(h.e2, .inr (11, [.int h.m1, .ref h.x1.1, .int (nI h.nr)]))], [(h.e0, .inr (1, [.ref h.e1, .ref h.e2, .ref h.e3, .ref h.e4, .ref h.e5, .int h.S.td, .int h.S.pk, .int h.S.pd]))], [(h.e1, .inr (11, [.int h.m0, .ref h.x0.1, .int (nI h.n)]))], (alA Γ h.x0), (cowsB h.n h.ca h.S.cv), (alA Γ h.x1), [(h.e3, .inr (11, [.int h.m2, .ref h.x2.1, .int (nI h.S.np)]))], (alA Γ h.x2), [(h.e4, .inr (2, [.int h.S.li, .int h.S.ce]))], [(h.e5, .inl (Γ.2.1 0, 6, .inl h.se))], [(b, .inr (0, [.ref h.e0, .ref tt, .ref sv, .int zs, .ref da, .ref tx, .ref wr, .int fl, .int rf]))]] H := hP
  have hD : WD A [[(h.e2, .inr (11, [.int h.m1, .ref h.x1.1, .int (nI h.nr)]))], [(h.e0, .inr (1, [.ref h.e1, .ref h.e2, .ref h.e3, .ref h.e4, .ref h.e5, .int h.S.td, .int h.S.pk, .int h.S.pd]))], [(h.e1, .inr (11, [.int h.m0, .ref h.x0.1, .int (nI h.n)]))], (alA Γ h.x0), (cowsB h.n h.ca h.S.cv), (alA Γ h.x1), [(h.e3, .inr (11, [.int h.m2, .ref h.x2.1, .int (nI h.S.np)]))], (alA Γ h.x2), [(h.e4, .inr (2, [.int h.S.li, .int h.S.ce]))], [(h.e5, .inl (Γ.2.1 0, 6, .inl h.se))], [(b, .inr (0, [.ref h.e0, .ref tt, .ref sv, .int zs, .ref da, .ref tx, .ref wr, .int fl, .int rf]))]] := hD
  refine lv_iconst (v := 1) hx hb dX1_bonus_12 (by decide) ?_
  refine lv_isub hx hb dX1_bonus_13 ?_
  refine b_calli (br := [[(h.e2, .inr (11, [.int h.m1, .ref h.x1.1, .int (nI h.nr)]))], [(h.e0, .inr (1, [.ref h.e1, .ref h.e2, .ref h.e3, .ref h.e4, .ref h.e5, .int h.S.td, .int h.S.pk, .int h.S.pd]))], [(h.e1, .inr (11, [.int h.m0, .ref h.x0.1, .int (nI h.n)]))], (alA Γ h.x0), (cowsB h.n h.ca h.S.cv), (alA Γ h.x1), [(h.e3, .inr (11, [.int h.m2, .ref h.x2.1, .int (nI h.S.np)]))], (alA Γ h.x2), [(h.e4, .inr (2, [.int h.S.li, .int h.S.ce]))], [(h.e5, .inl (Γ.2.1 0, 6, .inl h.se))], [(b, .inr (0, [.ref h.e0, .ref tt, .ref sv, .int zs, .ref da, .ref tx, .ref wr, .int fl, .int rf]))]]) (b_runS ⟨hx, hb, hml, hown, hts⟩ (mt_DB_in l Γ _ c 0 ((nI h.nr) - 1)) (lw_S q806 q807 q62 q808) rfl rfl 3 (by decide +kernel) ⟨(Nat.le_of_ble_eq_true rfl), (Nat.le_of_ble_eq_true rfl)⟩ (c_pre hP hD hS hA hK hE [] rfl rfl ro_nil) rfl hl.1 rfl (Nat.le_of_ble_eq_true rfl) dX1_bonus_14 ⟨(Nat.le_of_ble_eq_true rfl), (Nat.le_of_ble_eq_true rfl)⟩) hP hD hS hA [] [0, 1, 2, 3, 4, 5, 6, 7, 8, 9, 10] rfl rfl rfl (fun r_2 u_2 H locs hw_2 hP hD hS _ => ?_)
  obtain ⟨rfl, rfl⟩ := hw_2
  have hP : WP Γ [[(h.e2, .inr (11, [.int h.m1, .ref h.x1.1, .int (nI h.nr)]))], [(h.e0, .inr (1, [.ref h.e1, .ref h.e2, .ref h.e3, .ref h.e4, .ref h.e5, .int h.S.td, .int h.S.pk, .int h.S.pd]))], [(h.e1, .inr (11, [.int h.m0, .ref h.x0.1, .int (nI h.n)]))], (alA Γ h.x0), (cowsB h.n h.ca h.S.cv), (alA Γ h.x1), [(h.e3, .inr (11, [.int h.m2, .ref h.x2.1, .int (nI h.S.np)]))], (alA Γ h.x2), [(h.e4, .inr (2, [.int h.S.li, .int h.S.ce]))], [(h.e5, .inl (Γ.2.1 0, 6, .inl h.se))], [(b, .inr (0, [.ref h.e0, .ref tt, .ref sv, .int zs, .ref da, .ref tx, .ref wr, .int fl, .int rf]))]] H := hP
  have hD : WD A [[(h.e2, .inr (11, [.int h.m1, .ref h.x1.1, .int (nI h.nr)]))], [(h.e0, .inr (1, [.ref h.e1, .ref h.e2, .ref h.e3, .ref h.e4, .ref h.e5, .int h.S.td, .int h.S.pk, .int h.S.pd]))], [(h.e1, .inr (11, [.int h.m0, .ref h.x0.1, .int (nI h.n)]))], (alA Γ h.x0), (cowsB h.n h.ca h.S.cv), (alA Γ h.x1), [(h.e3, .inr (11, [.int h.m2, .ref h.x2.1, .int (nI h.S.np)]))], (alA Γ h.x2), [(h.e4, .inr (2, [.int h.S.li, .int h.S.ce]))], [(h.e5, .inl (Γ.2.1 0, 6, .inl h.se))], [(b, .inr (0, [.ref h.e0, .ref tt, .ref sv, .int zs, .ref da, .ref tx, .ref wr, .int fl, .int rf]))]] := hD
  have hP : WP Γ [[(h.e0, .inr (1, [.ref h.e1, .ref h.e2, .ref h.e3, .ref h.e4, .ref h.e5, .int h.S.td, .int h.S.pk, .int h.S.pd]))], [(h.e1, .inr (11, [.int h.m0, .ref h.x0.1, .int (nI h.n)]))], (alA Γ h.x0), (cowsB h.n h.ca h.S.cv), [(h.e2, .inr (11, [.int h.m1, .ref h.x1.1, .int (nI h.nr)]))], (alA Γ h.x1), [(h.e3, .inr (11, [.int h.m2, .ref h.x2.1, .int (nI h.S.np)]))], (alA Γ h.x2), [(h.e4, .inr (2, [.int h.S.li, .int h.S.ce]))], [(h.e5, .inl (Γ.2.1 0, 6, .inl h.se))], [(b, .inr (0, [.ref h.e0, .ref tt, .ref sv, .int zs, .ref da, .ref tx, .ref wr, .int fl, .int rf]))]] H := bP_sel hP [1, 2, 3, 4, 0, 5, 6, 7, 8, 9, 10] rfl
  have hD : WD A [[(h.e0, .inr (1, [.ref h.e1, .ref h.e2, .ref h.e3, .ref h.e4, .ref h.e5, .int h.S.td, .int h.S.pk, .int h.S.pd]))], [(h.e1, .inr (11, [.int h.m0, .ref h.x0.1, .int (nI h.n)]))], (alA Γ h.x0), (cowsB h.n h.ca h.S.cv), [(h.e2, .inr (11, [.int h.m1, .ref h.x1.1, .int (nI h.nr)]))], (alA Γ h.x1), [(h.e3, .inr (11, [.int h.m2, .ref h.x2.1, .int (nI h.S.np)]))], (alA Γ h.x2), [(h.e4, .inr (2, [.int h.S.li, .int h.S.ce]))], [(h.e5, .inl (Γ.2.1 0, 6, .inl h.se))], [(b, .inr (0, [.ref h.e0, .ref tt, .ref sv, .int zs, .ref da, .ref tx, .ref wr, .int fl, .int rf]))]] := bD_sel hD [1, 2, 3, 4, 0, 5, 6, 7, 8, 9, 10] rfl rfl
  have hP : WP Γ [(hdB Γ h), [(b, .inr (0, [.ref h.e0, .ref tt, .ref sv, .int zs, .ref da, .ref tx, .ref wr, .int fl, .int rf]))]] H := (hdP_un (Bs := hdL Γ h) hP)
  have hD : WD A [(hdB Γ h), [(b, .inr (0, [.ref h.e0, .ref tt, .ref sv, .int zs, .ref da, .ref tx, .ref wr, .int fl, .int rf]))]] := (hdD_un (Bs := hdL Γ h) hD)
  refine b_callx (br := [(hdB Γ h), [(b, .inr (0, [.ref h.e0, .ref tt, .ref sv, .int zs, .ref da, .ref tx, .ref wr, .int fl, .int rf]))]]) (b_runSx ⟨hx, hb, hml, hown, hts⟩ (mt_DB_checkIndex_x l Γ _ (inC c 0 ((nI h.nr) - 1)) hnt (by first | assumption | rfl)) (lw_S q914 q915 q62 q916) rfl rfl 1 (by decide +kernel) ⟨(Nat.le_of_ble_eq_true rfl), (Nat.le_of_ble_eq_true rfl)⟩ (c_pre hP hD hS hA hK hE [] rfl rfl ro_nil) rfl hl.1 rfl (Nat.le_of_ble_eq_true rfl) dX1_bonus_17 ⟨(Nat.le_of_ble_eq_true rfl), (Nat.le_of_ble_eq_true rfl)⟩) hP hD hS hA [] [0, 1] rfl rfl rfl (fun q_3 ce_3 u_3 H locs hw_3 hP hD hS _ hce_3 hcv_3 hcl_3 => ?_)
  obtain rfl := hw_3
  have hP : WP Γ [(hdB Γ h), [(b, .inr (0, [.ref h.e0, .ref tt, .ref sv, .int zs, .ref da, .ref tx, .ref wr, .int fl, .int rf]))]] H := hP
  have hD : WD A [(hdB Γ h), [(b, .inr (0, [.ref h.e0, .ref tt, .ref sv, .int zs, .ref da, .ref tx, .ref wr, .int fl, .int rf]))]] := hD
  have hP : WP Γ [[(b, .inr (0, [.ref h.e0, .ref tt, .ref sv, .int zs, .ref da, .ref tx, .ref wr, .int fl, .int rf]))], (hdB Γ h)] H := bP_sel hP [1, 0] rfl
  have hD : WD A [[(b, .inr (0, [.ref h.e0, .ref tt, .ref sv, .int zs, .ref da, .ref tx, .ref wr, .int fl, .int rf]))], (hdB Γ h)] := bD_sel hD [1, 0] rfl rfl
  exact b_outx hlocks (fun x hx9 => (ht9 x hx9).elim) hP hD hS hce_3 hcv_3 hcl_3 (by first | rfl | (simp; done)) (Nat.le_of_ble_eq_true rfl) (Nat.le_of_ble_eq_true rfl)
set_option maxHeartbeats 4000000 in
set_option maxRecDepth 100000 in
theorem mt_DB_setting_x (l : Launch) (Γ : GE) (sz : Nat) (b : Nat) (h : HB) (tt : Nat) (sv : Nat) (zs : Int32) (da : Nat) (tx : Nat) (wr : Nat) (fl : Int32) (rf : Int32) (c : Int32) (hnt : l.stackTraces = false) (hx9 : inC c 0 5 = 0) : KMX l yX1_setting cX1_setting 2 (some FieldType.int) Γ 7 110 1 6 [.ref b, .int c] [[(b, .inr (0, [.ref h.e0, .ref tt, .ref sv, .int zs, .ref da, .ref tx, .ref wr, .int fl, .int rf]))]] [] sz "java/lang/IndexOutOfBoundsException" (fun q_ u_ => u_ = [[(b, .inr (0, [.ref h.e0, .ref tt, .ref sv, .int zs, .ref da, .ref tx, .ref wr, .int fl, .int rf]))]]) := by
  refine K_introX (by decide) (Nat.le_of_ble_eq_true rfl) ?_
  intro pr_ ev_ s mi_ below meth cd_ A ls hx hb hr hml hown hts hlocks hname hK hE hRo hP hD hA hS hsz hl ht9
  have hl : lv_has ls 2 [(0, .ref b), (1, .int c)] := hl
  have hown : s.vm.findClass RX1 = some mi_.cls := hown
  refine lv_iload_n hx hb dX1_setting_0 rfl (lv_at hl 1 rfl) ?_
  refine lv_iconst (v := 0) hx hb dX1_setting_1 (by decide) ?_
  refine lv_iconst (v := 5) hx hb dX1_setting_2 (by decide) ?_
  refine b_calli (br := [[(b, .inr (0, [.ref h.e0, .ref tt, .ref sv, .int zs, .ref da, .ref tx, .ref wr, .int fl, .int rf]))]]) (b_runS ⟨hx, hb, hml, hown, hts⟩ (mt_DB_in l Γ _ c 0 5) (lw_S q806 q807 q62 q808) rfl rfl 3 (by decide +kernel) ⟨(Nat.le_of_ble_eq_true rfl), (Nat.le_of_ble_eq_true rfl)⟩ (c_pre hP hD hS hA hK hE [] rfl rfl ro_nil) rfl hl.1 rfl (Nat.le_of_ble_eq_true rfl) dX1_setting_3 ⟨(Nat.le_of_ble_eq_true rfl), (Nat.le_of_ble_eq_true rfl)⟩) hP hD hS hA [] [0] rfl rfl rfl (fun r_1 u_1 H locs hw_1 hP hD hS _ => ?_)
  obtain ⟨rfl, rfl⟩ := hw_1
  have hP : WP Γ [[(b, .inr (0, [.ref h.e0, .ref tt, .ref sv, .int zs, .ref da, .ref tx, .ref wr, .int fl, .int rf]))]] H := hP
  have hD : WD A [[(b, .inr (0, [.ref h.e0, .ref tt, .ref sv, .int zs, .ref da, .ref tx, .ref wr, .int fl, .int rf]))]] := hD
  refine b_callx (br := [[(b, .inr (0, [.ref h.e0, .ref tt, .ref sv, .int zs, .ref da, .ref tx, .ref wr, .int fl, .int rf]))]]) (b_runSx ⟨hx, hb, hml, hown, hts⟩ (mt_DB_checkIndex_x l Γ _ (inC c 0 5) hnt (by first | assumption | rfl)) (lw_S q914 q915 q62 q916) rfl rfl 1 (by decide +kernel) ⟨(Nat.le_of_ble_eq_true rfl), (Nat.le_of_ble_eq_true rfl)⟩ (c_pre hP hD hS hA hK hE [] rfl rfl ro_nil) rfl hl.1 rfl (Nat.le_of_ble_eq_true rfl) dX1_setting_6 ⟨(Nat.le_of_ble_eq_true rfl), (Nat.le_of_ble_eq_true rfl)⟩) hP hD hS hA [] [0] rfl rfl rfl (fun q_2 ce_2 u_2 H locs hw_2 hP hD hS _ hce_2 hcv_2 hcl_2 => ?_)
  obtain rfl := hw_2
  have hP : WP Γ [[(b, .inr (0, [.ref h.e0, .ref tt, .ref sv, .int zs, .ref da, .ref tx, .ref wr, .int fl, .int rf]))]] H := hP
  have hD : WD A [[(b, .inr (0, [.ref h.e0, .ref tt, .ref sv, .int zs, .ref da, .ref tx, .ref wr, .int fl, .int rf]))]] := hD
  exact b_outx hlocks (fun x hx9 => (ht9 x hx9).elim) hP hD hS hce_2 hcv_2 hcl_2 (by first | rfl | (simp; done)) (Nat.le_of_ble_eq_true rfl) (Nat.le_of_ble_eq_true rfl)
set_option maxHeartbeats 4000000 in
set_option maxRecDepth 100000 in
theorem mt_DB_set_x1 (l : Launch) (Γ : GE) (sz : Nat) (b : Nat) (h : HB) (tt : Nat) (sv : Nat) (zs : Int32) (da : Nat) (tx : Nat) (wr : Nat) (fl : Int32) (rf : Int32) (c : Int32) (w : Int32) (hnt : l.stackTraces = false) (hx9 : inC c 0 5 = 0) : KMX l yX1_set cX1_set 4 (some FieldType.int) Γ 7 110 1 6 [.ref b, .int c, .int w] [[(b, .inr (0, [.ref h.e0, .ref tt, .ref sv, .int zs, .ref da, .ref tx, .ref wr, .int fl, .int rf]))]] [] sz "java/lang/IndexOutOfBoundsException" (fun q_ u_ => u_ = [[(b, .inr (0, [.ref h.e0, .ref tt, .ref sv, .int zs, .ref da, .ref tx, .ref wr, .int fl, .int rf]))]]) := by
  refine K_introX (by decide) (Nat.le_of_ble_eq_true rfl) ?_
  intro pr_ ev_ s mi_ below meth cd_ A ls hx hb hr hml hown hts hlocks hname hK hE hRo hP hD hA hS hsz hl ht9
  have hl : lv_has ls 4 [(0, .ref b), (1, .int c), (2, .int w)] := hl
  have hown : s.vm.findClass RX1 = some mi_.cls := hown
  refine lv_iload_n hx hb dX1_set_0 rfl (lv_at hl 1 rfl) ?_
  refine lv_iconst (v := 0) hx hb dX1_set_1 (by decide) ?_
  refine lv_iconst (v := 5) hx hb dX1_set_2 (by decide) ?_
  refine b_calli (br := [[(b, .inr (0, [.ref h.e0, .ref tt, .ref sv, .int zs, .ref da, .ref tx, .ref wr, .int fl, .int rf]))]]) (b_runS ⟨hx, hb, hml, hown, hts⟩ (mt_DB_in l Γ _ c 0 5) (lw_S q806 q807 q62 q808) rfl rfl 3 (by decide +kernel) ⟨(Nat.le_of_ble_eq_true rfl), (Nat.le_of_ble_eq_true rfl)⟩ (c_pre hP hD hS hA hK hE [] rfl rfl ro_nil) rfl hl.1 rfl (Nat.le_of_ble_eq_true rfl) dX1_set_3 ⟨(Nat.le_of_ble_eq_true rfl), (Nat.le_of_ble_eq_true rfl)⟩) hP hD hS hA [] [0] rfl rfl rfl (fun r_1 u_1 H locs hw_1 hP hD hS _ => ?_)
  obtain ⟨rfl, rfl⟩ := hw_1
  have hP : WP Γ [[(b, .inr (0, [.ref h.e0, .ref tt, .ref sv, .int zs, .ref da, .ref tx, .ref wr, .int fl, .int rf]))]] H := hP
  have hD : WD A [[(b, .inr (0, [.ref h.e0, .ref tt, .ref sv, .int zs, .ref da, .ref tx, .ref wr, .int fl, .int rf]))]] := hD
  refine b_callx (br := [[(b, .inr (0, [.ref h.e0, .ref tt, .ref sv, .int zs, .ref da, .ref tx, .ref wr, .int fl, .int rf]))]]) (b_runSx ⟨hx, hb, hml, hown, hts⟩ (mt_DB_checkIndex_x l Γ _ (inC c 0 5) hnt (by first | assumption | rfl)) (lw_S q914 q915 q62 q916) rfl rfl 1 (by decide +kernel) ⟨(Nat.le_of_ble_eq_true rfl), (Nat.le_of_ble_eq_true rfl)⟩ (c_pre hP hD hS hA hK hE [] rfl rfl ro_nil) rfl hl.1 rfl (Nat.le_of_ble_eq_true rfl) dX1_set_6 ⟨(Nat.le_of_ble_eq_true rfl), (Nat.le_of_ble_eq_true rfl)⟩) hP hD hS hA [] [0] rfl rfl rfl (fun q_2 ce_2 u_2 H locs hw_2 hP hD hS _ hce_2 hcv_2 hcl_2 => ?_)
  obtain rfl := hw_2
  have hP : WP Γ [[(b, .inr (0, [.ref h.e0, .ref tt, .ref sv, .int zs, .ref da, .ref tx, .ref wr, .int fl, .int rf]))]] H := hP
  have hD : WD A [[(b, .inr (0, [.ref h.e0, .ref tt, .ref sv, .int zs, .ref da, .ref tx, .ref wr, .int fl, .int rf]))]] := hD
  exact b_outx hlocks (fun x hx9 => (ht9 x hx9).elim) hP hD hS hce_2 hcv_2 hcl_2 (by first | rfl | (simp; done)) (Nat.le_of_ble_eq_true rfl) (Nat.le_of_ble_eq_true rfl)
set_option maxHeartbeats 4000000 in
set_option maxRecDepth 100000 in
theorem mt_DB_set_x2 (l : Launch) (Γ : GE) (sz : Nat) (b : Nat) (h : HB) (tt : Nat) (sv : Nat) (zs : Int32) (da : Nat) (tx : Nat) (wr : Nat) (fl : Int32) (rf : Int32) (c : Int32) (w : Int32) (hnt : l.stackTraces = false) (hi9 : ¬ inC c 0 5 = 0) (hx9 : inC w (loS c) (hiS c) = 0) : KMX l yX1_set cX1_set 4 (some FieldType.int) Γ 7 110 1 6 [.ref b, .int c, .int w] [[(b, .inr (0, [.ref h.e0, .ref tt, .ref sv, .int zs, .ref da, .ref tx, .ref wr, .int fl, .int rf]))]] [] sz "java/lang/IllegalArgumentException" (fun q_ u_ => u_ = [[(b, .inr (0, [.ref h.e0, .ref tt, .ref sv, .int zs, .ref da, .ref tx, .ref wr, .int fl, .int rf]))]]) := by
  refine K_introX (by decide) (Nat.le_of_ble_eq_true rfl) ?_
  intro pr_ ev_ s mi_ below meth cd_ A ls hx hb hr hml hown hts hlocks hname hK hE hRo hP hD hA hS hsz hl ht9
  have hl : lv_has ls 4 [(0, .ref b), (1, .int c), (2, .int w)] := hl
  have hown : s.vm.findClass RX1 = some mi_.cls := hown
  refine lv_iload_n hx hb dX1_set_0 rfl (lv_at hl 1 rfl) ?_
  refine lv_iconst (v := 0) hx hb dX1_set_1 (by decide) ?_
  refine lv_iconst (v := 5) hx hb dX1_set_2 (by decide) ?_
  refine b_calli (br := [[(b, .inr (0, [.ref h.e0, .ref tt, .ref sv, .int zs, .ref da, .ref tx, .ref wr, .int fl, .int rf]))]]) (b_runS ⟨hx, hb, hml, hown, hts⟩ (mt_DB_in l Γ _ c 0 5) (lw_S q806 q807 q62 q808) rfl rfl 3 (by decide +kernel) ⟨(Nat.le_of_ble_eq_true rfl), (Nat.le_of_ble_eq_true rfl)⟩ (c_pre hP hD hS hA hK hE [] rfl rfl ro_nil) rfl hl.1 rfl (Nat.le_of_ble_eq_true rfl) dX1_set_3 ⟨(Nat.le_of_ble_eq_true rfl), (Nat.le_of_ble_eq_true rfl)⟩) hP hD hS hA [] [0] rfl rfl rfl (fun r_1 u_1 H locs hw_1 hP hD hS _ => ?_)
  obtain ⟨rfl, rfl⟩ := hw_1
  have hP : WP Γ [[(b, .inr (0, [.ref h.e0, .ref tt, .ref sv, .int zs, .ref da, .ref tx, .ref wr, .int fl, .int rf]))]] H := hP
  have hD : WD A [[(b, .inr (0, [.ref h.e0, .ref tt, .ref sv, .int zs, .ref da, .ref tx, .ref wr, .int fl, .int rf]))]] := hD
  refine b_callv (br := [[(b, .inr (0, [.ref h.e0, .ref tt, .ref sv, .int zs, .ref da, .ref tx, .ref wr, .int fl, .int rf]))]]) (b_runS ⟨hx, hb, hml, hown, hts⟩ (mt_DB_checkIndex_ok l Γ _ (inC c 0 5) hi9) (lw_S q914 q915 q62 q916) rfl rfl 1 (by decide +kernel) ⟨(Nat.le_of_ble_eq_true rfl), (Nat.le_of_ble_eq_true rfl)⟩ (c_pre hP hD hS hA hK hE [] rfl rfl ro_nil) rfl hl.1 rfl (Nat.le_of_ble_eq_true rfl) dX1_set_6 ⟨(Nat.le_of_ble_eq_true rfl), (Nat.le_of_ble_eq_true rfl)⟩) hP hD hS hA [] [0] rfl rfl rfl (fun u_2 H locs hw_2 hP hD hS _ => ?_)
  obtain rfl := hw_2
  have hP : WP Γ [[(b, .inr (0, [.ref h.e0, .ref tt, .ref sv, .int zs, .ref da, .ref tx, .ref wr, .int fl, .int rf]))]] H := hP
  have hD : WD A [[(b, .inr (0, [.ref h.e0, .ref tt, .ref sv, .int zs, .ref da, .ref tx, .ref wr, .int fl, .int rf]))]] := hD
  refine lv_iload_n hx hb dX1_set_9 rfl (lv_at hl 2 rfl) ?_
  refine lv_iload_n hx hb dX1_set_10 rfl (lv_at hl 1 rfl) ?_
  refine b_calli (br := [[(b, .inr (0, [.ref h.e0, .ref tt, .ref sv, .int zs, .ref da, .ref tx, .ref wr, .int fl, .int rf]))]]) (b_runS ⟨hx, hb, hml, hown, hts⟩ (mt_DB_lowest l Γ _ c) (lw_S q932 q933 q62 q934) rfl rfl 1 (by decide +kernel) ⟨(Nat.le_of_ble_eq_true rfl), (Nat.le_of_ble_eq_true rfl)⟩ (c_pre hP hD hS hA hK hE [] rfl rfl ro_nil) rfl hl.1 rfl (Nat.le_of_ble_eq_true rfl) dX1_set_11 ⟨(Nat.le_of_ble_eq_true rfl), (Nat.le_of_ble_eq_true rfl)⟩) hP hD hS hA [] [0] rfl rfl rfl (fun r_3 u_3 H locs hw_3 hP hD hS _ => ?_)
  obtain ⟨rfl, rfl⟩ := hw_3
  have hP : WP Γ [[(b, .inr (0, [.ref h.e0, .ref tt, .ref sv, .int zs, .ref da, .ref tx, .ref wr, .int fl, .int rf]))]] H := hP
  have hD : WD A [[(b, .inr (0, [.ref h.e0, .ref tt, .ref sv, .int zs, .ref da, .ref tx, .ref wr, .int fl, .int rf]))]] := hD
  refine lv_iload_n hx hb dX1_set_14 rfl (lv_at hl 1 rfl) ?_
  refine b_calli (br := [[(b, .inr (0, [.ref h.e0, .ref tt, .ref sv, .int zs, .ref da, .ref tx, .ref wr, .int fl, .int rf]))]]) (b_runS ⟨hx, hb, hml, hown, hts⟩ (mt_DB_highest l Γ _ c) (lw_S q935 q936 q62 q937) rfl rfl 1 (by decide +kernel) ⟨(Nat.le_of_ble_eq_true rfl), (Nat.le_of_ble_eq_true rfl)⟩ (c_pre hP hD hS hA hK hE [] rfl rfl ro_nil) rfl hl.1 rfl (Nat.le_of_ble_eq_true rfl) dX1_set_15 ⟨(Nat.le_of_ble_eq_true rfl), (Nat.le_of_ble_eq_true rfl)⟩) hP hD hS hA [] [0] rfl rfl rfl (fun r_4 u_4 H locs hw_4 hP hD hS _ => ?_)
  obtain ⟨rfl, rfl⟩ := hw_4
  have hP : WP Γ [[(b, .inr (0, [.ref h.e0, .ref tt, .ref sv, .int zs, .ref da, .ref tx, .ref wr, .int fl, .int rf]))]] H := hP
  have hD : WD A [[(b, .inr (0, [.ref h.e0, .ref tt, .ref sv, .int zs, .ref da, .ref tx, .ref wr, .int fl, .int rf]))]] := hD
  refine b_calli (br := [[(b, .inr (0, [.ref h.e0, .ref tt, .ref sv, .int zs, .ref da, .ref tx, .ref wr, .int fl, .int rf]))]]) (b_runS ⟨hx, hb, hml, hown, hts⟩ (mt_DB_in l Γ _ w (loS c) (hiS c)) (lw_S q806 q807 q62 q808) rfl rfl 3 (by decide +kernel) ⟨(Nat.le_of_ble_eq_true rfl), (Nat.le_of_ble_eq_true rfl)⟩ (c_pre hP hD hS hA hK hE [] rfl rfl ro_nil) rfl hl.1 rfl (Nat.le_of_ble_eq_true rfl) dX1_set_18 ⟨(Nat.le_of_ble_eq_true rfl), (Nat.le_of_ble_eq_true rfl)⟩) hP hD hS hA [] [0] rfl rfl rfl (fun r_5 u_5 H locs hw_5 hP hD hS _ => ?_)
  obtain ⟨rfl, rfl⟩ := hw_5
  have hP : WP Γ [[(b, .inr (0, [.ref h.e0, .ref tt, .ref sv, .int zs, .ref da, .ref tx, .ref wr, .int fl, .int rf]))]] H := hP
  have hD : WD A [[(b, .inr (0, [.ref h.e0, .ref tt, .ref sv, .int zs, .ref da, .ref tx, .ref wr, .int fl, .int rf]))]] := hD
  refine b_callx (br := [[(b, .inr (0, [.ref h.e0, .ref tt, .ref sv, .int zs, .ref da, .ref tx, .ref wr, .int fl, .int rf]))]]) (b_runSx ⟨hx, hb, hml, hown, hts⟩ (mt_DB_check_x l Γ _ (inC w (loS c) (hiS c)) hnt (by first | assumption | rfl)) (lw_S q809 q810 q62 q811) rfl rfl 1 (by decide +kernel) ⟨(Nat.le_of_ble_eq_true rfl), (Nat.le_of_ble_eq_true rfl)⟩ (c_pre hP hD hS hA hK hE [] rfl rfl ro_nil) rfl hl.1 rfl (Nat.le_of_ble_eq_true rfl) dX1_set_21 ⟨(Nat.le_of_ble_eq_true rfl), (Nat.le_of_ble_eq_true rfl)⟩) hP hD hS hA [] [0] rfl rfl rfl (fun q_6 ce_6 u_6 H locs hw_6 hP hD hS _ hce_6 hcv_6 hcl_6 => ?_)
  obtain rfl := hw_6
  have hP : WP Γ [[(b, .inr (0, [.ref h.e0, .ref tt, .ref sv, .int zs, .ref da, .ref tx, .ref wr, .int fl, .int rf]))]] H := hP
  have hD : WD A [[(b, .inr (0, [.ref h.e0, .ref tt, .ref sv, .int zs, .ref da, .ref tx, .ref wr, .int fl, .int rf]))]] := hD
  exact b_outx hlocks (fun x hx9 => (ht9 x hx9).elim) hP hD hS hce_6 hcv_6 hcl_6 (by first | rfl | (simp; done)) (Nat.le_of_ble_eq_true rfl) (Nat.le_of_ble_eq_true rfl)
set_option maxHeartbeats 4000000 in
set_option maxRecDepth 100000 in
theorem mt_DB_cow_x1 (l : Launch) (Γ : GE) (sz : Nat) (b : Nat) (h : HB) (tt : Nat) (sv : Nat) (zs : Int32) (da : Nat) (tx : Nat) (wr : Nat) (fl : Int32) (rf : Int32) (P : va_W) (c : Int32) (w : Int32) (hnt : l.stackTraces = false) (ho : hdOk Γ P h) (hx9 : inC c 0 (nI h.n - 1) = 0) : KMX l yX1_cow cX1_cow 4 (some FieldType.int) Γ 8 131 1 6 [.ref b, .int c, .int w] [[(b, .inr (0, [.ref h.e0, .ref tt, .ref sv, .int zs, .ref da, .ref tx, .ref wr, .int fl, .int rf]))], (hdB Γ h)] [P] sz "java/lang/IndexOutOfBoundsException" (fun q_ u_ => u_ = [[(b, .inr (0, [.ref h.e0, .ref tt, .ref sv, .int zs, .ref da, .ref tx, .ref wr, .int fl, .int rf]))], (hdB Γ h)]) := by
  refine K_introX (by decide) (Nat.le_of_ble_eq_true rfl) ?_
  intro pr_ ev_ s mi_ below meth cd_ A ls hx hb hr hml hown hts hlocks hname hK hE hRo hP hD hA hS hsz hl ht9
  have hl : lv_has ls 4 [(0, .ref b), (1, .int c), (2, .int w)] := hl
  have hown : s.vm.findClass RX1 = some mi_.cls := hown
  refine lv_aload_n hx hb dX1_cow_0 rfl (lv_at hl 0 rfl) ?_
  refine lv_iload_n hx hb dX1_cow_1 rfl (lv_at hl 1 rfl) ?_
  refine b_callx (br := []) (b_runVx ⟨hx, hb, hml, hown, hts⟩ (mt_DB_cowAt_x l Γ _ b h tt sv zs da tx wr fl rf P c hnt (by assumption) (by first | exact hx9 | omega)) (lw_V q1294 q1296 qs22 q62 q1297) rfl rfl 1 (by decide +kernel) ⟨(Nat.le_of_ble_eq_true rfl), (Nat.le_of_ble_eq_true rfl)⟩ (c_pre hP hD hS hA hK hE [0, 1] rfl rfl (ro_pass (ro_sel (ro2 := [P]) hRo [0] rfl) hD hS hA [0, 1] rfl)) (recv_at (q := (RX1, TX1, 9)) hK (b_at (k := 0) hP rfl) rfl) rfl hl.1 rfl (Nat.le_of_ble_eq_true rfl) dX1_cow_2 ⟨(Nat.le_of_ble_eq_true rfl), (Nat.le_of_ble_eq_true rfl)⟩) hP hD hS hA [0, 1] [] rfl rfl rfl (fun q_1 ce_1 u_1 H locs hw_1 hP hD hS _ hce_1 hcv_1 hcl_1 => ?_)
  obtain rfl := hw_1
  have hP : WP Γ [[(b, .inr (0, [.ref h.e0, .ref tt, .ref sv, .int zs, .ref da, .ref tx, .ref wr, .int fl, .int rf]))], (hdB Γ h)] H := hP
  have hD : WD A [[(b, .inr (0, [.ref h.e0, .ref tt, .ref sv, .int zs, .ref da, .ref tx, .ref wr, .int fl, .int rf]))], (hdB Γ h)] := hD
  exact b_outx hlocks (fun x hx9 => (ht9 x hx9).elim) hP hD hS hce_1 hcv_1 hcl_1 (by first | rfl | (simp; done)) (Nat.le_of_ble_eq_true rfl) (Nat.le_of_ble_eq_true rfl)
set_option maxHeartbeats 4000000 in
set_option maxRecDepth 100000 in
theorem mt_DB_cow_x2 (l : Launch) (Γ : GE) (sz : Nat) (b : Nat) (h : HB) (tt : Nat) (sv : Nat) (zs : Int32) (da : Nat) (tx : Nat) (wr : Nat) (fl : Int32) (rf : Int32) (P : va_W) (k : Nat) (w : Int32) (hnt : l.stackTraces = false) (ho : hdOk Γ P h) (hk9 : k < h.n) (hi9 : ¬ inC (nI k) 0 (nI h.n - 1) = 0) (hx9 : inC w 0 8 = 0) : KMX l yX1_cow cX1_cow 4 (some FieldType.int) Γ 7 110 1 6 [.ref b, .int (nI k), .int w] [[(b, .inr (0, [.ref h.e0, .ref tt, .ref sv, .int zs, .ref da, .ref tx, .ref wr, .int fl, .int rf]))], (hdB Γ h)] [P] sz "java/lang/IllegalArgumentException" (fun q_ u_ => u_ = [[(b, .inr (0, [.ref h.e0, .ref tt, .ref sv, .int zs, .ref da, .ref tx, .ref wr, .int fl, .int rf]))], (hdB Γ h)]) := by
  refine K_introX (by decide) (Nat.le_of_ble_eq_true rfl) ?_
  intro pr_ ev_ s mi_ below meth cd_ A ls hx hb hr hml hown hts hlocks hname hK hE hRo hP hD hA hS hsz hl ht9
  have hl : lv_has ls 4 [(0, .ref b), (1, .int (nI k)), (2, .int w)] := hl
  have hown : s.vm.findClass RX1 = some mi_.cls := hown
  refine lv_aload_n hx hb dX1_cow_0 rfl (lv_at hl 0 rfl) ?_
  refine lv_iload_n hx hb dX1_cow_1 rfl (lv_at hl 1 rfl) ?_
  refine b_callq (br := []) (b_runV ⟨hx, hb, hml, hown, hts⟩ (mt_DB_cowAt_ok l Γ _ b h tt sv zs da tx wr fl rf P k (by assumption) hk9 hi9) (lw_V q1294 q1296 qs22 q62 q1297) rfl rfl 1 (by decide +kernel) ⟨(Nat.le_of_ble_eq_true rfl), (Nat.le_of_ble_eq_true rfl)⟩ (c_pre hP hD hS hA hK hE [0, 1] rfl rfl (ro_pass (ro_sel (ro2 := [P]) hRo [0] rfl) hD hS hA [0, 1] rfl)) (recv_at (q := (RX1, TX1, 9)) hK (b_at (k := 0) hP rfl) rfl) rfl hl.1 rfl (Nat.le_of_ble_eq_true rfl) dX1_cow_2 ⟨(Nat.le_of_ble_eq_true rfl), (Nat.le_of_ble_eq_true rfl)⟩) hP hD hS hA [0, 1] [] rfl rfl rfl (fun r_1 u_1 H locs hw_1 hP hD hS _ => ?_)
  obtain ⟨rfl, rfl⟩ := hw_1
  have hP : WP Γ [[(b, .inr (0, [.ref h.e0, .ref tt, .ref sv, .int zs, .ref da, .ref tx, .ref wr, .int fl, .int rf]))], (hdB Γ h)] H := hP
  have hD : WD A [[(b, .inr (0, [.ref h.e0, .ref tt, .ref sv, .int zs, .ref da, .ref tx, .ref wr, .int fl, .int rf]))], (hdB Γ h)] := hD
  refine W.eq (g2 := F0 mi_ 5 ls ([.ref (h.ca k)])) rfl ?_
  refine lv_astore_n (lv' := [(3, .ref (h.ca k)), (0, .ref b), (1, .int (nI k)), (2, .int w)]) hx hb dX1_cow_5 rfl hl (by decide) rfl (fun ls hl => ?_)
  refine lv_iload_n hx hb dX1_cow_6 rfl (lv_at hl 3 rfl) ?_
  refine lv_iconst (v := 0) hx hb dX1_cow_7 (by decide) ?_
  refine lv_bipush (v := 8) hx hb dX1_cow_8 (by decide) ?_
  refine b_calli (br := [[(b, .inr (0, [.ref h.e0, .ref tt, .ref sv, .int zs, .ref da, .ref tx, .ref wr, .int fl, .int rf]))], (hdB Γ h)]) (b_runS ⟨hx, hb, hml, hown, hts⟩ (mt_DB_in l Γ _ w 0 8) (lw_S q806 q807 q62 q808) rfl rfl 3 (by decide +kernel) ⟨(Nat.le_of_ble_eq_true rfl), (Nat.le_of_ble_eq_true rfl)⟩ (c_pre hP hD hS hA hK hE [] rfl rfl ro_nil) rfl hl.1 rfl (Nat.le_of_ble_eq_true rfl) dX1_cow_10 ⟨(Nat.le_of_ble_eq_true rfl), (Nat.le_of_ble_eq_true rfl)⟩) hP hD hS hA [] [0, 1] rfl rfl rfl (fun r_2 u_2 H locs hw_2 hP hD hS _ => ?_)
  obtain ⟨rfl, rfl⟩ := hw_2
  have hP : WP Γ [[(b, .inr (0, [.ref h.e0, .ref tt, .ref sv, .int zs, .ref da, .ref tx, .ref wr, .int fl, .int rf]))], (hdB Γ h)] H := hP
  have hD : WD A [[(b, .inr (0, [.ref h.e0, .ref tt, .ref sv, .int zs, .ref da, .ref tx, .ref wr, .int fl, .int rf]))], (hdB Γ h)] := hD
  refine b_callx (br := [[(b, .inr (0, [.ref h.e0, .ref tt, .ref sv, .int zs, .ref da, .ref tx, .ref wr, .int fl, .int rf]))], (hdB Γ h)]) (b_runSx ⟨hx, hb, hml, hown, hts⟩ (mt_DB_check_x l Γ _ (inC w 0 8) hnt (by first | assumption | rfl)) (lw_S q809 q810 q62 q811) rfl rfl 1 (by decide +kernel) ⟨(Nat.le_of_ble_eq_true rfl), (Nat.le_of_ble_eq_true rfl)⟩ (c_pre hP hD hS hA hK hE [] rfl rfl ro_nil) rfl hl.1 rfl (Nat.le_of_ble_eq_true rfl) dX1_cow_13 ⟨(Nat.le_of_ble_eq_true rfl), (Nat.le_of_ble_eq_true rfl)⟩) hP hD hS hA [] [0, 1] rfl rfl rfl (fun q_3 ce_3 u_3 H locs hw_3 hP hD hS _ hce_3 hcv_3 hcl_3 => ?_)
  obtain rfl := hw_3
  have hP : WP Γ [[(b, .inr (0, [.ref h.e0, .ref tt, .ref sv, .int zs, .ref da, .ref tx, .ref wr, .int fl, .int rf]))], (hdB Γ h)] H := hP
  have hD : WD A [[(b, .inr (0, [.ref h.e0, .ref tt, .ref sv, .int zs, .ref da, .ref tx, .ref wr, .int fl, .int rf]))], (hdB Γ h)] := hD
  exact b_outx hlocks (fun x hx9 => (ht9 x hx9).elim) hP hD hS hce_3 hcv_3 hcl_3 (by first | rfl | (simp; done)) (Nat.le_of_ble_eq_true rfl) (Nat.le_of_ble_eq_true rfl)
set_option maxHeartbeats 4000000 in
set_option maxRecDepth 100000 in
theorem mt_DB_curve_x1 (l : Launch) (Γ : GE) (sz : Nat) (b : Nat) (h : HB) (tt : Nat) (sv : Nat) (zs : Int32) (da : Nat) (tx : Nat) (wr : Nat) (fl : Int32) (rf : Int32) (P : va_W) (c : Int32) (w : Int32) (hnt : l.stackTraces = false) (ho : hdOk Γ P h) (hx9 : inC c 0 (nI h.n - 1) = 0) : KMX l yX1_curve cX1_curve 4 (some FieldType.int) Γ 8 131 1 6 [.ref b, .int c, .int w] [[(b, .inr (0, [.ref h.e0, .ref tt, .ref sv, .int zs, .ref da, .ref tx, .ref wr, .int fl, .int rf]))], (hdB Γ h)] [P] sz "java/lang/IndexOutOfBoundsException" (fun q_ u_ => u_ = [[(b, .inr (0, [.ref h.e0, .ref tt, .ref sv, .int zs, .ref da, .ref tx, .ref wr, .int fl, .int rf]))], (hdB Γ h)]) := by
  refine K_introX (by decide) (Nat.le_of_ble_eq_true rfl) ?_
  intro pr_ ev_ s mi_ below meth cd_ A ls hx hb hr hml hown hts hlocks hname hK hE hRo hP hD hA hS hsz hl ht9
  have hl : lv_has ls 4 [(0, .ref b), (1, .int c), (2, .int w)] := hl
  have hown : s.vm.findClass RX1 = some mi_.cls := hown
  refine lv_aload_n hx hb dX1_curve_0 rfl (lv_at hl 0 rfl) ?_
  refine lv_iload_n hx hb dX1_curve_1 rfl (lv_at hl 1 rfl) ?_
  refine b_callx (br := []) (b_runVx ⟨hx, hb, hml, hown, hts⟩ (mt_DB_cowAt_x l Γ _ b h tt sv zs da tx wr fl rf P c hnt (by assumption) (by first | exact hx9 | omega)) (lw_V q1294 q1296 qs22 q62 q1297) rfl rfl 1 (by decide +kernel) ⟨(Nat.le_of_ble_eq_true rfl), (Nat.le_of_ble_eq_true rfl)⟩ (c_pre hP hD hS hA hK hE [0, 1] rfl rfl (ro_pass (ro_sel (ro2 := [P]) hRo [0] rfl) hD hS hA [0, 1] rfl)) (recv_at (q := (RX1, TX1, 9)) hK (b_at (k := 0) hP rfl) rfl) rfl hl.1 rfl (Nat.le_of_ble_eq_true rfl) dX1_curve_2 ⟨(Nat.le_of_ble_eq_true rfl), (Nat.le_of_ble_eq_true rfl)⟩) hP hD hS hA [0, 1] [] rfl rfl rfl (fun q_1 ce_1 u_1 H locs hw_1 hP hD hS _ hce_1 hcv_1 hcl_1 => ?_)
  obtain rfl := hw_1
  have hP : WP Γ [[(b, .inr (0, [.ref h.e0, .ref tt, .ref sv, .int zs, .ref da, .ref tx, .ref wr, .int fl, .int rf]))], (hdB Γ h)] H := hP
  have hD : WD A [[(b, .inr (0, [.ref h.e0, .ref tt, .ref sv, .int zs, .ref da, .ref tx, .ref wr, .int fl, .int rf]))], (hdB Γ h)] := hD
  exact b_outx hlocks (fun x hx9 => (ht9 x hx9).elim) hP hD hS hce_1 hcv_1 hcl_1 (by first | rfl | (simp; done)) (Nat.le_of_ble_eq_true rfl) (Nat.le_of_ble_eq_true rfl)
set_option maxHeartbeats 4000000 in
set_option maxRecDepth 100000 in
theorem mt_DB_curve_x2 (l : Launch) (Γ : GE) (sz : Nat) (b : Nat) (h : HB) (tt : Nat) (sv : Nat) (zs : Int32) (da : Nat) (tx : Nat) (wr : Nat) (fl : Int32) (rf : Int32) (P : va_W) (k : Nat) (w : Int32) (hnt : l.stackTraces = false) (ho : hdOk Γ P h) (hk9 : k < h.n) (hi9 : ¬ inC (nI k) 0 (nI h.n - 1) = 0) (hx9 : inC w 0 400 = 0) : KMX l yX1_curve cX1_curve 4 (some FieldType.int) Γ 7 110 1 6 [.ref b, .int (nI k), .int w] [[(b, .inr (0, [.ref h.e0, .ref tt, .ref sv, .int zs, .ref da, .ref tx, .ref wr, .int fl, .int rf]))], (hdB Γ h)] [P] sz "java/lang/IllegalArgumentException" (fun q_ u_ => u_ = [[(b, .inr (0, [.ref h.e0, .ref tt, .ref sv, .int zs, .ref da, .ref tx, .ref wr, .int fl, .int rf]))], (hdB Γ h)]) := by
  refine K_introX (by decide) (Nat.le_of_ble_eq_true rfl) ?_
  intro pr_ ev_ s mi_ below meth cd_ A ls hx hb hr hml hown hts hlocks hname hK hE hRo hP hD hA hS hsz hl ht9
  have hl : lv_has ls 4 [(0, .ref b), (1, .int (nI k)), (2, .int w)] := hl
  have hown : s.vm.findClass RX1 = some mi_.cls := hown
  refine lv_aload_n hx hb dX1_curve_0 rfl (lv_at hl 0 rfl) ?_
  refine lv_iload_n hx hb dX1_curve_1 rfl (lv_at hl 1 rfl) ?_
  refine b_callq (br := []) (b_runV ⟨hx, hb, hml, hown, hts⟩ (mt_DB_cowAt_ok l Γ _ b h tt sv zs da tx wr fl rf P k (by assumption) hk9 hi9) (lw_V q1294 q1296 qs22 q62 q1297) rfl rfl 1 (by decide +kernel) ⟨(Nat.le_of_ble_eq_true rfl), (Nat.le_of_ble_eq_true rfl)⟩ (c_pre hP hD hS hA hK hE [0, 1] rfl rfl (ro_pass (ro_sel (ro2 := [P]) hRo [0] rfl) hD hS hA [0, 1] rfl)) (recv_at (q := (RX1, TX1, 9)) hK (b_at (k := 0) hP rfl) rfl) rfl hl.1 rfl (Nat.le_of_ble_eq_true rfl) dX1_curve_2 ⟨(Nat.le_of_ble_eq_true rfl), (Nat.le_of_ble_eq_true rfl)⟩) hP hD hS hA [0, 1] [] rfl rfl rfl (fun r_1 u_1 H locs hw_1 hP hD hS _ => ?_)
  obtain ⟨rfl, rfl⟩ := hw_1
  have hP : WP Γ [[(b, .inr (0, [.ref h.e0, .ref tt, .ref sv, .int zs, .ref da, .ref tx, .ref wr, .int fl, .int rf]))], (hdB Γ h)] H := hP
  have hD : WD A [[(b, .inr (0, [.ref h.e0, .ref tt, .ref sv, .int zs, .ref da, .ref tx, .ref wr, .int fl, .int rf]))], (hdB Γ h)] := hD
  refine W.eq (g2 := F0 mi_ 5 ls ([.ref (h.ca k)])) rfl ?_
  refine lv_astore_n (lv' := [(3, .ref (h.ca k)), (0, .ref b), (1, .int (nI k)), (2, .int w)]) hx hb dX1_curve_5 rfl hl (by decide) rfl (fun ls hl => ?_)
  refine lv_iload_n hx hb dX1_curve_6 rfl (lv_at hl 3 rfl) ?_
  refine lv_iconst (v := 0) hx hb dX1_curve_7 (by decide) ?_
  refine lv_sipush (v := 400) hx hb dX1_curve_8 (by decide) ?_
  refine b_calli (br := [[(b, .inr (0, [.ref h.e0, .ref tt, .ref sv, .int zs, .ref da, .ref tx, .ref wr, .int fl, .int rf]))], (hdB Γ h)]) (b_runS ⟨hx, hb, hml, hown, hts⟩ (mt_DB_in l Γ _ w 0 400) (lw_S q806 q807 q62 q808) rfl rfl 3 (by decide +kernel) ⟨(Nat.le_of_ble_eq_true rfl), (Nat.le_of_ble_eq_true rfl)⟩ (c_pre hP hD hS hA hK hE [] rfl rfl ro_nil) rfl hl.1 rfl (Nat.le_of_ble_eq_true rfl) dX1_curve_11 ⟨(Nat.le_of_ble_eq_true rfl), (Nat.le_of_ble_eq_true rfl)⟩) hP hD hS hA [] [0, 1] rfl rfl rfl (fun r_2 u_2 H locs hw_2 hP hD hS _ => ?_)
  obtain ⟨rfl, rfl⟩ := hw_2
  have hP : WP Γ [[(b, .inr (0, [.ref h.e0, .ref tt, .ref sv, .int zs, .ref da, .ref tx, .ref wr, .int fl, .int rf]))], (hdB Γ h)] H := hP
  have hD : WD A [[(b, .inr (0, [.ref h.e0, .ref tt, .ref sv, .int zs, .ref da, .ref tx, .ref wr, .int fl, .int rf]))], (hdB Γ h)] := hD
  refine b_callx (br := [[(b, .inr (0, [.ref h.e0, .ref tt, .ref sv, .int zs, .ref da, .ref tx, .ref wr, .int fl, .int rf]))], (hdB Γ h)]) (b_runSx ⟨hx, hb, hml, hown, hts⟩ (mt_DB_check_x l Γ _ (inC w 0 400) hnt (by first | assumption | rfl)) (lw_S q809 q810 q62 q811) rfl rfl 1 (by decide +kernel) ⟨(Nat.le_of_ble_eq_true rfl), (Nat.le_of_ble_eq_true rfl)⟩ (c_pre hP hD hS hA hK hE [] rfl rfl ro_nil) rfl hl.1 rfl (Nat.le_of_ble_eq_true rfl) dX1_curve_14 ⟨(Nat.le_of_ble_eq_true rfl), (Nat.le_of_ble_eq_true rfl)⟩) hP hD hS hA [] [0, 1] rfl rfl rfl (fun q_3 ce_3 u_3 H locs hw_3 hP hD hS _ hce_3 hcv_3 hcl_3 => ?_)
  obtain rfl := hw_3
  have hP : WP Γ [[(b, .inr (0, [.ref h.e0, .ref tt, .ref sv, .int zs, .ref da, .ref tx, .ref wr, .int fl, .int rf]))], (hdB Γ h)] H := hP
  have hD : WD A [[(b, .inr (0, [.ref h.e0, .ref tt, .ref sv, .int zs, .ref da, .ref tx, .ref wr, .int fl, .int rf]))], (hdB Γ h)] := hD
  exact b_outx hlocks (fun x hx9 => (ht9 x hx9).elim) hP hD hS hce_3 hcv_3 hcl_3 (by first | rfl | (simp; done)) (Nat.le_of_ble_eq_true rfl) (Nat.le_of_ble_eq_true rfl)
set_option maxHeartbeats 4000000 in
set_option maxRecDepth 100000 in
theorem mt_DB_dryDay_x1 (l : Launch) (Γ : GE) (sz : Nat) (b : Nat) (h : HB) (tt : Nat) (sv : Nat) (zs : Int32) (da : Nat) (tx : Nat) (wr : Nat) (fl : Int32) (rf : Int32) (P : va_W) (c : Int32) (hnt : l.stackTraces = false) (ho : hdOk Γ P h) (hx9 : inC c 0 (nI h.n - 1) = 0) : KMX l yX1_dryDay cX1_dryDay 3 (some FieldType.int) Γ 8 131 1 6 [.ref b, .int c] [[(b, .inr (0, [.ref h.e0, .ref tt, .ref sv, .int zs, .ref da, .ref tx, .ref wr, .int fl, .int rf]))], (hdB Γ h)] [P] sz "java/lang/IndexOutOfBoundsException" (fun q_ u_ => u_ = [[(b, .inr (0, [.ref h.e0, .ref tt, .ref sv, .int zs, .ref da, .ref tx, .ref wr, .int fl, .int rf]))], (hdB Γ h)]) := by
  refine K_introX (by decide) (Nat.le_of_ble_eq_true rfl) ?_
  intro pr_ ev_ s mi_ below meth cd_ A ls hx hb hr hml hown hts hlocks hname hK hE hRo hP hD hA hS hsz hl ht9
  have hl : lv_has ls 3 [(0, .ref b), (1, .int c)] := hl
  have hown : s.vm.findClass RX1 = some mi_.cls := hown
  refine lv_aload_n hx hb dX1_dryDay_0 rfl (lv_at hl 0 rfl) ?_
  refine lv_iload_n hx hb dX1_dryDay_1 rfl (lv_at hl 1 rfl) ?_
  refine b_callx (br := []) (b_runVx ⟨hx, hb, hml, hown, hts⟩ (mt_DB_cowAt_x l Γ _ b h tt sv zs da tx wr fl rf P c hnt (by assumption) (by first | exact hx9 | omega)) (lw_V q1294 q1296 qs22 q62 q1297) rfl rfl 1 (by decide +kernel) ⟨(Nat.le_of_ble_eq_true rfl), (Nat.le_of_ble_eq_true rfl)⟩ (c_pre hP hD hS hA hK hE [0, 1] rfl rfl (ro_pass (ro_sel (ro2 := [P]) hRo [0] rfl) hD hS hA [0, 1] rfl)) (recv_at (q := (RX1, TX1, 9)) hK (b_at (k := 0) hP rfl) rfl) rfl hl.1 rfl (Nat.le_of_ble_eq_true rfl) dX1_dryDay_2 ⟨(Nat.le_of_ble_eq_true rfl), (Nat.le_of_ble_eq_true rfl)⟩) hP hD hS hA [0, 1] [] rfl rfl rfl (fun q_1 ce_1 u_1 H locs hw_1 hP hD hS _ hce_1 hcv_1 hcl_1 => ?_)
  obtain rfl := hw_1
  have hP : WP Γ [[(b, .inr (0, [.ref h.e0, .ref tt, .ref sv, .int zs, .ref da, .ref tx, .ref wr, .int fl, .int rf]))], (hdB Γ h)] H := hP
  have hD : WD A [[(b, .inr (0, [.ref h.e0, .ref tt, .ref sv, .int zs, .ref da, .ref tx, .ref wr, .int fl, .int rf]))], (hdB Γ h)] := hD
  exact b_outx hlocks (fun x hx9 => (ht9 x hx9).elim) hP hD hS hce_1 hcv_1 hcl_1 (by first | rfl | (simp; done)) (Nat.le_of_ble_eq_true rfl) (Nat.le_of_ble_eq_true rfl)
set_option maxHeartbeats 4000000 in
set_option maxRecDepth 100000 in
theorem mt_DB_dryDay_x2 (l : Launch) (Γ : GE) (sz : Nat) (b : Nat) (h : HB) (tt : Nat) (sv : Nat) (zs : Int32) (da : Nat) (tx : Nat) (wr : Nat) (fl : Int32) (rf : Int32) (P : va_W) (k : Nat) (hnt : l.stackTraces = false) (ho : hdOk Γ P h) (hk9 : k < h.n) (hi9 : ¬ inC (nI k) 0 (nI h.n - 1) = 0) (hx9 : cowMil (h.S.cv k) = 0 ∨ cowCar (h.S.cv k) = 0) : KMX l yX1_dryDay cX1_dryDay 3 (some FieldType.int) Γ 7 110 1 6 [.ref b, .int (nI k)] [[(b, .inr (0, [.ref h.e0, .ref tt, .ref sv, .int zs, .ref da, .ref tx, .ref wr, .int fl, .int rf]))], (hdB Γ h)] [P] sz "java/lang/IllegalStateException" (fun q_ u_ => u_ = [[(b, .inr (0, [.ref h.e0, .ref tt, .ref sv, .int zs, .ref da, .ref tx, .ref wr, .int fl, .int rf]))], (hdB Γ h)]) := by
  refine K_introX (by decide) (Nat.le_of_ble_eq_true rfl) ?_
  intro pr_ ev_ s mi_ below meth cd_ A ls hx hb hr hml hown hts hlocks hname hK hE hRo hP hD hA hS hsz hl ht9
  have hl : lv_has ls 3 [(0, .ref b), (1, .int (nI k))] := hl
  have hown : s.vm.findClass RX1 = some mi_.cls := hown
  refine lv_aload_n hx hb dX1_dryDay_0 rfl (lv_at hl 0 rfl) ?_
  refine lv_iload_n hx hb dX1_dryDay_1 rfl (lv_at hl 1 rfl) ?_
  refine b_callq (br := []) (b_runV ⟨hx, hb, hml, hown, hts⟩ (mt_DB_cowAt_ok l Γ _ b h tt sv zs da tx wr fl rf P k (by assumption) hk9 hi9) (lw_V q1294 q1296 qs22 q62 q1297) rfl rfl 1 (by decide +kernel) ⟨(Nat.le_of_ble_eq_true rfl), (Nat.le_of_ble_eq_true rfl)⟩ (c_pre hP hD hS hA hK hE [0, 1] rfl rfl (ro_pass (ro_sel (ro2 := [P]) hRo [0] rfl) hD hS hA [0, 1] rfl)) (recv_at (q := (RX1, TX1, 9)) hK (b_at (k := 0) hP rfl) rfl) rfl hl.1 rfl (Nat.le_of_ble_eq_true rfl) dX1_dryDay_2 ⟨(Nat.le_of_ble_eq_true rfl), (Nat.le_of_ble_eq_true rfl)⟩) hP hD hS hA [0, 1] [] rfl rfl rfl (fun r_1 u_1 H locs hw_1 hP hD hS _ => ?_)
  obtain ⟨rfl, rfl⟩ := hw_1
  have hP : WP Γ [[(b, .inr (0, [.ref h.e0, .ref tt, .ref sv, .int zs, .ref da, .ref tx, .ref wr, .int fl, .int rf]))], (hdB Γ h)] H := hP
  have hD : WD A [[(b, .inr (0, [.ref h.e0, .ref tt, .ref sv, .int zs, .ref da, .ref tx, .ref wr, .int fl, .int rf]))], (hdB Γ h)] := hD
  refine W.eq (g2 := F0 mi_ 5 ls ([.ref (h.ca k)])) rfl ?_
  have hP : WP Γ [(hdB Γ h), [(b, .inr (0, [.ref h.e0, .ref tt, .ref sv, .int zs, .ref da, .ref tx, .ref wr, .int fl, .int rf]))]] H := bP_sel hP [1, 0] rfl
  have hD : WD A [(hdB Γ h), [(b, .inr (0, [.ref h.e0, .ref tt, .ref sv, .int zs, .ref da, .ref tx, .ref wr, .int fl, .int rf]))]] := bD_sel hD [1, 0] rfl rfl
  have hP : WP Γ [[(h.e0, .inr (1, [.ref h.e1, .ref h.e2, .ref h.e3, .ref h.e4, .ref h.e5, .int h.S.td, .int h.S.pk, .int h.S.pd]))], [(h.e1, .inr (11, [.int h.m0, .ref h.x0.1, .int (nI h.n)]))], (alA Γ h.x0), (cowsB h.n h.ca h.S.cv), [(h.e2, .inr (11, [.int h.m1, .ref h.x1.1, .int (nI h.nr)]))], (alA Γ h.x1), [(h.e3, .inr (11, [.int h.m2, .ref h.x2.1, .int (nI h.S.np)]))], (alA Γ h.x2), [(h.e4, .inr (2, [.int h.S.li, .int h.S.ce]))], [(h.e5, .inl (Γ.2.1 0, 6, .inl h.se))], [(b, .inr (0, [.ref h.e0, .ref tt, .ref sv, .int zs, .ref da, .ref tx, .ref wr, .int fl, .int rf]))]] H := hdP_ex (Bs := hdL Γ h) hP
  have hD : WD A [[(h.e0, .inr (1, [.ref h.e1, .ref h.e2, .ref h.e3, .ref h.e4, .ref h.e5, .int h.S.td, .int h.S.pk, .int h.S.pd]))], [(h.e1, .inr (11, [.int h.m0, .ref h.x0.1, .int (nI h.n)]))], (alA Γ h.x0), (cowsB h.n h.ca h.S.cv), [(h.e2, .inr (11, [.int h.m1, .ref h.x1.1, .int (nI h.nr)]))], (alA Γ h.x1), [(h.e3, .inr (11, [.int h.m2, .ref h.x2.1, .int (nI h.S.np)]))], (alA Γ h.x2), [(h.e4, .inr (2, [.int h.S.li, .int h.S.ce]))], [(h.e5, .inl (Γ.2.1 0, 6, .inl h.se))], [(b, .inr (0, [.ref h.e0, .ref tt, .ref sv, .int zs, .ref da, .ref tx, .ref wr, .int fl, .int rf]))]] := hdD_ex (Bs := hdL Γ h) hD
  have hal0 : alI Γ h.x0 h.n h.ca := ho.1
  have hn8 : h.n ≤ 8 := ho.2.1
  have hal1 : alI Γ h.x1 h.nr h.ra := ho.2.2.1
  have nr4 : h.nr ≤ 4 := ho.2.2.2.1
  have hrw : ∀ k, k < h.nr → (h.ra k, rowE (h.rv k)) ∈ P := ho.2.2.2.2.1
  have hal2 : alI Γ h.x2 h.S.np h.pa := ho.2.2.2.2.2.1
  have np60 : h.S.np ≤ 60 := ho.2.2.2.2.2.2.1
  have hpk : ∀ k, k < h.S.np → (h.pa k, pickE (h.S.pv k)) ∈ P := ho.2.2.2.2.2.2.2.1
  have hcb : ∀ k, k < h.n → cowB (h.S.cv k) := ho.2.2.2.2.2.2.2.2
  refine lv_astore_n (lv' := [(2, .ref (h.ca k)), (0, .ref b), (1, .int (nI k))]) hx hb dX1_dryDay_5 rfl hl (by decide) rfl (fun ls hl => ?_)
  have hP : WP Γ [(cowsB h.n h.ca h.S.cv), [(h.e0, .inr (1, [.ref h.e1, .ref h.e2, .ref h.e3, .ref h.e4, .ref h.e5, .int h.S.td, .int h.S.pk, .int h.S.pd]))], [(h.e1, .inr (11, [.int h.m0, .ref h.x0.1, .int (nI h.n)]))], (alA Γ h.x0), [(h.e2, .inr (11, [.int h.m1, .ref h.x1.1, .int (nI h.nr)]))], (alA Γ h.x1), [(h.e3, .inr (11, [.int h.m2, .ref h.x2.1, .int (nI h.S.np)]))], (alA Γ h.x2), [(h.e4, .inr (2, [.int h.S.li, .int h.S.ce]))], [(h.e5, .inl (Γ.2.1 0, 6, .inl h.se))], [(b, .inr (0, [.ref h.e0, .ref tt, .ref sv, .int zs, .ref da, .ref tx, .ref wr, .int fl, .int rf]))]] H := bP_sel hP [3, 0, 1, 2, 4, 5, 6, 7, 8, 9, 10] rfl
  have hD : WD A [(cowsB h.n h.ca h.S.cv), [(h.e0, .inr (1, [.ref h.e1, .ref h.e2, .ref h.e3, .ref h.e4, .ref h.e5, .int h.S.td, .int h.S.pk, .int h.S.pd]))], [(h.e1, .inr (11, [.int h.m0, .ref h.x0.1, .int (nI h.n)]))], (alA Γ h.x0), [(h.e2, .inr (11, [.int h.m1, .ref h.x1.1, .int (nI h.nr)]))], (alA Γ h.x1), [(h.e3, .inr (11, [.int h.m2, .ref h.x2.1, .int (nI h.S.np)]))], (alA Γ h.x2), [(h.e4, .inr (2, [.int h.S.li, .int h.S.ce]))], [(h.e5, .inl (Γ.2.1 0, 6, .inl h.se))], [(b, .inr (0, [.ref h.e0, .ref tt, .ref sv, .int zs, .ref da, .ref tx, .ref wr, .int fl, .int rf]))]] := bD_sel hD [3, 0, 1, 2, 4, 5, 6, 7, 8, 9, 10] rfl rfl
  have hP : WP Γ [[((h.ca k), cowE (h.S.cv k))], (cowsX h.n k h.ca h.S.cv), [(h.e0, .inr (1, [.ref h.e1, .ref h.e2, .ref h.e3, .ref h.e4, .ref h.e5, .int h.S.td, .int h.S.pk, .int h.S.pd]))], [(h.e1, .inr (11, [.int h.m0, .ref h.x0.1, .int (nI h.n)]))], (alA Γ h.x0), [(h.e2, .inr (11, [.int h.m1, .ref h.x1.1, .int (nI h.nr)]))], (alA Γ h.x1), [(h.e3, .inr (11, [.int h.m2, .ref h.x2.1, .int (nI h.S.np)]))], (alA Γ h.x2), [(h.e4, .inr (2, [.int h.S.li, .int h.S.ce]))], [(h.e5, .inl (Γ.2.1 0, 6, .inl h.se))], [(b, .inr (0, [.ref h.e0, .ref tt, .ref sv, .int zs, .ref da, .ref tx, .ref wr, .int fl, .int rf]))]] H := cowP_focus hk9 hP
  have hD : WD A [[((h.ca k), cowE (h.S.cv k))], (cowsX h.n k h.ca h.S.cv), [(h.e0, .inr (1, [.ref h.e1, .ref h.e2, .ref h.e3, .ref h.e4, .ref h.e5, .int h.S.td, .int h.S.pk, .int h.S.pd]))], [(h.e1, .inr (11, [.int h.m0, .ref h.x0.1, .int (nI h.n)]))], (alA Γ h.x0), [(h.e2, .inr (11, [.int h.m1, .ref h.x1.1, .int (nI h.nr)]))], (alA Γ h.x1), [(h.e3, .inr (11, [.int h.m2, .ref h.x2.1, .int (nI h.S.np)]))], (alA Γ h.x2), [(h.e4, .inr (2, [.int h.S.li, .int h.S.ce]))], [(h.e5, .inl (Γ.2.1 0, 6, .inl h.se))], [(b, .inr (0, [.ref h.e0, .ref tt, .ref sv, .int zs, .ref da, .ref tx, .ref wr, .int fl, .int rf]))]] := cowD_focus hk9 hD
  refine lv_aload_n hx hb dX1_dryDay_6 rfl (lv_at hl 0 rfl) ?_
  refine b_calli (br := [(cowsX h.n k h.ca h.S.cv), [(h.e0, .inr (1, [.ref h.e1, .ref h.e2, .ref h.e3, .ref h.e4, .ref h.e5, .int h.S.td, .int h.S.pk, .int h.S.pd]))], [(h.e1, .inr (11, [.int h.m0, .ref h.x0.1, .int (nI h.n)]))], (alA Γ h.x0), [(h.e2, .inr (11, [.int h.m1, .ref h.x1.1, .int (nI h.nr)]))], (alA Γ h.x1), [(h.e3, .inr (11, [.int h.m2, .ref h.x2.1, .int (nI h.S.np)]))], (alA Γ h.x2), [(h.e4, .inr (2, [.int h.S.li, .int h.S.ce]))], [(h.e5, .inl (Γ.2.1 0, 6, .inl h.se))], [(b, .inr (0, [.ref h.e0, .ref tt, .ref sv, .int zs, .ref da, .ref tx, .ref wr, .int fl, .int rf]))]]) (b_runV ⟨hx, hb, hml, hown, hts⟩ (mt_Cow_isMilked l Γ _ (h.ca k) (h.S.cv k)) (lw_V q1324 q1029 q1030 q81 q1031) rfl rfl 0 (by decide +kernel) ⟨(Nat.le_of_ble_eq_true rfl), (Nat.le_of_ble_eq_true rfl)⟩ (c_pre hP hD hS hA hK hE [0] rfl rfl ro_nil) (recv_at (q := (RX5, TX5, 12)) hK (b_at (k := 0) hP rfl) rfl) rfl hl.1 rfl (Nat.le_of_ble_eq_true rfl) dX1_dryDay_7 ⟨(Nat.le_of_ble_eq_true rfl), (Nat.le_of_ble_eq_true rfl)⟩) hP hD hS hA [0] [1, 2, 3, 4, 5, 6, 7, 8, 9, 10, 11] rfl rfl rfl (fun r_2 u_2 H locs hw_2 hP hD hS _ => ?_)
  obtain ⟨rfl, rfl⟩ := hw_2
  have hP : WP Γ [[((h.ca k), cowE (h.S.cv k))], (cowsX h.n k h.ca h.S.cv), [(h.e0, .inr (1, [.ref h.e1, .ref h.e2, .ref h.e3, .ref h.e4, .ref h.e5, .int h.S.td, .int h.S.pk, .int h.S.pd]))], [(h.e1, .inr (11, [.int h.m0, .ref h.x0.1, .int (nI h.n)]))], (alA Γ h.x0), [(h.e2, .inr (11, [.int h.m1, .ref h.x1.1, .int (nI h.nr)]))], (alA Γ h.x1), [(h.e3, .inr (11, [.int h.m2, .ref h.x2.1, .int (nI h.S.np)]))], (alA Γ h.x2), [(h.e4, .inr (2, [.int h.S.li, .int h.S.ce]))], [(h.e5, .inl (Γ.2.1 0, 6, .inl h.se))], [(b, .inr (0, [.ref h.e0, .ref tt, .ref sv, .int zs, .ref da, .ref tx, .ref wr, .int fl, .int rf]))]] H := hP
  have hD : WD A [[((h.ca k), cowE (h.S.cv k))], (cowsX h.n k h.ca h.S.cv), [(h.e0, .inr (1, [.ref h.e1, .ref h.e2, .ref h.e3, .ref h.e4, .ref h.e5, .int h.S.td, .int h.S.pk, .int h.S.pd]))], [(h.e1, .inr (11, [.int h.m0, .ref h.x0.1, .int (nI h.n)]))], (alA Γ h.x0), [(h.e2, .inr (11, [.int h.m1, .ref h.x1.1, .int (nI h.nr)]))], (alA Γ h.x1), [(h.e3, .inr (11, [.int h.m2, .ref h.x2.1, .int (nI h.S.np)]))], (alA Γ h.x2), [(h.e4, .inr (2, [.int h.S.li, .int h.S.ce]))], [(h.e5, .inl (Γ.2.1 0, 6, .inl h.se))], [(b, .inr (0, [.ref h.e0, .ref tt, .ref sv, .int zs, .ref da, .ref tx, .ref wr, .int fl, .int rf]))]] := hD
  refine lv_if_eq (tgt := 24) hx hb dX1_dryDay_10 (by decide) (fun c_3 => ?_) (fun c_3 => ?_)
  · -- 10 taken
    refine lv_iconst (v := 0) hx hb dX1_dryDay_24 (by decide) ?_
    have hP : WP Γ [(cowsB h.n h.ca (va_up h.S.cv k (h.S.cv k))), [(h.e0, .inr (1, [.ref h.e1, .ref h.e2, .ref h.e3, .ref h.e4, .ref h.e5, .int h.S.td, .int h.S.pk, .int h.S.pd]))], [(h.e1, .inr (11, [.int h.m0, .ref h.x0.1, .int (nI h.n)]))], (alA Γ h.x0), [(h.e2, .inr (11, [.int h.m1, .ref h.x1.1, .int (nI h.nr)]))], (alA Γ h.x1), [(h.e3, .inr (11, [.int h.m2, .ref h.x2.1, .int (nI h.S.np)]))], (alA Γ h.x2), [(h.e4, .inr (2, [.int h.S.li, .int h.S.ce]))], [(h.e5, .inl (Γ.2.1 0, 6, .inl h.se))], [(b, .inr (0, [.ref h.e0, .ref tt, .ref sv, .int zs, .ref da, .ref tx, .ref wr, .int fl, .int rf]))]] H := cowP_un hk9 hP
    have hD : WD A [(cowsB h.n h.ca (va_up h.S.cv k (h.S.cv k))), [(h.e0, .inr (1, [.ref h.e1, .ref h.e2, .ref h.e3, .ref h.e4, .ref h.e5, .int h.S.td, .int h.S.pk, .int h.S.pd]))], [(h.e1, .inr (11, [.int h.m0, .ref h.x0.1, .int (nI h.n)]))], (alA Γ h.x0), [(h.e2, .inr (11, [.int h.m1, .ref h.x1.1, .int (nI h.nr)]))], (alA Γ h.x1), [(h.e3, .inr (11, [.int h.m2, .ref h.x2.1, .int (nI h.S.np)]))], (alA Γ h.x2), [(h.e4, .inr (2, [.int h.S.li, .int h.S.ce]))], [(h.e5, .inl (Γ.2.1 0, 6, .inl h.se))], [(b, .inr (0, [.ref h.e0, .ref tt, .ref sv, .int zs, .ref da, .ref tx, .ref wr, .int fl, .int rf]))]] := cowD_un hk9 hD
    rw [up_same] at hP hD
    have hP : WP Γ [[(h.e0, .inr (1, [.ref h.e1, .ref h.e2, .ref h.e3, .ref h.e4, .ref h.e5, .int h.S.td, .int h.S.pk, .int h.S.pd]))], [(h.e1, .inr (11, [.int h.m0, .ref h.x0.1, .int (nI h.n)]))], (alA Γ h.x0), (cowsB h.n h.ca h.S.cv), [(h.e2, .inr (11, [.int h.m1, .ref h.x1.1, .int (nI h.nr)]))], (alA Γ h.x1), [(h.e3, .inr (11, [.int h.m2, .ref h.x2.1, .int (nI h.S.np)]))], (alA Γ h.x2), [(h.e4, .inr (2, [.int h.S.li, .int h.S.ce]))], [(h.e5, .inl (Γ.2.1 0, 6, .inl h.se))], [(b, .inr (0, [.ref h.e0, .ref tt, .ref sv, .int zs, .ref da, .ref tx, .ref wr, .int fl, .int rf]))]] H := bP_sel hP [1, 2, 3, 0, 4, 5, 6, 7, 8, 9, 10] rfl
    have hD : WD A [[(h.e0, .inr (1, [.ref h.e1, .ref h.e2, .ref h.e3, .ref h.e4, .ref h.e5, .int h.S.td, .int h.S.pk, .int h.S.pd]))], [(h.e1, .inr (11, [.int h.m0, .ref h.x0.1, .int (nI h.n)]))], (alA Γ h.x0), (cowsB h.n h.ca h.S.cv), [(h.e2, .inr (11, [.int h.m1, .ref h.x1.1, .int (nI h.nr)]))], (alA Γ h.x1), [(h.e3, .inr (11, [.int h.m2, .ref h.x2.1, .int (nI h.S.np)]))], (alA Γ h.x2), [(h.e4, .inr (2, [.int h.S.li, .int h.S.ce]))], [(h.e5, .inl (Γ.2.1 0, 6, .inl h.se))], [(b, .inr (0, [.ref h.e0, .ref tt, .ref sv, .int zs, .ref da, .ref tx, .ref wr, .int fl, .int rf]))]] := bD_sel hD [1, 2, 3, 0, 4, 5, 6, 7, 8, 9, 10] rfl rfl
    have hP : WP Γ [(hdB Γ h), [(b, .inr (0, [.ref h.e0, .ref tt, .ref sv, .int zs, .ref da, .ref tx, .ref wr, .int fl, .int rf]))]] H := (hdP_un (Bs := hdL Γ h) hP)
    have hD : WD A [(hdB Γ h), [(b, .inr (0, [.ref h.e0, .ref tt, .ref sv, .int zs, .ref da, .ref tx, .ref wr, .int fl, .int rf]))]] := (hdD_un (Bs := hdL Γ h) hD)
    refine b_callx (br := [(hdB Γ h), [(b, .inr (0, [.ref h.e0, .ref tt, .ref sv, .int zs, .ref da, .ref tx, .ref wr, .int fl, .int rf]))]]) (b_runSx ⟨hx, hb, hml, hown, hts⟩ (mt_DB_checkState_x l Γ _ 0 hnt (by first | assumption | rfl)) (lw_S q821 q822 q62 q823) rfl rfl 1 (by decide +kernel) ⟨(Nat.le_of_ble_eq_true rfl), (Nat.le_of_ble_eq_true rfl)⟩ (c_pre hP hD hS hA hK hE [] rfl rfl ro_nil) rfl hl.1 rfl (Nat.le_of_ble_eq_true rfl) dX1_dryDay_25 ⟨(Nat.le_of_ble_eq_true rfl), (Nat.le_of_ble_eq_true rfl)⟩) hP hD hS hA [] [0, 1] rfl rfl rfl (fun q_4 ce_4 u_4 H locs hw_4 hP hD hS _ hce_4 hcv_4 hcl_4 => ?_)
    obtain rfl := hw_4
    have hP : WP Γ [(hdB Γ h), [(b, .inr (0, [.ref h.e0, .ref tt, .ref sv, .int zs, .ref da, .ref tx, .ref wr, .int fl, .int rf]))]] H := hP
    have hD : WD A [(hdB Γ h), [(b, .inr (0, [.ref h.e0, .ref tt, .ref sv, .int zs, .ref da, .ref tx, .ref wr, .int fl, .int rf]))]] := hD
    have hP : WP Γ [[(b, .inr (0, [.ref h.e0, .ref tt, .ref sv, .int zs, .ref da, .ref tx, .ref wr, .int fl, .int rf]))], (hdB Γ h)] H := bP_sel hP [1, 0] rfl
    have hD : WD A [[(b, .inr (0, [.ref h.e0, .ref tt, .ref sv, .int zs, .ref da, .ref tx, .ref wr, .int fl, .int rf]))], (hdB Γ h)] := bD_sel hD [1, 0] rfl rfl
    exact b_outx hlocks (fun x hx9 => (ht9 x hx9).elim) hP hD hS hce_4 hcv_4 hcl_4 (by first | with_reducible rfl | (simp [c_3]; done) | rfl) (Nat.le_of_ble_eq_true rfl) (Nat.le_of_ble_eq_true rfl)
  · -- 10 not taken
    refine lv_aload_n hx hb dX1_dryDay_13 rfl (lv_at hl 0 rfl) ?_
    refine b_calli (br := [(cowsX h.n k h.ca h.S.cv), [(h.e0, .inr (1, [.ref h.e1, .ref h.e2, .ref h.e3, .ref h.e4, .ref h.e5, .int h.S.td, .int h.S.pk, .int h.S.pd]))], [(h.e1, .inr (11, [.int h.m0, .ref h.x0.1, .int (nI h.n)]))], (alA Γ h.x0), [(h.e2, .inr (11, [.int h.m1, .ref h.x1.1, .int (nI h.nr)]))], (alA Γ h.x1), [(h.e3, .inr (11, [.int h.m2, .ref h.x2.1, .int (nI h.S.np)]))], (alA Γ h.x2), [(h.e4, .inr (2, [.int h.S.li, .int h.S.ce]))], [(h.e5, .inl (Γ.2.1 0, 6, .inl h.se))], [(b, .inr (0, [.ref h.e0, .ref tt, .ref sv, .int zs, .ref da, .ref tx, .ref wr, .int fl, .int rf]))]]) (b_runV ⟨hx, hb, hml, hown, hts⟩ (mt_Cow_isCarrying l Γ _ (h.ca k) (h.S.cv k)) (lw_V q1325 q1025 q1026 q81 q1027) rfl rfl 0 (by decide +kernel) ⟨(Nat.le_of_ble_eq_true rfl), (Nat.le_of_ble_eq_true rfl)⟩ (c_pre hP hD hS hA hK hE [0] rfl rfl ro_nil) (recv_at (q := (RX5, TX5, 12)) hK (b_at (k := 0) hP rfl) rfl) rfl hl.1 rfl (Nat.le_of_ble_eq_true rfl) dX1_dryDay_14 ⟨(Nat.le_of_ble_eq_true rfl), (Nat.le_of_ble_eq_true rfl)⟩) hP hD hS hA [0] [1, 2, 3, 4, 5, 6, 7, 8, 9, 10, 11] rfl rfl rfl (fun r_5 u_5 H locs hw_5 hP hD hS _ => ?_)
    obtain ⟨rfl, rfl⟩ := hw_5
    have hP : WP Γ [[((h.ca k), cowE (h.S.cv k))], (cowsX h.n k h.ca h.S.cv), [(h.e0, .inr (1, [.ref h.e1, .ref h.e2, .ref h.e3, .ref h.e4, .ref h.e5, .int h.S.td, .int h.S.pk, .int h.S.pd]))], [(h.e1, .inr (11, [.int h.m0, .ref h.x0.1, .int (nI h.n)]))], (alA Γ h.x0), [(h.e2, .inr (11, [.int h.m1, .ref h.x1.1, .int (nI h.nr)]))], (alA Γ h.x1), [(h.e3, .inr (11, [.int h.m2, .ref h.x2.1, .int (nI h.S.np)]))], (alA Γ h.x2), [(h.e4, .inr (2, [.int h.S.li, .int h.S.ce]))], [(h.e5, .inl (Γ.2.1 0, 6, .inl h.se))], [(b, .inr (0, [.ref h.e0, .ref tt, .ref sv, .int zs, .ref da, .ref tx, .ref wr, .int fl, .int rf]))]] H := hP
    have hD : WD A [[((h.ca k), cowE (h.S.cv k))], (cowsX h.n k h.ca h.S.cv), [(h.e0, .inr (1, [.ref h.e1, .ref h.e2, .ref h.e3, .ref h.e4, .ref h.e5, .int h.S.td, .int h.S.pk, .int h.S.pd]))], [(h.e1, .inr (11, [.int h.m0, .ref h.x0.1, .int (nI h.n)]))], (alA Γ h.x0), [(h.e2, .inr (11, [.int h.m1, .ref h.x1.1, .int (nI h.nr)]))], (alA Γ h.x1), [(h.e3, .inr (11, [.int h.m2, .ref h.x2.1, .int (nI h.S.np)]))], (alA Γ h.x2), [(h.e4, .inr (2, [.int h.S.li, .int h.S.ce]))], [(h.e5, .inl (Γ.2.1 0, 6, .inl h.se))], [(b, .inr (0, [.ref h.e0, .ref tt, .ref sv, .int zs, .ref da, .ref tx, .ref wr, .int fl, .int rf]))]] := hD
    refine lv_if_eq (tgt := 24) hx hb dX1_dryDay_17 (by decide) (fun c_6 => ?_) (fun c_6 => ?_)
    · -- 17 taken
      refine lv_iconst (v := 0) hx hb dX1_dryDay_24 (by decide) ?_
      have hP : WP Γ [(cowsB h.n h.ca (va_up h.S.cv k (h.S.cv k))), [(h.e0, .inr (1, [.ref h.e1, .ref h.e2, .ref h.e3, .ref h.e4, .ref h.e5, .int h.S.td, .int h.S.pk, .int h.S.pd]))], [(h.e1, .inr (11, [.int h.m0, .ref h.x0.1, .int (nI h.n)]))], (alA Γ h.x0), [(h.e2, .inr (11, [.int h.m1, .ref h.x1.1, .int (nI h.nr)]))], (alA Γ h.x1), [(h.e3, .inr (11, [.int h.m2, .ref h.x2.1, .int (nI h.S.np)]))], (alA Γ h.x2), [(h.e4, .inr (2, [.int h.S.li, .int h.S.ce]))], [(h.e5, .inl (Γ.2.1 0, 6, .inl h.se))], [(b, .inr (0, [.ref h.e0, .ref tt, .ref sv, .int zs, .ref da, .ref tx, .ref wr, .int fl, .int rf]))]] H := cowP_un hk9 hP
      have hD : WD A [(cowsB h.n h.ca (va_up h.S.cv k (h.S.cv k))), [(h.e0, .inr (1, [.ref h.e1, .ref h.e2, .ref h.e3, .ref h.e4, .ref h.e5, .int h.S.td, .int h.S.pk, .int h.S.pd]))], [(h.e1, .inr (11, [.int h.m0, .ref h.x0.1, .int (nI h.n)]))], (alA Γ h.x0), [(h.e2, .inr (11, [.int h.m1, .ref h.x1.1, .int (nI h.nr)]))], (alA Γ h.x1), [(h.e3, .inr (11, [.int h.m2, .ref h.x2.1, .int (nI h.S.np)]))], (alA Γ h.x2), [(h.e4, .inr (2, [.int h.S.li, .int h.S.ce]))], [(h.e5, .inl (Γ.2.1 0, 6, .inl h.se))], [(b, .inr (0, [.ref h.e0, .ref tt, .ref sv, .int zs, .ref da, .ref tx, .ref wr, .int fl, .int rf]))]] := cowD_un hk9 hD
      rw [up_same] at hP hD
      have hP : WP Γ [[(h.e0, .inr (1, [.ref h.e1, .ref h.e2, .ref h.e3, .ref h.e4, .ref h.e5, .int h.S.td, .int h.S.pk, .int h.S.pd]))], [(h.e1, .inr (11, [.int h.m0, .ref h.x0.1, .int (nI h.n)]))], (alA Γ h.x0), (cowsB h.n h.ca h.S.cv), [(h.e2, .inr (11, [.int h.m1, .ref h.x1.1, .int (nI h.nr)]))], (alA Γ h.x1), [(h.e3, .inr (11, [.int h.m2, .ref h.x2.1, .int (nI h.S.np)]))], (alA Γ h.x2), [(h.e4, .inr (2, [.int h.S.li, .int h.S.ce]))], [(h.e5, .inl (Γ.2.1 0, 6, .inl h.se))], [(b, .inr (0, [.ref h.e0, .ref tt, .ref sv, .int zs, .ref da, .ref tx, .ref wr, .int fl, .int rf]))]] H := bP_sel hP [1, 2, 3, 0, 4, 5, 6, 7, 8, 9, 10] rfl
      have hD : WD A [[(h.e0, .inr (1, [.ref h.e1, .ref h.e2, .ref h.e3, .ref h.e4, .ref h.e5, .int h.S.td, .int h.S.pk, .int h.S.pd]))], [(h.e1, .inr (11, [.int h.m0, .ref h.x0.1, .int (nI h.n)]))], (alA Γ h.x0), (cowsB h.n h.ca h.S.cv), [(h.e2, .inr (11, [.int h.m1, .ref h.x1.1, .int (nI h.nr)]))], (alA Γ h.x1), [(h.e3, .inr (11, [.int h.m2, .ref h.x2.1, .int (nI h.S.np)]))], (alA Γ h.x2), [(h.e4, .inr (2, [.int h.S.li, .int h.S.ce]))], [(h.e5, .inl (Γ.2.1 0, 6, .inl h.se))], [(b, .inr (0, [.ref h.e0, .ref tt, .ref sv, .int zs, .ref da, .ref tx, .ref wr, .int fl, .int rf]))]] := bD_sel hD [1, 2, 3, 0, 4, 5, 6, 7, 8, 9, 10] rfl rfl
      have hP : WP Γ [(hdB Γ h), [(b, .inr (0, [.ref h.e0, .ref tt, .ref sv, .int zs, .ref da, .ref tx, .ref wr, .int fl, .int rf]))]] H := (hdP_un (Bs := hdL Γ h) hP)
      have hD : WD A [(hdB Γ h), [(b, .inr (0, [.ref h.e0, .ref tt, .ref sv, .int zs, .ref da, .ref tx, .ref wr, .int fl, .int rf]))]] := (hdD_un (Bs := hdL Γ h) hD)
      refine b_callx (br := [(hdB Γ h), [(b, .inr (0, [.ref h.e0, .ref tt, .ref sv, .int zs, .ref da, .ref tx, .ref wr, .int fl, .int rf]))]]) (b_runSx ⟨hx, hb, hml, hown, hts⟩ (mt_DB_checkState_x l Γ _ 0 hnt (by first | assumption | rfl)) (lw_S q821 q822 q62 q823) rfl rfl 1 (by decide +kernel) ⟨(Nat.le_of_ble_eq_true rfl), (Nat.le_of_ble_eq_true rfl)⟩ (c_pre hP hD hS hA hK hE [] rfl rfl ro_nil) rfl hl.1 rfl (Nat.le_of_ble_eq_true rfl) dX1_dryDay_25 ⟨(Nat.le_of_ble_eq_true rfl), (Nat.le_of_ble_eq_true rfl)⟩) hP hD hS hA [] [0, 1] rfl rfl rfl (fun q_7 ce_7 u_7 H locs hw_7 hP hD hS _ hce_7 hcv_7 hcl_7 => ?_)
      obtain rfl := hw_7
      have hP : WP Γ [(hdB Γ h), [(b, .inr (0, [.ref h.e0, .ref tt, .ref sv, .int zs, .ref da, .ref tx, .ref wr, .int fl, .int rf]))]] H := hP
      have hD : WD A [(hdB Γ h), [(b, .inr (0, [.ref h.e0, .ref tt, .ref sv, .int zs, .ref da, .ref tx, .ref wr, .int fl, .int rf]))]] := hD
      have hP : WP Γ [[(b, .inr (0, [.ref h.e0, .ref tt, .ref sv, .int zs, .ref da, .ref tx, .ref wr, .int fl, .int rf]))], (hdB Γ h)] H := bP_sel hP [1, 0] rfl
      have hD : WD A [[(b, .inr (0, [.ref h.e0, .ref tt, .ref sv, .int zs, .ref da, .ref tx, .ref wr, .int fl, .int rf]))], (hdB Γ h)] := bD_sel hD [1, 0] rfl rfl
      exact b_outx hlocks (fun x hx9 => (ht9 x hx9).elim) hP hD hS hce_7 hcv_7 hcl_7 (by first | with_reducible rfl | (simp [c_3, c_6]; done) | rfl) (Nat.le_of_ble_eq_true rfl) (Nat.le_of_ble_eq_true rfl)
    · -- 17 not taken
      refine lv_iconst (v := 1) hx hb dX1_dryDay_20 (by decide) ?_
      refine lv_goto (tgt := 25) hx hb dX1_dryDay_21 (by decide) ?_
      rcases hx9 with h9 | h9 <;> exact absurd h9 (by assumption)
set_option maxHeartbeats 4000000 in
set_option maxRecDepth 100000 in
theorem mt_DB_pickup_x1 (l : Launch) (Γ : GE) (sz : Nat) (b : Nat) (h : HB) (tt : Nat) (sv : Nat) (zs : Int32) (da : Nat) (tx : Nat) (wr : Nat) (fl : Int32) (rf : Int32) (P : va_W) (c : Int32) (w : Int32) (hnt : l.stackTraces = false) (ho : hdOk Γ P h) (hx9 : inC c 0 (nI h.S.np - 1) = 0) : KMX l yX1_pickup cX1_pickup 4 (some FieldType.int) Γ 8 131 1 6 [.ref b, .int c, .int w] [[(b, .inr (0, [.ref h.e0, .ref tt, .ref sv, .int zs, .ref da, .ref tx, .ref wr, .int fl, .int rf]))], (hdB Γ h)] [P] sz "java/lang/IndexOutOfBoundsException" (fun q_ u_ => u_ = [[(b, .inr (0, [.ref h.e0, .ref tt, .ref sv, .int zs, .ref da, .ref tx, .ref wr, .int fl, .int rf]))], (hdB Γ h)]) := by
  refine K_introX (by decide) (Nat.le_of_ble_eq_true rfl) ?_
  intro pr_ ev_ s mi_ below meth cd_ A ls hx hb hr hml hown hts hlocks hname hK hE hRo hP hD hA hS hsz hl ht9
  have hl : lv_has ls 4 [(0, .ref b), (1, .int c), (2, .int w)] := hl
  have hown : s.vm.findClass RX1 = some mi_.cls := hown
  refine lv_aload_n hx hb dX1_pickup_0 rfl (lv_at hl 0 rfl) ?_
  refine lv_iload_n hx hb dX1_pickup_1 rfl (lv_at hl 1 rfl) ?_
  refine b_callx (br := []) (b_runVx ⟨hx, hb, hml, hown, hts⟩ (mt_DB_pickupAt_x l Γ _ b h tt sv zs da tx wr fl rf P c hnt (by assumption) (by first | exact hx9 | omega)) (lw_V q1353 q1355 qs23 q62 q1356) rfl rfl 1 (by decide +kernel) ⟨(Nat.le_of_ble_eq_true rfl), (Nat.le_of_ble_eq_true rfl)⟩ (c_pre hP hD hS hA hK hE [0, 1] rfl rfl (ro_pass (ro_sel (ro2 := [P]) hRo [0] rfl) hD hS hA [0, 1] rfl)) (recv_at (q := (RX1, TX1, 9)) hK (b_at (k := 0) hP rfl) rfl) rfl hl.1 rfl (Nat.le_of_ble_eq_true rfl) dX1_pickup_2 ⟨(Nat.le_of_ble_eq_true rfl), (Nat.le_of_ble_eq_true rfl)⟩) hP hD hS hA [0, 1] [] rfl rfl rfl (fun q_1 ce_1 u_1 H locs hw_1 hP hD hS _ hce_1 hcv_1 hcl_1 => ?_)
  obtain rfl := hw_1
  have hP : WP Γ [[(b, .inr (0, [.ref h.e0, .ref tt, .ref sv, .int zs, .ref da, .ref tx, .ref wr, .int fl, .int rf]))], (hdB Γ h)] H := hP
  have hD : WD A [[(b, .inr (0, [.ref h.e0, .ref tt, .ref sv, .int zs, .ref da, .ref tx, .ref wr, .int fl, .int rf]))], (hdB Γ h)] := hD
  exact b_outx hlocks (fun x hx9 => (ht9 x hx9).elim) hP hD hS hce_1 hcv_1 hcl_1 (by first | rfl | (simp; done)) (Nat.le_of_ble_eq_true rfl) (Nat.le_of_ble_eq_true rfl)
set_option maxHeartbeats 4000000 in
set_option maxRecDepth 100000 in
theorem mt_DB_pickup_x2 (l : Launch) (Γ : GE) (sz : Nat) (b : Nat) (h : HB) (tt : Nat) (sv : Nat) (zs : Int32) (da : Nat) (tx : Nat) (wr : Nat) (fl : Int32) (rf : Int32) (P : va_W) (k : Nat) (w : Int32) (hnt : l.stackTraces = false) (ho : hdOk Γ P h) (hk9 : k < h.S.np) (hi9 : ¬ inC (nI k) 0 (nI h.S.np - 1) = 0) (hx9 : inC w 0 6 = 0) : KMX l yX1_pickup cX1_pickup 4 (some FieldType.int) Γ 7 110 1 6 [.ref b, .int (nI k), .int w] [[(b, .inr (0, [.ref h.e0, .ref tt, .ref sv, .int zs, .ref da, .ref tx, .ref wr, .int fl, .int rf]))], (hdB Γ h)] [P] sz "java/lang/IllegalArgumentException" (fun q_ u_ => u_ = [[(b, .inr (0, [.ref h.e0, .ref tt, .ref sv, .int zs, .ref da, .ref tx, .ref wr, .int fl, .int rf]))], (hdB Γ h)]) := by
  refine K_introX (by decide) (Nat.le_of_ble_eq_true rfl) ?_
  intro pr_ ev_ s mi_ below meth cd_ A ls hx hb hr hml hown hts hlocks hname hK hE hRo hP hD hA hS hsz hl ht9
  have hl : lv_has ls 4 [(0, .ref b), (1, .int (nI k)), (2, .int w)] := hl
  have hown : s.vm.findClass RX1 = some mi_.cls := hown
  refine lv_aload_n hx hb dX1_pickup_0 rfl (lv_at hl 0 rfl) ?_
  refine lv_iload_n hx hb dX1_pickup_1 rfl (lv_at hl 1 rfl) ?_
  refine b_callq (br := []) (b_runV ⟨hx, hb, hml, hown, hts⟩ (mt_DB_pickupAt_ok l Γ _ b h tt sv zs da tx wr fl rf P k (by assumption) hk9 hi9) (lw_V q1353 q1355 qs23 q62 q1356) rfl rfl 1 (by decide +kernel) ⟨(Nat.le_of_ble_eq_true rfl), (Nat.le_of_ble_eq_true rfl)⟩ (c_pre hP hD hS hA hK hE [0, 1] rfl rfl (ro_pass (ro_sel (ro2 := [P]) hRo [0] rfl) hD hS hA [0, 1] rfl)) (recv_at (q := (RX1, TX1, 9)) hK (b_at (k := 0) hP rfl) rfl) rfl hl.1 rfl (Nat.le_of_ble_eq_true rfl) dX1_pickup_2 ⟨(Nat.le_of_ble_eq_true rfl), (Nat.le_of_ble_eq_true rfl)⟩) hP hD hS hA [0, 1] [] rfl rfl rfl (fun r_1 u_1 H locs hw_1 hP hD hS _ => ?_)
  obtain ⟨rfl, rfl⟩ := hw_1
  have hP : WP Γ [[(b, .inr (0, [.ref h.e0, .ref tt, .ref sv, .int zs, .ref da, .ref tx, .ref wr, .int fl, .int rf]))], (hdB Γ h)] H := hP
  have hD : WD A [[(b, .inr (0, [.ref h.e0, .ref tt, .ref sv, .int zs, .ref da, .ref tx, .ref wr, .int fl, .int rf]))], (hdB Γ h)] := hD
  refine W.eq (g2 := F0 mi_ 5 ls ([.ref (h.pa k)])) rfl ?_
  refine lv_astore_n (lv' := [(3, .ref (h.pa k)), (0, .ref b), (1, .int (nI k)), (2, .int w)]) hx hb dX1_pickup_5 rfl hl (by decide) rfl (fun ls hl => ?_)
  refine lv_iload_n hx hb dX1_pickup_6 rfl (lv_at hl 3 rfl) ?_
  refine lv_iconst (v := 0) hx hb dX1_pickup_7 (by decide) ?_
  refine lv_bipush (v := 6) hx hb dX1_pickup_8 (by decide) ?_
  refine b_calli (br := [[(b, .inr (0, [.ref h.e0, .ref tt, .ref sv, .int zs, .ref da, .ref tx, .ref wr, .int fl, .int rf]))], (hdB Γ h)]) (b_runS ⟨hx, hb, hml, hown, hts⟩ (mt_DB_in l Γ _ w 0 6) (lw_S q806 q807 q62 q808) rfl rfl 3 (by decide +kernel) ⟨(Nat.le_of_ble_eq_true rfl), (Nat.le_of_ble_eq_true rfl)⟩ (c_pre hP hD hS hA hK hE [] rfl rfl ro_nil) rfl hl.1 rfl (Nat.le_of_ble_eq_true rfl) dX1_pickup_10 ⟨(Nat.le_of_ble_eq_true rfl), (Nat.le_of_ble_eq_true rfl)⟩) hP hD hS hA [] [0, 1] rfl rfl rfl (fun r_2 u_2 H locs hw_2 hP hD hS _ => ?_)
  obtain ⟨rfl, rfl⟩ := hw_2
  have hP : WP Γ [[(b, .inr (0, [.ref h.e0, .ref tt, .ref sv, .int zs, .ref da, .ref tx, .ref wr, .int fl, .int rf]))], (hdB Γ h)] H := hP
  have hD : WD A [[(b, .inr (0, [.ref h.e0, .ref tt, .ref sv, .int zs, .ref da, .ref tx, .ref wr, .int fl, .int rf]))], (hdB Γ h)] := hD
  refine b_callx (br := [[(b, .inr (0, [.ref h.e0, .ref tt, .ref sv, .int zs, .ref da, .ref tx, .ref wr, .int fl, .int rf]))], (hdB Γ h)]) (b_runSx ⟨hx, hb, hml, hown, hts⟩ (mt_DB_check_x l Γ _ (inC w 0 6) hnt (by first | assumption | rfl)) (lw_S q809 q810 q62 q811) rfl rfl 1 (by decide +kernel) ⟨(Nat.le_of_ble_eq_true rfl), (Nat.le_of_ble_eq_true rfl)⟩ (c_pre hP hD hS hA hK hE [] rfl rfl ro_nil) rfl hl.1 rfl (Nat.le_of_ble_eq_true rfl) dX1_pickup_13 ⟨(Nat.le_of_ble_eq_true rfl), (Nat.le_of_ble_eq_true rfl)⟩) hP hD hS hA [] [0, 1] rfl rfl rfl (fun q_3 ce_3 u_3 H locs hw_3 hP hD hS _ hce_3 hcv_3 hcl_3 => ?_)
  obtain rfl := hw_3
  have hP : WP Γ [[(b, .inr (0, [.ref h.e0, .ref tt, .ref sv, .int zs, .ref da, .ref tx, .ref wr, .int fl, .int rf]))], (hdB Γ h)] H := hP
  have hD : WD A [[(b, .inr (0, [.ref h.e0, .ref tt, .ref sv, .int zs, .ref da, .ref tx, .ref wr, .int fl, .int rf]))], (hdB Γ h)] := hD
  exact b_outx hlocks (fun x hx9 => (ht9 x hx9).elim) hP hD hS hce_3 hcv_3 hcl_3 (by first | rfl | (simp; done)) (Nat.le_of_ble_eq_true rfl) (Nat.le_of_ble_eq_true rfl)
set_option maxHeartbeats 4000000 in
set_option maxRecDepth 100000 in
theorem mt_DB_writeCow_x (l : Launch) (Γ : GE) (sz : Nat) (b : Nat) (h : HB) (tt : Nat) (sv : Nat) (zs : Int32) (da : Nat) (tx : Nat) (wr : Nat) (fl : Int32) (rf : Int32) (P : va_W) (c : Int32) (hnt : l.stackTraces = false) (ho : hdOk Γ P h) (hx9 : inC c 0 (nI h.n - 1) = 0) : KMX l yX1_writeCow cX1_writeCow 2 (some FieldType.int) Γ 8 131 1 6 [.ref b, .int c] [[(b, .inr (0, [.ref h.e0, .ref tt, .ref sv, .int zs, .ref da, .ref tx, .ref wr, .int fl, .int rf]))], (hdB Γ h)] [P] sz "java/lang/IndexOutOfBoundsException" (fun q_ u_ => u_ = [[(b, .inr (0, [.ref h.e0, .ref tt, .ref sv, .int zs, .ref da, .ref tx, .ref wr, .int fl, .int rf]))], (hdB Γ h)]) := by
  refine K_introX (by decide) (Nat.le_of_ble_eq_true rfl) ?_
  intro pr_ ev_ s mi_ below meth cd_ A ls hx hb hr hml hown hts hlocks hname hK hE hRo hP hD hA hS hsz hl ht9
  have hl : lv_has ls 2 [(0, .ref b), (1, .int c)] := hl
  have hown : s.vm.findClass RX1 = some mi_.cls := hown
  refine lv_aload_n hx hb dX1_writeCow_0 rfl (lv_at hl 0 rfl) ?_
  refine lv_aload_n hx hb dX1_writeCow_1 rfl (lv_at hl 0 rfl) ?_
  refine lv_iload_n hx hb dX1_writeCow_2 rfl (lv_at hl 1 rfl) ?_
  refine b_callx (br := []) (b_runVx ⟨hx, hb, hml, hown, hts⟩ (mt_DB_cowAt_x l Γ _ b h tt sv zs da tx wr fl rf P c hnt (by assumption) (by first | exact hx9 | omega)) (lw_V q1294 q1296 qs22 q62 q1297) rfl rfl 1 (by decide +kernel) ⟨(Nat.le_of_ble_eq_true rfl), (Nat.le_of_ble_eq_true rfl)⟩ (c_pre hP hD hS hA hK hE [0, 1] rfl rfl (ro_pass (ro_sel (ro2 := [P]) hRo [0] rfl) hD hS hA [0, 1] rfl)) (recv_at (q := (RX1, TX1, 9)) hK (b_at (k := 0) hP rfl) rfl) rfl hl.1 rfl (Nat.le_of_ble_eq_true rfl) dX1_writeCow_3 ⟨(Nat.le_of_ble_eq_true rfl), (Nat.le_of_ble_eq_true rfl)⟩) hP hD hS hA [0, 1] [] rfl rfl rfl (fun q_1 ce_1 u_1 H locs hw_1 hP hD hS _ hce_1 hcv_1 hcl_1 => ?_)
  obtain rfl := hw_1
  have hP : WP Γ [[(b, .inr (0, [.ref h.e0, .ref tt, .ref sv, .int zs, .ref da, .ref tx, .ref wr, .int fl, .int rf]))], (hdB Γ h)] H := hP
  have hD : WD A [[(b, .inr (0, [.ref h.e0, .ref tt, .ref sv, .int zs, .ref da, .ref tx, .ref wr, .int fl, .int rf]))], (hdB Γ h)] := hD
  exact b_outx hlocks (fun x hx9 => (ht9 x hx9).elim) hP hD hS hce_1 hcv_1 hcl_1 (by first | rfl | (simp; done)) (Nat.le_of_ble_eq_true rfl) (Nat.le_of_ble_eq_true rfl)
set_option maxHeartbeats 4000000 in
set_option maxRecDepth 100000 in
theorem mt_DB_writePickup_x (l : Launch) (Γ : GE) (sz : Nat) (b : Nat) (h : HB) (tt : Nat) (sv : Nat) (zs : Int32) (da : Nat) (tx : Nat) (wr : Nat) (fl : Int32) (rf : Int32) (P : va_W) (c : Int32) (hnt : l.stackTraces = false) (ho : hdOk Γ P h) (hx9 : inC c 0 (nI h.S.np - 1) = 0) : KMX l yX1_writePickup cX1_writePickup 2 (some FieldType.int) Γ 8 131 1 6 [.ref b, .int c] [[(b, .inr (0, [.ref h.e0, .ref tt, .ref sv, .int zs, .ref da, .ref tx, .ref wr, .int fl, .int rf]))], (hdB Γ h)] [P] sz "java/lang/IndexOutOfBoundsException" (fun q_ u_ => u_ = [[(b, .inr (0, [.ref h.e0, .ref tt, .ref sv, .int zs, .ref da, .ref tx, .ref wr, .int fl, .int rf]))], (hdB Γ h)]) := by
  refine K_introX (by decide) (Nat.le_of_ble_eq_true rfl) ?_
  intro pr_ ev_ s mi_ below meth cd_ A ls hx hb hr hml hown hts hlocks hname hK hE hRo hP hD hA hS hsz hl ht9
  have hl : lv_has ls 2 [(0, .ref b), (1, .int c)] := hl
  have hown : s.vm.findClass RX1 = some mi_.cls := hown
  refine lv_aload_n hx hb dX1_writePickup_0 rfl (lv_at hl 0 rfl) ?_
  refine lv_aload_n hx hb dX1_writePickup_1 rfl (lv_at hl 0 rfl) ?_
  refine lv_iload_n hx hb dX1_writePickup_2 rfl (lv_at hl 1 rfl) ?_
  refine b_callx (br := []) (b_runVx ⟨hx, hb, hml, hown, hts⟩ (mt_DB_pickupAt_x l Γ _ b h tt sv zs da tx wr fl rf P c hnt (by assumption) (by first | exact hx9 | omega)) (lw_V q1353 q1355 qs23 q62 q1356) rfl rfl 1 (by decide +kernel) ⟨(Nat.le_of_ble_eq_true rfl), (Nat.le_of_ble_eq_true rfl)⟩ (c_pre hP hD hS hA hK hE [0, 1] rfl rfl (ro_pass (ro_sel (ro2 := [P]) hRo [0] rfl) hD hS hA [0, 1] rfl)) (recv_at (q := (RX1, TX1, 9)) hK (b_at (k := 0) hP rfl) rfl) rfl hl.1 rfl (Nat.le_of_ble_eq_true rfl) dX1_writePickup_3 ⟨(Nat.le_of_ble_eq_true rfl), (Nat.le_of_ble_eq_true rfl)⟩) hP hD hS hA [0, 1] [] rfl rfl rfl (fun q_1 ce_1 u_1 H locs hw_1 hP hD hS _ hce_1 hcv_1 hcl_1 => ?_)
  obtain rfl := hw_1
  have hP : WP Γ [[(b, .inr (0, [.ref h.e0, .ref tt, .ref sv, .int zs, .ref da, .ref tx, .ref wr, .int fl, .int rf]))], (hdB Γ h)] H := hP
  have hD : WD A [[(b, .inr (0, [.ref h.e0, .ref tt, .ref sv, .int zs, .ref da, .ref tx, .ref wr, .int fl, .int rf]))], (hdB Γ h)] := hD
  exact b_outx hlocks (fun x hx9 => (ht9 x hx9).elim) hP hD hS hce_1 hcv_1 hcl_1 (by first | rfl | (simp; done)) (Nat.le_of_ble_eq_true rfl) (Nat.le_of_ble_eq_true rfl)
set_option maxHeartbeats 4000000 in
set_option maxRecDepth 100000 in
theorem mt_DB_mean_x1 (l : Launch) (Γ : GE) (sz : Nat) (b : Nat) (h : HB) (tt : Nat) (sv : Nat) (zs : Int32) (da : Nat) (tx : Nat) (wr : Nat) (fl : Int32) (rf : Int32) (P : va_W) (c : Int32) (w : Int32) (hnt : l.stackTraces = false) (ho : hdOk Γ P h) (hx9 : inC c 0 (nI h.S.np - 1) = 0) : KMX l yX1_mean cX1_mean 6 (some FieldType.double) Γ 8 131 1 6 [.ref b, .int c, .int w] [[(b, .inr (0, [.ref h.e0, .ref tt, .ref sv, .int zs, .ref da, .ref tx, .ref wr, .int fl, .int rf]))], (hdB Γ h)] [P] sz "java/lang/IndexOutOfBoundsException" (fun q_ u_ => u_ = [[(b, .inr (0, [.ref h.e0, .ref tt, .ref sv, .int zs, .ref da, .ref tx, .ref wr, .int fl, .int rf]))], (hdB Γ h)]) := by
  refine K_introX (by decide) (Nat.le_of_ble_eq_true rfl) ?_
  intro pr_ ev_ s mi_ below meth cd_ A ls hx hb hr hml hown hts hlocks hname hK hE hRo hP hD hA hS hsz hl ht9
  have hl : lv_has ls 6 [(0, .ref b), (1, .int c), (2, .int w)] := hl
  have hown : s.vm.findClass RX1 = some mi_.cls := hown
  refine lv_aload_n hx hb dX1_mean_0 rfl (lv_at hl 0 rfl) ?_
  refine lv_iload_n hx hb dX1_mean_1 rfl (lv_at hl 1 rfl) ?_
  refine b_callx (br := []) (b_runVx ⟨hx, hb, hml, hown, hts⟩ (mt_DB_pickupAt_x l Γ _ b h tt sv zs da tx wr fl rf P c hnt (by assumption) (by first | exact hx9 | omega)) (lw_V q1353 q1355 qs23 q62 q1356) rfl rfl 1 (by decide +kernel) ⟨(Nat.le_of_ble_eq_true rfl), (Nat.le_of_ble_eq_true rfl)⟩ (c_pre hP hD hS hA hK hE [0, 1] rfl rfl (ro_pass (ro_sel (ro2 := [P]) hRo [0] rfl) hD hS hA [0, 1] rfl)) (recv_at (q := (RX1, TX1, 9)) hK (b_at (k := 0) hP rfl) rfl) rfl hl.1 rfl (Nat.le_of_ble_eq_true rfl) dX1_mean_2 ⟨(Nat.le_of_ble_eq_true rfl), (Nat.le_of_ble_eq_true rfl)⟩) hP hD hS hA [0, 1] [] rfl rfl rfl (fun q_1 ce_1 u_1 H locs hw_1 hP hD hS _ hce_1 hcv_1 hcl_1 => ?_)
  obtain rfl := hw_1
  have hP : WP Γ [[(b, .inr (0, [.ref h.e0, .ref tt, .ref sv, .int zs, .ref da, .ref tx, .ref wr, .int fl, .int rf]))], (hdB Γ h)] H := hP
  have hD : WD A [[(b, .inr (0, [.ref h.e0, .ref tt, .ref sv, .int zs, .ref da, .ref tx, .ref wr, .int fl, .int rf]))], (hdB Γ h)] := hD
  exact b_outx hlocks (fun x hx9 => (ht9 x hx9).elim) hP hD hS hce_1 hcv_1 hcl_1 (by first | rfl | (simp; done)) (Nat.le_of_ble_eq_true rfl) (Nat.le_of_ble_eq_true rfl)
set_option maxHeartbeats 4000000 in
set_option maxRecDepth 100000 in
theorem mt_DB_mean_x1b (l : Launch) (Γ : GE) (sz : Nat) (b : Nat) (h : HB) (tt : Nat) (sv : Nat) (zs : Int32) (da : Nat) (tx : Nat) (wr : Nat) (fl : Int32) (rf : Int32) (P : va_W) (k : Nat) (c : Int32) (hnt : l.stackTraces = false) (ho : hdOk Γ P h) (hk9 : k < h.S.np) (hi9 : ¬ inC (nI k) 0 (nI h.S.np - 1) = 0) (hx9 : inC c 0 (nI h.S.np - 1) = 0) : KMX l yX1_mean cX1_mean 6 (some FieldType.double) Γ 8 131 1 6 [.ref b, .int (nI k), .int c] [[(b, .inr (0, [.ref h.e0, .ref tt, .ref sv, .int zs, .ref da, .ref tx, .ref wr, .int fl, .int rf]))], (hdB Γ h)] [P] sz "java/lang/IndexOutOfBoundsException" (fun q_ u_ => u_ = [[(b, .inr (0, [.ref h.e0, .ref tt, .ref sv, .int zs, .ref da, .ref tx, .ref wr, .int fl, .int rf]))], (hdB Γ h)]) := by
  refine K_introX (by decide) (Nat.le_of_ble_eq_true rfl) ?_
  intro pr_ ev_ s mi_ below meth cd_ A ls hx hb hr hml hown hts hlocks hname hK hE hRo hP hD hA hS hsz hl ht9
  have hl : lv_has ls 6 [(0, .ref b), (1, .int (nI k)), (2, .int c)] := hl
  have hown : s.vm.findClass RX1 = some mi_.cls := hown
  refine lv_aload_n hx hb dX1_mean_0 rfl (lv_at hl 0 rfl) ?_
  refine lv_iload_n hx hb dX1_mean_1 rfl (lv_at hl 1 rfl) ?_
  refine b_callq (br := []) (b_runV ⟨hx, hb, hml, hown, hts⟩ (mt_DB_pickupAt_ok l Γ _ b h tt sv zs da tx wr fl rf P k (by assumption) hk9 hi9) (lw_V q1353 q1355 qs23 q62 q1356) rfl rfl 1 (by decide +kernel) ⟨(Nat.le_of_ble_eq_true rfl), (Nat.le_of_ble_eq_true rfl)⟩ (c_pre hP hD hS hA hK hE [0, 1] rfl rfl (ro_pass (ro_sel (ro2 := [P]) hRo [0] rfl) hD hS hA [0, 1] rfl)) (recv_at (q := (RX1, TX1, 9)) hK (b_at (k := 0) hP rfl) rfl) rfl hl.1 rfl (Nat.le_of_ble_eq_true rfl) dX1_mean_2 ⟨(Nat.le_of_ble_eq_true rfl), (Nat.le_of_ble_eq_true rfl)⟩) hP hD hS hA [0, 1] [] rfl rfl rfl (fun r_1 u_1 H locs hw_1 hP hD hS _ => ?_)
  obtain ⟨rfl, rfl⟩ := hw_1
  have hP : WP Γ [[(b, .inr (0, [.ref h.e0, .ref tt, .ref sv, .int zs, .ref da, .ref tx, .ref wr, .int fl, .int rf]))], (hdB Γ h)] H := hP
  have hD : WD A [[(b, .inr (0, [.ref h.e0, .ref tt, .ref sv, .int zs, .ref da, .ref tx, .ref wr, .int fl, .int rf]))], (hdB Γ h)] := hD
  refine W.eq (g2 := F0 mi_ 5 ls ([.ref (h.pa k)])) rfl ?_
  refine lv_pop hx hb dX1_mean_5 rfl ?_
  refine lv_aload_n hx hb dX1_mean_6 rfl (lv_at hl 0 rfl) ?_
  refine lv_iload_n hx hb dX1_mean_7 rfl (lv_at hl 2 rfl) ?_
  refine b_callx (br := []) (b_runVx ⟨hx, hb, hml, hown, hts⟩ (mt_DB_pickupAt_x l Γ _ b h tt sv zs da tx wr fl rf P c hnt (by assumption) (by first | exact hx9 | omega)) (lw_V q1353 q1355 qs23 q62 q1356) rfl rfl 1 (by decide +kernel) ⟨(Nat.le_of_ble_eq_true rfl), (Nat.le_of_ble_eq_true rfl)⟩ (c_pre hP hD hS hA hK hE [0, 1] rfl rfl (ro_pass (ro_sel (ro2 := [P]) hRo [0] rfl) hD hS hA [0, 1] rfl)) (recv_at (q := (RX1, TX1, 9)) hK (b_at (k := 0) hP rfl) rfl) rfl hl.1 rfl (Nat.le_of_ble_eq_true rfl) dX1_mean_8 ⟨(Nat.le_of_ble_eq_true rfl), (Nat.le_of_ble_eq_true rfl)⟩) hP hD hS hA [0, 1] [] rfl rfl rfl (fun q_2 ce_2 u_2 H locs hw_2 hP hD hS _ hce_2 hcv_2 hcl_2 => ?_)
  obtain rfl := hw_2
  have hP : WP Γ [[(b, .inr (0, [.ref h.e0, .ref tt, .ref sv, .int zs, .ref da, .ref tx, .ref wr, .int fl, .int rf]))], (hdB Γ h)] H := hP
  have hD : WD A [[(b, .inr (0, [.ref h.e0, .ref tt, .ref sv, .int zs, .ref da, .ref tx, .ref wr, .int fl, .int rf]))], (hdB Γ h)] := hD
  exact b_outx hlocks (fun x hx9 => (ht9 x hx9).elim) hP hD hS hce_2 hcv_2 hcl_2 (by first | rfl | (simp; done)) (Nat.le_of_ble_eq_true rfl) (Nat.le_of_ble_eq_true rfl)
set_option maxHeartbeats 4000000 in
set_option maxRecDepth 100000 in
theorem mt_DB_mean_x2 (l : Launch) (Γ : GE) (sz : Nat) (b : Nat) (h : HB) (tt : Nat) (sv : Nat) (zs : Int32) (da : Nat) (tx : Nat) (wr : Nat) (fl : Int32) (rf : Int32) (P : va_W) (k : Nat) (q : Nat) (hnt : l.stackTraces = false) (ho : hdOk Γ P h) (hk9 : k < h.S.np) (hi9 : ¬ inC (nI k) 0 (nI h.S.np - 1) = 0) (hq9 : q < h.S.np) (hi8 : ¬ inC (nI q) 0 (nI h.S.np - 1) = 0) (hkq : q < k) : KMX l yX1_mean cX1_mean 6 (some FieldType.double) Γ 7 110 1 6 [.ref b, .int (nI k), .int (nI q)] [[(b, .inr (0, [.ref h.e0, .ref tt, .ref sv, .int zs, .ref da, .ref tx, .ref wr, .int fl, .int rf]))], (hdB Γ h)] [P] sz "java/lang/IllegalArgumentException" (fun q_ u_ => u_ = [[(b, .inr (0, [.ref h.e0, .ref tt, .ref sv, .int zs, .ref da, .ref tx, .ref wr, .int fl, .int rf]))], (hdB Γ h)]) := by
  refine K_introX (by decide) (Nat.le_of_ble_eq_true rfl) ?_
  intro pr_ ev_ s mi_ below meth cd_ A ls hx hb hr hml hown hts hlocks hname hK hE hRo hP hD hA hS hsz hl ht9
  have hl : lv_has ls 6 [(0, .ref b), (1, .int (nI k)), (2, .int (nI q))] := hl
  have hown : s.vm.findClass RX1 = some mi_.cls := hown
  have np61 : h.S.np ≤ 60 := ho.2.2.2.2.2.2.1
  refine lv_aload_n hx hb dX1_mean_0 rfl (lv_at hl 0 rfl) ?_
  refine lv_iload_n hx hb dX1_mean_1 rfl (lv_at hl 1 rfl) ?_
  refine b_callq (br := []) (b_runV ⟨hx, hb, hml, hown, hts⟩ (mt_DB_pickupAt_ok l Γ _ b h tt sv zs da tx wr fl rf P k (by assumption) hk9 hi9) (lw_V q1353 q1355 qs23 q62 q1356) rfl rfl 1 (by decide +kernel) ⟨(Nat.le_of_ble_eq_true rfl), (Nat.le_of_ble_eq_true rfl)⟩ (c_pre hP hD hS hA hK hE [0, 1] rfl rfl (ro_pass (ro_sel (ro2 := [P]) hRo [0] rfl) hD hS hA [0, 1] rfl)) (recv_at (q := (RX1, TX1, 9)) hK (b_at (k := 0) hP rfl) rfl) rfl hl.1 rfl (Nat.le_of_ble_eq_true rfl) dX1_mean_2 ⟨(Nat.le_of_ble_eq_true rfl), (Nat.le_of_ble_eq_true rfl)⟩) hP hD hS hA [0, 1] [] rfl rfl rfl (fun r_1 u_1 H locs hw_1 hP hD hS _ => ?_)
  obtain ⟨rfl, rfl⟩ := hw_1
  have hP : WP Γ [[(b, .inr (0, [.ref h.e0, .ref tt, .ref sv, .int zs, .ref da, .ref tx, .ref wr, .int fl, .int rf]))], (hdB Γ h)] H := hP
  have hD : WD A [[(b, .inr (0, [.ref h.e0, .ref tt, .ref sv, .int zs, .ref da, .ref tx, .ref wr, .int fl, .int rf]))], (hdB Γ h)] := hD
  refine W.eq (g2 := F0 mi_ 5 ls ([.ref (h.pa k)])) rfl ?_
  refine lv_pop hx hb dX1_mean_5 rfl ?_
  refine lv_aload_n hx hb dX1_mean_6 rfl (lv_at hl 0 rfl) ?_
  refine lv_iload_n hx hb dX1_mean_7 rfl (lv_at hl 2 rfl) ?_
  refine b_callq (br := []) (b_runV ⟨hx, hb, hml, hown, hts⟩ (mt_DB_pickupAt_ok l Γ _ b h tt sv zs da tx wr fl rf P q (by assumption) hq9 hi8) (lw_V q1353 q1355 qs23 q62 q1356) rfl rfl 1 (by decide +kernel) ⟨(Nat.le_of_ble_eq_true rfl), (Nat.le_of_ble_eq_true rfl)⟩ (c_pre hP hD hS hA hK hE [0, 1] rfl rfl (ro_pass (ro_sel (ro2 := [P]) hRo [0] rfl) hD hS hA [0, 1] rfl)) (recv_at (q := (RX1, TX1, 9)) hK (b_at (k := 0) hP rfl) rfl) rfl hl.1 rfl (Nat.le_of_ble_eq_true rfl) dX1_mean_8 ⟨(Nat.le_of_ble_eq_true rfl), (Nat.le_of_ble_eq_true rfl)⟩) hP hD hS hA [0, 1] [] rfl rfl rfl (fun r_2 u_2 H locs hw_2 hP hD hS _ => ?_)
  obtain ⟨rfl, rfl⟩ := hw_2
  have hP : WP Γ [[(b, .inr (0, [.ref h.e0, .ref tt, .ref sv, .int zs, .ref da, .ref tx, .ref wr, .int fl, .int rf]))], (hdB Γ h)] H := hP
  have hD : WD A [[(b, .inr (0, [.ref h.e0, .ref tt, .ref sv, .int zs, .ref da, .ref tx, .ref wr, .int fl, .int rf]))], (hdB Γ h)] := hD
  refine W.eq (g2 := F0 mi_ 11 ls ([.ref (h.pa q)])) rfl ?_
  refine lv_pop hx hb dX1_mean_11 rfl ?_
  refine lv_iload_n hx hb dX1_mean_12 rfl (lv_at hl 1 rfl) ?_
  refine lv_iload_n hx hb dX1_mean_13 rfl (lv_at hl 2 rfl) ?_
  refine lv_icmp_gt (tgt := 21) hx hb dX1_mean_14 (by decide) (fun c_3 => ?_) (fun c_3 => ?_)
  · -- 14 taken
    have n_3 : q < k := (nI_ltI (by omega) (by omega)).mp (show nI q < nI k from c_3)
    refine lv_iconst (v := 0) hx hb dX1_mean_21 (by decide) ?_
    refine b_callx (br := [[(b, .inr (0, [.ref h.e0, .ref tt, .ref sv, .int zs, .ref da, .ref tx, .ref wr, .int fl, .int rf]))], (hdB Γ h)]) (b_runSx ⟨hx, hb, hml, hown, hts⟩ (mt_DB_check_x l Γ _ 0 hnt (by first | assumption | rfl)) (lw_S q809 q810 q62 q811) rfl rfl 1 (by decide +kernel) ⟨(Nat.le_of_ble_eq_true rfl), (Nat.le_of_ble_eq_true rfl)⟩ (c_pre hP hD hS hA hK hE [] rfl rfl ro_nil) rfl hl.1 rfl (Nat.le_of_ble_eq_true rfl) dX1_mean_22 ⟨(Nat.le_of_ble_eq_true rfl), (Nat.le_of_ble_eq_true rfl)⟩) hP hD hS hA [] [0, 1] rfl rfl rfl (fun q_4 ce_4 u_4 H locs hw_4 hP hD hS _ hce_4 hcv_4 hcl_4 => ?_)
    obtain rfl := hw_4
    have hP : WP Γ [[(b, .inr (0, [.ref h.e0, .ref tt, .ref sv, .int zs, .ref da, .ref tx, .ref wr, .int fl, .int rf]))], (hdB Γ h)] H := hP
    have hD : WD A [[(b, .inr (0, [.ref h.e0, .ref tt, .ref sv, .int zs, .ref da, .ref tx, .ref wr, .int fl, .int rf]))], (hdB Γ h)] := hD
    exact b_outx hlocks (fun x hx9 => (ht9 x hx9).elim) hP hD hS hce_4 hcv_4 hcl_4 (by first | with_reducible rfl | (simp [n_3, c_3]; done) | rfl) (Nat.le_of_ble_eq_true rfl) (Nat.le_of_ble_eq_true rfl)
  · -- 14 not taken
    have n_3 : ¬ (q < k) := fun hh7 => c_3 ((nI_ltI (a := q) (b := k) (by omega) (by omega)).mpr hh7)
    refine lv_iconst (v := 1) hx hb dX1_mean_17 (by decide) ?_
    refine lv_goto (tgt := 22) hx hb dX1_mean_18 (by decide) ?_
    exfalso; omega
set_option maxHeartbeats 4000000 in
set_option maxRecDepth 100000 in
theorem mt_DB_greatest_x1 (l : Launch) (Γ : GE) (sz : Nat) (b : Nat) (h : HB) (tt : Nat) (sv : Nat) (zs : Int32) (da : Nat) (tx : Nat) (wr : Nat) (fl : Int32) (rf : Int32) (w : Int32) (hnt : l.stackTraces = false) (hx9 : inC w 0 6 = 0) : KMX l yX1_greatest cX1_greatest 4 (some FieldType.int) Γ 7 110 1 6 [.ref b, .int w] [[(b, .inr (0, [.ref h.e0, .ref tt, .ref sv, .int zs, .ref da, .ref tx, .ref wr, .int fl, .int rf]))]] [] sz "java/lang/IllegalArgumentException" (fun q_ u_ => u_ = [[(b, .inr (0, [.ref h.e0, .ref tt, .ref sv, .int zs, .ref da, .ref tx, .ref wr, .int fl, .int rf]))]]) := by
  refine K_introX (by decide) (Nat.le_of_ble_eq_true rfl) ?_
  intro pr_ ev_ s mi_ below meth cd_ A ls hx hb hr hml hown hts hlocks hname hK hE hRo hP hD hA hS hsz hl ht9
  have hl : lv_has ls 4 [(0, .ref b), (1, .int w)] := hl
  have hown : s.vm.findClass RX1 = some mi_.cls := hown
  refine lv_iload_n hx hb dX1_greatest_0 rfl (lv_at hl 1 rfl) ?_
  refine lv_iconst (v := 0) hx hb dX1_greatest_1 (by decide) ?_
  refine lv_bipush (v := 6) hx hb dX1_greatest_2 (by decide) ?_
  refine b_calli (br := [[(b, .inr (0, [.ref h.e0, .ref tt, .ref sv, .int zs, .ref da, .ref tx, .ref wr, .int fl, .int rf]))]]) (b_runS ⟨hx, hb, hml, hown, hts⟩ (mt_DB_in l Γ _ w 0 6) (lw_S q806 q807 q62 q808) rfl rfl 3 (by decide +kernel) ⟨(Nat.le_of_ble_eq_true rfl), (Nat.le_of_ble_eq_true rfl)⟩ (c_pre hP hD hS hA hK hE [] rfl rfl ro_nil) rfl hl.1 rfl (Nat.le_of_ble_eq_true rfl) dX1_greatest_4 ⟨(Nat.le_of_ble_eq_true rfl), (Nat.le_of_ble_eq_true rfl)⟩) hP hD hS hA [] [0] rfl rfl rfl (fun r_1 u_1 H locs hw_1 hP hD hS _ => ?_)
  obtain ⟨rfl, rfl⟩ := hw_1
  have hP : WP Γ [[(b, .inr (0, [.ref h.e0, .ref tt, .ref sv, .int zs, .ref da, .ref tx, .ref wr, .int fl, .int rf]))]] H := hP
  have hD : WD A [[(b, .inr (0, [.ref h.e0, .ref tt, .ref sv, .int zs, .ref da, .ref tx, .ref wr, .int fl, .int rf]))]] := hD
  refine b_callx (br := [[(b, .inr (0, [.ref h.e0, .ref tt, .ref sv, .int zs, .ref da, .ref tx, .ref wr, .int fl, .int rf]))]]) (b_runSx ⟨hx, hb, hml, hown, hts⟩ (mt_DB_check_x l Γ _ (inC w 0 6) hnt (by first | assumption | rfl)) (lw_S q809 q810 q62 q811) rfl rfl 1 (by decide +kernel) ⟨(Nat.le_of_ble_eq_true rfl), (Nat.le_of_ble_eq_true rfl)⟩ (c_pre hP hD hS hA hK hE [] rfl rfl ro_nil) rfl hl.1 rfl (Nat.le_of_ble_eq_true rfl) dX1_greatest_7 ⟨(Nat.le_of_ble_eq_true rfl), (Nat.le_of_ble_eq_true rfl)⟩) hP hD hS hA [] [0] rfl rfl rfl (fun q_2 ce_2 u_2 H locs hw_2 hP hD hS _ hce_2 hcv_2 hcl_2 => ?_)
  obtain rfl := hw_2
  have hP : WP Γ [[(b, .inr (0, [.ref h.e0, .ref tt, .ref sv, .int zs, .ref da, .ref tx, .ref wr, .int fl, .int rf]))]] H := hP
  have hD : WD A [[(b, .inr (0, [.ref h.e0, .ref tt, .ref sv, .int zs, .ref da, .ref tx, .ref wr, .int fl, .int rf]))]] := hD
  exact b_outx hlocks (fun x hx9 => (ht9 x hx9).elim) hP hD hS hce_2 hcv_2 hcl_2 (by first | rfl | (simp; done)) (Nat.le_of_ble_eq_true rfl) (Nat.le_of_ble_eq_true rfl)
set_option maxHeartbeats 4000000 in
set_option maxRecDepth 100000 in
theorem mt_DB_greatest_x2 (l : Launch) (Γ : GE) (sz : Nat) (b : Nat) (h : HB) (tt : Nat) (sv : Nat) (zs : Int32) (da : Nat) (tx : Nat) (wr : Nat) (fl : Int32) (rf : Int32) (P : va_W) (w : Int32) (hnt : l.stackTraces = false) (ho : hdOk Γ P h) (hw9 : ¬ inC w 0 6 = 0) (hn0 : h.S.np = 0) : KMX l yX1_greatest cX1_greatest 4 (some FieldType.int) Γ 7 110 1 6 [.ref b, .int w] [[(b, .inr (0, [.ref h.e0, .ref tt, .ref sv, .int zs, .ref da, .ref tx, .ref wr, .int fl, .int rf]))], (hdB Γ h)] [P] sz "java/util/NoSuchElementException" (fun q_ u_ => u_ = [[(b, .inr (0, [.ref h.e0, .ref tt, .ref sv, .int zs, .ref da, .ref tx, .ref wr, .int fl, .int rf]))], (hdB Γ h)]) := by
  refine K_introX (by decide) (Nat.le_of_ble_eq_true rfl) ?_
  intro pr_ ev_ s mi_ below meth cd_ A ls hx hb hr hml hown hts hlocks hname hK hE hRo hP hD hA hS hsz hl ht9
  have hl : lv_has ls 4 [(0, .ref b), (1, .int w)] := hl
  have hown : s.vm.findClass RX1 = some mi_.cls := hown
  refine lv_iload_n hx hb dX1_greatest_0 rfl (lv_at hl 1 rfl) ?_
  refine lv_iconst (v := 0) hx hb dX1_greatest_1 (by decide) ?_
  refine lv_bipush (v := 6) hx hb dX1_greatest_2 (by decide) ?_
  refine b_calli (br := [[(b, .inr (0, [.ref h.e0, .ref tt, .ref sv, .int zs, .ref da, .ref tx, .ref wr, .int fl, .int rf]))], (hdB Γ h)]) (b_runS ⟨hx, hb, hml, hown, hts⟩ (mt_DB_in l Γ _ w 0 6) (lw_S q806 q807 q62 q808) rfl rfl 3 (by decide +kernel) ⟨(Nat.le_of_ble_eq_true rfl), (Nat.le_of_ble_eq_true rfl)⟩ (c_pre hP hD hS hA hK hE [] rfl rfl ro_nil) rfl hl.1 rfl (Nat.le_of_ble_eq_true rfl) dX1_greatest_4 ⟨(Nat.le_of_ble_eq_true rfl), (Nat.le_of_ble_eq_true rfl)⟩) hP hD hS hA [] [0, 1] rfl rfl rfl (fun r_1 u_1 H locs hw_1 hP hD hS _ => ?_)
  obtain ⟨rfl, rfl⟩ := hw_1
  have hP : WP Γ [[(b, .inr (0, [.ref h.e0, .ref tt, .ref sv, .int zs, .ref da, .ref tx, .ref wr, .int fl, .int rf]))], (hdB Γ h)] H := hP
  have hD : WD A [[(b, .inr (0, [.ref h.e0, .ref tt, .ref sv, .int zs, .ref da, .ref tx, .ref wr, .int fl, .int rf]))], (hdB Γ h)] := hD
  refine b_callv (br := [[(b, .inr (0, [.ref h.e0, .ref tt, .ref sv, .int zs, .ref da, .ref tx, .ref wr, .int fl, .int rf]))], (hdB Γ h)]) (b_runS ⟨hx, hb, hml, hown, hts⟩ (mt_DB_check_ok l Γ _ (inC w 0 6) (by first | assumption | decide)) (lw_S q809 q810 q62 q811) rfl rfl 1 (by decide +kernel) ⟨(Nat.le_of_ble_eq_true rfl), (Nat.le_of_ble_eq_true rfl)⟩ (c_pre hP hD hS hA hK hE [] rfl rfl ro_nil) rfl hl.1 rfl (Nat.le_of_ble_eq_true rfl) dX1_greatest_7 ⟨(Nat.le_of_ble_eq_true rfl), (Nat.le_of_ble_eq_true rfl)⟩) hP hD hS hA [] [0, 1] rfl rfl rfl (fun u_2 H locs hw_2 hP hD hS _ => ?_)
  obtain rfl := hw_2
  have hP : WP Γ [[(b, .inr (0, [.ref h.e0, .ref tt, .ref sv, .int zs, .ref da, .ref tx, .ref wr, .int fl, .int rf]))], (hdB Γ h)] H := hP
  have hD : WD A [[(b, .inr (0, [.ref h.e0, .ref tt, .ref sv, .int zs, .ref da, .ref tx, .ref wr, .int fl, .int rf]))], (hdB Γ h)] := hD
  have hP : WP Γ [(hdB Γ h), [(b, .inr (0, [.ref h.e0, .ref tt, .ref sv, .int zs, .ref da, .ref tx, .ref wr, .int fl, .int rf]))]] H := bP_sel hP [1, 0] rfl
  have hD : WD A [(hdB Γ h), [(b, .inr (0, [.ref h.e0, .ref tt, .ref sv, .int zs, .ref da, .ref tx, .ref wr, .int fl, .int rf]))]] := bD_sel hD [1, 0] rfl rfl
  have hP : WP Γ [[(h.e0, .inr (1, [.ref h.e1, .ref h.e2, .ref h.e3, .ref h.e4, .ref h.e5, .int h.S.td, .int h.S.pk, .int h.S.pd]))], [(h.e1, .inr (11, [.int h.m0, .ref h.x0.1, .int (nI h.n)]))], (alA Γ h.x0), (cowsB h.n h.ca h.S.cv), [(h.e2, .inr (11, [.int h.m1, .ref h.x1.1, .int (nI h.nr)]))], (alA Γ h.x1), [(h.e3, .inr (11, [.int h.m2, .ref h.x2.1, .int (nI h.S.np)]))], (alA Γ h.x2), [(h.e4, .inr (2, [.int h.S.li, .int h.S.ce]))], [(h.e5, .inl (Γ.2.1 0, 6, .inl h.se))], [(b, .inr (0, [.ref h.e0, .ref tt, .ref sv, .int zs, .ref da, .ref tx, .ref wr, .int fl, .int rf]))]] H := hdP_ex (Bs := hdL Γ h) hP
  have hD : WD A [[(h.e0, .inr (1, [.ref h.e1, .ref h.e2, .ref h.e3, .ref h.e4, .ref h.e5, .int h.S.td, .int h.S.pk, .int h.S.pd]))], [(h.e1, .inr (11, [.int h.m0, .ref h.x0.1, .int (nI h.n)]))], (alA Γ h.x0), (cowsB h.n h.ca h.S.cv), [(h.e2, .inr (11, [.int h.m1, .ref h.x1.1, .int (nI h.nr)]))], (alA Γ h.x1), [(h.e3, .inr (11, [.int h.m2, .ref h.x2.1, .int (nI h.S.np)]))], (alA Γ h.x2), [(h.e4, .inr (2, [.int h.S.li, .int h.S.ce]))], [(h.e5, .inl (Γ.2.1 0, 6, .inl h.se))], [(b, .inr (0, [.ref h.e0, .ref tt, .ref sv, .int zs, .ref da, .ref tx, .ref wr, .int fl, .int rf]))]] := hdD_ex (Bs := hdL Γ h) hD
  have hal0 : alI Γ h.x0 h.n h.ca := ho.1
  have hn8 : h.n ≤ 8 := ho.2.1
  have hal1 : alI Γ h.x1 h.nr h.ra := ho.2.2.1
  have nr4 : h.nr ≤ 4 := ho.2.2.2.1
  have hrw : ∀ k, k < h.nr → (h.ra k, rowE (h.rv k)) ∈ P := ho.2.2.2.2.1
  have hal2 : alI Γ h.x2 h.S.np h.pa := ho.2.2.2.2.2.1
  have np60 : h.S.np ≤ 60 := ho.2.2.2.2.2.2.1
  have hpk : ∀ k, k < h.S.np → (h.pa k, pickE (h.S.pv k)) ∈ P := ho.2.2.2.2.2.2.2.1
  have hcb : ∀ k, k < h.n → cowB (h.S.cv k) := ho.2.2.2.2.2.2.2.2
  refine lv_aload_n hx hb dX1_greatest_10 rfl (lv_at hl 0 rfl) ?_
  refine b_get (C := RX1) (T := TX1) (N := 9) (v := .ref h.e0) hx hb hts in_X1 hown hK (b_at (k := 10) hP rfl) rfl 0 (by decide) q248 (fun _ h9 => h9) rfl dX1_greatest_11 ?_
  refine b_getN (C := RX2) (T := TX2) (N := 8) (v := .ref h.e3) hx hb hts hE in_X2 hown hK (b_at (k := 0) hP rfl) rfl 2 (by decide) q169 (fun _ h9 => h9) rfl dX1_greatest_14 ?_
  refine b_calli (br := [[(h.e0, .inr (1, [.ref h.e1, .ref h.e2, .ref h.e3, .ref h.e4, .ref h.e5, .int h.S.td, .int h.S.pk, .int h.S.pd]))], [(h.e1, .inr (11, [.int h.m0, .ref h.x0.1, .int (nI h.n)]))], (alA Γ h.x0), (cowsB h.n h.ca h.S.cv), [(h.e2, .inr (11, [.int h.m1, .ref h.x1.1, .int (nI h.nr)]))], (alA Γ h.x1), (alA Γ h.x2), [(h.e4, .inr (2, [.int h.S.li, .int h.S.ce]))], [(h.e5, .inl (Γ.2.1 0, 6, .inl h.se))], [(b, .inr (0, [.ref h.e0, .ref tt, .ref sv, .int zs, .ref da, .ref tx, .ref wr, .int fl, .int rf]))]]) (b_runV ⟨hx, hb, hml, hown, hts⟩ (mt_AL_isEmpty l Γ _ h.e3 h.m2 h.x2.1 h.S.np (by omega)) (lw_V q1380 q1381 q1382 q66 q1383) rfl rfl 0 (by decide +kernel) ⟨(Nat.le_of_ble_eq_true rfl), (Nat.le_of_ble_eq_true rfl)⟩ (c_pre hP hD hS hA hK hE [6] rfl rfl ro_nil) (recv_at (q := (RJ2, TJ2, 3)) hK (b_at (k := 6) hP rfl) rfl) rfl hl.1 rfl (Nat.le_of_ble_eq_true rfl) dX1_greatest_17 ⟨(Nat.le_of_ble_eq_true rfl), (Nat.le_of_ble_eq_true rfl)⟩) hP hD hS hA [6] [0, 1, 2, 3, 4, 5, 7, 8, 9, 10] rfl rfl rfl (fun r_3 u_3 H locs hw_3 hP hD hS _ => ?_)
  obtain ⟨rfl, rfl⟩ := hw_3
  have hP : WP Γ [[(h.e3, .inr (11, [.int h.m2, .ref h.x2.1, .int (nI h.S.np)]))], [(h.e0, .inr (1, [.ref h.e1, .ref h.e2, .ref h.e3, .ref h.e4, .ref h.e5, .int h.S.td, .int h.S.pk, .int h.S.pd]))], [(h.e1, .inr (11, [.int h.m0, .ref h.x0.1, .int (nI h.n)]))], (alA Γ h.x0), (cowsB h.n h.ca h.S.cv), [(h.e2, .inr (11, [.int h.m1, .ref h.x1.1, .int (nI h.nr)]))], (alA Γ h.x1), (alA Γ h.x2), [(h.e4, .inr (2, [.int h.S.li, .int h.S.ce]))], [(h.e5, .inl (Γ.2.1 0, 6, .inl h.se))], [(b, .inr (0, [.ref h.e0, .ref tt, .ref sv, .int zs, .ref da, .ref tx, .ref wr, .int fl, .int rf]))]] H := hP
  have hD : WD A [[(h.e3, .inr (11, [.int h.m2, .ref h.x2.1, .int (nI h.S.np)]))], [(h.e0, .inr (1, [.ref h.e1, .ref h.e2, .ref h.e3, .ref h.e4, .ref h.e5, .int h.S.td, .int h.S.pk, .int h.S.pd]))], [(h.e1, .inr (11, [.int h.m0, .ref h.x0.1, .int (nI h.n)]))], (alA Γ h.x0), (cowsB h.n h.ca h.S.cv), [(h.e2, .inr (11, [.int h.m1, .ref h.x1.1, .int (nI h.nr)]))], (alA Γ h.x1), (alA Γ h.x2), [(h.e4, .inr (2, [.int h.S.li, .int h.S.ce]))], [(h.e5, .inl (Γ.2.1 0, 6, .inl h.se))], [(b, .inr (0, [.ref h.e0, .ref tt, .ref sv, .int zs, .ref da, .ref tx, .ref wr, .int fl, .int rf]))]] := hD
  refine b_top (show (if h.S.np = 0 then 1 else 0) = 1 from if_pos hn0) ?_
  refine lv_if_ne (tgt := 27) hx hb dX1_greatest_20 (by decide) (fun c_4 => ?_) (fun c_4 => ?_)
  · -- 20 taken
    have n_4 : ¬ (1 = 0) := fun hh7 => c_4 ((nI_eq (a := 1) (b := 0) (by omega) (by omega)).mpr hh7)
    refine lv_iconst (v := 0) hx hb dX1_greatest_27 (by decide) ?_
    have hP : WP Γ [[(h.e0, .inr (1, [.ref h.e1, .ref h.e2, .ref h.e3, .ref h.e4, .ref h.e5, .int h.S.td, .int h.S.pk, .int h.S.pd]))], [(h.e1, .inr (11, [.int h.m0, .ref h.x0.1, .int (nI h.n)]))], (alA Γ h.x0), (cowsB h.n h.ca h.S.cv), [(h.e2, .inr (11, [.int h.m1, .ref h.x1.1, .int (nI h.nr)]))], (alA Γ h.x1), [(h.e3, .inr (11, [.int h.m2, .ref h.x2.1, .int (nI h.S.np)]))], (alA Γ h.x2), [(h.e4, .inr (2, [.int h.S.li, .int h.S.ce]))], [(h.e5, .inl (Γ.2.1 0, 6, .inl h.se))], [(b, .inr (0, [.ref h.e0, .ref tt, .ref sv, .int zs, .ref da, .ref tx, .ref wr, .int fl, .int rf]))]] H := bP_sel hP [1, 2, 3, 4, 5, 6, 0, 7, 8, 9, 10] rfl
    have hD : WD A [[(h.e0, .inr (1, [.ref h.e1, .ref h.e2, .ref h.e3, .ref h.e4, .ref h.e5, .int h.S.td, .int h.S.pk, .int h.S.pd]))], [(h.e1, .inr (11, [.int h.m0, .ref h.x0.1, .int (nI h.n)]))], (alA Γ h.x0), (cowsB h.n h.ca h.S.cv), [(h.e2, .inr (11, [.int h.m1, .ref h.x1.1, .int (nI h.nr)]))], (alA Γ h.x1), [(h.e3, .inr (11, [.int h.m2, .ref h.x2.1, .int (nI h.S.np)]))], (alA Γ h.x2), [(h.e4, .inr (2, [.int h.S.li, .int h.S.ce]))], [(h.e5, .inl (Γ.2.1 0, 6, .inl h.se))], [(b, .inr (0, [.ref h.e0, .ref tt, .ref sv, .int zs, .ref da, .ref tx, .ref wr, .int fl, .int rf]))]] := bD_sel hD [1, 2, 3, 4, 5, 6, 0, 7, 8, 9, 10] rfl rfl
    have hP : WP Γ [(hdB Γ h), [(b, .inr (0, [.ref h.e0, .ref tt, .ref sv, .int zs, .ref da, .ref tx, .ref wr, .int fl, .int rf]))]] H := (hdP_un (Bs := hdL Γ h) hP)
    have hD : WD A [(hdB Γ h), [(b, .inr (0, [.ref h.e0, .ref tt, .ref sv, .int zs, .ref da, .ref tx, .ref wr, .int fl, .int rf]))]] := (hdD_un (Bs := hdL Γ h) hD)
    refine b_callx (br := [(hdB Γ h), [(b, .inr (0, [.ref h.e0, .ref tt, .ref sv, .int zs, .ref da, .ref tx, .ref wr, .int fl, .int rf]))]]) (b_runSx ⟨hx, hb, hml, hown, hts⟩ (mt_DB_checkElement_x l Γ _ 0 hnt (by first | assumption | rfl)) (lw_S q1172 q1173 q62 q1174) rfl rfl 1 (by decide +kernel) ⟨(Nat.le_of_ble_eq_true rfl), (Nat.le_of_ble_eq_true rfl)⟩ (c_pre hP hD hS hA hK hE [] rfl rfl ro_nil) rfl hl.1 rfl (Nat.le_of_ble_eq_true rfl) dX1_greatest_28 ⟨(Nat.le_of_ble_eq_true rfl), (Nat.le_of_ble_eq_true rfl)⟩) hP hD hS hA [] [0, 1] rfl rfl rfl (fun q_5 ce_5 u_5 H locs hw_5 hP hD hS _ hce_5 hcv_5 hcl_5 => ?_)
    obtain rfl := hw_5
    have hP : WP Γ [(hdB Γ h), [(b, .inr (0, [.ref h.e0, .ref tt, .ref sv, .int zs, .ref da, .ref tx, .ref wr, .int fl, .int rf]))]] H := hP
    have hD : WD A [(hdB Γ h), [(b, .inr (0, [.ref h.e0, .ref tt, .ref sv, .int zs, .ref da, .ref tx, .ref wr, .int fl, .int rf]))]] := hD
    have hP : WP Γ [[(b, .inr (0, [.ref h.e0, .ref tt, .ref sv, .int zs, .ref da, .ref tx, .ref wr, .int fl, .int rf]))], (hdB Γ h)] H := bP_sel hP [1, 0] rfl
    have hD : WD A [[(b, .inr (0, [.ref h.e0, .ref tt, .ref sv, .int zs, .ref da, .ref tx, .ref wr, .int fl, .int rf]))], (hdB Γ h)] := bD_sel hD [1, 0] rfl rfl
    exact b_outx hlocks (fun x hx9 => (ht9 x hx9).elim) hP hD hS hce_5 hcv_5 hcl_5 (by first | with_reducible rfl | (simp [n_4]; done) | rfl) (Nat.le_of_ble_eq_true rfl) (Nat.le_of_ble_eq_true rfl)
  · -- 20 not taken
    have n_4 : 1 = 0 := (nI_eq (by omega) (by omega)).mp (show nI 1 = nI 0 from c_4)
    exact absurd n_4 (by omega)
set_option maxHeartbeats 4000000 in
set_option maxRecDepth 100000 in
theorem mt_DB_bestCow_x (l : Launch) (Γ : GE) (sz : Nat) (b : Nat) (h : HB) (tt : Nat) (sv : Nat) (zs : Int32) (da : Nat) (tx : Nat) (wr : Nat) (fl : Int32) (rf : Int32) (P : va_W) (hnt : l.stackTraces = false) (ho : hdOk Γ P h) (hn0 : h.n = 0) : KMX l yX1_bestCow cX1_bestCow 4 (some FieldType.int) Γ 7 110 1 6 [.ref b] [[(b, .inr (0, [.ref h.e0, .ref tt, .ref sv, .int zs, .ref da, .ref tx, .ref wr, .int fl, .int rf]))], (hdB Γ h)] [P] sz "java/util/NoSuchElementException" (fun q_ u_ => u_ = [[(b, .inr (0, [.ref h.e0, .ref tt, .ref sv, .int zs, .ref da, .ref tx, .ref wr, .int fl, .int rf]))], (hdB Γ h)]) := by
  refine K_introX (by decide) (Nat.le_of_ble_eq_true rfl) ?_
  intro pr_ ev_ s mi_ below meth cd_ A ls hx hb hr hml hown hts hlocks hname hK hE hRo hP hD hA hS hsz hl ht9
  have hl : lv_has ls 4 [(0, .ref b)] := hl
  have hown : s.vm.findClass RX1 = some mi_.cls := hown
  have hP : WP Γ [(hdB Γ h), [(b, .inr (0, [.ref h.e0, .ref tt, .ref sv, .int zs, .ref da, .ref tx, .ref wr, .int fl, .int rf]))]] s.heap := bP_sel hP [1, 0] rfl
  have hD : WD A [(hdB Γ h), [(b, .inr (0, [.ref h.e0, .ref tt, .ref sv, .int zs, .ref da, .ref tx, .ref wr, .int fl, .int rf]))]] := bD_sel hD [1, 0] rfl rfl
  have hP : WP Γ [[(h.e0, .inr (1, [.ref h.e1, .ref h.e2, .ref h.e3, .ref h.e4, .ref h.e5, .int h.S.td, .int h.S.pk, .int h.S.pd]))], [(h.e1, .inr (11, [.int h.m0, .ref h.x0.1, .int (nI h.n)]))], (alA Γ h.x0), (cowsB h.n h.ca h.S.cv), [(h.e2, .inr (11, [.int h.m1, .ref h.x1.1, .int (nI h.nr)]))], (alA Γ h.x1), [(h.e3, .inr (11, [.int h.m2, .ref h.x2.1, .int (nI h.S.np)]))], (alA Γ h.x2), [(h.e4, .inr (2, [.int h.S.li, .int h.S.ce]))], [(h.e5, .inl (Γ.2.1 0, 6, .inl h.se))], [(b, .inr (0, [.ref h.e0, .ref tt, .ref sv, .int zs, .ref da, .ref tx, .ref wr, .int fl, .int rf]))]] s.heap := hdP_ex (Bs := hdL Γ h) hP
  have hD : WD A [[(h.e0, .inr (1, [.ref h.e1, .ref h.e2, .ref h.e3, .ref h.e4, .ref h.e5, .int h.S.td, .int h.S.pk, .int h.S.pd]))], [(h.e1, .inr (11, [.int h.m0, .ref h.x0.1, .int (nI h.n)]))], (alA Γ h.x0), (cowsB h.n h.ca h.S.cv), [(h.e2, .inr (11, [.int h.m1, .ref h.x1.1, .int (nI h.nr)]))], (alA Γ h.x1), [(h.e3, .inr (11, [.int h.m2, .ref h.x2.1, .int (nI h.S.np)]))], (alA Γ h.x2), [(h.e4, .inr (2, [.int h.S.li, .int h.S.ce]))], [(h.e5, .inl (Γ.2.1 0, 6, .inl h.se))], [(b, .inr (0, [.ref h.e0, .ref tt, .ref sv, .int zs, .ref da, .ref tx, .ref wr, .int fl, .int rf]))]] := hdD_ex (Bs := hdL Γ h) hD
  have hal0 : alI Γ h.x0 h.n h.ca := ho.1
  have hn8 : h.n ≤ 8 := ho.2.1
  have hal1 : alI Γ h.x1 h.nr h.ra := ho.2.2.1
  have nr4 : h.nr ≤ 4 := ho.2.2.2.1
  have hrw : ∀ k, k < h.nr → (h.ra k, rowE (h.rv k)) ∈ P := ho.2.2.2.2.1
  have hal2 : alI Γ h.x2 h.S.np h.pa := ho.2.2.2.2.2.1
  have np60 : h.S.np ≤ 60 := ho.2.2.2.2.2.2.1
  have hpk : ∀ k, k < h.S.np → (h.pa k, pickE (h.S.pv k)) ∈ P := ho.2.2.2.2.2.2.2.1
  have hcb : ∀ k, k < h.n → cowB (h.S.cv k) := ho.2.2.2.2.2.2.2.2
  refine lv_aload_n hx hb dX1_bestCow_0 rfl (lv_at hl 0 rfl) ?_
  refine b_get (C := RX1) (T := TX1) (N := 9) (v := .ref h.e0) hx hb hts in_X1 hown hK (b_at (k := 10) hP rfl) rfl 0 (by decide) q248 (fun _ h9 => h9) rfl dX1_bestCow_1 ?_
  refine b_getN (C := RX2) (T := TX2) (N := 8) (v := .ref h.e1) hx hb hts hE in_X2 hown hK (b_at (k := 0) hP rfl) rfl 0 (by decide) q165 (fun _ h9 => h9) rfl dX1_bestCow_4 ?_
  refine b_calli (br := [[(h.e0, .inr (1, [.ref h.e1, .ref h.e2, .ref h.e3, .ref h.e4, .ref h.e5, .int h.S.td, .int h.S.pk, .int h.S.pd]))], (alA Γ h.x0), (cowsB h.n h.ca h.S.cv), [(h.e2, .inr (11, [.int h.m1, .ref h.x1.1, .int (nI h.nr)]))], (alA Γ h.x1), [(h.e3, .inr (11, [.int h.m2, .ref h.x2.1, .int (nI h.S.np)]))], (alA Γ h.x2), [(h.e4, .inr (2, [.int h.S.li, .int h.S.ce]))], [(h.e5, .inl (Γ.2.1 0, 6, .inl h.se))], [(b, .inr (0, [.ref h.e0, .ref tt, .ref sv, .int zs, .ref da, .ref tx, .ref wr, .int fl, .int rf]))]]) (b_runV ⟨hx, hb, hml, hown, hts⟩ (mt_AL_isEmpty l Γ _ h.e1 h.m0 h.x0.1 h.n (by omega)) (lw_V q1380 q1381 q1382 q66 q1383) rfl rfl 0 (by decide +kernel) ⟨(Nat.le_of_ble_eq_true rfl), (Nat.le_of_ble_eq_true rfl)⟩ (c_pre hP hD hS hA hK hE [1] rfl rfl ro_nil) (recv_at (q := (RJ2, TJ2, 3)) hK (b_at (k := 1) hP rfl) rfl) rfl hl.1 rfl (Nat.le_of_ble_eq_true rfl) dX1_bestCow_7 ⟨(Nat.le_of_ble_eq_true rfl), (Nat.le_of_ble_eq_true rfl)⟩) hP hD hS hA [1] [0, 2, 3, 4, 5, 6, 7, 8, 9, 10] rfl rfl rfl (fun r_1 u_1 H locs hw_1 hP hD hS _ => ?_)
  obtain ⟨rfl, rfl⟩ := hw_1
  have hP : WP Γ [[(h.e1, .inr (11, [.int h.m0, .ref h.x0.1, .int (nI h.n)]))], [(h.e0, .inr (1, [.ref h.e1, .ref h.e2, .ref h.e3, .ref h.e4, .ref h.e5, .int h.S.td, .int h.S.pk, .int h.S.pd]))], (alA Γ h.x0), (cowsB h.n h.ca h.S.cv), [(h.e2, .inr (11, [.int h.m1, .ref h.x1.1, .int (nI h.nr)]))], (alA Γ h.x1), [(h.e3, .inr (11, [.int h.m2, .ref h.x2.1, .int (nI h.S.np)]))], (alA Γ h.x2), [(h.e4, .inr (2, [.int h.S.li, .int h.S.ce]))], [(h.e5, .inl (Γ.2.1 0, 6, .inl h.se))], [(b, .inr (0, [.ref h.e0, .ref tt, .ref sv, .int zs, .ref da, .ref tx, .ref wr, .int fl, .int rf]))]] H := hP
  have hD : WD A [[(h.e1, .inr (11, [.int h.m0, .ref h.x0.1, .int (nI h.n)]))], [(h.e0, .inr (1, [.ref h.e1, .ref h.e2, .ref h.e3, .ref h.e4, .ref h.e5, .int h.S.td, .int h.S.pk, .int h.S.pd]))], (alA Γ h.x0), (cowsB h.n h.ca h.S.cv), [(h.e2, .inr (11, [.int h.m1, .ref h.x1.1, .int (nI h.nr)]))], (alA Γ h.x1), [(h.e3, .inr (11, [.int h.m2, .ref h.x2.1, .int (nI h.S.np)]))], (alA Γ h.x2), [(h.e4, .inr (2, [.int h.S.li, .int h.S.ce]))], [(h.e5, .inl (Γ.2.1 0, 6, .inl h.se))], [(b, .inr (0, [.ref h.e0, .ref tt, .ref sv, .int zs, .ref da, .ref tx, .ref wr, .int fl, .int rf]))]] := hD
  refine b_top (show (if h.n = 0 then 1 else 0) = 1 from if_pos hn0) ?_
  refine lv_if_ne (tgt := 17) hx hb dX1_bestCow_10 (by decide) (fun c_2 => ?_) (fun c_2 => ?_)
  · -- 10 taken
    have n_2 : ¬ (1 = 0) := fun hh7 => c_2 ((nI_eq (a := 1) (b := 0) (by omega) (by omega)).mpr hh7)
    refine lv_iconst (v := 0) hx hb dX1_bestCow_17 (by decide) ?_
    have hP : WP Γ [[(h.e0, .inr (1, [.ref h.e1, .ref h.e2, .ref h.e3, .ref h.e4, .ref h.e5, .int h.S.td, .int h.S.pk, .int h.S.pd]))], [(h.e1, .inr (11, [.int h.m0, .ref h.x0.1, .int (nI h.n)]))], (alA Γ h.x0), (cowsB h.n h.ca h.S.cv), [(h.e2, .inr (11, [.int h.m1, .ref h.x1.1, .int (nI h.nr)]))], (alA Γ h.x1), [(h.e3, .inr (11, [.int h.m2, .ref h.x2.1, .int (nI h.S.np)]))], (alA Γ h.x2), [(h.e4, .inr (2, [.int h.S.li, .int h.S.ce]))], [(h.e5, .inl (Γ.2.1 0, 6, .inl h.se))], [(b, .inr (0, [.ref h.e0, .ref tt, .ref sv, .int zs, .ref da, .ref tx, .ref wr, .int fl, .int rf]))]] H := bP_sel hP [1, 0, 2, 3, 4, 5, 6, 7, 8, 9, 10] rfl
    have hD : WD A [[(h.e0, .inr (1, [.ref h.e1, .ref h.e2, .ref h.e3, .ref h.e4, .ref h.e5, .int h.S.td, .int h.S.pk, .int h.S.pd]))], [(h.e1, .inr (11, [.int h.m0, .ref h.x0.1, .int (nI h.n)]))], (alA Γ h.x0), (cowsB h.n h.ca h.S.cv), [(h.e2, .inr (11, [.int h.m1, .ref h.x1.1, .int (nI h.nr)]))], (alA Γ h.x1), [(h.e3, .inr (11, [.int h.m2, .ref h.x2.1, .int (nI h.S.np)]))], (alA Γ h.x2), [(h.e4, .inr (2, [.int h.S.li, .int h.S.ce]))], [(h.e5, .inl (Γ.2.1 0, 6, .inl h.se))], [(b, .inr (0, [.ref h.e0, .ref tt, .ref sv, .int zs, .ref da, .ref tx, .ref wr, .int fl, .int rf]))]] := bD_sel hD [1, 0, 2, 3, 4, 5, 6, 7, 8, 9, 10] rfl rfl
    have hP : WP Γ [(hdB Γ h), [(b, .inr (0, [.ref h.e0, .ref tt, .ref sv, .int zs, .ref da, .ref tx, .ref wr, .int fl, .int rf]))]] H := (hdP_un (Bs := hdL Γ h) hP)
    have hD : WD A [(hdB Γ h), [(b, .inr (0, [.ref h.e0, .ref tt, .ref sv, .int zs, .ref da, .ref tx, .ref wr, .int fl, .int rf]))]] := (hdD_un (Bs := hdL Γ h) hD)
    refine b_callx (br := [(hdB Γ h), [(b, .inr (0, [.ref h.e0, .ref tt, .ref sv, .int zs, .ref da, .ref tx, .ref wr, .int fl, .int rf]))]]) (b_runSx ⟨hx, hb, hml, hown, hts⟩ (mt_DB_checkElement_x l Γ _ 0 hnt (by first | assumption | rfl)) (lw_S q1172 q1173 q62 q1174) rfl rfl 1 (by decide +kernel) ⟨(Nat.le_of_ble_eq_true rfl), (Nat.le_of_ble_eq_true rfl)⟩ (c_pre hP hD hS hA hK hE [] rfl rfl ro_nil) rfl hl.1 rfl (Nat.le_of_ble_eq_true rfl) dX1_bestCow_18 ⟨(Nat.le_of_ble_eq_true rfl), (Nat.le_of_ble_eq_true rfl)⟩) hP hD hS hA [] [0, 1] rfl rfl rfl (fun q_3 ce_3 u_3 H locs hw_3 hP hD hS _ hce_3 hcv_3 hcl_3 => ?_)
    obtain rfl := hw_3
    have hP : WP Γ [(hdB Γ h), [(b, .inr (0, [.ref h.e0, .ref tt, .ref sv, .int zs, .ref da, .ref tx, .ref wr, .int fl, .int rf]))]] H := hP
    have hD : WD A [(hdB Γ h), [(b, .inr (0, [.ref h.e0, .ref tt, .ref sv, .int zs, .ref da, .ref tx, .ref wr, .int fl, .int rf]))]] := hD
    have hP : WP Γ [[(b, .inr (0, [.ref h.e0, .ref tt, .ref sv, .int zs, .ref da, .ref tx, .ref wr, .int fl, .int rf]))], (hdB Γ h)] H := bP_sel hP [1, 0] rfl
    have hD : WD A [[(b, .inr (0, [.ref h.e0, .ref tt, .ref sv, .int zs, .ref da, .ref tx, .ref wr, .int fl, .int rf]))], (hdB Γ h)] := bD_sel hD [1, 0] rfl rfl
    exact b_outx hlocks (fun x hx9 => (ht9 x hx9).elim) hP hD hS hce_3 hcv_3 hcl_3 (by first | with_reducible rfl | (simp [n_2]; done) | rfl) (Nat.le_of_ble_eq_true rfl) (Nat.le_of_ble_eq_true rfl)
  · -- 10 not taken
    have n_2 : 1 = 0 := (nI_eq (by omega) (by omega)).mp (show nI 1 = nI 0 from c_2)
    exact absurd n_2 (by omega)
set_option maxHeartbeats 4000000 in
set_option maxRecDepth 100000 in
theorem mt_DB_hold_x (l : Launch) (Γ : GE) (sz : Nat) (b : Nat) (h : HB) (tt : Nat) (sv : Nat) (zs : Int32) (da : Nat) (tx : Nat) (wr : Nat) (fl : Int32) (rf : Int32) (P : va_W) (c : Int32) (v : Int32) (hnt : l.stackTraces = false) (ho : hdOk Γ P h) (hR : 0 < rfHold h.n h.S.cv c v) : KMX l yX1_hold cX1_hold 3 (some FieldType.int) Γ 7 111 1 6 [.ref b, .int c, .int v] [[(b, .inr (0, [.ref h.e0, .ref tt, .ref sv, .int zs, .ref da, .ref tx, .ref wr, .int fl, .int rf]))], (hdB Γ h)] [P] sz "java/lang/UnsupportedOperationException" (fun q_ u_ => u_ = [[(b, .inr (0, [.ref h.e0, .ref tt, .ref sv, .int zs, .ref da, .ref tx, .ref wr, .int fl, .int (rfHold h.n h.S.cv c v)]))], (hdB Γ h)]) := by
  refine K_introX (by decide) (Nat.le_of_ble_eq_true rfl) ?_
  intro pr_ ev_ s mi_ below meth cd_ A ls hx hb hr hml hown hts hlocks hname hK hE hRo hP hD hA hS hsz hl ht9
  have hl : lv_has ls 3 [(0, .ref b), (1, .int c), (2, .int v)] := hl
  have hown : s.vm.findClass RX1 = some mi_.cls := hown
  have hP : WP Γ [(hdB Γ h), [(b, .inr (0, [.ref h.e0, .ref tt, .ref sv, .int zs, .ref da, .ref tx, .ref wr, .int fl, .int rf]))]] s.heap := bP_sel hP [1, 0] rfl
  have hD : WD A [(hdB Γ h), [(b, .inr (0, [.ref h.e0, .ref tt, .ref sv, .int zs, .ref da, .ref tx, .ref wr, .int fl, .int rf]))]] := bD_sel hD [1, 0] rfl rfl
  have hP : WP Γ [[(h.e0, .inr (1, [.ref h.e1, .ref h.e2, .ref h.e3, .ref h.e4, .ref h.e5, .int h.S.td, .int h.S.pk, .int h.S.pd]))], [(h.e1, .inr (11, [.int h.m0, .ref h.x0.1, .int (nI h.n)]))], (alA Γ h.x0), (cowsB h.n h.ca h.S.cv), [(h.e2, .inr (11, [.int h.m1, .ref h.x1.1, .int (nI h.nr)]))], (alA Γ h.x1), [(h.e3, .inr (11, [.int h.m2, .ref h.x2.1, .int (nI h.S.np)]))], (alA Γ h.x2), [(h.e4, .inr (2, [.int h.S.li, .int h.S.ce]))], [(h.e5, .inl (Γ.2.1 0, 6, .inl h.se))], [(b, .inr (0, [.ref h.e0, .ref tt, .ref sv, .int zs, .ref da, .ref tx, .ref wr, .int fl, .int rf]))]] s.heap := hdP_ex (Bs := hdL Γ h) hP
  have hD : WD A [[(h.e0, .inr (1, [.ref h.e1, .ref h.e2, .ref h.e3, .ref h.e4, .ref h.e5, .int h.S.td, .int h.S.pk, .int h.S.pd]))], [(h.e1, .inr (11, [.int h.m0, .ref h.x0.1, .int (nI h.n)]))], (alA Γ h.x0), (cowsB h.n h.ca h.S.cv), [(h.e2, .inr (11, [.int h.m1, .ref h.x1.1, .int (nI h.nr)]))], (alA Γ h.x1), [(h.e3, .inr (11, [.int h.m2, .ref h.x2.1, .int (nI h.S.np)]))], (alA Γ h.x2), [(h.e4, .inr (2, [.int h.S.li, .int h.S.ce]))], [(h.e5, .inl (Γ.2.1 0, 6, .inl h.se))], [(b, .inr (0, [.ref h.e0, .ref tt, .ref sv, .int zs, .ref da, .ref tx, .ref wr, .int fl, .int rf]))]] := hdD_ex (Bs := hdL Γ h) hD
  have hal0 : alI Γ h.x0 h.n h.ca := ho.1
  have hn8 : h.n ≤ 8 := ho.2.1
  have hal1 : alI Γ h.x1 h.nr h.ra := ho.2.2.1
  have nr4 : h.nr ≤ 4 := ho.2.2.2.1
  have hrw : ∀ k, k < h.nr → (h.ra k, rowE (h.rv k)) ∈ P := ho.2.2.2.2.1
  have hal2 : alI Γ h.x2 h.S.np h.pa := ho.2.2.2.2.2.1
  have np60 : h.S.np ≤ 60 := ho.2.2.2.2.2.2.1
  have hpk : ∀ k, k < h.S.np → (h.pa k, pickE (h.S.pv k)) ∈ P := ho.2.2.2.2.2.2.2.1
  have hcb : ∀ k, k < h.n → cowB (h.S.cv k) := ho.2.2.2.2.2.2.2.2
  refine lv_aload_n hx hb dX1_hold_0 rfl (lv_at hl 0 rfl) ?_
  refine lv_aload_n hx hb dX1_hold_1 rfl (lv_at hl 0 rfl) ?_
  refine b_get (C := RX1) (T := TX1) (N := 9) (v := .ref h.e0) hx hb hts in_X1 hown hK (b_at (k := 10) hP rfl) rfl 0 (by decide) q248 (fun _ h9 => h9) rfl dX1_hold_2 ?_
  refine lv_iload_n hx hb dX1_hold_5 rfl (lv_at hl 1 rfl) ?_
  refine lv_iload_n hx hb dX1_hold_6 rfl (lv_at hl 2 rfl) ?_
  refine b_calli (br := [[(h.e2, .inr (11, [.int h.m1, .ref h.x1.1, .int (nI h.nr)]))], (alA Γ h.x1), [(h.e3, .inr (11, [.int h.m2, .ref h.x2.1, .int (nI h.S.np)]))], (alA Γ h.x2), [(h.e4, .inr (2, [.int h.S.li, .int h.S.ce]))], [(h.e5, .inl (Γ.2.1 0, 6, .inl h.se))], [(b, .inr (0, [.ref h.e0, .ref tt, .ref sv, .int zs, .ref da, .ref tx, .ref wr, .int fl, .int rf]))]]) (b_runV ⟨hx, hb, hml, hown, hts⟩ (mt_Hd_refusesHold l Γ _ h.e0 h.e1 h.e2 h.e3 h.e4 h.e5 h.S.td h.S.pk h.S.pd h.x0 h.m0 h.n h.ca h.S.cv c v (by assumption) (by first | assumption | omega)) (lw_V q953 q954 q955 q63 q956) rfl rfl 2 (by decide +kernel) ⟨(Nat.le_of_ble_eq_true rfl), (Nat.le_of_ble_eq_true rfl)⟩ (c_pre hP hD hS hA hK hE [0, 1, 2, 3] rfl rfl ro_nil) (recv_at (q := (RX2, TX2, 8)) hK (b_at (k := 0) hP rfl) rfl) rfl hl.1 rfl (Nat.le_of_ble_eq_true rfl) dX1_hold_7 ⟨(Nat.le_of_ble_eq_true rfl), (Nat.le_of_ble_eq_true rfl)⟩) hP hD hS hA [0, 1, 2, 3] [4, 5, 6, 7, 8, 9, 10] rfl rfl rfl (fun r_1 u_1 H locs hw_1 hP hD hS _ => ?_)
  obtain ⟨rfl, rfl⟩ := hw_1
  have hP : WP Γ [[(h.e0, .inr (1, [.ref h.e1, .ref h.e2, .ref h.e3, .ref h.e4, .ref h.e5, .int h.S.td, .int h.S.pk, .int h.S.pd]))], [(h.e1, .inr (11, [.int h.m0, .ref h.x0.1, .int (nI h.n)]))], (alA Γ h.x0), (cowsB h.n h.ca h.S.cv), [(h.e2, .inr (11, [.int h.m1, .ref h.x1.1, .int (nI h.nr)]))], (alA Γ h.x1), [(h.e3, .inr (11, [.int h.m2, .ref h.x2.1, .int (nI h.S.np)]))], (alA Γ h.x2), [(h.e4, .inr (2, [.int h.S.li, .int h.S.ce]))], [(h.e5, .inl (Γ.2.1 0, 6, .inl h.se))], [(b, .inr (0, [.ref h.e0, .ref tt, .ref sv, .int zs, .ref da, .ref tx, .ref wr, .int fl, .int rf]))]] H := hP
  have hD : WD A [[(h.e0, .inr (1, [.ref h.e1, .ref h.e2, .ref h.e3, .ref h.e4, .ref h.e5, .int h.S.td, .int h.S.pk, .int h.S.pd]))], [(h.e1, .inr (11, [.int h.m0, .ref h.x0.1, .int (nI h.n)]))], (alA Γ h.x0), (cowsB h.n h.ca h.S.cv), [(h.e2, .inr (11, [.int h.m1, .ref h.x1.1, .int (nI h.nr)]))], (alA Γ h.x1), [(h.e3, .inr (11, [.int h.m2, .ref h.x2.1, .int (nI h.S.np)]))], (alA Γ h.x2), [(h.e4, .inr (2, [.int h.S.li, .int h.S.ce]))], [(h.e5, .inl (Γ.2.1 0, 6, .inl h.se))], [(b, .inr (0, [.ref h.e0, .ref tt, .ref sv, .int zs, .ref da, .ref tx, .ref wr, .int fl, .int rf]))]] := hD
  have hP : WP Γ [(hdB Γ h), [(b, .inr (0, [.ref h.e0, .ref tt, .ref sv, .int zs, .ref da, .ref tx, .ref wr, .int fl, .int rf]))]] H := (hdP_un (Bs := hdL Γ h) hP)
  have hD : WD A [(hdB Γ h), [(b, .inr (0, [.ref h.e0, .ref tt, .ref sv, .int zs, .ref da, .ref tx, .ref wr, .int fl, .int rf]))]] := (hdD_un (Bs := hdL Γ h) hD)
  refine b_callx (br := [(hdB Γ h)]) (b_runVx ⟨hx, hb, hml, hown, hts⟩ (mt_DB_checkSupported_x l Γ _ b h tt sv zs da tx wr fl rf (rfHold h.n h.S.cv c v) hnt hR) (lw_V q977 q979 qs9 q62 q980) rfl rfl 1 (by decide +kernel) ⟨(Nat.le_of_ble_eq_true rfl), (Nat.le_of_ble_eq_true rfl)⟩ (c_pre hP hD hS hA hK hE [1] rfl rfl ro_nil) (recv_at (q := (RX1, TX1, 9)) hK (b_at (k := 1) hP rfl) rfl) rfl hl.1 rfl (Nat.le_of_ble_eq_true rfl) dX1_hold_10 ⟨(Nat.le_of_ble_eq_true rfl), (Nat.le_of_ble_eq_true rfl)⟩) hP hD hS hA [1] [0] rfl rfl rfl (fun q_2 ce_2 u_2 H locs hw_2 hP hD hS _ hce_2 hcv_2 hcl_2 => ?_)
  obtain rfl := hw_2
  have hP : WP Γ [[(b, .inr (0, [.ref h.e0, .ref tt, .ref sv, .int zs, .ref da, .ref tx, .ref wr, .int fl, .int (rfHold h.n h.S.cv c v)]))], (hdB Γ h)] H := hP
  have hD : WD A [[(b, .inr (0, [.ref h.e0, .ref tt, .ref sv, .int zs, .ref da, .ref tx, .ref wr, .int fl, .int (rfHold h.n h.S.cv c v)]))], (hdB Γ h)] := hD
  exact b_outx hlocks (fun x hx9 => (ht9 x hx9).elim) hP hD hS hce_2 hcv_2 hcl_2 (by first | rfl | (simp; done)) (Nat.le_of_ble_eq_true rfl) (Nat.le_of_ble_eq_true rfl)
set_option maxHeartbeats 4000000 in
set_option maxRecDepth 100000 in
theorem mt_DB_setCells_x1 (l : Launch) (Γ : GE) (sz : Nat) (b : Nat) (h : HB) (tt : Nat) (sv : Nat) (zs : Int32) (da : Nat) (tx : Nat) (wr : Nat) (fl : Int32) (rf : Int32) (P : va_W) (c : Int32) (v : Int32) (hnt : l.stackTraces = false) (ho : hdOk Γ P h) (hR : 0 < rfCow h.n h.S.cv c) : KMX l yX1_setCells cX1_setCells 5 (some FieldType.int) Γ 7 111 1 6 [.ref b, .int c, .int v] [[(b, .inr (0, [.ref h.e0, .ref tt, .ref sv, .int zs, .ref da, .ref tx, .ref wr, .int fl, .int rf]))], (hdB Γ h)] [P] sz "java/lang/UnsupportedOperationException" (fun q_ u_ => u_ = [[(b, .inr (0, [.ref h.e0, .ref tt, .ref sv, .int zs, .ref da, .ref tx, .ref wr, .int fl, .int (rfCow h.n h.S.cv c)]))], (hdB Γ h)]) := by
  refine K_introX (by decide) (Nat.le_of_ble_eq_true rfl) ?_
  intro pr_ ev_ s mi_ below meth cd_ A ls hx hb hr hml hown hts hlocks hname hK hE hRo hP hD hA hS hsz hl ht9
  have hl : lv_has ls 5 [(0, .ref b), (1, .int c), (2, .int v)] := hl
  have hown : s.vm.findClass RX1 = some mi_.cls := hown
  have hP : WP Γ [(hdB Γ h), [(b, .inr (0, [.ref h.e0, .ref tt, .ref sv, .int zs, .ref da, .ref tx, .ref wr, .int fl, .int rf]))]] s.heap := bP_sel hP [1, 0] rfl
  have hD : WD A [(hdB Γ h), [(b, .inr (0, [.ref h.e0, .ref tt, .ref sv, .int zs, .ref da, .ref tx, .ref wr, .int fl, .int rf]))]] := bD_sel hD [1, 0] rfl rfl
  have hP : WP Γ [[(h.e0, .inr (1, [.ref h.e1, .ref h.e2, .ref h.e3, .ref h.e4, .ref h.e5, .int h.S.td, .int h.S.pk, .int h.S.pd]))], [(h.e1, .inr (11, [.int h.m0, .ref h.x0.1, .int (nI h.n)]))], (alA Γ h.x0), (cowsB h.n h.ca h.S.cv), [(h.e2, .inr (11, [.int h.m1, .ref h.x1.1, .int (nI h.nr)]))], (alA Γ h.x1), [(h.e3, .inr (11, [.int h.m2, .ref h.x2.1, .int (nI h.S.np)]))], (alA Γ h.x2), [(h.e4, .inr (2, [.int h.S.li, .int h.S.ce]))], [(h.e5, .inl (Γ.2.1 0, 6, .inl h.se))], [(b, .inr (0, [.ref h.e0, .ref tt, .ref sv, .int zs, .ref da, .ref tx, .ref wr, .int fl, .int rf]))]] s.heap := hdP_ex (Bs := hdL Γ h) hP
  have hD : WD A [[(h.e0, .inr (1, [.ref h.e1, .ref h.e2, .ref h.e3, .ref h.e4, .ref h.e5, .int h.S.td, .int h.S.pk, .int h.S.pd]))], [(h.e1, .inr (11, [.int h.m0, .ref h.x0.1, .int (nI h.n)]))], (alA Γ h.x0), (cowsB h.n h.ca h.S.cv), [(h.e2, .inr (11, [.int h.m1, .ref h.x1.1, .int (nI h.nr)]))], (alA Γ h.x1), [(h.e3, .inr (11, [.int h.m2, .ref h.x2.1, .int (nI h.S.np)]))], (alA Γ h.x2), [(h.e4, .inr (2, [.int h.S.li, .int h.S.ce]))], [(h.e5, .inl (Γ.2.1 0, 6, .inl h.se))], [(b, .inr (0, [.ref h.e0, .ref tt, .ref sv, .int zs, .ref da, .ref tx, .ref wr, .int fl, .int rf]))]] := hdD_ex (Bs := hdL Γ h) hD
  have hal0 : alI Γ h.x0 h.n h.ca := ho.1
  have hn8 : h.n ≤ 8 := ho.2.1
  have hal1 : alI Γ h.x1 h.nr h.ra := ho.2.2.1
  have nr4 : h.nr ≤ 4 := ho.2.2.2.1
  have hrw : ∀ k, k < h.nr → (h.ra k, rowE (h.rv k)) ∈ P := ho.2.2.2.2.1
  have hal2 : alI Γ h.x2 h.S.np h.pa := ho.2.2.2.2.2.1
  have np60 : h.S.np ≤ 60 := ho.2.2.2.2.2.2.1
  have hpk : ∀ k, k < h.S.np → (h.pa k, pickE (h.S.pv k)) ∈ P := ho.2.2.2.2.2.2.2.1
  have hcb : ∀ k, k < h.n → cowB (h.S.cv k) := ho.2.2.2.2.2.2.2.2
  refine lv_aload_n hx hb dX1_setCells_0 rfl (lv_at hl 0 rfl) ?_
  refine lv_aload_n hx hb dX1_setCells_1 rfl (lv_at hl 0 rfl) ?_
  refine b_get (C := RX1) (T := TX1) (N := 9) (v := .ref h.e0) hx hb hts in_X1 hown hK (b_at (k := 10) hP rfl) rfl 0 (by decide) q248 (fun _ h9 => h9) rfl dX1_setCells_2 ?_
  refine lv_iload_n hx hb dX1_setCells_5 rfl (lv_at hl 1 rfl) ?_
  refine b_calli (br := [[(h.e2, .inr (11, [.int h.m1, .ref h.x1.1, .int (nI h.nr)]))], (alA Γ h.x1), [(h.e3, .inr (11, [.int h.m2, .ref h.x2.1, .int (nI h.S.np)]))], (alA Γ h.x2), [(h.e4, .inr (2, [.int h.S.li, .int h.S.ce]))], [(h.e5, .inl (Γ.2.1 0, 6, .inl h.se))], [(b, .inr (0, [.ref h.e0, .ref tt, .ref sv, .int zs, .ref da, .ref tx, .ref wr, .int fl, .int rf]))]]) (b_runV ⟨hx, hb, hml, hown, hts⟩ (mt_Hd_refusesCow l Γ _ h.e0 h.e1 h.e2 h.e3 h.e4 h.e5 h.S.td h.S.pk h.S.pd h.x0 h.m0 h.n h.ca h.S.cv c (by assumption) (by first | assumption | omega)) (lw_V q1008 q1009 q1010 q63 q1011) rfl rfl 1 (by decide +kernel) ⟨(Nat.le_of_ble_eq_true rfl), (Nat.le_of_ble_eq_true rfl)⟩ (c_pre hP hD hS hA hK hE [0, 1, 2, 3] rfl rfl ro_nil) (recv_at (q := (RX2, TX2, 8)) hK (b_at (k := 0) hP rfl) rfl) rfl hl.1 rfl (Nat.le_of_ble_eq_true rfl) dX1_setCells_6 ⟨(Nat.le_of_ble_eq_true rfl), (Nat.le_of_ble_eq_true rfl)⟩) hP hD hS hA [0, 1, 2, 3] [4, 5, 6, 7, 8, 9, 10] rfl rfl rfl (fun r_1 u_1 H locs hw_1 hP hD hS _ => ?_)
  obtain ⟨rfl, rfl⟩ := hw_1
  have hP : WP Γ [[(h.e0, .inr (1, [.ref h.e1, .ref h.e2, .ref h.e3, .ref h.e4, .ref h.e5, .int h.S.td, .int h.S.pk, .int h.S.pd]))], [(h.e1, .inr (11, [.int h.m0, .ref h.x0.1, .int (nI h.n)]))], (alA Γ h.x0), (cowsB h.n h.ca h.S.cv), [(h.e2, .inr (11, [.int h.m1, .ref h.x1.1, .int (nI h.nr)]))], (alA Γ h.x1), [(h.e3, .inr (11, [.int h.m2, .ref h.x2.1, .int (nI h.S.np)]))], (alA Γ h.x2), [(h.e4, .inr (2, [.int h.S.li, .int h.S.ce]))], [(h.e5, .inl (Γ.2.1 0, 6, .inl h.se))], [(b, .inr (0, [.ref h.e0, .ref tt, .ref sv, .int zs, .ref da, .ref tx, .ref wr, .int fl, .int rf]))]] H := hP
  have hD : WD A [[(h.e0, .inr (1, [.ref h.e1, .ref h.e2, .ref h.e3, .ref h.e4, .ref h.e5, .int h.S.td, .int h.S.pk, .int h.S.pd]))], [(h.e1, .inr (11, [.int h.m0, .ref h.x0.1, .int (nI h.n)]))], (alA Γ h.x0), (cowsB h.n h.ca h.S.cv), [(h.e2, .inr (11, [.int h.m1, .ref h.x1.1, .int (nI h.nr)]))], (alA Γ h.x1), [(h.e3, .inr (11, [.int h.m2, .ref h.x2.1, .int (nI h.S.np)]))], (alA Γ h.x2), [(h.e4, .inr (2, [.int h.S.li, .int h.S.ce]))], [(h.e5, .inl (Γ.2.1 0, 6, .inl h.se))], [(b, .inr (0, [.ref h.e0, .ref tt, .ref sv, .int zs, .ref da, .ref tx, .ref wr, .int fl, .int rf]))]] := hD
  have hP : WP Γ [(hdB Γ h), [(b, .inr (0, [.ref h.e0, .ref tt, .ref sv, .int zs, .ref da, .ref tx, .ref wr, .int fl, .int rf]))]] H := (hdP_un (Bs := hdL Γ h) hP)
  have hD : WD A [(hdB Γ h), [(b, .inr (0, [.ref h.e0, .ref tt, .ref sv, .int zs, .ref da, .ref tx, .ref wr, .int fl, .int rf]))]] := (hdD_un (Bs := hdL Γ h) hD)
  refine b_callx (br := [(hdB Γ h)]) (b_runVx ⟨hx, hb, hml, hown, hts⟩ (mt_DB_checkSupported_x l Γ _ b h tt sv zs da tx wr fl rf (rfCow h.n h.S.cv c) hnt hR) (lw_V q977 q979 qs9 q62 q980) rfl rfl 1 (by decide +kernel) ⟨(Nat.le_of_ble_eq_true rfl), (Nat.le_of_ble_eq_true rfl)⟩ (c_pre hP hD hS hA hK hE [1] rfl rfl ro_nil) (recv_at (q := (RX1, TX1, 9)) hK (b_at (k := 1) hP rfl) rfl) rfl hl.1 rfl (Nat.le_of_ble_eq_true rfl) dX1_setCells_9 ⟨(Nat.le_of_ble_eq_true rfl), (Nat.le_of_ble_eq_true rfl)⟩) hP hD hS hA [1] [0] rfl rfl rfl (fun q_2 ce_2 u_2 H locs hw_2 hP hD hS _ hce_2 hcv_2 hcl_2 => ?_)
  obtain rfl := hw_2
  have hP : WP Γ [[(b, .inr (0, [.ref h.e0, .ref tt, .ref sv, .int zs, .ref da, .ref tx, .ref wr, .int fl, .int (rfCow h.n h.S.cv c)]))], (hdB Γ h)] H := hP
  have hD : WD A [[(b, .inr (0, [.ref h.e0, .ref tt, .ref sv, .int zs, .ref da, .ref tx, .ref wr, .int fl, .int (rfCow h.n h.S.cv c)]))], (hdB Γ h)] := hD
  exact b_outx hlocks (fun x hx9 => (ht9 x hx9).elim) hP hD hS hce_2 hcv_2 hcl_2 (by first | rfl | (simp; done)) (Nat.le_of_ble_eq_true rfl) (Nat.le_of_ble_eq_true rfl)
set_option maxHeartbeats 4000000 in
set_option maxRecDepth 100000 in
theorem mt_DB_serve_x (l : Launch) (Γ : GE) (sz : Nat) (b : Nat) (h : HB) (tt : Nat) (sv : Nat) (zs : Int32) (da : Nat) (tx : Nat) (wr : Nat) (fl : Int32) (rf : Int32) (P : va_W) (c : Int32) (hnt : l.stackTraces = false) (ho : hdOk Γ P h) (hR : 0 < rfServe h.n h.S.cv h.S.td c) : KMX l yX1_serve cX1_serve 2 (some FieldType.int) Γ 7 111 1 6 [.ref b, .int c] [[(b, .inr (0, [.ref h.e0, .ref tt, .ref sv, .int zs, .ref da, .ref tx, .ref wr, .int fl, .int rf]))], (hdB Γ h)] [P] sz "java/lang/UnsupportedOperationException" (fun q_ u_ => u_ = [[(b, .inr (0, [.ref h.e0, .ref tt, .ref sv, .int zs, .ref da, .ref tx, .ref wr, .int fl, .int (rfServe h.n h.S.cv h.S.td c)]))], (hdB Γ h)]) := by
  refine K_introX (by decide) (Nat.le_of_ble_eq_true rfl) ?_
  intro pr_ ev_ s mi_ below meth cd_ A ls hx hb hr hml hown hts hlocks hname hK hE hRo hP hD hA hS hsz hl ht9
  have hl : lv_has ls 2 [(0, .ref b), (1, .int c)] := hl
  have hown : s.vm.findClass RX1 = some mi_.cls := hown
  have hP : WP Γ [(hdB Γ h), [(b, .inr (0, [.ref h.e0, .ref tt, .ref sv, .int zs, .ref da, .ref tx, .ref wr, .int fl, .int rf]))]] s.heap := bP_sel hP [1, 0] rfl
  have hD : WD A [(hdB Γ h), [(b, .inr (0, [.ref h.e0, .ref tt, .ref sv, .int zs, .ref da, .ref tx, .ref wr, .int fl, .int rf]))]] := bD_sel hD [1, 0] rfl rfl
  have hP : WP Γ [[(h.e0, .inr (1, [.ref h.e1, .ref h.e2, .ref h.e3, .ref h.e4, .ref h.e5, .int h.S.td, .int h.S.pk, .int h.S.pd]))], [(h.e1, .inr (11, [.int h.m0, .ref h.x0.1, .int (nI h.n)]))], (alA Γ h.x0), (cowsB h.n h.ca h.S.cv), [(h.e2, .inr (11, [.int h.m1, .ref h.x1.1, .int (nI h.nr)]))], (alA Γ h.x1), [(h.e3, .inr (11, [.int h.m2, .ref h.x2.1, .int (nI h.S.np)]))], (alA Γ h.x2), [(h.e4, .inr (2, [.int h.S.li, .int h.S.ce]))], [(h.e5, .inl (Γ.2.1 0, 6, .inl h.se))], [(b, .inr (0, [.ref h.e0, .ref tt, .ref sv, .int zs, .ref da, .ref tx, .ref wr, .int fl, .int rf]))]] s.heap := hdP_ex (Bs := hdL Γ h) hP
  have hD : WD A [[(h.e0, .inr (1, [.ref h.e1, .ref h.e2, .ref h.e3, .ref h.e4, .ref h.e5, .int h.S.td, .int h.S.pk, .int h.S.pd]))], [(h.e1, .inr (11, [.int h.m0, .ref h.x0.1, .int (nI h.n)]))], (alA Γ h.x0), (cowsB h.n h.ca h.S.cv), [(h.e2, .inr (11, [.int h.m1, .ref h.x1.1, .int (nI h.nr)]))], (alA Γ h.x1), [(h.e3, .inr (11, [.int h.m2, .ref h.x2.1, .int (nI h.S.np)]))], (alA Γ h.x2), [(h.e4, .inr (2, [.int h.S.li, .int h.S.ce]))], [(h.e5, .inl (Γ.2.1 0, 6, .inl h.se))], [(b, .inr (0, [.ref h.e0, .ref tt, .ref sv, .int zs, .ref da, .ref tx, .ref wr, .int fl, .int rf]))]] := hdD_ex (Bs := hdL Γ h) hD
  have hal0 : alI Γ h.x0 h.n h.ca := ho.1
  have hn8 : h.n ≤ 8 := ho.2.1
  have hal1 : alI Γ h.x1 h.nr h.ra := ho.2.2.1
  have nr4 : h.nr ≤ 4 := ho.2.2.2.1
  have hrw : ∀ k, k < h.nr → (h.ra k, rowE (h.rv k)) ∈ P := ho.2.2.2.2.1
  have hal2 : alI Γ h.x2 h.S.np h.pa := ho.2.2.2.2.2.1
  have np60 : h.S.np ≤ 60 := ho.2.2.2.2.2.2.1
  have hpk : ∀ k, k < h.S.np → (h.pa k, pickE (h.S.pv k)) ∈ P := ho.2.2.2.2.2.2.2.1
  have hcb : ∀ k, k < h.n → cowB (h.S.cv k) := ho.2.2.2.2.2.2.2.2
  refine lv_aload_n hx hb dX1_serve_0 rfl (lv_at hl 0 rfl) ?_
  refine lv_aload_n hx hb dX1_serve_1 rfl (lv_at hl 0 rfl) ?_
  refine b_get (C := RX1) (T := TX1) (N := 9) (v := .ref h.e0) hx hb hts in_X1 hown hK (b_at (k := 10) hP rfl) rfl 0 (by decide) q248 (fun _ h9 => h9) rfl dX1_serve_2 ?_
  refine lv_iload_n hx hb dX1_serve_5 rfl (lv_at hl 1 rfl) ?_
  refine b_calli (br := [[(h.e2, .inr (11, [.int h.m1, .ref h.x1.1, .int (nI h.nr)]))], (alA Γ h.x1), [(h.e3, .inr (11, [.int h.m2, .ref h.x2.1, .int (nI h.S.np)]))], (alA Γ h.x2), [(h.e4, .inr (2, [.int h.S.li, .int h.S.ce]))], [(h.e5, .inl (Γ.2.1 0, 6, .inl h.se))], [(b, .inr (0, [.ref h.e0, .ref tt, .ref sv, .int zs, .ref da, .ref tx, .ref wr, .int fl, .int rf]))]]) (b_runV ⟨hx, hb, hml, hown, hts⟩ (mt_Hd_refusesServe l Γ _ h.e0 h.e1 h.e2 h.e3 h.e4 h.e5 h.S.td h.S.pk h.S.pd h.x0 h.m0 h.n h.ca h.S.cv c (by assumption) (by first | assumption | omega)) (lw_V q1020 q1021 q1022 q63 q1023) rfl rfl 1 (by decide +kernel) ⟨(Nat.le_of_ble_eq_true rfl), (Nat.le_of_ble_eq_true rfl)⟩ (c_pre hP hD hS hA hK hE [0, 1, 2, 3] rfl rfl ro_nil) (recv_at (q := (RX2, TX2, 8)) hK (b_at (k := 0) hP rfl) rfl) rfl hl.1 rfl (Nat.le_of_ble_eq_true rfl) dX1_serve_6 ⟨(Nat.le_of_ble_eq_true rfl), (Nat.le_of_ble_eq_true rfl)⟩) hP hD hS hA [0, 1, 2, 3] [4, 5, 6, 7, 8, 9, 10] rfl rfl rfl (fun r_1 u_1 H locs hw_1 hP hD hS _ => ?_)
  obtain ⟨rfl, rfl⟩ := hw_1
  have hP : WP Γ [[(h.e0, .inr (1, [.ref h.e1, .ref h.e2, .ref h.e3, .ref h.e4, .ref h.e5, .int h.S.td, .int h.S.pk, .int h.S.pd]))], [(h.e1, .inr (11, [.int h.m0, .ref h.x0.1, .int (nI h.n)]))], (alA Γ h.x0), (cowsB h.n h.ca h.S.cv), [(h.e2, .inr (11, [.int h.m1, .ref h.x1.1, .int (nI h.nr)]))], (alA Γ h.x1), [(h.e3, .inr (11, [.int h.m2, .ref h.x2.1, .int (nI h.S.np)]))], (alA Γ h.x2), [(h.e4, .inr (2, [.int h.S.li, .int h.S.ce]))], [(h.e5, .inl (Γ.2.1 0, 6, .inl h.se))], [(b, .inr (0, [.ref h.e0, .ref tt, .ref sv, .int zs, .ref da, .ref tx, .ref wr, .int fl, .int rf]))]] H := hP
  have hD : WD A [[(h.e0, .inr (1, [.ref h.e1, .ref h.e2, .ref h.e3, .ref h.e4, .ref h.e5, .int h.S.td, .int h.S.pk, .int h.S.pd]))], [(h.e1, .inr (11, [.int h.m0, .ref h.x0.1, .int (nI h.n)]))], (alA Γ h.x0), (cowsB h.n h.ca h.S.cv), [(h.e2, .inr (11, [.int h.m1, .ref h.x1.1, .int (nI h.nr)]))], (alA Γ h.x1), [(h.e3, .inr (11, [.int h.m2, .ref h.x2.1, .int (nI h.S.np)]))], (alA Γ h.x2), [(h.e4, .inr (2, [.int h.S.li, .int h.S.ce]))], [(h.e5, .inl (Γ.2.1 0, 6, .inl h.se))], [(b, .inr (0, [.ref h.e0, .ref tt, .ref sv, .int zs, .ref da, .ref tx, .ref wr, .int fl, .int rf]))]] := hD
  have hP : WP Γ [(hdB Γ h), [(b, .inr (0, [.ref h.e0, .ref tt, .ref sv, .int zs, .ref da, .ref tx, .ref wr, .int fl, .int rf]))]] H := (hdP_un (Bs := hdL Γ h) hP)
  have hD : WD A [(hdB Γ h), [(b, .inr (0, [.ref h.e0, .ref tt, .ref sv, .int zs, .ref da, .ref tx, .ref wr, .int fl, .int rf]))]] := (hdD_un (Bs := hdL Γ h) hD)
  refine b_callx (br := [(hdB Γ h)]) (b_runVx ⟨hx, hb, hml, hown, hts⟩ (mt_DB_checkSupported_x l Γ _ b h tt sv zs da tx wr fl rf (rfServe h.n h.S.cv h.S.td c) hnt hR) (lw_V q977 q979 qs9 q62 q980) rfl rfl 1 (by decide +kernel) ⟨(Nat.le_of_ble_eq_true rfl), (Nat.le_of_ble_eq_true rfl)⟩ (c_pre hP hD hS hA hK hE [1] rfl rfl ro_nil) (recv_at (q := (RX1, TX1, 9)) hK (b_at (k := 1) hP rfl) rfl) rfl hl.1 rfl (Nat.le_of_ble_eq_true rfl) dX1_serve_9 ⟨(Nat.le_of_ble_eq_true rfl), (Nat.le_of_ble_eq_true rfl)⟩) hP hD hS hA [1] [0] rfl rfl rfl (fun q_2 ce_2 u_2 H locs hw_2 hP hD hS _ hce_2 hcv_2 hcl_2 => ?_)
  obtain rfl := hw_2
  have hP : WP Γ [[(b, .inr (0, [.ref h.e0, .ref tt, .ref sv, .int zs, .ref da, .ref tx, .ref wr, .int fl, .int (rfServe h.n h.S.cv h.S.td c)]))], (hdB Γ h)] H := hP
  have hD : WD A [[(b, .inr (0, [.ref h.e0, .ref tt, .ref sv, .int zs, .ref da, .ref tx, .ref wr, .int fl, .int (rfServe h.n h.S.cv h.S.td c)]))], (hdB Γ h)] := hD
  exact b_outx hlocks (fun x hx9 => (ht9 x hx9).elim) hP hD hS hce_2 hcv_2 hcl_2 (by first | rfl | (simp; done)) (Nat.le_of_ble_eq_true rfl) (Nat.le_of_ble_eq_true rfl)
set_option maxHeartbeats 4000000 in
set_option maxRecDepth 100000 in
theorem mt_DB_dry_x (l : Launch) (Γ : GE) (sz : Nat) (b : Nat) (h : HB) (tt : Nat) (sv : Nat) (zs : Int32) (da : Nat) (tx : Nat) (wr : Nat) (fl : Int32) (rf : Int32) (P : va_W) (c : Int32) (hnt : l.stackTraces = false) (ho : hdOk Γ P h) (hR : 0 < rfDry h.n h.S.cv c) : KMX l yX1_dry cX1_dry 2 (some FieldType.int) Γ 7 111 1 6 [.ref b, .int c] [[(b, .inr (0, [.ref h.e0, .ref tt, .ref sv, .int zs, .ref da, .ref tx, .ref wr, .int fl, .int rf]))], (hdB Γ h)] [P] sz "java/lang/UnsupportedOperationException" (fun q_ u_ => u_ = [[(b, .inr (0, [.ref h.e0, .ref tt, .ref sv, .int zs, .ref da, .ref tx, .ref wr, .int fl, .int (rfDry h.n h.S.cv c)]))], (hdB Γ h)]) := by
  refine K_introX (by decide) (Nat.le_of_ble_eq_true rfl) ?_
  intro pr_ ev_ s mi_ below meth cd_ A ls hx hb hr hml hown hts hlocks hname hK hE hRo hP hD hA hS hsz hl ht9
  have hl : lv_has ls 2 [(0, .ref b), (1, .int c)] := hl
  have hown : s.vm.findClass RX1 = some mi_.cls := hown
  have hP : WP Γ [(hdB Γ h), [(b, .inr (0, [.ref h.e0, .ref tt, .ref sv, .int zs, .ref da, .ref tx, .ref wr, .int fl, .int rf]))]] s.heap := bP_sel hP [1, 0] rfl
  have hD : WD A [(hdB Γ h), [(b, .inr (0, [.ref h.e0, .ref tt, .ref sv, .int zs, .ref da, .ref tx, .ref wr, .int fl, .int rf]))]] := bD_sel hD [1, 0] rfl rfl
  have hP : WP Γ [[(h.e0, .inr (1, [.ref h.e1, .ref h.e2, .ref h.e3, .ref h.e4, .ref h.e5, .int h.S.td, .int h.S.pk, .int h.S.pd]))], [(h.e1, .inr (11, [.int h.m0, .ref h.x0.1, .int (nI h.n)]))], (alA Γ h.x0), (cowsB h.n h.ca h.S.cv), [(h.e2, .inr (11, [.int h.m1, .ref h.x1.1, .int (nI h.nr)]))], (alA Γ h.x1), [(h.e3, .inr (11, [.int h.m2, .ref h.x2.1, .int (nI h.S.np)]))], (alA Γ h.x2), [(h.e4, .inr (2, [.int h.S.li, .int h.S.ce]))], [(h.e5, .inl (Γ.2.1 0, 6, .inl h.se))], [(b, .inr (0, [.ref h.e0, .ref tt, .ref sv, .int zs, .ref da, .ref tx, .ref wr, .int fl, .int rf]))]] s.heap := hdP_ex (Bs := hdL Γ h) hP
  have hD : WD A [[(h.e0, .inr (1, [.ref h.e1, .ref h.e2, .ref h.e3, .ref h.e4, .ref h.e5, .int h.S.td, .int h.S.pk, .int h.S.pd]))], [(h.e1, .inr (11, [.int h.m0, .ref h.x0.1, .int (nI h.n)]))], (alA Γ h.x0), (cowsB h.n h.ca h.S.cv), [(h.e2, .inr (11, [.int h.m1, .ref h.x1.1, .int (nI h.nr)]))], (alA Γ h.x1), [(h.e3, .inr (11, [.int h.m2, .ref h.x2.1, .int (nI h.S.np)]))], (alA Γ h.x2), [(h.e4, .inr (2, [.int h.S.li, .int h.S.ce]))], [(h.e5, .inl (Γ.2.1 0, 6, .inl h.se))], [(b, .inr (0, [.ref h.e0, .ref tt, .ref sv, .int zs, .ref da, .ref tx, .ref wr, .int fl, .int rf]))]] := hdD_ex (Bs := hdL Γ h) hD
  have hal0 : alI Γ h.x0 h.n h.ca := ho.1
  have hn8 : h.n ≤ 8 := ho.2.1
  have hal1 : alI Γ h.x1 h.nr h.ra := ho.2.2.1
  have nr4 : h.nr ≤ 4 := ho.2.2.2.1
  have hrw : ∀ k, k < h.nr → (h.ra k, rowE (h.rv k)) ∈ P := ho.2.2.2.2.1
  have hal2 : alI Γ h.x2 h.S.np h.pa := ho.2.2.2.2.2.1
  have np60 : h.S.np ≤ 60 := ho.2.2.2.2.2.2.1
  have hpk : ∀ k, k < h.S.np → (h.pa k, pickE (h.S.pv k)) ∈ P := ho.2.2.2.2.2.2.2.1
  have hcb : ∀ k, k < h.n → cowB (h.S.cv k) := ho.2.2.2.2.2.2.2.2
  refine lv_aload_n hx hb dX1_dry_0 rfl (lv_at hl 0 rfl) ?_
  refine lv_aload_n hx hb dX1_dry_1 rfl (lv_at hl 0 rfl) ?_
  refine b_get (C := RX1) (T := TX1) (N := 9) (v := .ref h.e0) hx hb hts in_X1 hown hK (b_at (k := 10) hP rfl) rfl 0 (by decide) q248 (fun _ h9 => h9) rfl dX1_dry_2 ?_
  refine lv_iload_n hx hb dX1_dry_5 rfl (lv_at hl 1 rfl) ?_
  refine b_calli (br := [[(h.e2, .inr (11, [.int h.m1, .ref h.x1.1, .int (nI h.nr)]))], (alA Γ h.x1), [(h.e3, .inr (11, [.int h.m2, .ref h.x2.1, .int (nI h.S.np)]))], (alA Γ h.x2), [(h.e4, .inr (2, [.int h.S.li, .int h.S.ce]))], [(h.e5, .inl (Γ.2.1 0, 6, .inl h.se))], [(b, .inr (0, [.ref h.e0, .ref tt, .ref sv, .int zs, .ref da, .ref tx, .ref wr, .int fl, .int rf]))]]) (b_runV ⟨hx, hb, hml, hown, hts⟩ (mt_Hd_refusesDry l Γ _ h.e0 h.e1 h.e2 h.e3 h.e4 h.e5 h.S.td h.S.pk h.S.pd h.x0 h.m0 h.n h.ca h.S.cv c (by assumption) (by first | assumption | omega)) (lw_V q1048 q1049 q1050 q63 q1051) rfl rfl 1 (by decide +kernel) ⟨(Nat.le_of_ble_eq_true rfl), (Nat.le_of_ble_eq_true rfl)⟩ (c_pre hP hD hS hA hK hE [0, 1, 2, 3] rfl rfl ro_nil) (recv_at (q := (RX2, TX2, 8)) hK (b_at (k := 0) hP rfl) rfl) rfl hl.1 rfl (Nat.le_of_ble_eq_true rfl) dX1_dry_6 ⟨(Nat.le_of_ble_eq_true rfl), (Nat.le_of_ble_eq_true rfl)⟩) hP hD hS hA [0, 1, 2, 3] [4, 5, 6, 7, 8, 9, 10] rfl rfl rfl (fun r_1 u_1 H locs hw_1 hP hD hS _ => ?_)
  obtain ⟨rfl, rfl⟩ := hw_1
  have hP : WP Γ [[(h.e0, .inr (1, [.ref h.e1, .ref h.e2, .ref h.e3, .ref h.e4, .ref h.e5, .int h.S.td, .int h.S.pk, .int h.S.pd]))], [(h.e1, .inr (11, [.int h.m0, .ref h.x0.1, .int (nI h.n)]))], (alA Γ h.x0), (cowsB h.n h.ca h.S.cv), [(h.e2, .inr (11, [.int h.m1, .ref h.x1.1, .int (nI h.nr)]))], (alA Γ h.x1), [(h.e3, .inr (11, [.int h.m2, .ref h.x2.1, .int (nI h.S.np)]))], (alA Γ h.x2), [(h.e4, .inr (2, [.int h.S.li, .int h.S.ce]))], [(h.e5, .inl (Γ.2.1 0, 6, .inl h.se))], [(b, .inr (0, [.ref h.e0, .ref tt, .ref sv, .int zs, .ref da, .ref tx, .ref wr, .int fl, .int rf]))]] H := hP
  have hD : WD A [[(h.e0, .inr (1, [.ref h.e1, .ref h.e2, .ref h.e3, .ref h.e4, .ref h.e5, .int h.S.td, .int h.S.pk, .int h.S.pd]))], [(h.e1, .inr (11, [.int h.m0, .ref h.x0.1, .int (nI h.n)]))], (alA Γ h.x0), (cowsB h.n h.ca h.S.cv), [(h.e2, .inr (11, [.int h.m1, .ref h.x1.1, .int (nI h.nr)]))], (alA Γ h.x1), [(h.e3, .inr (11, [.int h.m2, .ref h.x2.1, .int (nI h.S.np)]))], (alA Γ h.x2), [(h.e4, .inr (2, [.int h.S.li, .int h.S.ce]))], [(h.e5, .inl (Γ.2.1 0, 6, .inl h.se))], [(b, .inr (0, [.ref h.e0, .ref tt, .ref sv, .int zs, .ref da, .ref tx, .ref wr, .int fl, .int rf]))]] := hD
  have hP : WP Γ [(hdB Γ h), [(b, .inr (0, [.ref h.e0, .ref tt, .ref sv, .int zs, .ref da, .ref tx, .ref wr, .int fl, .int rf]))]] H := (hdP_un (Bs := hdL Γ h) hP)
  have hD : WD A [(hdB Γ h), [(b, .inr (0, [.ref h.e0, .ref tt, .ref sv, .int zs, .ref da, .ref tx, .ref wr, .int fl, .int rf]))]] := (hdD_un (Bs := hdL Γ h) hD)
  refine b_callx (br := [(hdB Γ h)]) (b_runVx ⟨hx, hb, hml, hown, hts⟩ (mt_DB_checkSupported_x l Γ _ b h tt sv zs da tx wr fl rf (rfDry h.n h.S.cv c) hnt hR) (lw_V q977 q979 qs9 q62 q980) rfl rfl 1 (by decide +kernel) ⟨(Nat.le_of_ble_eq_true rfl), (Nat.le_of_ble_eq_true rfl)⟩ (c_pre hP hD hS hA hK hE [1] rfl rfl ro_nil) (recv_at (q := (RX1, TX1, 9)) hK (b_at (k := 1) hP rfl) rfl) rfl hl.1 rfl (Nat.le_of_ble_eq_true rfl) dX1_dry_9 ⟨(Nat.le_of_ble_eq_true rfl), (Nat.le_of_ble_eq_true rfl)⟩) hP hD hS hA [1] [0] rfl rfl rfl (fun q_2 ce_2 u_2 H locs hw_2 hP hD hS _ hce_2 hcv_2 hcl_2 => ?_)
  obtain rfl := hw_2
  have hP : WP Γ [[(b, .inr (0, [.ref h.e0, .ref tt, .ref sv, .int zs, .ref da, .ref tx, .ref wr, .int fl, .int (rfDry h.n h.S.cv c)]))], (hdB Γ h)] H := hP
  have hD : WD A [[(b, .inr (0, [.ref h.e0, .ref tt, .ref sv, .int zs, .ref da, .ref tx, .ref wr, .int fl, .int (rfDry h.n h.S.cv c)]))], (hdB Γ h)] := hD
  exact b_outx hlocks (fun x hx9 => (ht9 x hx9).elim) hP hD hS hce_2 hcv_2 hcl_2 (by first | rfl | (simp; done)) (Nat.le_of_ble_eq_true rfl) (Nat.le_of_ble_eq_true rfl)
set_option maxHeartbeats 4000000 in
set_option maxRecDepth 100000 in
theorem mt_DB_sell_x (l : Launch) (Γ : GE) (sz : Nat) (b : Nat) (h : HB) (tt : Nat) (sv : Nat) (zs : Int32) (da : Nat) (tx : Nat) (wr : Nat) (fl : Int32) (rf : Int32) (P : va_W) (c : Int32) (hnt : l.stackTraces = false) (ho : hdOk Γ P h) (hR : 0 < rfCow h.n h.S.cv c) : KMX l yX1_sell cX1_sell 2 (some FieldType.int) Γ 7 111 1 6 [.ref b, .int c] [[(b, .inr (0, [.ref h.e0, .ref tt, .ref sv, .int zs, .ref da, .ref tx, .ref wr, .int fl, .int rf]))], (hdB Γ h)] [P] sz "java/lang/UnsupportedOperationException" (fun q_ u_ => u_ = [[(b, .inr (0, [.ref h.e0, .ref tt, .ref sv, .int zs, .ref da, .ref tx, .ref wr, .int fl, .int (rfCow h.n h.S.cv c)]))], (hdB Γ h)]) := by
  refine K_introX (by decide) (Nat.le_of_ble_eq_true rfl) ?_
  intro pr_ ev_ s mi_ below meth cd_ A ls hx hb hr hml hown hts hlocks hname hK hE hRo hP hD hA hS hsz hl ht9
  have hl : lv_has ls 2 [(0, .ref b), (1, .int c)] := hl
  have hown : s.vm.findClass RX1 = some mi_.cls := hown
  have hP : WP Γ [(hdB Γ h), [(b, .inr (0, [.ref h.e0, .ref tt, .ref sv, .int zs, .ref da, .ref tx, .ref wr, .int fl, .int rf]))]] s.heap := bP_sel hP [1, 0] rfl
  have hD : WD A [(hdB Γ h), [(b, .inr (0, [.ref h.e0, .ref tt, .ref sv, .int zs, .ref da, .ref tx, .ref wr, .int fl, .int rf]))]] := bD_sel hD [1, 0] rfl rfl
  have hP : WP Γ [[(h.e0, .inr (1, [.ref h.e1, .ref h.e2, .ref h.e3, .ref h.e4, .ref h.e5, .int h.S.td, .int h.S.pk, .int h.S.pd]))], [(h.e1, .inr (11, [.int h.m0, .ref h.x0.1, .int (nI h.n)]))], (alA Γ h.x0), (cowsB h.n h.ca h.S.cv), [(h.e2, .inr (11, [.int h.m1, .ref h.x1.1, .int (nI h.nr)]))], (alA Γ h.x1), [(h.e3, .inr (11, [.int h.m2, .ref h.x2.1, .int (nI h.S.np)]))], (alA Γ h.x2), [(h.e4, .inr (2, [.int h.S.li, .int h.S.ce]))], [(h.e5, .inl (Γ.2.1 0, 6, .inl h.se))], [(b, .inr (0, [.ref h.e0, .ref tt, .ref sv, .int zs, .ref da, .ref tx, .ref wr, .int fl, .int rf]))]] s.heap := hdP_ex (Bs := hdL Γ h) hP
  have hD : WD A [[(h.e0, .inr (1, [.ref h.e1, .ref h.e2, .ref h.e3, .ref h.e4, .ref h.e5, .int h.S.td, .int h.S.pk, .int h.S.pd]))], [(h.e1, .inr (11, [.int h.m0, .ref h.x0.1, .int (nI h.n)]))], (alA Γ h.x0), (cowsB h.n h.ca h.S.cv), [(h.e2, .inr (11, [.int h.m1, .ref h.x1.1, .int (nI h.nr)]))], (alA Γ h.x1), [(h.e3, .inr (11, [.int h.m2, .ref h.x2.1, .int (nI h.S.np)]))], (alA Γ h.x2), [(h.e4, .inr (2, [.int h.S.li, .int h.S.ce]))], [(h.e5, .inl (Γ.2.1 0, 6, .inl h.se))], [(b, .inr (0, [.ref h.e0, .ref tt, .ref sv, .int zs, .ref da, .ref tx, .ref wr, .int fl, .int rf]))]] := hdD_ex (Bs := hdL Γ h) hD
  have hal0 : alI Γ h.x0 h.n h.ca := ho.1
  have hn8 : h.n ≤ 8 := ho.2.1
  have hal1 : alI Γ h.x1 h.nr h.ra := ho.2.2.1
  have nr4 : h.nr ≤ 4 := ho.2.2.2.1
  have hrw : ∀ k, k < h.nr → (h.ra k, rowE (h.rv k)) ∈ P := ho.2.2.2.2.1
  have hal2 : alI Γ h.x2 h.S.np h.pa := ho.2.2.2.2.2.1
  have np60 : h.S.np ≤ 60 := ho.2.2.2.2.2.2.1
  have hpk : ∀ k, k < h.S.np → (h.pa k, pickE (h.S.pv k)) ∈ P := ho.2.2.2.2.2.2.2.1
  have hcb : ∀ k, k < h.n → cowB (h.S.cv k) := ho.2.2.2.2.2.2.2.2
  refine lv_aload_n hx hb dX1_sell_0 rfl (lv_at hl 0 rfl) ?_
  refine lv_aload_n hx hb dX1_sell_1 rfl (lv_at hl 0 rfl) ?_
  refine b_get (C := RX1) (T := TX1) (N := 9) (v := .ref h.e0) hx hb hts in_X1 hown hK (b_at (k := 10) hP rfl) rfl 0 (by decide) q248 (fun _ h9 => h9) rfl dX1_sell_2 ?_
  refine lv_iload_n hx hb dX1_sell_5 rfl (lv_at hl 1 rfl) ?_
  refine b_calli (br := [[(h.e2, .inr (11, [.int h.m1, .ref h.x1.1, .int (nI h.nr)]))], (alA Γ h.x1), [(h.e3, .inr (11, [.int h.m2, .ref h.x2.1, .int (nI h.S.np)]))], (alA Γ h.x2), [(h.e4, .inr (2, [.int h.S.li, .int h.S.ce]))], [(h.e5, .inl (Γ.2.1 0, 6, .inl h.se))], [(b, .inr (0, [.ref h.e0, .ref tt, .ref sv, .int zs, .ref da, .ref tx, .ref wr, .int fl, .int rf]))]]) (b_runV ⟨hx, hb, hml, hown, hts⟩ (mt_Hd_refusesCow l Γ _ h.e0 h.e1 h.e2 h.e3 h.e4 h.e5 h.S.td h.S.pk h.S.pd h.x0 h.m0 h.n h.ca h.S.cv c (by assumption) (by first | assumption | omega)) (lw_V q1008 q1009 q1010 q63 q1011) rfl rfl 1 (by decide +kernel) ⟨(Nat.le_of_ble_eq_true rfl), (Nat.le_of_ble_eq_true rfl)⟩ (c_pre hP hD hS hA hK hE [0, 1, 2, 3] rfl rfl ro_nil) (recv_at (q := (RX2, TX2, 8)) hK (b_at (k := 0) hP rfl) rfl) rfl hl.1 rfl (Nat.le_of_ble_eq_true rfl) dX1_sell_6 ⟨(Nat.le_of_ble_eq_true rfl), (Nat.le_of_ble_eq_true rfl)⟩) hP hD hS hA [0, 1, 2, 3] [4, 5, 6, 7, 8, 9, 10] rfl rfl rfl (fun r_1 u_1 H locs hw_1 hP hD hS _ => ?_)
  obtain ⟨rfl, rfl⟩ := hw_1
  have hP : WP Γ [[(h.e0, .inr (1, [.ref h.e1, .ref h.e2, .ref h.e3, .ref h.e4, .ref h.e5, .int h.S.td, .int h.S.pk, .int h.S.pd]))], [(h.e1, .inr (11, [.int h.m0, .ref h.x0.1, .int (nI h.n)]))], (alA Γ h.x0), (cowsB h.n h.ca h.S.cv), [(h.e2, .inr (11, [.int h.m1, .ref h.x1.1, .int (nI h.nr)]))], (alA Γ h.x1), [(h.e3, .inr (11, [.int h.m2, .ref h.x2.1, .int (nI h.S.np)]))], (alA Γ h.x2), [(h.e4, .inr (2, [.int h.S.li, .int h.S.ce]))], [(h.e5, .inl (Γ.2.1 0, 6, .inl h.se))], [(b, .inr (0, [.ref h.e0, .ref tt, .ref sv, .int zs, .ref da, .ref tx, .ref wr, .int fl, .int rf]))]] H := hP
  have hD : WD A [[(h.e0, .inr (1, [.ref h.e1, .ref h.e2, .ref h.e3, .ref h.e4, .ref h.e5, .int h.S.td, .int h.S.pk, .int h.S.pd]))], [(h.e1, .inr (11, [.int h.m0, .ref h.x0.1, .int (nI h.n)]))], (alA Γ h.x0), (cowsB h.n h.ca h.S.cv), [(h.e2, .inr (11, [.int h.m1, .ref h.x1.1, .int (nI h.nr)]))], (alA Γ h.x1), [(h.e3, .inr (11, [.int h.m2, .ref h.x2.1, .int (nI h.S.np)]))], (alA Γ h.x2), [(h.e4, .inr (2, [.int h.S.li, .int h.S.ce]))], [(h.e5, .inl (Γ.2.1 0, 6, .inl h.se))], [(b, .inr (0, [.ref h.e0, .ref tt, .ref sv, .int zs, .ref da, .ref tx, .ref wr, .int fl, .int rf]))]] := hD
  have hP : WP Γ [(hdB Γ h), [(b, .inr (0, [.ref h.e0, .ref tt, .ref sv, .int zs, .ref da, .ref tx, .ref wr, .int fl, .int rf]))]] H := (hdP_un (Bs := hdL Γ h) hP)
  have hD : WD A [(hdB Γ h), [(b, .inr (0, [.ref h.e0, .ref tt, .ref sv, .int zs, .ref da, .ref tx, .ref wr, .int fl, .int rf]))]] := (hdD_un (Bs := hdL Γ h) hD)
  refine b_callx (br := [(hdB Γ h)]) (b_runVx ⟨hx, hb, hml, hown, hts⟩ (mt_DB_checkSupported_x l Γ _ b h tt sv zs da tx wr fl rf (rfCow h.n h.S.cv c) hnt hR) (lw_V q977 q979 qs9 q62 q980) rfl rfl 1 (by decide +kernel) ⟨(Nat.le_of_ble_eq_true rfl), (Nat.le_of_ble_eq_true rfl)⟩ (c_pre hP hD hS hA hK hE [1] rfl rfl ro_nil) (recv_at (q := (RX1, TX1, 9)) hK (b_at (k := 1) hP rfl) rfl) rfl hl.1 rfl (Nat.le_of_ble_eq_true rfl) dX1_sell_9 ⟨(Nat.le_of_ble_eq_true rfl), (Nat.le_of_ble_eq_true rfl)⟩) hP hD hS hA [1] [0] rfl rfl rfl (fun q_2 ce_2 u_2 H locs hw_2 hP hD hS _ hce_2 hcv_2 hcl_2 => ?_)
  obtain rfl := hw_2
  have hP : WP Γ [[(b, .inr (0, [.ref h.e0, .ref tt, .ref sv, .int zs, .ref da, .ref tx, .ref wr, .int fl, .int (rfCow h.n h.S.cv c)]))], (hdB Γ h)] H := hP
  have hD : WD A [[(b, .inr (0, [.ref h.e0, .ref tt, .ref sv, .int zs, .ref da, .ref tx, .ref wr, .int fl, .int (rfCow h.n h.S.cv c)]))], (hdB Γ h)] := hD
  exact b_outx hlocks (fun x hx9 => (ht9 x hx9).elim) hP hD hS hce_2 hcv_2 hcl_2 (by first | rfl | (simp; done)) (Nat.le_of_ble_eq_true rfl) (Nat.le_of_ble_eq_true rfl)
set_option maxHeartbeats 4000000 in
set_option maxRecDepth 100000 in
theorem mt_DB_setBonus_x (l : Launch) (Γ : GE) (sz : Nat) (b : Nat) (h : HB) (tt : Nat) (sv : Nat) (zs : Int32) (da : Nat) (tx : Nat) (wr : Nat) (fl : Int32) (rf : Int32) (P : va_W) (c : Int32) (v : Int32) (hnt : l.stackTraces = false) (ho : hdOk Γ P h) (hR : 0 < rfBonus h.rv h.nr c v) : KMX l yX1_setBonus cX1_setBonus 3 (some FieldType.int) Γ 7 111 1 6 [.ref b, .int c, .int v] [[(b, .inr (0, [.ref h.e0, .ref tt, .ref sv, .int zs, .ref da, .ref tx, .ref wr, .int fl, .int rf]))], (hdB Γ h)] [P] sz "java/lang/UnsupportedOperationException" (fun q_ u_ => u_ = [[(b, .inr (0, [.ref h.e0, .ref tt, .ref sv, .int zs, .ref da, .ref tx, .ref wr, .int fl, .int (rfBonus h.rv h.nr c v)]))], (hdB Γ h)]) := by
  refine K_introX (by decide) (Nat.le_of_ble_eq_true rfl) ?_
  intro pr_ ev_ s mi_ below meth cd_ A ls hx hb hr hml hown hts hlocks hname hK hE hRo hP hD hA hS hsz hl ht9
  have hl : lv_has ls 3 [(0, .ref b), (1, .int c), (2, .int v)] := hl
  have hown : s.vm.findClass RX1 = some mi_.cls := hown
  have hP : WP Γ [(hdB Γ h), [(b, .inr (0, [.ref h.e0, .ref tt, .ref sv, .int zs, .ref da, .ref tx, .ref wr, .int fl, .int rf]))]] s.heap := bP_sel hP [1, 0] rfl
  have hD : WD A [(hdB Γ h), [(b, .inr (0, [.ref h.e0, .ref tt, .ref sv, .int zs, .ref da, .ref tx, .ref wr, .int fl, .int rf]))]] := bD_sel hD [1, 0] rfl rfl
  have hP : WP Γ [[(h.e0, .inr (1, [.ref h.e1, .ref h.e2, .ref h.e3, .ref h.e4, .ref h.e5, .int h.S.td, .int h.S.pk, .int h.S.pd]))], [(h.e1, .inr (11, [.int h.m0, .ref h.x0.1, .int (nI h.n)]))], (alA Γ h.x0), (cowsB h.n h.ca h.S.cv), [(h.e2, .inr (11, [.int h.m1, .ref h.x1.1, .int (nI h.nr)]))], (alA Γ h.x1), [(h.e3, .inr (11, [.int h.m2, .ref h.x2.1, .int (nI h.S.np)]))], (alA Γ h.x2), [(h.e4, .inr (2, [.int h.S.li, .int h.S.ce]))], [(h.e5, .inl (Γ.2.1 0, 6, .inl h.se))], [(b, .inr (0, [.ref h.e0, .ref tt, .ref sv, .int zs, .ref da, .ref tx, .ref wr, .int fl, .int rf]))]] s.heap := hdP_ex (Bs := hdL Γ h) hP
  have hD : WD A [[(h.e0, .inr (1, [.ref h.e1, .ref h.e2, .ref h.e3, .ref h.e4, .ref h.e5, .int h.S.td, .int h.S.pk, .int h.S.pd]))], [(h.e1, .inr (11, [.int h.m0, .ref h.x0.1, .int (nI h.n)]))], (alA Γ h.x0), (cowsB h.n h.ca h.S.cv), [(h.e2, .inr (11, [.int h.m1, .ref h.x1.1, .int (nI h.nr)]))], (alA Γ h.x1), [(h.e3, .inr (11, [.int h.m2, .ref h.x2.1, .int (nI h.S.np)]))], (alA Γ h.x2), [(h.e4, .inr (2, [.int h.S.li, .int h.S.ce]))], [(h.e5, .inl (Γ.2.1 0, 6, .inl h.se))], [(b, .inr (0, [.ref h.e0, .ref tt, .ref sv, .int zs, .ref da, .ref tx, .ref wr, .int fl, .int rf]))]] := hdD_ex (Bs := hdL Γ h) hD
  have hal0 : alI Γ h.x0 h.n h.ca := ho.1
  have hn8 : h.n ≤ 8 := ho.2.1
  have hal1 : alI Γ h.x1 h.nr h.ra := ho.2.2.1
  have nr4 : h.nr ≤ 4 := ho.2.2.2.1
  have hrw : ∀ k, k < h.nr → (h.ra k, rowE (h.rv k)) ∈ P := ho.2.2.2.2.1
  have hal2 : alI Γ h.x2 h.S.np h.pa := ho.2.2.2.2.2.1
  have np60 : h.S.np ≤ 60 := ho.2.2.2.2.2.2.1
  have hpk : ∀ k, k < h.S.np → (h.pa k, pickE (h.S.pv k)) ∈ P := ho.2.2.2.2.2.2.2.1
  have hcb : ∀ k, k < h.n → cowB (h.S.cv k) := ho.2.2.2.2.2.2.2.2
  refine lv_aload_n hx hb dX1_setBonus_0 rfl (lv_at hl 0 rfl) ?_
  refine lv_aload_n hx hb dX1_setBonus_1 rfl (lv_at hl 0 rfl) ?_
  refine b_get (C := RX1) (T := TX1) (N := 9) (v := .ref h.e0) hx hb hts in_X1 hown hK (b_at (k := 10) hP rfl) rfl 0 (by decide) q248 (fun _ h9 => h9) rfl dX1_setBonus_2 ?_
  refine lv_iload_n hx hb dX1_setBonus_5 rfl (lv_at hl 1 rfl) ?_
  refine lv_iload_n hx hb dX1_setBonus_6 rfl (lv_at hl 2 rfl) ?_
  refine b_calli (br := [[(h.e1, .inr (11, [.int h.m0, .ref h.x0.1, .int (nI h.n)]))], (alA Γ h.x0), (cowsB h.n h.ca h.S.cv), [(h.e3, .inr (11, [.int h.m2, .ref h.x2.1, .int (nI h.S.np)]))], (alA Γ h.x2), [(h.e4, .inr (2, [.int h.S.li, .int h.S.ce]))], [(h.e5, .inl (Γ.2.1 0, 6, .inl h.se))], [(b, .inr (0, [.ref h.e0, .ref tt, .ref sv, .int zs, .ref da, .ref tx, .ref wr, .int fl, .int rf]))]]) (b_runV ⟨hx, hb, hml, hown, hts⟩ (mt_Hd_refusesBonus l Γ _ h.e0 h.e1 h.e2 h.e3 h.e4 h.e5 h.S.td h.S.pk h.S.pd h.x1 h.m1 h.nr h.ra h.rv P c v (by assumption) (by first | assumption | omega) (by assumption)) (lw_V q1102 q1103 q1104 q63 q1105) rfl rfl 2 (by decide +kernel) ⟨(Nat.le_of_ble_eq_true rfl), (Nat.le_of_ble_eq_true rfl)⟩ (c_pre hP hD hS hA hK hE [0, 4, 5] rfl rfl (ro_pass (ro_sel (ro2 := [P]) hRo [0] rfl) hD hS hA [0, 4, 5] rfl)) (recv_at (q := (RX2, TX2, 8)) hK (b_at (k := 0) hP rfl) rfl) rfl hl.1 rfl (Nat.le_of_ble_eq_true rfl) dX1_setBonus_7 ⟨(Nat.le_of_ble_eq_true rfl), (Nat.le_of_ble_eq_true rfl)⟩) hP hD hS hA [0, 4, 5] [1, 2, 3, 6, 7, 8, 9, 10] rfl rfl rfl (fun r_1 u_1 H locs hw_1 hP hD hS _ => ?_)
  obtain ⟨rfl, rfl⟩ := hw_1
  have hP : WP Γ [[(h.e0, .inr (1, [.ref h.e1, .ref h.e2, .ref h.e3, .ref h.e4, .ref h.e5, .int h.S.td, .int h.S.pk, .int h.S.pd]))], [(h.e2, .inr (11, [.int h.m1, .ref h.x1.1, .int (nI h.nr)]))], (alA Γ h.x1), [(h.e1, .inr (11, [.int h.m0, .ref h.x0.1, .int (nI h.n)]))], (alA Γ h.x0), (cowsB h.n h.ca h.S.cv), [(h.e3, .inr (11, [.int h.m2, .ref h.x2.1, .int (nI h.S.np)]))], (alA Γ h.x2), [(h.e4, .inr (2, [.int h.S.li, .int h.S.ce]))], [(h.e5, .inl (Γ.2.1 0, 6, .inl h.se))], [(b, .inr (0, [.ref h.e0, .ref tt, .ref sv, .int zs, .ref da, .ref tx, .ref wr, .int fl, .int rf]))]] H := hP
  have hD : WD A [[(h.e0, .inr (1, [.ref h.e1, .ref h.e2, .ref h.e3, .ref h.e4, .ref h.e5, .int h.S.td, .int h.S.pk, .int h.S.pd]))], [(h.e2, .inr (11, [.int h.m1, .ref h.x1.1, .int (nI h.nr)]))], (alA Γ h.x1), [(h.e1, .inr (11, [.int h.m0, .ref h.x0.1, .int (nI h.n)]))], (alA Γ h.x0), (cowsB h.n h.ca h.S.cv), [(h.e3, .inr (11, [.int h.m2, .ref h.x2.1, .int (nI h.S.np)]))], (alA Γ h.x2), [(h.e4, .inr (2, [.int h.S.li, .int h.S.ce]))], [(h.e5, .inl (Γ.2.1 0, 6, .inl h.se))], [(b, .inr (0, [.ref h.e0, .ref tt, .ref sv, .int zs, .ref da, .ref tx, .ref wr, .int fl, .int rf]))]] := hD
  have hP : WP Γ [[(h.e0, .inr (1, [.ref h.e1, .ref h.e2, .ref h.e3, .ref h.e4, .ref h.e5, .int h.S.td, .int h.S.pk, .int h.S.pd]))], [(h.e1, .inr (11, [.int h.m0, .ref h.x0.1, .int (nI h.n)]))], (alA Γ h.x0), (cowsB h.n h.ca h.S.cv), [(h.e2, .inr (11, [.int h.m1, .ref h.x1.1, .int (nI h.nr)]))], (alA Γ h.x1), [(h.e3, .inr (11, [.int h.m2, .ref h.x2.1, .int (nI h.S.np)]))], (alA Γ h.x2), [(h.e4, .inr (2, [.int h.S.li, .int h.S.ce]))], [(h.e5, .inl (Γ.2.1 0, 6, .inl h.se))], [(b, .inr (0, [.ref h.e0, .ref tt, .ref sv, .int zs, .ref da, .ref tx, .ref wr, .int fl, .int rf]))]] H := bP_sel hP [0, 3, 4, 5, 1, 2, 6, 7, 8, 9, 10] rfl
  have hD : WD A [[(h.e0, .inr (1, [.ref h.e1, .ref h.e2, .ref h.e3, .ref h.e4, .ref h.e5, .int h.S.td, .int h.S.pk, .int h.S.pd]))], [(h.e1, .inr (11, [.int h.m0, .ref h.x0.1, .int (nI h.n)]))], (alA Γ h.x0), (cowsB h.n h.ca h.S.cv), [(h.e2, .inr (11, [.int h.m1, .ref h.x1.1, .int (nI h.nr)]))], (alA Γ h.x1), [(h.e3, .inr (11, [.int h.m2, .ref h.x2.1, .int (nI h.S.np)]))], (alA Γ h.x2), [(h.e4, .inr (2, [.int h.S.li, .int h.S.ce]))], [(h.e5, .inl (Γ.2.1 0, 6, .inl h.se))], [(b, .inr (0, [.ref h.e0, .ref tt, .ref sv, .int zs, .ref da, .ref tx, .ref wr, .int fl, .int rf]))]] := bD_sel hD [0, 3, 4, 5, 1, 2, 6, 7, 8, 9, 10] rfl rfl
  have hP : WP Γ [(hdB Γ h), [(b, .inr (0, [.ref h.e0, .ref tt, .ref sv, .int zs, .ref da, .ref tx, .ref wr, .int fl, .int rf]))]] H := (hdP_un (Bs := hdL Γ h) hP)
  have hD : WD A [(hdB Γ h), [(b, .inr (0, [.ref h.e0, .ref tt, .ref sv, .int zs, .ref da, .ref tx, .ref wr, .int fl, .int rf]))]] := (hdD_un (Bs := hdL Γ h) hD)
  refine b_callx (br := [(hdB Γ h)]) (b_runVx ⟨hx, hb, hml, hown, hts⟩ (mt_DB_checkSupported_x l Γ _ b h tt sv zs da tx wr fl rf (rfBonus h.rv h.nr c v) hnt hR) (lw_V q977 q979 qs9 q62 q980) rfl rfl 1 (by decide +kernel) ⟨(Nat.le_of_ble_eq_true rfl), (Nat.le_of_ble_eq_true rfl)⟩ (c_pre hP hD hS hA hK hE [1] rfl rfl ro_nil) (recv_at (q := (RX1, TX1, 9)) hK (b_at (k := 1) hP rfl) rfl) rfl hl.1 rfl (Nat.le_of_ble_eq_true rfl) dX1_setBonus_10 ⟨(Nat.le_of_ble_eq_true rfl), (Nat.le_of_ble_eq_true rfl)⟩) hP hD hS hA [1] [0] rfl rfl rfl (fun q_2 ce_2 u_2 H locs hw_2 hP hD hS _ hce_2 hcv_2 hcl_2 => ?_)
  obtain rfl := hw_2
  have hP : WP Γ [[(b, .inr (0, [.ref h.e0, .ref tt, .ref sv, .int zs, .ref da, .ref tx, .ref wr, .int fl, .int (rfBonus h.rv h.nr c v)]))], (hdB Γ h)] H := hP
  have hD : WD A [[(b, .inr (0, [.ref h.e0, .ref tt, .ref sv, .int zs, .ref da, .ref tx, .ref wr, .int fl, .int (rfBonus h.rv h.nr c v)]))], (hdB Γ h)] := hD
  exact b_outx hlocks (fun x hx9 => (ht9 x hx9).elim) hP hD hS hce_2 hcv_2 hcl_2 (by first | rfl | (simp; done)) (Nat.le_of_ble_eq_true rfl) (Nat.le_of_ble_eq_true rfl)
set_option maxHeartbeats 4000000 in
set_option maxRecDepth 100000 in
theorem mt_DB_setCells_x2 (l : Launch) (Γ : GE) (sz : Nat) (b : Nat) (h : HB) (tt : Nat) (sv : Nat) (zs : Int32) (da : Nat) (tx : Nat) (wr : Nat) (fl : Int32) (rf : Int32) (P : va_W) (c : Int32) (v : Int32) (hnt : l.stackTraces = false) (ho : hdOk Γ P h) (hR : rfCow h.n h.S.cv c = 0) (hx9 : inC v 0 999 = 0) : KMX l yX1_setCells cX1_setCells 5 (some FieldType.int) Γ 7 110 1 6 [.ref b, .int c, .int v] [[(b, .inr (0, [.ref h.e0, .ref tt, .ref sv, .int zs, .ref da, .ref tx, .ref wr, .int fl, .int rf]))], (hdB Γ h)] [P] sz "java/lang/IllegalArgumentException" (fun q_ u_ => u_ = [[(b, .inr (0, [.ref h.e0, .ref tt, .ref sv, .int zs, .ref da, .ref tx, .ref wr, .int fl, .int rf]))], (hdB Γ h)]) := by
  refine K_introX (by decide) (Nat.le_of_ble_eq_true rfl) ?_
  intro pr_ ev_ s mi_ below meth cd_ A ls hx hb hr hml hown hts hlocks hname hK hE hRo hP hD hA hS hsz hl ht9
  have hl : lv_has ls 5 [(0, .ref b), (1, .int c), (2, .int v)] := hl
  have hown : s.vm.findClass RX1 = some mi_.cls := hown
  have hP : WP Γ [(hdB Γ h), [(b, .inr (0, [.ref h.e0, .ref tt, .ref sv, .int zs, .ref da, .ref tx, .ref wr, .int fl, .int rf]))]] s.heap := bP_sel hP [1, 0] rfl
  have hD : WD A [(hdB Γ h), [(b, .inr (0, [.ref h.e0, .ref tt, .ref sv, .int zs, .ref da, .ref tx, .ref wr, .int fl, .int rf]))]] := bD_sel hD [1, 0] rfl rfl
  have hP : WP Γ [[(h.e0, .inr (1, [.ref h.e1, .ref h.e2, .ref h.e3, .ref h.e4, .ref h.e5, .int h.S.td, .int h.S.pk, .int h.S.pd]))], [(h.e1, .inr (11, [.int h.m0, .ref h.x0.1, .int (nI h.n)]))], (alA Γ h.x0), (cowsB h.n h.ca h.S.cv), [(h.e2, .inr (11, [.int h.m1, .ref h.x1.1, .int (nI h.nr)]))], (alA Γ h.x1), [(h.e3, .inr (11, [.int h.m2, .ref h.x2.1, .int (nI h.S.np)]))], (alA Γ h.x2), [(h.e4, .inr (2, [.int h.S.li, .int h.S.ce]))], [(h.e5, .inl (Γ.2.1 0, 6, .inl h.se))], [(b, .inr (0, [.ref h.e0, .ref tt, .ref sv, .int zs, .ref da, .ref tx, .ref wr, .int fl, .int rf]))]] s.heap := hdP_ex (Bs := hdL Γ h) hP
  have hD : WD A [[(h.e0, .inr (1, [.ref h.e1, .ref h.e2, .ref h.e3, .ref h.e4, .ref h.e5, .int h.S.td, .int h.S.pk, .int h.S.pd]))], [(h.e1, .inr (11, [.int h.m0, .ref h.x0.1, .int (nI h.n)]))], (alA Γ h.x0), (cowsB h.n h.ca h.S.cv), [(h.e2, .inr (11, [.int h.m1, .ref h.x1.1, .int (nI h.nr)]))], (alA Γ h.x1), [(h.e3, .inr (11, [.int h.m2, .ref h.x2.1, .int (nI h.S.np)]))], (alA Γ h.x2), [(h.e4, .inr (2, [.int h.S.li, .int h.S.ce]))], [(h.e5, .inl (Γ.2.1 0, 6, .inl h.se))], [(b, .inr (0, [.ref h.e0, .ref tt, .ref sv, .int zs, .ref da, .ref tx, .ref wr, .int fl, .int rf]))]] := hdD_ex (Bs := hdL Γ h) hD
  have hal0 : alI Γ h.x0 h.n h.ca := ho.1
  have hn8 : h.n ≤ 8 := ho.2.1
  have hal1 : alI Γ h.x1 h.nr h.ra := ho.2.2.1
  have nr4 : h.nr ≤ 4 := ho.2.2.2.1
  have hrw : ∀ k, k < h.nr → (h.ra k, rowE (h.rv k)) ∈ P := ho.2.2.2.2.1
  have hal2 : alI Γ h.x2 h.S.np h.pa := ho.2.2.2.2.2.1
  have np60 : h.S.np ≤ 60 := ho.2.2.2.2.2.2.1
  have hpk : ∀ k, k < h.S.np → (h.pa k, pickE (h.S.pv k)) ∈ P := ho.2.2.2.2.2.2.2.1
  have hcb : ∀ k, k < h.n → cowB (h.S.cv k) := ho.2.2.2.2.2.2.2.2
  refine lv_aload_n hx hb dX1_setCells_0 rfl (lv_at hl 0 rfl) ?_
  refine lv_aload_n hx hb dX1_setCells_1 rfl (lv_at hl 0 rfl) ?_
  refine b_get (C := RX1) (T := TX1) (N := 9) (v := .ref h.e0) hx hb hts in_X1 hown hK (b_at (k := 10) hP rfl) rfl 0 (by decide) q248 (fun _ h9 => h9) rfl dX1_setCells_2 ?_
  refine lv_iload_n hx hb dX1_setCells_5 rfl (lv_at hl 1 rfl) ?_
  refine b_calli (br := [[(h.e2, .inr (11, [.int h.m1, .ref h.x1.1, .int (nI h.nr)]))], (alA Γ h.x1), [(h.e3, .inr (11, [.int h.m2, .ref h.x2.1, .int (nI h.S.np)]))], (alA Γ h.x2), [(h.e4, .inr (2, [.int h.S.li, .int h.S.ce]))], [(h.e5, .inl (Γ.2.1 0, 6, .inl h.se))], [(b, .inr (0, [.ref h.e0, .ref tt, .ref sv, .int zs, .ref da, .ref tx, .ref wr, .int fl, .int rf]))]]) (b_runV ⟨hx, hb, hml, hown, hts⟩ (mt_Hd_refusesCow l Γ _ h.e0 h.e1 h.e2 h.e3 h.e4 h.e5 h.S.td h.S.pk h.S.pd h.x0 h.m0 h.n h.ca h.S.cv c (by assumption) (by first | assumption | omega)) (lw_V q1008 q1009 q1010 q63 q1011) rfl rfl 1 (by decide +kernel) ⟨(Nat.le_of_ble_eq_true rfl), (Nat.le_of_ble_eq_true rfl)⟩ (c_pre hP hD hS hA hK hE [0, 1, 2, 3] rfl rfl ro_nil) (recv_at (q := (RX2, TX2, 8)) hK (b_at (k := 0) hP rfl) rfl) rfl hl.1 rfl (Nat.le_of_ble_eq_true rfl) dX1_setCells_6 ⟨(Nat.le_of_ble_eq_true rfl), (Nat.le_of_ble_eq_true rfl)⟩) hP hD hS hA [0, 1, 2, 3] [4, 5, 6, 7, 8, 9, 10] rfl rfl rfl (fun r_1 u_1 H locs hw_1 hP hD hS _ => ?_)
  obtain ⟨rfl, rfl⟩ := hw_1
  have hP : WP Γ [[(h.e0, .inr (1, [.ref h.e1, .ref h.e2, .ref h.e3, .ref h.e4, .ref h.e5, .int h.S.td, .int h.S.pk, .int h.S.pd]))], [(h.e1, .inr (11, [.int h.m0, .ref h.x0.1, .int (nI h.n)]))], (alA Γ h.x0), (cowsB h.n h.ca h.S.cv), [(h.e2, .inr (11, [.int h.m1, .ref h.x1.1, .int (nI h.nr)]))], (alA Γ h.x1), [(h.e3, .inr (11, [.int h.m2, .ref h.x2.1, .int (nI h.S.np)]))], (alA Γ h.x2), [(h.e4, .inr (2, [.int h.S.li, .int h.S.ce]))], [(h.e5, .inl (Γ.2.1 0, 6, .inl h.se))], [(b, .inr (0, [.ref h.e0, .ref tt, .ref sv, .int zs, .ref da, .ref tx, .ref wr, .int fl, .int rf]))]] H := hP
  have hD : WD A [[(h.e0, .inr (1, [.ref h.e1, .ref h.e2, .ref h.e3, .ref h.e4, .ref h.e5, .int h.S.td, .int h.S.pk, .int h.S.pd]))], [(h.e1, .inr (11, [.int h.m0, .ref h.x0.1, .int (nI h.n)]))], (alA Γ h.x0), (cowsB h.n h.ca h.S.cv), [(h.e2, .inr (11, [.int h.m1, .ref h.x1.1, .int (nI h.nr)]))], (alA Γ h.x1), [(h.e3, .inr (11, [.int h.m2, .ref h.x2.1, .int (nI h.S.np)]))], (alA Γ h.x2), [(h.e4, .inr (2, [.int h.S.li, .int h.S.ce]))], [(h.e5, .inl (Γ.2.1 0, 6, .inl h.se))], [(b, .inr (0, [.ref h.e0, .ref tt, .ref sv, .int zs, .ref da, .ref tx, .ref wr, .int fl, .int rf]))]] := hD
  refine b_callv (br := [[(h.e0, .inr (1, [.ref h.e1, .ref h.e2, .ref h.e3, .ref h.e4, .ref h.e5, .int h.S.td, .int h.S.pk, .int h.S.pd]))], [(h.e1, .inr (11, [.int h.m0, .ref h.x0.1, .int (nI h.n)]))], (alA Γ h.x0), (cowsB h.n h.ca h.S.cv), [(h.e2, .inr (11, [.int h.m1, .ref h.x1.1, .int (nI h.nr)]))], (alA Γ h.x1), [(h.e3, .inr (11, [.int h.m2, .ref h.x2.1, .int (nI h.S.np)]))], (alA Γ h.x2), [(h.e4, .inr (2, [.int h.S.li, .int h.S.ce]))], [(h.e5, .inl (Γ.2.1 0, 6, .inl h.se))]]) (b_runV ⟨hx, hb, hml, hown, hts⟩ (mt_DB_checkSupported_ok l Γ _ b h tt sv zs da tx wr fl rf (rfCow h.n h.S.cv c) hR) (lw_V q977 q979 qs9 q62 q980) rfl rfl 1 (by decide +kernel) ⟨(Nat.le_of_ble_eq_true rfl), (Nat.le_of_ble_eq_true rfl)⟩ (c_pre hP hD hS hA hK hE [10] rfl rfl ro_nil) (recv_at (q := (RX1, TX1, 9)) hK (b_at (k := 10) hP rfl) rfl) rfl hl.1 rfl (Nat.le_of_ble_eq_true rfl) dX1_setCells_9 ⟨(Nat.le_of_ble_eq_true rfl), (Nat.le_of_ble_eq_true rfl)⟩) hP hD hS hA [10] [0, 1, 2, 3, 4, 5, 6, 7, 8, 9] rfl rfl rfl (fun u_2 H locs hw_2 hP hD hS _ => ?_)
  obtain rfl := hw_2
  have hP : WP Γ [[(b, .inr (0, [.ref h.e0, .ref tt, .ref sv, .int zs, .ref da, .ref tx, .ref wr, .int fl, .int rf]))], [(h.e0, .inr (1, [.ref h.e1, .ref h.e2, .ref h.e3, .ref h.e4, .ref h.e5, .int h.S.td, .int h.S.pk, .int h.S.pd]))], [(h.e1, .inr (11, [.int h.m0, .ref h.x0.1, .int (nI h.n)]))], (alA Γ h.x0), (cowsB h.n h.ca h.S.cv), [(h.e2, .inr (11, [.int h.m1, .ref h.x1.1, .int (nI h.nr)]))], (alA Γ h.x1), [(h.e3, .inr (11, [.int h.m2, .ref h.x2.1, .int (nI h.S.np)]))], (alA Γ h.x2), [(h.e4, .inr (2, [.int h.S.li, .int h.S.ce]))], [(h.e5, .inl (Γ.2.1 0, 6, .inl h.se))]] H := hP
  have hD : WD A [[(b, .inr (0, [.ref h.e0, .ref tt, .ref sv, .int zs, .ref da, .ref tx, .ref wr, .int fl, .int rf]))], [(h.e0, .inr (1, [.ref h.e1, .ref h.e2, .ref h.e3, .ref h.e4, .ref h.e5, .int h.S.td, .int h.S.pk, .int h.S.pd]))], [(h.e1, .inr (11, [.int h.m0, .ref h.x0.1, .int (nI h.n)]))], (alA Γ h.x0), (cowsB h.n h.ca h.S.cv), [(h.e2, .inr (11, [.int h.m1, .ref h.x1.1, .int (nI h.nr)]))], (alA Γ h.x1), [(h.e3, .inr (11, [.int h.m2, .ref h.x2.1, .int (nI h.S.np)]))], (alA Γ h.x2), [(h.e4, .inr (2, [.int h.S.li, .int h.S.ce]))], [(h.e5, .inl (Γ.2.1 0, 6, .inl h.se))]] := hD
  refine lv_iload_n hx hb dX1_setCells_12 rfl (lv_at hl 2 rfl) ?_
  refine lv_iconst (v := 0) hx hb dX1_setCells_13 (by decide) ?_
  refine lv_sipush (v := 999) hx hb dX1_setCells_14 (by decide) ?_
  refine b_calli (br := [[(b, .inr (0, [.ref h.e0, .ref tt, .ref sv, .int zs, .ref da, .ref tx, .ref wr, .int fl, .int rf]))], [(h.e0, .inr (1, [.ref h.e1, .ref h.e2, .ref h.e3, .ref h.e4, .ref h.e5, .int h.S.td, .int h.S.pk, .int h.S.pd]))], [(h.e1, .inr (11, [.int h.m0, .ref h.x0.1, .int (nI h.n)]))], (alA Γ h.x0), (cowsB h.n h.ca h.S.cv), [(h.e2, .inr (11, [.int h.m1, .ref h.x1.1, .int (nI h.nr)]))], (alA Γ h.x1), [(h.e3, .inr (11, [.int h.m2, .ref h.x2.1, .int (nI h.S.np)]))], (alA Γ h.x2), [(h.e4, .inr (2, [.int h.S.li, .int h.S.ce]))], [(h.e5, .inl (Γ.2.1 0, 6, .inl h.se))]]) (b_runS ⟨hx, hb, hml, hown, hts⟩ (mt_DB_in l Γ _ v 0 999) (lw_S q806 q807 q62 q808) rfl rfl 3 (by decide +kernel) ⟨(Nat.le_of_ble_eq_true rfl), (Nat.le_of_ble_eq_true rfl)⟩ (c_pre hP hD hS hA hK hE [] rfl rfl ro_nil) rfl hl.1 rfl (Nat.le_of_ble_eq_true rfl) dX1_setCells_17 ⟨(Nat.le_of_ble_eq_true rfl), (Nat.le_of_ble_eq_true rfl)⟩) hP hD hS hA [] [0, 1, 2, 3, 4, 5, 6, 7, 8, 9, 10] rfl rfl rfl (fun r_3 u_3 H locs hw_3 hP hD hS _ => ?_)
  obtain ⟨rfl, rfl⟩ := hw_3
  have hP : WP Γ [[(b, .inr (0, [.ref h.e0, .ref tt, .ref sv, .int zs, .ref da, .ref tx, .ref wr, .int fl, .int rf]))], [(h.e0, .inr (1, [.ref h.e1, .ref h.e2, .ref h.e3, .ref h.e4, .ref h.e5, .int h.S.td, .int h.S.pk, .int h.S.pd]))], [(h.e1, .inr (11, [.int h.m0, .ref h.x0.1, .int (nI h.n)]))], (alA Γ h.x0), (cowsB h.n h.ca h.S.cv), [(h.e2, .inr (11, [.int h.m1, .ref h.x1.1, .int (nI h.nr)]))], (alA Γ h.x1), [(h.e3, .inr (11, [.int h.m2, .ref h.x2.1, .int (nI h.S.np)]))], (alA Γ h.x2), [(h.e4, .inr (2, [.int h.S.li, .int h.S.ce]))], [(h.e5, .inl (Γ.2.1 0, 6, .inl h.se))]] H := hP
  have hD : WD A [[(b, .inr (0, [.ref h.e0, .ref tt, .ref sv, .int zs, .ref da, .ref tx, .ref wr, .int fl, .int rf]))], [(h.e0, .inr (1, [.ref h.e1, .ref h.e2, .ref h.e3, .ref h.e4, .ref h.e5, .int h.S.td, .int h.S.pk, .int h.S.pd]))], [(h.e1, .inr (11, [.int h.m0, .ref h.x0.1, .int (nI h.n)]))], (alA Γ h.x0), (cowsB h.n h.ca h.S.cv), [(h.e2, .inr (11, [.int h.m1, .ref h.x1.1, .int (nI h.nr)]))], (alA Γ h.x1), [(h.e3, .inr (11, [.int h.m2, .ref h.x2.1, .int (nI h.S.np)]))], (alA Γ h.x2), [(h.e4, .inr (2, [.int h.S.li, .int h.S.ce]))], [(h.e5, .inl (Γ.2.1 0, 6, .inl h.se))]] := hD
  have hP : WP Γ [[(h.e0, .inr (1, [.ref h.e1, .ref h.e2, .ref h.e3, .ref h.e4, .ref h.e5, .int h.S.td, .int h.S.pk, .int h.S.pd]))], [(h.e1, .inr (11, [.int h.m0, .ref h.x0.1, .int (nI h.n)]))], (alA Γ h.x0), (cowsB h.n h.ca h.S.cv), [(h.e2, .inr (11, [.int h.m1, .ref h.x1.1, .int (nI h.nr)]))], (alA Γ h.x1), [(h.e3, .inr (11, [.int h.m2, .ref h.x2.1, .int (nI h.S.np)]))], (alA Γ h.x2), [(h.e4, .inr (2, [.int h.S.li, .int h.S.ce]))], [(h.e5, .inl (Γ.2.1 0, 6, .inl h.se))], [(b, .inr (0, [.ref h.e0, .ref tt, .ref sv, .int zs, .ref da, .ref tx, .ref wr, .int fl, .int rf]))]] H := bP_sel hP [1, 2, 3, 4, 5, 6, 7, 8, 9, 10, 0] rfl
  have hD : WD A [[(h.e0, .inr (1, [.ref h.e1, .ref h.e2, .ref h.e3, .ref h.e4, .ref h.e5, .int h.S.td, .int h.S.pk, .int h.S.pd]))], [(h.e1, .inr (11, [.int h.m0, .ref h.x0.1, .int (nI h.n)]))], (alA Γ h.x0), (cowsB h.n h.ca h.S.cv), [(h.e2, .inr (11, [.int h.m1, .ref h.x1.1, .int (nI h.nr)]))], (alA Γ h.x1), [(h.e3, .inr (11, [.int h.m2, .ref h.x2.1, .int (nI h.S.np)]))], (alA Γ h.x2), [(h.e4, .inr (2, [.int h.S.li, .int h.S.ce]))], [(h.e5, .inl (Γ.2.1 0, 6, .inl h.se))], [(b, .inr (0, [.ref h.e0, .ref tt, .ref sv, .int zs, .ref da, .ref tx, .ref wr, .int fl, .int rf]))]] := bD_sel hD [1, 2, 3, 4, 5, 6, 7, 8, 9, 10, 0] rfl rfl
  have hP : WP Γ [(hdB Γ h), [(b, .inr (0, [.ref h.e0, .ref tt, .ref sv, .int zs, .ref da, .ref tx, .ref wr, .int fl, .int rf]))]] H := (hdP_un (Bs := hdL Γ h) hP)
  have hD : WD A [(hdB Γ h), [(b, .inr (0, [.ref h.e0, .ref tt, .ref sv, .int zs, .ref da, .ref tx, .ref wr, .int fl, .int rf]))]] := (hdD_un (Bs := hdL Γ h) hD)
  refine b_callx (br := [(hdB Γ h), [(b, .inr (0, [.ref h.e0, .ref tt, .ref sv, .int zs, .ref da, .ref tx, .ref wr, .int fl, .int rf]))]]) (b_runSx ⟨hx, hb, hml, hown, hts⟩ (mt_DB_check_x l Γ _ (inC v 0 999) hnt (by first | assumption | rfl)) (lw_S q809 q810 q62 q811) rfl rfl 1 (by decide +kernel) ⟨(Nat.le_of_ble_eq_true rfl), (Nat.le_of_ble_eq_true rfl)⟩ (c_pre hP hD hS hA hK hE [] rfl rfl ro_nil) rfl hl.1 rfl (Nat.le_of_ble_eq_true rfl) dX1_setCells_20 ⟨(Nat.le_of_ble_eq_true rfl), (Nat.le_of_ble_eq_true rfl)⟩) hP hD hS hA [] [0, 1] rfl rfl rfl (fun q_4 ce_4 u_4 H locs hw_4 hP hD hS _ hce_4 hcv_4 hcl_4 => ?_)
  obtain rfl := hw_4
  have hP : WP Γ [(hdB Γ h), [(b, .inr (0, [.ref h.e0, .ref tt, .ref sv, .int zs, .ref da, .ref tx, .ref wr, .int fl, .int rf]))]] H := hP
  have hD : WD A [(hdB Γ h), [(b, .inr (0, [.ref h.e0, .ref tt, .ref sv, .int zs, .ref da, .ref tx, .ref wr, .int fl, .int rf]))]] := hD
  have hP : WP Γ [[(b, .inr (0, [.ref h.e0, .ref tt, .ref sv, .int zs, .ref da, .ref tx, .ref wr, .int fl, .int rf]))], (hdB Γ h)] H := bP_sel hP [1, 0] rfl
  have hD : WD A [[(b, .inr (0, [.ref h.e0, .ref tt, .ref sv, .int zs, .ref da, .ref tx, .ref wr, .int fl, .int rf]))], (hdB Γ h)] := bD_sel hD [1, 0] rfl rfl
  exact b_outx hlocks (fun x hx9 => (ht9 x hx9).elim) hP hD hS hce_4 hcv_4 hcl_4 (by first | rfl | (simp; done)) (Nat.le_of_ble_eq_true rfl) (Nat.le_of_ble_eq_true rfl)
set_option maxHeartbeats 4000000 in
set_option maxRecDepth 100000 in
theorem mt_DB_refusal_x (l : Launch) (Γ : GE) (sz : Nat) (b : Nat) (h : HB) (tt : Nat) (sv : Nat) (zs : Int32) (da : Nat) (tx : Nat) (wr : Nat) (fl : Int32) (rf : Int32) (hnt : l.stackTraces = false) (hx9 : ¬ 0 < rf) : KMX l yX1_refusal cX1_refusal 1 (some FieldType.int) Γ 7 110 1 6 [.ref b] [[(b, .inr (0, [.ref h.e0, .ref tt, .ref sv, .int zs, .ref da, .ref tx, .ref wr, .int fl, .int rf]))]] [] sz "java/util/NoSuchElementException" (fun q_ u_ => u_ = [[(b, .inr (0, [.ref h.e0, .ref tt, .ref sv, .int zs, .ref da, .ref tx, .ref wr, .int fl, .int rf]))]]) := by
  refine K_introX (by decide) (Nat.le_of_ble_eq_true rfl) ?_
  intro pr_ ev_ s mi_ below meth cd_ A ls hx hb hr hml hown hts hlocks hname hK hE hRo hP hD hA hS hsz hl ht9
  have hl : lv_has ls 1 [(0, .ref b)] := hl
  have hown : s.vm.findClass RX1 = some mi_.cls := hown
  refine lv_aload_n hx hb dX1_refusal_0 rfl (lv_at hl 0 rfl) ?_
  refine b_get (C := RX1) (T := TX1) (N := 9) (v := .int rf) hx hb hts in_X1 hown hK (b_at (k := 0) hP rfl) rfl 8 (by decide) q256 (fun _ h9 => h9) rfl dX1_refusal_1 ?_
  refine lv_if_le (tgt := 11) hx hb dX1_refusal_4 (by decide) (fun c_1 => ?_) (fun c_1 => ?_)
  · -- 4 taken
    have d_1 := Int32.not_lt.mpr c_1
    refine lv_iconst (v := 0) hx hb dX1_refusal_11 (by decide) ?_
    refine b_callx (br := [[(b, .inr (0, [.ref h.e0, .ref tt, .ref sv, .int zs, .ref da, .ref tx, .ref wr, .int fl, .int rf]))]]) (b_runSx ⟨hx, hb, hml, hown, hts⟩ (mt_DB_checkElement_x l Γ _ 0 hnt (by first | assumption | rfl)) (lw_S q1172 q1173 q62 q1174) rfl rfl 1 (by decide +kernel) ⟨(Nat.le_of_ble_eq_true rfl), (Nat.le_of_ble_eq_true rfl)⟩ (c_pre hP hD hS hA hK hE [] rfl rfl ro_nil) rfl hl.1 rfl (Nat.le_of_ble_eq_true rfl) dX1_refusal_12 ⟨(Nat.le_of_ble_eq_true rfl), (Nat.le_of_ble_eq_true rfl)⟩) hP hD hS hA [] [0] rfl rfl rfl (fun q_2 ce_2 u_2 H locs hw_2 hP hD hS _ hce_2 hcv_2 hcl_2 => ?_)
    obtain rfl := hw_2
    have hP : WP Γ [[(b, .inr (0, [.ref h.e0, .ref tt, .ref sv, .int zs, .ref da, .ref tx, .ref wr, .int fl, .int rf]))]] H := hP
    have hD : WD A [[(b, .inr (0, [.ref h.e0, .ref tt, .ref sv, .int zs, .ref da, .ref tx, .ref wr, .int fl, .int rf]))]] := hD
    exact b_outx hlocks (fun x hx9 => (ht9 x hx9).elim) hP hD hS hce_2 hcv_2 hcl_2 (by first | with_reducible rfl | (simp [c_1, d_1]; done) | rfl) (Nat.le_of_ble_eq_true rfl) (Nat.le_of_ble_eq_true rfl)
  · -- 4 not taken
    have d_1 := Int32.not_le.mp c_1
    refine lv_iconst (v := 1) hx hb dX1_refusal_7 (by decide) ?_
    refine lv_goto (tgt := 12) hx hb dX1_refusal_8 (by decide) ?_
    exact absurd (by first | assumption | exact Int32.not_le.mp (by assumption)) hx9
set_option maxHeartbeats 4000000 in
set_option maxRecDepth 100000 in
theorem mt_DB_pass_x (l : Launch) (Γ : GE) (sz : Nat) (b : Nat) (h : HB) (tt : Nat) (sv : Nat) (zs : Int32) (da : Nat) (tx : Nat) (wr : Nat) (fl : Int32) (rf : Int32) (P : va_W) (d : Int32) (hnt : l.stackTraces = false) (ho : hdOk Γ P h) (hx9 : d < 1 ∨ cpS h.S.td d = 0) : KMX l yX1_pass cX1_pass 2 (some FieldType.int) Γ 7 110 1 6 [.ref b, .int d] [[(b, .inr (0, [.ref h.e0, .ref tt, .ref sv, .int zs, .ref da, .ref tx, .ref wr, .int fl, .int rf]))], (hdB Γ h)] [P] sz "java/lang/IllegalArgumentException" (fun q_ u_ => u_ = [[(b, .inr (0, [.ref h.e0, .ref tt, .ref sv, .int zs, .ref da, .ref tx, .ref wr, .int fl, .int rf]))], (hdB Γ h)]) := by
  refine K_introX (by decide) (Nat.le_of_ble_eq_true rfl) ?_
  intro pr_ ev_ s mi_ below meth cd_ A ls hx hb hr hml hown hts hlocks hname hK hE hRo hP hD hA hS hsz hl ht9
  have hl : lv_has ls 2 [(0, .ref b), (1, .int d)] := hl
  have hown : s.vm.findClass RX1 = some mi_.cls := hown
  refine lv_iload_n hx hb dX1_pass_0 rfl (lv_at hl 1 rfl) ?_
  refine lv_iconst (v := 1) hx hb dX1_pass_1 (by decide) ?_
  refine lv_icmp_lt (tgt := 17) hx hb dX1_pass_2 (by decide) (fun c_1 => ?_) (fun c_1 => ?_)
  · -- 2 taken
    refine lv_iconst (v := 0) hx hb dX1_pass_17 (by decide) ?_
    refine b_callx (br := [[(b, .inr (0, [.ref h.e0, .ref tt, .ref sv, .int zs, .ref da, .ref tx, .ref wr, .int fl, .int rf]))], (hdB Γ h)]) (b_runSx ⟨hx, hb, hml, hown, hts⟩ (mt_DB_check_x l Γ _ 0 hnt (by first | assumption | rfl)) (lw_S q809 q810 q62 q811) rfl rfl 1 (by decide +kernel) ⟨(Nat.le_of_ble_eq_true rfl), (Nat.le_of_ble_eq_true rfl)⟩ (c_pre hP hD hS hA hK hE [] rfl rfl ro_nil) rfl hl.1 rfl (Nat.le_of_ble_eq_true rfl) dX1_pass_18 ⟨(Nat.le_of_ble_eq_true rfl), (Nat.le_of_ble_eq_true rfl)⟩) hP hD hS hA [] [0, 1] rfl rfl rfl (fun q_2 ce_2 u_2 H locs hw_2 hP hD hS _ hce_2 hcv_2 hcl_2 => ?_)
    obtain rfl := hw_2
    have hP : WP Γ [[(b, .inr (0, [.ref h.e0, .ref tt, .ref sv, .int zs, .ref da, .ref tx, .ref wr, .int fl, .int rf]))], (hdB Γ h)] H := hP
    have hD : WD A [[(b, .inr (0, [.ref h.e0, .ref tt, .ref sv, .int zs, .ref da, .ref tx, .ref wr, .int fl, .int rf]))], (hdB Γ h)] := hD
    exact b_outx hlocks (fun x hx9 => (ht9 x hx9).elim) hP hD hS hce_2 hcv_2 hcl_2 (by first | with_reducible rfl | (simp [c_1]; done) | rfl) (Nat.le_of_ble_eq_true rfl) (Nat.le_of_ble_eq_true rfl)
  · -- 2 not taken
    refine lv_aload_n hx hb dX1_pass_5 rfl (lv_at hl 0 rfl) ?_
    refine lv_iload_n hx hb dX1_pass_6 rfl (lv_at hl 1 rfl) ?_
    refine b_calli (br := []) (b_runV ⟨hx, hb, hml, hown, hts⟩ (mt_DB_canPass l Γ _ b h tt sv zs da tx wr fl rf P d (by assumption)) (lw_V q1184 q1186 qs13 q62 q1187) rfl rfl 1 (by decide +kernel) ⟨(Nat.le_of_ble_eq_true rfl), (Nat.le_of_ble_eq_true rfl)⟩ (c_pre hP hD hS hA hK hE [0, 1] rfl rfl (ro_pass (ro_sel (ro2 := [P]) hRo [0] rfl) hD hS hA [0, 1] rfl)) (recv_at (q := (RX1, TX1, 9)) hK (b_at (k := 0) hP rfl) rfl) rfl hl.1 rfl (Nat.le_of_ble_eq_true rfl) dX1_pass_7 ⟨(Nat.le_of_ble_eq_true rfl), (Nat.le_of_ble_eq_true rfl)⟩) hP hD hS hA [0, 1] [] rfl rfl rfl (fun r_3 u_3 H locs hw_3 hP hD hS _ => ?_)
    obtain ⟨rfl, rfl⟩ := hw_3
    have hP : WP Γ [[(b, .inr (0, [.ref h.e0, .ref tt, .ref sv, .int zs, .ref da, .ref tx, .ref wr, .int fl, .int rf]))], (hdB Γ h)] H := hP
    have hD : WD A [[(b, .inr (0, [.ref h.e0, .ref tt, .ref sv, .int zs, .ref da, .ref tx, .ref wr, .int fl, .int rf]))], (hdB Γ h)] := hD
    refine lv_if_eq (tgt := 17) hx hb dX1_pass_10 (by decide) (fun c_4 => ?_) (fun c_4 => ?_)
    · -- 10 taken
      refine lv_iconst (v := 0) hx hb dX1_pass_17 (by decide) ?_
      refine b_callx (br := [[(b, .inr (0, [.ref h.e0, .ref tt, .ref sv, .int zs, .ref da, .ref tx, .ref wr, .int fl, .int rf]))], (hdB Γ h)]) (b_runSx ⟨hx, hb, hml, hown, hts⟩ (mt_DB_check_x l Γ _ 0 hnt (by first | assumption | rfl)) (lw_S q809 q810 q62 q811) rfl rfl 1 (by decide +kernel) ⟨(Nat.le_of_ble_eq_true rfl), (Nat.le_of_ble_eq_true rfl)⟩ (c_pre hP hD hS hA hK hE [] rfl rfl ro_nil) rfl hl.1 rfl (Nat.le_of_ble_eq_true rfl) dX1_pass_18 ⟨(Nat.le_of_ble_eq_true rfl), (Nat.le_of_ble_eq_true rfl)⟩) hP hD hS hA [] [0, 1] rfl rfl rfl (fun q_5 ce_5 u_5 H locs hw_5 hP hD hS _ hce_5 hcv_5 hcl_5 => ?_)
      obtain rfl := hw_5
      have hP : WP Γ [[(b, .inr (0, [.ref h.e0, .ref tt, .ref sv, .int zs, .ref da, .ref tx, .ref wr, .int fl, .int rf]))], (hdB Γ h)] H := hP
      have hD : WD A [[(b, .inr (0, [.ref h.e0, .ref tt, .ref sv, .int zs, .ref da, .ref tx, .ref wr, .int fl, .int rf]))], (hdB Γ h)] := hD
      exact b_outx hlocks (fun x hx9 => (ht9 x hx9).elim) hP hD hS hce_5 hcv_5 hcl_5 (by first | with_reducible rfl | (simp [c_1, c_4]; done) | rfl) (Nat.le_of_ble_eq_true rfl) (Nat.le_of_ble_eq_true rfl)
    · -- 10 not taken
      refine lv_iconst (v := 1) hx hb dX1_pass_13 (by decide) ?_
      refine lv_goto (tgt := 18) hx hb dX1_pass_14 (by decide) ?_
      rcases hx9 with h9 | h9 <;> exact absurd h9 (by assumption)
set_option maxHeartbeats 4000000 in
set_option maxRecDepth 100000 in
theorem mt_DB_forecast_x (l : Launch) (Γ : GE) (sz : Nat) (b : Nat) (h : HB) (tt : Nat) (sv : Nat) (zs : Int32) (da : Nat) (tx : Nat) (wr : Nat) (fl : Int32) (rf : Int32) (P : va_W) (d : Int32) (hnt : l.stackTraces = false) (ho : hdOk Γ P h) (hx9 : d < 0 ∨ cpS h.S.td d = 0) : KMX l yX1_forecast cX1_forecast 2 (some FieldType.int) Γ 7 110 1 6 [.ref b, .int d] [[(b, .inr (0, [.ref h.e0, .ref tt, .ref sv, .int zs, .ref da, .ref tx, .ref wr, .int fl, .int rf]))], (hdB Γ h)] [P] sz "java/lang/IllegalArgumentException" (fun q_ u_ => u_ = [[(b, .inr (0, [.ref h.e0, .ref tt, .ref sv, .int zs, .ref da, .ref tx, .ref wr, .int fl, .int rf]))], (hdB Γ h)]) := by
  refine K_introX (by decide) (Nat.le_of_ble_eq_true rfl) ?_
  intro pr_ ev_ s mi_ below meth cd_ A ls hx hb hr hml hown hts hlocks hname hK hE hRo hP hD hA hS hsz hl ht9
  have hl : lv_has ls 2 [(0, .ref b), (1, .int d)] := hl
  have hown : s.vm.findClass RX1 = some mi_.cls := hown
  refine lv_iload_n hx hb dX1_forecast_0 rfl (lv_at hl 1 rfl) ?_
  refine lv_if_lt (tgt := 16) hx hb dX1_forecast_1 (by decide) (fun c_1 => ?_) (fun c_1 => ?_)
  · -- 1 taken
    refine lv_iconst (v := 0) hx hb dX1_forecast_16 (by decide) ?_
    refine b_callx (br := [[(b, .inr (0, [.ref h.e0, .ref tt, .ref sv, .int zs, .ref da, .ref tx, .ref wr, .int fl, .int rf]))], (hdB Γ h)]) (b_runSx ⟨hx, hb, hml, hown, hts⟩ (mt_DB_check_x l Γ _ 0 hnt (by first | assumption | rfl)) (lw_S q809 q810 q62 q811) rfl rfl 1 (by decide +kernel) ⟨(Nat.le_of_ble_eq_true rfl), (Nat.le_of_ble_eq_true rfl)⟩ (c_pre hP hD hS hA hK hE [] rfl rfl ro_nil) rfl hl.1 rfl (Nat.le_of_ble_eq_true rfl) dX1_forecast_17 ⟨(Nat.le_of_ble_eq_true rfl), (Nat.le_of_ble_eq_true rfl)⟩) hP hD hS hA [] [0, 1] rfl rfl rfl (fun q_2 ce_2 u_2 H locs hw_2 hP hD hS _ hce_2 hcv_2 hcl_2 => ?_)
    obtain rfl := hw_2
    have hP : WP Γ [[(b, .inr (0, [.ref h.e0, .ref tt, .ref sv, .int zs, .ref da, .ref tx, .ref wr, .int fl, .int rf]))], (hdB Γ h)] H := hP
    have hD : WD A [[(b, .inr (0, [.ref h.e0, .ref tt, .ref sv, .int zs, .ref da, .ref tx, .ref wr, .int fl, .int rf]))], (hdB Γ h)] := hD
    exact b_outx hlocks (fun x hx9 => (ht9 x hx9).elim) hP hD hS hce_2 hcv_2 hcl_2 (by first | with_reducible rfl | (simp [c_1]; done) | rfl) (Nat.le_of_ble_eq_true rfl) (Nat.le_of_ble_eq_true rfl)
  · -- 1 not taken
    refine lv_aload_n hx hb dX1_forecast_4 rfl (lv_at hl 0 rfl) ?_
    refine lv_iload_n hx hb dX1_forecast_5 rfl (lv_at hl 1 rfl) ?_
    refine b_calli (br := []) (b_runV ⟨hx, hb, hml, hown, hts⟩ (mt_DB_canPass l Γ _ b h tt sv zs da tx wr fl rf P d (by assumption)) (lw_V q1184 q1186 qs13 q62 q1187) rfl rfl 1 (by decide +kernel) ⟨(Nat.le_of_ble_eq_true rfl), (Nat.le_of_ble_eq_true rfl)⟩ (c_pre hP hD hS hA hK hE [0, 1] rfl rfl (ro_pass (ro_sel (ro2 := [P]) hRo [0] rfl) hD hS hA [0, 1] rfl)) (recv_at (q := (RX1, TX1, 9)) hK (b_at (k := 0) hP rfl) rfl) rfl hl.1 rfl (Nat.le_of_ble_eq_true rfl) dX1_forecast_6 ⟨(Nat.le_of_ble_eq_true rfl), (Nat.le_of_ble_eq_true rfl)⟩) hP hD hS hA [0, 1] [] rfl rfl rfl (fun r_3 u_3 H locs hw_3 hP hD hS _ => ?_)
    obtain ⟨rfl, rfl⟩ := hw_3
    have hP : WP Γ [[(b, .inr (0, [.ref h.e0, .ref tt, .ref sv, .int zs, .ref da, .ref tx, .ref wr, .int fl, .int rf]))], (hdB Γ h)] H := hP
    have hD : WD A [[(b, .inr (0, [.ref h.e0, .ref tt, .ref sv, .int zs, .ref da, .ref tx, .ref wr, .int fl, .int rf]))], (hdB Γ h)] := hD
    refine lv_if_eq (tgt := 16) hx hb dX1_forecast_9 (by decide) (fun c_4 => ?_) (fun c_4 => ?_)
    · -- 9 taken
      refine lv_iconst (v := 0) hx hb dX1_forecast_16 (by decide) ?_
      refine b_callx (br := [[(b, .inr (0, [.ref h.e0, .ref tt, .ref sv, .int zs, .ref da, .ref tx, .ref wr, .int fl, .int rf]))], (hdB Γ h)]) (b_runSx ⟨hx, hb, hml, hown, hts⟩ (mt_DB_check_x l Γ _ 0 hnt (by first | assumption | rfl)) (lw_S q809 q810 q62 q811) rfl rfl 1 (by decide +kernel) ⟨(Nat.le_of_ble_eq_true rfl), (Nat.le_of_ble_eq_true rfl)⟩ (c_pre hP hD hS hA hK hE [] rfl rfl ro_nil) rfl hl.1 rfl (Nat.le_of_ble_eq_true rfl) dX1_forecast_17 ⟨(Nat.le_of_ble_eq_true rfl), (Nat.le_of_ble_eq_true rfl)⟩) hP hD hS hA [] [0, 1] rfl rfl rfl (fun q_5 ce_5 u_5 H locs hw_5 hP hD hS _ hce_5 hcv_5 hcl_5 => ?_)
      obtain rfl := hw_5
      have hP : WP Γ [[(b, .inr (0, [.ref h.e0, .ref tt, .ref sv, .int zs, .ref da, .ref tx, .ref wr, .int fl, .int rf]))], (hdB Γ h)] H := hP
      have hD : WD A [[(b, .inr (0, [.ref h.e0, .ref tt, .ref sv, .int zs, .ref da, .ref tx, .ref wr, .int fl, .int rf]))], (hdB Γ h)] := hD
      exact b_outx hlocks (fun x hx9 => (ht9 x hx9).elim) hP hD hS hce_5 hcv_5 hcl_5 (by first | with_reducible rfl | (simp [c_1, c_4]; done) | rfl) (Nat.le_of_ble_eq_true rfl) (Nat.le_of_ble_eq_true rfl)
    · -- 9 not taken
      refine lv_iconst (v := 1) hx hb dX1_forecast_12 (by decide) ?_
      refine lv_goto (tgt := 17) hx hb dX1_forecast_13 (by decide) ?_
      rcases hx9 with h9 | h9 <;> exact absurd h9 (by assumption)
set_option maxHeartbeats 4000000 in
set_option maxRecDepth 100000 in
theorem mt_DB_account_x (l : Launch) (Γ : GE) (sz : Nat) (b : Nat) (h : HB) (tt : Nat) (sv : Nat) (zs : Int32) (da : Nat) (tx : Nat) (wr : Nat) (fl : Int32) (rf : Int32) (w : Int32) (hnt : l.stackTraces = false) (hx9 : inC w 0 8 = 0) : KMX l yX1_account cX1_account 2 (some FieldType.int) Γ 7 110 1 6 [.ref b, .int w] [[(b, .inr (0, [.ref h.e0, .ref tt, .ref sv, .int zs, .ref da, .ref tx, .ref wr, .int fl, .int rf]))]] [] sz "java/lang/IllegalArgumentException" (fun q_ u_ => u_ = [[(b, .inr (0, [.ref h.e0, .ref tt, .ref sv, .int zs, .ref da, .ref tx, .ref wr, .int fl, .int rf]))]]) := by
  refine K_introX (by decide) (Nat.le_of_ble_eq_true rfl) ?_
  intro pr_ ev_ s mi_ below meth cd_ A ls hx hb hr hml hown hts hlocks hname hK hE hRo hP hD hA hS hsz hl ht9
  have hl : lv_has ls 2 [(0, .ref b), (1, .int w)] := hl
  have hown : s.vm.findClass RX1 = some mi_.cls := hown
  refine lv_iload_n hx hb dX1_account_0 rfl (lv_at hl 1 rfl) ?_
  refine lv_iconst (v := 0) hx hb dX1_account_1 (by decide) ?_
  refine lv_bipush (v := 8) hx hb dX1_account_2 (by decide) ?_
  refine b_calli (br := [[(b, .inr (0, [.ref h.e0, .ref tt, .ref sv, .int zs, .ref da, .ref tx, .ref wr, .int fl, .int rf]))]]) (b_runS ⟨hx, hb, hml, hown, hts⟩ (mt_DB_in l Γ _ w 0 8) (lw_S q806 q807 q62 q808) rfl rfl 3 (by decide +kernel) ⟨(Nat.le_of_ble_eq_true rfl), (Nat.le_of_ble_eq_true rfl)⟩ (c_pre hP hD hS hA hK hE [] rfl rfl ro_nil) rfl hl.1 rfl (Nat.le_of_ble_eq_true rfl) dX1_account_4 ⟨(Nat.le_of_ble_eq_true rfl), (Nat.le_of_ble_eq_true rfl)⟩) hP hD hS hA [] [0] rfl rfl rfl (fun r_1 u_1 H locs hw_1 hP hD hS _ => ?_)
  obtain ⟨rfl, rfl⟩ := hw_1
  have hP : WP Γ [[(b, .inr (0, [.ref h.e0, .ref tt, .ref sv, .int zs, .ref da, .ref tx, .ref wr, .int fl, .int rf]))]] H := hP
  have hD : WD A [[(b, .inr (0, [.ref h.e0, .ref tt, .ref sv, .int zs, .ref da, .ref tx, .ref wr, .int fl, .int rf]))]] := hD
  refine b_callx (br := [[(b, .inr (0, [.ref h.e0, .ref tt, .ref sv, .int zs, .ref da, .ref tx, .ref wr, .int fl, .int rf]))]]) (b_runSx ⟨hx, hb, hml, hown, hts⟩ (mt_DB_check_x l Γ _ (inC w 0 8) hnt (by first | assumption | rfl)) (lw_S q809 q810 q62 q811) rfl rfl 1 (by decide +kernel) ⟨(Nat.le_of_ble_eq_true rfl), (Nat.le_of_ble_eq_true rfl)⟩ (c_pre hP hD hS hA hK hE [] rfl rfl ro_nil) rfl hl.1 rfl (Nat.le_of_ble_eq_true rfl) dX1_account_7 ⟨(Nat.le_of_ble_eq_true rfl), (Nat.le_of_ble_eq_true rfl)⟩) hP hD hS hA [] [0] rfl rfl rfl (fun q_2 ce_2 u_2 H locs hw_2 hP hD hS _ hce_2 hcv_2 hcl_2 => ?_)
  obtain rfl := hw_2
  have hP : WP Γ [[(b, .inr (0, [.ref h.e0, .ref tt, .ref sv, .int zs, .ref da, .ref tx, .ref wr, .int fl, .int rf]))]] H := hP
  have hD : WD A [[(b, .inr (0, [.ref h.e0, .ref tt, .ref sv, .int zs, .ref da, .ref tx, .ref wr, .int fl, .int rf]))]] := hD
  exact b_outx hlocks (fun x hx9 => (ht9 x hx9).elim) hP hD hS hce_2 hcv_2 hcl_2 (by first | rfl | (simp; done)) (Nat.le_of_ble_eq_true rfl) (Nat.le_of_ble_eq_true rfl)
set_option maxHeartbeats 4000000 in
set_option maxRecDepth 100000 in
theorem mt_DB_addCow_x1 (l : Launch) (Γ : GE) (sz : Nat) (b : Nat) (h : HB) (tt : Nat) (sv : Nat) (zs : Int32) (da : Nat) (tx : Nat) (wr : Nat) (fl : Int32) (rf : Int32) (p : Int32) (d : Int32) (days : Int32) (hnt : l.stackTraces = false) (hx9 : inC p 8 40 = 0 ∨ inC d 0 9 = 0 ∨ inC days (-1) 99 = 0) : KMX l yX1_addCow cX1_addCow 5 (some FieldType.int) Γ 7 110 1 6 [.ref b, .int p, .int d, .int days] [[(b, .inr (0, [.ref h.e0, .ref tt, .ref sv, .int zs, .ref da, .ref tx, .ref wr, .int fl, .int rf]))]] [] sz "java/lang/IllegalArgumentException" (fun q_ u_ => u_ = [[(b, .inr (0, [.ref h.e0, .ref tt, .ref sv, .int zs, .ref da, .ref tx, .ref wr, .int fl, .int rf]))]]) := by
  refine K_introX (by decide) (Nat.le_of_ble_eq_true rfl) ?_
  intro pr_ ev_ s mi_ below meth cd_ A ls hx hb hr hml hown hts hlocks hname hK hE hRo hP hD hA hS hsz hl ht9
  have hl : lv_has ls 5 [(0, .ref b), (1, .int p), (2, .int d), (3, .int days)] := hl
  have hown : s.vm.findClass RX1 = some mi_.cls := hown
  refine lv_iload_n hx hb dX1_addCow_0 rfl (lv_at hl 1 rfl) ?_
  refine lv_bipush (v := 8) hx hb dX1_addCow_1 (by decide) ?_
  refine lv_bipush (v := 40) hx hb dX1_addCow_3 (by decide) ?_
  refine b_calli (br := [[(b, .inr (0, [.ref h.e0, .ref tt, .ref sv, .int zs, .ref da, .ref tx, .ref wr, .int fl, .int rf]))]]) (b_runS ⟨hx, hb, hml, hown, hts⟩ (mt_DB_in l Γ _ p 8 40) (lw_S q806 q807 q62 q808) rfl rfl 3 (by decide +kernel) ⟨(Nat.le_of_ble_eq_true rfl), (Nat.le_of_ble_eq_true rfl)⟩ (c_pre hP hD hS hA hK hE [] rfl rfl ro_nil) rfl hl.1 rfl (Nat.le_of_ble_eq_true rfl) dX1_addCow_5 ⟨(Nat.le_of_ble_eq_true rfl), (Nat.le_of_ble_eq_true rfl)⟩) hP hD hS hA [] [0] rfl rfl rfl (fun r_1 u_1 H locs hw_1 hP hD hS _ => ?_)
  obtain ⟨rfl, rfl⟩ := hw_1
  have hP : WP Γ [[(b, .inr (0, [.ref h.e0, .ref tt, .ref sv, .int zs, .ref da, .ref tx, .ref wr, .int fl, .int rf]))]] H := hP
  have hD : WD A [[(b, .inr (0, [.ref h.e0, .ref tt, .ref sv, .int zs, .ref da, .ref tx, .ref wr, .int fl, .int rf]))]] := hD
  refine lv_if_eq (tgt := 35) hx hb dX1_addCow_8 (by decide) (fun c_2 => ?_) (fun c_2 => ?_)
  · -- 8 taken
    refine lv_iconst (v := 0) hx hb dX1_addCow_35 (by decide) ?_
    refine b_callx (br := [[(b, .inr (0, [.ref h.e0, .ref tt, .ref sv, .int zs, .ref da, .ref tx, .ref wr, .int fl, .int rf]))]]) (b_runSx ⟨hx, hb, hml, hown, hts⟩ (mt_DB_check_x l Γ _ 0 hnt (by first | assumption | rfl)) (lw_S q809 q810 q62 q811) rfl rfl 1 (by decide +kernel) ⟨(Nat.le_of_ble_eq_true rfl), (Nat.le_of_ble_eq_true rfl)⟩ (c_pre hP hD hS hA hK hE [] rfl rfl ro_nil) rfl hl.1 rfl (Nat.le_of_ble_eq_true rfl) dX1_addCow_36 ⟨(Nat.le_of_ble_eq_true rfl), (Nat.le_of_ble_eq_true rfl)⟩) hP hD hS hA [] [0] rfl rfl rfl (fun q_3 ce_3 u_3 H locs hw_3 hP hD hS _ hce_3 hcv_3 hcl_3 => ?_)
    obtain rfl := hw_3
    have hP : WP Γ [[(b, .inr (0, [.ref h.e0, .ref tt, .ref sv, .int zs, .ref da, .ref tx, .ref wr, .int fl, .int rf]))]] H := hP
    have hD : WD A [[(b, .inr (0, [.ref h.e0, .ref tt, .ref sv, .int zs, .ref da, .ref tx, .ref wr, .int fl, .int rf]))]] := hD
    exact b_outx hlocks (fun x hx9 => (ht9 x hx9).elim) hP hD hS hce_3 hcv_3 hcl_3 (by first | with_reducible rfl | (simp [c_2]; done) | rfl) (Nat.le_of_ble_eq_true rfl) (Nat.le_of_ble_eq_true rfl)
  · -- 8 not taken
    refine lv_iload_n hx hb dX1_addCow_11 rfl (lv_at hl 2 rfl) ?_
    refine lv_iconst (v := 0) hx hb dX1_addCow_12 (by decide) ?_
    refine lv_bipush (v := 9) hx hb dX1_addCow_13 (by decide) ?_
    refine b_calli (br := [[(b, .inr (0, [.ref h.e0, .ref tt, .ref sv, .int zs, .ref da, .ref tx, .ref wr, .int fl, .int rf]))]]) (b_runS ⟨hx, hb, hml, hown, hts⟩ (mt_DB_in l Γ _ d 0 9) (lw_S q806 q807 q62 q808) rfl rfl 3 (by decide +kernel) ⟨(Nat.le_of_ble_eq_true rfl), (Nat.le_of_ble_eq_true rfl)⟩ (c_pre hP hD hS hA hK hE [] rfl rfl ro_nil) rfl hl.1 rfl (Nat.le_of_ble_eq_true rfl) dX1_addCow_15 ⟨(Nat.le_of_ble_eq_true rfl), (Nat.le_of_ble_eq_true rfl)⟩) hP hD hS hA [] [0] rfl rfl rfl (fun r_4 u_4 H locs hw_4 hP hD hS _ => ?_)
    obtain ⟨rfl, rfl⟩ := hw_4
    have hP : WP Γ [[(b, .inr (0, [.ref h.e0, .ref tt, .ref sv, .int zs, .ref da, .ref tx, .ref wr, .int fl, .int rf]))]] H := hP
    have hD : WD A [[(b, .inr (0, [.ref h.e0, .ref tt, .ref sv, .int zs, .ref da, .ref tx, .ref wr, .int fl, .int rf]))]] := hD
    refine lv_if_eq (tgt := 35) hx hb dX1_addCow_18 (by decide) (fun c_5 => ?_) (fun c_5 => ?_)
    · -- 18 taken
      refine lv_iconst (v := 0) hx hb dX1_addCow_35 (by decide) ?_
      refine b_callx (br := [[(b, .inr (0, [.ref h.e0, .ref tt, .ref sv, .int zs, .ref da, .ref tx, .ref wr, .int fl, .int rf]))]]) (b_runSx ⟨hx, hb, hml, hown, hts⟩ (mt_DB_check_x l Γ _ 0 hnt (by first | assumption | rfl)) (lw_S q809 q810 q62 q811) rfl rfl 1 (by decide +kernel) ⟨(Nat.le_of_ble_eq_true rfl), (Nat.le_of_ble_eq_true rfl)⟩ (c_pre hP hD hS hA hK hE [] rfl rfl ro_nil) rfl hl.1 rfl (Nat.le_of_ble_eq_true rfl) dX1_addCow_36 ⟨(Nat.le_of_ble_eq_true rfl), (Nat.le_of_ble_eq_true rfl)⟩) hP hD hS hA [] [0] rfl rfl rfl (fun q_6 ce_6 u_6 H locs hw_6 hP hD hS _ hce_6 hcv_6 hcl_6 => ?_)
      obtain rfl := hw_6
      have hP : WP Γ [[(b, .inr (0, [.ref h.e0, .ref tt, .ref sv, .int zs, .ref da, .ref tx, .ref wr, .int fl, .int rf]))]] H := hP
      have hD : WD A [[(b, .inr (0, [.ref h.e0, .ref tt, .ref sv, .int zs, .ref da, .ref tx, .ref wr, .int fl, .int rf]))]] := hD
      exact b_outx hlocks (fun x hx9 => (ht9 x hx9).elim) hP hD hS hce_6 hcv_6 hcl_6 (by first | with_reducible rfl | (simp [c_2, c_5]; done) | rfl) (Nat.le_of_ble_eq_true rfl) (Nat.le_of_ble_eq_true rfl)
    · -- 18 not taken
      refine lv_iload_n hx hb dX1_addCow_21 rfl (lv_at hl 3 rfl) ?_
      refine lv_iconst (v := (-1)) hx hb dX1_addCow_22 (by decide) ?_
      refine lv_bipush (v := 99) hx hb dX1_addCow_23 (by decide) ?_
      refine b_calli (br := [[(b, .inr (0, [.ref h.e0, .ref tt, .ref sv, .int zs, .ref da, .ref tx, .ref wr, .int fl, .int rf]))]]) (b_runS ⟨hx, hb, hml, hown, hts⟩ (mt_DB_in l Γ _ days (-1) 99) (lw_S q806 q807 q62 q808) rfl rfl 3 (by decide +kernel) ⟨(Nat.le_of_ble_eq_true rfl), (Nat.le_of_ble_eq_true rfl)⟩ (c_pre hP hD hS hA hK hE [] rfl rfl ro_nil) rfl hl.1 rfl (Nat.le_of_ble_eq_true rfl) dX1_addCow_25 ⟨(Nat.le_of_ble_eq_true rfl), (Nat.le_of_ble_eq_true rfl)⟩) hP hD hS hA [] [0] rfl rfl rfl (fun r_7 u_7 H locs hw_7 hP hD hS _ => ?_)
      obtain ⟨rfl, rfl⟩ := hw_7
      have hP : WP Γ [[(b, .inr (0, [.ref h.e0, .ref tt, .ref sv, .int zs, .ref da, .ref tx, .ref wr, .int fl, .int rf]))]] H := hP
      have hD : WD A [[(b, .inr (0, [.ref h.e0, .ref tt, .ref sv, .int zs, .ref da, .ref tx, .ref wr, .int fl, .int rf]))]] := hD
      refine lv_if_eq (tgt := 35) hx hb dX1_addCow_28 (by decide) (fun c_8 => ?_) (fun c_8 => ?_)
      · -- 28 taken
        refine lv_iconst (v := 0) hx hb dX1_addCow_35 (by decide) ?_
        refine b_callx (br := [[(b, .inr (0, [.ref h.e0, .ref tt, .ref sv, .int zs, .ref da, .ref tx, .ref wr, .int fl, .int rf]))]]) (b_runSx ⟨hx, hb, hml, hown, hts⟩ (mt_DB_check_x l Γ _ 0 hnt (by first | assumption | rfl)) (lw_S q809 q810 q62 q811) rfl rfl 1 (by decide +kernel) ⟨(Nat.le_of_ble_eq_true rfl), (Nat.le_of_ble_eq_true rfl)⟩ (c_pre hP hD hS hA hK hE [] rfl rfl ro_nil) rfl hl.1 rfl (Nat.le_of_ble_eq_true rfl) dX1_addCow_36 ⟨(Nat.le_of_ble_eq_true rfl), (Nat.le_of_ble_eq_true rfl)⟩) hP hD hS hA [] [0] rfl rfl rfl (fun q_9 ce_9 u_9 H locs hw_9 hP hD hS _ hce_9 hcv_9 hcl_9 => ?_)
        obtain rfl := hw_9
        have hP : WP Γ [[(b, .inr (0, [.ref h.e0, .ref tt, .ref sv, .int zs, .ref da, .ref tx, .ref wr, .int fl, .int rf]))]] H := hP
        have hD : WD A [[(b, .inr (0, [.ref h.e0, .ref tt, .ref sv, .int zs, .ref da, .ref tx, .ref wr, .int fl, .int rf]))]] := hD
        exact b_outx hlocks (fun x hx9 => (ht9 x hx9).elim) hP hD hS hce_9 hcv_9 hcl_9 (by first | with_reducible rfl | (simp [c_2, c_5, c_8]; done) | rfl) (Nat.le_of_ble_eq_true rfl) (Nat.le_of_ble_eq_true rfl)
      · -- 28 not taken
        refine lv_iconst (v := 1) hx hb dX1_addCow_31 (by decide) ?_
        refine lv_goto (tgt := 36) hx hb dX1_addCow_32 (by decide) ?_
        rcases hx9 with h9 | h9 | h9 <;> exact absurd h9 (by assumption)
set_option maxHeartbeats 4000000 in
set_option maxRecDepth 100000 in
theorem mt_DB_addCow_x2 (l : Launch) (Γ : GE) (sz : Nat) (b : Nat) (h : HB) (tt : Nat) (sv : Nat) (zs : Int32) (da : Nat) (tx : Nat) (wr : Nat) (fl : Int32) (rf : Int32) (P : va_W) (p : Int32) (d : Int32) (days : Int32) (hnt : l.stackTraces = false) (ho : hdOk Γ P h) (hp9 : ¬ inC p 8 40 = 0) (hd9 : ¬ inC d 0 9 = 0) (he9 : ¬ inC days (-1) 99 = 0) (hn8x : h.n = 8) : KMX l yX1_addCow cX1_addCow 5 (some FieldType.int) Γ 7 110 1 6 [.ref b, .int p, .int d, .int days] [[(b, .inr (0, [.ref h.e0, .ref tt, .ref sv, .int zs, .ref da, .ref tx, .ref wr, .int fl, .int rf]))], (hdB Γ h)] [P] sz "java/lang/IllegalStateException" (fun q_ u_ => u_ = [[(b, .inr (0, [.ref h.e0, .ref tt, .ref sv, .int zs, .ref da, .ref tx, .ref wr, .int fl, .int rf]))], (hdB Γ h)]) := by
  refine K_introX (by decide) (Nat.le_of_ble_eq_true rfl) ?_
  intro pr_ ev_ s mi_ below meth cd_ A ls hx hb hr hml hown hts hlocks hname hK hE hRo hP hD hA hS hsz hl ht9
  have hl : lv_has ls 5 [(0, .ref b), (1, .int p), (2, .int d), (3, .int days)] := hl
  have hown : s.vm.findClass RX1 = some mi_.cls := hown
  refine lv_iload_n hx hb dX1_addCow_0 rfl (lv_at hl 1 rfl) ?_
  refine lv_bipush (v := 8) hx hb dX1_addCow_1 (by decide) ?_
  refine lv_bipush (v := 40) hx hb dX1_addCow_3 (by decide) ?_
  refine b_calli (br := [[(b, .inr (0, [.ref h.e0, .ref tt, .ref sv, .int zs, .ref da, .ref tx, .ref wr, .int fl, .int rf]))], (hdB Γ h)]) (b_runS ⟨hx, hb, hml, hown, hts⟩ (mt_DB_in l Γ _ p 8 40) (lw_S q806 q807 q62 q808) rfl rfl 3 (by decide +kernel) ⟨(Nat.le_of_ble_eq_true rfl), (Nat.le_of_ble_eq_true rfl)⟩ (c_pre hP hD hS hA hK hE [] rfl rfl ro_nil) rfl hl.1 rfl (Nat.le_of_ble_eq_true rfl) dX1_addCow_5 ⟨(Nat.le_of_ble_eq_true rfl), (Nat.le_of_ble_eq_true rfl)⟩) hP hD hS hA [] [0, 1] rfl rfl rfl (fun r_1 u_1 H locs hw_1 hP hD hS _ => ?_)
  obtain ⟨rfl, rfl⟩ := hw_1
  have hP : WP Γ [[(b, .inr (0, [.ref h.e0, .ref tt, .ref sv, .int zs, .ref da, .ref tx, .ref wr, .int fl, .int rf]))], (hdB Γ h)] H := hP
  have hD : WD A [[(b, .inr (0, [.ref h.e0, .ref tt, .ref sv, .int zs, .ref da, .ref tx, .ref wr, .int fl, .int rf]))], (hdB Γ h)] := hD
  refine lv_if_eq (tgt := 35) hx hb dX1_addCow_8 (by decide) (fun c_2 => ?_) (fun c_2 => ?_)
  · -- 8 taken
    exact absurd c_2 hp9
  · -- 8 not taken
    refine lv_iload_n hx hb dX1_addCow_11 rfl (lv_at hl 2 rfl) ?_
    refine lv_iconst (v := 0) hx hb dX1_addCow_12 (by decide) ?_
    refine lv_bipush (v := 9) hx hb dX1_addCow_13 (by decide) ?_
    refine b_calli (br := [[(b, .inr (0, [.ref h.e0, .ref tt, .ref sv, .int zs, .ref da, .ref tx, .ref wr, .int fl, .int rf]))], (hdB Γ h)]) (b_runS ⟨hx, hb, hml, hown, hts⟩ (mt_DB_in l Γ _ d 0 9) (lw_S q806 q807 q62 q808) rfl rfl 3 (by decide +kernel) ⟨(Nat.le_of_ble_eq_true rfl), (Nat.le_of_ble_eq_true rfl)⟩ (c_pre hP hD hS hA hK hE [] rfl rfl ro_nil) rfl hl.1 rfl (Nat.le_of_ble_eq_true rfl) dX1_addCow_15 ⟨(Nat.le_of_ble_eq_true rfl), (Nat.le_of_ble_eq_true rfl)⟩) hP hD hS hA [] [0, 1] rfl rfl rfl (fun r_3 u_3 H locs hw_3 hP hD hS _ => ?_)
    obtain ⟨rfl, rfl⟩ := hw_3
    have hP : WP Γ [[(b, .inr (0, [.ref h.e0, .ref tt, .ref sv, .int zs, .ref da, .ref tx, .ref wr, .int fl, .int rf]))], (hdB Γ h)] H := hP
    have hD : WD A [[(b, .inr (0, [.ref h.e0, .ref tt, .ref sv, .int zs, .ref da, .ref tx, .ref wr, .int fl, .int rf]))], (hdB Γ h)] := hD
    refine lv_if_eq (tgt := 35) hx hb dX1_addCow_18 (by decide) (fun c_4 => ?_) (fun c_4 => ?_)
    · -- 18 taken
      exact absurd c_4 hd9
    · -- 18 not taken
      refine lv_iload_n hx hb dX1_addCow_21 rfl (lv_at hl 3 rfl) ?_
      refine lv_iconst (v := (-1)) hx hb dX1_addCow_22 (by decide) ?_
      refine lv_bipush (v := 99) hx hb dX1_addCow_23 (by decide) ?_
      refine b_calli (br := [[(b, .inr (0, [.ref h.e0, .ref tt, .ref sv, .int zs, .ref da, .ref tx, .ref wr, .int fl, .int rf]))], (hdB Γ h)]) (b_runS ⟨hx, hb, hml, hown, hts⟩ (mt_DB_in l Γ _ days (-1) 99) (lw_S q806 q807 q62 q808) rfl rfl 3 (by decide +kernel) ⟨(Nat.le_of_ble_eq_true rfl), (Nat.le_of_ble_eq_true rfl)⟩ (c_pre hP hD hS hA hK hE [] rfl rfl ro_nil) rfl hl.1 rfl (Nat.le_of_ble_eq_true rfl) dX1_addCow_25 ⟨(Nat.le_of_ble_eq_true rfl), (Nat.le_of_ble_eq_true rfl)⟩) hP hD hS hA [] [0, 1] rfl rfl rfl (fun r_5 u_5 H locs hw_5 hP hD hS _ => ?_)
      obtain ⟨rfl, rfl⟩ := hw_5
      have hP : WP Γ [[(b, .inr (0, [.ref h.e0, .ref tt, .ref sv, .int zs, .ref da, .ref tx, .ref wr, .int fl, .int rf]))], (hdB Γ h)] H := hP
      have hD : WD A [[(b, .inr (0, [.ref h.e0, .ref tt, .ref sv, .int zs, .ref da, .ref tx, .ref wr, .int fl, .int rf]))], (hdB Γ h)] := hD
      refine lv_if_eq (tgt := 35) hx hb dX1_addCow_28 (by decide) (fun c_6 => ?_) (fun c_6 => ?_)
      · -- 28 taken
        exact absurd c_6 he9
      · -- 28 not taken
        refine lv_iconst (v := 1) hx hb dX1_addCow_31 (by decide) ?_
        refine lv_goto (tgt := 36) hx hb dX1_addCow_32 (by decide) ?_
        refine b_callv (br := [[(b, .inr (0, [.ref h.e0, .ref tt, .ref sv, .int zs, .ref da, .ref tx, .ref wr, .int fl, .int rf]))], (hdB Γ h)]) (b_runS ⟨hx, hb, hml, hown, hts⟩ (mt_DB_check_ok l Γ _ 1 (by first | assumption | decide)) (lw_S q809 q810 q62 q811) rfl rfl 1 (by decide +kernel) ⟨(Nat.le_of_ble_eq_true rfl), (Nat.le_of_ble_eq_true rfl)⟩ (c_pre hP hD hS hA hK hE [] rfl rfl ro_nil) rfl hl.1 rfl (Nat.le_of_ble_eq_true rfl) dX1_addCow_36 ⟨(Nat.le_of_ble_eq_true rfl), (Nat.le_of_ble_eq_true rfl)⟩) hP hD hS hA [] [0, 1] rfl rfl rfl (fun u_7 H locs hw_7 hP hD hS _ => ?_)
        obtain rfl := hw_7
        have hP : WP Γ [[(b, .inr (0, [.ref h.e0, .ref tt, .ref sv, .int zs, .ref da, .ref tx, .ref wr, .int fl, .int rf]))], (hdB Γ h)] H := hP
        have hD : WD A [[(b, .inr (0, [.ref h.e0, .ref tt, .ref sv, .int zs, .ref da, .ref tx, .ref wr, .int fl, .int rf]))], (hdB Γ h)] := hD
        have hP : WP Γ [(hdB Γ h), [(b, .inr (0, [.ref h.e0, .ref tt, .ref sv, .int zs, .ref da, .ref tx, .ref wr, .int fl, .int rf]))]] H := bP_sel hP [1, 0] rfl
        have hD : WD A [(hdB Γ h), [(b, .inr (0, [.ref h.e0, .ref tt, .ref sv, .int zs, .ref da, .ref tx, .ref wr, .int fl, .int rf]))]] := bD_sel hD [1, 0] rfl rfl
        have hP : WP Γ [[(h.e0, .inr (1, [.ref h.e1, .ref h.e2, .ref h.e3, .ref h.e4, .ref h.e5, .int h.S.td, .int h.S.pk, .int h.S.pd]))], [(h.e1, .inr (11, [.int h.m0, .ref h.x0.1, .int (nI h.n)]))], (alA Γ h.x0), (cowsB h.n h.ca h.S.cv), [(h.e2, .inr (11, [.int h.m1, .ref h.x1.1, .int (nI h.nr)]))], (alA Γ h.x1), [(h.e3, .inr (11, [.int h.m2, .ref h.x2.1, .int (nI h.S.np)]))], (alA Γ h.x2), [(h.e4, .inr (2, [.int h.S.li, .int h.S.ce]))], [(h.e5, .inl (Γ.2.1 0, 6, .inl h.se))], [(b, .inr (0, [.ref h.e0, .ref tt, .ref sv, .int zs, .ref da, .ref tx, .ref wr, .int fl, .int rf]))]] H := hdP_ex (Bs := hdL Γ h) hP
        have hD : WD A [[(h.e0, .inr (1, [.ref h.e1, .ref h.e2, .ref h.e3, .ref h.e4, .ref h.e5, .int h.S.td, .int h.S.pk, .int h.S.pd]))], [(h.e1, .inr (11, [.int h.m0, .ref h.x0.1, .int (nI h.n)]))], (alA Γ h.x0), (cowsB h.n h.ca h.S.cv), [(h.e2, .inr (11, [.int h.m1, .ref h.x1.1, .int (nI h.nr)]))], (alA Γ h.x1), [(h.e3, .inr (11, [.int h.m2, .ref h.x2.1, .int (nI h.S.np)]))], (alA Γ h.x2), [(h.e4, .inr (2, [.int h.S.li, .int h.S.ce]))], [(h.e5, .inl (Γ.2.1 0, 6, .inl h.se))], [(b, .inr (0, [.ref h.e0, .ref tt, .ref sv, .int zs, .ref da, .ref tx, .ref wr, .int fl, .int rf]))]] := hdD_ex (Bs := hdL Γ h) hD
        have hal0 : alI Γ h.x0 h.n h.ca := ho.1
        have hn8 : h.n ≤ 8 := ho.2.1
        have hal1 : alI Γ h.x1 h.nr h.ra := ho.2.2.1
        have nr4 : h.nr ≤ 4 := ho.2.2.2.1
        have hrw : ∀ k, k < h.nr → (h.ra k, rowE (h.rv k)) ∈ P := ho.2.2.2.2.1
        have hal2 : alI Γ h.x2 h.S.np h.pa := ho.2.2.2.2.2.1
        have np60 : h.S.np ≤ 60 := ho.2.2.2.2.2.2.1
        have hpk : ∀ k, k < h.S.np → (h.pa k, pickE (h.S.pv k)) ∈ P := ho.2.2.2.2.2.2.2.1
        have hcb : ∀ k, k < h.n → cowB (h.S.cv k) := ho.2.2.2.2.2.2.2.2
        refine lv_aload_n hx hb dX1_addCow_39 rfl (lv_at hl 0 rfl) ?_
        refine b_get (C := RX1) (T := TX1) (N := 9) (v := .ref h.e0) hx hb hts in_X1 hown hK (b_at (k := 10) hP rfl) rfl 0 (by decide) q248 (fun _ h9 => h9) rfl dX1_addCow_40 ?_
        refine b_getN (C := RX2) (T := TX2) (N := 8) (v := .ref h.e1) hx hb hts hE in_X2 hown hK (b_at (k := 0) hP rfl) rfl 0 (by decide) q165 (fun _ h9 => h9) rfl dX1_addCow_43 ?_
        refine b_calli (br := [[(h.e0, .inr (1, [.ref h.e1, .ref h.e2, .ref h.e3, .ref h.e4, .ref h.e5, .int h.S.td, .int h.S.pk, .int h.S.pd]))], (alA Γ h.x0), (cowsB h.n h.ca h.S.cv), [(h.e2, .inr (11, [.int h.m1, .ref h.x1.1, .int (nI h.nr)]))], (alA Γ h.x1), [(h.e3, .inr (11, [.int h.m2, .ref h.x2.1, .int (nI h.S.np)]))], (alA Γ h.x2), [(h.e4, .inr (2, [.int h.S.li, .int h.S.ce]))], [(h.e5, .inl (Γ.2.1 0, 6, .inl h.se))], [(b, .inr (0, [.ref h.e0, .ref tt, .ref sv, .int zs, .ref da, .ref tx, .ref wr, .int fl, .int rf]))]]) (b_runV ⟨hx, hb, hml, hown, hts⟩ (mt_AL_size l Γ _ h.e1 h.m0 h.x0.1 h.n) (lw_V q817 q818 q819 q66 q820) rfl rfl 0 (by decide +kernel) ⟨(Nat.le_of_ble_eq_true rfl), (Nat.le_of_ble_eq_true rfl)⟩ (c_pre hP hD hS hA hK hE [1] rfl rfl ro_nil) (recv_at (q := (RJ2, TJ2, 3)) hK (b_at (k := 1) hP rfl) rfl) rfl hl.1 rfl (Nat.le_of_ble_eq_true rfl) dX1_addCow_46 ⟨(Nat.le_of_ble_eq_true rfl), (Nat.le_of_ble_eq_true rfl)⟩) hP hD hS hA [1] [0, 2, 3, 4, 5, 6, 7, 8, 9, 10] rfl rfl rfl (fun r_8 u_8 H locs hw_8 hP hD hS _ => ?_)
        obtain ⟨rfl, rfl⟩ := hw_8
        have hP : WP Γ [[(h.e1, .inr (11, [.int h.m0, .ref h.x0.1, .int (nI h.n)]))], [(h.e0, .inr (1, [.ref h.e1, .ref h.e2, .ref h.e3, .ref h.e4, .ref h.e5, .int h.S.td, .int h.S.pk, .int h.S.pd]))], (alA Γ h.x0), (cowsB h.n h.ca h.S.cv), [(h.e2, .inr (11, [.int h.m1, .ref h.x1.1, .int (nI h.nr)]))], (alA Γ h.x1), [(h.e3, .inr (11, [.int h.m2, .ref h.x2.1, .int (nI h.S.np)]))], (alA Γ h.x2), [(h.e4, .inr (2, [.int h.S.li, .int h.S.ce]))], [(h.e5, .inl (Γ.2.1 0, 6, .inl h.se))], [(b, .inr (0, [.ref h.e0, .ref tt, .ref sv, .int zs, .ref da, .ref tx, .ref wr, .int fl, .int rf]))]] H := hP
        have hD : WD A [[(h.e1, .inr (11, [.int h.m0, .ref h.x0.1, .int (nI h.n)]))], [(h.e0, .inr (1, [.ref h.e1, .ref h.e2, .ref h.e3, .ref h.e4, .ref h.e5, .int h.S.td, .int h.S.pk, .int h.S.pd]))], (alA Γ h.x0), (cowsB h.n h.ca h.S.cv), [(h.e2, .inr (11, [.int h.m1, .ref h.x1.1, .int (nI h.nr)]))], (alA Γ h.x1), [(h.e3, .inr (11, [.int h.m2, .ref h.x2.1, .int (nI h.S.np)]))], (alA Γ h.x2), [(h.e4, .inr (2, [.int h.S.li, .int h.S.ce]))], [(h.e5, .inl (Γ.2.1 0, 6, .inl h.se))], [(b, .inr (0, [.ref h.e0, .ref tt, .ref sv, .int zs, .ref da, .ref tx, .ref wr, .int fl, .int rf]))]] := hD
        refine lv_bipush (v := 8) hx hb dX1_addCow_49 (by decide) ?_
        refine lv_icmp_ge (tgt := 58) hx hb dX1_addCow_51 (by decide) (fun c_9 => ?_) (fun c_9 => ?_)
        · -- 51 taken
          have n_9 : 8 ≤ h.n := (nI_leI (by omega) (by omega)).mp (show nI 8 ≤ nI h.n from c_9)
          have m_9 : ¬ (h.n < 8) := by omega
          have d_9 := Int32.not_lt.mpr c_9
          refine lv_iconst (v := 0) hx hb dX1_addCow_58 (by decide) ?_
          have hP : WP Γ [[(h.e0, .inr (1, [.ref h.e1, .ref h.e2, .ref h.e3, .ref h.e4, .ref h.e5, .int h.S.td, .int h.S.pk, .int h.S.pd]))], [(h.e1, .inr (11, [.int h.m0, .ref h.x0.1, .int (nI h.n)]))], (alA Γ h.x0), (cowsB h.n h.ca h.S.cv), [(h.e2, .inr (11, [.int h.m1, .ref h.x1.1, .int (nI h.nr)]))], (alA Γ h.x1), [(h.e3, .inr (11, [.int h.m2, .ref h.x2.1, .int (nI h.S.np)]))], (alA Γ h.x2), [(h.e4, .inr (2, [.int h.S.li, .int h.S.ce]))], [(h.e5, .inl (Γ.2.1 0, 6, .inl h.se))], [(b, .inr (0, [.ref h.e0, .ref tt, .ref sv, .int zs, .ref da, .ref tx, .ref wr, .int fl, .int rf]))]] H := bP_sel hP [1, 0, 2, 3, 4, 5, 6, 7, 8, 9, 10] rfl
          have hD : WD A [[(h.e0, .inr (1, [.ref h.e1, .ref h.e2, .ref h.e3, .ref h.e4, .ref h.e5, .int h.S.td, .int h.S.pk, .int h.S.pd]))], [(h.e1, .inr (11, [.int h.m0, .ref h.x0.1, .int (nI h.n)]))], (alA Γ h.x0), (cowsB h.n h.ca h.S.cv), [(h.e2, .inr (11, [.int h.m1, .ref h.x1.1, .int (nI h.nr)]))], (alA Γ h.x1), [(h.e3, .inr (11, [.int h.m2, .ref h.x2.1, .int (nI h.S.np)]))], (alA Γ h.x2), [(h.e4, .inr (2, [.int h.S.li, .int h.S.ce]))], [(h.e5, .inl (Γ.2.1 0, 6, .inl h.se))], [(b, .inr (0, [.ref h.e0, .ref tt, .ref sv, .int zs, .ref da, .ref tx, .ref wr, .int fl, .int rf]))]] := bD_sel hD [1, 0, 2, 3, 4, 5, 6, 7, 8, 9, 10] rfl rfl
          have hP : WP Γ [(hdB Γ h), [(b, .inr (0, [.ref h.e0, .ref tt, .ref sv, .int zs, .ref da, .ref tx, .ref wr, .int fl, .int rf]))]] H := (hdP_un (Bs := hdL Γ h) hP)
          have hD : WD A [(hdB Γ h), [(b, .inr (0, [.ref h.e0, .ref tt, .ref sv, .int zs, .ref da, .ref tx, .ref wr, .int fl, .int rf]))]] := (hdD_un (Bs := hdL Γ h) hD)
          refine b_callx (br := [(hdB Γ h), [(b, .inr (0, [.ref h.e0, .ref tt, .ref sv, .int zs, .ref da, .ref tx, .ref wr, .int fl, .int rf]))]]) (b_runSx ⟨hx, hb, hml, hown, hts⟩ (mt_DB_checkState_x l Γ _ 0 hnt (by first | assumption | rfl)) (lw_S q821 q822 q62 q823) rfl rfl 1 (by decide +kernel) ⟨(Nat.le_of_ble_eq_true rfl), (Nat.le_of_ble_eq_true rfl)⟩ (c_pre hP hD hS hA hK hE [] rfl rfl ro_nil) rfl hl.1 rfl (Nat.le_of_ble_eq_true rfl) dX1_addCow_59 ⟨(Nat.le_of_ble_eq_true rfl), (Nat.le_of_ble_eq_true rfl)⟩) hP hD hS hA [] [0, 1] rfl rfl rfl (fun q_10 ce_10 u_10 H locs hw_10 hP hD hS _ hce_10 hcv_10 hcl_10 => ?_)
          obtain rfl := hw_10
          have hP : WP Γ [(hdB Γ h), [(b, .inr (0, [.ref h.e0, .ref tt, .ref sv, .int zs, .ref da, .ref tx, .ref wr, .int fl, .int rf]))]] H := hP
          have hD : WD A [(hdB Γ h), [(b, .inr (0, [.ref h.e0, .ref tt, .ref sv, .int zs, .ref da, .ref tx, .ref wr, .int fl, .int rf]))]] := hD
          have hP : WP Γ [[(b, .inr (0, [.ref h.e0, .ref tt, .ref sv, .int zs, .ref da, .ref tx, .ref wr, .int fl, .int rf]))], (hdB Γ h)] H := bP_sel hP [1, 0] rfl
          have hD : WD A [[(b, .inr (0, [.ref h.e0, .ref tt, .ref sv, .int zs, .ref da, .ref tx, .ref wr, .int fl, .int rf]))], (hdB Γ h)] := bD_sel hD [1, 0] rfl rfl
          exact b_outx hlocks (fun x hx9 => (ht9 x hx9).elim) hP hD hS hce_10 hcv_10 hcl_10 (by first | with_reducible rfl | (simp [c_2, c_4, c_6, n_9, m_9, d_9]; done) | rfl) (Nat.le_of_ble_eq_true rfl) (Nat.le_of_ble_eq_true rfl)
        · -- 51 not taken
          have n_9 : ¬ (8 ≤ h.n) := fun hh7 => c_9 ((nI_leI (a := 8) (b := h.n) (by omega) (by omega)).mpr hh7)
          have m_9 : h.n < 8 := by omega
          have d_9 := Int32.not_le.mp c_9
          refine lv_iconst (v := 1) hx hb dX1_addCow_54 (by decide) ?_
          refine lv_goto (tgt := 59) hx hb dX1_addCow_55 (by decide) ?_
          exfalso; omega
set_option maxHeartbeats 4000000 in
set_option maxRecDepth 100000 in
theorem mt_DB_tank_x (l : Launch) (Γ : GE) (sz : Nat) (b : Nat) (h : HB) (tt : Nat) (sv : Nat) (zs : Int32) (da : Nat) (tx : Nat) (wr : Nat) (fl : Int32) (rf : Int32) (w : Int32) (hnt : l.stackTraces = false) (hx9 : ¬ (w = 0 ∨ w = 1 ∨ w = 2 ∨ w = 3)) : KMX l yX1_tank cX1_tank 2 (some FieldType.int) Γ 6 90 1 6 [.ref b, .int w] [[(b, .inr (0, [.ref h.e0, .ref tt, .ref sv, .int zs, .ref da, .ref tx, .ref wr, .int fl, .int rf]))]] [] sz "java/lang/IllegalArgumentException" (fun q_ u_ => u_ = [[(b, .inr (0, [.ref h.e0, .ref tt, .ref sv, .int zs, .ref da, .ref tx, .ref wr, .int fl, .int rf]))]]) := by
  refine K_introX (by decide) (Nat.le_of_ble_eq_true rfl) ?_
  intro pr_ ev_ s mi_ below meth cd_ A ls hx hb hr hml hown hts hlocks hname hK hE hRo hP hD hA hS hsz hl ht9
  have hl : lv_has ls 2 [(0, .ref b), (1, .int w)] := hl
  have hown : s.vm.findClass RX1 = some mi_.cls := hown
  refine lv_iload_n hx hb dX1_tank_0 rfl (lv_at hl 1 rfl) ?_
  by_cases c_1_0 : w = 0
  · -- case 0
    subst c_1_0
    refine lv_tableIn (tgt := 32) hx hb dX1_tank_1 (by decide) (by decide) rfl (by decide) ?_
    exact absurd (by decide) hx9
  by_cases c_1_1 : w = 1
  · -- case 1
    subst c_1_1
    refine lv_tableIn (tgt := 43) hx hb dX1_tank_1 (by decide) (by decide) rfl (by decide) ?_
    exact absurd (by decide) hx9
  by_cases c_1_2 : w = 2
  · -- case 2
    subst c_1_2
    refine lv_tableIn (tgt := 54) hx hb dX1_tank_1 (by decide) (by decide) rfl (by decide) ?_
    exact absurd (by decide) hx9
  by_cases c_1_3 : w = 3
  · -- case 3
    subst c_1_3
    refine lv_tableIn (tgt := 65) hx hb dX1_tank_1 (by decide) (by decide) rfl (by decide) ?_
    exact absurd (by decide) hx9
  refine lv_tableOut (tgt := 85) hx hb dX1_tank_1 (sw_out 0 3 (by decide) (fun j h1 h2 => by rcases (show j = 0 ∨ j = 1 ∨ j = 2 ∨ j = 3 by omega) with rfl | rfl | rfl | rfl <;> assumption)) (by decide) ?_
  exact b_throw0 hx hb hnt hts hE hown (by decide +kernel) exN_fit q812 q77 at_IAE ag_IAE hP hD hS (hml.trans hl.1.symm) dX1_tank_85 dX1_tank_88 dX1_tank_89 dX1_tank_92 ht9 (Nat.le_of_ble_eq_true rfl) (Nat.le_of_ble_eq_true rfl) (Nat.le_of_ble_eq_true rfl) (Nat.le_of_ble_eq_true rfl) hlocks (fun q9 => (by first | with_reducible rfl | (simp [c_1_0, c_1_1, c_1_2, c_1_3]; done) | rfl)) (Nat.le_of_ble_eq_true rfl) (Nat.le_of_ble_eq_true rfl)
set_option maxHeartbeats 4000000 in
set_option maxRecDepth 100000 in
theorem mt_DB_append_x0 (l : Launch) (Γ : GE) (sz : Nat) (b : Nat) (h : HB) (tt : Nat) (sv : Nat) (zs : Int32) (da : Nat) (tx : Nat) (wr : Nat) (fl : Int32) (rf : Int32) (x : SBT) (L : List Int32) (c : Int32) (hnt : l.stackTraces = false) (hsb : sbF 0 x L) (hL : L.length = 50) : KMX l yX1_append cX1_append 2 none Γ 7 110 1 6 [.ref b, .int c] [[(b, .inr (0, [.ref h.e0, .ref tt, .ref sv, .int zs, .ref da, .ref tx, .ref wr, .int fl, .int rf]))], [(tx, .inr (13, [.ref x.1, .int 0, .int x.2.2.2, .int (nI L.length)]))], [(x.1, .inl (Γ.2.1 1, x.2.1, .inl x.2.2.1))]] [] sz "java/lang/IllegalStateException" (fun q_ u_ => u_ = [[(b, .inr (0, [.ref h.e0, .ref tt, .ref sv, .int zs, .ref da, .ref tx, .ref wr, .int fl, .int rf]))], [(tx, .inr (13, [.ref x.1, .int 0, .int x.2.2.2, .int (nI L.length)]))], [(x.1, .inl (Γ.2.1 1, x.2.1, .inl x.2.2.1))]]) := by
  refine K_introX (by decide) (Nat.le_of_ble_eq_true rfl) ?_
  intro pr_ ev_ s mi_ below meth cd_ A ls hx hb hr hml hown hts hlocks hname hK hE hRo hP hD hA hS hsz hl ht9
  have hl : lv_has ls 2 [(0, .ref b), (1, .int c)] := hl
  have hown : s.vm.findClass RX1 = some mi_.cls := hown
  have hL9 : L.length = 50 := hL
  refine lv_aload_n hx hb dX1_append_0 rfl (lv_at hl 0 rfl) ?_
  refine b_get (C := RX1) (T := TX1) (N := 9) (v := .ref tx) hx hb hts in_X1 hown hK (b_at (k := 0) hP rfl) rfl 5 (by decide) q253 (fun _ h9 => h9) rfl dX1_append_1 ?_
  refine b_calli (br := [[(b, .inr (0, [.ref h.e0, .ref tt, .ref sv, .int zs, .ref da, .ref tx, .ref wr, .int fl, .int rf]))], [(x.1, .inl (Γ.2.1 1, x.2.1, .inl x.2.2.1))]]) (b_runV ⟨hx, hb, hml, hown, hts⟩ (mt_SB_length_0 l Γ _ tx x.1 x.2.2.2 L.length) (lw_V q1509 q730 q2217 q70 q731) rfl rfl 0 (by decide +kernel) ⟨(Nat.le_of_ble_eq_true rfl), (Nat.le_of_ble_eq_true rfl)⟩ (c_pre hP hD hS hA hK hE [1] rfl rfl ro_nil) (recv_at (q := (RJ5, TJ5, 4)) hK (b_at (k := 1) hP rfl) rfl) rfl hl.1 rfl (Nat.le_of_ble_eq_true rfl) dX1_append_4 ⟨(Nat.le_of_ble_eq_true rfl), (Nat.le_of_ble_eq_true rfl)⟩) hP hD hS hA [1] [0, 2] rfl rfl rfl (fun r_1 u_1 H locs hw_1 hP hD hS _ => ?_)
  obtain ⟨rfl, rfl⟩ := hw_1
  have hP : WP Γ [[(tx, .inr (13, [.ref x.1, .int 0, .int x.2.2.2, .int (nI L.length)]))], [(b, .inr (0, [.ref h.e0, .ref tt, .ref sv, .int zs, .ref da, .ref tx, .ref wr, .int fl, .int rf]))], [(x.1, .inl (Γ.2.1 1, x.2.1, .inl x.2.2.1))]] H := hP
  have hD : WD A [[(tx, .inr (13, [.ref x.1, .int 0, .int x.2.2.2, .int (nI L.length)]))], [(b, .inr (0, [.ref h.e0, .ref tt, .ref sv, .int zs, .ref da, .ref tx, .ref wr, .int fl, .int rf]))], [(x.1, .inl (Γ.2.1 1, x.2.1, .inl x.2.2.1))]] := hD
  refine lv_bipush (v := 50) hx hb dX1_append_7 (by decide) ?_
  refine lv_icmp_ge (tgt := 16) hx hb dX1_append_9 (by decide) (fun c_2 => ?_) (fun c_2 => ?_)
  · -- 9 taken
    have n_2 : 50 ≤ L.length := (nI_leI (by omega) (by omega)).mp (show nI 50 ≤ nI L.length from c_2)
    have m_2 : ¬ (L.length < 50) := by omega
    have d_2 := Int32.not_lt.mpr c_2
    refine lv_iconst (v := 0) hx hb dX1_append_16 (by decide) ?_
    refine b_callx (br := [[(tx, .inr (13, [.ref x.1, .int 0, .int x.2.2.2, .int (nI L.length)]))], [(b, .inr (0, [.ref h.e0, .ref tt, .ref sv, .int zs, .ref da, .ref tx, .ref wr, .int fl, .int rf]))], [(x.1, .inl (Γ.2.1 1, x.2.1, .inl x.2.2.1))]]) (b_runSx ⟨hx, hb, hml, hown, hts⟩ (mt_DB_checkState_x l Γ _ 0 hnt (by first | assumption | rfl)) (lw_S q821 q822 q62 q823) rfl rfl 1 (by decide +kernel) ⟨(Nat.le_of_ble_eq_true rfl), (Nat.le_of_ble_eq_true rfl)⟩ (c_pre hP hD hS hA hK hE [] rfl rfl ro_nil) rfl hl.1 rfl (Nat.le_of_ble_eq_true rfl) dX1_append_17 ⟨(Nat.le_of_ble_eq_true rfl), (Nat.le_of_ble_eq_true rfl)⟩) hP hD hS hA [] [0, 1, 2] rfl rfl rfl (fun q_3 ce_3 u_3 H locs hw_3 hP hD hS _ hce_3 hcv_3 hcl_3 => ?_)
    obtain rfl := hw_3
    have hP : WP Γ [[(tx, .inr (13, [.ref x.1, .int 0, .int x.2.2.2, .int (nI L.length)]))], [(b, .inr (0, [.ref h.e0, .ref tt, .ref sv, .int zs, .ref da, .ref tx, .ref wr, .int fl, .int rf]))], [(x.1, .inl (Γ.2.1 1, x.2.1, .inl x.2.2.1))]] H := hP
    have hD : WD A [[(tx, .inr (13, [.ref x.1, .int 0, .int x.2.2.2, .int (nI L.length)]))], [(b, .inr (0, [.ref h.e0, .ref tt, .ref sv, .int zs, .ref da, .ref tx, .ref wr, .int fl, .int rf]))], [(x.1, .inl (Γ.2.1 1, x.2.1, .inl x.2.2.1))]] := hD
    have hP : WP Γ [[(b, .inr (0, [.ref h.e0, .ref tt, .ref sv, .int zs, .ref da, .ref tx, .ref wr, .int fl, .int rf]))], [(tx, .inr (13, [.ref x.1, .int 0, .int x.2.2.2, .int (nI L.length)]))], [(x.1, .inl (Γ.2.1 1, x.2.1, .inl x.2.2.1))]] H := bP_sel hP [1, 0, 2] rfl
    have hD : WD A [[(b, .inr (0, [.ref h.e0, .ref tt, .ref sv, .int zs, .ref da, .ref tx, .ref wr, .int fl, .int rf]))], [(tx, .inr (13, [.ref x.1, .int 0, .int x.2.2.2, .int (nI L.length)]))], [(x.1, .inl (Γ.2.1 1, x.2.1, .inl x.2.2.1))]] := bD_sel hD [1, 0, 2] rfl rfl
    exact b_outx hlocks (fun x hx9 => (ht9 x hx9).elim) hP hD hS hce_3 hcv_3 hcl_3 (by first | with_reducible rfl | (simp [n_2, m_2, d_2]; done) | rfl) (Nat.le_of_ble_eq_true rfl) (Nat.le_of_ble_eq_true rfl)
  · -- 9 not taken
    have n_2 : ¬ (50 ≤ L.length) := fun hh7 => c_2 ((nI_leI (a := 50) (b := L.length) (by omega) (by omega)).mpr hh7)
    have m_2 : L.length < 50 := by omega
    have d_2 := Int32.not_le.mp c_2
    refine lv_iconst (v := 1) hx hb dX1_append_12 (by decide) ?_
    refine lv_goto (tgt := 17) hx hb dX1_append_13 (by decide) ?_
    exfalso; omega
set_option maxHeartbeats 4000000 in
set_option maxRecDepth 100000 in
theorem mt_DB_append_x1 (l : Launch) (Γ : GE) (sz : Nat) (b : Nat) (h : HB) (tt : Nat) (sv : Nat) (zs : Int32) (da : Nat) (tx : Nat) (wr : Nat) (fl : Int32) (rf : Int32) (x : SBT) (L : List Int32) (c : Int32) (hnt : l.stackTraces = false) (hsb : sbF 1 x L) (hL : L.length = 50) : KMX l yX1_append cX1_append 2 none Γ 7 110 1 6 [.ref b, .int c] [[(b, .inr (0, [.ref h.e0, .ref tt, .ref sv, .int zs, .ref da, .ref tx, .ref wr, .int fl, .int rf]))], [(tx, .inr (13, [.ref x.1, .int 1, .int x.2.2.2, .int (nI L.length)]))], [(x.1, .inl (Γ.2.1 1, 2 * x.2.1, .inl x.2.2.1))]] [] sz "java/lang/IllegalStateException" (fun q_ u_ => u_ = [[(b, .inr (0, [.ref h.e0, .ref tt, .ref sv, .int zs, .ref da, .ref tx, .ref wr, .int fl, .int rf]))], [(tx, .inr (13, [.ref x.1, .int 1, .int x.2.2.2, .int (nI L.length)]))], [(x.1, .inl (Γ.2.1 1, 2 * x.2.1, .inl x.2.2.1))]]) := by
  refine K_introX (by decide) (Nat.le_of_ble_eq_true rfl) ?_
  intro pr_ ev_ s mi_ below meth cd_ A ls hx hb hr hml hown hts hlocks hname hK hE hRo hP hD hA hS hsz hl ht9
  have hl : lv_has ls 2 [(0, .ref b), (1, .int c)] := hl
  have hown : s.vm.findClass RX1 = some mi_.cls := hown
  have hL9 : L.length = 50 := hL
  refine lv_aload_n hx hb dX1_append_0 rfl (lv_at hl 0 rfl) ?_
  refine b_get (C := RX1) (T := TX1) (N := 9) (v := .ref tx) hx hb hts in_X1 hown hK (b_at (k := 0) hP rfl) rfl 5 (by decide) q253 (fun _ h9 => h9) rfl dX1_append_1 ?_
  refine b_calli (br := [[(b, .inr (0, [.ref h.e0, .ref tt, .ref sv, .int zs, .ref da, .ref tx, .ref wr, .int fl, .int rf]))], [(x.1, .inl (Γ.2.1 1, 2 * x.2.1, .inl x.2.2.1))]]) (b_runV ⟨hx, hb, hml, hown, hts⟩ (mt_SB_length_1 l Γ _ tx x.1 x.2.2.2 L.length) (lw_V q1509 q730 q2217 q70 q731) rfl rfl 0 (by decide +kernel) ⟨(Nat.le_of_ble_eq_true rfl), (Nat.le_of_ble_eq_true rfl)⟩ (c_pre hP hD hS hA hK hE [1] rfl rfl ro_nil) (recv_at (q := (RJ5, TJ5, 4)) hK (b_at (k := 1) hP rfl) rfl) rfl hl.1 rfl (Nat.le_of_ble_eq_true rfl) dX1_append_4 ⟨(Nat.le_of_ble_eq_true rfl), (Nat.le_of_ble_eq_true rfl)⟩) hP hD hS hA [1] [0, 2] rfl rfl rfl (fun r_1 u_1 H locs hw_1 hP hD hS _ => ?_)
  obtain ⟨rfl, rfl⟩ := hw_1
  have hP : WP Γ [[(tx, .inr (13, [.ref x.1, .int 1, .int x.2.2.2, .int (nI L.length)]))], [(b, .inr (0, [.ref h.e0, .ref tt, .ref sv, .int zs, .ref da, .ref tx, .ref wr, .int fl, .int rf]))], [(x.1, .inl (Γ.2.1 1, 2 * x.2.1, .inl x.2.2.1))]] H := hP
  have hD : WD A [[(tx, .inr (13, [.ref x.1, .int 1, .int x.2.2.2, .int (nI L.length)]))], [(b, .inr (0, [.ref h.e0, .ref tt, .ref sv, .int zs, .ref da, .ref tx, .ref wr, .int fl, .int rf]))], [(x.1, .inl (Γ.2.1 1, 2 * x.2.1, .inl x.2.2.1))]] := hD
  refine lv_bipush (v := 50) hx hb dX1_append_7 (by decide) ?_
  refine lv_icmp_ge (tgt := 16) hx hb dX1_append_9 (by decide) (fun c_2 => ?_) (fun c_2 => ?_)
  · -- 9 taken
    have n_2 : 50 ≤ L.length := (nI_leI (by omega) (by omega)).mp (show nI 50 ≤ nI L.length from c_2)
    have m_2 : ¬ (L.length < 50) := by omega
    have d_2 := Int32.not_lt.mpr c_2
    refine lv_iconst (v := 0) hx hb dX1_append_16 (by decide) ?_
    refine b_callx (br := [[(tx, .inr (13, [.ref x.1, .int 1, .int x.2.2.2, .int (nI L.length)]))], [(b, .inr (0, [.ref h.e0, .ref tt, .ref sv, .int zs, .ref da, .ref tx, .ref wr, .int fl, .int rf]))], [(x.1, .inl (Γ.2.1 1, 2 * x.2.1, .inl x.2.2.1))]]) (b_runSx ⟨hx, hb, hml, hown, hts⟩ (mt_DB_checkState_x l Γ _ 0 hnt (by first | assumption | rfl)) (lw_S q821 q822 q62 q823) rfl rfl 1 (by decide +kernel) ⟨(Nat.le_of_ble_eq_true rfl), (Nat.le_of_ble_eq_true rfl)⟩ (c_pre hP hD hS hA hK hE [] rfl rfl ro_nil) rfl hl.1 rfl (Nat.le_of_ble_eq_true rfl) dX1_append_17 ⟨(Nat.le_of_ble_eq_true rfl), (Nat.le_of_ble_eq_true rfl)⟩) hP hD hS hA [] [0, 1, 2] rfl rfl rfl (fun q_3 ce_3 u_3 H locs hw_3 hP hD hS _ hce_3 hcv_3 hcl_3 => ?_)
    obtain rfl := hw_3
    have hP : WP Γ [[(tx, .inr (13, [.ref x.1, .int 1, .int x.2.2.2, .int (nI L.length)]))], [(b, .inr (0, [.ref h.e0, .ref tt, .ref sv, .int zs, .ref da, .ref tx, .ref wr, .int fl, .int rf]))], [(x.1, .inl (Γ.2.1 1, 2 * x.2.1, .inl x.2.2.1))]] H := hP
    have hD : WD A [[(tx, .inr (13, [.ref x.1, .int 1, .int x.2.2.2, .int (nI L.length)]))], [(b, .inr (0, [.ref h.e0, .ref tt, .ref sv, .int zs, .ref da, .ref tx, .ref wr, .int fl, .int rf]))], [(x.1, .inl (Γ.2.1 1, 2 * x.2.1, .inl x.2.2.1))]] := hD
    have hP : WP Γ [[(b, .inr (0, [.ref h.e0, .ref tt, .ref sv, .int zs, .ref da, .ref tx, .ref wr, .int fl, .int rf]))], [(tx, .inr (13, [.ref x.1, .int 1, .int x.2.2.2, .int (nI L.length)]))], [(x.1, .inl (Γ.2.1 1, 2 * x.2.1, .inl x.2.2.1))]] H := bP_sel hP [1, 0, 2] rfl
    have hD : WD A [[(b, .inr (0, [.ref h.e0, .ref tt, .ref sv, .int zs, .ref da, .ref tx, .ref wr, .int fl, .int rf]))], [(tx, .inr (13, [.ref x.1, .int 1, .int x.2.2.2, .int (nI L.length)]))], [(x.1, .inl (Γ.2.1 1, 2 * x.2.1, .inl x.2.2.1))]] := bD_sel hD [1, 0, 2] rfl rfl
    exact b_outx hlocks (fun x hx9 => (ht9 x hx9).elim) hP hD hS hce_3 hcv_3 hcl_3 (by first | with_reducible rfl | (simp [n_2, m_2, d_2]; done) | rfl) (Nat.le_of_ble_eq_true rfl) (Nat.le_of_ble_eq_true rfl)
  · -- 9 not taken
    have n_2 : ¬ (50 ≤ L.length) := fun hh7 => c_2 ((nI_leI (a := 50) (b := L.length) (by omega) (by omega)).mpr hh7)
    have m_2 : L.length < 50 := by omega
    have d_2 := Int32.not_le.mp c_2
    refine lv_iconst (v := 1) hx hb dX1_append_12 (by decide) ?_
    refine lv_goto (tgt := 17) hx hb dX1_append_13 (by decide) ?_
    exfalso; omega
set_option maxHeartbeats 4000000 in
set_option maxRecDepth 100000 in
theorem mt_DB_written_x (l : Launch) (Γ : GE) (sz : Nat) (b : Nat) (h : HB) (tt : Nat) (sv : Nat) (zs : Int32) (da : Nat) (tx : Nat) (wr : Nat) (fl : Int32) (rf : Int32) (y : SST) (L : List Int32) (hh : Int32) (zz : Int32) (c : Int32) (hnt : l.stackTraces = false) (hst : stF y L) (hx9 : inC c 0 (nI L.length - 1) = 0) : KMX l yX1_written cX1_written 2 (some FieldType.char) Γ 7 110 1 6 [.ref b, .int c] [[(b, .inr (0, [.ref h.e0, .ref tt, .ref sv, .int zs, .ref da, .ref tx, .ref wr, .int fl, .int rf]))]] [[(wr, .inr (14, [.ref y.1, .int 0, .int hh, .int zz]))], [(y.1, .inl (Γ.2.1 1, L.length, .inl y.2))]] sz "java/util/NoSuchElementException" (fun q_ u_ => u_ = [[(b, .inr (0, [.ref h.e0, .ref tt, .ref sv, .int zs, .ref da, .ref tx, .ref wr, .int fl, .int rf]))]]) := by
  refine K_introX (by decide) (Nat.le_of_ble_eq_true rfl) ?_
  intro pr_ ev_ s mi_ below meth cd_ A ls hx hb hr hml hown hts hlocks hname hK hE hRo hP hD hA hS hsz hl ht9
  have hl : lv_has ls 2 [(0, .ref b), (1, .int c)] := hl
  have hown : s.vm.findClass RX1 = some mi_.cls := hown
  have hll := hst.1
  refine lv_iload_n hx hb dX1_written_0 rfl (lv_at hl 1 rfl) ?_
  refine lv_iconst (v := 0) hx hb dX1_written_1 (by decide) ?_
  refine lv_aload_n hx hb dX1_written_2 rfl (lv_at hl 0 rfl) ?_
  refine b_get (C := RX1) (T := TX1) (N := 9) (v := .ref wr) hx hb hts in_X1 hown hK (b_at (k := 0) hP rfl) rfl 6 (by decide) q254 (fun _ h9 => h9) rfl dX1_written_3 ?_
  refine b_calli (br := [[(b, .inr (0, [.ref h.e0, .ref tt, .ref sv, .int zs, .ref da, .ref tx, .ref wr, .int fl, .int rf]))]]) (b_runV ⟨hx, hb, hml, hown, hts⟩ (mt_Str_length_0 l Γ _ wr y.1 hh zz L.length y.2 (by omega)) (lw_V q1465 q666 q667 q71 q668) rfl rfl 0 (by decide +kernel) ⟨(Nat.le_of_ble_eq_true rfl), (Nat.le_of_ble_eq_true rfl)⟩ (c_pre hP hD hS hA hK hE [] rfl rfl (ro_app (ro_pass (ro_sel (ro2 := [[(wr, .inr (14, [.ref y.1, .int 0, .int hh, .int zz]))]]) hRo [0] rfl) hD hS hA [] rfl) (ro_pass (ro_sel (ro2 := [[(y.1, .inl (Γ.2.1 1, L.length, .inl y.2))]]) hRo [1] rfl) hD hS hA [] rfl))) (recv_ro hK ((hRo (wr, .inr (14, [.ref y.1, .int 0, .int hh, .int zz])) (by simp)).keep hS (fun _ h => h))) rfl hl.1 rfl (Nat.le_of_ble_eq_true rfl) dX1_written_6 ⟨(Nat.le_of_ble_eq_true rfl), (Nat.le_of_ble_eq_true rfl)⟩) hP hD hS hA [] [0] rfl rfl rfl (fun r_1 u_1 H locs hw_1 hP hD hS _ => ?_)
  obtain ⟨rfl, rfl⟩ := hw_1
  have hP : WP Γ [[(b, .inr (0, [.ref h.e0, .ref tt, .ref sv, .int zs, .ref da, .ref tx, .ref wr, .int fl, .int rf]))]] H := hP
  have hD : WD A [[(b, .inr (0, [.ref h.e0, .ref tt, .ref sv, .int zs, .ref da, .ref tx, .ref wr, .int fl, .int rf]))]] := hD
  refine lv_iconst (v := 1) hx hb dX1_written_9 (by decide) ?_
  refine lv_isub hx hb dX1_written_10 ?_
  refine b_calli (br := [[(b, .inr (0, [.ref h.e0, .ref tt, .ref sv, .int zs, .ref da, .ref tx, .ref wr, .int fl, .int rf]))]]) (b_runS ⟨hx, hb, hml, hown, hts⟩ (mt_DB_in l Γ _ c 0 ((nI L.length) - 1)) (lw_S q806 q807 q62 q808) rfl rfl 3 (by decide +kernel) ⟨(Nat.le_of_ble_eq_true rfl), (Nat.le_of_ble_eq_true rfl)⟩ (c_pre hP hD hS hA hK hE [] rfl rfl ro_nil) rfl hl.1 rfl (Nat.le_of_ble_eq_true rfl) dX1_written_11 ⟨(Nat.le_of_ble_eq_true rfl), (Nat.le_of_ble_eq_true rfl)⟩) hP hD hS hA [] [0] rfl rfl rfl (fun r_2 u_2 H locs hw_2 hP hD hS _ => ?_)
  obtain ⟨rfl, rfl⟩ := hw_2
  have hP : WP Γ [[(b, .inr (0, [.ref h.e0, .ref tt, .ref sv, .int zs, .ref da, .ref tx, .ref wr, .int fl, .int rf]))]] H := hP
  have hD : WD A [[(b, .inr (0, [.ref h.e0, .ref tt, .ref sv, .int zs, .ref da, .ref tx, .ref wr, .int fl, .int rf]))]] := hD
  refine b_callx (br := [[(b, .inr (0, [.ref h.e0, .ref tt, .ref sv, .int zs, .ref da, .ref tx, .ref wr, .int fl, .int rf]))]]) (b_runSx ⟨hx, hb, hml, hown, hts⟩ (mt_DB_checkElement_x l Γ _ (inC c 0 ((nI L.length) - 1)) hnt (by first | assumption | rfl)) (lw_S q1172 q1173 q62 q1174) rfl rfl 1 (by decide +kernel) ⟨(Nat.le_of_ble_eq_true rfl), (Nat.le_of_ble_eq_true rfl)⟩ (c_pre hP hD hS hA hK hE [] rfl rfl ro_nil) rfl hl.1 rfl (Nat.le_of_ble_eq_true rfl) dX1_written_14 ⟨(Nat.le_of_ble_eq_true rfl), (Nat.le_of_ble_eq_true rfl)⟩) hP hD hS hA [] [0] rfl rfl rfl (fun q_3 ce_3 u_3 H locs hw_3 hP hD hS _ hce_3 hcv_3 hcl_3 => ?_)
  obtain rfl := hw_3
  have hP : WP Γ [[(b, .inr (0, [.ref h.e0, .ref tt, .ref sv, .int zs, .ref da, .ref tx, .ref wr, .int fl, .int rf]))]] H := hP
  have hD : WD A [[(b, .inr (0, [.ref h.e0, .ref tt, .ref sv, .int zs, .ref da, .ref tx, .ref wr, .int fl, .int rf]))]] := hD
  exact b_outx hlocks (fun x hx9 => (ht9 x hx9).elim) hP hD hS hce_3 hcv_3 hcl_3 (by first | rfl | (simp; done)) (Nat.le_of_ble_eq_true rfl) (Nat.le_of_ble_eq_true rfl)
set_option maxHeartbeats 4000000 in
set_option maxRecDepth 100000 in
theorem mt_DB_undo_x (l : Launch) (Γ : GE) (sz : Nat) (b : Nat) (h : HB) (tt : Nat) (sv : Nat) (zs : Int32) (da : Nat) (tx : Nat) (wr : Nat) (fl : Int32) (rf : Int32) (dv : Nat) (df : Nat → Option Nat) (dp : Nat) (hnt : l.stackTraces = false) (hdb : dp < 17) : KMX l yX1_undo cX1_undo 1 (some FieldType.int) Γ 7 110 1 6 [.ref b] [[(b, .inr (0, [.ref h.e0, .ref tt, .ref sv, .int zs, .ref da, .ref tx, .ref wr, .int fl, .int rf]))], [(da, .inr (12, [.ref dv, .int (nI dp), .int (nI ((dp + 0) % 17))]))], [(dv, .inl (Γ.2.1 2, 17, .inr (.inr (.inr (.inr df)))))]] [] sz "java/lang/IllegalStateException" (fun q_ u_ => u_ = [[(b, .inr (0, [.ref h.e0, .ref tt, .ref sv, .int zs, .ref da, .ref tx, .ref wr, .int fl, .int rf]))], [(da, .inr (12, [.ref dv, .int (nI dp), .int (nI ((dp + 0) % 17))]))], [(dv, .inl (Γ.2.1 2, 17, .inr (.inr (.inr (.inr df)))))]]) := by
  refine K_introX (by decide) (Nat.le_of_ble_eq_true rfl) ?_
  intro pr_ ev_ s mi_ below meth cd_ A ls hx hb hr hml hown hts hlocks hname hK hE hRo hP hD hA hS hsz hl ht9
  have hl : lv_has ls 1 [(0, .ref b)] := hl
  have hown : s.vm.findClass RX1 = some mi_.cls := hown
  refine lv_aload_n hx hb dX1_undo_0 rfl (lv_at hl 0 rfl) ?_
  refine b_get (C := RX1) (T := TX1) (N := 9) (v := .ref da) hx hb hts in_X1 hown hK (b_at (k := 0) hP rfl) rfl 4 (by decide) q252 (fun _ h9 => h9) rfl dX1_undo_1 ?_
  refine b_calli (br := [[(b, .inr (0, [.ref h.e0, .ref tt, .ref sv, .int zs, .ref da, .ref tx, .ref wr, .int fl, .int rf]))]]) (b_runV ⟨hx, hb, hml, hown, hts⟩ (mt_DQ_isEmpty l Γ _ da dv df dp 0 (by omega) (by omega)) (lw_V q1774 q1775 q1776 q68 q1777) rfl rfl 0 (by decide +kernel) ⟨(Nat.le_of_ble_eq_true rfl), (Nat.le_of_ble_eq_true rfl)⟩ (c_pre hP hD hS hA hK hE [1, 2] rfl rfl ro_nil) (recv_at (q := (RJ3, TJ3, 3)) hK (b_at (k := 1) hP rfl) rfl) rfl hl.1 rfl (Nat.le_of_ble_eq_true rfl) dX1_undo_4 ⟨(Nat.le_of_ble_eq_true rfl), (Nat.le_of_ble_eq_true rfl)⟩) hP hD hS hA [1, 2] [0] rfl rfl rfl (fun r_1 u_1 H locs hw_1 hP hD hS _ => ?_)
  obtain ⟨rfl, rfl⟩ := hw_1
  have hP : WP Γ [[(da, .inr (12, [.ref dv, .int (nI dp), .int (nI ((dp + 0) % 17))]))], [(dv, .inl (Γ.2.1 2, 17, .inr (.inr (.inr (.inr df)))))], [(b, .inr (0, [.ref h.e0, .ref tt, .ref sv, .int zs, .ref da, .ref tx, .ref wr, .int fl, .int rf]))]] H := hP
  have hD : WD A [[(da, .inr (12, [.ref dv, .int (nI dp), .int (nI ((dp + 0) % 17))]))], [(dv, .inl (Γ.2.1 2, 17, .inr (.inr (.inr (.inr df)))))], [(b, .inr (0, [.ref h.e0, .ref tt, .ref sv, .int zs, .ref da, .ref tx, .ref wr, .int fl, .int rf]))]] := hD
  refine b_top (show (if 0 = 0 then 1 else 0) = 1 from if_pos rfl) ?_
  refine lv_if_ne (tgt := 14) hx hb dX1_undo_7 (by decide) (fun c_2 => ?_) (fun c_2 => ?_)
  · -- 7 taken
    have n_2 : ¬ (1 = 0) := fun hh7 => c_2 ((nI_eq (a := 1) (b := 0) (by omega) (by omega)).mpr hh7)
    refine lv_iconst (v := 0) hx hb dX1_undo_14 (by decide) ?_
    refine b_callx (br := [[(da, .inr (12, [.ref dv, .int (nI dp), .int (nI ((dp + 0) % 17))]))], [(dv, .inl (Γ.2.1 2, 17, .inr (.inr (.inr (.inr df)))))], [(b, .inr (0, [.ref h.e0, .ref tt, .ref sv, .int zs, .ref da, .ref tx, .ref wr, .int fl, .int rf]))]]) (b_runSx ⟨hx, hb, hml, hown, hts⟩ (mt_DB_checkState_x l Γ _ 0 hnt (by first | assumption | rfl)) (lw_S q821 q822 q62 q823) rfl rfl 1 (by decide +kernel) ⟨(Nat.le_of_ble_eq_true rfl), (Nat.le_of_ble_eq_true rfl)⟩ (c_pre hP hD hS hA hK hE [] rfl rfl ro_nil) rfl hl.1 rfl (Nat.le_of_ble_eq_true rfl) dX1_undo_15 ⟨(Nat.le_of_ble_eq_true rfl), (Nat.le_of_ble_eq_true rfl)⟩) hP hD hS hA [] [0, 1, 2] rfl rfl rfl (fun q_3 ce_3 u_3 H locs hw_3 hP hD hS _ hce_3 hcv_3 hcl_3 => ?_)
    obtain rfl := hw_3
    have hP : WP Γ [[(da, .inr (12, [.ref dv, .int (nI dp), .int (nI ((dp + 0) % 17))]))], [(dv, .inl (Γ.2.1 2, 17, .inr (.inr (.inr (.inr df)))))], [(b, .inr (0, [.ref h.e0, .ref tt, .ref sv, .int zs, .ref da, .ref tx, .ref wr, .int fl, .int rf]))]] H := hP
    have hD : WD A [[(da, .inr (12, [.ref dv, .int (nI dp), .int (nI ((dp + 0) % 17))]))], [(dv, .inl (Γ.2.1 2, 17, .inr (.inr (.inr (.inr df)))))], [(b, .inr (0, [.ref h.e0, .ref tt, .ref sv, .int zs, .ref da, .ref tx, .ref wr, .int fl, .int rf]))]] := hD
    have hP : WP Γ [[(b, .inr (0, [.ref h.e0, .ref tt, .ref sv, .int zs, .ref da, .ref tx, .ref wr, .int fl, .int rf]))], [(da, .inr (12, [.ref dv, .int (nI dp), .int (nI ((dp + 0) % 17))]))], [(dv, .inl (Γ.2.1 2, 17, .inr (.inr (.inr (.inr df)))))]] H := bP_sel hP [2, 0, 1] rfl
    have hD : WD A [[(b, .inr (0, [.ref h.e0, .ref tt, .ref sv, .int zs, .ref da, .ref tx, .ref wr, .int fl, .int rf]))], [(da, .inr (12, [.ref dv, .int (nI dp), .int (nI ((dp + 0) % 17))]))], [(dv, .inl (Γ.2.1 2, 17, .inr (.inr (.inr (.inr df)))))]] := bD_sel hD [2, 0, 1] rfl rfl
    exact b_outx hlocks (fun x hx9 => (ht9 x hx9).elim) hP hD hS hce_3 hcv_3 hcl_3 (by first | with_reducible rfl | (simp [n_2]; done) | rfl) (Nat.le_of_ble_eq_true rfl) (Nat.le_of_ble_eq_true rfl)
  · -- 7 not taken
    have n_2 : 1 = 0 := (nI_eq (by omega) (by omega)).mp (show nI 1 = nI 0 from c_2)
    exact absurd n_2 (by omega)
set_option maxHeartbeats 4000000 in
set_option maxRecDepth 100000 in
theorem mt_DB_restore_x (l : Launch) (Γ : GE) (sz : Nat) (b : Nat) (h : HB) (tt : Nat) (sv : Nat) (zs : Int32) (da : Nat) (tx : Nat) (wr : Nat) (fl : Int32) (rf : Int32) (hnt : l.stackTraces = false) (hz9 : zs = 0) : KMX l yX1_restore cX1_restore 1 none Γ 7 110 1 6 [.ref b] [[(b, .inr (0, [.ref h.e0, .ref tt, .ref sv, .int zs, .ref da, .ref tx, .ref wr, .int fl, .int rf]))]] [] sz "java/lang/IllegalStateException" (fun q_ u_ => u_ = [[(b, .inr (0, [.ref h.e0, .ref tt, .ref sv, .int zs, .ref da, .ref tx, .ref wr, .int fl, .int rf]))]]) := by
  refine K_introX (by decide) (Nat.le_of_ble_eq_true rfl) ?_
  intro pr_ ev_ s mi_ below meth cd_ A ls hx hb hr hml hown hts hlocks hname hK hE hRo hP hD hA hS hsz hl ht9
  have hl : lv_has ls 1 [(0, .ref b)] := hl
  have hown : s.vm.findClass RX1 = some mi_.cls := hown
  refine lv_aload_n hx hb dX1_restore_0 rfl (lv_at hl 0 rfl) ?_
  refine b_get (C := RX1) (T := TX1) (N := 9) (v := .int zs) hx hb hts in_X1 hown hK (b_at (k := 0) hP rfl) rfl 3 (by decide) q251 (fun _ h9 => h9) rfl dX1_restore_1 ?_
  refine b_callx (br := [[(b, .inr (0, [.ref h.e0, .ref tt, .ref sv, .int zs, .ref da, .ref tx, .ref wr, .int fl, .int rf]))]]) (b_runSx ⟨hx, hb, hml, hown, hts⟩ (mt_DB_checkState_x l Γ _ zs hnt hz9) (lw_S q821 q822 q62 q823) rfl rfl 1 (by decide +kernel) ⟨(Nat.le_of_ble_eq_true rfl), (Nat.le_of_ble_eq_true rfl)⟩ (c_pre hP hD hS hA hK hE [] rfl rfl ro_nil) rfl hl.1 rfl (Nat.le_of_ble_eq_true rfl) dX1_restore_4 ⟨(Nat.le_of_ble_eq_true rfl), (Nat.le_of_ble_eq_true rfl)⟩) hP hD hS hA [] [0] rfl rfl rfl (fun q_1 ce_1 u_1 H locs hw_1 hP hD hS _ hce_1 hcv_1 hcl_1 => ?_)
  obtain rfl := hw_1
  have hP : WP Γ [[(b, .inr (0, [.ref h.e0, .ref tt, .ref sv, .int zs, .ref da, .ref tx, .ref wr, .int fl, .int rf]))]] H := hP
  have hD : WD A [[(b, .inr (0, [.ref h.e0, .ref tt, .ref sv, .int zs, .ref da, .ref tx, .ref wr, .int fl, .int rf]))]] := hD
  exact b_outx hlocks (fun x hx9 => (ht9 x hx9).elim) hP hD hS hce_1 hcv_1 hcl_1 (by first | rfl | (simp; done)) (Nat.le_of_ble_eq_true rfl) (Nat.le_of_ble_eq_true rfl)
