/-! COMPONENT: the reader. L the text, i where it stands -/
def rdH (L : List Int32) (i : Nat) : Int32 := if i < L.length then L.getD i 0 else -1
set_option maxHeartbeats 4000000 in
set_option maxRecDepth 100000 in
theorem mt_Rd_init (l : Launch) (Γ : GE) (sz : Nat) (a : Nat) (o : Nat)  : KM l yX10_init cX10_init 2 none Γ 1 30 0 0 [.ref a, .ref o] [[(a, .inr (8, [.null, .int 0]))]] [] sz (Qv Γ (fun u_ => u_ = [[(a, .inr (8, [.ref o, .int (nI 0)]))]])) := by
  refine K_intro (by decide) (Nat.le_of_ble_eq_true rfl) ?_
  intro pr_ ev_ s mi_ below meth cd_ A ls hx hb hr hml hown hts hlocks hname hK hE hRo hP hD hA hS hsz hl
  have hl : lv_has ls 2 [(0, .ref a), (1, .ref o)] := hl
  have hown : s.vm.findClass RX10 = some mi_.cls := hown
  refine lv_aload_n hx hb dX10_init_0 rfl (lv_at hl 0 rfl) ?_
  refine W.objInit hx hb hown (hts _ q1537) (hts _ q109) (hts _ q110) rfl (by rw [hml]; exact hl.1) rfl dX10_init_1 (Nat.le_of_ble_eq_true rfl) (Nat.le_of_ble_eq_true rfl) ?_
  refine W.eq (g2 := F0 mi_ 4 ls ([])) rfl ?_
  refine lv_aload_n hx hb dX10_init_4 rfl (lv_at hl 0 rfl) ?_
  refine lv_aload_n hx hb dX10_init_5 rfl (lv_at hl 1 rfl) ?_
  refine b_putF (C := RX10) (T := TX10) (N := 2) (ty := (tyX10 0)) (v := .ref o) hx hb hts in_X10 tyX10_ok nmX10 hown hK hP hD hS 0 rfl rfl 0 (by decide) q1538 (fun _ h9 => h9) rfl hname rfl rfl (by decide +kernel) rfl rfl (Nat.le_of_ble_eq_true rfl) dX10_init_6 (fun H locs hP hD hS => ?_)
  have hP : WP Γ [[(a, .inr (8, [.ref o, .int 0]))]] H := hP
  have hD : WD A [[(a, .inr (8, [.ref o, .int 0]))]] := hD
  exact b_vret hx hb hr hlocks hP hD hS (Nat.le_of_ble_eq_true rfl) (Nat.le_of_ble_eq_true rfl) (by first | rfl | (simp; done)) dX10_init_9
set_option maxHeartbeats 4000000 in
set_option maxRecDepth 100000 in
theorem mt_Cm_init (l : Launch) (Γ : GE) (sz : Nat) (a : Nat) (o : Nat) (u : Int32) (v : Int32)  : KM l yX12_init cX12_init 4 none Γ 1 30 0 0 [.ref a, .ref o, .int u, .int v] [[(a, .inr (10, [.null, .int 0, .int 0]))]] [] sz (Qv Γ (fun u_ => u_ = [[(a, .inr (10, [.ref o, .int u, .int v]))]])) := by
  refine K_intro (by decide) (Nat.le_of_ble_eq_true rfl) ?_
  intro pr_ ev_ s mi_ below meth cd_ A ls hx hb hr hml hown hts hlocks hname hK hE hRo hP hD hA hS hsz hl
  have hl : lv_has ls 4 [(0, .ref a), (1, .ref o), (2, .int u), (3, .int v)] := hl
  have hown : s.vm.findClass RX12 = some mi_.cls := hown
  refine lv_aload_n hx hb dX12_init_0 rfl (lv_at hl 0 rfl) ?_
  refine W.objInit hx hb hown (hts _ q1682) (hts _ q109) (hts _ q110) rfl (by rw [hml]; exact hl.1) rfl dX12_init_1 (Nat.le_of_ble_eq_true rfl) (Nat.le_of_ble_eq_true rfl) ?_
  refine W.eq (g2 := F0 mi_ 4 ls ([])) rfl ?_
  refine lv_aload_n hx hb dX12_init_4 rfl (lv_at hl 0 rfl) ?_
  refine lv_aload_n hx hb dX12_init_5 rfl (lv_at hl 1 rfl) ?_
  refine b_putF (C := RX12) (T := TX12) (N := 3) (ty := (tyX12 0)) (v := .ref o) hx hb hts in_X12 tyX12_ok nmX12 hown hK hP hD hS 0 rfl rfl 0 (by decide) q1683 (fun _ h9 => h9) rfl hname rfl rfl (by decide +kernel) rfl rfl (Nat.le_of_ble_eq_true rfl) dX12_init_6 (fun H locs hP hD hS => ?_)
  have hP : WP Γ [[(a, .inr (10, [.ref o, .int 0, .int 0]))]] H := hP
  have hD : WD A [[(a, .inr (10, [.ref o, .int 0, .int 0]))]] := hD
  refine lv_aload_n hx hb dX12_init_9 rfl (lv_at hl 0 rfl) ?_
  refine lv_iload_n hx hb dX12_init_10 rfl (lv_at hl 2 rfl) ?_
  refine b_putF (C := RX12) (T := TX12) (N := 3) (ty := .int) (v := .int u) hx hb hts in_X12 tyX12_ok nmX12 hown hK hP hD hS 0 rfl rfl 1 (by decide) q1684 (fun _ h9 => h9) rfl hname rfl rfl (by decide +kernel) rfl rfl (Nat.le_of_ble_eq_true rfl) dX12_init_11 (fun H locs hP hD hS => ?_)
  have hP : WP Γ [[(a, .inr (10, [.ref o, .int u, .int 0]))]] H := hP
  have hD : WD A [[(a, .inr (10, [.ref o, .int u, .int 0]))]] := hD
  refine lv_aload_n hx hb dX12_init_14 rfl (lv_at hl 0 rfl) ?_
  refine lv_iload_n hx hb dX12_init_15 rfl (lv_at hl 3 rfl) ?_
  refine b_putF (C := RX12) (T := TX12) (N := 3) (ty := .int) (v := .int v) hx hb hts in_X12 tyX12_ok nmX12 hown hK hP hD hS 0 rfl rfl 2 (by decide) q1685 (fun _ h9 => h9) rfl hname rfl rfl (by decide +kernel) rfl rfl (Nat.le_of_ble_eq_true rfl) dX12_init_16 (fun H locs hP hD hS => ?_)
  have hP : WP Γ [[(a, .inr (10, [.ref o, .int u, .int v]))]] H := hP
  have hD : WD A [[(a, .inr (10, [.ref o, .int u, .int v]))]] := hD
  exact b_vret hx hb hr hlocks hP hD hS (Nat.le_of_ble_eq_true rfl) (Nat.le_of_ble_eq_true rfl) (by first | rfl | (simp; done)) dX12_init_19
set_option maxHeartbeats 4000000 in
set_option maxRecDepth 100000 in
theorem mt_Rd_here_0 (l : Launch) (Γ : GE) (sz : Nat) (a : Nat) (o : Nat) (y : SST) (L : List Int32) (z1 : Int32) (z2 : Int32) (i : Nat) (hst : stF y L) (hi5 : i ≤ 512) : KM l yX10_here cX10_here 1 (some FieldType.int) Γ 4 85 0 0 [.ref a] [[(a, .inr (8, [.ref o, .int (nI i)]))]] [[(o, .inr (14, [.ref y.1, .int 0, .int z1, .int z2]))], [(y.1, .inl (Γ.2.1 1, L.length, .inl y.2))]] sz (Qi Γ (fun r_ u_ => r_ = (rdH L i) ∧ u_ = [[(a, .inr (8, [.ref o, .int (nI i)]))]])) := by
  refine K_intro (by decide) (Nat.le_of_ble_eq_true rfl) ?_
  intro pr_ ev_ s mi_ below meth cd_ A ls hx hb hr hml hown hts hlocks hname hK hE hRo hP hD hA hS hsz hl
  have hl : lv_has ls 1 [(0, .ref a)] := hl
  have hown : s.vm.findClass RX10 = some mi_.cls := hown
  have hll := hst.1
  refine lv_aload_n hx hb dX10_here_0 rfl (lv_at hl 0 rfl) ?_
  refine b_get (C := RX10) (T := TX10) (N := 2) (v := .int (nI i)) hx hb hts in_X10 hown hK (b_at (k := 0) hP rfl) rfl 1 (by decide) q1539 (fun _ h9 => h9) rfl dX10_here_1 ?_
  refine lv_aload_n hx hb dX10_here_4 rfl (lv_at hl 0 rfl) ?_
  refine b_get (C := RX10) (T := TX10) (N := 2) (v := .ref o) hx hb hts in_X10 hown hK (b_at (k := 0) hP rfl) rfl 0 (by decide) q1538 (fun _ h9 => h9) rfl dX10_here_5 ?_
  refine b_calli (br := [[(a, .inr (8, [.ref o, .int (nI i)]))]]) (b_runV ⟨hx, hb, hml, hown, hts⟩ (mt_Str_length_0 l Γ _ o y.1 z1 z2 L.length y.2 (by omega)) (lw_V q1567 q666 q667 q71 q668) rfl rfl 0 (by decide +kernel) ⟨(Nat.le_of_ble_eq_true rfl), (Nat.le_of_ble_eq_true rfl)⟩ (c_pre hP hD hS hA hK hE [] rfl rfl (ro_app (ro_pass (ro_sel (ro2 := [[(o, .inr (14, [.ref y.1, .int 0, .int z1, .int z2]))]]) hRo [0] rfl) hD hS hA [] rfl) (ro_pass (ro_sel (ro2 := [[(y.1, .inl (Γ.2.1 1, L.length, .inl y.2))]]) hRo [1] rfl) hD hS hA [] rfl))) (recv_ro hK ((hRo (o, .inr (14, [.ref y.1, .int 0, .int z1, .int z2])) (by simp)).keep hS (fun _ h => h))) rfl hl.1 rfl (Nat.le_of_ble_eq_true rfl) dX10_here_8 ⟨(Nat.le_of_ble_eq_true rfl), (Nat.le_of_ble_eq_true rfl)⟩) hP hD hS hA [] [0] rfl rfl rfl (fun r_1 u_1 H locs hw_1 hP hD hS _ => ?_)
  obtain ⟨rfl, rfl⟩ := hw_1
  have hP : WP Γ [[(a, .inr (8, [.ref o, .int (nI i)]))]] H := hP
  have hD : WD A [[(a, .inr (8, [.ref o, .int (nI i)]))]] := hD
  refine lv_icmp_ge (tgt := 28) hx hb dX10_here_11 (by decide) (fun c_2 => ?_) (fun c_2 => ?_)
  · -- 11 taken
    have n_2 : L.length ≤ i := (nI_leI (by omega) (by omega)).mp (show nI L.length ≤ nI i from c_2)
    have m_2 : ¬ (i < L.length) := by omega
    have d_2 := Int32.not_lt.mpr c_2
    refine lv_iconst (v := (-1)) hx hb dX10_here_28 (by decide) ?_
    exact b_iret hx hb hr hlocks hP hD hS (Nat.le_of_ble_eq_true rfl) (Nat.le_of_ble_eq_true rfl) ⟨(by rw [rdH, if_neg (by omega)]), (by first | with_reducible rfl | (simp [n_2, m_2, d_2]; done) | rfl)⟩ dX10_here_29
  · -- 11 not taken
    have n_2 : ¬ (L.length ≤ i) := fun hh7 => c_2 ((nI_leI (a := L.length) (b := i) (by omega) (by omega)).mpr hh7)
    have m_2 : i < L.length := by omega
    have d_2 := Int32.not_le.mp c_2
    refine lv_aload_n hx hb dX10_here_14 rfl (lv_at hl 0 rfl) ?_
    refine b_get (C := RX10) (T := TX10) (N := 2) (v := .ref o) hx hb hts in_X10 hown hK (b_at (k := 0) hP rfl) rfl 0 (by decide) q1538 (fun _ h9 => h9) rfl dX10_here_15 ?_
    refine lv_aload_n hx hb dX10_here_18 rfl (lv_at hl 0 rfl) ?_
    refine b_get (C := RX10) (T := TX10) (N := 2) (v := .int (nI i)) hx hb hts in_X10 hown hK (b_at (k := 0) hP rfl) rfl 1 (by decide) q1539 (fun _ h9 => h9) rfl dX10_here_19 ?_
    refine b_calli (br := [[(a, .inr (8, [.ref o, .int (nI i)]))]]) (b_runV ⟨hx, hb, hml, hown, hts⟩ (mt_Str_charAt_0 l Γ _ o y.1 z1 z2 L.length y.2 i (by omega) (by omega)) (lw_V q1568 q1481 q1482 q71 q1483) rfl rfl 1 (by decide +kernel) ⟨(Nat.le_of_ble_eq_true rfl), (Nat.le_of_ble_eq_true rfl)⟩ (c_pre hP hD hS hA hK hE [] rfl rfl (ro_app (ro_pass (ro_sel (ro2 := [[(o, .inr (14, [.ref y.1, .int 0, .int z1, .int z2]))]]) hRo [0] rfl) hD hS hA [] rfl) (ro_pass (ro_sel (ro2 := [[(y.1, .inl (Γ.2.1 1, L.length, .inl y.2))]]) hRo [1] rfl) hD hS hA [] rfl))) (recv_ro hK ((hRo (o, .inr (14, [.ref y.1, .int 0, .int z1, .int z2])) (by simp)).keep hS (fun _ h => h))) rfl hl.1 rfl (Nat.le_of_ble_eq_true rfl) dX10_here_22 ⟨(Nat.le_of_ble_eq_true rfl), (Nat.le_of_ble_eq_true rfl)⟩) hP hD hS hA [] [0] rfl rfl rfl (fun r_3 u_3 H locs hw_3 hP hD hS _ => ?_)
    obtain ⟨rfl, rfl⟩ := hw_3
    have hP : WP Γ [[(a, .inr (8, [.ref o, .int (nI i)]))]] H := hP
    have hD : WD A [[(a, .inr (8, [.ref o, .int (nI i)]))]] := hD
    refine lv_goto (tgt := 29) hx hb dX10_here_25 (by decide) ?_
    exact b_iret hx hb hr hlocks hP hD hS (Nat.le_of_ble_eq_true rfl) (Nat.le_of_ble_eq_true rfl) ⟨(by rw [rdH, if_pos (by omega)]; exact hst.2.2 i (by omega)), (by first | with_reducible rfl | (simp [n_2, m_2, d_2]; done) | rfl)⟩ dX10_here_29
set_option maxHeartbeats 4000000 in
set_option maxRecDepth 100000 in
theorem mt_Rd_skip_yes_0 (l : Launch) (Γ : GE) (sz : Nat) (a : Nat) (o : Nat) (y : SST) (L : List Int32) (z1 : Int32) (z2 : Int32) (i : Nat) (c : Int32) (hst : stF y L) (hi5 : i ≤ 512) (hc9 : rdH L i = c) : KM l yX10_skip cX10_skip 2 (some FieldType.boolean) Γ 5 105 0 0 [.ref a, .int c] [[(a, .inr (8, [.ref o, .int (nI i)]))]] [[(o, .inr (14, [.ref y.1, .int 0, .int z1, .int z2]))], [(y.1, .inl (Γ.2.1 1, L.length, .inl y.2))]] sz (Qi Γ (fun r_ u_ => r_ = 1 ∧ u_ = [[(a, .inr (8, [.ref o, .int (nI (i + 1))]))]])) := by
  refine K_intro (by decide) (Nat.le_of_ble_eq_true rfl) ?_
  intro pr_ ev_ s mi_ below meth cd_ A ls hx hb hr hml hown hts hlocks hname hK hE hRo hP hD hA hS hsz hl
  have hl : lv_has ls 2 [(0, .ref a), (1, .int c)] := hl
  have hown : s.vm.findClass RX10 = some mi_.cls := hown
  refine lv_aload_n hx hb dX10_skip_0 rfl (lv_at hl 0 rfl) ?_
  refine b_calli (br := []) (b_runV ⟨hx, hb, hml, hown, hts⟩ (mt_Rd_here_0 l Γ _ a o y L z1 z2 i (by assumption) (by first | exact hi5 | omega)) (lw_V q1563 q1565 qs27 q99 q1566) rfl rfl 0 (by decide +kernel) ⟨(Nat.le_of_ble_eq_true rfl), (Nat.le_of_ble_eq_true rfl)⟩ (c_pre hP hD hS hA hK hE [0] rfl rfl (ro_app (ro_pass (ro_sel (ro2 := [[(o, .inr (14, [.ref y.1, .int 0, .int z1, .int z2]))]]) hRo [0] rfl) hD hS hA [0] rfl) (ro_pass (ro_sel (ro2 := [[(y.1, .inl (Γ.2.1 1, L.length, .inl y.2))]]) hRo [1] rfl) hD hS hA [0] rfl))) (recv_at (q := (RX10, TX10, 2)) hK (b_at (k := 0) hP rfl) rfl) rfl hl.1 rfl (Nat.le_of_ble_eq_true rfl) dX10_skip_1 ⟨(Nat.le_of_ble_eq_true rfl), (Nat.le_of_ble_eq_true rfl)⟩) hP hD hS hA [0] [] rfl rfl rfl (fun r_1 u_1 H locs hw_1 hP hD hS _ => ?_)
  obtain ⟨rfl, rfl⟩ := hw_1
  have hP : WP Γ [[(a, .inr (8, [.ref o, .int (nI i)]))]] H := hP
  have hD : WD A [[(a, .inr (8, [.ref o, .int (nI i)]))]] := hD
  refine lv_iload_n hx hb dX10_skip_4 rfl (lv_at hl 1 rfl) ?_
  refine lv_icmp_eq (tgt := 10) hx hb dX10_skip_5 (by decide) (fun c_2 => ?_) (fun c_2 => ?_)
  · -- 5 taken
    refine lv_aload_n hx hb dX10_skip_10 rfl (lv_at hl 0 rfl) ?_
    refine lv_dup hx hb dX10_skip_11 rfl ?_
    refine b_get (C := RX10) (T := TX10) (N := 2) (v := .int (nI i)) hx hb hts in_X10 hown hK (b_at (k := 0) hP rfl) rfl 1 (by decide) q1539 (fun _ h9 => h9) rfl dX10_skip_12 ?_
    refine lv_iconst (v := 1) hx hb dX10_skip_15 (by decide) ?_
    refine lv_iadd hx hb dX10_skip_16 ?_
    refine b_top (nI_addE (a := i) (b := 1) (c := i + 1) rfl rfl (by first | omega | rfl)) ?_
    refine b_put (C := RX10) (T := TX10) (N := 2) (ty := .int) (v := .int (nI (i + 1))) hx hb hts in_X10 tyX10_ok nmX10 hown hK hP hD hS 0 rfl rfl 1 (by decide) q1539 (fun _ h9 => h9) rfl (by decide +kernel) rfl rfl (Nat.le_of_ble_eq_true rfl) dX10_skip_17 (fun H locs hP hD hS => ?_)
    have hP : WP Γ [[(a, .inr (8, [.ref o, .int (nI (i + 1))]))]] H := hP
    have hD : WD A [[(a, .inr (8, [.ref o, .int (nI (i + 1))]))]] := hD
    refine lv_iconst (v := 1) hx hb dX10_skip_20 (by decide) ?_
    exact b_zret hx hb hr hlocks hP hD hS (Nat.le_of_ble_eq_true rfl) (Nat.le_of_ble_eq_true rfl) rfl ⟨(by first | with_reducible rfl | (simp [c_2]; done) | rfl), (by first | with_reducible rfl | (simp [c_2]; done) | rfl)⟩ dX10_skip_21
  · -- 5 not taken
    exact absurd hc9 c_2
set_option maxHeartbeats 4000000 in
set_option maxRecDepth 100000 in
theorem mt_Rd_skip_no_0 (l : Launch) (Γ : GE) (sz : Nat) (a : Nat) (o : Nat) (y : SST) (L : List Int32) (z1 : Int32) (z2 : Int32) (i : Nat) (c : Int32) (hst : stF y L) (hi5 : i ≤ 512) (hc9 : ¬ rdH L i = c) : KM l yX10_skip cX10_skip 2 (some FieldType.boolean) Γ 5 105 0 0 [.ref a, .int c] [[(a, .inr (8, [.ref o, .int (nI i)]))]] [[(o, .inr (14, [.ref y.1, .int 0, .int z1, .int z2]))], [(y.1, .inl (Γ.2.1 1, L.length, .inl y.2))]] sz (Qi Γ (fun r_ u_ => r_ = 0 ∧ u_ = [[(a, .inr (8, [.ref o, .int (nI i)]))]])) := by
  refine K_intro (by decide) (Nat.le_of_ble_eq_true rfl) ?_
  intro pr_ ev_ s mi_ below meth cd_ A ls hx hb hr hml hown hts hlocks hname hK hE hRo hP hD hA hS hsz hl
  have hl : lv_has ls 2 [(0, .ref a), (1, .int c)] := hl
  have hown : s.vm.findClass RX10 = some mi_.cls := hown
  refine lv_aload_n hx hb dX10_skip_0 rfl (lv_at hl 0 rfl) ?_
  refine b_calli (br := []) (b_runV ⟨hx, hb, hml, hown, hts⟩ (mt_Rd_here_0 l Γ _ a o y L z1 z2 i (by assumption) (by first | exact hi5 | omega)) (lw_V q1563 q1565 qs27 q99 q1566) rfl rfl 0 (by decide +kernel) ⟨(Nat.le_of_ble_eq_true rfl), (Nat.le_of_ble_eq_true rfl)⟩ (c_pre hP hD hS hA hK hE [0] rfl rfl (ro_app (ro_pass (ro_sel (ro2 := [[(o, .inr (14, [.ref y.1, .int 0, .int z1, .int z2]))]]) hRo [0] rfl) hD hS hA [0] rfl) (ro_pass (ro_sel (ro2 := [[(y.1, .inl (Γ.2.1 1, L.length, .inl y.2))]]) hRo [1] rfl) hD hS hA [0] rfl))) (recv_at (q := (RX10, TX10, 2)) hK (b_at (k := 0) hP rfl) rfl) rfl hl.1 rfl (Nat.le_of_ble_eq_true rfl) dX10_skip_1 ⟨(Nat.le_of_ble_eq_true rfl), (Nat.le_of_ble_eq_true rfl)⟩) hP hD hS hA [0] [] rfl rfl rfl (fun r_1 u_1 H locs hw_1 hP hD hS _ => ?_)
  obtain ⟨rfl, rfl⟩ := hw_1
  have hP : WP Γ [[(a, .inr (8, [.ref o, .int (nI i)]))]] H := hP
  have hD : WD A [[(a, .inr (8, [.ref o, .int (nI i)]))]] := hD
  refine lv_iload_n hx hb dX10_skip_4 rfl (lv_at hl 1 rfl) ?_
  refine lv_icmp_eq (tgt := 10) hx hb dX10_skip_5 (by decide) (fun c_2 => ?_) (fun c_2 => ?_)
  · -- 5 taken
    exact absurd c_2 hc9
  · -- 5 not taken
    refine lv_iconst (v := 0) hx hb dX10_skip_8 (by decide) ?_
    exact b_zret hx hb hr hlocks hP hD hS (Nat.le_of_ble_eq_true rfl) (Nat.le_of_ble_eq_true rfl) rfl ⟨(by first | with_reducible rfl | (simp [c_2]; done) | rfl), (by first | with_reducible rfl | (simp [c_2]; done) | rfl)⟩ dX10_skip_9
set_option maxHeartbeats 4000000 in
set_option maxRecDepth 100000 in
theorem mt_Rd_must_ok_0 (l : Launch) (Γ : GE) (sz : Nat) (a : Nat) (o : Nat) (y : SST) (L : List Int32) (z1 : Int32) (z2 : Int32) (i : Nat) (c : Int32) (hst : stF y L) (hi5 : i ≤ 512) (hc9 : rdH L i = c) : KM l yX10_must cX10_must 2 none Γ 6 126 0 0 [.ref a, .int c] [[(a, .inr (8, [.ref o, .int (nI i)]))]] [[(o, .inr (14, [.ref y.1, .int 0, .int z1, .int z2]))], [(y.1, .inl (Γ.2.1 1, L.length, .inl y.2))]] sz (Qv Γ (fun u_ => u_ = [[(a, .inr (8, [.ref o, .int (nI (i + 1))]))]])) := by
  refine K_intro (by decide) (Nat.le_of_ble_eq_true rfl) ?_
  intro pr_ ev_ s mi_ below meth cd_ A ls hx hb hr hml hown hts hlocks hname hK hE hRo hP hD hA hS hsz hl
  have hl : lv_has ls 2 [(0, .ref a), (1, .int c)] := hl
  have hown : s.vm.findClass RX10 = some mi_.cls := hown
  refine lv_aload_n hx hb dX10_must_0 rfl (lv_at hl 0 rfl) ?_
  refine lv_iload_n hx hb dX10_must_1 rfl (lv_at hl 1 rfl) ?_
  refine b_calli (br := []) (b_runV ⟨hx, hb, hml, hown, hts⟩ (mt_Rd_skip_yes_0 l Γ _ a o y L z1 z2 i c (by assumption) (by first | exact hi5 | omega) (by first | exact hc9 | omega)) (lw_V q1669 q1671 qs29 q99 q1672) rfl rfl 1 (by decide +kernel) ⟨(Nat.le_of_ble_eq_true rfl), (Nat.le_of_ble_eq_true rfl)⟩ (c_pre hP hD hS hA hK hE [0] rfl rfl (ro_app (ro_pass (ro_sel (ro2 := [[(o, .inr (14, [.ref y.1, .int 0, .int z1, .int z2]))]]) hRo [0] rfl) hD hS hA [0] rfl) (ro_pass (ro_sel (ro2 := [[(y.1, .inl (Γ.2.1 1, L.length, .inl y.2))]]) hRo [1] rfl) hD hS hA [0] rfl))) (recv_at (q := (RX10, TX10, 2)) hK (b_at (k := 0) hP rfl) rfl) rfl hl.1 rfl (Nat.le_of_ble_eq_true rfl) dX10_must_2 ⟨(Nat.le_of_ble_eq_true rfl), (Nat.le_of_ble_eq_true rfl)⟩) hP hD hS hA [0] [] rfl rfl rfl (fun r_1 u_1 H locs hw_1 hP hD hS _ => ?_)
  obtain ⟨rfl, rfl⟩ := hw_1
  have hP : WP Γ [[(a, .inr (8, [.ref o, .int (nI (i + 1))]))]] H := hP
  have hD : WD A [[(a, .inr (8, [.ref o, .int (nI (i + 1))]))]] := hD
  refine lv_if_ne (tgt := 20) hx hb dX10_must_5 (by decide) (fun c_2 => ?_) (fun c_2 => ?_)
  · -- 5 taken
    have n_2 : ¬ (1 = 0) := fun hh7 => c_2 ((nI_eq (a := 1) (b := 0) (by omega) (by omega)).mpr hh7)
    exact b_vret hx hb hr hlocks hP hD hS (Nat.le_of_ble_eq_true rfl) (Nat.le_of_ble_eq_true rfl) (by first | with_reducible rfl | (simp [n_2]; done) | rfl) dX10_must_20
  · -- 5 not taken
    have n_2 : 1 = 0 := (nI_eq (by omega) (by omega)).mp (show nI 1 = nI 0 from c_2)
    exact absurd c_2 (by decide)
set_option maxHeartbeats 4000000 in
set_option maxRecDepth 100000 in
theorem mt_Rd_here_1 (l : Launch) (Γ : GE) (sz : Nat) (a : Nat) (o : Nat) (y : SST) (L : List Int32) (z1 : Int32) (z2 : Int32) (i : Nat) (hst : stU y L) (hi5 : i ≤ 512) : KM l yX10_here cX10_here 1 (some FieldType.int) Γ 5 106 0 0 [.ref a] [[(a, .inr (8, [.ref o, .int (nI i)]))]] [[(o, .inr (14, [.ref y.1, .int 1, .int z1, .int z2]))], [(y.1, .inl (Γ.2.1 1, 2 * L.length, .inl y.2))]] sz (Qi Γ (fun r_ u_ => r_ = (rdH L i) ∧ u_ = [[(a, .inr (8, [.ref o, .int (nI i)]))]])) := by
  refine K_intro (by decide) (Nat.le_of_ble_eq_true rfl) ?_
  intro pr_ ev_ s mi_ below meth cd_ A ls hx hb hr hml hown hts hlocks hname hK hE hRo hP hD hA hS hsz hl
  have hl : lv_has ls 1 [(0, .ref a)] := hl
  have hown : s.vm.findClass RX10 = some mi_.cls := hown
  have hll := hst.1
  refine lv_aload_n hx hb dX10_here_0 rfl (lv_at hl 0 rfl) ?_
  refine b_get (C := RX10) (T := TX10) (N := 2) (v := .int (nI i)) hx hb hts in_X10 hown hK (b_at (k := 0) hP rfl) rfl 1 (by decide) q1539 (fun _ h9 => h9) rfl dX10_here_1 ?_
  refine lv_aload_n hx hb dX10_here_4 rfl (lv_at hl 0 rfl) ?_
  refine b_get (C := RX10) (T := TX10) (N := 2) (v := .ref o) hx hb hts in_X10 hown hK (b_at (k := 0) hP rfl) rfl 0 (by decide) q1538 (fun _ h9 => h9) rfl dX10_here_5 ?_
  refine b_calli (br := [[(a, .inr (8, [.ref o, .int (nI i)]))]]) (b_runV ⟨hx, hb, hml, hown, hts⟩ (mt_Str_length_1 l Γ _ o y.1 z1 z2 L.length y.2 (by omega)) (lw_V q1567 q666 q667 q71 q668) rfl rfl 0 (by decide +kernel) ⟨(Nat.le_of_ble_eq_true rfl), (Nat.le_of_ble_eq_true rfl)⟩ (c_pre hP hD hS hA hK hE [] rfl rfl (ro_app (ro_pass (ro_sel (ro2 := [[(o, .inr (14, [.ref y.1, .int 1, .int z1, .int z2]))]]) hRo [0] rfl) hD hS hA [] rfl) (ro_pass (ro_sel (ro2 := [[(y.1, .inl (Γ.2.1 1, 2 * L.length, .inl y.2))]]) hRo [1] rfl) hD hS hA [] rfl))) (recv_ro hK ((hRo (o, .inr (14, [.ref y.1, .int 1, .int z1, .int z2])) (by simp)).keep hS (fun _ h => h))) rfl hl.1 rfl (Nat.le_of_ble_eq_true rfl) dX10_here_8 ⟨(Nat.le_of_ble_eq_true rfl), (Nat.le_of_ble_eq_true rfl)⟩) hP hD hS hA [] [0] rfl rfl rfl (fun r_1 u_1 H locs hw_1 hP hD hS _ => ?_)
  obtain ⟨rfl, rfl⟩ := hw_1
  have hP : WP Γ [[(a, .inr (8, [.ref o, .int (nI i)]))]] H := hP
  have hD : WD A [[(a, .inr (8, [.ref o, .int (nI i)]))]] := hD
  refine lv_icmp_ge (tgt := 28) hx hb dX10_here_11 (by decide) (fun c_2 => ?_) (fun c_2 => ?_)
  · -- 11 taken
    have n_2 : L.length ≤ i := (nI_leI (by omega) (by omega)).mp (show nI L.length ≤ nI i from c_2)
    have m_2 : ¬ (i < L.length) := by omega
    have d_2 := Int32.not_lt.mpr c_2
    refine lv_iconst (v := (-1)) hx hb dX10_here_28 (by decide) ?_
    exact b_iret hx hb hr hlocks hP hD hS (Nat.le_of_ble_eq_true rfl) (Nat.le_of_ble_eq_true rfl) ⟨(by rw [rdH, if_neg (by omega)]), (by first | with_reducible rfl | (simp [n_2, m_2, d_2]; done) | rfl)⟩ dX10_here_29
  · -- 11 not taken
    have n_2 : ¬ (L.length ≤ i) := fun hh7 => c_2 ((nI_leI (a := L.length) (b := i) (by omega) (by omega)).mpr hh7)
    have m_2 : i < L.length := by omega
    have d_2 := Int32.not_le.mp c_2
    refine lv_aload_n hx hb dX10_here_14 rfl (lv_at hl 0 rfl) ?_
    refine b_get (C := RX10) (T := TX10) (N := 2) (v := .ref o) hx hb hts in_X10 hown hK (b_at (k := 0) hP rfl) rfl 0 (by decide) q1538 (fun _ h9 => h9) rfl dX10_here_15 ?_
    refine lv_aload_n hx hb dX10_here_18 rfl (lv_at hl 0 rfl) ?_
    refine b_get (C := RX10) (T := TX10) (N := 2) (v := .int (nI i)) hx hb hts in_X10 hown hK (b_at (k := 0) hP rfl) rfl 1 (by decide) q1539 (fun _ h9 => h9) rfl dX10_here_19 ?_
    refine b_calli (br := [[(a, .inr (8, [.ref o, .int (nI i)]))]]) (b_runV ⟨hx, hb, hml, hown, hts⟩ (mt_Str_charAt_1 l Γ _ o y.1 z1 z2 L.length y.2 i (by omega) (by omega)) (lw_V q1568 q1481 q1482 q71 q1483) rfl rfl 1 (by decide +kernel) ⟨(Nat.le_of_ble_eq_true rfl), (Nat.le_of_ble_eq_true rfl)⟩ (c_pre hP hD hS hA hK hE [] rfl rfl (ro_app (ro_pass (ro_sel (ro2 := [[(o, .inr (14, [.ref y.1, .int 1, .int z1, .int z2]))]]) hRo [0] rfl) hD hS hA [] rfl) (ro_pass (ro_sel (ro2 := [[(y.1, .inl (Γ.2.1 1, 2 * L.length, .inl y.2))]]) hRo [1] rfl) hD hS hA [] rfl))) (recv_ro hK ((hRo (o, .inr (14, [.ref y.1, .int 1, .int z1, .int z2])) (by simp)).keep hS (fun _ h => h))) rfl hl.1 rfl (Nat.le_of_ble_eq_true rfl) dX10_here_22 ⟨(Nat.le_of_ble_eq_true rfl), (Nat.le_of_ble_eq_true rfl)⟩) hP hD hS hA [] [0] rfl rfl rfl (fun r_3 u_3 H locs hw_3 hP hD hS _ => ?_)
    obtain ⟨rfl, rfl⟩ := hw_3
    have hP : WP Γ [[(a, .inr (8, [.ref o, .int (nI i)]))]] H := hP
    have hD : WD A [[(a, .inr (8, [.ref o, .int (nI i)]))]] := hD
    refine lv_goto (tgt := 29) hx hb dX10_here_25 (by decide) ?_
    exact b_iret hx hb hr hlocks hP hD hS (Nat.le_of_ble_eq_true rfl) (Nat.le_of_ble_eq_true rfl) ⟨(by rw [rdH, if_pos (by omega)]; exact hst.2.2 i (by omega)), (by first | with_reducible rfl | (simp [n_2, m_2, d_2]; done) | rfl)⟩ dX10_here_29
set_option maxHeartbeats 4000000 in
set_option maxRecDepth 100000 in
theorem mt_Rd_skip_yes_1 (l : Launch) (Γ : GE) (sz : Nat) (a : Nat) (o : Nat) (y : SST) (L : List Int32) (z1 : Int32) (z2 : Int32) (i : Nat) (c : Int32) (hst : stU y L) (hi5 : i ≤ 512) (hc9 : rdH L i = c) : KM l yX10_skip cX10_skip 2 (some FieldType.boolean) Γ 6 126 0 0 [.ref a, .int c] [[(a, .inr (8, [.ref o, .int (nI i)]))]] [[(o, .inr (14, [.ref y.1, .int 1, .int z1, .int z2]))], [(y.1, .inl (Γ.2.1 1, 2 * L.length, .inl y.2))]] sz (Qi Γ (fun r_ u_ => r_ = 1 ∧ u_ = [[(a, .inr (8, [.ref o, .int (nI (i + 1))]))]])) := by
  refine K_intro (by decide) (Nat.le_of_ble_eq_true rfl) ?_
  intro pr_ ev_ s mi_ below meth cd_ A ls hx hb hr hml hown hts hlocks hname hK hE hRo hP hD hA hS hsz hl
  have hl : lv_has ls 2 [(0, .ref a), (1, .int c)] := hl
  have hown : s.vm.findClass RX10 = some mi_.cls := hown
  refine lv_aload_n hx hb dX10_skip_0 rfl (lv_at hl 0 rfl) ?_
  refine b_calli (br := []) (b_runV ⟨hx, hb, hml, hown, hts⟩ (mt_Rd_here_1 l Γ _ a o y L z1 z2 i (by assumption) (by first | exact hi5 | omega)) (lw_V q1563 q1565 qs27 q99 q1566) rfl rfl 0 (by decide +kernel) ⟨(Nat.le_of_ble_eq_true rfl), (Nat.le_of_ble_eq_true rfl)⟩ (c_pre hP hD hS hA hK hE [0] rfl rfl (ro_app (ro_pass (ro_sel (ro2 := [[(o, .inr (14, [.ref y.1, .int 1, .int z1, .int z2]))]]) hRo [0] rfl) hD hS hA [0] rfl) (ro_pass (ro_sel (ro2 := [[(y.1, .inl (Γ.2.1 1, 2 * L.length, .inl y.2))]]) hRo [1] rfl) hD hS hA [0] rfl))) (recv_at (q := (RX10, TX10, 2)) hK (b_at (k := 0) hP rfl) rfl) rfl hl.1 rfl (Nat.le_of_ble_eq_true rfl) dX10_skip_1 ⟨(Nat.le_of_ble_eq_true rfl), (Nat.le_of_ble_eq_true rfl)⟩) hP hD hS hA [0] [] rfl rfl rfl (fun r_1 u_1 H locs hw_1 hP hD hS _ => ?_)
  obtain ⟨rfl, rfl⟩ := hw_1
  have hP : WP Γ [[(a, .inr (8, [.ref o, .int (nI i)]))]] H := hP
  have hD : WD A [[(a, .inr (8, [.ref o, .int (nI i)]))]] := hD
  refine lv_iload_n hx hb dX10_skip_4 rfl (lv_at hl 1 rfl) ?_
  refine lv_icmp_eq (tgt := 10) hx hb dX10_skip_5 (by decide) (fun c_2 => ?_) (fun c_2 => ?_)
  · -- 5 taken
    refine lv_aload_n hx hb dX10_skip_10 rfl (lv_at hl 0 rfl) ?_
    refine lv_dup hx hb dX10_skip_11 rfl ?_
    refine b_get (C := RX10) (T := TX10) (N := 2) (v := .int (nI i)) hx hb hts in_X10 hown hK (b_at (k := 0) hP rfl) rfl 1 (by decide) q1539 (fun _ h9 => h9) rfl dX10_skip_12 ?_
    refine lv_iconst (v := 1) hx hb dX10_skip_15 (by decide) ?_
    refine lv_iadd hx hb dX10_skip_16 ?_
    refine b_top (nI_addE (a := i) (b := 1) (c := i + 1) rfl rfl (by first | omega | rfl)) ?_
    refine b_put (C := RX10) (T := TX10) (N := 2) (ty := .int) (v := .int (nI (i + 1))) hx hb hts in_X10 tyX10_ok nmX10 hown hK hP hD hS 0 rfl rfl 1 (by decide) q1539 (fun _ h9 => h9) rfl (by decide +kernel) rfl rfl (Nat.le_of_ble_eq_true rfl) dX10_skip_17 (fun H locs hP hD hS => ?_)
    have hP : WP Γ [[(a, .inr (8, [.ref o, .int (nI (i + 1))]))]] H := hP
    have hD : WD A [[(a, .inr (8, [.ref o, .int (nI (i + 1))]))]] := hD
    refine lv_iconst (v := 1) hx hb dX10_skip_20 (by decide) ?_
    exact b_zret hx hb hr hlocks hP hD hS (Nat.le_of_ble_eq_true rfl) (Nat.le_of_ble_eq_true rfl) rfl ⟨(by first | with_reducible rfl | (simp [c_2]; done) | rfl), (by first | with_reducible rfl | (simp [c_2]; done) | rfl)⟩ dX10_skip_21
  · -- 5 not taken
    exact absurd hc9 c_2
set_option maxHeartbeats 4000000 in
set_option maxRecDepth 100000 in
theorem mt_Rd_skip_no_1 (l : Launch) (Γ : GE) (sz : Nat) (a : Nat) (o : Nat) (y : SST) (L : List Int32) (z1 : Int32) (z2 : Int32) (i : Nat) (c : Int32) (hst : stU y L) (hi5 : i ≤ 512) (hc9 : ¬ rdH L i = c) : KM l yX10_skip cX10_skip 2 (some FieldType.boolean) Γ 6 126 0 0 [.ref a, .int c] [[(a, .inr (8, [.ref o, .int (nI i)]))]] [[(o, .inr (14, [.ref y.1, .int 1, .int z1, .int z2]))], [(y.1, .inl (Γ.2.1 1, 2 * L.length, .inl y.2))]] sz (Qi Γ (fun r_ u_ => r_ = 0 ∧ u_ = [[(a, .inr (8, [.ref o, .int (nI i)]))]])) := by
  refine K_intro (by decide) (Nat.le_of_ble_eq_true rfl) ?_
  intro pr_ ev_ s mi_ below meth cd_ A ls hx hb hr hml hown hts hlocks hname hK hE hRo hP hD hA hS hsz hl
  have hl : lv_has ls 2 [(0, .ref a), (1, .int c)] := hl
  have hown : s.vm.findClass RX10 = some mi_.cls := hown
  refine lv_aload_n hx hb dX10_skip_0 rfl (lv_at hl 0 rfl) ?_
  refine b_calli (br := []) (b_runV ⟨hx, hb, hml, hown, hts⟩ (mt_Rd_here_1 l Γ _ a o y L z1 z2 i (by assumption) (by first | exact hi5 | omega)) (lw_V q1563 q1565 qs27 q99 q1566) rfl rfl 0 (by decide +kernel) ⟨(Nat.le_of_ble_eq_true rfl), (Nat.le_of_ble_eq_true rfl)⟩ (c_pre hP hD hS hA hK hE [0] rfl rfl (ro_app (ro_pass (ro_sel (ro2 := [[(o, .inr (14, [.ref y.1, .int 1, .int z1, .int z2]))]]) hRo [0] rfl) hD hS hA [0] rfl) (ro_pass (ro_sel (ro2 := [[(y.1, .inl (Γ.2.1 1, 2 * L.length, .inl y.2))]]) hRo [1] rfl) hD hS hA [0] rfl))) (recv_at (q := (RX10, TX10, 2)) hK (b_at (k := 0) hP rfl) rfl) rfl hl.1 rfl (Nat.le_of_ble_eq_true rfl) dX10_skip_1 ⟨(Nat.le_of_ble_eq_true rfl), (Nat.le_of_ble_eq_true rfl)⟩) hP hD hS hA [0] [] rfl rfl rfl (fun r_1 u_1 H locs hw_1 hP hD hS _ => ?_)
  obtain ⟨rfl, rfl⟩ := hw_1
  have hP : WP Γ [[(a, .inr (8, [.ref o, .int (nI i)]))]] H := hP
  have hD : WD A [[(a, .inr (8, [.ref o, .int (nI i)]))]] := hD
  refine lv_iload_n hx hb dX10_skip_4 rfl (lv_at hl 1 rfl) ?_
  refine lv_icmp_eq (tgt := 10) hx hb dX10_skip_5 (by decide) (fun c_2 => ?_) (fun c_2 => ?_)
  · -- 5 taken
    exact absurd c_2 hc9
  · -- 5 not taken
    refine lv_iconst (v := 0) hx hb dX10_skip_8 (by decide) ?_
    exact b_zret hx hb hr hlocks hP hD hS (Nat.le_of_ble_eq_true rfl) (Nat.le_of_ble_eq_true rfl) rfl ⟨(by first | with_reducible rfl | (simp [c_2]; done) | rfl), (by first | with_reducible rfl | (simp [c_2]; done) | rfl)⟩ dX10_skip_9
set_option maxHeartbeats 4000000 in
set_option maxRecDepth 100000 in
theorem mt_Rd_must_ok_1 (l : Launch) (Γ : GE) (sz : Nat) (a : Nat) (o : Nat) (y : SST) (L : List Int32) (z1 : Int32) (z2 : Int32) (i : Nat) (c : Int32) (hst : stU y L) (hi5 : i ≤ 512) (hc9 : rdH L i = c) : KM l yX10_must cX10_must 2 none Γ 7 147 0 0 [.ref a, .int c] [[(a, .inr (8, [.ref o, .int (nI i)]))]] [[(o, .inr (14, [.ref y.1, .int 1, .int z1, .int z2]))], [(y.1, .inl (Γ.2.1 1, 2 * L.length, .inl y.2))]] sz (Qv Γ (fun u_ => u_ = [[(a, .inr (8, [.ref o, .int (nI (i + 1))]))]])) := by
  refine K_intro (by decide) (Nat.le_of_ble_eq_true rfl) ?_
  intro pr_ ev_ s mi_ below meth cd_ A ls hx hb hr hml hown hts hlocks hname hK hE hRo hP hD hA hS hsz hl
  have hl : lv_has ls 2 [(0, .ref a), (1, .int c)] := hl
  have hown : s.vm.findClass RX10 = some mi_.cls := hown
  refine lv_aload_n hx hb dX10_must_0 rfl (lv_at hl 0 rfl) ?_
  refine lv_iload_n hx hb dX10_must_1 rfl (lv_at hl 1 rfl) ?_
  refine b_calli (br := []) (b_runV ⟨hx, hb, hml, hown, hts⟩ (mt_Rd_skip_yes_1 l Γ _ a o y L z1 z2 i c (by assumption) (by first | exact hi5 | omega) (by first | exact hc9 | omega)) (lw_V q1669 q1671 qs29 q99 q1672) rfl rfl 1 (by decide +kernel) ⟨(Nat.le_of_ble_eq_true rfl), (Nat.le_of_ble_eq_true rfl)⟩ (c_pre hP hD hS hA hK hE [0] rfl rfl (ro_app (ro_pass (ro_sel (ro2 := [[(o, .inr (14, [.ref y.1, .int 1, .int z1, .int z2]))]]) hRo [0] rfl) hD hS hA [0] rfl) (ro_pass (ro_sel (ro2 := [[(y.1, .inl (Γ.2.1 1, 2 * L.length, .inl y.2))]]) hRo [1] rfl) hD hS hA [0] rfl))) (recv_at (q := (RX10, TX10, 2)) hK (b_at (k := 0) hP rfl) rfl) rfl hl.1 rfl (Nat.le_of_ble_eq_true rfl) dX10_must_2 ⟨(Nat.le_of_ble_eq_true rfl), (Nat.le_of_ble_eq_true rfl)⟩) hP hD hS hA [0] [] rfl rfl rfl (fun r_1 u_1 H locs hw_1 hP hD hS _ => ?_)
  obtain ⟨rfl, rfl⟩ := hw_1
  have hP : WP Γ [[(a, .inr (8, [.ref o, .int (nI (i + 1))]))]] H := hP
  have hD : WD A [[(a, .inr (8, [.ref o, .int (nI (i + 1))]))]] := hD
  refine lv_if_ne (tgt := 20) hx hb dX10_must_5 (by decide) (fun c_2 => ?_) (fun c_2 => ?_)
  · -- 5 taken
    have n_2 : ¬ (1 = 0) := fun hh7 => c_2 ((nI_eq (a := 1) (b := 0) (by omega) (by omega)).mpr hh7)
    exact b_vret hx hb hr hlocks hP hD hS (Nat.le_of_ble_eq_true rfl) (Nat.le_of_ble_eq_true rfl) (by first | with_reducible rfl | (simp [n_2]; done) | rfl) dX10_must_20
  · -- 5 not taken
    have n_2 : 1 = 0 := (nI_eq (by omega) (by omega)).mp (show nI 1 = nI 0 from c_2)
    exact absurd c_2 (by decide)
