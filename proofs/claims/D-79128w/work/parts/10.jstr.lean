/-! JDK: Strings (read-only), indices -/
set_option maxHeartbeats 4000000 in
set_option maxRecDepth 100000 in
theorem mt_Pre_checkIndexN (l : Launch) (Γ : GE) (sz : Nat) (i : Nat) (n : Nat) (hi : i < n) (hn : n < 2 ^ 31) : KM l yJ19_checkIndex cJ19_checkIndex 3 (some FieldType.int) Γ 0 0 0 0 [.int (nI i), .int (nI n), .null] [] [] sz (Qi Γ (fun r_ u_ => r_ = (nI i) ∧ u_ = [])) := by
  refine K_intro (by decide) (Nat.le_of_ble_eq_true rfl) ?_
  intro pr_ ev_ s mi_ below meth cd_ A ls hx hb hr hml hown hts hlocks hname hK hE hRo hP hD hA hS hsz hl
  have hl : lv_has ls 3 [(0, .int (nI i)), (1, .int (nI n)), (2, .null)] := hl
  have hown : s.vm.findClass RJ19 = some mi_.cls := hown
  refine lv_iload_n hx hb dJ19_checkIndex_0 rfl (lv_at hl 0 rfl) ?_
  refine lv_if_lt (tgt := 9) hx hb dJ19_checkIndex_1 (by decide) (fun c_1 => ?_) (fun c_1 => ?_)
  · -- 1 taken
    have n_1 : i < 0 := (nI_ltI (by omega) (by omega)).mp (show nI i < nI 0 from c_1)
    exfalso; omega
  · -- 1 not taken
    have n_1 : ¬ (i < 0) := fun h => c_1 ((nI_ltI (a := i) (b := 0) (by omega) (by omega)).mpr h)
    refine lv_iload_n hx hb dJ19_checkIndex_4 rfl (lv_at hl 0 rfl) ?_
    refine lv_iload_n hx hb dJ19_checkIndex_5 rfl (lv_at hl 1 rfl) ?_
    refine lv_icmp_lt (tgt := 16) hx hb dJ19_checkIndex_6 (by decide) (fun c_2 => ?_) (fun c_2 => ?_)
    · -- 6 taken
      have n_2 : i < n := (nI_ltI (by omega) (by omega)).mp (show nI i < nI n from c_2)
      refine lv_iload_n hx hb dJ19_checkIndex_16 rfl (lv_at hl 0 rfl) ?_
      exact b_iret hx hb hr hlocks hP hD hS (Nat.le_of_ble_eq_true rfl) (Nat.le_of_ble_eq_true rfl) ⟨(by first | with_reducible rfl | (simp [n_1, c_1, n_2, c_2]; done) | rfl), (by first | with_reducible rfl | (simp [n_1, c_1, n_2, c_2]; done) | rfl)⟩ dJ19_checkIndex_17
    · -- 6 not taken
      have n_2 : ¬ (i < n) := fun h => c_2 ((nI_ltI (a := i) (b := n) (by omega) (by omega)).mpr h)
      exfalso; omega
set_option maxHeartbeats 4000000 in
set_option maxRecDepth 100000 in
theorem mt_Pre_checkIndexR (l : Launch) (Γ : GE) (sz : Nat) (i : Nat) (n : Nat) (t : Nat) (hi : i < n) (hn : n < 2 ^ 31) : KM l yJ19_checkIndex cJ19_checkIndex 3 (some FieldType.int) Γ 0 0 0 0 [.int (nI i), .int (nI n), .ref t] [] [] sz (Qi Γ (fun r_ u_ => r_ = (nI i) ∧ u_ = [])) := by
  refine K_intro (by decide) (Nat.le_of_ble_eq_true rfl) ?_
  intro pr_ ev_ s mi_ below meth cd_ A ls hx hb hr hml hown hts hlocks hname hK hE hRo hP hD hA hS hsz hl
  have hl : lv_has ls 3 [(0, .int (nI i)), (1, .int (nI n)), (2, .ref t)] := hl
  have hown : s.vm.findClass RJ19 = some mi_.cls := hown
  refine lv_iload_n hx hb dJ19_checkIndex_0 rfl (lv_at hl 0 rfl) ?_
  refine lv_if_lt (tgt := 9) hx hb dJ19_checkIndex_1 (by decide) (fun c_1 => ?_) (fun c_1 => ?_)
  · -- 1 taken
    have n_1 : i < 0 := (nI_ltI (by omega) (by omega)).mp (show nI i < nI 0 from c_1)
    exfalso; omega
  · -- 1 not taken
    have n_1 : ¬ (i < 0) := fun h => c_1 ((nI_ltI (a := i) (b := 0) (by omega) (by omega)).mpr h)
    refine lv_iload_n hx hb dJ19_checkIndex_4 rfl (lv_at hl 0 rfl) ?_
    refine lv_iload_n hx hb dJ19_checkIndex_5 rfl (lv_at hl 1 rfl) ?_
    refine lv_icmp_lt (tgt := 16) hx hb dJ19_checkIndex_6 (by decide) (fun c_2 => ?_) (fun c_2 => ?_)
    · -- 6 taken
      have n_2 : i < n := (nI_ltI (by omega) (by omega)).mp (show nI i < nI n from c_2)
      refine lv_iload_n hx hb dJ19_checkIndex_16 rfl (lv_at hl 0 rfl) ?_
      exact b_iret hx hb hr hlocks hP hD hS (Nat.le_of_ble_eq_true rfl) (Nat.le_of_ble_eq_true rfl) ⟨(by first | with_reducible rfl | (simp [n_1, c_1, n_2, c_2]; done) | rfl), (by first | with_reducible rfl | (simp [n_1, c_1, n_2, c_2]; done) | rfl)⟩ dJ19_checkIndex_17
    · -- 6 not taken
      have n_2 : ¬ (i < n) := fun h => c_2 ((nI_ltI (a := i) (b := n) (by omega) (by omega)).mpr h)
      exfalso; omega
set_option maxHeartbeats 4000000 in
set_option maxRecDepth 100000 in
theorem mt_Str_checkIndex (l : Launch) (Γ : GE) (sz : Nat) (i : Nat) (n : Nat) (hi : i < n) (hn : n < 2 ^ 31) : KM l yJ6_checkIndex cJ6_checkIndex 2 none Γ 1 22 0 0 [.int (nI i), .int (nI n)] [] [] sz (Qv Γ (fun u_ => u_ = [])) := by
  refine K_intro (by decide) (Nat.le_of_ble_eq_true rfl) ?_
  intro pr_ ev_ s mi_ below meth cd_ A ls hx hb hr hml hown hts hlocks hname hK hE hRo hP hD hA hS hsz hl
  have hl : lv_has ls 2 [(0, .int (nI i)), (1, .int (nI n))] := hl
  have hown : s.vm.findClass RJ6 = some mi_.cls := hown
  refine lv_iload_n hx hb dJ6_checkIndex_0 rfl (lv_at hl 0 rfl) ?_
  refine lv_iload_n hx hb dJ6_checkIndex_1 rfl (lv_at hl 1 rfl) ?_
  rcases hE.fmt with hz9 | ⟨t9, hz9⟩
  ·
    refine va_gets (C := "jdk/internal/util/Preconditions") (n := "SIOOBE_FORMATTER") (d := "Ljava/util/function/BiFunction;") hx hb hz9 hS hown (hts _ q631) (fun _ h9 => h9) dJ6_checkIndex_2 ?_
    refine b_calli (br := []) (b_runS ⟨hx, hb, hml, hown, hts⟩ (mt_Pre_checkIndexN l Γ _ i n (by first | exact hi | omega) (by first | exact hn | omega)) (lw_S q1494 q971 q88 q972) rfl rfl 3 (by decide +kernel) ⟨(Nat.le_of_ble_eq_true rfl), (Nat.le_of_ble_eq_true rfl)⟩ (c_pre hP hD hS hA hK hE [] rfl rfl ro_nil) rfl hl.1 rfl (Nat.le_of_ble_eq_true rfl) dJ6_checkIndex_5 ⟨(Nat.le_of_ble_eq_true rfl), (Nat.le_of_ble_eq_true rfl)⟩) hP hD hS hA [] [] rfl rfl rfl (fun r_1 u_1 H locs hw_1 hP hD hS _ => ?_)
    obtain ⟨rfl, rfl⟩ := hw_1
    have hP : WP Γ [] H := hP
    have hD : WD A [] := hD
    refine lv_pop hx hb dJ6_checkIndex_8 rfl ?_
    exact b_vret hx hb hr hlocks hP hD hS (Nat.le_of_ble_eq_true rfl) (Nat.le_of_ble_eq_true rfl) (by first | rfl | (simp; done)) dJ6_checkIndex_9
  ·
    refine va_gets (C := "jdk/internal/util/Preconditions") (n := "SIOOBE_FORMATTER") (d := "Ljava/util/function/BiFunction;") hx hb hz9 hS hown (hts _ q631) (fun _ h9 => h9) dJ6_checkIndex_2 ?_
    refine b_calli (br := []) (b_runS ⟨hx, hb, hml, hown, hts⟩ (mt_Pre_checkIndexR l Γ _ i n t9 (by first | exact hi | omega) (by first | exact hn | omega)) (lw_S q1494 q971 q88 q972) rfl rfl 3 (by decide +kernel) ⟨(Nat.le_of_ble_eq_true rfl), (Nat.le_of_ble_eq_true rfl)⟩ (c_pre hP hD hS hA hK hE [] rfl rfl ro_nil) rfl hl.1 rfl (Nat.le_of_ble_eq_true rfl) dJ6_checkIndex_5 ⟨(Nat.le_of_ble_eq_true rfl), (Nat.le_of_ble_eq_true rfl)⟩) hP hD hS hA [] [] rfl rfl rfl (fun r_2 u_2 H locs hw_2 hP hD hS _ => ?_)
    obtain ⟨rfl, rfl⟩ := hw_2
    have hP : WP Γ [] H := hP
    have hD : WD A [] := hD
    refine lv_pop hx hb dJ6_checkIndex_8 rfl ?_
    exact b_vret hx hb hr hlocks hP hD hS (Nat.le_of_ble_eq_true rfl) (Nat.le_of_ble_eq_true rfl) (by first | rfl | (simp; done)) dJ6_checkIndex_9
set_option maxHeartbeats 4000000 in
set_option maxRecDepth 100000 in
theorem mt_Lat_charAt (l : Launch) (Γ : GE) (sz : Nat) (d : Nat) (n : Nat) (f : Nat → Int32) (i : Nat) (hi : i < n) (hn : n < 2 ^ 31) : KM l yJ20_charAt cJ20_charAt 2 (some FieldType.char) Γ 2 43 0 0 [.ref d, .int (nI i)] [] [[(d, .inl (Γ.2.1 1, n, .inl f))]] sz (Qi Γ (fun r_ u_ => r_ = (lc (f i)) ∧ u_ = [])) := by
  refine K_intro (by decide) (Nat.le_of_ble_eq_true rfl) ?_
  intro pr_ ev_ s mi_ below meth cd_ A ls hx hb hr hml hown hts hlocks hname hK hE hRo hP hD hA hS hsz hl
  have hl : lv_has ls 2 [(0, .ref d), (1, .int (nI i))] := hl
  have hown : s.vm.findClass RJ20 = some mi_.cls := hown
  refine lv_iload_n hx hb dJ20_charAt_0 rfl (lv_at hl 1 rfl) ?_
  refine lv_aload_n hx hb dJ20_charAt_1 rfl (lv_at hl 0 rfl) ?_
  refine b_alenR hx hb hK (hRo (d, .inl (Γ.2.1 1, n, .inl f)) (by simp)) hS dJ20_charAt_2 ?_
  refine b_callv (br := []) (b_runS ⟨hx, hb, hml, hown, hts⟩ (mt_Str_checkIndex l Γ _ i n (by first | exact hi | omega) (by first | exact hn | omega)) (lw_S q1491 q1492 q71 q1493) rfl rfl 2 (by decide +kernel) ⟨(Nat.le_of_ble_eq_true rfl), (Nat.le_of_ble_eq_true rfl)⟩ (c_pre hP hD hS hA hK hE [] rfl rfl ro_nil) rfl hl.1 rfl (Nat.le_of_ble_eq_true rfl) dJ20_charAt_3 ⟨(Nat.le_of_ble_eq_true rfl), (Nat.le_of_ble_eq_true rfl)⟩) hP hD hS hA [] [] rfl rfl rfl (fun u_1 H locs hw_1 hP hD hS _ => ?_)
  obtain rfl := hw_1
  have hP : WP Γ [] H := hP
  have hD : WD A [] := hD
  refine lv_aload_n hx hb dJ20_charAt_6 rfl (lv_at hl 0 rfl) ?_
  refine lv_iload_n hx hb dJ20_charAt_7 rfl (lv_at hl 1 rfl) ?_
  refine b_baldR hx hb hK (hRo (d, .inl (Γ.2.1 1, n, .inl f)) (by simp)) hS i rfl (by omega) (by omega) dJ20_charAt_8 ?_
  refine lv_sipush (v := 255) hx hb dJ20_charAt_9 (by decide) ?_
  refine lv_iand hx hb dJ20_charAt_12 ?_
  refine lv_i2c hx hb dJ20_charAt_13 rfl ?_
  exact b_zret hx hb hr hlocks hP hD hS (Nat.le_of_ble_eq_true rfl) (Nat.le_of_ble_eq_true rfl) (pk_nc _) ⟨(by first | with_reducible rfl | (simp [lc]; done) | rfl), (by first | with_reducible rfl | (simp [lc]; done) | rfl)⟩ dJ20_charAt_14
set_option maxHeartbeats 4000000 in
set_option maxRecDepth 100000 in
theorem mt_Str_isLatin1_0 (l : Launch) (Γ : GE) (sz : Nat) (a : Nat) (d : Nat) (h1 : Int32) (z1 : Int32)  : KM l yJ6_isLatin1 cJ6_isLatin1 1 (some FieldType.boolean) Γ 0 0 0 0 [.ref a] [] [[(a, .inr (14, [.ref d, .int 0, .int h1, .int z1]))]] sz (Qi Γ (fun r_ u_ => r_ = 1 ∧ u_ = [])) := by
  refine K_intro (by decide) (Nat.le_of_ble_eq_true rfl) ?_
  intro pr_ ev_ s mi_ below meth cd_ A ls hx hb hr hml hown hts hlocks hname hK hE hRo hP hD hA hS hsz hl
  have hl : lv_has ls 1 [(0, .ref a)] := hl
  have hown : s.vm.findClass RJ6 = some mi_.cls := hown
  refine va_gets (C := "java/lang/String") (n := "COMPACT_STRINGS") (d := "Z") hx hb hE.compact hS hown (hts _ q673) (fun _ h9 => h9) dJ6_isLatin1_0 ?_
  refine lv_if_eq (tgt := 17) hx hb dJ6_isLatin1_3 (by decide) (fun c_1 => ?_) (fun c_1 => ?_)
  · -- 3 taken
    have n_1 : 1 = 0 := (nI_eq (by omega) (by omega)).mp (show nI 1 = nI 0 from c_1)
    exact absurd n_1 (by omega)
  · -- 3 not taken
    have n_1 : ¬ (1 = 0) := fun h => c_1 ((nI_eq (a := 1) (b := 0) (by omega) (by omega)).mpr h)
    refine lv_aload_n hx hb dJ6_isLatin1_6 rfl (lv_at hl 0 rfl) ?_
    refine b_getS (v := .int 0) hx hb hts hown hK (hRo (a, .inr (14, [.ref d, .int 0, .int h1, .int z1])) (by simp)) hS 1 (by decide) q772 rfl dJ6_isLatin1_7 ?_
    refine lv_if_ne (tgt := 17) hx hb dJ6_isLatin1_10 (by decide) (fun c_2 => ?_) (fun c_2 => ?_)
    · -- 10 taken
      have n_2 : ¬ (0 = 0) := fun h => c_2 ((nI_eq (a := 0) (b := 0) (by omega) (by omega)).mpr h)
      exact absurd n_2 (by omega)
    · -- 10 not taken
      have n_2 : 0 = 0 := (nI_eq (by omega) (by omega)).mp (show nI 0 = nI 0 from c_2)
      refine lv_iconst (v := 1) hx hb dJ6_isLatin1_13 (by decide) ?_
      refine lv_goto (tgt := 18) hx hb dJ6_isLatin1_14 (by decide) ?_
      exact b_zret hx hb hr hlocks hP hD hS (Nat.le_of_ble_eq_true rfl) (Nat.le_of_ble_eq_true rfl) rfl ⟨(by first | with_reducible rfl | (simp [n_1, n_2]; done) | rfl), (by first | with_reducible rfl | (simp [n_1, n_2]; done) | rfl)⟩ dJ6_isLatin1_18
set_option maxHeartbeats 4000000 in
set_option maxRecDepth 100000 in
theorem mt_Str_coder_0 (l : Launch) (Γ : GE) (sz : Nat) (a : Nat) (d : Nat) (h1 : Int32) (z1 : Int32)  : KM l yJ6_coder cJ6_coder 1 (some FieldType.byte) Γ 0 0 0 0 [.ref a] [] [[(a, .inr (14, [.ref d, .int 0, .int h1, .int z1]))]] sz (Qi Γ (fun r_ u_ => r_ = 0 ∧ u_ = [])) := by
  refine K_intro (by decide) (Nat.le_of_ble_eq_true rfl) ?_
  intro pr_ ev_ s mi_ below meth cd_ A ls hx hb hr hml hown hts hlocks hname hK hE hRo hP hD hA hS hsz hl
  have hl : lv_has ls 1 [(0, .ref a)] := hl
  have hown : s.vm.findClass RJ6 = some mi_.cls := hown
  refine va_gets (C := "java/lang/String") (n := "COMPACT_STRINGS") (d := "Z") hx hb hE.compact hS hown (hts _ q673) (fun _ h9 => h9) dJ6_coder_0 ?_
  refine lv_if_eq (tgt := 13) hx hb dJ6_coder_3 (by decide) (fun c_1 => ?_) (fun c_1 => ?_)
  · -- 3 taken
    have n_1 : 1 = 0 := (nI_eq (by omega) (by omega)).mp (show nI 1 = nI 0 from c_1)
    exact absurd n_1 (by omega)
  · -- 3 not taken
    have n_1 : ¬ (1 = 0) := fun h => c_1 ((nI_eq (a := 1) (b := 0) (by omega) (by omega)).mpr h)
    refine lv_aload_n hx hb dJ6_coder_6 rfl (lv_at hl 0 rfl) ?_
    refine b_getS (v := .int 0) hx hb hts hown hK (hRo (a, .inr (14, [.ref d, .int 0, .int h1, .int z1])) (by simp)) hS 1 (by decide) q772 rfl dJ6_coder_7 ?_
    refine lv_goto (tgt := 14) hx hb dJ6_coder_10 (by decide) ?_
    exact b_zret hx hb hr hlocks hP hD hS (Nat.le_of_ble_eq_true rfl) (Nat.le_of_ble_eq_true rfl) rfl ⟨(by first | with_reducible rfl | (simp [n_1]; done) | rfl), (by first | with_reducible rfl | (simp [n_1]; done) | rfl)⟩ dJ6_coder_14
set_option maxHeartbeats 4000000 in
set_option maxRecDepth 100000 in
theorem mt_Str_length_0 (l : Launch) (Γ : GE) (sz : Nat) (a : Nat) (d : Nat) (h1 : Int32) (z1 : Int32) (n : Nat) (f : Nat → Int32) (hn : n < 2 ^ 30) : KM l yJ6_length cJ6_length 1 (some FieldType.int) Γ 1 20 0 0 [.ref a] [] [[(a, .inr (14, [.ref d, .int 0, .int h1, .int z1]))], [(d, .inl (Γ.2.1 1, n, .inl f))]] sz (Qi Γ (fun r_ u_ => r_ = (nI n) ∧ u_ = [])) := by
  refine K_intro (by decide) (Nat.le_of_ble_eq_true rfl) ?_
  intro pr_ ev_ s mi_ below meth cd_ A ls hx hb hr hml hown hts hlocks hname hK hE hRo hP hD hA hS hsz hl
  have hl : lv_has ls 1 [(0, .ref a)] := hl
  have hown : s.vm.findClass RJ6 = some mi_.cls := hown
  refine lv_aload_n hx hb dJ6_length_0 rfl (lv_at hl 0 rfl) ?_
  refine b_getS (v := .ref d) hx hb hts hown hK (hRo (a, .inr (14, [.ref d, .int 0, .int h1, .int z1])) (by simp)) hS 0 (by decide) q771 rfl dJ6_length_1 ?_
  refine b_alenR hx hb hK (hRo (d, .inl (Γ.2.1 1, n, .inl f)) (by simp)) hS dJ6_length_4 ?_
  refine lv_aload_n hx hb dJ6_length_5 rfl (lv_at hl 0 rfl) ?_
  refine b_calli (br := []) (b_runV ⟨hx, hb, hml, hown, hts⟩ (mt_Str_coder_0 l Γ _ a d h1 z1) (lw_V q669 q670 q671 q71 q672) rfl rfl 0 (by decide +kernel) ⟨(Nat.le_of_ble_eq_true rfl), (Nat.le_of_ble_eq_true rfl)⟩ (c_pre hP hD hS hA hK hE [] rfl rfl (ro_pass (ro_sel (ro2 := [[(a, .inr (14, [.ref d, .int 0, .int h1, .int z1]))]]) hRo [0] rfl) hD hS hA [] rfl)) (recv_ro hK ((hRo (a, .inr (14, [.ref d, .int 0, .int h1, .int z1])) (by simp)).keep hS (fun _ h => h))) rfl hl.1 rfl (Nat.le_of_ble_eq_true rfl) dJ6_length_6 ⟨(Nat.le_of_ble_eq_true rfl), (Nat.le_of_ble_eq_true rfl)⟩) hP hD hS hA [] [] rfl rfl rfl (fun r_1 u_1 H locs hw_1 hP hD hS _ => ?_)
  obtain ⟨rfl, rfl⟩ := hw_1
  have hP : WP Γ [] H := hP
  have hD : WD A [] := hD
  refine lv_ishr hx hb dJ6_length_9 ?_
  refine b_top (nI_shrE (a := n) (k := 0) (c := n) rfl rfl (by decide) (by omega) (by omega)) ?_
  exact b_iret hx hb hr hlocks hP hD hS (Nat.le_of_ble_eq_true rfl) (Nat.le_of_ble_eq_true rfl) ⟨(by first | rfl | (simp; done)), (by first | rfl | (simp; done))⟩ dJ6_length_10
set_option maxHeartbeats 4000000 in
set_option maxRecDepth 100000 in
theorem mt_Str_isLatin1_1 (l : Launch) (Γ : GE) (sz : Nat) (a : Nat) (d : Nat) (h1 : Int32) (z1 : Int32)  : KM l yJ6_isLatin1 cJ6_isLatin1 1 (some FieldType.boolean) Γ 0 0 0 0 [.ref a] [] [[(a, .inr (14, [.ref d, .int 1, .int h1, .int z1]))]] sz (Qi Γ (fun r_ u_ => r_ = 0 ∧ u_ = [])) := by
  refine K_intro (by decide) (Nat.le_of_ble_eq_true rfl) ?_
  intro pr_ ev_ s mi_ below meth cd_ A ls hx hb hr hml hown hts hlocks hname hK hE hRo hP hD hA hS hsz hl
  have hl : lv_has ls 1 [(0, .ref a)] := hl
  have hown : s.vm.findClass RJ6 = some mi_.cls := hown
  refine va_gets (C := "java/lang/String") (n := "COMPACT_STRINGS") (d := "Z") hx hb hE.compact hS hown (hts _ q673) (fun _ h9 => h9) dJ6_isLatin1_0 ?_
  refine lv_if_eq (tgt := 17) hx hb dJ6_isLatin1_3 (by decide) (fun c_1 => ?_) (fun c_1 => ?_)
  · -- 3 taken
    have n_1 : 1 = 0 := (nI_eq (by omega) (by omega)).mp (show nI 1 = nI 0 from c_1)
    exact absurd n_1 (by omega)
  · -- 3 not taken
    have n_1 : ¬ (1 = 0) := fun h => c_1 ((nI_eq (a := 1) (b := 0) (by omega) (by omega)).mpr h)
    refine lv_aload_n hx hb dJ6_isLatin1_6 rfl (lv_at hl 0 rfl) ?_
    refine b_getS (v := .int 1) hx hb hts hown hK (hRo (a, .inr (14, [.ref d, .int 1, .int h1, .int z1])) (by simp)) hS 1 (by decide) q772 rfl dJ6_isLatin1_7 ?_
    refine lv_if_ne (tgt := 17) hx hb dJ6_isLatin1_10 (by decide) (fun c_2 => ?_) (fun c_2 => ?_)
    · -- 10 taken
      have n_2 : ¬ (1 = 0) := fun h => c_2 ((nI_eq (a := 1) (b := 0) (by omega) (by omega)).mpr h)
      refine lv_iconst (v := 0) hx hb dJ6_isLatin1_17 (by decide) ?_
      exact b_zret hx hb hr hlocks hP hD hS (Nat.le_of_ble_eq_true rfl) (Nat.le_of_ble_eq_true rfl) rfl ⟨(by first | with_reducible rfl | (simp [n_1, n_2]; done) | rfl), (by first | with_reducible rfl | (simp [n_1, n_2]; done) | rfl)⟩ dJ6_isLatin1_18
    · -- 10 not taken
      have n_2 : 1 = 0 := (nI_eq (by omega) (by omega)).mp (show nI 1 = nI 0 from c_2)
      exact absurd n_2 (by omega)
set_option maxHeartbeats 4000000 in
set_option maxRecDepth 100000 in
theorem mt_Str_coder_1 (l : Launch) (Γ : GE) (sz : Nat) (a : Nat) (d : Nat) (h1 : Int32) (z1 : Int32)  : KM l yJ6_coder cJ6_coder 1 (some FieldType.byte) Γ 0 0 0 0 [.ref a] [] [[(a, .inr (14, [.ref d, .int 1, .int h1, .int z1]))]] sz (Qi Γ (fun r_ u_ => r_ = 1 ∧ u_ = [])) := by
  refine K_intro (by decide) (Nat.le_of_ble_eq_true rfl) ?_
  intro pr_ ev_ s mi_ below meth cd_ A ls hx hb hr hml hown hts hlocks hname hK hE hRo hP hD hA hS hsz hl
  have hl : lv_has ls 1 [(0, .ref a)] := hl
  have hown : s.vm.findClass RJ6 = some mi_.cls := hown
  refine va_gets (C := "java/lang/String") (n := "COMPACT_STRINGS") (d := "Z") hx hb hE.compact hS hown (hts _ q673) (fun _ h9 => h9) dJ6_coder_0 ?_
  refine lv_if_eq (tgt := 13) hx hb dJ6_coder_3 (by decide) (fun c_1 => ?_) (fun c_1 => ?_)
  · -- 3 taken
    have n_1 : 1 = 0 := (nI_eq (by omega) (by omega)).mp (show nI 1 = nI 0 from c_1)
    exact absurd n_1 (by omega)
  · -- 3 not taken
    have n_1 : ¬ (1 = 0) := fun h => c_1 ((nI_eq (a := 1) (b := 0) (by omega) (by omega)).mpr h)
    refine lv_aload_n hx hb dJ6_coder_6 rfl (lv_at hl 0 rfl) ?_
    refine b_getS (v := .int 1) hx hb hts hown hK (hRo (a, .inr (14, [.ref d, .int 1, .int h1, .int z1])) (by simp)) hS 1 (by decide) q772 rfl dJ6_coder_7 ?_
    refine lv_goto (tgt := 14) hx hb dJ6_coder_10 (by decide) ?_
    exact b_zret hx hb hr hlocks hP hD hS (Nat.le_of_ble_eq_true rfl) (Nat.le_of_ble_eq_true rfl) rfl ⟨(by first | with_reducible rfl | (simp [n_1]; done) | rfl), (by first | with_reducible rfl | (simp [n_1]; done) | rfl)⟩ dJ6_coder_14
set_option maxHeartbeats 4000000 in
set_option maxRecDepth 100000 in
theorem mt_Str_length_1 (l : Launch) (Γ : GE) (sz : Nat) (a : Nat) (d : Nat) (h1 : Int32) (z1 : Int32) (n : Nat) (f : Nat → Int32) (hn : n < 2 ^ 30) : KM l yJ6_length cJ6_length 1 (some FieldType.int) Γ 1 20 0 0 [.ref a] [] [[(a, .inr (14, [.ref d, .int 1, .int h1, .int z1]))], [(d, .inl (Γ.2.1 1, 2 * n, .inl f))]] sz (Qi Γ (fun r_ u_ => r_ = (nI n) ∧ u_ = [])) := by
  refine K_intro (by decide) (Nat.le_of_ble_eq_true rfl) ?_
  intro pr_ ev_ s mi_ below meth cd_ A ls hx hb hr hml hown hts hlocks hname hK hE hRo hP hD hA hS hsz hl
  have hl : lv_has ls 1 [(0, .ref a)] := hl
  have hown : s.vm.findClass RJ6 = some mi_.cls := hown
  refine lv_aload_n hx hb dJ6_length_0 rfl (lv_at hl 0 rfl) ?_
  refine b_getS (v := .ref d) hx hb hts hown hK (hRo (a, .inr (14, [.ref d, .int 1, .int h1, .int z1])) (by simp)) hS 0 (by decide) q771 rfl dJ6_length_1 ?_
  refine b_alenR hx hb hK (hRo (d, .inl (Γ.2.1 1, 2 * n, .inl f)) (by simp)) hS dJ6_length_4 ?_
  refine lv_aload_n hx hb dJ6_length_5 rfl (lv_at hl 0 rfl) ?_
  refine b_calli (br := []) (b_runV ⟨hx, hb, hml, hown, hts⟩ (mt_Str_coder_1 l Γ _ a d h1 z1) (lw_V q669 q670 q671 q71 q672) rfl rfl 0 (by decide +kernel) ⟨(Nat.le_of_ble_eq_true rfl), (Nat.le_of_ble_eq_true rfl)⟩ (c_pre hP hD hS hA hK hE [] rfl rfl (ro_pass (ro_sel (ro2 := [[(a, .inr (14, [.ref d, .int 1, .int h1, .int z1]))]]) hRo [0] rfl) hD hS hA [] rfl)) (recv_ro hK ((hRo (a, .inr (14, [.ref d, .int 1, .int h1, .int z1])) (by simp)).keep hS (fun _ h => h))) rfl hl.1 rfl (Nat.le_of_ble_eq_true rfl) dJ6_length_6 ⟨(Nat.le_of_ble_eq_true rfl), (Nat.le_of_ble_eq_true rfl)⟩) hP hD hS hA [] [] rfl rfl rfl (fun r_1 u_1 H locs hw_1 hP hD hS _ => ?_)
  obtain ⟨rfl, rfl⟩ := hw_1
  have hP : WP Γ [] H := hP
  have hD : WD A [] := hD
  refine lv_ishr hx hb dJ6_length_9 ?_
  refine b_top (nI_shrE (a := 2 * n) (k := 1) (c := n) rfl rfl (by decide) (by omega) (by omega)) ?_
  exact b_iret hx hb hr hlocks hP hD hS (Nat.le_of_ble_eq_true rfl) (Nat.le_of_ble_eq_true rfl) ⟨(by first | rfl | (simp; done)), (by first | rfl | (simp; done))⟩ dJ6_length_10
set_option maxHeartbeats 4000000 in
set_option maxRecDepth 100000 in
theorem mt_Str_charAt_0 (l : Launch) (Γ : GE) (sz : Nat) (a : Nat) (d : Nat) (h1 : Int32) (z1 : Int32) (n : Nat) (f : Nat → Int32) (i : Nat) (hi : i < n) (hn : n < 2 ^ 30) : KM l yJ6_charAt cJ6_charAt 2 (some FieldType.char) Γ 3 64 0 0 [.ref a, .int (nI i)] [] [[(a, .inr (14, [.ref d, .int 0, .int h1, .int z1]))], [(d, .inl (Γ.2.1 1, n, .inl f))]] sz (Qi Γ (fun r_ u_ => r_ = (lc (f i)) ∧ u_ = [])) := by
  refine K_intro (by decide) (Nat.le_of_ble_eq_true rfl) ?_
  intro pr_ ev_ s mi_ below meth cd_ A ls hx hb hr hml hown hts hlocks hname hK hE hRo hP hD hA hS hsz hl
  have hl : lv_has ls 2 [(0, .ref a), (1, .int (nI i))] := hl
  have hown : s.vm.findClass RJ6 = some mi_.cls := hown
  refine lv_aload_n hx hb dJ6_charAt_0 rfl (lv_at hl 0 rfl) ?_
  refine b_calli (br := []) (b_runV ⟨hx, hb, hml, hown, hts⟩ (mt_Str_isLatin1_0 l Γ _ a d h1 z1) (lw_V q1484 q1485 q1486 q71 q1487) rfl rfl 0 (by decide +kernel) ⟨(Nat.le_of_ble_eq_true rfl), (Nat.le_of_ble_eq_true rfl)⟩ (c_pre hP hD hS hA hK hE [] rfl rfl (ro_pass (ro_sel (ro2 := [[(a, .inr (14, [.ref d, .int 0, .int h1, .int z1]))]]) hRo [0] rfl) hD hS hA [] rfl)) (recv_ro hK ((hRo (a, .inr (14, [.ref d, .int 0, .int h1, .int z1])) (by simp)).keep hS (fun _ h => h))) rfl hl.1 rfl (Nat.le_of_ble_eq_true rfl) dJ6_charAt_1 ⟨(Nat.le_of_ble_eq_true rfl), (Nat.le_of_ble_eq_true rfl)⟩) hP hD hS hA [] [] rfl rfl rfl (fun r_1 u_1 H locs hw_1 hP hD hS _ => ?_)
  obtain ⟨rfl, rfl⟩ := hw_1
  have hP : WP Γ [] H := hP
  have hD : WD A [] := hD
  refine lv_if_eq (tgt := 16) hx hb dJ6_charAt_4 (by decide) (fun c_2 => ?_) (fun c_2 => ?_)
  · -- 4 taken
    have n_2 : 1 = 0 := (nI_eq (by omega) (by omega)).mp (show nI 1 = nI 0 from c_2)
    exact absurd n_2 (by omega)
  · -- 4 not taken
    have n_2 : ¬ (1 = 0) := fun h => c_2 ((nI_eq (a := 1) (b := 0) (by omega) (by omega)).mpr h)
    refine lv_aload_n hx hb dJ6_charAt_7 rfl (lv_at hl 0 rfl) ?_
    refine b_getS (v := .ref d) hx hb hts hown hK (hRo (a, .inr (14, [.ref d, .int 0, .int h1, .int z1])) (by simp)) hS 0 (by decide) q771 rfl dJ6_charAt_8 ?_
    refine lv_iload_n hx hb dJ6_charAt_11 rfl (lv_at hl 1 rfl) ?_
    refine b_calli (br := []) (b_runS ⟨hx, hb, hml, hown, hts⟩ (mt_Lat_charAt l Γ _ d n f i (by first | exact hi | omega) (by first | exact hn | omega)) (lw_S q1488 q1489 q89 q1490) rfl rfl 2 (by decide +kernel) ⟨(Nat.le_of_ble_eq_true rfl), (Nat.le_of_ble_eq_true rfl)⟩ (c_pre hP hD hS hA hK hE [] rfl rfl (ro_pass (ro_sel (ro2 := [[(d, .inl (Γ.2.1 1, n, .inl f))]]) hRo [1] rfl) hD hS hA [] rfl)) rfl hl.1 rfl (Nat.le_of_ble_eq_true rfl) dJ6_charAt_12 ⟨(Nat.le_of_ble_eq_true rfl), (Nat.le_of_ble_eq_true rfl)⟩) hP hD hS hA [] [] rfl rfl rfl (fun r_3 u_3 H locs hw_3 hP hD hS _ => ?_)
    obtain ⟨rfl, rfl⟩ := hw_3
    have hP : WP Γ [] H := hP
    have hD : WD A [] := hD
    exact b_zret hx hb hr hlocks hP hD hS (Nat.le_of_ble_eq_true rfl) (Nat.le_of_ble_eq_true rfl) (pk_nc _) ⟨(by first | with_reducible rfl | (simp [n_2]; done) | rfl), (by first | with_reducible rfl | (simp [n_2]; done) | rfl)⟩ dJ6_charAt_15
set_option maxHeartbeats 4000000 in
set_option maxRecDepth 100000 in
theorem mt_U16_length (l : Launch) (Γ : GE) (sz : Nat) (d : Nat) (n : Nat) (f : Nat → Int32) (hn : n < 2 ^ 30) : KM l yJ7_length cJ7_length 1 (some FieldType.int) Γ 0 0 0 0 [.ref d] [] [[(d, .inl (Γ.2.1 1, 2 * n, .inl f))]] sz (Qi Γ (fun r_ u_ => r_ = (nI n) ∧ u_ = [])) := by
  refine K_intro (by decide) (Nat.le_of_ble_eq_true rfl) ?_
  intro pr_ ev_ s mi_ below meth cd_ A ls hx hb hr hml hown hts hlocks hname hK hE hRo hP hD hA hS hsz hl
  have hl : lv_has ls 1 [(0, .ref d)] := hl
  have hown : s.vm.findClass RJ7 = some mi_.cls := hown
  refine lv_aload_n hx hb dJ7_length_0 rfl (lv_at hl 0 rfl) ?_
  refine b_alenR hx hb hK (hRo (d, .inl (Γ.2.1 1, 2 * n, .inl f)) (by simp)) hS dJ7_length_1 ?_
  refine lv_iconst (v := 1) hx hb dJ7_length_2 (by decide) ?_
  refine lv_ishr hx hb dJ7_length_3 ?_
  refine b_top (nI_shrE (a := 2 * n) (k := 1) (c := n) rfl rfl (by decide) (by omega) (by omega)) ?_
  exact b_iret hx hb hr hlocks hP hD hS (Nat.le_of_ble_eq_true rfl) (Nat.le_of_ble_eq_true rfl) ⟨(by first | rfl | (simp; done)), (by first | rfl | (simp; done))⟩ dJ7_length_4
set_option maxHeartbeats 4000000 in
set_option maxRecDepth 100000 in
theorem mt_U16_checkIndex (l : Launch) (Γ : GE) (sz : Nat) (i : Nat) (d : Nat) (n : Nat) (f : Nat → Int32) (hi : i < n) (hn : n < 2 ^ 30) : KM l yJ7_checkIndex cJ7_checkIndex 2 none Γ 2 43 0 0 [.int (nI i), .ref d] [] [[(d, .inl (Γ.2.1 1, 2 * n, .inl f))]] sz (Qv Γ (fun u_ => u_ = [])) := by
  refine K_intro (by decide) (Nat.le_of_ble_eq_true rfl) ?_
  intro pr_ ev_ s mi_ below meth cd_ A ls hx hb hr hml hown hts hlocks hname hK hE hRo hP hD hA hS hsz hl
  have hl : lv_has ls 2 [(0, .int (nI i)), (1, .ref d)] := hl
  have hown : s.vm.findClass RJ7 = some mi_.cls := hown
  refine lv_iload_n hx hb dJ7_checkIndex_0 rfl (lv_at hl 0 rfl) ?_
  refine lv_aload_n hx hb dJ7_checkIndex_1 rfl (lv_at hl 1 rfl) ?_
  refine b_calli (br := []) (b_runS ⟨hx, hb, hml, hown, hts⟩ (mt_U16_length l Γ _ d n f (by first | exact hn | omega)) (lw_S q625 q626 q72 q627) rfl rfl 1 (by decide +kernel) ⟨(Nat.le_of_ble_eq_true rfl), (Nat.le_of_ble_eq_true rfl)⟩ (c_pre hP hD hS hA hK hE [] rfl rfl (ro_pass (ro_sel (ro2 := [[(d, .inl (Γ.2.1 1, 2 * n, .inl f))]]) hRo [0] rfl) hD hS hA [] rfl)) rfl hl.1 rfl (Nat.le_of_ble_eq_true rfl) dJ7_checkIndex_2 ⟨(Nat.le_of_ble_eq_true rfl), (Nat.le_of_ble_eq_true rfl)⟩) hP hD hS hA [] [] rfl rfl rfl (fun r_1 u_1 H locs hw_1 hP hD hS _ => ?_)
  obtain ⟨rfl, rfl⟩ := hw_1
  have hP : WP Γ [] H := hP
  have hD : WD A [] := hD
  refine b_callv (br := []) (b_runS ⟨hx, hb, hml, hown, hts⟩ (mt_Str_checkIndex l Γ _ i n (by first | exact hi | omega) (by first | exact hn | omega)) (lw_S q1501 q1492 q71 q1493) rfl rfl 2 (by decide +kernel) ⟨(Nat.le_of_ble_eq_true rfl), (Nat.le_of_ble_eq_true rfl)⟩ (c_pre hP hD hS hA hK hE [] rfl rfl ro_nil) rfl hl.1 rfl (Nat.le_of_ble_eq_true rfl) dJ7_checkIndex_5 ⟨(Nat.le_of_ble_eq_true rfl), (Nat.le_of_ble_eq_true rfl)⟩) hP hD hS hA [] [] rfl rfl rfl (fun u_2 H locs hw_2 hP hD hS _ => ?_)
  obtain rfl := hw_2
  have hP : WP Γ [] H := hP
  have hD : WD A [] := hD
  exact b_vret hx hb hr hlocks hP hD hS (Nat.le_of_ble_eq_true rfl) (Nat.le_of_ble_eq_true rfl) (by first | rfl | (simp; done)) dJ7_checkIndex_8
set_option maxHeartbeats 4000000 in
set_option maxRecDepth 100000 in
theorem mt_U16_getChar (l : Launch) (Γ : GE) (sz : Nat) (d : Nat) (n : Nat) (f : Nat → Int32) (i : Nat) (hi : i < n) (hn : n < 2 ^ 30) : KM l yJ7_getChar cJ7_getChar 2 (some FieldType.char) Γ 0 0 0 0 [.ref d, .int (nI i)] [] [[(d, .inl (Γ.2.1 1, 2 * n, .inl f))]] sz (Qi Γ (fun r_ u_ => r_ = (uc (f (2 * i)) (f (2 * i + 1))) ∧ u_ = [])) := by
  refine K_intro (by decide) (Nat.le_of_ble_eq_true rfl) ?_
  intro pr_ ev_ s mi_ below meth cd_ A ls hx hb hr hml hown hts hlocks hname hK hE hRo hP hD hA hS hsz hl
  have hl : lv_has ls 2 [(0, .ref d), (1, .int (nI i))] := hl
  have hown : s.vm.findClass RJ7 = some mi_.cls := hown
  refine va_gets (C := "java/lang/StringUTF16") (n := "$assertionsDisabled") (d := "Z") hx hb hE.asrt hS hown (hts _ q643) (fun _ h9 => h9) dJ7_getChar_0 ?_
  refine lv_if_ne (tgt := 28) hx hb dJ7_getChar_3 (by decide) (fun c_1 => ?_) (fun c_1 => ?_)
  · -- 3 taken
    have n_1 : ¬ (1 = 0) := fun h => c_1 ((nI_eq (a := 1) (b := 0) (by omega) (by omega)).mpr h)
    refine lv_iload_n hx hb dJ7_getChar_28 rfl (lv_at hl 1 rfl) ?_
    refine lv_iconst (v := 1) hx hb dJ7_getChar_29 (by decide) ?_
    refine lv_ishl hx hb dJ7_getChar_30 ?_
    refine b_top (nI_shlE (a := i) (k := 1) (c := 2 * i) rfl rfl (by decide) (by omega) (by omega)) ?_
    refine lv_istore_n (lv' := [(1, .int (nI (2 * i))), (0, .ref d)]) hx hb dJ7_getChar_31 rfl hl (by decide) rfl (fun ls hl => ?_)
    refine lv_aload_n hx hb dJ7_getChar_32 rfl (lv_at hl 1 rfl) ?_
    refine lv_iload_n hx hb dJ7_getChar_33 rfl (lv_at hl 0 rfl) ?_
    refine lv_iinc (v := (nI (2 * i + 1))) (lv' := [(1, .int (nI (2 * i + 1))), (0, .ref d)]) hx hb dJ7_getChar_34 hl (k := 0) rfl (nI_addE (a := 2 * i) (b := 1) (c := 2 * i + 1) rfl rfl (by first | omega | rfl)) (by decide) rfl (fun ls hl => ?_)
    refine b_baldR hx hb hK (hRo (d, .inl (Γ.2.1 1, 2 * n, .inl f)) (by simp)) hS (2 * i) rfl (by omega) (by omega) dJ7_getChar_37 ?_
    refine lv_sipush (v := 255) hx hb dJ7_getChar_38 (by decide) ?_
    refine lv_iand hx hb dJ7_getChar_41 ?_
    refine va_gets (C := "java/lang/StringUTF16") (n := "HI_BYTE_SHIFT") (d := "I") hx hb hE.hi hS hown (hts _ q645) (fun _ h9 => h9) dJ7_getChar_42 ?_
    refine lv_ishl hx hb dJ7_getChar_45 ?_
    refine lv_aload_n hx hb dJ7_getChar_46 rfl (lv_at hl 1 rfl) ?_
    refine lv_iload_n hx hb dJ7_getChar_47 rfl (lv_at hl 0 rfl) ?_
    refine b_baldR hx hb hK (hRo (d, .inl (Γ.2.1 1, 2 * n, .inl f)) (by simp)) hS (2 * i + 1) rfl (by omega) (by omega) dJ7_getChar_48 ?_
    refine lv_sipush (v := 255) hx hb dJ7_getChar_49 (by decide) ?_
    refine lv_iand hx hb dJ7_getChar_52 ?_
    refine va_gets (C := "java/lang/StringUTF16") (n := "LO_BYTE_SHIFT") (d := "I") hx hb hE.lo hS hown (hts _ q647) (fun _ h9 => h9) dJ7_getChar_53 ?_
    refine lv_ishl hx hb dJ7_getChar_56 ?_
    refine lv_ior hx hb dJ7_getChar_57 ?_
    refine lv_i2c hx hb dJ7_getChar_58 rfl ?_
    exact b_zret hx hb hr hlocks hP hD hS (Nat.le_of_ble_eq_true rfl) (Nat.le_of_ble_eq_true rfl) (pk_nc _) ⟨(by first | with_reducible rfl | (simp [uc, n_1]; done) | rfl), (by first | with_reducible rfl | (simp [uc, n_1]; done) | rfl)⟩ dJ7_getChar_59
  · -- 3 not taken
    have n_1 : 1 = 0 := (nI_eq (by omega) (by omega)).mp (show nI 1 = nI 0 from c_1)
    exact absurd n_1 (by omega)
set_option maxHeartbeats 4000000 in
set_option maxRecDepth 100000 in
theorem mt_U16_charAt (l : Launch) (Γ : GE) (sz : Nat) (d : Nat) (n : Nat) (f : Nat → Int32) (i : Nat) (hi : i < n) (hn : n < 2 ^ 30) : KM l yJ7_charAt cJ7_charAt 2 (some FieldType.char) Γ 3 64 0 0 [.ref d, .int (nI i)] [] [[(d, .inl (Γ.2.1 1, 2 * n, .inl f))]] sz (Qi Γ (fun r_ u_ => r_ = (uc (f (2 * i)) (f (2 * i + 1))) ∧ u_ = [])) := by
  refine K_intro (by decide) (Nat.le_of_ble_eq_true rfl) ?_
  intro pr_ ev_ s mi_ below meth cd_ A ls hx hb hr hml hown hts hlocks hname hK hE hRo hP hD hA hS hsz hl
  have hl : lv_has ls 2 [(0, .ref d), (1, .int (nI i))] := hl
  have hown : s.vm.findClass RJ7 = some mi_.cls := hown
  refine lv_iload_n hx hb dJ7_charAt_0 rfl (lv_at hl 1 rfl) ?_
  refine lv_aload_n hx hb dJ7_charAt_1 rfl (lv_at hl 0 rfl) ?_
  refine b_callv (br := []) (b_runS ⟨hx, hb, hml, hown, hts⟩ (mt_U16_checkIndex l Γ _ i d n f (by first | exact hi | omega) (by first | exact hn | omega)) (lw_S q1498 q1499 q72 q1500) rfl rfl 2 (by decide +kernel) ⟨(Nat.le_of_ble_eq_true rfl), (Nat.le_of_ble_eq_true rfl)⟩ (c_pre hP hD hS hA hK hE [] rfl rfl (ro_pass (ro_sel (ro2 := [[(d, .inl (Γ.2.1 1, 2 * n, .inl f))]]) hRo [0] rfl) hD hS hA [] rfl)) rfl hl.1 rfl (Nat.le_of_ble_eq_true rfl) dJ7_charAt_2 ⟨(Nat.le_of_ble_eq_true rfl), (Nat.le_of_ble_eq_true rfl)⟩) hP hD hS hA [] [] rfl rfl rfl (fun u_1 H locs hw_1 hP hD hS _ => ?_)
  obtain rfl := hw_1
  have hP : WP Γ [] H := hP
  have hD : WD A [] := hD
  refine lv_aload_n hx hb dJ7_charAt_5 rfl (lv_at hl 0 rfl) ?_
  refine lv_iload_n hx hb dJ7_charAt_6 rfl (lv_at hl 1 rfl) ?_
  refine b_calli (br := []) (b_runS ⟨hx, hb, hml, hown, hts⟩ (mt_U16_getChar l Γ _ d n f i (by first | exact hi | omega) (by first | exact hn | omega)) (lw_S q764 q765 q72 q766) rfl rfl 2 (by decide +kernel) ⟨(Nat.le_of_ble_eq_true rfl), (Nat.le_of_ble_eq_true rfl)⟩ (c_pre hP hD hS hA hK hE [] rfl rfl (ro_pass (ro_sel (ro2 := [[(d, .inl (Γ.2.1 1, 2 * n, .inl f))]]) hRo [0] rfl) hD hS hA [] rfl)) rfl hl.1 rfl (Nat.le_of_ble_eq_true rfl) dJ7_charAt_7 ⟨(Nat.le_of_ble_eq_true rfl), (Nat.le_of_ble_eq_true rfl)⟩) hP hD hS hA [] [] rfl rfl rfl (fun r_2 u_2 H locs hw_2 hP hD hS _ => ?_)
  obtain ⟨rfl, rfl⟩ := hw_2
  have hP : WP Γ [] H := hP
  have hD : WD A [] := hD
  exact b_zret hx hb hr hlocks hP hD hS (Nat.le_of_ble_eq_true rfl) (Nat.le_of_ble_eq_true rfl) (pk_nc _) ⟨(by first | rfl | (simp; done)), (by first | rfl | (simp; done))⟩ dJ7_charAt_10
set_option maxHeartbeats 4000000 in
set_option maxRecDepth 100000 in
theorem mt_Str_charAt_1 (l : Launch) (Γ : GE) (sz : Nat) (a : Nat) (d : Nat) (h1 : Int32) (z1 : Int32) (n : Nat) (f : Nat → Int32) (i : Nat) (hi : i < n) (hn : n < 2 ^ 30) : KM l yJ6_charAt cJ6_charAt 2 (some FieldType.char) Γ 4 85 0 0 [.ref a, .int (nI i)] [] [[(a, .inr (14, [.ref d, .int 1, .int h1, .int z1]))], [(d, .inl (Γ.2.1 1, 2 * n, .inl f))]] sz (Qi Γ (fun r_ u_ => r_ = (uc (f (2 * i)) (f (2 * i + 1))) ∧ u_ = [])) := by
  refine K_intro (by decide) (Nat.le_of_ble_eq_true rfl) ?_
  intro pr_ ev_ s mi_ below meth cd_ A ls hx hb hr hml hown hts hlocks hname hK hE hRo hP hD hA hS hsz hl
  have hl : lv_has ls 2 [(0, .ref a), (1, .int (nI i))] := hl
  have hown : s.vm.findClass RJ6 = some mi_.cls := hown
  refine lv_aload_n hx hb dJ6_charAt_0 rfl (lv_at hl 0 rfl) ?_
  refine b_calli (br := []) (b_runV ⟨hx, hb, hml, hown, hts⟩ (mt_Str_isLatin1_1 l Γ _ a d h1 z1) (lw_V q1484 q1485 q1486 q71 q1487) rfl rfl 0 (by decide +kernel) ⟨(Nat.le_of_ble_eq_true rfl), (Nat.le_of_ble_eq_true rfl)⟩ (c_pre hP hD hS hA hK hE [] rfl rfl (ro_pass (ro_sel (ro2 := [[(a, .inr (14, [.ref d, .int 1, .int h1, .int z1]))]]) hRo [0] rfl) hD hS hA [] rfl)) (recv_ro hK ((hRo (a, .inr (14, [.ref d, .int 1, .int h1, .int z1])) (by simp)).keep hS (fun _ h => h))) rfl hl.1 rfl (Nat.le_of_ble_eq_true rfl) dJ6_charAt_1 ⟨(Nat.le_of_ble_eq_true rfl), (Nat.le_of_ble_eq_true rfl)⟩) hP hD hS hA [] [] rfl rfl rfl (fun r_1 u_1 H locs hw_1 hP hD hS _ => ?_)
  obtain ⟨rfl, rfl⟩ := hw_1
  have hP : WP Γ [] H := hP
  have hD : WD A [] := hD
  refine lv_if_eq (tgt := 16) hx hb dJ6_charAt_4 (by decide) (fun c_2 => ?_) (fun c_2 => ?_)
  · -- 4 taken
    have n_2 : 0 = 0 := (nI_eq (by omega) (by omega)).mp (show nI 0 = nI 0 from c_2)
    refine lv_aload_n hx hb dJ6_charAt_16 rfl (lv_at hl 0 rfl) ?_
    refine b_getS (v := .ref d) hx hb hts hown hK (hRo (a, .inr (14, [.ref d, .int 1, .int h1, .int z1])) (by simp)) hS 0 (by decide) q771 rfl dJ6_charAt_17 ?_
    refine lv_iload_n hx hb dJ6_charAt_20 rfl (lv_at hl 1 rfl) ?_
    refine b_calli (br := []) (b_runS ⟨hx, hb, hml, hown, hts⟩ (mt_U16_charAt l Γ _ d n f i (by first | exact hi | omega) (by first | exact hn | omega)) (lw_S q1495 q1496 q72 q1497) rfl rfl 2 (by decide +kernel) ⟨(Nat.le_of_ble_eq_true rfl), (Nat.le_of_ble_eq_true rfl)⟩ (c_pre hP hD hS hA hK hE [] rfl rfl (ro_pass (ro_sel (ro2 := [[(d, .inl (Γ.2.1 1, 2 * n, .inl f))]]) hRo [1] rfl) hD hS hA [] rfl)) rfl hl.1 rfl (Nat.le_of_ble_eq_true rfl) dJ6_charAt_21 ⟨(Nat.le_of_ble_eq_true rfl), (Nat.le_of_ble_eq_true rfl)⟩) hP hD hS hA [] [] rfl rfl rfl (fun r_3 u_3 H locs hw_3 hP hD hS _ => ?_)
    obtain ⟨rfl, rfl⟩ := hw_3
    have hP : WP Γ [] H := hP
    have hD : WD A [] := hD
    exact b_zret hx hb hr hlocks hP hD hS (Nat.le_of_ble_eq_true rfl) (Nat.le_of_ble_eq_true rfl) (pk_nc _) ⟨(by first | with_reducible rfl | (simp [n_2]; done) | rfl), (by first | with_reducible rfl | (simp [n_2]; done) | rfl)⟩ dJ6_charAt_24
  · -- 4 not taken
    have n_2 : ¬ (0 = 0) := fun h => c_2 ((nI_eq (a := 0) (b := 0) (by omega) (by omega)).mpr h)
    exact absurd n_2 (by omega)
