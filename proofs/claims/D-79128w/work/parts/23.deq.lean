/-! JDK: ArrayDeque, of 17 places; n elements from place h on, the k-th at c k -/
def dqI (f : Nat → Option Nat) (h n : Nat) (c : Nat → Nat) : Prop := h < 17 ∧ n ≤ 16 ∧ ∀ k, k < n → f ((h + k) % 17) = some (c k)
theorem dqI_b {f : Nat → Option Nat} {h n : Nat} {c : Nat → Nat} (d : dqI f h n c) : h < 17 ∧ n ≤ 16 := ⟨d.1, d.2.1⟩
theorem dqI_push {f : Nat → Option Nat} {h n e : Nat} {c : Nat → Nat} (d : dqI f h n c) (hn : n < 16) : dqI (va_up f ((h + n) % 17) (some e)) h (n + 1) (va_up c n e) := by
  obtain ⟨h1, h2, h3⟩ := d
  refine ⟨h1, hn, fun k hk => ?_⟩
  show (if (h + k) % 17 = (h + n) % 17 then some e else f ((h + k) % 17)) = some (if k = n then e else c k)
  by_cases e1 : k = n
  · rw [e1, if_pos rfl, if_pos rfl]
  · rw [if_neg (by omega), if_neg e1]
    exact h3 k (by omega)
theorem dqI_first {f : Nat → Option Nat} {h n : Nat} {c : Nat → Nat} (d : dqI f h (n + 1) c) : dqI (va_up f h none) ((h + 1) % 17) n (fun k => c (k + 1)) := by
  obtain ⟨h1, h2, h3⟩ := d
  refine ⟨by omega, by omega, fun k hk => ?_⟩
  show (if ((h + 1) % 17 + k) % 17 = h then none else f (((h + 1) % 17 + k) % 17)) = _
  rw [if_neg (by omega), show ((h + 1) % 17 + k) % 17 = (h + (k + 1)) % 17 by omega]
  exact h3 _ (by omega)
theorem dqI_last {f : Nat → Option Nat} {h n : Nat} {c : Nat → Nat} (d : dqI f h (n + 1) c) : dqI (va_up f ((h + n) % 17) none) h n c := by
  obtain ⟨h1, h2, h3⟩ := d
  refine ⟨h1, by omega, fun k hk => ?_⟩
  show (if (h + k) % 17 = (h + n) % 17 then none else f ((h + k) % 17)) = _
  rw [if_neg (by omega)]
  exact h3 k (by omega)
theorem dqI_nil {f : Nat → Option Nat} {c : Nat → Nat} : dqI f 0 0 c := ⟨by decide, by decide, fun k hk => absurd hk (Nat.not_lt_zero k)⟩
set_option maxHeartbeats 4000000 in
set_option maxRecDepth 100000 in
theorem mt_DQ_inc (l : Launch) (Γ : GE) (sz : Nat) (i : Nat) (hi : i < 17) : KM l yJ3_inc cJ3_inc 2 (some FieldType.int) Γ 0 0 0 0 [.int (nI i), .int (nI 17)] [] [] sz (Qi Γ (fun r_ u_ => r_ = (nI ((i + 1) % 17)) ∧ u_ = [])) := by
  refine K_intro (by decide) (Nat.le_of_ble_eq_true rfl) ?_
  intro pr_ ev_ s mi_ below meth cd_ A ls hx hb hr hml hown hts hlocks hname hK hE hRo hP hD hA hS hsz hl
  have hl : lv_has ls 2 [(0, .int (nI i)), (1, .int (nI 17))] := hl
  have hown : s.vm.findClass RJ3 = some mi_.cls := hown
  refine lv_iinc (v := (nI (i + 1))) (lv' := [(0, .int (nI (i + 1))), (1, .int (nI 17))]) hx hb dJ3_inc_0 hl (k := 0) rfl (nI_addE (a := i) (b := 1) (c := i + 1) rfl rfl (by first | omega | rfl)) (by decide) rfl (fun ls hl => ?_)
  refine lv_iload_n hx hb dJ3_inc_3 rfl (lv_at hl 0 rfl) ?_
  refine lv_iload_n hx hb dJ3_inc_4 rfl (lv_at hl 1 rfl) ?_
  refine lv_icmp_lt (tgt := 10) hx hb dJ3_inc_5 (by decide) (fun c_1 => ?_) (fun c_1 => ?_)
  · -- 5 taken
    have n_1 : i + 1 < 17 := (nI_ltI (by omega) (by omega)).mp (show nI (i + 1) < nI 17 from c_1)
    refine lv_iload_n hx hb dJ3_inc_10 rfl (lv_at hl 0 rfl) ?_
    exact b_iret hx hb hr hlocks hP hD hS (Nat.le_of_ble_eq_true rfl) (Nat.le_of_ble_eq_true rfl) ⟨(by first | rw [show (i + 1) % 17 = i + 1 by omega] | rw [show (i + 1) % 17 = 0 by omega]; rfl), (by first | with_reducible rfl | (simp [n_1, c_1]; done) | rfl)⟩ dJ3_inc_11
  · -- 5 not taken
    have n_1 : ¬ (i + 1 < 17) := fun h => c_1 ((nI_ltI (a := i + 1) (b := 17) (by omega) (by omega)).mpr h)
    refine lv_iconst (v := 0) hx hb dJ3_inc_8 (by decide) ?_
    refine lv_istore_n (lv' := [(0, .int 0), (1, .int (nI 17))]) hx hb dJ3_inc_9 rfl hl (by decide) rfl (fun ls hl => ?_)
    refine lv_iload_n hx hb dJ3_inc_10 rfl (lv_at hl 0 rfl) ?_
    exact b_iret hx hb hr hlocks hP hD hS (Nat.le_of_ble_eq_true rfl) (Nat.le_of_ble_eq_true rfl) ⟨(by first | rw [show (i + 1) % 17 = i + 1 by omega] | rw [show (i + 1) % 17 = 0 by omega]; rfl), (by first | with_reducible rfl | (simp [n_1, c_1]; done) | rfl)⟩ dJ3_inc_11
set_option maxHeartbeats 4000000 in
set_option maxRecDepth 100000 in
theorem mt_DQ_dec0 (l : Launch) (Γ : GE) (sz : Nat)   : KM l yJ3_dec cJ3_dec 2 (some FieldType.int) Γ 0 0 0 0 [.int (nI 0), .int (nI 17)] [] [] sz (Qi Γ (fun r_ u_ => r_ = (nI 16) ∧ u_ = [])) := by
  refine K_intro (by decide) (Nat.le_of_ble_eq_true rfl) ?_
  intro pr_ ev_ s mi_ below meth cd_ A ls hx hb hr hml hown hts hlocks hname hK hE hRo hP hD hA hS hsz hl
  have hl : lv_has ls 2 [(0, .int (nI 0)), (1, .int (nI 17))] := hl
  have hown : s.vm.findClass RJ3 = some mi_.cls := hown
  refine lv_iinc (v := ((nI 0) + (-1))) (lv' := [(0, .int ((nI 0) + (-1))), (1, .int (nI 17))]) hx hb dJ3_dec_0 hl (k := 0) rfl (rfl) (by decide) rfl (fun ls hl => ?_)
  refine lv_iload_n hx hb dJ3_dec_3 rfl (lv_at hl 0 rfl) ?_
  refine lv_if_ge (tgt := 11) hx hb dJ3_dec_4 (by decide) (fun c_1 => ?_) (fun c_1 => ?_)
  · -- 4 taken
    have d_1 := Int32.not_lt.mpr c_1
    exact absurd c_1 (by decide)
  · -- 4 not taken
    have d_1 := Int32.not_le.mp c_1
    refine lv_iload_n hx hb dJ3_dec_7 rfl (lv_at hl 1 rfl) ?_
    refine lv_iconst (v := 1) hx hb dJ3_dec_8 (by decide) ?_
    refine lv_isub hx hb dJ3_dec_9 ?_
    refine b_top (nI_subE (a := 17) (b := 1) (c := 16) rfl rfl (by first | omega | rfl)) ?_
    refine lv_istore_n (lv' := [(0, .int (nI 16)), (1, .int (nI 17))]) hx hb dJ3_dec_10 rfl hl (by decide) rfl (fun ls hl => ?_)
    refine lv_iload_n hx hb dJ3_dec_11 rfl (lv_at hl 0 rfl) ?_
    exact b_iret hx hb hr hlocks hP hD hS (Nat.le_of_ble_eq_true rfl) (Nat.le_of_ble_eq_true rfl) ⟨(by first | with_reducible rfl | (simp [c_1, d_1]; done) | rfl), (by first | with_reducible rfl | (simp [c_1, d_1]; done) | rfl)⟩ dJ3_dec_12
set_option maxHeartbeats 4000000 in
set_option maxRecDepth 100000 in
theorem mt_DQ_dec (l : Launch) (Γ : GE) (sz : Nat) (i : Nat) (hi : i < 17) : KM l yJ3_dec cJ3_dec 2 (some FieldType.int) Γ 0 0 0 0 [.int (nI (i + 1)), .int (nI 17)] [] [] sz (Qi Γ (fun r_ u_ => r_ = (nI i) ∧ u_ = [])) := by
  refine K_intro (by decide) (Nat.le_of_ble_eq_true rfl) ?_
  intro pr_ ev_ s mi_ below meth cd_ A ls hx hb hr hml hown hts hlocks hname hK hE hRo hP hD hA hS hsz hl
  have hl : lv_has ls 2 [(0, .int (nI (i + 1))), (1, .int (nI 17))] := hl
  have hown : s.vm.findClass RJ3 = some mi_.cls := hown
  refine lv_iinc (v := (nI i)) (lv' := [(0, .int (nI i)), (1, .int (nI 17))]) hx hb dJ3_dec_0 hl (k := 0) rfl (nI_decE (a := i + 1) (b := 1) (c := i) rfl rfl (by first | omega | rfl)) (by decide) rfl (fun ls hl => ?_)
  refine lv_iload_n hx hb dJ3_dec_3 rfl (lv_at hl 0 rfl) ?_
  refine lv_if_ge (tgt := 11) hx hb dJ3_dec_4 (by decide) (fun c_1 => ?_) (fun c_1 => ?_)
  · -- 4 taken
    have n_1 : 0 ≤ i := (nI_leI (by omega) (by omega)).mp (show nI 0 ≤ nI i from c_1)
    have m_1 : ¬ (i < 0) := by omega
    have d_1 := Int32.not_lt.mpr c_1
    refine lv_iload_n hx hb dJ3_dec_11 rfl (lv_at hl 0 rfl) ?_
    exact b_iret hx hb hr hlocks hP hD hS (Nat.le_of_ble_eq_true rfl) (Nat.le_of_ble_eq_true rfl) ⟨(by first | with_reducible rfl | (simp [n_1, m_1, d_1]; done) | rfl), (by first | with_reducible rfl | (simp [n_1, m_1, d_1]; done) | rfl)⟩ dJ3_dec_12
  · -- 4 not taken
    have n_1 : ¬ (0 ≤ i) := fun h => c_1 ((nI_leI (a := 0) (b := i) (by omega) (by omega)).mpr h)
    have m_1 : i < 0 := by omega
    have d_1 := Int32.not_le.mp c_1
    exfalso; omega
set_option maxHeartbeats 4000000 in
set_option maxRecDepth 100000 in
theorem mt_DQ_sub_ge (l : Launch) (Γ : GE) (sz : Nat) (i : Nat) (j : Nat) (hi : j ≤ i) (hj9 : i < 17) : KM l yJ3_sub cJ3_sub 3 (some FieldType.int) Γ 0 0 0 0 [.int (nI i), .int (nI j), .int (nI 17)] [] [] sz (Qi Γ (fun r_ u_ => r_ = (nI (i - j)) ∧ u_ = [])) := by
  refine K_intro (by decide) (Nat.le_of_ble_eq_true rfl) ?_
  intro pr_ ev_ s mi_ below meth cd_ A ls hx hb hr hml hown hts hlocks hname hK hE hRo hP hD hA hS hsz hl
  have hl : lv_has ls 3 [(0, .int (nI i)), (1, .int (nI j)), (2, .int (nI 17))] := hl
  have hown : s.vm.findClass RJ3 = some mi_.cls := hown
  refine lv_iload_n hx hb dJ3_sub_0 rfl (lv_at hl 0 rfl) ?_
  refine lv_iload_n hx hb dJ3_sub_1 rfl (lv_at hl 1 rfl) ?_
  refine lv_isub hx hb dJ3_sub_2 ?_
  refine b_top (nI_subE (a := i) (b := j) (c := (i - j)) rfl rfl (by first | omega | rfl)) ?_
  refine lv_dup hx hb dJ3_sub_3 rfl ?_
  refine lv_istore_n (lv' := [(0, .int (nI (i - j))), (1, .int (nI j)), (2, .int (nI 17))]) hx hb dJ3_sub_4 rfl hl (by decide) rfl (fun ls hl => ?_)
  refine lv_if_ge (tgt := 12) hx hb dJ3_sub_5 (by decide) (fun c_1 => ?_) (fun c_1 => ?_)
  · -- 5 taken
    have n_1 : 0 ≤ (i - j) := (nI_leI (by omega) (by omega)).mp (show nI 0 ≤ nI (i - j) from c_1)
    have m_1 : ¬ ((i - j) < 0) := by omega
    have d_1 := Int32.not_lt.mpr c_1
    refine lv_iload_n hx hb dJ3_sub_12 rfl (lv_at hl 0 rfl) ?_
    exact b_iret hx hb hr hlocks hP hD hS (Nat.le_of_ble_eq_true rfl) (Nat.le_of_ble_eq_true rfl) ⟨(by first | with_reducible rfl | (simp [n_1, m_1, d_1]; done) | rfl), (by first | with_reducible rfl | (simp [n_1, m_1, d_1]; done) | rfl)⟩ dJ3_sub_13
  · -- 5 not taken
    have n_1 : ¬ (0 ≤ (i - j)) := fun h => c_1 ((nI_leI (a := 0) (b := (i - j)) (by omega) (by omega)).mpr h)
    have m_1 : (i - j) < 0 := by omega
    have d_1 := Int32.not_le.mp c_1
    exfalso; omega
theorem sub_neg {i j : Nat} (h : i < j) (hj : j < 17) : nI i - nI j < 0 ∧ nI i - nI j + nI 17 = nI (i + 17 - j) := by
  have h1 : (nI i - nI j).toInt = (i : Int) - j := by
    rw [Int32.toInt_sub, nI_toInt (by omega), nI_toInt (by omega), Int.bmod_eq_of_le (by omega) (by omega)]
  constructor
  · rw [Int32.lt_iff_toInt_lt, h1]
    simp
    omega
  · apply Int32.toInt_inj.mp
    rw [Int32.toInt_add, h1, nI_toInt (by omega), nI_toInt (by omega), Int.bmod_eq_of_le (by omega) (by omega)]
    omega
set_option maxHeartbeats 4000000 in
set_option maxRecDepth 100000 in
theorem mt_DQ_sub_lt (l : Launch) (Γ : GE) (sz : Nat) (i : Nat) (j : Nat) (hi : i < j) (hj9 : j < 17) : KM l yJ3_sub cJ3_sub 3 (some FieldType.int) Γ 0 0 0 0 [.int (nI i), .int (nI j), .int (nI 17)] [] [] sz (Qi Γ (fun r_ u_ => r_ = (nI (i + 17 - j)) ∧ u_ = [])) := by
  refine K_intro (by decide) (Nat.le_of_ble_eq_true rfl) ?_
  intro pr_ ev_ s mi_ below meth cd_ A ls hx hb hr hml hown hts hlocks hname hK hE hRo hP hD hA hS hsz hl
  have hl : lv_has ls 3 [(0, .int (nI i)), (1, .int (nI j)), (2, .int (nI 17))] := hl
  have hown : s.vm.findClass RJ3 = some mi_.cls := hown
  refine lv_iload_n hx hb dJ3_sub_0 rfl (lv_at hl 0 rfl) ?_
  refine lv_iload_n hx hb dJ3_sub_1 rfl (lv_at hl 1 rfl) ?_
  refine lv_isub hx hb dJ3_sub_2 ?_
  refine lv_dup hx hb dJ3_sub_3 rfl ?_
  refine lv_istore_n (lv' := [(0, .int ((nI i) - (nI j))), (1, .int (nI j)), (2, .int (nI 17))]) hx hb dJ3_sub_4 rfl hl (by decide) rfl (fun ls hl => ?_)
  refine lv_if_ge (tgt := 12) hx hb dJ3_sub_5 (by decide) (fun c_1 => ?_) (fun c_1 => ?_)
  · -- 5 taken
    have d_1 := Int32.not_lt.mpr c_1
    exact absurd (sub_neg hi hj9).1 (Int32.not_lt.mpr c_1)
  · -- 5 not taken
    have d_1 := Int32.not_le.mp c_1
    refine lv_iload_n hx hb dJ3_sub_8 rfl (lv_at hl 0 rfl) ?_
    refine lv_iload_n hx hb dJ3_sub_9 rfl (lv_at hl 2 rfl) ?_
    refine lv_iadd hx hb dJ3_sub_10 ?_
    refine b_top (show (((nI i) - (nI j)) + (nI 17)) = nI (i + 17 - j) from (sub_neg hi hj9).2) ?_
    refine lv_istore_n (lv' := [(0, .int (nI (i + 17 - j))), (1, .int (nI j)), (2, .int (nI 17))]) hx hb dJ3_sub_11 rfl hl (by decide) rfl (fun ls hl => ?_)
    refine lv_iload_n hx hb dJ3_sub_12 rfl (lv_at hl 0 rfl) ?_
    exact b_iret hx hb hr hlocks hP hD hS (Nat.le_of_ble_eq_true rfl) (Nat.le_of_ble_eq_true rfl) ⟨(by first | with_reducible rfl | (simp [c_1, d_1]; done) | rfl), (by first | with_reducible rfl | (simp [c_1, d_1]; done) | rfl)⟩ dJ3_sub_13
set_option maxHeartbeats 4000000 in
set_option maxRecDepth 100000 in
theorem mt_DQ_init (l : Launch) (Γ : GE) (sz : Nat) (a : Nat)  : KM l yJ3_init cJ3_init 1 none Γ 2 50 1 17 [.ref a] [[(a, .inr (12, [.null, .int 0, .int 0]))]] [] sz (Qv Γ (fun u_ => ∃ v : Nat, u_ = [[(a, .inr (12, [.ref v, .int (nI 0), .int (nI 0)]))], [(v, .inl (Γ.2.1 2, 17, .inr (.inr (.inr (.inr (fun _ => none))))))]])) := by
  refine K_intro (by decide) (Nat.le_of_ble_eq_true rfl) ?_
  intro pr_ ev_ s mi_ below meth cd_ A ls hx hb hr hml hown hts hlocks hname hK hE hRo hP hD hA hS hsz hl
  have hl : lv_has ls 1 [(0, .ref a)] := hl
  have hown : s.vm.findClass RJ3 = some mi_.cls := hown
  refine lv_aload_n hx hb dJ3_init_0 rfl (lv_at hl 0 rfl) ?_
  refine b_callv (br := []) (b_runI ⟨hx, hb, hml, hown, hts⟩ (mt_AC_initD l Γ _ a 0 0) (lw_meth q127) q64 q201 q126 rfl rfl rfl 0 (by decide +kernel) ⟨(Nat.le_of_ble_eq_true rfl), (Nat.le_of_ble_eq_true rfl)⟩ (c_pre hP hD hS hA hK hE [0] rfl rfl ro_nil) rfl hl.1 rfl (Nat.le_of_ble_eq_true rfl) dJ3_init_1 ⟨(Nat.le_of_ble_eq_true rfl), (Nat.le_of_ble_eq_true rfl)⟩) hP hD hS hA [0] [] rfl rfl rfl (fun u_1 H locs hw_1 hP hD hS _ => ?_)
  obtain rfl := hw_1
  have hP : WP Γ [[(a, .inr (12, [.null, .int 0, .int 0]))]] H := hP
  have hD : WD A [[(a, .inr (12, [.null, .int 0, .int 0]))]] := hD
  refine lv_aload_n hx hb dJ3_init_4 rfl (lv_at hl 0 rfl) ?_
  refine lv_bipush (v := 17) hx hb dJ3_init_5 (by decide) ?_
  refine b_newq hx hb hts hE hown q202 hK hP hD hS hA 17 rfl (by omega) (Nat.le_of_ble_eq_true rfl) (Nat.le_of_ble_eq_true rfl) dJ3_init_7 (fun a_2 H hP hD hS => ?_)
  have hP : WP Γ [[(a, .inr (12, [.null, .int 0, .int 0]))], [(a_2, .inl (Γ.2.1 2, 17, .inr (.inr (.inr (.inr (fun _ => none))))))]] H := hP
  have hD : WD A [[(a, .inr (12, [.null, .int 0, .int 0]))], [(a_2, .inl (Γ.2.1 2, 17, .inr (.inr (.inr (.inr (fun _ => none))))))]] := hD
  refine b_put (C := RJ3) (T := TJ3) (N := 3) (ty := (tyJ3 0)) (v := .ref a_2) hx hb hts in_J3 tyJ3_ok nmJ3 hown hK hP hD hS 0 rfl rfl 0 (by decide) q204 (fun _ h9 => h9) rfl (by decide +kernel) rfl rfl (Nat.le_of_ble_eq_true rfl) dJ3_init_10 (fun H locs hP hD hS => ?_)
  have hP : WP Γ [[(a, .inr (12, [.ref a_2, .int 0, .int 0]))], [(a_2, .inl (Γ.2.1 2, 17, .inr (.inr (.inr (.inr (fun _ => none))))))]] H := hP
  have hD : WD A [[(a, .inr (12, [.ref a_2, .int 0, .int 0]))], [(a_2, .inl (Γ.2.1 2, 17, .inr (.inr (.inr (.inr (fun _ => none))))))]] := hD
  exact b_vret hx hb hr hlocks hP hD hS (Nat.le_of_ble_eq_true rfl) (Nat.le_of_ble_eq_true rfl) ⟨a_2, rfl⟩ dJ3_init_13
set_option maxHeartbeats 4000000 in
set_option maxRecDepth 100000 in
theorem mt_DQ_elementAt (l : Launch) (Γ : GE) (sz : Nat) (v : Nat) (f : Nat → Option Nat) (i : Nat) (hi : i < 17) : KM l yJ3_elementAt cJ3_elementAt 2 (some (FieldType.object "java/lang/Object")) Γ 0 0 0 0 [.ref v, .int (nI i)] [[(v, .inl (Γ.2.1 2, 17, .inr (.inr (.inr (.inr f)))))]] [] sz (Qq Γ (fun r_ u_ => r_ = (f i) ∧ u_ = [[(v, .inl (Γ.2.1 2, 17, .inr (.inr (.inr (.inr f)))))]])) := by
  refine K_intro (by decide) (Nat.le_of_ble_eq_true rfl) ?_
  intro pr_ ev_ s mi_ below meth cd_ A ls hx hb hr hml hown hts hlocks hname hK hE hRo hP hD hA hS hsz hl
  have hl : lv_has ls 2 [(0, .ref v), (1, .int (nI i))] := hl
  have hown : s.vm.findClass RJ3 = some mi_.cls := hown
  refine lv_aload_n hx hb dJ3_elementAt_0 rfl (lv_at hl 0 rfl) ?_
  refine lv_iload_n hx hb dJ3_elementAt_1 rfl (lv_at hl 1 rfl) ?_
  refine b_aald hx hb hK (b_at (k := 0) hP rfl) i rfl (by omega) (by omega) dJ3_elementAt_2 ?_
  exact b_aretQ hx hb hr (by first | exact Or.inl ⟨_, rfl⟩ | exact Or.inr ⟨_, rfl⟩) hlocks hP hD hS (Nat.le_of_ble_eq_true rfl) (Nat.le_of_ble_eq_true rfl) ⟨(by first | rfl | (simp; done)), (by first | rfl | (simp; done))⟩ dJ3_elementAt_3
set_option maxHeartbeats 4000000 in
set_option maxRecDepth 100000 in
theorem mt_DQ_size (l : Launch) (Γ : GE) (sz : Nat) (a : Nat) (v : Nat) (f : Nat → Option Nat) (p : Nat) (n : Nat) (hh : p < 17) (hn : n ≤ 16) : KM l yJ3_size cJ3_size 1 (some FieldType.int) Γ 1 22 0 0 [.ref a] [[(a, .inr (12, [.ref v, .int (nI p), .int (nI ((p + n) % 17))]))], [(v, .inl (Γ.2.1 2, 17, .inr (.inr (.inr (.inr f)))))]] [] sz (Qi Γ (fun r_ u_ => r_ = (nI n) ∧ u_ = [[(a, .inr (12, [.ref v, .int (nI p), .int (nI ((p + n) % 17))]))], [(v, .inl (Γ.2.1 2, 17, .inr (.inr (.inr (.inr f)))))]])) := by
  refine K_intro (by decide) (Nat.le_of_ble_eq_true rfl) ?_
  intro pr_ ev_ s mi_ below meth cd_ A ls hx hb hr hml hown hts hlocks hname hK hE hRo hP hD hA hS hsz hl
  have hl : lv_has ls 1 [(0, .ref a)] := hl
  have hown : s.vm.findClass RJ3 = some mi_.cls := hown
  refine lv_aload_n hx hb dJ3_size_0 rfl (lv_at hl 0 rfl) ?_
  refine b_get (C := RJ3) (T := TJ3) (N := 3) (v := .int (nI ((p + n) % 17))) hx hb hts in_J3 hown hK (b_at (k := 0) hP rfl) rfl 2 (by decide) q206 (fun _ h9 => h9) rfl dJ3_size_1 ?_
  refine lv_aload_n hx hb dJ3_size_4 rfl (lv_at hl 0 rfl) ?_
  refine b_get (C := RJ3) (T := TJ3) (N := 3) (v := .int (nI p)) hx hb hts in_J3 hown hK (b_at (k := 0) hP rfl) rfl 1 (by decide) q205 (fun _ h9 => h9) rfl dJ3_size_5 ?_
  refine lv_aload_n hx hb dJ3_size_8 rfl (lv_at hl 0 rfl) ?_
  refine b_get (C := RJ3) (T := TJ3) (N := 3) (v := .ref v) hx hb hts in_J3 hown hK (b_at (k := 0) hP rfl) rfl 0 (by decide) q204 (fun _ h9 => h9) rfl dJ3_size_9 ?_
  refine b_alen hx hb hK 2 (b_at (k := 1) hP rfl) rfl dJ3_size_12 ?_
  by_cases bs : p ≤ (p + n) % 17
  ·
    refine b_calli (br := [[(a, .inr (12, [.ref v, .int (nI p), .int (nI ((p + n) % 17))]))], [(v, .inl (Γ.2.1 2, 17, .inr (.inr (.inr (.inr f)))))]]) (b_runS ⟨hx, hb, hml, hown, hts⟩ (mt_DQ_sub_ge l Γ _ ((p + n) % 17) p (by omega) (by omega)) (lw_S q847 q848 q68 q849) rfl rfl 3 (by decide +kernel) ⟨(Nat.le_of_ble_eq_true rfl), (Nat.le_of_ble_eq_true rfl)⟩ (c_pre hP hD hS hA hK hE [] rfl rfl ro_nil) rfl hl.1 rfl (Nat.le_of_ble_eq_true rfl) dJ3_size_13 ⟨(Nat.le_of_ble_eq_true rfl), (Nat.le_of_ble_eq_true rfl)⟩) hP hD hS hA [] [0, 1] rfl rfl rfl (fun r_1 u_1 H locs hw_1 hP hD hS _ => ?_)
    obtain ⟨rfl, rfl⟩ := hw_1
    have hP : WP Γ [[(a, .inr (12, [.ref v, .int (nI p), .int (nI ((p + n) % 17))]))], [(v, .inl (Γ.2.1 2, 17, .inr (.inr (.inr (.inr f)))))]] H := hP
    have hD : WD A [[(a, .inr (12, [.ref v, .int (nI p), .int (nI ((p + n) % 17))]))], [(v, .inl (Γ.2.1 2, 17, .inr (.inr (.inr (.inr f)))))]] := hD
    exact b_iret hx hb hr hlocks hP hD hS (Nat.le_of_ble_eq_true rfl) (Nat.le_of_ble_eq_true rfl) ⟨(by rw [show (((p + n) % 17) - p) = n by omega]), (by first | with_reducible rfl | (simp [bs]; done) | rfl)⟩ dJ3_size_16
  ·
    refine b_calli (br := [[(a, .inr (12, [.ref v, .int (nI p), .int (nI ((p + n) % 17))]))], [(v, .inl (Γ.2.1 2, 17, .inr (.inr (.inr (.inr f)))))]]) (b_runS ⟨hx, hb, hml, hown, hts⟩ (mt_DQ_sub_lt l Γ _ ((p + n) % 17) p (by omega) (by omega)) (lw_S q847 q848 q68 q849) rfl rfl 3 (by decide +kernel) ⟨(Nat.le_of_ble_eq_true rfl), (Nat.le_of_ble_eq_true rfl)⟩ (c_pre hP hD hS hA hK hE [] rfl rfl ro_nil) rfl hl.1 rfl (Nat.le_of_ble_eq_true rfl) dJ3_size_13 ⟨(Nat.le_of_ble_eq_true rfl), (Nat.le_of_ble_eq_true rfl)⟩) hP hD hS hA [] [0, 1] rfl rfl rfl (fun r_2 u_2 H locs hw_2 hP hD hS _ => ?_)
    obtain ⟨rfl, rfl⟩ := hw_2
    have hP : WP Γ [[(a, .inr (12, [.ref v, .int (nI p), .int (nI ((p + n) % 17))]))], [(v, .inl (Γ.2.1 2, 17, .inr (.inr (.inr (.inr f)))))]] H := hP
    have hD : WD A [[(a, .inr (12, [.ref v, .int (nI p), .int (nI ((p + n) % 17))]))], [(v, .inl (Γ.2.1 2, 17, .inr (.inr (.inr (.inr f)))))]] := hD
    exact b_iret hx hb hr hlocks hP hD hS (Nat.le_of_ble_eq_true rfl) (Nat.le_of_ble_eq_true rfl) ⟨(by rw [show (((p + n) % 17) + 17 - p) = n by omega]), (by first | with_reducible rfl | (simp [bs]; done) | rfl)⟩ dJ3_size_16
set_option maxHeartbeats 4000000 in
set_option maxRecDepth 100000 in
theorem mt_DQ_isEmpty (l : Launch) (Γ : GE) (sz : Nat) (a : Nat) (v : Nat) (f : Nat → Option Nat) (p : Nat) (n : Nat) (hh : p < 17) (hn : n ≤ 16) : KM l yJ3_isEmpty cJ3_isEmpty 1 (some FieldType.boolean) Γ 0 0 0 0 [.ref a] [[(a, .inr (12, [.ref v, .int (nI p), .int (nI ((p + n) % 17))]))], [(v, .inl (Γ.2.1 2, 17, .inr (.inr (.inr (.inr f)))))]] [] sz (Qi Γ (fun r_ u_ => r_ = (if n = 0 then 1 else 0) ∧ u_ = [[(a, .inr (12, [.ref v, .int (nI p), .int (nI ((p + n) % 17))]))], [(v, .inl (Γ.2.1 2, 17, .inr (.inr (.inr (.inr f)))))]])) := by
  refine K_intro (by decide) (Nat.le_of_ble_eq_true rfl) ?_
  intro pr_ ev_ s mi_ below meth cd_ A ls hx hb hr hml hown hts hlocks hname hK hE hRo hP hD hA hS hsz hl
  have hl : lv_has ls 1 [(0, .ref a)] := hl
  have hown : s.vm.findClass RJ3 = some mi_.cls := hown
  refine lv_aload_n hx hb dJ3_isEmpty_0 rfl (lv_at hl 0 rfl) ?_
  refine b_get (C := RJ3) (T := TJ3) (N := 3) (v := .int (nI p)) hx hb hts in_J3 hown hK (b_at (k := 0) hP rfl) rfl 1 (by decide) q205 (fun _ h9 => h9) rfl dJ3_isEmpty_1 ?_
  refine lv_aload_n hx hb dJ3_isEmpty_4 rfl (lv_at hl 0 rfl) ?_
  refine b_get (C := RJ3) (T := TJ3) (N := 3) (v := .int (nI ((p + n) % 17))) hx hb hts in_J3 hown hK (b_at (k := 0) hP rfl) rfl 2 (by decide) q206 (fun _ h9 => h9) rfl dJ3_isEmpty_5 ?_
  refine lv_icmp_ne (tgt := 15) hx hb dJ3_isEmpty_8 (by decide) (fun c_1 => ?_) (fun c_1 => ?_)
  · -- 8 taken
    have n_1 : ¬ (p = ((p + n) % 17)) := fun h => c_1 ((nI_eq (a := p) (b := ((p + n) % 17)) (by omega) (by omega)).mpr h)
    refine lv_iconst (v := 0) hx hb dJ3_isEmpty_15 (by decide) ?_
    exact b_zret hx hb hr hlocks hP hD hS (Nat.le_of_ble_eq_true rfl) (Nat.le_of_ble_eq_true rfl) rfl ⟨(by rw [if_neg (by omega)]), (by first | with_reducible rfl | (simp [n_1]; done) | rfl)⟩ dJ3_isEmpty_16
  · -- 8 not taken
    have n_1 : p = ((p + n) % 17) := (nI_eq (by omega) (by omega)).mp (show nI p = nI ((p + n) % 17) from c_1)
    refine lv_iconst (v := 1) hx hb dJ3_isEmpty_11 (by decide) ?_
    refine lv_goto (tgt := 16) hx hb dJ3_isEmpty_12 (by decide) ?_
    exact b_zret hx hb hr hlocks hP hD hS (Nat.le_of_ble_eq_true rfl) (Nat.le_of_ble_eq_true rfl) rfl ⟨(by rw [if_pos (by omega)]), (by first | with_reducible rfl | (simp [n_1]; done) | rfl)⟩ dJ3_isEmpty_16
set_option maxHeartbeats 4000000 in
set_option maxRecDepth 100000 in
theorem mt_DQ_addLast (l : Launch) (Γ : GE) (sz : Nat) (a : Nat) (v : Nat) (f : Nat → Option Nat) (p : Nat) (n : Nat) (c : Nat → Nat) (e : Nat) (E : va_W) (hd : dqI f p n c) (hn : n < 15) (he : inE E e) : KM l yJ3_addLast cJ3_addLast 3 none Γ 1 21 0 0 [.ref a, .ref e] [[(a, .inr (12, [.ref v, .int (nI p), .int (nI ((p + n) % 17))]))], [(v, .inl (Γ.2.1 2, 17, .inr (.inr (.inr (.inr f)))))]] [E] sz (Qv Γ (fun u_ => u_ = [[(a, .inr (12, [.ref v, .int (nI p), .int (nI ((p + (n + 1)) % 17))]))], [(v, .inl (Γ.2.1 2, 17, .inr (.inr (.inr (.inr (va_up f ((p + n) % 17) (some e)))))))]])) := by
  refine K_intro (by decide) (Nat.le_of_ble_eq_true rfl) ?_
  intro pr_ ev_ s mi_ below meth cd_ A ls hx hb hr hml hown hts hlocks hname hK hE hRo hP hD hA hS hsz hl
  have hl : lv_has ls 3 [(0, .ref a), (1, .ref e)] := hl
  have hown : s.vm.findClass RJ3 = some mi_.cls := hown
  have hdb := dqI_b hd
  refine lv_aload_n hx hb dJ3_addLast_0 rfl (lv_at hl 1 rfl) ?_
  refine lv_ifnonnull (tgt := 12) hx hb dJ3_addLast_1 (by decide) ?_
  refine lv_aload_n hx hb dJ3_addLast_12 rfl (lv_at hl 0 rfl) ?_
  refine b_get (C := RJ3) (T := TJ3) (N := 3) (v := .ref v) hx hb hts in_J3 hown hK (b_at (k := 0) hP rfl) rfl 0 (by decide) q204 (fun _ h9 => h9) rfl dJ3_addLast_13 ?_
  refine lv_astore_n (lv' := [(2, .ref v), (0, .ref a), (1, .ref e)]) hx hb dJ3_addLast_16 rfl hl (by decide) rfl (fun ls hl => ?_)
  refine lv_aload_n hx hb dJ3_addLast_17 rfl (lv_at hl 0 rfl) ?_
  refine lv_aload_n hx hb dJ3_addLast_18 rfl (lv_at hl 1 rfl) ?_
  refine b_get (C := RJ3) (T := TJ3) (N := 3) (v := .int (nI ((p + n) % 17))) hx hb hts in_J3 hown hK (b_at (k := 0) hP rfl) rfl 2 (by decide) q206 (fun _ h9 => h9) rfl dJ3_addLast_19 ?_
  refine lv_aload_n hx hb dJ3_addLast_22 rfl (lv_at hl 2 rfl) ?_
  refine b_aast hx hb hK hP hD hS 1 rfl (el_any hK hE hRo hS he) ((p + n) % 17) rfl (by omega) (by omega) dJ3_addLast_23 (fun H locs hP hD hS => ?_)
  have hP : WP Γ [[(a, .inr (12, [.ref v, .int (nI p), .int (nI ((p + n) % 17))]))], [(v, .inl (Γ.2.1 2, 17, .inr (.inr (.inr (.inr (va_up f ((p + n) % 17) (some e)))))))]] H := hP
  have hD : WD A [[(a, .inr (12, [.ref v, .int (nI p), .int (nI ((p + n) % 17))]))], [(v, .inl (Γ.2.1 2, 17, .inr (.inr (.inr (.inr (va_up f ((p + n) % 17) (some e)))))))]] := hD
  refine lv_aload_n hx hb dJ3_addLast_24 rfl (lv_at hl 1 rfl) ?_
  refine b_get (C := RJ3) (T := TJ3) (N := 3) (v := .int (nI p)) hx hb hts in_J3 hown hK (b_at (k := 0) hP rfl) rfl 1 (by decide) q205 (fun _ h9 => h9) rfl dJ3_addLast_25 ?_
  refine lv_aload_n hx hb dJ3_addLast_28 rfl (lv_at hl 1 rfl) ?_
  refine lv_aload_n hx hb dJ3_addLast_29 rfl (lv_at hl 1 rfl) ?_
  refine b_get (C := RJ3) (T := TJ3) (N := 3) (v := .int (nI ((p + n) % 17))) hx hb hts in_J3 hown hK (b_at (k := 0) hP rfl) rfl 2 (by decide) q206 (fun _ h9 => h9) rfl dJ3_addLast_30 ?_
  refine lv_aload_n hx hb dJ3_addLast_33 rfl (lv_at hl 0 rfl) ?_
  refine b_alen hx hb hK 2 (b_at (k := 1) hP rfl) rfl dJ3_addLast_34 ?_
  refine b_calli (br := [[(a, .inr (12, [.ref v, .int (nI p), .int (nI ((p + n) % 17))]))], [(v, .inl (Γ.2.1 2, 17, .inr (.inr (.inr (.inr (va_up f ((p + n) % 17) (some e)))))))]]) (b_runS ⟨hx, hb, hml, hown, hts⟩ (mt_DQ_inc l Γ _ ((p + n) % 17) (by omega)) (lw_S q857 q858 q68 q859) rfl rfl 2 (by decide +kernel) ⟨(Nat.le_of_ble_eq_true rfl), (Nat.le_of_ble_eq_true rfl)⟩ (c_pre hP hD hS hA hK hE [] rfl rfl ro_nil) rfl hl.1 rfl (Nat.le_of_ble_eq_true rfl) dJ3_addLast_35 ⟨(Nat.le_of_ble_eq_true rfl), (Nat.le_of_ble_eq_true rfl)⟩) hP hD hS hA [] [0, 1] rfl rfl rfl (fun r_1 u_1 H locs hw_1 hP hD hS _ => ?_)
  obtain ⟨rfl, rfl⟩ := hw_1
  have hP : WP Γ [[(a, .inr (12, [.ref v, .int (nI p), .int (nI ((p + n) % 17))]))], [(v, .inl (Γ.2.1 2, 17, .inr (.inr (.inr (.inr (va_up f ((p + n) % 17) (some e)))))))]] H := hP
  have hD : WD A [[(a, .inr (12, [.ref v, .int (nI p), .int (nI ((p + n) % 17))]))], [(v, .inl (Γ.2.1 2, 17, .inr (.inr (.inr (.inr (va_up f ((p + n) % 17) (some e)))))))]] := hD
  refine b_top (show (nI ((((p + n) % 17) + 1) % 17)) = nI ((p + (n + 1)) % 17) from by rw [show ((p + n) % 17 + 1) % 17 = (p + (n + 1)) % 17 by omega]) ?_
  refine lv_dup_x1 hx hb dJ3_addLast_38 rfl rfl ?_
  refine b_put (C := RJ3) (T := TJ3) (N := 3) (ty := .int) (v := .int (nI ((p + (n + 1)) % 17))) hx hb hts in_J3 tyJ3_ok nmJ3 hown hK hP hD hS 0 rfl rfl 2 (by decide) q206 (fun _ h9 => h9) rfl (by decide +kernel) rfl rfl (Nat.le_of_ble_eq_true rfl) dJ3_addLast_39 (fun H locs hP hD hS => ?_)
  have hP : WP Γ [[(a, .inr (12, [.ref v, .int (nI p), .int (nI ((p + (n + 1)) % 17))]))], [(v, .inl (Γ.2.1 2, 17, .inr (.inr (.inr (.inr (va_up f ((p + n) % 17) (some e)))))))]] H := hP
  have hD : WD A [[(a, .inr (12, [.ref v, .int (nI p), .int (nI ((p + (n + 1)) % 17))]))], [(v, .inl (Γ.2.1 2, 17, .inr (.inr (.inr (.inr (va_up f ((p + n) % 17) (some e)))))))]] := hD
  refine lv_icmp_ne (tgt := 50) hx hb dJ3_addLast_42 (by decide) (fun c_2 => ?_) (fun c_2 => ?_)
  · -- 42 taken
    have n_2 : ¬ (p = ((p + (n + 1)) % 17)) := fun h => c_2 ((nI_eq (a := p) (b := ((p + (n + 1)) % 17)) (by omega) (by omega)).mpr h)
    exact b_vret hx hb hr hlocks hP hD hS (Nat.le_of_ble_eq_true rfl) (Nat.le_of_ble_eq_true rfl) (by first | with_reducible rfl | (simp [n_2]; done) | rfl) dJ3_addLast_50
  · -- 42 not taken
    have n_2 : p = ((p + (n + 1)) % 17) := (nI_eq (by omega) (by omega)).mp (show nI p = nI ((p + (n + 1)) % 17) from c_2)
    exfalso; omega
set_option maxHeartbeats 4000000 in
set_option maxRecDepth 100000 in
theorem mt_DQ_pollFirst (l : Launch) (Γ : GE) (sz : Nat) (a : Nat) (v : Nat) (f : Nat → Option Nat) (p : Nat) (n : Nat) (c : Nat → Nat) (hd : dqI f p (n + 1) c) : KM l yJ3_pollFirst cJ3_pollFirst 4 (some (FieldType.object "java/lang/Object")) Γ 1 21 0 0 [.ref a] [[(a, .inr (12, [.ref v, .int (nI p), .int (nI ((p + (n + 1)) % 17))]))], [(v, .inl (Γ.2.1 2, 17, .inr (.inr (.inr (.inr f)))))]] [] sz (Qq Γ (fun r_ u_ => r_ = some (c 0) ∧ u_ = [[(a, .inr (12, [.ref v, .int (nI ((p + 1) % 17)), .int (nI (((p + 1) % 17 + n) % 17))]))], [(v, .inl (Γ.2.1 2, 17, .inr (.inr (.inr (.inr (va_up f p none))))))]])) := by
  refine K_intro (by decide) (Nat.le_of_ble_eq_true rfl) ?_
  intro pr_ ev_ s mi_ below meth cd_ A ls hx hb hr hml hown hts hlocks hname hK hE hRo hP hD hA hS hsz hl
  have hl : lv_has ls 4 [(0, .ref a)] := hl
  have hown : s.vm.findClass RJ3 = some mi_.cls := hown
  have hdb := dqI_b hd
  refine lv_aload_n hx hb dJ3_pollFirst_0 rfl (lv_at hl 0 rfl) ?_
  refine b_get (C := RJ3) (T := TJ3) (N := 3) (v := .ref v) hx hb hts in_J3 hown hK (b_at (k := 0) hP rfl) rfl 0 (by decide) q204 (fun _ h9 => h9) rfl dJ3_pollFirst_1 ?_
  refine lv_dup hx hb dJ3_pollFirst_4 rfl ?_
  refine lv_astore_n (lv' := [(1, .ref v), (0, .ref a)]) hx hb dJ3_pollFirst_5 rfl hl (by decide) rfl (fun ls hl => ?_)
  refine lv_aload_n hx hb dJ3_pollFirst_6 rfl (lv_at hl 1 rfl) ?_
  refine b_get (C := RJ3) (T := TJ3) (N := 3) (v := .int (nI p)) hx hb hts in_J3 hown hK (b_at (k := 0) hP rfl) rfl 1 (by decide) q205 (fun _ h9 => h9) rfl dJ3_pollFirst_7 ?_
  refine lv_dup hx hb dJ3_pollFirst_10 rfl ?_
  refine lv_istore_n (lv' := [(2, .int (nI p)), (1, .ref v), (0, .ref a)]) hx hb dJ3_pollFirst_11 rfl hl (by decide) rfl (fun ls hl => ?_)
  refine b_callq (br := [[(a, .inr (12, [.ref v, .int (nI p), .int (nI ((p + (n + 1)) % 17))]))]]) (b_runS ⟨hx, hb, hml, hown, hts⟩ (mt_DQ_elementAt l Γ _ v f p (by omega)) (lw_S q854 q855 q68 q856) rfl rfl 2 (by decide +kernel) ⟨(Nat.le_of_ble_eq_true rfl), (Nat.le_of_ble_eq_true rfl)⟩ (c_pre hP hD hS hA hK hE [1] rfl rfl ro_nil) rfl hl.1 rfl (Nat.le_of_ble_eq_true rfl) dJ3_pollFirst_12 ⟨(Nat.le_of_ble_eq_true rfl), (Nat.le_of_ble_eq_true rfl)⟩) hP hD hS hA [1] [0] rfl rfl rfl (fun r_1 u_1 H locs hw_1 hP hD hS _ => ?_)
  obtain ⟨rfl, rfl⟩ := hw_1
  have hP : WP Γ [[(v, .inl (Γ.2.1 2, 17, .inr (.inr (.inr (.inr f)))))], [(a, .inr (12, [.ref v, .int (nI p), .int (nI ((p + (n + 1)) % 17))]))]] H := hP
  have hD : WD A [[(v, .inl (Γ.2.1 2, 17, .inr (.inr (.inr (.inr f)))))], [(a, .inr (12, [.ref v, .int (nI p), .int (nI ((p + (n + 1)) % 17))]))]] := hD
  refine W.eq (g2 := F0 mi_ 15 ls ([va_rf (f p)])) rfl ?_
  rw [show (f p) = some (c 0) from by have h9 := hd.2.2 0 (by omega); rw [Nat.add_zero, show p % 17 = p by omega] at h9; exact h9]
  refine W.eq (g2 := F0 mi_ 15 ls ([.ref (c 0)])) rfl ?_
  refine lv_astore_n (lv' := [(3, .ref (c 0)), (2, .int (nI p)), (1, .ref v), (0, .ref a)]) hx hb dJ3_pollFirst_15 rfl hl (by decide) rfl (fun ls hl => ?_)
  refine lv_aload_n hx hb dJ3_pollFirst_16 rfl (lv_at hl 0 rfl) ?_
  refine lv_ifnull hx hb dJ3_pollFirst_17 ?_
  refine lv_aload_n hx hb dJ3_pollFirst_20 rfl (lv_at hl 2 rfl) ?_
  refine lv_iload_n hx hb dJ3_pollFirst_21 rfl (lv_at hl 1 rfl) ?_
  refine lv_null hx hb dJ3_pollFirst_22 ?_
  refine b_aastN hx hb hK hP hD hS 0 rfl p rfl (by omega) (by omega) dJ3_pollFirst_23 (fun H locs hP hD hS => ?_)
  have hP : WP Γ [[(v, .inl (Γ.2.1 2, 17, .inr (.inr (.inr (.inr (va_up f p none))))))], [(a, .inr (12, [.ref v, .int (nI p), .int (nI ((p + (n + 1)) % 17))]))]] H := hP
  have hD : WD A [[(v, .inl (Γ.2.1 2, 17, .inr (.inr (.inr (.inr (va_up f p none))))))], [(a, .inr (12, [.ref v, .int (nI p), .int (nI ((p + (n + 1)) % 17))]))]] := hD
  refine lv_aload_n hx hb dJ3_pollFirst_24 rfl (lv_at hl 3 rfl) ?_
  refine lv_iload_n hx hb dJ3_pollFirst_25 rfl (lv_at hl 1 rfl) ?_
  refine lv_aload_n hx hb dJ3_pollFirst_26 rfl (lv_at hl 2 rfl) ?_
  refine b_alen hx hb hK 2 (b_at (k := 0) hP rfl) rfl dJ3_pollFirst_27 ?_
  refine b_calli (br := [[(v, .inl (Γ.2.1 2, 17, .inr (.inr (.inr (.inr (va_up f p none))))))], [(a, .inr (12, [.ref v, .int (nI p), .int (nI ((p + (n + 1)) % 17))]))]]) (b_runS ⟨hx, hb, hml, hown, hts⟩ (mt_DQ_inc l Γ _ p (by omega)) (lw_S q857 q858 q68 q859) rfl rfl 2 (by decide +kernel) ⟨(Nat.le_of_ble_eq_true rfl), (Nat.le_of_ble_eq_true rfl)⟩ (c_pre hP hD hS hA hK hE [] rfl rfl ro_nil) rfl hl.1 rfl (Nat.le_of_ble_eq_true rfl) dJ3_pollFirst_28 ⟨(Nat.le_of_ble_eq_true rfl), (Nat.le_of_ble_eq_true rfl)⟩) hP hD hS hA [] [0, 1] rfl rfl rfl (fun r_2 u_2 H locs hw_2 hP hD hS _ => ?_)
  obtain ⟨rfl, rfl⟩ := hw_2
  have hP : WP Γ [[(v, .inl (Γ.2.1 2, 17, .inr (.inr (.inr (.inr (va_up f p none))))))], [(a, .inr (12, [.ref v, .int (nI p), .int (nI ((p + (n + 1)) % 17))]))]] H := hP
  have hD : WD A [[(v, .inl (Γ.2.1 2, 17, .inr (.inr (.inr (.inr (va_up f p none))))))], [(a, .inr (12, [.ref v, .int (nI p), .int (nI ((p + (n + 1)) % 17))]))]] := hD
  refine b_put (C := RJ3) (T := TJ3) (N := 3) (ty := .int) (v := .int (nI ((p + 1) % 17))) hx hb hts in_J3 tyJ3_ok nmJ3 hown hK hP hD hS 1 rfl rfl 1 (by decide) q205 (fun _ h9 => h9) rfl (by decide +kernel) rfl rfl (Nat.le_of_ble_eq_true rfl) dJ3_pollFirst_31 (fun H locs hP hD hS => ?_)
  have hP : WP Γ [[(v, .inl (Γ.2.1 2, 17, .inr (.inr (.inr (.inr (va_up f p none))))))], [(a, .inr (12, [.ref v, .int (nI ((p + 1) % 17)), .int (nI ((p + (n + 1)) % 17))]))]] H := hP
  have hD : WD A [[(v, .inl (Γ.2.1 2, 17, .inr (.inr (.inr (.inr (va_up f p none))))))], [(a, .inr (12, [.ref v, .int (nI ((p + 1) % 17)), .int (nI ((p + (n + 1)) % 17))]))]] := hD
  refine lv_aload_n hx hb dJ3_pollFirst_34 rfl (lv_at hl 0 rfl) ?_
  have hP : WP Γ [[(a, .inr (12, [.ref v, .int (nI ((p + 1) % 17)), .int (nI ((p + (n + 1)) % 17))]))], [(v, .inl (Γ.2.1 2, 17, .inr (.inr (.inr (.inr (va_up f p none))))))]] H := bP_sel hP [1, 0] rfl
  have hD : WD A [[(a, .inr (12, [.ref v, .int (nI ((p + 1) % 17)), .int (nI ((p + (n + 1)) % 17))]))], [(v, .inl (Γ.2.1 2, 17, .inr (.inr (.inr (.inr (va_up f p none))))))]] := bD_sel hD [1, 0] rfl rfl
  exact b_aret hx hb hr (by first | exact Or.inl ⟨_, rfl⟩ | exact Or.inr ⟨_, rfl⟩) hlocks hP hD hS (Nat.le_of_ble_eq_true rfl) (Nat.le_of_ble_eq_true rfl) ⟨(by first | rfl | (simp; done)), (by rw [show (p + (n + 1)) % 17 = ((p + 1) % 17 + n) % 17 by omega])⟩ dJ3_pollFirst_35
set_option maxHeartbeats 4000000 in
set_option maxRecDepth 100000 in
theorem mt_DQ_pollLast (l : Launch) (Γ : GE) (sz : Nat) (a : Nat) (v : Nat) (f : Nat → Option Nat) (p : Nat) (n : Nat) (c : Nat → Nat) (hd : dqI f p (n + 1) c) : KM l yJ3_pollLast cJ3_pollLast 4 (some (FieldType.object "java/lang/Object")) Γ 1 21 0 0 [.ref a] [[(a, .inr (12, [.ref v, .int (nI p), .int (nI ((p + (n + 1)) % 17))]))], [(v, .inl (Γ.2.1 2, 17, .inr (.inr (.inr (.inr f)))))]] [] sz (Qq Γ (fun r_ u_ => r_ = some (c n) ∧ u_ = [[(a, .inr (12, [.ref v, .int (nI p), .int (nI ((p + n) % 17))]))], [(v, .inl (Γ.2.1 2, 17, .inr (.inr (.inr (.inr (va_up f ((p + n) % 17) none))))))]])) := by
  refine K_intro (by decide) (Nat.le_of_ble_eq_true rfl) ?_
  intro pr_ ev_ s mi_ below meth cd_ A ls hx hb hr hml hown hts hlocks hname hK hE hRo hP hD hA hS hsz hl
  have hl : lv_has ls 4 [(0, .ref a)] := hl
  have hown : s.vm.findClass RJ3 = some mi_.cls := hown
  have hdb := dqI_b hd
  refine lv_aload_n hx hb dJ3_pollLast_0 rfl (lv_at hl 0 rfl) ?_
  refine b_get (C := RJ3) (T := TJ3) (N := 3) (v := .ref v) hx hb hts in_J3 hown hK (b_at (k := 0) hP rfl) rfl 0 (by decide) q204 (fun _ h9 => h9) rfl dJ3_pollLast_1 ?_
  refine lv_dup hx hb dJ3_pollLast_4 rfl ?_
  refine lv_astore_n (lv' := [(1, .ref v), (0, .ref a)]) hx hb dJ3_pollLast_5 rfl hl (by decide) rfl (fun ls hl => ?_)
  refine lv_aload_n hx hb dJ3_pollLast_6 rfl (lv_at hl 1 rfl) ?_
  refine b_get (C := RJ3) (T := TJ3) (N := 3) (v := .int (nI ((p + (n + 1)) % 17))) hx hb hts in_J3 hown hK (b_at (k := 0) hP rfl) rfl 2 (by decide) q206 (fun _ h9 => h9) rfl dJ3_pollLast_7 ?_
  refine lv_aload_n hx hb dJ3_pollLast_10 rfl (lv_at hl 0 rfl) ?_
  refine b_alen hx hb hK 2 (b_at (k := 1) hP rfl) rfl dJ3_pollLast_11 ?_
  by_cases bq : (p + (n + 1)) % 17 = 0
  ·
    have hP9 := hP
    rw [show (nI ((p + (n + 1)) % 17) : Int32) = nI 0 from by rw [bq]]
    refine b_calli (br := [[(a, .inr (12, [.ref v, .int (nI p), .int (nI ((p + (n + 1)) % 17))]))], [(v, .inl (Γ.2.1 2, 17, .inr (.inr (.inr (.inr f)))))]]) (b_runS ⟨hx, hb, hml, hown, hts⟩ (mt_DQ_dec0 l Γ _ ) (lw_S q1782 q1783 q68 q1784) rfl rfl 2 (by decide +kernel) ⟨(Nat.le_of_ble_eq_true rfl), (Nat.le_of_ble_eq_true rfl)⟩ (c_pre hP hD hS hA hK hE [] rfl rfl ro_nil) rfl hl.1 rfl (Nat.le_of_ble_eq_true rfl) dJ3_pollLast_12 ⟨(Nat.le_of_ble_eq_true rfl), (Nat.le_of_ble_eq_true rfl)⟩) hP hD hS hA [] [0, 1] rfl rfl rfl (fun r_1 u_1 H locs hw_1 hP hD hS _ => ?_)
    obtain ⟨rfl, rfl⟩ := hw_1
    have hP : WP Γ [[(a, .inr (12, [.ref v, .int (nI p), .int (nI ((p + (n + 1)) % 17))]))], [(v, .inl (Γ.2.1 2, 17, .inr (.inr (.inr (.inr f)))))]] H := hP
    have hD : WD A [[(a, .inr (12, [.ref v, .int (nI p), .int (nI ((p + (n + 1)) % 17))]))], [(v, .inl (Γ.2.1 2, 17, .inr (.inr (.inr (.inr f)))))]] := hD
    refine b_top (show (nI 16) = nI ((p + n) % 17) from by rw [show (p + n) % 17 = 16 by omega]) ?_
    refine lv_dup hx hb dJ3_pollLast_15 rfl ?_
    refine lv_istore_n (lv' := [(2, .int (nI ((p + n) % 17))), (1, .ref v), (0, .ref a)]) hx hb dJ3_pollLast_16 rfl hl (by decide) rfl (fun ls hl => ?_)
    refine b_callq (br := [[(a, .inr (12, [.ref v, .int (nI p), .int (nI ((p + (n + 1)) % 17))]))]]) (b_runS ⟨hx, hb, hml, hown, hts⟩ (mt_DQ_elementAt l Γ _ v f ((p + n) % 17) (by omega)) (lw_S q854 q855 q68 q856) rfl rfl 2 (by decide +kernel) ⟨(Nat.le_of_ble_eq_true rfl), (Nat.le_of_ble_eq_true rfl)⟩ (c_pre hP hD hS hA hK hE [1] rfl rfl ro_nil) rfl hl.1 rfl (Nat.le_of_ble_eq_true rfl) dJ3_pollLast_17 ⟨(Nat.le_of_ble_eq_true rfl), (Nat.le_of_ble_eq_true rfl)⟩) hP hD hS hA [1] [0] rfl rfl rfl (fun r_2 u_2 H locs hw_2 hP hD hS _ => ?_)
    obtain ⟨rfl, rfl⟩ := hw_2
    have hP : WP Γ [[(v, .inl (Γ.2.1 2, 17, .inr (.inr (.inr (.inr f)))))], [(a, .inr (12, [.ref v, .int (nI p), .int (nI ((p + (n + 1)) % 17))]))]] H := hP
    have hD : WD A [[(v, .inl (Γ.2.1 2, 17, .inr (.inr (.inr (.inr f)))))], [(a, .inr (12, [.ref v, .int (nI p), .int (nI ((p + (n + 1)) % 17))]))]] := hD
    refine W.eq (g2 := F0 mi_ 20 ls ([va_rf (f ((p + n) % 17))])) rfl ?_
    rw [show (f ((p + n) % 17)) = some (c n) from hd.2.2 n (by omega)]
    refine W.eq (g2 := F0 mi_ 20 ls ([.ref (c n)])) rfl ?_
    refine lv_astore_n (lv' := [(3, .ref (c n)), (2, .int (nI ((p + n) % 17))), (1, .ref v), (0, .ref a)]) hx hb dJ3_pollLast_20 rfl hl (by decide) rfl (fun ls hl => ?_)
    refine lv_aload_n hx hb dJ3_pollLast_21 rfl (lv_at hl 0 rfl) ?_
    refine lv_ifnull hx hb dJ3_pollLast_22 ?_
    refine lv_aload_n hx hb dJ3_pollLast_25 rfl (lv_at hl 2 rfl) ?_
    refine lv_aload_n hx hb dJ3_pollLast_26 rfl (lv_at hl 3 rfl) ?_
    refine lv_iload_n hx hb dJ3_pollLast_27 rfl (lv_at hl 1 rfl) ?_
    refine lv_dup_x1 hx hb dJ3_pollLast_28 rfl rfl ?_
    refine b_put (C := RJ3) (T := TJ3) (N := 3) (ty := .int) (v := .int (nI ((p + n) % 17))) hx hb hts in_J3 tyJ3_ok nmJ3 hown hK hP hD hS 1 rfl rfl 2 (by decide) q206 (fun _ h9 => h9) rfl (by decide +kernel) rfl rfl (Nat.le_of_ble_eq_true rfl) dJ3_pollLast_29 (fun H locs hP hD hS => ?_)
    have hP : WP Γ [[(v, .inl (Γ.2.1 2, 17, .inr (.inr (.inr (.inr f)))))], [(a, .inr (12, [.ref v, .int (nI p), .int (nI ((p + n) % 17))]))]] H := hP
    have hD : WD A [[(v, .inl (Γ.2.1 2, 17, .inr (.inr (.inr (.inr f)))))], [(a, .inr (12, [.ref v, .int (nI p), .int (nI ((p + n) % 17))]))]] := hD
    refine lv_null hx hb dJ3_pollLast_32 ?_
    refine b_aastN hx hb hK hP hD hS 0 rfl ((p + n) % 17) rfl (by omega) (by omega) dJ3_pollLast_33 (fun H locs hP hD hS => ?_)
    have hP : WP Γ [[(v, .inl (Γ.2.1 2, 17, .inr (.inr (.inr (.inr (va_up f ((p + n) % 17) none))))))], [(a, .inr (12, [.ref v, .int (nI p), .int (nI ((p + n) % 17))]))]] H := hP
    have hD : WD A [[(v, .inl (Γ.2.1 2, 17, .inr (.inr (.inr (.inr (va_up f ((p + n) % 17) none))))))], [(a, .inr (12, [.ref v, .int (nI p), .int (nI ((p + n) % 17))]))]] := hD
    refine lv_aload_n hx hb dJ3_pollLast_34 rfl (lv_at hl 0 rfl) ?_
    have hP : WP Γ [[(a, .inr (12, [.ref v, .int (nI p), .int (nI ((p + n) % 17))]))], [(v, .inl (Γ.2.1 2, 17, .inr (.inr (.inr (.inr (va_up f ((p + n) % 17) none))))))]] H := bP_sel hP [1, 0] rfl
    have hD : WD A [[(a, .inr (12, [.ref v, .int (nI p), .int (nI ((p + n) % 17))]))], [(v, .inl (Γ.2.1 2, 17, .inr (.inr (.inr (.inr (va_up f ((p + n) % 17) none))))))]] := bD_sel hD [1, 0] rfl rfl
    exact b_aret hx hb hr (by first | exact Or.inl ⟨_, rfl⟩ | exact Or.inr ⟨_, rfl⟩) hlocks hP hD hS (Nat.le_of_ble_eq_true rfl) (Nat.le_of_ble_eq_true rfl) ⟨(by first | rfl | (simp; done)), (by first | rfl | (simp; done))⟩ dJ3_pollLast_35
  ·
    have hP9 := hP
    rw [show (nI ((p + (n + 1)) % 17) : Int32) = nI ((p + n) % 17 + 1) from by rw [show (p + (n + 1)) % 17 = (p + n) % 17 + 1 by omega]]
    refine b_calli (br := [[(a, .inr (12, [.ref v, .int (nI p), .int (nI ((p + (n + 1)) % 17))]))], [(v, .inl (Γ.2.1 2, 17, .inr (.inr (.inr (.inr f)))))]]) (b_runS ⟨hx, hb, hml, hown, hts⟩ (mt_DQ_dec l Γ _ ((p + n) % 17) (by omega)) (lw_S q1782 q1783 q68 q1784) rfl rfl 2 (by decide +kernel) ⟨(Nat.le_of_ble_eq_true rfl), (Nat.le_of_ble_eq_true rfl)⟩ (c_pre hP hD hS hA hK hE [] rfl rfl ro_nil) rfl hl.1 rfl (Nat.le_of_ble_eq_true rfl) dJ3_pollLast_12 ⟨(Nat.le_of_ble_eq_true rfl), (Nat.le_of_ble_eq_true rfl)⟩) hP hD hS hA [] [0, 1] rfl rfl rfl (fun r_3 u_3 H locs hw_3 hP hD hS _ => ?_)
    obtain ⟨rfl, rfl⟩ := hw_3
    have hP : WP Γ [[(a, .inr (12, [.ref v, .int (nI p), .int (nI ((p + (n + 1)) % 17))]))], [(v, .inl (Γ.2.1 2, 17, .inr (.inr (.inr (.inr f)))))]] H := hP
    have hD : WD A [[(a, .inr (12, [.ref v, .int (nI p), .int (nI ((p + (n + 1)) % 17))]))], [(v, .inl (Γ.2.1 2, 17, .inr (.inr (.inr (.inr f)))))]] := hD
    refine lv_dup hx hb dJ3_pollLast_15 rfl ?_
    refine lv_istore_n (lv' := [(2, .int (nI ((p + n) % 17))), (1, .ref v), (0, .ref a)]) hx hb dJ3_pollLast_16 rfl hl (by decide) rfl (fun ls hl => ?_)
    refine b_callq (br := [[(a, .inr (12, [.ref v, .int (nI p), .int (nI ((p + (n + 1)) % 17))]))]]) (b_runS ⟨hx, hb, hml, hown, hts⟩ (mt_DQ_elementAt l Γ _ v f ((p + n) % 17) (by omega)) (lw_S q854 q855 q68 q856) rfl rfl 2 (by decide +kernel) ⟨(Nat.le_of_ble_eq_true rfl), (Nat.le_of_ble_eq_true rfl)⟩ (c_pre hP hD hS hA hK hE [1] rfl rfl ro_nil) rfl hl.1 rfl (Nat.le_of_ble_eq_true rfl) dJ3_pollLast_17 ⟨(Nat.le_of_ble_eq_true rfl), (Nat.le_of_ble_eq_true rfl)⟩) hP hD hS hA [1] [0] rfl rfl rfl (fun r_4 u_4 H locs hw_4 hP hD hS _ => ?_)
    obtain ⟨rfl, rfl⟩ := hw_4
    have hP : WP Γ [[(v, .inl (Γ.2.1 2, 17, .inr (.inr (.inr (.inr f)))))], [(a, .inr (12, [.ref v, .int (nI p), .int (nI ((p + (n + 1)) % 17))]))]] H := hP
    have hD : WD A [[(v, .inl (Γ.2.1 2, 17, .inr (.inr (.inr (.inr f)))))], [(a, .inr (12, [.ref v, .int (nI p), .int (nI ((p + (n + 1)) % 17))]))]] := hD
    refine W.eq (g2 := F0 mi_ 20 ls ([va_rf (f ((p + n) % 17))])) rfl ?_
    rw [show (f ((p + n) % 17)) = some (c n) from hd.2.2 n (by omega)]
    refine W.eq (g2 := F0 mi_ 20 ls ([.ref (c n)])) rfl ?_
    refine lv_astore_n (lv' := [(3, .ref (c n)), (2, .int (nI ((p + n) % 17))), (1, .ref v), (0, .ref a)]) hx hb dJ3_pollLast_20 rfl hl (by decide) rfl (fun ls hl => ?_)
    refine lv_aload_n hx hb dJ3_pollLast_21 rfl (lv_at hl 0 rfl) ?_
    refine lv_ifnull hx hb dJ3_pollLast_22 ?_
    refine lv_aload_n hx hb dJ3_pollLast_25 rfl (lv_at hl 2 rfl) ?_
    refine lv_aload_n hx hb dJ3_pollLast_26 rfl (lv_at hl 3 rfl) ?_
    refine lv_iload_n hx hb dJ3_pollLast_27 rfl (lv_at hl 1 rfl) ?_
    refine lv_dup_x1 hx hb dJ3_pollLast_28 rfl rfl ?_
    refine b_put (C := RJ3) (T := TJ3) (N := 3) (ty := .int) (v := .int (nI ((p + n) % 17))) hx hb hts in_J3 tyJ3_ok nmJ3 hown hK hP hD hS 1 rfl rfl 2 (by decide) q206 (fun _ h9 => h9) rfl (by decide +kernel) rfl rfl (Nat.le_of_ble_eq_true rfl) dJ3_pollLast_29 (fun H locs hP hD hS => ?_)
    have hP : WP Γ [[(v, .inl (Γ.2.1 2, 17, .inr (.inr (.inr (.inr f)))))], [(a, .inr (12, [.ref v, .int (nI p), .int (nI ((p + n) % 17))]))]] H := hP
    have hD : WD A [[(v, .inl (Γ.2.1 2, 17, .inr (.inr (.inr (.inr f)))))], [(a, .inr (12, [.ref v, .int (nI p), .int (nI ((p + n) % 17))]))]] := hD
    refine lv_null hx hb dJ3_pollLast_32 ?_
    refine b_aastN hx hb hK hP hD hS 0 rfl ((p + n) % 17) rfl (by omega) (by omega) dJ3_pollLast_33 (fun H locs hP hD hS => ?_)
    have hP : WP Γ [[(v, .inl (Γ.2.1 2, 17, .inr (.inr (.inr (.inr (va_up f ((p + n) % 17) none))))))], [(a, .inr (12, [.ref v, .int (nI p), .int (nI ((p + n) % 17))]))]] H := hP
    have hD : WD A [[(v, .inl (Γ.2.1 2, 17, .inr (.inr (.inr (.inr (va_up f ((p + n) % 17) none))))))], [(a, .inr (12, [.ref v, .int (nI p), .int (nI ((p + n) % 17))]))]] := hD
    refine lv_aload_n hx hb dJ3_pollLast_34 rfl (lv_at hl 0 rfl) ?_
    have hP : WP Γ [[(a, .inr (12, [.ref v, .int (nI p), .int (nI ((p + n) % 17))]))], [(v, .inl (Γ.2.1 2, 17, .inr (.inr (.inr (.inr (va_up f ((p + n) % 17) none))))))]] H := bP_sel hP [1, 0] rfl
    have hD : WD A [[(a, .inr (12, [.ref v, .int (nI p), .int (nI ((p + n) % 17))]))], [(v, .inl (Γ.2.1 2, 17, .inr (.inr (.inr (.inr (va_up f ((p + n) % 17) none))))))]] := bD_sel hD [1, 0] rfl rfl
    exact b_aret hx hb hr (by first | exact Or.inl ⟨_, rfl⟩ | exact Or.inr ⟨_, rfl⟩) hlocks hP hD hS (Nat.le_of_ble_eq_true rfl) (Nat.le_of_ble_eq_true rfl) ⟨(by first | rfl | (simp; done)), (by first | rfl | (simp; done))⟩ dJ3_pollLast_35
set_option maxHeartbeats 4000000 in
set_option maxRecDepth 100000 in
theorem mt_DQ_circ (l : Launch) (Γ : GE) (sz : Nat) (v : Nat) (f : Nat → Option Nat) (i0 : Nat) (t : Nat) (hi : i0 < 17) (ht : t < 17) : KM l yJ3_circularClear cJ3_circularClear 4 none Γ 0 0 0 0 [.ref v, .int (nI i0), .int (nI t)] [[(v, .inl (Γ.2.1 2, 17, .inr (.inr (.inr (.inr f)))))]] [] sz (Qv Γ (fun u_ => ∃ g : Nat → Option Nat, u_ = [[(v, .inl (Γ.2.1 2, 17, .inr (.inr (.inr (.inr g)))))]])) := by
  refine K_intro (by decide) (Nat.le_of_ble_eq_true rfl) ?_
  intro pr_ ev_ s mi_ below meth cd_ A ls hx hb hr hml hown hts hlocks hname hK hE hRo hP hD hA hS hsz hl
  have hl : lv_has ls 4 [(0, .ref v), (1, .int (nI i0)), (2, .int (nI t))] := hl
  have hown : s.vm.findClass RJ3 = some mi_.cls := hown
  refine lv_iload_n hx hb dJ3_circularClear_0 rfl (lv_at hl 1 rfl) ?_
  refine lv_iload_n hx hb dJ3_circularClear_1 rfl (lv_at hl 2 rfl) ?_
  refine lv_icmp_gt (tgt := 9) hx hb dJ3_circularClear_2 (by decide) (fun c_1 => ?_) (fun c_1 => ?_)
  · -- 2 taken
    have n_1 : t < i0 := (nI_ltI (by omega) (by omega)).mp (show nI t < nI i0 from c_1)
    refine lv_aload_n hx hb dJ3_circularClear_9 rfl (lv_at hl 0 rfl) ?_
    refine b_alen hx hb hK 2 (b_at (k := 0) hP rfl) rfl dJ3_circularClear_10 ?_
    refine lv_istore_n (lv' := [(3, .int (nI 17)), (0, .ref v), (1, .int (nI i0)), (2, .int (nI t))]) hx hb dJ3_circularClear_11 rfl hl (by decide) rfl (fun ls hl => ?_)
    have loop_2 : ∀ (fuel : Nat) (i : Nat) (to : Nat) (g : Nat → Option Nat) (ph : Nat), to - i + 20 * ph < fuel → (i ≤ to) → (to ≤ 17) → (ph ≤ 1) → (ph = 0 → to = t) → ∀ (H : Heap) (locs : List Loc) (ls : Array Slot), WP Γ [[(v, .inl (Γ.2.1 2, 17, .inr (.inr (.inr (.inr g)))))]] H → WD A [[(v, .inl (Γ.2.1 2, 17, .inr (.inr (.inr (.inr g)))))]] → va_S A s.heap H locs → lv_has ls 4 [(0, .ref v), (1, .int (nI i)), (2, .int (nI t)), (3, .int (nI to))] → W pr_ l ev_ { frames := 0, cells := 0, slots := 0, locals := 0 } s mi_ ([.ref v, .int (nI i0), .int (nI t)] : List Value).toArray below meth cd_ H locs 0 0 (MQ below (Qv Γ (fun u_ => ∃ g : Nat → Option Nat, u_ = [[(v, .inl (Γ.2.1 2, 17, .inr (.inr (.inr (.inr g)))))]]) A) ([.ref v, .int (nI i0), .int (nI t)] : List Value).toArray s 0 0 A) (F0 mi_ 12 ls ([])) := by
      intro fuel
      induction fuel with
      | zero => intro i to g ph hfuel; exact absurd hfuel (Nat.not_lt_zero _)
      | succ fuel ih =>
        intro i to g ph hfuel hit hto hph hp0 H locs ls hP hD hS hl
        refine lv_iload_n hx hb dJ3_circularClear_12 rfl (lv_at hl 1 rfl) ?_
        refine lv_iload_n hx hb dJ3_circularClear_13 rfl (lv_at hl 3 rfl) ?_
        refine lv_icmp_ge (tgt := 27) hx hb dJ3_circularClear_14 (by decide) (fun c_3 => ?_) (fun c_3 => ?_)
        · -- 14 taken
          have n_3 : to ≤ i := (nI_leI (by omega) (by omega)).mp (show nI to ≤ nI i from c_3)
          have m_3 : ¬ (i < to) := by omega
          have d_3 := Int32.not_lt.mpr c_3
          refine lv_iload_n hx hb dJ3_circularClear_27 rfl (lv_at hl 3 rfl) ?_
          refine lv_iload_n hx hb dJ3_circularClear_28 rfl (lv_at hl 2 rfl) ?_
          refine lv_icmp_ne (tgt := 35) hx hb dJ3_circularClear_29 (by decide) (fun c_4 => ?_) (fun c_4 => ?_)
          · -- 29 taken
            have n_4 : ¬ (to = t) := fun h => c_4 ((nI_eq (a := to) (b := t) (by omega) (by omega)).mpr h)
            refine lv_iconst (v := 0) hx hb dJ3_circularClear_35 (by decide) ?_
            refine lv_istore_n (lv' := [(1, .int 0), (0, .ref v), (2, .int (nI t)), (3, .int (nI to))]) hx hb dJ3_circularClear_36 rfl hl (by decide) rfl (fun ls hl => ?_)
            refine lv_iload_n hx hb dJ3_circularClear_37 rfl (lv_at hl 2 rfl) ?_
            refine lv_istore_n (lv' := [(3, .int (nI t)), (1, .int 0), (0, .ref v), (2, .int (nI t))]) hx hb dJ3_circularClear_38 rfl hl (by decide) rfl (fun ls hl => ?_)
            refine lv_goto (tgt := 12) hx hb dJ3_circularClear_39 (by decide) ?_
            exact ih 0 t g 0 (by omega) (by omega) (by omega) (by omega) (by omega) _ _ _ hP hD hS (lv_sub hl [2, 1, 3, 0] rfl)
          · -- 29 not taken
            have n_4 : to = t := (nI_eq (by omega) (by omega)).mp (show nI to = nI t from c_4)
            refine lv_goto (tgt := 42) hx hb dJ3_circularClear_32 (by decide) ?_
            exact b_vret hx hb hr hlocks hP hD hS (Nat.le_of_ble_eq_true rfl) (Nat.le_of_ble_eq_true rfl) ⟨g, rfl⟩ dJ3_circularClear_42
        · -- 14 not taken
          have n_3 : ¬ (to ≤ i) := fun h => c_3 ((nI_leI (a := to) (b := i) (by omega) (by omega)).mpr h)
          have m_3 : i < to := by omega
          have d_3 := Int32.not_le.mp c_3
          refine lv_aload_n hx hb dJ3_circularClear_17 rfl (lv_at hl 0 rfl) ?_
          refine lv_iload_n hx hb dJ3_circularClear_18 rfl (lv_at hl 1 rfl) ?_
          refine lv_null hx hb dJ3_circularClear_19 ?_
          refine b_aastN hx hb hK hP hD hS 0 rfl i rfl (by omega) (by omega) dJ3_circularClear_20 (fun H locs hP hD hS => ?_)
          have hP : WP Γ [[(v, .inl (Γ.2.1 2, 17, .inr (.inr (.inr (.inr (va_up g i none))))))]] H := hP
          have hD : WD A [[(v, .inl (Γ.2.1 2, 17, .inr (.inr (.inr (.inr (va_up g i none))))))]] := hD
          refine lv_iinc (v := (nI (i + 1))) (lv' := [(1, .int (nI (i + 1))), (0, .ref v), (2, .int (nI t)), (3, .int (nI to))]) hx hb dJ3_circularClear_21 hl (k := 1) rfl (nI_addE (a := i) (b := 1) (c := i + 1) rfl rfl (by first | omega | rfl)) (by decide) rfl (fun ls hl => ?_)
          refine lv_goto (tgt := 12) hx hb dJ3_circularClear_24 (by decide) ?_
          exact ih (i + 1) to (va_up g i none) ph (by omega) (by omega) (by omega) (by omega) (by omega) _ _ _ hP hD hS (lv_sub hl [1, 0, 2, 3] rfl)
    exact loop_2 ((17 - i0 + 20 * 1) + 1) i0 17 f 1 (Nat.lt_succ_self _) (by omega) (by omega) (by omega) (by omega) _ _ _ hP hD hS (lv_sub hl [1, 2, 3, 0] rfl)
  · -- 2 not taken
    have n_1 : ¬ (t < i0) := fun h => c_1 ((nI_ltI (a := t) (b := i0) (by omega) (by omega)).mpr h)
    refine lv_iload_n hx hb dJ3_circularClear_5 rfl (lv_at hl 2 rfl) ?_
    refine lv_goto (tgt := 11) hx hb dJ3_circularClear_6 (by decide) ?_
    refine lv_istore_n (lv' := [(3, .int (nI t)), (0, .ref v), (1, .int (nI i0)), (2, .int (nI t))]) hx hb dJ3_circularClear_11 rfl hl (by decide) rfl (fun ls hl => ?_)
    have loop_5 : ∀ (fuel : Nat) (i : Nat) (to : Nat) (g : Nat → Option Nat) (ph : Nat), to - i + 20 * ph < fuel → (i ≤ to) → (to ≤ 17) → (ph ≤ 1) → (ph = 0 → to = t) → ∀ (H : Heap) (locs : List Loc) (ls : Array Slot), WP Γ [[(v, .inl (Γ.2.1 2, 17, .inr (.inr (.inr (.inr g)))))]] H → WD A [[(v, .inl (Γ.2.1 2, 17, .inr (.inr (.inr (.inr g)))))]] → va_S A s.heap H locs → lv_has ls 4 [(0, .ref v), (1, .int (nI i)), (2, .int (nI t)), (3, .int (nI to))] → W pr_ l ev_ { frames := 0, cells := 0, slots := 0, locals := 0 } s mi_ ([.ref v, .int (nI i0), .int (nI t)] : List Value).toArray below meth cd_ H locs 0 0 (MQ below (Qv Γ (fun u_ => ∃ g : Nat → Option Nat, u_ = [[(v, .inl (Γ.2.1 2, 17, .inr (.inr (.inr (.inr g)))))]]) A) ([.ref v, .int (nI i0), .int (nI t)] : List Value).toArray s 0 0 A) (F0 mi_ 12 ls ([])) := by
      intro fuel
      induction fuel with
      | zero => intro i to g ph hfuel; exact absurd hfuel (Nat.not_lt_zero _)
      | succ fuel ih =>
        intro i to g ph hfuel hit hto hph hp0 H locs ls hP hD hS hl
        refine lv_iload_n hx hb dJ3_circularClear_12 rfl (lv_at hl 1 rfl) ?_
        refine lv_iload_n hx hb dJ3_circularClear_13 rfl (lv_at hl 3 rfl) ?_
        refine lv_icmp_ge (tgt := 27) hx hb dJ3_circularClear_14 (by decide) (fun c_6 => ?_) (fun c_6 => ?_)
        · -- 14 taken
          have n_6 : to ≤ i := (nI_leI (by omega) (by omega)).mp (show nI to ≤ nI i from c_6)
          have m_6 : ¬ (i < to) := by omega
          have d_6 := Int32.not_lt.mpr c_6
          refine lv_iload_n hx hb dJ3_circularClear_27 rfl (lv_at hl 3 rfl) ?_
          refine lv_iload_n hx hb dJ3_circularClear_28 rfl (lv_at hl 2 rfl) ?_
          refine lv_icmp_ne (tgt := 35) hx hb dJ3_circularClear_29 (by decide) (fun c_7 => ?_) (fun c_7 => ?_)
          · -- 29 taken
            have n_7 : ¬ (to = t) := fun h => c_7 ((nI_eq (a := to) (b := t) (by omega) (by omega)).mpr h)
            refine lv_iconst (v := 0) hx hb dJ3_circularClear_35 (by decide) ?_
            refine lv_istore_n (lv' := [(1, .int 0), (0, .ref v), (2, .int (nI t)), (3, .int (nI to))]) hx hb dJ3_circularClear_36 rfl hl (by decide) rfl (fun ls hl => ?_)
            refine lv_iload_n hx hb dJ3_circularClear_37 rfl (lv_at hl 2 rfl) ?_
            refine lv_istore_n (lv' := [(3, .int (nI t)), (1, .int 0), (0, .ref v), (2, .int (nI t))]) hx hb dJ3_circularClear_38 rfl hl (by decide) rfl (fun ls hl => ?_)
            refine lv_goto (tgt := 12) hx hb dJ3_circularClear_39 (by decide) ?_
            exact ih 0 t g 0 (by omega) (by omega) (by omega) (by omega) (by omega) _ _ _ hP hD hS (lv_sub hl [2, 1, 3, 0] rfl)
          · -- 29 not taken
            have n_7 : to = t := (nI_eq (by omega) (by omega)).mp (show nI to = nI t from c_7)
            refine lv_goto (tgt := 42) hx hb dJ3_circularClear_32 (by decide) ?_
            exact b_vret hx hb hr hlocks hP hD hS (Nat.le_of_ble_eq_true rfl) (Nat.le_of_ble_eq_true rfl) ⟨g, rfl⟩ dJ3_circularClear_42
        · -- 14 not taken
          have n_6 : ¬ (to ≤ i) := fun h => c_6 ((nI_leI (a := to) (b := i) (by omega) (by omega)).mpr h)
          have m_6 : i < to := by omega
          have d_6 := Int32.not_le.mp c_6
          refine lv_aload_n hx hb dJ3_circularClear_17 rfl (lv_at hl 0 rfl) ?_
          refine lv_iload_n hx hb dJ3_circularClear_18 rfl (lv_at hl 1 rfl) ?_
          refine lv_null hx hb dJ3_circularClear_19 ?_
          refine b_aastN hx hb hK hP hD hS 0 rfl i rfl (by omega) (by omega) dJ3_circularClear_20 (fun H locs hP hD hS => ?_)
          have hP : WP Γ [[(v, .inl (Γ.2.1 2, 17, .inr (.inr (.inr (.inr (va_up g i none))))))]] H := hP
          have hD : WD A [[(v, .inl (Γ.2.1 2, 17, .inr (.inr (.inr (.inr (va_up g i none))))))]] := hD
          refine lv_iinc (v := (nI (i + 1))) (lv' := [(1, .int (nI (i + 1))), (0, .ref v), (2, .int (nI t)), (3, .int (nI to))]) hx hb dJ3_circularClear_21 hl (k := 1) rfl (nI_addE (a := i) (b := 1) (c := i + 1) rfl rfl (by first | omega | rfl)) (by decide) rfl (fun ls hl => ?_)
          refine lv_goto (tgt := 12) hx hb dJ3_circularClear_24 (by decide) ?_
          exact ih (i + 1) to (va_up g i none) ph (by omega) (by omega) (by omega) (by omega) (by omega) _ _ _ hP hD hS (lv_sub hl [1, 0, 2, 3] rfl)
    exact loop_5 ((t - i0 + 20 * 1) + 1) i0 t f 1 (Nat.lt_succ_self _) (by omega) (by omega) (by omega) (by omega) _ _ _ hP hD hS (lv_sub hl [1, 2, 3, 0] rfl)
set_option maxHeartbeats 4000000 in
set_option maxRecDepth 100000 in
theorem mt_DQ_clear (l : Launch) (Γ : GE) (sz : Nat) (a : Nat) (v : Nat) (f : Nat → Option Nat) (p : Nat) (n : Nat) (hh : p < 17) (hn : n ≤ 16) : KM l yJ3_clear cJ3_clear 1 none Γ 1 23 0 0 [.ref a] [[(a, .inr (12, [.ref v, .int (nI p), .int (nI ((p + n) % 17))]))], [(v, .inl (Γ.2.1 2, 17, .inr (.inr (.inr (.inr f)))))]] [] sz (Qv Γ (fun u_ => ∃ g : Nat → Option Nat, u_ = [[(a, .inr (12, [.ref v, .int (nI 0), .int (nI 0)]))], [(v, .inl (Γ.2.1 2, 17, .inr (.inr (.inr (.inr g)))))]])) := by
  refine K_intro (by decide) (Nat.le_of_ble_eq_true rfl) ?_
  intro pr_ ev_ s mi_ below meth cd_ A ls hx hb hr hml hown hts hlocks hname hK hE hRo hP hD hA hS hsz hl
  have hl : lv_has ls 1 [(0, .ref a)] := hl
  have hown : s.vm.findClass RJ3 = some mi_.cls := hown
  refine lv_aload_n hx hb dJ3_clear_0 rfl (lv_at hl 0 rfl) ?_
  refine b_get (C := RJ3) (T := TJ3) (N := 3) (v := .ref v) hx hb hts in_J3 hown hK (b_at (k := 0) hP rfl) rfl 0 (by decide) q204 (fun _ h9 => h9) rfl dJ3_clear_1 ?_
  refine lv_aload_n hx hb dJ3_clear_4 rfl (lv_at hl 0 rfl) ?_
  refine b_get (C := RJ3) (T := TJ3) (N := 3) (v := .int (nI p)) hx hb hts in_J3 hown hK (b_at (k := 0) hP rfl) rfl 1 (by decide) q205 (fun _ h9 => h9) rfl dJ3_clear_5 ?_
  refine lv_aload_n hx hb dJ3_clear_8 rfl (lv_at hl 0 rfl) ?_
  refine b_get (C := RJ3) (T := TJ3) (N := 3) (v := .int (nI ((p + n) % 17))) hx hb hts in_J3 hown hK (b_at (k := 0) hP rfl) rfl 2 (by decide) q206 (fun _ h9 => h9) rfl dJ3_clear_9 ?_
  refine b_callv (br := [[(a, .inr (12, [.ref v, .int (nI p), .int (nI ((p + n) % 17))]))]]) (b_runS ⟨hx, hb, hml, hown, hts⟩ (mt_DQ_circ l Γ _ v f p ((p + n) % 17) (by omega) (by omega)) (lw_S q1796 q1797 q68 q1798) rfl rfl 3 (by decide +kernel) ⟨(Nat.le_of_ble_eq_true rfl), (Nat.le_of_ble_eq_true rfl)⟩ (c_pre hP hD hS hA hK hE [1] rfl rfl ro_nil) rfl hl.1 rfl (Nat.le_of_ble_eq_true rfl) dJ3_clear_12 ⟨(Nat.le_of_ble_eq_true rfl), (Nat.le_of_ble_eq_true rfl)⟩) hP hD hS hA [1] [0] rfl rfl rfl (fun u_1 H locs hw_1 hP hD hS _ => ?_)
  obtain ⟨g_1, rfl⟩ := hw_1
  have hP : WP Γ [[(v, .inl (Γ.2.1 2, 17, .inr (.inr (.inr (.inr g_1)))))], [(a, .inr (12, [.ref v, .int (nI p), .int (nI ((p + n) % 17))]))]] H := hP
  have hD : WD A [[(v, .inl (Γ.2.1 2, 17, .inr (.inr (.inr (.inr g_1)))))], [(a, .inr (12, [.ref v, .int (nI p), .int (nI ((p + n) % 17))]))]] := hD
  refine lv_aload_n hx hb dJ3_clear_15 rfl (lv_at hl 0 rfl) ?_
  refine lv_aload_n hx hb dJ3_clear_16 rfl (lv_at hl 0 rfl) ?_
  refine lv_iconst (v := 0) hx hb dJ3_clear_17 (by decide) ?_
  refine lv_dup_x1 hx hb dJ3_clear_18 rfl rfl ?_
  refine b_put (C := RJ3) (T := TJ3) (N := 3) (ty := .int) (v := .int 0) hx hb hts in_J3 tyJ3_ok nmJ3 hown hK hP hD hS 1 rfl rfl 2 (by decide) q206 (fun _ h9 => h9) rfl (by decide +kernel) rfl rfl (Nat.le_of_ble_eq_true rfl) dJ3_clear_19 (fun H locs hP hD hS => ?_)
  have hP : WP Γ [[(v, .inl (Γ.2.1 2, 17, .inr (.inr (.inr (.inr g_1)))))], [(a, .inr (12, [.ref v, .int (nI p), .int 0]))]] H := hP
  have hD : WD A [[(v, .inl (Γ.2.1 2, 17, .inr (.inr (.inr (.inr g_1)))))], [(a, .inr (12, [.ref v, .int (nI p), .int 0]))]] := hD
  refine b_put (C := RJ3) (T := TJ3) (N := 3) (ty := .int) (v := .int 0) hx hb hts in_J3 tyJ3_ok nmJ3 hown hK hP hD hS 1 rfl rfl 1 (by decide) q205 (fun _ h9 => h9) rfl (by decide +kernel) rfl rfl (Nat.le_of_ble_eq_true rfl) dJ3_clear_22 (fun H locs hP hD hS => ?_)
  have hP : WP Γ [[(v, .inl (Γ.2.1 2, 17, .inr (.inr (.inr (.inr g_1)))))], [(a, .inr (12, [.ref v, .int 0, .int 0]))]] H := hP
  have hD : WD A [[(v, .inl (Γ.2.1 2, 17, .inr (.inr (.inr (.inr g_1)))))], [(a, .inr (12, [.ref v, .int 0, .int 0]))]] := hD
  have hP : WP Γ [[(a, .inr (12, [.ref v, .int 0, .int 0]))], [(v, .inl (Γ.2.1 2, 17, .inr (.inr (.inr (.inr g_1)))))]] H := bP_sel hP [1, 0] rfl
  have hD : WD A [[(a, .inr (12, [.ref v, .int 0, .int 0]))], [(v, .inl (Γ.2.1 2, 17, .inr (.inr (.inr (.inr g_1)))))]] := bD_sel hD [1, 0] rfl rfl
  exact b_vret hx hb hr hlocks hP hD hS (Nat.le_of_ble_eq_true rfl) (Nat.le_of_ble_eq_true rfl) ⟨g_1, rfl⟩ dJ3_clear_25
