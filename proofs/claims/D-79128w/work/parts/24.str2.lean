/-! JDK: Strings made at run time: toString, hashCode, equals -/
def hsG (g : Nat → Int32) : Nat → Int32
  | 0 => 0
  | j + 1 => 31 * hsG g j + g j
theorem hsG_congr {f g : Nat → Int32} : ∀ n, (∀ j, j < n → f j = g j) → hsG f n = hsG g n := by
  intro n
  induction n with
  | zero => intro _; rfl
  | succ n ih => intro h; rw [hsG, hsG, ih (fun j hj => h j (by omega)), h n (by omega)]
def hsF (f : Nat → Int32) (n : Nat) : Int32 := hsG (fun j => f j &&& 255) n
/-- the hash of a text -/
def strH (L : List Int32) : Int32 := hsG (fun j => L.getD j 0) L.length
/-- a String: its bytes' address, its bytes; coder 0 -/
abbrev SST : Type := Nat × (Nat → Int32)
def stF (y : SST) (L : List Int32) : Prop := L.length ≤ 512 ∧ (∀ j, fits .byte (.int (y.2 j)) = true) ∧ ∀ j, j < L.length → lc (y.2 j) = L.getD j 0
theorem lc_and (b : Int32) (hf : fits .byte (.int b) = true) : lc b = b &&& 255 := by
  have e := pk_and b 8 (m := 255) (by decide)
  unfold lc
  rw [pk_char, e, pk_tn (by omega)]
  congr 1
  omega
theorem stF_hash {y : SST} {L : List Int32} (h : stF y L) : hsF y.2 L.length = strH L :=
  hsG_congr _ (fun j hj => by rw [← h.2.2 j hj, lc_and _ (h.2.1 j)])
set_option maxHeartbeats 4000000 in
set_option maxRecDepth 100000 in
theorem mt_signedHash (l : Launch) (Γ : GE) (sz : Nat) (v : Nat) (n : Nat) (f : Nat → Int32) (hn : n ≤ 2048) : KM l yJ15_signedHashCode cJ15_signedHashCode 6 (some FieldType.int) Γ 0 0 0 0 [.int 0, .ref v, .int 0, .int (nI n)] [[(v, .inl (Γ.2.1 1, n, .inl f))]] [] sz (Qi Γ (fun r_ u_ => r_ = (hsF f n) ∧ u_ = [[(v, .inl (Γ.2.1 1, n, .inl f))]])) := by
  refine K_intro (by decide) (Nat.le_of_ble_eq_true rfl) ?_
  intro pr_ ev_ s mi_ below meth cd_ A ls hx hb hr hml hown hts hlocks hname hK hE hRo hP hD hA hS hsz hl
  have hl : lv_has ls 6 [(0, .int 0), (1, .ref v), (2, .int 0), (3, .int (nI n))] := hl
  have hown : s.vm.findClass RJ15 = some mi_.cls := hown
  refine lv_iload_n hx hb dJ15_signedHashCode_0 rfl (lv_at hl 2 rfl) ?_
  refine lv_iload_n hx hb dJ15_signedHashCode_1 rfl (lv_at hl 3 rfl) ?_
  refine lv_iadd hx hb dJ15_signedHashCode_2 ?_
  refine b_top (nI_addE (a := 0) (b := n) (c := n) rfl rfl (by first | omega | rfl)) ?_
  refine lv_istore (lv' := [(4, .int (nI n)), (0, .int 0), (1, .ref v), (2, .int 0), (3, .int (nI n))]) hx hb dJ15_signedHashCode_3 hl (by decide) rfl (fun ls hl => ?_)
  refine lv_iload_n hx hb dJ15_signedHashCode_5 rfl (lv_at hl 3 rfl) ?_
  refine lv_istore (lv' := [(5, .int 0), (4, .int (nI n)), (0, .int 0), (1, .ref v), (2, .int 0), (3, .int (nI n))]) hx hb dJ15_signedHashCode_6 hl (by decide) rfl (fun ls hl => ?_)
  have hl : lv_has ls 6 [(5, .int 0), (4, .int (nI n)), (0, .int (hsF f 0)), (1, .ref v), (2, .int 0), (3, .int (nI n))] := hl
  have loop_1 : ∀ (fuel : Nat) (j : Nat), n - j < fuel → (j ≤ n) → ∀ (H : Heap) (locs : List Loc) (ls : Array Slot), WP Γ [[(v, .inl (Γ.2.1 1, n, .inl f))]] H → WD A [[(v, .inl (Γ.2.1 1, n, .inl f))]] → va_S A s.heap H locs → lv_has ls 6 [(0, .int (hsF f j)), (5, .int (nI j)), (4, .int (nI n)), (1, .ref v), (2, .int 0), (3, .int (nI n))] → W pr_ l ev_ { frames := 0, cells := 0, slots := 0, locals := 0 } s mi_ ([.int 0, .ref v, .int 0, .int (nI n)] : List Value).toArray below meth cd_ H locs 0 0 (MQ below (Qi Γ (fun r_ u_ => r_ = (hsF f n) ∧ u_ = [[(v, .inl (Γ.2.1 1, n, .inl f))]]) A) ([.int 0, .ref v, .int 0, .int (nI n)] : List Value).toArray s 0 0 A) (F0 mi_ 8 ls ([])) := by
    intro fuel
    induction fuel with
    | zero => intro j hfuel; exact absurd hfuel (Nat.not_lt_zero _)
    | succ fuel ih =>
      intro j hfuel hj H locs ls hP hD hS hl
      refine lv_iload hx hb dJ15_signedHashCode_8 (lv_at hl 1 rfl) ?_
      refine lv_iload hx hb dJ15_signedHashCode_10 (lv_at hl 2 rfl) ?_
      refine lv_icmp_ge (tgt := 35) hx hb dJ15_signedHashCode_12 (by decide) (fun c_2 => ?_) (fun c_2 => ?_)
      · -- 12 taken
        have n_2 : n ≤ j := (nI_leI (by omega) (by omega)).mp (show nI n ≤ nI j from c_2)
        have m_2 : ¬ (j < n) := by omega
        have d_2 := Int32.not_lt.mpr c_2
        refine lv_iload_n hx hb dJ15_signedHashCode_35 rfl (lv_at hl 0 rfl) ?_
        exact b_iret hx hb hr hlocks hP hD hS (Nat.le_of_ble_eq_true rfl) (Nat.le_of_ble_eq_true rfl) ⟨(by rw [show n = j by omega]), (by first | with_reducible rfl | (simp [n_2, m_2, d_2]; done) | rfl)⟩ dJ15_signedHashCode_36
      · -- 12 not taken
        have n_2 : ¬ (n ≤ j) := fun h => c_2 ((nI_leI (a := n) (b := j) (by omega) (by omega)).mpr h)
        have m_2 : j < n := by omega
        have d_2 := Int32.not_le.mp c_2
        refine lv_bipush (v := 31) hx hb dJ15_signedHashCode_15 (by decide) ?_
        refine lv_iload_n hx hb dJ15_signedHashCode_17 rfl (lv_at hl 0 rfl) ?_
        refine lv_imul hx hb dJ15_signedHashCode_18 ?_
        refine lv_aload_n hx hb dJ15_signedHashCode_19 rfl (lv_at hl 3 rfl) ?_
        refine lv_iload hx hb dJ15_signedHashCode_20 (lv_at hl 1 rfl) ?_
        refine b_bald hx hb hK (b_at (k := 0) hP rfl) j rfl (by omega) (by omega) dJ15_signedHashCode_22 ?_
        refine lv_sipush (v := 255) hx hb dJ15_signedHashCode_23 (by decide) ?_
        refine lv_iand hx hb dJ15_signedHashCode_26 ?_
        refine lv_iadd hx hb dJ15_signedHashCode_27 ?_
        refine lv_istore_n (lv' := [(0, .int ((31 * (hsF f j)) + ((f j) &&& 255))), (5, .int (nI j)), (4, .int (nI n)), (1, .ref v), (2, .int 0), (3, .int (nI n))]) hx hb dJ15_signedHashCode_28 rfl hl (by decide) rfl (fun ls hl => ?_)
        have hl : lv_has ls 6 [(0, .int (hsF f (j + 1))), (5, .int (nI j)), (4, .int (nI n)), (1, .ref v), (2, .int 0), (3, .int (nI n))] := hl
        refine lv_iinc (v := (nI (j + 1))) (lv' := [(5, .int (nI (j + 1))), (0, .int (hsF f (j + 1))), (4, .int (nI n)), (1, .ref v), (2, .int 0), (3, .int (nI n))]) hx hb dJ15_signedHashCode_29 hl (k := 1) rfl (nI_addE (a := j) (b := 1) (c := j + 1) rfl rfl (by first | omega | rfl)) (by decide) rfl (fun ls hl => ?_)
        refine lv_goto (tgt := 8) hx hb dJ15_signedHashCode_32 (by decide) ?_
        exact ih (j + 1) (by omega) (by omega) _ _ _ hP hD hS (lv_sub hl [1, 0, 2, 3, 4, 5] rfl)
  exact loop_1 ((n - 0) + 1) 0 (Nat.lt_succ_self _) (Nat.zero_le _) _ _ _ hP hD hS (lv_sub hl [2, 0, 1, 3, 4, 5] rfl)
set_option maxHeartbeats 4000000 in
set_option maxRecDepth 100000 in
theorem mt_vecHash (l : Launch) (Γ : GE) (sz : Nat) (v : Nat) (n : Nat) (f : Nat → Int32) (hn : n ≤ 2048) : KM l yJ15_vectorizedHashCode cJ15_vectorizedHashCode 5 (some FieldType.int) Γ 1 25 0 0 [.ref v, .int 0, .int (nI n), .int 0, .int 4] [[(v, .inl (Γ.2.1 1, n, .inl f))]] [] sz (Qi Γ (fun r_ u_ => r_ = (hsF f n) ∧ u_ = [[(v, .inl (Γ.2.1 1, n, .inl f))]])) := by
  refine K_intro (by decide) (Nat.le_of_ble_eq_true rfl) ?_
  intro pr_ ev_ s mi_ below meth cd_ A ls hx hb hr hml hown hts hlocks hname hK hE hRo hP hD hA hS hsz hl
  have hl : lv_has ls 5 [(0, .ref v), (1, .int 0), (2, .int (nI n)), (3, .int 0), (4, .int 4)] := hl
  have hown : s.vm.findClass RJ15 = some mi_.cls := hown
  refine lv_iload hx hb dJ15_vectorizedHashCode_0 (lv_at hl 4 rfl) ?_
  refine lv_tableIn (tgt := 44) hx hb dJ15_vectorizedHashCode_2 (by decide) (by decide) rfl (by decide) ?_
  refine lv_iload_n hx hb dJ15_vectorizedHashCode_44 rfl (lv_at hl 3 rfl) ?_
  refine lv_aload_n hx hb dJ15_vectorizedHashCode_45 rfl (lv_at hl 0 rfl) ?_
  refine va_castA hx hb hown (hts _ q1585) hP _ (fl_get (k := 0) rfl) (hK.2 1 _ rfl).2 dJ15_vectorizedHashCode_46 ?_
  refine lv_iload_n hx hb dJ15_vectorizedHashCode_49 rfl (lv_at hl 1 rfl) ?_
  refine lv_iload_n hx hb dJ15_vectorizedHashCode_50 rfl (lv_at hl 2 rfl) ?_
  refine b_calli (br := []) (b_runS ⟨hx, hb, hml, hown, hts⟩ (mt_signedHash l Γ _ v n f (by first | exact hn | omega)) (lw_S q1586 q1587 q82 q1588) rfl rfl 4 (by decide +kernel) ⟨(Nat.le_of_ble_eq_true rfl), (Nat.le_of_ble_eq_true rfl)⟩ (c_pre hP hD hS hA hK hE [0] rfl rfl ro_nil) rfl hl.1 rfl (Nat.le_of_ble_eq_true rfl) dJ15_vectorizedHashCode_51 ⟨(Nat.le_of_ble_eq_true rfl), (Nat.le_of_ble_eq_true rfl)⟩) hP hD hS hA [0] [] rfl rfl rfl (fun r_1 u_1 H locs hw_1 hP hD hS _ => ?_)
  obtain ⟨rfl, rfl⟩ := hw_1
  have hP : WP Γ [[(v, .inl (Γ.2.1 1, n, .inl f))]] H := hP
  have hD : WD A [[(v, .inl (Γ.2.1 1, n, .inl f))]] := hD
  refine lv_goto (tgt := 157) hx hb dJ15_vectorizedHashCode_54 (by decide) ?_
  exact b_iret hx hb hr hlocks hP hD hS (Nat.le_of_ble_eq_true rfl) (Nat.le_of_ble_eq_true rfl) ⟨(by first | rfl | (simp; done)), (by first | rfl | (simp; done))⟩ dJ15_vectorizedHashCode_157
set_option maxHeartbeats 4000000 in
set_option maxRecDepth 100000 in
theorem mt_LatHash (l : Launch) (Γ : GE) (sz : Nat) (v : Nat) (n : Nat) (f : Nat → Int32) (hn : n ≤ 2048) : KM l yJ20_hashCode cJ20_hashCode 1 (some FieldType.int) Γ 2 49 0 0 [.ref v] [[(v, .inl (Γ.2.1 1, n, .inl f))]] [] sz (Qi Γ (fun r_ u_ => r_ = (hsF f n) ∧ u_ = [[(v, .inl (Γ.2.1 1, n, .inl f))]])) := by
  refine K_intro (by decide) (Nat.le_of_ble_eq_true rfl) ?_
  intro pr_ ev_ s mi_ below meth cd_ A ls hx hb hr hml hown hts hlocks hname hK hE hRo hP hD hA hS hsz hl
  have hl : lv_has ls 1 [(0, .ref v)] := hl
  have hown : s.vm.findClass RJ20 = some mi_.cls := hown
  refine lv_aload_n hx hb dJ20_hashCode_0 rfl (lv_at hl 0 rfl) ?_
  refine b_alen hx hb hK 1 (b_at (k := 0) hP rfl) rfl dJ20_hashCode_1 ?_
  by_cases c_1_0 : (nI n) = 0
  · -- key 0
    refine lv_lookup (tgt := 28) hx hb dJ20_hashCode_2 (by decide) (by rw [c_1_0] <;> decide) (by decide) ?_
    have h1 : n = 0 := (by rw [show (0 : Int32) = nI 0 from rfl] at c_1_0; exact (nI_eq (by omega) (by omega)).mp c_1_0)
    subst h1
    refine lv_iconst (v := 0) hx hb dJ20_hashCode_28 (by decide) ?_
    refine lv_goto (tgt := 51) hx hb dJ20_hashCode_29 (by decide) ?_
    exact b_iret hx hb hr hlocks hP hD hS (Nat.le_of_ble_eq_true rfl) (Nat.le_of_ble_eq_true rfl) ⟨(by first | rfl | (show _ = 31 * (0 : Int32) + (f 0 &&& 255); simp)), (by first | with_reducible rfl | (simp [c_1_0]; done) | rfl)⟩ dJ20_hashCode_51
  by_cases c_1_1 : (nI n) = 1
  · -- key 1
    refine lv_lookup (tgt := 32) hx hb dJ20_hashCode_2 (by decide) (by rw [c_1_1] <;> decide) (by decide) ?_
    have h1 : n = 1 := (by rw [show (1 : Int32) = nI 1 from rfl] at c_1_1; exact (nI_eq (by omega) (by omega)).mp c_1_1)
    subst h1
    refine lv_aload_n hx hb dJ20_hashCode_32 rfl (lv_at hl 0 rfl) ?_
    refine lv_iconst (v := 0) hx hb dJ20_hashCode_33 (by decide) ?_
    refine b_bald hx hb hK (b_at (k := 0) hP rfl) 0 rfl (by omega) (by omega) dJ20_hashCode_34 ?_
    refine lv_sipush (v := 255) hx hb dJ20_hashCode_35 (by decide) ?_
    refine lv_iand hx hb dJ20_hashCode_38 ?_
    refine lv_goto (tgt := 51) hx hb dJ20_hashCode_39 (by decide) ?_
    exact b_iret hx hb hr hlocks hP hD hS (Nat.le_of_ble_eq_true rfl) (Nat.le_of_ble_eq_true rfl) ⟨(by first | rfl | (show _ = 31 * (0 : Int32) + (f 0 &&& 255); simp)), (by first | with_reducible rfl | (simp [c_1_0, c_1_1]; done) | rfl)⟩ dJ20_hashCode_51
  refine lv_lookup (tgt := 42) (off := 40) hx hb dJ20_hashCode_2 (by decide) (by rw [lv_osw c_1_0 (by decide), lv_osw c_1_1 (by decide)]; rfl) (by decide) ?_
  refine lv_aload_n hx hb dJ20_hashCode_42 rfl (lv_at hl 0 rfl) ?_
  refine lv_iconst (v := 0) hx hb dJ20_hashCode_43 (by decide) ?_
  refine lv_aload_n hx hb dJ20_hashCode_44 rfl (lv_at hl 0 rfl) ?_
  refine b_alen hx hb hK 1 (b_at (k := 0) hP rfl) rfl dJ20_hashCode_45 ?_
  refine lv_iconst (v := 0) hx hb dJ20_hashCode_46 (by decide) ?_
  refine lv_iconst (v := 4) hx hb dJ20_hashCode_47 (by decide) ?_
  refine b_calli (br := []) (b_runS ⟨hx, hb, hml, hown, hts⟩ (mt_vecHash l Γ _ v n f (by first | exact hn | omega)) (lw_S q1582 q1583 q82 q1584) rfl rfl 5 (by decide +kernel) ⟨(Nat.le_of_ble_eq_true rfl), (Nat.le_of_ble_eq_true rfl)⟩ (c_pre hP hD hS hA hK hE [0] rfl rfl ro_nil) rfl hl.1 rfl (Nat.le_of_ble_eq_true rfl) dJ20_hashCode_48 ⟨(Nat.le_of_ble_eq_true rfl), (Nat.le_of_ble_eq_true rfl)⟩) hP hD hS hA [0] [] rfl rfl rfl (fun r_2 u_2 H locs hw_2 hP hD hS _ => ?_)
  obtain ⟨rfl, rfl⟩ := hw_2
  have hP : WP Γ [[(v, .inl (Γ.2.1 1, n, .inl f))]] H := hP
  have hD : WD A [[(v, .inl (Γ.2.1 1, n, .inl f))]] := hD
  exact b_iret hx hb hr hlocks hP hD hS (Nat.le_of_ble_eq_true rfl) (Nat.le_of_ble_eq_true rfl) ⟨(by first | rfl | (show _ = 31 * (0 : Int32) + (f 0 &&& 255); simp)), (by first | with_reducible rfl | (simp [c_1_0, c_1_1]; done) | rfl)⟩ dJ20_hashCode_51
set_option maxHeartbeats 4000000 in
set_option maxRecDepth 100000 in
theorem mt_Str_hash (l : Launch) (Γ : GE) (sz : Nat) (a : Nat) (y : SST) (L : List Int32) (h0 : Int32) (z0 : Int32) (hst : stF y L) (hh : h0 = strH L ∨ h0 = 0 ∧ z0 = 0) : KM l yJ6_hashCode cJ6_hashCode 2 (some FieldType.int) Γ 3 69 0 0 [.ref a] [[(a, .inr (14, [.ref y.1, .int 0, .int h0, .int z0]))], [(y.1, .inl (Γ.2.1 1, L.length, .inl y.2))]] [] sz (Qi Γ (fun r_ u_ => ∃ h2 : Int32, ∃ z2 : Int32, (h2 = strH L ∨ h2 = 0 ∧ z2 = 0) ∧ r_ = (strH L) ∧ u_ = [[(a, .inr (14, [.ref y.1, .int 0, .int h2, .int z2]))], [(y.1, .inl (Γ.2.1 1, L.length, .inl y.2))]])) := by
  refine K_intro (by decide) (Nat.le_of_ble_eq_true rfl) ?_
  intro pr_ ev_ s mi_ below meth cd_ A ls hx hb hr hml hown hts hlocks hname hK hE hRo hP hD hA hS hsz hl
  have hl : lv_has ls 2 [(0, .ref a)] := hl
  have hown : s.vm.findClass RJ6 = some mi_.cls := hown
  refine lv_aload_n hx hb dJ6_hashCode_0 rfl (lv_at hl 0 rfl) ?_
  refine b_get (C := RJ6) (T := TJ6) (N := 4) (v := .int h0) hx hb hts in_J6 hown hK (b_at (k := 0) hP rfl) rfl 2 (by decide) q773 (fun _ h9 => h9) rfl dJ6_hashCode_1 ?_
  refine lv_istore_n (lv' := [(1, .int h0), (0, .ref a)]) hx hb dJ6_hashCode_4 rfl hl (by decide) rfl (fun ls hl => ?_)
  refine lv_iload_n hx hb dJ6_hashCode_5 rfl (lv_at hl 0 rfl) ?_
  refine lv_if_ne (tgt := 58) hx hb dJ6_hashCode_6 (by decide) (fun c_1 => ?_) (fun c_1 => ?_)
  · -- 6 taken
    have hfin : h0 = strH L := hh.resolve_right (fun z => c_1 z.1)
    refine lv_iload_n hx hb dJ6_hashCode_58 rfl (lv_at hl 0 rfl) ?_
    exact b_iret hx hb hr hlocks hP hD hS (Nat.le_of_ble_eq_true rfl) (Nat.le_of_ble_eq_true rfl) ⟨h0, z0, hh, (by first | exact hfin | rfl), rfl⟩ dJ6_hashCode_59
  · -- 6 not taken
    refine lv_aload_n hx hb dJ6_hashCode_9 rfl (lv_at hl 1 rfl) ?_
    refine b_get (C := RJ6) (T := TJ6) (N := 4) (v := .int z0) hx hb hts in_J6 hown hK (b_at (k := 0) hP rfl) rfl 3 (by decide) q774 (fun _ h9 => h9) rfl dJ6_hashCode_10 ?_
    refine lv_if_ne (tgt := 58) hx hb dJ6_hashCode_13 (by decide) (fun c_2 => ?_) (fun c_2 => ?_)
    · -- 13 taken
      have hfin : h0 = strH L := hh.resolve_right (fun z => c_2 z.2)
      refine lv_iload_n hx hb dJ6_hashCode_58 rfl (lv_at hl 0 rfl) ?_
      exact b_iret hx hb hr hlocks hP hD hS (Nat.le_of_ble_eq_true rfl) (Nat.le_of_ble_eq_true rfl) ⟨h0, z0, hh, (by first | exact hfin | rfl), rfl⟩ dJ6_hashCode_59
    · -- 13 not taken
      refine lv_aload_n hx hb dJ6_hashCode_16 rfl (lv_at hl 1 rfl) ?_
      refine b_calli (br := [[(a, .inr (14, [.ref y.1, .int 0, .int h0, .int z0]))], [(y.1, .inl (Γ.2.1 1, L.length, .inl y.2))]]) (b_runV ⟨hx, hb, hml, hown, hts⟩ (mt_Str_isLatin1_0 l Γ _ a y.1 h0 z0) (lw_V q1484 q1485 q1486 q71 q1487) rfl rfl 0 (by decide +kernel) ⟨(Nat.le_of_ble_eq_true rfl), (Nat.le_of_ble_eq_true rfl)⟩ (c_pre hP hD hS hA hK hE [] rfl rfl (ro_own (br := [[(a, .inr (14, [.ref y.1, .int 0, .int h0, .int z0]))]]) hP hD [] [0] rfl rfl rfl)) (recv_at (q := (RJ6, TJ6, 4)) hK (b_at (k := 0) hP rfl) rfl) rfl hl.1 rfl (Nat.le_of_ble_eq_true rfl) dJ6_hashCode_17 ⟨(Nat.le_of_ble_eq_true rfl), (Nat.le_of_ble_eq_true rfl)⟩) hP hD hS hA [] [0, 1] rfl rfl rfl (fun r_3 u_3 H locs hw_3 hP hD hS _ => ?_)
      obtain ⟨rfl, rfl⟩ := hw_3
      have hP : WP Γ [[(a, .inr (14, [.ref y.1, .int 0, .int h0, .int z0]))], [(y.1, .inl (Γ.2.1 1, L.length, .inl y.2))]] H := hP
      have hD : WD A [[(a, .inr (14, [.ref y.1, .int 0, .int h0, .int z0]))], [(y.1, .inl (Γ.2.1 1, L.length, .inl y.2))]] := hD
      refine lv_if_eq (tgt := 33) hx hb dJ6_hashCode_20 (by decide) (fun c_4 => ?_) (fun c_4 => ?_)
      · -- 20 taken
        have n_4 : 1 = 0 := (nI_eq (by omega) (by omega)).mp (show nI 1 = nI 0 from c_4)
        exact absurd n_4 (by omega)
      · -- 20 not taken
        have n_4 : ¬ (1 = 0) := fun h => c_4 ((nI_eq (a := 1) (b := 0) (by omega) (by omega)).mpr h)
        refine lv_aload_n hx hb dJ6_hashCode_23 rfl (lv_at hl 1 rfl) ?_
        refine b_get (C := RJ6) (T := TJ6) (N := 4) (v := .ref y.1) hx hb hts in_J6 hown hK (b_at (k := 0) hP rfl) rfl 0 (by decide) q771 (fun _ h9 => h9) rfl dJ6_hashCode_24 ?_
        refine b_calli (br := [[(a, .inr (14, [.ref y.1, .int 0, .int h0, .int z0]))]]) (b_runS ⟨hx, hb, hml, hown, hts⟩ (mt_LatHash l Γ _ y.1 L.length y.2 (by have h9 := hst.1; omega)) (lw_S q1579 q1580 q89 q1581) rfl rfl 1 (by decide +kernel) ⟨(Nat.le_of_ble_eq_true rfl), (Nat.le_of_ble_eq_true rfl)⟩ (c_pre hP hD hS hA hK hE [1] rfl rfl ro_nil) rfl hl.1 rfl (Nat.le_of_ble_eq_true rfl) dJ6_hashCode_27 ⟨(Nat.le_of_ble_eq_true rfl), (Nat.le_of_ble_eq_true rfl)⟩) hP hD hS hA [1] [0] rfl rfl rfl (fun r_5 u_5 H locs hw_5 hP hD hS _ => ?_)
        obtain ⟨rfl, rfl⟩ := hw_5
        have hP : WP Γ [[(y.1, .inl (Γ.2.1 1, L.length, .inl y.2))], [(a, .inr (14, [.ref y.1, .int 0, .int h0, .int z0]))]] H := hP
        have hD : WD A [[(y.1, .inl (Γ.2.1 1, L.length, .inl y.2))], [(a, .inr (14, [.ref y.1, .int 0, .int h0, .int z0]))]] := hD
        refine b_top (show (hsF y.2 L.length) = strH L from stF_hash hst) ?_
        refine lv_goto (tgt := 40) hx hb dJ6_hashCode_30 (by decide) ?_
        refine lv_istore_n (lv' := [(1, .int (strH L)), (0, .ref a)]) hx hb dJ6_hashCode_40 rfl hl (by decide) rfl (fun ls hl => ?_)
        refine lv_iload_n hx hb dJ6_hashCode_41 rfl (lv_at hl 0 rfl) ?_
        refine lv_if_ne (tgt := 53) hx hb dJ6_hashCode_42 (by decide) (fun c_6 => ?_) (fun c_6 => ?_)
        · -- 42 taken
          refine lv_aload_n hx hb dJ6_hashCode_53 rfl (lv_at hl 1 rfl) ?_
          refine lv_iload_n hx hb dJ6_hashCode_54 rfl (lv_at hl 0 rfl) ?_
          refine b_put (C := RJ6) (T := TJ6) (N := 4) (ty := .int) (v := .int (strH L)) hx hb hts in_J6 tyJ6_ok nmJ6 hown hK hP hD hS 1 rfl rfl 2 (by decide) q773 (fun _ h9 => h9) rfl (by decide +kernel) rfl rfl (Nat.le_of_ble_eq_true rfl) dJ6_hashCode_55 (fun H locs hP hD hS => ?_)
          have hP : WP Γ [[(y.1, .inl (Γ.2.1 1, L.length, .inl y.2))], [(a, .inr (14, [.ref y.1, .int 0, .int (strH L), .int z0]))]] H := hP
          have hD : WD A [[(y.1, .inl (Γ.2.1 1, L.length, .inl y.2))], [(a, .inr (14, [.ref y.1, .int 0, .int (strH L), .int z0]))]] := hD
          have hfin : strH L = strH L := rfl
          refine lv_iload_n hx hb dJ6_hashCode_58 rfl (lv_at hl 0 rfl) ?_
          have hP : WP Γ [[(a, .inr (14, [.ref y.1, .int 0, .int (strH L), .int z0]))], [(y.1, .inl (Γ.2.1 1, L.length, .inl y.2))]] H := bP_sel hP [1, 0] rfl
          have hD : WD A [[(a, .inr (14, [.ref y.1, .int 0, .int (strH L), .int z0]))], [(y.1, .inl (Γ.2.1 1, L.length, .inl y.2))]] := bD_sel hD [1, 0] rfl rfl
          exact b_iret hx hb hr hlocks hP hD hS (Nat.le_of_ble_eq_true rfl) (Nat.le_of_ble_eq_true rfl) ⟨(strH L), z0, (Or.inl rfl), (by first | exact hfin | rfl), rfl⟩ dJ6_hashCode_59
        · -- 42 not taken
          refine lv_aload_n hx hb dJ6_hashCode_45 rfl (lv_at hl 1 rfl) ?_
          refine lv_iconst (v := 1) hx hb dJ6_hashCode_46 (by decide) ?_
          refine b_put (C := RJ6) (T := TJ6) (N := 4) (ty := .boolean) (v := .int 1) hx hb hts in_J6 tyJ6_ok nmJ6 hown hK hP hD hS 1 rfl rfl 3 (by decide) q774 (fun _ h9 => h9) rfl (by decide +kernel) rfl rfl (Nat.le_of_ble_eq_true rfl) dJ6_hashCode_47 (fun H locs hP hD hS => ?_)
          have hP : WP Γ [[(y.1, .inl (Γ.2.1 1, L.length, .inl y.2))], [(a, .inr (14, [.ref y.1, .int 0, .int h0, .int 1]))]] H := hP
          have hD : WD A [[(y.1, .inl (Γ.2.1 1, L.length, .inl y.2))], [(a, .inr (14, [.ref y.1, .int 0, .int h0, .int 1]))]] := hD
          refine lv_goto (tgt := 58) hx hb dJ6_hashCode_50 (by decide) ?_
          have hfin : strH L = strH L := rfl
          refine lv_iload_n hx hb dJ6_hashCode_58 rfl (lv_at hl 0 rfl) ?_
          have hP : WP Γ [[(a, .inr (14, [.ref y.1, .int 0, .int h0, .int 1]))], [(y.1, .inl (Γ.2.1 1, L.length, .inl y.2))]] H := bP_sel hP [1, 0] rfl
          have hD : WD A [[(a, .inr (14, [.ref y.1, .int 0, .int h0, .int 1]))], [(y.1, .inl (Γ.2.1 1, L.length, .inl y.2))]] := bD_sel hD [1, 0] rfl rfl
          exact b_iret hx hb hr hlocks hP hD hS (Nat.le_of_ble_eq_true rfl) (Nat.le_of_ble_eq_true rfl) ⟨h0, 1, (Or.inl (by rw [c_1, show strH L = 0 from c_6])), (by first | exact hfin | rfl), rfl⟩ dJ6_hashCode_59
set_option maxHeartbeats 4000000 in
set_option maxRecDepth 100000 in
theorem mt_LatEq_yes (l : Launch) (Γ : GE) (sz : Nat) (v : Nat) (n : Nat) (f : Nat → Int32) (i : Nat) (hi : i < nStr) (he : n = (str_by i).length ∧ ∀ j, j < n → f j = (str_by i).getD j 0) (hn : n ≤ 2048) : KM l yJ20_equals cJ20_equals 3 (some FieldType.boolean) Γ 0 0 0 0 [.ref v, .ref (adV Γ i)] [] [[(v, .inl (Γ.2.1 1, n, .inl f))], [((adV Γ i), .inl (Γ.2.1 1, (str_by i).length, .inl (fun j => (str_by i).getD j 0)))]] sz (Qi Γ (fun r_ u_ => r_ = 1 ∧ u_ = [])) := by
  refine K_intro (by decide) (Nat.le_of_ble_eq_true rfl) ?_
  intro pr_ ev_ s mi_ below meth cd_ A ls hx hb hr hml hown hts hlocks hname hK hE hRo hP hD hA hS hsz hl
  have hl : lv_has ls 3 [(0, .ref v), (1, .ref (adV Γ i))] := hl
  have hown : s.vm.findClass RJ20 = some mi_.cls := hown
  have hsl := str_len i hi
  refine lv_aload_n hx hb dJ20_equals_0 rfl (lv_at hl 0 rfl) ?_
  refine b_alenR hx hb hK (hRo (v, .inl (Γ.2.1 1, n, .inl f)) (by simp)) hS dJ20_equals_1 ?_
  refine lv_aload_n hx hb dJ20_equals_2 rfl (lv_at hl 1 rfl) ?_
  refine b_alenR hx hb hK (hRo ((adV Γ i), .inl (Γ.2.1 1, (str_by i).length, .inl (fun j => (str_by i).getD j 0))) (by simp)) hS dJ20_equals_3 ?_
  refine lv_icmp_ne (tgt := 34) hx hb dJ20_equals_4 (by decide) (fun c_1 => ?_) (fun c_1 => ?_)
  · -- 4 taken
    have n_1 : ¬ (n = (str_by i).length) := fun h => c_1 ((nI_eq (a := n) (b := (str_by i).length) (by omega) (by omega)).mpr h)
    exfalso; omega
  · -- 4 not taken
    have n_1 : n = (str_by i).length := (nI_eq (by omega) (by omega)).mp (show nI n = nI (str_by i).length from c_1)
    refine lv_iconst (v := 0) hx hb dJ20_equals_7 (by decide) ?_
    refine lv_istore_n (lv' := [(2, .int 0), (0, .ref v), (1, .ref (adV Γ i))]) hx hb dJ20_equals_8 rfl hl (by decide) rfl (fun ls hl => ?_)
    have loop_2 : ∀ (fuel : Nat) (j : Nat), n - j < fuel → (j ≤ n) → (∀ q, q < j → f q = (str_by i).getD q 0) → ∀ (H : Heap) (locs : List Loc) (ls : Array Slot), WP Γ [] H → WD A [] → va_S A s.heap H locs → lv_has ls 3 [(2, .int (nI j)), (0, .ref v), (1, .ref (adV Γ i))] → W pr_ l ev_ { frames := 0, cells := 0, slots := 0, locals := 0 } s mi_ ([.ref v, .ref (adV Γ i)] : List Value).toArray below meth cd_ H locs 0 0 (MQ below (Qi Γ (fun r_ u_ => r_ = 1 ∧ u_ = []) A) ([.ref v, .ref (adV Γ i)] : List Value).toArray s 0 0 A) (F0 mi_ 9 ls ([])) := by
      intro fuel
      induction fuel with
      | zero => intro j hfuel; exact absurd hfuel (Nat.not_lt_zero _)
      | succ fuel ih =>
        intro j hfuel hj hI H locs ls hP hD hS hl
        refine lv_iload_n hx hb dJ20_equals_9 rfl (lv_at hl 0 rfl) ?_
        refine lv_aload_n hx hb dJ20_equals_10 rfl (lv_at hl 1 rfl) ?_
        refine b_alenR hx hb hK (hRo (v, .inl (Γ.2.1 1, n, .inl f)) (by simp)) hS dJ20_equals_11 ?_
        refine lv_icmp_ge (tgt := 32) hx hb dJ20_equals_12 (by decide) (fun c_3 => ?_) (fun c_3 => ?_)
        · -- 12 taken
          have n_3 : n ≤ j := (nI_leI (by omega) (by omega)).mp (show nI n ≤ nI j from c_3)
          have m_3 : ¬ (j < n) := by omega
          have d_3 := Int32.not_lt.mpr c_3
          refine lv_iconst (v := 1) hx hb dJ20_equals_32 (by decide) ?_
          exact b_zret hx hb hr hlocks hP hD hS (Nat.le_of_ble_eq_true rfl) (Nat.le_of_ble_eq_true rfl) rfl ⟨(by first | with_reducible rfl | (simp [n_1, n_3, m_3, d_3]; done) | rfl), (by first | with_reducible rfl | (simp [n_1, n_3, m_3, d_3]; done) | rfl)⟩ dJ20_equals_33
        · -- 12 not taken
          have n_3 : ¬ (n ≤ j) := fun h => c_3 ((nI_leI (a := n) (b := j) (by omega) (by omega)).mpr h)
          have m_3 : j < n := by omega
          have d_3 := Int32.not_le.mp c_3
          refine lv_aload_n hx hb dJ20_equals_15 rfl (lv_at hl 1 rfl) ?_
          refine lv_iload_n hx hb dJ20_equals_16 rfl (lv_at hl 0 rfl) ?_
          refine b_baldR hx hb hK (hRo (v, .inl (Γ.2.1 1, n, .inl f)) (by simp)) hS j rfl (by omega) (by omega) dJ20_equals_17 ?_
          refine lv_aload_n hx hb dJ20_equals_18 rfl (lv_at hl 2 rfl) ?_
          refine lv_iload_n hx hb dJ20_equals_19 rfl (lv_at hl 0 rfl) ?_
          refine b_baldR hx hb hK (hRo ((adV Γ i), .inl (Γ.2.1 1, (str_by i).length, .inl (fun j => (str_by i).getD j 0))) (by simp)) hS j rfl (by omega) (by omega) dJ20_equals_20 ?_
          refine lv_icmp_eq (tgt := 26) hx hb dJ20_equals_21 (by decide) (fun c_4 => ?_) (fun c_4 => ?_)
          · -- 21 taken
            refine lv_iinc (v := (nI (j + 1))) (lv' := [(2, .int (nI (j + 1))), (0, .ref v), (1, .ref (adV Γ i))]) hx hb dJ20_equals_26 hl (k := 0) rfl (nI_addE (a := j) (b := 1) (c := j + 1) rfl rfl (by first | omega | rfl)) (by decide) rfl (fun ls hl => ?_)
            refine lv_goto (tgt := 9) hx hb dJ20_equals_29 (by decide) ?_
            exact ih (j + 1) (by omega) (by omega) (fun q hq => by rcases Nat.lt_or_ge q j with h9 | h9; exact hI q h9; rw [show q = j by omega]; assumption) _ _ _ hP hD hS (lv_sub hl [0, 1, 2] rfl)
          · -- 21 not taken
            exact absurd (he.2 j (by omega)) c_4
    exact loop_2 ((n - 0) + 1) 0 (Nat.lt_succ_self _) (Nat.zero_le _) (fun q hq => absurd hq (Nat.not_lt_zero q)) _ _ _ hP hD hS (lv_sub hl [0, 1, 2] rfl)
set_option maxHeartbeats 4000000 in
set_option maxRecDepth 100000 in
theorem mt_LatEq_no (l : Launch) (Γ : GE) (sz : Nat) (v : Nat) (n : Nat) (f : Nat → Int32) (i : Nat) (hi : i < nStr) (he : ¬ (n = (str_by i).length ∧ ∀ j, j < n → f j = (str_by i).getD j 0)) (hn : n ≤ 2048) : KM l yJ20_equals cJ20_equals 3 (some FieldType.boolean) Γ 0 0 0 0 [.ref v, .ref (adV Γ i)] [] [[(v, .inl (Γ.2.1 1, n, .inl f))], [((adV Γ i), .inl (Γ.2.1 1, (str_by i).length, .inl (fun j => (str_by i).getD j 0)))]] sz (Qi Γ (fun r_ u_ => r_ = 0 ∧ u_ = [])) := by
  refine K_intro (by decide) (Nat.le_of_ble_eq_true rfl) ?_
  intro pr_ ev_ s mi_ below meth cd_ A ls hx hb hr hml hown hts hlocks hname hK hE hRo hP hD hA hS hsz hl
  have hl : lv_has ls 3 [(0, .ref v), (1, .ref (adV Γ i))] := hl
  have hown : s.vm.findClass RJ20 = some mi_.cls := hown
  have hsl := str_len i hi
  refine lv_aload_n hx hb dJ20_equals_0 rfl (lv_at hl 0 rfl) ?_
  refine b_alenR hx hb hK (hRo (v, .inl (Γ.2.1 1, n, .inl f)) (by simp)) hS dJ20_equals_1 ?_
  refine lv_aload_n hx hb dJ20_equals_2 rfl (lv_at hl 1 rfl) ?_
  refine b_alenR hx hb hK (hRo ((adV Γ i), .inl (Γ.2.1 1, (str_by i).length, .inl (fun j => (str_by i).getD j 0))) (by simp)) hS dJ20_equals_3 ?_
  refine lv_icmp_ne (tgt := 34) hx hb dJ20_equals_4 (by decide) (fun c_1 => ?_) (fun c_1 => ?_)
  · -- 4 taken
    have n_1 : ¬ (n = (str_by i).length) := fun h => c_1 ((nI_eq (a := n) (b := (str_by i).length) (by omega) (by omega)).mpr h)
    refine lv_iconst (v := 0) hx hb dJ20_equals_34 (by decide) ?_
    exact b_zret hx hb hr hlocks hP hD hS (Nat.le_of_ble_eq_true rfl) (Nat.le_of_ble_eq_true rfl) rfl ⟨(by first | with_reducible rfl | (simp [n_1]; done) | rfl), (by first | with_reducible rfl | (simp [n_1]; done) | rfl)⟩ dJ20_equals_35
  · -- 4 not taken
    have n_1 : n = (str_by i).length := (nI_eq (by omega) (by omega)).mp (show nI n = nI (str_by i).length from c_1)
    refine lv_iconst (v := 0) hx hb dJ20_equals_7 (by decide) ?_
    refine lv_istore_n (lv' := [(2, .int 0), (0, .ref v), (1, .ref (adV Γ i))]) hx hb dJ20_equals_8 rfl hl (by decide) rfl (fun ls hl => ?_)
    have loop_2 : ∀ (fuel : Nat) (j : Nat), n - j < fuel → (j ≤ n) → (∀ q, q < j → f q = (str_by i).getD q 0) → ∀ (H : Heap) (locs : List Loc) (ls : Array Slot), WP Γ [] H → WD A [] → va_S A s.heap H locs → lv_has ls 3 [(2, .int (nI j)), (0, .ref v), (1, .ref (adV Γ i))] → W pr_ l ev_ { frames := 0, cells := 0, slots := 0, locals := 0 } s mi_ ([.ref v, .ref (adV Γ i)] : List Value).toArray below meth cd_ H locs 0 0 (MQ below (Qi Γ (fun r_ u_ => r_ = 0 ∧ u_ = []) A) ([.ref v, .ref (adV Γ i)] : List Value).toArray s 0 0 A) (F0 mi_ 9 ls ([])) := by
      intro fuel
      induction fuel with
      | zero => intro j hfuel; exact absurd hfuel (Nat.not_lt_zero _)
      | succ fuel ih =>
        intro j hfuel hj hI H locs ls hP hD hS hl
        refine lv_iload_n hx hb dJ20_equals_9 rfl (lv_at hl 0 rfl) ?_
        refine lv_aload_n hx hb dJ20_equals_10 rfl (lv_at hl 1 rfl) ?_
        refine b_alenR hx hb hK (hRo (v, .inl (Γ.2.1 1, n, .inl f)) (by simp)) hS dJ20_equals_11 ?_
        refine lv_icmp_ge (tgt := 32) hx hb dJ20_equals_12 (by decide) (fun c_3 => ?_) (fun c_3 => ?_)
        · -- 12 taken
          have n_3 : n ≤ j := (nI_leI (by omega) (by omega)).mp (show nI n ≤ nI j from c_3)
          have m_3 : ¬ (j < n) := by omega
          have d_3 := Int32.not_lt.mpr c_3
          exact absurd ⟨by omega, fun q hq => hI q (by omega)⟩ he
        · -- 12 not taken
          have n_3 : ¬ (n ≤ j) := fun h => c_3 ((nI_leI (a := n) (b := j) (by omega) (by omega)).mpr h)
          have m_3 : j < n := by omega
          have d_3 := Int32.not_le.mp c_3
          refine lv_aload_n hx hb dJ20_equals_15 rfl (lv_at hl 1 rfl) ?_
          refine lv_iload_n hx hb dJ20_equals_16 rfl (lv_at hl 0 rfl) ?_
          refine b_baldR hx hb hK (hRo (v, .inl (Γ.2.1 1, n, .inl f)) (by simp)) hS j rfl (by omega) (by omega) dJ20_equals_17 ?_
          refine lv_aload_n hx hb dJ20_equals_18 rfl (lv_at hl 2 rfl) ?_
          refine lv_iload_n hx hb dJ20_equals_19 rfl (lv_at hl 0 rfl) ?_
          refine b_baldR hx hb hK (hRo ((adV Γ i), .inl (Γ.2.1 1, (str_by i).length, .inl (fun j => (str_by i).getD j 0))) (by simp)) hS j rfl (by omega) (by omega) dJ20_equals_20 ?_
          refine lv_icmp_eq (tgt := 26) hx hb dJ20_equals_21 (by decide) (fun c_4 => ?_) (fun c_4 => ?_)
          · -- 21 taken
            refine lv_iinc (v := (nI (j + 1))) (lv' := [(2, .int (nI (j + 1))), (0, .ref v), (1, .ref (adV Γ i))]) hx hb dJ20_equals_26 hl (k := 0) rfl (nI_addE (a := j) (b := 1) (c := j + 1) rfl rfl (by first | omega | rfl)) (by decide) rfl (fun ls hl => ?_)
            refine lv_goto (tgt := 9) hx hb dJ20_equals_29 (by decide) ?_
            exact ih (j + 1) (by omega) (by omega) (fun q hq => by rcases Nat.lt_or_ge q j with h9 | h9; exact hI q h9; rw [show q = j by omega]; assumption) _ _ _ hP hD hS (lv_sub hl [0, 1, 2] rfl)
          · -- 21 not taken
            refine lv_iconst (v := 0) hx hb dJ20_equals_24 (by decide) ?_
            exact b_zret hx hb hr hlocks hP hD hS (Nat.le_of_ble_eq_true rfl) (Nat.le_of_ble_eq_true rfl) rfl ⟨(by first | with_reducible rfl | (simp [n_1, n_3, m_3, d_3, c_4]; done) | rfl), (by first | with_reducible rfl | (simp [n_1, n_3, m_3, d_3, c_4]; done) | rfl)⟩ dJ20_equals_25
    exact loop_2 ((n - 0) + 1) 0 (Nat.lt_succ_self _) (Nat.zero_le _) (fun q hq => absurd hq (Nat.not_lt_zero q)) _ _ _ hP hD hS (lv_sub hl [0, 1, 2] rfl)
theorem ne_const {Γ : GE} {A : Nat → Prop} {s : State} {i a : Nat} {B : va_W} {bs : BW} (hE : EN Γ A s) (hi : i < nStr) (hD : WD A bs) (hB : B ∈ bs) {e : va_E} (ha : (a, e) ∈ B) : ¬ a = adK Γ i := by
  intro h
  obtain ⟨cell, -, -, -, hn⟩ := (hE.2.1.2.2.2.1 i hi).1
  exact hn (h ▸ (bD_iff.mp hD).2 (a, e) (List.mem_flatten.mpr ⟨B, hB, ha⟩))
theorem lc_lit : ∀ i, i < nStr → ∀ c ∈ str_by i, lc c = c ∧ fits .byte (.int c) = true := by decide +kernel
theorem lc_inj {a b : Int32} (ha : fits .byte (.int a) = true) (hb : fits .byte (.int b) = true) (h : lc a = lc b) : a = b := by
  rw [lc_and a ha, lc_and b hb] at h
  have h1 := (Bool.and_eq_true _ _).mp ha
  have h2 := (Bool.and_eq_true _ _).mp hb
  have a1 := of_decide_eq_true h1.1
  have a2 := of_decide_eq_true h1.2
  have b1 := of_decide_eq_true h2.1
  have b2 := of_decide_eq_true h2.2
  rw [pk_and a 8 (m := 255) (by decide), pk_and b 8 (m := 255) (by decide)] at h
  have h3 : a.toBitVec.toNat % 2 ^ 8 = b.toBitVec.toNat % 2 ^ 8 := by
    have h4 : (nI (a.toBitVec.toNat % 2 ^ 8)).toBitVec.toNat = (nI (b.toBitVec.toNat % 2 ^ 8)).toBitVec.toNat := by rw [h]
    rw [pk_tn (by omega), pk_tn (by omega)] at h4
    exact h4
  apply Int32.toInt_inj.mp
  rw [Int32.le_iff_toInt_le] at a1 a2 b1 b2
  have e1 : a.toInt = a.toBitVec.toInt := rfl
  have e2 : b.toInt = b.toBitVec.toInt := rfl
  rw [BitVec.toInt_eq_toNat_cond] at e1 e2
  have c1 : (-128 : Int32).toInt = -128 := by decide
  have c2 : (127 : Int32).toInt = 127 := by decide
  rw [c1] at a1 b1
  rw [c2] at a2 b2
  have d1 := a.toBitVec.isLt
  have d2 := b.toBitVec.isLt
  split at e1 <;> split at e2 <;> omega
theorem str_lcb (i : Nat) (hi : i < nStr) (b : Int32) (j : Nat) (hf : fits .byte (.int b) = true) (h : lc b = (str_by i).getD j 0) : b = (str_by i).getD j 0 := by
  have hc : lc ((str_by i).getD j 0) = (str_by i).getD j 0 ∧ fits .byte (.int ((str_by i).getD j 0)) = true := by
    rw [List.getD_eq_getElem?_getD]
    cases e : (str_by i)[j]? with
    | none => exact ⟨by decide, by decide⟩
    | some c => exact lc_lit i hi c (List.mem_of_getElem? e)
  exact lc_inj hf hc.2 (h.trans hc.1.symm)
theorem str_eqb (i : Nat) (hi : i < nStr) {y : SST} {L : List Int32} (hst : stF y L) (hl : L.length = (str_by i).length) (h : ∀ j, j < L.length → y.2 j = (str_by i).getD j 0) : L = str_by i := by
  apply List.ext_getElem hl
  intro j h1 h2
  have e1 := hst.2.2 j h1
  rw [h j h1, List.getD_eq_getElem?_getD, List.getD_eq_getElem?_getD, List.getElem?_eq_getElem h1, List.getElem?_eq_getElem h2] at e1
  simp only [Option.getD_some] at e1
  rw [← e1]
  exact (lc_lit i hi _ (List.getElem_mem h2)).1
set_option maxHeartbeats 4000000 in
set_option maxRecDepth 100000 in
theorem mt_Str_eq_yes (l : Launch) (Γ : GE) (sz : Nat) (a : Nat) (y : SST) (L : List Int32) (h0 : Int32) (z0 : Int32) (i : Nat) (hst : stF y L) (hi : i < nStr) (he : L = str_by i) : KM l yJ6_equals cJ6_equals 3 (some FieldType.boolean) Γ 1 22 0 0 [.ref a, .ref (adK Γ i)] [[(a, .inr (14, [.ref y.1, .int 0, .int h0, .int z0]))], [(y.1, .inl (Γ.2.1 1, L.length, .inl y.2))]] [[((adK Γ i), .inr (14, [.ref (adV Γ i), .int 0, .int 0, .int 0]))], [((adV Γ i), .inl (Γ.2.1 1, (str_by i).length, .inl (fun j => (str_by i).getD j 0)))]] sz (Qi Γ (fun r_ u_ => r_ = 1 ∧ u_ = [[(a, .inr (14, [.ref y.1, .int 0, .int h0, .int z0]))], [(y.1, .inl (Γ.2.1 1, L.length, .inl y.2))]])) := by
  refine K_intro (by decide) (Nat.le_of_ble_eq_true rfl) ?_
  intro pr_ ev_ s mi_ below meth cd_ A ls hx hb hr hml hown hts hlocks hname hK hE hRo hP hD hA hS hsz hl
  have hl : lv_has ls 3 [(0, .ref a), (1, .ref (adK Γ i))] := hl
  have hown : s.vm.findClass RJ6 = some mi_.cls := hown
  refine lv_aload_n hx hb dJ6_equals_0 rfl (lv_at hl 0 rfl) ?_
  refine lv_aload_n hx hb dJ6_equals_1 rfl (lv_at hl 1 rfl) ?_
  refine lv_acmp_ne (rx := (some a)) (ry := (some (adK Γ i))) (tgt := 7) hx hb dJ6_equals_2 (by decide) (fun c_1 => ?_) (fun c_1 => ?_)
  · -- 2 taken
    refine lv_aload_n hx hb dJ6_equals_7 rfl (lv_at hl 1 rfl) ?_
    refine va_instS hx hb hown (hts _ q1637) (hK.1 14 _ rfl).2 (recv_ro hK ((hRo (strO Γ i) (by simp)).keep hS (fun _ h => h))) dJ6_equals_8 ?_
    refine lv_if_eq (tgt := 54) hx hb dJ6_equals_11 (by decide) (fun c_2 => ?_) (fun c_2 => ?_)
    · -- 11 taken
      have n_2 : 1 = 0 := (nI_eq (by omega) (by omega)).mp (show nI 1 = nI 0 from c_2)
      exact absurd n_2 (by omega)
    · -- 11 not taken
      have n_2 : ¬ (1 = 0) := fun h => c_2 ((nI_eq (a := 1) (b := 0) (by omega) (by omega)).mpr h)
      refine lv_aload_n hx hb dJ6_equals_14 rfl (lv_at hl 1 rfl) ?_
      refine va_castS hx hb hown (hts _ q1637) (hK.1 14 _ rfl).2 (recv_ro hK ((hRo (strO Γ i) (by simp)).keep hS (fun _ h => h))) dJ6_equals_15 ?_
      refine lv_astore_n (lv' := [(2, .ref (adK Γ i)), (0, .ref a), (1, .ref (adK Γ i))]) hx hb dJ6_equals_18 rfl hl (by decide) rfl (fun ls hl => ?_)
      refine va_gets (C := "java/lang/String") (n := "COMPACT_STRINGS") (d := "Z") hx hb hE.compact hS hown (hts _ q673) (fun _ h9 => h9) dJ6_equals_19 ?_
      refine lv_if_eq (tgt := 36) hx hb dJ6_equals_22 (by decide) (fun c_3 => ?_) (fun c_3 => ?_)
      · -- 22 taken
        have n_3 : 1 = 0 := (nI_eq (by omega) (by omega)).mp (show nI 1 = nI 0 from c_3)
        exact absurd n_3 (by omega)
      · -- 22 not taken
        have n_3 : ¬ (1 = 0) := fun h => c_3 ((nI_eq (a := 1) (b := 0) (by omega) (by omega)).mpr h)
        refine lv_aload_n hx hb dJ6_equals_25 rfl (lv_at hl 1 rfl) ?_
        refine b_get (C := RJ6) (T := TJ6) (N := 4) (v := .int 0) hx hb hts in_J6 hown hK (b_at (k := 0) hP rfl) rfl 1 (by decide) q772 (fun _ h9 => h9) rfl dJ6_equals_26 ?_
        refine lv_aload_n hx hb dJ6_equals_29 rfl (lv_at hl 0 rfl) ?_
        refine b_getS (v := .int 0) hx hb hts hown hK (hRo ((adK Γ i), .inr (14, [.ref (adV Γ i), .int 0, .int 0, .int 0])) (by simp)) hS 1 (by decide) q772 rfl dJ6_equals_30 ?_
        refine lv_icmp_ne (tgt := 54) hx hb dJ6_equals_33 (by decide) (fun c_4 => ?_) (fun c_4 => ?_)
        · -- 33 taken
          have n_4 : ¬ (0 = 0) := fun h => c_4 ((nI_eq (a := 0) (b := 0) (by omega) (by omega)).mpr h)
          exact absurd n_4 (by omega)
        · -- 33 not taken
          have n_4 : 0 = 0 := (nI_eq (by omega) (by omega)).mp (show nI 0 = nI 0 from c_4)
          refine lv_aload_n hx hb dJ6_equals_36 rfl (lv_at hl 1 rfl) ?_
          refine b_get (C := RJ6) (T := TJ6) (N := 4) (v := .ref y.1) hx hb hts in_J6 hown hK (b_at (k := 0) hP rfl) rfl 0 (by decide) q771 (fun _ h9 => h9) rfl dJ6_equals_37 ?_
          refine lv_aload_n hx hb dJ6_equals_40 rfl (lv_at hl 0 rfl) ?_
          refine b_getS (v := .ref (adV Γ i)) hx hb hts hown hK (hRo ((adK Γ i), .inr (14, [.ref (adV Γ i), .int 0, .int 0, .int 0])) (by simp)) hS 0 (by decide) q771 rfl dJ6_equals_41 ?_
          refine b_calli (br := [[(a, .inr (14, [.ref y.1, .int 0, .int h0, .int z0]))], [(y.1, .inl (Γ.2.1 1, L.length, .inl y.2))]]) (b_runS ⟨hx, hb, hml, hown, hts⟩ (mt_LatEq_yes l Γ _ y.1 L.length y.2 i (by first | exact hi | omega) (⟨by rw [he], fun j hj => by have h9 := hst.2.2 j hj; rw [he] at h9; exact str_lcb i hi _ _ (hst.2.1 j) h9⟩) (by have h9 := hst.1; omega)) (lw_S q1638 q1639 q89 q1640) rfl rfl 2 (by decide +kernel) ⟨(Nat.le_of_ble_eq_true rfl), (Nat.le_of_ble_eq_true rfl)⟩ (c_pre hP hD hS hA hK hE [] rfl rfl (ro_app (ro_own (br := [[(y.1, .inl (Γ.2.1 1, L.length, .inl y.2))]]) hP hD [] [1] rfl rfl rfl) (ro_pass (ro_sel (ro2 := [[((adV Γ i), .inl (Γ.2.1 1, (str_by i).length, .inl (fun j => (str_by i).getD j 0)))]]) hRo [1] rfl) hD hS hA [] rfl))) rfl hl.1 rfl (Nat.le_of_ble_eq_true rfl) dJ6_equals_44 ⟨(Nat.le_of_ble_eq_true rfl), (Nat.le_of_ble_eq_true rfl)⟩) hP hD hS hA [] [0, 1] rfl rfl rfl (fun r_5 u_5 H locs hw_5 hP hD hS _ => ?_)
          obtain ⟨rfl, rfl⟩ := hw_5
          have hP : WP Γ [[(a, .inr (14, [.ref y.1, .int 0, .int h0, .int z0]))], [(y.1, .inl (Γ.2.1 1, L.length, .inl y.2))]] H := hP
          have hD : WD A [[(a, .inr (14, [.ref y.1, .int 0, .int h0, .int z0]))], [(y.1, .inl (Γ.2.1 1, L.length, .inl y.2))]] := hD
          refine lv_if_eq (tgt := 54) hx hb dJ6_equals_47 (by decide) (fun c_6 => ?_) (fun c_6 => ?_)
          · -- 47 taken
            have n_6 : 1 = 0 := (nI_eq (by omega) (by omega)).mp (show nI 1 = nI 0 from c_6)
            exact absurd n_6 (by omega)
          · -- 47 not taken
            have n_6 : ¬ (1 = 0) := fun h => c_6 ((nI_eq (a := 1) (b := 0) (by omega) (by omega)).mpr h)
            refine lv_iconst (v := 1) hx hb dJ6_equals_50 (by decide) ?_
            refine lv_goto (tgt := 55) hx hb dJ6_equals_51 (by decide) ?_
            exact b_zret hx hb hr hlocks hP hD hS (Nat.le_of_ble_eq_true rfl) (Nat.le_of_ble_eq_true rfl) rfl ⟨(by first | with_reducible rfl | (simp [c_1, n_2, n_3, n_4, n_6]; done) | rfl), (by first | with_reducible rfl | (simp [c_1, n_2, n_3, n_4, n_6]; done) | rfl)⟩ dJ6_equals_55
  · -- 2 not taken
    exact absurd (Option.some.inj c_1) (ne_const (B := [(a, .inr (14, [.ref y.1, .int 0, .int h0, .int z0]))]) hE hi hD (by simp) (List.mem_singleton.mpr rfl))
set_option maxHeartbeats 4000000 in
set_option maxRecDepth 100000 in
theorem mt_Str_eq_no (l : Launch) (Γ : GE) (sz : Nat) (a : Nat) (y : SST) (L : List Int32) (h0 : Int32) (z0 : Int32) (i : Nat) (hst : stF y L) (hi : i < nStr) (he : ¬ L = str_by i) : KM l yJ6_equals cJ6_equals 3 (some FieldType.boolean) Γ 1 22 0 0 [.ref a, .ref (adK Γ i)] [[(a, .inr (14, [.ref y.1, .int 0, .int h0, .int z0]))], [(y.1, .inl (Γ.2.1 1, L.length, .inl y.2))]] [[((adK Γ i), .inr (14, [.ref (adV Γ i), .int 0, .int 0, .int 0]))], [((adV Γ i), .inl (Γ.2.1 1, (str_by i).length, .inl (fun j => (str_by i).getD j 0)))]] sz (Qi Γ (fun r_ u_ => r_ = 0 ∧ u_ = [[(a, .inr (14, [.ref y.1, .int 0, .int h0, .int z0]))], [(y.1, .inl (Γ.2.1 1, L.length, .inl y.2))]])) := by
  refine K_intro (by decide) (Nat.le_of_ble_eq_true rfl) ?_
  intro pr_ ev_ s mi_ below meth cd_ A ls hx hb hr hml hown hts hlocks hname hK hE hRo hP hD hA hS hsz hl
  have hl : lv_has ls 3 [(0, .ref a), (1, .ref (adK Γ i))] := hl
  have hown : s.vm.findClass RJ6 = some mi_.cls := hown
  refine lv_aload_n hx hb dJ6_equals_0 rfl (lv_at hl 0 rfl) ?_
  refine lv_aload_n hx hb dJ6_equals_1 rfl (lv_at hl 1 rfl) ?_
  refine lv_acmp_ne (rx := (some a)) (ry := (some (adK Γ i))) (tgt := 7) hx hb dJ6_equals_2 (by decide) (fun c_1 => ?_) (fun c_1 => ?_)
  · -- 2 taken
    refine lv_aload_n hx hb dJ6_equals_7 rfl (lv_at hl 1 rfl) ?_
    refine va_instS hx hb hown (hts _ q1637) (hK.1 14 _ rfl).2 (recv_ro hK ((hRo (strO Γ i) (by simp)).keep hS (fun _ h => h))) dJ6_equals_8 ?_
    refine lv_if_eq (tgt := 54) hx hb dJ6_equals_11 (by decide) (fun c_2 => ?_) (fun c_2 => ?_)
    · -- 11 taken
      have n_2 : 1 = 0 := (nI_eq (by omega) (by omega)).mp (show nI 1 = nI 0 from c_2)
      exact absurd n_2 (by omega)
    · -- 11 not taken
      have n_2 : ¬ (1 = 0) := fun h => c_2 ((nI_eq (a := 1) (b := 0) (by omega) (by omega)).mpr h)
      refine lv_aload_n hx hb dJ6_equals_14 rfl (lv_at hl 1 rfl) ?_
      refine va_castS hx hb hown (hts _ q1637) (hK.1 14 _ rfl).2 (recv_ro hK ((hRo (strO Γ i) (by simp)).keep hS (fun _ h => h))) dJ6_equals_15 ?_
      refine lv_astore_n (lv' := [(2, .ref (adK Γ i)), (0, .ref a), (1, .ref (adK Γ i))]) hx hb dJ6_equals_18 rfl hl (by decide) rfl (fun ls hl => ?_)
      refine va_gets (C := "java/lang/String") (n := "COMPACT_STRINGS") (d := "Z") hx hb hE.compact hS hown (hts _ q673) (fun _ h9 => h9) dJ6_equals_19 ?_
      refine lv_if_eq (tgt := 36) hx hb dJ6_equals_22 (by decide) (fun c_3 => ?_) (fun c_3 => ?_)
      · -- 22 taken
        have n_3 : 1 = 0 := (nI_eq (by omega) (by omega)).mp (show nI 1 = nI 0 from c_3)
        exact absurd n_3 (by omega)
      · -- 22 not taken
        have n_3 : ¬ (1 = 0) := fun h => c_3 ((nI_eq (a := 1) (b := 0) (by omega) (by omega)).mpr h)
        refine lv_aload_n hx hb dJ6_equals_25 rfl (lv_at hl 1 rfl) ?_
        refine b_get (C := RJ6) (T := TJ6) (N := 4) (v := .int 0) hx hb hts in_J6 hown hK (b_at (k := 0) hP rfl) rfl 1 (by decide) q772 (fun _ h9 => h9) rfl dJ6_equals_26 ?_
        refine lv_aload_n hx hb dJ6_equals_29 rfl (lv_at hl 0 rfl) ?_
        refine b_getS (v := .int 0) hx hb hts hown hK (hRo ((adK Γ i), .inr (14, [.ref (adV Γ i), .int 0, .int 0, .int 0])) (by simp)) hS 1 (by decide) q772 rfl dJ6_equals_30 ?_
        refine lv_icmp_ne (tgt := 54) hx hb dJ6_equals_33 (by decide) (fun c_4 => ?_) (fun c_4 => ?_)
        · -- 33 taken
          have n_4 : ¬ (0 = 0) := fun h => c_4 ((nI_eq (a := 0) (b := 0) (by omega) (by omega)).mpr h)
          exact absurd n_4 (by omega)
        · -- 33 not taken
          have n_4 : 0 = 0 := (nI_eq (by omega) (by omega)).mp (show nI 0 = nI 0 from c_4)
          refine lv_aload_n hx hb dJ6_equals_36 rfl (lv_at hl 1 rfl) ?_
          refine b_get (C := RJ6) (T := TJ6) (N := 4) (v := .ref y.1) hx hb hts in_J6 hown hK (b_at (k := 0) hP rfl) rfl 0 (by decide) q771 (fun _ h9 => h9) rfl dJ6_equals_37 ?_
          refine lv_aload_n hx hb dJ6_equals_40 rfl (lv_at hl 0 rfl) ?_
          refine b_getS (v := .ref (adV Γ i)) hx hb hts hown hK (hRo ((adK Γ i), .inr (14, [.ref (adV Γ i), .int 0, .int 0, .int 0])) (by simp)) hS 0 (by decide) q771 rfl dJ6_equals_41 ?_
          refine b_calli (br := [[(a, .inr (14, [.ref y.1, .int 0, .int h0, .int z0]))], [(y.1, .inl (Γ.2.1 1, L.length, .inl y.2))]]) (b_runS ⟨hx, hb, hml, hown, hts⟩ (mt_LatEq_no l Γ _ y.1 L.length y.2 i (by first | exact hi | omega) (fun h9 => he (str_eqb i hi hst h9.1 h9.2)) (by have h9 := hst.1; omega)) (lw_S q1638 q1639 q89 q1640) rfl rfl 2 (by decide +kernel) ⟨(Nat.le_of_ble_eq_true rfl), (Nat.le_of_ble_eq_true rfl)⟩ (c_pre hP hD hS hA hK hE [] rfl rfl (ro_app (ro_own (br := [[(y.1, .inl (Γ.2.1 1, L.length, .inl y.2))]]) hP hD [] [1] rfl rfl rfl) (ro_pass (ro_sel (ro2 := [[((adV Γ i), .inl (Γ.2.1 1, (str_by i).length, .inl (fun j => (str_by i).getD j 0)))]]) hRo [1] rfl) hD hS hA [] rfl))) rfl hl.1 rfl (Nat.le_of_ble_eq_true rfl) dJ6_equals_44 ⟨(Nat.le_of_ble_eq_true rfl), (Nat.le_of_ble_eq_true rfl)⟩) hP hD hS hA [] [0, 1] rfl rfl rfl (fun r_5 u_5 H locs hw_5 hP hD hS _ => ?_)
          obtain ⟨rfl, rfl⟩ := hw_5
          have hP : WP Γ [[(a, .inr (14, [.ref y.1, .int 0, .int h0, .int z0]))], [(y.1, .inl (Γ.2.1 1, L.length, .inl y.2))]] H := hP
          have hD : WD A [[(a, .inr (14, [.ref y.1, .int 0, .int h0, .int z0]))], [(y.1, .inl (Γ.2.1 1, L.length, .inl y.2))]] := hD
          refine lv_if_eq (tgt := 54) hx hb dJ6_equals_47 (by decide) (fun c_6 => ?_) (fun c_6 => ?_)
          · -- 47 taken
            have n_6 : 0 = 0 := (nI_eq (by omega) (by omega)).mp (show nI 0 = nI 0 from c_6)
            refine lv_iconst (v := 0) hx hb dJ6_equals_54 (by decide) ?_
            exact b_zret hx hb hr hlocks hP hD hS (Nat.le_of_ble_eq_true rfl) (Nat.le_of_ble_eq_true rfl) rfl ⟨(by first | with_reducible rfl | (simp [c_1, n_2, n_3, n_4, n_6]; done) | rfl), (by first | with_reducible rfl | (simp [c_1, n_2, n_3, n_4, n_6]; done) | rfl)⟩ dJ6_equals_55
          · -- 47 not taken
            have n_6 : ¬ (0 = 0) := fun h => c_6 ((nI_eq (a := 0) (b := 0) (by omega) (by omega)).mpr h)
            exact absurd n_6 (by omega)
  · -- 2 not taken
    exact absurd (Option.some.inj c_1) (ne_const (B := [(a, .inr (14, [.ref y.1, .int 0, .int h0, .int z0]))]) hE hi hD (by simp) (List.mem_singleton.mpr rfl))
theorem stF_of {x : SBT} {L : List Int32} {w : Nat} {g : Nat → Int32} (h : sbF 0 x L) (hg : cpOk L.length x.2.2.1 g) : stF (w, g) L := by
  refine ⟨Nat.le_trans h.1 h.2.1, hg.2, fun j hj => ?_⟩
  have := h.2.2.2.2 j hj
  rw [chrK, if_pos rfl] at this
  show lc (g j) = _
  rw [hg.1 j hj]
  exact this
/-- a String of coder 1 -/
def stU (y : SST) (L : List Int32) : Prop := L.length ≤ 512 ∧ (∀ j, fits .byte (.int (y.2 j)) = true) ∧ ∀ j, j < L.length → uc (y.2 (2 * j)) (y.2 (2 * j + 1)) = L.getD j 0
theorem stU_of {x : SBT} {L : List Int32} {w : Nat} {g : Nat → Int32} (h : sbF 1 x L) (hg : cpOk (2 * L.length) x.2.2.1 g) : stU (w, g) L := by
  refine ⟨Nat.le_trans h.1 h.2.1, hg.2, fun j hj => ?_⟩
  have := h.2.2.2.2 j hj
  rw [chrK, if_neg (by decide)] at this
  show uc (g (2 * j)) (g (2 * j + 1)) = _
  rw [hg.1 (2 * j) (by omega), hg.1 (2 * j + 1) (by omega)]
  exact this
set_option maxHeartbeats 4000000 in
set_option maxRecDepth 100000 in
theorem mt_Str_ofAB_0 (l : Launch) (Γ : GE) (sz : Nat) (o : Nat) (a : Nat) (x : SBT) (L : List Int32) (hsb : sbF 0 x L) : KM l yJ6_init_2 cJ6_init_2 5 none Γ 3 106 1 1024 [.ref o, .ref a, .null] [[(o, .inr (14, [.null, .int 0, .int 0, .int 0]))], [(a, .inr (13, [.ref x.1, .int 0, .int x.2.2.2, .int (nI L.length)]))], [(x.1, .inl (Γ.2.1 1, x.2.1, .inl x.2.2.1))]] [] sz (Qv Γ (fun u_ => ∃ w : Nat, ∃ g : Nat → Int32, cpOk L.length x.2.2.1 g ∧ u_ = [[(o, .inr (14, [.ref w, .int 0, .int 0, .int 0]))], [(w, .inl (Γ.2.1 1, L.length, .inl g))], [(a, .inr (13, [.ref x.1, .int 0, .int x.2.2.2, .int (nI L.length)]))], [(x.1, .inl (Γ.2.1 1, x.2.1, .inl x.2.2.1))]])) := by
  refine K_intro (by decide) (Nat.le_of_ble_eq_true rfl) ?_
  intro pr_ ev_ s mi_ below meth cd_ A ls hx hb hr hml hown hts hlocks hname hK hE hRo hP hD hA hS hsz hl
  have hl : lv_has ls 5 [(0, .ref o), (1, .ref a), (2, .null)] := hl
  have hown : s.vm.findClass RJ6 = some mi_.cls := hown
  have hxl := sbF_len hsb
  refine lv_aload_n hx hb dJ6_init_2_0 rfl (lv_at hl 0 rfl) ?_
  refine W.objInit hx hb hown (hts _ q720) (hts _ q109) (hts _ q110) rfl (by rw [hml]; exact hl.1) rfl dJ6_init_2_1 (Nat.le_of_ble_eq_true rfl) (Nat.le_of_ble_eq_true rfl) ?_
  refine W.eq (g2 := F0 mi_ 4 ls ([])) rfl ?_
  refine lv_aload_n hx hb dJ6_init_2_4 rfl (lv_at hl 1 rfl) ?_
  refine b_callq (br := [[(o, .inr (14, [.null, .int 0, .int 0, .int 0]))], [(x.1, .inl (Γ.2.1 1, x.2.1, .inl x.2.2.1))]]) (b_runU (C := RJ5) (owner := "java/lang/AbstractStringBuilder") (x := ⟨"java/lang/AbstractStringBuilder", "getValue", "()[B"⟩) ⟨hx, hb, hml, hown, hts⟩ (mt_AB_getValue_0 l Γ _ a x.1 x.2.2.2 L.length) q721 q723 (va_Decl.of (hts _ q722) (hts _ q725)) (hts _ q724) q722 q69 q725 rfl rfl 0 ⟨by decide, by decide, by decide +kernel⟩ ⟨(Nat.le_of_ble_eq_true rfl), (Nat.le_of_ble_eq_true rfl)⟩ (c_pre hP hD hS hA hK hE [1] rfl rfl ro_nil) (recv_at (q := (RJ5, TJ5, 4)) hK (b_at (k := 1) hP rfl) rfl) rfl hl.1 rfl (Nat.le_of_ble_eq_true rfl) dJ6_init_2_5 ⟨(Nat.le_of_ble_eq_true rfl), (Nat.le_of_ble_eq_true rfl)⟩) hP hD hS hA [1] [0, 2] rfl rfl rfl (fun r_1 u_1 H locs hw_1 hP hD hS _ => ?_)
  obtain ⟨rfl, rfl⟩ := hw_1
  have hP : WP Γ [[(a, .inr (13, [.ref x.1, .int 0, .int x.2.2.2, .int (nI L.length)]))], [(o, .inr (14, [.null, .int 0, .int 0, .int 0]))], [(x.1, .inl (Γ.2.1 1, x.2.1, .inl x.2.2.1))]] H := hP
  have hD : WD A [[(a, .inr (13, [.ref x.1, .int 0, .int x.2.2.2, .int (nI L.length)]))], [(o, .inr (14, [.null, .int 0, .int 0, .int 0]))], [(x.1, .inl (Γ.2.1 1, x.2.1, .inl x.2.2.1))]] := hD
  refine W.eq (g2 := F0 mi_ 8 ls ([.ref x.1])) rfl ?_
  refine lv_astore_n (lv' := [(3, .ref x.1), (0, .ref o), (1, .ref a), (2, .null)]) hx hb dJ6_init_2_8 rfl hl (by decide) rfl (fun ls hl => ?_)
  refine lv_aload_n hx hb dJ6_init_2_9 rfl (lv_at hl 2 rfl) ?_
  refine b_calli (br := [[(o, .inr (14, [.null, .int 0, .int 0, .int 0]))], [(x.1, .inl (Γ.2.1 1, x.2.1, .inl x.2.2.1))]]) (b_runU (C := RJ5) (owner := "java/lang/AbstractStringBuilder") (x := ⟨"java/lang/AbstractStringBuilder", "length", "()I"⟩) ⟨hx, hb, hml, hown, hts⟩ (mt_SB_length_0 l Γ _ a x.1 x.2.2.2 L.length) q726 q728 (va_Decl.of (hts _ q727) (hts _ q733)) (hts _ q729) q730 q70 q731 rfl rfl 0 ⟨by decide, by decide, by decide +kernel⟩ ⟨(Nat.le_of_ble_eq_true rfl), (Nat.le_of_ble_eq_true rfl)⟩ (c_pre hP hD hS hA hK hE [0] rfl rfl ro_nil) (recv_at (q := (RJ5, TJ5, 4)) hK (b_at (k := 0) hP rfl) rfl) rfl hl.1 rfl (Nat.le_of_ble_eq_true rfl) dJ6_init_2_10 ⟨(Nat.le_of_ble_eq_true rfl), (Nat.le_of_ble_eq_true rfl)⟩) hP hD hS hA [0] [1, 2] rfl rfl rfl (fun r_2 u_2 H locs hw_2 hP hD hS _ => ?_)
  obtain ⟨rfl, rfl⟩ := hw_2
  have hP : WP Γ [[(a, .inr (13, [.ref x.1, .int 0, .int x.2.2.2, .int (nI L.length)]))], [(o, .inr (14, [.null, .int 0, .int 0, .int 0]))], [(x.1, .inl (Γ.2.1 1, x.2.1, .inl x.2.2.1))]] H := hP
  have hD : WD A [[(a, .inr (13, [.ref x.1, .int 0, .int x.2.2.2, .int (nI L.length)]))], [(o, .inr (14, [.null, .int 0, .int 0, .int 0]))], [(x.1, .inl (Γ.2.1 1, x.2.1, .inl x.2.2.1))]] := hD
  refine lv_istore (lv' := [(4, .int (nI L.length)), (3, .ref x.1), (0, .ref o), (1, .ref a), (2, .null)]) hx hb dJ6_init_2_13 hl (by decide) rfl (fun ls hl => ?_)
  refine lv_aload_n hx hb dJ6_init_2_15 rfl (lv_at hl 3 rfl) ?_
  refine b_calli (br := [[(o, .inr (14, [.null, .int 0, .int 0, .int 0]))], [(x.1, .inl (Γ.2.1 1, x.2.1, .inl x.2.2.1))]]) (b_runU (C := RJ5) (owner := "java/lang/AbstractStringBuilder") (x := ⟨"java/lang/AbstractStringBuilder", "isLatin1", "()Z"⟩) ⟨hx, hb, hml, hown, hts⟩ (mt_AB_isLatin1_0 l Γ _ a x.1 x.2.2.2 L.length) q734 q609 (va_Decl.of (hts _ q608) (hts _ q611)) (hts _ q610) q608 q69 q611 rfl rfl 0 ⟨by decide, by decide, by decide +kernel⟩ ⟨(Nat.le_of_ble_eq_true rfl), (Nat.le_of_ble_eq_true rfl)⟩ (c_pre hP hD hS hA hK hE [0] rfl rfl ro_nil) (recv_at (q := (RJ5, TJ5, 4)) hK (b_at (k := 0) hP rfl) rfl) rfl hl.1 rfl (Nat.le_of_ble_eq_true rfl) dJ6_init_2_16 ⟨(Nat.le_of_ble_eq_true rfl), (Nat.le_of_ble_eq_true rfl)⟩) hP hD hS hA [0] [1, 2] rfl rfl rfl (fun r_3 u_3 H locs hw_3 hP hD hS _ => ?_)
  obtain ⟨rfl, rfl⟩ := hw_3
  have hP : WP Γ [[(a, .inr (13, [.ref x.1, .int 0, .int x.2.2.2, .int (nI L.length)]))], [(o, .inr (14, [.null, .int 0, .int 0, .int 0]))], [(x.1, .inl (Γ.2.1 1, x.2.1, .inl x.2.2.1))]] H := hP
  have hD : WD A [[(a, .inr (13, [.ref x.1, .int 0, .int x.2.2.2, .int (nI L.length)]))], [(o, .inr (14, [.null, .int 0, .int 0, .int 0]))], [(x.1, .inl (Γ.2.1 1, x.2.1, .inl x.2.2.1))]] := hD
  refine lv_if_eq (tgt := 41) hx hb dJ6_init_2_19 (by decide) (fun c_4 => ?_) (fun c_4 => ?_)
  · -- 19 taken
    have n_4 : 1 = 0 := (nI_eq (by omega) (by omega)).mp (show nI 1 = nI 0 from c_4)
    exact absurd n_4 (by omega)
  · -- 19 not taken
    have n_4 : ¬ (1 = 0) := fun h => c_4 ((nI_eq (a := 1) (b := 0) (by omega) (by omega)).mpr h)
    refine lv_aload_n hx hb dJ6_init_2_22 rfl (lv_at hl 2 rfl) ?_
    refine lv_iconst (v := 0) hx hb dJ6_init_2_23 (by decide) ?_
    refine b_putF (C := RJ6) (T := TJ6) (N := 4) (ty := .byte) (v := .int 0) hx hb hts in_J6 tyJ6_ok nmJ6 hown hK hP hD hS 1 rfl rfl 1 (by decide) q772 (fun _ h9 => h9) rfl hname rfl rfl (by decide +kernel) rfl rfl (Nat.le_of_ble_eq_true rfl) dJ6_init_2_24 (fun H locs hP hD hS => ?_)
    have hP : WP Γ [[(a, .inr (13, [.ref x.1, .int 0, .int x.2.2.2, .int (nI L.length)]))], [(o, .inr (14, [.null, .int 0, .int 0, .int 0]))], [(x.1, .inl (Γ.2.1 1, x.2.1, .inl x.2.2.1))]] H := hP
    have hD : WD A [[(a, .inr (13, [.ref x.1, .int 0, .int x.2.2.2, .int (nI L.length)]))], [(o, .inr (14, [.null, .int 0, .int 0, .int 0]))], [(x.1, .inl (Γ.2.1 1, x.2.1, .inl x.2.2.1))]] := hD
    refine lv_aload_n hx hb dJ6_init_2_27 rfl (lv_at hl 2 rfl) ?_
    refine lv_aload_n hx hb dJ6_init_2_28 rfl (lv_at hl 1 rfl) ?_
    refine lv_iconst (v := 0) hx hb dJ6_init_2_29 (by decide) ?_
    refine lv_iload hx hb dJ6_init_2_30 (lv_at hl 0 rfl) ?_
    refine b_callq (br := [[(a, .inr (13, [.ref x.1, .int 0, .int x.2.2.2, .int (nI L.length)]))], [(o, .inr (14, [.null, .int 0, .int 0, .int 0]))]]) (b_runS ⟨hx, hb, hml, hown, hts⟩ (mt_cpR l Γ _ x.1 x.2.1 x.2.2.1 L.length (by omega) (by omega) hsb.2.2.1) (lw_S q735 q736 q84 q737) rfl rfl 3 (by decide +kernel) ⟨(Nat.le_of_ble_eq_true rfl), (Nat.le_of_ble_eq_true rfl)⟩ (c_pre hP hD hS hA hK hE [2] rfl rfl ro_nil) rfl hl.1 rfl (Nat.le_of_ble_eq_true rfl) dJ6_init_2_32 ⟨(by first | omega | (dsimp only; omega)), (by first | omega | (dsimp only; omega))⟩) hP hD hS hA [2] [0, 1] rfl rfl rfl (fun r_5 u_5 H locs hw_5 hP hD hS _ => ?_)
    obtain ⟨w_5, g_5, hg_5, rfl, rfl⟩ := hw_5
    have hP : WP Γ [[(x.1, .inl (Γ.2.1 1, x.2.1, .inl x.2.2.1))], [(w_5, .inl (Γ.2.1 1, L.length, .inl g_5))], [(a, .inr (13, [.ref x.1, .int 0, .int x.2.2.2, .int (nI L.length)]))], [(o, .inr (14, [.null, .int 0, .int 0, .int 0]))]] H := hP
    have hD : WD A [[(x.1, .inl (Γ.2.1 1, x.2.1, .inl x.2.2.1))], [(w_5, .inl (Γ.2.1 1, L.length, .inl g_5))], [(a, .inr (13, [.ref x.1, .int 0, .int x.2.2.2, .int (nI L.length)]))], [(o, .inr (14, [.null, .int 0, .int 0, .int 0]))]] := hD
    refine W.eq (g2 := F0 mi_ 35 ls ([.ref w_5, .ref o])) rfl ?_
    refine b_putF (C := RJ6) (T := TJ6) (N := 4) (ty := (tyJ6 0)) (v := .ref w_5) hx hb hts in_J6 tyJ6_ok nmJ6 hown hK hP hD hS 3 rfl rfl 0 (by decide) q771 (fun _ h9 => h9) rfl hname rfl rfl (by decide +kernel) rfl rfl (Nat.le_of_ble_eq_true rfl) dJ6_init_2_35 (fun H locs hP hD hS => ?_)
    have hP : WP Γ [[(x.1, .inl (Γ.2.1 1, x.2.1, .inl x.2.2.1))], [(w_5, .inl (Γ.2.1 1, L.length, .inl g_5))], [(a, .inr (13, [.ref x.1, .int 0, .int x.2.2.2, .int (nI L.length)]))], [(o, .inr (14, [.ref w_5, .int 0, .int 0, .int 0]))]] H := hP
    have hD : WD A [[(x.1, .inl (Γ.2.1 1, x.2.1, .inl x.2.2.1))], [(w_5, .inl (Γ.2.1 1, L.length, .inl g_5))], [(a, .inr (13, [.ref x.1, .int 0, .int x.2.2.2, .int (nI L.length)]))], [(o, .inr (14, [.ref w_5, .int 0, .int 0, .int 0]))]] := hD
    refine lv_goto (tgt := 97) hx hb dJ6_init_2_38 (by decide) ?_
    have hP : WP Γ [[(o, .inr (14, [.ref w_5, .int 0, .int 0, .int 0]))], [(w_5, .inl (Γ.2.1 1, L.length, .inl g_5))], [(a, .inr (13, [.ref x.1, .int 0, .int x.2.2.2, .int (nI L.length)]))], [(x.1, .inl (Γ.2.1 1, x.2.1, .inl x.2.2.1))]] H := bP_sel hP [3, 1, 2, 0] rfl
    have hD : WD A [[(o, .inr (14, [.ref w_5, .int 0, .int 0, .int 0]))], [(w_5, .inl (Γ.2.1 1, L.length, .inl g_5))], [(a, .inr (13, [.ref x.1, .int 0, .int x.2.2.2, .int (nI L.length)]))], [(x.1, .inl (Γ.2.1 1, x.2.1, .inl x.2.2.1))]] := bD_sel hD [3, 1, 2, 0] rfl rfl
    exact b_vret hx hb hr hlocks hP hD hS (by first | omega | (dsimp only; omega)) (by first | omega | (dsimp only; omega)) ⟨w_5, g_5, hg_5, rfl⟩ dJ6_init_2_97
set_option maxHeartbeats 4000000 in
set_option maxRecDepth 100000 in
theorem mt_Str_ofSB_0 (l : Launch) (Γ : GE) (sz : Nat) (o : Nat) (a : Nat) (x : SBT) (L : List Int32) (hsb : sbF 0 x L) : KM l yJ6_init cJ6_init 2 none Γ 4 130 1 1024 [.ref o, .ref a] [[(o, .inr (14, [.null, .int 0, .int 0, .int 0]))], [(a, .inr (13, [.ref x.1, .int 0, .int x.2.2.2, .int (nI L.length)]))], [(x.1, .inl (Γ.2.1 1, x.2.1, .inl x.2.2.1))]] [] sz (Qv Γ (fun u_ => ∃ w : Nat, ∃ g : Nat → Int32, cpOk L.length x.2.2.1 g ∧ u_ = [[(o, .inr (14, [.ref w, .int 0, .int 0, .int 0]))], [(w, .inl (Γ.2.1 1, L.length, .inl g))], [(a, .inr (13, [.ref x.1, .int 0, .int x.2.2.2, .int (nI L.length)]))], [(x.1, .inl (Γ.2.1 1, x.2.1, .inl x.2.2.1))]])) := by
  refine K_intro (by decide) (Nat.le_of_ble_eq_true rfl) ?_
  intro pr_ ev_ s mi_ below meth cd_ A ls hx hb hr hml hown hts hlocks hname hK hE hRo hP hD hA hS hsz hl
  have hl : lv_has ls 2 [(0, .ref o), (1, .ref a)] := hl
  have hown : s.vm.findClass RJ6 = some mi_.cls := hown
  refine lv_aload_n hx hb dJ6_init_0 rfl (lv_at hl 0 rfl) ?_
  refine lv_aload_n hx hb dJ6_init_1 rfl (lv_at hl 1 rfl) ?_
  refine lv_null hx hb dJ6_init_2 ?_
  refine b_callv (br := []) (b_runI ⟨hx, hb, hml, hown, hts⟩ (mt_Str_ofAB_0 l Γ _ o a x L hsb) (lw_meth q719) q71 q717 q718 rfl rfl rfl 2 (by decide +kernel) ⟨(Nat.le_of_ble_eq_true rfl), (Nat.le_of_ble_eq_true rfl)⟩ (c_pre hP hD hS hA hK hE [0, 1, 2] rfl rfl ro_nil) rfl hl.1 rfl (Nat.le_of_ble_eq_true rfl) dJ6_init_3 ⟨(Nat.le_of_ble_eq_true rfl), (Nat.le_of_ble_eq_true rfl)⟩) hP hD hS hA [0, 1, 2] [] rfl rfl rfl (fun u_1 H locs hw_1 hP hD hS _ => ?_)
  obtain ⟨w_1, g_1, hg_1, rfl⟩ := hw_1
  have hP : WP Γ [[(o, .inr (14, [.ref w_1, .int 0, .int 0, .int 0]))], [(w_1, .inl (Γ.2.1 1, L.length, .inl g_1))], [(a, .inr (13, [.ref x.1, .int 0, .int x.2.2.2, .int (nI L.length)]))], [(x.1, .inl (Γ.2.1 1, x.2.1, .inl x.2.2.1))]] H := hP
  have hD : WD A [[(o, .inr (14, [.ref w_1, .int 0, .int 0, .int 0]))], [(w_1, .inl (Γ.2.1 1, L.length, .inl g_1))], [(a, .inr (13, [.ref x.1, .int 0, .int x.2.2.2, .int (nI L.length)]))], [(x.1, .inl (Γ.2.1 1, x.2.1, .inl x.2.2.1))]] := hD
  exact b_vret hx hb hr hlocks hP hD hS (Nat.le_of_ble_eq_true rfl) (Nat.le_of_ble_eq_true rfl) ⟨w_1, g_1, hg_1, rfl⟩ dJ6_init_6
set_option maxHeartbeats 4000000 in
set_option maxRecDepth 100000 in
theorem mt_SB_toString_0 (l : Launch) (Γ : GE) (sz : Nat) (a : Nat) (x : SBT) (L : List Int32) (hsb : sbF 0 x L) : KM l yJ5_toString cJ5_toString 1 (some (FieldType.object "java/lang/String")) Γ 5 151 2 1028 [.ref a] [[(a, .inr (13, [.ref x.1, .int 0, .int x.2.2.2, .int (nI L.length)]))], [(x.1, .inl (Γ.2.1 1, x.2.1, .inl x.2.2.1))]] [] sz (Qq Γ (fun r_ u_ => ∃ o : Nat, ∃ y : SST, stF y L ∧ r_ = some o ∧ u_ = [[(o, .inr (14, [.ref y.1, .int 0, .int 0, .int 0]))], [(y.1, .inl (Γ.2.1 1, L.length, .inl y.2))], [(a, .inr (13, [.ref x.1, .int 0, .int x.2.2.2, .int (nI L.length)]))], [(x.1, .inl (Γ.2.1 1, x.2.1, .inl x.2.2.1))]])) := by
  refine K_intro (by decide) (Nat.le_of_ble_eq_true rfl) ?_
  intro pr_ ev_ s mi_ below meth cd_ A ls hx hb hr hml hown hts hlocks hname hK hE hRo hP hD hA hS hsz hl
  have hl : lv_has ls 1 [(0, .ref a)] := hl
  have hown : s.vm.findClass RJ5 = some mi_.cls := hown
  refine b_new (ci := 14) (fs := [.null, .int 0, .int 0, .int 0]) (C := RJ6) (T := TJ6) (N := 4) hx hb hts in_J6 tyJ6_ok hown q712 q713 q71 hK hP hD hS hA rfl (fun j hj => by rcases (show j = 0 ∨ j = 1 ∨ j = 2 ∨ j = 3 by omega) with rfl | rfl | rfl | rfl <;> rfl) (Nat.le_of_ble_eq_true rfl) (Nat.le_of_ble_eq_true rfl) dJ5_toString_0 (fun a_1 H hP hD hS => ?_)
  have hP : WP Γ [[(a, .inr (13, [.ref x.1, .int 0, .int x.2.2.2, .int (nI L.length)]))], [(x.1, .inl (Γ.2.1 1, x.2.1, .inl x.2.2.1))], [(a_1, .inr (14, [.null, .int 0, .int 0, .int 0]))]] H := hP
  have hD : WD A [[(a, .inr (13, [.ref x.1, .int 0, .int x.2.2.2, .int (nI L.length)]))], [(x.1, .inl (Γ.2.1 1, x.2.1, .inl x.2.2.1))], [(a_1, .inr (14, [.null, .int 0, .int 0, .int 0]))]] := hD
  refine lv_dup hx hb dJ5_toString_3 rfl ?_
  refine lv_aload_n hx hb dJ5_toString_4 rfl (lv_at hl 0 rfl) ?_
  refine b_callv (br := []) (b_runI ⟨hx, hb, hml, hown, hts⟩ (mt_Str_ofSB_0 l Γ _ a_1 a x L hsb) (lw_meth q716) q71 q714 q715 rfl rfl rfl 1 (by decide +kernel) ⟨(Nat.le_of_ble_eq_true rfl), (Nat.le_of_ble_eq_true rfl)⟩ (c_pre hP hD hS hA hK hE [2, 0, 1] rfl rfl ro_nil) rfl hl.1 rfl (Nat.le_of_ble_eq_true rfl) dJ5_toString_5 ⟨(Nat.le_of_ble_eq_true rfl), (Nat.le_of_ble_eq_true rfl)⟩) hP hD hS hA [2, 0, 1] [] rfl rfl rfl (fun u_2 H locs hw_2 hP hD hS _ => ?_)
  obtain ⟨w_2, g_2, hg_2, rfl⟩ := hw_2
  have hP : WP Γ [[(a_1, .inr (14, [.ref w_2, .int 0, .int 0, .int 0]))], [(w_2, .inl (Γ.2.1 1, L.length, .inl g_2))], [(a, .inr (13, [.ref x.1, .int 0, .int x.2.2.2, .int (nI L.length)]))], [(x.1, .inl (Γ.2.1 1, x.2.1, .inl x.2.2.1))]] H := hP
  have hD : WD A [[(a_1, .inr (14, [.ref w_2, .int 0, .int 0, .int 0]))], [(w_2, .inl (Γ.2.1 1, L.length, .inl g_2))], [(a, .inr (13, [.ref x.1, .int 0, .int x.2.2.2, .int (nI L.length)]))], [(x.1, .inl (Γ.2.1 1, x.2.1, .inl x.2.2.1))]] := hD
  exact b_aret hx hb hr (by first | exact Or.inl ⟨_, rfl⟩ | exact Or.inr ⟨_, rfl⟩) hlocks hP hD hS (Nat.le_of_ble_eq_true rfl) (Nat.le_of_ble_eq_true rfl) ⟨a_1, (w_2, g_2), (stF_of hsb hg_2), (by first | rfl | (simp; done)), rfl⟩ dJ5_toString_8
set_option maxHeartbeats 4000000 in
set_option maxRecDepth 100000 in
theorem mt_Str_ofAB_1 (l : Launch) (Γ : GE) (sz : Nat) (o : Nat) (a : Nat) (x : SBT) (L : List Int32) (hsb : sbF 1 x L) (hmz : x.2.2.2 = 0) : KM l yJ6_init_2 cJ6_init_2 5 none Γ 3 106 1 1024 [.ref o, .ref a, .null] [[(o, .inr (14, [.null, .int 0, .int 0, .int 0]))], [(a, .inr (13, [.ref x.1, .int 1, .int x.2.2.2, .int (nI L.length)]))], [(x.1, .inl (Γ.2.1 1, 2 * x.2.1, .inl x.2.2.1))]] [] sz (Qv Γ (fun u_ => ∃ w : Nat, ∃ g : Nat → Int32, cpOk (2 * L.length) x.2.2.1 g ∧ u_ = [[(o, .inr (14, [.ref w, .int 1, .int 0, .int 0]))], [(w, .inl (Γ.2.1 1, 2 * L.length, .inl g))], [(a, .inr (13, [.ref x.1, .int 1, .int x.2.2.2, .int (nI L.length)]))], [(x.1, .inl (Γ.2.1 1, 2 * x.2.1, .inl x.2.2.1))]])) := by
  refine K_intro (by decide) (Nat.le_of_ble_eq_true rfl) ?_
  intro pr_ ev_ s mi_ below meth cd_ A ls hx hb hr hml hown hts hlocks hname hK hE hRo hP hD hA hS hsz hl
  have hl : lv_has ls 5 [(0, .ref o), (1, .ref a), (2, .null)] := hl
  have hown : s.vm.findClass RJ6 = some mi_.cls := hown
  have hxl := sbF_len hsb
  refine lv_aload_n hx hb dJ6_init_2_0 rfl (lv_at hl 0 rfl) ?_
  refine W.objInit hx hb hown (hts _ q720) (hts _ q109) (hts _ q110) rfl (by rw [hml]; exact hl.1) rfl dJ6_init_2_1 (Nat.le_of_ble_eq_true rfl) (Nat.le_of_ble_eq_true rfl) ?_
  refine W.eq (g2 := F0 mi_ 4 ls ([])) rfl ?_
  refine lv_aload_n hx hb dJ6_init_2_4 rfl (lv_at hl 1 rfl) ?_
  refine b_callq (br := [[(o, .inr (14, [.null, .int 0, .int 0, .int 0]))], [(x.1, .inl (Γ.2.1 1, 2 * x.2.1, .inl x.2.2.1))]]) (b_runU (C := RJ5) (owner := "java/lang/AbstractStringBuilder") (x := ⟨"java/lang/AbstractStringBuilder", "getValue", "()[B"⟩) ⟨hx, hb, hml, hown, hts⟩ (mt_AB_getValue_1 l Γ _ a x.1 x.2.2.2 L.length) q721 q723 (va_Decl.of (hts _ q722) (hts _ q725)) (hts _ q724) q722 q69 q725 rfl rfl 0 ⟨by decide, by decide, by decide +kernel⟩ ⟨(Nat.le_of_ble_eq_true rfl), (Nat.le_of_ble_eq_true rfl)⟩ (c_pre hP hD hS hA hK hE [1] rfl rfl ro_nil) (recv_at (q := (RJ5, TJ5, 4)) hK (b_at (k := 1) hP rfl) rfl) rfl hl.1 rfl (Nat.le_of_ble_eq_true rfl) dJ6_init_2_5 ⟨(Nat.le_of_ble_eq_true rfl), (Nat.le_of_ble_eq_true rfl)⟩) hP hD hS hA [1] [0, 2] rfl rfl rfl (fun r_1 u_1 H locs hw_1 hP hD hS _ => ?_)
  obtain ⟨rfl, rfl⟩ := hw_1
  have hP : WP Γ [[(a, .inr (13, [.ref x.1, .int 1, .int x.2.2.2, .int (nI L.length)]))], [(o, .inr (14, [.null, .int 0, .int 0, .int 0]))], [(x.1, .inl (Γ.2.1 1, 2 * x.2.1, .inl x.2.2.1))]] H := hP
  have hD : WD A [[(a, .inr (13, [.ref x.1, .int 1, .int x.2.2.2, .int (nI L.length)]))], [(o, .inr (14, [.null, .int 0, .int 0, .int 0]))], [(x.1, .inl (Γ.2.1 1, 2 * x.2.1, .inl x.2.2.1))]] := hD
  refine W.eq (g2 := F0 mi_ 8 ls ([.ref x.1])) rfl ?_
  refine lv_astore_n (lv' := [(3, .ref x.1), (0, .ref o), (1, .ref a), (2, .null)]) hx hb dJ6_init_2_8 rfl hl (by decide) rfl (fun ls hl => ?_)
  refine lv_aload_n hx hb dJ6_init_2_9 rfl (lv_at hl 2 rfl) ?_
  refine b_calli (br := [[(o, .inr (14, [.null, .int 0, .int 0, .int 0]))], [(x.1, .inl (Γ.2.1 1, 2 * x.2.1, .inl x.2.2.1))]]) (b_runU (C := RJ5) (owner := "java/lang/AbstractStringBuilder") (x := ⟨"java/lang/AbstractStringBuilder", "length", "()I"⟩) ⟨hx, hb, hml, hown, hts⟩ (mt_SB_length_1 l Γ _ a x.1 x.2.2.2 L.length) q726 q728 (va_Decl.of (hts _ q727) (hts _ q733)) (hts _ q729) q730 q70 q731 rfl rfl 0 ⟨by decide, by decide, by decide +kernel⟩ ⟨(Nat.le_of_ble_eq_true rfl), (Nat.le_of_ble_eq_true rfl)⟩ (c_pre hP hD hS hA hK hE [0] rfl rfl ro_nil) (recv_at (q := (RJ5, TJ5, 4)) hK (b_at (k := 0) hP rfl) rfl) rfl hl.1 rfl (Nat.le_of_ble_eq_true rfl) dJ6_init_2_10 ⟨(Nat.le_of_ble_eq_true rfl), (Nat.le_of_ble_eq_true rfl)⟩) hP hD hS hA [0] [1, 2] rfl rfl rfl (fun r_2 u_2 H locs hw_2 hP hD hS _ => ?_)
  obtain ⟨rfl, rfl⟩ := hw_2
  have hP : WP Γ [[(a, .inr (13, [.ref x.1, .int 1, .int x.2.2.2, .int (nI L.length)]))], [(o, .inr (14, [.null, .int 0, .int 0, .int 0]))], [(x.1, .inl (Γ.2.1 1, 2 * x.2.1, .inl x.2.2.1))]] H := hP
  have hD : WD A [[(a, .inr (13, [.ref x.1, .int 1, .int x.2.2.2, .int (nI L.length)]))], [(o, .inr (14, [.null, .int 0, .int 0, .int 0]))], [(x.1, .inl (Γ.2.1 1, 2 * x.2.1, .inl x.2.2.1))]] := hD
  refine lv_istore (lv' := [(4, .int (nI L.length)), (3, .ref x.1), (0, .ref o), (1, .ref a), (2, .null)]) hx hb dJ6_init_2_13 hl (by decide) rfl (fun ls hl => ?_)
  refine lv_aload_n hx hb dJ6_init_2_15 rfl (lv_at hl 3 rfl) ?_
  refine b_calli (br := [[(o, .inr (14, [.null, .int 0, .int 0, .int 0]))], [(x.1, .inl (Γ.2.1 1, 2 * x.2.1, .inl x.2.2.1))]]) (b_runU (C := RJ5) (owner := "java/lang/AbstractStringBuilder") (x := ⟨"java/lang/AbstractStringBuilder", "isLatin1", "()Z"⟩) ⟨hx, hb, hml, hown, hts⟩ (mt_AB_isLatin1_1 l Γ _ a x.1 x.2.2.2 L.length) q734 q609 (va_Decl.of (hts _ q608) (hts _ q611)) (hts _ q610) q608 q69 q611 rfl rfl 0 ⟨by decide, by decide, by decide +kernel⟩ ⟨(Nat.le_of_ble_eq_true rfl), (Nat.le_of_ble_eq_true rfl)⟩ (c_pre hP hD hS hA hK hE [0] rfl rfl ro_nil) (recv_at (q := (RJ5, TJ5, 4)) hK (b_at (k := 0) hP rfl) rfl) rfl hl.1 rfl (Nat.le_of_ble_eq_true rfl) dJ6_init_2_16 ⟨(Nat.le_of_ble_eq_true rfl), (Nat.le_of_ble_eq_true rfl)⟩) hP hD hS hA [0] [1, 2] rfl rfl rfl (fun r_3 u_3 H locs hw_3 hP hD hS _ => ?_)
  obtain ⟨rfl, rfl⟩ := hw_3
  have hP : WP Γ [[(a, .inr (13, [.ref x.1, .int 1, .int x.2.2.2, .int (nI L.length)]))], [(o, .inr (14, [.null, .int 0, .int 0, .int 0]))], [(x.1, .inl (Γ.2.1 1, 2 * x.2.1, .inl x.2.2.1))]] H := hP
  have hD : WD A [[(a, .inr (13, [.ref x.1, .int 1, .int x.2.2.2, .int (nI L.length)]))], [(o, .inr (14, [.null, .int 0, .int 0, .int 0]))], [(x.1, .inl (Γ.2.1 1, 2 * x.2.1, .inl x.2.2.1))]] := hD
  refine lv_if_eq (tgt := 41) hx hb dJ6_init_2_19 (by decide) (fun c_4 => ?_) (fun c_4 => ?_)
  · -- 19 taken
    have n_4 : 0 = 0 := (nI_eq (by omega) (by omega)).mp (show nI 0 = nI 0 from c_4)
    refine va_gets (C := "java/lang/String") (n := "COMPACT_STRINGS") (d := "Z") hx hb hE.compact hS hown (hts _ q673) (fun _ h9 => h9) dJ6_init_2_41 ?_
    refine lv_if_eq (tgt := 79) hx hb dJ6_init_2_44 (by decide) (fun c_5 => ?_) (fun c_5 => ?_)
    · -- 44 taken
      have n_5 : 1 = 0 := (nI_eq (by omega) (by omega)).mp (show nI 1 = nI 0 from c_5)
      exact absurd n_5 (by omega)
    · -- 44 not taken
      have n_5 : ¬ (1 = 0) := fun h => c_5 ((nI_eq (a := 1) (b := 0) (by omega) (by omega)).mpr h)
      refine lv_aload_n hx hb dJ6_init_2_47 rfl (lv_at hl 3 rfl) ?_
      refine b_get (C := RJ5) (T := TJ5) (N := 4) (v := .int x.2.2.2) hx hb hts in_J5 hown hK (b_at (k := 0) hP rfl) rfl 2 (by decide) q235 (fun _ h9 => h9) rfl dJ6_init_2_48 ?_
      refine lv_if_eq (tgt := 79) hx hb dJ6_init_2_51 (by decide) (fun c_6 => ?_) (fun c_6 => ?_)
      · -- 51 taken
        refine lv_aload_n hx hb dJ6_init_2_79 rfl (lv_at hl 2 rfl) ?_
        refine lv_iconst (v := 1) hx hb dJ6_init_2_80 (by decide) ?_
        refine b_putF (C := RJ6) (T := TJ6) (N := 4) (ty := .byte) (v := .int 1) hx hb hts in_J6 tyJ6_ok nmJ6 hown hK hP hD hS 1 rfl rfl 1 (by decide) q772 (fun _ h9 => h9) rfl hname rfl rfl (by decide +kernel) rfl rfl (Nat.le_of_ble_eq_true rfl) dJ6_init_2_81 (fun H locs hP hD hS => ?_)
        have hP : WP Γ [[(a, .inr (13, [.ref x.1, .int 1, .int x.2.2.2, .int (nI L.length)]))], [(o, .inr (14, [.null, .int 1, .int 0, .int 0]))], [(x.1, .inl (Γ.2.1 1, 2 * x.2.1, .inl x.2.2.1))]] H := hP
        have hD : WD A [[(a, .inr (13, [.ref x.1, .int 1, .int x.2.2.2, .int (nI L.length)]))], [(o, .inr (14, [.null, .int 1, .int 0, .int 0]))], [(x.1, .inl (Γ.2.1 1, 2 * x.2.1, .inl x.2.2.1))]] := hD
        refine lv_aload_n hx hb dJ6_init_2_84 rfl (lv_at hl 2 rfl) ?_
        refine lv_aload_n hx hb dJ6_init_2_85 rfl (lv_at hl 1 rfl) ?_
        refine lv_iconst (v := 0) hx hb dJ6_init_2_86 (by decide) ?_
        refine lv_iload hx hb dJ6_init_2_87 (lv_at hl 0 rfl) ?_
        refine lv_iconst (v := 1) hx hb dJ6_init_2_89 (by decide) ?_
        refine lv_ishl hx hb dJ6_init_2_90 ?_
        refine b_top (nI_shlE (a := L.length) (k := 1) (c := 2 * L.length) rfl rfl (by decide) (by omega) (by omega)) ?_
        refine b_callq (br := [[(a, .inr (13, [.ref x.1, .int 1, .int x.2.2.2, .int (nI L.length)]))], [(o, .inr (14, [.null, .int 1, .int 0, .int 0]))]]) (b_runS ⟨hx, hb, hml, hown, hts⟩ (mt_cpR l Γ _ x.1 (2 * x.2.1) x.2.2.1 (2 * L.length) (by omega) (by omega) hsb.2.2.1) (lw_S q735 q736 q84 q737) rfl rfl 3 (by decide +kernel) ⟨(Nat.le_of_ble_eq_true rfl), (Nat.le_of_ble_eq_true rfl)⟩ (c_pre hP hD hS hA hK hE [2] rfl rfl ro_nil) rfl hl.1 rfl (Nat.le_of_ble_eq_true rfl) dJ6_init_2_91 ⟨(by first | omega | (dsimp only; omega)), (by first | omega | (dsimp only; omega))⟩) hP hD hS hA [2] [0, 1] rfl rfl rfl (fun r_7 u_7 H locs hw_7 hP hD hS _ => ?_)
        obtain ⟨w_7, g_7, hg_7, rfl, rfl⟩ := hw_7
        have hP : WP Γ [[(x.1, .inl (Γ.2.1 1, 2 * x.2.1, .inl x.2.2.1))], [(w_7, .inl (Γ.2.1 1, 2 * L.length, .inl g_7))], [(a, .inr (13, [.ref x.1, .int 1, .int x.2.2.2, .int (nI L.length)]))], [(o, .inr (14, [.null, .int 1, .int 0, .int 0]))]] H := hP
        have hD : WD A [[(x.1, .inl (Γ.2.1 1, 2 * x.2.1, .inl x.2.2.1))], [(w_7, .inl (Γ.2.1 1, 2 * L.length, .inl g_7))], [(a, .inr (13, [.ref x.1, .int 1, .int x.2.2.2, .int (nI L.length)]))], [(o, .inr (14, [.null, .int 1, .int 0, .int 0]))]] := hD
        refine W.eq (g2 := F0 mi_ 94 ls ([.ref w_7, .ref o])) rfl ?_
        refine b_putF (C := RJ6) (T := TJ6) (N := 4) (ty := (tyJ6 0)) (v := .ref w_7) hx hb hts in_J6 tyJ6_ok nmJ6 hown hK hP hD hS 3 rfl rfl 0 (by decide) q771 (fun _ h9 => h9) rfl hname rfl rfl (by decide +kernel) rfl rfl (Nat.le_of_ble_eq_true rfl) dJ6_init_2_94 (fun H locs hP hD hS => ?_)
        have hP : WP Γ [[(x.1, .inl (Γ.2.1 1, 2 * x.2.1, .inl x.2.2.1))], [(w_7, .inl (Γ.2.1 1, 2 * L.length, .inl g_7))], [(a, .inr (13, [.ref x.1, .int 1, .int x.2.2.2, .int (nI L.length)]))], [(o, .inr (14, [.ref w_7, .int 1, .int 0, .int 0]))]] H := hP
        have hD : WD A [[(x.1, .inl (Γ.2.1 1, 2 * x.2.1, .inl x.2.2.1))], [(w_7, .inl (Γ.2.1 1, 2 * L.length, .inl g_7))], [(a, .inr (13, [.ref x.1, .int 1, .int x.2.2.2, .int (nI L.length)]))], [(o, .inr (14, [.ref w_7, .int 1, .int 0, .int 0]))]] := hD
        have hP : WP Γ [[(o, .inr (14, [.ref w_7, .int 1, .int 0, .int 0]))], [(w_7, .inl (Γ.2.1 1, 2 * L.length, .inl g_7))], [(a, .inr (13, [.ref x.1, .int 1, .int x.2.2.2, .int (nI L.length)]))], [(x.1, .inl (Γ.2.1 1, 2 * x.2.1, .inl x.2.2.1))]] H := bP_sel hP [3, 1, 2, 0] rfl
        have hD : WD A [[(o, .inr (14, [.ref w_7, .int 1, .int 0, .int 0]))], [(w_7, .inl (Γ.2.1 1, 2 * L.length, .inl g_7))], [(a, .inr (13, [.ref x.1, .int 1, .int x.2.2.2, .int (nI L.length)]))], [(x.1, .inl (Γ.2.1 1, 2 * x.2.1, .inl x.2.2.1))]] := bD_sel hD [3, 1, 2, 0] rfl rfl
        exact b_vret hx hb hr hlocks hP hD hS (by first | omega | (dsimp only; omega)) (by first | omega | (dsimp only; omega)) ⟨w_7, g_7, hg_7, rfl⟩ dJ6_init_2_97
      · -- 51 not taken
        exact absurd hmz c_6
  · -- 19 not taken
    have n_4 : ¬ (0 = 0) := fun h => c_4 ((nI_eq (a := 0) (b := 0) (by omega) (by omega)).mpr h)
    exact absurd n_4 (by omega)
set_option maxHeartbeats 4000000 in
set_option maxRecDepth 100000 in
theorem mt_Str_ofSB_1 (l : Launch) (Γ : GE) (sz : Nat) (o : Nat) (a : Nat) (x : SBT) (L : List Int32) (hsb : sbF 1 x L) (hmz : x.2.2.2 = 0) : KM l yJ6_init cJ6_init 2 none Γ 4 130 1 1024 [.ref o, .ref a] [[(o, .inr (14, [.null, .int 0, .int 0, .int 0]))], [(a, .inr (13, [.ref x.1, .int 1, .int x.2.2.2, .int (nI L.length)]))], [(x.1, .inl (Γ.2.1 1, 2 * x.2.1, .inl x.2.2.1))]] [] sz (Qv Γ (fun u_ => ∃ w : Nat, ∃ g : Nat → Int32, cpOk (2 * L.length) x.2.2.1 g ∧ u_ = [[(o, .inr (14, [.ref w, .int 1, .int 0, .int 0]))], [(w, .inl (Γ.2.1 1, 2 * L.length, .inl g))], [(a, .inr (13, [.ref x.1, .int 1, .int x.2.2.2, .int (nI L.length)]))], [(x.1, .inl (Γ.2.1 1, 2 * x.2.1, .inl x.2.2.1))]])) := by
  refine K_intro (by decide) (Nat.le_of_ble_eq_true rfl) ?_
  intro pr_ ev_ s mi_ below meth cd_ A ls hx hb hr hml hown hts hlocks hname hK hE hRo hP hD hA hS hsz hl
  have hl : lv_has ls 2 [(0, .ref o), (1, .ref a)] := hl
  have hown : s.vm.findClass RJ6 = some mi_.cls := hown
  refine lv_aload_n hx hb dJ6_init_0 rfl (lv_at hl 0 rfl) ?_
  refine lv_aload_n hx hb dJ6_init_1 rfl (lv_at hl 1 rfl) ?_
  refine lv_null hx hb dJ6_init_2 ?_
  refine b_callv (br := []) (b_runI ⟨hx, hb, hml, hown, hts⟩ (mt_Str_ofAB_1 l Γ _ o a x L hsb (by assumption)) (lw_meth q719) q71 q717 q718 rfl rfl rfl 2 (by decide +kernel) ⟨(Nat.le_of_ble_eq_true rfl), (Nat.le_of_ble_eq_true rfl)⟩ (c_pre hP hD hS hA hK hE [0, 1, 2] rfl rfl ro_nil) rfl hl.1 rfl (Nat.le_of_ble_eq_true rfl) dJ6_init_3 ⟨(Nat.le_of_ble_eq_true rfl), (Nat.le_of_ble_eq_true rfl)⟩) hP hD hS hA [0, 1, 2] [] rfl rfl rfl (fun u_1 H locs hw_1 hP hD hS _ => ?_)
  obtain ⟨w_1, g_1, hg_1, rfl⟩ := hw_1
  have hP : WP Γ [[(o, .inr (14, [.ref w_1, .int 1, .int 0, .int 0]))], [(w_1, .inl (Γ.2.1 1, 2 * L.length, .inl g_1))], [(a, .inr (13, [.ref x.1, .int 1, .int x.2.2.2, .int (nI L.length)]))], [(x.1, .inl (Γ.2.1 1, 2 * x.2.1, .inl x.2.2.1))]] H := hP
  have hD : WD A [[(o, .inr (14, [.ref w_1, .int 1, .int 0, .int 0]))], [(w_1, .inl (Γ.2.1 1, 2 * L.length, .inl g_1))], [(a, .inr (13, [.ref x.1, .int 1, .int x.2.2.2, .int (nI L.length)]))], [(x.1, .inl (Γ.2.1 1, 2 * x.2.1, .inl x.2.2.1))]] := hD
  exact b_vret hx hb hr hlocks hP hD hS (Nat.le_of_ble_eq_true rfl) (Nat.le_of_ble_eq_true rfl) ⟨w_1, g_1, hg_1, rfl⟩ dJ6_init_6
set_option maxHeartbeats 4000000 in
set_option maxRecDepth 100000 in
theorem mt_SB_toString_1 (l : Launch) (Γ : GE) (sz : Nat) (a : Nat) (x : SBT) (L : List Int32) (hsb : sbF 1 x L) (hmz : x.2.2.2 = 0) : KM l yJ5_toString cJ5_toString 1 (some (FieldType.object "java/lang/String")) Γ 5 151 2 1028 [.ref a] [[(a, .inr (13, [.ref x.1, .int 1, .int x.2.2.2, .int (nI L.length)]))], [(x.1, .inl (Γ.2.1 1, 2 * x.2.1, .inl x.2.2.1))]] [] sz (Qq Γ (fun r_ u_ => ∃ o : Nat, ∃ y : SST, stU y L ∧ r_ = some o ∧ u_ = [[(o, .inr (14, [.ref y.1, .int 1, .int 0, .int 0]))], [(y.1, .inl (Γ.2.1 1, 2 * L.length, .inl y.2))], [(a, .inr (13, [.ref x.1, .int 1, .int x.2.2.2, .int (nI L.length)]))], [(x.1, .inl (Γ.2.1 1, 2 * x.2.1, .inl x.2.2.1))]])) := by
  refine K_intro (by decide) (Nat.le_of_ble_eq_true rfl) ?_
  intro pr_ ev_ s mi_ below meth cd_ A ls hx hb hr hml hown hts hlocks hname hK hE hRo hP hD hA hS hsz hl
  have hl : lv_has ls 1 [(0, .ref a)] := hl
  have hown : s.vm.findClass RJ5 = some mi_.cls := hown
  refine b_new (ci := 14) (fs := [.null, .int 0, .int 0, .int 0]) (C := RJ6) (T := TJ6) (N := 4) hx hb hts in_J6 tyJ6_ok hown q712 q713 q71 hK hP hD hS hA rfl (fun j hj => by rcases (show j = 0 ∨ j = 1 ∨ j = 2 ∨ j = 3 by omega) with rfl | rfl | rfl | rfl <;> rfl) (Nat.le_of_ble_eq_true rfl) (Nat.le_of_ble_eq_true rfl) dJ5_toString_0 (fun a_1 H hP hD hS => ?_)
  have hP : WP Γ [[(a, .inr (13, [.ref x.1, .int 1, .int x.2.2.2, .int (nI L.length)]))], [(x.1, .inl (Γ.2.1 1, 2 * x.2.1, .inl x.2.2.1))], [(a_1, .inr (14, [.null, .int 0, .int 0, .int 0]))]] H := hP
  have hD : WD A [[(a, .inr (13, [.ref x.1, .int 1, .int x.2.2.2, .int (nI L.length)]))], [(x.1, .inl (Γ.2.1 1, 2 * x.2.1, .inl x.2.2.1))], [(a_1, .inr (14, [.null, .int 0, .int 0, .int 0]))]] := hD
  refine lv_dup hx hb dJ5_toString_3 rfl ?_
  refine lv_aload_n hx hb dJ5_toString_4 rfl (lv_at hl 0 rfl) ?_
  refine b_callv (br := []) (b_runI ⟨hx, hb, hml, hown, hts⟩ (mt_Str_ofSB_1 l Γ _ a_1 a x L hsb (by assumption)) (lw_meth q716) q71 q714 q715 rfl rfl rfl 1 (by decide +kernel) ⟨(Nat.le_of_ble_eq_true rfl), (Nat.le_of_ble_eq_true rfl)⟩ (c_pre hP hD hS hA hK hE [2, 0, 1] rfl rfl ro_nil) rfl hl.1 rfl (Nat.le_of_ble_eq_true rfl) dJ5_toString_5 ⟨(Nat.le_of_ble_eq_true rfl), (Nat.le_of_ble_eq_true rfl)⟩) hP hD hS hA [2, 0, 1] [] rfl rfl rfl (fun u_2 H locs hw_2 hP hD hS _ => ?_)
  obtain ⟨w_2, g_2, hg_2, rfl⟩ := hw_2
  have hP : WP Γ [[(a_1, .inr (14, [.ref w_2, .int 1, .int 0, .int 0]))], [(w_2, .inl (Γ.2.1 1, 2 * L.length, .inl g_2))], [(a, .inr (13, [.ref x.1, .int 1, .int x.2.2.2, .int (nI L.length)]))], [(x.1, .inl (Γ.2.1 1, 2 * x.2.1, .inl x.2.2.1))]] H := hP
  have hD : WD A [[(a_1, .inr (14, [.ref w_2, .int 1, .int 0, .int 0]))], [(w_2, .inl (Γ.2.1 1, 2 * L.length, .inl g_2))], [(a, .inr (13, [.ref x.1, .int 1, .int x.2.2.2, .int (nI L.length)]))], [(x.1, .inl (Γ.2.1 1, 2 * x.2.1, .inl x.2.2.1))]] := hD
  exact b_aret hx hb hr (by first | exact Or.inl ⟨_, rfl⟩ | exact Or.inr ⟨_, rfl⟩) hlocks hP hD hS (Nat.le_of_ble_eq_true rfl) (Nat.le_of_ble_eq_true rfl) ⟨a_1, (w_2, g_2), (stU_of hsb hg_2), (by first | rfl | (simp; done)), rfl⟩ dJ5_toString_8
