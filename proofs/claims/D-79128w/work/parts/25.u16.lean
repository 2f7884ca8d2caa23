/-! JDK: the builder with letters beyond Latin-1 (two bytes each) -/
def isCh (c : Int32) : Prop := ∃ n, n < 65536 ∧ c = nI n
def b0 (c : Int32) : Int32 := nb (c >>> ((0 : Int32) &&& 31)).toInt8.toInt32
def b1 (c : Int32) : Int32 := nb (c >>> ((8 : Int32) &&& 31)).toInt8.toInt32
theorem i8_mod (m : Nat) (hm : m < 2 ^ 31) : (nI m).toInt8 = (nI (m % 256)).toInt8 := by
  apply Int8.toBitVec_inj.mp
  apply BitVec.eq_of_toNat_eq
  rw [Int32.toBitVec_toInt8, Int32.toBitVec_toInt8, BitVec.signExtend_eq_setWidth_of_le _ (by decide), BitVec.signExtend_eq_setWidth_of_le _ (by decide), BitVec.toNat_setWidth, BitVec.toNat_setWidth, pk_tn (by omega), pk_tn (by omega)]
  omega
theorem nb_and (m : Nat) (hm : m < 2 ^ 31) : nb (nI m).toInt8.toInt32 &&& 255 = nI (m % 256) := by
  rw [show nb (nI m).toInt8.toInt32 = (nI m).toInt8.toInt32 from pk_vb (nI m), i8_mod m hm]
  exact sc_k8 _ (by omega)
theorem or_add (a b : Nat) (ha : a < 256) : (a ||| b * 256) = a + b * 256 := by
  have h := Nat.shiftLeft_add_eq_or_of_lt (i := 8) (b := a) (by omega) b
  rw [Nat.shiftLeft_eq] at h
  rw [Nat.or_comm, show b * 256 = b * 2 ^ 8 from rfl, ← h]
  omega
theorem uc_ch {c : Int32} (h : isCh c) : uc (b0 c) (b1 c) = c := by
  obtain ⟨n, hn, rfl⟩ := h
  have e0 : (nI n) >>> ((0 : Int32) &&& 31) = nI n := nI_shrE (a := n) (k := 0) (c := n) rfl rfl (by decide) (by omega) (by omega)
  have e1 : (nI n) >>> ((8 : Int32) &&& 31) = nI (n / 256) := nI_shrE (a := n) (k := 8) (c := n / 256) rfl rfl (by decide) (by omega) (by omega)
  have f0 : (nI (n % 256)) <<< ((0 : Int32) &&& 31) = nI (n % 256) := nI_shlE (a := n % 256) (k := 0) (c := n % 256) rfl rfl (by decide) (by omega) (by omega)
  have f1 : (nI (n / 256 % 256)) <<< ((8 : Int32) &&& 31) = nI (n / 256 % 256 * 256) := nI_shlE (a := n / 256 % 256) (k := 8) (c := n / 256 % 256 * 256) rfl rfl (by decide) (by omega) (by omega)
  unfold uc b0 b1
  rw [e0, e1, nb_and n (by omega), nb_and (n / 256) (by omega), f0, f1, pk_char]
  have h3 : (nI (n % 256) ||| nI (n / 256 % 256 * 256)).toBitVec.toNat = n := by
    show ((nI (n % 256)).toBitVec ||| (nI (n / 256 % 256 * 256)).toBitVec).toNat = n
    rw [BitVec.toNat_or, pk_tn (by omega), pk_tn (by omega), or_add _ _ (by omega)]
    omega
  rw [h3, Nat.mod_eq_of_lt hn]
theorem lc_ch : ∀ b, b < 256 → isL (nI b) ∧ isCh (nI b) := fun b hb => ⟨by
  have : ∀ b, b < 256 → lc (nb (nI b)) = nI b := by decide +kernel
  exact this b hb, b, by omega, rfl⟩
theorem ch_lat {c : Int32} (h : isCh c) (hc : ¬ 255 < c) : isL c := by
  obtain ⟨n, hn, rfl⟩ := h
  have : n < 256 := by
    rw [show (255 : Int32) = nI 255 from rfl, nI_ltI (by omega) (by omega)] at hc
    omega
  exact (lc_ch n this).1
theorem ch_and (b : Int32) : isCh (b &&& 255) := by
  rw [pk_and b 8 (m := 255) (by decide)]
  exact ⟨_, by omega, rfl⟩
def put2 (f : Nat → Int32) (i : Nat) (c : Int32) : Nat → Int32 := upd (upd f (2 * i) (b0 c)) (2 * i + 1) (b1 c)
theorem put2_fit {f : Nat → Int32} {i : Nat} {c : Int32} (hf : ∀ j, fits .byte (.int (f j)) = true) : ∀ j, fits .byte (.int (put2 f i c j)) = true := by
  intro j
  simp only [put2, upd]
  split
  · exact nb_fit _
  · split
    · exact nb_fit _
    · exact hf j
theorem put2_at {f : Nat → Int32} {i : Nat} {c : Int32} (h : isCh c) : uc (put2 f i c (2 * i)) (put2 f i c (2 * i + 1)) = c := by
  have e1 : put2 f i c (2 * i) = b0 c := by rw [put2, pk_un (by omega), pk_us]
  have e2 : put2 f i c (2 * i + 1) = b1 c := by rw [put2, pk_us]
  rw [e1, e2]
  exact uc_ch h
theorem put2_ne {f : Nat → Int32} {i j : Nat} {c : Int32} (h : j ≠ i) : put2 f i c (2 * j) = f (2 * j) ∧ put2 f i c (2 * j + 1) = f (2 * j + 1) := by
  constructor
  · rw [put2, pk_un (by omega), pk_un (by omega)]
  · rw [put2, pk_un (by omega), pk_un (by omega)]
/-- a letter behind the text -/
theorem sbU_put {v cap : Nat} {f : Nat → Int32} {ml : Int32} {L : List Int32} {c : Int32} (h : sbF 1 (v, cap, f, ml) L) (hc : isCh c) (hl : L.length < cap) : sbF 1 (v, cap, put2 f L.length c, ml) (L ++ [c]) := by
  obtain ⟨h1, h2, h3, h4, h5⟩ := h
  refine ⟨by rw [List.length_append]; exact hl, h2, put2_fit h3, h4, fun j hj => ?_⟩
  rw [List.length_append, List.length_singleton] at hj
  rw [chrK, if_neg (by decide)]
  show uc (put2 f L.length c (2 * j)) (put2 f L.length c (2 * j + 1)) = _
  by_cases e : j < L.length
  · have := h5 j e
    rw [chrK, if_neg (by decide)] at this
    rw [(put2_ne (show j ≠ L.length by omega)).1, (put2_ne (show j ≠ L.length by omega)).2, gd_lo e]
    exact this
  · rw [show j = L.length by omega, put2_at hc, gd_hi (Nat.le_refl _), Nat.sub_self]
    rfl
theorem sbU_grow {v v2 cap cap2 : Nat} {f : Nat → Int32} {ml : Int32} {L : List Int32} (h : sbF 1 (v, cap, f, ml) L) (h1 : cap ≤ cap2) (h2 : cap2 ≤ 512) : sbF 1 (v2, cap2, va_cpy f (fun _ => 0) 0 0 (2 * cap), ml) L := by
  obtain ⟨a1, a2, a3, a4, a5⟩ := h
  refine ⟨Nat.le_trans a1 h1, h2, fun j => ?_, a4, fun j hj => ?_⟩
  · show fits .byte (.int (if 0 ≤ j ∧ j < 0 + 2 * cap then f (0 + (j - 0)) else 0)) = true
    split
    · exact a3 _
    · decide
  · have := a5 j hj
    rw [chrK, if_neg (by decide)] at this ⊢
    have hl : j < cap := Nat.lt_of_lt_of_le hj a1
    show uc (if 0 ≤ 2 * j ∧ 2 * j < 0 + 2 * cap then f (0 + (2 * j - 0)) else 0) (if 0 ≤ 2 * j + 1 ∧ 2 * j + 1 < 0 + 2 * cap then f (0 + (2 * j + 1 - 0)) else 0) = _
    rw [if_pos (by omega), if_pos (by omega), show 0 + (2 * j - 0) = 2 * j by omega, show 0 + (2 * j + 1 - 0) = 2 * j + 1 by omega]
    exact this
/-- bytes become letters -/
def infF (g : Nat → Int32) (f : Nat → Int32) : Nat → (Nat → Int32)
  | 0 => g
  | j + 1 => put2 (infF g f j) j (f j &&& 255)
theorem infF_fit {g f : Nat → Int32} (hg : ∀ j, fits .byte (.int (g j)) = true) : ∀ n j, fits .byte (.int (infF g f n j)) = true := by
  intro n
  induction n with
  | zero => exact hg
  | succ n ih => exact put2_fit ih
theorem infF_at {g f : Nat → Int32} : ∀ n j, j < n → uc (infF g f n (2 * j)) (infF g f n (2 * j + 1)) = f j &&& 255 := by
  intro n
  induction n with
  | zero => intro j h; omega
  | succ n ih =>
    intro j h
    rw [infF]
    by_cases e : j = n
    · rw [e]; exact put2_at (ch_and _)
    · rw [(put2_ne e).1, (put2_ne e).2]; exact ih j (by omega)
theorem sbU_inf {v v2 cap : Nat} {f : Nat → Int32} {ml : Int32} {L : List Int32} (h : sbF 0 (v, cap, f, ml) L) : sbF 1 (v2, cap, infF (fun _ => 0) f L.length, ml) L := by
  obtain ⟨a1, a2, a3, a4, a5⟩ := h
  refine ⟨a1, a2, infF_fit (fun _ => sb_fit0 0) _, a4, fun j hj => ?_⟩
  have := a5 j hj
  rw [chrK, if_pos rfl] at this
  rw [chrK, if_neg (by decide)]
  show uc (infF (fun _ => 0) f L.length (2 * j)) (infF (fun _ => 0) f L.length (2 * j + 1)) = _
  rw [infF_at _ j hj, ← this]
  exact (lc_and _ (a3 j)).symm
theorem or_nn {a b c : Nat} (ha : a < 2 ^ 31) (hb : b < 2 ^ 31) (hc : c < 2 ^ 31) : ¬ (nI a ||| nI b ||| nI c) < 0 := by
  have h : (nI a ||| nI b ||| nI c) = nI (a ||| b ||| c) := by
    apply Int32.toBitVec_inj.mp
    apply BitVec.eq_of_toNat_eq
    show ((nI a).toBitVec ||| (nI b).toBitVec ||| (nI c).toBitVec).toNat = _
    rw [BitVec.toNat_or, BitVec.toNat_or, pk_tn (by omega), pk_tn (by omega), pk_tn (by omega), pk_tn]
    exact Nat.lt_of_lt_of_le (Nat.or_lt_two_pow (Nat.or_lt_two_pow ha hb) hc) (by decide)
  rw [h]
  exact nI_pos (Nat.or_lt_two_pow (Nat.or_lt_two_pow ha hb) hc)
set_option maxHeartbeats 4000000 in
set_option maxRecDepth 100000 in
theorem mt_U16_putChar (l : Launch) (Γ : GE) (sz : Nat) (d : Nat) (n : Nat) (f : Nat → Int32) (i : Nat) (c : Int32) (hi : i < n) (hn : n ≤ 2048) : KM l yJ7_putChar cJ7_putChar 3 none Γ 0 0 0 0 [.ref d, .int (nI i), .int c] [[(d, .inl (Γ.2.1 1, 2 * n, .inl f))]] [] sz (Qv Γ (fun u_ => u_ = [[(d, .inl (Γ.2.1 1, 2 * n, .inl (put2 f i c)))]])) := by
  refine K_intro (by decide) (Nat.le_of_ble_eq_true rfl) ?_
  intro pr_ ev_ s mi_ below meth cd_ A ls hx hb hr hml hown hts hlocks hname hK hE hRo hP hD hA hS hsz hl
  have hl : lv_has ls 3 [(0, .ref d), (1, .int (nI i)), (2, .int c)] := hl
  have hown : s.vm.findClass RJ7 = some mi_.cls := hown
  refine va_gets (C := "java/lang/StringUTF16") (n := "$assertionsDisabled") (d := "Z") hx hb hE.asrt hS hown (hts _ q643) (fun _ h9 => h9) dJ7_putChar_0 ?_
  refine lv_if_ne (tgt := 28) hx hb dJ7_putChar_3 (by decide) (fun c_1 => ?_) (fun c_1 => ?_)
  · -- 3 taken
    have n_1 : ¬ (1 = 0) := fun h => c_1 ((nI_eq (a := 1) (b := 0) (by omega) (by omega)).mpr h)
    refine lv_iload_n hx hb dJ7_putChar_28 rfl (lv_at hl 1 rfl) ?_
    refine lv_iconst (v := 1) hx hb dJ7_putChar_29 (by decide) ?_
    refine lv_ishl hx hb dJ7_putChar_30 ?_
    refine b_top (nI_shlE (a := i) (k := 1) (c := 2 * i) rfl rfl (by decide) (by omega) (by omega)) ?_
    refine lv_istore_n (lv' := [(1, .int (nI (2 * i))), (0, .ref d), (2, .int c)]) hx hb dJ7_putChar_31 rfl hl (by decide) rfl (fun ls hl => ?_)
    refine lv_aload_n hx hb dJ7_putChar_32 rfl (lv_at hl 1 rfl) ?_
    refine lv_iload_n hx hb dJ7_putChar_33 rfl (lv_at hl 0 rfl) ?_
    refine lv_iinc (v := (nI (2 * i + 1))) (lv' := [(1, .int (nI (2 * i + 1))), (0, .ref d), (2, .int c)]) hx hb dJ7_putChar_34 hl (k := 0) rfl (nI_addE (a := 2 * i) (b := 1) (c := 2 * i + 1) rfl rfl (by first | omega | rfl)) (by decide) rfl (fun ls hl => ?_)
    refine lv_iload_n hx hb dJ7_putChar_37 rfl (lv_at hl 2 rfl) ?_
    refine va_gets (C := "java/lang/StringUTF16") (n := "HI_BYTE_SHIFT") (d := "I") hx hb hE.hi hS hown (hts _ q645) (fun _ h9 => h9) dJ7_putChar_38 ?_
    refine lv_ishr hx hb dJ7_putChar_41 ?_
    refine lv_i2b hx hb dJ7_putChar_42 rfl ?_
    refine b_bast hx hb hK hP hD hS 0 rfl (2 * i) rfl (by omega) (by omega) dJ7_putChar_43 (fun H locs hP hD hS => ?_)
    have hP : WP Γ [[(d, .inl (Γ.2.1 1, 2 * n, .inl (upd f (2 * i) (vp_nar .byte ((c >>> (0 &&& 31)).toInt8.toInt32)))))]] H := hP
    have hD : WD A [[(d, .inl (Γ.2.1 1, 2 * n, .inl (upd f (2 * i) (vp_nar .byte ((c >>> (0 &&& 31)).toInt8.toInt32)))))]] := hD
    refine lv_aload_n hx hb dJ7_putChar_44 rfl (lv_at hl 1 rfl) ?_
    refine lv_iload_n hx hb dJ7_putChar_45 rfl (lv_at hl 0 rfl) ?_
    refine lv_iload_n hx hb dJ7_putChar_46 rfl (lv_at hl 2 rfl) ?_
    refine va_gets (C := "java/lang/StringUTF16") (n := "LO_BYTE_SHIFT") (d := "I") hx hb hE.lo hS hown (hts _ q647) (fun _ h9 => h9) dJ7_putChar_47 ?_
    refine lv_ishr hx hb dJ7_putChar_50 ?_
    refine lv_i2b hx hb dJ7_putChar_51 rfl ?_
    refine b_bast hx hb hK hP hD hS 0 rfl (2 * i + 1) rfl (by omega) (by omega) dJ7_putChar_52 (fun H locs hP hD hS => ?_)
    have hP : WP Γ [[(d, .inl (Γ.2.1 1, 2 * n, .inl (upd (upd f (2 * i) (vp_nar .byte ((c >>> (0 &&& 31)).toInt8.toInt32))) (2 * i + 1) (vp_nar .byte ((c >>> (8 &&& 31)).toInt8.toInt32)))))]] H := hP
    have hD : WD A [[(d, .inl (Γ.2.1 1, 2 * n, .inl (upd (upd f (2 * i) (vp_nar .byte ((c >>> (0 &&& 31)).toInt8.toInt32))) (2 * i + 1) (vp_nar .byte ((c >>> (8 &&& 31)).toInt8.toInt32)))))]] := hD
    exact b_vret hx hb hr hlocks hP hD hS (Nat.le_of_ble_eq_true rfl) (Nat.le_of_ble_eq_true rfl) (by rw [put2]; rfl) dJ7_putChar_53
  · -- 3 not taken
    have n_1 : 1 = 0 := (nI_eq (by omega) (by omega)).mp (show nI 1 = nI 0 from c_1)
    exact absurd n_1 (by omega)
set_option maxHeartbeats 4000000 in
set_option maxRecDepth 100000 in
theorem mt_U16_putCharSB (l : Launch) (Γ : GE) (sz : Nat) (d : Nat) (n : Nat) (f : Nat → Int32) (i : Nat) (c : Int32) (hi : i < n) (hn : n ≤ 2048) : KM l yJ7_putCharSB cJ7_putCharSB 3 none Γ 3 64 0 0 [.ref d, .int (nI i), .int c] [[(d, .inl (Γ.2.1 1, 2 * n, .inl f))]] [] sz (Qv Γ (fun u_ => u_ = [[(d, .inl (Γ.2.1 1, 2 * n, .inl (put2 f i c)))]])) := by
  refine K_intro (by decide) (Nat.le_of_ble_eq_true rfl) ?_
  intro pr_ ev_ s mi_ below meth cd_ A ls hx hb hr hml hown hts hlocks hname hK hE hRo hP hD hA hS hsz hl
  have hl : lv_has ls 3 [(0, .ref d), (1, .int (nI i)), (2, .int c)] := hl
  have hown : s.vm.findClass RJ7 = some mi_.cls := hown
  refine lv_iload_n hx hb dJ7_putCharSB_0 rfl (lv_at hl 1 rfl) ?_
  refine lv_aload_n hx hb dJ7_putCharSB_1 rfl (lv_at hl 0 rfl) ?_
  refine b_callv (br := [[(d, .inl (Γ.2.1 1, 2 * n, .inl f))]]) (b_runS ⟨hx, hb, hml, hown, hts⟩ (mt_U16_checkIndex l Γ _ i d n f (by first | exact hi | omega) (by first | exact hn | omega)) (lw_S q1498 q1499 q72 q1500) rfl rfl 2 (by decide +kernel) ⟨(Nat.le_of_ble_eq_true rfl), (Nat.le_of_ble_eq_true rfl)⟩ (c_pre hP hD hS hA hK hE [] rfl rfl (ro_own (br := [[(d, .inl (Γ.2.1 1, 2 * n, .inl f))]]) hP hD [] [0] rfl rfl rfl)) rfl hl.1 rfl (Nat.le_of_ble_eq_true rfl) dJ7_putCharSB_2 ⟨(Nat.le_of_ble_eq_true rfl), (Nat.le_of_ble_eq_true rfl)⟩) hP hD hS hA [] [0] rfl rfl rfl (fun u_1 H locs hw_1 hP hD hS _ => ?_)
  obtain rfl := hw_1
  have hP : WP Γ [[(d, .inl (Γ.2.1 1, 2 * n, .inl f))]] H := hP
  have hD : WD A [[(d, .inl (Γ.2.1 1, 2 * n, .inl f))]] := hD
  refine lv_aload_n hx hb dJ7_putCharSB_5 rfl (lv_at hl 0 rfl) ?_
  refine lv_iload_n hx hb dJ7_putCharSB_6 rfl (lv_at hl 1 rfl) ?_
  refine lv_iload_n hx hb dJ7_putCharSB_7 rfl (lv_at hl 2 rfl) ?_
  refine b_callv (br := []) (b_runS ⟨hx, hb, hml, hown, hts⟩ (mt_U16_putChar l Γ _ d n f i c (by first | exact hi | omega) (by first | exact hn | omega)) (lw_S q640 q641 q72 q642) rfl rfl 3 (by decide +kernel) ⟨(Nat.le_of_ble_eq_true rfl), (Nat.le_of_ble_eq_true rfl)⟩ (c_pre hP hD hS hA hK hE [0] rfl rfl ro_nil) rfl hl.1 rfl (Nat.le_of_ble_eq_true rfl) dJ7_putCharSB_8 ⟨(Nat.le_of_ble_eq_true rfl), (Nat.le_of_ble_eq_true rfl)⟩) hP hD hS hA [0] [] rfl rfl rfl (fun u_2 H locs hw_2 hP hD hS _ => ?_)
  obtain rfl := hw_2
  have hP : WP Γ [[(d, .inl (Γ.2.1 1, 2 * n, .inl (put2 f i c)))]] H := hP
  have hD : WD A [[(d, .inl (Γ.2.1 1, 2 * n, .inl (put2 f i c)))]] := hD
  exact b_vret hx hb hr hlocks hP hD hS (Nat.le_of_ble_eq_true rfl) (Nat.le_of_ble_eq_true rfl) (by first | rfl | (simp; done)) dJ7_putCharSB_11
set_option maxHeartbeats 4000000 in
set_option maxRecDepth 100000 in
theorem mt_Pre_offSizeN (l : Launch) (Γ : GE) (sz : Nat) (o : Nat) (k : Nat) (n : Nat) (hi : o + k ≤ n) (hn : n ≤ 4096) : KM l yJ19_checkFromIndexSize cJ19_checkFromIndexSize 4 (some FieldType.int) Γ 0 0 0 0 [.int (nI o), .int (nI k), .int (nI n), .null] [] [] sz (Qi Γ (fun r_ u_ => r_ = (nI o) ∧ u_ = [])) := by
  refine K_intro (by decide) (Nat.le_of_ble_eq_true rfl) ?_
  intro pr_ ev_ s mi_ below meth cd_ A ls hx hb hr hml hown hts hlocks hname hK hE hRo hP hD hA hS hsz hl
  have hl : lv_has ls 4 [(0, .int (nI o)), (1, .int (nI k)), (2, .int (nI n)), (3, .null)] := hl
  have hown : s.vm.findClass RJ19 = some mi_.cls := hown
  refine lv_iload_n hx hb dJ19_checkFromIndexSize_0 rfl (lv_at hl 2 rfl) ?_
  refine lv_iload_n hx hb dJ19_checkFromIndexSize_1 rfl (lv_at hl 0 rfl) ?_
  refine lv_ior hx hb dJ19_checkFromIndexSize_2 ?_
  refine lv_iload_n hx hb dJ19_checkFromIndexSize_3 rfl (lv_at hl 1 rfl) ?_
  refine lv_ior hx hb dJ19_checkFromIndexSize_4 ?_
  refine lv_if_lt (tgt := 15) hx hb dJ19_checkFromIndexSize_5 (by decide) (fun c_1 => ?_) (fun c_1 => ?_)
  · -- 5 taken
    exact absurd (or_nn (by omega) (by omega) (by omega)) (not_not_intro c_1)
  · -- 5 not taken
    refine lv_iload_n hx hb dJ19_checkFromIndexSize_8 rfl (lv_at hl 1 rfl) ?_
    refine lv_iload_n hx hb dJ19_checkFromIndexSize_9 rfl (lv_at hl 2 rfl) ?_
    refine lv_iload_n hx hb dJ19_checkFromIndexSize_10 rfl (lv_at hl 0 rfl) ?_
    refine lv_isub hx hb dJ19_checkFromIndexSize_11 ?_
    refine b_top (nI_subE (a := n) (b := o) (c := (n - o)) rfl rfl (by first | omega | rfl)) ?_
    refine lv_icmp_le (tgt := 23) hx hb dJ19_checkFromIndexSize_12 (by decide) (fun c_2 => ?_) (fun c_2 => ?_)
    · -- 12 taken
      have n_2 : k ≤ (n - o) := (nI_leI (by omega) (by omega)).mp (show nI k ≤ nI (n - o) from c_2)
      have m_2 : ¬ ((n - o) < k) := by omega
      have d_2 := Int32.not_lt.mpr c_2
      refine lv_iload_n hx hb dJ19_checkFromIndexSize_23 rfl (lv_at hl 0 rfl) ?_
      exact b_iret hx hb hr hlocks hP hD hS (Nat.le_of_ble_eq_true rfl) (Nat.le_of_ble_eq_true rfl) ⟨(by first | with_reducible rfl | (simp [c_1, n_2, m_2, d_2]; done) | rfl), (by first | with_reducible rfl | (simp [c_1, n_2, m_2, d_2]; done) | rfl)⟩ dJ19_checkFromIndexSize_24
    · -- 12 not taken
      have n_2 : ¬ (k ≤ (n - o)) := fun h => c_2 ((nI_leI (a := k) (b := (n - o)) (by omega) (by omega)).mpr h)
      have m_2 : (n - o) < k := by omega
      have d_2 := Int32.not_le.mp c_2
      exfalso; omega
set_option maxHeartbeats 4000000 in
set_option maxRecDepth 100000 in
theorem mt_Pre_offSizeR (l : Launch) (Γ : GE) (sz : Nat) (o : Nat) (k : Nat) (n : Nat) (t : Nat) (hi : o + k ≤ n) (hn : n ≤ 4096) : KM l yJ19_checkFromIndexSize cJ19_checkFromIndexSize 4 (some FieldType.int) Γ 0 0 0 0 [.int (nI o), .int (nI k), .int (nI n), .ref t] [] [] sz (Qi Γ (fun r_ u_ => r_ = (nI o) ∧ u_ = [])) := by
  refine K_intro (by decide) (Nat.le_of_ble_eq_true rfl) ?_
  intro pr_ ev_ s mi_ below meth cd_ A ls hx hb hr hml hown hts hlocks hname hK hE hRo hP hD hA hS hsz hl
  have hl : lv_has ls 4 [(0, .int (nI o)), (1, .int (nI k)), (2, .int (nI n)), (3, .ref t)] := hl
  have hown : s.vm.findClass RJ19 = some mi_.cls := hown
  refine lv_iload_n hx hb dJ19_checkFromIndexSize_0 rfl (lv_at hl 2 rfl) ?_
  refine lv_iload_n hx hb dJ19_checkFromIndexSize_1 rfl (lv_at hl 0 rfl) ?_
  refine lv_ior hx hb dJ19_checkFromIndexSize_2 ?_
  refine lv_iload_n hx hb dJ19_checkFromIndexSize_3 rfl (lv_at hl 1 rfl) ?_
  refine lv_ior hx hb dJ19_checkFromIndexSize_4 ?_
  refine lv_if_lt (tgt := 15) hx hb dJ19_checkFromIndexSize_5 (by decide) (fun c_1 => ?_) (fun c_1 => ?_)
  · -- 5 taken
    exact absurd (or_nn (by omega) (by omega) (by omega)) (not_not_intro c_1)
  · -- 5 not taken
    refine lv_iload_n hx hb dJ19_checkFromIndexSize_8 rfl (lv_at hl 1 rfl) ?_
    refine lv_iload_n hx hb dJ19_checkFromIndexSize_9 rfl (lv_at hl 2 rfl) ?_
    refine lv_iload_n hx hb dJ19_checkFromIndexSize_10 rfl (lv_at hl 0 rfl) ?_
    refine lv_isub hx hb dJ19_checkFromIndexSize_11 ?_
    refine b_top (nI_subE (a := n) (b := o) (c := (n - o)) rfl rfl (by first | omega | rfl)) ?_
    refine lv_icmp_le (tgt := 23) hx hb dJ19_checkFromIndexSize_12 (by decide) (fun c_2 => ?_) (fun c_2 => ?_)
    · -- 12 taken
      have n_2 : k ≤ (n - o) := (nI_leI (by omega) (by omega)).mp (show nI k ≤ nI (n - o) from c_2)
      have m_2 : ¬ ((n - o) < k) := by omega
      have d_2 := Int32.not_lt.mpr c_2
      refine lv_iload_n hx hb dJ19_checkFromIndexSize_23 rfl (lv_at hl 0 rfl) ?_
      exact b_iret hx hb hr hlocks hP hD hS (Nat.le_of_ble_eq_true rfl) (Nat.le_of_ble_eq_true rfl) ⟨(by first | with_reducible rfl | (simp [c_1, n_2, m_2, d_2]; done) | rfl), (by first | with_reducible rfl | (simp [c_1, n_2, m_2, d_2]; done) | rfl)⟩ dJ19_checkFromIndexSize_24
    · -- 12 not taken
      have n_2 : ¬ (k ≤ (n - o)) := fun h => c_2 ((nI_leI (a := k) (b := (n - o)) (by omega) (by omega)).mpr h)
      have m_2 : (n - o) < k := by omega
      have d_2 := Int32.not_le.mp c_2
      exfalso; omega
set_option maxHeartbeats 4000000 in
set_option maxRecDepth 100000 in
theorem mt_Str_offCount (l : Launch) (Γ : GE) (sz : Nat) (o : Nat) (k : Nat) (n : Nat) (hi : o + k ≤ n) (hn : n ≤ 4096) : KM l yJ6_checkBoundsOffCount cJ6_checkBoundsOffCount 3 (some FieldType.int) Γ 1 23 0 0 [.int (nI o), .int (nI k), .int (nI n)] [] [] sz (Qi Γ (fun r_ u_ => r_ = (nI o) ∧ u_ = [])) := by
  refine K_intro (by decide) (Nat.le_of_ble_eq_true rfl) ?_
  intro pr_ ev_ s mi_ below meth cd_ A ls hx hb hr hml hown hts hlocks hname hK hE hRo hP hD hA hS hsz hl
  have hl : lv_has ls 3 [(0, .int (nI o)), (1, .int (nI k)), (2, .int (nI n))] := hl
  have hown : s.vm.findClass RJ6 = some mi_.cls := hown
  refine lv_iload_n hx hb dJ6_checkBoundsOffCount_0 rfl (lv_at hl 0 rfl) ?_
  refine lv_iload_n hx hb dJ6_checkBoundsOffCount_1 rfl (lv_at hl 1 rfl) ?_
  refine lv_iload_n hx hb dJ6_checkBoundsOffCount_2 rfl (lv_at hl 2 rfl) ?_
  rcases hE.fmt with hz9 | ⟨t9, hz9⟩
  ·
    refine va_gets (C := "jdk/internal/util/Preconditions") (n := "SIOOBE_FORMATTER") (d := "Ljava/util/function/BiFunction;") hx hb hz9 hS hown (hts _ q631) (fun _ h9 => h9) dJ6_checkBoundsOffCount_3 ?_
    refine b_calli (br := []) (b_runS ⟨hx, hb, hml, hown, hts⟩ (mt_Pre_offSizeN l Γ _ o k n (by first | exact hi | omega) (by first | exact hn | omega)) (lw_S q699 q700 q88 q701) rfl rfl 4 (by decide +kernel) ⟨(Nat.le_of_ble_eq_true rfl), (Nat.le_of_ble_eq_true rfl)⟩ (c_pre hP hD hS hA hK hE [] rfl rfl ro_nil) rfl hl.1 rfl (Nat.le_of_ble_eq_true rfl) dJ6_checkBoundsOffCount_6 ⟨(Nat.le_of_ble_eq_true rfl), (Nat.le_of_ble_eq_true rfl)⟩) hP hD hS hA [] [] rfl rfl rfl (fun r_1 u_1 H locs hw_1 hP hD hS _ => ?_)
    obtain ⟨rfl, rfl⟩ := hw_1
    have hP : WP Γ [] H := hP
    have hD : WD A [] := hD
    exact b_iret hx hb hr hlocks hP hD hS (Nat.le_of_ble_eq_true rfl) (Nat.le_of_ble_eq_true rfl) ⟨(by first | rfl | (simp; done)), (by first | rfl | (simp; done))⟩ dJ6_checkBoundsOffCount_9
  ·
    refine va_gets (C := "jdk/internal/util/Preconditions") (n := "SIOOBE_FORMATTER") (d := "Ljava/util/function/BiFunction;") hx hb hz9 hS hown (hts _ q631) (fun _ h9 => h9) dJ6_checkBoundsOffCount_3 ?_
    refine b_calli (br := []) (b_runS ⟨hx, hb, hml, hown, hts⟩ (mt_Pre_offSizeR l Γ _ o k n t9 (by first | exact hi | omega) (by first | exact hn | omega)) (lw_S q699 q700 q88 q701) rfl rfl 4 (by decide +kernel) ⟨(Nat.le_of_ble_eq_true rfl), (Nat.le_of_ble_eq_true rfl)⟩ (c_pre hP hD hS hA hK hE [] rfl rfl ro_nil) rfl hl.1 rfl (Nat.le_of_ble_eq_true rfl) dJ6_checkBoundsOffCount_6 ⟨(Nat.le_of_ble_eq_true rfl), (Nat.le_of_ble_eq_true rfl)⟩) hP hD hS hA [] [] rfl rfl rfl (fun r_2 u_2 H locs hw_2 hP hD hS _ => ?_)
    obtain ⟨rfl, rfl⟩ := hw_2
    have hP : WP Γ [] H := hP
    have hD : WD A [] := hD
    exact b_iret hx hb hr hlocks hP hD hS (Nat.le_of_ble_eq_true rfl) (Nat.le_of_ble_eq_true rfl) ⟨(by first | rfl | (simp; done)), (by first | rfl | (simp; done))⟩ dJ6_checkBoundsOffCount_9
set_option maxHeartbeats 4000000 in
set_option maxRecDepth 100000 in
theorem mt_U16_offCount (l : Launch) (Γ : GE) (sz : Nat) (o : Nat) (k : Nat) (d : Nat) (n : Nat) (f : Nat → Int32) (hi : o + k ≤ n) (hn : n ≤ 4096) : KM l yJ7_checkBoundsOffCount cJ7_checkBoundsOffCount 3 none Γ 2 45 0 0 [.int (nI o), .int (nI k), .ref d] [] [[(d, .inl (Γ.2.1 1, 2 * n, .inl f))]] sz (Qv Γ (fun u_ => u_ = [])) := by
  refine K_intro (by decide) (Nat.le_of_ble_eq_true rfl) ?_
  intro pr_ ev_ s mi_ below meth cd_ A ls hx hb hr hml hown hts hlocks hname hK hE hRo hP hD hA hS hsz hl
  have hl : lv_has ls 3 [(0, .int (nI o)), (1, .int (nI k)), (2, .ref d)] := hl
  have hown : s.vm.findClass RJ7 = some mi_.cls := hown
  refine lv_iload_n hx hb dJ7_checkBoundsOffCount_0 rfl (lv_at hl 0 rfl) ?_
  refine lv_iload_n hx hb dJ7_checkBoundsOffCount_1 rfl (lv_at hl 1 rfl) ?_
  refine lv_aload_n hx hb dJ7_checkBoundsOffCount_2 rfl (lv_at hl 2 rfl) ?_
  refine b_calli (br := []) (b_runS ⟨hx, hb, hml, hown, hts⟩ (mt_U16_length l Γ _ d n f (by first | exact hn | omega)) (lw_S q625 q626 q72 q627) rfl rfl 1 (by decide +kernel) ⟨(Nat.le_of_ble_eq_true rfl), (Nat.le_of_ble_eq_true rfl)⟩ (c_pre hP hD hS hA hK hE [] rfl rfl (ro_pass (ro_sel (ro2 := [[(d, .inl (Γ.2.1 1, 2 * n, .inl f))]]) hRo [0] rfl) hD hS hA [] rfl)) rfl hl.1 rfl (Nat.le_of_ble_eq_true rfl) dJ7_checkBoundsOffCount_3 ⟨(Nat.le_of_ble_eq_true rfl), (Nat.le_of_ble_eq_true rfl)⟩) hP hD hS hA [] [] rfl rfl rfl (fun r_1 u_1 H locs hw_1 hP hD hS _ => ?_)
  obtain ⟨rfl, rfl⟩ := hw_1
  have hP : WP Γ [] H := hP
  have hD : WD A [] := hD
  refine b_calli (br := []) (b_runS ⟨hx, hb, hml, hown, hts⟩ (mt_Str_offCount l Γ _ o k n (by first | exact hi | omega) (by first | exact hn | omega)) (lw_S q696 q697 q71 q698) rfl rfl 3 (by decide +kernel) ⟨(Nat.le_of_ble_eq_true rfl), (Nat.le_of_ble_eq_true rfl)⟩ (c_pre hP hD hS hA hK hE [] rfl rfl ro_nil) rfl hl.1 rfl (Nat.le_of_ble_eq_true rfl) dJ7_checkBoundsOffCount_6 ⟨(Nat.le_of_ble_eq_true rfl), (Nat.le_of_ble_eq_true rfl)⟩) hP hD hS hA [] [] rfl rfl rfl (fun r_2 u_2 H locs hw_2 hP hD hS _ => ?_)
  obtain ⟨rfl, rfl⟩ := hw_2
  have hP : WP Γ [] H := hP
  have hD : WD A [] := hD
  refine lv_pop hx hb dJ7_checkBoundsOffCount_9 rfl ?_
  exact b_vret hx hb hr hlocks hP hD hS (Nat.le_of_ble_eq_true rfl) (Nat.le_of_ble_eq_true rfl) (by first | rfl | (simp; done)) dJ7_checkBoundsOffCount_10
set_option maxHeartbeats 4000000 in
set_option maxRecDepth 100000 in
theorem mt_U16_nbl (l : Launch) (Γ : GE) (sz : Nat) (n : Nat) (hn : n ≤ 4096) : KM l yJ7_newBytesLength cJ7_newBytesLength 1 (some FieldType.int) Γ 0 0 0 0 [.int (nI n)] [] [] sz (Qi Γ (fun r_ u_ => r_ = (nI (2 * n)) ∧ u_ = [])) := by
  refine K_intro (by decide) (Nat.le_of_ble_eq_true rfl) ?_
  intro pr_ ev_ s mi_ below meth cd_ A ls hx hb hr hml hown hts hlocks hname hK hE hRo hP hD hA hS hsz hl
  have hl : lv_has ls 1 [(0, .int (nI n))] := hl
  have hown : s.vm.findClass RJ7 = some mi_.cls := hown
  refine lv_iload_n hx hb dJ7_newBytesLength_0 rfl (lv_at hl 0 rfl) ?_
  refine lv_if_ge (tgt := 12) hx hb dJ7_newBytesLength_1 (by decide) (fun c_1 => ?_) (fun c_1 => ?_)
  · -- 1 taken
    have n_1 : 0 ≤ n := (nI_leI (by omega) (by omega)).mp (show nI 0 ≤ nI n from c_1)
    have m_1 : ¬ (n < 0) := by omega
    have d_1 := Int32.not_lt.mpr c_1
    refine lv_iload_n hx hb dJ7_newBytesLength_12 rfl (lv_at hl 0 rfl) ?_
    refine lv_ldc hx hb hown (hts _ q231) dJ7_newBytesLength_13 ?_
    refine lv_icmp_lt (tgt := 55) hx hb dJ7_newBytesLength_15 (by decide) (fun c_2 => ?_) (fun c_2 => ?_)
    · -- 15 taken
      have n_2 : n < 1073741823 := (nI_ltI (by omega) (by omega)).mp (show nI n < nI 1073741823 from c_2)
      refine lv_iload_n hx hb dJ7_newBytesLength_55 rfl (lv_at hl 0 rfl) ?_
      refine lv_iconst (v := 1) hx hb dJ7_newBytesLength_56 (by decide) ?_
      refine lv_ishl hx hb dJ7_newBytesLength_57 ?_
      refine b_top (nI_shlE (a := n) (k := 1) (c := 2 * n) rfl rfl (by decide) (by omega) (by omega)) ?_
      exact b_iret hx hb hr hlocks hP hD hS (Nat.le_of_ble_eq_true rfl) (Nat.le_of_ble_eq_true rfl) ⟨(by first | with_reducible rfl | (simp [n_1, m_1, d_1, n_2, c_2]; done) | rfl), (by first | with_reducible rfl | (simp [n_1, m_1, d_1, n_2, c_2]; done) | rfl)⟩ dJ7_newBytesLength_58
    · -- 15 not taken
      have n_2 : ¬ (n < 1073741823) := fun h => c_2 ((nI_ltI (a := n) (b := 1073741823) (by omega) (by omega)).mpr h)
      exfalso; omega
  · -- 1 not taken
    have n_1 : ¬ (0 ≤ n) := fun h => c_1 ((nI_leI (a := 0) (b := n) (by omega) (by omega)).mpr h)
    have m_1 : n < 0 := by omega
    have d_1 := Int32.not_le.mp c_1
    exfalso; omega
set_option maxHeartbeats 4000000 in
set_option maxRecDepth 100000 in
theorem mt_U16_nbf (l : Launch) (Γ : GE) (sz : Nat) (n : Nat) (hn : n ≤ 4096) : KM l yJ7_newBytesFor cJ7_newBytesFor 1 (some (FieldType.array FieldType.byte)) Γ 1 20 1 (2 * n) [.int (nI n)] [] [] sz (Qq Γ (fun r_ u_ => ∃ w : Nat, r_ = some w ∧ u_ = [[(w, .inl (Γ.2.1 1, 2 * n, .inl (fun _ => 0)))]])) := by
  refine K_intro (by decide) (Nat.le_of_ble_eq_true rfl) ?_
  intro pr_ ev_ s mi_ below meth cd_ A ls hx hb hr hml hown hts hlocks hname hK hE hRo hP hD hA hS hsz hl
  have hl : lv_has ls 1 [(0, .int (nI n))] := hl
  have hown : s.vm.findClass RJ7 = some mi_.cls := hown
  refine lv_iload_n hx hb dJ7_newBytesFor_0 rfl (lv_at hl 0 rfl) ?_
  refine b_calli (br := []) (b_runS ⟨hx, hb, hml, hown, hts⟩ (mt_U16_nbl l Γ _ n (by first | exact hn | omega)) (lw_S q228 q229 q72 q230) rfl rfl 1 (by decide +kernel) ⟨(Nat.le_of_ble_eq_true rfl), (Nat.le_of_ble_eq_true rfl)⟩ (c_pre hP hD hS hA hK hE [] rfl rfl ro_nil) rfl hl.1 rfl (Nat.le_of_ble_eq_true rfl) dJ7_newBytesFor_1 ⟨(by first | omega | (dsimp only; omega)), (by first | omega | (dsimp only; omega))⟩) hP hD hS hA [] [] rfl rfl rfl (fun r_1 u_1 H locs hw_1 hP hD hS _ => ?_)
  obtain ⟨rfl, rfl⟩ := hw_1
  have hP : WP Γ [] H := hP
  have hD : WD A [] := hD
  refine b_newb hx hb hts hK hP hD hS hA (2 * n) rfl (by omega) q246 (by first | omega | (dsimp only; omega)) (by first | omega | (dsimp only; omega)) dJ7_newBytesFor_4 (fun a_2 H hP hD hS => ?_)
  have hP : WP Γ [[(a_2, .inl (Γ.2.1 1, 2 * n, .inl (fun _ => 0)))]] H := hP
  have hD : WD A [[(a_2, .inl (Γ.2.1 1, 2 * n, .inl (fun _ => 0)))]] := hD
  exact b_aret hx hb hr (by first | exact Or.inl ⟨_, rfl⟩ | exact Or.inr ⟨_, rfl⟩) hlocks hP hD hS (by first | omega | (dsimp only; omega)) (by first | omega | (dsimp only; omega)) ⟨a_2, (by first | rfl | (simp; done)), rfl⟩ dJ7_newBytesFor_6
set_option maxHeartbeats 4000000 in
set_option maxRecDepth 100000 in
theorem mt_U16_inflate (l : Launch) (Γ : GE) (sz : Nat) (b : Nat) (nb_ : Nat) (f : Nat → Int32) (d : Nat) (n : Nat) (g : Nat → Int32) (k : Nat) (h1 : k ≤ nb_) (h2 : k ≤ n) (h3 : nb_ ≤ 2048 ∧ n ≤ 2048) : KM l yJ7_inflate cJ7_inflate 6 none Γ 3 67 0 0 [.ref b, .int 0, .ref d, .int 0, .int (nI k)] [[(b, .inl (Γ.2.1 1, nb_, .inl f))], [(d, .inl (Γ.2.1 1, 2 * n, .inl g))]] [] sz (Qv Γ (fun u_ => u_ = [[(b, .inl (Γ.2.1 1, nb_, .inl f))], [(d, .inl (Γ.2.1 1, 2 * n, .inl (infF g f k)))]])) := by
  refine K_intro (by decide) (Nat.le_of_ble_eq_true rfl) ?_
  intro pr_ ev_ s mi_ below meth cd_ A ls hx hb hr hml hown hts hlocks hname hK hE hRo hP hD hA hS hsz hl
  have hl : lv_has ls 6 [(0, .ref b), (1, .int 0), (2, .ref d), (3, .int 0), (4, .int (nI k))] := hl
  have hown : s.vm.findClass RJ7 = some mi_.cls := hown
  refine lv_iload_n hx hb dJ7_inflate_0 rfl (lv_at hl 3 rfl) ?_
  refine lv_iload hx hb dJ7_inflate_1 (lv_at hl 4 rfl) ?_
  refine lv_aload_n hx hb dJ7_inflate_3 rfl (lv_at hl 2 rfl) ?_
  refine b_callv (br := [[(b, .inl (Γ.2.1 1, nb_, .inl f))], [(d, .inl (Γ.2.1 1, 2 * n, .inl g))]]) (b_runS ⟨hx, hb, hml, hown, hts⟩ (mt_U16_offCount l Γ _ 0 k d n g (by omega) (by omega)) (lw_S q693 q694 q72 q695) rfl rfl 3 (by decide +kernel) ⟨(Nat.le_of_ble_eq_true rfl), (Nat.le_of_ble_eq_true rfl)⟩ (c_pre hP hD hS hA hK hE [] rfl rfl (ro_own (br := [[(d, .inl (Γ.2.1 1, 2 * n, .inl g))]]) hP hD [] [1] rfl rfl rfl)) rfl hl.1 rfl (Nat.le_of_ble_eq_true rfl) dJ7_inflate_4 ⟨(Nat.le_of_ble_eq_true rfl), (Nat.le_of_ble_eq_true rfl)⟩) hP hD hS hA [] [0, 1] rfl rfl rfl (fun u_1 H locs hw_1 hP hD hS _ => ?_)
  obtain rfl := hw_1
  have hP : WP Γ [[(b, .inl (Γ.2.1 1, nb_, .inl f))], [(d, .inl (Γ.2.1 1, 2 * n, .inl g))]] H := hP
  have hD : WD A [[(b, .inl (Γ.2.1 1, nb_, .inl f))], [(d, .inl (Γ.2.1 1, 2 * n, .inl g))]] := hD
  refine lv_iconst (v := 0) hx hb dJ7_inflate_7 (by decide) ?_
  refine lv_istore (lv' := [(5, .int 0), (0, .ref b), (1, .int 0), (2, .ref d), (3, .int 0), (4, .int (nI k))]) hx hb dJ7_inflate_8 hl (by decide) rfl (fun ls hl => ?_)
  rw [show g = (infF g f 0) from rfl] at hP hD
  have loop_2 : ∀ (fuel : Nat) (j : Nat), k - j < fuel → (j ≤ k) → ∀ (H : Heap) (locs : List Loc) (ls : Array Slot), WP Γ [[(b, .inl (Γ.2.1 1, nb_, .inl f))], [(d, .inl (Γ.2.1 1, 2 * n, .inl (infF g f j)))]] H → WD A [[(b, .inl (Γ.2.1 1, nb_, .inl f))], [(d, .inl (Γ.2.1 1, 2 * n, .inl (infF g f j)))]] → va_S A s.heap H locs → lv_has ls 6 [(5, .int (nI j)), (0, .ref b), (1, .int (nI j)), (2, .ref d), (3, .int (nI j)), (4, .int (nI k))] → W pr_ l ev_ { frames := 3, cells := 0, slots := 0, locals := 67 } s mi_ ([.ref b, .int 0, .ref d, .int 0, .int (nI k)] : List Value).toArray below meth cd_ H locs 0 0 (MQ below (Qv Γ (fun u_ => u_ = [[(b, .inl (Γ.2.1 1, nb_, .inl f))], [(d, .inl (Γ.2.1 1, 2 * n, .inl (infF g f k)))]]) A) ([.ref b, .int 0, .ref d, .int 0, .int (nI k)] : List Value).toArray s 0 0 A) (F0 mi_ 10 ls ([])) := by
    intro fuel
    induction fuel with
    | zero => intro j hfuel; exact absurd hfuel (Nat.not_lt_zero _)
    | succ fuel ih =>
      intro j hfuel hj H locs ls hP hD hS hl
      refine lv_iload hx hb dJ7_inflate_10 (lv_at hl 0 rfl) ?_
      refine lv_iload hx hb dJ7_inflate_12 (lv_at hl 5 rfl) ?_
      refine lv_icmp_ge (tgt := 41) hx hb dJ7_inflate_14 (by decide) (fun c_3 => ?_) (fun c_3 => ?_)
      · -- 14 taken
        have n_3 : k ≤ j := (nI_leI (by omega) (by omega)).mp (show nI k ≤ nI j from c_3)
        have m_3 : ¬ (j < k) := by omega
        have d_3 := Int32.not_lt.mpr c_3
        exact b_vret hx hb hr hlocks hP hD hS (Nat.le_of_ble_eq_true rfl) (Nat.le_of_ble_eq_true rfl) (by rw [show k = j by omega]) dJ7_inflate_41
      · -- 14 not taken
        have n_3 : ¬ (k ≤ j) := fun h => c_3 ((nI_leI (a := k) (b := j) (by omega) (by omega)).mpr h)
        have m_3 : j < k := by omega
        have d_3 := Int32.not_le.mp c_3
        refine lv_aload_n hx hb dJ7_inflate_17 rfl (lv_at hl 3 rfl) ?_
        refine lv_iload_n hx hb dJ7_inflate_18 rfl (lv_at hl 4 rfl) ?_
        refine lv_iinc (v := (nI (j + 1))) (lv' := [(3, .int (nI (j + 1))), (5, .int (nI j)), (0, .ref b), (1, .int (nI j)), (2, .ref d), (4, .int (nI k))]) hx hb dJ7_inflate_19 hl (k := 4) rfl (nI_addE (a := j) (b := 1) (c := j + 1) rfl rfl (by first | omega | rfl)) (by decide) rfl (fun ls hl => ?_)
        refine lv_aload_n hx hb dJ7_inflate_22 rfl (lv_at hl 2 rfl) ?_
        refine lv_iload_n hx hb dJ7_inflate_23 rfl (lv_at hl 3 rfl) ?_
        refine lv_iinc (v := (nI (j + 1))) (lv' := [(1, .int (nI (j + 1))), (3, .int (nI (j + 1))), (5, .int (nI j)), (0, .ref b), (2, .ref d), (4, .int (nI k))]) hx hb dJ7_inflate_24 hl (k := 3) rfl (nI_addE (a := j) (b := 1) (c := j + 1) rfl rfl (by first | omega | rfl)) (by decide) rfl (fun ls hl => ?_)
        refine b_bald hx hb hK (b_at (k := 0) hP rfl) j rfl (by omega) (by omega) dJ7_inflate_27 ?_
        refine lv_sipush (v := 255) hx hb dJ7_inflate_28 (by decide) ?_
        refine lv_iand hx hb dJ7_inflate_31 ?_
        refine b_callv (br := [[(b, .inl (Γ.2.1 1, nb_, .inl f))]]) (b_runS ⟨hx, hb, hml, hown, hts⟩ (mt_U16_putChar l Γ _ d n (infF g f j) j ((f j) &&& 255) (by omega) (by omega)) (lw_S q640 q641 q72 q642) rfl rfl 3 (by decide +kernel) ⟨(Nat.le_of_ble_eq_true rfl), (Nat.le_of_ble_eq_true rfl)⟩ (c_pre hP hD hS hA hK hE [1] rfl rfl ro_nil) rfl hl.1 rfl (Nat.le_of_ble_eq_true rfl) dJ7_inflate_32 ⟨(Nat.le_of_ble_eq_true rfl), (Nat.le_of_ble_eq_true rfl)⟩) hP hD hS hA [1] [0] rfl rfl rfl (fun u_4 H locs hw_4 hP hD hS _ => ?_)
        obtain rfl := hw_4
        have hP : WP Γ [[(d, .inl (Γ.2.1 1, 2 * n, .inl (put2 (infF g f j) j ((f j) &&& 255))))], [(b, .inl (Γ.2.1 1, nb_, .inl f))]] H := hP
        have hD : WD A [[(d, .inl (Γ.2.1 1, 2 * n, .inl (put2 (infF g f j) j ((f j) &&& 255))))], [(b, .inl (Γ.2.1 1, nb_, .inl f))]] := hD
        rw [show (put2 (infF g f j) j ((f j) &&& 255)) = (infF g f (j + 1)) from rfl] at hP hD
        refine lv_iinc (v := (nI (j + 1))) (lv' := [(5, .int (nI (j + 1))), (1, .int (nI (j + 1))), (3, .int (nI (j + 1))), (0, .ref b), (2, .ref d), (4, .int (nI k))]) hx hb dJ7_inflate_35 hl (k := 2) rfl (nI_addE (a := j) (b := 1) (c := j + 1) rfl rfl (by first | omega | rfl)) (by decide) rfl (fun ls hl => ?_)
        refine lv_goto (tgt := 10) hx hb dJ7_inflate_38 (by decide) ?_
        have hP : WP Γ [[(b, .inl (Γ.2.1 1, nb_, .inl f))], [(d, .inl (Γ.2.1 1, 2 * n, .inl (infF g f (j + 1))))]] H := bP_sel hP [1, 0] rfl
        have hD : WD A [[(b, .inl (Γ.2.1 1, nb_, .inl f))], [(d, .inl (Γ.2.1 1, 2 * n, .inl (infF g f (j + 1))))]] := bD_sel hD [1, 0] rfl rfl
        exact ih (j + 1) (by omega) (by omega) _ _ _ hP hD hS (lv_sub hl [0, 3, 1, 4, 2, 5] rfl)
  exact loop_2 ((k - 0) + 1) 0 (Nat.lt_succ_self _) (Nat.zero_le _) _ _ _ hP hD hS (lv_sub hl [0, 1, 2, 3, 4, 5] rfl)
set_option maxHeartbeats 4000000 in
set_option maxRecDepth 100000 in
theorem mt_Lat_inflate (l : Launch) (Γ : GE) (sz : Nat) (b : Nat) (nb_ : Nat) (f : Nat → Int32) (d : Nat) (n : Nat) (g : Nat → Int32) (k : Nat) (h1 : k ≤ nb_) (h2 : k ≤ n) (h3 : nb_ ≤ 2048 ∧ n ≤ 2048) : KM l yJ20_inflate cJ20_inflate 5 none Γ 4 92 0 0 [.ref b, .int 0, .ref d, .int 0, .int (nI k)] [[(b, .inl (Γ.2.1 1, nb_, .inl f))], [(d, .inl (Γ.2.1 1, 2 * n, .inl g))]] [] sz (Qv Γ (fun u_ => u_ = [[(b, .inl (Γ.2.1 1, nb_, .inl f))], [(d, .inl (Γ.2.1 1, 2 * n, .inl (infF g f k)))]])) := by
  refine K_intro (by decide) (Nat.le_of_ble_eq_true rfl) ?_
  intro pr_ ev_ s mi_ below meth cd_ A ls hx hb hr hml hown hts hlocks hname hK hE hRo hP hD hA hS hsz hl
  have hl : lv_has ls 5 [(0, .ref b), (1, .int 0), (2, .ref d), (3, .int 0), (4, .int (nI k))] := hl
  have hown : s.vm.findClass RJ20 = some mi_.cls := hown
  refine lv_aload_n hx hb dJ20_inflate_0 rfl (lv_at hl 0 rfl) ?_
  refine lv_iload_n hx hb dJ20_inflate_1 rfl (lv_at hl 1 rfl) ?_
  refine lv_aload_n hx hb dJ20_inflate_2 rfl (lv_at hl 2 rfl) ?_
  refine lv_iload_n hx hb dJ20_inflate_3 rfl (lv_at hl 3 rfl) ?_
  refine lv_iload hx hb dJ20_inflate_4 (lv_at hl 4 rfl) ?_
  refine b_callv (br := []) (b_runS ⟨hx, hb, hml, hown, hts⟩ (mt_U16_inflate l Γ _ b nb_ f d n g k (by first | exact h1 | omega) (by first | exact h2 | omega) (by first | exact h3 | omega)) (lw_S q690 q691 q72 q692) rfl rfl 5 (by decide +kernel) ⟨(Nat.le_of_ble_eq_true rfl), (Nat.le_of_ble_eq_true rfl)⟩ (c_pre hP hD hS hA hK hE [0, 1] rfl rfl ro_nil) rfl hl.1 rfl (Nat.le_of_ble_eq_true rfl) dJ20_inflate_6 ⟨(Nat.le_of_ble_eq_true rfl), (Nat.le_of_ble_eq_true rfl)⟩) hP hD hS hA [0, 1] [] rfl rfl rfl (fun u_1 H locs hw_1 hP hD hS _ => ?_)
  obtain rfl := hw_1
  have hP : WP Γ [[(b, .inl (Γ.2.1 1, nb_, .inl f))], [(d, .inl (Γ.2.1 1, 2 * n, .inl (infF g f k)))]] H := hP
  have hD : WD A [[(b, .inl (Γ.2.1 1, nb_, .inl f))], [(d, .inl (Γ.2.1 1, 2 * n, .inl (infF g f k)))]] := hD
  exact b_vret hx hb hr hlocks hP hD hS (Nat.le_of_ble_eq_true rfl) (Nat.le_of_ble_eq_true rfl) (by first | rfl | (simp; done)) dJ20_inflate_9
set_option maxHeartbeats 4000000 in
set_option maxRecDepth 100000 in
theorem mt_AB_inflate (l : Launch) (Γ : GE) (sz : Nat) (a : Nat) (v : Nat) (ml : Int32) (n : Nat) (cap : Nat) (f : Nat → Int32) (hn : n ≤ cap) (hc : cap ≤ 512) : KM l yJ4_inflate cJ4_inflate 2 none Γ 5 116 1 (2 * cap) [.ref a] [[(a, .inr (13, [.ref v, .int 0, .int ml, .int (nI n)]))], [(v, .inl (Γ.2.1 1, cap, .inl f))]] [] sz (Qv Γ (fun u_ => ∃ w : Nat, u_ = [[(a, .inr (13, [.ref w, .int 1, .int ml, .int (nI n)]))], [(w, .inl (Γ.2.1 1, 2 * cap, .inl (infF (fun _ => 0) f n)))]])) := by
  refine K_intro (by decide) (Nat.le_of_ble_eq_true rfl) ?_
  intro pr_ ev_ s mi_ below meth cd_ A ls hx hb hr hml hown hts hlocks hname hK hE hRo hP hD hA hS hsz hl
  have hl : lv_has ls 2 [(0, .ref a)] := hl
  have hown : s.vm.findClass RJ4 = some mi_.cls := hown
  refine lv_aload_n hx hb dJ4_inflate_0 rfl (lv_at hl 0 rfl) ?_
  refine b_calli (br := [[(v, .inl (Γ.2.1 1, cap, .inl f))]]) (b_runU (C := RJ5) (owner := "java/lang/AbstractStringBuilder") (x := ⟨"java/lang/AbstractStringBuilder", "isLatin1", "()Z"⟩) ⟨hx, hb, hml, hown, hts⟩ (mt_AB_isLatin1_0 l Γ _ a v ml n) q607 q609 (va_Decl.of (hts _ q608) (hts _ q611)) (hts _ q610) q608 q69 q611 rfl rfl 0 ⟨by decide, by decide, by decide +kernel⟩ ⟨(Nat.le_of_ble_eq_true rfl), (Nat.le_of_ble_eq_true rfl)⟩ (c_pre hP hD hS hA hK hE [0] rfl rfl ro_nil) (recv_at (q := (RJ5, TJ5, 4)) hK (b_at (k := 0) hP rfl) rfl) rfl hl.1 rfl (Nat.le_of_ble_eq_true rfl) dJ4_inflate_1 ⟨(by first | omega | (dsimp only; omega)), (by first | omega | (dsimp only; omega))⟩) hP hD hS hA [0] [1] rfl rfl rfl (fun r_1 u_1 H locs hw_1 hP hD hS _ => ?_)
  obtain ⟨rfl, rfl⟩ := hw_1
  have hP : WP Γ [[(a, .inr (13, [.ref v, .int 0, .int ml, .int (nI n)]))], [(v, .inl (Γ.2.1 1, cap, .inl f))]] H := hP
  have hD : WD A [[(a, .inr (13, [.ref v, .int 0, .int ml, .int (nI n)]))], [(v, .inl (Γ.2.1 1, cap, .inl f))]] := hD
  refine lv_if_ne (tgt := 8) hx hb dJ4_inflate_4 (by decide) (fun c_2 => ?_) (fun c_2 => ?_)
  · -- 4 taken
    have n_2 : ¬ (1 = 0) := fun h => c_2 ((nI_eq (a := 1) (b := 0) (by omega) (by omega)).mpr h)
    refine lv_aload_n hx hb dJ4_inflate_8 rfl (lv_at hl 0 rfl) ?_
    refine b_get (C := RJ5) (T := TJ5) (N := 4) (v := .ref v) hx hb hts in_J5 hown hK (b_at (k := 0) hP rfl) rfl 0 (by decide) q232 (fun _ h9 => h9) rfl dJ4_inflate_9 ?_
    refine b_alen hx hb hK 1 (b_at (k := 1) hP rfl) rfl dJ4_inflate_12 ?_
    refine b_callq (br := [[(a, .inr (13, [.ref v, .int 0, .int ml, .int (nI n)]))], [(v, .inl (Γ.2.1 1, cap, .inl f))]]) (b_runS ⟨hx, hb, hml, hown, hts⟩ (mt_U16_nbf l Γ _ cap (by first | exact hn | omega)) (lw_S q225 q226 q72 q227) rfl rfl 1 (by decide +kernel) ⟨(Nat.le_of_ble_eq_true rfl), (Nat.le_of_ble_eq_true rfl)⟩ (c_pre hP hD hS hA hK hE [] rfl rfl ro_nil) rfl hl.1 rfl (Nat.le_of_ble_eq_true rfl) dJ4_inflate_13 ⟨(by first | omega | (dsimp only; omega)), (by first | omega | (dsimp only; omega))⟩) hP hD hS hA [] [0, 1] rfl rfl rfl (fun r_3 u_3 H locs hw_3 hP hD hS _ => ?_)
    obtain ⟨w_3, rfl, rfl⟩ := hw_3
    have hP : WP Γ [[(w_3, .inl (Γ.2.1 1, 2 * cap, .inl (fun _ => 0)))], [(a, .inr (13, [.ref v, .int 0, .int ml, .int (nI n)]))], [(v, .inl (Γ.2.1 1, cap, .inl f))]] H := hP
    have hD : WD A [[(w_3, .inl (Γ.2.1 1, 2 * cap, .inl (fun _ => 0)))], [(a, .inr (13, [.ref v, .int 0, .int ml, .int (nI n)]))], [(v, .inl (Γ.2.1 1, cap, .inl f))]] := hD
    refine W.eq (g2 := F0 mi_ 16 ls ([.ref w_3])) rfl ?_
    refine lv_astore_n (lv' := [(1, .ref w_3), (0, .ref a)]) hx hb dJ4_inflate_16 rfl hl (by decide) rfl (fun ls hl => ?_)
    refine lv_aload_n hx hb dJ4_inflate_17 rfl (lv_at hl 1 rfl) ?_
    refine b_get (C := RJ5) (T := TJ5) (N := 4) (v := .ref v) hx hb hts in_J5 hown hK (b_at (k := 1) hP rfl) rfl 0 (by decide) q232 (fun _ h9 => h9) rfl dJ4_inflate_18 ?_
    refine lv_iconst (v := 0) hx hb dJ4_inflate_21 (by decide) ?_
    refine lv_aload_n hx hb dJ4_inflate_22 rfl (lv_at hl 0 rfl) ?_
    refine lv_iconst (v := 0) hx hb dJ4_inflate_23 (by decide) ?_
    refine lv_aload_n hx hb dJ4_inflate_24 rfl (lv_at hl 1 rfl) ?_
    refine b_get (C := RJ5) (T := TJ5) (N := 4) (v := .int (nI n)) hx hb hts in_J5 hown hK (b_at (k := 1) hP rfl) rfl 3 (by decide) q236 (fun _ h9 => h9) rfl dJ4_inflate_25 ?_
    refine b_callv (br := [[(a, .inr (13, [.ref v, .int 0, .int ml, .int (nI n)]))]]) (b_runS ⟨hx, hb, hml, hown, hts⟩ (mt_Lat_inflate l Γ _ v cap f w_3 cap (fun _ => 0) n (by omega) (by omega) (by omega)) (lw_S q687 q688 q89 q689) rfl rfl 5 (by decide +kernel) ⟨(Nat.le_of_ble_eq_true rfl), (Nat.le_of_ble_eq_true rfl)⟩ (c_pre hP hD hS hA hK hE [2, 0] rfl rfl ro_nil) rfl hl.1 rfl (Nat.le_of_ble_eq_true rfl) dJ4_inflate_28 ⟨(by first | omega | (dsimp only; omega)), (by first | omega | (dsimp only; omega))⟩) hP hD hS hA [2, 0] [1] rfl rfl rfl (fun u_4 H locs hw_4 hP hD hS _ => ?_)
    obtain rfl := hw_4
    have hP : WP Γ [[(v, .inl (Γ.2.1 1, cap, .inl f))], [(w_3, .inl (Γ.2.1 1, 2 * cap, .inl (infF (fun _ => 0) f n)))], [(a, .inr (13, [.ref v, .int 0, .int ml, .int (nI n)]))]] H := hP
    have hD : WD A [[(v, .inl (Γ.2.1 1, cap, .inl f))], [(w_3, .inl (Γ.2.1 1, 2 * cap, .inl (infF (fun _ => 0) f n)))], [(a, .inr (13, [.ref v, .int 0, .int ml, .int (nI n)]))]] := hD
    refine lv_aload_n hx hb dJ4_inflate_31 rfl (lv_at hl 1 rfl) ?_
    refine lv_aload_n hx hb dJ4_inflate_32 rfl (lv_at hl 0 rfl) ?_
    refine b_put (C := RJ5) (T := TJ5) (N := 4) (ty := (tyJ5 0)) (v := .ref w_3) hx hb hts in_J5 tyJ5_ok nmJ5 hown hK hP hD hS 2 rfl rfl 0 (by decide) q232 (fun _ h9 => h9) rfl (by decide +kernel) rfl rfl (Nat.le_of_ble_eq_true rfl) dJ4_inflate_33 (fun H locs hP hD hS => ?_)
    have hP : WP Γ [[(v, .inl (Γ.2.1 1, cap, .inl f))], [(w_3, .inl (Γ.2.1 1, 2 * cap, .inl (infF (fun _ => 0) f n)))], [(a, .inr (13, [.ref w_3, .int 0, .int ml, .int (nI n)]))]] H := hP
    have hD : WD A [[(v, .inl (Γ.2.1 1, cap, .inl f))], [(w_3, .inl (Γ.2.1 1, 2 * cap, .inl (infF (fun _ => 0) f n)))], [(a, .inr (13, [.ref w_3, .int 0, .int ml, .int (nI n)]))]] := hD
    refine lv_aload_n hx hb dJ4_inflate_36 rfl (lv_at hl 1 rfl) ?_
    refine lv_iconst (v := 1) hx hb dJ4_inflate_37 (by decide) ?_
    refine b_put (C := RJ5) (T := TJ5) (N := 4) (ty := .byte) (v := .int 1) hx hb hts in_J5 tyJ5_ok nmJ5 hown hK hP hD hS 2 rfl rfl 1 (by decide) q233 (fun _ h9 => h9) rfl (by decide +kernel) rfl rfl (Nat.le_of_ble_eq_true rfl) dJ4_inflate_38 (fun H locs hP hD hS => ?_)
    have hP : WP Γ [[(v, .inl (Γ.2.1 1, cap, .inl f))], [(w_3, .inl (Γ.2.1 1, 2 * cap, .inl (infF (fun _ => 0) f n)))], [(a, .inr (13, [.ref w_3, .int 1, .int ml, .int (nI n)]))]] H := hP
    have hD : WD A [[(v, .inl (Γ.2.1 1, cap, .inl f))], [(w_3, .inl (Γ.2.1 1, 2 * cap, .inl (infF (fun _ => 0) f n)))], [(a, .inr (13, [.ref w_3, .int 1, .int ml, .int (nI n)]))]] := hD
    have hP : WP Γ [[(a, .inr (13, [.ref w_3, .int 1, .int ml, .int (nI n)]))], [(w_3, .inl (Γ.2.1 1, 2 * cap, .inl (infF (fun _ => 0) f n)))]] H := bP_sel hP [2, 1] rfl
    have hD : WD A [[(a, .inr (13, [.ref w_3, .int 1, .int ml, .int (nI n)]))], [(w_3, .inl (Γ.2.1 1, 2 * cap, .inl (infF (fun _ => 0) f n)))]] := bD_sel hD [2, 1] rfl rfl
    exact b_vret hx hb hr hlocks hP hD hS (by first | omega | (dsimp only; omega)) (by first | omega | (dsimp only; omega)) ⟨w_3, rfl⟩ dJ4_inflate_41
  · -- 4 not taken
    have n_2 : 1 = 0 := (nI_eq (by omega) (by omega)).mp (show nI 1 = nI 0 from c_2)
    exact absurd n_2 (by omega)
set_option maxHeartbeats 4000000 in
set_option maxRecDepth 100000 in
theorem mt_AB_appU_0 (l : Launch) (Γ : GE) (sz : Nat) (a : Nat) (x : SBT) (L : List Int32) (c : Int32) (hsb : sbF 0 x L) (hb : L.length ≤ 100) (hc : 255 < c) (hch : isCh c) : KM l yJ4_append_3 cJ4_append_3 2 (some (FieldType.object "java/lang/AbstractStringBuilder")) Γ 6 137 2 2048 [.ref a, .int c] [[(a, .inr (13, [.ref x.1, .int 0, .int x.2.2.2, .int (nI L.length)]))], [(x.1, .inl (Γ.2.1 1, x.2.1, .inl x.2.2.1))]] [] sz (Qq Γ (fun r_ u_ => ∃ y : SBT, sbF 1 y (L ++ [c]) ∧ y.2.2.2 = x.2.2.2 ∧ r_ = some a ∧ u_ = [[(a, .inr (13, [.ref y.1, .int 1, .int y.2.2.2, .int (nI (L ++ [c]).length)]))], [(y.1, .inl (Γ.2.1 1, 2 * y.2.1, .inl y.2.2.1))]])) := by
  refine K_intro (by decide) (Nat.le_of_ble_eq_true rfl) ?_
  intro pr_ ev_ s mi_ below meth cd_ A ls hx hb hr hml hown hts hlocks hname hK hE hRo hP hD hA hS hsz hl
  have hl : lv_has ls 2 [(0, .ref a), (1, .int c)] := hl
  have hown : s.vm.findClass RJ4 = some mi_.cls := hown
  refine lv_aload_n hx hb dJ4_append_3_0 rfl (lv_at hl 0 rfl) ?_
  refine lv_aload_n hx hb dJ4_append_3_1 rfl (lv_at hl 0 rfl) ?_
  refine b_get (C := RJ5) (T := TJ5) (N := 4) (v := .int (nI L.length)) hx hb hts in_J5 hown hK (b_at (k := 0) hP rfl) rfl 3 (by decide) q236 (fun _ h9 => h9) rfl dJ4_append_3_2 ?_
  refine lv_iconst (v := 1) hx hb dJ4_append_3_5 (by decide) ?_
  refine lv_iadd hx hb dJ4_append_3_6 ?_
  refine b_top (nI_addE (a := L.length) (b := 1) (c := L.length + 1) rfl rfl (by first | omega | rfl)) ?_
  have hxl := sbF_len hsb
  by_cases bf : L.length + 1 ≤ x.2.1
  ·
    refine b_callv (br := []) (b_runU (C := RJ5) (owner := "java/lang/AbstractStringBuilder") (x := ⟨"java/lang/AbstractStringBuilder", "ensureCapacityInternal", "(I)V"⟩) ⟨hx, hb, hml, hown, hts⟩ (mt_AB_ens_fit_0 l Γ _ a x.1 x.2.2.2 L.length x.2.1 x.2.2.1 (L.length + 1) (by omega) (by omega)) q587 q2210 (va_Decl.of (hts _ q589) (hts _ q590)) (sel_priv (rfl : RJ4 = RJ4) (hts _ q610) ⟨by decide, by decide⟩ (hts _ q215) (va_Nw.use rfl (hE.1.1 _ q588 rfl)) (hts _ q589)) q589 q69 q590 rfl rfl 1 ⟨by decide, by decide, by decide +kernel⟩ ⟨(Nat.le_of_ble_eq_true rfl), (Nat.le_of_ble_eq_true rfl)⟩ (c_pre hP hD hS hA hK hE [0, 1] rfl rfl ro_nil) (recv_at (q := (RJ5, TJ5, 4)) hK (b_at (k := 0) hP rfl) rfl) rfl hl.1 rfl (Nat.le_of_ble_eq_true rfl) dJ4_append_3_7 ⟨(Nat.le_of_ble_eq_true rfl), (Nat.le_of_ble_eq_true rfl)⟩) hP hD hS hA [0, 1] [] rfl rfl rfl (fun u_1 H locs hw_1 hP hD hS _ => ?_)
    obtain rfl := hw_1
    have hP : WP Γ [[(a, .inr (13, [.ref x.1, .int 0, .int x.2.2.2, .int (nI L.length)]))], [(x.1, .inl (Γ.2.1 1, x.2.1, .inl x.2.2.1))]] H := hP
    have hD : WD A [[(a, .inr (13, [.ref x.1, .int 0, .int x.2.2.2, .int (nI L.length)]))], [(x.1, .inl (Γ.2.1 1, x.2.1, .inl x.2.2.1))]] := hD
    refine lv_aload_n hx hb dJ4_append_3_10 rfl (lv_at hl 0 rfl) ?_
    refine b_calli (br := [[(x.1, .inl (Γ.2.1 1, x.2.1, .inl x.2.2.1))]]) (b_runU (C := RJ5) (owner := "java/lang/AbstractStringBuilder") (x := ⟨"java/lang/AbstractStringBuilder", "isLatin1", "()Z"⟩) ⟨hx, hb, hml, hown, hts⟩ (mt_AB_isLatin1_0 l Γ _ a x.1 x.2.2.2 L.length) q607 q609 (va_Decl.of (hts _ q608) (hts _ q611)) (hts _ q610) q608 q69 q611 rfl rfl 0 ⟨by decide, by decide, by decide +kernel⟩ ⟨(Nat.le_of_ble_eq_true rfl), (Nat.le_of_ble_eq_true rfl)⟩ (c_pre hP hD hS hA hK hE [0] rfl rfl ro_nil) (recv_at (q := (RJ5, TJ5, 4)) hK (b_at (k := 0) hP rfl) rfl) rfl hl.1 rfl (Nat.le_of_ble_eq_true rfl) dJ4_append_3_11 ⟨(Nat.le_of_ble_eq_true rfl), (Nat.le_of_ble_eq_true rfl)⟩) hP hD hS hA [0] [1] rfl rfl rfl (fun r_2 u_2 H locs hw_2 hP hD hS _ => ?_)
    obtain ⟨rfl, rfl⟩ := hw_2
    have hP : WP Γ [[(a, .inr (13, [.ref x.1, .int 0, .int x.2.2.2, .int (nI L.length)]))], [(x.1, .inl (Γ.2.1 1, x.2.1, .inl x.2.2.1))]] H := hP
    have hD : WD A [[(a, .inr (13, [.ref x.1, .int 0, .int x.2.2.2, .int (nI L.length)]))], [(x.1, .inl (Γ.2.1 1, x.2.1, .inl x.2.2.1))]] := hD
    refine lv_if_eq (tgt := 45) hx hb dJ4_append_3_14 (by decide) (fun c_3 => ?_) (fun c_3 => ?_)
    · -- 14 taken
      have n_3 : 1 = 0 := (nI_eq (by omega) (by omega)).mp (show nI 1 = nI 0 from c_3)
      exact absurd n_3 (by omega)
    · -- 14 not taken
      have n_3 : ¬ (1 = 0) := fun h => c_3 ((nI_eq (a := 1) (b := 0) (by omega) (by omega)).mpr h)
      refine lv_iload_n hx hb dJ4_append_3_17 rfl (lv_at hl 1 rfl) ?_
      refine b_calli (br := [[(a, .inr (13, [.ref x.1, .int 0, .int x.2.2.2, .int (nI L.length)]))], [(x.1, .inl (Γ.2.1 1, x.2.1, .inl x.2.2.1))]]) (b_runS ⟨hx, hb, hml, hown, hts⟩ (mt_canEnc_no l Γ _ c (by first | exact hc | omega)) (lw_S q1517 q1518 q89 q1519) rfl rfl 1 (by decide +kernel) ⟨(Nat.le_of_ble_eq_true rfl), (Nat.le_of_ble_eq_true rfl)⟩ (c_pre hP hD hS hA hK hE [] rfl rfl ro_nil) rfl hl.1 rfl (Nat.le_of_ble_eq_true rfl) dJ4_append_3_18 ⟨(Nat.le_of_ble_eq_true rfl), (Nat.le_of_ble_eq_true rfl)⟩) hP hD hS hA [] [0, 1] rfl rfl rfl (fun r_4 u_4 H locs hw_4 hP hD hS _ => ?_)
      obtain ⟨rfl, rfl⟩ := hw_4
      have hP : WP Γ [[(a, .inr (13, [.ref x.1, .int 0, .int x.2.2.2, .int (nI L.length)]))], [(x.1, .inl (Γ.2.1 1, x.2.1, .inl x.2.2.1))]] H := hP
      have hD : WD A [[(a, .inr (13, [.ref x.1, .int 0, .int x.2.2.2, .int (nI L.length)]))], [(x.1, .inl (Γ.2.1 1, x.2.1, .inl x.2.2.1))]] := hD
      refine lv_if_eq (tgt := 45) hx hb dJ4_append_3_21 (by decide) (fun c_5 => ?_) (fun c_5 => ?_)
      · -- 21 taken
        have n_5 : 0 = 0 := (nI_eq (by omega) (by omega)).mp (show nI 0 = nI 0 from c_5)
        refine lv_aload_n hx hb dJ4_append_3_45 rfl (lv_at hl 0 rfl) ?_
        refine b_calli (br := [[(x.1, .inl (Γ.2.1 1, x.2.1, .inl x.2.2.1))]]) (b_runU (C := RJ5) (owner := "java/lang/AbstractStringBuilder") (x := ⟨"java/lang/AbstractStringBuilder", "isLatin1", "()Z"⟩) ⟨hx, hb, hml, hown, hts⟩ (mt_AB_isLatin1_0 l Γ _ a x.1 x.2.2.2 L.length) q607 q609 (va_Decl.of (hts _ q608) (hts _ q611)) (hts _ q610) q608 q69 q611 rfl rfl 0 ⟨by decide, by decide, by decide +kernel⟩ ⟨(Nat.le_of_ble_eq_true rfl), (Nat.le_of_ble_eq_true rfl)⟩ (c_pre hP hD hS hA hK hE [0] rfl rfl ro_nil) (recv_at (q := (RJ5, TJ5, 4)) hK (b_at (k := 0) hP rfl) rfl) rfl hl.1 rfl (Nat.le_of_ble_eq_true rfl) dJ4_append_3_46 ⟨(Nat.le_of_ble_eq_true rfl), (Nat.le_of_ble_eq_true rfl)⟩) hP hD hS hA [0] [1] rfl rfl rfl (fun r_6 u_6 H locs hw_6 hP hD hS _ => ?_)
        obtain ⟨rfl, rfl⟩ := hw_6
        have hP : WP Γ [[(a, .inr (13, [.ref x.1, .int 0, .int x.2.2.2, .int (nI L.length)]))], [(x.1, .inl (Γ.2.1 1, x.2.1, .inl x.2.2.1))]] H := hP
        have hD : WD A [[(a, .inr (13, [.ref x.1, .int 0, .int x.2.2.2, .int (nI L.length)]))], [(x.1, .inl (Γ.2.1 1, x.2.1, .inl x.2.2.1))]] := hD
        refine lv_if_eq (tgt := 56) hx hb dJ4_append_3_49 (by decide) (fun c_7 => ?_) (fun c_7 => ?_)
        · -- 49 taken
          have n_7 : 1 = 0 := (nI_eq (by omega) (by omega)).mp (show nI 1 = nI 0 from c_7)
          exact absurd n_7 (by omega)
        · -- 49 not taken
          have n_7 : ¬ (1 = 0) := fun h => c_7 ((nI_eq (a := 1) (b := 0) (by omega) (by omega)).mpr h)
          refine lv_aload_n hx hb dJ4_append_3_52 rfl (lv_at hl 0 rfl) ?_
          refine b_callv (br := []) (b_runU (C := RJ5) (owner := "java/lang/AbstractStringBuilder") (x := ⟨"java/lang/AbstractStringBuilder", "inflate", "()V"⟩) ⟨hx, hb, hml, hown, hts⟩ (mt_AB_inflate l Γ _ a x.1 x.2.2.2 L.length x.2.1 x.2.2.1 (by omega) (by first | exact hc | omega)) q683 q2216 (va_Decl.of (hts _ q685) (hts _ q686)) (sel_priv (rfl : RJ4 = RJ4) (hts _ q610) ⟨by decide, by decide⟩ (hts _ q215) (va_Nw.use rfl (hE.1.1 _ q684 rfl)) (hts _ q685)) q685 q69 q686 rfl rfl 0 ⟨by decide, by decide, by decide +kernel⟩ ⟨(Nat.le_of_ble_eq_true rfl), (Nat.le_of_ble_eq_true rfl)⟩ (c_pre hP hD hS hA hK hE [0, 1] rfl rfl ro_nil) (recv_at (q := (RJ5, TJ5, 4)) hK (b_at (k := 0) hP rfl) rfl) rfl hl.1 rfl (Nat.le_of_ble_eq_true rfl) dJ4_append_3_53 ⟨(by first | omega | (dsimp only; omega)), (by first | omega | (dsimp only; omega))⟩) hP hD hS hA [0, 1] [] rfl rfl rfl (fun u_8 H locs hw_8 hP hD hS _ => ?_)
          obtain ⟨w_8, rfl⟩ := hw_8
          have hP : WP Γ [[(a, .inr (13, [.ref w_8, .int 1, .int x.2.2.2, .int (nI L.length)]))], [(w_8, .inl (Γ.2.1 1, 2 * x.2.1, .inl (infF (fun _ => 0) x.2.2.1 L.length)))]] H := hP
          have hD : WD A [[(a, .inr (13, [.ref w_8, .int 1, .int x.2.2.2, .int (nI L.length)]))], [(w_8, .inl (Γ.2.1 1, 2 * x.2.1, .inl (infF (fun _ => 0) x.2.2.1 L.length)))]] := hD
          refine lv_aload_n hx hb dJ4_append_3_56 rfl (lv_at hl 0 rfl) ?_
          refine b_get (C := RJ5) (T := TJ5) (N := 4) (v := .ref w_8) hx hb hts in_J5 hown hK (b_at (k := 0) hP rfl) rfl 0 (by decide) q232 (fun _ h9 => h9) rfl dJ4_append_3_57 ?_
          refine lv_aload_n hx hb dJ4_append_3_60 rfl (lv_at hl 0 rfl) ?_
          refine lv_dup hx hb dJ4_append_3_61 rfl ?_
          refine b_get (C := RJ5) (T := TJ5) (N := 4) (v := .int (nI L.length)) hx hb hts in_J5 hown hK (b_at (k := 0) hP rfl) rfl 3 (by decide) q236 (fun _ h9 => h9) rfl dJ4_append_3_62 ?_
          refine lv_dup_x1 hx hb dJ4_append_3_65 rfl rfl ?_
          refine lv_iconst (v := 1) hx hb dJ4_append_3_66 (by decide) ?_
          refine lv_iadd hx hb dJ4_append_3_67 ?_
          refine b_top (nI_addE (a := L.length) (b := 1) (c := L.length + 1) rfl rfl (by first | omega | rfl)) ?_
          refine b_put (C := RJ5) (T := TJ5) (N := 4) (ty := .int) (v := .int (nI (L.length + 1))) hx hb hts in_J5 tyJ5_ok nmJ5 hown hK hP hD hS 0 rfl rfl 3 (by decide) q236 (fun _ h9 => h9) rfl (by decide +kernel) rfl rfl (Nat.le_of_ble_eq_true rfl) dJ4_append_3_68 (fun H locs hP hD hS => ?_)
          have hP : WP Γ [[(a, .inr (13, [.ref w_8, .int 1, .int x.2.2.2, .int (nI (L.length + 1))]))], [(w_8, .inl (Γ.2.1 1, 2 * x.2.1, .inl (infF (fun _ => 0) x.2.2.1 L.length)))]] H := hP
          have hD : WD A [[(a, .inr (13, [.ref w_8, .int 1, .int x.2.2.2, .int (nI (L.length + 1))]))], [(w_8, .inl (Γ.2.1 1, 2 * x.2.1, .inl (infF (fun _ => 0) x.2.2.1 L.length)))]] := hD
          refine lv_iload_n hx hb dJ4_append_3_71 rfl (lv_at hl 1 rfl) ?_
          refine b_callv (br := [[(a, .inr (13, [.ref w_8, .int 1, .int x.2.2.2, .int (nI (L.length + 1))]))]]) (b_runS ⟨hx, hb, hml, hown, hts⟩ (mt_U16_putCharSB l Γ _ w_8 x.2.1 (infF (fun _ => 0) x.2.2.1 L.length) L.length c (by omega) (by omega)) (lw_S q1520 q1521 q72 q1522) rfl rfl 3 (by decide +kernel) ⟨(Nat.le_of_ble_eq_true rfl), (Nat.le_of_ble_eq_true rfl)⟩ (c_pre hP hD hS hA hK hE [1] rfl rfl ro_nil) rfl hl.1 rfl (Nat.le_of_ble_eq_true rfl) dJ4_append_3_72 ⟨(by first | omega | (dsimp only; omega)), (by first | omega | (dsimp only; omega))⟩) hP hD hS hA [1] [0] rfl rfl rfl (fun u_9 H locs hw_9 hP hD hS _ => ?_)
          obtain rfl := hw_9
          have hP : WP Γ [[(w_8, .inl (Γ.2.1 1, 2 * x.2.1, .inl (put2 (infF (fun _ => 0) x.2.2.1 L.length) L.length c)))], [(a, .inr (13, [.ref w_8, .int 1, .int x.2.2.2, .int (nI (L.length + 1))]))]] H := hP
          have hD : WD A [[(w_8, .inl (Γ.2.1 1, 2 * x.2.1, .inl (put2 (infF (fun _ => 0) x.2.2.1 L.length) L.length c)))], [(a, .inr (13, [.ref w_8, .int 1, .int x.2.2.2, .int (nI (L.length + 1))]))]] := hD
          refine lv_aload_n hx hb dJ4_append_3_75 rfl (lv_at hl 0 rfl) ?_
          have hP : WP Γ [[(a, .inr (13, [.ref w_8, .int 1, .int x.2.2.2, .int (nI (L.length + 1))]))], [(w_8, .inl (Γ.2.1 1, 2 * x.2.1, .inl (put2 (infF (fun _ => 0) x.2.2.1 L.length) L.length c)))]] H := bP_sel hP [1, 0] rfl
          have hD : WD A [[(a, .inr (13, [.ref w_8, .int 1, .int x.2.2.2, .int (nI (L.length + 1))]))], [(w_8, .inl (Γ.2.1 1, 2 * x.2.1, .inl (put2 (infF (fun _ => 0) x.2.2.1 L.length) L.length c)))]] := bD_sel hD [1, 0] rfl rfl
          exact b_aret hx hb hr (by first | exact Or.inl ⟨_, rfl⟩ | exact Or.inr ⟨_, rfl⟩) hlocks hP hD hS (by first | omega | (dsimp only; omega)) (by first | omega | (dsimp only; omega)) ⟨(w_8, x.2.1, (put2 (infF (fun _ => 0) x.2.2.1 L.length) L.length c), x.2.2.2), (sbU_put (sbU_inf (v2 := w_8) (v := x.1) (cap := x.2.1) (f := x.2.2.1) (ml := x.2.2.2) hsb) hch (by omega)), rfl, (by first | with_reducible rfl | (simp [bf, n_3, n_5, n_7]; done) | rfl), (by simp only [List.length_append, List.length_cons, List.length_nil, Nat.zero_add])⟩ dJ4_append_3_76
      · -- 21 not taken
        have n_5 : ¬ (0 = 0) := fun h => c_5 ((nI_eq (a := 0) (b := 0) (by omega) (by omega)).mpr h)
        exact absurd n_5 (by omega)
  ·
    have hcp : x.2.1 ≤ cpN x.2.1 (L.length + 1) ∧ cpN x.2.1 (L.length + 1) ≤ 512 := by unfold cpN; split <;> omega
    have hcp2 : L.length + 1 ≤ cpN x.2.1 (L.length + 1) := by unfold cpN; split <;> omega
    refine b_callv (br := []) (b_runU (C := RJ5) (owner := "java/lang/AbstractStringBuilder") (x := ⟨"java/lang/AbstractStringBuilder", "ensureCapacityInternal", "(I)V"⟩) ⟨hx, hb, hml, hown, hts⟩ (mt_AB_ens_grow_0 l Γ _ a x.1 x.2.2.2 L.length x.2.1 x.2.2.1 (L.length + 1) (by omega) (by omega) hxl.2 hsb.2.2.1) q587 q2210 (va_Decl.of (hts _ q589) (hts _ q590)) (sel_priv (rfl : RJ4 = RJ4) (hts _ q610) ⟨by decide, by decide⟩ (hts _ q215) (va_Nw.use rfl (hE.1.1 _ q588 rfl)) (hts _ q589)) q589 q69 q590 rfl rfl 1 ⟨by decide, by decide, by decide +kernel⟩ ⟨(Nat.le_of_ble_eq_true rfl), (Nat.le_of_ble_eq_true rfl)⟩ (c_pre hP hD hS hA hK hE [0, 1] rfl rfl ro_nil) (recv_at (q := (RJ5, TJ5, 4)) hK (b_at (k := 0) hP rfl) rfl) rfl hl.1 rfl (Nat.le_of_ble_eq_true rfl) dJ4_append_3_7 ⟨(by first | omega | (dsimp only; omega)), (by first | omega | (dsimp only; omega))⟩) hP hD hS hA [0, 1] [] rfl rfl rfl (fun u_10 H locs hw_10 hP hD hS _ => ?_)
    obtain ⟨w_10, rfl⟩ := hw_10
    have hP : WP Γ [[(a, .inr (13, [.ref w_10, .int 0, .int x.2.2.2, .int (nI L.length)]))], [(w_10, .inl (Γ.2.1 1, (cpN x.2.1 (L.length + 1)), .inl (va_cpy x.2.2.1 (fun _ => 0) 0 0 x.2.1)))]] H := hP
    have hD : WD A [[(a, .inr (13, [.ref w_10, .int 0, .int x.2.2.2, .int (nI L.length)]))], [(w_10, .inl (Γ.2.1 1, (cpN x.2.1 (L.length + 1)), .inl (va_cpy x.2.2.1 (fun _ => 0) 0 0 x.2.1)))]] := hD
    refine lv_aload_n hx hb dJ4_append_3_10 rfl (lv_at hl 0 rfl) ?_
    refine b_calli (br := [[(w_10, .inl (Γ.2.1 1, (cpN x.2.1 (L.length + 1)), .inl (va_cpy x.2.2.1 (fun _ => 0) 0 0 x.2.1)))]]) (b_runU (C := RJ5) (owner := "java/lang/AbstractStringBuilder") (x := ⟨"java/lang/AbstractStringBuilder", "isLatin1", "()Z"⟩) ⟨hx, hb, hml, hown, hts⟩ (mt_AB_isLatin1_0 l Γ _ a w_10 x.2.2.2 L.length) q607 q609 (va_Decl.of (hts _ q608) (hts _ q611)) (hts _ q610) q608 q69 q611 rfl rfl 0 ⟨by decide, by decide, by decide +kernel⟩ ⟨(Nat.le_of_ble_eq_true rfl), (Nat.le_of_ble_eq_true rfl)⟩ (c_pre hP hD hS hA hK hE [0] rfl rfl ro_nil) (recv_at (q := (RJ5, TJ5, 4)) hK (b_at (k := 0) hP rfl) rfl) rfl hl.1 rfl (Nat.le_of_ble_eq_true rfl) dJ4_append_3_11 ⟨(by first | omega | (dsimp only; omega)), (by first | omega | (dsimp only; omega))⟩) hP hD hS hA [0] [1] rfl rfl rfl (fun r_11 u_11 H locs hw_11 hP hD hS _ => ?_)
    obtain ⟨rfl, rfl⟩ := hw_11
    have hP : WP Γ [[(a, .inr (13, [.ref w_10, .int 0, .int x.2.2.2, .int (nI L.length)]))], [(w_10, .inl (Γ.2.1 1, (cpN x.2.1 (L.length + 1)), .inl (va_cpy x.2.2.1 (fun _ => 0) 0 0 x.2.1)))]] H := hP
    have hD : WD A [[(a, .inr (13, [.ref w_10, .int 0, .int x.2.2.2, .int (nI L.length)]))], [(w_10, .inl (Γ.2.1 1, (cpN x.2.1 (L.length + 1)), .inl (va_cpy x.2.2.1 (fun _ => 0) 0 0 x.2.1)))]] := hD
    refine lv_if_eq (tgt := 45) hx hb dJ4_append_3_14 (by decide) (fun c_12 => ?_) (fun c_12 => ?_)
    · -- 14 taken
      have n_12 : 1 = 0 := (nI_eq (by omega) (by omega)).mp (show nI 1 = nI 0 from c_12)
      exact absurd n_12 (by omega)
    · -- 14 not taken
      have n_12 : ¬ (1 = 0) := fun h => c_12 ((nI_eq (a := 1) (b := 0) (by omega) (by omega)).mpr h)
      refine lv_iload_n hx hb dJ4_append_3_17 rfl (lv_at hl 1 rfl) ?_
      refine b_calli (br := [[(a, .inr (13, [.ref w_10, .int 0, .int x.2.2.2, .int (nI L.length)]))], [(w_10, .inl (Γ.2.1 1, (cpN x.2.1 (L.length + 1)), .inl (va_cpy x.2.2.1 (fun _ => 0) 0 0 x.2.1)))]]) (b_runS ⟨hx, hb, hml, hown, hts⟩ (mt_canEnc_no l Γ _ c (by first | exact hc | omega)) (lw_S q1517 q1518 q89 q1519) rfl rfl 1 (by decide +kernel) ⟨(Nat.le_of_ble_eq_true rfl), (Nat.le_of_ble_eq_true rfl)⟩ (c_pre hP hD hS hA hK hE [] rfl rfl ro_nil) rfl hl.1 rfl (Nat.le_of_ble_eq_true rfl) dJ4_append_3_18 ⟨(by first | omega | (dsimp only; omega)), (by first | omega | (dsimp only; omega))⟩) hP hD hS hA [] [0, 1] rfl rfl rfl (fun r_13 u_13 H locs hw_13 hP hD hS _ => ?_)
      obtain ⟨rfl, rfl⟩ := hw_13
      have hP : WP Γ [[(a, .inr (13, [.ref w_10, .int 0, .int x.2.2.2, .int (nI L.length)]))], [(w_10, .inl (Γ.2.1 1, (cpN x.2.1 (L.length + 1)), .inl (va_cpy x.2.2.1 (fun _ => 0) 0 0 x.2.1)))]] H := hP
      have hD : WD A [[(a, .inr (13, [.ref w_10, .int 0, .int x.2.2.2, .int (nI L.length)]))], [(w_10, .inl (Γ.2.1 1, (cpN x.2.1 (L.length + 1)), .inl (va_cpy x.2.2.1 (fun _ => 0) 0 0 x.2.1)))]] := hD
      refine lv_if_eq (tgt := 45) hx hb dJ4_append_3_21 (by decide) (fun c_14 => ?_) (fun c_14 => ?_)
      · -- 21 taken
        have n_14 : 0 = 0 := (nI_eq (by omega) (by omega)).mp (show nI 0 = nI 0 from c_14)
        refine lv_aload_n hx hb dJ4_append_3_45 rfl (lv_at hl 0 rfl) ?_
        refine b_calli (br := [[(w_10, .inl (Γ.2.1 1, (cpN x.2.1 (L.length + 1)), .inl (va_cpy x.2.2.1 (fun _ => 0) 0 0 x.2.1)))]]) (b_runU (C := RJ5) (owner := "java/lang/AbstractStringBuilder") (x := ⟨"java/lang/AbstractStringBuilder", "isLatin1", "()Z"⟩) ⟨hx, hb, hml, hown, hts⟩ (mt_AB_isLatin1_0 l Γ _ a w_10 x.2.2.2 L.length) q607 q609 (va_Decl.of (hts _ q608) (hts _ q611)) (hts _ q610) q608 q69 q611 rfl rfl 0 ⟨by decide, by decide, by decide +kernel⟩ ⟨(Nat.le_of_ble_eq_true rfl), (Nat.le_of_ble_eq_true rfl)⟩ (c_pre hP hD hS hA hK hE [0] rfl rfl ro_nil) (recv_at (q := (RJ5, TJ5, 4)) hK (b_at (k := 0) hP rfl) rfl) rfl hl.1 rfl (Nat.le_of_ble_eq_true rfl) dJ4_append_3_46 ⟨(by first | omega | (dsimp only; omega)), (by first | omega | (dsimp only; omega))⟩) hP hD hS hA [0] [1] rfl rfl rfl (fun r_15 u_15 H locs hw_15 hP hD hS _ => ?_)
        obtain ⟨rfl, rfl⟩ := hw_15
        have hP : WP Γ [[(a, .inr (13, [.ref w_10, .int 0, .int x.2.2.2, .int (nI L.length)]))], [(w_10, .inl (Γ.2.1 1, (cpN x.2.1 (L.length + 1)), .inl (va_cpy x.2.2.1 (fun _ => 0) 0 0 x.2.1)))]] H := hP
        have hD : WD A [[(a, .inr (13, [.ref w_10, .int 0, .int x.2.2.2, .int (nI L.length)]))], [(w_10, .inl (Γ.2.1 1, (cpN x.2.1 (L.length + 1)), .inl (va_cpy x.2.2.1 (fun _ => 0) 0 0 x.2.1)))]] := hD
        refine lv_if_eq (tgt := 56) hx hb dJ4_append_3_49 (by decide) (fun c_16 => ?_) (fun c_16 => ?_)
        · -- 49 taken
          have n_16 : 1 = 0 := (nI_eq (by omega) (by omega)).mp (show nI 1 = nI 0 from c_16)
          exact absurd n_16 (by omega)
        · -- 49 not taken
          have n_16 : ¬ (1 = 0) := fun h => c_16 ((nI_eq (a := 1) (b := 0) (by omega) (by omega)).mpr h)
          refine lv_aload_n hx hb dJ4_append_3_52 rfl (lv_at hl 0 rfl) ?_
          refine b_callv (br := []) (b_runU (C := RJ5) (owner := "java/lang/AbstractStringBuilder") (x := ⟨"java/lang/AbstractStringBuilder", "inflate", "()V"⟩) ⟨hx, hb, hml, hown, hts⟩ (mt_AB_inflate l Γ _ a w_10 x.2.2.2 L.length (cpN x.2.1 (L.length + 1)) (va_cpy x.2.2.1 (fun _ => 0) 0 0 x.2.1) (by omega) (by first | exact hc | omega)) q683 q2216 (va_Decl.of (hts _ q685) (hts _ q686)) (sel_priv (rfl : RJ4 = RJ4) (hts _ q610) ⟨by decide, by decide⟩ (hts _ q215) (va_Nw.use rfl (hE.1.1 _ q684 rfl)) (hts _ q685)) q685 q69 q686 rfl rfl 0 ⟨by decide, by decide, by decide +kernel⟩ ⟨(Nat.le_of_ble_eq_true rfl), (Nat.le_of_ble_eq_true rfl)⟩ (c_pre hP hD hS hA hK hE [0, 1] rfl rfl ro_nil) (recv_at (q := (RJ5, TJ5, 4)) hK (b_at (k := 0) hP rfl) rfl) rfl hl.1 rfl (Nat.le_of_ble_eq_true rfl) dJ4_append_3_53 ⟨(by first | omega | (dsimp only; omega)), (by first | omega | (dsimp only; omega))⟩) hP hD hS hA [0, 1] [] rfl rfl rfl (fun u_17 H locs hw_17 hP hD hS _ => ?_)
          obtain ⟨w_17, rfl⟩ := hw_17
          have hP : WP Γ [[(a, .inr (13, [.ref w_17, .int 1, .int x.2.2.2, .int (nI L.length)]))], [(w_17, .inl (Γ.2.1 1, 2 * (cpN x.2.1 (L.length + 1)), .inl (infF (fun _ => 0) (va_cpy x.2.2.1 (fun _ => 0) 0 0 x.2.1) L.length)))]] H := hP
          have hD : WD A [[(a, .inr (13, [.ref w_17, .int 1, .int x.2.2.2, .int (nI L.length)]))], [(w_17, .inl (Γ.2.1 1, 2 * (cpN x.2.1 (L.length + 1)), .inl (infF (fun _ => 0) (va_cpy x.2.2.1 (fun _ => 0) 0 0 x.2.1) L.length)))]] := hD
          refine lv_aload_n hx hb dJ4_append_3_56 rfl (lv_at hl 0 rfl) ?_
          refine b_get (C := RJ5) (T := TJ5) (N := 4) (v := .ref w_17) hx hb hts in_J5 hown hK (b_at (k := 0) hP rfl) rfl 0 (by decide) q232 (fun _ h9 => h9) rfl dJ4_append_3_57 ?_
          refine lv_aload_n hx hb dJ4_append_3_60 rfl (lv_at hl 0 rfl) ?_
          refine lv_dup hx hb dJ4_append_3_61 rfl ?_
          refine b_get (C := RJ5) (T := TJ5) (N := 4) (v := .int (nI L.length)) hx hb hts in_J5 hown hK (b_at (k := 0) hP rfl) rfl 3 (by decide) q236 (fun _ h9 => h9) rfl dJ4_append_3_62 ?_
          refine lv_dup_x1 hx hb dJ4_append_3_65 rfl rfl ?_
          refine lv_iconst (v := 1) hx hb dJ4_append_3_66 (by decide) ?_
          refine lv_iadd hx hb dJ4_append_3_67 ?_
          refine b_top (nI_addE (a := L.length) (b := 1) (c := L.length + 1) rfl rfl (by first | omega | rfl)) ?_
          refine b_put (C := RJ5) (T := TJ5) (N := 4) (ty := .int) (v := .int (nI (L.length + 1))) hx hb hts in_J5 tyJ5_ok nmJ5 hown hK hP hD hS 0 rfl rfl 3 (by decide) q236 (fun _ h9 => h9) rfl (by decide +kernel) rfl rfl (Nat.le_of_ble_eq_true rfl) dJ4_append_3_68 (fun H locs hP hD hS => ?_)
          have hP : WP Γ [[(a, .inr (13, [.ref w_17, .int 1, .int x.2.2.2, .int (nI (L.length + 1))]))], [(w_17, .inl (Γ.2.1 1, 2 * (cpN x.2.1 (L.length + 1)), .inl (infF (fun _ => 0) (va_cpy x.2.2.1 (fun _ => 0) 0 0 x.2.1) L.length)))]] H := hP
          have hD : WD A [[(a, .inr (13, [.ref w_17, .int 1, .int x.2.2.2, .int (nI (L.length + 1))]))], [(w_17, .inl (Γ.2.1 1, 2 * (cpN x.2.1 (L.length + 1)), .inl (infF (fun _ => 0) (va_cpy x.2.2.1 (fun _ => 0) 0 0 x.2.1) L.length)))]] := hD
          refine lv_iload_n hx hb dJ4_append_3_71 rfl (lv_at hl 1 rfl) ?_
          refine b_callv (br := [[(a, .inr (13, [.ref w_17, .int 1, .int x.2.2.2, .int (nI (L.length + 1))]))]]) (b_runS ⟨hx, hb, hml, hown, hts⟩ (mt_U16_putCharSB l Γ _ w_17 (cpN x.2.1 (L.length + 1)) (infF (fun _ => 0) (va_cpy x.2.2.1 (fun _ => 0) 0 0 x.2.1) L.length) L.length c (by omega) (by omega)) (lw_S q1520 q1521 q72 q1522) rfl rfl 3 (by decide +kernel) ⟨(Nat.le_of_ble_eq_true rfl), (Nat.le_of_ble_eq_true rfl)⟩ (c_pre hP hD hS hA hK hE [1] rfl rfl ro_nil) rfl hl.1 rfl (Nat.le_of_ble_eq_true rfl) dJ4_append_3_72 ⟨(by first | omega | (dsimp only; omega)), (by first | omega | (dsimp only; omega))⟩) hP hD hS hA [1] [0] rfl rfl rfl (fun u_18 H locs hw_18 hP hD hS _ => ?_)
          obtain rfl := hw_18
          have hP : WP Γ [[(w_17, .inl (Γ.2.1 1, 2 * (cpN x.2.1 (L.length + 1)), .inl (put2 (infF (fun _ => 0) (va_cpy x.2.2.1 (fun _ => 0) 0 0 x.2.1) L.length) L.length c)))], [(a, .inr (13, [.ref w_17, .int 1, .int x.2.2.2, .int (nI (L.length + 1))]))]] H := hP
          have hD : WD A [[(w_17, .inl (Γ.2.1 1, 2 * (cpN x.2.1 (L.length + 1)), .inl (put2 (infF (fun _ => 0) (va_cpy x.2.2.1 (fun _ => 0) 0 0 x.2.1) L.length) L.length c)))], [(a, .inr (13, [.ref w_17, .int 1, .int x.2.2.2, .int (nI (L.length + 1))]))]] := hD
          refine lv_aload_n hx hb dJ4_append_3_75 rfl (lv_at hl 0 rfl) ?_
          have hP : WP Γ [[(a, .inr (13, [.ref w_17, .int 1, .int x.2.2.2, .int (nI (L.length + 1))]))], [(w_17, .inl (Γ.2.1 1, 2 * (cpN x.2.1 (L.length + 1)), .inl (put2 (infF (fun _ => 0) (va_cpy x.2.2.1 (fun _ => 0) 0 0 x.2.1) L.length) L.length c)))]] H := bP_sel hP [1, 0] rfl
          have hD : WD A [[(a, .inr (13, [.ref w_17, .int 1, .int x.2.2.2, .int (nI (L.length + 1))]))], [(w_17, .inl (Γ.2.1 1, 2 * (cpN x.2.1 (L.length + 1)), .inl (put2 (infF (fun _ => 0) (va_cpy x.2.2.1 (fun _ => 0) 0 0 x.2.1) L.length) L.length c)))]] := bD_sel hD [1, 0] rfl rfl
          exact b_aret hx hb hr (by first | exact Or.inl ⟨_, rfl⟩ | exact Or.inr ⟨_, rfl⟩) hlocks hP hD hS (by first | omega | (dsimp only; omega)) (by first | omega | (dsimp only; omega)) ⟨(w_17, (cpN x.2.1 (L.length + 1)), (put2 (infF (fun _ => 0) (va_cpy x.2.2.1 (fun _ => 0) 0 0 x.2.1) L.length) L.length c), x.2.2.2), (sbU_put (sbU_inf (v2 := w_17) (v := w_10) (cap := cpN x.2.1 (L.length + 1)) (f := (va_cpy x.2.2.1 (fun _ => 0) 0 0 x.2.1)) (ml := x.2.2.2) (sbF_grow (v2 := w_10) (cap2 := cpN x.2.1 (L.length + 1)) (v := x.1) (cap := x.2.1) (f := x.2.2.1) (ml := x.2.2.2) hsb hcp.1 hcp.2)) hch (by omega)), rfl, (by first | with_reducible rfl | (simp [bf, n_12, n_14, n_16]; done) | rfl), (by simp only [List.length_append, List.length_cons, List.length_nil, Nat.zero_add])⟩ dJ4_append_3_76
      · -- 21 not taken
        have n_14 : ¬ (0 = 0) := fun h => c_14 ((nI_eq (a := 0) (b := 0) (by omega) (by omega)).mpr h)
        exact absurd n_14 (by omega)
set_option maxHeartbeats 4000000 in
set_option maxRecDepth 100000 in
theorem mt_SB_appU_0 (l : Launch) (Γ : GE) (sz : Nat) (a : Nat) (x : SBT) (L : List Int32) (c : Int32) (hsb : sbF 0 x L) (hb : L.length ≤ 100) (hc : 255 < c) (hch : isCh c) : KM l yJ5_append_3 cJ5_append_3 2 (some (FieldType.object "java/lang/StringBuilder")) Γ 7 158 2 2048 [.ref a, .int c] [[(a, .inr (13, [.ref x.1, .int 0, .int x.2.2.2, .int (nI L.length)]))], [(x.1, .inl (Γ.2.1 1, x.2.1, .inl x.2.2.1))]] [] sz (Qq Γ (fun r_ u_ => ∃ y : SBT, sbF 1 y (L ++ [c]) ∧ y.2.2.2 = x.2.2.2 ∧ r_ = some a ∧ u_ = [[(a, .inr (13, [.ref y.1, .int 1, .int y.2.2.2, .int (nI (L ++ [c]).length)]))], [(y.1, .inl (Γ.2.1 1, 2 * y.2.1, .inl y.2.2.1))]])) := by
  refine K_intro (by decide) (Nat.le_of_ble_eq_true rfl) ?_
  intro pr_ ev_ s mi_ below meth cd_ A ls hx hb hr hml hown hts hlocks hname hK hE hRo hP hD hA hS hsz hl
  have hl : lv_has ls 2 [(0, .ref a), (1, .int c)] := hl
  have hown : s.vm.findClass RJ5 = some mi_.cls := hown
  refine lv_aload_n hx hb dJ5_append_3_0 rfl (lv_at hl 0 rfl) ?_
  refine lv_iload_n hx hb dJ5_append_3_1 rfl (lv_at hl 1 rfl) ?_
  refine b_callq (br := []) (b_runSU (hK.1 13 _ rfl).2 ⟨hx, hb, hml, hown, hts⟩ (mt_AB_appU_0 l Γ _ a x L c hsb (by first | exact hb | omega) (by assumption) (by assumption)) q1514 q2218 q245 q1515 q69 q1516 rfl rfl 1 ⟨by decide, by decide +kernel⟩ ⟨(Nat.le_of_ble_eq_true rfl), (Nat.le_of_ble_eq_true rfl)⟩ (c_pre hP hD hS hA hK hE [0, 1] rfl rfl ro_nil) (recv_at (q := (RJ5, TJ5, 4)) hK (b_at (k := 0) hP rfl) rfl) rfl hl.1 rfl (Nat.le_of_ble_eq_true rfl) dJ5_append_3_2 ⟨(Nat.le_of_ble_eq_true rfl), (Nat.le_of_ble_eq_true rfl)⟩) hP hD hS hA [0, 1] [] rfl rfl rfl (fun r_1 u_1 H locs hw_1 hP hD hS _ => ?_)
  obtain ⟨y_1, hy_1, hyz_1, rfl, rfl⟩ := hw_1
  have hP : WP Γ [[(a, .inr (13, [.ref y_1.1, .int 1, .int y_1.2.2.2, .int (nI (L ++ [c]).length)]))], [(y_1.1, .inl (Γ.2.1 1, 2 * y_1.2.1, .inl y_1.2.2.1))]] H := hP
  have hD : WD A [[(a, .inr (13, [.ref y_1.1, .int 1, .int y_1.2.2.2, .int (nI (L ++ [c]).length)]))], [(y_1.1, .inl (Γ.2.1 1, 2 * y_1.2.1, .inl y_1.2.2.1))]] := hD
  refine W.eq (g2 := F0 mi_ 5 ls ([.ref a])) rfl ?_
  refine lv_pop hx hb dJ5_append_3_5 rfl ?_
  refine lv_aload_n hx hb dJ5_append_3_6 rfl (lv_at hl 0 rfl) ?_
  exact b_aret hx hb hr (by first | exact Or.inl ⟨_, rfl⟩ | exact Or.inr ⟨_, rfl⟩) hlocks hP hD hS (Nat.le_of_ble_eq_true rfl) (Nat.le_of_ble_eq_true rfl) ⟨y_1, hy_1, hyz_1, (by first | rfl | (simp; done)), rfl⟩ dJ5_append_3_7
set_option maxHeartbeats 4000000 in
set_option maxRecDepth 100000 in
theorem mt_AB_appU_1 (l : Launch) (Γ : GE) (sz : Nat) (a : Nat) (x : SBT) (L : List Int32) (c : Int32) (hsb : sbF 1 x L) (hb : L.length ≤ 100) (hch : isCh c) : KM l yJ4_append_3 cJ4_append_3 2 (some (FieldType.object "java/lang/AbstractStringBuilder")) Γ 4 104 2 2048 [.ref a, .int c] [[(a, .inr (13, [.ref x.1, .int 1, .int x.2.2.2, .int (nI L.length)]))], [(x.1, .inl (Γ.2.1 1, 2 * x.2.1, .inl x.2.2.1))]] [] sz (Qq Γ (fun r_ u_ => ∃ y : SBT, sbF 1 y (L ++ [c]) ∧ y.2.2.2 = x.2.2.2 ∧ r_ = some a ∧ u_ = [[(a, .inr (13, [.ref y.1, .int 1, .int y.2.2.2, .int (nI (L ++ [c]).length)]))], [(y.1, .inl (Γ.2.1 1, 2 * y.2.1, .inl y.2.2.1))]])) := by
  refine K_intro (by decide) (Nat.le_of_ble_eq_true rfl) ?_
  intro pr_ ev_ s mi_ below meth cd_ A ls hx hb hr hml hown hts hlocks hname hK hE hRo hP hD hA hS hsz hl
  have hl : lv_has ls 2 [(0, .ref a), (1, .int c)] := hl
  have hown : s.vm.findClass RJ4 = some mi_.cls := hown
  refine lv_aload_n hx hb dJ4_append_3_0 rfl (lv_at hl 0 rfl) ?_
  refine lv_aload_n hx hb dJ4_append_3_1 rfl (lv_at hl 0 rfl) ?_
  refine b_get (C := RJ5) (T := TJ5) (N := 4) (v := .int (nI L.length)) hx hb hts in_J5 hown hK (b_at (k := 0) hP rfl) rfl 3 (by decide) q236 (fun _ h9 => h9) rfl dJ4_append_3_2 ?_
  refine lv_iconst (v := 1) hx hb dJ4_append_3_5 (by decide) ?_
  refine lv_iadd hx hb dJ4_append_3_6 ?_
  refine b_top (nI_addE (a := L.length) (b := 1) (c := L.length + 1) rfl rfl (by first | omega | rfl)) ?_
  have hxl := sbF_len hsb
  by_cases bf : L.length + 1 ≤ x.2.1
  ·
    refine b_callv (br := []) (b_runU (C := RJ5) (owner := "java/lang/AbstractStringBuilder") (x := ⟨"java/lang/AbstractStringBuilder", "ensureCapacityInternal", "(I)V"⟩) ⟨hx, hb, hml, hown, hts⟩ (mt_AB_ens_fit_1 l Γ _ a x.1 x.2.2.2 L.length x.2.1 x.2.2.1 (L.length + 1) (by omega) (by omega)) q587 q2210 (va_Decl.of (hts _ q589) (hts _ q590)) (sel_priv (rfl : RJ4 = RJ4) (hts _ q610) ⟨by decide, by decide⟩ (hts _ q215) (va_Nw.use rfl (hE.1.1 _ q588 rfl)) (hts _ q589)) q589 q69 q590 rfl rfl 1 ⟨by decide, by decide, by decide +kernel⟩ ⟨(Nat.le_of_ble_eq_true rfl), (Nat.le_of_ble_eq_true rfl)⟩ (c_pre hP hD hS hA hK hE [0, 1] rfl rfl ro_nil) (recv_at (q := (RJ5, TJ5, 4)) hK (b_at (k := 0) hP rfl) rfl) rfl hl.1 rfl (Nat.le_of_ble_eq_true rfl) dJ4_append_3_7 ⟨(Nat.le_of_ble_eq_true rfl), (Nat.le_of_ble_eq_true rfl)⟩) hP hD hS hA [0, 1] [] rfl rfl rfl (fun u_1 H locs hw_1 hP hD hS _ => ?_)
    obtain rfl := hw_1
    have hP : WP Γ [[(a, .inr (13, [.ref x.1, .int 1, .int x.2.2.2, .int (nI L.length)]))], [(x.1, .inl (Γ.2.1 1, 2 * x.2.1, .inl x.2.2.1))]] H := hP
    have hD : WD A [[(a, .inr (13, [.ref x.1, .int 1, .int x.2.2.2, .int (nI L.length)]))], [(x.1, .inl (Γ.2.1 1, 2 * x.2.1, .inl x.2.2.1))]] := hD
    refine lv_aload_n hx hb dJ4_append_3_10 rfl (lv_at hl 0 rfl) ?_
    refine b_calli (br := [[(x.1, .inl (Γ.2.1 1, 2 * x.2.1, .inl x.2.2.1))]]) (b_runU (C := RJ5) (owner := "java/lang/AbstractStringBuilder") (x := ⟨"java/lang/AbstractStringBuilder", "isLatin1", "()Z"⟩) ⟨hx, hb, hml, hown, hts⟩ (mt_AB_isLatin1_1 l Γ _ a x.1 x.2.2.2 L.length) q607 q609 (va_Decl.of (hts _ q608) (hts _ q611)) (hts _ q610) q608 q69 q611 rfl rfl 0 ⟨by decide, by decide, by decide +kernel⟩ ⟨(Nat.le_of_ble_eq_true rfl), (Nat.le_of_ble_eq_true rfl)⟩ (c_pre hP hD hS hA hK hE [0] rfl rfl ro_nil) (recv_at (q := (RJ5, TJ5, 4)) hK (b_at (k := 0) hP rfl) rfl) rfl hl.1 rfl (Nat.le_of_ble_eq_true rfl) dJ4_append_3_11 ⟨(Nat.le_of_ble_eq_true rfl), (Nat.le_of_ble_eq_true rfl)⟩) hP hD hS hA [0] [1] rfl rfl rfl (fun r_2 u_2 H locs hw_2 hP hD hS _ => ?_)
    obtain ⟨rfl, rfl⟩ := hw_2
    have hP : WP Γ [[(a, .inr (13, [.ref x.1, .int 1, .int x.2.2.2, .int (nI L.length)]))], [(x.1, .inl (Γ.2.1 1, 2 * x.2.1, .inl x.2.2.1))]] H := hP
    have hD : WD A [[(a, .inr (13, [.ref x.1, .int 1, .int x.2.2.2, .int (nI L.length)]))], [(x.1, .inl (Γ.2.1 1, 2 * x.2.1, .inl x.2.2.1))]] := hD
    refine lv_if_eq (tgt := 45) hx hb dJ4_append_3_14 (by decide) (fun c_3 => ?_) (fun c_3 => ?_)
    · -- 14 taken
      have n_3 : 0 = 0 := (nI_eq (by omega) (by omega)).mp (show nI 0 = nI 0 from c_3)
      refine lv_aload_n hx hb dJ4_append_3_45 rfl (lv_at hl 0 rfl) ?_
      refine b_calli (br := [[(x.1, .inl (Γ.2.1 1, 2 * x.2.1, .inl x.2.2.1))]]) (b_runU (C := RJ5) (owner := "java/lang/AbstractStringBuilder") (x := ⟨"java/lang/AbstractStringBuilder", "isLatin1", "()Z"⟩) ⟨hx, hb, hml, hown, hts⟩ (mt_AB_isLatin1_1 l Γ _ a x.1 x.2.2.2 L.length) q607 q609 (va_Decl.of (hts _ q608) (hts _ q611)) (hts _ q610) q608 q69 q611 rfl rfl 0 ⟨by decide, by decide, by decide +kernel⟩ ⟨(Nat.le_of_ble_eq_true rfl), (Nat.le_of_ble_eq_true rfl)⟩ (c_pre hP hD hS hA hK hE [0] rfl rfl ro_nil) (recv_at (q := (RJ5, TJ5, 4)) hK (b_at (k := 0) hP rfl) rfl) rfl hl.1 rfl (Nat.le_of_ble_eq_true rfl) dJ4_append_3_46 ⟨(Nat.le_of_ble_eq_true rfl), (Nat.le_of_ble_eq_true rfl)⟩) hP hD hS hA [0] [1] rfl rfl rfl (fun r_4 u_4 H locs hw_4 hP hD hS _ => ?_)
      obtain ⟨rfl, rfl⟩ := hw_4
      have hP : WP Γ [[(a, .inr (13, [.ref x.1, .int 1, .int x.2.2.2, .int (nI L.length)]))], [(x.1, .inl (Γ.2.1 1, 2 * x.2.1, .inl x.2.2.1))]] H := hP
      have hD : WD A [[(a, .inr (13, [.ref x.1, .int 1, .int x.2.2.2, .int (nI L.length)]))], [(x.1, .inl (Γ.2.1 1, 2 * x.2.1, .inl x.2.2.1))]] := hD
      refine lv_if_eq (tgt := 56) hx hb dJ4_append_3_49 (by decide) (fun c_5 => ?_) (fun c_5 => ?_)
      · -- 49 taken
        have n_5 : 0 = 0 := (nI_eq (by omega) (by omega)).mp (show nI 0 = nI 0 from c_5)
        refine lv_aload_n hx hb dJ4_append_3_56 rfl (lv_at hl 0 rfl) ?_
        refine b_get (C := RJ5) (T := TJ5) (N := 4) (v := .ref x.1) hx hb hts in_J5 hown hK (b_at (k := 0) hP rfl) rfl 0 (by decide) q232 (fun _ h9 => h9) rfl dJ4_append_3_57 ?_
        refine lv_aload_n hx hb dJ4_append_3_60 rfl (lv_at hl 0 rfl) ?_
        refine lv_dup hx hb dJ4_append_3_61 rfl ?_
        refine b_get (C := RJ5) (T := TJ5) (N := 4) (v := .int (nI L.length)) hx hb hts in_J5 hown hK (b_at (k := 0) hP rfl) rfl 3 (by decide) q236 (fun _ h9 => h9) rfl dJ4_append_3_62 ?_
        refine lv_dup_x1 hx hb dJ4_append_3_65 rfl rfl ?_
        refine lv_iconst (v := 1) hx hb dJ4_append_3_66 (by decide) ?_
        refine lv_iadd hx hb dJ4_append_3_67 ?_
        refine b_top (nI_addE (a := L.length) (b := 1) (c := L.length + 1) rfl rfl (by first | omega | rfl)) ?_
        refine b_put (C := RJ5) (T := TJ5) (N := 4) (ty := .int) (v := .int (nI (L.length + 1))) hx hb hts in_J5 tyJ5_ok nmJ5 hown hK hP hD hS 0 rfl rfl 3 (by decide) q236 (fun _ h9 => h9) rfl (by decide +kernel) rfl rfl (Nat.le_of_ble_eq_true rfl) dJ4_append_3_68 (fun H locs hP hD hS => ?_)
        have hP : WP Γ [[(a, .inr (13, [.ref x.1, .int 1, .int x.2.2.2, .int (nI (L.length + 1))]))], [(x.1, .inl (Γ.2.1 1, 2 * x.2.1, .inl x.2.2.1))]] H := hP
        have hD : WD A [[(a, .inr (13, [.ref x.1, .int 1, .int x.2.2.2, .int (nI (L.length + 1))]))], [(x.1, .inl (Γ.2.1 1, 2 * x.2.1, .inl x.2.2.1))]] := hD
        refine lv_iload_n hx hb dJ4_append_3_71 rfl (lv_at hl 1 rfl) ?_
        refine b_callv (br := [[(a, .inr (13, [.ref x.1, .int 1, .int x.2.2.2, .int (nI (L.length + 1))]))]]) (b_runS ⟨hx, hb, hml, hown, hts⟩ (mt_U16_putCharSB l Γ _ x.1 x.2.1 x.2.2.1 L.length c (by omega) (by omega)) (lw_S q1520 q1521 q72 q1522) rfl rfl 3 (by decide +kernel) ⟨(Nat.le_of_ble_eq_true rfl), (Nat.le_of_ble_eq_true rfl)⟩ (c_pre hP hD hS hA hK hE [1] rfl rfl ro_nil) rfl hl.1 rfl (Nat.le_of_ble_eq_true rfl) dJ4_append_3_72 ⟨(Nat.le_of_ble_eq_true rfl), (Nat.le_of_ble_eq_true rfl)⟩) hP hD hS hA [1] [0] rfl rfl rfl (fun u_6 H locs hw_6 hP hD hS _ => ?_)
        obtain rfl := hw_6
        have hP : WP Γ [[(x.1, .inl (Γ.2.1 1, 2 * x.2.1, .inl (put2 x.2.2.1 L.length c)))], [(a, .inr (13, [.ref x.1, .int 1, .int x.2.2.2, .int (nI (L.length + 1))]))]] H := hP
        have hD : WD A [[(x.1, .inl (Γ.2.1 1, 2 * x.2.1, .inl (put2 x.2.2.1 L.length c)))], [(a, .inr (13, [.ref x.1, .int 1, .int x.2.2.2, .int (nI (L.length + 1))]))]] := hD
        refine lv_aload_n hx hb dJ4_append_3_75 rfl (lv_at hl 0 rfl) ?_
        have hP : WP Γ [[(a, .inr (13, [.ref x.1, .int 1, .int x.2.2.2, .int (nI (L.length + 1))]))], [(x.1, .inl (Γ.2.1 1, 2 * x.2.1, .inl (put2 x.2.2.1 L.length c)))]] H := bP_sel hP [1, 0] rfl
        have hD : WD A [[(a, .inr (13, [.ref x.1, .int 1, .int x.2.2.2, .int (nI (L.length + 1))]))], [(x.1, .inl (Γ.2.1 1, 2 * x.2.1, .inl (put2 x.2.2.1 L.length c)))]] := bD_sel hD [1, 0] rfl rfl
        exact b_aret hx hb hr (by first | exact Or.inl ⟨_, rfl⟩ | exact Or.inr ⟨_, rfl⟩) hlocks hP hD hS (Nat.le_of_ble_eq_true rfl) (Nat.le_of_ble_eq_true rfl) ⟨(x.1, x.2.1, (put2 x.2.2.1 L.length c), x.2.2.2), (sbU_put (v := x.1) (cap := x.2.1) (f := x.2.2.1) (ml := x.2.2.2) hsb hch (by omega)), rfl, (by first | with_reducible rfl | (simp [bf, n_3, n_5]; done) | rfl), (by simp only [List.length_append, List.length_cons, List.length_nil, Nat.zero_add])⟩ dJ4_append_3_76
      · -- 49 not taken
        have n_5 : ¬ (0 = 0) := fun h => c_5 ((nI_eq (a := 0) (b := 0) (by omega) (by omega)).mpr h)
        exact absurd n_5 (by omega)
    · -- 14 not taken
      have n_3 : ¬ (0 = 0) := fun h => c_3 ((nI_eq (a := 0) (b := 0) (by omega) (by omega)).mpr h)
      exact absurd n_3 (by omega)
  ·
    have hcp : x.2.1 ≤ cpN x.2.1 (L.length + 1) ∧ cpN x.2.1 (L.length + 1) ≤ 512 := by unfold cpN; split <;> omega
    have hcp2 : L.length + 1 ≤ cpN x.2.1 (L.length + 1) := by unfold cpN; split <;> omega
    refine b_callv (br := []) (b_runU (C := RJ5) (owner := "java/lang/AbstractStringBuilder") (x := ⟨"java/lang/AbstractStringBuilder", "ensureCapacityInternal", "(I)V"⟩) ⟨hx, hb, hml, hown, hts⟩ (mt_AB_ens_grow_1 l Γ _ a x.1 x.2.2.2 L.length x.2.1 x.2.2.1 (L.length + 1) (by omega) (by omega) hxl.2 hsb.2.2.1) q587 q2210 (va_Decl.of (hts _ q589) (hts _ q590)) (sel_priv (rfl : RJ4 = RJ4) (hts _ q610) ⟨by decide, by decide⟩ (hts _ q215) (va_Nw.use rfl (hE.1.1 _ q588 rfl)) (hts _ q589)) q589 q69 q590 rfl rfl 1 ⟨by decide, by decide, by decide +kernel⟩ ⟨(Nat.le_of_ble_eq_true rfl), (Nat.le_of_ble_eq_true rfl)⟩ (c_pre hP hD hS hA hK hE [0, 1] rfl rfl ro_nil) (recv_at (q := (RJ5, TJ5, 4)) hK (b_at (k := 0) hP rfl) rfl) rfl hl.1 rfl (Nat.le_of_ble_eq_true rfl) dJ4_append_3_7 ⟨(by first | omega | (dsimp only; omega)), (by first | omega | (dsimp only; omega))⟩) hP hD hS hA [0, 1] [] rfl rfl rfl (fun u_7 H locs hw_7 hP hD hS _ => ?_)
    obtain ⟨w_7, rfl⟩ := hw_7
    have hP : WP Γ [[(a, .inr (13, [.ref w_7, .int 1, .int x.2.2.2, .int (nI L.length)]))], [(w_7, .inl (Γ.2.1 1, 2 * (cpN x.2.1 (L.length + 1)), .inl (va_cpy x.2.2.1 (fun _ => 0) 0 0 (2 * x.2.1))))]] H := hP
    have hD : WD A [[(a, .inr (13, [.ref w_7, .int 1, .int x.2.2.2, .int (nI L.length)]))], [(w_7, .inl (Γ.2.1 1, 2 * (cpN x.2.1 (L.length + 1)), .inl (va_cpy x.2.2.1 (fun _ => 0) 0 0 (2 * x.2.1))))]] := hD
    refine lv_aload_n hx hb dJ4_append_3_10 rfl (lv_at hl 0 rfl) ?_
    refine b_calli (br := [[(w_7, .inl (Γ.2.1 1, 2 * (cpN x.2.1 (L.length + 1)), .inl (va_cpy x.2.2.1 (fun _ => 0) 0 0 (2 * x.2.1))))]]) (b_runU (C := RJ5) (owner := "java/lang/AbstractStringBuilder") (x := ⟨"java/lang/AbstractStringBuilder", "isLatin1", "()Z"⟩) ⟨hx, hb, hml, hown, hts⟩ (mt_AB_isLatin1_1 l Γ _ a w_7 x.2.2.2 L.length) q607 q609 (va_Decl.of (hts _ q608) (hts _ q611)) (hts _ q610) q608 q69 q611 rfl rfl 0 ⟨by decide, by decide, by decide +kernel⟩ ⟨(Nat.le_of_ble_eq_true rfl), (Nat.le_of_ble_eq_true rfl)⟩ (c_pre hP hD hS hA hK hE [0] rfl rfl ro_nil) (recv_at (q := (RJ5, TJ5, 4)) hK (b_at (k := 0) hP rfl) rfl) rfl hl.1 rfl (Nat.le_of_ble_eq_true rfl) dJ4_append_3_11 ⟨(by first | omega | (dsimp only; omega)), (by first | omega | (dsimp only; omega))⟩) hP hD hS hA [0] [1] rfl rfl rfl (fun r_8 u_8 H locs hw_8 hP hD hS _ => ?_)
    obtain ⟨rfl, rfl⟩ := hw_8
    have hP : WP Γ [[(a, .inr (13, [.ref w_7, .int 1, .int x.2.2.2, .int (nI L.length)]))], [(w_7, .inl (Γ.2.1 1, 2 * (cpN x.2.1 (L.length + 1)), .inl (va_cpy x.2.2.1 (fun _ => 0) 0 0 (2 * x.2.1))))]] H := hP
    have hD : WD A [[(a, .inr (13, [.ref w_7, .int 1, .int x.2.2.2, .int (nI L.length)]))], [(w_7, .inl (Γ.2.1 1, 2 * (cpN x.2.1 (L.length + 1)), .inl (va_cpy x.2.2.1 (fun _ => 0) 0 0 (2 * x.2.1))))]] := hD
    refine lv_if_eq (tgt := 45) hx hb dJ4_append_3_14 (by decide) (fun c_9 => ?_) (fun c_9 => ?_)
    · -- 14 taken
      have n_9 : 0 = 0 := (nI_eq (by omega) (by omega)).mp (show nI 0 = nI 0 from c_9)
      refine lv_aload_n hx hb dJ4_append_3_45 rfl (lv_at hl 0 rfl) ?_
      refine b_calli (br := [[(w_7, .inl (Γ.2.1 1, 2 * (cpN x.2.1 (L.length + 1)), .inl (va_cpy x.2.2.1 (fun _ => 0) 0 0 (2 * x.2.1))))]]) (b_runU (C := RJ5) (owner := "java/lang/AbstractStringBuilder") (x := ⟨"java/lang/AbstractStringBuilder", "isLatin1", "()Z"⟩) ⟨hx, hb, hml, hown, hts⟩ (mt_AB_isLatin1_1 l Γ _ a w_7 x.2.2.2 L.length) q607 q609 (va_Decl.of (hts _ q608) (hts _ q611)) (hts _ q610) q608 q69 q611 rfl rfl 0 ⟨by decide, by decide, by decide +kernel⟩ ⟨(Nat.le_of_ble_eq_true rfl), (Nat.le_of_ble_eq_true rfl)⟩ (c_pre hP hD hS hA hK hE [0] rfl rfl ro_nil) (recv_at (q := (RJ5, TJ5, 4)) hK (b_at (k := 0) hP rfl) rfl) rfl hl.1 rfl (Nat.le_of_ble_eq_true rfl) dJ4_append_3_46 ⟨(by first | omega | (dsimp only; omega)), (by first | omega | (dsimp only; omega))⟩) hP hD hS hA [0] [1] rfl rfl rfl (fun r_10 u_10 H locs hw_10 hP hD hS _ => ?_)
      obtain ⟨rfl, rfl⟩ := hw_10
      have hP : WP Γ [[(a, .inr (13, [.ref w_7, .int 1, .int x.2.2.2, .int (nI L.length)]))], [(w_7, .inl (Γ.2.1 1, 2 * (cpN x.2.1 (L.length + 1)), .inl (va_cpy x.2.2.1 (fun _ => 0) 0 0 (2 * x.2.1))))]] H := hP
      have hD : WD A [[(a, .inr (13, [.ref w_7, .int 1, .int x.2.2.2, .int (nI L.length)]))], [(w_7, .inl (Γ.2.1 1, 2 * (cpN x.2.1 (L.length + 1)), .inl (va_cpy x.2.2.1 (fun _ => 0) 0 0 (2 * x.2.1))))]] := hD
      refine lv_if_eq (tgt := 56) hx hb dJ4_append_3_49 (by decide) (fun c_11 => ?_) (fun c_11 => ?_)
      · -- 49 taken
        have n_11 : 0 = 0 := (nI_eq (by omega) (by omega)).mp (show nI 0 = nI 0 from c_11)
        refine lv_aload_n hx hb dJ4_append_3_56 rfl (lv_at hl 0 rfl) ?_
        refine b_get (C := RJ5) (T := TJ5) (N := 4) (v := .ref w_7) hx hb hts in_J5 hown hK (b_at (k := 0) hP rfl) rfl 0 (by decide) q232 (fun _ h9 => h9) rfl dJ4_append_3_57 ?_
        refine lv_aload_n hx hb dJ4_append_3_60 rfl (lv_at hl 0 rfl) ?_
        refine lv_dup hx hb dJ4_append_3_61 rfl ?_
        refine b_get (C := RJ5) (T := TJ5) (N := 4) (v := .int (nI L.length)) hx hb hts in_J5 hown hK (b_at (k := 0) hP rfl) rfl 3 (by decide) q236 (fun _ h9 => h9) rfl dJ4_append_3_62 ?_
        refine lv_dup_x1 hx hb dJ4_append_3_65 rfl rfl ?_
        refine lv_iconst (v := 1) hx hb dJ4_append_3_66 (by decide) ?_
        refine lv_iadd hx hb dJ4_append_3_67 ?_
        refine b_top (nI_addE (a := L.length) (b := 1) (c := L.length + 1) rfl rfl (by first | omega | rfl)) ?_
        refine b_put (C := RJ5) (T := TJ5) (N := 4) (ty := .int) (v := .int (nI (L.length + 1))) hx hb hts in_J5 tyJ5_ok nmJ5 hown hK hP hD hS 0 rfl rfl 3 (by decide) q236 (fun _ h9 => h9) rfl (by decide +kernel) rfl rfl (Nat.le_of_ble_eq_true rfl) dJ4_append_3_68 (fun H locs hP hD hS => ?_)
        have hP : WP Γ [[(a, .inr (13, [.ref w_7, .int 1, .int x.2.2.2, .int (nI (L.length + 1))]))], [(w_7, .inl (Γ.2.1 1, 2 * (cpN x.2.1 (L.length + 1)), .inl (va_cpy x.2.2.1 (fun _ => 0) 0 0 (2 * x.2.1))))]] H := hP
        have hD : WD A [[(a, .inr (13, [.ref w_7, .int 1, .int x.2.2.2, .int (nI (L.length + 1))]))], [(w_7, .inl (Γ.2.1 1, 2 * (cpN x.2.1 (L.length + 1)), .inl (va_cpy x.2.2.1 (fun _ => 0) 0 0 (2 * x.2.1))))]] := hD
        refine lv_iload_n hx hb dJ4_append_3_71 rfl (lv_at hl 1 rfl) ?_
        refine b_callv (br := [[(a, .inr (13, [.ref w_7, .int 1, .int x.2.2.2, .int (nI (L.length + 1))]))]]) (b_runS ⟨hx, hb, hml, hown, hts⟩ (mt_U16_putCharSB l Γ _ w_7 (cpN x.2.1 (L.length + 1)) (va_cpy x.2.2.1 (fun _ => 0) 0 0 (2 * x.2.1)) L.length c (by omega) (by omega)) (lw_S q1520 q1521 q72 q1522) rfl rfl 3 (by decide +kernel) ⟨(Nat.le_of_ble_eq_true rfl), (Nat.le_of_ble_eq_true rfl)⟩ (c_pre hP hD hS hA hK hE [1] rfl rfl ro_nil) rfl hl.1 rfl (Nat.le_of_ble_eq_true rfl) dJ4_append_3_72 ⟨(by first | omega | (dsimp only; omega)), (by first | omega | (dsimp only; omega))⟩) hP hD hS hA [1] [0] rfl rfl rfl (fun u_12 H locs hw_12 hP hD hS _ => ?_)
        obtain rfl := hw_12
        have hP : WP Γ [[(w_7, .inl (Γ.2.1 1, 2 * (cpN x.2.1 (L.length + 1)), .inl (put2 (va_cpy x.2.2.1 (fun _ => 0) 0 0 (2 * x.2.1)) L.length c)))], [(a, .inr (13, [.ref w_7, .int 1, .int x.2.2.2, .int (nI (L.length + 1))]))]] H := hP
        have hD : WD A [[(w_7, .inl (Γ.2.1 1, 2 * (cpN x.2.1 (L.length + 1)), .inl (put2 (va_cpy x.2.2.1 (fun _ => 0) 0 0 (2 * x.2.1)) L.length c)))], [(a, .inr (13, [.ref w_7, .int 1, .int x.2.2.2, .int (nI (L.length + 1))]))]] := hD
        refine lv_aload_n hx hb dJ4_append_3_75 rfl (lv_at hl 0 rfl) ?_
        have hP : WP Γ [[(a, .inr (13, [.ref w_7, .int 1, .int x.2.2.2, .int (nI (L.length + 1))]))], [(w_7, .inl (Γ.2.1 1, 2 * (cpN x.2.1 (L.length + 1)), .inl (put2 (va_cpy x.2.2.1 (fun _ => 0) 0 0 (2 * x.2.1)) L.length c)))]] H := bP_sel hP [1, 0] rfl
        have hD : WD A [[(a, .inr (13, [.ref w_7, .int 1, .int x.2.2.2, .int (nI (L.length + 1))]))], [(w_7, .inl (Γ.2.1 1, 2 * (cpN x.2.1 (L.length + 1)), .inl (put2 (va_cpy x.2.2.1 (fun _ => 0) 0 0 (2 * x.2.1)) L.length c)))]] := bD_sel hD [1, 0] rfl rfl
        exact b_aret hx hb hr (by first | exact Or.inl ⟨_, rfl⟩ | exact Or.inr ⟨_, rfl⟩) hlocks hP hD hS (by first | omega | (dsimp only; omega)) (by first | omega | (dsimp only; omega)) ⟨(w_7, (cpN x.2.1 (L.length + 1)), (put2 (va_cpy x.2.2.1 (fun _ => 0) 0 0 (2 * x.2.1)) L.length c), x.2.2.2), (sbU_put (v := w_7) (cap := cpN x.2.1 (L.length + 1)) (f := (va_cpy x.2.2.1 (fun _ => 0) 0 0 (2 * x.2.1))) (ml := x.2.2.2) (sbU_grow (v2 := w_7) (cap2 := cpN x.2.1 (L.length + 1)) (v := x.1) (cap := x.2.1) (f := x.2.2.1) (ml := x.2.2.2) hsb hcp.1 hcp.2) hch (by omega)), rfl, (by first | with_reducible rfl | (simp [bf, n_9, n_11]; done) | rfl), (by simp only [List.length_append, List.length_cons, List.length_nil, Nat.zero_add])⟩ dJ4_append_3_76
      · -- 49 not taken
        have n_11 : ¬ (0 = 0) := fun h => c_11 ((nI_eq (a := 0) (b := 0) (by omega) (by omega)).mpr h)
        exact absurd n_11 (by omega)
    · -- 14 not taken
      have n_9 : ¬ (0 = 0) := fun h => c_9 ((nI_eq (a := 0) (b := 0) (by omega) (by omega)).mpr h)
      exact absurd n_9 (by omega)
set_option maxHeartbeats 4000000 in
set_option maxRecDepth 100000 in
theorem mt_SB_appU_1 (l : Launch) (Γ : GE) (sz : Nat) (a : Nat) (x : SBT) (L : List Int32) (c : Int32) (hsb : sbF 1 x L) (hb : L.length ≤ 100) (hch : isCh c) : KM l yJ5_append_3 cJ5_append_3 2 (some (FieldType.object "java/lang/StringBuilder")) Γ 5 125 2 2048 [.ref a, .int c] [[(a, .inr (13, [.ref x.1, .int 1, .int x.2.2.2, .int (nI L.length)]))], [(x.1, .inl (Γ.2.1 1, 2 * x.2.1, .inl x.2.2.1))]] [] sz (Qq Γ (fun r_ u_ => ∃ y : SBT, sbF 1 y (L ++ [c]) ∧ y.2.2.2 = x.2.2.2 ∧ r_ = some a ∧ u_ = [[(a, .inr (13, [.ref y.1, .int 1, .int y.2.2.2, .int (nI (L ++ [c]).length)]))], [(y.1, .inl (Γ.2.1 1, 2 * y.2.1, .inl y.2.2.1))]])) := by
  refine K_intro (by decide) (Nat.le_of_ble_eq_true rfl) ?_
  intro pr_ ev_ s mi_ below meth cd_ A ls hx hb hr hml hown hts hlocks hname hK hE hRo hP hD hA hS hsz hl
  have hl : lv_has ls 2 [(0, .ref a), (1, .int c)] := hl
  have hown : s.vm.findClass RJ5 = some mi_.cls := hown
  refine lv_aload_n hx hb dJ5_append_3_0 rfl (lv_at hl 0 rfl) ?_
  refine lv_iload_n hx hb dJ5_append_3_1 rfl (lv_at hl 1 rfl) ?_
  refine b_callq (br := []) (b_runSU (hK.1 13 _ rfl).2 ⟨hx, hb, hml, hown, hts⟩ (mt_AB_appU_1 l Γ _ a x L c hsb (by first | exact hb | omega) (by assumption)) q1514 q2218 q245 q1515 q69 q1516 rfl rfl 1 ⟨by decide, by decide +kernel⟩ ⟨(Nat.le_of_ble_eq_true rfl), (Nat.le_of_ble_eq_true rfl)⟩ (c_pre hP hD hS hA hK hE [0, 1] rfl rfl ro_nil) (recv_at (q := (RJ5, TJ5, 4)) hK (b_at (k := 0) hP rfl) rfl) rfl hl.1 rfl (Nat.le_of_ble_eq_true rfl) dJ5_append_3_2 ⟨(Nat.le_of_ble_eq_true rfl), (Nat.le_of_ble_eq_true rfl)⟩) hP hD hS hA [0, 1] [] rfl rfl rfl (fun r_1 u_1 H locs hw_1 hP hD hS _ => ?_)
  obtain ⟨y_1, hy_1, hyz_1, rfl, rfl⟩ := hw_1
  have hP : WP Γ [[(a, .inr (13, [.ref y_1.1, .int 1, .int y_1.2.2.2, .int (nI (L ++ [c]).length)]))], [(y_1.1, .inl (Γ.2.1 1, 2 * y_1.2.1, .inl y_1.2.2.1))]] H := hP
  have hD : WD A [[(a, .inr (13, [.ref y_1.1, .int 1, .int y_1.2.2.2, .int (nI (L ++ [c]).length)]))], [(y_1.1, .inl (Γ.2.1 1, 2 * y_1.2.1, .inl y_1.2.2.1))]] := hD
  refine W.eq (g2 := F0 mi_ 5 ls ([.ref a])) rfl ?_
  refine lv_pop hx hb dJ5_append_3_5 rfl ?_
  refine lv_aload_n hx hb dJ5_append_3_6 rfl (lv_at hl 0 rfl) ?_
  exact b_aret hx hb hr (by first | exact Or.inl ⟨_, rfl⟩ | exact Or.inr ⟨_, rfl⟩) hlocks hP hD hS (Nat.le_of_ble_eq_true rfl) (Nat.le_of_ble_eq_true rfl) ⟨y_1, hy_1, hyz_1, (by first | rfl | (simp; done)), rfl⟩ dJ5_append_3_7
