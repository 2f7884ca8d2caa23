/-! JDK: StringBuilder. A text is the list of its letters; the builder's bytes hold them (coder 0: a byte a letter; coder 1: two) -/
theorem gd_lo {L M : List Int32} {j : Nat} (h : j < L.length) : (L ++ M).getD j 0 = L.getD j 0 := by
  rw [List.getD_eq_getElem?_getD, List.getD_eq_getElem?_getD, List.getElem?_append_left h]
theorem gd_hi {L M : List Int32} {j : Nat} (h : L.length ≤ j) : (L ++ M).getD j 0 = M.getD (j - L.length) 0 := by
  rw [List.getD_eq_getElem?_getD, List.getD_eq_getElem?_getD, List.getElem?_append_right h]
def mxN (a b : Nat) : Nat := if a < b then b else a
theorem mx_nI {a b : Nat} (ha : a < 2 ^ 31) (hb : b < 2 ^ 31) : (if nI a < nI b then nI b else nI a) = nI (mxN a b) := by
  unfold mxN
  by_cases h : a < b
  · rw [if_pos h, if_pos (nI_lt h hb)]
  · rw [if_neg h, if_neg (nI_nlt (by omega) ha)]
def mnN (a b : Nat) : Nat := if b < a then b else a
theorem mn_nI {a b : Nat} (ha : a < 2 ^ 31) (hb : b < 2 ^ 31) : (if nI b < nI a then nI b else nI a) = nI (mnN a b) := by
  unfold mnN
  by_cases h : b < a
  · rw [if_pos h, if_pos (nI_lt h ha)]
  · rw [if_neg h, if_neg (nI_nlt (by omega) hb)]
/-- the next capacity -/
def cpN (cap q : Nat) : Nat := if 2 * cap + 2 < q then q else 2 * cap + 2
/-- the list L laid into f from place p on -/
def putL (f : Nat → Int32) (p : Nat) (L : List Int32) : Nat → Int32 := fun q => if p ≤ q ∧ q < p + L.length then L.getD (q - p) 0 else f q
theorem putL_in {f : Nat → Int32} {p j : Nat} {L : List Int32} (h : j < L.length) : putL f p L (p + j) = L.getD j 0 := by
  rw [putL, if_pos ⟨by omega, by omega⟩, Nat.add_sub_cancel_left]
theorem putL_lo {f : Nat → Int32} {p q : Nat} {L : List Int32} (h : q < p) : putL f p L q = f q := by
  rw [putL, if_neg (by omega)]
theorem putL_one (f : Nat → Int32) (p : Nat) (x : Int32) : upd f p x = putL f p [x] := by
  funext q
  simp only [upd, putL, List.length_cons, List.length_nil]
  by_cases h : q = p
  · subst h
    rw [if_pos rfl, if_pos (by omega), Nat.sub_self]
    rfl
  · rw [if_neg h, if_neg (by omega)]
theorem putL_cons (f : Nat → Int32) (p : Nat) (x : Int32) (L : List Int32) : upd (putL f (p + 1) L) p x = putL f p (x :: L) := by
  funext q
  simp only [upd, putL, List.length_cons]
  by_cases h : q = p
  · subst h
    rw [if_pos rfl, if_pos (by omega), Nat.sub_self]
    rfl
  · rw [if_neg h]
    by_cases h2 : p + 1 ≤ q ∧ q < p + 1 + L.length
    · rw [if_pos h2, if_pos (by omega), show q - p = (q - (p + 1)) + 1 by omega]
      rfl
    · rw [if_neg h2, if_neg (by omega)]
/-- a letter as a byte, and back -/
def nb (c : Int32) : Int32 := vp_nar .byte c
def isL (c : Int32) : Prop := lc (nb c) = c
theorem nb_fit (c : Int32) : fits .byte (.int (nb c)) = true := pk_fb _
def chrK (k : Nat) (f : Nat → Int32) (j : Nat) : Int32 := if k = 0 then lc (f j) else uc (f (2 * j)) (f (2 * j + 1))
/-- the bytes' address, the room (letters), the bytes, the flag maybeLatin1 -/
abbrev SBT : Type := Nat × Nat × (Nat → Int32) × Int32
def sbF (k : Nat) (x : SBT) (L : List Int32) : Prop := L.length ≤ x.2.1 ∧ x.2.1 ≤ 512 ∧ (∀ j, fits .byte (.int (x.2.2.1 j)) = true) ∧ (x.2.2.2 = 0 ∨ x.2.2.2 = 1) ∧ ∀ j, j < L.length → chrK k x.2.2.1 j = L.getD j 0
theorem sbF_len {k : Nat} {x : SBT} {L : List Int32} (h : sbF k x L) : L.length ≤ x.2.1 ∧ x.2.1 ≤ 512 := ⟨h.1, h.2.1⟩
theorem fit_putL {f : Nat → Int32} {p : Nat} {L : List Int32} (hf : ∀ j, fits .byte (.int (f j)) = true) : ∀ j, fits .byte (.int (putL f p (L.map nb) j)) = true := by
  intro j
  rw [putL]
  split
  · rename_i h
    rw [List.length_map] at h
    rw [List.getD_eq_getElem?_getD, List.getElem?_eq_getElem (by rw [List.length_map]; omega), List.getElem_map]
    exact nb_fit _
  · exact hf j
/-- letters behind the text, in place -/
theorem sbF_put {v cap : Nat} {f : Nat → Int32} {ml : Int32} {L M : List Int32} (h : sbF 0 (v, cap, f, ml) L) (hM : ∀ c ∈ M, isL c) (hc : L.length + M.length ≤ cap) : sbF 0 (v, cap, putL f L.length (M.map nb), ml) (L ++ M) := by
  obtain ⟨h1, h2, h3, h4, h5⟩ := h
  refine ⟨by rw [List.length_append]; exact hc, h2, fit_putL h3, h4, fun j hj => ?_⟩
  rw [List.length_append] at hj
  by_cases e : j < L.length
  · have := h5 j e
    rw [chrK, if_pos rfl] at this ⊢
    show lc (putL f L.length (M.map nb) j) = _
    rw [putL_lo e, gd_lo e]
    exact this
  · obtain ⟨i, rfl⟩ : ∃ i, j = L.length + i := ⟨j - L.length, by omega⟩
    have hi : i < M.length := by omega
    rw [chrK, if_pos rfl]
    show lc (putL f L.length (M.map nb) (L.length + i)) = _
    rw [putL_in (by rw [List.length_map]; exact hi), gd_hi (by omega), Nat.add_sub_cancel_left, List.getD_eq_getElem?_getD, List.getD_eq_getElem?_getD, List.getElem?_eq_getElem (by rw [List.length_map]; exact hi), List.getElem?_eq_getElem hi, List.getElem_map]
    exact hM _ (List.getElem_mem hi)
/-- more room -/
theorem sbF_grow {v v2 cap cap2 : Nat} {f : Nat → Int32} {ml : Int32} {L : List Int32} (h : sbF 0 (v, cap, f, ml) L) (h1 : cap ≤ cap2) (h2 : cap2 ≤ 512) : sbF 0 (v2, cap2, va_cpy f (fun _ => 0) 0 0 cap, ml) L := by
  obtain ⟨a1, a2, a3, a4, a5⟩ := h
  refine ⟨Nat.le_trans a1 h1, h2, fun j => ?_, a4, fun j hj => ?_⟩
  · show fits .byte (.int (if 0 ≤ j ∧ j < 0 + cap then f (0 + (j - 0)) else 0)) = true
    split
    · exact a3 _
    · decide
  · have := a5 j hj
    rw [chrK, if_pos rfl] at this ⊢
    have hl : j < cap := Nat.lt_of_lt_of_le hj a1
    show lc (if 0 ≤ j ∧ j < 0 + cap then f (0 + (j - 0)) else 0) = _
    rw [if_pos (by omega), show 0 + (j - 0) = j by omega]
    exact this
set_option maxHeartbeats 4000000 in
set_option maxRecDepth 100000 in
theorem mt_newLength (l : Launch) (Γ : GE) (sz : Nat) (o : Nat) (g : Nat) (p : Nat) (h0 : 0 < o + mxN g p) (h1 : o + mxN g p ≤ 1000000) (h2 : g ≤ 1000000) (h3 : p ≤ 1000000) : KM l yJ15_newLength cJ15_newLength 4 (some FieldType.int) Γ 1 31 0 0 [.int (nI o), .int (nI g), .int (nI p)] [] [] sz (Qi Γ (fun r_ u_ => r_ = (nI (o + (mxN g p))) ∧ u_ = [])) := by
  refine K_intro (by decide) (Nat.le_of_ble_eq_true rfl) ?_
  intro pr_ ev_ s mi_ below meth cd_ A ls hx hb hr hml hown hts hlocks hname hK hE hRo hP hD hA hS hsz hl
  have hl : lv_has ls 4 [(0, .int (nI o)), (1, .int (nI g)), (2, .int (nI p))] := hl
  have hown : s.vm.findClass RJ15 = some mi_.cls := hown
  refine lv_iload_n hx hb dJ15_newLength_0 rfl (lv_at hl 0 rfl) ?_
  refine lv_iload_n hx hb dJ15_newLength_1 rfl (lv_at hl 1 rfl) ?_
  refine lv_iload_n hx hb dJ15_newLength_2 rfl (lv_at hl 2 rfl) ?_
  refine va_mmax hx hb (hml.trans hl.1.symm) hown (hts _ q492) (hts _ q493) (hts _ q83) (hts _ q494) (Nat.le_of_ble_eq_true rfl) (Nat.le_of_ble_eq_true rfl) (Nat.le_of_ble_eq_true rfl) (Nat.le_of_ble_eq_true rfl) dJ15_newLength_3 ?_
  refine b_top (mx_nI (a := g) (b := p) (by omega) (by omega)) ?_
  refine lv_iadd hx hb dJ15_newLength_6 ?_
  refine b_top (nI_addE (a := o) (b := (mxN g p)) (c := o + (mxN g p)) rfl rfl (by first | omega | rfl)) ?_
  refine lv_istore_n (lv' := [(3, .int (nI (o + (mxN g p)))), (0, .int (nI o)), (1, .int (nI g)), (2, .int (nI p))]) hx hb dJ15_newLength_7 rfl hl (by decide) rfl (fun ls hl => ?_)
  refine lv_iconst (v := 0) hx hb dJ15_newLength_8 (by decide) ?_
  refine lv_iload_n hx hb dJ15_newLength_9 rfl (lv_at hl 0 rfl) ?_
  refine lv_icmp_ge (tgt := 21) hx hb dJ15_newLength_10 (by decide) (fun c_1 => ?_) (fun c_1 => ?_)
  · -- 10 taken
    have n_1 : o + (mxN g p) ≤ 0 := (nI_leI (by omega) (by omega)).mp (show nI (o + (mxN g p)) ≤ nI 0 from c_1)
    have m_1 : ¬ (0 < o + (mxN g p)) := by omega
    have d_1 := Int32.not_lt.mpr c_1
    exfalso; omega
  · -- 10 not taken
    have n_1 : ¬ (o + (mxN g p) ≤ 0) := fun h => c_1 ((nI_leI (a := o + (mxN g p)) (b := 0) (by omega) (by omega)).mpr h)
    have m_1 : 0 < o + (mxN g p) := by omega
    have d_1 := Int32.not_le.mp c_1
    refine lv_iload_n hx hb dJ15_newLength_13 rfl (lv_at hl 0 rfl) ?_
    refine lv_ldc hx hb hown (hts _ q495) dJ15_newLength_14 ?_
    refine lv_icmp_gt (tgt := 21) hx hb dJ15_newLength_16 (by decide) (fun c_2 => ?_) (fun c_2 => ?_)
    · -- 16 taken
      have n_2 : 2147483639 < o + (mxN g p) := (nI_ltI (by omega) (by omega)).mp (show nI 2147483639 < nI (o + (mxN g p)) from c_2)
      exfalso; omega
    · -- 16 not taken
      have n_2 : ¬ (2147483639 < o + (mxN g p)) := fun h => c_2 ((nI_ltI (a := 2147483639) (b := o + (mxN g p)) (by omega) (by omega)).mpr h)
      refine lv_iload_n hx hb dJ15_newLength_19 rfl (lv_at hl 0 rfl) ?_
      exact b_iret hx hb hr hlocks hP hD hS (Nat.le_of_ble_eq_true rfl) (Nat.le_of_ble_eq_true rfl) ⟨(by first | with_reducible rfl | (simp [n_1, m_1, d_1, n_2, c_2]; done) | rfl), (by first | with_reducible rfl | (simp [n_1, m_1, d_1, n_2, c_2]; done) | rfl)⟩ dJ15_newLength_20
set_option maxHeartbeats 4000000 in
set_option maxRecDepth 100000 in
theorem mt_AB_isLatin1_0 (l : Launch) (Γ : GE) (sz : Nat) (a : Nat) (v : Nat) (ml : Int32) (n : Nat)  : KM l yJ4_isLatin1 cJ4_isLatin1 1 (some FieldType.boolean) Γ 0 0 0 0 [.ref a] [[(a, .inr (13, [.ref v, .int 0, .int ml, .int (nI n)]))]] [] sz (Qi Γ (fun r_ u_ => r_ = 1 ∧ u_ = [[(a, .inr (13, [.ref v, .int 0, .int ml, .int (nI n)]))]])) := by
  refine K_intro (by decide) (Nat.le_of_ble_eq_true rfl) ?_
  intro pr_ ev_ s mi_ below meth cd_ A ls hx hb hr hml hown hts hlocks hname hK hE hRo hP hD hA hS hsz hl
  have hl : lv_has ls 1 [(0, .ref a)] := hl
  have hown : s.vm.findClass RJ4 = some mi_.cls := hown
  refine va_gets (C := "java/lang/String") (n := "COMPACT_STRINGS") (d := "Z") hx hb hE.compact hS hown (hts _ q223) (fun _ h9 => h9) dJ4_isLatin1_0 ?_
  refine lv_if_eq (tgt := 17) hx hb dJ4_isLatin1_3 (by decide) (fun c_1 => ?_) (fun c_1 => ?_)
  · -- 3 taken
    have n_1 : 1 = 0 := (nI_eq (by omega) (by omega)).mp (show nI 1 = nI 0 from c_1)
    exact absurd n_1 (by omega)
  · -- 3 not taken
    have n_1 : ¬ (1 = 0) := fun h => c_1 ((nI_eq (a := 1) (b := 0) (by omega) (by omega)).mpr h)
    refine lv_aload_n hx hb dJ4_isLatin1_6 rfl (lv_at hl 0 rfl) ?_
    refine b_get (C := RJ5) (T := TJ5) (N := 4) (v := .int 0) hx hb hts in_J5 hown hK (b_at (k := 0) hP rfl) rfl 1 (by decide) q233 (fun _ h9 => h9) rfl dJ4_isLatin1_7 ?_
    refine lv_if_ne (tgt := 17) hx hb dJ4_isLatin1_10 (by decide) (fun c_2 => ?_) (fun c_2 => ?_)
    · -- 10 taken
      have n_2 : ¬ (0 = 0) := fun h => c_2 ((nI_eq (a := 0) (b := 0) (by omega) (by omega)).mpr h)
      exact absurd n_2 (by omega)
    · -- 10 not taken
      have n_2 : 0 = 0 := (nI_eq (by omega) (by omega)).mp (show nI 0 = nI 0 from c_2)
      refine lv_iconst (v := 1) hx hb dJ4_isLatin1_13 (by decide) ?_
      refine lv_goto (tgt := 18) hx hb dJ4_isLatin1_14 (by decide) ?_
      exact b_zret hx hb hr hlocks hP hD hS (Nat.le_of_ble_eq_true rfl) (Nat.le_of_ble_eq_true rfl) rfl ⟨(by first | with_reducible rfl | (simp [n_1, n_2]; done) | rfl), (by first | with_reducible rfl | (simp [n_1, n_2]; done) | rfl)⟩ dJ4_isLatin1_18
set_option maxHeartbeats 4000000 in
set_option maxRecDepth 100000 in
theorem mt_AB_getValue_0 (l : Launch) (Γ : GE) (sz : Nat) (a : Nat) (v : Nat) (ml : Int32) (n : Nat)  : KM l yJ4_getValue cJ4_getValue 1 (some (FieldType.array FieldType.byte)) Γ 0 0 0 0 [.ref a] [[(a, .inr (13, [.ref v, .int 0, .int ml, .int (nI n)]))]] [] sz (Qq Γ (fun r_ u_ => r_ = some v ∧ u_ = [[(a, .inr (13, [.ref v, .int 0, .int ml, .int (nI n)]))]])) := by
  refine K_intro (by decide) (Nat.le_of_ble_eq_true rfl) ?_
  intro pr_ ev_ s mi_ below meth cd_ A ls hx hb hr hml hown hts hlocks hname hK hE hRo hP hD hA hS hsz hl
  have hl : lv_has ls 1 [(0, .ref a)] := hl
  have hown : s.vm.findClass RJ4 = some mi_.cls := hown
  refine lv_aload_n hx hb dJ4_getValue_0 rfl (lv_at hl 0 rfl) ?_
  refine b_get (C := RJ5) (T := TJ5) (N := 4) (v := .ref v) hx hb hts in_J5 hown hK (b_at (k := 0) hP rfl) rfl 0 (by decide) q232 (fun _ h9 => h9) rfl dJ4_getValue_1 ?_
  exact b_aret hx hb hr (by first | exact Or.inl ⟨_, rfl⟩ | exact Or.inr ⟨_, rfl⟩) hlocks hP hD hS (Nat.le_of_ble_eq_true rfl) (Nat.le_of_ble_eq_true rfl) ⟨(by first | rfl | (simp; done)), (by first | rfl | (simp; done))⟩ dJ4_getValue_4
set_option maxHeartbeats 4000000 in
set_option maxRecDepth 100000 in
theorem mt_AB_length_0 (l : Launch) (Γ : GE) (sz : Nat) (a : Nat) (v : Nat) (ml : Int32) (n : Nat)  : KM l yJ4_length cJ4_length 1 (some FieldType.int) Γ 0 0 0 0 [.ref a] [[(a, .inr (13, [.ref v, .int 0, .int ml, .int (nI n)]))]] [] sz (Qi Γ (fun r_ u_ => r_ = (nI n) ∧ u_ = [[(a, .inr (13, [.ref v, .int 0, .int ml, .int (nI n)]))]])) := by
  refine K_intro (by decide) (Nat.le_of_ble_eq_true rfl) ?_
  intro pr_ ev_ s mi_ below meth cd_ A ls hx hb hr hml hown hts hlocks hname hK hE hRo hP hD hA hS hsz hl
  have hl : lv_has ls 1 [(0, .ref a)] := hl
  have hown : s.vm.findClass RJ4 = some mi_.cls := hown
  refine lv_aload_n hx hb dJ4_length_0 rfl (lv_at hl 0 rfl) ?_
  refine b_get (C := RJ5) (T := TJ5) (N := 4) (v := .int (nI n)) hx hb hts in_J5 hown hK (b_at (k := 0) hP rfl) rfl 3 (by decide) q236 (fun _ h9 => h9) rfl dJ4_length_1 ?_
  exact b_iret hx hb hr hlocks hP hD hS (Nat.le_of_ble_eq_true rfl) (Nat.le_of_ble_eq_true rfl) ⟨(by first | rfl | (simp; done)), (by first | rfl | (simp; done))⟩ dJ4_length_4
set_option maxHeartbeats 4000000 in
set_option maxRecDepth 100000 in
theorem mt_SB_length_0 (l : Launch) (Γ : GE) (sz : Nat) (a : Nat) (v : Nat) (ml : Int32) (n : Nat)  : KM l yJ5_length cJ5_length 1 (some FieldType.int) Γ 1 20 0 0 [.ref a] [[(a, .inr (13, [.ref v, .int 0, .int ml, .int (nI n)]))]] [] sz (Qi Γ (fun r_ u_ => r_ = (nI n) ∧ u_ = [[(a, .inr (13, [.ref v, .int 0, .int ml, .int (nI n)]))]])) := by
  refine K_intro (by decide) (Nat.le_of_ble_eq_true rfl) ?_
  intro pr_ ev_ s mi_ below meth cd_ A ls hx hb hr hml hown hts hlocks hname hK hE hRo hP hD hA hS hsz hl
  have hl : lv_has ls 1 [(0, .ref a)] := hl
  have hown : s.vm.findClass RJ5 = some mi_.cls := hown
  refine lv_aload_n hx hb dJ5_length_0 rfl (lv_at hl 0 rfl) ?_
  refine b_calli (br := []) (b_runSU (hK.1 13 _ rfl).2 ⟨hx, hb, hml, hown, hts⟩ (mt_AB_length_0 l Γ _ a v ml n) q732 q728 q245 q727 q69 q733 rfl rfl 0 ⟨by decide, by decide +kernel⟩ ⟨(Nat.le_of_ble_eq_true rfl), (Nat.le_of_ble_eq_true rfl)⟩ (c_pre hP hD hS hA hK hE [0] rfl rfl ro_nil) (recv_at (q := (RJ5, TJ5, 4)) hK (b_at (k := 0) hP rfl) rfl) rfl hl.1 rfl (Nat.le_of_ble_eq_true rfl) dJ5_length_1 ⟨(Nat.le_of_ble_eq_true rfl), (Nat.le_of_ble_eq_true rfl)⟩) hP hD hS hA [0] [] rfl rfl rfl (fun r_1 u_1 H locs hw_1 hP hD hS _ => ?_)
  obtain ⟨rfl, rfl⟩ := hw_1
  have hP : WP Γ [[(a, .inr (13, [.ref v, .int 0, .int ml, .int (nI n)]))]] H := hP
  have hD : WD A [[(a, .inr (13, [.ref v, .int 0, .int ml, .int (nI n)]))]] := hD
  exact b_iret hx hb hr hlocks hP hD hS (Nat.le_of_ble_eq_true rfl) (Nat.le_of_ble_eq_true rfl) ⟨(by first | rfl | (simp; done)), (by first | rfl | (simp; done))⟩ dJ5_length_4
set_option maxHeartbeats 4000000 in
set_option maxRecDepth 100000 in
theorem mt_AB_newCap_0 (l : Launch) (Γ : GE) (sz : Nat) (a : Nat) (v : Nat) (ml : Int32) (n : Nat) (cap : Nat) (f : Nat → Int32) (q : Nat) (hq : cap < q) (hq2 : q ≤ 2000) (hc : cap ≤ 2000) : KM l yJ4_newCapacity cJ4_newCapacity 6 (some FieldType.int) Γ 2 54 0 0 [.ref a, .int (nI q)] [[(a, .inr (13, [.ref v, .int 0, .int ml, .int (nI n)]))], [(v, .inl (Γ.2.1 1, cap, .inl f))]] [] sz (Qi Γ (fun r_ u_ => r_ = (nI (cpN cap q)) ∧ u_ = [[(a, .inr (13, [.ref v, .int 0, .int ml, .int (nI n)]))], [(v, .inl (Γ.2.1 1, cap, .inl f))]])) := by
  refine K_intro (by decide) (Nat.le_of_ble_eq_true rfl) ?_
  intro pr_ ev_ s mi_ below meth cd_ A ls hx hb hr hml hown hts hlocks hname hK hE hRo hP hD hA hS hsz hl
  have hl : lv_has ls 6 [(0, .ref a), (1, .int (nI q))] := hl
  have hown : s.vm.findClass RJ4 = some mi_.cls := hown
  have hcp : q ≤ cpN cap q ∧ 2 * cap + 2 ≤ cpN cap q ∧ (cpN cap q ≤ q ∨ cpN cap q ≤ 2 * cap + 2) := by unfold cpN; split <;> omega
  refine lv_aload_n hx hb dJ4_newCapacity_0 rfl (lv_at hl 0 rfl) ?_
  refine b_get (C := RJ5) (T := TJ5) (N := 4) (v := .ref v) hx hb hts in_J5 hown hK (b_at (k := 0) hP rfl) rfl 0 (by decide) q232 (fun _ h9 => h9) rfl dJ4_newCapacity_1 ?_
  refine b_alen hx hb hK 1 (b_at (k := 1) hP rfl) rfl dJ4_newCapacity_4 ?_
  refine lv_istore_n (lv' := [(2, .int (nI cap)), (0, .ref a), (1, .int (nI q))]) hx hb dJ4_newCapacity_5 rfl hl (by decide) rfl (fun ls hl => ?_)
  refine lv_iload_n hx hb dJ4_newCapacity_6 rfl (lv_at hl 2 rfl) ?_
  refine lv_aload_n hx hb dJ4_newCapacity_7 rfl (lv_at hl 1 rfl) ?_
  refine b_get (C := RJ5) (T := TJ5) (N := 4) (v := .int 0) hx hb hts in_J5 hown hK (b_at (k := 0) hP rfl) rfl 1 (by decide) q233 (fun _ h9 => h9) rfl dJ4_newCapacity_8 ?_
  refine lv_ishl hx hb dJ4_newCapacity_11 ?_
  refine b_top (nI_shlE (a := q) (k := 0) (c := q) rfl rfl (by decide) (by omega) (by omega)) ?_
  refine lv_istore_n (lv' := [(3, .int (nI q)), (2, .int (nI cap)), (0, .ref a), (1, .int (nI q))]) hx hb dJ4_newCapacity_12 rfl hl (by decide) rfl (fun ls hl => ?_)
  refine lv_iload_n hx hb dJ4_newCapacity_13 rfl (lv_at hl 0 rfl) ?_
  refine lv_iload_n hx hb dJ4_newCapacity_14 rfl (lv_at hl 1 rfl) ?_
  refine lv_isub hx hb dJ4_newCapacity_15 ?_
  refine b_top (nI_subE (a := q) (b := cap) (c := (q - cap)) rfl rfl (by first | omega | rfl)) ?_
  refine lv_istore (lv' := [(4, .int (nI (q - cap))), (3, .int (nI q)), (2, .int (nI cap)), (0, .ref a), (1, .int (nI q))]) hx hb dJ4_newCapacity_16 hl (by decide) rfl (fun ls hl => ?_)
  refine lv_iload_n hx hb dJ4_newCapacity_18 rfl (lv_at hl 2 rfl) ?_
  refine lv_iload hx hb dJ4_newCapacity_19 (lv_at hl 0 rfl) ?_
  refine lv_iload_n hx hb dJ4_newCapacity_21 rfl (lv_at hl 2 rfl) ?_
  refine lv_iconst (v := 2) hx hb dJ4_newCapacity_22 (by decide) ?_
  refine lv_aload_n hx hb dJ4_newCapacity_23 rfl (lv_at hl 3 rfl) ?_
  refine b_get (C := RJ5) (T := TJ5) (N := 4) (v := .int 0) hx hb hts in_J5 hown hK (b_at (k := 0) hP rfl) rfl 1 (by decide) q233 (fun _ h9 => h9) rfl dJ4_newCapacity_24 ?_
  refine lv_ishl hx hb dJ4_newCapacity_27 ?_
  refine b_top (nI_shlE (a := 2) (k := 0) (c := 2) rfl rfl (by decide) (by omega) (by omega)) ?_
  refine lv_iadd hx hb dJ4_newCapacity_28 ?_
  refine b_top (nI_addE (a := cap) (b := 2) (c := cap + 2) rfl rfl (by first | omega | rfl)) ?_
  refine b_calli (br := [[(a, .inr (13, [.ref v, .int 0, .int ml, .int (nI n)]))], [(v, .inl (Γ.2.1 1, cap, .inl f))]]) (b_runS ⟨hx, hb, hml, hown, hts⟩ (mt_newLength l Γ _ cap (q - cap) (cap + 2) (by unfold mxN; split <;> omega) (by unfold mxN; split <;> omega) (by omega) (by omega)) (lw_S q595 q490 q82 q491) rfl rfl 3 (by decide +kernel) ⟨(Nat.le_of_ble_eq_true rfl), (Nat.le_of_ble_eq_true rfl)⟩ (c_pre hP hD hS hA hK hE [] rfl rfl ro_nil) rfl hl.1 rfl (Nat.le_of_ble_eq_true rfl) dJ4_newCapacity_29 ⟨(Nat.le_of_ble_eq_true rfl), (Nat.le_of_ble_eq_true rfl)⟩) hP hD hS hA [] [0, 1] rfl rfl rfl (fun r_1 u_1 H locs hw_1 hP hD hS _ => ?_)
  obtain ⟨rfl, rfl⟩ := hw_1
  have hP : WP Γ [[(a, .inr (13, [.ref v, .int 0, .int ml, .int (nI n)]))], [(v, .inl (Γ.2.1 1, cap, .inl f))]] H := hP
  have hD : WD A [[(a, .inr (13, [.ref v, .int 0, .int ml, .int (nI n)]))], [(v, .inl (Γ.2.1 1, cap, .inl f))]] := hD
  have e9 : cap + (mxN (q - cap) (cap + 2)) = (cpN cap q) := by unfold mxN cpN; (repeat' split) <;> omega
  rw [e9]
  refine lv_istore (lv' := [(5, .int (nI (cpN cap q))), (4, .int (nI (q - cap))), (3, .int (nI q)), (2, .int (nI cap)), (0, .ref a), (1, .int (nI q))]) hx hb dJ4_newCapacity_32 hl (by decide) rfl (fun ls hl => ?_)
  refine lv_iload hx hb dJ4_newCapacity_34 (lv_at hl 0 rfl) ?_
  refine lv_ldc hx hb hown (hts _ q596) dJ4_newCapacity_36 ?_
  refine lv_icmp_ne (tgt := 51) hx hb dJ4_newCapacity_38 (by decide) (fun c_2 => ?_) (fun c_2 => ?_)
  · -- 38 taken
    have n_2 : ¬ ((cpN cap q) = 2147483647) := fun h => c_2 ((nI_eq (a := (cpN cap q)) (b := 2147483647) (by omega) (by omega)).mpr h)
    refine lv_iload hx hb dJ4_newCapacity_51 (lv_at hl 0 rfl) ?_
    refine lv_aload_n hx hb dJ4_newCapacity_53 rfl (lv_at hl 4 rfl) ?_
    refine b_get (C := RJ5) (T := TJ5) (N := 4) (v := .int 0) hx hb hts in_J5 hown hK (b_at (k := 0) hP rfl) rfl 1 (by decide) q233 (fun _ h9 => h9) rfl dJ4_newCapacity_54 ?_
    refine lv_ishr hx hb dJ4_newCapacity_57 ?_
    refine b_top (nI_shrE (a := (cpN cap q)) (k := 0) (c := (cpN cap q)) rfl rfl (by decide) (by omega) (by omega)) ?_
    exact b_iret hx hb hr hlocks hP hD hS (Nat.le_of_ble_eq_true rfl) (Nat.le_of_ble_eq_true rfl) ⟨(by first | with_reducible rfl | (simp [n_2]; done) | rfl), (by first | with_reducible rfl | (simp [n_2]; done) | rfl)⟩ dJ4_newCapacity_58
  · -- 38 not taken
    have n_2 : (cpN cap q) = 2147483647 := (nI_eq (by omega) (by omega)).mp (show nI (cpN cap q) = nI 2147483647 from c_2)
    exfalso; omega
set_option maxHeartbeats 4000000 in
set_option maxRecDepth 100000 in
theorem mt_AB_isLatin1_1 (l : Launch) (Γ : GE) (sz : Nat) (a : Nat) (v : Nat) (ml : Int32) (n : Nat)  : KM l yJ4_isLatin1 cJ4_isLatin1 1 (some FieldType.boolean) Γ 0 0 0 0 [.ref a] [[(a, .inr (13, [.ref v, .int 1, .int ml, .int (nI n)]))]] [] sz (Qi Γ (fun r_ u_ => r_ = 0 ∧ u_ = [[(a, .inr (13, [.ref v, .int 1, .int ml, .int (nI n)]))]])) := by
  refine K_intro (by decide) (Nat.le_of_ble_eq_true rfl) ?_
  intro pr_ ev_ s mi_ below meth cd_ A ls hx hb hr hml hown hts hlocks hname hK hE hRo hP hD hA hS hsz hl
  have hl : lv_has ls 1 [(0, .ref a)] := hl
  have hown : s.vm.findClass RJ4 = some mi_.cls := hown
  refine va_gets (C := "java/lang/String") (n := "COMPACT_STRINGS") (d := "Z") hx hb hE.compact hS hown (hts _ q223) (fun _ h9 => h9) dJ4_isLatin1_0 ?_
  refine lv_if_eq (tgt := 17) hx hb dJ4_isLatin1_3 (by decide) (fun c_1 => ?_) (fun c_1 => ?_)
  · -- 3 taken
    have n_1 : 1 = 0 := (nI_eq (by omega) (by omega)).mp (show nI 1 = nI 0 from c_1)
    exact absurd n_1 (by omega)
  · -- 3 not taken
    have n_1 : ¬ (1 = 0) := fun h => c_1 ((nI_eq (a := 1) (b := 0) (by omega) (by omega)).mpr h)
    refine lv_aload_n hx hb dJ4_isLatin1_6 rfl (lv_at hl 0 rfl) ?_
    refine b_get (C := RJ5) (T := TJ5) (N := 4) (v := .int 1) hx hb hts in_J5 hown hK (b_at (k := 0) hP rfl) rfl 1 (by decide) q233 (fun _ h9 => h9) rfl dJ4_isLatin1_7 ?_
    refine lv_if_ne (tgt := 17) hx hb dJ4_isLatin1_10 (by decide) (fun c_2 => ?_) (fun c_2 => ?_)
    · -- 10 taken
      have n_2 : ¬ (1 = 0) := fun h => c_2 ((nI_eq (a := 1) (b := 0) (by omega) (by omega)).mpr h)
      refine lv_iconst (v := 0) hx hb dJ4_isLatin1_17 (by decide) ?_
      exact b_zret hx hb hr hlocks hP hD hS (Nat.le_of_ble_eq_true rfl) (Nat.le_of_ble_eq_true rfl) rfl ⟨(by first | with_reducible rfl | (simp [n_1, n_2]; done) | rfl), (by first | with_reducible rfl | (simp [n_1, n_2]; done) | rfl)⟩ dJ4_isLatin1_18
    · -- 10 not taken
      have n_2 : 1 = 0 := (nI_eq (by omega) (by omega)).mp (show nI 1 = nI 0 from c_2)
      exact absurd n_2 (by omega)
set_option maxHeartbeats 4000000 in
set_option maxRecDepth 100000 in
theorem mt_AB_getValue_1 (l : Launch) (Γ : GE) (sz : Nat) (a : Nat) (v : Nat) (ml : Int32) (n : Nat)  : KM l yJ4_getValue cJ4_getValue 1 (some (FieldType.array FieldType.byte)) Γ 0 0 0 0 [.ref a] [[(a, .inr (13, [.ref v, .int 1, .int ml, .int (nI n)]))]] [] sz (Qq Γ (fun r_ u_ => r_ = some v ∧ u_ = [[(a, .inr (13, [.ref v, .int 1, .int ml, .int (nI n)]))]])) := by
  refine K_intro (by decide) (Nat.le_of_ble_eq_true rfl) ?_
  intro pr_ ev_ s mi_ below meth cd_ A ls hx hb hr hml hown hts hlocks hname hK hE hRo hP hD hA hS hsz hl
  have hl : lv_has ls 1 [(0, .ref a)] := hl
  have hown : s.vm.findClass RJ4 = some mi_.cls := hown
  refine lv_aload_n hx hb dJ4_getValue_0 rfl (lv_at hl 0 rfl) ?_
  refine b_get (C := RJ5) (T := TJ5) (N := 4) (v := .ref v) hx hb hts in_J5 hown hK (b_at (k := 0) hP rfl) rfl 0 (by decide) q232 (fun _ h9 => h9) rfl dJ4_getValue_1 ?_
  exact b_aret hx hb hr (by first | exact Or.inl ⟨_, rfl⟩ | exact Or.inr ⟨_, rfl⟩) hlocks hP hD hS (Nat.le_of_ble_eq_true rfl) (Nat.le_of_ble_eq_true rfl) ⟨(by first | rfl | (simp; done)), (by first | rfl | (simp; done))⟩ dJ4_getValue_4
set_option maxHeartbeats 4000000 in
set_option maxRecDepth 100000 in
theorem mt_AB_length_1 (l : Launch) (Γ : GE) (sz : Nat) (a : Nat) (v : Nat) (ml : Int32) (n : Nat)  : KM l yJ4_length cJ4_length 1 (some FieldType.int) Γ 0 0 0 0 [.ref a] [[(a, .inr (13, [.ref v, .int 1, .int ml, .int (nI n)]))]] [] sz (Qi Γ (fun r_ u_ => r_ = (nI n) ∧ u_ = [[(a, .inr (13, [.ref v, .int 1, .int ml, .int (nI n)]))]])) := by
  refine K_intro (by decide) (Nat.le_of_ble_eq_true rfl) ?_
  intro pr_ ev_ s mi_ below meth cd_ A ls hx hb hr hml hown hts hlocks hname hK hE hRo hP hD hA hS hsz hl
  have hl : lv_has ls 1 [(0, .ref a)] := hl
  have hown : s.vm.findClass RJ4 = some mi_.cls := hown
  refine lv_aload_n hx hb dJ4_length_0 rfl (lv_at hl 0 rfl) ?_
  refine b_get (C := RJ5) (T := TJ5) (N := 4) (v := .int (nI n)) hx hb hts in_J5 hown hK (b_at (k := 0) hP rfl) rfl 3 (by decide) q236 (fun _ h9 => h9) rfl dJ4_length_1 ?_
  exact b_iret hx hb hr hlocks hP hD hS (Nat.le_of_ble_eq_true rfl) (Nat.le_of_ble_eq_true rfl) ⟨(by first | rfl | (simp; done)), (by first | rfl | (simp; done))⟩ dJ4_length_4
set_option maxHeartbeats 4000000 in
set_option maxRecDepth 100000 in
theorem mt_SB_length_1 (l : Launch) (Γ : GE) (sz : Nat) (a : Nat) (v : Nat) (ml : Int32) (n : Nat)  : KM l yJ5_length cJ5_length 1 (some FieldType.int) Γ 1 20 0 0 [.ref a] [[(a, .inr (13, [.ref v, .int 1, .int ml, .int (nI n)]))]] [] sz (Qi Γ (fun r_ u_ => r_ = (nI n) ∧ u_ = [[(a, .inr (13, [.ref v, .int 1, .int ml, .int (nI n)]))]])) := by
  refine K_intro (by decide) (Nat.le_of_ble_eq_true rfl) ?_
  intro pr_ ev_ s mi_ below meth cd_ A ls hx hb hr hml hown hts hlocks hname hK hE hRo hP hD hA hS hsz hl
  have hl : lv_has ls 1 [(0, .ref a)] := hl
  have hown : s.vm.findClass RJ5 = some mi_.cls := hown
  refine lv_aload_n hx hb dJ5_length_0 rfl (lv_at hl 0 rfl) ?_
  refine b_calli (br := []) (b_runSU (hK.1 13 _ rfl).2 ⟨hx, hb, hml, hown, hts⟩ (mt_AB_length_1 l Γ _ a v ml n) q732 q728 q245 q727 q69 q733 rfl rfl 0 ⟨by decide, by decide +kernel⟩ ⟨(Nat.le_of_ble_eq_true rfl), (Nat.le_of_ble_eq_true rfl)⟩ (c_pre hP hD hS hA hK hE [0] rfl rfl ro_nil) (recv_at (q := (RJ5, TJ5, 4)) hK (b_at (k := 0) hP rfl) rfl) rfl hl.1 rfl (Nat.le_of_ble_eq_true rfl) dJ5_length_1 ⟨(Nat.le_of_ble_eq_true rfl), (Nat.le_of_ble_eq_true rfl)⟩) hP hD hS hA [0] [] rfl rfl rfl (fun r_1 u_1 H locs hw_1 hP hD hS _ => ?_)
  obtain ⟨rfl, rfl⟩ := hw_1
  have hP : WP Γ [[(a, .inr (13, [.ref v, .int 1, .int ml, .int (nI n)]))]] H := hP
  have hD : WD A [[(a, .inr (13, [.ref v, .int 1, .int ml, .int (nI n)]))]] := hD
  exact b_iret hx hb hr hlocks hP hD hS (Nat.le_of_ble_eq_true rfl) (Nat.le_of_ble_eq_true rfl) ⟨(by first | rfl | (simp; done)), (by first | rfl | (simp; done))⟩ dJ5_length_4
set_option maxHeartbeats 4000000 in
set_option maxRecDepth 100000 in
theorem mt_AB_newCap_1 (l : Launch) (Γ : GE) (sz : Nat) (a : Nat) (v : Nat) (ml : Int32) (n : Nat) (cap : Nat) (f : Nat → Int32) (q : Nat) (hq : cap < q) (hq2 : q ≤ 2000) (hc : cap ≤ 2000) : KM l yJ4_newCapacity cJ4_newCapacity 6 (some FieldType.int) Γ 2 54 0 0 [.ref a, .int (nI q)] [[(a, .inr (13, [.ref v, .int 1, .int ml, .int (nI n)]))], [(v, .inl (Γ.2.1 1, 2 * cap, .inl f))]] [] sz (Qi Γ (fun r_ u_ => r_ = (nI (cpN cap q)) ∧ u_ = [[(a, .inr (13, [.ref v, .int 1, .int ml, .int (nI n)]))], [(v, .inl (Γ.2.1 1, 2 * cap, .inl f))]])) := by
  refine K_intro (by decide) (Nat.le_of_ble_eq_true rfl) ?_
  intro pr_ ev_ s mi_ below meth cd_ A ls hx hb hr hml hown hts hlocks hname hK hE hRo hP hD hA hS hsz hl
  have hl : lv_has ls 6 [(0, .ref a), (1, .int (nI q))] := hl
  have hown : s.vm.findClass RJ4 = some mi_.cls := hown
  have hcp : q ≤ cpN cap q ∧ 2 * cap + 2 ≤ cpN cap q ∧ (cpN cap q ≤ q ∨ cpN cap q ≤ 2 * cap + 2) := by unfold cpN; split <;> omega
  refine lv_aload_n hx hb dJ4_newCapacity_0 rfl (lv_at hl 0 rfl) ?_
  refine b_get (C := RJ5) (T := TJ5) (N := 4) (v := .ref v) hx hb hts in_J5 hown hK (b_at (k := 0) hP rfl) rfl 0 (by decide) q232 (fun _ h9 => h9) rfl dJ4_newCapacity_1 ?_
  refine b_alen hx hb hK 1 (b_at (k := 1) hP rfl) rfl dJ4_newCapacity_4 ?_
  refine lv_istore_n (lv' := [(2, .int (nI (2 * cap))), (0, .ref a), (1, .int (nI q))]) hx hb dJ4_newCapacity_5 rfl hl (by decide) rfl (fun ls hl => ?_)
  refine lv_iload_n hx hb dJ4_newCapacity_6 rfl (lv_at hl 2 rfl) ?_
  refine lv_aload_n hx hb dJ4_newCapacity_7 rfl (lv_at hl 1 rfl) ?_
  refine b_get (C := RJ5) (T := TJ5) (N := 4) (v := .int 1) hx hb hts in_J5 hown hK (b_at (k := 0) hP rfl) rfl 1 (by decide) q233 (fun _ h9 => h9) rfl dJ4_newCapacity_8 ?_
  refine lv_ishl hx hb dJ4_newCapacity_11 ?_
  refine b_top (nI_shlE (a := q) (k := 1) (c := 2 * q) rfl rfl (by decide) (by omega) (by omega)) ?_
  refine lv_istore_n (lv' := [(3, .int (nI (2 * q))), (2, .int (nI (2 * cap))), (0, .ref a), (1, .int (nI q))]) hx hb dJ4_newCapacity_12 rfl hl (by decide) rfl (fun ls hl => ?_)
  refine lv_iload_n hx hb dJ4_newCapacity_13 rfl (lv_at hl 0 rfl) ?_
  refine lv_iload_n hx hb dJ4_newCapacity_14 rfl (lv_at hl 1 rfl) ?_
  refine lv_isub hx hb dJ4_newCapacity_15 ?_
  refine b_top (nI_subE (a := 2 * q) (b := 2 * cap) (c := (2 * q - (2 * cap))) rfl rfl (by first | omega | rfl)) ?_
  refine lv_istore (lv' := [(4, .int (nI (2 * q - (2 * cap)))), (3, .int (nI (2 * q))), (2, .int (nI (2 * cap))), (0, .ref a), (1, .int (nI q))]) hx hb dJ4_newCapacity_16 hl (by decide) rfl (fun ls hl => ?_)
  refine lv_iload_n hx hb dJ4_newCapacity_18 rfl (lv_at hl 2 rfl) ?_
  refine lv_iload hx hb dJ4_newCapacity_19 (lv_at hl 0 rfl) ?_
  refine lv_iload_n hx hb dJ4_newCapacity_21 rfl (lv_at hl 2 rfl) ?_
  refine lv_iconst (v := 2) hx hb dJ4_newCapacity_22 (by decide) ?_
  refine lv_aload_n hx hb dJ4_newCapacity_23 rfl (lv_at hl 3 rfl) ?_
  refine b_get (C := RJ5) (T := TJ5) (N := 4) (v := .int 1) hx hb hts in_J5 hown hK (b_at (k := 0) hP rfl) rfl 1 (by decide) q233 (fun _ h9 => h9) rfl dJ4_newCapacity_24 ?_
  refine lv_ishl hx hb dJ4_newCapacity_27 ?_
  refine b_top (nI_shlE (a := 2) (k := 1) (c := 4) rfl rfl (by decide) (by omega) (by omega)) ?_
  refine lv_iadd hx hb dJ4_newCapacity_28 ?_
  refine b_top (nI_addE (a := 2 * cap) (b := 4) (c := 2 * cap + 4) rfl rfl (by first | omega | rfl)) ?_
  refine b_calli (br := [[(a, .inr (13, [.ref v, .int 1, .int ml, .int (nI n)]))], [(v, .inl (Γ.2.1 1, 2 * cap, .inl f))]]) (b_runS ⟨hx, hb, hml, hown, hts⟩ (mt_newLength l Γ _ (2 * cap) (2 * q - (2 * cap)) (2 * cap + 4) (by unfold mxN; split <;> omega) (by unfold mxN; split <;> omega) (by omega) (by omega)) (lw_S q595 q490 q82 q491) rfl rfl 3 (by decide +kernel) ⟨(Nat.le_of_ble_eq_true rfl), (Nat.le_of_ble_eq_true rfl)⟩ (c_pre hP hD hS hA hK hE [] rfl rfl ro_nil) rfl hl.1 rfl (Nat.le_of_ble_eq_true rfl) dJ4_newCapacity_29 ⟨(Nat.le_of_ble_eq_true rfl), (Nat.le_of_ble_eq_true rfl)⟩) hP hD hS hA [] [0, 1] rfl rfl rfl (fun r_1 u_1 H locs hw_1 hP hD hS _ => ?_)
  obtain ⟨rfl, rfl⟩ := hw_1
  have hP : WP Γ [[(a, .inr (13, [.ref v, .int 1, .int ml, .int (nI n)]))], [(v, .inl (Γ.2.1 1, 2 * cap, .inl f))]] H := hP
  have hD : WD A [[(a, .inr (13, [.ref v, .int 1, .int ml, .int (nI n)]))], [(v, .inl (Γ.2.1 1, 2 * cap, .inl f))]] := hD
  have e9 : 2 * cap + (mxN (2 * q - (2 * cap)) (2 * cap + 4)) = 2 * (cpN cap q) := by unfold mxN cpN; (repeat' split) <;> omega
  rw [e9]
  refine lv_istore (lv' := [(5, .int (nI (2 * (cpN cap q)))), (4, .int (nI (2 * q - (2 * cap)))), (3, .int (nI (2 * q))), (2, .int (nI (2 * cap))), (0, .ref a), (1, .int (nI q))]) hx hb dJ4_newCapacity_32 hl (by decide) rfl (fun ls hl => ?_)
  refine lv_iload hx hb dJ4_newCapacity_34 (lv_at hl 0 rfl) ?_
  refine lv_ldc hx hb hown (hts _ q596) dJ4_newCapacity_36 ?_
  refine lv_icmp_ne (tgt := 51) hx hb dJ4_newCapacity_38 (by decide) (fun c_2 => ?_) (fun c_2 => ?_)
  · -- 38 taken
    have n_2 : ¬ (2 * (cpN cap q) = 2147483647) := fun h => c_2 ((nI_eq (a := 2 * (cpN cap q)) (b := 2147483647) (by omega) (by omega)).mpr h)
    refine lv_iload hx hb dJ4_newCapacity_51 (lv_at hl 0 rfl) ?_
    refine lv_aload_n hx hb dJ4_newCapacity_53 rfl (lv_at hl 4 rfl) ?_
    refine b_get (C := RJ5) (T := TJ5) (N := 4) (v := .int 1) hx hb hts in_J5 hown hK (b_at (k := 0) hP rfl) rfl 1 (by decide) q233 (fun _ h9 => h9) rfl dJ4_newCapacity_54 ?_
    refine lv_ishr hx hb dJ4_newCapacity_57 ?_
    refine b_top (nI_shrE (a := 2 * (cpN cap q)) (k := 1) (c := (cpN cap q)) rfl rfl (by decide) (by omega) (by omega)) ?_
    exact b_iret hx hb hr hlocks hP hD hS (Nat.le_of_ble_eq_true rfl) (Nat.le_of_ble_eq_true rfl) ⟨(by first | with_reducible rfl | (simp [n_2]; done) | rfl), (by first | with_reducible rfl | (simp [n_2]; done) | rfl)⟩ dJ4_newCapacity_58
  · -- 38 not taken
    have n_2 : 2 * (cpN cap q) = 2147483647 := (nI_eq (by omega) (by omega)).mp (show nI (2 * (cpN cap q)) = nI 2147483647 from c_2)
    exfalso; omega
theorem sub_le0 {q c : Nat} (h : q ≤ c) (hc : c < 2 ^ 31) : nI q - nI c ≤ 0 := by
  rw [Int32.le_iff_toInt_le, Int32.toInt_sub, nI_toInt hc, nI_toInt (by omega)]
  rw [Int.bmod_eq_of_le (by omega) (by omega)]
  simp
  omega
set_option maxHeartbeats 4000000 in
set_option maxRecDepth 100000 in
theorem mt_copyOfb (l : Launch) (Γ : GE) (sz : Nat) (d : Nat) (n : Nat) (f : Nat → Int32) (q : Nat) (hn : n < q) (hq : q ≤ 4096) (hf : ∀ j, fits .byte (.int (f j)) = true) : KM l yJ17_copyOf_3 cJ17_copyOf_3 3 (some (FieldType.array FieldType.byte)) Γ 1 60 1 q [.ref d, .int (nI q)] [[(d, .inl (Γ.2.1 1, n, .inl f))]] [] sz (Qq Γ (fun r_ u_ => ∃ w : Nat, r_ = some w ∧ u_ = [[(d, .inl (Γ.2.1 1, n, .inl f))], [(w, .inl (Γ.2.1 1, q, .inl (va_cpy f (fun _ => 0) 0 0 n)))]])) := by
  refine K_intro (by decide) (Nat.le_of_ble_eq_true rfl) ?_
  intro pr_ ev_ s mi_ below meth cd_ A ls hx hb hr hml hown hts hlocks hname hK hE hRo hP hD hA hS hsz hl
  have hl : lv_has ls 3 [(0, .ref d), (1, .int (nI q))] := hl
  have hown : s.vm.findClass RJ17 = some mi_.cls := hown
  refine lv_iload_n hx hb dJ17_copyOf_3_0 rfl (lv_at hl 1 rfl) ?_
  refine lv_aload_n hx hb dJ17_copyOf_3_1 rfl (lv_at hl 0 rfl) ?_
  refine b_alen hx hb hK 1 (b_at (k := 0) hP rfl) rfl dJ17_copyOf_3_2 ?_
  refine lv_icmp_ne (tgt := 14) hx hb dJ17_copyOf_3_3 (by decide) (fun c_1 => ?_) (fun c_1 => ?_)
  · -- 3 taken
    have n_1 : ¬ (q = n) := fun h => c_1 ((nI_eq (a := q) (b := n) (by omega) (by omega)).mpr h)
    refine lv_iload_n hx hb dJ17_copyOf_3_14 rfl (lv_at hl 1 rfl) ?_
    refine b_newb hx hb hts hK hP hD hS hA q rfl (by omega) q246 (by first | omega | (dsimp only; omega)) (by first | omega | (dsimp only; omega)) dJ17_copyOf_3_15 (fun a_2 H hP hD hS => ?_)
    have hP : WP Γ [[(d, .inl (Γ.2.1 1, n, .inl f))], [(a_2, .inl (Γ.2.1 1, q, .inl (fun _ => 0)))]] H := hP
    have hD : WD A [[(d, .inl (Γ.2.1 1, n, .inl f))], [(a_2, .inl (Γ.2.1 1, q, .inl (fun _ => 0)))]] := hD
    refine lv_astore_n (lv' := [(2, .ref a_2), (0, .ref d), (1, .int (nI q))]) hx hb dJ17_copyOf_3_17 rfl hl (by decide) rfl (fun ls hl => ?_)
    refine lv_aload_n hx hb dJ17_copyOf_3_18 rfl (lv_at hl 1 rfl) ?_
    refine lv_iconst (v := 0) hx hb dJ17_copyOf_3_19 (by decide) ?_
    refine lv_aload_n hx hb dJ17_copyOf_3_20 rfl (lv_at hl 0 rfl) ?_
    refine lv_iconst (v := 0) hx hb dJ17_copyOf_3_21 (by decide) ?_
    refine lv_aload_n hx hb dJ17_copyOf_3_22 rfl (lv_at hl 1 rfl) ?_
    refine b_alen hx hb hK 1 (b_at (k := 0) hP rfl) rfl dJ17_copyOf_3_23 ?_
    refine lv_iload_n hx hb dJ17_copyOf_3_24 rfl (lv_at hl 2 rfl) ?_
    refine va_mmin hx hb (hml.trans hl.1.symm) hown (hts _ q536) (hts _ q537) (hts _ q83) (hts _ q538) (Nat.le_of_ble_eq_true rfl) (Nat.le_of_ble_eq_true rfl) (by first | omega | (dsimp only; omega)) (by first | omega | (dsimp only; omega)) dJ17_copyOf_3_25 ?_
    refine b_top (mn_nI (a := n) (b := q) (by omega) (by omega)) ?_
    refine b_top (show (nI (mnN n q)) = nI n from congrArg nI (by unfold mnN; rw [if_neg (by omega)])) ?_
    refine b_copyi hx hb hts (hml.trans hl.1.symm) hown q539 q541 q540 q85 hK hP hD hS 0 1 1 (ty := .byte) rfl rfl rfl rfl 0 0 n rfl rfl rfl (by omega) (by omega) (by omega) (by omega) (fun i _ => hf _) (Nat.le_of_ble_eq_true rfl) (Nat.le_of_ble_eq_true rfl) dJ17_copyOf_3_28 (fun H locs hP hD hS => ?_)
    have hP : WP Γ [[(d, .inl (Γ.2.1 1, n, .inl f))], [(a_2, .inl (Γ.2.1 1, q, .inl (va_cpy f (fun _ => 0) 0 0 n)))]] H := hP
    have hD : WD A [[(d, .inl (Γ.2.1 1, n, .inl f))], [(a_2, .inl (Γ.2.1 1, q, .inl (va_cpy f (fun _ => 0) 0 0 n)))]] := hD
    refine lv_aload_n hx hb dJ17_copyOf_3_31 rfl (lv_at hl 0 rfl) ?_
    exact b_aret hx hb hr (by first | exact Or.inl ⟨_, rfl⟩ | exact Or.inr ⟨_, rfl⟩) hlocks hP hD hS (by first | omega | (dsimp only; omega)) (by first | omega | (dsimp only; omega)) ⟨a_2, (by first | with_reducible rfl | (simp [n_1]; done) | rfl), (by first | with_reducible rfl | (simp [n_1]; done) | rfl)⟩ dJ17_copyOf_3_32
  · -- 3 not taken
    have n_1 : q = n := (nI_eq (by omega) (by omega)).mp (show nI q = nI n from c_1)
    exfalso; omega
set_option maxHeartbeats 4000000 in
set_option maxRecDepth 100000 in
theorem mt_AB_ens_fit_0 (l : Launch) (Γ : GE) (sz : Nat) (a : Nat) (v : Nat) (ml : Int32) (n : Nat) (cap : Nat) (f : Nat → Int32) (q : Nat) (hq : q ≤ cap) (hc : cap ≤ 2000) : KM l yJ4_ensureCapacityInternal cJ4_ensureCapacityInternal 3 none Γ 0 0 0 0 [.ref a, .int (nI q)] [[(a, .inr (13, [.ref v, .int 0, .int ml, .int (nI n)]))], [(v, .inl (Γ.2.1 1, cap, .inl f))]] [] sz (Qv Γ (fun u_ => u_ = [[(a, .inr (13, [.ref v, .int 0, .int ml, .int (nI n)]))], [(v, .inl (Γ.2.1 1, cap, .inl f))]])) := by
  refine K_intro (by decide) (Nat.le_of_ble_eq_true rfl) ?_
  intro pr_ ev_ s mi_ below meth cd_ A ls hx hb hr hml hown hts hlocks hname hK hE hRo hP hD hA hS hsz hl
  have hl : lv_has ls 3 [(0, .ref a), (1, .int (nI q))] := hl
  have hown : s.vm.findClass RJ4 = some mi_.cls := hown
  refine lv_aload_n hx hb dJ4_ensureCapacityInternal_0 rfl (lv_at hl 0 rfl) ?_
  refine b_get (C := RJ5) (T := TJ5) (N := 4) (v := .ref v) hx hb hts in_J5 hown hK (b_at (k := 0) hP rfl) rfl 0 (by decide) q232 (fun _ h9 => h9) rfl dJ4_ensureCapacityInternal_1 ?_
  refine b_alen hx hb hK 1 (b_at (k := 1) hP rfl) rfl dJ4_ensureCapacityInternal_4 ?_
  refine lv_aload_n hx hb dJ4_ensureCapacityInternal_5 rfl (lv_at hl 0 rfl) ?_
  refine b_get (C := RJ5) (T := TJ5) (N := 4) (v := .int 0) hx hb hts in_J5 hown hK (b_at (k := 0) hP rfl) rfl 1 (by decide) q233 (fun _ h9 => h9) rfl dJ4_ensureCapacityInternal_6 ?_
  refine lv_ishr hx hb dJ4_ensureCapacityInternal_9 ?_
  refine b_top (nI_shrE (a := cap) (k := 0) (c := cap) rfl rfl (by decide) (by omega) (by omega)) ?_
  refine lv_istore_n (lv' := [(2, .int (nI cap)), (0, .ref a), (1, .int (nI q))]) hx hb dJ4_ensureCapacityInternal_10 rfl hl (by decide) rfl (fun ls hl => ?_)
  refine lv_iload_n hx hb dJ4_ensureCapacityInternal_11 rfl (lv_at hl 2 rfl) ?_
  refine lv_iload_n hx hb dJ4_ensureCapacityInternal_12 rfl (lv_at hl 0 rfl) ?_
  refine lv_isub hx hb dJ4_ensureCapacityInternal_13 ?_
  refine lv_if_le (tgt := 38) hx hb dJ4_ensureCapacityInternal_14 (by decide) (fun c_1 => ?_) (fun c_1 => ?_)
  · -- 14 taken
    have d_1 := Int32.not_lt.mpr c_1
    exact b_vret hx hb hr hlocks hP hD hS (Nat.le_of_ble_eq_true rfl) (Nat.le_of_ble_eq_true rfl) (by first | with_reducible rfl | (simp [c_1, d_1]; done) | rfl) dJ4_ensureCapacityInternal_38
  · -- 14 not taken
    have d_1 := Int32.not_le.mp c_1
    exact absurd (sub_le0 hq (by omega)) c_1
set_option maxHeartbeats 4000000 in
set_option maxRecDepth 100000 in
theorem mt_AB_ens_grow_0 (l : Launch) (Γ : GE) (sz : Nat) (a : Nat) (v : Nat) (ml : Int32) (n : Nat) (cap : Nat) (f : Nat → Int32) (q : Nat) (hq : cap < q) (hq2 : q ≤ 500) (hc : cap ≤ 512) (hf : ∀ j, fits .byte (.int (f j)) = true) : KM l yJ4_ensureCapacityInternal cJ4_ensureCapacityInternal 3 none Γ 3 82 1 (1 * cpN cap q) [.ref a, .int (nI q)] [[(a, .inr (13, [.ref v, .int 0, .int ml, .int (nI n)]))], [(v, .inl (Γ.2.1 1, cap, .inl f))]] [] sz (Qv Γ (fun u_ => ∃ w : Nat, u_ = [[(a, .inr (13, [.ref w, .int 0, .int ml, .int (nI n)]))], [(w, .inl (Γ.2.1 1, (cpN cap q), .inl (va_cpy f (fun _ => 0) 0 0 cap)))]])) := by
  refine K_intro (by decide) (Nat.le_of_ble_eq_true rfl) ?_
  intro pr_ ev_ s mi_ below meth cd_ A ls hx hb hr hml hown hts hlocks hname hK hE hRo hP hD hA hS hsz hl
  have hl : lv_has ls 3 [(0, .ref a), (1, .int (nI q))] := hl
  have hown : s.vm.findClass RJ4 = some mi_.cls := hown
  have hcp : q ≤ cpN cap q ∧ 2 * cap + 2 ≤ cpN cap q ∧ (cpN cap q ≤ q ∨ cpN cap q ≤ 2 * cap + 2) := by unfold cpN; split <;> omega
  refine lv_aload_n hx hb dJ4_ensureCapacityInternal_0 rfl (lv_at hl 0 rfl) ?_
  refine b_get (C := RJ5) (T := TJ5) (N := 4) (v := .ref v) hx hb hts in_J5 hown hK (b_at (k := 0) hP rfl) rfl 0 (by decide) q232 (fun _ h9 => h9) rfl dJ4_ensureCapacityInternal_1 ?_
  refine b_alen hx hb hK 1 (b_at (k := 1) hP rfl) rfl dJ4_ensureCapacityInternal_4 ?_
  refine lv_aload_n hx hb dJ4_ensureCapacityInternal_5 rfl (lv_at hl 0 rfl) ?_
  refine b_get (C := RJ5) (T := TJ5) (N := 4) (v := .int 0) hx hb hts in_J5 hown hK (b_at (k := 0) hP rfl) rfl 1 (by decide) q233 (fun _ h9 => h9) rfl dJ4_ensureCapacityInternal_6 ?_
  refine lv_ishr hx hb dJ4_ensureCapacityInternal_9 ?_
  refine b_top (nI_shrE (a := cap) (k := 0) (c := cap) rfl rfl (by decide) (by omega) (by omega)) ?_
  refine lv_istore_n (lv' := [(2, .int (nI cap)), (0, .ref a), (1, .int (nI q))]) hx hb dJ4_ensureCapacityInternal_10 rfl hl (by decide) rfl (fun ls hl => ?_)
  refine lv_iload_n hx hb dJ4_ensureCapacityInternal_11 rfl (lv_at hl 2 rfl) ?_
  refine lv_iload_n hx hb dJ4_ensureCapacityInternal_12 rfl (lv_at hl 0 rfl) ?_
  refine lv_isub hx hb dJ4_ensureCapacityInternal_13 ?_
  refine b_top (nI_subE (a := q) (b := cap) (c := (q - cap)) rfl rfl (by first | omega | rfl)) ?_
  refine lv_if_le (tgt := 38) hx hb dJ4_ensureCapacityInternal_14 (by decide) (fun c_1 => ?_) (fun c_1 => ?_)
  · -- 14 taken
    have n_1 : (q - cap) ≤ 0 := (nI_leI (by omega) (by omega)).mp (show nI (q - cap) ≤ nI 0 from c_1)
    have m_1 : ¬ (0 < (q - cap)) := by omega
    have d_1 := Int32.not_lt.mpr c_1
    exfalso; omega
  · -- 14 not taken
    have n_1 : ¬ ((q - cap) ≤ 0) := fun h => c_1 ((nI_leI (a := (q - cap)) (b := 0) (by omega) (by omega)).mpr h)
    have m_1 : 0 < (q - cap) := by omega
    have d_1 := Int32.not_le.mp c_1
    refine lv_aload_n hx hb dJ4_ensureCapacityInternal_17 rfl (lv_at hl 1 rfl) ?_
    refine lv_aload_n hx hb dJ4_ensureCapacityInternal_18 rfl (lv_at hl 1 rfl) ?_
    refine b_get (C := RJ5) (T := TJ5) (N := 4) (v := .ref v) hx hb hts in_J5 hown hK (b_at (k := 0) hP rfl) rfl 0 (by decide) q232 (fun _ h9 => h9) rfl dJ4_ensureCapacityInternal_19 ?_
    refine lv_aload_n hx hb dJ4_ensureCapacityInternal_22 rfl (lv_at hl 1 rfl) ?_
    refine lv_iload_n hx hb dJ4_ensureCapacityInternal_23 rfl (lv_at hl 2 rfl) ?_
    refine b_calli (br := []) (b_runU (C := RJ5) (owner := "java/lang/AbstractStringBuilder") (x := ⟨"java/lang/AbstractStringBuilder", "newCapacity", "(I)I"⟩) ⟨hx, hb, hml, hown, hts⟩ (mt_AB_newCap_0 l Γ _ a v ml n cap f q (by first | exact hq | omega) (by first | exact hq2 | omega) (by first | exact hc | omega)) q591 q2211 (va_Decl.of (hts _ q593) (hts _ q594)) (sel_priv (rfl : RJ4 = RJ4) (hts _ q610) ⟨by decide, by decide⟩ (hts _ q215) (va_Nw.use rfl (hE.1.1 _ q592 rfl)) (hts _ q593)) q593 q69 q594 rfl rfl 1 ⟨by decide, by decide, by decide +kernel⟩ ⟨(Nat.le_of_ble_eq_true rfl), (Nat.le_of_ble_eq_true rfl)⟩ (c_pre hP hD hS hA hK hE [0, 1] rfl rfl ro_nil) (recv_at (q := (RJ5, TJ5, 4)) hK (b_at (k := 0) hP rfl) rfl) rfl hl.1 rfl (Nat.le_of_ble_eq_true rfl) dJ4_ensureCapacityInternal_24 ⟨(by first | omega | (dsimp only; omega)), (by first | omega | (dsimp only; omega))⟩) hP hD hS hA [0, 1] [] rfl rfl rfl (fun r_2 u_2 H locs hw_2 hP hD hS _ => ?_)
    obtain ⟨rfl, rfl⟩ := hw_2
    have hP : WP Γ [[(a, .inr (13, [.ref v, .int 0, .int ml, .int (nI n)]))], [(v, .inl (Γ.2.1 1, cap, .inl f))]] H := hP
    have hD : WD A [[(a, .inr (13, [.ref v, .int 0, .int ml, .int (nI n)]))], [(v, .inl (Γ.2.1 1, cap, .inl f))]] := hD
    refine lv_aload_n hx hb dJ4_ensureCapacityInternal_27 rfl (lv_at hl 1 rfl) ?_
    refine b_get (C := RJ5) (T := TJ5) (N := 4) (v := .int 0) hx hb hts in_J5 hown hK (b_at (k := 0) hP rfl) rfl 1 (by decide) q233 (fun _ h9 => h9) rfl dJ4_ensureCapacityInternal_28 ?_
    refine lv_ishl hx hb dJ4_ensureCapacityInternal_31 ?_
    refine b_top (nI_shlE (a := (cpN cap q)) (k := 0) (c := (cpN cap q)) rfl rfl (by decide) (by omega) (by omega)) ?_
    refine b_callq (br := [[(a, .inr (13, [.ref v, .int 0, .int ml, .int (nI n)]))]]) (b_runS ⟨hx, hb, hml, hown, hts⟩ (mt_copyOfb l Γ _ v cap f (cpN cap q) (by omega) (by first | exact hq | omega) (by first | exact hf | omega)) (lw_S q597 q598 q84 q599) rfl rfl 2 (by decide +kernel) ⟨(Nat.le_of_ble_eq_true rfl), (Nat.le_of_ble_eq_true rfl)⟩ (c_pre hP hD hS hA hK hE [1] rfl rfl ro_nil) rfl hl.1 rfl (Nat.le_of_ble_eq_true rfl) dJ4_ensureCapacityInternal_32 ⟨(by first | omega | (dsimp only; omega)), (by first | omega | (dsimp only; omega))⟩) hP hD hS hA [1] [0] rfl rfl rfl (fun r_3 u_3 H locs hw_3 hP hD hS _ => ?_)
    obtain ⟨w_3, rfl, rfl⟩ := hw_3
    have hP : WP Γ [[(v, .inl (Γ.2.1 1, cap, .inl f))], [(w_3, .inl (Γ.2.1 1, (cpN cap q), .inl (va_cpy f (fun _ => 0) 0 0 cap)))], [(a, .inr (13, [.ref v, .int 0, .int ml, .int (nI n)]))]] H := hP
    have hD : WD A [[(v, .inl (Γ.2.1 1, cap, .inl f))], [(w_3, .inl (Γ.2.1 1, (cpN cap q), .inl (va_cpy f (fun _ => 0) 0 0 cap)))], [(a, .inr (13, [.ref v, .int 0, .int ml, .int (nI n)]))]] := hD
    refine W.eq (g2 := F0 mi_ 35 ls ([.ref w_3, .ref a])) rfl ?_
    refine b_put (C := RJ5) (T := TJ5) (N := 4) (ty := (tyJ5 0)) (v := .ref w_3) hx hb hts in_J5 tyJ5_ok nmJ5 hown hK hP hD hS 2 rfl rfl 0 (by decide) q232 (fun _ h9 => h9) rfl (by decide +kernel) rfl rfl (Nat.le_of_ble_eq_true rfl) dJ4_ensureCapacityInternal_35 (fun H locs hP hD hS => ?_)
    have hP : WP Γ [[(v, .inl (Γ.2.1 1, cap, .inl f))], [(w_3, .inl (Γ.2.1 1, (cpN cap q), .inl (va_cpy f (fun _ => 0) 0 0 cap)))], [(a, .inr (13, [.ref w_3, .int 0, .int ml, .int (nI n)]))]] H := hP
    have hD : WD A [[(v, .inl (Γ.2.1 1, cap, .inl f))], [(w_3, .inl (Γ.2.1 1, (cpN cap q), .inl (va_cpy f (fun _ => 0) 0 0 cap)))], [(a, .inr (13, [.ref w_3, .int 0, .int ml, .int (nI n)]))]] := hD
    have hP : WP Γ [[(a, .inr (13, [.ref w_3, .int 0, .int ml, .int (nI n)]))], [(w_3, .inl (Γ.2.1 1, (cpN cap q), .inl (va_cpy f (fun _ => 0) 0 0 cap)))]] H := bP_sel hP [2, 1] rfl
    have hD : WD A [[(a, .inr (13, [.ref w_3, .int 0, .int ml, .int (nI n)]))], [(w_3, .inl (Γ.2.1 1, (cpN cap q), .inl (va_cpy f (fun _ => 0) 0 0 cap)))]] := bD_sel hD [2, 1] rfl rfl
    exact b_vret hx hb hr hlocks hP hD hS (by first | omega | (dsimp only; omega)) (by first | omega | (dsimp only; omega)) ⟨w_3, (by first | with_reducible rfl | (simp [n_1, m_1, d_1]; done) | rfl)⟩ dJ4_ensureCapacityInternal_38
set_option maxHeartbeats 4000000 in
set_option maxRecDepth 100000 in
theorem mt_AB_ens_fit_1 (l : Launch) (Γ : GE) (sz : Nat) (a : Nat) (v : Nat) (ml : Int32) (n : Nat) (cap : Nat) (f : Nat → Int32) (q : Nat) (hq : q ≤ cap) (hc : cap ≤ 2000) : KM l yJ4_ensureCapacityInternal cJ4_ensureCapacityInternal 3 none Γ 0 0 0 0 [.ref a, .int (nI q)] [[(a, .inr (13, [.ref v, .int 1, .int ml, .int (nI n)]))], [(v, .inl (Γ.2.1 1, 2 * cap, .inl f))]] [] sz (Qv Γ (fun u_ => u_ = [[(a, .inr (13, [.ref v, .int 1, .int ml, .int (nI n)]))], [(v, .inl (Γ.2.1 1, 2 * cap, .inl f))]])) := by
  refine K_intro (by decide) (Nat.le_of_ble_eq_true rfl) ?_
  intro pr_ ev_ s mi_ below meth cd_ A ls hx hb hr hml hown hts hlocks hname hK hE hRo hP hD hA hS hsz hl
  have hl : lv_has ls 3 [(0, .ref a), (1, .int (nI q))] := hl
  have hown : s.vm.findClass RJ4 = some mi_.cls := hown
  refine lv_aload_n hx hb dJ4_ensureCapacityInternal_0 rfl (lv_at hl 0 rfl) ?_
  refine b_get (C := RJ5) (T := TJ5) (N := 4) (v := .ref v) hx hb hts in_J5 hown hK (b_at (k := 0) hP rfl) rfl 0 (by decide) q232 (fun _ h9 => h9) rfl dJ4_ensureCapacityInternal_1 ?_
  refine b_alen hx hb hK 1 (b_at (k := 1) hP rfl) rfl dJ4_ensureCapacityInternal_4 ?_
  refine lv_aload_n hx hb dJ4_ensureCapacityInternal_5 rfl (lv_at hl 0 rfl) ?_
  refine b_get (C := RJ5) (T := TJ5) (N := 4) (v := .int 1) hx hb hts in_J5 hown hK (b_at (k := 0) hP rfl) rfl 1 (by decide) q233 (fun _ h9 => h9) rfl dJ4_ensureCapacityInternal_6 ?_
  refine lv_ishr hx hb dJ4_ensureCapacityInternal_9 ?_
  refine b_top (nI_shrE (a := 2 * cap) (k := 1) (c := cap) rfl rfl (by decide) (by omega) (by omega)) ?_
  refine lv_istore_n (lv' := [(2, .int (nI cap)), (0, .ref a), (1, .int (nI q))]) hx hb dJ4_ensureCapacityInternal_10 rfl hl (by decide) rfl (fun ls hl => ?_)
  refine lv_iload_n hx hb dJ4_ensureCapacityInternal_11 rfl (lv_at hl 2 rfl) ?_
  refine lv_iload_n hx hb dJ4_ensureCapacityInternal_12 rfl (lv_at hl 0 rfl) ?_
  refine lv_isub hx hb dJ4_ensureCapacityInternal_13 ?_
  refine lv_if_le (tgt := 38) hx hb dJ4_ensureCapacityInternal_14 (by decide) (fun c_1 => ?_) (fun c_1 => ?_)
  · -- 14 taken
    have d_1 := Int32.not_lt.mpr c_1
    exact b_vret hx hb hr hlocks hP hD hS (Nat.le_of_ble_eq_true rfl) (Nat.le_of_ble_eq_true rfl) (by first | with_reducible rfl | (simp [c_1, d_1]; done) | rfl) dJ4_ensureCapacityInternal_38
  · -- 14 not taken
    have d_1 := Int32.not_le.mp c_1
    exact absurd (sub_le0 hq (by omega)) c_1
set_option maxHeartbeats 4000000 in
set_option maxRecDepth 100000 in
theorem mt_AB_ens_grow_1 (l : Launch) (Γ : GE) (sz : Nat) (a : Nat) (v : Nat) (ml : Int32) (n : Nat) (cap : Nat) (f : Nat → Int32) (q : Nat) (hq : cap < q) (hq2 : q ≤ 500) (hc : cap ≤ 512) (hf : ∀ j, fits .byte (.int (f j)) = true) : KM l yJ4_ensureCapacityInternal cJ4_ensureCapacityInternal 3 none Γ 3 82 1 (2 * cpN cap q) [.ref a, .int (nI q)] [[(a, .inr (13, [.ref v, .int 1, .int ml, .int (nI n)]))], [(v, .inl (Γ.2.1 1, 2 * cap, .inl f))]] [] sz (Qv Γ (fun u_ => ∃ w : Nat, u_ = [[(a, .inr (13, [.ref w, .int 1, .int ml, .int (nI n)]))], [(w, .inl (Γ.2.1 1, 2 * (cpN cap q), .inl (va_cpy f (fun _ => 0) 0 0 (2 * cap))))]])) := by
  refine K_intro (by decide) (Nat.le_of_ble_eq_true rfl) ?_
  intro pr_ ev_ s mi_ below meth cd_ A ls hx hb hr hml hown hts hlocks hname hK hE hRo hP hD hA hS hsz hl
  have hl : lv_has ls 3 [(0, .ref a), (1, .int (nI q))] := hl
  have hown : s.vm.findClass RJ4 = some mi_.cls := hown
  have hcp : q ≤ cpN cap q ∧ 2 * cap + 2 ≤ cpN cap q ∧ (cpN cap q ≤ q ∨ cpN cap q ≤ 2 * cap + 2) := by unfold cpN; split <;> omega
  refine lv_aload_n hx hb dJ4_ensureCapacityInternal_0 rfl (lv_at hl 0 rfl) ?_
  refine b_get (C := RJ5) (T := TJ5) (N := 4) (v := .ref v) hx hb hts in_J5 hown hK (b_at (k := 0) hP rfl) rfl 0 (by decide) q232 (fun _ h9 => h9) rfl dJ4_ensureCapacityInternal_1 ?_
  refine b_alen hx hb hK 1 (b_at (k := 1) hP rfl) rfl dJ4_ensureCapacityInternal_4 ?_
  refine lv_aload_n hx hb dJ4_ensureCapacityInternal_5 rfl (lv_at hl 0 rfl) ?_
  refine b_get (C := RJ5) (T := TJ5) (N := 4) (v := .int 1) hx hb hts in_J5 hown hK (b_at (k := 0) hP rfl) rfl 1 (by decide) q233 (fun _ h9 => h9) rfl dJ4_ensureCapacityInternal_6 ?_
  refine lv_ishr hx hb dJ4_ensureCapacityInternal_9 ?_
  refine b_top (nI_shrE (a := 2 * cap) (k := 1) (c := cap) rfl rfl (by decide) (by omega) (by omega)) ?_
  refine lv_istore_n (lv' := [(2, .int (nI cap)), (0, .ref a), (1, .int (nI q))]) hx hb dJ4_ensureCapacityInternal_10 rfl hl (by decide) rfl (fun ls hl => ?_)
  refine lv_iload_n hx hb dJ4_ensureCapacityInternal_11 rfl (lv_at hl 2 rfl) ?_
  refine lv_iload_n hx hb dJ4_ensureCapacityInternal_12 rfl (lv_at hl 0 rfl) ?_
  refine lv_isub hx hb dJ4_ensureCapacityInternal_13 ?_
  refine b_top (nI_subE (a := q) (b := cap) (c := (q - cap)) rfl rfl (by first | omega | rfl)) ?_
  refine lv_if_le (tgt := 38) hx hb dJ4_ensureCapacityInternal_14 (by decide) (fun c_1 => ?_) (fun c_1 => ?_)
  · -- 14 taken
    have n_1 : (q - cap) ≤ 0 := (nI_leI (by omega) (by omega)).mp (show nI (q - cap) ≤ nI 0 from c_1)
    have m_1 : ¬ (0 < (q - cap)) := by omega
    have d_1 := Int32.not_lt.mpr c_1
    exfalso; omega
  · -- 14 not taken
    have n_1 : ¬ ((q - cap) ≤ 0) := fun h => c_1 ((nI_leI (a := (q - cap)) (b := 0) (by omega) (by omega)).mpr h)
    have m_1 : 0 < (q - cap) := by omega
    have d_1 := Int32.not_le.mp c_1
    refine lv_aload_n hx hb dJ4_ensureCapacityInternal_17 rfl (lv_at hl 1 rfl) ?_
    refine lv_aload_n hx hb dJ4_ensureCapacityInternal_18 rfl (lv_at hl 1 rfl) ?_
    refine b_get (C := RJ5) (T := TJ5) (N := 4) (v := .ref v) hx hb hts in_J5 hown hK (b_at (k := 0) hP rfl) rfl 0 (by decide) q232 (fun _ h9 => h9) rfl dJ4_ensureCapacityInternal_19 ?_
    refine lv_aload_n hx hb dJ4_ensureCapacityInternal_22 rfl (lv_at hl 1 rfl) ?_
    refine lv_iload_n hx hb dJ4_ensureCapacityInternal_23 rfl (lv_at hl 2 rfl) ?_
    refine b_calli (br := []) (b_runU (C := RJ5) (owner := "java/lang/AbstractStringBuilder") (x := ⟨"java/lang/AbstractStringBuilder", "newCapacity", "(I)I"⟩) ⟨hx, hb, hml, hown, hts⟩ (mt_AB_newCap_1 l Γ _ a v ml n cap f q (by first | exact hq | omega) (by first | exact hq2 | omega) (by first | exact hc | omega)) q591 q2211 (va_Decl.of (hts _ q593) (hts _ q594)) (sel_priv (rfl : RJ4 = RJ4) (hts _ q610) ⟨by decide, by decide⟩ (hts _ q215) (va_Nw.use rfl (hE.1.1 _ q592 rfl)) (hts _ q593)) q593 q69 q594 rfl rfl 1 ⟨by decide, by decide, by decide +kernel⟩ ⟨(Nat.le_of_ble_eq_true rfl), (Nat.le_of_ble_eq_true rfl)⟩ (c_pre hP hD hS hA hK hE [0, 1] rfl rfl ro_nil) (recv_at (q := (RJ5, TJ5, 4)) hK (b_at (k := 0) hP rfl) rfl) rfl hl.1 rfl (Nat.le_of_ble_eq_true rfl) dJ4_ensureCapacityInternal_24 ⟨(by first | omega | (dsimp only; omega)), (by first | omega | (dsimp only; omega))⟩) hP hD hS hA [0, 1] [] rfl rfl rfl (fun r_2 u_2 H locs hw_2 hP hD hS _ => ?_)
    obtain ⟨rfl, rfl⟩ := hw_2
    have hP : WP Γ [[(a, .inr (13, [.ref v, .int 1, .int ml, .int (nI n)]))], [(v, .inl (Γ.2.1 1, 2 * cap, .inl f))]] H := hP
    have hD : WD A [[(a, .inr (13, [.ref v, .int 1, .int ml, .int (nI n)]))], [(v, .inl (Γ.2.1 1, 2 * cap, .inl f))]] := hD
    refine lv_aload_n hx hb dJ4_ensureCapacityInternal_27 rfl (lv_at hl 1 rfl) ?_
    refine b_get (C := RJ5) (T := TJ5) (N := 4) (v := .int 1) hx hb hts in_J5 hown hK (b_at (k := 0) hP rfl) rfl 1 (by decide) q233 (fun _ h9 => h9) rfl dJ4_ensureCapacityInternal_28 ?_
    refine lv_ishl hx hb dJ4_ensureCapacityInternal_31 ?_
    refine b_top (nI_shlE (a := (cpN cap q)) (k := 1) (c := 2 * (cpN cap q)) rfl rfl (by decide) (by omega) (by omega)) ?_
    refine b_callq (br := [[(a, .inr (13, [.ref v, .int 1, .int ml, .int (nI n)]))]]) (b_runS ⟨hx, hb, hml, hown, hts⟩ (mt_copyOfb l Γ _ v (2 * cap) f (2 * (cpN cap q)) (by omega) (by first | exact hq | omega) (by first | exact hf | omega)) (lw_S q597 q598 q84 q599) rfl rfl 2 (by decide +kernel) ⟨(Nat.le_of_ble_eq_true rfl), (Nat.le_of_ble_eq_true rfl)⟩ (c_pre hP hD hS hA hK hE [1] rfl rfl ro_nil) rfl hl.1 rfl (Nat.le_of_ble_eq_true rfl) dJ4_ensureCapacityInternal_32 ⟨(by first | omega | (dsimp only; omega)), (by first | omega | (dsimp only; omega))⟩) hP hD hS hA [1] [0] rfl rfl rfl (fun r_3 u_3 H locs hw_3 hP hD hS _ => ?_)
    obtain ⟨w_3, rfl, rfl⟩ := hw_3
    have hP : WP Γ [[(v, .inl (Γ.2.1 1, 2 * cap, .inl f))], [(w_3, .inl (Γ.2.1 1, 2 * (cpN cap q), .inl (va_cpy f (fun _ => 0) 0 0 (2 * cap))))], [(a, .inr (13, [.ref v, .int 1, .int ml, .int (nI n)]))]] H := hP
    have hD : WD A [[(v, .inl (Γ.2.1 1, 2 * cap, .inl f))], [(w_3, .inl (Γ.2.1 1, 2 * (cpN cap q), .inl (va_cpy f (fun _ => 0) 0 0 (2 * cap))))], [(a, .inr (13, [.ref v, .int 1, .int ml, .int (nI n)]))]] := hD
    refine W.eq (g2 := F0 mi_ 35 ls ([.ref w_3, .ref a])) rfl ?_
    refine b_put (C := RJ5) (T := TJ5) (N := 4) (ty := (tyJ5 0)) (v := .ref w_3) hx hb hts in_J5 tyJ5_ok nmJ5 hown hK hP hD hS 2 rfl rfl 0 (by decide) q232 (fun _ h9 => h9) rfl (by decide +kernel) rfl rfl (Nat.le_of_ble_eq_true rfl) dJ4_ensureCapacityInternal_35 (fun H locs hP hD hS => ?_)
    have hP : WP Γ [[(v, .inl (Γ.2.1 1, 2 * cap, .inl f))], [(w_3, .inl (Γ.2.1 1, 2 * (cpN cap q), .inl (va_cpy f (fun _ => 0) 0 0 (2 * cap))))], [(a, .inr (13, [.ref w_3, .int 1, .int ml, .int (nI n)]))]] H := hP
    have hD : WD A [[(v, .inl (Γ.2.1 1, 2 * cap, .inl f))], [(w_3, .inl (Γ.2.1 1, 2 * (cpN cap q), .inl (va_cpy f (fun _ => 0) 0 0 (2 * cap))))], [(a, .inr (13, [.ref w_3, .int 1, .int ml, .int (nI n)]))]] := hD
    have hP : WP Γ [[(a, .inr (13, [.ref w_3, .int 1, .int ml, .int (nI n)]))], [(w_3, .inl (Γ.2.1 1, 2 * (cpN cap q), .inl (va_cpy f (fun _ => 0) 0 0 (2 * cap))))]] H := bP_sel hP [2, 1] rfl
    have hD : WD A [[(a, .inr (13, [.ref w_3, .int 1, .int ml, .int (nI n)]))], [(w_3, .inl (Γ.2.1 1, 2 * (cpN cap q), .inl (va_cpy f (fun _ => 0) 0 0 (2 * cap))))]] := bD_sel hD [2, 1] rfl rfl
    exact b_vret hx hb hr hlocks hP hD hS (by first | omega | (dsimp only; omega)) (by first | omega | (dsimp only; omega)) ⟨w_3, (by first | with_reducible rfl | (simp [n_1, m_1, d_1]; done) | rfl)⟩ dJ4_ensureCapacityInternal_38
/-- decimal letters of w -/
def decF : Nat → Nat → List Int32
  | 0, w => [nI (48 + w)]
  | f + 1, w => if w < 10 then [nI (48 + w)] else if w < 100 then [nI (48 + w / 10), nI (48 + w % 10)] else decF f (w / 100) ++ [nI (48 + w % 100 / 10), nI (48 + w % 100 % 10)]
def decL (w : Nat) : List Int32 := decF 6 w
def intL (x : Int32) : List Int32 := if x < 0 then 45 :: decL x.toInt.natAbs else decL x.toInt.natAbs
theorem decF_len : ∀ (f w : Nat), w < 10 ^ (2 * f + 1) → w ≤ 2 ^ 31 → (decF f w).length = sb_dg w := by
  intro f
  induction f with
  | zero => intro w h _; simp at h; rw [decF, sb_dg, if_pos h]; rfl
  | succ f ih =>
    intro w h h2
    rw [decF]
    by_cases h1 : w < 10
    · rw [if_pos h1, sb_dg, if_pos h1]; rfl
    · rw [if_neg h1]
      by_cases h3 : w < 100
      · rw [if_pos h3, sb_dg, if_neg h1, if_pos h3]; rfl
      · rw [if_neg h3, List.length_append, ih (w / 100) (by rw [Nat.div_lt_iff_lt_mul (by decide)]; rw [show 2 * (f + 1) + 1 = 2 * f + 1 + 2 by omega, Nat.pow_add] at h; exact h) (by omega)]
        show sb_dg (w / 100) + 2 = sb_dg w
        rcases Nat.lt_or_ge w (2 ^ 31) with h4 | h4
        · exact (sb_dg100 (by omega) h4).symm
        · rw [show w = 2 ^ 31 by omega]; decide
theorem decL_len {w : Nat} (h : w ≤ 2 ^ 31) : (decL w).length = sb_dg w := decF_len 6 w (by omega) h
theorem dig_isL : ∀ d, d < 10 → isL (nI (48 + d)) ∧ nb (nI (48 + d)) = nI (48 + d) := by unfold isL; decide +kernel
theorem decF_isL : ∀ (f w : Nat), w < 10 ^ (2 * f + 1) → ∀ c ∈ decF f w, isL c ∧ nb c = c := by
  intro f
  induction f with
  | zero => intro w h c hc; simp at h; simp [decF] at hc; subst hc; exact dig_isL w h
  | succ f ih =>
    intro w h c hc
    rw [decF] at hc
    by_cases h1 : w < 10
    · rw [if_pos h1] at hc; simp at hc; subst hc; exact dig_isL w h1
    · rw [if_neg h1] at hc
      by_cases h3 : w < 100
      · rw [if_pos h3] at hc
        simp at hc
        rcases hc with rfl | rfl
        · exact dig_isL _ (by omega)
        · exact dig_isL _ (by omega)
      · rw [if_neg h3] at hc
        rcases List.mem_append.mp hc with hc | hc
        · exact ih (w / 100) (by rw [Nat.div_lt_iff_lt_mul (by decide)]; rw [show 2 * (f + 1) + 1 = 2 * f + 1 + 2 by omega, Nat.pow_add] at h; exact h) c hc
        · simp at hc
          rcases hc with rfl | rfl
          · exact dig_isL _ (by omega)
          · exact dig_isL _ (by omega)
theorem abs_le (x : Int32) : x.toInt.natAbs ≤ 2 ^ 31 := by
  have h1 := Int32.le_toInt x
  have h2 := Int32.toInt_lt x
  omega
theorem intL_isL (x : Int32) : ∀ c ∈ intL x, isL c ∧ nb c = c := by
  intro c hc
  have h := abs_le x
  unfold intL at hc
  split at hc
  · rcases List.mem_cons.mp hc with rfl | hc
    · exact ⟨by unfold isL; decide +kernel, by decide +kernel⟩
    · exact decF_isL 6 _ (by omega) c hc
  · exact decF_isL 6 _ (by omega) c hc
theorem map_nb {L : List Int32} (h : ∀ c ∈ L, isL c ∧ nb c = c) : L.map nb = L := by
  induction L with
  | nil => rfl
  | cons c L ih => rw [List.map_cons, (h c List.mem_cons_self).2, ih (fun d hd => h d (List.mem_cons_of_mem _ hd))]
def sgN (x : Int32) : Nat := if x < 0 then 1 else 0
theorem intL_len (x : Int32) : (intL x).length = sb_dg x.toInt.natAbs + sgN x := by
  unfold intL sgN
  split
  · rw [List.length_cons, decL_len (abs_le x)]
  · rw [decL_len (abs_le x)]; rfl
theorem intL_le (x : Int32) : 1 ≤ (intL x).length ∧ (intL x).length ≤ 11 := by
  rw [intL_len]
  have := sb_dg_in x.toInt.natAbs
  unfold sgN
  split <;> omega
/-- what the digits are made of: minus the absolute value -/
def ngI (x : Int32) : Int32 := if x < 0 then x else -x
theorem ngI_toInt (x : Int32) : (ngI x).toInt = -(x.toInt.natAbs : Int) := by
  unfold ngI
  split
  · rename_i h
    rw [Int32.lt_iff_toInt_lt] at h
    simp at h
    omega
  · rename_i h
    rw [Int32.lt_iff_toInt_lt] at h
    simp at h
    have h2 := Int32.toInt_lt x
    rw [Int32.toInt_neg, Int.bmod_eq_of_le (by omega) (by omega)]
    omega
theorem sz_le {i c : Int32} {w n : Nat} (hi : i.toInt = -(w : Int)) (hc : c.toInt = -(n : Int)) : i ≤ c ↔ n ≤ w := by
  rw [Int32.le_iff_toInt_le, hi, hc]; omega
theorem sz_lt {i c : Int32} {w n : Nat} (hi : i.toInt = -(w : Int)) (hc : c.toInt = -(n : Int)) : c < i ↔ w < n := by
  rw [Int32.lt_iff_toInt_lt, hi, hc]; omega
theorem ng_div {i : Int32} {w : Nat} (hi : i.toInt = -(w : Int)) (hw : w ≤ 2 ^ 31) : (i / 100).toInt = -((w / 100 : Nat) : Int) := by
  rw [Int32.toInt_div, hi, show (100 : Int32).toInt = 100 by decide, Int.neg_tdiv, Int.tdiv_eq_ediv_of_nonneg (by omega), Int.bmod_eq_of_le (by omega) (by omega)]
  omega
theorem ng_rem {i : Int32} {w : Nat} (hi : i.toInt = -(w : Int)) (hw : w ≤ 2 ^ 31) : i / 100 * 100 - i = nI (w % 100) := by
  apply Int32.toInt_inj.mp
  have h1 := ng_div hi hw
  rw [Int32.toInt_sub, Int32.toInt_mul, h1, hi, show (100 : Int32).toInt = 100 by decide, nI_toInt (by omega)]
  rw [Int.bmod_eq_of_le (n := -((w / 100 : Nat) : Int) * 100) (by omega) (by omega)]
  rw [Int.bmod_eq_of_le (by omega) (by omega)]
  omega
theorem ng_neg {i : Int32} {w : Nat} (hi : i.toInt = -(w : Int)) (hw : w < 2 ^ 31) : -i = nI w := by
  apply Int32.toInt_inj.mp
  rw [Int32.toInt_neg, hi, nI_toInt hw, Int.bmod_eq_of_le (by omega) (by omega)]
  omega
theorem putL_app (f : Nat → Int32) (p : Nat) (L M : List Int32) : putL (putL f (p + L.length) M) p L = putL f p (L ++ M) := by
  funext q
  simp only [putL, List.length_append]
  by_cases h : p ≤ q ∧ q < p + L.length
  · rw [if_pos h, if_pos (by omega), gd_lo (by omega)]
  · rw [if_neg h]
    by_cases h2 : p + L.length ≤ q ∧ q < p + L.length + M.length
    · rw [if_pos h2, if_pos (by omega), gd_hi (by omega)]
      congr 1
      omega
    · rw [if_neg h2, if_neg (by omega)]
theorem putL_two (f : Nat → Int32) (p : Nat) (x y : Int32) : upd (upd f (p + 1) y) p x = putL f p [x, y] := by
  rw [putL_one f (p + 1) y, putL_cons]
theorem fu_pos {fu w : Nat} (h : w < 10 ^ (2 * fu + 1)) (h2 : 10 ≤ w) : ∃ fv, fu = fv + 1 := by
  cases fu with
  | zero => exact absurd h (by show ¬ w < 10; omega)
  | succ fv => exact ⟨fv, rfl⟩
theorem putL_nil (f : Nat → Int32) (p : Nat) : putL f p [] = f := by
  funext q
  rw [putL, if_neg (by simp)]
set_option maxHeartbeats 4000000 in
set_option maxRecDepth 100000 in
theorem mt_stringSize (l : Launch) (Γ : GE) (sz : Nat) (x : Int32)  : KM l yJ18_stringSize cJ18_stringSize 4 (some FieldType.int) Γ 0 0 0 0 [.int x] [] [] sz (Qi Γ (fun r_ u_ => r_ = (nI (intL x).length) ∧ u_ = [])) := by
  refine K_intro (by decide) (Nat.le_of_ble_eq_true rfl) ?_
  intro pr_ ev_ s mi_ below meth cd_ A ls hx hb hr hml hown hts hlocks hname hK hE hRo hP hD hA hS hsz hl
  have hl : lv_has ls 4 [(0, .int x)] := hl
  have hown : s.vm.findClass RJ18 = some mi_.cls := hown
  refine lv_iconst (v := 1) hx hb dJ18_stringSize_0 (by decide) ?_
  refine lv_istore_n (lv' := [(1, .int 1), (0, .int x)]) hx hb dJ18_stringSize_1 rfl hl (by decide) rfl (fun ls hl => ?_)
  refine lv_iload_n hx hb dJ18_stringSize_2 rfl (lv_at hl 1 rfl) ?_
  refine lv_if_lt (tgt := 11) hx hb dJ18_stringSize_3 (by decide) (fun c_1 => ?_) (fun c_1 => ?_)
  · -- 3 taken
    have hl : lv_has ls 4 [(1, .int 1), (0, .int (ngI x))] := by rw [show ngI x = x from if_pos c_1]; exact hl
    refine lv_bipush (v := (-10)) hx hb dJ18_stringSize_11 (by decide) ?_
    refine lv_istore_n (lv' := [(2, .int (-10)), (1, .int 1), (0, .int (ngI x))]) hx hb dJ18_stringSize_13 rfl hl (by decide) rfl (fun ls hl => ?_)
    refine lv_iconst (v := 1) hx hb dJ18_stringSize_14 (by decide) ?_
    refine lv_istore_n (lv' := [(3, .int 1), (2, .int (-10)), (1, .int 1), (0, .int (ngI x))]) hx hb dJ18_stringSize_15 rfl hl (by decide) rfl (fun ls hl => ?_)
    refine lv_iload_n hx hb dJ18_stringSize_16 rfl (lv_at hl 0 rfl) ?_
    refine lv_bipush (v := 10) hx hb dJ18_stringSize_17 (by decide) ?_
    refine lv_icmp_ge (tgt := 42) hx hb dJ18_stringSize_19 (by decide) (fun c_2 => ?_) (fun c_2 => ?_)
    · -- 19 taken
      have n_2 : 10 ≤ 1 := (nI_leI (by omega) (by omega)).mp (show nI 10 ≤ nI 1 from c_2)
      exact absurd n_2 (by omega)
    · -- 19 not taken
      have n_2 : ¬ (10 ≤ 1) := fun h => c_2 ((nI_leI (a := 10) (b := 1) (by omega) (by omega)).mpr h)
      refine lv_iload_n hx hb dJ18_stringSize_22 rfl (lv_at hl 3 rfl) ?_
      refine lv_iload_n hx hb dJ18_stringSize_23 rfl (lv_at hl 1 rfl) ?_
      refine lv_icmp_le (tgt := 31) hx hb dJ18_stringSize_24 (by decide) (fun c_3 => ?_) (fun c_3 => ?_)
      · -- 24 taken
        have d_3 := Int32.not_lt.mpr c_3
        refine lv_bipush (v := 10) hx hb dJ18_stringSize_31 (by decide) ?_
        refine lv_iload_n hx hb dJ18_stringSize_33 rfl (lv_at hl 1 rfl) ?_
        refine lv_imul hx hb dJ18_stringSize_34 ?_
        refine lv_istore_n (lv' := [(2, .int (10 * (-10))), (3, .int 1), (1, .int 1), (0, .int (ngI x))]) hx hb dJ18_stringSize_35 rfl hl (by decide) rfl (fun ls hl => ?_)
        refine lv_iinc (v := (nI 2)) (lv' := [(3, .int (nI 2)), (2, .int (10 * (-10))), (1, .int 1), (0, .int (ngI x))]) hx hb dJ18_stringSize_36 hl (k := 1) rfl (nI_addE (a := 1) (b := 1) (c := 2) rfl rfl (by first | omega | rfl)) (by decide) rfl (fun ls hl => ?_)
        refine lv_goto (tgt := 16) hx hb dJ18_stringSize_39 (by decide) ?_
        refine lv_iload_n hx hb dJ18_stringSize_16 rfl (lv_at hl 0 rfl) ?_
        refine lv_bipush (v := 10) hx hb dJ18_stringSize_17 (by decide) ?_
        refine lv_icmp_ge (tgt := 42) hx hb dJ18_stringSize_19 (by decide) (fun c_4 => ?_) (fun c_4 => ?_)
        · -- 19 taken
          have n_4 : 10 ≤ 2 := (nI_leI (by omega) (by omega)).mp (show nI 10 ≤ nI 2 from c_4)
          exact absurd n_4 (by omega)
        · -- 19 not taken
          have n_4 : ¬ (10 ≤ 2) := fun h => c_4 ((nI_leI (a := 10) (b := 2) (by omega) (by omega)).mpr h)
          refine lv_iload_n hx hb dJ18_stringSize_22 rfl (lv_at hl 3 rfl) ?_
          refine lv_iload_n hx hb dJ18_stringSize_23 rfl (lv_at hl 1 rfl) ?_
          refine lv_icmp_le (tgt := 31) hx hb dJ18_stringSize_24 (by decide) (fun c_5 => ?_) (fun c_5 => ?_)
          · -- 24 taken
            have d_5 := Int32.not_lt.mpr c_5
            refine lv_bipush (v := 10) hx hb dJ18_stringSize_31 (by decide) ?_
            refine lv_iload_n hx hb dJ18_stringSize_33 rfl (lv_at hl 1 rfl) ?_
            refine lv_imul hx hb dJ18_stringSize_34 ?_
            refine lv_istore_n (lv' := [(2, .int (10 * (10 * (-10)))), (3, .int (nI 2)), (1, .int 1), (0, .int (ngI x))]) hx hb dJ18_stringSize_35 rfl hl (by decide) rfl (fun ls hl => ?_)
            refine lv_iinc (v := (nI 3)) (lv' := [(3, .int (nI 3)), (2, .int (10 * (10 * (-10)))), (1, .int 1), (0, .int (ngI x))]) hx hb dJ18_stringSize_36 hl (k := 1) rfl (nI_addE (a := 2) (b := 1) (c := 3) rfl rfl (by first | omega | rfl)) (by decide) rfl (fun ls hl => ?_)
            refine lv_goto (tgt := 16) hx hb dJ18_stringSize_39 (by decide) ?_
            refine lv_iload_n hx hb dJ18_stringSize_16 rfl (lv_at hl 0 rfl) ?_
            refine lv_bipush (v := 10) hx hb dJ18_stringSize_17 (by decide) ?_
            refine lv_icmp_ge (tgt := 42) hx hb dJ18_stringSize_19 (by decide) (fun c_6 => ?_) (fun c_6 => ?_)
            · -- 19 taken
              have n_6 : 10 ≤ 3 := (nI_leI (by omega) (by omega)).mp (show nI 10 ≤ nI 3 from c_6)
              exact absurd n_6 (by omega)
            · -- 19 not taken
              have n_6 : ¬ (10 ≤ 3) := fun h => c_6 ((nI_leI (a := 10) (b := 3) (by omega) (by omega)).mpr h)
              refine lv_iload_n hx hb dJ18_stringSize_22 rfl (lv_at hl 3 rfl) ?_
              refine lv_iload_n hx hb dJ18_stringSize_23 rfl (lv_at hl 1 rfl) ?_
              refine lv_icmp_le (tgt := 31) hx hb dJ18_stringSize_24 (by decide) (fun c_7 => ?_) (fun c_7 => ?_)
              · -- 24 taken
                have d_7 := Int32.not_lt.mpr c_7
                refine lv_bipush (v := 10) hx hb dJ18_stringSize_31 (by decide) ?_
                refine lv_iload_n hx hb dJ18_stringSize_33 rfl (lv_at hl 1 rfl) ?_
                refine lv_imul hx hb dJ18_stringSize_34 ?_
                refine lv_istore_n (lv' := [(2, .int (10 * (10 * (10 * (-10))))), (3, .int (nI 3)), (1, .int 1), (0, .int (ngI x))]) hx hb dJ18_stringSize_35 rfl hl (by decide) rfl (fun ls hl => ?_)
                refine lv_iinc (v := (nI 4)) (lv' := [(3, .int (nI 4)), (2, .int (10 * (10 * (10 * (-10))))), (1, .int 1), (0, .int (ngI x))]) hx hb dJ18_stringSize_36 hl (k := 1) rfl (nI_addE (a := 3) (b := 1) (c := 4) rfl rfl (by first | omega | rfl)) (by decide) rfl (fun ls hl => ?_)
                refine lv_goto (tgt := 16) hx hb dJ18_stringSize_39 (by decide) ?_
                refine lv_iload_n hx hb dJ18_stringSize_16 rfl (lv_at hl 0 rfl) ?_
                refine lv_bipush (v := 10) hx hb dJ18_stringSize_17 (by decide) ?_
                refine lv_icmp_ge (tgt := 42) hx hb dJ18_stringSize_19 (by decide) (fun c_8 => ?_) (fun c_8 => ?_)
                · -- 19 taken
                  have n_8 : 10 ≤ 4 := (nI_leI (by omega) (by omega)).mp (show nI 10 ≤ nI 4 from c_8)
                  exact absurd n_8 (by omega)
                · -- 19 not taken
                  have n_8 : ¬ (10 ≤ 4) := fun h => c_8 ((nI_leI (a := 10) (b := 4) (by omega) (by omega)).mpr h)
                  refine lv_iload_n hx hb dJ18_stringSize_22 rfl (lv_at hl 3 rfl) ?_
                  refine lv_iload_n hx hb dJ18_stringSize_23 rfl (lv_at hl 1 rfl) ?_
                  refine lv_icmp_le (tgt := 31) hx hb dJ18_stringSize_24 (by decide) (fun c_9 => ?_) (fun c_9 => ?_)
                  · -- 24 taken
                    have d_9 := Int32.not_lt.mpr c_9
                    refine lv_bipush (v := 10) hx hb dJ18_stringSize_31 (by decide) ?_
                    refine lv_iload_n hx hb dJ18_stringSize_33 rfl (lv_at hl 1 rfl) ?_
                    refine lv_imul hx hb dJ18_stringSize_34 ?_
                    refine lv_istore_n (lv' := [(2, .int (10 * (10 * (10 * (10 * (-10)))))), (3, .int (nI 4)), (1, .int 1), (0, .int (ngI x))]) hx hb dJ18_stringSize_35 rfl hl (by decide) rfl (fun ls hl => ?_)
                    refine lv_iinc (v := (nI 5)) (lv' := [(3, .int (nI 5)), (2, .int (10 * (10 * (10 * (10 * (-10)))))), (1, .int 1), (0, .int (ngI x))]) hx hb dJ18_stringSize_36 hl (k := 1) rfl (nI_addE (a := 4) (b := 1) (c := 5) rfl rfl (by first | omega | rfl)) (by decide) rfl (fun ls hl => ?_)
                    refine lv_goto (tgt := 16) hx hb dJ18_stringSize_39 (by decide) ?_
                    refine lv_iload_n hx hb dJ18_stringSize_16 rfl (lv_at hl 0 rfl) ?_
                    refine lv_bipush (v := 10) hx hb dJ18_stringSize_17 (by decide) ?_
                    refine lv_icmp_ge (tgt := 42) hx hb dJ18_stringSize_19 (by decide) (fun c_10 => ?_) (fun c_10 => ?_)
                    · -- 19 taken
                      have n_10 : 10 ≤ 5 := (nI_leI (by omega) (by omega)).mp (show nI 10 ≤ nI 5 from c_10)
                      exact absurd n_10 (by omega)
                    · -- 19 not taken
                      have n_10 : ¬ (10 ≤ 5) := fun h => c_10 ((nI_leI (a := 10) (b := 5) (by omega) (by omega)).mpr h)
                      refine lv_iload_n hx hb dJ18_stringSize_22 rfl (lv_at hl 3 rfl) ?_
                      refine lv_iload_n hx hb dJ18_stringSize_23 rfl (lv_at hl 1 rfl) ?_
                      refine lv_icmp_le (tgt := 31) hx hb dJ18_stringSize_24 (by decide) (fun c_11 => ?_) (fun c_11 => ?_)
                      · -- 24 taken
                        have d_11 := Int32.not_lt.mpr c_11
                        refine lv_bipush (v := 10) hx hb dJ18_stringSize_31 (by decide) ?_
                        refine lv_iload_n hx hb dJ18_stringSize_33 rfl (lv_at hl 1 rfl) ?_
                        refine lv_imul hx hb dJ18_stringSize_34 ?_
                        refine lv_istore_n (lv' := [(2, .int (10 * (10 * (10 * (10 * (10 * (-10))))))), (3, .int (nI 5)), (1, .int 1), (0, .int (ngI x))]) hx hb dJ18_stringSize_35 rfl hl (by decide) rfl (fun ls hl => ?_)
                        refine lv_iinc (v := (nI 6)) (lv' := [(3, .int (nI 6)), (2, .int (10 * (10 * (10 * (10 * (10 * (-10))))))), (1, .int 1), (0, .int (ngI x))]) hx hb dJ18_stringSize_36 hl (k := 1) rfl (nI_addE (a := 5) (b := 1) (c := 6) rfl rfl (by first | omega | rfl)) (by decide) rfl (fun ls hl => ?_)
                        refine lv_goto (tgt := 16) hx hb dJ18_stringSize_39 (by decide) ?_
                        refine lv_iload_n hx hb dJ18_stringSize_16 rfl (lv_at hl 0 rfl) ?_
                        refine lv_bipush (v := 10) hx hb dJ18_stringSize_17 (by decide) ?_
                        refine lv_icmp_ge (tgt := 42) hx hb dJ18_stringSize_19 (by decide) (fun c_12 => ?_) (fun c_12 => ?_)
                        · -- 19 taken
                          have n_12 : 10 ≤ 6 := (nI_leI (by omega) (by omega)).mp (show nI 10 ≤ nI 6 from c_12)
                          exact absurd n_12 (by omega)
                        · -- 19 not taken
                          have n_12 : ¬ (10 ≤ 6) := fun h => c_12 ((nI_leI (a := 10) (b := 6) (by omega) (by omega)).mpr h)
                          refine lv_iload_n hx hb dJ18_stringSize_22 rfl (lv_at hl 3 rfl) ?_
                          refine lv_iload_n hx hb dJ18_stringSize_23 rfl (lv_at hl 1 rfl) ?_
                          refine lv_icmp_le (tgt := 31) hx hb dJ18_stringSize_24 (by decide) (fun c_13 => ?_) (fun c_13 => ?_)
                          · -- 24 taken
                            have d_13 := Int32.not_lt.mpr c_13
                            refine lv_bipush (v := 10) hx hb dJ18_stringSize_31 (by decide) ?_
                            refine lv_iload_n hx hb dJ18_stringSize_33 rfl (lv_at hl 1 rfl) ?_
                            refine lv_imul hx hb dJ18_stringSize_34 ?_
                            refine lv_istore_n (lv' := [(2, .int (10 * (10 * (10 * (10 * (10 * (10 * (-10)))))))), (3, .int (nI 6)), (1, .int 1), (0, .int (ngI x))]) hx hb dJ18_stringSize_35 rfl hl (by decide) rfl (fun ls hl => ?_)
                            refine lv_iinc (v := (nI 7)) (lv' := [(3, .int (nI 7)), (2, .int (10 * (10 * (10 * (10 * (10 * (10 * (-10)))))))), (1, .int 1), (0, .int (ngI x))]) hx hb dJ18_stringSize_36 hl (k := 1) rfl (nI_addE (a := 6) (b := 1) (c := 7) rfl rfl (by first | omega | rfl)) (by decide) rfl (fun ls hl => ?_)
                            refine lv_goto (tgt := 16) hx hb dJ18_stringSize_39 (by decide) ?_
                            refine lv_iload_n hx hb dJ18_stringSize_16 rfl (lv_at hl 0 rfl) ?_
                            refine lv_bipush (v := 10) hx hb dJ18_stringSize_17 (by decide) ?_
                            refine lv_icmp_ge (tgt := 42) hx hb dJ18_stringSize_19 (by decide) (fun c_14 => ?_) (fun c_14 => ?_)
                            · -- 19 taken
                              have n_14 : 10 ≤ 7 := (nI_leI (by omega) (by omega)).mp (show nI 10 ≤ nI 7 from c_14)
                              exact absurd n_14 (by omega)
                            · -- 19 not taken
                              have n_14 : ¬ (10 ≤ 7) := fun h => c_14 ((nI_leI (a := 10) (b := 7) (by omega) (by omega)).mpr h)
                              refine lv_iload_n hx hb dJ18_stringSize_22 rfl (lv_at hl 3 rfl) ?_
                              refine lv_iload_n hx hb dJ18_stringSize_23 rfl (lv_at hl 1 rfl) ?_
                              refine lv_icmp_le (tgt := 31) hx hb dJ18_stringSize_24 (by decide) (fun c_15 => ?_) (fun c_15 => ?_)
                              · -- 24 taken
                                have d_15 := Int32.not_lt.mpr c_15
                                refine lv_bipush (v := 10) hx hb dJ18_stringSize_31 (by decide) ?_
                                refine lv_iload_n hx hb dJ18_stringSize_33 rfl (lv_at hl 1 rfl) ?_
                                refine lv_imul hx hb dJ18_stringSize_34 ?_
                                refine lv_istore_n (lv' := [(2, .int (10 * (10 * (10 * (10 * (10 * (10 * (10 * (-10))))))))), (3, .int (nI 7)), (1, .int 1), (0, .int (ngI x))]) hx hb dJ18_stringSize_35 rfl hl (by decide) rfl (fun ls hl => ?_)
                                refine lv_iinc (v := (nI 8)) (lv' := [(3, .int (nI 8)), (2, .int (10 * (10 * (10 * (10 * (10 * (10 * (10 * (-10))))))))), (1, .int 1), (0, .int (ngI x))]) hx hb dJ18_stringSize_36 hl (k := 1) rfl (nI_addE (a := 7) (b := 1) (c := 8) rfl rfl (by first | omega | rfl)) (by decide) rfl (fun ls hl => ?_)
                                refine lv_goto (tgt := 16) hx hb dJ18_stringSize_39 (by decide) ?_
                                refine lv_iload_n hx hb dJ18_stringSize_16 rfl (lv_at hl 0 rfl) ?_
                                refine lv_bipush (v := 10) hx hb dJ18_stringSize_17 (by decide) ?_
                                refine lv_icmp_ge (tgt := 42) hx hb dJ18_stringSize_19 (by decide) (fun c_16 => ?_) (fun c_16 => ?_)
                                · -- 19 taken
                                  have n_16 : 10 ≤ 8 := (nI_leI (by omega) (by omega)).mp (show nI 10 ≤ nI 8 from c_16)
                                  exact absurd n_16 (by omega)
                                · -- 19 not taken
                                  have n_16 : ¬ (10 ≤ 8) := fun h => c_16 ((nI_leI (a := 10) (b := 8) (by omega) (by omega)).mpr h)
                                  refine lv_iload_n hx hb dJ18_stringSize_22 rfl (lv_at hl 3 rfl) ?_
                                  refine lv_iload_n hx hb dJ18_stringSize_23 rfl (lv_at hl 1 rfl) ?_
                                  refine lv_icmp_le (tgt := 31) hx hb dJ18_stringSize_24 (by decide) (fun c_17 => ?_) (fun c_17 => ?_)
                                  · -- 24 taken
                                    have d_17 := Int32.not_lt.mpr c_17
                                    refine lv_bipush (v := 10) hx hb dJ18_stringSize_31 (by decide) ?_
                                    refine lv_iload_n hx hb dJ18_stringSize_33 rfl (lv_at hl 1 rfl) ?_
                                    refine lv_imul hx hb dJ18_stringSize_34 ?_
                                    refine lv_istore_n (lv' := [(2, .int (10 * (10 * (10 * (10 * (10 * (10 * (10 * (10 * (-10)))))))))), (3, .int (nI 8)), (1, .int 1), (0, .int (ngI x))]) hx hb dJ18_stringSize_35 rfl hl (by decide) rfl (fun ls hl => ?_)
                                    refine lv_iinc (v := (nI 9)) (lv' := [(3, .int (nI 9)), (2, .int (10 * (10 * (10 * (10 * (10 * (10 * (10 * (10 * (-10)))))))))), (1, .int 1), (0, .int (ngI x))]) hx hb dJ18_stringSize_36 hl (k := 1) rfl (nI_addE (a := 8) (b := 1) (c := 9) rfl rfl (by first | omega | rfl)) (by decide) rfl (fun ls hl => ?_)
                                    refine lv_goto (tgt := 16) hx hb dJ18_stringSize_39 (by decide) ?_
                                    refine lv_iload_n hx hb dJ18_stringSize_16 rfl (lv_at hl 0 rfl) ?_
                                    refine lv_bipush (v := 10) hx hb dJ18_stringSize_17 (by decide) ?_
                                    refine lv_icmp_ge (tgt := 42) hx hb dJ18_stringSize_19 (by decide) (fun c_18 => ?_) (fun c_18 => ?_)
                                    · -- 19 taken
                                      have n_18 : 10 ≤ 9 := (nI_leI (by omega) (by omega)).mp (show nI 10 ≤ nI 9 from c_18)
                                      exact absurd n_18 (by omega)
                                    · -- 19 not taken
                                      have n_18 : ¬ (10 ≤ 9) := fun h => c_18 ((nI_leI (a := 10) (b := 9) (by omega) (by omega)).mpr h)
                                      refine lv_iload_n hx hb dJ18_stringSize_22 rfl (lv_at hl 3 rfl) ?_
                                      refine lv_iload_n hx hb dJ18_stringSize_23 rfl (lv_at hl 1 rfl) ?_
                                      refine lv_icmp_le (tgt := 31) hx hb dJ18_stringSize_24 (by decide) (fun c_19 => ?_) (fun c_19 => ?_)
                                      · -- 24 taken
                                        have d_19 := Int32.not_lt.mpr c_19
                                        refine lv_bipush (v := 10) hx hb dJ18_stringSize_31 (by decide) ?_
                                        refine lv_iload_n hx hb dJ18_stringSize_33 rfl (lv_at hl 1 rfl) ?_
                                        refine lv_imul hx hb dJ18_stringSize_34 ?_
                                        refine lv_istore_n (lv' := [(2, .int (10 * (10 * (10 * (10 * (10 * (10 * (10 * (10 * (10 * (-10))))))))))), (3, .int (nI 9)), (1, .int 1), (0, .int (ngI x))]) hx hb dJ18_stringSize_35 rfl hl (by decide) rfl (fun ls hl => ?_)
                                        refine lv_iinc (v := (nI 10)) (lv' := [(3, .int (nI 10)), (2, .int (10 * (10 * (10 * (10 * (10 * (10 * (10 * (10 * (10 * (-10))))))))))), (1, .int 1), (0, .int (ngI x))]) hx hb dJ18_stringSize_36 hl (k := 1) rfl (nI_addE (a := 9) (b := 1) (c := 10) rfl rfl (by first | omega | rfl)) (by decide) rfl (fun ls hl => ?_)
                                        refine lv_goto (tgt := 16) hx hb dJ18_stringSize_39 (by decide) ?_
                                        refine lv_iload_n hx hb dJ18_stringSize_16 rfl (lv_at hl 0 rfl) ?_
                                        refine lv_bipush (v := 10) hx hb dJ18_stringSize_17 (by decide) ?_
                                        refine lv_icmp_ge (tgt := 42) hx hb dJ18_stringSize_19 (by decide) (fun c_20 => ?_) (fun c_20 => ?_)
                                        · -- 19 taken
                                          have n_20 : 10 ≤ 10 := (nI_leI (by omega) (by omega)).mp (show nI 10 ≤ nI 10 from c_20)
                                          refine lv_bipush (v := 10) hx hb dJ18_stringSize_42 (by decide) ?_
                                          refine lv_iload_n hx hb dJ18_stringSize_44 rfl (lv_at hl 2 rfl) ?_
                                          refine lv_iadd hx hb dJ18_stringSize_45 ?_
                                          refine b_top (nI_addE (a := 10) (b := 1) (c := 11) rfl rfl (by first | omega | rfl)) ?_
                                          exact b_iret hx hb hr hlocks hP hD hS (Nat.le_of_ble_eq_true rfl) (Nat.le_of_ble_eq_true rfl) ⟨(by have a0 := (sz_le (n := 10) (ngI_toInt x) (by decide)).mp c_3; have a1 := (sz_le (n := 100) (ngI_toInt x) (by decide)).mp c_5; have a2 := (sz_le (n := 1000) (ngI_toInt x) (by decide)).mp c_7; have a3 := (sz_le (n := 10000) (ngI_toInt x) (by decide)).mp c_9; have a4 := (sz_le (n := 100000) (ngI_toInt x) (by decide)).mp c_11; have a5 := (sz_le (n := 1000000) (ngI_toInt x) (by decide)).mp c_13; have a6 := (sz_le (n := 10000000) (ngI_toInt x) (by decide)).mp c_15; have a7 := (sz_le (n := 100000000) (ngI_toInt x) (by decide)).mp c_17; have a8 := (sz_le (n := 1000000000) (ngI_toInt x) (by decide)).mp c_19; rw [intL_len, show sgN x = 1 from if_pos c_1, show sb_dg x.toInt.natAbs = 10 from by unfold sb_dg; (repeat' split) <;> omega]), (by first | with_reducible rfl | (simp [c_1, n_2, c_3, d_3, n_4, c_5, d_5, n_6, c_7, d_7, n_8, c_9, d_9, n_10, c_11, d_11, n_12, c_13, d_13, n_14, c_15, d_15, n_16, c_17, d_17, n_18, c_19, d_19, n_20]; done) | rfl)⟩ dJ18_stringSize_46
                                        · -- 19 not taken
                                          have n_20 : ¬ (10 ≤ 10) := fun h => c_20 ((nI_leI (a := 10) (b := 10) (by omega) (by omega)).mpr h)
                                          exact absurd n_20 (by omega)
                                      · -- 24 not taken
                                        have d_19 := Int32.not_le.mp c_19
                                        refine lv_iload_n hx hb dJ18_stringSize_27 rfl (lv_at hl 0 rfl) ?_
                                        refine lv_iload_n hx hb dJ18_stringSize_28 rfl (lv_at hl 2 rfl) ?_
                                        refine lv_iadd hx hb dJ18_stringSize_29 ?_
                                        refine b_top (nI_addE (a := 9) (b := 1) (c := 10) rfl rfl (by first | omega | rfl)) ?_
                                        exact b_iret hx hb hr hlocks hP hD hS (Nat.le_of_ble_eq_true rfl) (Nat.le_of_ble_eq_true rfl) ⟨(by have a0 := (sz_le (n := 10) (ngI_toInt x) (by decide)).mp c_3; have a1 := (sz_le (n := 100) (ngI_toInt x) (by decide)).mp c_5; have a2 := (sz_le (n := 1000) (ngI_toInt x) (by decide)).mp c_7; have a3 := (sz_le (n := 10000) (ngI_toInt x) (by decide)).mp c_9; have a4 := (sz_le (n := 100000) (ngI_toInt x) (by decide)).mp c_11; have a5 := (sz_le (n := 1000000) (ngI_toInt x) (by decide)).mp c_13; have a6 := (sz_le (n := 10000000) (ngI_toInt x) (by decide)).mp c_15; have a7 := (sz_le (n := 100000000) (ngI_toInt x) (by decide)).mp c_17; have b0 := (sz_lt (n := 1000000000) (ngI_toInt x) (by decide)).mp d_19; rw [intL_len, show sgN x = 1 from if_pos c_1, show sb_dg x.toInt.natAbs = 9 from by unfold sb_dg; (repeat' split) <;> omega]), (by first | with_reducible rfl | (simp [c_1, n_2, c_3, d_3, n_4, c_5, d_5, n_6, c_7, d_7, n_8, c_9, d_9, n_10, c_11, d_11, n_12, c_13, d_13, n_14, c_15, d_15, n_16, c_17, d_17, n_18, c_19, d_19]; done) | rfl)⟩ dJ18_stringSize_30
                                  · -- 24 not taken
                                    have d_17 := Int32.not_le.mp c_17
                                    refine lv_iload_n hx hb dJ18_stringSize_27 rfl (lv_at hl 0 rfl) ?_
                                    refine lv_iload_n hx hb dJ18_stringSize_28 rfl (lv_at hl 2 rfl) ?_
                                    refine lv_iadd hx hb dJ18_stringSize_29 ?_
                                    refine b_top (nI_addE (a := 8) (b := 1) (c := 9) rfl rfl (by first | omega | rfl)) ?_
                                    exact b_iret hx hb hr hlocks hP hD hS (Nat.le_of_ble_eq_true rfl) (Nat.le_of_ble_eq_true rfl) ⟨(by have a0 := (sz_le (n := 10) (ngI_toInt x) (by decide)).mp c_3; have a1 := (sz_le (n := 100) (ngI_toInt x) (by decide)).mp c_5; have a2 := (sz_le (n := 1000) (ngI_toInt x) (by decide)).mp c_7; have a3 := (sz_le (n := 10000) (ngI_toInt x) (by decide)).mp c_9; have a4 := (sz_le (n := 100000) (ngI_toInt x) (by decide)).mp c_11; have a5 := (sz_le (n := 1000000) (ngI_toInt x) (by decide)).mp c_13; have a6 := (sz_le (n := 10000000) (ngI_toInt x) (by decide)).mp c_15; have b0 := (sz_lt (n := 100000000) (ngI_toInt x) (by decide)).mp d_17; rw [intL_len, show sgN x = 1 from if_pos c_1, show sb_dg x.toInt.natAbs = 8 from by unfold sb_dg; (repeat' split) <;> omega]), (by first | with_reducible rfl | (simp [c_1, n_2, c_3, d_3, n_4, c_5, d_5, n_6, c_7, d_7, n_8, c_9, d_9, n_10, c_11, d_11, n_12, c_13, d_13, n_14, c_15, d_15, n_16, c_17, d_17]; done) | rfl)⟩ dJ18_stringSize_30
                              · -- 24 not taken
                                have d_15 := Int32.not_le.mp c_15
                                refine lv_iload_n hx hb dJ18_stringSize_27 rfl (lv_at hl 0 rfl) ?_
                                refine lv_iload_n hx hb dJ18_stringSize_28 rfl (lv_at hl 2 rfl) ?_
                                refine lv_iadd hx hb dJ18_stringSize_29 ?_
                                refine b_top (nI_addE (a := 7) (b := 1) (c := 8) rfl rfl (by first | omega | rfl)) ?_
                                exact b_iret hx hb hr hlocks hP hD hS (Nat.le_of_ble_eq_true rfl) (Nat.le_of_ble_eq_true rfl) ⟨(by have a0 := (sz_le (n := 10) (ngI_toInt x) (by decide)).mp c_3; have a1 := (sz_le (n := 100) (ngI_toInt x) (by decide)).mp c_5; have a2 := (sz_le (n := 1000) (ngI_toInt x) (by decide)).mp c_7; have a3 := (sz_le (n := 10000) (ngI_toInt x) (by decide)).mp c_9; have a4 := (sz_le (n := 100000) (ngI_toInt x) (by decide)).mp c_11; have a5 := (sz_le (n := 1000000) (ngI_toInt x) (by decide)).mp c_13; have b0 := (sz_lt (n := 10000000) (ngI_toInt x) (by decide)).mp d_15; rw [intL_len, show sgN x = 1 from if_pos c_1, show sb_dg x.toInt.natAbs = 7 from by unfold sb_dg; (repeat' split) <;> omega]), (by first | with_reducible rfl | (simp [c_1, n_2, c_3, d_3, n_4, c_5, d_5, n_6, c_7, d_7, n_8, c_9, d_9, n_10, c_11, d_11, n_12, c_13, d_13, n_14, c_15, d_15]; done) | rfl)⟩ dJ18_stringSize_30
                          · -- 24 not taken
                            have d_13 := Int32.not_le.mp c_13
                            refine lv_iload_n hx hb dJ18_stringSize_27 rfl (lv_at hl 0 rfl) ?_
                            refine lv_iload_n hx hb dJ18_stringSize_28 rfl (lv_at hl 2 rfl) ?_
                            refine lv_iadd hx hb dJ18_stringSize_29 ?_
                            refine b_top (nI_addE (a := 6) (b := 1) (c := 7) rfl rfl (by first | omega | rfl)) ?_
                            exact b_iret hx hb hr hlocks hP hD hS (Nat.le_of_ble_eq_true rfl) (Nat.le_of_ble_eq_true rfl) ⟨(by have a0 := (sz_le (n := 10) (ngI_toInt x) (by decide)).mp c_3; have a1 := (sz_le (n := 100) (ngI_toInt x) (by decide)).mp c_5; have a2 := (sz_le (n := 1000) (ngI_toInt x) (by decide)).mp c_7; have a3 := (sz_le (n := 10000) (ngI_toInt x) (by decide)).mp c_9; have a4 := (sz_le (n := 100000) (ngI_toInt x) (by decide)).mp c_11; have b0 := (sz_lt (n := 1000000) (ngI_toInt x) (by decide)).mp d_13; rw [intL_len, show sgN x = 1 from if_pos c_1, show sb_dg x.toInt.natAbs = 6 from by unfold sb_dg; (repeat' split) <;> omega]), (by first | with_reducible rfl | (simp [c_1, n_2, c_3, d_3, n_4, c_5, d_5, n_6, c_7, d_7, n_8, c_9, d_9, n_10, c_11, d_11, n_12, c_13, d_13]; done) | rfl)⟩ dJ18_stringSize_30
                      · -- 24 not taken
                        have d_11 := Int32.not_le.mp c_11
                        refine lv_iload_n hx hb dJ18_stringSize_27 rfl (lv_at hl 0 rfl) ?_
                        refine lv_iload_n hx hb dJ18_stringSize_28 rfl (lv_at hl 2 rfl) ?_
                        refine lv_iadd hx hb dJ18_stringSize_29 ?_
                        refine b_top (nI_addE (a := 5) (b := 1) (c := 6) rfl rfl (by first | omega | rfl)) ?_
                        exact b_iret hx hb hr hlocks hP hD hS (Nat.le_of_ble_eq_true rfl) (Nat.le_of_ble_eq_true rfl) ⟨(by have a0 := (sz_le (n := 10) (ngI_toInt x) (by decide)).mp c_3; have a1 := (sz_le (n := 100) (ngI_toInt x) (by decide)).mp c_5; have a2 := (sz_le (n := 1000) (ngI_toInt x) (by decide)).mp c_7; have a3 := (sz_le (n := 10000) (ngI_toInt x) (by decide)).mp c_9; have b0 := (sz_lt (n := 100000) (ngI_toInt x) (by decide)).mp d_11; rw [intL_len, show sgN x = 1 from if_pos c_1, show sb_dg x.toInt.natAbs = 5 from by unfold sb_dg; (repeat' split) <;> omega]), (by first | with_reducible rfl | (simp [c_1, n_2, c_3, d_3, n_4, c_5, d_5, n_6, c_7, d_7, n_8, c_9, d_9, n_10, c_11, d_11]; done) | rfl)⟩ dJ18_stringSize_30
                  · -- 24 not taken
                    have d_9 := Int32.not_le.mp c_9
                    refine lv_iload_n hx hb dJ18_stringSize_27 rfl (lv_at hl 0 rfl) ?_
                    refine lv_iload_n hx hb dJ18_stringSize_28 rfl (lv_at hl 2 rfl) ?_
                    refine lv_iadd hx hb dJ18_stringSize_29 ?_
                    refine b_top (nI_addE (a := 4) (b := 1) (c := 5) rfl rfl (by first | omega | rfl)) ?_
                    exact b_iret hx hb hr hlocks hP hD hS (Nat.le_of_ble_eq_true rfl) (Nat.le_of_ble_eq_true rfl) ⟨(by have a0 := (sz_le (n := 10) (ngI_toInt x) (by decide)).mp c_3; have a1 := (sz_le (n := 100) (ngI_toInt x) (by decide)).mp c_5; have a2 := (sz_le (n := 1000) (ngI_toInt x) (by decide)).mp c_7; have b0 := (sz_lt (n := 10000) (ngI_toInt x) (by decide)).mp d_9; rw [intL_len, show sgN x = 1 from if_pos c_1, show sb_dg x.toInt.natAbs = 4 from by unfold sb_dg; (repeat' split) <;> omega]), (by first | with_reducible rfl | (simp [c_1, n_2, c_3, d_3, n_4, c_5, d_5, n_6, c_7, d_7, n_8, c_9, d_9]; done) | rfl)⟩ dJ18_stringSize_30
              · -- 24 not taken
                have d_7 := Int32.not_le.mp c_7
                refine lv_iload_n hx hb dJ18_stringSize_27 rfl (lv_at hl 0 rfl) ?_
                refine lv_iload_n hx hb dJ18_stringSize_28 rfl (lv_at hl 2 rfl) ?_
                refine lv_iadd hx hb dJ18_stringSize_29 ?_
                refine b_top (nI_addE (a := 3) (b := 1) (c := 4) rfl rfl (by first | omega | rfl)) ?_
                exact b_iret hx hb hr hlocks hP hD hS (Nat.le_of_ble_eq_true rfl) (Nat.le_of_ble_eq_true rfl) ⟨(by have a0 := (sz_le (n := 10) (ngI_toInt x) (by decide)).mp c_3; have a1 := (sz_le (n := 100) (ngI_toInt x) (by decide)).mp c_5; have b0 := (sz_lt (n := 1000) (ngI_toInt x) (by decide)).mp d_7; rw [intL_len, show sgN x = 1 from if_pos c_1, show sb_dg x.toInt.natAbs = 3 from by unfold sb_dg; (repeat' split) <;> omega]), (by first | with_reducible rfl | (simp [c_1, n_2, c_3, d_3, n_4, c_5, d_5, n_6, c_7, d_7]; done) | rfl)⟩ dJ18_stringSize_30
          · -- 24 not taken
            have d_5 := Int32.not_le.mp c_5
            refine lv_iload_n hx hb dJ18_stringSize_27 rfl (lv_at hl 0 rfl) ?_
            refine lv_iload_n hx hb dJ18_stringSize_28 rfl (lv_at hl 2 rfl) ?_
            refine lv_iadd hx hb dJ18_stringSize_29 ?_
            refine b_top (nI_addE (a := 2) (b := 1) (c := 3) rfl rfl (by first | omega | rfl)) ?_
            exact b_iret hx hb hr hlocks hP hD hS (Nat.le_of_ble_eq_true rfl) (Nat.le_of_ble_eq_true rfl) ⟨(by have a0 := (sz_le (n := 10) (ngI_toInt x) (by decide)).mp c_3; have b0 := (sz_lt (n := 100) (ngI_toInt x) (by decide)).mp d_5; rw [intL_len, show sgN x = 1 from if_pos c_1, show sb_dg x.toInt.natAbs = 2 from by unfold sb_dg; (repeat' split) <;> omega]), (by first | with_reducible rfl | (simp [c_1, n_2, c_3, d_3, n_4, c_5, d_5]; done) | rfl)⟩ dJ18_stringSize_30
      · -- 24 not taken
        have d_3 := Int32.not_le.mp c_3
        refine lv_iload_n hx hb dJ18_stringSize_27 rfl (lv_at hl 0 rfl) ?_
        refine lv_iload_n hx hb dJ18_stringSize_28 rfl (lv_at hl 2 rfl) ?_
        refine lv_iadd hx hb dJ18_stringSize_29 ?_
        refine b_top (nI_addE (a := 1) (b := 1) (c := 2) rfl rfl (by first | omega | rfl)) ?_
        exact b_iret hx hb hr hlocks hP hD hS (Nat.le_of_ble_eq_true rfl) (Nat.le_of_ble_eq_true rfl) ⟨(by have b0 := (sz_lt (n := 10) (ngI_toInt x) (by decide)).mp d_3; rw [intL_len, show sgN x = 1 from if_pos c_1, show sb_dg x.toInt.natAbs = 1 from by unfold sb_dg; (repeat' split) <;> omega]), (by first | with_reducible rfl | (simp [c_1, n_2, c_3, d_3]; done) | rfl)⟩ dJ18_stringSize_30
  · -- 3 not taken
    refine lv_iconst (v := 0) hx hb dJ18_stringSize_6 (by decide) ?_
    refine lv_istore_n (lv' := [(1, .int 0), (0, .int x)]) hx hb dJ18_stringSize_7 rfl hl (by decide) rfl (fun ls hl => ?_)
    refine lv_iload_n hx hb dJ18_stringSize_8 rfl (lv_at hl 1 rfl) ?_
    refine lv_ineg hx hb dJ18_stringSize_9 ?_
    refine lv_istore_n (lv' := [(0, .int (-x)), (1, .int 0)]) hx hb dJ18_stringSize_10 rfl hl (by decide) rfl (fun ls hl => ?_)
    have hl : lv_has ls 4 [(0, .int (ngI x)), (1, .int 0)] := by rw [show ngI x = (-x) from if_neg c_1]; exact hl
    refine lv_bipush (v := (-10)) hx hb dJ18_stringSize_11 (by decide) ?_
    refine lv_istore_n (lv' := [(2, .int (-10)), (0, .int (ngI x)), (1, .int 0)]) hx hb dJ18_stringSize_13 rfl hl (by decide) rfl (fun ls hl => ?_)
    refine lv_iconst (v := 1) hx hb dJ18_stringSize_14 (by decide) ?_
    refine lv_istore_n (lv' := [(3, .int 1), (2, .int (-10)), (0, .int (ngI x)), (1, .int 0)]) hx hb dJ18_stringSize_15 rfl hl (by decide) rfl (fun ls hl => ?_)
    refine lv_iload_n hx hb dJ18_stringSize_16 rfl (lv_at hl 0 rfl) ?_
    refine lv_bipush (v := 10) hx hb dJ18_stringSize_17 (by decide) ?_
    refine lv_icmp_ge (tgt := 42) hx hb dJ18_stringSize_19 (by decide) (fun c_21 => ?_) (fun c_21 => ?_)
    · -- 19 taken
      have n_21 : 10 ≤ 1 := (nI_leI (by omega) (by omega)).mp (show nI 10 ≤ nI 1 from c_21)
      exact absurd n_21 (by omega)
    · -- 19 not taken
      have n_21 : ¬ (10 ≤ 1) := fun h => c_21 ((nI_leI (a := 10) (b := 1) (by omega) (by omega)).mpr h)
      refine lv_iload_n hx hb dJ18_stringSize_22 rfl (lv_at hl 2 rfl) ?_
      refine lv_iload_n hx hb dJ18_stringSize_23 rfl (lv_at hl 1 rfl) ?_
      refine lv_icmp_le (tgt := 31) hx hb dJ18_stringSize_24 (by decide) (fun c_22 => ?_) (fun c_22 => ?_)
      · -- 24 taken
        have d_22 := Int32.not_lt.mpr c_22
        refine lv_bipush (v := 10) hx hb dJ18_stringSize_31 (by decide) ?_
        refine lv_iload_n hx hb dJ18_stringSize_33 rfl (lv_at hl 1 rfl) ?_
        refine lv_imul hx hb dJ18_stringSize_34 ?_
        refine lv_istore_n (lv' := [(2, .int (10 * (-10))), (3, .int 1), (0, .int (ngI x)), (1, .int 0)]) hx hb dJ18_stringSize_35 rfl hl (by decide) rfl (fun ls hl => ?_)
        refine lv_iinc (v := (nI 2)) (lv' := [(3, .int (nI 2)), (2, .int (10 * (-10))), (0, .int (ngI x)), (1, .int 0)]) hx hb dJ18_stringSize_36 hl (k := 1) rfl (nI_addE (a := 1) (b := 1) (c := 2) rfl rfl (by first | omega | rfl)) (by decide) rfl (fun ls hl => ?_)
        refine lv_goto (tgt := 16) hx hb dJ18_stringSize_39 (by decide) ?_
        refine lv_iload_n hx hb dJ18_stringSize_16 rfl (lv_at hl 0 rfl) ?_
        refine lv_bipush (v := 10) hx hb dJ18_stringSize_17 (by decide) ?_
        refine lv_icmp_ge (tgt := 42) hx hb dJ18_stringSize_19 (by decide) (fun c_23 => ?_) (fun c_23 => ?_)
        · -- 19 taken
          have n_23 : 10 ≤ 2 := (nI_leI (by omega) (by omega)).mp (show nI 10 ≤ nI 2 from c_23)
          exact absurd n_23 (by omega)
        · -- 19 not taken
          have n_23 : ¬ (10 ≤ 2) := fun h => c_23 ((nI_leI (a := 10) (b := 2) (by omega) (by omega)).mpr h)
          refine lv_iload_n hx hb dJ18_stringSize_22 rfl (lv_at hl 2 rfl) ?_
          refine lv_iload_n hx hb dJ18_stringSize_23 rfl (lv_at hl 1 rfl) ?_
          refine lv_icmp_le (tgt := 31) hx hb dJ18_stringSize_24 (by decide) (fun c_24 => ?_) (fun c_24 => ?_)
          · -- 24 taken
            have d_24 := Int32.not_lt.mpr c_24
            refine lv_bipush (v := 10) hx hb dJ18_stringSize_31 (by decide) ?_
            refine lv_iload_n hx hb dJ18_stringSize_33 rfl (lv_at hl 1 rfl) ?_
            refine lv_imul hx hb dJ18_stringSize_34 ?_
            refine lv_istore_n (lv' := [(2, .int (10 * (10 * (-10)))), (3, .int (nI 2)), (0, .int (ngI x)), (1, .int 0)]) hx hb dJ18_stringSize_35 rfl hl (by decide) rfl (fun ls hl => ?_)
            refine lv_iinc (v := (nI 3)) (lv' := [(3, .int (nI 3)), (2, .int (10 * (10 * (-10)))), (0, .int (ngI x)), (1, .int 0)]) hx hb dJ18_stringSize_36 hl (k := 1) rfl (nI_addE (a := 2) (b := 1) (c := 3) rfl rfl (by first | omega | rfl)) (by decide) rfl (fun ls hl => ?_)
            refine lv_goto (tgt := 16) hx hb dJ18_stringSize_39 (by decide) ?_
            refine lv_iload_n hx hb dJ18_stringSize_16 rfl (lv_at hl 0 rfl) ?_
            refine lv_bipush (v := 10) hx hb dJ18_stringSize_17 (by decide) ?_
            refine lv_icmp_ge (tgt := 42) hx hb dJ18_stringSize_19 (by decide) (fun c_25 => ?_) (fun c_25 => ?_)
            · -- 19 taken
              have n_25 : 10 ≤ 3 := (nI_leI (by omega) (by omega)).mp (show nI 10 ≤ nI 3 from c_25)
              exact absurd n_25 (by omega)
            · -- 19 not taken
              have n_25 : ¬ (10 ≤ 3) := fun h => c_25 ((nI_leI (a := 10) (b := 3) (by omega) (by omega)).mpr h)
              refine lv_iload_n hx hb dJ18_stringSize_22 rfl (lv_at hl 2 rfl) ?_
              refine lv_iload_n hx hb dJ18_stringSize_23 rfl (lv_at hl 1 rfl) ?_
              refine lv_icmp_le (tgt := 31) hx hb dJ18_stringSize_24 (by decide) (fun c_26 => ?_) (fun c_26 => ?_)
              · -- 24 taken
                have d_26 := Int32.not_lt.mpr c_26
                refine lv_bipush (v := 10) hx hb dJ18_stringSize_31 (by decide) ?_
                refine lv_iload_n hx hb dJ18_stringSize_33 rfl (lv_at hl 1 rfl) ?_
                refine lv_imul hx hb dJ18_stringSize_34 ?_
                refine lv_istore_n (lv' := [(2, .int (10 * (10 * (10 * (-10))))), (3, .int (nI 3)), (0, .int (ngI x)), (1, .int 0)]) hx hb dJ18_stringSize_35 rfl hl (by decide) rfl (fun ls hl => ?_)
                refine lv_iinc (v := (nI 4)) (lv' := [(3, .int (nI 4)), (2, .int (10 * (10 * (10 * (-10))))), (0, .int (ngI x)), (1, .int 0)]) hx hb dJ18_stringSize_36 hl (k := 1) rfl (nI_addE (a := 3) (b := 1) (c := 4) rfl rfl (by first | omega | rfl)) (by decide) rfl (fun ls hl => ?_)
                refine lv_goto (tgt := 16) hx hb dJ18_stringSize_39 (by decide) ?_
                refine lv_iload_n hx hb dJ18_stringSize_16 rfl (lv_at hl 0 rfl) ?_
                refine lv_bipush (v := 10) hx hb dJ18_stringSize_17 (by decide) ?_
                refine lv_icmp_ge (tgt := 42) hx hb dJ18_stringSize_19 (by decide) (fun c_27 => ?_) (fun c_27 => ?_)
                · -- 19 taken
                  have n_27 : 10 ≤ 4 := (nI_leI (by omega) (by omega)).mp (show nI 10 ≤ nI 4 from c_27)
                  exact absurd n_27 (by omega)
                · -- 19 not taken
                  have n_27 : ¬ (10 ≤ 4) := fun h => c_27 ((nI_leI (a := 10) (b := 4) (by omega) (by omega)).mpr h)
                  refine lv_iload_n hx hb dJ18_stringSize_22 rfl (lv_at hl 2 rfl) ?_
                  refine lv_iload_n hx hb dJ18_stringSize_23 rfl (lv_at hl 1 rfl) ?_
                  refine lv_icmp_le (tgt := 31) hx hb dJ18_stringSize_24 (by decide) (fun c_28 => ?_) (fun c_28 => ?_)
                  · -- 24 taken
                    have d_28 := Int32.not_lt.mpr c_28
                    refine lv_bipush (v := 10) hx hb dJ18_stringSize_31 (by decide) ?_
                    refine lv_iload_n hx hb dJ18_stringSize_33 rfl (lv_at hl 1 rfl) ?_
                    refine lv_imul hx hb dJ18_stringSize_34 ?_
                    refine lv_istore_n (lv' := [(2, .int (10 * (10 * (10 * (10 * (-10)))))), (3, .int (nI 4)), (0, .int (ngI x)), (1, .int 0)]) hx hb dJ18_stringSize_35 rfl hl (by decide) rfl (fun ls hl => ?_)
                    refine lv_iinc (v := (nI 5)) (lv' := [(3, .int (nI 5)), (2, .int (10 * (10 * (10 * (10 * (-10)))))), (0, .int (ngI x)), (1, .int 0)]) hx hb dJ18_stringSize_36 hl (k := 1) rfl (nI_addE (a := 4) (b := 1) (c := 5) rfl rfl (by first | omega | rfl)) (by decide) rfl (fun ls hl => ?_)
                    refine lv_goto (tgt := 16) hx hb dJ18_stringSize_39 (by decide) ?_
                    refine lv_iload_n hx hb dJ18_stringSize_16 rfl (lv_at hl 0 rfl) ?_
                    refine lv_bipush (v := 10) hx hb dJ18_stringSize_17 (by decide) ?_
                    refine lv_icmp_ge (tgt := 42) hx hb dJ18_stringSize_19 (by decide) (fun c_29 => ?_) (fun c_29 => ?_)
                    · -- 19 taken
                      have n_29 : 10 ≤ 5 := (nI_leI (by omega) (by omega)).mp (show nI 10 ≤ nI 5 from c_29)
                      exact absurd n_29 (by omega)
                    · -- 19 not taken
                      have n_29 : ¬ (10 ≤ 5) := fun h => c_29 ((nI_leI (a := 10) (b := 5) (by omega) (by omega)).mpr h)
                      refine lv_iload_n hx hb dJ18_stringSize_22 rfl (lv_at hl 2 rfl) ?_
                      refine lv_iload_n hx hb dJ18_stringSize_23 rfl (lv_at hl 1 rfl) ?_
                      refine lv_icmp_le (tgt := 31) hx hb dJ18_stringSize_24 (by decide) (fun c_30 => ?_) (fun c_30 => ?_)
                      · -- 24 taken
                        have d_30 := Int32.not_lt.mpr c_30
                        refine lv_bipush (v := 10) hx hb dJ18_stringSize_31 (by decide) ?_
                        refine lv_iload_n hx hb dJ18_stringSize_33 rfl (lv_at hl 1 rfl) ?_
                        refine lv_imul hx hb dJ18_stringSize_34 ?_
                        refine lv_istore_n (lv' := [(2, .int (10 * (10 * (10 * (10 * (10 * (-10))))))), (3, .int (nI 5)), (0, .int (ngI x)), (1, .int 0)]) hx hb dJ18_stringSize_35 rfl hl (by decide) rfl (fun ls hl => ?_)
                        refine lv_iinc (v := (nI 6)) (lv' := [(3, .int (nI 6)), (2, .int (10 * (10 * (10 * (10 * (10 * (-10))))))), (0, .int (ngI x)), (1, .int 0)]) hx hb dJ18_stringSize_36 hl (k := 1) rfl (nI_addE (a := 5) (b := 1) (c := 6) rfl rfl (by first | omega | rfl)) (by decide) rfl (fun ls hl => ?_)
                        refine lv_goto (tgt := 16) hx hb dJ18_stringSize_39 (by decide) ?_
                        refine lv_iload_n hx hb dJ18_stringSize_16 rfl (lv_at hl 0 rfl) ?_
                        refine lv_bipush (v := 10) hx hb dJ18_stringSize_17 (by decide) ?_
                        refine lv_icmp_ge (tgt := 42) hx hb dJ18_stringSize_19 (by decide) (fun c_31 => ?_) (fun c_31 => ?_)
                        · -- 19 taken
                          have n_31 : 10 ≤ 6 := (nI_leI (by omega) (by omega)).mp (show nI 10 ≤ nI 6 from c_31)
                          exact absurd n_31 (by omega)
                        · -- 19 not taken
                          have n_31 : ¬ (10 ≤ 6) := fun h => c_31 ((nI_leI (a := 10) (b := 6) (by omega) (by omega)).mpr h)
                          refine lv_iload_n hx hb dJ18_stringSize_22 rfl (lv_at hl 2 rfl) ?_
                          refine lv_iload_n hx hb dJ18_stringSize_23 rfl (lv_at hl 1 rfl) ?_
                          refine lv_icmp_le (tgt := 31) hx hb dJ18_stringSize_24 (by decide) (fun c_32 => ?_) (fun c_32 => ?_)
                          · -- 24 taken
                            have d_32 := Int32.not_lt.mpr c_32
                            refine lv_bipush (v := 10) hx hb dJ18_stringSize_31 (by decide) ?_
                            refine lv_iload_n hx hb dJ18_stringSize_33 rfl (lv_at hl 1 rfl) ?_
                            refine lv_imul hx hb dJ18_stringSize_34 ?_
                            refine lv_istore_n (lv' := [(2, .int (10 * (10 * (10 * (10 * (10 * (10 * (-10)))))))), (3, .int (nI 6)), (0, .int (ngI x)), (1, .int 0)]) hx hb dJ18_stringSize_35 rfl hl (by decide) rfl (fun ls hl => ?_)
                            refine lv_iinc (v := (nI 7)) (lv' := [(3, .int (nI 7)), (2, .int (10 * (10 * (10 * (10 * (10 * (10 * (-10)))))))), (0, .int (ngI x)), (1, .int 0)]) hx hb dJ18_stringSize_36 hl (k := 1) rfl (nI_addE (a := 6) (b := 1) (c := 7) rfl rfl (by first | omega | rfl)) (by decide) rfl (fun ls hl => ?_)
                            refine lv_goto (tgt := 16) hx hb dJ18_stringSize_39 (by decide) ?_
                            refine lv_iload_n hx hb dJ18_stringSize_16 rfl (lv_at hl 0 rfl) ?_
                            refine lv_bipush (v := 10) hx hb dJ18_stringSize_17 (by decide) ?_
                            refine lv_icmp_ge (tgt := 42) hx hb dJ18_stringSize_19 (by decide) (fun c_33 => ?_) (fun c_33 => ?_)
                            · -- 19 taken
                              have n_33 : 10 ≤ 7 := (nI_leI (by omega) (by omega)).mp (show nI 10 ≤ nI 7 from c_33)
                              exact absurd n_33 (by omega)
                            · -- 19 not taken
                              have n_33 : ¬ (10 ≤ 7) := fun h => c_33 ((nI_leI (a := 10) (b := 7) (by omega) (by omega)).mpr h)
                              refine lv_iload_n hx hb dJ18_stringSize_22 rfl (lv_at hl 2 rfl) ?_
                              refine lv_iload_n hx hb dJ18_stringSize_23 rfl (lv_at hl 1 rfl) ?_
                              refine lv_icmp_le (tgt := 31) hx hb dJ18_stringSize_24 (by decide) (fun c_34 => ?_) (fun c_34 => ?_)
                              · -- 24 taken
                                have d_34 := Int32.not_lt.mpr c_34
                                refine lv_bipush (v := 10) hx hb dJ18_stringSize_31 (by decide) ?_
                                refine lv_iload_n hx hb dJ18_stringSize_33 rfl (lv_at hl 1 rfl) ?_
                                refine lv_imul hx hb dJ18_stringSize_34 ?_
                                refine lv_istore_n (lv' := [(2, .int (10 * (10 * (10 * (10 * (10 * (10 * (10 * (-10))))))))), (3, .int (nI 7)), (0, .int (ngI x)), (1, .int 0)]) hx hb dJ18_stringSize_35 rfl hl (by decide) rfl (fun ls hl => ?_)
                                refine lv_iinc (v := (nI 8)) (lv' := [(3, .int (nI 8)), (2, .int (10 * (10 * (10 * (10 * (10 * (10 * (10 * (-10))))))))), (0, .int (ngI x)), (1, .int 0)]) hx hb dJ18_stringSize_36 hl (k := 1) rfl (nI_addE (a := 7) (b := 1) (c := 8) rfl rfl (by first | omega | rfl)) (by decide) rfl (fun ls hl => ?_)
                                refine lv_goto (tgt := 16) hx hb dJ18_stringSize_39 (by decide) ?_
                                refine lv_iload_n hx hb dJ18_stringSize_16 rfl (lv_at hl 0 rfl) ?_
                                refine lv_bipush (v := 10) hx hb dJ18_stringSize_17 (by decide) ?_
                                refine lv_icmp_ge (tgt := 42) hx hb dJ18_stringSize_19 (by decide) (fun c_35 => ?_) (fun c_35 => ?_)
                                · -- 19 taken
                                  have n_35 : 10 ≤ 8 := (nI_leI (by omega) (by omega)).mp (show nI 10 ≤ nI 8 from c_35)
                                  exact absurd n_35 (by omega)
                                · -- 19 not taken
                                  have n_35 : ¬ (10 ≤ 8) := fun h => c_35 ((nI_leI (a := 10) (b := 8) (by omega) (by omega)).mpr h)
                                  refine lv_iload_n hx hb dJ18_stringSize_22 rfl (lv_at hl 2 rfl) ?_
                                  refine lv_iload_n hx hb dJ18_stringSize_23 rfl (lv_at hl 1 rfl) ?_
                                  refine lv_icmp_le (tgt := 31) hx hb dJ18_stringSize_24 (by decide) (fun c_36 => ?_) (fun c_36 => ?_)
                                  · -- 24 taken
                                    have d_36 := Int32.not_lt.mpr c_36
                                    refine lv_bipush (v := 10) hx hb dJ18_stringSize_31 (by decide) ?_
                                    refine lv_iload_n hx hb dJ18_stringSize_33 rfl (lv_at hl 1 rfl) ?_
                                    refine lv_imul hx hb dJ18_stringSize_34 ?_
                                    refine lv_istore_n (lv' := [(2, .int (10 * (10 * (10 * (10 * (10 * (10 * (10 * (10 * (-10)))))))))), (3, .int (nI 8)), (0, .int (ngI x)), (1, .int 0)]) hx hb dJ18_stringSize_35 rfl hl (by decide) rfl (fun ls hl => ?_)
                                    refine lv_iinc (v := (nI 9)) (lv' := [(3, .int (nI 9)), (2, .int (10 * (10 * (10 * (10 * (10 * (10 * (10 * (10 * (-10)))))))))), (0, .int (ngI x)), (1, .int 0)]) hx hb dJ18_stringSize_36 hl (k := 1) rfl (nI_addE (a := 8) (b := 1) (c := 9) rfl rfl (by first | omega | rfl)) (by decide) rfl (fun ls hl => ?_)
                                    refine lv_goto (tgt := 16) hx hb dJ18_stringSize_39 (by decide) ?_
                                    refine lv_iload_n hx hb dJ18_stringSize_16 rfl (lv_at hl 0 rfl) ?_
                                    refine lv_bipush (v := 10) hx hb dJ18_stringSize_17 (by decide) ?_
                                    refine lv_icmp_ge (tgt := 42) hx hb dJ18_stringSize_19 (by decide) (fun c_37 => ?_) (fun c_37 => ?_)
                                    · -- 19 taken
                                      have n_37 : 10 ≤ 9 := (nI_leI (by omega) (by omega)).mp (show nI 10 ≤ nI 9 from c_37)
                                      exact absurd n_37 (by omega)
                                    · -- 19 not taken
                                      have n_37 : ¬ (10 ≤ 9) := fun h => c_37 ((nI_leI (a := 10) (b := 9) (by omega) (by omega)).mpr h)
                                      refine lv_iload_n hx hb dJ18_stringSize_22 rfl (lv_at hl 2 rfl) ?_
                                      refine lv_iload_n hx hb dJ18_stringSize_23 rfl (lv_at hl 1 rfl) ?_
                                      refine lv_icmp_le (tgt := 31) hx hb dJ18_stringSize_24 (by decide) (fun c_38 => ?_) (fun c_38 => ?_)
                                      · -- 24 taken
                                        have d_38 := Int32.not_lt.mpr c_38
                                        refine lv_bipush (v := 10) hx hb dJ18_stringSize_31 (by decide) ?_
                                        refine lv_iload_n hx hb dJ18_stringSize_33 rfl (lv_at hl 1 rfl) ?_
                                        refine lv_imul hx hb dJ18_stringSize_34 ?_
                                        refine lv_istore_n (lv' := [(2, .int (10 * (10 * (10 * (10 * (10 * (10 * (10 * (10 * (10 * (-10))))))))))), (3, .int (nI 9)), (0, .int (ngI x)), (1, .int 0)]) hx hb dJ18_stringSize_35 rfl hl (by decide) rfl (fun ls hl => ?_)
                                        refine lv_iinc (v := (nI 10)) (lv' := [(3, .int (nI 10)), (2, .int (10 * (10 * (10 * (10 * (10 * (10 * (10 * (10 * (10 * (-10))))))))))), (0, .int (ngI x)), (1, .int 0)]) hx hb dJ18_stringSize_36 hl (k := 1) rfl (nI_addE (a := 9) (b := 1) (c := 10) rfl rfl (by first | omega | rfl)) (by decide) rfl (fun ls hl => ?_)
                                        refine lv_goto (tgt := 16) hx hb dJ18_stringSize_39 (by decide) ?_
                                        refine lv_iload_n hx hb dJ18_stringSize_16 rfl (lv_at hl 0 rfl) ?_
                                        refine lv_bipush (v := 10) hx hb dJ18_stringSize_17 (by decide) ?_
                                        refine lv_icmp_ge (tgt := 42) hx hb dJ18_stringSize_19 (by decide) (fun c_39 => ?_) (fun c_39 => ?_)
                                        · -- 19 taken
                                          have n_39 : 10 ≤ 10 := (nI_leI (by omega) (by omega)).mp (show nI 10 ≤ nI 10 from c_39)
                                          refine lv_bipush (v := 10) hx hb dJ18_stringSize_42 (by decide) ?_
                                          refine lv_iload_n hx hb dJ18_stringSize_44 rfl (lv_at hl 3 rfl) ?_
                                          refine lv_iadd hx hb dJ18_stringSize_45 ?_
                                          refine b_top (nI_addE (a := 10) (b := 0) (c := 10) rfl rfl (by first | omega | rfl)) ?_
                                          exact b_iret hx hb hr hlocks hP hD hS (Nat.le_of_ble_eq_true rfl) (Nat.le_of_ble_eq_true rfl) ⟨(by have a0 := (sz_le (n := 10) (ngI_toInt x) (by decide)).mp c_22; have a1 := (sz_le (n := 100) (ngI_toInt x) (by decide)).mp c_24; have a2 := (sz_le (n := 1000) (ngI_toInt x) (by decide)).mp c_26; have a3 := (sz_le (n := 10000) (ngI_toInt x) (by decide)).mp c_28; have a4 := (sz_le (n := 100000) (ngI_toInt x) (by decide)).mp c_30; have a5 := (sz_le (n := 1000000) (ngI_toInt x) (by decide)).mp c_32; have a6 := (sz_le (n := 10000000) (ngI_toInt x) (by decide)).mp c_34; have a7 := (sz_le (n := 100000000) (ngI_toInt x) (by decide)).mp c_36; have a8 := (sz_le (n := 1000000000) (ngI_toInt x) (by decide)).mp c_38; rw [intL_len, show sgN x = 0 from if_neg c_1, show sb_dg x.toInt.natAbs = 10 from by unfold sb_dg; (repeat' split) <;> omega]), (by first | with_reducible rfl | (simp [c_1, n_21, c_22, d_22, n_23, c_24, d_24, n_25, c_26, d_26, n_27, c_28, d_28, n_29, c_30, d_30, n_31, c_32, d_32, n_33, c_34, d_34, n_35, c_36, d_36, n_37, c_38, d_38, n_39]; done) | rfl)⟩ dJ18_stringSize_46
                                        · -- 19 not taken
                                          have n_39 : ¬ (10 ≤ 10) := fun h => c_39 ((nI_leI (a := 10) (b := 10) (by omega) (by omega)).mpr h)
                                          exact absurd n_39 (by omega)
                                      · -- 24 not taken
                                        have d_38 := Int32.not_le.mp c_38
                                        refine lv_iload_n hx hb dJ18_stringSize_27 rfl (lv_at hl 0 rfl) ?_
                                        refine lv_iload_n hx hb dJ18_stringSize_28 rfl (lv_at hl 3 rfl) ?_
                                        refine lv_iadd hx hb dJ18_stringSize_29 ?_
                                        refine b_top (nI_addE (a := 9) (b := 0) (c := 9) rfl rfl (by first | omega | rfl)) ?_
                                        exact b_iret hx hb hr hlocks hP hD hS (Nat.le_of_ble_eq_true rfl) (Nat.le_of_ble_eq_true rfl) ⟨(by have a0 := (sz_le (n := 10) (ngI_toInt x) (by decide)).mp c_22; have a1 := (sz_le (n := 100) (ngI_toInt x) (by decide)).mp c_24; have a2 := (sz_le (n := 1000) (ngI_toInt x) (by decide)).mp c_26; have a3 := (sz_le (n := 10000) (ngI_toInt x) (by decide)).mp c_28; have a4 := (sz_le (n := 100000) (ngI_toInt x) (by decide)).mp c_30; have a5 := (sz_le (n := 1000000) (ngI_toInt x) (by decide)).mp c_32; have a6 := (sz_le (n := 10000000) (ngI_toInt x) (by decide)).mp c_34; have a7 := (sz_le (n := 100000000) (ngI_toInt x) (by decide)).mp c_36; have b0 := (sz_lt (n := 1000000000) (ngI_toInt x) (by decide)).mp d_38; rw [intL_len, show sgN x = 0 from if_neg c_1, show sb_dg x.toInt.natAbs = 9 from by unfold sb_dg; (repeat' split) <;> omega]), (by first | with_reducible rfl | (simp [c_1, n_21, c_22, d_22, n_23, c_24, d_24, n_25, c_26, d_26, n_27, c_28, d_28, n_29, c_30, d_30, n_31, c_32, d_32, n_33, c_34, d_34, n_35, c_36, d_36, n_37, c_38, d_38]; done) | rfl)⟩ dJ18_stringSize_30
                                  · -- 24 not taken
                                    have d_36 := Int32.not_le.mp c_36
                                    refine lv_iload_n hx hb dJ18_stringSize_27 rfl (lv_at hl 0 rfl) ?_
                                    refine lv_iload_n hx hb dJ18_stringSize_28 rfl (lv_at hl 3 rfl) ?_
                                    refine lv_iadd hx hb dJ18_stringSize_29 ?_
                                    refine b_top (nI_addE (a := 8) (b := 0) (c := 8) rfl rfl (by first | omega | rfl)) ?_
                                    exact b_iret hx hb hr hlocks hP hD hS (Nat.le_of_ble_eq_true rfl) (Nat.le_of_ble_eq_true rfl) ⟨(by have a0 := (sz_le (n := 10) (ngI_toInt x) (by decide)).mp c_22; have a1 := (sz_le (n := 100) (ngI_toInt x) (by decide)).mp c_24; have a2 := (sz_le (n := 1000) (ngI_toInt x) (by decide)).mp c_26; have a3 := (sz_le (n := 10000) (ngI_toInt x) (by decide)).mp c_28; have a4 := (sz_le (n := 100000) (ngI_toInt x) (by decide)).mp c_30; have a5 := (sz_le (n := 1000000) (ngI_toInt x) (by decide)).mp c_32; have a6 := (sz_le (n := 10000000) (ngI_toInt x) (by decide)).mp c_34; have b0 := (sz_lt (n := 100000000) (ngI_toInt x) (by decide)).mp d_36; rw [intL_len, show sgN x = 0 from if_neg c_1, show sb_dg x.toInt.natAbs = 8 from by unfold sb_dg; (repeat' split) <;> omega]), (by first | with_reducible rfl | (simp [c_1, n_21, c_22, d_22, n_23, c_24, d_24, n_25, c_26, d_26, n_27, c_28, d_28, n_29, c_30, d_30, n_31, c_32, d_32, n_33, c_34, d_34, n_35, c_36, d_36]; done) | rfl)⟩ dJ18_stringSize_30
                              · -- 24 not taken
                                have d_34 := Int32.not_le.mp c_34
                                refine lv_iload_n hx hb dJ18_stringSize_27 rfl (lv_at hl 0 rfl) ?_
                                refine lv_iload_n hx hb dJ18_stringSize_28 rfl (lv_at hl 3 rfl) ?_
                                refine lv_iadd hx hb dJ18_stringSize_29 ?_
                                refine b_top (nI_addE (a := 7) (b := 0) (c := 7) rfl rfl (by first | omega | rfl)) ?_
                                exact b_iret hx hb hr hlocks hP hD hS (Nat.le_of_ble_eq_true rfl) (Nat.le_of_ble_eq_true rfl) ⟨(by have a0 := (sz_le (n := 10) (ngI_toInt x) (by decide)).mp c_22; have a1 := (sz_le (n := 100) (ngI_toInt x) (by decide)).mp c_24; have a2 := (sz_le (n := 1000) (ngI_toInt x) (by decide)).mp c_26; have a3 := (sz_le (n := 10000) (ngI_toInt x) (by decide)).mp c_28; have a4 := (sz_le (n := 100000) (ngI_toInt x) (by decide)).mp c_30; have a5 := (sz_le (n := 1000000) (ngI_toInt x) (by decide)).mp c_32; have b0 := (sz_lt (n := 10000000) (ngI_toInt x) (by decide)).mp d_34; rw [intL_len, show sgN x = 0 from if_neg c_1, show sb_dg x.toInt.natAbs = 7 from by unfold sb_dg; (repeat' split) <;> omega]), (by first | with_reducible rfl | (simp [c_1, n_21, c_22, d_22, n_23, c_24, d_24, n_25, c_26, d_26, n_27, c_28, d_28, n_29, c_30, d_30, n_31, c_32, d_32, n_33, c_34, d_34]; done) | rfl)⟩ dJ18_stringSize_30
                          · -- 24 not taken
                            have d_32 := Int32.not_le.mp c_32
                            refine lv_iload_n hx hb dJ18_stringSize_27 rfl (lv_at hl 0 rfl) ?_
                            refine lv_iload_n hx hb dJ18_stringSize_28 rfl (lv_at hl 3 rfl) ?_
                            refine lv_iadd hx hb dJ18_stringSize_29 ?_
                            refine b_top (nI_addE (a := 6) (b := 0) (c := 6) rfl rfl (by first | omega | rfl)) ?_
                            exact b_iret hx hb hr hlocks hP hD hS (Nat.le_of_ble_eq_true rfl) (Nat.le_of_ble_eq_true rfl) ⟨(by have a0 := (sz_le (n := 10) (ngI_toInt x) (by decide)).mp c_22; have a1 := (sz_le (n := 100) (ngI_toInt x) (by decide)).mp c_24; have a2 := (sz_le (n := 1000) (ngI_toInt x) (by decide)).mp c_26; have a3 := (sz_le (n := 10000) (ngI_toInt x) (by decide)).mp c_28; have a4 := (sz_le (n := 100000) (ngI_toInt x) (by decide)).mp c_30; have b0 := (sz_lt (n := 1000000) (ngI_toInt x) (by decide)).mp d_32; rw [intL_len, show sgN x = 0 from if_neg c_1, show sb_dg x.toInt.natAbs = 6 from by unfold sb_dg; (repeat' split) <;> omega]), (by first | with_reducible rfl | (simp [c_1, n_21, c_22, d_22, n_23, c_24, d_24, n_25, c_26, d_26, n_27, c_28, d_28, n_29, c_30, d_30, n_31, c_32, d_32]; done) | rfl)⟩ dJ18_stringSize_30
                      · -- 24 not taken
                        have d_30 := Int32.not_le.mp c_30
                        refine lv_iload_n hx hb dJ18_stringSize_27 rfl (lv_at hl 0 rfl) ?_
                        refine lv_iload_n hx hb dJ18_stringSize_28 rfl (lv_at hl 3 rfl) ?_
                        refine lv_iadd hx hb dJ18_stringSize_29 ?_
                        refine b_top (nI_addE (a := 5) (b := 0) (c := 5) rfl rfl (by first | omega | rfl)) ?_
                        exact b_iret hx hb hr hlocks hP hD hS (Nat.le_of_ble_eq_true rfl) (Nat.le_of_ble_eq_true rfl) ⟨(by have a0 := (sz_le (n := 10) (ngI_toInt x) (by decide)).mp c_22; have a1 := (sz_le (n := 100) (ngI_toInt x) (by decide)).mp c_24; have a2 := (sz_le (n := 1000) (ngI_toInt x) (by decide)).mp c_26; have a3 := (sz_le (n := 10000) (ngI_toInt x) (by decide)).mp c_28; have b0 := (sz_lt (n := 100000) (ngI_toInt x) (by decide)).mp d_30; rw [intL_len, show sgN x = 0 from if_neg c_1, show sb_dg x.toInt.natAbs = 5 from by unfold sb_dg; (repeat' split) <;> omega]), (by first | with_reducible rfl | (simp [c_1, n_21, c_22, d_22, n_23, c_24, d_24, n_25, c_26, d_26, n_27, c_28, d_28, n_29, c_30, d_30]; done) | rfl)⟩ dJ18_stringSize_30
                  · -- 24 not taken
                    have d_28 := Int32.not_le.mp c_28
                    refine lv_iload_n hx hb dJ18_stringSize_27 rfl (lv_at hl 0 rfl) ?_
                    refine lv_iload_n hx hb dJ18_stringSize_28 rfl (lv_at hl 3 rfl) ?_
                    refine lv_iadd hx hb dJ18_stringSize_29 ?_
                    refine b_top (nI_addE (a := 4) (b := 0) (c := 4) rfl rfl (by first | omega | rfl)) ?_
                    exact b_iret hx hb hr hlocks hP hD hS (Nat.le_of_ble_eq_true rfl) (Nat.le_of_ble_eq_true rfl) ⟨(by have a0 := (sz_le (n := 10) (ngI_toInt x) (by decide)).mp c_22; have a1 := (sz_le (n := 100) (ngI_toInt x) (by decide)).mp c_24; have a2 := (sz_le (n := 1000) (ngI_toInt x) (by decide)).mp c_26; have b0 := (sz_lt (n := 10000) (ngI_toInt x) (by decide)).mp d_28; rw [intL_len, show sgN x = 0 from if_neg c_1, show sb_dg x.toInt.natAbs = 4 from by unfold sb_dg; (repeat' split) <;> omega]), (by first | with_reducible rfl | (simp [c_1, n_21, c_22, d_22, n_23, c_24, d_24, n_25, c_26, d_26, n_27, c_28, d_28]; done) | rfl)⟩ dJ18_stringSize_30
              · -- 24 not taken
                have d_26 := Int32.not_le.mp c_26
                refine lv_iload_n hx hb dJ18_stringSize_27 rfl (lv_at hl 0 rfl) ?_
                refine lv_iload_n hx hb dJ18_stringSize_28 rfl (lv_at hl 3 rfl) ?_
                refine lv_iadd hx hb dJ18_stringSize_29 ?_
                refine b_top (nI_addE (a := 3) (b := 0) (c := 3) rfl rfl (by first | omega | rfl)) ?_
                exact b_iret hx hb hr hlocks hP hD hS (Nat.le_of_ble_eq_true rfl) (Nat.le_of_ble_eq_true rfl) ⟨(by have a0 := (sz_le (n := 10) (ngI_toInt x) (by decide)).mp c_22; have a1 := (sz_le (n := 100) (ngI_toInt x) (by decide)).mp c_24; have b0 := (sz_lt (n := 1000) (ngI_toInt x) (by decide)).mp d_26; rw [intL_len, show sgN x = 0 from if_neg c_1, show sb_dg x.toInt.natAbs = 3 from by unfold sb_dg; (repeat' split) <;> omega]), (by first | with_reducible rfl | (simp [c_1, n_21, c_22, d_22, n_23, c_24, d_24, n_25, c_26, d_26]; done) | rfl)⟩ dJ18_stringSize_30
          · -- 24 not taken
            have d_24 := Int32.not_le.mp c_24
            refine lv_iload_n hx hb dJ18_stringSize_27 rfl (lv_at hl 0 rfl) ?_
            refine lv_iload_n hx hb dJ18_stringSize_28 rfl (lv_at hl 3 rfl) ?_
            refine lv_iadd hx hb dJ18_stringSize_29 ?_
            refine b_top (nI_addE (a := 2) (b := 0) (c := 2) rfl rfl (by first | omega | rfl)) ?_
            exact b_iret hx hb hr hlocks hP hD hS (Nat.le_of_ble_eq_true rfl) (Nat.le_of_ble_eq_true rfl) ⟨(by have a0 := (sz_le (n := 10) (ngI_toInt x) (by decide)).mp c_22; have b0 := (sz_lt (n := 100) (ngI_toInt x) (by decide)).mp d_24; rw [intL_len, show sgN x = 0 from if_neg c_1, show sb_dg x.toInt.natAbs = 2 from by unfold sb_dg; (repeat' split) <;> omega]), (by first | with_reducible rfl | (simp [c_1, n_21, c_22, d_22, n_23, c_24, d_24]; done) | rfl)⟩ dJ18_stringSize_30
      · -- 24 not taken
        have d_22 := Int32.not_le.mp c_22
        refine lv_iload_n hx hb dJ18_stringSize_27 rfl (lv_at hl 0 rfl) ?_
        refine lv_iload_n hx hb dJ18_stringSize_28 rfl (lv_at hl 3 rfl) ?_
        refine lv_iadd hx hb dJ18_stringSize_29 ?_
        refine b_top (nI_addE (a := 1) (b := 0) (c := 1) rfl rfl (by first | omega | rfl)) ?_
        exact b_iret hx hb hr hlocks hP hD hS (Nat.le_of_ble_eq_true rfl) (Nat.le_of_ble_eq_true rfl) ⟨(by have b0 := (sz_lt (n := 10) (ngI_toInt x) (by decide)).mp d_22; rw [intL_len, show sgN x = 0 from if_neg c_1, show sb_dg x.toInt.natAbs = 1 from by unfold sb_dg; (repeat' split) <;> omega]), (by first | with_reducible rfl | (simp [c_1, n_21, c_22, d_22]; done) | rfl)⟩ dJ18_stringSize_30
set_option maxHeartbeats 4000000 in
set_option maxRecDepth 100000 in
theorem mt_getChars (l : Launch) (Γ : GE) (sz : Nat) (x : Int32) (p : Nat) (d : Nat) (n : Nat) (f : Nat → Int32) (hn : p + (intL x).length ≤ n) (hn2 : n ≤ 4096) : KM l yJ18_getChars cJ18_getChars 7 (some FieldType.int) Γ 0 0 0 0 [.int x, .int (nI (p + (intL x).length)), .ref d] [[(d, .inl (Γ.2.1 1, n, .inl f))]] [] sz (Qi Γ (fun r_ u_ => r_ = (nI p) ∧ u_ = [[(d, .inl (Γ.2.1 1, n, .inl (putL f p (intL x))))]])) := by
  refine K_intro (by decide) (Nat.le_of_ble_eq_true rfl) ?_
  intro pr_ ev_ s mi_ below meth cd_ A ls hx hb hr hml hown hts hlocks hname hK hE hRo hP hD hA hS hsz hl
  have hl : lv_has ls 7 [(0, .int x), (1, .int (nI (p + (intL x).length))), (2, .ref d)] := hl
  have hown : s.vm.findClass RJ18 = some mi_.cls := hown
  refine lv_iload_n hx hb dJ18_getChars_0 rfl (lv_at hl 1 rfl) ?_
  refine lv_istore (lv' := [(5, .int (nI (p + (intL x).length))), (0, .int x), (1, .int (nI (p + (intL x).length))), (2, .ref d)]) hx hb dJ18_getChars_1 hl (by decide) rfl (fun ls hl => ?_)
  refine lv_iload_n hx hb dJ18_getChars_3 rfl (lv_at hl 1 rfl) ?_
  refine lv_if_ge (tgt := 11) hx hb dJ18_getChars_4 (by decide) (fun c_1 => ?_) (fun c_1 => ?_)
  · -- 4 taken
    have d_1 := Int32.not_lt.mpr c_1
    refine lv_iconst (v := 0) hx hb dJ18_getChars_11 (by decide) ?_
    refine lv_istore (lv' := [(6, .int 0), (5, .int (nI (p + (intL x).length))), (0, .int x), (1, .int (nI (p + (intL x).length))), (2, .ref d)]) hx hb dJ18_getChars_12 hl (by decide) rfl (fun ls hl => ?_)
    refine lv_iload hx hb dJ18_getChars_14 (lv_at hl 0 rfl) ?_
    refine lv_if_ne (tgt := 22) hx hb dJ18_getChars_16 (by decide) (fun c_2 => ?_) (fun c_2 => ?_)
    · -- 16 taken
      have n_2 : ¬ (0 = 0) := fun h => c_2 ((nI_eq (a := 0) (b := 0) (by omega) (by omega)).mpr h)
      exact absurd n_2 (by omega)
    · -- 16 not taken
      have n_2 : 0 = 0 := (nI_eq (by omega) (by omega)).mp (show nI 0 = nI 0 from c_2)
      refine lv_iload_n hx hb dJ18_getChars_19 rfl (lv_at hl 2 rfl) ?_
      refine lv_ineg hx hb dJ18_getChars_20 ?_
      refine lv_istore_n (lv' := [(0, .int (-x)), (6, .int 0), (5, .int (nI (p + (intL x).length))), (1, .int (nI (p + (intL x).length))), (2, .ref d)]) hx hb dJ18_getChars_21 rfl hl (by decide) rfl (fun ls hl => ?_)
      have hsg : sgN x = 0 := if_neg (Int32.not_lt.mpr c_1)
      have hl : lv_has ls 7 [(0, .int (ngI x)), (6, .int 0), (5, .int (nI (p + (intL x).length))), (1, .int (nI (p + (intL x).length))), (2, .ref d)] := by rw [show ngI x = (-x) from if_neg (Int32.not_lt.mpr c_1)]; exact hl
      have hil := intL_len x
      have hab := abs_le x
      have loop_3 : ∀ (fuel : Nat) (i : Int32) (w : Nat) (pos : Nat) (g : Nat → Int32) (fu : Nat), w < fuel → (i.toInt = -(w : Int)) → (w ≤ 2 ^ 31) → (w < 10 ^ (2 * fu + 1)) → (pos = p + sgN x + sb_dg w) → (pos ≤ n) → (putL g (p + sgN x) (decF fu w) = putL f (p + sgN x) (decL x.toInt.natAbs)) → ∀ (H : Heap) (locs : List Loc) (ls : Array Slot), WP Γ [[(d, .inl (Γ.2.1 1, n, .inl g))]] H → WD A [[(d, .inl (Γ.2.1 1, n, .inl g))]] → va_S A s.heap H locs → lv_has ls 7 [(0, .int i), (5, .int (nI pos)), (6, .int 0), (2, .ref d)] → W pr_ l ev_ { frames := 0, cells := 0, slots := 0, locals := 0 } s mi_ ([.int x, .int (nI (p + (intL x).length)), .ref d] : List Value).toArray below meth cd_ H locs 0 0 (MQ below (Qi Γ (fun r_ u_ => r_ = (nI p) ∧ u_ = [[(d, .inl (Γ.2.1 1, n, .inl (putL f p (intL x))))]]) A) ([.int x, .int (nI (p + (intL x).length)), .ref d] : List Value).toArray s 0 0 A) (F0 mi_ 22 ls ([])) := by
        intro fuel
        induction fuel with
        | zero => intro i w pos g fu hfuel; exact absurd hfuel (Nat.not_lt_zero _)
        | succ fuel ih =>
          intro i w pos g fu hfuel hi hw hfu hpos hpn hfin H locs ls hP hD hS hl
          refine lv_iload_n hx hb dJ18_getChars_22 rfl (lv_at hl 0 rfl) ?_
          refine lv_bipush (v := (-100)) hx hb dJ18_getChars_23 (by decide) ?_
          refine lv_icmp_gt (tgt := 72) hx hb dJ18_getChars_25 (by decide) (fun c_4 => ?_) (fun c_4 => ?_)
          · -- 25 taken
            have hw9 : w < 100 := (sz_lt (n := 100) hi (by decide)).mp c_4
            have hdg := sb_dg_in w
            obtain ⟨q, rfl⟩ : ∃ q, pos = q + 1 := ⟨pos - 1, by omega⟩
            refine lv_aload_n hx hb dJ18_getChars_72 rfl (lv_at hl 3 rfl) ?_
            refine lv_iinc (v := (nI q)) (lv' := [(5, .int (nI q)), (0, .int i), (6, .int 0), (2, .ref d)]) hx hb dJ18_getChars_73 hl (k := 1) rfl (nI_decE (a := q + 1) (b := 1) (c := q) rfl rfl (by first | omega | rfl)) (by decide) rfl (fun ls hl => ?_)
            refine lv_iload hx hb dJ18_getChars_76 (lv_at hl 0 rfl) ?_
            refine va_gets (C := "java/lang/Integer") (n := "DigitOnes") (d := "[B") hx hb hE.ones hS hown (hts _ q615) (fun _ h9 => h9) dJ18_getChars_78 ?_
            refine lv_iload_n hx hb dJ18_getChars_81 rfl (lv_at hl 1 rfl) ?_
            refine lv_ineg hx hb dJ18_getChars_82 ?_
            refine b_top (show (-i) = nI w from ng_neg hi (by omega)) ?_
            refine b_baldR hx hb hK hE.onesR hS w rfl (by omega) (by omega) dJ18_getChars_83 ?_
            refine b_top (show ((fun j => nI (48 + j % 10)) w) = nI (48 + w % 10) from rfl) ?_
            refine b_bast hx hb hK hP hD hS 0 rfl q rfl (by omega) (by omega) dJ18_getChars_84 (fun H locs hP hD hS => ?_)
            have hP : WP Γ [[(d, .inl (Γ.2.1 1, n, .inl (upd g q (vp_nar .byte (nI (48 + w % 10))))))]] H := hP
            have hD : WD A [[(d, .inl (Γ.2.1 1, n, .inl (upd g q (vp_nar .byte (nI (48 + w % 10))))))]] := hD
            refine lv_iload_n hx hb dJ18_getChars_85 rfl (lv_at hl 1 rfl) ?_
            refine lv_bipush (v := (-9)) hx hb dJ18_getChars_86 (by decide) ?_
            refine lv_icmp_ge (tgt := 104) hx hb dJ18_getChars_88 (by decide) (fun c_5 => ?_) (fun c_5 => ?_)
            · -- 88 taken
              have d_5 := Int32.not_lt.mpr c_5
              have hw8 : w < 10 := (sz_lt (c := -10) (n := 10) hi (by decide)).mp (by have h9 := c_5; rw [Int32.le_iff_toInt_le, hi, show (-9 : Int32).toInt = -9 by decide] at h9; rw [Int32.lt_iff_toInt_lt, hi, show (-10 : Int32).toInt = -10 by decide]; omega)
              have hd9 : sb_dg w = 1 := by unfold sb_dg; rw [if_pos hw8]
              have hde : decF fu w = [nI (48 + w)] := by cases fu with | zero => rfl | succ fv => rw [decF, if_pos hw8]
              rw [show (upd g q (vp_nar .byte (nI (48 + w % 10)))) = (putL f (p + sgN x) (decL x.toInt.natAbs)) from by rw [show w % 10 = w by omega, show vp_nar .byte (nI (48 + w)) = nI (48 + w) from (dig_isL _ (by omega)).2, putL_one, ← hfin, hde, show q = p + sgN x by omega]] at hP hD
              refine lv_iload hx hb dJ18_getChars_104 (lv_at hl 2 rfl) ?_
              refine lv_if_eq (tgt := 118) hx hb dJ18_getChars_106 (by decide) (fun c_6 => ?_) (fun c_6 => ?_)
              · -- 106 taken
                have n_6 : 0 = 0 := (nI_eq (by omega) (by omega)).mp (show nI 0 = nI 0 from c_6)
                rw [show (putL f (p + sgN x) (decL x.toInt.natAbs)) = (putL f p (intL x)) from by rw [hsg, Nat.add_zero]; unfold intL; rw [if_neg (by intro h9; unfold sgN at hsg; rw [if_pos h9] at hsg; omega)]] at hP hD
                refine lv_iload hx hb dJ18_getChars_118 (lv_at hl 0 rfl) ?_
                exact b_iret hx hb hr hlocks hP hD hS (Nat.le_of_ble_eq_true rfl) (Nat.le_of_ble_eq_true rfl) ⟨(by rw [show q = p by omega]), rfl⟩ dJ18_getChars_120
              · -- 106 not taken
                have n_6 : ¬ (0 = 0) := fun h => c_6 ((nI_eq (a := 0) (b := 0) (by omega) (by omega)).mpr h)
                exact absurd n_6 (by omega)
            · -- 88 not taken
              have d_5 := Int32.not_le.mp c_5
              have hw8 : 10 ≤ w := (sz_le (c := -10) (n := 10) hi (by decide)).mp (by have h9 := Int32.not_le.mp c_5; rw [Int32.lt_iff_toInt_lt, hi, show (-9 : Int32).toInt = -9 by decide] at h9; rw [Int32.le_iff_toInt_le, hi, show (-10 : Int32).toInt = -10 by decide]; omega)
              have hd9 : sb_dg w = 2 := by unfold sb_dg; rw [if_neg (by omega), if_pos hw9]
              obtain ⟨q2, rfl⟩ : ∃ q2, q = q2 + 1 := ⟨q - 1, by omega⟩
              refine lv_aload_n hx hb dJ18_getChars_91 rfl (lv_at hl 3 rfl) ?_
              refine lv_iinc (v := (nI q2)) (lv' := [(5, .int (nI q2)), (0, .int i), (6, .int 0), (2, .ref d)]) hx hb dJ18_getChars_92 hl (k := 0) rfl (nI_decE (a := q2 + 1) (b := 1) (c := q2) rfl rfl (by first | omega | rfl)) (by decide) rfl (fun ls hl => ?_)
              refine lv_iload hx hb dJ18_getChars_95 (lv_at hl 0 rfl) ?_
              refine va_gets (C := "java/lang/Integer") (n := "DigitTens") (d := "[B") hx hb hE.tens hS hown (hts _ q617) (fun _ h9 => h9) dJ18_getChars_97 ?_
              refine lv_iload_n hx hb dJ18_getChars_100 rfl (lv_at hl 1 rfl) ?_
              refine lv_ineg hx hb dJ18_getChars_101 ?_
              refine b_top (show (-i) = nI w from ng_neg hi (by omega)) ?_
              refine b_baldR hx hb hK hE.tensR hS w rfl (by omega) (by omega) dJ18_getChars_102 ?_
              refine b_top (show ((fun j => nI (48 + j / 10)) w) = nI (48 + w / 10) from rfl) ?_
              refine b_bast hx hb hK hP hD hS 0 rfl q2 rfl (by omega) (by omega) dJ18_getChars_103 (fun H locs hP hD hS => ?_)
              have hP : WP Γ [[(d, .inl (Γ.2.1 1, n, .inl (upd (upd g (q2 + 1) (vp_nar .byte (nI (48 + w % 10)))) q2 (vp_nar .byte (nI (48 + w / 10))))))]] H := hP
              have hD : WD A [[(d, .inl (Γ.2.1 1, n, .inl (upd (upd g (q2 + 1) (vp_nar .byte (nI (48 + w % 10)))) q2 (vp_nar .byte (nI (48 + w / 10))))))]] := hD
              have hde : decF fu w = [nI (48 + w / 10), nI (48 + w % 10)] := by obtain ⟨fv, rfl⟩ := fu_pos hfu hw8; rw [decF, if_neg (by omega), if_pos hw9]
              rw [show (upd (upd g (q2 + 1) (vp_nar .byte (nI (48 + w % 10)))) q2 (vp_nar .byte (nI (48 + w / 10)))) = (putL f (p + sgN x) (decL x.toInt.natAbs)) from by rw [show vp_nar .byte (nI (48 + w % 10)) = nI (48 + w % 10) from (dig_isL _ (by omega)).2, show vp_nar .byte (nI (48 + w / 10)) = nI (48 + w / 10) from (dig_isL _ (by omega)).2, putL_two, ← hfin, hde, show q2 = p + sgN x by omega]] at hP hD
              refine lv_iload hx hb dJ18_getChars_104 (lv_at hl 2 rfl) ?_
              refine lv_if_eq (tgt := 118) hx hb dJ18_getChars_106 (by decide) (fun c_7 => ?_) (fun c_7 => ?_)
              · -- 106 taken
                have n_7 : 0 = 0 := (nI_eq (by omega) (by omega)).mp (show nI 0 = nI 0 from c_7)
                rw [show (putL f (p + sgN x) (decL x.toInt.natAbs)) = (putL f p (intL x)) from by rw [hsg, Nat.add_zero]; unfold intL; rw [if_neg (by intro h9; unfold sgN at hsg; rw [if_pos h9] at hsg; omega)]] at hP hD
                refine lv_iload hx hb dJ18_getChars_118 (lv_at hl 0 rfl) ?_
                exact b_iret hx hb hr hlocks hP hD hS (Nat.le_of_ble_eq_true rfl) (Nat.le_of_ble_eq_true rfl) ⟨(by rw [show q2 = p by omega]), rfl⟩ dJ18_getChars_120
              · -- 106 not taken
                have n_7 : ¬ (0 = 0) := fun h => c_7 ((nI_eq (a := 0) (b := 0) (by omega) (by omega)).mpr h)
                exact absurd n_7 (by omega)
          · -- 25 not taken
            have hw9 : 100 ≤ w := (sz_le (n := 100) hi (by decide)).mp (Int32.not_lt.mp c_4)
            have hdg := sb_dg_in (w / 100)
            have hd9 : sb_dg w = sb_dg (w / 100) + 2 := by rcases Nat.lt_or_ge w (2 ^ 31) with h4 | h4; exact sb_dg100 hw9 h4; rw [show w = 2 ^ 31 by omega]; decide
            obtain ⟨q, rfl⟩ : ∃ q, pos = q + 2 := ⟨pos - 2, by omega⟩
            refine lv_iload_n hx hb dJ18_getChars_28 rfl (lv_at hl 0 rfl) ?_
            refine lv_bipush (v := 100) hx hb dJ18_getChars_29 (by decide) ?_
            refine lv_idiv hx hb dJ18_getChars_31 (by decide) ?_
            refine lv_istore_n (lv' := [(3, .int (i / 100)), (0, .int i), (5, .int (nI (q + 2))), (6, .int 0), (2, .ref d)]) hx hb dJ18_getChars_32 rfl hl (by decide) rfl (fun ls hl => ?_)
            refine lv_iload_n hx hb dJ18_getChars_33 rfl (lv_at hl 0 rfl) ?_
            refine lv_bipush (v := 100) hx hb dJ18_getChars_34 (by decide) ?_
            refine lv_imul hx hb dJ18_getChars_36 ?_
            refine lv_iload_n hx hb dJ18_getChars_37 rfl (lv_at hl 1 rfl) ?_
            refine lv_isub hx hb dJ18_getChars_38 ?_
            refine b_top (show (((i / 100) * 100) - i) = nI (w % 100) from ng_rem hi hw) ?_
            refine lv_istore (lv' := [(4, .int (nI (w % 100))), (3, .int (i / 100)), (0, .int i), (5, .int (nI (q + 2))), (6, .int 0), (2, .ref d)]) hx hb dJ18_getChars_39 hl (by decide) rfl (fun ls hl => ?_)
            refine lv_iload_n hx hb dJ18_getChars_41 rfl (lv_at hl 1 rfl) ?_
            refine lv_istore_n (lv' := [(0, .int (i / 100)), (4, .int (nI (w % 100))), (3, .int (i / 100)), (5, .int (nI (q + 2))), (6, .int 0), (2, .ref d)]) hx hb dJ18_getChars_42 rfl hl (by decide) rfl (fun ls hl => ?_)
            refine lv_aload_n hx hb dJ18_getChars_43 rfl (lv_at hl 5 rfl) ?_
            refine lv_iinc (v := (nI (q + 1))) (lv' := [(5, .int (nI (q + 1))), (0, .int (i / 100)), (4, .int (nI (w % 100))), (3, .int (i / 100)), (6, .int 0), (2, .ref d)]) hx hb dJ18_getChars_44 hl (k := 3) rfl (nI_decE (a := q + 2) (b := 1) (c := q + 1) rfl rfl (by first | omega | rfl)) (by decide) rfl (fun ls hl => ?_)
            refine lv_iload hx hb dJ18_getChars_47 (lv_at hl 0 rfl) ?_
            refine va_gets (C := "java/lang/Integer") (n := "DigitOnes") (d := "[B") hx hb hE.ones hS hown (hts _ q615) (fun _ h9 => h9) dJ18_getChars_49 ?_
            refine lv_iload hx hb dJ18_getChars_52 (lv_at hl 2 rfl) ?_
            refine b_baldR hx hb hK hE.onesR hS (w % 100) rfl (by omega) (by omega) dJ18_getChars_54 ?_
            refine b_top (show ((fun j => nI (48 + j % 10)) (w % 100)) = nI (48 + w % 100 % 10) from rfl) ?_
            refine b_bast hx hb hK hP hD hS 0 rfl (q + 1) rfl (by omega) (by omega) dJ18_getChars_55 (fun H locs hP hD hS => ?_)
            have hP : WP Γ [[(d, .inl (Γ.2.1 1, n, .inl (upd g (q + 1) (vp_nar .byte (nI (48 + w % 100 % 10))))))]] H := hP
            have hD : WD A [[(d, .inl (Γ.2.1 1, n, .inl (upd g (q + 1) (vp_nar .byte (nI (48 + w % 100 % 10))))))]] := hD
            refine lv_aload_n hx hb dJ18_getChars_56 rfl (lv_at hl 5 rfl) ?_
            refine lv_iinc (v := (nI q)) (lv' := [(5, .int (nI q)), (0, .int (i / 100)), (4, .int (nI (w % 100))), (3, .int (i / 100)), (6, .int 0), (2, .ref d)]) hx hb dJ18_getChars_57 hl (k := 0) rfl (nI_decE (a := q + 1) (b := 1) (c := q) rfl rfl (by first | omega | rfl)) (by decide) rfl (fun ls hl => ?_)
            refine lv_iload hx hb dJ18_getChars_60 (lv_at hl 0 rfl) ?_
            refine va_gets (C := "java/lang/Integer") (n := "DigitTens") (d := "[B") hx hb hE.tens hS hown (hts _ q617) (fun _ h9 => h9) dJ18_getChars_62 ?_
            refine lv_iload hx hb dJ18_getChars_65 (lv_at hl 2 rfl) ?_
            refine b_baldR hx hb hK hE.tensR hS (w % 100) rfl (by omega) (by omega) dJ18_getChars_67 ?_
            refine b_top (show ((fun j => nI (48 + j / 10)) (w % 100)) = nI (48 + w % 100 / 10) from rfl) ?_
            refine b_bast hx hb hK hP hD hS 0 rfl q rfl (by omega) (by omega) dJ18_getChars_68 (fun H locs hP hD hS => ?_)
            have hP : WP Γ [[(d, .inl (Γ.2.1 1, n, .inl (upd (upd g (q + 1) (vp_nar .byte (nI (48 + w % 100 % 10)))) q (vp_nar .byte (nI (48 + w % 100 / 10))))))]] H := hP
            have hD : WD A [[(d, .inl (Γ.2.1 1, n, .inl (upd (upd g (q + 1) (vp_nar .byte (nI (48 + w % 100 % 10)))) q (vp_nar .byte (nI (48 + w % 100 / 10))))))]] := hD
            rw [show (upd (upd g (q + 1) (vp_nar .byte (nI (48 + w % 100 % 10)))) q (vp_nar .byte (nI (48 + w % 100 / 10)))) = (putL g q [nI (48 + w % 100 / 10), nI (48 + w % 100 % 10)]) from by rw [show vp_nar .byte (nI (48 + w % 100 % 10)) = nI (48 + w % 100 % 10) from (dig_isL _ (by omega)).2, show vp_nar .byte (nI (48 + w % 100 / 10)) = nI (48 + w % 100 / 10) from (dig_isL _ (by omega)).2, putL_two]] at hP hD
            have hfin2 : putL (putL g q [nI (48 + w % 100 / 10), nI (48 + w % 100 % 10)]) (p + sgN x) (decF (fu - 1) (w / 100)) = putL f (p + sgN x) (decL x.toInt.natAbs) := by
              obtain ⟨fv, rfl⟩ := fu_pos hfu (by omega)
              have hw3 : w / 100 < 10 ^ (2 * fv + 1) := by rw [Nat.div_lt_iff_lt_mul (by decide)]; rw [show 2 * (fv + 1) + 1 = 2 * fv + 1 + 2 by omega, Nat.pow_add] at hfu; exact hfu
              have hl9 := decF_len fv (w / 100) hw3 (by omega)
              rw [Nat.add_sub_cancel, show q = p + sgN x + (decF fv (w / 100)).length by omega, putL_app, ← hfin, decF, if_neg (by omega), if_neg (by omega)]
            have hfu2 : w / 100 < 10 ^ (2 * (fu - 1) + 1) := by
              obtain ⟨fv, rfl⟩ := fu_pos hfu (by omega)
              rw [Nat.add_sub_cancel, Nat.div_lt_iff_lt_mul (by decide)]; rw [show 2 * (fv + 1) + 1 = 2 * fv + 1 + 2 by omega, Nat.pow_add] at hfu; exact hfu
            refine lv_goto (tgt := 22) hx hb dJ18_getChars_69 (by decide) ?_
            exact ih (i / 100) (w / 100) q (putL g q [nI (48 + w % 100 / 10), nI (48 + w % 100 % 10)]) (fu - 1) (by omega) (ng_div hi hw) (by omega) hfu2 (by omega) (by omega) hfin2 _ _ _ hP hD hS (lv_sub hl [1, 0, 4, 5] rfl)
      exact loop_3 (x.toInt.natAbs + 1) (ngI x) x.toInt.natAbs (p + (intL x).length) f 6 (Nat.lt_succ_self _) (ngI_toInt x) hab (by omega) (by omega) hn rfl _ _ _ hP hD hS (lv_sub hl [0, 2, 1, 4] rfl)
  · -- 4 not taken
    have d_1 := Int32.not_le.mp c_1
    refine lv_iconst (v := 1) hx hb dJ18_getChars_7 (by decide) ?_
    refine lv_goto (tgt := 12) hx hb dJ18_getChars_8 (by decide) ?_
    refine lv_istore (lv' := [(6, .int 1), (5, .int (nI (p + (intL x).length))), (0, .int x), (1, .int (nI (p + (intL x).length))), (2, .ref d)]) hx hb dJ18_getChars_12 hl (by decide) rfl (fun ls hl => ?_)
    refine lv_iload hx hb dJ18_getChars_14 (lv_at hl 0 rfl) ?_
    refine lv_if_ne (tgt := 22) hx hb dJ18_getChars_16 (by decide) (fun c_8 => ?_) (fun c_8 => ?_)
    · -- 16 taken
      have n_8 : ¬ (1 = 0) := fun h => c_8 ((nI_eq (a := 1) (b := 0) (by omega) (by omega)).mpr h)
      have hsg : sgN x = 1 := if_pos (Int32.not_le.mp c_1)
      have hl : lv_has ls 7 [(6, .int 1), (5, .int (nI (p + (intL x).length))), (0, .int (ngI x)), (1, .int (nI (p + (intL x).length))), (2, .ref d)] := by rw [show ngI x = x from if_pos (Int32.not_le.mp c_1)]; exact hl
      have hil := intL_len x
      have hab := abs_le x
      have loop_9 : ∀ (fuel : Nat) (i : Int32) (w : Nat) (pos : Nat) (g : Nat → Int32) (fu : Nat), w < fuel → (i.toInt = -(w : Int)) → (w ≤ 2 ^ 31) → (w < 10 ^ (2 * fu + 1)) → (pos = p + sgN x + sb_dg w) → (pos ≤ n) → (putL g (p + sgN x) (decF fu w) = putL f (p + sgN x) (decL x.toInt.natAbs)) → ∀ (H : Heap) (locs : List Loc) (ls : Array Slot), WP Γ [[(d, .inl (Γ.2.1 1, n, .inl g))]] H → WD A [[(d, .inl (Γ.2.1 1, n, .inl g))]] → va_S A s.heap H locs → lv_has ls 7 [(0, .int i), (5, .int (nI pos)), (6, .int 1), (2, .ref d)] → W pr_ l ev_ { frames := 0, cells := 0, slots := 0, locals := 0 } s mi_ ([.int x, .int (nI (p + (intL x).length)), .ref d] : List Value).toArray below meth cd_ H locs 0 0 (MQ below (Qi Γ (fun r_ u_ => r_ = (nI p) ∧ u_ = [[(d, .inl (Γ.2.1 1, n, .inl (putL f p (intL x))))]]) A) ([.int x, .int (nI (p + (intL x).length)), .ref d] : List Value).toArray s 0 0 A) (F0 mi_ 22 ls ([])) := by
        intro fuel
        induction fuel with
        | zero => intro i w pos g fu hfuel; exact absurd hfuel (Nat.not_lt_zero _)
        | succ fuel ih =>
          intro i w pos g fu hfuel hi hw hfu hpos hpn hfin H locs ls hP hD hS hl
          refine lv_iload_n hx hb dJ18_getChars_22 rfl (lv_at hl 0 rfl) ?_
          refine lv_bipush (v := (-100)) hx hb dJ18_getChars_23 (by decide) ?_
          refine lv_icmp_gt (tgt := 72) hx hb dJ18_getChars_25 (by decide) (fun c_10 => ?_) (fun c_10 => ?_)
          · -- 25 taken
            have hw9 : w < 100 := (sz_lt (n := 100) hi (by decide)).mp c_10
            have hdg := sb_dg_in w
            obtain ⟨q, rfl⟩ : ∃ q, pos = q + 1 := ⟨pos - 1, by omega⟩
            refine lv_aload_n hx hb dJ18_getChars_72 rfl (lv_at hl 3 rfl) ?_
            refine lv_iinc (v := (nI q)) (lv' := [(5, .int (nI q)), (0, .int i), (6, .int 1), (2, .ref d)]) hx hb dJ18_getChars_73 hl (k := 1) rfl (nI_decE (a := q + 1) (b := 1) (c := q) rfl rfl (by first | omega | rfl)) (by decide) rfl (fun ls hl => ?_)
            refine lv_iload hx hb dJ18_getChars_76 (lv_at hl 0 rfl) ?_
            refine va_gets (C := "java/lang/Integer") (n := "DigitOnes") (d := "[B") hx hb hE.ones hS hown (hts _ q615) (fun _ h9 => h9) dJ18_getChars_78 ?_
            refine lv_iload_n hx hb dJ18_getChars_81 rfl (lv_at hl 1 rfl) ?_
            refine lv_ineg hx hb dJ18_getChars_82 ?_
            refine b_top (show (-i) = nI w from ng_neg hi (by omega)) ?_
            refine b_baldR hx hb hK hE.onesR hS w rfl (by omega) (by omega) dJ18_getChars_83 ?_
            refine b_top (show ((fun j => nI (48 + j % 10)) w) = nI (48 + w % 10) from rfl) ?_
            refine b_bast hx hb hK hP hD hS 0 rfl q rfl (by omega) (by omega) dJ18_getChars_84 (fun H locs hP hD hS => ?_)
            have hP : WP Γ [[(d, .inl (Γ.2.1 1, n, .inl (upd g q (vp_nar .byte (nI (48 + w % 10))))))]] H := hP
            have hD : WD A [[(d, .inl (Γ.2.1 1, n, .inl (upd g q (vp_nar .byte (nI (48 + w % 10))))))]] := hD
            refine lv_iload_n hx hb dJ18_getChars_85 rfl (lv_at hl 1 rfl) ?_
            refine lv_bipush (v := (-9)) hx hb dJ18_getChars_86 (by decide) ?_
            refine lv_icmp_ge (tgt := 104) hx hb dJ18_getChars_88 (by decide) (fun c_11 => ?_) (fun c_11 => ?_)
            · -- 88 taken
              have d_11 := Int32.not_lt.mpr c_11
              have hw8 : w < 10 := (sz_lt (c := -10) (n := 10) hi (by decide)).mp (by have h9 := c_11; rw [Int32.le_iff_toInt_le, hi, show (-9 : Int32).toInt = -9 by decide] at h9; rw [Int32.lt_iff_toInt_lt, hi, show (-10 : Int32).toInt = -10 by decide]; omega)
              have hd9 : sb_dg w = 1 := by unfold sb_dg; rw [if_pos hw8]
              have hde : decF fu w = [nI (48 + w)] := by cases fu with | zero => rfl | succ fv => rw [decF, if_pos hw8]
              rw [show (upd g q (vp_nar .byte (nI (48 + w % 10)))) = (putL f (p + sgN x) (decL x.toInt.natAbs)) from by rw [show w % 10 = w by omega, show vp_nar .byte (nI (48 + w)) = nI (48 + w) from (dig_isL _ (by omega)).2, putL_one, ← hfin, hde, show q = p + sgN x by omega]] at hP hD
              refine lv_iload hx hb dJ18_getChars_104 (lv_at hl 2 rfl) ?_
              refine lv_if_eq (tgt := 118) hx hb dJ18_getChars_106 (by decide) (fun c_12 => ?_) (fun c_12 => ?_)
              · -- 106 taken
                have n_12 : 1 = 0 := (nI_eq (by omega) (by omega)).mp (show nI 1 = nI 0 from c_12)
                exact absurd n_12 (by omega)
              · -- 106 not taken
                have n_12 : ¬ (1 = 0) := fun h => c_12 ((nI_eq (a := 1) (b := 0) (by omega) (by omega)).mpr h)
                have hP9 := hP
                have hD9 := hD
                obtain ⟨q3, rfl⟩ : ∃ q3, q = q3 + 1 := ⟨q - 1, by omega⟩
                have hP := hP9
                have hD := hD9
                refine lv_aload_n hx hb dJ18_getChars_109 rfl (lv_at hl 3 rfl) ?_
                refine lv_iinc (v := (nI q3)) (lv' := [(5, .int (nI q3)), (0, .int i), (6, .int 1), (2, .ref d)]) hx hb dJ18_getChars_110 hl (k := 0) rfl (nI_decE (a := q3 + 1) (b := 1) (c := q3) rfl rfl (by first | omega | rfl)) (by decide) rfl (fun ls hl => ?_)
                refine lv_iload hx hb dJ18_getChars_113 (lv_at hl 0 rfl) ?_
                refine lv_bipush (v := 45) hx hb dJ18_getChars_115 (by decide) ?_
                refine b_bast hx hb hK hP hD hS 0 rfl q3 rfl (by omega) (by omega) dJ18_getChars_117 (fun H locs hP hD hS => ?_)
                have hP : WP Γ [[(d, .inl (Γ.2.1 1, n, .inl (upd (putL f (p + sgN x) (decL x.toInt.natAbs)) q3 (vp_nar .byte 45))))]] H := hP
                have hD : WD A [[(d, .inl (Γ.2.1 1, n, .inl (upd (putL f (p + sgN x) (decL x.toInt.natAbs)) q3 (vp_nar .byte 45))))]] := hD
                rw [show (upd (putL f (p + sgN x) (decL x.toInt.natAbs)) q3 (vp_nar .byte 45)) = (putL f p (intL x)) from by rw [hsg, show vp_nar .byte 45 = 45 by decide, show q3 = p by omega, putL_cons]; unfold intL; rw [if_pos (by by_cases h9 : x < 0; exact h9; unfold sgN at hsg; rw [if_neg h9] at hsg; omega)]] at hP hD
                refine lv_iload hx hb dJ18_getChars_118 (lv_at hl 0 rfl) ?_
                exact b_iret hx hb hr hlocks hP hD hS (Nat.le_of_ble_eq_true rfl) (Nat.le_of_ble_eq_true rfl) ⟨(by rw [show q3 = p by omega]), rfl⟩ dJ18_getChars_120
            · -- 88 not taken
              have d_11 := Int32.not_le.mp c_11
              have hw8 : 10 ≤ w := (sz_le (c := -10) (n := 10) hi (by decide)).mp (by have h9 := Int32.not_le.mp c_11; rw [Int32.lt_iff_toInt_lt, hi, show (-9 : Int32).toInt = -9 by decide] at h9; rw [Int32.le_iff_toInt_le, hi, show (-10 : Int32).toInt = -10 by decide]; omega)
              have hd9 : sb_dg w = 2 := by unfold sb_dg; rw [if_neg (by omega), if_pos hw9]
              obtain ⟨q2, rfl⟩ : ∃ q2, q = q2 + 1 := ⟨q - 1, by omega⟩
              refine lv_aload_n hx hb dJ18_getChars_91 rfl (lv_at hl 3 rfl) ?_
              refine lv_iinc (v := (nI q2)) (lv' := [(5, .int (nI q2)), (0, .int i), (6, .int 1), (2, .ref d)]) hx hb dJ18_getChars_92 hl (k := 0) rfl (nI_decE (a := q2 + 1) (b := 1) (c := q2) rfl rfl (by first | omega | rfl)) (by decide) rfl (fun ls hl => ?_)
              refine lv_iload hx hb dJ18_getChars_95 (lv_at hl 0 rfl) ?_
              refine va_gets (C := "java/lang/Integer") (n := "DigitTens") (d := "[B") hx hb hE.tens hS hown (hts _ q617) (fun _ h9 => h9) dJ18_getChars_97 ?_
              refine lv_iload_n hx hb dJ18_getChars_100 rfl (lv_at hl 1 rfl) ?_
              refine lv_ineg hx hb dJ18_getChars_101 ?_
              refine b_top (show (-i) = nI w from ng_neg hi (by omega)) ?_
              refine b_baldR hx hb hK hE.tensR hS w rfl (by omega) (by omega) dJ18_getChars_102 ?_
              refine b_top (show ((fun j => nI (48 + j / 10)) w) = nI (48 + w / 10) from rfl) ?_
              refine b_bast hx hb hK hP hD hS 0 rfl q2 rfl (by omega) (by omega) dJ18_getChars_103 (fun H locs hP hD hS => ?_)
              have hP : WP Γ [[(d, .inl (Γ.2.1 1, n, .inl (upd (upd g (q2 + 1) (vp_nar .byte (nI (48 + w % 10)))) q2 (vp_nar .byte (nI (48 + w / 10))))))]] H := hP
              have hD : WD A [[(d, .inl (Γ.2.1 1, n, .inl (upd (upd g (q2 + 1) (vp_nar .byte (nI (48 + w % 10)))) q2 (vp_nar .byte (nI (48 + w / 10))))))]] := hD
              have hde : decF fu w = [nI (48 + w / 10), nI (48 + w % 10)] := by obtain ⟨fv, rfl⟩ := fu_pos hfu hw8; rw [decF, if_neg (by omega), if_pos hw9]
              rw [show (upd (upd g (q2 + 1) (vp_nar .byte (nI (48 + w % 10)))) q2 (vp_nar .byte (nI (48 + w / 10)))) = (putL f (p + sgN x) (decL x.toInt.natAbs)) from by rw [show vp_nar .byte (nI (48 + w % 10)) = nI (48 + w % 10) from (dig_isL _ (by omega)).2, show vp_nar .byte (nI (48 + w / 10)) = nI (48 + w / 10) from (dig_isL _ (by omega)).2, putL_two, ← hfin, hde, show q2 = p + sgN x by omega]] at hP hD
              refine lv_iload hx hb dJ18_getChars_104 (lv_at hl 2 rfl) ?_
              refine lv_if_eq (tgt := 118) hx hb dJ18_getChars_106 (by decide) (fun c_13 => ?_) (fun c_13 => ?_)
              · -- 106 taken
                have n_13 : 1 = 0 := (nI_eq (by omega) (by omega)).mp (show nI 1 = nI 0 from c_13)
                exact absurd n_13 (by omega)
              · -- 106 not taken
                have n_13 : ¬ (1 = 0) := fun h => c_13 ((nI_eq (a := 1) (b := 0) (by omega) (by omega)).mpr h)
                have hP9 := hP
                have hD9 := hD
                obtain ⟨q3, rfl⟩ : ∃ q3, q2 = q3 + 1 := ⟨q2 - 1, by omega⟩
                have hP := hP9
                have hD := hD9
                refine lv_aload_n hx hb dJ18_getChars_109 rfl (lv_at hl 3 rfl) ?_
                refine lv_iinc (v := (nI q3)) (lv' := [(5, .int (nI q3)), (0, .int i), (6, .int 1), (2, .ref d)]) hx hb dJ18_getChars_110 hl (k := 0) rfl (nI_decE (a := q3 + 1) (b := 1) (c := q3) rfl rfl (by first | omega | rfl)) (by decide) rfl (fun ls hl => ?_)
                refine lv_iload hx hb dJ18_getChars_113 (lv_at hl 0 rfl) ?_
                refine lv_bipush (v := 45) hx hb dJ18_getChars_115 (by decide) ?_
                refine b_bast hx hb hK hP hD hS 0 rfl q3 rfl (by omega) (by omega) dJ18_getChars_117 (fun H locs hP hD hS => ?_)
                have hP : WP Γ [[(d, .inl (Γ.2.1 1, n, .inl (upd (putL f (p + sgN x) (decL x.toInt.natAbs)) q3 (vp_nar .byte 45))))]] H := hP
                have hD : WD A [[(d, .inl (Γ.2.1 1, n, .inl (upd (putL f (p + sgN x) (decL x.toInt.natAbs)) q3 (vp_nar .byte 45))))]] := hD
                rw [show (upd (putL f (p + sgN x) (decL x.toInt.natAbs)) q3 (vp_nar .byte 45)) = (putL f p (intL x)) from by rw [hsg, show vp_nar .byte 45 = 45 by decide, show q3 = p by omega, putL_cons]; unfold intL; rw [if_pos (by by_cases h9 : x < 0; exact h9; unfold sgN at hsg; rw [if_neg h9] at hsg; omega)]] at hP hD
                refine lv_iload hx hb dJ18_getChars_118 (lv_at hl 0 rfl) ?_
                exact b_iret hx hb hr hlocks hP hD hS (Nat.le_of_ble_eq_true rfl) (Nat.le_of_ble_eq_true rfl) ⟨(by rw [show q3 = p by omega]), rfl⟩ dJ18_getChars_120
          · -- 25 not taken
            have hw9 : 100 ≤ w := (sz_le (n := 100) hi (by decide)).mp (Int32.not_lt.mp c_10)
            have hdg := sb_dg_in (w / 100)
            have hd9 : sb_dg w = sb_dg (w / 100) + 2 := by rcases Nat.lt_or_ge w (2 ^ 31) with h4 | h4; exact sb_dg100 hw9 h4; rw [show w = 2 ^ 31 by omega]; decide
            obtain ⟨q, rfl⟩ : ∃ q, pos = q + 2 := ⟨pos - 2, by omega⟩
            refine lv_iload_n hx hb dJ18_getChars_28 rfl (lv_at hl 0 rfl) ?_
            refine lv_bipush (v := 100) hx hb dJ18_getChars_29 (by decide) ?_
            refine lv_idiv hx hb dJ18_getChars_31 (by decide) ?_
            refine lv_istore_n (lv' := [(3, .int (i / 100)), (0, .int i), (5, .int (nI (q + 2))), (6, .int 1), (2, .ref d)]) hx hb dJ18_getChars_32 rfl hl (by decide) rfl (fun ls hl => ?_)
            refine lv_iload_n hx hb dJ18_getChars_33 rfl (lv_at hl 0 rfl) ?_
            refine lv_bipush (v := 100) hx hb dJ18_getChars_34 (by decide) ?_
            refine lv_imul hx hb dJ18_getChars_36 ?_
            refine lv_iload_n hx hb dJ18_getChars_37 rfl (lv_at hl 1 rfl) ?_
            refine lv_isub hx hb dJ18_getChars_38 ?_
            refine b_top (show (((i / 100) * 100) - i) = nI (w % 100) from ng_rem hi hw) ?_
            refine lv_istore (lv' := [(4, .int (nI (w % 100))), (3, .int (i / 100)), (0, .int i), (5, .int (nI (q + 2))), (6, .int 1), (2, .ref d)]) hx hb dJ18_getChars_39 hl (by decide) rfl (fun ls hl => ?_)
            refine lv_iload_n hx hb dJ18_getChars_41 rfl (lv_at hl 1 rfl) ?_
            refine lv_istore_n (lv' := [(0, .int (i / 100)), (4, .int (nI (w % 100))), (3, .int (i / 100)), (5, .int (nI (q + 2))), (6, .int 1), (2, .ref d)]) hx hb dJ18_getChars_42 rfl hl (by decide) rfl (fun ls hl => ?_)
            refine lv_aload_n hx hb dJ18_getChars_43 rfl (lv_at hl 5 rfl) ?_
            refine lv_iinc (v := (nI (q + 1))) (lv' := [(5, .int (nI (q + 1))), (0, .int (i / 100)), (4, .int (nI (w % 100))), (3, .int (i / 100)), (6, .int 1), (2, .ref d)]) hx hb dJ18_getChars_44 hl (k := 3) rfl (nI_decE (a := q + 2) (b := 1) (c := q + 1) rfl rfl (by first | omega | rfl)) (by decide) rfl (fun ls hl => ?_)
            refine lv_iload hx hb dJ18_getChars_47 (lv_at hl 0 rfl) ?_
            refine va_gets (C := "java/lang/Integer") (n := "DigitOnes") (d := "[B") hx hb hE.ones hS hown (hts _ q615) (fun _ h9 => h9) dJ18_getChars_49 ?_
            refine lv_iload hx hb dJ18_getChars_52 (lv_at hl 2 rfl) ?_
            refine b_baldR hx hb hK hE.onesR hS (w % 100) rfl (by omega) (by omega) dJ18_getChars_54 ?_
            refine b_top (show ((fun j => nI (48 + j % 10)) (w % 100)) = nI (48 + w % 100 % 10) from rfl) ?_
            refine b_bast hx hb hK hP hD hS 0 rfl (q + 1) rfl (by omega) (by omega) dJ18_getChars_55 (fun H locs hP hD hS => ?_)
            have hP : WP Γ [[(d, .inl (Γ.2.1 1, n, .inl (upd g (q + 1) (vp_nar .byte (nI (48 + w % 100 % 10))))))]] H := hP
            have hD : WD A [[(d, .inl (Γ.2.1 1, n, .inl (upd g (q + 1) (vp_nar .byte (nI (48 + w % 100 % 10))))))]] := hD
            refine lv_aload_n hx hb dJ18_getChars_56 rfl (lv_at hl 5 rfl) ?_
            refine lv_iinc (v := (nI q)) (lv' := [(5, .int (nI q)), (0, .int (i / 100)), (4, .int (nI (w % 100))), (3, .int (i / 100)), (6, .int 1), (2, .ref d)]) hx hb dJ18_getChars_57 hl (k := 0) rfl (nI_decE (a := q + 1) (b := 1) (c := q) rfl rfl (by first | omega | rfl)) (by decide) rfl (fun ls hl => ?_)
            refine lv_iload hx hb dJ18_getChars_60 (lv_at hl 0 rfl) ?_
            refine va_gets (C := "java/lang/Integer") (n := "DigitTens") (d := "[B") hx hb hE.tens hS hown (hts _ q617) (fun _ h9 => h9) dJ18_getChars_62 ?_
            refine lv_iload hx hb dJ18_getChars_65 (lv_at hl 2 rfl) ?_
            refine b_baldR hx hb hK hE.tensR hS (w % 100) rfl (by omega) (by omega) dJ18_getChars_67 ?_
            refine b_top (show ((fun j => nI (48 + j / 10)) (w % 100)) = nI (48 + w % 100 / 10) from rfl) ?_
            refine b_bast hx hb hK hP hD hS 0 rfl q rfl (by omega) (by omega) dJ18_getChars_68 (fun H locs hP hD hS => ?_)
            have hP : WP Γ [[(d, .inl (Γ.2.1 1, n, .inl (upd (upd g (q + 1) (vp_nar .byte (nI (48 + w % 100 % 10)))) q (vp_nar .byte (nI (48 + w % 100 / 10))))))]] H := hP
            have hD : WD A [[(d, .inl (Γ.2.1 1, n, .inl (upd (upd g (q + 1) (vp_nar .byte (nI (48 + w % 100 % 10)))) q (vp_nar .byte (nI (48 + w % 100 / 10))))))]] := hD
            rw [show (upd (upd g (q + 1) (vp_nar .byte (nI (48 + w % 100 % 10)))) q (vp_nar .byte (nI (48 + w % 100 / 10)))) = (putL g q [nI (48 + w % 100 / 10), nI (48 + w % 100 % 10)]) from by rw [show vp_nar .byte (nI (48 + w % 100 % 10)) = nI (48 + w % 100 % 10) from (dig_isL _ (by omega)).2, show vp_nar .byte (nI (48 + w % 100 / 10)) = nI (48 + w % 100 / 10) from (dig_isL _ (by omega)).2, putL_two]] at hP hD
            have hfin2 : putL (putL g q [nI (48 + w % 100 / 10), nI (48 + w % 100 % 10)]) (p + sgN x) (decF (fu - 1) (w / 100)) = putL f (p + sgN x) (decL x.toInt.natAbs) := by
              obtain ⟨fv, rfl⟩ := fu_pos hfu (by omega)
              have hw3 : w / 100 < 10 ^ (2 * fv + 1) := by rw [Nat.div_lt_iff_lt_mul (by decide)]; rw [show 2 * (fv + 1) + 1 = 2 * fv + 1 + 2 by omega, Nat.pow_add] at hfu; exact hfu
              have hl9 := decF_len fv (w / 100) hw3 (by omega)
              rw [Nat.add_sub_cancel, show q = p + sgN x + (decF fv (w / 100)).length by omega, putL_app, ← hfin, decF, if_neg (by omega), if_neg (by omega)]
            have hfu2 : w / 100 < 10 ^ (2 * (fu - 1) + 1) := by
              obtain ⟨fv, rfl⟩ := fu_pos hfu (by omega)
              rw [Nat.add_sub_cancel, Nat.div_lt_iff_lt_mul (by decide)]; rw [show 2 * (fv + 1) + 1 = 2 * fv + 1 + 2 by omega, Nat.pow_add] at hfu; exact hfu
            refine lv_goto (tgt := 22) hx hb dJ18_getChars_69 (by decide) ?_
            exact ih (i / 100) (w / 100) q (putL g q [nI (48 + w % 100 / 10), nI (48 + w % 100 % 10)]) (fu - 1) (by omega) (ng_div hi hw) (by omega) hfu2 (by omega) (by omega) hfin2 _ _ _ hP hD hS (lv_sub hl [1, 0, 4, 5] rfl)
      exact loop_9 (x.toInt.natAbs + 1) (ngI x) x.toInt.natAbs (p + (intL x).length) f 6 (Nat.lt_succ_self _) (ngI_toInt x) hab (by omega) (by omega) hn rfl _ _ _ hP hD hS (lv_sub hl [2, 1, 0, 4] rfl)
    · -- 16 not taken
      have n_8 : 1 = 0 := (nI_eq (by omega) (by omega)).mp (show nI 1 = nI 0 from c_8)
      exact absurd n_8 (by omega)
theorem cpy_putL {L : List Int32} (g : Nat → Int32) (p : Nat) : va_cpy (fun j => L.getD j 0) g 0 p L.length = putL g p L := by
  funext q
  show (if p ≤ q ∧ q < p + L.length then L.getD (0 + (q - p)) 0 else g q) = _
  rw [putL, Nat.zero_add]
theorem str_len : ∀ i, i < nStr → (str_by i).length ≤ 5 := by decide +kernel
theorem str_isL : ∀ i, i < nStr → ∀ c ∈ str_by i, isL c ∧ nb c = c := by unfold isL; decide +kernel
theorem fitG {f : Nat → Int32} (hf : ∀ j, fits .byte (.int (f j)) = true) : ∀ i, i < 0 + 2 ^ 31 → fits .byte (.int (f (0 + i))) = true := fun i _ => hf _
set_option maxHeartbeats 4000000 in
set_option maxRecDepth 100000 in
theorem mt_canEnc_yes (l : Launch) (Γ : GE) (sz : Nat) (c : Int32) (hc : ¬ 255 < c) : KM l yJ20_canEncode cJ20_canEncode 1 (some FieldType.boolean) Γ 0 0 0 0 [.int c] [] [] sz (Qi Γ (fun r_ u_ => r_ = 1 ∧ u_ = [])) := by
  refine K_intro (by decide) (Nat.le_of_ble_eq_true rfl) ?_
  intro pr_ ev_ s mi_ below meth cd_ A ls hx hb hr hml hown hts hlocks hname hK hE hRo hP hD hA hS hsz hl
  have hl : lv_has ls 1 [(0, .int c)] := hl
  have hown : s.vm.findClass RJ20 = some mi_.cls := hown
  refine lv_iload_n hx hb dJ20_canEncode_0 rfl (lv_at hl 0 rfl) ?_
  refine lv_sipush (v := 255) hx hb dJ20_canEncode_1 (by decide) ?_
  refine lv_icmp_gt (tgt := 11) hx hb dJ20_canEncode_4 (by decide) (fun c_1 => ?_) (fun c_1 => ?_)
  · -- 4 taken
    exact absurd c_1 hc
  · -- 4 not taken
    refine lv_iconst (v := 1) hx hb dJ20_canEncode_7 (by decide) ?_
    refine lv_goto (tgt := 12) hx hb dJ20_canEncode_8 (by decide) ?_
    exact b_zret hx hb hr hlocks hP hD hS (Nat.le_of_ble_eq_true rfl) (Nat.le_of_ble_eq_true rfl) rfl ⟨(by first | with_reducible rfl | (simp [c_1]; done) | rfl), (by first | with_reducible rfl | (simp [c_1]; done) | rfl)⟩ dJ20_canEncode_12
set_option maxHeartbeats 4000000 in
set_option maxRecDepth 100000 in
theorem mt_canEnc_no (l : Launch) (Γ : GE) (sz : Nat) (c : Int32) (hc : 255 < c) : KM l yJ20_canEncode cJ20_canEncode 1 (some FieldType.boolean) Γ 0 0 0 0 [.int c] [] [] sz (Qi Γ (fun r_ u_ => r_ = 0 ∧ u_ = [])) := by
  refine K_intro (by decide) (Nat.le_of_ble_eq_true rfl) ?_
  intro pr_ ev_ s mi_ below meth cd_ A ls hx hb hr hml hown hts hlocks hname hK hE hRo hP hD hA hS hsz hl
  have hl : lv_has ls 1 [(0, .int c)] := hl
  have hown : s.vm.findClass RJ20 = some mi_.cls := hown
  refine lv_iload_n hx hb dJ20_canEncode_0 rfl (lv_at hl 0 rfl) ?_
  refine lv_sipush (v := 255) hx hb dJ20_canEncode_1 (by decide) ?_
  refine lv_icmp_gt (tgt := 11) hx hb dJ20_canEncode_4 (by decide) (fun c_1 => ?_) (fun c_1 => ?_)
  · -- 4 taken
    refine lv_iconst (v := 0) hx hb dJ20_canEncode_11 (by decide) ?_
    exact b_zret hx hb hr hlocks hP hD hS (Nat.le_of_ble_eq_true rfl) (Nat.le_of_ble_eq_true rfl) rfl ⟨(by first | with_reducible rfl | (simp [c_1]; done) | rfl), (by first | with_reducible rfl | (simp [c_1]; done) | rfl)⟩ dJ20_canEncode_12
  · -- 4 not taken
    exact absurd hc c_1
set_option maxHeartbeats 4000000 in
set_option maxRecDepth 100000 in
theorem mt_AB_init (l : Launch) (Γ : GE) (sz : Nat) (a : Nat)  : KM l yJ4_init cJ4_init 2 none Γ 1 30 1 16 [.ref a, .int (nI 16)] [[(a, .inr (13, [.null, .int 0, .int 0, .int 0]))]] [] sz (Qv Γ (fun u_ => ∃ v : Nat, u_ = [[(a, .inr (13, [.ref v, .int 0, .int 0, .int 0]))], [(v, .inl (Γ.2.1 1, 16, .inl (fun _ => 0)))]])) := by
  refine K_intro (by decide) (Nat.le_of_ble_eq_true rfl) ?_
  intro pr_ ev_ s mi_ below meth cd_ A ls hx hb hr hml hown hts hlocks hname hK hE hRo hP hD hA hS hsz hl
  have hl : lv_has ls 2 [(0, .ref a), (1, .int (nI 16))] := hl
  have hown : s.vm.findClass RJ4 = some mi_.cls := hown
  refine lv_aload_n hx hb dJ4_init_0 rfl (lv_at hl 0 rfl) ?_
  refine W.objInit hx hb hown (hts _ q222) (hts _ q109) (hts _ q110) rfl (by rw [hml]; exact hl.1) rfl dJ4_init_1 (Nat.le_of_ble_eq_true rfl) (Nat.le_of_ble_eq_true rfl) ?_
  refine W.eq (g2 := F0 mi_ 4 ls ([])) rfl ?_
  refine va_gets (C := "java/lang/String") (n := "COMPACT_STRINGS") (d := "Z") hx hb hE.compact hS hown (hts _ q223) (fun _ h9 => h9) dJ4_init_4 ?_
  refine lv_if_eq (tgt := 25) hx hb dJ4_init_7 (by decide) (fun c_1 => ?_) (fun c_1 => ?_)
  · -- 7 taken
    have n_1 : 1 = 0 := (nI_eq (by omega) (by omega)).mp (show nI 1 = nI 0 from c_1)
    exact absurd n_1 (by omega)
  · -- 7 not taken
    have n_1 : ¬ (1 = 0) := fun h => c_1 ((nI_eq (a := 1) (b := 0) (by omega) (by omega)).mpr h)
    refine lv_aload_n hx hb dJ4_init_10 rfl (lv_at hl 0 rfl) ?_
    refine lv_iload_n hx hb dJ4_init_11 rfl (lv_at hl 1 rfl) ?_
    refine b_newb hx hb hts hK hP hD hS hA 16 rfl (by omega) q246 (Nat.le_of_ble_eq_true rfl) (Nat.le_of_ble_eq_true rfl) dJ4_init_12 (fun a_2 H hP hD hS => ?_)
    have hP : WP Γ [[(a, .inr (13, [.null, .int 0, .int 0, .int 0]))], [(a_2, .inl (Γ.2.1 1, 16, .inl (fun _ => 0)))]] H := hP
    have hD : WD A [[(a, .inr (13, [.null, .int 0, .int 0, .int 0]))], [(a_2, .inl (Γ.2.1 1, 16, .inl (fun _ => 0)))]] := hD
    refine b_put (C := RJ5) (T := TJ5) (N := 4) (ty := (tyJ5 0)) (v := .ref a_2) hx hb hts in_J5 tyJ5_ok nmJ5 hown hK hP hD hS 0 rfl rfl 0 (by decide) q232 (fun _ h9 => h9) rfl (by decide +kernel) rfl rfl (Nat.le_of_ble_eq_true rfl) dJ4_init_14 (fun H locs hP hD hS => ?_)
    have hP : WP Γ [[(a, .inr (13, [.ref a_2, .int 0, .int 0, .int 0]))], [(a_2, .inl (Γ.2.1 1, 16, .inl (fun _ => 0)))]] H := hP
    have hD : WD A [[(a, .inr (13, [.ref a_2, .int 0, .int 0, .int 0]))], [(a_2, .inl (Γ.2.1 1, 16, .inl (fun _ => 0)))]] := hD
    refine lv_aload_n hx hb dJ4_init_17 rfl (lv_at hl 0 rfl) ?_
    refine lv_iconst (v := 0) hx hb dJ4_init_18 (by decide) ?_
    refine b_put (C := RJ5) (T := TJ5) (N := 4) (ty := .byte) (v := .int 0) hx hb hts in_J5 tyJ5_ok nmJ5 hown hK hP hD hS 0 rfl rfl 1 (by decide) q233 (fun _ h9 => h9) rfl (by decide +kernel) rfl rfl (Nat.le_of_ble_eq_true rfl) dJ4_init_19 (fun H locs hP hD hS => ?_)
    have hP : WP Γ [[(a, .inr (13, [.ref a_2, .int 0, .int 0, .int 0]))], [(a_2, .inl (Γ.2.1 1, 16, .inl (fun _ => 0)))]] H := hP
    have hD : WD A [[(a, .inr (13, [.ref a_2, .int 0, .int 0, .int 0]))], [(a_2, .inl (Γ.2.1 1, 16, .inl (fun _ => 0)))]] := hD
    refine lv_goto (tgt := 38) hx hb dJ4_init_22 (by decide) ?_
    exact b_vret hx hb hr hlocks hP hD hS (Nat.le_of_ble_eq_true rfl) (Nat.le_of_ble_eq_true rfl) ⟨a_2, (by first | with_reducible rfl | (simp [n_1]; done) | rfl)⟩ dJ4_init_38
theorem isL_dec {c : Int32} (h : lc (nb c) = c) : isL c := h
set_option maxHeartbeats 4000000 in
set_option maxRecDepth 100000 in
theorem mt_SB_init (l : Launch) (Γ : GE) (sz : Nat) (a : Nat)  : KM l yJ5_init cJ5_init 1 none Γ 2 51 1 16 [.ref a] [[(a, .inr (13, [.null, .int 0, .int 0, .int 0]))]] [] sz (Qv Γ (fun u_ => ∃ y : SBT, sbF 0 y [] ∧ u_ = [[(a, .inr (13, [.ref y.1, .int 0, .int y.2.2.2, .int (nI ([] : List Int32).length)]))], [(y.1, .inl (Γ.2.1 1, y.2.1, .inl y.2.2.1))]])) := by
  refine K_intro (by decide) (Nat.le_of_ble_eq_true rfl) ?_
  intro pr_ ev_ s mi_ below meth cd_ A ls hx hb hr hml hown hts hlocks hname hK hE hRo hP hD hA hS hsz hl
  have hl : lv_has ls 1 [(0, .ref a)] := hl
  have hown : s.vm.findClass RJ5 = some mi_.cls := hown
  refine lv_aload_n hx hb dJ5_init_0 rfl (lv_at hl 0 rfl) ?_
  refine lv_bipush (v := 16) hx hb dJ5_init_1 (by decide) ?_
  refine b_callv (br := []) (b_runI ⟨hx, hb, hml, hown, hts⟩ (mt_AB_init l Γ _ a) (lw_meth q221) q69 q219 q220 rfl rfl rfl 1 (by decide +kernel) ⟨(Nat.le_of_ble_eq_true rfl), (Nat.le_of_ble_eq_true rfl)⟩ (c_pre hP hD hS hA hK hE [0] rfl rfl ro_nil) rfl hl.1 rfl (Nat.le_of_ble_eq_true rfl) dJ5_init_3 ⟨(Nat.le_of_ble_eq_true rfl), (Nat.le_of_ble_eq_true rfl)⟩) hP hD hS hA [0] [] rfl rfl rfl (fun u_1 H locs hw_1 hP hD hS _ => ?_)
  obtain ⟨v_1, rfl⟩ := hw_1
  have hP : WP Γ [[(a, .inr (13, [.ref v_1, .int 0, .int 0, .int 0]))], [(v_1, .inl (Γ.2.1 1, 16, .inl (fun _ => 0)))]] H := hP
  have hD : WD A [[(a, .inr (13, [.ref v_1, .int 0, .int 0, .int 0]))], [(v_1, .inl (Γ.2.1 1, 16, .inl (fun _ => 0)))]] := hD
  exact b_vret hx hb hr hlocks hP hD hS (Nat.le_of_ble_eq_true rfl) (Nat.le_of_ble_eq_true rfl) ⟨(v_1, 16, (fun _ => 0), 0), ⟨Nat.zero_le _, Nat.le_of_ble_eq_true rfl, fun _ => sb_fit0 0, Or.inl rfl, fun j h => absurd h (Nat.not_lt_zero j)⟩, rfl⟩ dJ5_init_6
theorem nb_i2b (c : Int32) : vp_nar .byte (c.toInt8.toInt32) = nb c := by
  exact pk_vb c
set_option maxHeartbeats 4000000 in
set_option maxRecDepth 100000 in
theorem mt_AB_appc (l : Launch) (Γ : GE) (sz : Nat) (a : Nat) (x : SBT) (L : List Int32) (c : Int32) (hsb : sbF 0 x L) (hb : L.length ≤ 230) (hc : ¬ 255 < c) (hl9 : isL c) : KM l yJ4_append_3 cJ4_append_3 2 (some (FieldType.object "java/lang/AbstractStringBuilder")) Γ 4 104 1 512 [.ref a, .int c] [[(a, .inr (13, [.ref x.1, .int 0, .int x.2.2.2, .int (nI L.length)]))], [(x.1, .inl (Γ.2.1 1, x.2.1, .inl x.2.2.1))]] [] sz (Qq Γ (fun r_ u_ => ∃ y : SBT, sbF 0 y (L ++ [c]) ∧ r_ = some a ∧ u_ = [[(a, .inr (13, [.ref y.1, .int 0, .int y.2.2.2, .int (nI (L ++ [c]).length)]))], [(y.1, .inl (Γ.2.1 1, y.2.1, .inl y.2.2.1))]])) := by
  refine K_intro (by decide) (Nat.le_of_ble_eq_true rfl) ?_
  intro pr_ ev_ s mi_ below meth cd_ A ls hx hb hr hml hown hts hlocks hname hK hE hRo hP hD hA hS hsz hl
  have hl : lv_has ls 2 [(0, .ref a), (1, .int c)] := hl
  have hown : s.vm.findClass RJ4 = some mi_.cls := hown
  refine lv_aload_n hx hb dJ4_append_3_0 rfl (lv_at hl 0 rfl) ?_
  refine lv_aload_n hx hb dJ4_append_3_1 rfl (lv_at hl 0 rfl) ?_
  refine b_get (C := RJ5) (T := TJ5) (N := 4) (v := .int (nI L.length)) hx hb hts in_J5 hown hK (b_at (k := 0) hP rfl) rfl 3 (by decide) q236 (fun _ h9 => h9) rfl dJ4_append_3_2 ?_
  refine lv_iconst (v := 1) hx hb dJ4_append_3_5 (by decide) ?_
  refine lv_iadd hx hb dJ4_append_3_6 ?_
  refine b_top (nI_addE (a := L.length) (b := 1) (c := L.length + 1) rfl rfl (by first | omega | rfl)) ?_
  have hxl := sbF_len hsb
  by_cases bf : L.length + 1 ≤ x.2.1
  ·
    refine b_callv (br := []) (b_runU (C := RJ5) (owner := "java/lang/AbstractStringBuilder") (x := ⟨"java/lang/AbstractStringBuilder", "ensureCapacityInternal", "(I)V"⟩) ⟨hx, hb, hml, hown, hts⟩ (mt_AB_ens_fit_0 l Γ _ a x.1 x.2.2.2 L.length x.2.1 x.2.2.1 (L.length + 1) (by omega) (by omega)) q587 q2210 (va_Decl.of (hts _ q589) (hts _ q590)) (sel_priv (rfl : RJ4 = RJ4) (hts _ q610) ⟨by decide, by decide⟩ (hts _ q215) (va_Nw.use rfl (hE.1.1 _ q588 rfl)) (hts _ q589)) q589 q69 q590 rfl rfl 1 ⟨by decide, by decide, by decide +kernel⟩ ⟨(Nat.le_of_ble_eq_true rfl), (Nat.le_of_ble_eq_true rfl)⟩ (c_pre hP hD hS hA hK hE [0, 1] rfl rfl ro_nil) (recv_at (q := (RJ5, TJ5, 4)) hK (b_at (k := 0) hP rfl) rfl) rfl hl.1 rfl (Nat.le_of_ble_eq_true rfl) dJ4_append_3_7 ⟨(Nat.le_of_ble_eq_true rfl), (Nat.le_of_ble_eq_true rfl)⟩) hP hD hS hA [0, 1] [] rfl rfl rfl (fun u_1 H locs hw_1 hP hD hS _ => ?_)
    obtain rfl := hw_1
    have hP : WP Γ [[(a, .inr (13, [.ref x.1, .int 0, .int x.2.2.2, .int (nI L.length)]))], [(x.1, .inl (Γ.2.1 1, x.2.1, .inl x.2.2.1))]] H := hP
    have hD : WD A [[(a, .inr (13, [.ref x.1, .int 0, .int x.2.2.2, .int (nI L.length)]))], [(x.1, .inl (Γ.2.1 1, x.2.1, .inl x.2.2.1))]] := hD
    refine lv_aload_n hx hb dJ4_append_3_10 rfl (lv_at hl 0 rfl) ?_
    refine b_calli (br := [[(x.1, .inl (Γ.2.1 1, x.2.1, .inl x.2.2.1))]]) (b_runU (C := RJ5) (owner := "java/lang/AbstractStringBuilder") (x := ⟨"java/lang/AbstractStringBuilder", "isLatin1", "()Z"⟩) ⟨hx, hb, hml, hown, hts⟩ (mt_AB_isLatin1_0 l Γ _ a x.1 x.2.2.2 L.length) q607 q609 (va_Decl.of (hts _ q608) (hts _ q611)) (hts _ q610) q608 q69 q611 rfl rfl 0 ⟨by decide, by decide, by decide +kernel⟩ ⟨(Nat.le_of_ble_eq_true rfl), (Nat.le_of_ble_eq_true rfl)⟩ (c_pre hP hD hS hA hK hE [0] rfl rfl ro_nil) (recv_at (q := (RJ5, TJ5, 4)) hK (b_at (k := 0) hP rfl) rfl) rfl hl.1 rfl (Nat.le_of_ble_eq_true rfl) dJ4_append_3_11 ⟨(Nat.le_of_ble_eq_true rfl), (Nat.le_of_ble_eq_true rfl)⟩) hP hD hS hA [0] [1] rfl rfl rfl (fun r_2 u_2 H locs hw_2 hP hD hS _ => ?_)
    obtain ⟨rfl, rfl⟩ := hw_2
    have hP : WP Γ [[(a, .inr (13, [.ref x.1, .int 0, .int x.2.2.2, .int (nI L.length)]))], [(x.1, .inl (Γ.2.1 1, x.2.1, .inl x.2.2.1))]] H := hP
    have hD : WD A [[(a, .inr (13, [.ref x.1, .int 0, .int x.2.2.2, .int (nI L.length)]))], [(x.1, .inl (Γ.2.1 1, x.2.1, .inl x.2.2.1))]] := hD
    refine lv_if_eq (tgt := 45) hx hb dJ4_append_3_14 (by decide) (fun c_3 => ?_) (fun c_3 => ?_)
    · -- 14 taken
      have n_3 : 1 = 0 := (nI_eq (by omega) (by omega)).mp (show nI 1 = nI 0 from c_3)
      exact absurd n_3 (by omega)
    · -- 14 not taken
      have n_3 : ¬ (1 = 0) := fun h => c_3 ((nI_eq (a := 1) (b := 0) (by omega) (by omega)).mpr h)
      refine lv_iload_n hx hb dJ4_append_3_17 rfl (lv_at hl 1 rfl) ?_
      refine b_calli (br := [[(a, .inr (13, [.ref x.1, .int 0, .int x.2.2.2, .int (nI L.length)]))], [(x.1, .inl (Γ.2.1 1, x.2.1, .inl x.2.2.1))]]) (b_runS ⟨hx, hb, hml, hown, hts⟩ (mt_canEnc_yes l Γ _ c (by first | exact hc | omega)) (lw_S q1517 q1518 q89 q1519) rfl rfl 1 (by decide +kernel) ⟨(Nat.le_of_ble_eq_true rfl), (Nat.le_of_ble_eq_true rfl)⟩ (c_pre hP hD hS hA hK hE [] rfl rfl ro_nil) rfl hl.1 rfl (Nat.le_of_ble_eq_true rfl) dJ4_append_3_18 ⟨(Nat.le_of_ble_eq_true rfl), (Nat.le_of_ble_eq_true rfl)⟩) hP hD hS hA [] [0, 1] rfl rfl rfl (fun r_4 u_4 H locs hw_4 hP hD hS _ => ?_)
      obtain ⟨rfl, rfl⟩ := hw_4
      have hP : WP Γ [[(a, .inr (13, [.ref x.1, .int 0, .int x.2.2.2, .int (nI L.length)]))], [(x.1, .inl (Γ.2.1 1, x.2.1, .inl x.2.2.1))]] H := hP
      have hD : WD A [[(a, .inr (13, [.ref x.1, .int 0, .int x.2.2.2, .int (nI L.length)]))], [(x.1, .inl (Γ.2.1 1, x.2.1, .inl x.2.2.1))]] := hD
      refine lv_if_eq (tgt := 45) hx hb dJ4_append_3_21 (by decide) (fun c_5 => ?_) (fun c_5 => ?_)
      · -- 21 taken
        have n_5 : 1 = 0 := (nI_eq (by omega) (by omega)).mp (show nI 1 = nI 0 from c_5)
        exact absurd n_5 (by omega)
      · -- 21 not taken
        have n_5 : ¬ (1 = 0) := fun h => c_5 ((nI_eq (a := 1) (b := 0) (by omega) (by omega)).mpr h)
        refine lv_aload_n hx hb dJ4_append_3_24 rfl (lv_at hl 0 rfl) ?_
        refine b_get (C := RJ5) (T := TJ5) (N := 4) (v := .ref x.1) hx hb hts in_J5 hown hK (b_at (k := 0) hP rfl) rfl 0 (by decide) q232 (fun _ h9 => h9) rfl dJ4_append_3_25 ?_
        refine lv_aload_n hx hb dJ4_append_3_28 rfl (lv_at hl 0 rfl) ?_
        refine lv_dup hx hb dJ4_append_3_29 rfl ?_
        refine b_get (C := RJ5) (T := TJ5) (N := 4) (v := .int (nI L.length)) hx hb hts in_J5 hown hK (b_at (k := 0) hP rfl) rfl 3 (by decide) q236 (fun _ h9 => h9) rfl dJ4_append_3_30 ?_
        refine lv_dup_x1 hx hb dJ4_append_3_33 rfl rfl ?_
        refine lv_iconst (v := 1) hx hb dJ4_append_3_34 (by decide) ?_
        refine lv_iadd hx hb dJ4_append_3_35 ?_
        refine b_top (nI_addE (a := L.length) (b := 1) (c := L.length + 1) rfl rfl (by first | omega | rfl)) ?_
        refine b_put (C := RJ5) (T := TJ5) (N := 4) (ty := .int) (v := .int (nI (L.length + 1))) hx hb hts in_J5 tyJ5_ok nmJ5 hown hK hP hD hS 0 rfl rfl 3 (by decide) q236 (fun _ h9 => h9) rfl (by decide +kernel) rfl rfl (Nat.le_of_ble_eq_true rfl) dJ4_append_3_36 (fun H locs hP hD hS => ?_)
        have hP : WP Γ [[(a, .inr (13, [.ref x.1, .int 0, .int x.2.2.2, .int (nI (L.length + 1))]))], [(x.1, .inl (Γ.2.1 1, x.2.1, .inl x.2.2.1))]] H := hP
        have hD : WD A [[(a, .inr (13, [.ref x.1, .int 0, .int x.2.2.2, .int (nI (L.length + 1))]))], [(x.1, .inl (Γ.2.1 1, x.2.1, .inl x.2.2.1))]] := hD
        refine lv_iload_n hx hb dJ4_append_3_39 rfl (lv_at hl 1 rfl) ?_
        refine lv_i2b hx hb dJ4_append_3_40 rfl ?_
        refine b_bast hx hb hK hP hD hS 1 rfl L.length rfl (by omega) (by omega) dJ4_append_3_41 (fun H locs hP hD hS => ?_)
        have hP : WP Γ [[(a, .inr (13, [.ref x.1, .int 0, .int x.2.2.2, .int (nI (L.length + 1))]))], [(x.1, .inl (Γ.2.1 1, x.2.1, .inl (upd x.2.2.1 L.length (vp_nar .byte c.toInt8.toInt32))))]] H := hP
        have hD : WD A [[(a, .inr (13, [.ref x.1, .int 0, .int x.2.2.2, .int (nI (L.length + 1))]))], [(x.1, .inl (Γ.2.1 1, x.2.1, .inl (upd x.2.2.1 L.length (vp_nar .byte c.toInt8.toInt32))))]] := hD
        rw [show (upd x.2.2.1 L.length (vp_nar .byte c.toInt8.toInt32)) = (putL x.2.2.1 L.length ([c].map nb)) from by rw [putL_one, show vp_nar .byte (c.toInt8.toInt32) = nb c from nb_i2b c]; rfl] at hP hD
        refine lv_goto (tgt := 75) hx hb dJ4_append_3_42 (by decide) ?_
        refine lv_aload_n hx hb dJ4_append_3_75 rfl (lv_at hl 0 rfl) ?_
        exact b_aret hx hb hr (by first | exact Or.inl ⟨_, rfl⟩ | exact Or.inr ⟨_, rfl⟩) hlocks hP hD hS (Nat.le_of_ble_eq_true rfl) (Nat.le_of_ble_eq_true rfl) ⟨(x.1, x.2.1, (putL x.2.2.1 L.length ([c].map nb)), x.2.2.2), (sbF_put (v := x.1) (cap := x.2.1) (f := x.2.2.1) (ml := x.2.2.2) hsb (by intro d hd; rw [List.mem_singleton.mp hd]; exact hl9) (by first | omega | (simp only [List.length_cons, List.length_nil, Nat.zero_add]; omega))), (by first | with_reducible rfl | (simp [bf, n_3, n_5]; done) | rfl), (by simp only [List.length_append, List.length_cons, List.length_nil, Nat.zero_add])⟩ dJ4_append_3_76
  ·
    have hcp : x.2.1 ≤ cpN x.2.1 (L.length + 1) ∧ cpN x.2.1 (L.length + 1) ≤ 512 := by unfold cpN; split <;> omega
    have hcp2 : L.length + 1 ≤ cpN x.2.1 (L.length + 1) := by unfold cpN; split <;> omega
    refine b_callv (br := []) (b_runU (C := RJ5) (owner := "java/lang/AbstractStringBuilder") (x := ⟨"java/lang/AbstractStringBuilder", "ensureCapacityInternal", "(I)V"⟩) ⟨hx, hb, hml, hown, hts⟩ (mt_AB_ens_grow_0 l Γ _ a x.1 x.2.2.2 L.length x.2.1 x.2.2.1 (L.length + 1) (by omega) (by omega) hxl.2 hsb.2.2.1) q587 q2210 (va_Decl.of (hts _ q589) (hts _ q590)) (sel_priv (rfl : RJ4 = RJ4) (hts _ q610) ⟨by decide, by decide⟩ (hts _ q215) (va_Nw.use rfl (hE.1.1 _ q588 rfl)) (hts _ q589)) q589 q69 q590 rfl rfl 1 ⟨by decide, by decide, by decide +kernel⟩ ⟨(Nat.le_of_ble_eq_true rfl), (Nat.le_of_ble_eq_true rfl)⟩ (c_pre hP hD hS hA hK hE [0, 1] rfl rfl ro_nil) (recv_at (q := (RJ5, TJ5, 4)) hK (b_at (k := 0) hP rfl) rfl) rfl hl.1 rfl (Nat.le_of_ble_eq_true rfl) dJ4_append_3_7 ⟨(by first | omega | (dsimp only; omega)), (by first | omega | (dsimp only; omega))⟩) hP hD hS hA [0, 1] [] rfl rfl rfl (fun u_6 H locs hw_6 hP hD hS _ => ?_)
    obtain ⟨w_6, rfl⟩ := hw_6
    have hP : WP Γ [[(a, .inr (13, [.ref w_6, .int 0, .int x.2.2.2, .int (nI L.length)]))], [(w_6, .inl (Γ.2.1 1, (cpN x.2.1 (L.length + 1)), .inl (va_cpy x.2.2.1 (fun _ => 0) 0 0 x.2.1)))]] H := hP
    have hD : WD A [[(a, .inr (13, [.ref w_6, .int 0, .int x.2.2.2, .int (nI L.length)]))], [(w_6, .inl (Γ.2.1 1, (cpN x.2.1 (L.length + 1)), .inl (va_cpy x.2.2.1 (fun _ => 0) 0 0 x.2.1)))]] := hD
    refine lv_aload_n hx hb dJ4_append_3_10 rfl (lv_at hl 0 rfl) ?_
    refine b_calli (br := [[(w_6, .inl (Γ.2.1 1, (cpN x.2.1 (L.length + 1)), .inl (va_cpy x.2.2.1 (fun _ => 0) 0 0 x.2.1)))]]) (b_runU (C := RJ5) (owner := "java/lang/AbstractStringBuilder") (x := ⟨"java/lang/AbstractStringBuilder", "isLatin1", "()Z"⟩) ⟨hx, hb, hml, hown, hts⟩ (mt_AB_isLatin1_0 l Γ _ a w_6 x.2.2.2 L.length) q607 q609 (va_Decl.of (hts _ q608) (hts _ q611)) (hts _ q610) q608 q69 q611 rfl rfl 0 ⟨by decide, by decide, by decide +kernel⟩ ⟨(Nat.le_of_ble_eq_true rfl), (Nat.le_of_ble_eq_true rfl)⟩ (c_pre hP hD hS hA hK hE [0] rfl rfl ro_nil) (recv_at (q := (RJ5, TJ5, 4)) hK (b_at (k := 0) hP rfl) rfl) rfl hl.1 rfl (Nat.le_of_ble_eq_true rfl) dJ4_append_3_11 ⟨(by first | omega | (dsimp only; omega)), (by first | omega | (dsimp only; omega))⟩) hP hD hS hA [0] [1] rfl rfl rfl (fun r_7 u_7 H locs hw_7 hP hD hS _ => ?_)
    obtain ⟨rfl, rfl⟩ := hw_7
    have hP : WP Γ [[(a, .inr (13, [.ref w_6, .int 0, .int x.2.2.2, .int (nI L.length)]))], [(w_6, .inl (Γ.2.1 1, (cpN x.2.1 (L.length + 1)), .inl (va_cpy x.2.2.1 (fun _ => 0) 0 0 x.2.1)))]] H := hP
    have hD : WD A [[(a, .inr (13, [.ref w_6, .int 0, .int x.2.2.2, .int (nI L.length)]))], [(w_6, .inl (Γ.2.1 1, (cpN x.2.1 (L.length + 1)), .inl (va_cpy x.2.2.1 (fun _ => 0) 0 0 x.2.1)))]] := hD
    refine lv_if_eq (tgt := 45) hx hb dJ4_append_3_14 (by decide) (fun c_8 => ?_) (fun c_8 => ?_)
    · -- 14 taken
      have n_8 : 1 = 0 := (nI_eq (by omega) (by omega)).mp (show nI 1 = nI 0 from c_8)
      exact absurd n_8 (by omega)
    · -- 14 not taken
      have n_8 : ¬ (1 = 0) := fun h => c_8 ((nI_eq (a := 1) (b := 0) (by omega) (by omega)).mpr h)
      refine lv_iload_n hx hb dJ4_append_3_17 rfl (lv_at hl 1 rfl) ?_
      refine b_calli (br := [[(a, .inr (13, [.ref w_6, .int 0, .int x.2.2.2, .int (nI L.length)]))], [(w_6, .inl (Γ.2.1 1, (cpN x.2.1 (L.length + 1)), .inl (va_cpy x.2.2.1 (fun _ => 0) 0 0 x.2.1)))]]) (b_runS ⟨hx, hb, hml, hown, hts⟩ (mt_canEnc_yes l Γ _ c (by first | exact hc | omega)) (lw_S q1517 q1518 q89 q1519) rfl rfl 1 (by decide +kernel) ⟨(Nat.le_of_ble_eq_true rfl), (Nat.le_of_ble_eq_true rfl)⟩ (c_pre hP hD hS hA hK hE [] rfl rfl ro_nil) rfl hl.1 rfl (Nat.le_of_ble_eq_true rfl) dJ4_append_3_18 ⟨(by first | omega | (dsimp only; omega)), (by first | omega | (dsimp only; omega))⟩) hP hD hS hA [] [0, 1] rfl rfl rfl (fun r_9 u_9 H locs hw_9 hP hD hS _ => ?_)
      obtain ⟨rfl, rfl⟩ := hw_9
      have hP : WP Γ [[(a, .inr (13, [.ref w_6, .int 0, .int x.2.2.2, .int (nI L.length)]))], [(w_6, .inl (Γ.2.1 1, (cpN x.2.1 (L.length + 1)), .inl (va_cpy x.2.2.1 (fun _ => 0) 0 0 x.2.1)))]] H := hP
      have hD : WD A [[(a, .inr (13, [.ref w_6, .int 0, .int x.2.2.2, .int (nI L.length)]))], [(w_6, .inl (Γ.2.1 1, (cpN x.2.1 (L.length + 1)), .inl (va_cpy x.2.2.1 (fun _ => 0) 0 0 x.2.1)))]] := hD
      refine lv_if_eq (tgt := 45) hx hb dJ4_append_3_21 (by decide) (fun c_10 => ?_) (fun c_10 => ?_)
      · -- 21 taken
        have n_10 : 1 = 0 := (nI_eq (by omega) (by omega)).mp (show nI 1 = nI 0 from c_10)
        exact absurd n_10 (by omega)
      · -- 21 not taken
        have n_10 : ¬ (1 = 0) := fun h => c_10 ((nI_eq (a := 1) (b := 0) (by omega) (by omega)).mpr h)
        refine lv_aload_n hx hb dJ4_append_3_24 rfl (lv_at hl 0 rfl) ?_
        refine b_get (C := RJ5) (T := TJ5) (N := 4) (v := .ref w_6) hx hb hts in_J5 hown hK (b_at (k := 0) hP rfl) rfl 0 (by decide) q232 (fun _ h9 => h9) rfl dJ4_append_3_25 ?_
        refine lv_aload_n hx hb dJ4_append_3_28 rfl (lv_at hl 0 rfl) ?_
        refine lv_dup hx hb dJ4_append_3_29 rfl ?_
        refine b_get (C := RJ5) (T := TJ5) (N := 4) (v := .int (nI L.length)) hx hb hts in_J5 hown hK (b_at (k := 0) hP rfl) rfl 3 (by decide) q236 (fun _ h9 => h9) rfl dJ4_append_3_30 ?_
        refine lv_dup_x1 hx hb dJ4_append_3_33 rfl rfl ?_
        refine lv_iconst (v := 1) hx hb dJ4_append_3_34 (by decide) ?_
        refine lv_iadd hx hb dJ4_append_3_35 ?_
        refine b_top (nI_addE (a := L.length) (b := 1) (c := L.length + 1) rfl rfl (by first | omega | rfl)) ?_
        refine b_put (C := RJ5) (T := TJ5) (N := 4) (ty := .int) (v := .int (nI (L.length + 1))) hx hb hts in_J5 tyJ5_ok nmJ5 hown hK hP hD hS 0 rfl rfl 3 (by decide) q236 (fun _ h9 => h9) rfl (by decide +kernel) rfl rfl (Nat.le_of_ble_eq_true rfl) dJ4_append_3_36 (fun H locs hP hD hS => ?_)
        have hP : WP Γ [[(a, .inr (13, [.ref w_6, .int 0, .int x.2.2.2, .int (nI (L.length + 1))]))], [(w_6, .inl (Γ.2.1 1, (cpN x.2.1 (L.length + 1)), .inl (va_cpy x.2.2.1 (fun _ => 0) 0 0 x.2.1)))]] H := hP
        have hD : WD A [[(a, .inr (13, [.ref w_6, .int 0, .int x.2.2.2, .int (nI (L.length + 1))]))], [(w_6, .inl (Γ.2.1 1, (cpN x.2.1 (L.length + 1)), .inl (va_cpy x.2.2.1 (fun _ => 0) 0 0 x.2.1)))]] := hD
        refine lv_iload_n hx hb dJ4_append_3_39 rfl (lv_at hl 1 rfl) ?_
        refine lv_i2b hx hb dJ4_append_3_40 rfl ?_
        refine b_bast hx hb hK hP hD hS 1 rfl L.length rfl (by omega) (by omega) dJ4_append_3_41 (fun H locs hP hD hS => ?_)
        have hP : WP Γ [[(a, .inr (13, [.ref w_6, .int 0, .int x.2.2.2, .int (nI (L.length + 1))]))], [(w_6, .inl (Γ.2.1 1, (cpN x.2.1 (L.length + 1)), .inl (upd (va_cpy x.2.2.1 (fun _ => 0) 0 0 x.2.1) L.length (vp_nar .byte c.toInt8.toInt32))))]] H := hP
        have hD : WD A [[(a, .inr (13, [.ref w_6, .int 0, .int x.2.2.2, .int (nI (L.length + 1))]))], [(w_6, .inl (Γ.2.1 1, (cpN x.2.1 (L.length + 1)), .inl (upd (va_cpy x.2.2.1 (fun _ => 0) 0 0 x.2.1) L.length (vp_nar .byte c.toInt8.toInt32))))]] := hD
        rw [show (upd (va_cpy x.2.2.1 (fun _ => 0) 0 0 x.2.1) L.length (vp_nar .byte c.toInt8.toInt32)) = (putL (va_cpy x.2.2.1 (fun _ => 0) 0 0 x.2.1) L.length ([c].map nb)) from by rw [putL_one, show vp_nar .byte (c.toInt8.toInt32) = nb c from nb_i2b c]; rfl] at hP hD
        have hcp3 : L.length + [c].length ≤ cpN x.2.1 (L.length + 1) := hcp2
        refine lv_goto (tgt := 75) hx hb dJ4_append_3_42 (by decide) ?_
        refine lv_aload_n hx hb dJ4_append_3_75 rfl (lv_at hl 0 rfl) ?_
        exact b_aret hx hb hr (by first | exact Or.inl ⟨_, rfl⟩ | exact Or.inr ⟨_, rfl⟩) hlocks hP hD hS (by first | omega | (dsimp only; omega)) (by first | omega | (dsimp only; omega)) ⟨(w_6, (cpN x.2.1 (L.length + 1)), (putL (va_cpy x.2.2.1 (fun _ => 0) 0 0 x.2.1) L.length ([c].map nb)), x.2.2.2), (sbF_put (sbF_grow (v2 := w_6) (cap2 := (cpN x.2.1 (L.length + 1))) (v := x.1) (cap := x.2.1) (f := x.2.2.1) (ml := x.2.2.2) hsb hcp.1 hcp.2) (by intro d hd; rw [List.mem_singleton.mp hd]; exact hl9) hcp3), (by first | with_reducible rfl | (simp [bf, n_8, n_10]; done) | rfl), (by simp only [List.length_append, List.length_cons, List.length_nil, Nat.zero_add])⟩ dJ4_append_3_76
set_option maxHeartbeats 4000000 in
set_option maxRecDepth 100000 in
theorem mt_AB_appi (l : Launch) (Γ : GE) (sz : Nat) (a : Nat) (x : SBT) (L : List Int32) (n : Int32) (hsb : sbF 0 x L) (hb : L.length ≤ 230) : KM l yJ4_append cJ4_append 4 (some (FieldType.object "java/lang/AbstractStringBuilder")) Γ 4 104 1 512 [.ref a, .int n] [[(a, .inr (13, [.ref x.1, .int 0, .int x.2.2.2, .int (nI L.length)]))], [(x.1, .inl (Γ.2.1 1, x.2.1, .inl x.2.2.1))]] [] sz (Qq Γ (fun r_ u_ => ∃ y : SBT, sbF 0 y (L ++ intL n) ∧ r_ = some a ∧ u_ = [[(a, .inr (13, [.ref y.1, .int 0, .int y.2.2.2, .int (nI (L ++ intL n).length)]))], [(y.1, .inl (Γ.2.1 1, y.2.1, .inl y.2.2.1))]])) := by
  refine K_intro (by decide) (Nat.le_of_ble_eq_true rfl) ?_
  intro pr_ ev_ s mi_ below meth cd_ A ls hx hb hr hml hown hts hlocks hname hK hE hRo hP hD hA hS hsz hl
  have hl : lv_has ls 4 [(0, .ref a), (1, .int n)] := hl
  have hown : s.vm.findClass RJ4 = some mi_.cls := hown
  have hil := intL_le n
  refine lv_aload_n hx hb dJ4_append_0 rfl (lv_at hl 0 rfl) ?_
  refine b_get (C := RJ5) (T := TJ5) (N := 4) (v := .int (nI L.length)) hx hb hts in_J5 hown hK (b_at (k := 0) hP rfl) rfl 3 (by decide) q236 (fun _ h9 => h9) rfl dJ4_append_1 ?_
  refine lv_istore_n (lv' := [(2, .int (nI L.length)), (0, .ref a), (1, .int n)]) hx hb dJ4_append_4 rfl hl (by decide) rfl (fun ls hl => ?_)
  refine lv_iload_n hx hb dJ4_append_5 rfl (lv_at hl 0 rfl) ?_
  refine lv_iload_n hx hb dJ4_append_6 rfl (lv_at hl 2 rfl) ?_
  refine b_calli (br := [[(a, .inr (13, [.ref x.1, .int 0, .int x.2.2.2, .int (nI L.length)]))], [(x.1, .inl (Γ.2.1 1, x.2.1, .inl x.2.2.1))]]) (b_runS ⟨hx, hb, hml, hown, hts⟩ (mt_stringSize l Γ _ n) (lw_S q584 q585 q87 q586) rfl rfl 1 (by decide +kernel) ⟨(Nat.le_of_ble_eq_true rfl), (Nat.le_of_ble_eq_true rfl)⟩ (c_pre hP hD hS hA hK hE [] rfl rfl ro_nil) rfl hl.1 rfl (Nat.le_of_ble_eq_true rfl) dJ4_append_7 ⟨(Nat.le_of_ble_eq_true rfl), (Nat.le_of_ble_eq_true rfl)⟩) hP hD hS hA [] [0, 1] rfl rfl rfl (fun r_1 u_1 H locs hw_1 hP hD hS _ => ?_)
  obtain ⟨rfl, rfl⟩ := hw_1
  have hP : WP Γ [[(a, .inr (13, [.ref x.1, .int 0, .int x.2.2.2, .int (nI L.length)]))], [(x.1, .inl (Γ.2.1 1, x.2.1, .inl x.2.2.1))]] H := hP
  have hD : WD A [[(a, .inr (13, [.ref x.1, .int 0, .int x.2.2.2, .int (nI L.length)]))], [(x.1, .inl (Γ.2.1 1, x.2.1, .inl x.2.2.1))]] := hD
  refine lv_iadd hx hb dJ4_append_10 ?_
  refine b_top (nI_addE (a := L.length) (b := (intL n).length) (c := L.length + (intL n).length) rfl rfl (by first | omega | rfl)) ?_
  refine lv_istore_n (lv' := [(3, .int (nI (L.length + (intL n).length))), (2, .int (nI L.length)), (0, .ref a), (1, .int n)]) hx hb dJ4_append_11 rfl hl (by decide) rfl (fun ls hl => ?_)
  refine lv_aload_n hx hb dJ4_append_12 rfl (lv_at hl 2 rfl) ?_
  refine lv_iload_n hx hb dJ4_append_13 rfl (lv_at hl 0 rfl) ?_
  have hxl := sbF_len hsb
  by_cases bf : L.length + (intL n).length ≤ x.2.1
  ·
    refine b_callv (br := []) (b_runU (C := RJ5) (owner := "java/lang/AbstractStringBuilder") (x := ⟨"java/lang/AbstractStringBuilder", "ensureCapacityInternal", "(I)V"⟩) ⟨hx, hb, hml, hown, hts⟩ (mt_AB_ens_fit_0 l Γ _ a x.1 x.2.2.2 L.length x.2.1 x.2.2.1 (L.length + (intL n).length) (by omega) (by omega)) q587 q2210 (va_Decl.of (hts _ q589) (hts _ q590)) (sel_priv (rfl : RJ4 = RJ4) (hts _ q610) ⟨by decide, by decide⟩ (hts _ q215) (va_Nw.use rfl (hE.1.1 _ q588 rfl)) (hts _ q589)) q589 q69 q590 rfl rfl 1 ⟨by decide, by decide, by decide +kernel⟩ ⟨(Nat.le_of_ble_eq_true rfl), (Nat.le_of_ble_eq_true rfl)⟩ (c_pre hP hD hS hA hK hE [0, 1] rfl rfl ro_nil) (recv_at (q := (RJ5, TJ5, 4)) hK (b_at (k := 0) hP rfl) rfl) rfl hl.1 rfl (Nat.le_of_ble_eq_true rfl) dJ4_append_14 ⟨(Nat.le_of_ble_eq_true rfl), (Nat.le_of_ble_eq_true rfl)⟩) hP hD hS hA [0, 1] [] rfl rfl rfl (fun u_2 H locs hw_2 hP hD hS _ => ?_)
    obtain rfl := hw_2
    have hP : WP Γ [[(a, .inr (13, [.ref x.1, .int 0, .int x.2.2.2, .int (nI L.length)]))], [(x.1, .inl (Γ.2.1 1, x.2.1, .inl x.2.2.1))]] H := hP
    have hD : WD A [[(a, .inr (13, [.ref x.1, .int 0, .int x.2.2.2, .int (nI L.length)]))], [(x.1, .inl (Γ.2.1 1, x.2.1, .inl x.2.2.1))]] := hD
    refine lv_aload_n hx hb dJ4_append_17 rfl (lv_at hl 2 rfl) ?_
    refine b_calli (br := [[(x.1, .inl (Γ.2.1 1, x.2.1, .inl x.2.2.1))]]) (b_runU (C := RJ5) (owner := "java/lang/AbstractStringBuilder") (x := ⟨"java/lang/AbstractStringBuilder", "isLatin1", "()Z"⟩) ⟨hx, hb, hml, hown, hts⟩ (mt_AB_isLatin1_0 l Γ _ a x.1 x.2.2.2 L.length) q607 q609 (va_Decl.of (hts _ q608) (hts _ q611)) (hts _ q610) q608 q69 q611 rfl rfl 0 ⟨by decide, by decide, by decide +kernel⟩ ⟨(Nat.le_of_ble_eq_true rfl), (Nat.le_of_ble_eq_true rfl)⟩ (c_pre hP hD hS hA hK hE [0] rfl rfl ro_nil) (recv_at (q := (RJ5, TJ5, 4)) hK (b_at (k := 0) hP rfl) rfl) rfl hl.1 rfl (Nat.le_of_ble_eq_true rfl) dJ4_append_18 ⟨(Nat.le_of_ble_eq_true rfl), (Nat.le_of_ble_eq_true rfl)⟩) hP hD hS hA [0] [1] rfl rfl rfl (fun r_3 u_3 H locs hw_3 hP hD hS _ => ?_)
    obtain ⟨rfl, rfl⟩ := hw_3
    have hP : WP Γ [[(a, .inr (13, [.ref x.1, .int 0, .int x.2.2.2, .int (nI L.length)]))], [(x.1, .inl (Γ.2.1 1, x.2.1, .inl x.2.2.1))]] H := hP
    have hD : WD A [[(a, .inr (13, [.ref x.1, .int 0, .int x.2.2.2, .int (nI L.length)]))], [(x.1, .inl (Γ.2.1 1, x.2.1, .inl x.2.2.1))]] := hD
    refine lv_if_eq (tgt := 37) hx hb dJ4_append_21 (by decide) (fun c_4 => ?_) (fun c_4 => ?_)
    · -- 21 taken
      have n_4 : 1 = 0 := (nI_eq (by omega) (by omega)).mp (show nI 1 = nI 0 from c_4)
      exact absurd n_4 (by omega)
    · -- 21 not taken
      have n_4 : ¬ (1 = 0) := fun h => c_4 ((nI_eq (a := 1) (b := 0) (by omega) (by omega)).mpr h)
      refine lv_iload_n hx hb dJ4_append_24 rfl (lv_at hl 3 rfl) ?_
      refine lv_iload_n hx hb dJ4_append_25 rfl (lv_at hl 0 rfl) ?_
      refine lv_aload_n hx hb dJ4_append_26 rfl (lv_at hl 2 rfl) ?_
      refine b_get (C := RJ5) (T := TJ5) (N := 4) (v := .ref x.1) hx hb hts in_J5 hown hK (b_at (k := 0) hP rfl) rfl 0 (by decide) q232 (fun _ h9 => h9) rfl dJ4_append_27 ?_
      refine b_calli (br := [[(a, .inr (13, [.ref x.1, .int 0, .int x.2.2.2, .int (nI L.length)]))]]) (b_runS ⟨hx, hb, hml, hown, hts⟩ (mt_getChars l Γ _ n L.length x.1 x.2.1 x.2.2.1 (by omega) (by omega)) (lw_S q612 q613 q87 q614) rfl rfl 3 (by decide +kernel) ⟨(Nat.le_of_ble_eq_true rfl), (Nat.le_of_ble_eq_true rfl)⟩ (c_pre hP hD hS hA hK hE [1] rfl rfl ro_nil) rfl hl.1 rfl (Nat.le_of_ble_eq_true rfl) dJ4_append_30 ⟨(Nat.le_of_ble_eq_true rfl), (Nat.le_of_ble_eq_true rfl)⟩) hP hD hS hA [1] [0] rfl rfl rfl (fun r_5 u_5 H locs hw_5 hP hD hS _ => ?_)
      obtain ⟨rfl, rfl⟩ := hw_5
      have hP : WP Γ [[(x.1, .inl (Γ.2.1 1, x.2.1, .inl (putL x.2.2.1 L.length (intL n))))], [(a, .inr (13, [.ref x.1, .int 0, .int x.2.2.2, .int (nI L.length)]))]] H := hP
      have hD : WD A [[(x.1, .inl (Γ.2.1 1, x.2.1, .inl (putL x.2.2.1 L.length (intL n))))], [(a, .inr (13, [.ref x.1, .int 0, .int x.2.2.2, .int (nI L.length)]))]] := hD
      rw [show (putL x.2.2.1 L.length (intL n)) = (putL x.2.2.1 L.length ((intL n).map nb)) from by rw [map_nb (intL_isL n)]] at hP hD
      refine lv_pop hx hb dJ4_append_33 rfl ?_
      refine lv_goto (tgt := 48) hx hb dJ4_append_34 (by decide) ?_
      refine lv_aload_n hx hb dJ4_append_48 rfl (lv_at hl 2 rfl) ?_
      refine lv_iload_n hx hb dJ4_append_49 rfl (lv_at hl 0 rfl) ?_
      refine b_put (C := RJ5) (T := TJ5) (N := 4) (ty := .int) (v := .int (nI (L.length + (intL n).length))) hx hb hts in_J5 tyJ5_ok nmJ5 hown hK hP hD hS 1 rfl rfl 3 (by decide) q236 (fun _ h9 => h9) rfl (by decide +kernel) rfl rfl (Nat.le_of_ble_eq_true rfl) dJ4_append_50 (fun H locs hP hD hS => ?_)
      have hP : WP Γ [[(x.1, .inl (Γ.2.1 1, x.2.1, .inl (putL x.2.2.1 L.length ((intL n).map nb))))], [(a, .inr (13, [.ref x.1, .int 0, .int x.2.2.2, .int (nI (L.length + (intL n).length))]))]] H := hP
      have hD : WD A [[(x.1, .inl (Γ.2.1 1, x.2.1, .inl (putL x.2.2.1 L.length ((intL n).map nb))))], [(a, .inr (13, [.ref x.1, .int 0, .int x.2.2.2, .int (nI (L.length + (intL n).length))]))]] := hD
      refine lv_aload_n hx hb dJ4_append_53 rfl (lv_at hl 2 rfl) ?_
      have hP : WP Γ [[(a, .inr (13, [.ref x.1, .int 0, .int x.2.2.2, .int (nI (L.length + (intL n).length))]))], [(x.1, .inl (Γ.2.1 1, x.2.1, .inl (putL x.2.2.1 L.length ((intL n).map nb))))]] H := bP_sel hP [1, 0] rfl
      have hD : WD A [[(a, .inr (13, [.ref x.1, .int 0, .int x.2.2.2, .int (nI (L.length + (intL n).length))]))], [(x.1, .inl (Γ.2.1 1, x.2.1, .inl (putL x.2.2.1 L.length ((intL n).map nb))))]] := bD_sel hD [1, 0] rfl rfl
      exact b_aret hx hb hr (by first | exact Or.inl ⟨_, rfl⟩ | exact Or.inr ⟨_, rfl⟩) hlocks hP hD hS (Nat.le_of_ble_eq_true rfl) (Nat.le_of_ble_eq_true rfl) ⟨(x.1, x.2.1, (putL x.2.2.1 L.length ((intL n).map nb)), x.2.2.2), (sbF_put (v := x.1) (cap := x.2.1) (f := x.2.2.1) (ml := x.2.2.2) hsb (fun d hd => (intL_isL n d hd).1) (by first | omega | (simp only [List.length_cons, List.length_nil, Nat.zero_add]; omega))), (by first | with_reducible rfl | (simp [bf, n_4]; done) | rfl), (by simp only [List.length_append, List.length_cons, List.length_nil, Nat.zero_add])⟩ dJ4_append_54
  ·
    have hcp : x.2.1 ≤ cpN x.2.1 (L.length + (intL n).length) ∧ cpN x.2.1 (L.length + (intL n).length) ≤ 512 := by unfold cpN; split <;> omega
    have hcp2 : L.length + (intL n).length ≤ cpN x.2.1 (L.length + (intL n).length) := by unfold cpN; split <;> omega
    refine b_callv (br := []) (b_runU (C := RJ5) (owner := "java/lang/AbstractStringBuilder") (x := ⟨"java/lang/AbstractStringBuilder", "ensureCapacityInternal", "(I)V"⟩) ⟨hx, hb, hml, hown, hts⟩ (mt_AB_ens_grow_0 l Γ _ a x.1 x.2.2.2 L.length x.2.1 x.2.2.1 (L.length + (intL n).length) (by omega) (by omega) hxl.2 hsb.2.2.1) q587 q2210 (va_Decl.of (hts _ q589) (hts _ q590)) (sel_priv (rfl : RJ4 = RJ4) (hts _ q610) ⟨by decide, by decide⟩ (hts _ q215) (va_Nw.use rfl (hE.1.1 _ q588 rfl)) (hts _ q589)) q589 q69 q590 rfl rfl 1 ⟨by decide, by decide, by decide +kernel⟩ ⟨(Nat.le_of_ble_eq_true rfl), (Nat.le_of_ble_eq_true rfl)⟩ (c_pre hP hD hS hA hK hE [0, 1] rfl rfl ro_nil) (recv_at (q := (RJ5, TJ5, 4)) hK (b_at (k := 0) hP rfl) rfl) rfl hl.1 rfl (Nat.le_of_ble_eq_true rfl) dJ4_append_14 ⟨(by first | omega | (dsimp only; omega)), (by first | omega | (dsimp only; omega))⟩) hP hD hS hA [0, 1] [] rfl rfl rfl (fun u_6 H locs hw_6 hP hD hS _ => ?_)
    obtain ⟨w_6, rfl⟩ := hw_6
    have hP : WP Γ [[(a, .inr (13, [.ref w_6, .int 0, .int x.2.2.2, .int (nI L.length)]))], [(w_6, .inl (Γ.2.1 1, (cpN x.2.1 (L.length + (intL n).length)), .inl (va_cpy x.2.2.1 (fun _ => 0) 0 0 x.2.1)))]] H := hP
    have hD : WD A [[(a, .inr (13, [.ref w_6, .int 0, .int x.2.2.2, .int (nI L.length)]))], [(w_6, .inl (Γ.2.1 1, (cpN x.2.1 (L.length + (intL n).length)), .inl (va_cpy x.2.2.1 (fun _ => 0) 0 0 x.2.1)))]] := hD
    refine lv_aload_n hx hb dJ4_append_17 rfl (lv_at hl 2 rfl) ?_
    refine b_calli (br := [[(w_6, .inl (Γ.2.1 1, (cpN x.2.1 (L.length + (intL n).length)), .inl (va_cpy x.2.2.1 (fun _ => 0) 0 0 x.2.1)))]]) (b_runU (C := RJ5) (owner := "java/lang/AbstractStringBuilder") (x := ⟨"java/lang/AbstractStringBuilder", "isLatin1", "()Z"⟩) ⟨hx, hb, hml, hown, hts⟩ (mt_AB_isLatin1_0 l Γ _ a w_6 x.2.2.2 L.length) q607 q609 (va_Decl.of (hts _ q608) (hts _ q611)) (hts _ q610) q608 q69 q611 rfl rfl 0 ⟨by decide, by decide, by decide +kernel⟩ ⟨(Nat.le_of_ble_eq_true rfl), (Nat.le_of_ble_eq_true rfl)⟩ (c_pre hP hD hS hA hK hE [0] rfl rfl ro_nil) (recv_at (q := (RJ5, TJ5, 4)) hK (b_at (k := 0) hP rfl) rfl) rfl hl.1 rfl (Nat.le_of_ble_eq_true rfl) dJ4_append_18 ⟨(by first | omega | (dsimp only; omega)), (by first | omega | (dsimp only; omega))⟩) hP hD hS hA [0] [1] rfl rfl rfl (fun r_7 u_7 H locs hw_7 hP hD hS _ => ?_)
    obtain ⟨rfl, rfl⟩ := hw_7
    have hP : WP Γ [[(a, .inr (13, [.ref w_6, .int 0, .int x.2.2.2, .int (nI L.length)]))], [(w_6, .inl (Γ.2.1 1, (cpN x.2.1 (L.length + (intL n).length)), .inl (va_cpy x.2.2.1 (fun _ => 0) 0 0 x.2.1)))]] H := hP
    have hD : WD A [[(a, .inr (13, [.ref w_6, .int 0, .int x.2.2.2, .int (nI L.length)]))], [(w_6, .inl (Γ.2.1 1, (cpN x.2.1 (L.length + (intL n).length)), .inl (va_cpy x.2.2.1 (fun _ => 0) 0 0 x.2.1)))]] := hD
    refine lv_if_eq (tgt := 37) hx hb dJ4_append_21 (by decide) (fun c_8 => ?_) (fun c_8 => ?_)
    · -- 21 taken
      have n_8 : 1 = 0 := (nI_eq (by omega) (by omega)).mp (show nI 1 = nI 0 from c_8)
      exact absurd n_8 (by omega)
    · -- 21 not taken
      have n_8 : ¬ (1 = 0) := fun h => c_8 ((nI_eq (a := 1) (b := 0) (by omega) (by omega)).mpr h)
      refine lv_iload_n hx hb dJ4_append_24 rfl (lv_at hl 3 rfl) ?_
      refine lv_iload_n hx hb dJ4_append_25 rfl (lv_at hl 0 rfl) ?_
      refine lv_aload_n hx hb dJ4_append_26 rfl (lv_at hl 2 rfl) ?_
      refine b_get (C := RJ5) (T := TJ5) (N := 4) (v := .ref w_6) hx hb hts in_J5 hown hK (b_at (k := 0) hP rfl) rfl 0 (by decide) q232 (fun _ h9 => h9) rfl dJ4_append_27 ?_
      refine b_calli (br := [[(a, .inr (13, [.ref w_6, .int 0, .int x.2.2.2, .int (nI L.length)]))]]) (b_runS ⟨hx, hb, hml, hown, hts⟩ (mt_getChars l Γ _ n L.length w_6 (cpN x.2.1 (L.length + (intL n).length)) (va_cpy x.2.2.1 (fun _ => 0) 0 0 x.2.1) (by omega) (by omega)) (lw_S q612 q613 q87 q614) rfl rfl 3 (by decide +kernel) ⟨(Nat.le_of_ble_eq_true rfl), (Nat.le_of_ble_eq_true rfl)⟩ (c_pre hP hD hS hA hK hE [1] rfl rfl ro_nil) rfl hl.1 rfl (Nat.le_of_ble_eq_true rfl) dJ4_append_30 ⟨(by first | omega | (dsimp only; omega)), (by first | omega | (dsimp only; omega))⟩) hP hD hS hA [1] [0] rfl rfl rfl (fun r_9 u_9 H locs hw_9 hP hD hS _ => ?_)
      obtain ⟨rfl, rfl⟩ := hw_9
      have hP : WP Γ [[(w_6, .inl (Γ.2.1 1, (cpN x.2.1 (L.length + (intL n).length)), .inl (putL (va_cpy x.2.2.1 (fun _ => 0) 0 0 x.2.1) L.length (intL n))))], [(a, .inr (13, [.ref w_6, .int 0, .int x.2.2.2, .int (nI L.length)]))]] H := hP
      have hD : WD A [[(w_6, .inl (Γ.2.1 1, (cpN x.2.1 (L.length + (intL n).length)), .inl (putL (va_cpy x.2.2.1 (fun _ => 0) 0 0 x.2.1) L.length (intL n))))], [(a, .inr (13, [.ref w_6, .int 0, .int x.2.2.2, .int (nI L.length)]))]] := hD
      rw [show (putL (va_cpy x.2.2.1 (fun _ => 0) 0 0 x.2.1) L.length (intL n)) = (putL (va_cpy x.2.2.1 (fun _ => 0) 0 0 x.2.1) L.length ((intL n).map nb)) from by rw [map_nb (intL_isL n)]] at hP hD
      have hcp3 : L.length + (intL n).length ≤ cpN x.2.1 (L.length + (intL n).length) := hcp2
      refine lv_pop hx hb dJ4_append_33 rfl ?_
      refine lv_goto (tgt := 48) hx hb dJ4_append_34 (by decide) ?_
      refine lv_aload_n hx hb dJ4_append_48 rfl (lv_at hl 2 rfl) ?_
      refine lv_iload_n hx hb dJ4_append_49 rfl (lv_at hl 0 rfl) ?_
      refine b_put (C := RJ5) (T := TJ5) (N := 4) (ty := .int) (v := .int (nI (L.length + (intL n).length))) hx hb hts in_J5 tyJ5_ok nmJ5 hown hK hP hD hS 1 rfl rfl 3 (by decide) q236 (fun _ h9 => h9) rfl (by decide +kernel) rfl rfl (Nat.le_of_ble_eq_true rfl) dJ4_append_50 (fun H locs hP hD hS => ?_)
      have hP : WP Γ [[(w_6, .inl (Γ.2.1 1, (cpN x.2.1 (L.length + (intL n).length)), .inl (putL (va_cpy x.2.2.1 (fun _ => 0) 0 0 x.2.1) L.length ((intL n).map nb))))], [(a, .inr (13, [.ref w_6, .int 0, .int x.2.2.2, .int (nI (L.length + (intL n).length))]))]] H := hP
      have hD : WD A [[(w_6, .inl (Γ.2.1 1, (cpN x.2.1 (L.length + (intL n).length)), .inl (putL (va_cpy x.2.2.1 (fun _ => 0) 0 0 x.2.1) L.length ((intL n).map nb))))], [(a, .inr (13, [.ref w_6, .int 0, .int x.2.2.2, .int (nI (L.length + (intL n).length))]))]] := hD
      refine lv_aload_n hx hb dJ4_append_53 rfl (lv_at hl 2 rfl) ?_
      have hP : WP Γ [[(a, .inr (13, [.ref w_6, .int 0, .int x.2.2.2, .int (nI (L.length + (intL n).length))]))], [(w_6, .inl (Γ.2.1 1, (cpN x.2.1 (L.length + (intL n).length)), .inl (putL (va_cpy x.2.2.1 (fun _ => 0) 0 0 x.2.1) L.length ((intL n).map nb))))]] H := bP_sel hP [1, 0] rfl
      have hD : WD A [[(a, .inr (13, [.ref w_6, .int 0, .int x.2.2.2, .int (nI (L.length + (intL n).length))]))], [(w_6, .inl (Γ.2.1 1, (cpN x.2.1 (L.length + (intL n).length)), .inl (putL (va_cpy x.2.2.1 (fun _ => 0) 0 0 x.2.1) L.length ((intL n).map nb))))]] := bD_sel hD [1, 0] rfl rfl
      exact b_aret hx hb hr (by first | exact Or.inl ⟨_, rfl⟩ | exact Or.inr ⟨_, rfl⟩) hlocks hP hD hS (by first | omega | (dsimp only; omega)) (by first | omega | (dsimp only; omega)) ⟨(w_6, (cpN x.2.1 (L.length + (intL n).length)), (putL (va_cpy x.2.2.1 (fun _ => 0) 0 0 x.2.1) L.length ((intL n).map nb)), x.2.2.2), (sbF_put (sbF_grow (v2 := w_6) (cap2 := (cpN x.2.1 (L.length + (intL n).length))) (v := x.1) (cap := x.2.1) (f := x.2.2.1) (ml := x.2.2.2) hsb hcp.1 hcp.2) (fun d hd => (intL_isL n d hd).1) hcp3), (by first | with_reducible rfl | (simp [bf, n_8]; done) | rfl), (by simp only [List.length_append, List.length_cons, List.length_nil, Nat.zero_add])⟩ dJ4_append_54
set_option maxHeartbeats 4000000 in
set_option maxRecDepth 100000 in
theorem mt_Str_getBytesK (l : Launch) (Γ : GE) (sz : Nat) (i : Nat) (d : Nat) (n : Nat) (g : Nat → Int32) (p : Nat) (hi : i < nStr) (hp : p + (str_by i).length ≤ n) (hn : n ≤ 2000) : KM l yJ6_getBytes cJ6_getBytes 4 none Γ 1 60 0 0 [.ref (adK Γ i), .ref d, .int (nI p), .int 0] [[(d, .inl (Γ.2.1 1, n, .inl g))]] [[((adK Γ i), .inr (14, [.ref (adV Γ i), .int 0, .int 0, .int 0]))], [((adV Γ i), .inl (Γ.2.1 1, (str_by i).length, .inl (fun j => (str_by i).getD j 0)))]] sz (Qv Γ (fun u_ => u_ = [[(d, .inl (Γ.2.1 1, n, .inl (putL g p (str_by i))))]])) := by
  refine K_intro (by decide) (Nat.le_of_ble_eq_true rfl) ?_
  intro pr_ ev_ s mi_ below meth cd_ A ls hx hb hr hml hown hts hlocks hname hK hE hRo hP hD hA hS hsz hl
  have hl : lv_has ls 4 [(0, .ref (adK Γ i)), (1, .ref d), (2, .int (nI p)), (3, .int 0)] := hl
  have hown : s.vm.findClass RJ6 = some mi_.cls := hown
  have hsl := str_len i hi
  refine lv_aload_n hx hb dJ6_getBytes_0 rfl (lv_at hl 0 rfl) ?_
  refine b_calli (br := [[(d, .inl (Γ.2.1 1, n, .inl g))]]) (b_runV ⟨hx, hb, hml, hown, hts⟩ (mt_Str_coder_0 l Γ _ (adK Γ i) (adV Γ i) 0 0) (lw_V q669 q670 q671 q71 q672) rfl rfl 0 (by decide +kernel) ⟨(Nat.le_of_ble_eq_true rfl), (Nat.le_of_ble_eq_true rfl)⟩ (c_pre hP hD hS hA hK hE [] rfl rfl (ro_pass (ro_sel (ro2 := [[((adK Γ i), .inr (14, [.ref (adV Γ i), .int 0, .int 0, .int 0]))]]) hRo [0] rfl) hD hS hA [] rfl)) (recv_ro (b := adK Γ i) (fs := [.ref (adV Γ i), .int 0, .int 0, .int 0]) hK (hE.str hS (fun _ h => h) i hi (strO Γ i) (by simp))) rfl hl.1 rfl (Nat.le_of_ble_eq_true rfl) dJ6_getBytes_1 ⟨(Nat.le_of_ble_eq_true rfl), (Nat.le_of_ble_eq_true rfl)⟩) hP hD hS hA [] [0] rfl rfl rfl (fun r_1 u_1 H locs hw_1 hP hD hS _ => ?_)
  obtain ⟨rfl, rfl⟩ := hw_1
  have hP : WP Γ [[(d, .inl (Γ.2.1 1, n, .inl g))]] H := hP
  have hD : WD A [[(d, .inl (Γ.2.1 1, n, .inl g))]] := hD
  refine lv_iload_n hx hb dJ6_getBytes_4 rfl (lv_at hl 3 rfl) ?_
  refine lv_icmp_ne (tgt := 28) hx hb dJ6_getBytes_5 (by decide) (fun c_2 => ?_) (fun c_2 => ?_)
  · -- 5 taken
    have n_2 : ¬ (0 = 0) := fun h => c_2 ((nI_eq (a := 0) (b := 0) (by omega) (by omega)).mpr h)
    exact absurd n_2 (by omega)
  · -- 5 not taken
    have n_2 : 0 = 0 := (nI_eq (by omega) (by omega)).mp (show nI 0 = nI 0 from c_2)
    refine lv_aload_n hx hb dJ6_getBytes_8 rfl (lv_at hl 0 rfl) ?_
    refine b_getS (v := .ref (adV Γ i)) hx hb hts hown hK (hRo ((adK Γ i), .inr (14, [.ref (adV Γ i), .int 0, .int 0, .int 0])) (by simp)) hS 0 (by decide) q771 rfl dJ6_getBytes_9 ?_
    refine lv_iconst (v := 0) hx hb dJ6_getBytes_12 (by decide) ?_
    refine lv_aload_n hx hb dJ6_getBytes_13 rfl (lv_at hl 1 rfl) ?_
    refine lv_iload_n hx hb dJ6_getBytes_14 rfl (lv_at hl 2 rfl) ?_
    refine lv_iload_n hx hb dJ6_getBytes_15 rfl (lv_at hl 3 rfl) ?_
    refine lv_ishl hx hb dJ6_getBytes_16 ?_
    refine b_top (nI_shlE (a := p) (k := 0) (c := p) rfl rfl (by decide) (by omega) (by omega)) ?_
    refine lv_aload_n hx hb dJ6_getBytes_17 rfl (lv_at hl 0 rfl) ?_
    refine b_getS (v := .ref (adV Γ i)) hx hb hts hown hK (hRo ((adK Γ i), .inr (14, [.ref (adV Γ i), .int 0, .int 0, .int 0])) (by simp)) hS 0 (by decide) q771 rfl dJ6_getBytes_18 ?_
    refine b_alenR hx hb hK (hRo ((adV Γ i), .inl (Γ.2.1 1, (str_by i).length, .inl (fun j => (str_by i).getD j 0))) (by simp)) hS dJ6_getBytes_21 ?_
    refine b_copyt hx hb hts (hml.trans hl.1.symm) hown q706 q541 q540 q85 hK hP hD hS 0 (hE.2.1.2.2.2.1 i hi).2.2.2 rfl 0 p (str_by i).length rfl rfl rfl (by omega) (by omega) (by omega) (by omega) (fun j hj => by rw [Nat.zero_add, List.getD_eq_getElem?_getD, List.getElem?_eq_getElem hj]; have h9 := (str_isL i hi _ (List.getElem_mem hj)).2; rw [Option.getD_some, ← h9]; exact nb_fit _) (Nat.le_of_ble_eq_true rfl) (Nat.le_of_ble_eq_true rfl) dJ6_getBytes_22 (fun H locs hP hD hS => ?_)
    have hP : WP Γ [[(d, .inl (Γ.2.1 1, n, .inl (va_cpy (fun j => (str_by i).getD j 0) g 0 p (str_by i).length)))]] H := hP
    have hD : WD A [[(d, .inl (Γ.2.1 1, n, .inl (va_cpy (fun j => (str_by i).getD j 0) g 0 p (str_by i).length)))]] := hD
    rw [show (va_cpy (fun j => (str_by i).getD j 0) g 0 p (str_by i).length) = (putL g p (str_by i)) from cpy_putL g p] at hP hD
    refine lv_goto (tgt := 43) hx hb dJ6_getBytes_25 (by decide) ?_
    exact b_vret hx hb hr hlocks hP hD hS (Nat.le_of_ble_eq_true rfl) (Nat.le_of_ble_eq_true rfl) (by first | with_reducible rfl | (simp [n_2]; done) | rfl) dJ6_getBytes_43
set_option maxHeartbeats 4000000 in
set_option maxRecDepth 100000 in
theorem mt_AB_infK (l : Launch) (Γ : GE) (sz : Nat) (a : Nat) (v : Nat) (ml : Int32) (n : Nat) (i : Nat) (hi : i < nStr) : KM l yJ4_inflateIfNeededFor cJ4_inflateIfNeededFor 2 none Γ 1 20 0 0 [.ref a, .ref (adK Γ i)] [[(a, .inr (13, [.ref v, .int 0, .int ml, .int (nI n)]))]] [[((adK Γ i), .inr (14, [.ref (adV Γ i), .int 0, .int 0, .int 0]))]] sz (Qv Γ (fun u_ => u_ = [[(a, .inr (13, [.ref v, .int 0, .int ml, .int (nI n)]))]])) := by
  refine K_intro (by decide) (Nat.le_of_ble_eq_true rfl) ?_
  intro pr_ ev_ s mi_ below meth cd_ A ls hx hb hr hml hown hts hlocks hname hK hE hRo hP hD hA hS hsz hl
  have hl : lv_has ls 2 [(0, .ref a), (1, .ref (adK Γ i))] := hl
  have hown : s.vm.findClass RJ4 = some mi_.cls := hown
  refine va_gets (C := "java/lang/String") (n := "COMPACT_STRINGS") (d := "Z") hx hb hE.compact hS hown (hts _ q223) (fun _ h9 => h9) dJ4_inflateIfNeededFor_0 ?_
  refine lv_if_eq (tgt := 21) hx hb dJ4_inflateIfNeededFor_3 (by decide) (fun c_1 => ?_) (fun c_1 => ?_)
  · -- 3 taken
    have n_1 : 1 = 0 := (nI_eq (by omega) (by omega)).mp (show nI 1 = nI 0 from c_1)
    exact absurd n_1 (by omega)
  · -- 3 not taken
    have n_1 : ¬ (1 = 0) := fun h => c_1 ((nI_eq (a := 1) (b := 0) (by omega) (by omega)).mpr h)
    refine lv_aload_n hx hb dJ4_inflateIfNeededFor_6 rfl (lv_at hl 0 rfl) ?_
    refine b_get (C := RJ5) (T := TJ5) (N := 4) (v := .int 0) hx hb hts in_J5 hown hK (b_at (k := 0) hP rfl) rfl 1 (by decide) q233 (fun _ h9 => h9) rfl dJ4_inflateIfNeededFor_7 ?_
    refine lv_aload_n hx hb dJ4_inflateIfNeededFor_10 rfl (lv_at hl 1 rfl) ?_
    refine b_calli (br := [[(a, .inr (13, [.ref v, .int 0, .int ml, .int (nI n)]))]]) (b_runV ⟨hx, hb, hml, hown, hts⟩ (mt_Str_coder_0 l Γ _ (adK Γ i) (adV Γ i) 0 0) (lw_V q682 q670 q671 q71 q672) rfl rfl 0 (by decide +kernel) ⟨(Nat.le_of_ble_eq_true rfl), (Nat.le_of_ble_eq_true rfl)⟩ (c_pre hP hD hS hA hK hE [] rfl rfl (ro_pass (ro_sel (ro2 := [[((adK Γ i), .inr (14, [.ref (adV Γ i), .int 0, .int 0, .int 0]))]]) hRo [0] rfl) hD hS hA [] rfl)) (recv_ro (b := adK Γ i) (fs := [.ref (adV Γ i), .int 0, .int 0, .int 0]) hK (hE.str hS (fun _ h => h) i hi (strO Γ i) (by simp))) rfl hl.1 rfl (Nat.le_of_ble_eq_true rfl) dJ4_inflateIfNeededFor_11 ⟨(Nat.le_of_ble_eq_true rfl), (Nat.le_of_ble_eq_true rfl)⟩) hP hD hS hA [] [0] rfl rfl rfl (fun r_2 u_2 H locs hw_2 hP hD hS _ => ?_)
    obtain ⟨rfl, rfl⟩ := hw_2
    have hP : WP Γ [[(a, .inr (13, [.ref v, .int 0, .int ml, .int (nI n)]))]] H := hP
    have hD : WD A [[(a, .inr (13, [.ref v, .int 0, .int ml, .int (nI n)]))]] := hD
    refine lv_icmp_eq (tgt := 21) hx hb dJ4_inflateIfNeededFor_14 (by decide) (fun c_3 => ?_) (fun c_3 => ?_)
    · -- 14 taken
      have n_3 : 0 = 0 := (nI_eq (by omega) (by omega)).mp (show nI 0 = nI 0 from c_3)
      exact b_vret hx hb hr hlocks hP hD hS (Nat.le_of_ble_eq_true rfl) (Nat.le_of_ble_eq_true rfl) (by first | with_reducible rfl | (simp [n_1, n_3]; done) | rfl) dJ4_inflateIfNeededFor_21
    · -- 14 not taken
      have n_3 : ¬ (0 = 0) := fun h => c_3 ((nI_eq (a := 0) (b := 0) (by omega) (by omega)).mpr h)
      exact absurd n_3 (by omega)
set_option maxHeartbeats 4000000 in
set_option maxRecDepth 100000 in
theorem mt_AB_putK (l : Launch) (Γ : GE) (sz : Nat) (a : Nat) (v : Nat) (ml : Int32) (n : Nat) (cap : Nat) (g : Nat → Int32) (p : Nat) (i : Nat) (hi : i < nStr) (hp : p + (str_by i).length ≤ cap) (hn : cap ≤ 2000) : KM l yJ4_putStringAt cJ4_putStringAt 3 none Γ 2 83 0 0 [.ref a, .int (nI p), .ref (adK Γ i)] [[(a, .inr (13, [.ref v, .int 0, .int ml, .int (nI n)]))], [(v, .inl (Γ.2.1 1, cap, .inl g))]] [[((adK Γ i), .inr (14, [.ref (adV Γ i), .int 0, .int 0, .int 0]))], [((adV Γ i), .inl (Γ.2.1 1, (str_by i).length, .inl (fun j => (str_by i).getD j 0)))]] sz (Qv Γ (fun u_ => u_ = [[(a, .inr (13, [.ref v, .int 0, .int ml, .int (nI n)]))], [(v, .inl (Γ.2.1 1, cap, .inl (putL g p (str_by i))))]])) := by
  refine K_intro (by decide) (Nat.le_of_ble_eq_true rfl) ?_
  intro pr_ ev_ s mi_ below meth cd_ A ls hx hb hr hml hown hts hlocks hname hK hE hRo hP hD hA hS hsz hl
  have hl : lv_has ls 3 [(0, .ref a), (1, .int (nI p)), (2, .ref (adK Γ i))] := hl
  have hown : s.vm.findClass RJ4 = some mi_.cls := hown
  refine lv_aload_n hx hb dJ4_putStringAt_0 rfl (lv_at hl 0 rfl) ?_
  refine lv_aload_n hx hb dJ4_putStringAt_1 rfl (lv_at hl 2 rfl) ?_
  refine b_callv (br := [[(v, .inl (Γ.2.1 1, cap, .inl g))]]) (b_runU (C := RJ5) (owner := "java/lang/AbstractStringBuilder") (x := ⟨"java/lang/AbstractStringBuilder", "inflateIfNeededFor", "(Ljava/lang/String;)V"⟩) ⟨hx, hb, hml, hown, hts⟩ (mt_AB_infK l Γ _ a v ml n i (by first | exact hi | omega)) q678 q2215 (va_Decl.of (hts _ q680) (hts _ q681)) (sel_priv (rfl : RJ4 = RJ4) (hts _ q610) ⟨by decide, by decide⟩ (hts _ q215) (va_Nw.use rfl (hE.1.1 _ q679 rfl)) (hts _ q680)) q680 q69 q681 rfl rfl 1 ⟨by decide, by decide, by decide +kernel⟩ ⟨(Nat.le_of_ble_eq_true rfl), (Nat.le_of_ble_eq_true rfl)⟩ (c_pre hP hD hS hA hK hE [0] rfl rfl (ro_pass (ro_sel (ro2 := [[((adK Γ i), .inr (14, [.ref (adV Γ i), .int 0, .int 0, .int 0]))]]) hRo [0] rfl) hD hS hA [0] rfl)) (recv_at (q := (RJ5, TJ5, 4)) hK (b_at (k := 0) hP rfl) rfl) rfl hl.1 rfl (Nat.le_of_ble_eq_true rfl) dJ4_putStringAt_2 ⟨(Nat.le_of_ble_eq_true rfl), (Nat.le_of_ble_eq_true rfl)⟩) hP hD hS hA [0] [1] rfl rfl rfl (fun u_1 H locs hw_1 hP hD hS _ => ?_)
  obtain rfl := hw_1
  have hP : WP Γ [[(a, .inr (13, [.ref v, .int 0, .int ml, .int (nI n)]))], [(v, .inl (Γ.2.1 1, cap, .inl g))]] H := hP
  have hD : WD A [[(a, .inr (13, [.ref v, .int 0, .int ml, .int (nI n)]))], [(v, .inl (Γ.2.1 1, cap, .inl g))]] := hD
  refine lv_aload_n hx hb dJ4_putStringAt_5 rfl (lv_at hl 2 rfl) ?_
  refine lv_aload_n hx hb dJ4_putStringAt_6 rfl (lv_at hl 0 rfl) ?_
  refine b_get (C := RJ5) (T := TJ5) (N := 4) (v := .ref v) hx hb hts in_J5 hown hK (b_at (k := 0) hP rfl) rfl 0 (by decide) q232 (fun _ h9 => h9) rfl dJ4_putStringAt_7 ?_
  refine lv_iload_n hx hb dJ4_putStringAt_10 rfl (lv_at hl 1 rfl) ?_
  refine lv_aload_n hx hb dJ4_putStringAt_11 rfl (lv_at hl 0 rfl) ?_
  refine b_get (C := RJ5) (T := TJ5) (N := 4) (v := .int 0) hx hb hts in_J5 hown hK (b_at (k := 0) hP rfl) rfl 1 (by decide) q233 (fun _ h9 => h9) rfl dJ4_putStringAt_12 ?_
  refine b_callv (br := [[(a, .inr (13, [.ref v, .int 0, .int ml, .int (nI n)]))]]) (b_runV ⟨hx, hb, hml, hown, hts⟩ (mt_Str_getBytesK l Γ _ i v cap g p (by first | exact hi | omega) (by first | exact hp | omega) (by first | exact hn | omega)) (lw_V q702 q703 q704 q71 q705) rfl rfl 3 (by decide +kernel) ⟨(Nat.le_of_ble_eq_true rfl), (Nat.le_of_ble_eq_true rfl)⟩ (c_pre hP hD hS hA hK hE [1] rfl rfl (ro_app (ro_pass (ro_sel (ro2 := [[((adK Γ i), .inr (14, [.ref (adV Γ i), .int 0, .int 0, .int 0]))]]) hRo [0] rfl) hD hS hA [1] rfl) (ro_pass (ro_sel (ro2 := [[((adV Γ i), .inl (Γ.2.1 1, (str_by i).length, .inl (fun j => (str_by i).getD j 0)))]]) hRo [1] rfl) hD hS hA [1] rfl))) (recv_ro (b := adK Γ i) (fs := [.ref (adV Γ i), .int 0, .int 0, .int 0]) hK (hE.str hS (fun _ h => h) i hi (strO Γ i) (by simp))) rfl hl.1 rfl (Nat.le_of_ble_eq_true rfl) dJ4_putStringAt_15 ⟨(Nat.le_of_ble_eq_true rfl), (Nat.le_of_ble_eq_true rfl)⟩) hP hD hS hA [1] [0] rfl rfl rfl (fun u_2 H locs hw_2 hP hD hS _ => ?_)
  obtain rfl := hw_2
  have hP : WP Γ [[(v, .inl (Γ.2.1 1, cap, .inl (putL g p (str_by i))))], [(a, .inr (13, [.ref v, .int 0, .int ml, .int (nI n)]))]] H := hP
  have hD : WD A [[(v, .inl (Γ.2.1 1, cap, .inl (putL g p (str_by i))))], [(a, .inr (13, [.ref v, .int 0, .int ml, .int (nI n)]))]] := hD
  have hP : WP Γ [[(a, .inr (13, [.ref v, .int 0, .int ml, .int (nI n)]))], [(v, .inl (Γ.2.1 1, cap, .inl (putL g p (str_by i))))]] H := bP_sel hP [1, 0] rfl
  have hD : WD A [[(a, .inr (13, [.ref v, .int 0, .int ml, .int (nI n)]))], [(v, .inl (Γ.2.1 1, cap, .inl (putL g p (str_by i))))]] := bD_sel hD [1, 0] rfl rfl
  exact b_vret hx hb hr hlocks hP hD hS (Nat.le_of_ble_eq_true rfl) (Nat.le_of_ble_eq_true rfl) (by first | rfl | (simp; done)) dJ4_putStringAt_18
set_option maxHeartbeats 4000000 in
set_option maxRecDepth 100000 in
theorem mt_AB_apps (l : Launch) (Γ : GE) (sz : Nat) (a : Nat) (x : SBT) (L : List Int32) (i : Nat) (hsb : sbF 0 x L) (hb : L.length ≤ 230) (hi : i < nStr) : KM l yJ4_append_2 cJ4_append_2 3 (some (FieldType.object "java/lang/AbstractStringBuilder")) Γ 4 105 1 512 [.ref a, .ref (adK Γ i)] [[(a, .inr (13, [.ref x.1, .int 0, .int x.2.2.2, .int (nI L.length)]))], [(x.1, .inl (Γ.2.1 1, x.2.1, .inl x.2.2.1))]] [[((adK Γ i), .inr (14, [.ref (adV Γ i), .int 0, .int 0, .int 0]))], [((adV Γ i), .inl (Γ.2.1 1, (str_by i).length, .inl (fun j => (str_by i).getD j 0)))]] sz (Qq Γ (fun r_ u_ => ∃ y : SBT, sbF 0 y (L ++ str_by i) ∧ r_ = some a ∧ u_ = [[(a, .inr (13, [.ref y.1, .int 0, .int y.2.2.2, .int (nI (L ++ str_by i).length)]))], [(y.1, .inl (Γ.2.1 1, y.2.1, .inl y.2.2.1))]])) := by
  refine K_intro (by decide) (Nat.le_of_ble_eq_true rfl) ?_
  intro pr_ ev_ s mi_ below meth cd_ A ls hx hb hr hml hown hts hlocks hname hK hE hRo hP hD hA hS hsz hl
  have hl : lv_has ls 3 [(0, .ref a), (1, .ref (adK Γ i))] := hl
  have hown : s.vm.findClass RJ4 = some mi_.cls := hown
  have hsl := str_len i hi
  refine lv_aload_n hx hb dJ4_append_2_0 rfl (lv_at hl 1 rfl) ?_
  refine lv_ifnonnull (tgt := 9) hx hb dJ4_append_2_1 (by decide) ?_
  refine lv_aload_n hx hb dJ4_append_2_9 rfl (lv_at hl 1 rfl) ?_
  refine b_calli (br := [[(a, .inr (13, [.ref x.1, .int 0, .int x.2.2.2, .int (nI L.length)]))], [(x.1, .inl (Γ.2.1 1, x.2.1, .inl x.2.2.1))]]) (b_runV ⟨hx, hb, hml, hown, hts⟩ (mt_Str_length_0 l Γ _ (adK Γ i) (adV Γ i) 0 0 (str_by i).length (fun j => (str_by i).getD j 0) (by omega)) (lw_V q665 q666 q667 q71 q668) rfl rfl 0 (by decide +kernel) ⟨(Nat.le_of_ble_eq_true rfl), (Nat.le_of_ble_eq_true rfl)⟩ (c_pre hP hD hS hA hK hE [] rfl rfl (ro_app (ro_pass (ro_sel (ro2 := [[((adK Γ i), .inr (14, [.ref (adV Γ i), .int 0, .int 0, .int 0]))]]) hRo [0] rfl) hD hS hA [] rfl) (ro_pass (ro_sel (ro2 := [[((adV Γ i), .inl (Γ.2.1 1, (str_by i).length, .inl (fun j => (str_by i).getD j 0)))]]) hRo [1] rfl) hD hS hA [] rfl))) (recv_ro (b := adK Γ i) (fs := [.ref (adV Γ i), .int 0, .int 0, .int 0]) hK (hE.str hS (fun _ h => h) i hi (strO Γ i) (by simp))) rfl hl.1 rfl (Nat.le_of_ble_eq_true rfl) dJ4_append_2_10 ⟨(Nat.le_of_ble_eq_true rfl), (Nat.le_of_ble_eq_true rfl)⟩) hP hD hS hA [] [0, 1] rfl rfl rfl (fun r_1 u_1 H locs hw_1 hP hD hS _ => ?_)
  obtain ⟨rfl, rfl⟩ := hw_1
  have hP : WP Γ [[(a, .inr (13, [.ref x.1, .int 0, .int x.2.2.2, .int (nI L.length)]))], [(x.1, .inl (Γ.2.1 1, x.2.1, .inl x.2.2.1))]] H := hP
  have hD : WD A [[(a, .inr (13, [.ref x.1, .int 0, .int x.2.2.2, .int (nI L.length)]))], [(x.1, .inl (Γ.2.1 1, x.2.1, .inl x.2.2.1))]] := hD
  refine lv_istore_n (lv' := [(2, .int (nI (str_by i).length)), (0, .ref a), (1, .ref (adK Γ i))]) hx hb dJ4_append_2_13 rfl hl (by decide) rfl (fun ls hl => ?_)
  refine lv_aload_n hx hb dJ4_append_2_14 rfl (lv_at hl 1 rfl) ?_
  refine lv_aload_n hx hb dJ4_append_2_15 rfl (lv_at hl 1 rfl) ?_
  refine b_get (C := RJ5) (T := TJ5) (N := 4) (v := .int (nI L.length)) hx hb hts in_J5 hown hK (b_at (k := 0) hP rfl) rfl 3 (by decide) q236 (fun _ h9 => h9) rfl dJ4_append_2_16 ?_
  refine lv_iload_n hx hb dJ4_append_2_19 rfl (lv_at hl 0 rfl) ?_
  refine lv_iadd hx hb dJ4_append_2_20 ?_
  refine b_top (nI_addE (a := L.length) (b := (str_by i).length) (c := L.length + (str_by i).length) rfl rfl (by first | omega | rfl)) ?_
  have hxl := sbF_len hsb
  by_cases bf : L.length + (str_by i).length ≤ x.2.1
  ·
    refine b_callv (br := []) (b_runU (C := RJ5) (owner := "java/lang/AbstractStringBuilder") (x := ⟨"java/lang/AbstractStringBuilder", "ensureCapacityInternal", "(I)V"⟩) ⟨hx, hb, hml, hown, hts⟩ (mt_AB_ens_fit_0 l Γ _ a x.1 x.2.2.2 L.length x.2.1 x.2.2.1 (L.length + (str_by i).length) (by omega) (by omega)) q587 q2210 (va_Decl.of (hts _ q589) (hts _ q590)) (sel_priv (rfl : RJ4 = RJ4) (hts _ q610) ⟨by decide, by decide⟩ (hts _ q215) (va_Nw.use rfl (hE.1.1 _ q588 rfl)) (hts _ q589)) q589 q69 q590 rfl rfl 1 ⟨by decide, by decide, by decide +kernel⟩ ⟨(Nat.le_of_ble_eq_true rfl), (Nat.le_of_ble_eq_true rfl)⟩ (c_pre hP hD hS hA hK hE [0, 1] rfl rfl ro_nil) (recv_at (q := (RJ5, TJ5, 4)) hK (b_at (k := 0) hP rfl) rfl) rfl hl.1 rfl (Nat.le_of_ble_eq_true rfl) dJ4_append_2_21 ⟨(Nat.le_of_ble_eq_true rfl), (Nat.le_of_ble_eq_true rfl)⟩) hP hD hS hA [0, 1] [] rfl rfl rfl (fun u_2 H locs hw_2 hP hD hS _ => ?_)
    obtain rfl := hw_2
    have hP : WP Γ [[(a, .inr (13, [.ref x.1, .int 0, .int x.2.2.2, .int (nI L.length)]))], [(x.1, .inl (Γ.2.1 1, x.2.1, .inl x.2.2.1))]] H := hP
    have hD : WD A [[(a, .inr (13, [.ref x.1, .int 0, .int x.2.2.2, .int (nI L.length)]))], [(x.1, .inl (Γ.2.1 1, x.2.1, .inl x.2.2.1))]] := hD
    refine lv_aload_n hx hb dJ4_append_2_24 rfl (lv_at hl 1 rfl) ?_
    refine lv_aload_n hx hb dJ4_append_2_25 rfl (lv_at hl 1 rfl) ?_
    refine b_get (C := RJ5) (T := TJ5) (N := 4) (v := .int (nI L.length)) hx hb hts in_J5 hown hK (b_at (k := 0) hP rfl) rfl 3 (by decide) q236 (fun _ h9 => h9) rfl dJ4_append_2_26 ?_
    refine lv_aload_n hx hb dJ4_append_2_29 rfl (lv_at hl 2 rfl) ?_
    refine b_callv (br := []) (b_runU (C := RJ5) (owner := "java/lang/AbstractStringBuilder") (x := ⟨"java/lang/AbstractStringBuilder", "putStringAt", "(ILjava/lang/String;)V"⟩) ⟨hx, hb, hml, hown, hts⟩ (mt_AB_putK l Γ _ a x.1 x.2.2.2 L.length x.2.1 x.2.2.1 L.length i (by first | exact hi | omega) (by omega) (by omega)) q674 q2214 (va_Decl.of (hts _ q676) (hts _ q677)) (sel_priv (rfl : RJ4 = RJ4) (hts _ q610) ⟨by decide, by decide⟩ (hts _ q215) (va_Nw.use rfl (hE.1.1 _ q675 rfl)) (hts _ q676)) q676 q69 q677 rfl rfl 2 ⟨by decide, by decide, by decide +kernel⟩ ⟨(Nat.le_of_ble_eq_true rfl), (Nat.le_of_ble_eq_true rfl)⟩ (c_pre hP hD hS hA hK hE [0, 1] rfl rfl (ro_app (ro_pass (ro_sel (ro2 := [[((adK Γ i), .inr (14, [.ref (adV Γ i), .int 0, .int 0, .int 0]))]]) hRo [0] rfl) hD hS hA [0, 1] rfl) (ro_pass (ro_sel (ro2 := [[((adV Γ i), .inl (Γ.2.1 1, (str_by i).length, .inl (fun j => (str_by i).getD j 0)))]]) hRo [1] rfl) hD hS hA [0, 1] rfl))) (recv_at (q := (RJ5, TJ5, 4)) hK (b_at (k := 0) hP rfl) rfl) rfl hl.1 rfl (Nat.le_of_ble_eq_true rfl) dJ4_append_2_30 ⟨(Nat.le_of_ble_eq_true rfl), (Nat.le_of_ble_eq_true rfl)⟩) hP hD hS hA [0, 1] [] rfl rfl rfl (fun u_3 H locs hw_3 hP hD hS _ => ?_)
    obtain rfl := hw_3
    have hP : WP Γ [[(a, .inr (13, [.ref x.1, .int 0, .int x.2.2.2, .int (nI L.length)]))], [(x.1, .inl (Γ.2.1 1, x.2.1, .inl (putL x.2.2.1 L.length (str_by i))))]] H := hP
    have hD : WD A [[(a, .inr (13, [.ref x.1, .int 0, .int x.2.2.2, .int (nI L.length)]))], [(x.1, .inl (Γ.2.1 1, x.2.1, .inl (putL x.2.2.1 L.length (str_by i))))]] := hD
    rw [show (putL x.2.2.1 L.length (str_by i)) = (putL x.2.2.1 L.length ((str_by i).map nb)) from by rw [map_nb (str_isL i hi)]] at hP hD
    refine lv_aload_n hx hb dJ4_append_2_33 rfl (lv_at hl 1 rfl) ?_
    refine lv_dup hx hb dJ4_append_2_34 rfl ?_
    refine b_get (C := RJ5) (T := TJ5) (N := 4) (v := .int (nI L.length)) hx hb hts in_J5 hown hK (b_at (k := 0) hP rfl) rfl 3 (by decide) q236 (fun _ h9 => h9) rfl dJ4_append_2_35 ?_
    refine lv_iload_n hx hb dJ4_append_2_38 rfl (lv_at hl 0 rfl) ?_
    refine lv_iadd hx hb dJ4_append_2_39 ?_
    refine b_top (nI_addE (a := L.length) (b := (str_by i).length) (c := L.length + (str_by i).length) rfl rfl (by first | omega | rfl)) ?_
    refine b_put (C := RJ5) (T := TJ5) (N := 4) (ty := .int) (v := .int (nI (L.length + (str_by i).length))) hx hb hts in_J5 tyJ5_ok nmJ5 hown hK hP hD hS 0 rfl rfl 3 (by decide) q236 (fun _ h9 => h9) rfl (by decide +kernel) rfl rfl (Nat.le_of_ble_eq_true rfl) dJ4_append_2_40 (fun H locs hP hD hS => ?_)
    have hP : WP Γ [[(a, .inr (13, [.ref x.1, .int 0, .int x.2.2.2, .int (nI (L.length + (str_by i).length))]))], [(x.1, .inl (Γ.2.1 1, x.2.1, .inl (putL x.2.2.1 L.length ((str_by i).map nb))))]] H := hP
    have hD : WD A [[(a, .inr (13, [.ref x.1, .int 0, .int x.2.2.2, .int (nI (L.length + (str_by i).length))]))], [(x.1, .inl (Γ.2.1 1, x.2.1, .inl (putL x.2.2.1 L.length ((str_by i).map nb))))]] := hD
    refine lv_aload_n hx hb dJ4_append_2_43 rfl (lv_at hl 1 rfl) ?_
    exact b_aret hx hb hr (by first | exact Or.inl ⟨_, rfl⟩ | exact Or.inr ⟨_, rfl⟩) hlocks hP hD hS (Nat.le_of_ble_eq_true rfl) (Nat.le_of_ble_eq_true rfl) ⟨(x.1, x.2.1, (putL x.2.2.1 L.length ((str_by i).map nb)), x.2.2.2), (sbF_put (v := x.1) (cap := x.2.1) (f := x.2.2.1) (ml := x.2.2.2) hsb (fun d hd => (str_isL i hi d hd).1) (by first | omega | (simp only [List.length_cons, List.length_nil, Nat.zero_add]; omega))), (by first | with_reducible rfl | (simp [bf]; done) | rfl), (by simp only [List.length_append, List.length_cons, List.length_nil, Nat.zero_add])⟩ dJ4_append_2_44
  ·
    have hcp : x.2.1 ≤ cpN x.2.1 (L.length + (str_by i).length) ∧ cpN x.2.1 (L.length + (str_by i).length) ≤ 512 := by unfold cpN; split <;> omega
    have hcp2 : L.length + (str_by i).length ≤ cpN x.2.1 (L.length + (str_by i).length) := by unfold cpN; split <;> omega
    refine b_callv (br := []) (b_runU (C := RJ5) (owner := "java/lang/AbstractStringBuilder") (x := ⟨"java/lang/AbstractStringBuilder", "ensureCapacityInternal", "(I)V"⟩) ⟨hx, hb, hml, hown, hts⟩ (mt_AB_ens_grow_0 l Γ _ a x.1 x.2.2.2 L.length x.2.1 x.2.2.1 (L.length + (str_by i).length) (by omega) (by omega) hxl.2 hsb.2.2.1) q587 q2210 (va_Decl.of (hts _ q589) (hts _ q590)) (sel_priv (rfl : RJ4 = RJ4) (hts _ q610) ⟨by decide, by decide⟩ (hts _ q215) (va_Nw.use rfl (hE.1.1 _ q588 rfl)) (hts _ q589)) q589 q69 q590 rfl rfl 1 ⟨by decide, by decide, by decide +kernel⟩ ⟨(Nat.le_of_ble_eq_true rfl), (Nat.le_of_ble_eq_true rfl)⟩ (c_pre hP hD hS hA hK hE [0, 1] rfl rfl ro_nil) (recv_at (q := (RJ5, TJ5, 4)) hK (b_at (k := 0) hP rfl) rfl) rfl hl.1 rfl (Nat.le_of_ble_eq_true rfl) dJ4_append_2_21 ⟨(by first | omega | (dsimp only; omega)), (by first | omega | (dsimp only; omega))⟩) hP hD hS hA [0, 1] [] rfl rfl rfl (fun u_4 H locs hw_4 hP hD hS _ => ?_)
    obtain ⟨w_4, rfl⟩ := hw_4
    have hP : WP Γ [[(a, .inr (13, [.ref w_4, .int 0, .int x.2.2.2, .int (nI L.length)]))], [(w_4, .inl (Γ.2.1 1, (cpN x.2.1 (L.length + (str_by i).length)), .inl (va_cpy x.2.2.1 (fun _ => 0) 0 0 x.2.1)))]] H := hP
    have hD : WD A [[(a, .inr (13, [.ref w_4, .int 0, .int x.2.2.2, .int (nI L.length)]))], [(w_4, .inl (Γ.2.1 1, (cpN x.2.1 (L.length + (str_by i).length)), .inl (va_cpy x.2.2.1 (fun _ => 0) 0 0 x.2.1)))]] := hD
    refine lv_aload_n hx hb dJ4_append_2_24 rfl (lv_at hl 1 rfl) ?_
    refine lv_aload_n hx hb dJ4_append_2_25 rfl (lv_at hl 1 rfl) ?_
    refine b_get (C := RJ5) (T := TJ5) (N := 4) (v := .int (nI L.length)) hx hb hts in_J5 hown hK (b_at (k := 0) hP rfl) rfl 3 (by decide) q236 (fun _ h9 => h9) rfl dJ4_append_2_26 ?_
    refine lv_aload_n hx hb dJ4_append_2_29 rfl (lv_at hl 2 rfl) ?_
    refine b_callv (br := []) (b_runU (C := RJ5) (owner := "java/lang/AbstractStringBuilder") (x := ⟨"java/lang/AbstractStringBuilder", "putStringAt", "(ILjava/lang/String;)V"⟩) ⟨hx, hb, hml, hown, hts⟩ (mt_AB_putK l Γ _ a w_4 x.2.2.2 L.length (cpN x.2.1 (L.length + (str_by i).length)) (va_cpy x.2.2.1 (fun _ => 0) 0 0 x.2.1) L.length i (by first | exact hi | omega) (by omega) (by omega)) q674 q2214 (va_Decl.of (hts _ q676) (hts _ q677)) (sel_priv (rfl : RJ4 = RJ4) (hts _ q610) ⟨by decide, by decide⟩ (hts _ q215) (va_Nw.use rfl (hE.1.1 _ q675 rfl)) (hts _ q676)) q676 q69 q677 rfl rfl 2 ⟨by decide, by decide, by decide +kernel⟩ ⟨(Nat.le_of_ble_eq_true rfl), (Nat.le_of_ble_eq_true rfl)⟩ (c_pre hP hD hS hA hK hE [0, 1] rfl rfl (ro_app (ro_pass (ro_sel (ro2 := [[((adK Γ i), .inr (14, [.ref (adV Γ i), .int 0, .int 0, .int 0]))]]) hRo [0] rfl) hD hS hA [0, 1] rfl) (ro_pass (ro_sel (ro2 := [[((adV Γ i), .inl (Γ.2.1 1, (str_by i).length, .inl (fun j => (str_by i).getD j 0)))]]) hRo [1] rfl) hD hS hA [0, 1] rfl))) (recv_at (q := (RJ5, TJ5, 4)) hK (b_at (k := 0) hP rfl) rfl) rfl hl.1 rfl (Nat.le_of_ble_eq_true rfl) dJ4_append_2_30 ⟨(by first | omega | (dsimp only; omega)), (by first | omega | (dsimp only; omega))⟩) hP hD hS hA [0, 1] [] rfl rfl rfl (fun u_5 H locs hw_5 hP hD hS _ => ?_)
    obtain rfl := hw_5
    have hP : WP Γ [[(a, .inr (13, [.ref w_4, .int 0, .int x.2.2.2, .int (nI L.length)]))], [(w_4, .inl (Γ.2.1 1, (cpN x.2.1 (L.length + (str_by i).length)), .inl (putL (va_cpy x.2.2.1 (fun _ => 0) 0 0 x.2.1) L.length (str_by i))))]] H := hP
    have hD : WD A [[(a, .inr (13, [.ref w_4, .int 0, .int x.2.2.2, .int (nI L.length)]))], [(w_4, .inl (Γ.2.1 1, (cpN x.2.1 (L.length + (str_by i).length)), .inl (putL (va_cpy x.2.2.1 (fun _ => 0) 0 0 x.2.1) L.length (str_by i))))]] := hD
    rw [show (putL (va_cpy x.2.2.1 (fun _ => 0) 0 0 x.2.1) L.length (str_by i)) = (putL (va_cpy x.2.2.1 (fun _ => 0) 0 0 x.2.1) L.length ((str_by i).map nb)) from by rw [map_nb (str_isL i hi)]] at hP hD
    have hcp3 : L.length + (str_by i).length ≤ cpN x.2.1 (L.length + (str_by i).length) := hcp2
    refine lv_aload_n hx hb dJ4_append_2_33 rfl (lv_at hl 1 rfl) ?_
    refine lv_dup hx hb dJ4_append_2_34 rfl ?_
    refine b_get (C := RJ5) (T := TJ5) (N := 4) (v := .int (nI L.length)) hx hb hts in_J5 hown hK (b_at (k := 0) hP rfl) rfl 3 (by decide) q236 (fun _ h9 => h9) rfl dJ4_append_2_35 ?_
    refine lv_iload_n hx hb dJ4_append_2_38 rfl (lv_at hl 0 rfl) ?_
    refine lv_iadd hx hb dJ4_append_2_39 ?_
    refine b_top (nI_addE (a := L.length) (b := (str_by i).length) (c := L.length + (str_by i).length) rfl rfl (by first | omega | rfl)) ?_
    refine b_put (C := RJ5) (T := TJ5) (N := 4) (ty := .int) (v := .int (nI (L.length + (str_by i).length))) hx hb hts in_J5 tyJ5_ok nmJ5 hown hK hP hD hS 0 rfl rfl 3 (by decide) q236 (fun _ h9 => h9) rfl (by decide +kernel) rfl rfl (Nat.le_of_ble_eq_true rfl) dJ4_append_2_40 (fun H locs hP hD hS => ?_)
    have hP : WP Γ [[(a, .inr (13, [.ref w_4, .int 0, .int x.2.2.2, .int (nI (L.length + (str_by i).length))]))], [(w_4, .inl (Γ.2.1 1, (cpN x.2.1 (L.length + (str_by i).length)), .inl (putL (va_cpy x.2.2.1 (fun _ => 0) 0 0 x.2.1) L.length ((str_by i).map nb))))]] H := hP
    have hD : WD A [[(a, .inr (13, [.ref w_4, .int 0, .int x.2.2.2, .int (nI (L.length + (str_by i).length))]))], [(w_4, .inl (Γ.2.1 1, (cpN x.2.1 (L.length + (str_by i).length)), .inl (putL (va_cpy x.2.2.1 (fun _ => 0) 0 0 x.2.1) L.length ((str_by i).map nb))))]] := hD
    refine lv_aload_n hx hb dJ4_append_2_43 rfl (lv_at hl 1 rfl) ?_
    exact b_aret hx hb hr (by first | exact Or.inl ⟨_, rfl⟩ | exact Or.inr ⟨_, rfl⟩) hlocks hP hD hS (by first | omega | (dsimp only; omega)) (by first | omega | (dsimp only; omega)) ⟨(w_4, (cpN x.2.1 (L.length + (str_by i).length)), (putL (va_cpy x.2.2.1 (fun _ => 0) 0 0 x.2.1) L.length ((str_by i).map nb)), x.2.2.2), (sbF_put (sbF_grow (v2 := w_4) (cap2 := (cpN x.2.1 (L.length + (str_by i).length))) (v := x.1) (cap := x.2.1) (f := x.2.2.1) (ml := x.2.2.2) hsb hcp.1 hcp.2) (fun d hd => (str_isL i hi d hd).1) hcp3), (by first | with_reducible rfl | (simp [bf]; done) | rfl), (by simp only [List.length_append, List.length_cons, List.length_nil, Nat.zero_add])⟩ dJ4_append_2_44
set_option maxHeartbeats 4000000 in
set_option maxRecDepth 100000 in
theorem mt_SB_appc (l : Launch) (Γ : GE) (sz : Nat) (a : Nat) (x : SBT) (L : List Int32) (c : Int32) (hsb : sbF 0 x L) (hb : L.length ≤ 230) (hc : ¬ 255 < c) (hl9 : isL c) : KM l yJ5_append_3 cJ5_append_3 2 (some (FieldType.object "java/lang/StringBuilder")) Γ 5 125 1 512 [.ref a, .int c] [[(a, .inr (13, [.ref x.1, .int 0, .int x.2.2.2, .int (nI L.length)]))], [(x.1, .inl (Γ.2.1 1, x.2.1, .inl x.2.2.1))]] [] sz (Qq Γ (fun r_ u_ => ∃ y : SBT, sbF 0 y (L ++ [c]) ∧ r_ = some a ∧ u_ = [[(a, .inr (13, [.ref y.1, .int 0, .int y.2.2.2, .int (nI (L ++ [c]).length)]))], [(y.1, .inl (Γ.2.1 1, y.2.1, .inl y.2.2.1))]])) := by
  refine K_intro (by decide) (Nat.le_of_ble_eq_true rfl) ?_
  intro pr_ ev_ s mi_ below meth cd_ A ls hx hb hr hml hown hts hlocks hname hK hE hRo hP hD hA hS hsz hl
  have hl : lv_has ls 2 [(0, .ref a), (1, .int c)] := hl
  have hown : s.vm.findClass RJ5 = some mi_.cls := hown
  refine lv_aload_n hx hb dJ5_append_3_0 rfl (lv_at hl 0 rfl) ?_
  refine lv_iload_n hx hb dJ5_append_3_1 rfl (lv_at hl 1 rfl) ?_
  refine b_callq (br := []) (b_runSU (hK.1 13 _ rfl).2 ⟨hx, hb, hml, hown, hts⟩ (mt_AB_appc l Γ _ a x L c hsb (by first | exact hb | omega) (by first | exact hc | omega) (by first | exact hl9 | omega)) q1514 q2218 q245 q1515 q69 q1516 rfl rfl 1 ⟨by decide, by decide +kernel⟩ ⟨(Nat.le_of_ble_eq_true rfl), (Nat.le_of_ble_eq_true rfl)⟩ (c_pre hP hD hS hA hK hE [0, 1] rfl rfl ro_nil) (recv_at (q := (RJ5, TJ5, 4)) hK (b_at (k := 0) hP rfl) rfl) rfl hl.1 rfl (Nat.le_of_ble_eq_true rfl) dJ5_append_3_2 ⟨(Nat.le_of_ble_eq_true rfl), (Nat.le_of_ble_eq_true rfl)⟩) hP hD hS hA [0, 1] [] rfl rfl rfl (fun r_1 u_1 H locs hw_1 hP hD hS _ => ?_)
  obtain ⟨y_1, hy_1, rfl, rfl⟩ := hw_1
  have hP : WP Γ [[(a, .inr (13, [.ref y_1.1, .int 0, .int y_1.2.2.2, .int (nI (L ++ [c]).length)]))], [(y_1.1, .inl (Γ.2.1 1, y_1.2.1, .inl y_1.2.2.1))]] H := hP
  have hD : WD A [[(a, .inr (13, [.ref y_1.1, .int 0, .int y_1.2.2.2, .int (nI (L ++ [c]).length)]))], [(y_1.1, .inl (Γ.2.1 1, y_1.2.1, .inl y_1.2.2.1))]] := hD
  refine W.eq (g2 := F0 mi_ 5 ls ([.ref a])) rfl ?_
  refine lv_pop hx hb dJ5_append_3_5 rfl ?_
  refine lv_aload_n hx hb dJ5_append_3_6 rfl (lv_at hl 0 rfl) ?_
  exact b_aret hx hb hr (by first | exact Or.inl ⟨_, rfl⟩ | exact Or.inr ⟨_, rfl⟩) hlocks hP hD hS (Nat.le_of_ble_eq_true rfl) (Nat.le_of_ble_eq_true rfl) ⟨y_1, hy_1, (by first | rfl | (simp; done)), rfl⟩ dJ5_append_3_7
set_option maxHeartbeats 4000000 in
set_option maxRecDepth 100000 in
theorem mt_SB_appi (l : Launch) (Γ : GE) (sz : Nat) (a : Nat) (x : SBT) (L : List Int32) (n : Int32) (hsb : sbF 0 x L) (hb : L.length ≤ 230) : KM l yJ5_append cJ5_append 2 (some (FieldType.object "java/lang/StringBuilder")) Γ 5 127 1 512 [.ref a, .int n] [[(a, .inr (13, [.ref x.1, .int 0, .int x.2.2.2, .int (nI L.length)]))], [(x.1, .inl (Γ.2.1 1, x.2.1, .inl x.2.2.1))]] [] sz (Qq Γ (fun r_ u_ => ∃ y : SBT, sbF 0 y (L ++ intL n) ∧ r_ = some a ∧ u_ = [[(a, .inr (13, [.ref y.1, .int 0, .int y.2.2.2, .int (nI (L ++ intL n).length)]))], [(y.1, .inl (Γ.2.1 1, y.2.1, .inl y.2.2.1))]])) := by
  refine K_intro (by decide) (Nat.le_of_ble_eq_true rfl) ?_
  intro pr_ ev_ s mi_ below meth cd_ A ls hx hb hr hml hown hts hlocks hname hK hE hRo hP hD hA hS hsz hl
  have hl : lv_has ls 2 [(0, .ref a), (1, .int n)] := hl
  have hown : s.vm.findClass RJ5 = some mi_.cls := hown
  refine lv_aload_n hx hb dJ5_append_0 rfl (lv_at hl 0 rfl) ?_
  refine lv_iload_n hx hb dJ5_append_1 rfl (lv_at hl 1 rfl) ?_
  refine b_callq (br := []) (b_runSU (hK.1 13 _ rfl).2 ⟨hx, hb, hml, hown, hts⟩ (mt_AB_appi l Γ _ a x L n hsb (by first | exact hb | omega)) q581 q2209 q245 q582 q69 q583 rfl rfl 1 ⟨by decide, by decide +kernel⟩ ⟨(Nat.le_of_ble_eq_true rfl), (Nat.le_of_ble_eq_true rfl)⟩ (c_pre hP hD hS hA hK hE [0, 1] rfl rfl ro_nil) (recv_at (q := (RJ5, TJ5, 4)) hK (b_at (k := 0) hP rfl) rfl) rfl hl.1 rfl (Nat.le_of_ble_eq_true rfl) dJ5_append_2 ⟨(Nat.le_of_ble_eq_true rfl), (Nat.le_of_ble_eq_true rfl)⟩) hP hD hS hA [0, 1] [] rfl rfl rfl (fun r_1 u_1 H locs hw_1 hP hD hS _ => ?_)
  obtain ⟨y_1, hy_1, rfl, rfl⟩ := hw_1
  have hP : WP Γ [[(a, .inr (13, [.ref y_1.1, .int 0, .int y_1.2.2.2, .int (nI (L ++ intL n).length)]))], [(y_1.1, .inl (Γ.2.1 1, y_1.2.1, .inl y_1.2.2.1))]] H := hP
  have hD : WD A [[(a, .inr (13, [.ref y_1.1, .int 0, .int y_1.2.2.2, .int (nI (L ++ intL n).length)]))], [(y_1.1, .inl (Γ.2.1 1, y_1.2.1, .inl y_1.2.2.1))]] := hD
  refine W.eq (g2 := F0 mi_ 5 ls ([.ref a])) rfl ?_
  refine lv_pop hx hb dJ5_append_5 rfl ?_
  refine lv_aload_n hx hb dJ5_append_6 rfl (lv_at hl 0 rfl) ?_
  exact b_aret hx hb hr (by first | exact Or.inl ⟨_, rfl⟩ | exact Or.inr ⟨_, rfl⟩) hlocks hP hD hS (Nat.le_of_ble_eq_true rfl) (Nat.le_of_ble_eq_true rfl) ⟨y_1, hy_1, (by first | rfl | (simp; done)), rfl⟩ dJ5_append_7
set_option maxHeartbeats 4000000 in
set_option maxRecDepth 100000 in
theorem mt_SB_apps (l : Launch) (Γ : GE) (sz : Nat) (a : Nat) (x : SBT) (L : List Int32) (i : Nat) (hsb : sbF 0 x L) (hb : L.length ≤ 230) (hi : i < nStr) : KM l yJ5_append_2 cJ5_append_2 2 (some (FieldType.object "java/lang/StringBuilder")) Γ 5 127 1 512 [.ref a, .ref (adK Γ i)] [[(a, .inr (13, [.ref x.1, .int 0, .int x.2.2.2, .int (nI L.length)]))], [(x.1, .inl (Γ.2.1 1, x.2.1, .inl x.2.2.1))]] [[((adK Γ i), .inr (14, [.ref (adV Γ i), .int 0, .int 0, .int 0]))], [((adV Γ i), .inl (Γ.2.1 1, (str_by i).length, .inl (fun j => (str_by i).getD j 0)))]] sz (Qq Γ (fun r_ u_ => ∃ y : SBT, sbF 0 y (L ++ str_by i) ∧ r_ = some a ∧ u_ = [[(a, .inr (13, [.ref y.1, .int 0, .int y.2.2.2, .int (nI (L ++ str_by i).length)]))], [(y.1, .inl (Γ.2.1 1, y.2.1, .inl y.2.2.1))]])) := by
  refine K_intro (by decide) (Nat.le_of_ble_eq_true rfl) ?_
  intro pr_ ev_ s mi_ below meth cd_ A ls hx hb hr hml hown hts hlocks hname hK hE hRo hP hD hA hS hsz hl
  have hl : lv_has ls 2 [(0, .ref a), (1, .ref (adK Γ i))] := hl
  have hown : s.vm.findClass RJ5 = some mi_.cls := hown
  refine lv_aload_n hx hb dJ5_append_2_0 rfl (lv_at hl 0 rfl) ?_
  refine lv_aload_n hx hb dJ5_append_2_1 rfl (lv_at hl 1 rfl) ?_
  refine b_callq (br := []) (b_runSU (hK.1 13 _ rfl).2 ⟨hx, hb, hml, hown, hts⟩ (mt_AB_apps l Γ _ a x L i hsb (by first | exact hb | omega) (by first | decide | assumption)) q655 q2212 q245 q656 q69 q657 rfl rfl 1 ⟨by decide, by decide +kernel⟩ ⟨(Nat.le_of_ble_eq_true rfl), (Nat.le_of_ble_eq_true rfl)⟩ (c_pre hP hD hS hA hK hE [0, 1] rfl rfl (ro_app (ro_pass (ro_sel (ro2 := [[((adK Γ i), .inr (14, [.ref (adV Γ i), .int 0, .int 0, .int 0]))]]) hRo [0] rfl) hD hS hA [0, 1] rfl) (ro_pass (ro_sel (ro2 := [[((adV Γ i), .inl (Γ.2.1 1, (str_by i).length, .inl (fun j => (str_by i).getD j 0)))]]) hRo [1] rfl) hD hS hA [0, 1] rfl))) (recv_at (q := (RJ5, TJ5, 4)) hK (b_at (k := 0) hP rfl) rfl) rfl hl.1 rfl (Nat.le_of_ble_eq_true rfl) dJ5_append_2_2 ⟨(Nat.le_of_ble_eq_true rfl), (Nat.le_of_ble_eq_true rfl)⟩) hP hD hS hA [0, 1] [] rfl rfl rfl (fun r_1 u_1 H locs hw_1 hP hD hS _ => ?_)
  obtain ⟨y_1, hy_1, rfl, rfl⟩ := hw_1
  have hP : WP Γ [[(a, .inr (13, [.ref y_1.1, .int 0, .int y_1.2.2.2, .int (nI (L ++ str_by i).length)]))], [(y_1.1, .inl (Γ.2.1 1, y_1.2.1, .inl y_1.2.2.1))]] H := hP
  have hD : WD A [[(a, .inr (13, [.ref y_1.1, .int 0, .int y_1.2.2.2, .int (nI (L ++ str_by i).length)]))], [(y_1.1, .inl (Γ.2.1 1, y_1.2.1, .inl y_1.2.2.1))]] := hD
  refine W.eq (g2 := F0 mi_ 5 ls ([.ref a])) rfl ?_
  refine lv_pop hx hb dJ5_append_2_5 rfl ?_
  refine lv_aload_n hx hb dJ5_append_2_6 rfl (lv_at hl 0 rfl) ?_
  exact b_aret hx hb hr (by first | exact Or.inl ⟨_, rfl⟩ | exact Or.inr ⟨_, rfl⟩) hlocks hP hD hS (Nat.le_of_ble_eq_true rfl) (Nat.le_of_ble_eq_true rfl) ⟨y_1, hy_1, (by first | rfl | (simp; done)), rfl⟩ dJ5_append_2_7
set_option maxHeartbeats 4000000 in
set_option maxRecDepth 100000 in
theorem mt_AB_clear (l : Launch) (Γ : GE) (sz : Nat) (a : Nat) (x : SBT) (L : List Int32) (hsb : sbF 0 x L) : KM l yJ4_setLength cJ4_setLength 2 none Γ 1 22 0 0 [.ref a, .int (nI 0)] [[(a, .inr (13, [.ref x.1, .int 0, .int x.2.2.2, .int (nI L.length)]))], [(x.1, .inl (Γ.2.1 1, x.2.1, .inl x.2.2.1))]] [] sz (Qv Γ (fun u_ => ∃ y : SBT, sbF 0 y [] ∧ u_ = [[(a, .inr (13, [.ref y.1, .int 0, .int y.2.2.2, .int (nI ([] : List Int32).length)]))], [(y.1, .inl (Γ.2.1 1, y.2.1, .inl y.2.2.1))]])) := by
  refine K_intro (by decide) (Nat.le_of_ble_eq_true rfl) ?_
  intro pr_ ev_ s mi_ below meth cd_ A ls hx hb hr hml hown hts hlocks hname hK hE hRo hP hD hA hS hsz hl
  have hl : lv_has ls 2 [(0, .ref a), (1, .int (nI 0))] := hl
  have hown : s.vm.findClass RJ4 = some mi_.cls := hown
  have hxl := sbF_len hsb
  refine lv_iload_n hx hb dJ4_setLength_0 rfl (lv_at hl 1 rfl) ?_
  refine lv_if_ge (tgt := 13) hx hb dJ4_setLength_1 (by decide) (fun c_1 => ?_) (fun c_1 => ?_)
  · -- 1 taken
    have n_1 : 0 ≤ 0 := (nI_leI (by omega) (by omega)).mp (show nI 0 ≤ nI 0 from c_1)
    refine lv_aload_n hx hb dJ4_setLength_13 rfl (lv_at hl 0 rfl) ?_
    refine lv_iload_n hx hb dJ4_setLength_14 rfl (lv_at hl 1 rfl) ?_
    refine b_callv (br := []) (b_runU (C := RJ5) (owner := "java/lang/AbstractStringBuilder") (x := ⟨"java/lang/AbstractStringBuilder", "ensureCapacityInternal", "(I)V"⟩) ⟨hx, hb, hml, hown, hts⟩ (mt_AB_ens_fit_0 l Γ _ a x.1 x.2.2.2 L.length x.2.1 x.2.2.1 0 (by omega) (by omega)) q587 q2210 (va_Decl.of (hts _ q589) (hts _ q590)) (sel_priv (rfl : RJ4 = RJ4) (hts _ q610) ⟨by decide, by decide⟩ (hts _ q215) (va_Nw.use rfl (hE.1.1 _ q588 rfl)) (hts _ q589)) q589 q69 q590 rfl rfl 1 ⟨by decide, by decide, by decide +kernel⟩ ⟨(Nat.le_of_ble_eq_true rfl), (Nat.le_of_ble_eq_true rfl)⟩ (c_pre hP hD hS hA hK hE [0, 1] rfl rfl ro_nil) (recv_at (q := (RJ5, TJ5, 4)) hK (b_at (k := 0) hP rfl) rfl) rfl hl.1 rfl (Nat.le_of_ble_eq_true rfl) dJ4_setLength_15 ⟨(Nat.le_of_ble_eq_true rfl), (Nat.le_of_ble_eq_true rfl)⟩) hP hD hS hA [0, 1] [] rfl rfl rfl (fun u_2 H locs hw_2 hP hD hS _ => ?_)
    obtain rfl := hw_2
    have hP : WP Γ [[(a, .inr (13, [.ref x.1, .int 0, .int x.2.2.2, .int (nI L.length)]))], [(x.1, .inl (Γ.2.1 1, x.2.1, .inl x.2.2.1))]] H := hP
    have hD : WD A [[(a, .inr (13, [.ref x.1, .int 0, .int x.2.2.2, .int (nI L.length)]))], [(x.1, .inl (Γ.2.1 1, x.2.1, .inl x.2.2.1))]] := hD
    refine lv_aload_n hx hb dJ4_setLength_18 rfl (lv_at hl 0 rfl) ?_
    refine b_get (C := RJ5) (T := TJ5) (N := 4) (v := .int (nI L.length)) hx hb hts in_J5 hown hK (b_at (k := 0) hP rfl) rfl 3 (by decide) q236 (fun _ h9 => h9) rfl dJ4_setLength_19 ?_
    refine lv_iload_n hx hb dJ4_setLength_22 rfl (lv_at hl 1 rfl) ?_
    refine lv_icmp_ge (tgt := 63) hx hb dJ4_setLength_23 (by decide) (fun c_3 => ?_) (fun c_3 => ?_)
    · -- 23 taken
      have n_3 : 0 ≤ L.length := (nI_leI (by omega) (by omega)).mp (show nI 0 ≤ nI L.length from c_3)
      have m_3 : ¬ (L.length < 0) := by omega
      have d_3 := Int32.not_lt.mpr c_3
      refine lv_aload_n hx hb dJ4_setLength_63 rfl (lv_at hl 0 rfl) ?_
      refine b_get (C := RJ5) (T := TJ5) (N := 4) (v := .int (nI L.length)) hx hb hts in_J5 hown hK (b_at (k := 0) hP rfl) rfl 3 (by decide) q236 (fun _ h9 => h9) rfl dJ4_setLength_64 ?_
      refine lv_iload_n hx hb dJ4_setLength_67 rfl (lv_at hl 1 rfl) ?_
      refine lv_icmp_le (tgt := 76) hx hb dJ4_setLength_68 (by decide) (fun c_4 => ?_) (fun c_4 => ?_)
      · -- 68 taken
        have n_4 : L.length ≤ 0 := (nI_leI (by omega) (by omega)).mp (show nI L.length ≤ nI 0 from c_4)
        have m_4 : ¬ (0 < L.length) := by omega
        have d_4 := Int32.not_lt.mpr c_4
        refine lv_aload_n hx hb dJ4_setLength_76 rfl (lv_at hl 0 rfl) ?_
        refine lv_iload_n hx hb dJ4_setLength_77 rfl (lv_at hl 1 rfl) ?_
        refine b_put (C := RJ5) (T := TJ5) (N := 4) (ty := .int) (v := .int (nI 0)) hx hb hts in_J5 tyJ5_ok nmJ5 hown hK hP hD hS 0 rfl rfl 3 (by decide) q236 (fun _ h9 => h9) rfl (by decide +kernel) rfl rfl (Nat.le_of_ble_eq_true rfl) dJ4_setLength_78 (fun H locs hP hD hS => ?_)
        have hP : WP Γ [[(a, .inr (13, [.ref x.1, .int 0, .int x.2.2.2, .int (nI 0)]))], [(x.1, .inl (Γ.2.1 1, x.2.1, .inl x.2.2.1))]] H := hP
        have hD : WD A [[(a, .inr (13, [.ref x.1, .int 0, .int x.2.2.2, .int (nI 0)]))], [(x.1, .inl (Γ.2.1 1, x.2.1, .inl x.2.2.1))]] := hD
        exact b_vret hx hb hr hlocks hP hD hS (Nat.le_of_ble_eq_true rfl) (Nat.le_of_ble_eq_true rfl) ⟨(x.1, x.2.1, x.2.2.1, x.2.2.2), ⟨Nat.zero_le _, hsb.2.1, hsb.2.2.1, hsb.2.2.2.1, fun j h => absurd h (Nat.not_lt_zero j)⟩, rfl⟩ dJ4_setLength_81
      · -- 68 not taken
        have n_4 : ¬ (L.length ≤ 0) := fun h => c_4 ((nI_leI (a := L.length) (b := 0) (by omega) (by omega)).mpr h)
        have m_4 : 0 < L.length := by omega
        have d_4 := Int32.not_le.mp c_4
        refine lv_aload_n hx hb dJ4_setLength_71 rfl (lv_at hl 0 rfl) ?_
        refine lv_iconst (v := 1) hx hb dJ4_setLength_72 (by decide) ?_
        refine b_put (C := RJ5) (T := TJ5) (N := 4) (ty := .boolean) (v := .int 1) hx hb hts in_J5 tyJ5_ok nmJ5 hown hK hP hD hS 0 rfl rfl 2 (by decide) q234 (fun _ h9 => h9) rfl (by decide +kernel) rfl rfl (Nat.le_of_ble_eq_true rfl) dJ4_setLength_73 (fun H locs hP hD hS => ?_)
        have hP : WP Γ [[(a, .inr (13, [.ref x.1, .int 0, .int 1, .int (nI L.length)]))], [(x.1, .inl (Γ.2.1 1, x.2.1, .inl x.2.2.1))]] H := hP
        have hD : WD A [[(a, .inr (13, [.ref x.1, .int 0, .int 1, .int (nI L.length)]))], [(x.1, .inl (Γ.2.1 1, x.2.1, .inl x.2.2.1))]] := hD
        refine lv_aload_n hx hb dJ4_setLength_76 rfl (lv_at hl 0 rfl) ?_
        refine lv_iload_n hx hb dJ4_setLength_77 rfl (lv_at hl 1 rfl) ?_
        refine b_put (C := RJ5) (T := TJ5) (N := 4) (ty := .int) (v := .int (nI 0)) hx hb hts in_J5 tyJ5_ok nmJ5 hown hK hP hD hS 0 rfl rfl 3 (by decide) q236 (fun _ h9 => h9) rfl (by decide +kernel) rfl rfl (Nat.le_of_ble_eq_true rfl) dJ4_setLength_78 (fun H locs hP hD hS => ?_)
        have hP : WP Γ [[(a, .inr (13, [.ref x.1, .int 0, .int 1, .int (nI 0)]))], [(x.1, .inl (Γ.2.1 1, x.2.1, .inl x.2.2.1))]] H := hP
        have hD : WD A [[(a, .inr (13, [.ref x.1, .int 0, .int 1, .int (nI 0)]))], [(x.1, .inl (Γ.2.1 1, x.2.1, .inl x.2.2.1))]] := hD
        exact b_vret hx hb hr hlocks hP hD hS (Nat.le_of_ble_eq_true rfl) (Nat.le_of_ble_eq_true rfl) ⟨(x.1, x.2.1, x.2.2.1, 1), ⟨Nat.zero_le _, hsb.2.1, hsb.2.2.1, Or.inr rfl, fun j h => absurd h (Nat.not_lt_zero j)⟩, rfl⟩ dJ4_setLength_81
    · -- 23 not taken
      have n_3 : ¬ (0 ≤ L.length) := fun h => c_3 ((nI_leI (a := 0) (b := L.length) (by omega) (by omega)).mpr h)
      have m_3 : L.length < 0 := by omega
      have d_3 := Int32.not_le.mp c_3
      exfalso; omega
  · -- 1 not taken
    have n_1 : ¬ (0 ≤ 0) := fun h => c_1 ((nI_leI (a := 0) (b := 0) (by omega) (by omega)).mpr h)
    exact absurd n_1 (by omega)
set_option maxHeartbeats 4000000 in
set_option maxRecDepth 100000 in
theorem mt_SB_clear (l : Launch) (Γ : GE) (sz : Nat) (a : Nat) (x : SBT) (L : List Int32) (hsb : sbF 0 x L) : KM l yJ5_setLength cJ5_setLength 2 none Γ 2 43 0 0 [.ref a, .int (nI 0)] [[(a, .inr (13, [.ref x.1, .int 0, .int x.2.2.2, .int (nI L.length)]))], [(x.1, .inl (Γ.2.1 1, x.2.1, .inl x.2.2.1))]] [] sz (Qv Γ (fun u_ => ∃ y : SBT, sbF 0 y [] ∧ u_ = [[(a, .inr (13, [.ref y.1, .int 0, .int y.2.2.2, .int (nI ([] : List Int32).length)]))], [(y.1, .inl (Γ.2.1 1, y.2.1, .inl y.2.2.1))]])) := by
  refine K_intro (by decide) (Nat.le_of_ble_eq_true rfl) ?_
  intro pr_ ev_ s mi_ below meth cd_ A ls hx hb hr hml hown hts hlocks hname hK hE hRo hP hD hA hS hsz hl
  have hl : lv_has ls 2 [(0, .ref a), (1, .int (nI 0))] := hl
  have hown : s.vm.findClass RJ5 = some mi_.cls := hown
  refine lv_aload_n hx hb dJ5_setLength_0 rfl (lv_at hl 0 rfl) ?_
  refine lv_iload_n hx hb dJ5_setLength_1 rfl (lv_at hl 1 rfl) ?_
  refine b_callv (br := []) (b_runSU (hK.1 13 _ rfl).2 ⟨hx, hb, hml, hown, hts⟩ (mt_AB_clear l Γ _ a x L hsb) q2060 q2219 q245 q2061 q69 q2062 rfl rfl 1 ⟨by decide, by decide +kernel⟩ ⟨(Nat.le_of_ble_eq_true rfl), (Nat.le_of_ble_eq_true rfl)⟩ (c_pre hP hD hS hA hK hE [0, 1] rfl rfl ro_nil) (recv_at (q := (RJ5, TJ5, 4)) hK (b_at (k := 0) hP rfl) rfl) rfl hl.1 rfl (Nat.le_of_ble_eq_true rfl) dJ5_setLength_2 ⟨(Nat.le_of_ble_eq_true rfl), (Nat.le_of_ble_eq_true rfl)⟩) hP hD hS hA [0, 1] [] rfl rfl rfl (fun u_1 H locs hw_1 hP hD hS _ => ?_)
  obtain ⟨y_1, hy_1, rfl⟩ := hw_1
  have hP : WP Γ [[(a, .inr (13, [.ref y_1.1, .int 0, .int y_1.2.2.2, .int (nI ([] : List Int32).length)]))], [(y_1.1, .inl (Γ.2.1 1, y_1.2.1, .inl y_1.2.2.1))]] H := hP
  have hD : WD A [[(a, .inr (13, [.ref y_1.1, .int 0, .int y_1.2.2.2, .int (nI ([] : List Int32).length)]))], [(y_1.1, .inl (Γ.2.1 1, y_1.2.1, .inl y_1.2.2.1))]] := hD
  exact b_vret hx hb hr hlocks hP hD hS (Nat.le_of_ble_eq_true rfl) (Nat.le_of_ble_eq_true rfl) ⟨y_1, hy_1, rfl⟩ dJ5_setLength_5
set_option maxHeartbeats 4000000 in
set_option maxRecDepth 100000 in
theorem mt_AB_charAt (l : Launch) (Γ : GE) (sz : Nat) (a : Nat) (x : SBT) (L : List Int32) (i : Nat) (hsb : sbF 0 x L) (hi : i < L.length) : KM l yJ4_charAt cJ4_charAt 5 (some FieldType.char) Γ 2 43 0 0 [.ref a, .int (nI i)] [[(a, .inr (13, [.ref x.1, .int 0, .int x.2.2.2, .int (nI L.length)]))], [(x.1, .inl (Γ.2.1 1, x.2.1, .inl x.2.2.1))]] [] sz (Qi Γ (fun r_ u_ => r_ = (L.getD i 0) ∧ u_ = [[(a, .inr (13, [.ref x.1, .int 0, .int x.2.2.2, .int (nI L.length)]))], [(x.1, .inl (Γ.2.1 1, x.2.1, .inl x.2.2.1))]])) := by
  refine K_intro (by decide) (Nat.le_of_ble_eq_true rfl) ?_
  intro pr_ ev_ s mi_ below meth cd_ A ls hx hb hr hml hown hts hlocks hname hK hE hRo hP hD hA hS hsz hl
  have hl : lv_has ls 5 [(0, .ref a), (1, .int (nI i))] := hl
  have hown : s.vm.findClass RJ4 = some mi_.cls := hown
  have hxl := sbF_len hsb
  have hv := hsb.2.2.2.2 i hi
  refine lv_aload_n hx hb dJ4_charAt_0 rfl (lv_at hl 0 rfl) ?_
  refine b_get (C := RJ5) (T := TJ5) (N := 4) (v := .int 0) hx hb hts in_J5 hown hK (b_at (k := 0) hP rfl) rfl 1 (by decide) q233 (fun _ h9 => h9) rfl dJ4_charAt_1 ?_
  refine lv_istore_n (lv' := [(2, .int 0), (0, .ref a), (1, .int (nI i))]) hx hb dJ4_charAt_4 rfl hl (by decide) rfl (fun ls hl => ?_)
  refine lv_aload_n hx hb dJ4_charAt_5 rfl (lv_at hl 1 rfl) ?_
  refine b_get (C := RJ5) (T := TJ5) (N := 4) (v := .ref x.1) hx hb hts in_J5 hown hK (b_at (k := 0) hP rfl) rfl 0 (by decide) q232 (fun _ h9 => h9) rfl dJ4_charAt_6 ?_
  refine lv_astore_n (lv' := [(3, .ref x.1), (2, .int 0), (0, .ref a), (1, .int (nI i))]) hx hb dJ4_charAt_9 rfl hl (by decide) rfl (fun ls hl => ?_)
  refine lv_aload_n hx hb dJ4_charAt_10 rfl (lv_at hl 2 rfl) ?_
  refine b_get (C := RJ5) (T := TJ5) (N := 4) (v := .int (nI L.length)) hx hb hts in_J5 hown hK (b_at (k := 0) hP rfl) rfl 3 (by decide) q236 (fun _ h9 => h9) rfl dJ4_charAt_11 ?_
  refine lv_aload_n hx hb dJ4_charAt_14 rfl (lv_at hl 0 rfl) ?_
  refine b_alen hx hb hK 1 (b_at (k := 1) hP rfl) rfl dJ4_charAt_15 ?_
  refine lv_iload_n hx hb dJ4_charAt_16 rfl (lv_at hl 1 rfl) ?_
  refine lv_ishr hx hb dJ4_charAt_17 ?_
  refine b_top (nI_shrE (a := x.2.1) (k := 0) (c := x.2.1) rfl rfl (by decide) (by omega) (by omega)) ?_
  refine va_mmin hx hb (hml.trans hl.1.symm) hown (hts _ q2132) (hts _ q537) (hts _ q83) (hts _ q538) (Nat.le_of_ble_eq_true rfl) (Nat.le_of_ble_eq_true rfl) (Nat.le_of_ble_eq_true rfl) (Nat.le_of_ble_eq_true rfl) dJ4_charAt_18 ?_
  refine b_top (mn_nI (a := L.length) (b := x.2.1) (by omega) (by omega)) ?_
  refine b_top (show (nI (mnN L.length x.2.1)) = nI L.length from congrArg nI (by unfold mnN; rw [if_neg (by omega)])) ?_
  refine lv_istore (lv' := [(4, .int (nI L.length)), (3, .ref x.1), (2, .int 0), (0, .ref a), (1, .int (nI i))]) hx hb dJ4_charAt_21 hl (by decide) rfl (fun ls hl => ?_)
  refine lv_iload_n hx hb dJ4_charAt_23 rfl (lv_at hl 4 rfl) ?_
  refine lv_iload hx hb dJ4_charAt_24 (lv_at hl 0 rfl) ?_
  refine b_callv (br := [[(a, .inr (13, [.ref x.1, .int 0, .int x.2.2.2, .int (nI L.length)]))], [(x.1, .inl (Γ.2.1 1, x.2.1, .inl x.2.2.1))]]) (b_runS ⟨hx, hb, hml, hown, hts⟩ (mt_Str_checkIndex l Γ _ i L.length (by first | exact hi | omega) (by omega)) (lw_S q2133 q1492 q71 q1493) rfl rfl 2 (by decide +kernel) ⟨(Nat.le_of_ble_eq_true rfl), (Nat.le_of_ble_eq_true rfl)⟩ (c_pre hP hD hS hA hK hE [] rfl rfl ro_nil) rfl hl.1 rfl (Nat.le_of_ble_eq_true rfl) dJ4_charAt_26 ⟨(Nat.le_of_ble_eq_true rfl), (Nat.le_of_ble_eq_true rfl)⟩) hP hD hS hA [] [0, 1] rfl rfl rfl (fun u_1 H locs hw_1 hP hD hS _ => ?_)
  obtain rfl := hw_1
  have hP : WP Γ [[(a, .inr (13, [.ref x.1, .int 0, .int x.2.2.2, .int (nI L.length)]))], [(x.1, .inl (Γ.2.1 1, x.2.1, .inl x.2.2.1))]] H := hP
  have hD : WD A [[(a, .inr (13, [.ref x.1, .int 0, .int x.2.2.2, .int (nI L.length)]))], [(x.1, .inl (Γ.2.1 1, x.2.1, .inl x.2.2.1))]] := hD
  refine lv_iload_n hx hb dJ4_charAt_29 rfl (lv_at hl 2 rfl) ?_
  refine lv_if_ne (tgt := 42) hx hb dJ4_charAt_30 (by decide) (fun c_2 => ?_) (fun c_2 => ?_)
  · -- 30 taken
    have n_2 : ¬ (0 = 0) := fun h => c_2 ((nI_eq (a := 0) (b := 0) (by omega) (by omega)).mpr h)
    exact absurd n_2 (by omega)
  · -- 30 not taken
    have n_2 : 0 = 0 := (nI_eq (by omega) (by omega)).mp (show nI 0 = nI 0 from c_2)
    refine lv_aload_n hx hb dJ4_charAt_33 rfl (lv_at hl 1 rfl) ?_
    refine lv_iload_n hx hb dJ4_charAt_34 rfl (lv_at hl 4 rfl) ?_
    refine b_bald hx hb hK (b_at (k := 1) hP rfl) i rfl (by omega) (by omega) dJ4_charAt_35 ?_
    refine lv_sipush (v := 255) hx hb dJ4_charAt_36 (by decide) ?_
    refine lv_iand hx hb dJ4_charAt_39 ?_
    refine lv_i2c hx hb dJ4_charAt_40 rfl ?_
    exact b_zret hx hb hr hlocks hP hD hS (Nat.le_of_ble_eq_true rfl) (Nat.le_of_ble_eq_true rfl) (pk_nc _) ⟨(by rw [chrK, if_pos rfl] at hv; exact hv), (by first | with_reducible rfl | (simp [n_2]; done) | rfl)⟩ dJ4_charAt_41
set_option maxHeartbeats 4000000 in
set_option maxRecDepth 100000 in
theorem mt_SB_charAt (l : Launch) (Γ : GE) (sz : Nat) (a : Nat) (x : SBT) (L : List Int32) (i : Nat) (hsb : sbF 0 x L) (hi : i < L.length) : KM l yJ5_charAt cJ5_charAt 2 (some FieldType.char) Γ 3 67 0 0 [.ref a, .int (nI i)] [[(a, .inr (13, [.ref x.1, .int 0, .int x.2.2.2, .int (nI L.length)]))], [(x.1, .inl (Γ.2.1 1, x.2.1, .inl x.2.2.1))]] [] sz (Qi Γ (fun r_ u_ => r_ = (L.getD i 0) ∧ u_ = [[(a, .inr (13, [.ref x.1, .int 0, .int x.2.2.2, .int (nI L.length)]))], [(x.1, .inl (Γ.2.1 1, x.2.1, .inl x.2.2.1))]])) := by
  refine K_intro (by decide) (Nat.le_of_ble_eq_true rfl) ?_
  intro pr_ ev_ s mi_ below meth cd_ A ls hx hb hr hml hown hts hlocks hname hK hE hRo hP hD hA hS hsz hl
  have hl : lv_has ls 2 [(0, .ref a), (1, .int (nI i))] := hl
  have hown : s.vm.findClass RJ5 = some mi_.cls := hown
  have hv := hsb.2.2.2.2 i hi
  have hnar5 : narrow .char (.int (L.getD i 0)) = .int (L.getD i 0) := by rw [← hv, chrK, if_pos rfl]; exact pk_nc _
  refine lv_aload_n hx hb dJ5_charAt_0 rfl (lv_at hl 0 rfl) ?_
  refine lv_iload_n hx hb dJ5_charAt_1 rfl (lv_at hl 1 rfl) ?_
  refine b_calli (br := []) (b_runSU (hK.1 13 _ rfl).2 ⟨hx, hb, hml, hown, hts⟩ (mt_AB_charAt l Γ _ a x L i hsb (by first | exact hi | omega)) q2129 q2220 q245 q2130 q69 q2131 rfl rfl 1 ⟨by decide, by decide +kernel⟩ ⟨(Nat.le_of_ble_eq_true rfl), (Nat.le_of_ble_eq_true rfl)⟩ (c_pre hP hD hS hA hK hE [0, 1] rfl rfl ro_nil) (recv_at (q := (RJ5, TJ5, 4)) hK (b_at (k := 0) hP rfl) rfl) rfl hl.1 rfl (Nat.le_of_ble_eq_true rfl) dJ5_charAt_2 ⟨(Nat.le_of_ble_eq_true rfl), (Nat.le_of_ble_eq_true rfl)⟩) hP hD hS hA [0, 1] [] rfl rfl rfl (fun r_1 u_1 H locs hw_1 hP hD hS _ => ?_)
  obtain ⟨rfl, rfl⟩ := hw_1
  have hP : WP Γ [[(a, .inr (13, [.ref x.1, .int 0, .int x.2.2.2, .int (nI L.length)]))], [(x.1, .inl (Γ.2.1 1, x.2.1, .inl x.2.2.1))]] H := hP
  have hD : WD A [[(a, .inr (13, [.ref x.1, .int 0, .int x.2.2.2, .int (nI L.length)]))], [(x.1, .inl (Γ.2.1 1, x.2.1, .inl x.2.2.1))]] := hD
  exact b_zret hx hb hr hlocks hP hD hS (Nat.le_of_ble_eq_true rfl) (Nat.le_of_ble_eq_true rfl) hnar5 ⟨(by first | rfl | (simp; done)), (by first | rfl | (simp; done))⟩ dJ5_charAt_5
set_option maxHeartbeats 4000000 in
set_option maxRecDepth 100000 in
theorem mt_checkLength (l : Launch) (Γ : GE) (sz : Nat) (a : Nat) (b : Nat) (h : a ≤ b) (hb : b ≤ 4096) : KM l yJ17_checkLength cJ17_checkLength 2 none Γ 0 0 0 0 [.int (nI a), .int (nI b)] [] [] sz (Qv Γ (fun u_ => u_ = [])) := by
  refine K_intro (by decide) (Nat.le_of_ble_eq_true rfl) ?_
  intro pr_ ev_ s mi_ below meth cd_ A ls hx hb hr hml hown hts hlocks hname hK hE hRo hP hD hA hS hsz hl
  have hl : lv_has ls 2 [(0, .int (nI a)), (1, .int (nI b))] := hl
  have hown : s.vm.findClass RJ17 = some mi_.cls := hown
  refine lv_iload_n hx hb dJ17_checkLength_0 rfl (lv_at hl 1 rfl) ?_
  refine lv_iload_n hx hb dJ17_checkLength_1 rfl (lv_at hl 0 rfl) ?_
  refine lv_icmp_ge (tgt := 37) hx hb dJ17_checkLength_2 (by decide) (fun c_1 => ?_) (fun c_1 => ?_)
  · -- 2 taken
    have n_1 : a ≤ b := (nI_leI (by omega) (by omega)).mp (show nI a ≤ nI b from c_1)
    have m_1 : ¬ (b < a) := by omega
    have d_1 := Int32.not_lt.mpr c_1
    exact b_vret hx hb hr hlocks hP hD hS (Nat.le_of_ble_eq_true rfl) (Nat.le_of_ble_eq_true rfl) (by first | with_reducible rfl | (simp [n_1, m_1, d_1]; done) | rfl) dJ17_checkLength_37
  · -- 2 not taken
    have n_1 : ¬ (a ≤ b) := fun h => c_1 ((nI_leI (a := a) (b := b) (by omega) (by omega)).mpr h)
    have m_1 : b < a := by omega
    have d_1 := Int32.not_le.mp c_1
    exfalso; omega
/-- a copy's bytes -/
def cpOk (m : Nat) (f g : Nat → Int32) : Prop := (∀ j, j < m → g j = f j) ∧ ∀ j, fits .byte (.int (g j)) = true
theorem cpOk_self {m : Nat} {f : Nat → Int32} (hf : ∀ j, fits .byte (.int (f j)) = true) : cpOk m f f := ⟨fun _ _ => rfl, hf⟩
theorem cpOk_cpy {m : Nat} {f : Nat → Int32} (hf : ∀ j, fits .byte (.int (f j)) = true) : cpOk m f (va_cpy f (fun _ => 0) 0 0 m) := by
  refine ⟨fun j hj => ?_, fun j => ?_⟩
  · show (if 0 ≤ j ∧ j < 0 + m then f (0 + (j - 0)) else 0) = _
    rw [if_pos (by omega)]
    congr 1
    omega
  · show fits .byte (.int (if 0 ≤ j ∧ j < 0 + m then f (0 + (j - 0)) else 0)) = true
    split
    · exact hf _
    · decide
set_option maxHeartbeats 4000000 in
set_option maxRecDepth 100000 in
theorem mt_cpRb (l : Launch) (Γ : GE) (sz : Nat) (d : Nat) (n : Nat) (f : Nat → Int32) (m : Nat) (hm : m ≤ n) (hn : n ≤ 2048) (hf : ∀ j, fits .byte (.int (f j)) = true) : KM l yJ17_copyOfRangeByte cJ17_copyOfRangeByte 5 (some (FieldType.array FieldType.byte)) Γ 1 60 1 m [.ref d, .int 0, .int (nI m)] [[(d, .inl (Γ.2.1 1, n, .inl f))]] [] sz (Qq Γ (fun r_ u_ => ∃ w : Nat, ∃ g : Nat → Int32, cpOk m f g ∧ r_ = some w ∧ u_ = [[(d, .inl (Γ.2.1 1, n, .inl f))], [(w, .inl (Γ.2.1 1, m, .inl g))]])) := by
  refine K_intro (by decide) (Nat.le_of_ble_eq_true rfl) ?_
  intro pr_ ev_ s mi_ below meth cd_ A ls hx hb hr hml hown hts hlocks hname hK hE hRo hP hD hA hS hsz hl
  have hl : lv_has ls 5 [(0, .ref d), (1, .int 0), (2, .int (nI m))] := hl
  have hown : s.vm.findClass RJ17 = some mi_.cls := hown
  refine lv_iload_n hx hb dJ17_copyOfRangeByte_0 rfl (lv_at hl 1 rfl) ?_
  refine lv_iload_n hx hb dJ17_copyOfRangeByte_1 rfl (lv_at hl 2 rfl) ?_
  refine b_callv (br := [[(d, .inl (Γ.2.1 1, n, .inl f))]]) (b_runS ⟨hx, hb, hml, hown, hts⟩ (mt_checkLength l Γ _ 0 m (by omega) (by omega)) (lw_S q741 q742 q84 q743) rfl rfl 2 (by decide +kernel) ⟨(Nat.le_of_ble_eq_true rfl), (Nat.le_of_ble_eq_true rfl)⟩ (c_pre hP hD hS hA hK hE [] rfl rfl ro_nil) rfl hl.1 rfl (Nat.le_of_ble_eq_true rfl) dJ17_copyOfRangeByte_2 ⟨(by first | omega | (dsimp only; omega)), (by first | omega | (dsimp only; omega))⟩) hP hD hS hA [] [0] rfl rfl rfl (fun u_1 H locs hw_1 hP hD hS _ => ?_)
  obtain rfl := hw_1
  have hP : WP Γ [[(d, .inl (Γ.2.1 1, n, .inl f))]] H := hP
  have hD : WD A [[(d, .inl (Γ.2.1 1, n, .inl f))]] := hD
  refine lv_iload_n hx hb dJ17_copyOfRangeByte_5 rfl (lv_at hl 2 rfl) ?_
  refine lv_iload_n hx hb dJ17_copyOfRangeByte_6 rfl (lv_at hl 1 rfl) ?_
  refine lv_isub hx hb dJ17_copyOfRangeByte_7 ?_
  refine b_top (nI_subE (a := m) (b := 0) (c := m) rfl rfl (by first | omega | rfl)) ?_
  refine lv_istore_n (lv' := [(3, .int (nI m)), (0, .ref d), (1, .int 0), (2, .int (nI m))]) hx hb dJ17_copyOfRangeByte_8 rfl hl (by decide) rfl (fun ls hl => ?_)
  refine lv_iload_n hx hb dJ17_copyOfRangeByte_9 rfl (lv_at hl 0 rfl) ?_
  refine b_newb hx hb hts hK hP hD hS hA m rfl (by omega) q246 (by first | omega | (dsimp only; omega)) (by first | omega | (dsimp only; omega)) dJ17_copyOfRangeByte_10 (fun a_2 H hP hD hS => ?_)
  have hP : WP Γ [[(d, .inl (Γ.2.1 1, n, .inl f))], [(a_2, .inl (Γ.2.1 1, m, .inl (fun _ => 0)))]] H := hP
  have hD : WD A [[(d, .inl (Γ.2.1 1, n, .inl f))], [(a_2, .inl (Γ.2.1 1, m, .inl (fun _ => 0)))]] := hD
  refine lv_astore (lv' := [(4, .ref a_2), (3, .int (nI m)), (0, .ref d), (1, .int 0), (2, .int (nI m))]) hx hb dJ17_copyOfRangeByte_12 hl (by decide) rfl (fun ls hl => ?_)
  refine lv_aload_n hx hb dJ17_copyOfRangeByte_14 rfl (lv_at hl 2 rfl) ?_
  refine lv_iload_n hx hb dJ17_copyOfRangeByte_15 rfl (lv_at hl 3 rfl) ?_
  refine lv_aload hx hb dJ17_copyOfRangeByte_16 (lv_at hl 0 rfl) ?_
  refine lv_iconst (v := 0) hx hb dJ17_copyOfRangeByte_18 (by decide) ?_
  refine lv_aload_n hx hb dJ17_copyOfRangeByte_19 rfl (lv_at hl 2 rfl) ?_
  refine b_alen hx hb hK 1 (b_at (k := 0) hP rfl) rfl dJ17_copyOfRangeByte_20 ?_
  refine lv_iload_n hx hb dJ17_copyOfRangeByte_21 rfl (lv_at hl 3 rfl) ?_
  refine lv_isub hx hb dJ17_copyOfRangeByte_22 ?_
  refine b_top (nI_subE (a := n) (b := 0) (c := n) rfl rfl (by first | omega | rfl)) ?_
  refine lv_iload_n hx hb dJ17_copyOfRangeByte_23 rfl (lv_at hl 1 rfl) ?_
  refine va_mmin hx hb (hml.trans hl.1.symm) hown (hts _ q536) (hts _ q537) (hts _ q83) (hts _ q538) (Nat.le_of_ble_eq_true rfl) (Nat.le_of_ble_eq_true rfl) (by first | omega | (dsimp only; omega)) (by first | omega | (dsimp only; omega)) dJ17_copyOfRangeByte_24 ?_
  refine b_top (mn_nI (a := n) (b := m) (by omega) (by omega)) ?_
  refine b_top (show (nI (mnN n m)) = nI m from congrArg nI (by unfold mnN; split <;> omega)) ?_
  refine b_copyi hx hb hts (hml.trans hl.1.symm) hown q539 q541 q540 q85 hK hP hD hS 0 1 1 (ty := .byte) rfl rfl rfl rfl 0 0 m rfl rfl rfl (by omega) (by omega) (by omega) (by omega) (fun i _ => hf _) (Nat.le_of_ble_eq_true rfl) (Nat.le_of_ble_eq_true rfl) dJ17_copyOfRangeByte_27 (fun H locs hP hD hS => ?_)
  have hP : WP Γ [[(d, .inl (Γ.2.1 1, n, .inl f))], [(a_2, .inl (Γ.2.1 1, m, .inl (va_cpy f (fun _ => 0) 0 0 m)))]] H := hP
  have hD : WD A [[(d, .inl (Γ.2.1 1, n, .inl f))], [(a_2, .inl (Γ.2.1 1, m, .inl (va_cpy f (fun _ => 0) 0 0 m)))]] := hD
  refine lv_aload hx hb dJ17_copyOfRangeByte_30 (lv_at hl 0 rfl) ?_
  exact b_aret hx hb hr (by first | exact Or.inl ⟨_, rfl⟩ | exact Or.inr ⟨_, rfl⟩) hlocks hP hD hS (by first | omega | (dsimp only; omega)) (by first | omega | (dsimp only; omega)) ⟨a_2, (va_cpy f (fun _ => 0) 0 0 m), cpOk_cpy hf, rfl, rfl⟩ dJ17_copyOfRangeByte_32
set_option maxHeartbeats 4000000 in
set_option maxRecDepth 100000 in
theorem mt_cpR (l : Launch) (Γ : GE) (sz : Nat) (d : Nat) (n : Nat) (f : Nat → Int32) (m : Nat) (hm : m ≤ n) (hn : n ≤ 2048) (hf : ∀ j, fits .byte (.int (f j)) = true) : KM l yJ17_copyOfRange_2 cJ17_copyOfRange_2 3 (some (FieldType.array FieldType.byte)) Γ 2 84 1 m [.ref d, .int 0, .int (nI m)] [[(d, .inl (Γ.2.1 1, n, .inl f))]] [] sz (Qq Γ (fun r_ u_ => ∃ w : Nat, ∃ g : Nat → Int32, cpOk m f g ∧ r_ = some w ∧ u_ = [[(d, .inl (Γ.2.1 1, n, .inl f))], [(w, .inl (Γ.2.1 1, m, .inl g))]])) := by
  refine K_intro (by decide) (Nat.le_of_ble_eq_true rfl) ?_
  intro pr_ ev_ s mi_ below meth cd_ A ls hx hb hr hml hown hts hlocks hname hK hE hRo hP hD hA hS hsz hl
  have hl : lv_has ls 3 [(0, .ref d), (1, .int 0), (2, .int (nI m))] := hl
  have hown : s.vm.findClass RJ17 = some mi_.cls := hown
  refine lv_iload_n hx hb dJ17_copyOfRange_2_0 rfl (lv_at hl 1 rfl) ?_
  refine lv_if_ne (tgt := 10) hx hb dJ17_copyOfRange_2_1 (by decide) (fun c_1 => ?_) (fun c_1 => ?_)
  · -- 1 taken
    have n_1 : ¬ (0 = 0) := fun h => c_1 ((nI_eq (a := 0) (b := 0) (by omega) (by omega)).mpr h)
    exact absurd n_1 (by omega)
  · -- 1 not taken
    have n_1 : 0 = 0 := (nI_eq (by omega) (by omega)).mp (show nI 0 = nI 0 from c_1)
    refine lv_iload_n hx hb dJ17_copyOfRange_2_4 rfl (lv_at hl 2 rfl) ?_
    refine lv_aload_n hx hb dJ17_copyOfRange_2_5 rfl (lv_at hl 0 rfl) ?_
    refine b_alen hx hb hK 1 (b_at (k := 0) hP rfl) rfl dJ17_copyOfRange_2_6 ?_
    refine lv_icmp_eq (tgt := 17) hx hb dJ17_copyOfRange_2_7 (by decide) (fun c_2 => ?_) (fun c_2 => ?_)
    · -- 7 taken
      have n_2 : m = n := (nI_eq (by omega) (by omega)).mp (show nI m = nI n from c_2)
      obtain rfl : m = n := by omega
      refine lv_aload_n hx hb dJ17_copyOfRange_2_17 rfl (lv_at hl 0 rfl) ?_
      refine b_cloneb hx hb hts hE (hml.trans hl.1.symm) hown q600 q601 q602 q603 q604 q605 hK hP hD hS hA 0 rfl (fun j _ => hf j) (Nat.le_of_ble_eq_true rfl) (Nat.le_of_ble_eq_true rfl) (by first | omega | (dsimp only; omega)) (by first | omega | (dsimp only; omega)) dJ17_copyOfRange_2_18 (fun a_3 H hP hD hS => ?_)
      have hP : WP Γ [[(d, .inl (Γ.2.1 1, m, .inl f))], [(a_3, .inl (Γ.2.1 1, m, .inl f))]] H := hP
      have hD : WD A [[(d, .inl (Γ.2.1 1, m, .inl f))], [(a_3, .inl (Γ.2.1 1, m, .inl f))]] := hD
      refine va_castA hx hb hown (hts _ q606) hP _ (fl_get (k := 1) rfl) (hK.2 1 _ rfl).2 dJ17_copyOfRange_2_21 ?_
      exact b_aret hx hb hr (by first | exact Or.inl ⟨_, rfl⟩ | exact Or.inr ⟨_, rfl⟩) hlocks hP hD hS (by first | omega | (dsimp only; omega)) (by first | omega | (dsimp only; omega)) ⟨a_3, f, cpOk_self hf, (by first | with_reducible rfl | (simp [n_1, n_2]; done) | rfl), (by first | with_reducible rfl | (simp [n_1, n_2]; done) | rfl)⟩ dJ17_copyOfRange_2_24
    · -- 7 not taken
      have n_2 : ¬ (m = n) := fun h => c_2 ((nI_eq (a := m) (b := n) (by omega) (by omega)).mpr h)
      refine lv_aload_n hx hb dJ17_copyOfRange_2_10 rfl (lv_at hl 0 rfl) ?_
      refine lv_iload_n hx hb dJ17_copyOfRange_2_11 rfl (lv_at hl 1 rfl) ?_
      refine lv_iload_n hx hb dJ17_copyOfRange_2_12 rfl (lv_at hl 2 rfl) ?_
      refine b_callq (br := []) (b_runS ⟨hx, hb, hml, hown, hts⟩ (mt_cpRb l Γ _ d n f m (by first | exact hm | omega) (by first | exact hn | omega) (by first | exact hf | omega)) (lw_S q738 q739 q84 q740) rfl rfl 3 (by decide +kernel) ⟨(Nat.le_of_ble_eq_true rfl), (Nat.le_of_ble_eq_true rfl)⟩ (c_pre hP hD hS hA hK hE [0] rfl rfl ro_nil) rfl hl.1 rfl (Nat.le_of_ble_eq_true rfl) dJ17_copyOfRange_2_13 ⟨(by first | omega | (dsimp only; omega)), (by first | omega | (dsimp only; omega))⟩) hP hD hS hA [0] [] rfl rfl rfl (fun r_4 u_4 H locs hw_4 hP hD hS _ => ?_)
      obtain ⟨w_4, g_4, hg_4, rfl, rfl⟩ := hw_4
      have hP : WP Γ [[(d, .inl (Γ.2.1 1, n, .inl f))], [(w_4, .inl (Γ.2.1 1, m, .inl g_4))]] H := hP
      have hD : WD A [[(d, .inl (Γ.2.1 1, n, .inl f))], [(w_4, .inl (Γ.2.1 1, m, .inl g_4))]] := hD
      refine W.eq (g2 := F0 mi_ 16 ls ([.ref w_4])) rfl ?_
      exact b_aret hx hb hr (by first | exact Or.inl ⟨_, rfl⟩ | exact Or.inr ⟨_, rfl⟩) hlocks hP hD hS (by first | omega | (dsimp only; omega)) (by first | omega | (dsimp only; omega)) ⟨w_4, g_4, hg_4, (by first | with_reducible rfl | (simp [n_1, n_2]; done) | rfl), (by first | with_reducible rfl | (simp [n_1, n_2]; done) | rfl)⟩ dJ17_copyOfRange_2_16
