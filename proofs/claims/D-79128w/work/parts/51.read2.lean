/-! COMPONENT: the reader's numbers, words and commands. They are told by the model's functions of the letters -/
def ltF (L : List Int32) : Nat → Int32 := fun j => L.getD j 0
theorem rdH_eq (L : List Int32) (i : Nat) : rdH L i = hereP (ltF L) L.length i := rfl
theorem rdH_in {L : List Int32} {j : Nat} {lo hi : Int32} (hlo : ¬ (-1 : Int32) ≥ lo) (h : ¬ inC (rdH L j) lo hi = 0) : j < L.length := by
  unfold rdH at h
  split at h
  · assumption
  · exfalso
    apply h
    unfold inC
    rw [if_pos (Int32.not_le.mp hlo)]
theorem rdH_lt {L : List Int32} {j : Nat} {c : Int32} (hc : ¬ c = -1) (h : rdH L j = c) : j < L.length := by
  unfold rdH at h
  split at h
  · assumption
  · exact absurd h.symm hc
def nP (L : List Int32) (i : Nat) : Int32 × Nat := numP (ltF L) L.length i
def wE (L : List Int32) (i : Nat) : Nat := wEnd (ltF L) L.length i
def slL (L : List Int32) (i e : Nat) : List Int32 := (L.drop i).take (e - i)
/-- how many numbers stand behind a word -/
def nmW (W : List Int32) : Int32 := if W = str_by 14 then 2 else if W = str_by 15 then 2 else if W = str_by 16 then 2 else if W = str_by 17 then 1 else if W = str_by 18 then 1 else if W = str_by 19 then 1 else 0
theorem nmW_0 {W : List Int32} (h : ∀ j, 14 ≤ j → j ≤ 19 → ¬ W = str_by j) : nmW W = 0 := by
  unfold nmW
  rw [if_neg (h 14 (by omega) (by omega)), if_neg (h 15 (by omega) (by omega)), if_neg (h 16 (by omega) (by omega)), if_neg (h 17 (by omega) (by omega)), if_neg (h 18 (by omega) (by omega)), if_neg (h 19 (by omega) (by omega))]
theorem slL_0 (L : List Int32) (i : Nat) : slL L i i = [] := by simp [slL]
theorem slL_s {L : List Int32} {i j : Nat} (h1 : i ≤ j) (h2 : j < L.length) : slL L i (j + 1) = slL L i j ++ [L.getD j 0] := by
  unfold slL
  rw [show j + 1 - i = (j - i) + 1 by omega, List.take_succ, List.getElem?_drop, show i + (j - i) = j by omega, List.getElem?_eq_getElem h2, List.getD_eq_getElem?_getD, List.getElem?_eq_getElem h2]
  rfl
theorem slL_len {L : List Int32} {i j : Nat} (h2 : j ≤ L.length) : (slL L i j).length = j - i := by
  unfold slL
  rw [List.length_take, List.length_drop]
  omega
theorem wE_stop {L : List Int32} {j : Nat} (h : inC (rdH L j) 97 122 = 0) : wE L j = j := by
  show wEndF (ltF L) L.length (L.length + 1 - j) j = j
  cases L.length + 1 - j with
  | zero => rfl
  | succ f => rw [wEndF]; exact if_pos h
theorem wE_step {L : List Int32} {j : Nat} (h : ¬ inC (rdH L j) 97 122 = 0) : wE L (j + 1) = wE L j := by
  have hj := rdH_in (by decide) h
  show wEndF (ltF L) L.length (L.length + 1 - (j + 1)) (j + 1) = wEndF (ltF L) L.length (L.length + 1 - j) j
  rw [show L.length + 1 - j = (L.length + 1 - (j + 1)) + 1 by omega, wEndF]
  exact (if_neg h).symm
theorem wE_in {L : List Int32} {i : Nat} (h : i ≤ L.length) : i ≤ wE L i ∧ wE L i ≤ L.length := wEnd_in h
theorem az_dec : ∀ k : Nat, k < 123 → 97 ≤ k → lc (nb (nI k)) = nI k ∧ ((nI k).toUInt32 % 65536).toInt32 = nI k := by decide +kernel
theorem az_ok {L : List Int32} {j : Nat} (h : ¬ inC (rdH L j) 97 122 = 0) : ¬ 255 < rdH L j ∧ isL (rdH L j) ∧ ((rdH L j).toUInt32 % 65536).toInt32 = rdH L j ∧ rdH L j = L.getD j 0 := by
  have hj := rdH_in (by decide) h
  have e1 : rdH L j = L.getD j 0 := if_pos hj
  unfold inC at h
  split at h
  · exact absurd rfl h
  · rename_i h1
    split at h
    · exact absurd rfl h
    · rename_i h2
      have h3 := Int32.not_lt.mp h1
      have h4 := Int32.not_lt.mp h2
      obtain ⟨k, hk, ek⟩ := nI_of (show ¬ rdH L j < 0 from fun z => by
        rw [Int32.lt_iff_toInt_lt] at z
        rw [Int32.le_iff_toInt_le] at h3
        have a1 : (97 : Int32).toInt = 97 := by decide
        have a2 : (0 : Int32).toInt = 0 := by decide
        omega)
      rw [ek] at h3 h4 ⊢
      have k1 := (nI_leI (a := 97) (b := k) (by omega) hk).mp h3
      have k2 := (nI_leI (a := k) (b := 122) hk (by omega)).mp h4
      have k3 := az_dec k (by omega) k1
      refine ⟨fun z => ?_, k3.1, k3.2, by rw [← ek]; exact e1⟩
      have := (nI_ltI (a := 255) (b := k) (by omega) hk).mp z
      omega
/-- a number on its way: k digits read, the value v, the place j -/
def nbI (L : List Int32) (p k : Nat) (v : Int32) (j : Nat) : Prop := j ≤ L.length ∧ ((k = 0 ∧ v = 0 ∧ j = p) ∨ (1 ≤ k ∧ k ≤ 3 ∧ digF (ltF L) L.length (3 - k) v j = nP L p))
theorem nb_step {L : List Int32} {p k : Nat} {v : Int32} {j : Nat} (hin : ¬ inC (rdH L j) 48 57 = 0) (hI : nbI L p k v j) (hk : k < 3) (hv : k = 0 ∨ 0 < v) : nbI L p (k + 1) (10 * v + rdH L j - 48) (j + 1) := by
  have hj := rdH_in (by decide) hin
  refine ⟨by omega, Or.inr ⟨by omega, by omega, ?_⟩⟩
  rcases hI.2 with ⟨rfl, rfl, rfl⟩ | ⟨h1, h2, h3⟩
  · show digF (ltF L) L.length 2 (10 * 0 + rdH L j - 48) (j + 1) = numP (ltF L) L.length j
    unfold numP
    rw [← rdH_eq]
    congr 1
    simp
  · rw [← h3, show 3 - k = (3 - (k + 1)) + 1 by omega, digF, if_pos (hv.resolve_left (by omega))]
    exact (if_neg hin).symm
theorem nb_end0 {L : List Int32} {p k : Nat} {v : Int32} {j : Nat} (hI : nbI L p k v j) (hd : inC (rdH L j) 48 57 = 0) (h0 : ¬ inC (rdH L p) 48 57 = 0) : (v, j) = nP L p := by
  rcases hI.2 with ⟨rfl, rfl, rfl⟩ | ⟨h1, h2, h3⟩
  · exact absurd hd h0
  · rw [← h3]
    cases 3 - k with
    | zero => rfl
    | succ f =>
      rw [digF]
      split
      · exact (if_pos hd).symm
      · rfl
theorem nb_end1 {L : List Int32} {p k : Nat} {v : Int32} {j : Nat} (hI : nbI L p k v j) (hk : 3 ≤ k) : (v, j) = nP L p := by
  rcases hI.2 with ⟨rfl, rfl, rfl⟩ | ⟨h1, h2, h3⟩
  · omega
  · rw [← h3, show 3 - k = 0 by omega]; rfl
theorem nb_end2 {L : List Int32} {p k : Nat} {v : Int32} {j : Nat} (hI : nbI L p k v j) (hk : ¬ k = 0) (hv : v ≤ 0) : (v, j) = nP L p := by
  rcases hI.2 with ⟨rfl, rfl, rfl⟩ | ⟨h1, h2, h3⟩
  · exact absurd rfl hk
  · rw [← h3]
    cases 3 - k with
    | zero => rfl
    | succ f => rw [digF, if_neg (Int32.not_lt.mpr hv)]
theorem digF_rng (t : Nat → Int32) (n : Nat) : ∀ (f : Nat) (v : Int32) (p : Nat), p ≤ n → p ≤ (digF t n f v p).2 ∧ (digF t n f v p).2 ≤ n := by
  intro f
  induction f with
  | zero => intro v p h; exact ⟨Nat.le_refl _, h⟩
  | succ f ih =>
    intro v p h
    rw [digF]
    split
    · split
      · exact ⟨Nat.le_refl _, h⟩
      · rename_i c
        have h2 : p < n := hereP_in (by decide) c
        have := ih (10 * v + hereP t n p - 48) (p + 1) h2
        exact ⟨by omega, this.2⟩
    · exact ⟨Nat.le_refl _, h⟩
theorem nP_in {L : List Int32} {i : Nat} (h : ¬ inC (rdH L i) 48 57 = 0) : i + 1 ≤ (nP L i).2 ∧ (nP L i).2 ≤ L.length := digF_rng _ _ _ _ _ (rdH_in (by decide) h)
/-- a command: read or not (0), the place behind it or of the fault -/
def cmdS2 (L : List Int32) (p : Nat) : Int32 × Nat := if rdH L p = 32 then (if inC (rdH L (p + 1)) 48 57 = 0 then (0, p + 1) else (1, (nP L (p + 1)).2)) else (0, p)
def cmdS1 (L : List Int32) (p : Nat) (m : Int32) : Int32 × Nat := if rdH L p = 32 then (if inC (rdH L (p + 1)) 48 57 = 0 then (0, p + 1) else if m = 1 then (1, (nP L (p + 1)).2) else cmdS2 L (nP L (p + 1)).2) else (0, p)
def cmdS (L : List Int32) (i : Nat) : Int32 × Nat := if nmW (slL L i (wE L i)) = 0 then (0, i) else cmdS1 L (wE L i) (nmW (slL L i (wE L i)))
def cmdV (L : List Int32) (i : Nat) : Int32 := (nP L (wE L i + 1)).1
def cmdX (L : List Int32) (i : Nat) : Int32 := if nmW (slL L i (wE L i)) = 1 then 0 else (nP L ((nP L (wE L i + 1)).2 + 1)).1
set_option maxHeartbeats 4000000 in
set_option maxRecDepth 100000 in
theorem mt_Rd_nof (l : Launch) (Γ : GE) (sz : Nat) (a : Nat) (y : SST) (L : List Int32) (h0 : Int32) (z0 : Int32) (hst : stF y L) (hh : h0 = strH L ∨ h0 = 0 ∧ z0 = 0) : KM l yX10_numbersOf cX10_numbersOf 3 (some FieldType.int) Γ 4 90 0 0 [.ref a] [[(a, .inr (14, [.ref y.1, .int 0, .int h0, .int z0]))], [(y.1, .inl (Γ.2.1 1, L.length, .inl y.2))]] [] sz (Qi Γ (fun r_ u_ => ∃ h2 : Int32, ∃ z2 : Int32, (h2 = strH L ∨ h2 = 0 ∧ z2 = 0) ∧ r_ = (nmW L) ∧ u_ = [[(a, .inr (14, [.ref y.1, .int 0, .int h2, .int z2]))], [(y.1, .inl (Γ.2.1 1, L.length, .inl y.2))]])) := by
  refine K_intro (by decide) (Nat.le_of_ble_eq_true rfl) ?_
  intro pr_ ev_ s mi_ below meth cd_ A ls hx hb hr hml hown hts hlocks hname hK hE hRo hP hD hA hS hsz hl
  have hl : lv_has ls 3 [(0, .ref a)] := hl
  have hown : s.vm.findClass RX10 = some mi_.cls := hown
  refine lv_aload_n hx hb dX10_numbersOf_0 rfl (lv_at hl 0 rfl) ?_
  refine lv_astore_n (lv' := [(1, .ref a), (0, .ref a)]) hx hb dX10_numbersOf_1 rfl hl (by decide) rfl (fun ls hl => ?_)
  refine lv_iconst (v := (-1)) hx hb dX10_numbersOf_2 (by decide) ?_
  refine lv_istore_n (lv' := [(2, .int (-1)), (1, .ref a), (0, .ref a)]) hx hb dX10_numbersOf_3 rfl hl (by decide) rfl (fun ls hl => ?_)
  refine lv_aload_n hx hb dX10_numbersOf_4 rfl (lv_at hl 1 rfl) ?_
  refine b_calli (br := []) (b_runV ⟨hx, hb, hml, hown, hts⟩ (mt_Str_hash l Γ _ a y L h0 z0 (by assumption) hh) (lw_V q1575 q1576 q1577 q71 q1578) rfl rfl 0 (by decide +kernel) ⟨(Nat.le_of_ble_eq_true rfl), (Nat.le_of_ble_eq_true rfl)⟩ (c_pre hP hD hS hA hK hE [0, 1] rfl rfl ro_nil) (recv_at (q := (RJ6, TJ6, 4)) hK (b_at (k := 0) hP rfl) rfl) rfl hl.1 rfl (Nat.le_of_ble_eq_true rfl) dX10_numbersOf_5 ⟨(Nat.le_of_ble_eq_true rfl), (Nat.le_of_ble_eq_true rfl)⟩) hP hD hS hA [0, 1] [] rfl rfl rfl (fun r_1 u_1 H locs hw_1 hP hD hS _ => ?_)
  obtain ⟨h2_1, z2_1, hh2_1, rfl, rfl⟩ := hw_1
  have hP : WP Γ [[(a, .inr (14, [.ref y.1, .int 0, .int h2_1, .int z2_1]))], [(y.1, .inl (Γ.2.1 1, L.length, .inl y.2))]] H := hP
  have hD : WD A [[(a, .inr (14, [.ref y.1, .int 0, .int h2_1, .int z2_1]))], [(y.1, .inl (Γ.2.1 1, L.length, .inl y.2))]] := hD
  by_cases c_2_99755 : (strH L) = 99755
  · -- key 99755
    refine lv_lookup (tgt := 124) hx hb dX10_numbersOf_8 (by decide) (by rw [c_2_99755] <;> decide) (by decide) ?_
    refine lv_aload_n hx hb dX10_numbersOf_124 rfl (lv_at hl 1 rfl) ?_
    refine va_ldcS hx hb hown (hE.2.2 18 (by decide)) dX10_numbersOf_125 ?_
    by_cases hq_18 : L = str_by 18
    ·
      refine b_calli (br := []) (b_runV ⟨hx, hb, hml, hown, hts⟩ (mt_Str_eq_yes l Γ _ a y L h2_1 z2_1 18 (by assumption) (by first | decide | assumption) (by assumption)) (lw_V q1633 q1634 q1635 q71 q1636) rfl rfl 1 (by decide +kernel) ⟨(Nat.le_of_ble_eq_true rfl), (Nat.le_of_ble_eq_true rfl)⟩ (c_pre hP hD hS hA hK hE [0, 1] rfl rfl (hE.str hS (bFree hD hS hA [0, 1] rfl) 18 (by decide))) (recv_at (q := (RJ6, TJ6, 4)) hK (b_at (k := 0) hP rfl) rfl) rfl hl.1 rfl (Nat.le_of_ble_eq_true rfl) dX10_numbersOf_127 ⟨(Nat.le_of_ble_eq_true rfl), (Nat.le_of_ble_eq_true rfl)⟩) hP hD hS hA [0, 1] [] rfl rfl rfl (fun r_3 u_3 H locs hw_3 hP hD hS _ => ?_)
      obtain ⟨rfl, rfl⟩ := hw_3
      have hP : WP Γ [[(a, .inr (14, [.ref y.1, .int 0, .int h2_1, .int z2_1]))], [(y.1, .inl (Γ.2.1 1, L.length, .inl y.2))]] H := hP
      have hD : WD A [[(a, .inr (14, [.ref y.1, .int 0, .int h2_1, .int z2_1]))], [(y.1, .inl (Γ.2.1 1, L.length, .inl y.2))]] := hD
      refine lv_if_eq (tgt := 149) hx hb dX10_numbersOf_130 (by decide) (fun c_4 => ?_) (fun c_4 => ?_)
      · -- 130 taken
        have n_4 : 1 = 0 := (nI_eq (by omega) (by omega)).mp (show nI 1 = nI 0 from c_4)
        exact absurd n_4 (by omega)
      · -- 130 not taken
        have n_4 : ¬ (1 = 0) := fun hh7 => c_4 ((nI_eq (a := 1) (b := 0) (by omega) (by omega)).mpr hh7)
        refine lv_iconst (v := 4) hx hb dX10_numbersOf_133 (by decide) ?_
        refine lv_istore_n (lv' := [(2, .int 4), (1, .ref a), (0, .ref a)]) hx hb dX10_numbersOf_134 rfl hl (by decide) rfl (fun ls hl => ?_)
        refine lv_goto (tgt := 149) hx hb dX10_numbersOf_135 (by decide) ?_
        refine lv_iload_n hx hb dX10_numbersOf_149 rfl (lv_at hl 0 rfl) ?_
        refine lv_tableIn (tgt := 190) hx hb dX10_numbersOf_150 (by decide) (by decide) rfl (by decide) ?_
        refine lv_iconst (v := 1) hx hb dX10_numbersOf_190 (by decide) ?_
        exact b_iret hx hb hr hlocks hP hD hS (Nat.le_of_ble_eq_true rfl) (Nat.le_of_ble_eq_true rfl) ⟨h2_1, z2_1, hh2_1, (by rw [hq_18]; rfl), rfl⟩ dX10_numbersOf_191
    ·
      refine b_calli (br := []) (b_runV ⟨hx, hb, hml, hown, hts⟩ (mt_Str_eq_no l Γ _ a y L h2_1 z2_1 18 (by assumption) (by first | decide | assumption) (by assumption)) (lw_V q1633 q1634 q1635 q71 q1636) rfl rfl 1 (by decide +kernel) ⟨(Nat.le_of_ble_eq_true rfl), (Nat.le_of_ble_eq_true rfl)⟩ (c_pre hP hD hS hA hK hE [0, 1] rfl rfl (hE.str hS (bFree hD hS hA [0, 1] rfl) 18 (by decide))) (recv_at (q := (RJ6, TJ6, 4)) hK (b_at (k := 0) hP rfl) rfl) rfl hl.1 rfl (Nat.le_of_ble_eq_true rfl) dX10_numbersOf_127 ⟨(Nat.le_of_ble_eq_true rfl), (Nat.le_of_ble_eq_true rfl)⟩) hP hD hS hA [0, 1] [] rfl rfl rfl (fun r_5 u_5 H locs hw_5 hP hD hS _ => ?_)
      obtain ⟨rfl, rfl⟩ := hw_5
      have hP : WP Γ [[(a, .inr (14, [.ref y.1, .int 0, .int h2_1, .int z2_1]))], [(y.1, .inl (Γ.2.1 1, L.length, .inl y.2))]] H := hP
      have hD : WD A [[(a, .inr (14, [.ref y.1, .int 0, .int h2_1, .int z2_1]))], [(y.1, .inl (Γ.2.1 1, L.length, .inl y.2))]] := hD
      refine lv_if_eq (tgt := 149) hx hb dX10_numbersOf_130 (by decide) (fun c_6 => ?_) (fun c_6 => ?_)
      · -- 130 taken
        have n_6 : 0 = 0 := (nI_eq (by omega) (by omega)).mp (show nI 0 = nI 0 from c_6)
        refine lv_iload_n hx hb dX10_numbersOf_149 rfl (lv_at hl 0 rfl) ?_
        refine lv_tableOut (tgt := 192) hx hb dX10_numbersOf_150 (by decide) (by decide) ?_
        refine lv_iconst (v := 0) hx hb dX10_numbersOf_192 (by decide) ?_
        exact b_iret hx hb hr hlocks hP hD hS (Nat.le_of_ble_eq_true rfl) (Nat.le_of_ble_eq_true rfl) ⟨h2_1, z2_1, hh2_1, (nmW_0 (fun j h1 h2 hL => by rcases (show j = 14 ∨ j = 15 ∨ j = 16 ∨ j = 17 ∨ j = 18 ∨ j = 19 by omega) with rfl | rfl | rfl | rfl | rfl | rfl <;> first | (rw [hL] at c_2_99755; exact absurd c_2_99755 (by decide)) | (rw [hL] at c_2_99755; exact absurd c_2_99755 (by decide)) | (rw [hL] at c_2_99755; exact absurd c_2_99755 (by decide)) | (rw [hL] at c_2_99755; exact absurd c_2_99755 (by decide)) | (exact hq_18 hL) | (rw [hL] at c_2_99755; exact absurd c_2_99755 (by decide)))).symm, rfl⟩ dX10_numbersOf_193
      · -- 130 not taken
        have n_6 : ¬ (0 = 0) := fun hh7 => c_6 ((nI_eq (a := 0) (b := 0) (by omega) (by omega)).mpr hh7)
        exact absurd n_6 (by omega)
  by_cases c_2_3208383 : (strH L) = 3208383
  · -- key 3208383
    refine lv_lookup (tgt := 68) hx hb dX10_numbersOf_8 (by decide) (by rw [c_2_3208383] <;> decide) (by decide) ?_
    refine lv_aload_n hx hb dX10_numbersOf_68 rfl (lv_at hl 1 rfl) ?_
    refine va_ldcS hx hb hown (hE.2.2 14 (by decide)) dX10_numbersOf_69 ?_
    by_cases hq_14 : L = str_by 14
    ·
      refine b_calli (br := []) (b_runV ⟨hx, hb, hml, hown, hts⟩ (mt_Str_eq_yes l Γ _ a y L h2_1 z2_1 14 (by assumption) (by first | decide | assumption) (by assumption)) (lw_V q1633 q1634 q1635 q71 q1636) rfl rfl 1 (by decide +kernel) ⟨(Nat.le_of_ble_eq_true rfl), (Nat.le_of_ble_eq_true rfl)⟩ (c_pre hP hD hS hA hK hE [0, 1] rfl rfl (hE.str hS (bFree hD hS hA [0, 1] rfl) 14 (by decide))) (recv_at (q := (RJ6, TJ6, 4)) hK (b_at (k := 0) hP rfl) rfl) rfl hl.1 rfl (Nat.le_of_ble_eq_true rfl) dX10_numbersOf_71 ⟨(Nat.le_of_ble_eq_true rfl), (Nat.le_of_ble_eq_true rfl)⟩) hP hD hS hA [0, 1] [] rfl rfl rfl (fun r_7 u_7 H locs hw_7 hP hD hS _ => ?_)
      obtain ⟨rfl, rfl⟩ := hw_7
      have hP : WP Γ [[(a, .inr (14, [.ref y.1, .int 0, .int h2_1, .int z2_1]))], [(y.1, .inl (Γ.2.1 1, L.length, .inl y.2))]] H := hP
      have hD : WD A [[(a, .inr (14, [.ref y.1, .int 0, .int h2_1, .int z2_1]))], [(y.1, .inl (Γ.2.1 1, L.length, .inl y.2))]] := hD
      refine lv_if_eq (tgt := 149) hx hb dX10_numbersOf_74 (by decide) (fun c_8 => ?_) (fun c_8 => ?_)
      · -- 74 taken
        have n_8 : 1 = 0 := (nI_eq (by omega) (by omega)).mp (show nI 1 = nI 0 from c_8)
        exact absurd n_8 (by omega)
      · -- 74 not taken
        have n_8 : ¬ (1 = 0) := fun hh7 => c_8 ((nI_eq (a := 1) (b := 0) (by omega) (by omega)).mpr hh7)
        refine lv_iconst (v := 0) hx hb dX10_numbersOf_77 (by decide) ?_
        refine lv_istore_n (lv' := [(2, .int 0), (1, .ref a), (0, .ref a)]) hx hb dX10_numbersOf_78 rfl hl (by decide) rfl (fun ls hl => ?_)
        refine lv_goto (tgt := 149) hx hb dX10_numbersOf_79 (by decide) ?_
        refine lv_iload_n hx hb dX10_numbersOf_149 rfl (lv_at hl 0 rfl) ?_
        refine lv_tableIn (tgt := 188) hx hb dX10_numbersOf_150 (by decide) (by decide) rfl (by decide) ?_
        refine lv_iconst (v := 2) hx hb dX10_numbersOf_188 (by decide) ?_
        exact b_iret hx hb hr hlocks hP hD hS (Nat.le_of_ble_eq_true rfl) (Nat.le_of_ble_eq_true rfl) ⟨h2_1, z2_1, hh2_1, (by rw [hq_14]; rfl), rfl⟩ dX10_numbersOf_189
    ·
      refine b_calli (br := []) (b_runV ⟨hx, hb, hml, hown, hts⟩ (mt_Str_eq_no l Γ _ a y L h2_1 z2_1 14 (by assumption) (by first | decide | assumption) (by assumption)) (lw_V q1633 q1634 q1635 q71 q1636) rfl rfl 1 (by decide +kernel) ⟨(Nat.le_of_ble_eq_true rfl), (Nat.le_of_ble_eq_true rfl)⟩ (c_pre hP hD hS hA hK hE [0, 1] rfl rfl (hE.str hS (bFree hD hS hA [0, 1] rfl) 14 (by decide))) (recv_at (q := (RJ6, TJ6, 4)) hK (b_at (k := 0) hP rfl) rfl) rfl hl.1 rfl (Nat.le_of_ble_eq_true rfl) dX10_numbersOf_71 ⟨(Nat.le_of_ble_eq_true rfl), (Nat.le_of_ble_eq_true rfl)⟩) hP hD hS hA [0, 1] [] rfl rfl rfl (fun r_9 u_9 H locs hw_9 hP hD hS _ => ?_)
      obtain ⟨rfl, rfl⟩ := hw_9
      have hP : WP Γ [[(a, .inr (14, [.ref y.1, .int 0, .int h2_1, .int z2_1]))], [(y.1, .inl (Γ.2.1 1, L.length, .inl y.2))]] H := hP
      have hD : WD A [[(a, .inr (14, [.ref y.1, .int 0, .int h2_1, .int z2_1]))], [(y.1, .inl (Γ.2.1 1, L.length, .inl y.2))]] := hD
      refine lv_if_eq (tgt := 149) hx hb dX10_numbersOf_74 (by decide) (fun c_10 => ?_) (fun c_10 => ?_)
      · -- 74 taken
        have n_10 : 0 = 0 := (nI_eq (by omega) (by omega)).mp (show nI 0 = nI 0 from c_10)
        refine lv_iload_n hx hb dX10_numbersOf_149 rfl (lv_at hl 0 rfl) ?_
        refine lv_tableOut (tgt := 192) hx hb dX10_numbersOf_150 (by decide) (by decide) ?_
        refine lv_iconst (v := 0) hx hb dX10_numbersOf_192 (by decide) ?_
        exact b_iret hx hb hr hlocks hP hD hS (Nat.le_of_ble_eq_true rfl) (Nat.le_of_ble_eq_true rfl) ⟨h2_1, z2_1, hh2_1, (nmW_0 (fun j h1 h2 hL => by rcases (show j = 14 ∨ j = 15 ∨ j = 16 ∨ j = 17 ∨ j = 18 ∨ j = 19 by omega) with rfl | rfl | rfl | rfl | rfl | rfl <;> first | (exact hq_14 hL) | (rw [hL] at c_2_3208383; exact absurd c_2_3208383 (by decide)) | (rw [hL] at c_2_3208383; exact absurd c_2_3208383 (by decide)) | (rw [hL] at c_2_3208383; exact absurd c_2_3208383 (by decide)) | (rw [hL] at c_2_3208383; exact absurd c_2_3208383 (by decide)) | (rw [hL] at c_2_3208383; exact absurd c_2_3208383 (by decide)))).symm, rfl⟩ dX10_numbersOf_193
      · -- 74 not taken
        have n_10 : ¬ (0 = 0) := fun hh7 => c_10 ((nI_eq (a := 0) (b := 0) (by omega) (by omega)).mpr hh7)
        exact absurd n_10 (by omega)
  by_cases c_2_3526482 : (strH L) = 3526482
  · -- key 3526482
    refine lv_lookup (tgt := 138) hx hb dX10_numbersOf_8 (by decide) (by rw [c_2_3526482] <;> decide) (by decide) ?_
    refine lv_aload_n hx hb dX10_numbersOf_138 rfl (lv_at hl 1 rfl) ?_
    refine va_ldcS hx hb hown (hE.2.2 19 (by decide)) dX10_numbersOf_139 ?_
    by_cases hq_19 : L = str_by 19
    ·
      refine b_calli (br := []) (b_runV ⟨hx, hb, hml, hown, hts⟩ (mt_Str_eq_yes l Γ _ a y L h2_1 z2_1 19 (by assumption) (by first | decide | assumption) (by assumption)) (lw_V q1633 q1634 q1635 q71 q1636) rfl rfl 1 (by decide +kernel) ⟨(Nat.le_of_ble_eq_true rfl), (Nat.le_of_ble_eq_true rfl)⟩ (c_pre hP hD hS hA hK hE [0, 1] rfl rfl (hE.str hS (bFree hD hS hA [0, 1] rfl) 19 (by decide))) (recv_at (q := (RJ6, TJ6, 4)) hK (b_at (k := 0) hP rfl) rfl) rfl hl.1 rfl (Nat.le_of_ble_eq_true rfl) dX10_numbersOf_141 ⟨(Nat.le_of_ble_eq_true rfl), (Nat.le_of_ble_eq_true rfl)⟩) hP hD hS hA [0, 1] [] rfl rfl rfl (fun r_11 u_11 H locs hw_11 hP hD hS _ => ?_)
      obtain ⟨rfl, rfl⟩ := hw_11
      have hP : WP Γ [[(a, .inr (14, [.ref y.1, .int 0, .int h2_1, .int z2_1]))], [(y.1, .inl (Γ.2.1 1, L.length, .inl y.2))]] H := hP
      have hD : WD A [[(a, .inr (14, [.ref y.1, .int 0, .int h2_1, .int z2_1]))], [(y.1, .inl (Γ.2.1 1, L.length, .inl y.2))]] := hD
      refine lv_if_eq (tgt := 149) hx hb dX10_numbersOf_144 (by decide) (fun c_12 => ?_) (fun c_12 => ?_)
      · -- 144 taken
        have n_12 : 1 = 0 := (nI_eq (by omega) (by omega)).mp (show nI 1 = nI 0 from c_12)
        exact absurd n_12 (by omega)
      · -- 144 not taken
        have n_12 : ¬ (1 = 0) := fun hh7 => c_12 ((nI_eq (a := 1) (b := 0) (by omega) (by omega)).mpr hh7)
        refine lv_iconst (v := 5) hx hb dX10_numbersOf_147 (by decide) ?_
        refine lv_istore_n (lv' := [(2, .int 5), (1, .ref a), (0, .ref a)]) hx hb dX10_numbersOf_148 rfl hl (by decide) rfl (fun ls hl => ?_)
        refine lv_iload_n hx hb dX10_numbersOf_149 rfl (lv_at hl 0 rfl) ?_
        refine lv_tableIn (tgt := 190) hx hb dX10_numbersOf_150 (by decide) (by decide) rfl (by decide) ?_
        refine lv_iconst (v := 1) hx hb dX10_numbersOf_190 (by decide) ?_
        exact b_iret hx hb hr hlocks hP hD hS (Nat.le_of_ble_eq_true rfl) (Nat.le_of_ble_eq_true rfl) ⟨h2_1, z2_1, hh2_1, (by rw [hq_19]; rfl), rfl⟩ dX10_numbersOf_191
    ·
      refine b_calli (br := []) (b_runV ⟨hx, hb, hml, hown, hts⟩ (mt_Str_eq_no l Γ _ a y L h2_1 z2_1 19 (by assumption) (by first | decide | assumption) (by assumption)) (lw_V q1633 q1634 q1635 q71 q1636) rfl rfl 1 (by decide +kernel) ⟨(Nat.le_of_ble_eq_true rfl), (Nat.le_of_ble_eq_true rfl)⟩ (c_pre hP hD hS hA hK hE [0, 1] rfl rfl (hE.str hS (bFree hD hS hA [0, 1] rfl) 19 (by decide))) (recv_at (q := (RJ6, TJ6, 4)) hK (b_at (k := 0) hP rfl) rfl) rfl hl.1 rfl (Nat.le_of_ble_eq_true rfl) dX10_numbersOf_141 ⟨(Nat.le_of_ble_eq_true rfl), (Nat.le_of_ble_eq_true rfl)⟩) hP hD hS hA [0, 1] [] rfl rfl rfl (fun r_13 u_13 H locs hw_13 hP hD hS _ => ?_)
      obtain ⟨rfl, rfl⟩ := hw_13
      have hP : WP Γ [[(a, .inr (14, [.ref y.1, .int 0, .int h2_1, .int z2_1]))], [(y.1, .inl (Γ.2.1 1, L.length, .inl y.2))]] H := hP
      have hD : WD A [[(a, .inr (14, [.ref y.1, .int 0, .int h2_1, .int z2_1]))], [(y.1, .inl (Γ.2.1 1, L.length, .inl y.2))]] := hD
      refine lv_if_eq (tgt := 149) hx hb dX10_numbersOf_144 (by decide) (fun c_14 => ?_) (fun c_14 => ?_)
      · -- 144 taken
        have n_14 : 0 = 0 := (nI_eq (by omega) (by omega)).mp (show nI 0 = nI 0 from c_14)
        refine lv_iload_n hx hb dX10_numbersOf_149 rfl (lv_at hl 0 rfl) ?_
        refine lv_tableOut (tgt := 192) hx hb dX10_numbersOf_150 (by decide) (by decide) ?_
        refine lv_iconst (v := 0) hx hb dX10_numbersOf_192 (by decide) ?_
        exact b_iret hx hb hr hlocks hP hD hS (Nat.le_of_ble_eq_true rfl) (Nat.le_of_ble_eq_true rfl) ⟨h2_1, z2_1, hh2_1, (nmW_0 (fun j h1 h2 hL => by rcases (show j = 14 ∨ j = 15 ∨ j = 16 ∨ j = 17 ∨ j = 18 ∨ j = 19 by omega) with rfl | rfl | rfl | rfl | rfl | rfl <;> first | (rw [hL] at c_2_3526482; exact absurd c_2_3526482 (by decide)) | (rw [hL] at c_2_3526482; exact absurd c_2_3526482 (by decide)) | (rw [hL] at c_2_3526482; exact absurd c_2_3526482 (by decide)) | (rw [hL] at c_2_3526482; exact absurd c_2_3526482 (by decide)) | (rw [hL] at c_2_3526482; exact absurd c_2_3526482 (by decide)) | (exact hq_19 hL))).symm, rfl⟩ dX10_numbersOf_193
      · -- 144 not taken
        have n_14 : ¬ (0 = 0) := fun hh7 => c_14 ((nI_eq (a := 0) (b := 0) (by omega) (by omega)).mpr hh7)
        exact absurd n_14 (by omega)
  by_cases c_2_93921311 : (strH L) = 93921311
  · -- key 93921311
    refine lv_lookup (tgt := 96) hx hb dX10_numbersOf_8 (by decide) (by rw [c_2_93921311] <;> decide) (by decide) ?_
    refine lv_aload_n hx hb dX10_numbersOf_96 rfl (lv_at hl 1 rfl) ?_
    refine va_ldcS hx hb hown (hE.2.2 16 (by decide)) dX10_numbersOf_97 ?_
    by_cases hq_16 : L = str_by 16
    ·
      refine b_calli (br := []) (b_runV ⟨hx, hb, hml, hown, hts⟩ (mt_Str_eq_yes l Γ _ a y L h2_1 z2_1 16 (by assumption) (by first | decide | assumption) (by assumption)) (lw_V q1633 q1634 q1635 q71 q1636) rfl rfl 1 (by decide +kernel) ⟨(Nat.le_of_ble_eq_true rfl), (Nat.le_of_ble_eq_true rfl)⟩ (c_pre hP hD hS hA hK hE [0, 1] rfl rfl (hE.str hS (bFree hD hS hA [0, 1] rfl) 16 (by decide))) (recv_at (q := (RJ6, TJ6, 4)) hK (b_at (k := 0) hP rfl) rfl) rfl hl.1 rfl (Nat.le_of_ble_eq_true rfl) dX10_numbersOf_99 ⟨(Nat.le_of_ble_eq_true rfl), (Nat.le_of_ble_eq_true rfl)⟩) hP hD hS hA [0, 1] [] rfl rfl rfl (fun r_15 u_15 H locs hw_15 hP hD hS _ => ?_)
      obtain ⟨rfl, rfl⟩ := hw_15
      have hP : WP Γ [[(a, .inr (14, [.ref y.1, .int 0, .int h2_1, .int z2_1]))], [(y.1, .inl (Γ.2.1 1, L.length, .inl y.2))]] H := hP
      have hD : WD A [[(a, .inr (14, [.ref y.1, .int 0, .int h2_1, .int z2_1]))], [(y.1, .inl (Γ.2.1 1, L.length, .inl y.2))]] := hD
      refine lv_if_eq (tgt := 149) hx hb dX10_numbersOf_102 (by decide) (fun c_16 => ?_) (fun c_16 => ?_)
      · -- 102 taken
        have n_16 : 1 = 0 := (nI_eq (by omega) (by omega)).mp (show nI 1 = nI 0 from c_16)
        exact absurd n_16 (by omega)
      · -- 102 not taken
        have n_16 : ¬ (1 = 0) := fun hh7 => c_16 ((nI_eq (a := 1) (b := 0) (by omega) (by omega)).mpr hh7)
        refine lv_iconst (v := 2) hx hb dX10_numbersOf_105 (by decide) ?_
        refine lv_istore_n (lv' := [(2, .int 2), (1, .ref a), (0, .ref a)]) hx hb dX10_numbersOf_106 rfl hl (by decide) rfl (fun ls hl => ?_)
        refine lv_goto (tgt := 149) hx hb dX10_numbersOf_107 (by decide) ?_
        refine lv_iload_n hx hb dX10_numbersOf_149 rfl (lv_at hl 0 rfl) ?_
        refine lv_tableIn (tgt := 188) hx hb dX10_numbersOf_150 (by decide) (by decide) rfl (by decide) ?_
        refine lv_iconst (v := 2) hx hb dX10_numbersOf_188 (by decide) ?_
        exact b_iret hx hb hr hlocks hP hD hS (Nat.le_of_ble_eq_true rfl) (Nat.le_of_ble_eq_true rfl) ⟨h2_1, z2_1, hh2_1, (by rw [hq_16]; rfl), rfl⟩ dX10_numbersOf_189
    ·
      refine b_calli (br := []) (b_runV ⟨hx, hb, hml, hown, hts⟩ (mt_Str_eq_no l Γ _ a y L h2_1 z2_1 16 (by assumption) (by first | decide | assumption) (by assumption)) (lw_V q1633 q1634 q1635 q71 q1636) rfl rfl 1 (by decide +kernel) ⟨(Nat.le_of_ble_eq_true rfl), (Nat.le_of_ble_eq_true rfl)⟩ (c_pre hP hD hS hA hK hE [0, 1] rfl rfl (hE.str hS (bFree hD hS hA [0, 1] rfl) 16 (by decide))) (recv_at (q := (RJ6, TJ6, 4)) hK (b_at (k := 0) hP rfl) rfl) rfl hl.1 rfl (Nat.le_of_ble_eq_true rfl) dX10_numbersOf_99 ⟨(Nat.le_of_ble_eq_true rfl), (Nat.le_of_ble_eq_true rfl)⟩) hP hD hS hA [0, 1] [] rfl rfl rfl (fun r_17 u_17 H locs hw_17 hP hD hS _ => ?_)
      obtain ⟨rfl, rfl⟩ := hw_17
      have hP : WP Γ [[(a, .inr (14, [.ref y.1, .int 0, .int h2_1, .int z2_1]))], [(y.1, .inl (Γ.2.1 1, L.length, .inl y.2))]] H := hP
      have hD : WD A [[(a, .inr (14, [.ref y.1, .int 0, .int h2_1, .int z2_1]))], [(y.1, .inl (Γ.2.1 1, L.length, .inl y.2))]] := hD
      refine lv_if_eq (tgt := 149) hx hb dX10_numbersOf_102 (by decide) (fun c_18 => ?_) (fun c_18 => ?_)
      · -- 102 taken
        have n_18 : 0 = 0 := (nI_eq (by omega) (by omega)).mp (show nI 0 = nI 0 from c_18)
        refine lv_iload_n hx hb dX10_numbersOf_149 rfl (lv_at hl 0 rfl) ?_
        refine lv_tableOut (tgt := 192) hx hb dX10_numbersOf_150 (by decide) (by decide) ?_
        refine lv_iconst (v := 0) hx hb dX10_numbersOf_192 (by decide) ?_
        exact b_iret hx hb hr hlocks hP hD hS (Nat.le_of_ble_eq_true rfl) (Nat.le_of_ble_eq_true rfl) ⟨h2_1, z2_1, hh2_1, (nmW_0 (fun j h1 h2 hL => by rcases (show j = 14 ∨ j = 15 ∨ j = 16 ∨ j = 17 ∨ j = 18 ∨ j = 19 by omega) with rfl | rfl | rfl | rfl | rfl | rfl <;> first | (rw [hL] at c_2_93921311; exact absurd c_2_93921311 (by decide)) | (rw [hL] at c_2_93921311; exact absurd c_2_93921311 (by decide)) | (exact hq_16 hL) | (rw [hL] at c_2_93921311; exact absurd c_2_93921311 (by decide)) | (rw [hL] at c_2_93921311; exact absurd c_2_93921311 (by decide)) | (rw [hL] at c_2_93921311; exact absurd c_2_93921311 (by decide)))).symm, rfl⟩ dX10_numbersOf_193
      · -- 102 not taken
        have n_18 : ¬ (0 = 0) := fun hh7 => c_18 ((nI_eq (a := 0) (b := 0) (by omega) (by omega)).mpr hh7)
        exact absurd n_18 (by omega)
  by_cases c_2_94544721 : (strH L) = 94544721
  · -- key 94544721
    refine lv_lookup (tgt := 82) hx hb dX10_numbersOf_8 (by decide) (by rw [c_2_94544721] <;> decide) (by decide) ?_
    refine lv_aload_n hx hb dX10_numbersOf_82 rfl (lv_at hl 1 rfl) ?_
    refine va_ldcS hx hb hown (hE.2.2 15 (by decide)) dX10_numbersOf_83 ?_
    by_cases hq_15 : L = str_by 15
    ·
      refine b_calli (br := []) (b_runV ⟨hx, hb, hml, hown, hts⟩ (mt_Str_eq_yes l Γ _ a y L h2_1 z2_1 15 (by assumption) (by first | decide | assumption) (by assumption)) (lw_V q1633 q1634 q1635 q71 q1636) rfl rfl 1 (by decide +kernel) ⟨(Nat.le_of_ble_eq_true rfl), (Nat.le_of_ble_eq_true rfl)⟩ (c_pre hP hD hS hA hK hE [0, 1] rfl rfl (hE.str hS (bFree hD hS hA [0, 1] rfl) 15 (by decide))) (recv_at (q := (RJ6, TJ6, 4)) hK (b_at (k := 0) hP rfl) rfl) rfl hl.1 rfl (Nat.le_of_ble_eq_true rfl) dX10_numbersOf_85 ⟨(Nat.le_of_ble_eq_true rfl), (Nat.le_of_ble_eq_true rfl)⟩) hP hD hS hA [0, 1] [] rfl rfl rfl (fun r_19 u_19 H locs hw_19 hP hD hS _ => ?_)
      obtain ⟨rfl, rfl⟩ := hw_19
      have hP : WP Γ [[(a, .inr (14, [.ref y.1, .int 0, .int h2_1, .int z2_1]))], [(y.1, .inl (Γ.2.1 1, L.length, .inl y.2))]] H := hP
      have hD : WD A [[(a, .inr (14, [.ref y.1, .int 0, .int h2_1, .int z2_1]))], [(y.1, .inl (Γ.2.1 1, L.length, .inl y.2))]] := hD
      refine lv_if_eq (tgt := 149) hx hb dX10_numbersOf_88 (by decide) (fun c_20 => ?_) (fun c_20 => ?_)
      · -- 88 taken
        have n_20 : 1 = 0 := (nI_eq (by omega) (by omega)).mp (show nI 1 = nI 0 from c_20)
        exact absurd n_20 (by omega)
      · -- 88 not taken
        have n_20 : ¬ (1 = 0) := fun hh7 => c_20 ((nI_eq (a := 1) (b := 0) (by omega) (by omega)).mpr hh7)
        refine lv_iconst (v := 1) hx hb dX10_numbersOf_91 (by decide) ?_
        refine lv_istore_n (lv' := [(2, .int 1), (1, .ref a), (0, .ref a)]) hx hb dX10_numbersOf_92 rfl hl (by decide) rfl (fun ls hl => ?_)
        refine lv_goto (tgt := 149) hx hb dX10_numbersOf_93 (by decide) ?_
        refine lv_iload_n hx hb dX10_numbersOf_149 rfl (lv_at hl 0 rfl) ?_
        refine lv_tableIn (tgt := 188) hx hb dX10_numbersOf_150 (by decide) (by decide) rfl (by decide) ?_
        refine lv_iconst (v := 2) hx hb dX10_numbersOf_188 (by decide) ?_
        exact b_iret hx hb hr hlocks hP hD hS (Nat.le_of_ble_eq_true rfl) (Nat.le_of_ble_eq_true rfl) ⟨h2_1, z2_1, hh2_1, (by rw [hq_15]; rfl), rfl⟩ dX10_numbersOf_189
    ·
      refine b_calli (br := []) (b_runV ⟨hx, hb, hml, hown, hts⟩ (mt_Str_eq_no l Γ _ a y L h2_1 z2_1 15 (by assumption) (by first | decide | assumption) (by assumption)) (lw_V q1633 q1634 q1635 q71 q1636) rfl rfl 1 (by decide +kernel) ⟨(Nat.le_of_ble_eq_true rfl), (Nat.le_of_ble_eq_true rfl)⟩ (c_pre hP hD hS hA hK hE [0, 1] rfl rfl (hE.str hS (bFree hD hS hA [0, 1] rfl) 15 (by decide))) (recv_at (q := (RJ6, TJ6, 4)) hK (b_at (k := 0) hP rfl) rfl) rfl hl.1 rfl (Nat.le_of_ble_eq_true rfl) dX10_numbersOf_85 ⟨(Nat.le_of_ble_eq_true rfl), (Nat.le_of_ble_eq_true rfl)⟩) hP hD hS hA [0, 1] [] rfl rfl rfl (fun r_21 u_21 H locs hw_21 hP hD hS _ => ?_)
      obtain ⟨rfl, rfl⟩ := hw_21
      have hP : WP Γ [[(a, .inr (14, [.ref y.1, .int 0, .int h2_1, .int z2_1]))], [(y.1, .inl (Γ.2.1 1, L.length, .inl y.2))]] H := hP
      have hD : WD A [[(a, .inr (14, [.ref y.1, .int 0, .int h2_1, .int z2_1]))], [(y.1, .inl (Γ.2.1 1, L.length, .inl y.2))]] := hD
      refine lv_if_eq (tgt := 149) hx hb dX10_numbersOf_88 (by decide) (fun c_22 => ?_) (fun c_22 => ?_)
      · -- 88 taken
        have n_22 : 0 = 0 := (nI_eq (by omega) (by omega)).mp (show nI 0 = nI 0 from c_22)
        refine lv_iload_n hx hb dX10_numbersOf_149 rfl (lv_at hl 0 rfl) ?_
        refine lv_tableOut (tgt := 192) hx hb dX10_numbersOf_150 (by decide) (by decide) ?_
        refine lv_iconst (v := 0) hx hb dX10_numbersOf_192 (by decide) ?_
        exact b_iret hx hb hr hlocks hP hD hS (Nat.le_of_ble_eq_true rfl) (Nat.le_of_ble_eq_true rfl) ⟨h2_1, z2_1, hh2_1, (nmW_0 (fun j h1 h2 hL => by rcases (show j = 14 ∨ j = 15 ∨ j = 16 ∨ j = 17 ∨ j = 18 ∨ j = 19 by omega) with rfl | rfl | rfl | rfl | rfl | rfl <;> first | (rw [hL] at c_2_94544721; exact absurd c_2_94544721 (by decide)) | (exact hq_15 hL) | (rw [hL] at c_2_94544721; exact absurd c_2_94544721 (by decide)) | (rw [hL] at c_2_94544721; exact absurd c_2_94544721 (by decide)) | (rw [hL] at c_2_94544721; exact absurd c_2_94544721 (by decide)) | (rw [hL] at c_2_94544721; exact absurd c_2_94544721 (by decide)))).symm, rfl⟩ dX10_numbersOf_193
      · -- 88 not taken
        have n_22 : ¬ (0 = 0) := fun hh7 => c_22 ((nI_eq (a := 0) (b := 0) (by omega) (by omega)).mpr hh7)
        exact absurd n_22 (by omega)
  by_cases c_2_109327119 : (strH L) = 109327119
  · -- key 109327119
    refine lv_lookup (tgt := 110) hx hb dX10_numbersOf_8 (by decide) (by rw [c_2_109327119] <;> decide) (by decide) ?_
    refine lv_aload_n hx hb dX10_numbersOf_110 rfl (lv_at hl 1 rfl) ?_
    refine va_ldcS hx hb hown (hE.2.2 17 (by decide)) dX10_numbersOf_111 ?_
    by_cases hq_17 : L = str_by 17
    ·
      refine b_calli (br := []) (b_runV ⟨hx, hb, hml, hown, hts⟩ (mt_Str_eq_yes l Γ _ a y L h2_1 z2_1 17 (by assumption) (by first | decide | assumption) (by assumption)) (lw_V q1633 q1634 q1635 q71 q1636) rfl rfl 1 (by decide +kernel) ⟨(Nat.le_of_ble_eq_true rfl), (Nat.le_of_ble_eq_true rfl)⟩ (c_pre hP hD hS hA hK hE [0, 1] rfl rfl (hE.str hS (bFree hD hS hA [0, 1] rfl) 17 (by decide))) (recv_at (q := (RJ6, TJ6, 4)) hK (b_at (k := 0) hP rfl) rfl) rfl hl.1 rfl (Nat.le_of_ble_eq_true rfl) dX10_numbersOf_113 ⟨(Nat.le_of_ble_eq_true rfl), (Nat.le_of_ble_eq_true rfl)⟩) hP hD hS hA [0, 1] [] rfl rfl rfl (fun r_23 u_23 H locs hw_23 hP hD hS _ => ?_)
      obtain ⟨rfl, rfl⟩ := hw_23
      have hP : WP Γ [[(a, .inr (14, [.ref y.1, .int 0, .int h2_1, .int z2_1]))], [(y.1, .inl (Γ.2.1 1, L.length, .inl y.2))]] H := hP
      have hD : WD A [[(a, .inr (14, [.ref y.1, .int 0, .int h2_1, .int z2_1]))], [(y.1, .inl (Γ.2.1 1, L.length, .inl y.2))]] := hD
      refine lv_if_eq (tgt := 149) hx hb dX10_numbersOf_116 (by decide) (fun c_24 => ?_) (fun c_24 => ?_)
      · -- 116 taken
        have n_24 : 1 = 0 := (nI_eq (by omega) (by omega)).mp (show nI 1 = nI 0 from c_24)
        exact absurd n_24 (by omega)
      · -- 116 not taken
        have n_24 : ¬ (1 = 0) := fun hh7 => c_24 ((nI_eq (a := 1) (b := 0) (by omega) (by omega)).mpr hh7)
        refine lv_iconst (v := 3) hx hb dX10_numbersOf_119 (by decide) ?_
        refine lv_istore_n (lv' := [(2, .int 3), (1, .ref a), (0, .ref a)]) hx hb dX10_numbersOf_120 rfl hl (by decide) rfl (fun ls hl => ?_)
        refine lv_goto (tgt := 149) hx hb dX10_numbersOf_121 (by decide) ?_
        refine lv_iload_n hx hb dX10_numbersOf_149 rfl (lv_at hl 0 rfl) ?_
        refine lv_tableIn (tgt := 190) hx hb dX10_numbersOf_150 (by decide) (by decide) rfl (by decide) ?_
        refine lv_iconst (v := 1) hx hb dX10_numbersOf_190 (by decide) ?_
        exact b_iret hx hb hr hlocks hP hD hS (Nat.le_of_ble_eq_true rfl) (Nat.le_of_ble_eq_true rfl) ⟨h2_1, z2_1, hh2_1, (by rw [hq_17]; rfl), rfl⟩ dX10_numbersOf_191
    ·
      refine b_calli (br := []) (b_runV ⟨hx, hb, hml, hown, hts⟩ (mt_Str_eq_no l Γ _ a y L h2_1 z2_1 17 (by assumption) (by first | decide | assumption) (by assumption)) (lw_V q1633 q1634 q1635 q71 q1636) rfl rfl 1 (by decide +kernel) ⟨(Nat.le_of_ble_eq_true rfl), (Nat.le_of_ble_eq_true rfl)⟩ (c_pre hP hD hS hA hK hE [0, 1] rfl rfl (hE.str hS (bFree hD hS hA [0, 1] rfl) 17 (by decide))) (recv_at (q := (RJ6, TJ6, 4)) hK (b_at (k := 0) hP rfl) rfl) rfl hl.1 rfl (Nat.le_of_ble_eq_true rfl) dX10_numbersOf_113 ⟨(Nat.le_of_ble_eq_true rfl), (Nat.le_of_ble_eq_true rfl)⟩) hP hD hS hA [0, 1] [] rfl rfl rfl (fun r_25 u_25 H locs hw_25 hP hD hS _ => ?_)
      obtain ⟨rfl, rfl⟩ := hw_25
      have hP : WP Γ [[(a, .inr (14, [.ref y.1, .int 0, .int h2_1, .int z2_1]))], [(y.1, .inl (Γ.2.1 1, L.length, .inl y.2))]] H := hP
      have hD : WD A [[(a, .inr (14, [.ref y.1, .int 0, .int h2_1, .int z2_1]))], [(y.1, .inl (Γ.2.1 1, L.length, .inl y.2))]] := hD
      refine lv_if_eq (tgt := 149) hx hb dX10_numbersOf_116 (by decide) (fun c_26 => ?_) (fun c_26 => ?_)
      · -- 116 taken
        have n_26 : 0 = 0 := (nI_eq (by omega) (by omega)).mp (show nI 0 = nI 0 from c_26)
        refine lv_iload_n hx hb dX10_numbersOf_149 rfl (lv_at hl 0 rfl) ?_
        refine lv_tableOut (tgt := 192) hx hb dX10_numbersOf_150 (by decide) (by decide) ?_
        refine lv_iconst (v := 0) hx hb dX10_numbersOf_192 (by decide) ?_
        exact b_iret hx hb hr hlocks hP hD hS (Nat.le_of_ble_eq_true rfl) (Nat.le_of_ble_eq_true rfl) ⟨h2_1, z2_1, hh2_1, (nmW_0 (fun j h1 h2 hL => by rcases (show j = 14 ∨ j = 15 ∨ j = 16 ∨ j = 17 ∨ j = 18 ∨ j = 19 by omega) with rfl | rfl | rfl | rfl | rfl | rfl <;> first | (rw [hL] at c_2_109327119; exact absurd c_2_109327119 (by decide)) | (rw [hL] at c_2_109327119; exact absurd c_2_109327119 (by decide)) | (rw [hL] at c_2_109327119; exact absurd c_2_109327119 (by decide)) | (exact hq_17 hL) | (rw [hL] at c_2_109327119; exact absurd c_2_109327119 (by decide)) | (rw [hL] at c_2_109327119; exact absurd c_2_109327119 (by decide)))).symm, rfl⟩ dX10_numbersOf_193
      · -- 116 not taken
        have n_26 : ¬ (0 = 0) := fun hh7 => c_26 ((nI_eq (a := 0) (b := 0) (by omega) (by omega)).mpr hh7)
        exact absurd n_26 (by omega)
  refine lv_lookup (tgt := 149) (off := 141) hx hb dX10_numbersOf_8 (by decide) (by rw [lv_osw c_2_99755 (by decide), lv_osw c_2_3208383 (by decide), lv_osw c_2_3526482 (by decide), lv_osw c_2_93921311 (by decide), lv_osw c_2_94544721 (by decide), lv_osw c_2_109327119 (by decide)]; rfl) (by decide) ?_
  refine lv_iload_n hx hb dX10_numbersOf_149 rfl (lv_at hl 0 rfl) ?_
  refine lv_tableOut (tgt := 192) hx hb dX10_numbersOf_150 (by decide) (by decide) ?_
  refine lv_iconst (v := 0) hx hb dX10_numbersOf_192 (by decide) ?_
  exact b_iret hx hb hr hlocks hP hD hS (Nat.le_of_ble_eq_true rfl) (Nat.le_of_ble_eq_true rfl) ⟨h2_1, z2_1, hh2_1, (nmW_0 (fun j h1 h2 hL => by rcases (show j = 14 ∨ j = 15 ∨ j = 16 ∨ j = 17 ∨ j = 18 ∨ j = 19 by omega) with rfl | rfl | rfl | rfl | rfl | rfl <;> first | (exact c_2_3208383 (by rw [hL]; decide)) | (exact c_2_94544721 (by rw [hL]; decide)) | (exact c_2_93921311 (by rw [hL]; decide)) | (exact c_2_109327119 (by rw [hL]; decide)) | (exact c_2_99755 (by rw [hL]; decide)) | (exact c_2_3526482 (by rw [hL]; decide)))).symm, rfl⟩ dX10_numbersOf_193
set_option maxHeartbeats 4000000 in
set_option maxRecDepth 100000 in
theorem mt_Rd_number_x_0 (l : Launch) (Γ : GE) (sz : Nat) (a : Nat) (o : Nat) (y : SST) (L : List Int32) (z1 : Int32) (z2 : Int32) (i : Nat) (hnt : l.stackTraces = false) (hst : stF y L) (hiL : i ≤ L.length) (hx9 : inC (rdH L i) 48 57 = 0) : KMX l yX10_number cX10_number 3 (some FieldType.int) Γ 6 105 1 7 [.ref a] [[(a, .inr (8, [.ref o, .int (nI i)]))]] [[(o, .inr (14, [.ref y.1, .int 0, .int z1, .int z2]))], [(y.1, .inl (Γ.2.1 1, L.length, .inl y.2))]] sz "DairyBook$Fault" (fun q_ u_ => u_ = [[(q_, .inr (9, [.int (nI i)]))]]) := by
  refine K_introX (by decide) (Nat.le_of_ble_eq_true rfl) ?_
  intro pr_ ev_ s mi_ below meth cd_ A ls hx hb hr hml hown hts hlocks hname hK hE hRo hP hD hA hS hsz hl ht9
  have hl : lv_has ls 3 [(0, .ref a)] := hl
  have hown : s.vm.findClass RX10 = some mi_.cls := hown
  have hll := hst.1
  refine lv_aload_n hx hb dX10_number_0 rfl (lv_at hl 0 rfl) ?_
  refine b_calli (br := []) (b_runV ⟨hx, hb, hml, hown, hts⟩ (mt_Rd_here_0 l Γ _ a o y L z1 z2 i (by assumption) (by omega)) (lw_V q1563 q1565 qs27 q99 q1566) rfl rfl 0 (by decide +kernel) ⟨(Nat.le_of_ble_eq_true rfl), (Nat.le_of_ble_eq_true rfl)⟩ (c_pre hP hD hS hA hK hE [0] rfl rfl (ro_app (ro_pass (ro_sel (ro2 := [[(o, .inr (14, [.ref y.1, .int 0, .int z1, .int z2]))]]) hRo [0] rfl) hD hS hA [0] rfl) (ro_pass (ro_sel (ro2 := [[(y.1, .inl (Γ.2.1 1, L.length, .inl y.2))]]) hRo [1] rfl) hD hS hA [0] rfl))) (recv_at (q := (RX10, TX10, 2)) hK (b_at (k := 0) hP rfl) rfl) rfl hl.1 rfl (Nat.le_of_ble_eq_true rfl) dX10_number_1 ⟨(Nat.le_of_ble_eq_true rfl), (Nat.le_of_ble_eq_true rfl)⟩) hP hD hS hA [0] [] rfl rfl rfl (fun r_1 u_1 H locs hw_1 hP hD hS _ => ?_)
  obtain ⟨rfl, rfl⟩ := hw_1
  have hP : WP Γ [[(a, .inr (8, [.ref o, .int (nI i)]))]] H := hP
  have hD : WD A [[(a, .inr (8, [.ref o, .int (nI i)]))]] := hD
  refine lv_bipush (v := 48) hx hb dX10_number_4 (by decide) ?_
  refine lv_bipush (v := 57) hx hb dX10_number_6 (by decide) ?_
  refine b_calli (br := [[(a, .inr (8, [.ref o, .int (nI i)]))]]) (b_runSN ⟨hx, hb, hml, hown, hts⟩ (mt_DB_in l Γ _ (rdH L i) 48 57) (hE.1.1 _ q1569 rfl) q807 q62 q808 rfl rfl 3 ⟨by decide, by decide, by decide +kernel⟩ ⟨(Nat.le_of_ble_eq_true rfl), (Nat.le_of_ble_eq_true rfl)⟩ (c_pre hP hD hS hA hK hE [] rfl rfl ro_nil) rfl hl.1 rfl (Nat.le_of_ble_eq_true rfl) dX10_number_8 ⟨(Nat.le_of_ble_eq_true rfl), (Nat.le_of_ble_eq_true rfl)⟩) hP hD hS hA [] [0] rfl rfl rfl (fun r_2 u_2 H locs hw_2 hP hD hS _ => ?_)
  obtain ⟨rfl, rfl⟩ := hw_2
  have hP : WP Γ [[(a, .inr (8, [.ref o, .int (nI i)]))]] H := hP
  have hD : WD A [[(a, .inr (8, [.ref o, .int (nI i)]))]] := hD
  refine lv_if_ne (tgt := 26) hx hb dX10_number_11 (by decide) (fun c_3 => ?_) (fun c_3 => ?_)
  · -- 11 taken
    exact absurd hx9 c_3
  · -- 11 not taken
    refine b_newF hx hb hts hown q1646 hK hP hD hS hA (Nat.le_of_ble_eq_true rfl) (Nat.le_of_ble_eq_true rfl) dX10_number_14 (fun a_4 H hP hD hS hraw_a_4 => ?_)
    have hP : WP Γ [[(a, .inr (8, [.ref o, .int (nI i)]))], [(a_4, .inr (9, [.int 0]))]] H := hP
    have hD : WD A [[(a, .inr (8, [.ref o, .int (nI i)]))], [(a_4, .inr (9, [.int 0]))]] := hD
    refine lv_dup hx hb dX10_number_17 rfl ?_
    refine lv_aload_n hx hb dX10_number_18 rfl (lv_at hl 0 rfl) ?_
    refine b_get (C := RX10) (T := TX10) (N := 2) (v := .int (nI i)) hx hb hts in_X10 hown hK (b_at (k := 0) hP rfl) rfl 1 (by decide) q1539 (fun _ h9 => h9) rfl dX10_number_19 ?_
    refine b_callv (br := [[(a, .inr (8, [.ref o, .int (nI i)]))]]) (b_runIF ⟨hx, hb, hml, hown, hts⟩ (mt_Fl_init l Γ _ a_4 (nI i) hnt) q1655 rfl rfl ⟨(Nat.le_of_ble_eq_true rfl), (Nat.le_of_ble_eq_true rfl)⟩ (cf_pre (c_pre hP hD hS hA hK hE [1] rfl rfl ro_nil) hraw_a_4) hl.1 rfl (Nat.le_of_ble_eq_true rfl) dX10_number_22 ⟨(Nat.le_of_ble_eq_true rfl), (Nat.le_of_ble_eq_true rfl)⟩) hP hD hS hA [1] [0] rfl rfl rfl (fun u_5 H locs hw_5 hP hD hS _ => ?_)
    obtain rfl := hw_5
    have hP : WP Γ [[(a_4, .inr (9, [.int (nI i)]))], [(a, .inr (8, [.ref o, .int (nI i)]))]] H := hP
    have hD : WD A [[(a_4, .inr (9, [.int (nI i)]))], [(a, .inr (8, [.ref o, .int (nI i)]))]] := hD
    refine vx_athrow hx hb dX10_number_25 ?_
    obtain ⟨ce_6, hce_6, hcv_6, hcl_6⟩ := fl_ce hK (b_at (k := 0) hP rfl)
    have hP : WP Γ [[(a_4, .inr (9, [.int (nI i)]))]] H := bP_sel hP [0] rfl
    have hD : WD A [[(a_4, .inr (9, [.int (nI i)]))]] := bD_sel hD [0] rfl rfl
    exact b_outx hlocks (fun x hx9 => (ht9 x hx9).elim) hP hD hS hce_6 hcv_6 hcl_6 (by first | with_reducible rfl | (simp [c_3]; done) | rfl) (Nat.le_of_ble_eq_true rfl) (Nat.le_of_ble_eq_true rfl)
set_option maxHeartbeats 4000000 in
set_option maxRecDepth 100000 in
theorem mt_Rd_number_ok_0 (l : Launch) (Γ : GE) (sz : Nat) (a : Nat) (o : Nat) (y : SST) (L : List Int32) (z1 : Int32) (z2 : Int32) (i : Nat) (hst : stF y L) (hiL : i ≤ L.length) (hin : ¬ inC (rdH L i) 48 57 = 0) : KM l yX10_number cX10_number 3 (some FieldType.int) Γ 5 105 0 0 [.ref a] [[(a, .inr (8, [.ref o, .int (nI i)]))]] [[(o, .inr (14, [.ref y.1, .int 0, .int z1, .int z2]))], [(y.1, .inl (Γ.2.1 1, L.length, .inl y.2))]] sz (Qi Γ (fun r_ u_ => r_ = (nP L i).1 ∧ u_ = [[(a, .inr (8, [.ref o, .int (nI (nP L i).2)]))]])) := by
  refine K_intro (by decide) (Nat.le_of_ble_eq_true rfl) ?_
  intro pr_ ev_ s mi_ below meth cd_ A ls hx hb hr hml hown hts hlocks hname hK hE hRo hP hD hA hS hsz hl
  have hl : lv_has ls 3 [(0, .ref a)] := hl
  have hown : s.vm.findClass RX10 = some mi_.cls := hown
  have hll := hst.1
  refine lv_aload_n hx hb dX10_number_0 rfl (lv_at hl 0 rfl) ?_
  refine b_calli (br := []) (b_runV ⟨hx, hb, hml, hown, hts⟩ (mt_Rd_here_0 l Γ _ a o y L z1 z2 i (by assumption) (by omega)) (lw_V q1563 q1565 qs27 q99 q1566) rfl rfl 0 (by decide +kernel) ⟨(Nat.le_of_ble_eq_true rfl), (Nat.le_of_ble_eq_true rfl)⟩ (c_pre hP hD hS hA hK hE [0] rfl rfl (ro_app (ro_pass (ro_sel (ro2 := [[(o, .inr (14, [.ref y.1, .int 0, .int z1, .int z2]))]]) hRo [0] rfl) hD hS hA [0] rfl) (ro_pass (ro_sel (ro2 := [[(y.1, .inl (Γ.2.1 1, L.length, .inl y.2))]]) hRo [1] rfl) hD hS hA [0] rfl))) (recv_at (q := (RX10, TX10, 2)) hK (b_at (k := 0) hP rfl) rfl) rfl hl.1 rfl (Nat.le_of_ble_eq_true rfl) dX10_number_1 ⟨(Nat.le_of_ble_eq_true rfl), (Nat.le_of_ble_eq_true rfl)⟩) hP hD hS hA [0] [] rfl rfl rfl (fun r_1 u_1 H locs hw_1 hP hD hS _ => ?_)
  obtain ⟨rfl, rfl⟩ := hw_1
  have hP : WP Γ [[(a, .inr (8, [.ref o, .int (nI i)]))]] H := hP
  have hD : WD A [[(a, .inr (8, [.ref o, .int (nI i)]))]] := hD
  refine lv_bipush (v := 48) hx hb dX10_number_4 (by decide) ?_
  refine lv_bipush (v := 57) hx hb dX10_number_6 (by decide) ?_
  refine b_calli (br := [[(a, .inr (8, [.ref o, .int (nI i)]))]]) (b_runSN ⟨hx, hb, hml, hown, hts⟩ (mt_DB_in l Γ _ (rdH L i) 48 57) (hE.1.1 _ q1569 rfl) q807 q62 q808 rfl rfl 3 ⟨by decide, by decide, by decide +kernel⟩ ⟨(Nat.le_of_ble_eq_true rfl), (Nat.le_of_ble_eq_true rfl)⟩ (c_pre hP hD hS hA hK hE [] rfl rfl ro_nil) rfl hl.1 rfl (Nat.le_of_ble_eq_true rfl) dX10_number_8 ⟨(Nat.le_of_ble_eq_true rfl), (Nat.le_of_ble_eq_true rfl)⟩) hP hD hS hA [] [0] rfl rfl rfl (fun r_2 u_2 H locs hw_2 hP hD hS _ => ?_)
  obtain ⟨rfl, rfl⟩ := hw_2
  have hP : WP Γ [[(a, .inr (8, [.ref o, .int (nI i)]))]] H := hP
  have hD : WD A [[(a, .inr (8, [.ref o, .int (nI i)]))]] := hD
  refine lv_if_ne (tgt := 26) hx hb dX10_number_11 (by decide) (fun c_3 => ?_) (fun c_3 => ?_)
  · -- 11 taken
    refine lv_iconst (v := 0) hx hb dX10_number_26 (by decide) ?_
    refine lv_istore_n (lv' := [(1, .int 0), (0, .ref a)]) hx hb dX10_number_27 rfl hl (by decide) rfl (fun ls hl => ?_)
    refine lv_iconst (v := 0) hx hb dX10_number_28 (by decide) ?_
    refine lv_istore_n (lv' := [(2, .int 0), (1, .int 0), (0, .ref a)]) hx hb dX10_number_29 rfl hl (by decide) rfl (fun ls hl => ?_)
    have loop_4 : ∀ (fuel : Nat) (k : Nat) (v : Int32) (j : Nat), 3 - k < fuel → (nbI L i k v j) → (k ≤ 3) → ∀ (H : Heap) (locs : List Loc) (ls : Array Slot), WP Γ [[(a, .inr (8, [.ref o, .int (nI j)]))]] H → WD A [[(a, .inr (8, [.ref o, .int (nI j)]))]] → va_S A s.heap H locs → lv_has ls 3 [(2, .int (nI k)), (1, .int v), (0, .ref a)] → W pr_ l ev_ { frames := 5, cells := 0, slots := 0, locals := 105 } s mi_ ([.ref a] : List Value).toArray below meth cd_ H locs 0 0 (MQ below (Qi Γ (fun r_ u_ => r_ = (nP L i).1 ∧ u_ = [[(a, .inr (8, [.ref o, .int (nI (nP L i).2)]))]]) A) ([.ref a] : List Value).toArray s 0 0 A) (F0 mi_ 30 ls ([])) := by
      intro fuel
      induction fuel with
      | zero => intro k v j hfuel; exact absurd hfuel (Nat.not_lt_zero _)
      | succ fuel ih =>
        intro k v j hfuel hI hk3 H locs ls hP hD hS hl
        refine lv_aload_n hx hb dX10_number_30 rfl (lv_at hl 2 rfl) ?_
        have hjL := hI.1
        refine b_calli (br := []) (b_runV ⟨hx, hb, hml, hown, hts⟩ (mt_Rd_here_0 l Γ _ a o y L z1 z2 j (by assumption) (by omega)) (lw_V q1563 q1565 qs27 q99 q1566) rfl rfl 0 (by decide +kernel) ⟨(Nat.le_of_ble_eq_true rfl), (Nat.le_of_ble_eq_true rfl)⟩ (c_pre hP hD hS hA hK hE [0] rfl rfl (ro_app (ro_pass (ro_sel (ro2 := [[(o, .inr (14, [.ref y.1, .int 0, .int z1, .int z2]))]]) hRo [0] rfl) hD hS hA [0] rfl) (ro_pass (ro_sel (ro2 := [[(y.1, .inl (Γ.2.1 1, L.length, .inl y.2))]]) hRo [1] rfl) hD hS hA [0] rfl))) (recv_at (q := (RX10, TX10, 2)) hK (b_at (k := 0) hP rfl) rfl) rfl hl.1 rfl (Nat.le_of_ble_eq_true rfl) dX10_number_31 ⟨(Nat.le_of_ble_eq_true rfl), (Nat.le_of_ble_eq_true rfl)⟩) hP hD hS hA [0] [] rfl rfl rfl (fun r_5 u_5 H locs hw_5 hP hD hS _ => ?_)
        obtain ⟨rfl, rfl⟩ := hw_5
        have hP : WP Γ [[(a, .inr (8, [.ref o, .int (nI j)]))]] H := hP
        have hD : WD A [[(a, .inr (8, [.ref o, .int (nI j)]))]] := hD
        refine lv_bipush (v := 48) hx hb dX10_number_34 (by decide) ?_
        refine lv_bipush (v := 57) hx hb dX10_number_36 (by decide) ?_
        refine b_calli (br := [[(a, .inr (8, [.ref o, .int (nI j)]))]]) (b_runSN ⟨hx, hb, hml, hown, hts⟩ (mt_DB_in l Γ _ (rdH L j) 48 57) (hE.1.1 _ q1569 rfl) q807 q62 q808 rfl rfl 3 ⟨by decide, by decide, by decide +kernel⟩ ⟨(Nat.le_of_ble_eq_true rfl), (Nat.le_of_ble_eq_true rfl)⟩ (c_pre hP hD hS hA hK hE [] rfl rfl ro_nil) rfl hl.1 rfl (Nat.le_of_ble_eq_true rfl) dX10_number_38 ⟨(Nat.le_of_ble_eq_true rfl), (Nat.le_of_ble_eq_true rfl)⟩) hP hD hS hA [] [0] rfl rfl rfl (fun r_6 u_6 H locs hw_6 hP hD hS _ => ?_)
        obtain ⟨rfl, rfl⟩ := hw_6
        have hP : WP Γ [[(a, .inr (8, [.ref o, .int (nI j)]))]] H := hP
        have hD : WD A [[(a, .inr (8, [.ref o, .int (nI j)]))]] := hD
        refine lv_if_eq (tgt := 86) hx hb dX10_number_41 (by decide) (fun c_7 => ?_) (fun c_7 => ?_)
        · -- 41 taken
          have hend : (v, j) = nP L i := by first | exact nb_end0 hI (by assumption) hin | exact nb_end1 hI (by omega) | exact nb_end2 hI (by omega) (by assumption)
          have hP : WP Γ [[(a, .inr (8, [.ref o, .int (nI (nP L i).2)]))]] H := by rw [← hend]; exact hP
          have hD : WD A [[(a, .inr (8, [.ref o, .int (nI (nP L i).2)]))]] := by rw [← hend]; exact hD
          refine lv_iload_n hx hb dX10_number_86 rfl (lv_at hl 1 rfl) ?_
          exact b_iret hx hb hr hlocks hP hD hS (Nat.le_of_ble_eq_true rfl) (Nat.le_of_ble_eq_true rfl) ⟨(by rw [← hend]), (by first | with_reducible rfl | (simp [c_3, c_7]; done) | rfl)⟩ dX10_number_87
        · -- 41 not taken
          refine lv_iload_n hx hb dX10_number_44 rfl (lv_at hl 0 rfl) ?_
          refine lv_iconst (v := 3) hx hb dX10_number_45 (by decide) ?_
          refine lv_icmp_ge (tgt := 86) hx hb dX10_number_46 (by decide) (fun c_8 => ?_) (fun c_8 => ?_)
          · -- 46 taken
            have n_8 : 3 ≤ k := (nI_leI (by omega) (by omega)).mp (show nI 3 ≤ nI k from c_8)
            have m_8 : ¬ (k < 3) := by omega
            have d_8 := Int32.not_lt.mpr c_8
            have hend : (v, j) = nP L i := by first | exact nb_end0 hI (by assumption) hin | exact nb_end1 hI (by omega) | exact nb_end2 hI (by omega) (by assumption)
            have hP : WP Γ [[(a, .inr (8, [.ref o, .int (nI (nP L i).2)]))]] H := by rw [← hend]; exact hP
            have hD : WD A [[(a, .inr (8, [.ref o, .int (nI (nP L i).2)]))]] := by rw [← hend]; exact hD
            refine lv_iload_n hx hb dX10_number_86 rfl (lv_at hl 1 rfl) ?_
            exact b_iret hx hb hr hlocks hP hD hS (Nat.le_of_ble_eq_true rfl) (Nat.le_of_ble_eq_true rfl) ⟨(by rw [← hend]), (by first | with_reducible rfl | (simp [c_3, c_7, n_8, m_8, d_8]; done) | rfl)⟩ dX10_number_87
          · -- 46 not taken
            have n_8 : ¬ (3 ≤ k) := fun hh7 => c_8 ((nI_leI (a := 3) (b := k) (by omega) (by omega)).mpr hh7)
            have m_8 : k < 3 := by omega
            have d_8 := Int32.not_le.mp c_8
            refine lv_iload_n hx hb dX10_number_49 rfl (lv_at hl 0 rfl) ?_
            refine lv_if_eq (tgt := 57) hx hb dX10_number_50 (by decide) (fun c_9 => ?_) (fun c_9 => ?_)
            · -- 50 taken
              have n_9 : k = 0 := (nI_eq (by omega) (by omega)).mp (show nI k = nI 0 from c_9)
              refine lv_bipush (v := 10) hx hb dX10_number_57 (by decide) ?_
              refine lv_iload_n hx hb dX10_number_59 rfl (lv_at hl 1 rfl) ?_
              refine lv_imul hx hb dX10_number_60 ?_
              refine lv_aload_n hx hb dX10_number_61 rfl (lv_at hl 2 rfl) ?_
              refine b_calli (br := []) (b_runV ⟨hx, hb, hml, hown, hts⟩ (mt_Rd_here_0 l Γ _ a o y L z1 z2 j (by assumption) (by omega)) (lw_V q1563 q1565 qs27 q99 q1566) rfl rfl 0 (by decide +kernel) ⟨(Nat.le_of_ble_eq_true rfl), (Nat.le_of_ble_eq_true rfl)⟩ (c_pre hP hD hS hA hK hE [0] rfl rfl (ro_app (ro_pass (ro_sel (ro2 := [[(o, .inr (14, [.ref y.1, .int 0, .int z1, .int z2]))]]) hRo [0] rfl) hD hS hA [0] rfl) (ro_pass (ro_sel (ro2 := [[(y.1, .inl (Γ.2.1 1, L.length, .inl y.2))]]) hRo [1] rfl) hD hS hA [0] rfl))) (recv_at (q := (RX10, TX10, 2)) hK (b_at (k := 0) hP rfl) rfl) rfl hl.1 rfl (Nat.le_of_ble_eq_true rfl) dX10_number_62 ⟨(Nat.le_of_ble_eq_true rfl), (Nat.le_of_ble_eq_true rfl)⟩) hP hD hS hA [0] [] rfl rfl rfl (fun r_10 u_10 H locs hw_10 hP hD hS _ => ?_)
              obtain ⟨rfl, rfl⟩ := hw_10
              have hP : WP Γ [[(a, .inr (8, [.ref o, .int (nI j)]))]] H := hP
              have hD : WD A [[(a, .inr (8, [.ref o, .int (nI j)]))]] := hD
              refine lv_iadd hx hb dX10_number_65 ?_
              refine lv_bipush (v := 48) hx hb dX10_number_66 (by decide) ?_
              refine lv_isub hx hb dX10_number_68 ?_
              refine lv_istore_n (lv' := [(1, .int (((10 * v) + (rdH L j)) - 48)), (2, .int (nI k)), (0, .ref a)]) hx hb dX10_number_69 rfl hl (by decide) rfl (fun ls hl => ?_)
              refine lv_aload_n hx hb dX10_number_70 rfl (lv_at hl 2 rfl) ?_
              refine lv_dup hx hb dX10_number_71 rfl ?_
              refine b_get (C := RX10) (T := TX10) (N := 2) (v := .int (nI j)) hx hb hts in_X10 hown hK (b_at (k := 0) hP rfl) rfl 1 (by decide) q1539 (fun _ h9 => h9) rfl dX10_number_72 ?_
              refine lv_iconst (v := 1) hx hb dX10_number_75 (by decide) ?_
              refine lv_iadd hx hb dX10_number_76 ?_
              refine b_top (nI_addE (a := j) (b := 1) (c := j + 1) rfl rfl (by first | omega | rfl)) ?_
              refine b_put (C := RX10) (T := TX10) (N := 2) (ty := .int) (v := .int (nI (j + 1))) hx hb hts in_X10 tyX10_ok nmX10 hown hK hP hD hS 0 rfl rfl 1 (by decide) q1539 (fun _ h9 => h9) rfl (by decide +kernel) rfl rfl (Nat.le_of_ble_eq_true rfl) dX10_number_77 (fun H locs hP hD hS => ?_)
              have hP : WP Γ [[(a, .inr (8, [.ref o, .int (nI (j + 1))]))]] H := hP
              have hD : WD A [[(a, .inr (8, [.ref o, .int (nI (j + 1))]))]] := hD
              refine lv_iinc (v := (nI (k + 1))) (lv' := [(2, .int (nI (k + 1))), (1, .int (((10 * v) + (rdH L j)) - 48)), (0, .ref a)]) hx hb dX10_number_80 hl (k := 1) rfl (nI_addE (a := k) (b := 1) (c := k + 1) rfl rfl (by first | omega | rfl)) (by decide) rfl (fun ls hl => ?_)
              refine lv_goto (tgt := 30) hx hb dX10_number_83 (by decide) ?_
              exact ih (k + 1) (((10 * v) + (rdH L j)) - 48) (j + 1) (by omega) (nb_step (by assumption) hI (by omega) (by first | exact Or.inl (by omega) | exact Or.inr (by assumption))) (by omega) _ _ _ hP hD hS (lv_sub hl [0, 1, 2] rfl)
            · -- 50 not taken
              have n_9 : ¬ (k = 0) := fun hh7 => c_9 ((nI_eq (a := k) (b := 0) (by omega) (by omega)).mpr hh7)
              refine lv_iload_n hx hb dX10_number_53 rfl (lv_at hl 1 rfl) ?_
              refine lv_if_le (tgt := 86) hx hb dX10_number_54 (by decide) (fun c_11 => ?_) (fun c_11 => ?_)
              · -- 54 taken
                have d_11 := Int32.not_lt.mpr c_11
                have hend : (v, j) = nP L i := by first | exact nb_end0 hI (by assumption) hin | exact nb_end1 hI (by omega) | exact nb_end2 hI (by omega) (by assumption)
                have hP : WP Γ [[(a, .inr (8, [.ref o, .int (nI (nP L i).2)]))]] H := by rw [← hend]; exact hP
                have hD : WD A [[(a, .inr (8, [.ref o, .int (nI (nP L i).2)]))]] := by rw [← hend]; exact hD
                refine lv_iload_n hx hb dX10_number_86 rfl (lv_at hl 1 rfl) ?_
                exact b_iret hx hb hr hlocks hP hD hS (Nat.le_of_ble_eq_true rfl) (Nat.le_of_ble_eq_true rfl) ⟨(by rw [← hend]), (by first | with_reducible rfl | (simp [c_3, c_7, n_8, m_8, d_8, n_9, c_11, d_11]; done) | rfl)⟩ dX10_number_87
              · -- 54 not taken
                have d_11 := Int32.not_le.mp c_11
                refine lv_bipush (v := 10) hx hb dX10_number_57 (by decide) ?_
                refine lv_iload_n hx hb dX10_number_59 rfl (lv_at hl 1 rfl) ?_
                refine lv_imul hx hb dX10_number_60 ?_
                refine lv_aload_n hx hb dX10_number_61 rfl (lv_at hl 2 rfl) ?_
                refine b_calli (br := []) (b_runV ⟨hx, hb, hml, hown, hts⟩ (mt_Rd_here_0 l Γ _ a o y L z1 z2 j (by assumption) (by omega)) (lw_V q1563 q1565 qs27 q99 q1566) rfl rfl 0 (by decide +kernel) ⟨(Nat.le_of_ble_eq_true rfl), (Nat.le_of_ble_eq_true rfl)⟩ (c_pre hP hD hS hA hK hE [0] rfl rfl (ro_app (ro_pass (ro_sel (ro2 := [[(o, .inr (14, [.ref y.1, .int 0, .int z1, .int z2]))]]) hRo [0] rfl) hD hS hA [0] rfl) (ro_pass (ro_sel (ro2 := [[(y.1, .inl (Γ.2.1 1, L.length, .inl y.2))]]) hRo [1] rfl) hD hS hA [0] rfl))) (recv_at (q := (RX10, TX10, 2)) hK (b_at (k := 0) hP rfl) rfl) rfl hl.1 rfl (Nat.le_of_ble_eq_true rfl) dX10_number_62 ⟨(Nat.le_of_ble_eq_true rfl), (Nat.le_of_ble_eq_true rfl)⟩) hP hD hS hA [0] [] rfl rfl rfl (fun r_12 u_12 H locs hw_12 hP hD hS _ => ?_)
                obtain ⟨rfl, rfl⟩ := hw_12
                have hP : WP Γ [[(a, .inr (8, [.ref o, .int (nI j)]))]] H := hP
                have hD : WD A [[(a, .inr (8, [.ref o, .int (nI j)]))]] := hD
                refine lv_iadd hx hb dX10_number_65 ?_
                refine lv_bipush (v := 48) hx hb dX10_number_66 (by decide) ?_
                refine lv_isub hx hb dX10_number_68 ?_
                refine lv_istore_n (lv' := [(1, .int (((10 * v) + (rdH L j)) - 48)), (2, .int (nI k)), (0, .ref a)]) hx hb dX10_number_69 rfl hl (by decide) rfl (fun ls hl => ?_)
                refine lv_aload_n hx hb dX10_number_70 rfl (lv_at hl 2 rfl) ?_
                refine lv_dup hx hb dX10_number_71 rfl ?_
                refine b_get (C := RX10) (T := TX10) (N := 2) (v := .int (nI j)) hx hb hts in_X10 hown hK (b_at (k := 0) hP rfl) rfl 1 (by decide) q1539 (fun _ h9 => h9) rfl dX10_number_72 ?_
                refine lv_iconst (v := 1) hx hb dX10_number_75 (by decide) ?_
                refine lv_iadd hx hb dX10_number_76 ?_
                refine b_top (nI_addE (a := j) (b := 1) (c := j + 1) rfl rfl (by first | omega | rfl)) ?_
                refine b_put (C := RX10) (T := TX10) (N := 2) (ty := .int) (v := .int (nI (j + 1))) hx hb hts in_X10 tyX10_ok nmX10 hown hK hP hD hS 0 rfl rfl 1 (by decide) q1539 (fun _ h9 => h9) rfl (by decide +kernel) rfl rfl (Nat.le_of_ble_eq_true rfl) dX10_number_77 (fun H locs hP hD hS => ?_)
                have hP : WP Γ [[(a, .inr (8, [.ref o, .int (nI (j + 1))]))]] H := hP
                have hD : WD A [[(a, .inr (8, [.ref o, .int (nI (j + 1))]))]] := hD
                refine lv_iinc (v := (nI (k + 1))) (lv' := [(2, .int (nI (k + 1))), (1, .int (((10 * v) + (rdH L j)) - 48)), (0, .ref a)]) hx hb dX10_number_80 hl (k := 1) rfl (nI_addE (a := k) (b := 1) (c := k + 1) rfl rfl (by first | omega | rfl)) (by decide) rfl (fun ls hl => ?_)
                refine lv_goto (tgt := 30) hx hb dX10_number_83 (by decide) ?_
                exact ih (k + 1) (((10 * v) + (rdH L j)) - 48) (j + 1) (by omega) (nb_step (by assumption) hI (by omega) (by first | exact Or.inl (by omega) | exact Or.inr (by assumption))) (by omega) _ _ _ hP hD hS (lv_sub hl [0, 1, 2] rfl)
    exact loop_4 ((3 - 0) + 1) 0 0 i (Nat.lt_succ_self _) ⟨hiL, Or.inl ⟨rfl, rfl, rfl⟩⟩ (by omega) _ _ _ hP hD hS (lv_sub hl [0, 1, 2] rfl)
  · -- 11 not taken
    exact absurd c_3 hin
set_option maxHeartbeats 4000000 in
set_option maxRecDepth 100000 in
theorem mt_Rd_number_x_1 (l : Launch) (Γ : GE) (sz : Nat) (a : Nat) (o : Nat) (y : SST) (L : List Int32) (z1 : Int32) (z2 : Int32) (i : Nat) (hnt : l.stackTraces = false) (hst : stU y L) (hiL : i ≤ L.length) (hx9 : inC (rdH L i) 48 57 = 0) : KMX l yX10_number cX10_number 3 (some FieldType.int) Γ 6 126 1 7 [.ref a] [[(a, .inr (8, [.ref o, .int (nI i)]))]] [[(o, .inr (14, [.ref y.1, .int 1, .int z1, .int z2]))], [(y.1, .inl (Γ.2.1 1, 2 * L.length, .inl y.2))]] sz "DairyBook$Fault" (fun q_ u_ => u_ = [[(q_, .inr (9, [.int (nI i)]))]]) := by
  refine K_introX (by decide) (Nat.le_of_ble_eq_true rfl) ?_
  intro pr_ ev_ s mi_ below meth cd_ A ls hx hb hr hml hown hts hlocks hname hK hE hRo hP hD hA hS hsz hl ht9
  have hl : lv_has ls 3 [(0, .ref a)] := hl
  have hown : s.vm.findClass RX10 = some mi_.cls := hown
  have hll := hst.1
  refine lv_aload_n hx hb dX10_number_0 rfl (lv_at hl 0 rfl) ?_
  refine b_calli (br := []) (b_runV ⟨hx, hb, hml, hown, hts⟩ (mt_Rd_here_1 l Γ _ a o y L z1 z2 i (by assumption) (by omega)) (lw_V q1563 q1565 qs27 q99 q1566) rfl rfl 0 (by decide +kernel) ⟨(Nat.le_of_ble_eq_true rfl), (Nat.le_of_ble_eq_true rfl)⟩ (c_pre hP hD hS hA hK hE [0] rfl rfl (ro_app (ro_pass (ro_sel (ro2 := [[(o, .inr (14, [.ref y.1, .int 1, .int z1, .int z2]))]]) hRo [0] rfl) hD hS hA [0] rfl) (ro_pass (ro_sel (ro2 := [[(y.1, .inl (Γ.2.1 1, 2 * L.length, .inl y.2))]]) hRo [1] rfl) hD hS hA [0] rfl))) (recv_at (q := (RX10, TX10, 2)) hK (b_at (k := 0) hP rfl) rfl) rfl hl.1 rfl (Nat.le_of_ble_eq_true rfl) dX10_number_1 ⟨(Nat.le_of_ble_eq_true rfl), (Nat.le_of_ble_eq_true rfl)⟩) hP hD hS hA [0] [] rfl rfl rfl (fun r_1 u_1 H locs hw_1 hP hD hS _ => ?_)
  obtain ⟨rfl, rfl⟩ := hw_1
  have hP : WP Γ [[(a, .inr (8, [.ref o, .int (nI i)]))]] H := hP
  have hD : WD A [[(a, .inr (8, [.ref o, .int (nI i)]))]] := hD
  refine lv_bipush (v := 48) hx hb dX10_number_4 (by decide) ?_
  refine lv_bipush (v := 57) hx hb dX10_number_6 (by decide) ?_
  refine b_calli (br := [[(a, .inr (8, [.ref o, .int (nI i)]))]]) (b_runSN ⟨hx, hb, hml, hown, hts⟩ (mt_DB_in l Γ _ (rdH L i) 48 57) (hE.1.1 _ q1569 rfl) q807 q62 q808 rfl rfl 3 ⟨by decide, by decide, by decide +kernel⟩ ⟨(Nat.le_of_ble_eq_true rfl), (Nat.le_of_ble_eq_true rfl)⟩ (c_pre hP hD hS hA hK hE [] rfl rfl ro_nil) rfl hl.1 rfl (Nat.le_of_ble_eq_true rfl) dX10_number_8 ⟨(Nat.le_of_ble_eq_true rfl), (Nat.le_of_ble_eq_true rfl)⟩) hP hD hS hA [] [0] rfl rfl rfl (fun r_2 u_2 H locs hw_2 hP hD hS _ => ?_)
  obtain ⟨rfl, rfl⟩ := hw_2
  have hP : WP Γ [[(a, .inr (8, [.ref o, .int (nI i)]))]] H := hP
  have hD : WD A [[(a, .inr (8, [.ref o, .int (nI i)]))]] := hD
  refine lv_if_ne (tgt := 26) hx hb dX10_number_11 (by decide) (fun c_3 => ?_) (fun c_3 => ?_)
  · -- 11 taken
    exact absurd hx9 c_3
  · -- 11 not taken
    refine b_newF hx hb hts hown q1646 hK hP hD hS hA (Nat.le_of_ble_eq_true rfl) (Nat.le_of_ble_eq_true rfl) dX10_number_14 (fun a_4 H hP hD hS hraw_a_4 => ?_)
    have hP : WP Γ [[(a, .inr (8, [.ref o, .int (nI i)]))], [(a_4, .inr (9, [.int 0]))]] H := hP
    have hD : WD A [[(a, .inr (8, [.ref o, .int (nI i)]))], [(a_4, .inr (9, [.int 0]))]] := hD
    refine lv_dup hx hb dX10_number_17 rfl ?_
    refine lv_aload_n hx hb dX10_number_18 rfl (lv_at hl 0 rfl) ?_
    refine b_get (C := RX10) (T := TX10) (N := 2) (v := .int (nI i)) hx hb hts in_X10 hown hK (b_at (k := 0) hP rfl) rfl 1 (by decide) q1539 (fun _ h9 => h9) rfl dX10_number_19 ?_
    refine b_callv (br := [[(a, .inr (8, [.ref o, .int (nI i)]))]]) (b_runIF ⟨hx, hb, hml, hown, hts⟩ (mt_Fl_init l Γ _ a_4 (nI i) hnt) q1655 rfl rfl ⟨(Nat.le_of_ble_eq_true rfl), (Nat.le_of_ble_eq_true rfl)⟩ (cf_pre (c_pre hP hD hS hA hK hE [1] rfl rfl ro_nil) hraw_a_4) hl.1 rfl (Nat.le_of_ble_eq_true rfl) dX10_number_22 ⟨(Nat.le_of_ble_eq_true rfl), (Nat.le_of_ble_eq_true rfl)⟩) hP hD hS hA [1] [0] rfl rfl rfl (fun u_5 H locs hw_5 hP hD hS _ => ?_)
    obtain rfl := hw_5
    have hP : WP Γ [[(a_4, .inr (9, [.int (nI i)]))], [(a, .inr (8, [.ref o, .int (nI i)]))]] H := hP
    have hD : WD A [[(a_4, .inr (9, [.int (nI i)]))], [(a, .inr (8, [.ref o, .int (nI i)]))]] := hD
    refine vx_athrow hx hb dX10_number_25 ?_
    obtain ⟨ce_6, hce_6, hcv_6, hcl_6⟩ := fl_ce hK (b_at (k := 0) hP rfl)
    have hP : WP Γ [[(a_4, .inr (9, [.int (nI i)]))]] H := bP_sel hP [0] rfl
    have hD : WD A [[(a_4, .inr (9, [.int (nI i)]))]] := bD_sel hD [0] rfl rfl
    exact b_outx hlocks (fun x hx9 => (ht9 x hx9).elim) hP hD hS hce_6 hcv_6 hcl_6 (by first | with_reducible rfl | (simp [c_3]; done) | rfl) (Nat.le_of_ble_eq_true rfl) (Nat.le_of_ble_eq_true rfl)
set_option maxHeartbeats 4000000 in
set_option maxRecDepth 100000 in
theorem mt_Rd_number_ok_1 (l : Launch) (Γ : GE) (sz : Nat) (a : Nat) (o : Nat) (y : SST) (L : List Int32) (z1 : Int32) (z2 : Int32) (i : Nat) (hst : stU y L) (hiL : i ≤ L.length) (hin : ¬ inC (rdH L i) 48 57 = 0) : KM l yX10_number cX10_number 3 (some FieldType.int) Γ 6 126 0 0 [.ref a] [[(a, .inr (8, [.ref o, .int (nI i)]))]] [[(o, .inr (14, [.ref y.1, .int 1, .int z1, .int z2]))], [(y.1, .inl (Γ.2.1 1, 2 * L.length, .inl y.2))]] sz (Qi Γ (fun r_ u_ => r_ = (nP L i).1 ∧ u_ = [[(a, .inr (8, [.ref o, .int (nI (nP L i).2)]))]])) := by
  refine K_intro (by decide) (Nat.le_of_ble_eq_true rfl) ?_
  intro pr_ ev_ s mi_ below meth cd_ A ls hx hb hr hml hown hts hlocks hname hK hE hRo hP hD hA hS hsz hl
  have hl : lv_has ls 3 [(0, .ref a)] := hl
  have hown : s.vm.findClass RX10 = some mi_.cls := hown
  have hll := hst.1
  refine lv_aload_n hx hb dX10_number_0 rfl (lv_at hl 0 rfl) ?_
  refine b_calli (br := []) (b_runV ⟨hx, hb, hml, hown, hts⟩ (mt_Rd_here_1 l Γ _ a o y L z1 z2 i (by assumption) (by omega)) (lw_V q1563 q1565 qs27 q99 q1566) rfl rfl 0 (by decide +kernel) ⟨(Nat.le_of_ble_eq_true rfl), (Nat.le_of_ble_eq_true rfl)⟩ (c_pre hP hD hS hA hK hE [0] rfl rfl (ro_app (ro_pass (ro_sel (ro2 := [[(o, .inr (14, [.ref y.1, .int 1, .int z1, .int z2]))]]) hRo [0] rfl) hD hS hA [0] rfl) (ro_pass (ro_sel (ro2 := [[(y.1, .inl (Γ.2.1 1, 2 * L.length, .inl y.2))]]) hRo [1] rfl) hD hS hA [0] rfl))) (recv_at (q := (RX10, TX10, 2)) hK (b_at (k := 0) hP rfl) rfl) rfl hl.1 rfl (Nat.le_of_ble_eq_true rfl) dX10_number_1 ⟨(Nat.le_of_ble_eq_true rfl), (Nat.le_of_ble_eq_true rfl)⟩) hP hD hS hA [0] [] rfl rfl rfl (fun r_1 u_1 H locs hw_1 hP hD hS _ => ?_)
  obtain ⟨rfl, rfl⟩ := hw_1
  have hP : WP Γ [[(a, .inr (8, [.ref o, .int (nI i)]))]] H := hP
  have hD : WD A [[(a, .inr (8, [.ref o, .int (nI i)]))]] := hD
  refine lv_bipush (v := 48) hx hb dX10_number_4 (by decide) ?_
  refine lv_bipush (v := 57) hx hb dX10_number_6 (by decide) ?_
  refine b_calli (br := [[(a, .inr (8, [.ref o, .int (nI i)]))]]) (b_runSN ⟨hx, hb, hml, hown, hts⟩ (mt_DB_in l Γ _ (rdH L i) 48 57) (hE.1.1 _ q1569 rfl) q807 q62 q808 rfl rfl 3 ⟨by decide, by decide, by decide +kernel⟩ ⟨(Nat.le_of_ble_eq_true rfl), (Nat.le_of_ble_eq_true rfl)⟩ (c_pre hP hD hS hA hK hE [] rfl rfl ro_nil) rfl hl.1 rfl (Nat.le_of_ble_eq_true rfl) dX10_number_8 ⟨(Nat.le_of_ble_eq_true rfl), (Nat.le_of_ble_eq_true rfl)⟩) hP hD hS hA [] [0] rfl rfl rfl (fun r_2 u_2 H locs hw_2 hP hD hS _ => ?_)
  obtain ⟨rfl, rfl⟩ := hw_2
  have hP : WP Γ [[(a, .inr (8, [.ref o, .int (nI i)]))]] H := hP
  have hD : WD A [[(a, .inr (8, [.ref o, .int (nI i)]))]] := hD
  refine lv_if_ne (tgt := 26) hx hb dX10_number_11 (by decide) (fun c_3 => ?_) (fun c_3 => ?_)
  · -- 11 taken
    refine lv_iconst (v := 0) hx hb dX10_number_26 (by decide) ?_
    refine lv_istore_n (lv' := [(1, .int 0), (0, .ref a)]) hx hb dX10_number_27 rfl hl (by decide) rfl (fun ls hl => ?_)
    refine lv_iconst (v := 0) hx hb dX10_number_28 (by decide) ?_
    refine lv_istore_n (lv' := [(2, .int 0), (1, .int 0), (0, .ref a)]) hx hb dX10_number_29 rfl hl (by decide) rfl (fun ls hl => ?_)
    have loop_4 : ∀ (fuel : Nat) (k : Nat) (v : Int32) (j : Nat), 3 - k < fuel → (nbI L i k v j) → (k ≤ 3) → ∀ (H : Heap) (locs : List Loc) (ls : Array Slot), WP Γ [[(a, .inr (8, [.ref o, .int (nI j)]))]] H → WD A [[(a, .inr (8, [.ref o, .int (nI j)]))]] → va_S A s.heap H locs → lv_has ls 3 [(2, .int (nI k)), (1, .int v), (0, .ref a)] → W pr_ l ev_ { frames := 6, cells := 0, slots := 0, locals := 126 } s mi_ ([.ref a] : List Value).toArray below meth cd_ H locs 0 0 (MQ below (Qi Γ (fun r_ u_ => r_ = (nP L i).1 ∧ u_ = [[(a, .inr (8, [.ref o, .int (nI (nP L i).2)]))]]) A) ([.ref a] : List Value).toArray s 0 0 A) (F0 mi_ 30 ls ([])) := by
      intro fuel
      induction fuel with
      | zero => intro k v j hfuel; exact absurd hfuel (Nat.not_lt_zero _)
      | succ fuel ih =>
        intro k v j hfuel hI hk3 H locs ls hP hD hS hl
        refine lv_aload_n hx hb dX10_number_30 rfl (lv_at hl 2 rfl) ?_
        have hjL := hI.1
        refine b_calli (br := []) (b_runV ⟨hx, hb, hml, hown, hts⟩ (mt_Rd_here_1 l Γ _ a o y L z1 z2 j (by assumption) (by omega)) (lw_V q1563 q1565 qs27 q99 q1566) rfl rfl 0 (by decide +kernel) ⟨(Nat.le_of_ble_eq_true rfl), (Nat.le_of_ble_eq_true rfl)⟩ (c_pre hP hD hS hA hK hE [0] rfl rfl (ro_app (ro_pass (ro_sel (ro2 := [[(o, .inr (14, [.ref y.1, .int 1, .int z1, .int z2]))]]) hRo [0] rfl) hD hS hA [0] rfl) (ro_pass (ro_sel (ro2 := [[(y.1, .inl (Γ.2.1 1, 2 * L.length, .inl y.2))]]) hRo [1] rfl) hD hS hA [0] rfl))) (recv_at (q := (RX10, TX10, 2)) hK (b_at (k := 0) hP rfl) rfl) rfl hl.1 rfl (Nat.le_of_ble_eq_true rfl) dX10_number_31 ⟨(Nat.le_of_ble_eq_true rfl), (Nat.le_of_ble_eq_true rfl)⟩) hP hD hS hA [0] [] rfl rfl rfl (fun r_5 u_5 H locs hw_5 hP hD hS _ => ?_)
        obtain ⟨rfl, rfl⟩ := hw_5
        have hP : WP Γ [[(a, .inr (8, [.ref o, .int (nI j)]))]] H := hP
        have hD : WD A [[(a, .inr (8, [.ref o, .int (nI j)]))]] := hD
        refine lv_bipush (v := 48) hx hb dX10_number_34 (by decide) ?_
        refine lv_bipush (v := 57) hx hb dX10_number_36 (by decide) ?_
        refine b_calli (br := [[(a, .inr (8, [.ref o, .int (nI j)]))]]) (b_runSN ⟨hx, hb, hml, hown, hts⟩ (mt_DB_in l Γ _ (rdH L j) 48 57) (hE.1.1 _ q1569 rfl) q807 q62 q808 rfl rfl 3 ⟨by decide, by decide, by decide +kernel⟩ ⟨(Nat.le_of_ble_eq_true rfl), (Nat.le_of_ble_eq_true rfl)⟩ (c_pre hP hD hS hA hK hE [] rfl rfl ro_nil) rfl hl.1 rfl (Nat.le_of_ble_eq_true rfl) dX10_number_38 ⟨(Nat.le_of_ble_eq_true rfl), (Nat.le_of_ble_eq_true rfl)⟩) hP hD hS hA [] [0] rfl rfl rfl (fun r_6 u_6 H locs hw_6 hP hD hS _ => ?_)
        obtain ⟨rfl, rfl⟩ := hw_6
        have hP : WP Γ [[(a, .inr (8, [.ref o, .int (nI j)]))]] H := hP
        have hD : WD A [[(a, .inr (8, [.ref o, .int (nI j)]))]] := hD
        refine lv_if_eq (tgt := 86) hx hb dX10_number_41 (by decide) (fun c_7 => ?_) (fun c_7 => ?_)
        · -- 41 taken
          have hend : (v, j) = nP L i := by first | exact nb_end0 hI (by assumption) hin | exact nb_end1 hI (by omega) | exact nb_end2 hI (by omega) (by assumption)
          have hP : WP Γ [[(a, .inr (8, [.ref o, .int (nI (nP L i).2)]))]] H := by rw [← hend]; exact hP
          have hD : WD A [[(a, .inr (8, [.ref o, .int (nI (nP L i).2)]))]] := by rw [← hend]; exact hD
          refine lv_iload_n hx hb dX10_number_86 rfl (lv_at hl 1 rfl) ?_
          exact b_iret hx hb hr hlocks hP hD hS (Nat.le_of_ble_eq_true rfl) (Nat.le_of_ble_eq_true rfl) ⟨(by rw [← hend]), (by first | with_reducible rfl | (simp [c_3, c_7]; done) | rfl)⟩ dX10_number_87
        · -- 41 not taken
          refine lv_iload_n hx hb dX10_number_44 rfl (lv_at hl 0 rfl) ?_
          refine lv_iconst (v := 3) hx hb dX10_number_45 (by decide) ?_
          refine lv_icmp_ge (tgt := 86) hx hb dX10_number_46 (by decide) (fun c_8 => ?_) (fun c_8 => ?_)
          · -- 46 taken
            have n_8 : 3 ≤ k := (nI_leI (by omega) (by omega)).mp (show nI 3 ≤ nI k from c_8)
            have m_8 : ¬ (k < 3) := by omega
            have d_8 := Int32.not_lt.mpr c_8
            have hend : (v, j) = nP L i := by first | exact nb_end0 hI (by assumption) hin | exact nb_end1 hI (by omega) | exact nb_end2 hI (by omega) (by assumption)
            have hP : WP Γ [[(a, .inr (8, [.ref o, .int (nI (nP L i).2)]))]] H := by rw [← hend]; exact hP
            have hD : WD A [[(a, .inr (8, [.ref o, .int (nI (nP L i).2)]))]] := by rw [← hend]; exact hD
            refine lv_iload_n hx hb dX10_number_86 rfl (lv_at hl 1 rfl) ?_
            exact b_iret hx hb hr hlocks hP hD hS (Nat.le_of_ble_eq_true rfl) (Nat.le_of_ble_eq_true rfl) ⟨(by rw [← hend]), (by first | with_reducible rfl | (simp [c_3, c_7, n_8, m_8, d_8]; done) | rfl)⟩ dX10_number_87
          · -- 46 not taken
            have n_8 : ¬ (3 ≤ k) := fun hh7 => c_8 ((nI_leI (a := 3) (b := k) (by omega) (by omega)).mpr hh7)
            have m_8 : k < 3 := by omega
            have d_8 := Int32.not_le.mp c_8
            refine lv_iload_n hx hb dX10_number_49 rfl (lv_at hl 0 rfl) ?_
            refine lv_if_eq (tgt := 57) hx hb dX10_number_50 (by decide) (fun c_9 => ?_) (fun c_9 => ?_)
            · -- 50 taken
              have n_9 : k = 0 := (nI_eq (by omega) (by omega)).mp (show nI k = nI 0 from c_9)
              refine lv_bipush (v := 10) hx hb dX10_number_57 (by decide) ?_
              refine lv_iload_n hx hb dX10_number_59 rfl (lv_at hl 1 rfl) ?_
              refine lv_imul hx hb dX10_number_60 ?_
              refine lv_aload_n hx hb dX10_number_61 rfl (lv_at hl 2 rfl) ?_
              refine b_calli (br := []) (b_runV ⟨hx, hb, hml, hown, hts⟩ (mt_Rd_here_1 l Γ _ a o y L z1 z2 j (by assumption) (by omega)) (lw_V q1563 q1565 qs27 q99 q1566) rfl rfl 0 (by decide +kernel) ⟨(Nat.le_of_ble_eq_true rfl), (Nat.le_of_ble_eq_true rfl)⟩ (c_pre hP hD hS hA hK hE [0] rfl rfl (ro_app (ro_pass (ro_sel (ro2 := [[(o, .inr (14, [.ref y.1, .int 1, .int z1, .int z2]))]]) hRo [0] rfl) hD hS hA [0] rfl) (ro_pass (ro_sel (ro2 := [[(y.1, .inl (Γ.2.1 1, 2 * L.length, .inl y.2))]]) hRo [1] rfl) hD hS hA [0] rfl))) (recv_at (q := (RX10, TX10, 2)) hK (b_at (k := 0) hP rfl) rfl) rfl hl.1 rfl (Nat.le_of_ble_eq_true rfl) dX10_number_62 ⟨(Nat.le_of_ble_eq_true rfl), (Nat.le_of_ble_eq_true rfl)⟩) hP hD hS hA [0] [] rfl rfl rfl (fun r_10 u_10 H locs hw_10 hP hD hS _ => ?_)
              obtain ⟨rfl, rfl⟩ := hw_10
              have hP : WP Γ [[(a, .inr (8, [.ref o, .int (nI j)]))]] H := hP
              have hD : WD A [[(a, .inr (8, [.ref o, .int (nI j)]))]] := hD
              refine lv_iadd hx hb dX10_number_65 ?_
              refine lv_bipush (v := 48) hx hb dX10_number_66 (by decide) ?_
              refine lv_isub hx hb dX10_number_68 ?_
              refine lv_istore_n (lv' := [(1, .int (((10 * v) + (rdH L j)) - 48)), (2, .int (nI k)), (0, .ref a)]) hx hb dX10_number_69 rfl hl (by decide) rfl (fun ls hl => ?_)
              refine lv_aload_n hx hb dX10_number_70 rfl (lv_at hl 2 rfl) ?_
              refine lv_dup hx hb dX10_number_71 rfl ?_
              refine b_get (C := RX10) (T := TX10) (N := 2) (v := .int (nI j)) hx hb hts in_X10 hown hK (b_at (k := 0) hP rfl) rfl 1 (by decide) q1539 (fun _ h9 => h9) rfl dX10_number_72 ?_
              refine lv_iconst (v := 1) hx hb dX10_number_75 (by decide) ?_
              refine lv_iadd hx hb dX10_number_76 ?_
              refine b_top (nI_addE (a := j) (b := 1) (c := j + 1) rfl rfl (by first | omega | rfl)) ?_
              refine b_put (C := RX10) (T := TX10) (N := 2) (ty := .int) (v := .int (nI (j + 1))) hx hb hts in_X10 tyX10_ok nmX10 hown hK hP hD hS 0 rfl rfl 1 (by decide) q1539 (fun _ h9 => h9) rfl (by decide +kernel) rfl rfl (Nat.le_of_ble_eq_true rfl) dX10_number_77 (fun H locs hP hD hS => ?_)
              have hP : WP Γ [[(a, .inr (8, [.ref o, .int (nI (j + 1))]))]] H := hP
              have hD : WD A [[(a, .inr (8, [.ref o, .int (nI (j + 1))]))]] := hD
              refine lv_iinc (v := (nI (k + 1))) (lv' := [(2, .int (nI (k + 1))), (1, .int (((10 * v) + (rdH L j)) - 48)), (0, .ref a)]) hx hb dX10_number_80 hl (k := 1) rfl (nI_addE (a := k) (b := 1) (c := k + 1) rfl rfl (by first | omega | rfl)) (by decide) rfl (fun ls hl => ?_)
              refine lv_goto (tgt := 30) hx hb dX10_number_83 (by decide) ?_
              exact ih (k + 1) (((10 * v) + (rdH L j)) - 48) (j + 1) (by omega) (nb_step (by assumption) hI (by omega) (by first | exact Or.inl (by omega) | exact Or.inr (by assumption))) (by omega) _ _ _ hP hD hS (lv_sub hl [0, 1, 2] rfl)
            · -- 50 not taken
              have n_9 : ¬ (k = 0) := fun hh7 => c_9 ((nI_eq (a := k) (b := 0) (by omega) (by omega)).mpr hh7)
              refine lv_iload_n hx hb dX10_number_53 rfl (lv_at hl 1 rfl) ?_
              refine lv_if_le (tgt := 86) hx hb dX10_number_54 (by decide) (fun c_11 => ?_) (fun c_11 => ?_)
              · -- 54 taken
                have d_11 := Int32.not_lt.mpr c_11
                have hend : (v, j) = nP L i := by first | exact nb_end0 hI (by assumption) hin | exact nb_end1 hI (by omega) | exact nb_end2 hI (by omega) (by assumption)
                have hP : WP Γ [[(a, .inr (8, [.ref o, .int (nI (nP L i).2)]))]] H := by rw [← hend]; exact hP
                have hD : WD A [[(a, .inr (8, [.ref o, .int (nI (nP L i).2)]))]] := by rw [← hend]; exact hD
                refine lv_iload_n hx hb dX10_number_86 rfl (lv_at hl 1 rfl) ?_
                exact b_iret hx hb hr hlocks hP hD hS (Nat.le_of_ble_eq_true rfl) (Nat.le_of_ble_eq_true rfl) ⟨(by rw [← hend]), (by first | with_reducible rfl | (simp [c_3, c_7, n_8, m_8, d_8, n_9, c_11, d_11]; done) | rfl)⟩ dX10_number_87
              · -- 54 not taken
                have d_11 := Int32.not_le.mp c_11
                refine lv_bipush (v := 10) hx hb dX10_number_57 (by decide) ?_
                refine lv_iload_n hx hb dX10_number_59 rfl (lv_at hl 1 rfl) ?_
                refine lv_imul hx hb dX10_number_60 ?_
                refine lv_aload_n hx hb dX10_number_61 rfl (lv_at hl 2 rfl) ?_
                refine b_calli (br := []) (b_runV ⟨hx, hb, hml, hown, hts⟩ (mt_Rd_here_1 l Γ _ a o y L z1 z2 j (by assumption) (by omega)) (lw_V q1563 q1565 qs27 q99 q1566) rfl rfl 0 (by decide +kernel) ⟨(Nat.le_of_ble_eq_true rfl), (Nat.le_of_ble_eq_true rfl)⟩ (c_pre hP hD hS hA hK hE [0] rfl rfl (ro_app (ro_pass (ro_sel (ro2 := [[(o, .inr (14, [.ref y.1, .int 1, .int z1, .int z2]))]]) hRo [0] rfl) hD hS hA [0] rfl) (ro_pass (ro_sel (ro2 := [[(y.1, .inl (Γ.2.1 1, 2 * L.length, .inl y.2))]]) hRo [1] rfl) hD hS hA [0] rfl))) (recv_at (q := (RX10, TX10, 2)) hK (b_at (k := 0) hP rfl) rfl) rfl hl.1 rfl (Nat.le_of_ble_eq_true rfl) dX10_number_62 ⟨(Nat.le_of_ble_eq_true rfl), (Nat.le_of_ble_eq_true rfl)⟩) hP hD hS hA [0] [] rfl rfl rfl (fun r_12 u_12 H locs hw_12 hP hD hS _ => ?_)
                obtain ⟨rfl, rfl⟩ := hw_12
                have hP : WP Γ [[(a, .inr (8, [.ref o, .int (nI j)]))]] H := hP
                have hD : WD A [[(a, .inr (8, [.ref o, .int (nI j)]))]] := hD
                refine lv_iadd hx hb dX10_number_65 ?_
                refine lv_bipush (v := 48) hx hb dX10_number_66 (by decide) ?_
                refine lv_isub hx hb dX10_number_68 ?_
                refine lv_istore_n (lv' := [(1, .int (((10 * v) + (rdH L j)) - 48)), (2, .int (nI k)), (0, .ref a)]) hx hb dX10_number_69 rfl hl (by decide) rfl (fun ls hl => ?_)
                refine lv_aload_n hx hb dX10_number_70 rfl (lv_at hl 2 rfl) ?_
                refine lv_dup hx hb dX10_number_71 rfl ?_
                refine b_get (C := RX10) (T := TX10) (N := 2) (v := .int (nI j)) hx hb hts in_X10 hown hK (b_at (k := 0) hP rfl) rfl 1 (by decide) q1539 (fun _ h9 => h9) rfl dX10_number_72 ?_
                refine lv_iconst (v := 1) hx hb dX10_number_75 (by decide) ?_
                refine lv_iadd hx hb dX10_number_76 ?_
                refine b_top (nI_addE (a := j) (b := 1) (c := j + 1) rfl rfl (by first | omega | rfl)) ?_
                refine b_put (C := RX10) (T := TX10) (N := 2) (ty := .int) (v := .int (nI (j + 1))) hx hb hts in_X10 tyX10_ok nmX10 hown hK hP hD hS 0 rfl rfl 1 (by decide) q1539 (fun _ h9 => h9) rfl (by decide +kernel) rfl rfl (Nat.le_of_ble_eq_true rfl) dX10_number_77 (fun H locs hP hD hS => ?_)
                have hP : WP Γ [[(a, .inr (8, [.ref o, .int (nI (j + 1))]))]] H := hP
                have hD : WD A [[(a, .inr (8, [.ref o, .int (nI (j + 1))]))]] := hD
                refine lv_iinc (v := (nI (k + 1))) (lv' := [(2, .int (nI (k + 1))), (1, .int (((10 * v) + (rdH L j)) - 48)), (0, .ref a)]) hx hb dX10_number_80 hl (k := 1) rfl (nI_addE (a := k) (b := 1) (c := k + 1) rfl rfl (by first | omega | rfl)) (by decide) rfl (fun ls hl => ?_)
                refine lv_goto (tgt := 30) hx hb dX10_number_83 (by decide) ?_
                exact ih (k + 1) (((10 * v) + (rdH L j)) - 48) (j + 1) (by omega) (nb_step (by assumption) hI (by omega) (by first | exact Or.inl (by omega) | exact Or.inr (by assumption))) (by omega) _ _ _ hP hD hS (lv_sub hl [0, 1, 2] rfl)
    exact loop_4 ((3 - 0) + 1) 0 0 i (Nat.lt_succ_self _) ⟨hiL, Or.inl ⟨rfl, rfl, rfl⟩⟩ (by omega) _ _ _ hP hD hS (lv_sub hl [0, 1, 2] rfl)
  · -- 11 not taken
    exact absurd c_3 hin
set_option maxHeartbeats 4000000 in
set_option maxRecDepth 100000 in
theorem mt_Rd_word_x_0 (l : Launch) (Γ : GE) (sz : Nat) (a : Nat) (o : Nat) (y : SST) (L : List Int32) (z1 : Int32) (z2 : Int32) (i : Nat) (hnt : l.stackTraces = false) (hst : stF y L) (hiL : i ≤ L.length) (hL5 : L.length ≤ 50) (hx9 : nmW (slL L i (wE L i)) = 0) : KMX l yX10_word cX10_word 4 (some (FieldType.object "java/lang/String")) Γ 6 171 (wE L i - i + 10) (512 * (wE L i - i) + 1100) [.ref a] [[(a, .inr (8, [.ref o, .int (nI i)]))]] [[(o, .inr (14, [.ref y.1, .int 0, .int z1, .int z2]))], [(y.1, .inl (Γ.2.1 1, L.length, .inl y.2))]] sz "DairyBook$Fault" (fun q_ u_ => u_ = [[(q_, .inr (9, [.int (nI i)]))]]) := by
  refine K_introX (by decide) (Nat.le_of_ble_eq_true rfl) ?_
  intro pr_ ev_ s mi_ below meth cd_ A ls hx hb hr hml hown hts hlocks hname hK hE hRo hP hD hA hS hsz hl ht9
  have hl : lv_has ls 4 [(0, .ref a)] := hl
  have hown : s.vm.findClass RX10 = some mi_.cls := hown
  have hll := hst.1
  refine lv_aload_n hx hb dX10_word_0 rfl (lv_at hl 0 rfl) ?_
  refine b_get (C := RX10) (T := TX10) (N := 2) (v := .int (nI i)) hx hb hts in_X10 hown hK (b_at (k := 0) hP rfl) rfl 1 (by decide) q1539 (fun _ h9 => h9) rfl dX10_word_1 ?_
  refine lv_istore_n (lv' := [(1, .int (nI i)), (0, .ref a)]) hx hb dX10_word_4 rfl hl (by decide) rfl (fun ls hl => ?_)
  refine b_new (ci := 13) (fs := [.null, .int 0, .int 0, .int 0]) (C := RJ5) (T := TJ5) (N := 4) hx hb hts in_J5 tyJ5_ok hown q1561 q215 q70 hK hP hD hS hA rfl (fun j hj => by rcases (show j = 0 ∨ j = 1 ∨ j = 2 ∨ j = 3 by omega) with rfl | rfl | rfl | rfl <;> rfl) (by first | omega | (dsimp only; omega)) (by first | omega | (dsimp only; omega)) dX10_word_5 (fun a_1 H hP hD hS => ?_)
  have hP : WP Γ [[(a, .inr (8, [.ref o, .int (nI i)]))], [(a_1, .inr (13, [.null, .int 0, .int 0, .int 0]))]] H := hP
  have hD : WD A [[(a, .inr (8, [.ref o, .int (nI i)]))], [(a_1, .inr (13, [.null, .int 0, .int 0, .int 0]))]] := hD
  refine lv_dup hx hb dX10_word_8 rfl ?_
  refine b_callv (br := [[(a, .inr (8, [.ref o, .int (nI i)]))]]) (b_runI ⟨hx, hb, hml, hown, hts⟩ (mt_SB_init l Γ _ a_1) (lw_meth q218) q70 q1562 q217 rfl rfl rfl 0 (by decide +kernel) ⟨(Nat.le_of_ble_eq_true rfl), (Nat.le_of_ble_eq_true rfl)⟩ (c_pre hP hD hS hA hK hE [1] rfl rfl ro_nil) rfl hl.1 rfl (Nat.le_of_ble_eq_true rfl) dX10_word_9 ⟨(by first | omega | (dsimp only; omega)), (by first | omega | (dsimp only; omega))⟩) hP hD hS hA [1] [0] rfl rfl rfl (fun u_2 H locs hw_2 hP hD hS _ => ?_)
  obtain ⟨y_2, hy_2, rfl⟩ := hw_2
  have hP : WP Γ [[(a_1, .inr (13, [.ref y_2.1, .int 0, .int y_2.2.2.2, .int (nI ([] : List Int32).length)]))], [(y_2.1, .inl (Γ.2.1 1, y_2.2.1, .inl y_2.2.2.1))], [(a, .inr (8, [.ref o, .int (nI i)]))]] H := hP
  have hD : WD A [[(a_1, .inr (13, [.ref y_2.1, .int 0, .int y_2.2.2.2, .int (nI ([] : List Int32).length)]))], [(y_2.1, .inl (Γ.2.1 1, y_2.2.1, .inl y_2.2.2.1))], [(a, .inr (8, [.ref o, .int (nI i)]))]] := hD
  refine lv_astore_n (lv' := [(2, .ref a_1), (1, .int (nI i)), (0, .ref a)]) hx hb dX10_word_12 rfl hl (by decide) rfl (fun ls hl => ?_)
  have hP : WP Γ [[(a, .inr (8, [.ref o, .int (nI i)]))], [(a_1, .inr (13, [.ref y_2.1, .int 0, .int y_2.2.2.2, .int (nI ([] : List Int32).length)]))], [(y_2.1, .inl (Γ.2.1 1, y_2.2.1, .inl y_2.2.2.1))]] H := bP_sel hP [2, 0, 1] rfl
  have hD : WD A [[(a, .inr (8, [.ref o, .int (nI i)]))], [(a_1, .inr (13, [.ref y_2.1, .int 0, .int y_2.2.2.2, .int (nI ([] : List Int32).length)]))], [(y_2.1, .inl (Γ.2.1 1, y_2.2.1, .inl y_2.2.2.1))]] := bD_sel hD [2, 0, 1] rfl rfl
  have hP : WP Γ [[(a, .inr (8, [.ref o, .int (nI i)]))], [(a_1, .inr (13, [.ref y_2.1, .int 0, .int y_2.2.2.2, .int (nI (slL L i i).length)]))], [(y_2.1, .inl (Γ.2.1 1, y_2.2.1, .inl y_2.2.2.1))]] H := by rw [slL_0]; exact hP
  have hD : WD A [[(a, .inr (8, [.ref o, .int (nI i)]))], [(a_1, .inr (13, [.ref y_2.1, .int 0, .int y_2.2.2.2, .int (nI (slL L i i).length)]))], [(y_2.1, .inl (Γ.2.1 1, y_2.2.1, .inl y_2.2.2.1))]] := by rw [slL_0]; exact hD
  have loop_3 : ∀ (fuel : Nat) (j : Nat) (y5 : SBT), L.length + 1 - j < fuel → (i ≤ j) → (j ≤ L.length) → (wE L j = wE L i) → (j ≤ wE L i) → (sbF 0 y5 (slL L i j)) → ∀ (H : Heap) (locs : List Loc) (ls : Array Slot), WP Γ [[(a, .inr (8, [.ref o, .int (nI j)]))], [(a_1, .inr (13, [.ref y5.1, .int 0, .int y5.2.2.2, .int (nI (slL L i j).length)]))], [(y5.1, .inl (Γ.2.1 1, y5.2.1, .inl y5.2.2.1))]] H → WD A [[(a, .inr (8, [.ref o, .int (nI j)]))], [(a_1, .inr (13, [.ref y5.1, .int 0, .int y5.2.2.2, .int (nI (slL L i j).length)]))], [(y5.1, .inl (Γ.2.1 1, y5.2.1, .inl y5.2.2.1))]] → va_S A s.heap H locs → lv_has ls 4 [(2, .ref a_1), (1, .int (nI i)), (0, .ref a)] → W pr_ l ev_ { frames := 6, cells := (wE L i - i + 10), slots := (512 * (wE L i - i) + 1100), locals := 171 } s mi_ ([.ref a] : List Value).toArray below meth cd_ H locs (j - i + 2) (512 * (j - i) + 20) (vx_MQ below QN (XB Γ "DairyBook$Fault" (fun q_ u_ => u_ = [[(q_, .inr (9, [.int (nI i)]))]]) A) ([.ref a] : List Value).toArray s (wE L i - i + 10) (512 * (wE L i - i) + 1100) A) (F0 mi_ 13 ls ([])) := by
    intro fuel
    induction fuel with
    | zero => intro j y5 hfuel; exact absurd hfuel (Nat.not_lt_zero _)
    | succ fuel ih =>
      intro j y5 hfuel hij hjn hwe hjw hsb5 H locs ls hP hD hS hl
      refine lv_aload_n hx hb dX10_word_13 rfl (lv_at hl 2 rfl) ?_
      have hll := hst.1
      refine b_calli (br := [[(a_1, .inr (13, [.ref y5.1, .int 0, .int y5.2.2.2, .int (nI (slL L i j).length)]))], [(y5.1, .inl (Γ.2.1 1, y5.2.1, .inl y5.2.2.1))]]) (b_runV ⟨hx, hb, hml, hown, hts⟩ (mt_Rd_here_0 l Γ _ a o y L z1 z2 j (by assumption) (by omega)) (lw_V q1563 q1565 qs27 q99 q1566) rfl rfl 0 (by decide +kernel) ⟨(Nat.le_of_ble_eq_true rfl), (Nat.le_of_ble_eq_true rfl)⟩ (c_pre hP hD hS hA hK hE [0] rfl rfl (ro_app (ro_pass (ro_sel (ro2 := [[(o, .inr (14, [.ref y.1, .int 0, .int z1, .int z2]))]]) hRo [0] rfl) hD hS hA [0] rfl) (ro_pass (ro_sel (ro2 := [[(y.1, .inl (Γ.2.1 1, L.length, .inl y.2))]]) hRo [1] rfl) hD hS hA [0] rfl))) (recv_at (q := (RX10, TX10, 2)) hK (b_at (k := 0) hP rfl) rfl) rfl hl.1 rfl (Nat.le_of_ble_eq_true rfl) dX10_word_14 ⟨(by first | omega | (dsimp only; omega)), (by first | omega | (dsimp only; omega))⟩) hP hD hS hA [0] [1, 2] rfl rfl rfl (fun r_4 u_4 H locs hw_4 hP hD hS _ => ?_)
      obtain ⟨rfl, rfl⟩ := hw_4
      have hP : WP Γ [[(a, .inr (8, [.ref o, .int (nI j)]))], [(a_1, .inr (13, [.ref y5.1, .int 0, .int y5.2.2.2, .int (nI (slL L i j).length)]))], [(y5.1, .inl (Γ.2.1 1, y5.2.1, .inl y5.2.2.1))]] H := hP
      have hD : WD A [[(a, .inr (8, [.ref o, .int (nI j)]))], [(a_1, .inr (13, [.ref y5.1, .int 0, .int y5.2.2.2, .int (nI (slL L i j).length)]))], [(y5.1, .inl (Γ.2.1 1, y5.2.1, .inl y5.2.2.1))]] := hD
      refine lv_bipush (v := 97) hx hb dX10_word_17 (by decide) ?_
      refine lv_bipush (v := 122) hx hb dX10_word_19 (by decide) ?_
      refine b_calli (br := [[(a, .inr (8, [.ref o, .int (nI j)]))], [(a_1, .inr (13, [.ref y5.1, .int 0, .int y5.2.2.2, .int (nI (slL L i j).length)]))], [(y5.1, .inl (Γ.2.1 1, y5.2.1, .inl y5.2.2.1))]]) (b_runSN ⟨hx, hb, hml, hown, hts⟩ (mt_DB_in l Γ _ (rdH L j) 97 122) (hE.1.1 _ q1569 rfl) q807 q62 q808 rfl rfl 3 ⟨by decide, by decide, by decide +kernel⟩ ⟨(Nat.le_of_ble_eq_true rfl), (Nat.le_of_ble_eq_true rfl)⟩ (c_pre hP hD hS hA hK hE [] rfl rfl ro_nil) rfl hl.1 rfl (Nat.le_of_ble_eq_true rfl) dX10_word_21 ⟨(by first | omega | (dsimp only; omega)), (by first | omega | (dsimp only; omega))⟩) hP hD hS hA [] [0, 1, 2] rfl rfl rfl (fun r_5 u_5 H locs hw_5 hP hD hS _ => ?_)
      obtain ⟨rfl, rfl⟩ := hw_5
      have hP : WP Γ [[(a, .inr (8, [.ref o, .int (nI j)]))], [(a_1, .inr (13, [.ref y5.1, .int 0, .int y5.2.2.2, .int (nI (slL L i j).length)]))], [(y5.1, .inl (Γ.2.1 1, y5.2.1, .inl y5.2.2.1))]] H := hP
      have hD : WD A [[(a, .inr (8, [.ref o, .int (nI j)]))], [(a_1, .inr (13, [.ref y5.1, .int 0, .int y5.2.2.2, .int (nI (slL L i j).length)]))], [(y5.1, .inl (Γ.2.1 1, y5.2.1, .inl y5.2.2.1))]] := hD
      refine lv_if_eq (tgt := 50) hx hb dX10_word_24 (by decide) (fun c_6 => ?_) (fun c_6 => ?_)
      · -- 24 taken
        have he9 : j = wE L i := by rw [← hwe]; exact (wE_stop c_6).symm
        subst he9
        refine lv_aload_n hx hb dX10_word_50 rfl (lv_at hl 0 rfl) ?_
        refine b_callq (br := [[(a, .inr (8, [.ref o, .int (nI (wE L i))]))]]) (b_runV ⟨hx, hb, hml, hown, hts⟩ (mt_SB_toString_0 l Γ _ a_1 y5 (slL L i (wE L i)) hsb5) (lw_V q1571 q709 q710 q70 q711) rfl rfl 0 (by decide +kernel) ⟨(Nat.le_of_ble_eq_true rfl), (Nat.le_of_ble_eq_true rfl)⟩ (c_pre hP hD hS hA hK hE [1, 2] rfl rfl ro_nil) (recv_at (q := (RJ5, TJ5, 4)) hK (b_at (k := 1) hP rfl) rfl) rfl hl.1 rfl (Nat.le_of_ble_eq_true rfl) dX10_word_51 ⟨(by first | omega | (dsimp only; omega)), (by first | omega | (dsimp only; omega))⟩) hP hD hS hA [1, 2] [0] rfl rfl rfl (fun r_7 u_7 H locs hw_7 hP hD hS _ => ?_)
        obtain ⟨o_7, y_7, hs_7, rfl, rfl⟩ := hw_7
        have hP : WP Γ [[(o_7, .inr (14, [.ref y_7.1, .int 0, .int 0, .int 0]))], [(y_7.1, .inl (Γ.2.1 1, (slL L i (wE L i)).length, .inl y_7.2))], [(a_1, .inr (13, [.ref y5.1, .int 0, .int y5.2.2.2, .int (nI (slL L i (wE L i)).length)]))], [(y5.1, .inl (Γ.2.1 1, y5.2.1, .inl y5.2.2.1))], [(a, .inr (8, [.ref o, .int (nI (wE L i))]))]] H := hP
        have hD : WD A [[(o_7, .inr (14, [.ref y_7.1, .int 0, .int 0, .int 0]))], [(y_7.1, .inl (Γ.2.1 1, (slL L i (wE L i)).length, .inl y_7.2))], [(a_1, .inr (13, [.ref y5.1, .int 0, .int y5.2.2.2, .int (nI (slL L i (wE L i)).length)]))], [(y5.1, .inl (Γ.2.1 1, y5.2.1, .inl y5.2.2.1))], [(a, .inr (8, [.ref o, .int (nI (wE L i))]))]] := hD
        refine W.eq (g2 := F0 mi_ 54 ls ([.ref o_7])) rfl ?_
        refine lv_astore_n (lv' := [(3, .ref o_7), (2, .ref a_1), (1, .int (nI i)), (0, .ref a)]) hx hb dX10_word_54 rfl hl (by decide) rfl (fun ls hl => ?_)
        refine lv_aload_n hx hb dX10_word_55 rfl (lv_at hl 0 rfl) ?_
        refine b_calli (br := [[(a_1, .inr (13, [.ref y5.1, .int 0, .int y5.2.2.2, .int (nI (slL L i (wE L i)).length)]))], [(y5.1, .inl (Γ.2.1 1, y5.2.1, .inl y5.2.2.1))], [(a, .inr (8, [.ref o, .int (nI (wE L i))]))]]) (b_runS ⟨hx, hb, hml, hown, hts⟩ (mt_Rd_nof l Γ _ o_7 y_7 (slL L i (wE L i)) 0 0 hs_7 (Or.inr ⟨rfl, rfl⟩)) (lw_S q1572 q1573 q99 q1574) rfl rfl 1 (by decide +kernel) ⟨(Nat.le_of_ble_eq_true rfl), (Nat.le_of_ble_eq_true rfl)⟩ (c_pre hP hD hS hA hK hE [0, 1] rfl rfl ro_nil) rfl hl.1 rfl (Nat.le_of_ble_eq_true rfl) dX10_word_56 ⟨(by first | omega | (dsimp only; omega)), (by first | omega | (dsimp only; omega))⟩) hP hD hS hA [0, 1] [2, 3, 4] rfl rfl rfl (fun r_8 u_8 H locs hw_8 hP hD hS _ => ?_)
        obtain ⟨h2_8, z2_8, hh2_8, rfl, rfl⟩ := hw_8
        have hP : WP Γ [[(o_7, .inr (14, [.ref y_7.1, .int 0, .int h2_8, .int z2_8]))], [(y_7.1, .inl (Γ.2.1 1, (slL L i (wE L i)).length, .inl y_7.2))], [(a_1, .inr (13, [.ref y5.1, .int 0, .int y5.2.2.2, .int (nI (slL L i (wE L i)).length)]))], [(y5.1, .inl (Γ.2.1 1, y5.2.1, .inl y5.2.2.1))], [(a, .inr (8, [.ref o, .int (nI (wE L i))]))]] H := hP
        have hD : WD A [[(o_7, .inr (14, [.ref y_7.1, .int 0, .int h2_8, .int z2_8]))], [(y_7.1, .inl (Γ.2.1 1, (slL L i (wE L i)).length, .inl y_7.2))], [(a_1, .inr (13, [.ref y5.1, .int 0, .int y5.2.2.2, .int (nI (slL L i (wE L i)).length)]))], [(y5.1, .inl (Γ.2.1 1, y5.2.1, .inl y5.2.2.1))], [(a, .inr (8, [.ref o, .int (nI (wE L i))]))]] := hD
        refine lv_if_ne (tgt := 71) hx hb dX10_word_59 (by decide) (fun c_9 => ?_) (fun c_9 => ?_)
        · -- 59 taken
          exact absurd hx9 c_9
        · -- 59 not taken
          refine b_newF hx hb hts hown q1646 hK hP hD hS hA (by first | omega | (dsimp only; omega)) (by first | omega | (dsimp only; omega)) dX10_word_62 (fun a_10 H hP hD hS hraw_a_10 => ?_)
          have hP : WP Γ [[(o_7, .inr (14, [.ref y_7.1, .int 0, .int h2_8, .int z2_8]))], [(y_7.1, .inl (Γ.2.1 1, (slL L i (wE L i)).length, .inl y_7.2))], [(a_1, .inr (13, [.ref y5.1, .int 0, .int y5.2.2.2, .int (nI (slL L i (wE L i)).length)]))], [(y5.1, .inl (Γ.2.1 1, y5.2.1, .inl y5.2.2.1))], [(a, .inr (8, [.ref o, .int (nI (wE L i))]))], [(a_10, .inr (9, [.int 0]))]] H := hP
          have hD : WD A [[(o_7, .inr (14, [.ref y_7.1, .int 0, .int h2_8, .int z2_8]))], [(y_7.1, .inl (Γ.2.1 1, (slL L i (wE L i)).length, .inl y_7.2))], [(a_1, .inr (13, [.ref y5.1, .int 0, .int y5.2.2.2, .int (nI (slL L i (wE L i)).length)]))], [(y5.1, .inl (Γ.2.1 1, y5.2.1, .inl y5.2.2.1))], [(a, .inr (8, [.ref o, .int (nI (wE L i))]))], [(a_10, .inr (9, [.int 0]))]] := hD
          refine lv_dup hx hb dX10_word_65 rfl ?_
          refine lv_iload_n hx hb dX10_word_66 rfl (lv_at hl 2 rfl) ?_
          refine b_callv (br := [[(o_7, .inr (14, [.ref y_7.1, .int 0, .int h2_8, .int z2_8]))], [(y_7.1, .inl (Γ.2.1 1, (slL L i (wE L i)).length, .inl y_7.2))], [(a_1, .inr (13, [.ref y5.1, .int 0, .int y5.2.2.2, .int (nI (slL L i (wE L i)).length)]))], [(y5.1, .inl (Γ.2.1 1, y5.2.1, .inl y5.2.2.1))], [(a, .inr (8, [.ref o, .int (nI (wE L i))]))]]) (b_runIF ⟨hx, hb, hml, hown, hts⟩ (mt_Fl_init l Γ _ a_10 (nI i) hnt) q1655 rfl rfl ⟨(Nat.le_of_ble_eq_true rfl), (Nat.le_of_ble_eq_true rfl)⟩ (cf_pre (c_pre hP hD hS hA hK hE [5] rfl rfl ro_nil) hraw_a_10) hl.1 rfl (Nat.le_of_ble_eq_true rfl) dX10_word_67 ⟨(by first | omega | (dsimp only; omega)), (by first | omega | (dsimp only; omega))⟩) hP hD hS hA [5] [0, 1, 2, 3, 4] rfl rfl rfl (fun u_11 H locs hw_11 hP hD hS _ => ?_)
          obtain rfl := hw_11
          have hP : WP Γ [[(a_10, .inr (9, [.int (nI i)]))], [(o_7, .inr (14, [.ref y_7.1, .int 0, .int h2_8, .int z2_8]))], [(y_7.1, .inl (Γ.2.1 1, (slL L i (wE L i)).length, .inl y_7.2))], [(a_1, .inr (13, [.ref y5.1, .int 0, .int y5.2.2.2, .int (nI (slL L i (wE L i)).length)]))], [(y5.1, .inl (Γ.2.1 1, y5.2.1, .inl y5.2.2.1))], [(a, .inr (8, [.ref o, .int (nI (wE L i))]))]] H := hP
          have hD : WD A [[(a_10, .inr (9, [.int (nI i)]))], [(o_7, .inr (14, [.ref y_7.1, .int 0, .int h2_8, .int z2_8]))], [(y_7.1, .inl (Γ.2.1 1, (slL L i (wE L i)).length, .inl y_7.2))], [(a_1, .inr (13, [.ref y5.1, .int 0, .int y5.2.2.2, .int (nI (slL L i (wE L i)).length)]))], [(y5.1, .inl (Γ.2.1 1, y5.2.1, .inl y5.2.2.1))], [(a, .inr (8, [.ref o, .int (nI (wE L i))]))]] := hD
          refine vx_athrow hx hb dX10_word_70 ?_
          obtain ⟨ce_12, hce_12, hcv_12, hcl_12⟩ := fl_ce hK (b_at (k := 0) hP rfl)
          have hP : WP Γ [[(a_10, .inr (9, [.int (nI i)]))]] H := bP_sel hP [0] rfl
          have hD : WD A [[(a_10, .inr (9, [.int (nI i)]))]] := bD_sel hD [0] rfl rfl
          exact b_outx hlocks (fun x hx9 => (ht9 x hx9).elim) hP hD hS hce_12 hcv_12 hcl_12 (by first | with_reducible rfl | (simp [c_6, c_9]; done) | rfl) (by first | omega | (dsimp only; omega)) (by first | omega | (dsimp only; omega))
      · -- 24 not taken
        have haz : ¬ inC (rdH L j) 97 122 = 0 := c_6
        have hjl := rdH_in (by decide) haz
        have hsl : (slL L i j).length ≤ 50 := by rw [slL_len hjn]; omega
        refine lv_aload_n hx hb dX10_word_27 rfl (lv_at hl 0 rfl) ?_
        refine lv_aload_n hx hb dX10_word_28 rfl (lv_at hl 2 rfl) ?_
        refine b_calli (br := [[(a_1, .inr (13, [.ref y5.1, .int 0, .int y5.2.2.2, .int (nI (slL L i j).length)]))], [(y5.1, .inl (Γ.2.1 1, y5.2.1, .inl y5.2.2.1))]]) (b_runV ⟨hx, hb, hml, hown, hts⟩ (mt_Rd_here_0 l Γ _ a o y L z1 z2 j (by assumption) (by omega)) (lw_V q1563 q1565 qs27 q99 q1566) rfl rfl 0 (by decide +kernel) ⟨(Nat.le_of_ble_eq_true rfl), (Nat.le_of_ble_eq_true rfl)⟩ (c_pre hP hD hS hA hK hE [0] rfl rfl (ro_app (ro_pass (ro_sel (ro2 := [[(o, .inr (14, [.ref y.1, .int 0, .int z1, .int z2]))]]) hRo [0] rfl) hD hS hA [0] rfl) (ro_pass (ro_sel (ro2 := [[(y.1, .inl (Γ.2.1 1, L.length, .inl y.2))]]) hRo [1] rfl) hD hS hA [0] rfl))) (recv_at (q := (RX10, TX10, 2)) hK (b_at (k := 0) hP rfl) rfl) rfl hl.1 rfl (Nat.le_of_ble_eq_true rfl) dX10_word_29 ⟨(by first | omega | (dsimp only; omega)), (by first | omega | (dsimp only; omega))⟩) hP hD hS hA [0] [1, 2] rfl rfl rfl (fun r_13 u_13 H locs hw_13 hP hD hS _ => ?_)
        obtain ⟨rfl, rfl⟩ := hw_13
        have hP : WP Γ [[(a, .inr (8, [.ref o, .int (nI j)]))], [(a_1, .inr (13, [.ref y5.1, .int 0, .int y5.2.2.2, .int (nI (slL L i j).length)]))], [(y5.1, .inl (Γ.2.1 1, y5.2.1, .inl y5.2.2.1))]] H := hP
        have hD : WD A [[(a, .inr (8, [.ref o, .int (nI j)]))], [(a_1, .inr (13, [.ref y5.1, .int 0, .int y5.2.2.2, .int (nI (slL L i j).length)]))], [(y5.1, .inl (Γ.2.1 1, y5.2.1, .inl y5.2.2.1))]] := hD
        refine lv_i2c hx hb dX10_word_32 rfl ?_
        refine b_top (show ((rdH L j).toUInt32 % 65536).toInt32 = rdH L j from (az_ok haz).2.2.1) ?_
        refine b_callq (br := [[(a, .inr (8, [.ref o, .int (nI j)]))]]) (b_runV ⟨hx, hb, hml, hown, hts⟩ (mt_SB_appc l Γ _ a_1 y5 (slL L i j) (rdH L j) hsb5 (by omega) (az_ok haz).1 (az_ok haz).2.1) (lw_V q1570 q1511 q1512 q70 q1513) rfl rfl 1 (by decide +kernel) ⟨(Nat.le_of_ble_eq_true rfl), (Nat.le_of_ble_eq_true rfl)⟩ (c_pre hP hD hS hA hK hE [1, 2] rfl rfl ro_nil) (recv_at (q := (RJ5, TJ5, 4)) hK (b_at (k := 1) hP rfl) rfl) rfl hl.1 rfl (Nat.le_of_ble_eq_true rfl) dX10_word_33 ⟨(by first | omega | (dsimp only; omega)), (by first | omega | (dsimp only; omega))⟩) hP hD hS hA [1, 2] [0] rfl rfl rfl (fun r_14 u_14 H locs hw_14 hP hD hS _ => ?_)
        obtain ⟨y_14, hy_14, rfl, rfl⟩ := hw_14
        have hP : WP Γ [[(a_1, .inr (13, [.ref y_14.1, .int 0, .int y_14.2.2.2, .int (nI ((slL L i j) ++ [(rdH L j)]).length)]))], [(y_14.1, .inl (Γ.2.1 1, y_14.2.1, .inl y_14.2.2.1))], [(a, .inr (8, [.ref o, .int (nI j)]))]] H := hP
        have hD : WD A [[(a_1, .inr (13, [.ref y_14.1, .int 0, .int y_14.2.2.2, .int (nI ((slL L i j) ++ [(rdH L j)]).length)]))], [(y_14.1, .inl (Γ.2.1 1, y_14.2.1, .inl y_14.2.2.1))], [(a, .inr (8, [.ref o, .int (nI j)]))]] := hD
        refine W.eq (g2 := F0 mi_ 36 ls ([.ref a_1])) rfl ?_
        refine lv_pop hx hb dX10_word_36 rfl ?_
        refine lv_aload_n hx hb dX10_word_37 rfl (lv_at hl 2 rfl) ?_
        refine lv_dup hx hb dX10_word_38 rfl ?_
        refine b_get (C := RX10) (T := TX10) (N := 2) (v := .int (nI j)) hx hb hts in_X10 hown hK (b_at (k := 2) hP rfl) rfl 1 (by decide) q1539 (fun _ h9 => h9) rfl dX10_word_39 ?_
        refine lv_iconst (v := 1) hx hb dX10_word_42 (by decide) ?_
        refine lv_iadd hx hb dX10_word_43 ?_
        refine b_top (nI_addE (a := j) (b := 1) (c := j + 1) rfl rfl (by first | omega | rfl)) ?_
        refine b_put (C := RX10) (T := TX10) (N := 2) (ty := .int) (v := .int (nI (j + 1))) hx hb hts in_X10 tyX10_ok nmX10 hown hK hP hD hS 2 rfl rfl 1 (by decide) q1539 (fun _ h9 => h9) rfl (by decide +kernel) rfl rfl (Nat.le_of_ble_eq_true rfl) dX10_word_44 (fun H locs hP hD hS => ?_)
        have hP : WP Γ [[(a_1, .inr (13, [.ref y_14.1, .int 0, .int y_14.2.2.2, .int (nI ((slL L i j) ++ [(rdH L j)]).length)]))], [(y_14.1, .inl (Γ.2.1 1, y_14.2.1, .inl y_14.2.2.1))], [(a, .inr (8, [.ref o, .int (nI (j + 1))]))]] H := hP
        have hD : WD A [[(a_1, .inr (13, [.ref y_14.1, .int 0, .int y_14.2.2.2, .int (nI ((slL L i j) ++ [(rdH L j)]).length)]))], [(y_14.1, .inl (Γ.2.1 1, y_14.2.1, .inl y_14.2.2.1))], [(a, .inr (8, [.ref o, .int (nI (j + 1))]))]] := hD
        refine lv_goto (tgt := 13) hx hb dX10_word_47 (by decide) ?_
        have hP : WP Γ [[(a, .inr (8, [.ref o, .int (nI (j + 1))]))], [(a_1, .inr (13, [.ref y_14.1, .int 0, .int y_14.2.2.2, .int (nI ((slL L i j) ++ [(rdH L j)]).length)]))], [(y_14.1, .inl (Γ.2.1 1, y_14.2.1, .inl y_14.2.2.1))]] H := bP_sel hP [2, 0, 1] rfl
        have hD : WD A [[(a, .inr (8, [.ref o, .int (nI (j + 1))]))], [(a_1, .inr (13, [.ref y_14.1, .int 0, .int y_14.2.2.2, .int (nI ((slL L i j) ++ [(rdH L j)]).length)]))], [(y_14.1, .inl (Γ.2.1 1, y_14.2.1, .inl y_14.2.2.1))]] := bD_sel hD [2, 0, 1] rfl rfl
        have eS : slL L i j ++ [rdH L j] = slL L i (j + 1) := by rw [slL_s hij (rdH_in (by decide) haz), (az_ok haz).2.2.2]
        have hP : WP Γ [[(a, .inr (8, [.ref o, .int (nI (j + 1))]))], [(a_1, .inr (13, [.ref y_14.1, .int 0, .int y_14.2.2.2, .int (nI (slL L i (j + 1)).length)]))], [(y_14.1, .inl (Γ.2.1 1, y_14.2.1, .inl y_14.2.2.1))]] H := by rw [← eS]; exact hP
        have hD : WD A [[(a, .inr (8, [.ref o, .int (nI (j + 1))]))], [(a_1, .inr (13, [.ref y_14.1, .int 0, .int y_14.2.2.2, .int (nI (slL L i (j + 1)).length)]))], [(y_14.1, .inl (Γ.2.1 1, y_14.2.1, .inl y_14.2.2.1))]] := by rw [← eS]; exact hD
        refine W.widen (k := ((j + 1) - i + 2)) (n := (512 * ((j + 1) - i) + 20)) (by omega) (by omega) ?_
        exact ih (j + 1) y_14 (by omega) (by omega) (by omega) (by rw [wE_step haz]; exact hwe) (by rw [← hwe, ← wE_step haz]; exact (wE_in (by omega)).1) (by rw [← eS]; exact hy_14) _ _ _ hP hD hS (lv_sub hl [0, 1, 2] rfl)
  refine W.widen (k := (i - i + 2)) (n := (512 * (i - i) + 20)) (by omega) (by omega) ?_
  exact loop_3 ((L.length + 1 - i) + 1) i y_2 (Nat.lt_succ_self _) (Nat.le_refl _) hiL rfl (wE_in hiL).1 (by rw [slL_0]; exact hy_2) _ _ _ hP hD hS (lv_sub hl [0, 1, 2] rfl)
set_option maxHeartbeats 4000000 in
set_option maxRecDepth 100000 in
theorem mt_Rd_word_ok_0 (l : Launch) (Γ : GE) (sz : Nat) (a : Nat) (o : Nat) (y : SST) (L : List Int32) (z1 : Int32) (z2 : Int32) (i : Nat) (hst : stF y L) (hiL : i ≤ L.length) (hL5 : L.length ≤ 50) (hw9 : ¬ nmW (slL L i (wE L i)) = 0) : KM l yX10_word cX10_word 4 (some (FieldType.object "java/lang/String")) Γ 6 171 (wE L i - i + 10) (512 * (wE L i - i) + 1100) [.ref a] [[(a, .inr (8, [.ref o, .int (nI i)]))]] [[(o, .inr (14, [.ref y.1, .int 0, .int z1, .int z2]))], [(y.1, .inl (Γ.2.1 1, L.length, .inl y.2))]] sz (Qq Γ (fun r_ u_ => ∃ o2 : Nat, ∃ y2 : SST, ∃ h2 : Int32, ∃ z2_ : Int32, stF y2 (slL L i (wE L i)) ∧ (h2 = strH (slL L i (wE L i)) ∨ h2 = 0 ∧ z2_ = 0) ∧ r_ = some o2 ∧ u_ = [[(a, .inr (8, [.ref o, .int (nI (wE L i))]))], [(o2, .inr (14, [.ref y2.1, .int 0, .int h2, .int z2_]))], [(y2.1, .inl (Γ.2.1 1, (slL L i (wE L i)).length, .inl y2.2))]])) := by
  refine K_intro (by decide) (Nat.le_of_ble_eq_true rfl) ?_
  intro pr_ ev_ s mi_ below meth cd_ A ls hx hb hr hml hown hts hlocks hname hK hE hRo hP hD hA hS hsz hl
  have hl : lv_has ls 4 [(0, .ref a)] := hl
  have hown : s.vm.findClass RX10 = some mi_.cls := hown
  have hll := hst.1
  refine lv_aload_n hx hb dX10_word_0 rfl (lv_at hl 0 rfl) ?_
  refine b_get (C := RX10) (T := TX10) (N := 2) (v := .int (nI i)) hx hb hts in_X10 hown hK (b_at (k := 0) hP rfl) rfl 1 (by decide) q1539 (fun _ h9 => h9) rfl dX10_word_1 ?_
  refine lv_istore_n (lv' := [(1, .int (nI i)), (0, .ref a)]) hx hb dX10_word_4 rfl hl (by decide) rfl (fun ls hl => ?_)
  refine b_new (ci := 13) (fs := [.null, .int 0, .int 0, .int 0]) (C := RJ5) (T := TJ5) (N := 4) hx hb hts in_J5 tyJ5_ok hown q1561 q215 q70 hK hP hD hS hA rfl (fun j hj => by rcases (show j = 0 ∨ j = 1 ∨ j = 2 ∨ j = 3 by omega) with rfl | rfl | rfl | rfl <;> rfl) (by first | omega | (dsimp only; omega)) (by first | omega | (dsimp only; omega)) dX10_word_5 (fun a_1 H hP hD hS => ?_)
  have hP : WP Γ [[(a, .inr (8, [.ref o, .int (nI i)]))], [(a_1, .inr (13, [.null, .int 0, .int 0, .int 0]))]] H := hP
  have hD : WD A [[(a, .inr (8, [.ref o, .int (nI i)]))], [(a_1, .inr (13, [.null, .int 0, .int 0, .int 0]))]] := hD
  refine lv_dup hx hb dX10_word_8 rfl ?_
  refine b_callv (br := [[(a, .inr (8, [.ref o, .int (nI i)]))]]) (b_runI ⟨hx, hb, hml, hown, hts⟩ (mt_SB_init l Γ _ a_1) (lw_meth q218) q70 q1562 q217 rfl rfl rfl 0 (by decide +kernel) ⟨(Nat.le_of_ble_eq_true rfl), (Nat.le_of_ble_eq_true rfl)⟩ (c_pre hP hD hS hA hK hE [1] rfl rfl ro_nil) rfl hl.1 rfl (Nat.le_of_ble_eq_true rfl) dX10_word_9 ⟨(by first | omega | (dsimp only; omega)), (by first | omega | (dsimp only; omega))⟩) hP hD hS hA [1] [0] rfl rfl rfl (fun u_2 H locs hw_2 hP hD hS _ => ?_)
  obtain ⟨y_2, hy_2, rfl⟩ := hw_2
  have hP : WP Γ [[(a_1, .inr (13, [.ref y_2.1, .int 0, .int y_2.2.2.2, .int (nI ([] : List Int32).length)]))], [(y_2.1, .inl (Γ.2.1 1, y_2.2.1, .inl y_2.2.2.1))], [(a, .inr (8, [.ref o, .int (nI i)]))]] H := hP
  have hD : WD A [[(a_1, .inr (13, [.ref y_2.1, .int 0, .int y_2.2.2.2, .int (nI ([] : List Int32).length)]))], [(y_2.1, .inl (Γ.2.1 1, y_2.2.1, .inl y_2.2.2.1))], [(a, .inr (8, [.ref o, .int (nI i)]))]] := hD
  refine lv_astore_n (lv' := [(2, .ref a_1), (1, .int (nI i)), (0, .ref a)]) hx hb dX10_word_12 rfl hl (by decide) rfl (fun ls hl => ?_)
  have hP : WP Γ [[(a, .inr (8, [.ref o, .int (nI i)]))], [(a_1, .inr (13, [.ref y_2.1, .int 0, .int y_2.2.2.2, .int (nI ([] : List Int32).length)]))], [(y_2.1, .inl (Γ.2.1 1, y_2.2.1, .inl y_2.2.2.1))]] H := bP_sel hP [2, 0, 1] rfl
  have hD : WD A [[(a, .inr (8, [.ref o, .int (nI i)]))], [(a_1, .inr (13, [.ref y_2.1, .int 0, .int y_2.2.2.2, .int (nI ([] : List Int32).length)]))], [(y_2.1, .inl (Γ.2.1 1, y_2.2.1, .inl y_2.2.2.1))]] := bD_sel hD [2, 0, 1] rfl rfl
  have hP : WP Γ [[(a, .inr (8, [.ref o, .int (nI i)]))], [(a_1, .inr (13, [.ref y_2.1, .int 0, .int y_2.2.2.2, .int (nI (slL L i i).length)]))], [(y_2.1, .inl (Γ.2.1 1, y_2.2.1, .inl y_2.2.2.1))]] H := by rw [slL_0]; exact hP
  have hD : WD A [[(a, .inr (8, [.ref o, .int (nI i)]))], [(a_1, .inr (13, [.ref y_2.1, .int 0, .int y_2.2.2.2, .int (nI (slL L i i).length)]))], [(y_2.1, .inl (Γ.2.1 1, y_2.2.1, .inl y_2.2.2.1))]] := by rw [slL_0]; exact hD
  have loop_3 : ∀ (fuel : Nat) (j : Nat) (y5 : SBT), L.length + 1 - j < fuel → (i ≤ j) → (j ≤ L.length) → (wE L j = wE L i) → (j ≤ wE L i) → (sbF 0 y5 (slL L i j)) → ∀ (H : Heap) (locs : List Loc) (ls : Array Slot), WP Γ [[(a, .inr (8, [.ref o, .int (nI j)]))], [(a_1, .inr (13, [.ref y5.1, .int 0, .int y5.2.2.2, .int (nI (slL L i j).length)]))], [(y5.1, .inl (Γ.2.1 1, y5.2.1, .inl y5.2.2.1))]] H → WD A [[(a, .inr (8, [.ref o, .int (nI j)]))], [(a_1, .inr (13, [.ref y5.1, .int 0, .int y5.2.2.2, .int (nI (slL L i j).length)]))], [(y5.1, .inl (Γ.2.1 1, y5.2.1, .inl y5.2.2.1))]] → va_S A s.heap H locs → lv_has ls 4 [(2, .ref a_1), (1, .int (nI i)), (0, .ref a)] → W pr_ l ev_ { frames := 6, cells := (wE L i - i + 10), slots := (512 * (wE L i - i) + 1100), locals := 171 } s mi_ ([.ref a] : List Value).toArray below meth cd_ H locs (j - i + 2) (512 * (j - i) + 20) (MQ below (Qq Γ (fun r_ u_ => ∃ o2 : Nat, ∃ y2 : SST, ∃ h2 : Int32, ∃ z2_ : Int32, stF y2 (slL L i (wE L i)) ∧ (h2 = strH (slL L i (wE L i)) ∨ h2 = 0 ∧ z2_ = 0) ∧ r_ = some o2 ∧ u_ = [[(a, .inr (8, [.ref o, .int (nI (wE L i))]))], [(o2, .inr (14, [.ref y2.1, .int 0, .int h2, .int z2_]))], [(y2.1, .inl (Γ.2.1 1, (slL L i (wE L i)).length, .inl y2.2))]]) A) ([.ref a] : List Value).toArray s (wE L i - i + 10) (512 * (wE L i - i) + 1100) A) (F0 mi_ 13 ls ([])) := by
    intro fuel
    induction fuel with
    | zero => intro j y5 hfuel; exact absurd hfuel (Nat.not_lt_zero _)
    | succ fuel ih =>
      intro j y5 hfuel hij hjn hwe hjw hsb5 H locs ls hP hD hS hl
      refine lv_aload_n hx hb dX10_word_13 rfl (lv_at hl 2 rfl) ?_
      have hll := hst.1
      refine b_calli (br := [[(a_1, .inr (13, [.ref y5.1, .int 0, .int y5.2.2.2, .int (nI (slL L i j).length)]))], [(y5.1, .inl (Γ.2.1 1, y5.2.1, .inl y5.2.2.1))]]) (b_runV ⟨hx, hb, hml, hown, hts⟩ (mt_Rd_here_0 l Γ _ a o y L z1 z2 j (by assumption) (by omega)) (lw_V q1563 q1565 qs27 q99 q1566) rfl rfl 0 (by decide +kernel) ⟨(Nat.le_of_ble_eq_true rfl), (Nat.le_of_ble_eq_true rfl)⟩ (c_pre hP hD hS hA hK hE [0] rfl rfl (ro_app (ro_pass (ro_sel (ro2 := [[(o, .inr (14, [.ref y.1, .int 0, .int z1, .int z2]))]]) hRo [0] rfl) hD hS hA [0] rfl) (ro_pass (ro_sel (ro2 := [[(y.1, .inl (Γ.2.1 1, L.length, .inl y.2))]]) hRo [1] rfl) hD hS hA [0] rfl))) (recv_at (q := (RX10, TX10, 2)) hK (b_at (k := 0) hP rfl) rfl) rfl hl.1 rfl (Nat.le_of_ble_eq_true rfl) dX10_word_14 ⟨(by first | omega | (dsimp only; omega)), (by first | omega | (dsimp only; omega))⟩) hP hD hS hA [0] [1, 2] rfl rfl rfl (fun r_4 u_4 H locs hw_4 hP hD hS _ => ?_)
      obtain ⟨rfl, rfl⟩ := hw_4
      have hP : WP Γ [[(a, .inr (8, [.ref o, .int (nI j)]))], [(a_1, .inr (13, [.ref y5.1, .int 0, .int y5.2.2.2, .int (nI (slL L i j).length)]))], [(y5.1, .inl (Γ.2.1 1, y5.2.1, .inl y5.2.2.1))]] H := hP
      have hD : WD A [[(a, .inr (8, [.ref o, .int (nI j)]))], [(a_1, .inr (13, [.ref y5.1, .int 0, .int y5.2.2.2, .int (nI (slL L i j).length)]))], [(y5.1, .inl (Γ.2.1 1, y5.2.1, .inl y5.2.2.1))]] := hD
      refine lv_bipush (v := 97) hx hb dX10_word_17 (by decide) ?_
      refine lv_bipush (v := 122) hx hb dX10_word_19 (by decide) ?_
      refine b_calli (br := [[(a, .inr (8, [.ref o, .int (nI j)]))], [(a_1, .inr (13, [.ref y5.1, .int 0, .int y5.2.2.2, .int (nI (slL L i j).length)]))], [(y5.1, .inl (Γ.2.1 1, y5.2.1, .inl y5.2.2.1))]]) (b_runSN ⟨hx, hb, hml, hown, hts⟩ (mt_DB_in l Γ _ (rdH L j) 97 122) (hE.1.1 _ q1569 rfl) q807 q62 q808 rfl rfl 3 ⟨by decide, by decide, by decide +kernel⟩ ⟨(Nat.le_of_ble_eq_true rfl), (Nat.le_of_ble_eq_true rfl)⟩ (c_pre hP hD hS hA hK hE [] rfl rfl ro_nil) rfl hl.1 rfl (Nat.le_of_ble_eq_true rfl) dX10_word_21 ⟨(by first | omega | (dsimp only; omega)), (by first | omega | (dsimp only; omega))⟩) hP hD hS hA [] [0, 1, 2] rfl rfl rfl (fun r_5 u_5 H locs hw_5 hP hD hS _ => ?_)
      obtain ⟨rfl, rfl⟩ := hw_5
      have hP : WP Γ [[(a, .inr (8, [.ref o, .int (nI j)]))], [(a_1, .inr (13, [.ref y5.1, .int 0, .int y5.2.2.2, .int (nI (slL L i j).length)]))], [(y5.1, .inl (Γ.2.1 1, y5.2.1, .inl y5.2.2.1))]] H := hP
      have hD : WD A [[(a, .inr (8, [.ref o, .int (nI j)]))], [(a_1, .inr (13, [.ref y5.1, .int 0, .int y5.2.2.2, .int (nI (slL L i j).length)]))], [(y5.1, .inl (Γ.2.1 1, y5.2.1, .inl y5.2.2.1))]] := hD
      refine lv_if_eq (tgt := 50) hx hb dX10_word_24 (by decide) (fun c_6 => ?_) (fun c_6 => ?_)
      · -- 24 taken
        have he9 : j = wE L i := by rw [← hwe]; exact (wE_stop c_6).symm
        subst he9
        refine lv_aload_n hx hb dX10_word_50 rfl (lv_at hl 0 rfl) ?_
        refine b_callq (br := [[(a, .inr (8, [.ref o, .int (nI (wE L i))]))]]) (b_runV ⟨hx, hb, hml, hown, hts⟩ (mt_SB_toString_0 l Γ _ a_1 y5 (slL L i (wE L i)) hsb5) (lw_V q1571 q709 q710 q70 q711) rfl rfl 0 (by decide +kernel) ⟨(Nat.le_of_ble_eq_true rfl), (Nat.le_of_ble_eq_true rfl)⟩ (c_pre hP hD hS hA hK hE [1, 2] rfl rfl ro_nil) (recv_at (q := (RJ5, TJ5, 4)) hK (b_at (k := 1) hP rfl) rfl) rfl hl.1 rfl (Nat.le_of_ble_eq_true rfl) dX10_word_51 ⟨(by first | omega | (dsimp only; omega)), (by first | omega | (dsimp only; omega))⟩) hP hD hS hA [1, 2] [0] rfl rfl rfl (fun r_7 u_7 H locs hw_7 hP hD hS _ => ?_)
        obtain ⟨o_7, y_7, hs_7, rfl, rfl⟩ := hw_7
        have hP : WP Γ [[(o_7, .inr (14, [.ref y_7.1, .int 0, .int 0, .int 0]))], [(y_7.1, .inl (Γ.2.1 1, (slL L i (wE L i)).length, .inl y_7.2))], [(a_1, .inr (13, [.ref y5.1, .int 0, .int y5.2.2.2, .int (nI (slL L i (wE L i)).length)]))], [(y5.1, .inl (Γ.2.1 1, y5.2.1, .inl y5.2.2.1))], [(a, .inr (8, [.ref o, .int (nI (wE L i))]))]] H := hP
        have hD : WD A [[(o_7, .inr (14, [.ref y_7.1, .int 0, .int 0, .int 0]))], [(y_7.1, .inl (Γ.2.1 1, (slL L i (wE L i)).length, .inl y_7.2))], [(a_1, .inr (13, [.ref y5.1, .int 0, .int y5.2.2.2, .int (nI (slL L i (wE L i)).length)]))], [(y5.1, .inl (Γ.2.1 1, y5.2.1, .inl y5.2.2.1))], [(a, .inr (8, [.ref o, .int (nI (wE L i))]))]] := hD
        refine W.eq (g2 := F0 mi_ 54 ls ([.ref o_7])) rfl ?_
        refine lv_astore_n (lv' := [(3, .ref o_7), (2, .ref a_1), (1, .int (nI i)), (0, .ref a)]) hx hb dX10_word_54 rfl hl (by decide) rfl (fun ls hl => ?_)
        refine lv_aload_n hx hb dX10_word_55 rfl (lv_at hl 0 rfl) ?_
        refine b_calli (br := [[(a_1, .inr (13, [.ref y5.1, .int 0, .int y5.2.2.2, .int (nI (slL L i (wE L i)).length)]))], [(y5.1, .inl (Γ.2.1 1, y5.2.1, .inl y5.2.2.1))], [(a, .inr (8, [.ref o, .int (nI (wE L i))]))]]) (b_runS ⟨hx, hb, hml, hown, hts⟩ (mt_Rd_nof l Γ _ o_7 y_7 (slL L i (wE L i)) 0 0 hs_7 (Or.inr ⟨rfl, rfl⟩)) (lw_S q1572 q1573 q99 q1574) rfl rfl 1 (by decide +kernel) ⟨(Nat.le_of_ble_eq_true rfl), (Nat.le_of_ble_eq_true rfl)⟩ (c_pre hP hD hS hA hK hE [0, 1] rfl rfl ro_nil) rfl hl.1 rfl (Nat.le_of_ble_eq_true rfl) dX10_word_56 ⟨(by first | omega | (dsimp only; omega)), (by first | omega | (dsimp only; omega))⟩) hP hD hS hA [0, 1] [2, 3, 4] rfl rfl rfl (fun r_8 u_8 H locs hw_8 hP hD hS _ => ?_)
        obtain ⟨h2_8, z2_8, hh2_8, rfl, rfl⟩ := hw_8
        have hP : WP Γ [[(o_7, .inr (14, [.ref y_7.1, .int 0, .int h2_8, .int z2_8]))], [(y_7.1, .inl (Γ.2.1 1, (slL L i (wE L i)).length, .inl y_7.2))], [(a_1, .inr (13, [.ref y5.1, .int 0, .int y5.2.2.2, .int (nI (slL L i (wE L i)).length)]))], [(y5.1, .inl (Γ.2.1 1, y5.2.1, .inl y5.2.2.1))], [(a, .inr (8, [.ref o, .int (nI (wE L i))]))]] H := hP
        have hD : WD A [[(o_7, .inr (14, [.ref y_7.1, .int 0, .int h2_8, .int z2_8]))], [(y_7.1, .inl (Γ.2.1 1, (slL L i (wE L i)).length, .inl y_7.2))], [(a_1, .inr (13, [.ref y5.1, .int 0, .int y5.2.2.2, .int (nI (slL L i (wE L i)).length)]))], [(y5.1, .inl (Γ.2.1 1, y5.2.1, .inl y5.2.2.1))], [(a, .inr (8, [.ref o, .int (nI (wE L i))]))]] := hD
        refine lv_if_ne (tgt := 71) hx hb dX10_word_59 (by decide) (fun c_9 => ?_) (fun c_9 => ?_)
        · -- 59 taken
          refine lv_aload_n hx hb dX10_word_71 rfl (lv_at hl 0 rfl) ?_
          have hP : WP Γ [[(a, .inr (8, [.ref o, .int (nI (wE L i))]))], [(o_7, .inr (14, [.ref y_7.1, .int 0, .int h2_8, .int z2_8]))], [(y_7.1, .inl (Γ.2.1 1, (slL L i (wE L i)).length, .inl y_7.2))]] H := bP_sel hP [4, 0, 1] rfl
          have hD : WD A [[(a, .inr (8, [.ref o, .int (nI (wE L i))]))], [(o_7, .inr (14, [.ref y_7.1, .int 0, .int h2_8, .int z2_8]))], [(y_7.1, .inl (Γ.2.1 1, (slL L i (wE L i)).length, .inl y_7.2))]] := bD_sel hD [4, 0, 1] rfl rfl
          exact b_aret hx hb hr (by first | exact Or.inl ⟨_, rfl⟩ | exact Or.inr ⟨_, rfl⟩) hlocks hP hD hS (by first | omega | (dsimp only; omega)) (by first | omega | (dsimp only; omega)) ⟨o_7, y_7, h2_8, z2_8, hs_7, hh2_8, (by first | with_reducible rfl | (simp [c_6, c_9]; done) | rfl), rfl⟩ dX10_word_72
        · -- 59 not taken
          exact absurd c_9 hw9
      · -- 24 not taken
        have haz : ¬ inC (rdH L j) 97 122 = 0 := c_6
        have hjl := rdH_in (by decide) haz
        have hsl : (slL L i j).length ≤ 50 := by rw [slL_len hjn]; omega
        refine lv_aload_n hx hb dX10_word_27 rfl (lv_at hl 0 rfl) ?_
        refine lv_aload_n hx hb dX10_word_28 rfl (lv_at hl 2 rfl) ?_
        refine b_calli (br := [[(a_1, .inr (13, [.ref y5.1, .int 0, .int y5.2.2.2, .int (nI (slL L i j).length)]))], [(y5.1, .inl (Γ.2.1 1, y5.2.1, .inl y5.2.2.1))]]) (b_runV ⟨hx, hb, hml, hown, hts⟩ (mt_Rd_here_0 l Γ _ a o y L z1 z2 j (by assumption) (by omega)) (lw_V q1563 q1565 qs27 q99 q1566) rfl rfl 0 (by decide +kernel) ⟨(Nat.le_of_ble_eq_true rfl), (Nat.le_of_ble_eq_true rfl)⟩ (c_pre hP hD hS hA hK hE [0] rfl rfl (ro_app (ro_pass (ro_sel (ro2 := [[(o, .inr (14, [.ref y.1, .int 0, .int z1, .int z2]))]]) hRo [0] rfl) hD hS hA [0] rfl) (ro_pass (ro_sel (ro2 := [[(y.1, .inl (Γ.2.1 1, L.length, .inl y.2))]]) hRo [1] rfl) hD hS hA [0] rfl))) (recv_at (q := (RX10, TX10, 2)) hK (b_at (k := 0) hP rfl) rfl) rfl hl.1 rfl (Nat.le_of_ble_eq_true rfl) dX10_word_29 ⟨(by first | omega | (dsimp only; omega)), (by first | omega | (dsimp only; omega))⟩) hP hD hS hA [0] [1, 2] rfl rfl rfl (fun r_10 u_10 H locs hw_10 hP hD hS _ => ?_)
        obtain ⟨rfl, rfl⟩ := hw_10
        have hP : WP Γ [[(a, .inr (8, [.ref o, .int (nI j)]))], [(a_1, .inr (13, [.ref y5.1, .int 0, .int y5.2.2.2, .int (nI (slL L i j).length)]))], [(y5.1, .inl (Γ.2.1 1, y5.2.1, .inl y5.2.2.1))]] H := hP
        have hD : WD A [[(a, .inr (8, [.ref o, .int (nI j)]))], [(a_1, .inr (13, [.ref y5.1, .int 0, .int y5.2.2.2, .int (nI (slL L i j).length)]))], [(y5.1, .inl (Γ.2.1 1, y5.2.1, .inl y5.2.2.1))]] := hD
        refine lv_i2c hx hb dX10_word_32 rfl ?_
        refine b_top (show ((rdH L j).toUInt32 % 65536).toInt32 = rdH L j from (az_ok haz).2.2.1) ?_
        refine b_callq (br := [[(a, .inr (8, [.ref o, .int (nI j)]))]]) (b_runV ⟨hx, hb, hml, hown, hts⟩ (mt_SB_appc l Γ _ a_1 y5 (slL L i j) (rdH L j) hsb5 (by omega) (az_ok haz).1 (az_ok haz).2.1) (lw_V q1570 q1511 q1512 q70 q1513) rfl rfl 1 (by decide +kernel) ⟨(Nat.le_of_ble_eq_true rfl), (Nat.le_of_ble_eq_true rfl)⟩ (c_pre hP hD hS hA hK hE [1, 2] rfl rfl ro_nil) (recv_at (q := (RJ5, TJ5, 4)) hK (b_at (k := 1) hP rfl) rfl) rfl hl.1 rfl (Nat.le_of_ble_eq_true rfl) dX10_word_33 ⟨(by first | omega | (dsimp only; omega)), (by first | omega | (dsimp only; omega))⟩) hP hD hS hA [1, 2] [0] rfl rfl rfl (fun r_11 u_11 H locs hw_11 hP hD hS _ => ?_)
        obtain ⟨y_11, hy_11, rfl, rfl⟩ := hw_11
        have hP : WP Γ [[(a_1, .inr (13, [.ref y_11.1, .int 0, .int y_11.2.2.2, .int (nI ((slL L i j) ++ [(rdH L j)]).length)]))], [(y_11.1, .inl (Γ.2.1 1, y_11.2.1, .inl y_11.2.2.1))], [(a, .inr (8, [.ref o, .int (nI j)]))]] H := hP
        have hD : WD A [[(a_1, .inr (13, [.ref y_11.1, .int 0, .int y_11.2.2.2, .int (nI ((slL L i j) ++ [(rdH L j)]).length)]))], [(y_11.1, .inl (Γ.2.1 1, y_11.2.1, .inl y_11.2.2.1))], [(a, .inr (8, [.ref o, .int (nI j)]))]] := hD
        refine W.eq (g2 := F0 mi_ 36 ls ([.ref a_1])) rfl ?_
        refine lv_pop hx hb dX10_word_36 rfl ?_
        refine lv_aload_n hx hb dX10_word_37 rfl (lv_at hl 2 rfl) ?_
        refine lv_dup hx hb dX10_word_38 rfl ?_
        refine b_get (C := RX10) (T := TX10) (N := 2) (v := .int (nI j)) hx hb hts in_X10 hown hK (b_at (k := 2) hP rfl) rfl 1 (by decide) q1539 (fun _ h9 => h9) rfl dX10_word_39 ?_
        refine lv_iconst (v := 1) hx hb dX10_word_42 (by decide) ?_
        refine lv_iadd hx hb dX10_word_43 ?_
        refine b_top (nI_addE (a := j) (b := 1) (c := j + 1) rfl rfl (by first | omega | rfl)) ?_
        refine b_put (C := RX10) (T := TX10) (N := 2) (ty := .int) (v := .int (nI (j + 1))) hx hb hts in_X10 tyX10_ok nmX10 hown hK hP hD hS 2 rfl rfl 1 (by decide) q1539 (fun _ h9 => h9) rfl (by decide +kernel) rfl rfl (Nat.le_of_ble_eq_true rfl) dX10_word_44 (fun H locs hP hD hS => ?_)
        have hP : WP Γ [[(a_1, .inr (13, [.ref y_11.1, .int 0, .int y_11.2.2.2, .int (nI ((slL L i j) ++ [(rdH L j)]).length)]))], [(y_11.1, .inl (Γ.2.1 1, y_11.2.1, .inl y_11.2.2.1))], [(a, .inr (8, [.ref o, .int (nI (j + 1))]))]] H := hP
        have hD : WD A [[(a_1, .inr (13, [.ref y_11.1, .int 0, .int y_11.2.2.2, .int (nI ((slL L i j) ++ [(rdH L j)]).length)]))], [(y_11.1, .inl (Γ.2.1 1, y_11.2.1, .inl y_11.2.2.1))], [(a, .inr (8, [.ref o, .int (nI (j + 1))]))]] := hD
        refine lv_goto (tgt := 13) hx hb dX10_word_47 (by decide) ?_
        have hP : WP Γ [[(a, .inr (8, [.ref o, .int (nI (j + 1))]))], [(a_1, .inr (13, [.ref y_11.1, .int 0, .int y_11.2.2.2, .int (nI ((slL L i j) ++ [(rdH L j)]).length)]))], [(y_11.1, .inl (Γ.2.1 1, y_11.2.1, .inl y_11.2.2.1))]] H := bP_sel hP [2, 0, 1] rfl
        have hD : WD A [[(a, .inr (8, [.ref o, .int (nI (j + 1))]))], [(a_1, .inr (13, [.ref y_11.1, .int 0, .int y_11.2.2.2, .int (nI ((slL L i j) ++ [(rdH L j)]).length)]))], [(y_11.1, .inl (Γ.2.1 1, y_11.2.1, .inl y_11.2.2.1))]] := bD_sel hD [2, 0, 1] rfl rfl
        have eS : slL L i j ++ [rdH L j] = slL L i (j + 1) := by rw [slL_s hij (rdH_in (by decide) haz), (az_ok haz).2.2.2]
        have hP : WP Γ [[(a, .inr (8, [.ref o, .int (nI (j + 1))]))], [(a_1, .inr (13, [.ref y_11.1, .int 0, .int y_11.2.2.2, .int (nI (slL L i (j + 1)).length)]))], [(y_11.1, .inl (Γ.2.1 1, y_11.2.1, .inl y_11.2.2.1))]] H := by rw [← eS]; exact hP
        have hD : WD A [[(a, .inr (8, [.ref o, .int (nI (j + 1))]))], [(a_1, .inr (13, [.ref y_11.1, .int 0, .int y_11.2.2.2, .int (nI (slL L i (j + 1)).length)]))], [(y_11.1, .inl (Γ.2.1 1, y_11.2.1, .inl y_11.2.2.1))]] := by rw [← eS]; exact hD
        refine W.widen (k := ((j + 1) - i + 2)) (n := (512 * ((j + 1) - i) + 20)) (by omega) (by omega) ?_
        exact ih (j + 1) y_11 (by omega) (by omega) (by omega) (by rw [wE_step haz]; exact hwe) (by rw [← hwe, ← wE_step haz]; exact (wE_in (by omega)).1) (by rw [← eS]; exact hy_11) _ _ _ hP hD hS (lv_sub hl [0, 1, 2] rfl)
  refine W.widen (k := (i - i + 2)) (n := (512 * (i - i) + 20)) (by omega) (by omega) ?_
  exact loop_3 ((L.length + 1 - i) + 1) i y_2 (Nat.lt_succ_self _) (Nat.le_refl _) hiL rfl (wE_in hiL).1 (by rw [slL_0]; exact hy_2) _ _ _ hP hD hS (lv_sub hl [0, 1, 2] rfl)
set_option maxHeartbeats 4000000 in
set_option maxRecDepth 100000 in
theorem mt_Rd_word_x_1 (l : Launch) (Γ : GE) (sz : Nat) (a : Nat) (o : Nat) (y : SST) (L : List Int32) (z1 : Int32) (z2 : Int32) (i : Nat) (hnt : l.stackTraces = false) (hst : stU y L) (hiL : i ≤ L.length) (hL5 : L.length ≤ 50) (hx9 : nmW (slL L i (wE L i)) = 0) : KMX l yX10_word cX10_word 4 (some (FieldType.object "java/lang/String")) Γ 6 171 (wE L i - i + 10) (512 * (wE L i - i) + 1100) [.ref a] [[(a, .inr (8, [.ref o, .int (nI i)]))]] [[(o, .inr (14, [.ref y.1, .int 1, .int z1, .int z2]))], [(y.1, .inl (Γ.2.1 1, 2 * L.length, .inl y.2))]] sz "DairyBook$Fault" (fun q_ u_ => u_ = [[(q_, .inr (9, [.int (nI i)]))]]) := by
  refine K_introX (by decide) (Nat.le_of_ble_eq_true rfl) ?_
  intro pr_ ev_ s mi_ below meth cd_ A ls hx hb hr hml hown hts hlocks hname hK hE hRo hP hD hA hS hsz hl ht9
  have hl : lv_has ls 4 [(0, .ref a)] := hl
  have hown : s.vm.findClass RX10 = some mi_.cls := hown
  have hll := hst.1
  refine lv_aload_n hx hb dX10_word_0 rfl (lv_at hl 0 rfl) ?_
  refine b_get (C := RX10) (T := TX10) (N := 2) (v := .int (nI i)) hx hb hts in_X10 hown hK (b_at (k := 0) hP rfl) rfl 1 (by decide) q1539 (fun _ h9 => h9) rfl dX10_word_1 ?_
  refine lv_istore_n (lv' := [(1, .int (nI i)), (0, .ref a)]) hx hb dX10_word_4 rfl hl (by decide) rfl (fun ls hl => ?_)
  refine b_new (ci := 13) (fs := [.null, .int 0, .int 0, .int 0]) (C := RJ5) (T := TJ5) (N := 4) hx hb hts in_J5 tyJ5_ok hown q1561 q215 q70 hK hP hD hS hA rfl (fun j hj => by rcases (show j = 0 ∨ j = 1 ∨ j = 2 ∨ j = 3 by omega) with rfl | rfl | rfl | rfl <;> rfl) (by first | omega | (dsimp only; omega)) (by first | omega | (dsimp only; omega)) dX10_word_5 (fun a_1 H hP hD hS => ?_)
  have hP : WP Γ [[(a, .inr (8, [.ref o, .int (nI i)]))], [(a_1, .inr (13, [.null, .int 0, .int 0, .int 0]))]] H := hP
  have hD : WD A [[(a, .inr (8, [.ref o, .int (nI i)]))], [(a_1, .inr (13, [.null, .int 0, .int 0, .int 0]))]] := hD
  refine lv_dup hx hb dX10_word_8 rfl ?_
  refine b_callv (br := [[(a, .inr (8, [.ref o, .int (nI i)]))]]) (b_runI ⟨hx, hb, hml, hown, hts⟩ (mt_SB_init l Γ _ a_1) (lw_meth q218) q70 q1562 q217 rfl rfl rfl 0 (by decide +kernel) ⟨(Nat.le_of_ble_eq_true rfl), (Nat.le_of_ble_eq_true rfl)⟩ (c_pre hP hD hS hA hK hE [1] rfl rfl ro_nil) rfl hl.1 rfl (Nat.le_of_ble_eq_true rfl) dX10_word_9 ⟨(by first | omega | (dsimp only; omega)), (by first | omega | (dsimp only; omega))⟩) hP hD hS hA [1] [0] rfl rfl rfl (fun u_2 H locs hw_2 hP hD hS _ => ?_)
  obtain ⟨y_2, hy_2, rfl⟩ := hw_2
  have hP : WP Γ [[(a_1, .inr (13, [.ref y_2.1, .int 0, .int y_2.2.2.2, .int (nI ([] : List Int32).length)]))], [(y_2.1, .inl (Γ.2.1 1, y_2.2.1, .inl y_2.2.2.1))], [(a, .inr (8, [.ref o, .int (nI i)]))]] H := hP
  have hD : WD A [[(a_1, .inr (13, [.ref y_2.1, .int 0, .int y_2.2.2.2, .int (nI ([] : List Int32).length)]))], [(y_2.1, .inl (Γ.2.1 1, y_2.2.1, .inl y_2.2.2.1))], [(a, .inr (8, [.ref o, .int (nI i)]))]] := hD
  refine lv_astore_n (lv' := [(2, .ref a_1), (1, .int (nI i)), (0, .ref a)]) hx hb dX10_word_12 rfl hl (by decide) rfl (fun ls hl => ?_)
  have hP : WP Γ [[(a, .inr (8, [.ref o, .int (nI i)]))], [(a_1, .inr (13, [.ref y_2.1, .int 0, .int y_2.2.2.2, .int (nI ([] : List Int32).length)]))], [(y_2.1, .inl (Γ.2.1 1, y_2.2.1, .inl y_2.2.2.1))]] H := bP_sel hP [2, 0, 1] rfl
  have hD : WD A [[(a, .inr (8, [.ref o, .int (nI i)]))], [(a_1, .inr (13, [.ref y_2.1, .int 0, .int y_2.2.2.2, .int (nI ([] : List Int32).length)]))], [(y_2.1, .inl (Γ.2.1 1, y_2.2.1, .inl y_2.2.2.1))]] := bD_sel hD [2, 0, 1] rfl rfl
  have hP : WP Γ [[(a, .inr (8, [.ref o, .int (nI i)]))], [(a_1, .inr (13, [.ref y_2.1, .int 0, .int y_2.2.2.2, .int (nI (slL L i i).length)]))], [(y_2.1, .inl (Γ.2.1 1, y_2.2.1, .inl y_2.2.2.1))]] H := by rw [slL_0]; exact hP
  have hD : WD A [[(a, .inr (8, [.ref o, .int (nI i)]))], [(a_1, .inr (13, [.ref y_2.1, .int 0, .int y_2.2.2.2, .int (nI (slL L i i).length)]))], [(y_2.1, .inl (Γ.2.1 1, y_2.2.1, .inl y_2.2.2.1))]] := by rw [slL_0]; exact hD
  have loop_3 : ∀ (fuel : Nat) (j : Nat) (y5 : SBT), L.length + 1 - j < fuel → (i ≤ j) → (j ≤ L.length) → (wE L j = wE L i) → (j ≤ wE L i) → (sbF 0 y5 (slL L i j)) → ∀ (H : Heap) (locs : List Loc) (ls : Array Slot), WP Γ [[(a, .inr (8, [.ref o, .int (nI j)]))], [(a_1, .inr (13, [.ref y5.1, .int 0, .int y5.2.2.2, .int (nI (slL L i j).length)]))], [(y5.1, .inl (Γ.2.1 1, y5.2.1, .inl y5.2.2.1))]] H → WD A [[(a, .inr (8, [.ref o, .int (nI j)]))], [(a_1, .inr (13, [.ref y5.1, .int 0, .int y5.2.2.2, .int (nI (slL L i j).length)]))], [(y5.1, .inl (Γ.2.1 1, y5.2.1, .inl y5.2.2.1))]] → va_S A s.heap H locs → lv_has ls 4 [(2, .ref a_1), (1, .int (nI i)), (0, .ref a)] → W pr_ l ev_ { frames := 6, cells := (wE L i - i + 10), slots := (512 * (wE L i - i) + 1100), locals := 171 } s mi_ ([.ref a] : List Value).toArray below meth cd_ H locs (j - i + 2) (512 * (j - i) + 20) (vx_MQ below QN (XB Γ "DairyBook$Fault" (fun q_ u_ => u_ = [[(q_, .inr (9, [.int (nI i)]))]]) A) ([.ref a] : List Value).toArray s (wE L i - i + 10) (512 * (wE L i - i) + 1100) A) (F0 mi_ 13 ls ([])) := by
    intro fuel
    induction fuel with
    | zero => intro j y5 hfuel; exact absurd hfuel (Nat.not_lt_zero _)
    | succ fuel ih =>
      intro j y5 hfuel hij hjn hwe hjw hsb5 H locs ls hP hD hS hl
      refine lv_aload_n hx hb dX10_word_13 rfl (lv_at hl 2 rfl) ?_
      have hll := hst.1
      refine b_calli (br := [[(a_1, .inr (13, [.ref y5.1, .int 0, .int y5.2.2.2, .int (nI (slL L i j).length)]))], [(y5.1, .inl (Γ.2.1 1, y5.2.1, .inl y5.2.2.1))]]) (b_runV ⟨hx, hb, hml, hown, hts⟩ (mt_Rd_here_1 l Γ _ a o y L z1 z2 j (by assumption) (by omega)) (lw_V q1563 q1565 qs27 q99 q1566) rfl rfl 0 (by decide +kernel) ⟨(Nat.le_of_ble_eq_true rfl), (Nat.le_of_ble_eq_true rfl)⟩ (c_pre hP hD hS hA hK hE [0] rfl rfl (ro_app (ro_pass (ro_sel (ro2 := [[(o, .inr (14, [.ref y.1, .int 1, .int z1, .int z2]))]]) hRo [0] rfl) hD hS hA [0] rfl) (ro_pass (ro_sel (ro2 := [[(y.1, .inl (Γ.2.1 1, 2 * L.length, .inl y.2))]]) hRo [1] rfl) hD hS hA [0] rfl))) (recv_at (q := (RX10, TX10, 2)) hK (b_at (k := 0) hP rfl) rfl) rfl hl.1 rfl (Nat.le_of_ble_eq_true rfl) dX10_word_14 ⟨(by first | omega | (dsimp only; omega)), (by first | omega | (dsimp only; omega))⟩) hP hD hS hA [0] [1, 2] rfl rfl rfl (fun r_4 u_4 H locs hw_4 hP hD hS _ => ?_)
      obtain ⟨rfl, rfl⟩ := hw_4
      have hP : WP Γ [[(a, .inr (8, [.ref o, .int (nI j)]))], [(a_1, .inr (13, [.ref y5.1, .int 0, .int y5.2.2.2, .int (nI (slL L i j).length)]))], [(y5.1, .inl (Γ.2.1 1, y5.2.1, .inl y5.2.2.1))]] H := hP
      have hD : WD A [[(a, .inr (8, [.ref o, .int (nI j)]))], [(a_1, .inr (13, [.ref y5.1, .int 0, .int y5.2.2.2, .int (nI (slL L i j).length)]))], [(y5.1, .inl (Γ.2.1 1, y5.2.1, .inl y5.2.2.1))]] := hD
      refine lv_bipush (v := 97) hx hb dX10_word_17 (by decide) ?_
      refine lv_bipush (v := 122) hx hb dX10_word_19 (by decide) ?_
      refine b_calli (br := [[(a, .inr (8, [.ref o, .int (nI j)]))], [(a_1, .inr (13, [.ref y5.1, .int 0, .int y5.2.2.2, .int (nI (slL L i j).length)]))], [(y5.1, .inl (Γ.2.1 1, y5.2.1, .inl y5.2.2.1))]]) (b_runSN ⟨hx, hb, hml, hown, hts⟩ (mt_DB_in l Γ _ (rdH L j) 97 122) (hE.1.1 _ q1569 rfl) q807 q62 q808 rfl rfl 3 ⟨by decide, by decide, by decide +kernel⟩ ⟨(Nat.le_of_ble_eq_true rfl), (Nat.le_of_ble_eq_true rfl)⟩ (c_pre hP hD hS hA hK hE [] rfl rfl ro_nil) rfl hl.1 rfl (Nat.le_of_ble_eq_true rfl) dX10_word_21 ⟨(by first | omega | (dsimp only; omega)), (by first | omega | (dsimp only; omega))⟩) hP hD hS hA [] [0, 1, 2] rfl rfl rfl (fun r_5 u_5 H locs hw_5 hP hD hS _ => ?_)
      obtain ⟨rfl, rfl⟩ := hw_5
      have hP : WP Γ [[(a, .inr (8, [.ref o, .int (nI j)]))], [(a_1, .inr (13, [.ref y5.1, .int 0, .int y5.2.2.2, .int (nI (slL L i j).length)]))], [(y5.1, .inl (Γ.2.1 1, y5.2.1, .inl y5.2.2.1))]] H := hP
      have hD : WD A [[(a, .inr (8, [.ref o, .int (nI j)]))], [(a_1, .inr (13, [.ref y5.1, .int 0, .int y5.2.2.2, .int (nI (slL L i j).length)]))], [(y5.1, .inl (Γ.2.1 1, y5.2.1, .inl y5.2.2.1))]] := hD
      refine lv_if_eq (tgt := 50) hx hb dX10_word_24 (by decide) (fun c_6 => ?_) (fun c_6 => ?_)
      · -- 24 taken
        have he9 : j = wE L i := by rw [← hwe]; exact (wE_stop c_6).symm
        subst he9
        refine lv_aload_n hx hb dX10_word_50 rfl (lv_at hl 0 rfl) ?_
        refine b_callq (br := [[(a, .inr (8, [.ref o, .int (nI (wE L i))]))]]) (b_runV ⟨hx, hb, hml, hown, hts⟩ (mt_SB_toString_0 l Γ _ a_1 y5 (slL L i (wE L i)) hsb5) (lw_V q1571 q709 q710 q70 q711) rfl rfl 0 (by decide +kernel) ⟨(Nat.le_of_ble_eq_true rfl), (Nat.le_of_ble_eq_true rfl)⟩ (c_pre hP hD hS hA hK hE [1, 2] rfl rfl ro_nil) (recv_at (q := (RJ5, TJ5, 4)) hK (b_at (k := 1) hP rfl) rfl) rfl hl.1 rfl (Nat.le_of_ble_eq_true rfl) dX10_word_51 ⟨(by first | omega | (dsimp only; omega)), (by first | omega | (dsimp only; omega))⟩) hP hD hS hA [1, 2] [0] rfl rfl rfl (fun r_7 u_7 H locs hw_7 hP hD hS _ => ?_)
        obtain ⟨o_7, y_7, hs_7, rfl, rfl⟩ := hw_7
        have hP : WP Γ [[(o_7, .inr (14, [.ref y_7.1, .int 0, .int 0, .int 0]))], [(y_7.1, .inl (Γ.2.1 1, (slL L i (wE L i)).length, .inl y_7.2))], [(a_1, .inr (13, [.ref y5.1, .int 0, .int y5.2.2.2, .int (nI (slL L i (wE L i)).length)]))], [(y5.1, .inl (Γ.2.1 1, y5.2.1, .inl y5.2.2.1))], [(a, .inr (8, [.ref o, .int (nI (wE L i))]))]] H := hP
        have hD : WD A [[(o_7, .inr (14, [.ref y_7.1, .int 0, .int 0, .int 0]))], [(y_7.1, .inl (Γ.2.1 1, (slL L i (wE L i)).length, .inl y_7.2))], [(a_1, .inr (13, [.ref y5.1, .int 0, .int y5.2.2.2, .int (nI (slL L i (wE L i)).length)]))], [(y5.1, .inl (Γ.2.1 1, y5.2.1, .inl y5.2.2.1))], [(a, .inr (8, [.ref o, .int (nI (wE L i))]))]] := hD
        refine W.eq (g2 := F0 mi_ 54 ls ([.ref o_7])) rfl ?_
        refine lv_astore_n (lv' := [(3, .ref o_7), (2, .ref a_1), (1, .int (nI i)), (0, .ref a)]) hx hb dX10_word_54 rfl hl (by decide) rfl (fun ls hl => ?_)
        refine lv_aload_n hx hb dX10_word_55 rfl (lv_at hl 0 rfl) ?_
        refine b_calli (br := [[(a_1, .inr (13, [.ref y5.1, .int 0, .int y5.2.2.2, .int (nI (slL L i (wE L i)).length)]))], [(y5.1, .inl (Γ.2.1 1, y5.2.1, .inl y5.2.2.1))], [(a, .inr (8, [.ref o, .int (nI (wE L i))]))]]) (b_runS ⟨hx, hb, hml, hown, hts⟩ (mt_Rd_nof l Γ _ o_7 y_7 (slL L i (wE L i)) 0 0 hs_7 (Or.inr ⟨rfl, rfl⟩)) (lw_S q1572 q1573 q99 q1574) rfl rfl 1 (by decide +kernel) ⟨(Nat.le_of_ble_eq_true rfl), (Nat.le_of_ble_eq_true rfl)⟩ (c_pre hP hD hS hA hK hE [0, 1] rfl rfl ro_nil) rfl hl.1 rfl (Nat.le_of_ble_eq_true rfl) dX10_word_56 ⟨(by first | omega | (dsimp only; omega)), (by first | omega | (dsimp only; omega))⟩) hP hD hS hA [0, 1] [2, 3, 4] rfl rfl rfl (fun r_8 u_8 H locs hw_8 hP hD hS _ => ?_)
        obtain ⟨h2_8, z2_8, hh2_8, rfl, rfl⟩ := hw_8
        have hP : WP Γ [[(o_7, .inr (14, [.ref y_7.1, .int 0, .int h2_8, .int z2_8]))], [(y_7.1, .inl (Γ.2.1 1, (slL L i (wE L i)).length, .inl y_7.2))], [(a_1, .inr (13, [.ref y5.1, .int 0, .int y5.2.2.2, .int (nI (slL L i (wE L i)).length)]))], [(y5.1, .inl (Γ.2.1 1, y5.2.1, .inl y5.2.2.1))], [(a, .inr (8, [.ref o, .int (nI (wE L i))]))]] H := hP
        have hD : WD A [[(o_7, .inr (14, [.ref y_7.1, .int 0, .int h2_8, .int z2_8]))], [(y_7.1, .inl (Γ.2.1 1, (slL L i (wE L i)).length, .inl y_7.2))], [(a_1, .inr (13, [.ref y5.1, .int 0, .int y5.2.2.2, .int (nI (slL L i (wE L i)).length)]))], [(y5.1, .inl (Γ.2.1 1, y5.2.1, .inl y5.2.2.1))], [(a, .inr (8, [.ref o, .int (nI (wE L i))]))]] := hD
        refine lv_if_ne (tgt := 71) hx hb dX10_word_59 (by decide) (fun c_9 => ?_) (fun c_9 => ?_)
        · -- 59 taken
          exact absurd hx9 c_9
        · -- 59 not taken
          refine b_newF hx hb hts hown q1646 hK hP hD hS hA (by first | omega | (dsimp only; omega)) (by first | omega | (dsimp only; omega)) dX10_word_62 (fun a_10 H hP hD hS hraw_a_10 => ?_)
          have hP : WP Γ [[(o_7, .inr (14, [.ref y_7.1, .int 0, .int h2_8, .int z2_8]))], [(y_7.1, .inl (Γ.2.1 1, (slL L i (wE L i)).length, .inl y_7.2))], [(a_1, .inr (13, [.ref y5.1, .int 0, .int y5.2.2.2, .int (nI (slL L i (wE L i)).length)]))], [(y5.1, .inl (Γ.2.1 1, y5.2.1, .inl y5.2.2.1))], [(a, .inr (8, [.ref o, .int (nI (wE L i))]))], [(a_10, .inr (9, [.int 0]))]] H := hP
          have hD : WD A [[(o_7, .inr (14, [.ref y_7.1, .int 0, .int h2_8, .int z2_8]))], [(y_7.1, .inl (Γ.2.1 1, (slL L i (wE L i)).length, .inl y_7.2))], [(a_1, .inr (13, [.ref y5.1, .int 0, .int y5.2.2.2, .int (nI (slL L i (wE L i)).length)]))], [(y5.1, .inl (Γ.2.1 1, y5.2.1, .inl y5.2.2.1))], [(a, .inr (8, [.ref o, .int (nI (wE L i))]))], [(a_10, .inr (9, [.int 0]))]] := hD
          refine lv_dup hx hb dX10_word_65 rfl ?_
          refine lv_iload_n hx hb dX10_word_66 rfl (lv_at hl 2 rfl) ?_
          refine b_callv (br := [[(o_7, .inr (14, [.ref y_7.1, .int 0, .int h2_8, .int z2_8]))], [(y_7.1, .inl (Γ.2.1 1, (slL L i (wE L i)).length, .inl y_7.2))], [(a_1, .inr (13, [.ref y5.1, .int 0, .int y5.2.2.2, .int (nI (slL L i (wE L i)).length)]))], [(y5.1, .inl (Γ.2.1 1, y5.2.1, .inl y5.2.2.1))], [(a, .inr (8, [.ref o, .int (nI (wE L i))]))]]) (b_runIF ⟨hx, hb, hml, hown, hts⟩ (mt_Fl_init l Γ _ a_10 (nI i) hnt) q1655 rfl rfl ⟨(Nat.le_of_ble_eq_true rfl), (Nat.le_of_ble_eq_true rfl)⟩ (cf_pre (c_pre hP hD hS hA hK hE [5] rfl rfl ro_nil) hraw_a_10) hl.1 rfl (Nat.le_of_ble_eq_true rfl) dX10_word_67 ⟨(by first | omega | (dsimp only; omega)), (by first | omega | (dsimp only; omega))⟩) hP hD hS hA [5] [0, 1, 2, 3, 4] rfl rfl rfl (fun u_11 H locs hw_11 hP hD hS _ => ?_)
          obtain rfl := hw_11
          have hP : WP Γ [[(a_10, .inr (9, [.int (nI i)]))], [(o_7, .inr (14, [.ref y_7.1, .int 0, .int h2_8, .int z2_8]))], [(y_7.1, .inl (Γ.2.1 1, (slL L i (wE L i)).length, .inl y_7.2))], [(a_1, .inr (13, [.ref y5.1, .int 0, .int y5.2.2.2, .int (nI (slL L i (wE L i)).length)]))], [(y5.1, .inl (Γ.2.1 1, y5.2.1, .inl y5.2.2.1))], [(a, .inr (8, [.ref o, .int (nI (wE L i))]))]] H := hP
          have hD : WD A [[(a_10, .inr (9, [.int (nI i)]))], [(o_7, .inr (14, [.ref y_7.1, .int 0, .int h2_8, .int z2_8]))], [(y_7.1, .inl (Γ.2.1 1, (slL L i (wE L i)).length, .inl y_7.2))], [(a_1, .inr (13, [.ref y5.1, .int 0, .int y5.2.2.2, .int (nI (slL L i (wE L i)).length)]))], [(y5.1, .inl (Γ.2.1 1, y5.2.1, .inl y5.2.2.1))], [(a, .inr (8, [.ref o, .int (nI (wE L i))]))]] := hD
          refine vx_athrow hx hb dX10_word_70 ?_
          obtain ⟨ce_12, hce_12, hcv_12, hcl_12⟩ := fl_ce hK (b_at (k := 0) hP rfl)
          have hP : WP Γ [[(a_10, .inr (9, [.int (nI i)]))]] H := bP_sel hP [0] rfl
          have hD : WD A [[(a_10, .inr (9, [.int (nI i)]))]] := bD_sel hD [0] rfl rfl
          exact b_outx hlocks (fun x hx9 => (ht9 x hx9).elim) hP hD hS hce_12 hcv_12 hcl_12 (by first | with_reducible rfl | (simp [c_6, c_9]; done) | rfl) (by first | omega | (dsimp only; omega)) (by first | omega | (dsimp only; omega))
      · -- 24 not taken
        have haz : ¬ inC (rdH L j) 97 122 = 0 := c_6
        have hjl := rdH_in (by decide) haz
        have hsl : (slL L i j).length ≤ 50 := by rw [slL_len hjn]; omega
        refine lv_aload_n hx hb dX10_word_27 rfl (lv_at hl 0 rfl) ?_
        refine lv_aload_n hx hb dX10_word_28 rfl (lv_at hl 2 rfl) ?_
        refine b_calli (br := [[(a_1, .inr (13, [.ref y5.1, .int 0, .int y5.2.2.2, .int (nI (slL L i j).length)]))], [(y5.1, .inl (Γ.2.1 1, y5.2.1, .inl y5.2.2.1))]]) (b_runV ⟨hx, hb, hml, hown, hts⟩ (mt_Rd_here_1 l Γ _ a o y L z1 z2 j (by assumption) (by omega)) (lw_V q1563 q1565 qs27 q99 q1566) rfl rfl 0 (by decide +kernel) ⟨(Nat.le_of_ble_eq_true rfl), (Nat.le_of_ble_eq_true rfl)⟩ (c_pre hP hD hS hA hK hE [0] rfl rfl (ro_app (ro_pass (ro_sel (ro2 := [[(o, .inr (14, [.ref y.1, .int 1, .int z1, .int z2]))]]) hRo [0] rfl) hD hS hA [0] rfl) (ro_pass (ro_sel (ro2 := [[(y.1, .inl (Γ.2.1 1, 2 * L.length, .inl y.2))]]) hRo [1] rfl) hD hS hA [0] rfl))) (recv_at (q := (RX10, TX10, 2)) hK (b_at (k := 0) hP rfl) rfl) rfl hl.1 rfl (Nat.le_of_ble_eq_true rfl) dX10_word_29 ⟨(by first | omega | (dsimp only; omega)), (by first | omega | (dsimp only; omega))⟩) hP hD hS hA [0] [1, 2] rfl rfl rfl (fun r_13 u_13 H locs hw_13 hP hD hS _ => ?_)
        obtain ⟨rfl, rfl⟩ := hw_13
        have hP : WP Γ [[(a, .inr (8, [.ref o, .int (nI j)]))], [(a_1, .inr (13, [.ref y5.1, .int 0, .int y5.2.2.2, .int (nI (slL L i j).length)]))], [(y5.1, .inl (Γ.2.1 1, y5.2.1, .inl y5.2.2.1))]] H := hP
        have hD : WD A [[(a, .inr (8, [.ref o, .int (nI j)]))], [(a_1, .inr (13, [.ref y5.1, .int 0, .int y5.2.2.2, .int (nI (slL L i j).length)]))], [(y5.1, .inl (Γ.2.1 1, y5.2.1, .inl y5.2.2.1))]] := hD
        refine lv_i2c hx hb dX10_word_32 rfl ?_
        refine b_top (show ((rdH L j).toUInt32 % 65536).toInt32 = rdH L j from (az_ok haz).2.2.1) ?_
        refine b_callq (br := [[(a, .inr (8, [.ref o, .int (nI j)]))]]) (b_runV ⟨hx, hb, hml, hown, hts⟩ (mt_SB_appc l Γ _ a_1 y5 (slL L i j) (rdH L j) hsb5 (by omega) (az_ok haz).1 (az_ok haz).2.1) (lw_V q1570 q1511 q1512 q70 q1513) rfl rfl 1 (by decide +kernel) ⟨(Nat.le_of_ble_eq_true rfl), (Nat.le_of_ble_eq_true rfl)⟩ (c_pre hP hD hS hA hK hE [1, 2] rfl rfl ro_nil) (recv_at (q := (RJ5, TJ5, 4)) hK (b_at (k := 1) hP rfl) rfl) rfl hl.1 rfl (Nat.le_of_ble_eq_true rfl) dX10_word_33 ⟨(by first | omega | (dsimp only; omega)), (by first | omega | (dsimp only; omega))⟩) hP hD hS hA [1, 2] [0] rfl rfl rfl (fun r_14 u_14 H locs hw_14 hP hD hS _ => ?_)
        obtain ⟨y_14, hy_14, rfl, rfl⟩ := hw_14
        have hP : WP Γ [[(a_1, .inr (13, [.ref y_14.1, .int 0, .int y_14.2.2.2, .int (nI ((slL L i j) ++ [(rdH L j)]).length)]))], [(y_14.1, .inl (Γ.2.1 1, y_14.2.1, .inl y_14.2.2.1))], [(a, .inr (8, [.ref o, .int (nI j)]))]] H := hP
        have hD : WD A [[(a_1, .inr (13, [.ref y_14.1, .int 0, .int y_14.2.2.2, .int (nI ((slL L i j) ++ [(rdH L j)]).length)]))], [(y_14.1, .inl (Γ.2.1 1, y_14.2.1, .inl y_14.2.2.1))], [(a, .inr (8, [.ref o, .int (nI j)]))]] := hD
        refine W.eq (g2 := F0 mi_ 36 ls ([.ref a_1])) rfl ?_
        refine lv_pop hx hb dX10_word_36 rfl ?_
        refine lv_aload_n hx hb dX10_word_37 rfl (lv_at hl 2 rfl) ?_
        refine lv_dup hx hb dX10_word_38 rfl ?_
        refine b_get (C := RX10) (T := TX10) (N := 2) (v := .int (nI j)) hx hb hts in_X10 hown hK (b_at (k := 2) hP rfl) rfl 1 (by decide) q1539 (fun _ h9 => h9) rfl dX10_word_39 ?_
        refine lv_iconst (v := 1) hx hb dX10_word_42 (by decide) ?_
        refine lv_iadd hx hb dX10_word_43 ?_
        refine b_top (nI_addE (a := j) (b := 1) (c := j + 1) rfl rfl (by first | omega | rfl)) ?_
        refine b_put (C := RX10) (T := TX10) (N := 2) (ty := .int) (v := .int (nI (j + 1))) hx hb hts in_X10 tyX10_ok nmX10 hown hK hP hD hS 2 rfl rfl 1 (by decide) q1539 (fun _ h9 => h9) rfl (by decide +kernel) rfl rfl (Nat.le_of_ble_eq_true rfl) dX10_word_44 (fun H locs hP hD hS => ?_)
        have hP : WP Γ [[(a_1, .inr (13, [.ref y_14.1, .int 0, .int y_14.2.2.2, .int (nI ((slL L i j) ++ [(rdH L j)]).length)]))], [(y_14.1, .inl (Γ.2.1 1, y_14.2.1, .inl y_14.2.2.1))], [(a, .inr (8, [.ref o, .int (nI (j + 1))]))]] H := hP
        have hD : WD A [[(a_1, .inr (13, [.ref y_14.1, .int 0, .int y_14.2.2.2, .int (nI ((slL L i j) ++ [(rdH L j)]).length)]))], [(y_14.1, .inl (Γ.2.1 1, y_14.2.1, .inl y_14.2.2.1))], [(a, .inr (8, [.ref o, .int (nI (j + 1))]))]] := hD
        refine lv_goto (tgt := 13) hx hb dX10_word_47 (by decide) ?_
        have hP : WP Γ [[(a, .inr (8, [.ref o, .int (nI (j + 1))]))], [(a_1, .inr (13, [.ref y_14.1, .int 0, .int y_14.2.2.2, .int (nI ((slL L i j) ++ [(rdH L j)]).length)]))], [(y_14.1, .inl (Γ.2.1 1, y_14.2.1, .inl y_14.2.2.1))]] H := bP_sel hP [2, 0, 1] rfl
        have hD : WD A [[(a, .inr (8, [.ref o, .int (nI (j + 1))]))], [(a_1, .inr (13, [.ref y_14.1, .int 0, .int y_14.2.2.2, .int (nI ((slL L i j) ++ [(rdH L j)]).length)]))], [(y_14.1, .inl (Γ.2.1 1, y_14.2.1, .inl y_14.2.2.1))]] := bD_sel hD [2, 0, 1] rfl rfl
        have eS : slL L i j ++ [rdH L j] = slL L i (j + 1) := by rw [slL_s hij (rdH_in (by decide) haz), (az_ok haz).2.2.2]
        have hP : WP Γ [[(a, .inr (8, [.ref o, .int (nI (j + 1))]))], [(a_1, .inr (13, [.ref y_14.1, .int 0, .int y_14.2.2.2, .int (nI (slL L i (j + 1)).length)]))], [(y_14.1, .inl (Γ.2.1 1, y_14.2.1, .inl y_14.2.2.1))]] H := by rw [← eS]; exact hP
        have hD : WD A [[(a, .inr (8, [.ref o, .int (nI (j + 1))]))], [(a_1, .inr (13, [.ref y_14.1, .int 0, .int y_14.2.2.2, .int (nI (slL L i (j + 1)).length)]))], [(y_14.1, .inl (Γ.2.1 1, y_14.2.1, .inl y_14.2.2.1))]] := by rw [← eS]; exact hD
        refine W.widen (k := ((j + 1) - i + 2)) (n := (512 * ((j + 1) - i) + 20)) (by omega) (by omega) ?_
        exact ih (j + 1) y_14 (by omega) (by omega) (by omega) (by rw [wE_step haz]; exact hwe) (by rw [← hwe, ← wE_step haz]; exact (wE_in (by omega)).1) (by rw [← eS]; exact hy_14) _ _ _ hP hD hS (lv_sub hl [0, 1, 2] rfl)
  refine W.widen (k := (i - i + 2)) (n := (512 * (i - i) + 20)) (by omega) (by omega) ?_
  exact loop_3 ((L.length + 1 - i) + 1) i y_2 (Nat.lt_succ_self _) (Nat.le_refl _) hiL rfl (wE_in hiL).1 (by rw [slL_0]; exact hy_2) _ _ _ hP hD hS (lv_sub hl [0, 1, 2] rfl)
set_option maxHeartbeats 4000000 in
set_option maxRecDepth 100000 in
theorem mt_Rd_word_ok_1 (l : Launch) (Γ : GE) (sz : Nat) (a : Nat) (o : Nat) (y : SST) (L : List Int32) (z1 : Int32) (z2 : Int32) (i : Nat) (hst : stU y L) (hiL : i ≤ L.length) (hL5 : L.length ≤ 50) (hw9 : ¬ nmW (slL L i (wE L i)) = 0) : KM l yX10_word cX10_word 4 (some (FieldType.object "java/lang/String")) Γ 6 171 (wE L i - i + 10) (512 * (wE L i - i) + 1100) [.ref a] [[(a, .inr (8, [.ref o, .int (nI i)]))]] [[(o, .inr (14, [.ref y.1, .int 1, .int z1, .int z2]))], [(y.1, .inl (Γ.2.1 1, 2 * L.length, .inl y.2))]] sz (Qq Γ (fun r_ u_ => ∃ o2 : Nat, ∃ y2 : SST, ∃ h2 : Int32, ∃ z2_ : Int32, stF y2 (slL L i (wE L i)) ∧ (h2 = strH (slL L i (wE L i)) ∨ h2 = 0 ∧ z2_ = 0) ∧ r_ = some o2 ∧ u_ = [[(a, .inr (8, [.ref o, .int (nI (wE L i))]))], [(o2, .inr (14, [.ref y2.1, .int 0, .int h2, .int z2_]))], [(y2.1, .inl (Γ.2.1 1, (slL L i (wE L i)).length, .inl y2.2))]])) := by
  refine K_intro (by decide) (Nat.le_of_ble_eq_true rfl) ?_
  intro pr_ ev_ s mi_ below meth cd_ A ls hx hb hr hml hown hts hlocks hname hK hE hRo hP hD hA hS hsz hl
  have hl : lv_has ls 4 [(0, .ref a)] := hl
  have hown : s.vm.findClass RX10 = some mi_.cls := hown
  have hll := hst.1
  refine lv_aload_n hx hb dX10_word_0 rfl (lv_at hl 0 rfl) ?_
  refine b_get (C := RX10) (T := TX10) (N := 2) (v := .int (nI i)) hx hb hts in_X10 hown hK (b_at (k := 0) hP rfl) rfl 1 (by decide) q1539 (fun _ h9 => h9) rfl dX10_word_1 ?_
  refine lv_istore_n (lv' := [(1, .int (nI i)), (0, .ref a)]) hx hb dX10_word_4 rfl hl (by decide) rfl (fun ls hl => ?_)
  refine b_new (ci := 13) (fs := [.null, .int 0, .int 0, .int 0]) (C := RJ5) (T := TJ5) (N := 4) hx hb hts in_J5 tyJ5_ok hown q1561 q215 q70 hK hP hD hS hA rfl (fun j hj => by rcases (show j = 0 ∨ j = 1 ∨ j = 2 ∨ j = 3 by omega) with rfl | rfl | rfl | rfl <;> rfl) (by first | omega | (dsimp only; omega)) (by first | omega | (dsimp only; omega)) dX10_word_5 (fun a_1 H hP hD hS => ?_)
  have hP : WP Γ [[(a, .inr (8, [.ref o, .int (nI i)]))], [(a_1, .inr (13, [.null, .int 0, .int 0, .int 0]))]] H := hP
  have hD : WD A [[(a, .inr (8, [.ref o, .int (nI i)]))], [(a_1, .inr (13, [.null, .int 0, .int 0, .int 0]))]] := hD
  refine lv_dup hx hb dX10_word_8 rfl ?_
  refine b_callv (br := [[(a, .inr (8, [.ref o, .int (nI i)]))]]) (b_runI ⟨hx, hb, hml, hown, hts⟩ (mt_SB_init l Γ _ a_1) (lw_meth q218) q70 q1562 q217 rfl rfl rfl 0 (by decide +kernel) ⟨(Nat.le_of_ble_eq_true rfl), (Nat.le_of_ble_eq_true rfl)⟩ (c_pre hP hD hS hA hK hE [1] rfl rfl ro_nil) rfl hl.1 rfl (Nat.le_of_ble_eq_true rfl) dX10_word_9 ⟨(by first | omega | (dsimp only; omega)), (by first | omega | (dsimp only; omega))⟩) hP hD hS hA [1] [0] rfl rfl rfl (fun u_2 H locs hw_2 hP hD hS _ => ?_)
  obtain ⟨y_2, hy_2, rfl⟩ := hw_2
  have hP : WP Γ [[(a_1, .inr (13, [.ref y_2.1, .int 0, .int y_2.2.2.2, .int (nI ([] : List Int32).length)]))], [(y_2.1, .inl (Γ.2.1 1, y_2.2.1, .inl y_2.2.2.1))], [(a, .inr (8, [.ref o, .int (nI i)]))]] H := hP
  have hD : WD A [[(a_1, .inr (13, [.ref y_2.1, .int 0, .int y_2.2.2.2, .int (nI ([] : List Int32).length)]))], [(y_2.1, .inl (Γ.2.1 1, y_2.2.1, .inl y_2.2.2.1))], [(a, .inr (8, [.ref o, .int (nI i)]))]] := hD
  refine lv_astore_n (lv' := [(2, .ref a_1), (1, .int (nI i)), (0, .ref a)]) hx hb dX10_word_12 rfl hl (by decide) rfl (fun ls hl => ?_)
  have hP : WP Γ [[(a, .inr (8, [.ref o, .int (nI i)]))], [(a_1, .inr (13, [.ref y_2.1, .int 0, .int y_2.2.2.2, .int (nI ([] : List Int32).length)]))], [(y_2.1, .inl (Γ.2.1 1, y_2.2.1, .inl y_2.2.2.1))]] H := bP_sel hP [2, 0, 1] rfl
  have hD : WD A [[(a, .inr (8, [.ref o, .int (nI i)]))], [(a_1, .inr (13, [.ref y_2.1, .int 0, .int y_2.2.2.2, .int (nI ([] : List Int32).length)]))], [(y_2.1, .inl (Γ.2.1 1, y_2.2.1, .inl y_2.2.2.1))]] := bD_sel hD [2, 0, 1] rfl rfl
  have hP : WP Γ [[(a, .inr (8, [.ref o, .int (nI i)]))], [(a_1, .inr (13, [.ref y_2.1, .int 0, .int y_2.2.2.2, .int (nI (slL L i i).length)]))], [(y_2.1, .inl (Γ.2.1 1, y_2.2.1, .inl y_2.2.2.1))]] H := by rw [slL_0]; exact hP
  have hD : WD A [[(a, .inr (8, [.ref o, .int (nI i)]))], [(a_1, .inr (13, [.ref y_2.1, .int 0, .int y_2.2.2.2, .int (nI (slL L i i).length)]))], [(y_2.1, .inl (Γ.2.1 1, y_2.2.1, .inl y_2.2.2.1))]] := by rw [slL_0]; exact hD
  have loop_3 : ∀ (fuel : Nat) (j : Nat) (y5 : SBT), L.length + 1 - j < fuel → (i ≤ j) → (j ≤ L.length) → (wE L j = wE L i) → (j ≤ wE L i) → (sbF 0 y5 (slL L i j)) → ∀ (H : Heap) (locs : List Loc) (ls : Array Slot), WP Γ [[(a, .inr (8, [.ref o, .int (nI j)]))], [(a_1, .inr (13, [.ref y5.1, .int 0, .int y5.2.2.2, .int (nI (slL L i j).length)]))], [(y5.1, .inl (Γ.2.1 1, y5.2.1, .inl y5.2.2.1))]] H → WD A [[(a, .inr (8, [.ref o, .int (nI j)]))], [(a_1, .inr (13, [.ref y5.1, .int 0, .int y5.2.2.2, .int (nI (slL L i j).length)]))], [(y5.1, .inl (Γ.2.1 1, y5.2.1, .inl y5.2.2.1))]] → va_S A s.heap H locs → lv_has ls 4 [(2, .ref a_1), (1, .int (nI i)), (0, .ref a)] → W pr_ l ev_ { frames := 6, cells := (wE L i - i + 10), slots := (512 * (wE L i - i) + 1100), locals := 171 } s mi_ ([.ref a] : List Value).toArray below meth cd_ H locs (j - i + 2) (512 * (j - i) + 20) (MQ below (Qq Γ (fun r_ u_ => ∃ o2 : Nat, ∃ y2 : SST, ∃ h2 : Int32, ∃ z2_ : Int32, stF y2 (slL L i (wE L i)) ∧ (h2 = strH (slL L i (wE L i)) ∨ h2 = 0 ∧ z2_ = 0) ∧ r_ = some o2 ∧ u_ = [[(a, .inr (8, [.ref o, .int (nI (wE L i))]))], [(o2, .inr (14, [.ref y2.1, .int 0, .int h2, .int z2_]))], [(y2.1, .inl (Γ.2.1 1, (slL L i (wE L i)).length, .inl y2.2))]]) A) ([.ref a] : List Value).toArray s (wE L i - i + 10) (512 * (wE L i - i) + 1100) A) (F0 mi_ 13 ls ([])) := by
    intro fuel
    induction fuel with
    | zero => intro j y5 hfuel; exact absurd hfuel (Nat.not_lt_zero _)
    | succ fuel ih =>
      intro j y5 hfuel hij hjn hwe hjw hsb5 H locs ls hP hD hS hl
      refine lv_aload_n hx hb dX10_word_13 rfl (lv_at hl 2 rfl) ?_
      have hll := hst.1
      refine b_calli (br := [[(a_1, .inr (13, [.ref y5.1, .int 0, .int y5.2.2.2, .int (nI (slL L i j).length)]))], [(y5.1, .inl (Γ.2.1 1, y5.2.1, .inl y5.2.2.1))]]) (b_runV ⟨hx, hb, hml, hown, hts⟩ (mt_Rd_here_1 l Γ _ a o y L z1 z2 j (by assumption) (by omega)) (lw_V q1563 q1565 qs27 q99 q1566) rfl rfl 0 (by decide +kernel) ⟨(Nat.le_of_ble_eq_true rfl), (Nat.le_of_ble_eq_true rfl)⟩ (c_pre hP hD hS hA hK hE [0] rfl rfl (ro_app (ro_pass (ro_sel (ro2 := [[(o, .inr (14, [.ref y.1, .int 1, .int z1, .int z2]))]]) hRo [0] rfl) hD hS hA [0] rfl) (ro_pass (ro_sel (ro2 := [[(y.1, .inl (Γ.2.1 1, 2 * L.length, .inl y.2))]]) hRo [1] rfl) hD hS hA [0] rfl))) (recv_at (q := (RX10, TX10, 2)) hK (b_at (k := 0) hP rfl) rfl) rfl hl.1 rfl (Nat.le_of_ble_eq_true rfl) dX10_word_14 ⟨(by first | omega | (dsimp only; omega)), (by first | omega | (dsimp only; omega))⟩) hP hD hS hA [0] [1, 2] rfl rfl rfl (fun r_4 u_4 H locs hw_4 hP hD hS _ => ?_)
      obtain ⟨rfl, rfl⟩ := hw_4
      have hP : WP Γ [[(a, .inr (8, [.ref o, .int (nI j)]))], [(a_1, .inr (13, [.ref y5.1, .int 0, .int y5.2.2.2, .int (nI (slL L i j).length)]))], [(y5.1, .inl (Γ.2.1 1, y5.2.1, .inl y5.2.2.1))]] H := hP
      have hD : WD A [[(a, .inr (8, [.ref o, .int (nI j)]))], [(a_1, .inr (13, [.ref y5.1, .int 0, .int y5.2.2.2, .int (nI (slL L i j).length)]))], [(y5.1, .inl (Γ.2.1 1, y5.2.1, .inl y5.2.2.1))]] := hD
      refine lv_bipush (v := 97) hx hb dX10_word_17 (by decide) ?_
      refine lv_bipush (v := 122) hx hb dX10_word_19 (by decide) ?_
      refine b_calli (br := [[(a, .inr (8, [.ref o, .int (nI j)]))], [(a_1, .inr (13, [.ref y5.1, .int 0, .int y5.2.2.2, .int (nI (slL L i j).length)]))], [(y5.1, .inl (Γ.2.1 1, y5.2.1, .inl y5.2.2.1))]]) (b_runSN ⟨hx, hb, hml, hown, hts⟩ (mt_DB_in l Γ _ (rdH L j) 97 122) (hE.1.1 _ q1569 rfl) q807 q62 q808 rfl rfl 3 ⟨by decide, by decide, by decide +kernel⟩ ⟨(Nat.le_of_ble_eq_true rfl), (Nat.le_of_ble_eq_true rfl)⟩ (c_pre hP hD hS hA hK hE [] rfl rfl ro_nil) rfl hl.1 rfl (Nat.le_of_ble_eq_true rfl) dX10_word_21 ⟨(by first | omega | (dsimp only; omega)), (by first | omega | (dsimp only; omega))⟩) hP hD hS hA [] [0, 1, 2] rfl rfl rfl (fun r_5 u_5 H locs hw_5 hP hD hS _ => ?_)
      obtain ⟨rfl, rfl⟩ := hw_5
      have hP : WP Γ [[(a, .inr (8, [.ref o, .int (nI j)]))], [(a_1, .inr (13, [.ref y5.1, .int 0, .int y5.2.2.2, .int (nI (slL L i j).length)]))], [(y5.1, .inl (Γ.2.1 1, y5.2.1, .inl y5.2.2.1))]] H := hP
      have hD : WD A [[(a, .inr (8, [.ref o, .int (nI j)]))], [(a_1, .inr (13, [.ref y5.1, .int 0, .int y5.2.2.2, .int (nI (slL L i j).length)]))], [(y5.1, .inl (Γ.2.1 1, y5.2.1, .inl y5.2.2.1))]] := hD
      refine lv_if_eq (tgt := 50) hx hb dX10_word_24 (by decide) (fun c_6 => ?_) (fun c_6 => ?_)
      · -- 24 taken
        have he9 : j = wE L i := by rw [← hwe]; exact (wE_stop c_6).symm
        subst he9
        refine lv_aload_n hx hb dX10_word_50 rfl (lv_at hl 0 rfl) ?_
        refine b_callq (br := [[(a, .inr (8, [.ref o, .int (nI (wE L i))]))]]) (b_runV ⟨hx, hb, hml, hown, hts⟩ (mt_SB_toString_0 l Γ _ a_1 y5 (slL L i (wE L i)) hsb5) (lw_V q1571 q709 q710 q70 q711) rfl rfl 0 (by decide +kernel) ⟨(Nat.le_of_ble_eq_true rfl), (Nat.le_of_ble_eq_true rfl)⟩ (c_pre hP hD hS hA hK hE [1, 2] rfl rfl ro_nil) (recv_at (q := (RJ5, TJ5, 4)) hK (b_at (k := 1) hP rfl) rfl) rfl hl.1 rfl (Nat.le_of_ble_eq_true rfl) dX10_word_51 ⟨(by first | omega | (dsimp only; omega)), (by first | omega | (dsimp only; omega))⟩) hP hD hS hA [1, 2] [0] rfl rfl rfl (fun r_7 u_7 H locs hw_7 hP hD hS _ => ?_)
        obtain ⟨o_7, y_7, hs_7, rfl, rfl⟩ := hw_7
        have hP : WP Γ [[(o_7, .inr (14, [.ref y_7.1, .int 0, .int 0, .int 0]))], [(y_7.1, .inl (Γ.2.1 1, (slL L i (wE L i)).length, .inl y_7.2))], [(a_1, .inr (13, [.ref y5.1, .int 0, .int y5.2.2.2, .int (nI (slL L i (wE L i)).length)]))], [(y5.1, .inl (Γ.2.1 1, y5.2.1, .inl y5.2.2.1))], [(a, .inr (8, [.ref o, .int (nI (wE L i))]))]] H := hP
        have hD : WD A [[(o_7, .inr (14, [.ref y_7.1, .int 0, .int 0, .int 0]))], [(y_7.1, .inl (Γ.2.1 1, (slL L i (wE L i)).length, .inl y_7.2))], [(a_1, .inr (13, [.ref y5.1, .int 0, .int y5.2.2.2, .int (nI (slL L i (wE L i)).length)]))], [(y5.1, .inl (Γ.2.1 1, y5.2.1, .inl y5.2.2.1))], [(a, .inr (8, [.ref o, .int (nI (wE L i))]))]] := hD
        refine W.eq (g2 := F0 mi_ 54 ls ([.ref o_7])) rfl ?_
        refine lv_astore_n (lv' := [(3, .ref o_7), (2, .ref a_1), (1, .int (nI i)), (0, .ref a)]) hx hb dX10_word_54 rfl hl (by decide) rfl (fun ls hl => ?_)
        refine lv_aload_n hx hb dX10_word_55 rfl (lv_at hl 0 rfl) ?_
        refine b_calli (br := [[(a_1, .inr (13, [.ref y5.1, .int 0, .int y5.2.2.2, .int (nI (slL L i (wE L i)).length)]))], [(y5.1, .inl (Γ.2.1 1, y5.2.1, .inl y5.2.2.1))], [(a, .inr (8, [.ref o, .int (nI (wE L i))]))]]) (b_runS ⟨hx, hb, hml, hown, hts⟩ (mt_Rd_nof l Γ _ o_7 y_7 (slL L i (wE L i)) 0 0 hs_7 (Or.inr ⟨rfl, rfl⟩)) (lw_S q1572 q1573 q99 q1574) rfl rfl 1 (by decide +kernel) ⟨(Nat.le_of_ble_eq_true rfl), (Nat.le_of_ble_eq_true rfl)⟩ (c_pre hP hD hS hA hK hE [0, 1] rfl rfl ro_nil) rfl hl.1 rfl (Nat.le_of_ble_eq_true rfl) dX10_word_56 ⟨(by first | omega | (dsimp only; omega)), (by first | omega | (dsimp only; omega))⟩) hP hD hS hA [0, 1] [2, 3, 4] rfl rfl rfl (fun r_8 u_8 H locs hw_8 hP hD hS _ => ?_)
        obtain ⟨h2_8, z2_8, hh2_8, rfl, rfl⟩ := hw_8
        have hP : WP Γ [[(o_7, .inr (14, [.ref y_7.1, .int 0, .int h2_8, .int z2_8]))], [(y_7.1, .inl (Γ.2.1 1, (slL L i (wE L i)).length, .inl y_7.2))], [(a_1, .inr (13, [.ref y5.1, .int 0, .int y5.2.2.2, .int (nI (slL L i (wE L i)).length)]))], [(y5.1, .inl (Γ.2.1 1, y5.2.1, .inl y5.2.2.1))], [(a, .inr (8, [.ref o, .int (nI (wE L i))]))]] H := hP
        have hD : WD A [[(o_7, .inr (14, [.ref y_7.1, .int 0, .int h2_8, .int z2_8]))], [(y_7.1, .inl (Γ.2.1 1, (slL L i (wE L i)).length, .inl y_7.2))], [(a_1, .inr (13, [.ref y5.1, .int 0, .int y5.2.2.2, .int (nI (slL L i (wE L i)).length)]))], [(y5.1, .inl (Γ.2.1 1, y5.2.1, .inl y5.2.2.1))], [(a, .inr (8, [.ref o, .int (nI (wE L i))]))]] := hD
        refine lv_if_ne (tgt := 71) hx hb dX10_word_59 (by decide) (fun c_9 => ?_) (fun c_9 => ?_)
        · -- 59 taken
          refine lv_aload_n hx hb dX10_word_71 rfl (lv_at hl 0 rfl) ?_
          have hP : WP Γ [[(a, .inr (8, [.ref o, .int (nI (wE L i))]))], [(o_7, .inr (14, [.ref y_7.1, .int 0, .int h2_8, .int z2_8]))], [(y_7.1, .inl (Γ.2.1 1, (slL L i (wE L i)).length, .inl y_7.2))]] H := bP_sel hP [4, 0, 1] rfl
          have hD : WD A [[(a, .inr (8, [.ref o, .int (nI (wE L i))]))], [(o_7, .inr (14, [.ref y_7.1, .int 0, .int h2_8, .int z2_8]))], [(y_7.1, .inl (Γ.2.1 1, (slL L i (wE L i)).length, .inl y_7.2))]] := bD_sel hD [4, 0, 1] rfl rfl
          exact b_aret hx hb hr (by first | exact Or.inl ⟨_, rfl⟩ | exact Or.inr ⟨_, rfl⟩) hlocks hP hD hS (by first | omega | (dsimp only; omega)) (by first | omega | (dsimp only; omega)) ⟨o_7, y_7, h2_8, z2_8, hs_7, hh2_8, (by first | with_reducible rfl | (simp [c_6, c_9]; done) | rfl), rfl⟩ dX10_word_72
        · -- 59 not taken
          exact absurd c_9 hw9
      · -- 24 not taken
        have haz : ¬ inC (rdH L j) 97 122 = 0 := c_6
        have hjl := rdH_in (by decide) haz
        have hsl : (slL L i j).length ≤ 50 := by rw [slL_len hjn]; omega
        refine lv_aload_n hx hb dX10_word_27 rfl (lv_at hl 0 rfl) ?_
        refine lv_aload_n hx hb dX10_word_28 rfl (lv_at hl 2 rfl) ?_
        refine b_calli (br := [[(a_1, .inr (13, [.ref y5.1, .int 0, .int y5.2.2.2, .int (nI (slL L i j).length)]))], [(y5.1, .inl (Γ.2.1 1, y5.2.1, .inl y5.2.2.1))]]) (b_runV ⟨hx, hb, hml, hown, hts⟩ (mt_Rd_here_1 l Γ _ a o y L z1 z2 j (by assumption) (by omega)) (lw_V q1563 q1565 qs27 q99 q1566) rfl rfl 0 (by decide +kernel) ⟨(Nat.le_of_ble_eq_true rfl), (Nat.le_of_ble_eq_true rfl)⟩ (c_pre hP hD hS hA hK hE [0] rfl rfl (ro_app (ro_pass (ro_sel (ro2 := [[(o, .inr (14, [.ref y.1, .int 1, .int z1, .int z2]))]]) hRo [0] rfl) hD hS hA [0] rfl) (ro_pass (ro_sel (ro2 := [[(y.1, .inl (Γ.2.1 1, 2 * L.length, .inl y.2))]]) hRo [1] rfl) hD hS hA [0] rfl))) (recv_at (q := (RX10, TX10, 2)) hK (b_at (k := 0) hP rfl) rfl) rfl hl.1 rfl (Nat.le_of_ble_eq_true rfl) dX10_word_29 ⟨(by first | omega | (dsimp only; omega)), (by first | omega | (dsimp only; omega))⟩) hP hD hS hA [0] [1, 2] rfl rfl rfl (fun r_10 u_10 H locs hw_10 hP hD hS _ => ?_)
        obtain ⟨rfl, rfl⟩ := hw_10
        have hP : WP Γ [[(a, .inr (8, [.ref o, .int (nI j)]))], [(a_1, .inr (13, [.ref y5.1, .int 0, .int y5.2.2.2, .int (nI (slL L i j).length)]))], [(y5.1, .inl (Γ.2.1 1, y5.2.1, .inl y5.2.2.1))]] H := hP
        have hD : WD A [[(a, .inr (8, [.ref o, .int (nI j)]))], [(a_1, .inr (13, [.ref y5.1, .int 0, .int y5.2.2.2, .int (nI (slL L i j).length)]))], [(y5.1, .inl (Γ.2.1 1, y5.2.1, .inl y5.2.2.1))]] := hD
        refine lv_i2c hx hb dX10_word_32 rfl ?_
        refine b_top (show ((rdH L j).toUInt32 % 65536).toInt32 = rdH L j from (az_ok haz).2.2.1) ?_
        refine b_callq (br := [[(a, .inr (8, [.ref o, .int (nI j)]))]]) (b_runV ⟨hx, hb, hml, hown, hts⟩ (mt_SB_appc l Γ _ a_1 y5 (slL L i j) (rdH L j) hsb5 (by omega) (az_ok haz).1 (az_ok haz).2.1) (lw_V q1570 q1511 q1512 q70 q1513) rfl rfl 1 (by decide +kernel) ⟨(Nat.le_of_ble_eq_true rfl), (Nat.le_of_ble_eq_true rfl)⟩ (c_pre hP hD hS hA hK hE [1, 2] rfl rfl ro_nil) (recv_at (q := (RJ5, TJ5, 4)) hK (b_at (k := 1) hP rfl) rfl) rfl hl.1 rfl (Nat.le_of_ble_eq_true rfl) dX10_word_33 ⟨(by first | omega | (dsimp only; omega)), (by first | omega | (dsimp only; omega))⟩) hP hD hS hA [1, 2] [0] rfl rfl rfl (fun r_11 u_11 H locs hw_11 hP hD hS _ => ?_)
        obtain ⟨y_11, hy_11, rfl, rfl⟩ := hw_11
        have hP : WP Γ [[(a_1, .inr (13, [.ref y_11.1, .int 0, .int y_11.2.2.2, .int (nI ((slL L i j) ++ [(rdH L j)]).length)]))], [(y_11.1, .inl (Γ.2.1 1, y_11.2.1, .inl y_11.2.2.1))], [(a, .inr (8, [.ref o, .int (nI j)]))]] H := hP
        have hD : WD A [[(a_1, .inr (13, [.ref y_11.1, .int 0, .int y_11.2.2.2, .int (nI ((slL L i j) ++ [(rdH L j)]).length)]))], [(y_11.1, .inl (Γ.2.1 1, y_11.2.1, .inl y_11.2.2.1))], [(a, .inr (8, [.ref o, .int (nI j)]))]] := hD
        refine W.eq (g2 := F0 mi_ 36 ls ([.ref a_1])) rfl ?_
        refine lv_pop hx hb dX10_word_36 rfl ?_
        refine lv_aload_n hx hb dX10_word_37 rfl (lv_at hl 2 rfl) ?_
        refine lv_dup hx hb dX10_word_38 rfl ?_
        refine b_get (C := RX10) (T := TX10) (N := 2) (v := .int (nI j)) hx hb hts in_X10 hown hK (b_at (k := 2) hP rfl) rfl 1 (by decide) q1539 (fun _ h9 => h9) rfl dX10_word_39 ?_
        refine lv_iconst (v := 1) hx hb dX10_word_42 (by decide) ?_
        refine lv_iadd hx hb dX10_word_43 ?_
        refine b_top (nI_addE (a := j) (b := 1) (c := j + 1) rfl rfl (by first | omega | rfl)) ?_
        refine b_put (C := RX10) (T := TX10) (N := 2) (ty := .int) (v := .int (nI (j + 1))) hx hb hts in_X10 tyX10_ok nmX10 hown hK hP hD hS 2 rfl rfl 1 (by decide) q1539 (fun _ h9 => h9) rfl (by decide +kernel) rfl rfl (Nat.le_of_ble_eq_true rfl) dX10_word_44 (fun H locs hP hD hS => ?_)
        have hP : WP Γ [[(a_1, .inr (13, [.ref y_11.1, .int 0, .int y_11.2.2.2, .int (nI ((slL L i j) ++ [(rdH L j)]).length)]))], [(y_11.1, .inl (Γ.2.1 1, y_11.2.1, .inl y_11.2.2.1))], [(a, .inr (8, [.ref o, .int (nI (j + 1))]))]] H := hP
        have hD : WD A [[(a_1, .inr (13, [.ref y_11.1, .int 0, .int y_11.2.2.2, .int (nI ((slL L i j) ++ [(rdH L j)]).length)]))], [(y_11.1, .inl (Γ.2.1 1, y_11.2.1, .inl y_11.2.2.1))], [(a, .inr (8, [.ref o, .int (nI (j + 1))]))]] := hD
        refine lv_goto (tgt := 13) hx hb dX10_word_47 (by decide) ?_
        have hP : WP Γ [[(a, .inr (8, [.ref o, .int (nI (j + 1))]))], [(a_1, .inr (13, [.ref y_11.1, .int 0, .int y_11.2.2.2, .int (nI ((slL L i j) ++ [(rdH L j)]).length)]))], [(y_11.1, .inl (Γ.2.1 1, y_11.2.1, .inl y_11.2.2.1))]] H := bP_sel hP [2, 0, 1] rfl
        have hD : WD A [[(a, .inr (8, [.ref o, .int (nI (j + 1))]))], [(a_1, .inr (13, [.ref y_11.1, .int 0, .int y_11.2.2.2, .int (nI ((slL L i j) ++ [(rdH L j)]).length)]))], [(y_11.1, .inl (Γ.2.1 1, y_11.2.1, .inl y_11.2.2.1))]] := bD_sel hD [2, 0, 1] rfl rfl
        have eS : slL L i j ++ [rdH L j] = slL L i (j + 1) := by rw [slL_s hij (rdH_in (by decide) haz), (az_ok haz).2.2.2]
        have hP : WP Γ [[(a, .inr (8, [.ref o, .int (nI (j + 1))]))], [(a_1, .inr (13, [.ref y_11.1, .int 0, .int y_11.2.2.2, .int (nI (slL L i (j + 1)).length)]))], [(y_11.1, .inl (Γ.2.1 1, y_11.2.1, .inl y_11.2.2.1))]] H := by rw [← eS]; exact hP
        have hD : WD A [[(a, .inr (8, [.ref o, .int (nI (j + 1))]))], [(a_1, .inr (13, [.ref y_11.1, .int 0, .int y_11.2.2.2, .int (nI (slL L i (j + 1)).length)]))], [(y_11.1, .inl (Γ.2.1 1, y_11.2.1, .inl y_11.2.2.1))]] := by rw [← eS]; exact hD
        refine W.widen (k := ((j + 1) - i + 2)) (n := (512 * ((j + 1) - i) + 20)) (by omega) (by omega) ?_
        exact ih (j + 1) y_11 (by omega) (by omega) (by omega) (by rw [wE_step haz]; exact hwe) (by rw [← hwe, ← wE_step haz]; exact (wE_in (by omega)).1) (by rw [← eS]; exact hy_11) _ _ _ hP hD hS (lv_sub hl [0, 1, 2] rfl)
  refine W.widen (k := (i - i + 2)) (n := (512 * (i - i) + 20)) (by omega) (by omega) ?_
  exact loop_3 ((L.length + 1 - i) + 1) i y_2 (Nat.lt_succ_self _) (Nat.le_refl _) hiL rfl (wE_in hiL).1 (by rw [slL_0]; exact hy_2) _ _ _ hP hD hS (lv_sub hl [0, 1, 2] rfl)
