/-! COMPONENT: a herd's day -/
def calvC (td : Int32) (c : Nat → Int32) : Nat → Int32 := if cowCar c = 0 then c else if c 8 = td then cowBegin c td else c
def dryoC (td s1 : Int32) (c : Nat → Int32) : Nat → Int32 := if cowCar c = 0 then c else if c 5 = 0 then c else if td + s1 < c 8 then c else upd c 5 0
/-- what the tank takes of a cow -/
def milkA (td li cap : Int32) (c : Nat → Int32) : Int32 := if 0 < cowLit c td then (if cowHeld c td = 0 then tkFill li cap (cowLit c td) else 0) else 0
def milkC (td li cap : Int32) (c : Nat → Int32) : Nat → Int32 := upd (upd c 10 (c 10 + cowLit c td)) 11 (c 11 + milkA td li cap c)
theorem milk_none {td li cap ce : Int32} {c : Nat → Int32} (h : milkA td li cap c = 0) : milkC td li cap c = upd c 10 (c 10 + cowLit c td) ∧ li + milkA td li cap c = li ∧ ce + milkA td li cap c * c 3 = ce := by
  refine ⟨?_, ?_, ?_⟩
  · unfold milkC
    rw [h]
    funext k
    by_cases hk : k = 11
    · subst hk; show c 11 + 0 = c 11; simp
    · simp [upd, hk]
  · rw [h]; simp
  · rw [h]; simp
theorem inC_nar2 (x y : Int32) : True := trivial
def upTo (f : (Nat → Int32) → Nat → Int32) (cv : Nat → Nat → Int32) (j : Nat) : Nat → Nat → Int32 := fun k => if k < j then f (cv k) else cv k
theorem upTo_0 (f : (Nat → Int32) → Nat → Int32) (cv : Nat → Nat → Int32) : upTo f cv 0 = cv := by funext k; exact if_neg (Nat.not_lt_zero k)
theorem upTo_at (f : (Nat → Int32) → Nat → Int32) (cv : Nat → Nat → Int32) (j : Nat) : upTo f cv j j = cv j := if_neg (Nat.lt_irrefl j)
theorem upTo_step (f : (Nat → Int32) → Nat → Int32) (cv : Nat → Nat → Int32) (j : Nat) : va_up (upTo f cv j) j (f (upTo f cv j j)) = upTo f cv (j + 1) := by
  rw [upTo_at]
  funext k
  show (if k = j then f (cv j) else if k < j then f (cv k) else cv k) = if k < j + 1 then f (cv k) else cv k
  by_cases h1 : k = j
  · subst h1; rw [if_pos rfl, if_pos (by omega)]
  · by_cases h2 : k < j
    · rw [if_neg h1, if_pos h2, if_pos (by omega)]
    · rw [if_neg h1, if_neg h2, if_neg (by omega)]
/-- the sum of a column from place j0 on -/
def pSm (pv : Nat → Nat → Int32) (q j0 : Nat) : Nat → Int32
  | 0 => 0
  | j + 1 => if j0 ≤ j then pSm pv q j0 j + pv j q else 0
theorem pSm_0 (pv : Nat → Nat → Int32) (q j0 : Nat) : pSm pv q j0 j0 = 0 := by
  cases j0 with
  | zero => rfl
  | succ j => rw [pSm, if_neg (by omega)]
theorem pSm_s {pv : Nat → Nat → Int32} {q j0 j : Nat} (h : j0 ≤ j) : pSm pv q j0 (j + 1) = pSm pv q j0 j + pv j q := by rw [pSm, if_pos h]
theorem nI_ofInt (n : Nat) : nI n = Int32.ofInt n := rfl
theorem mx_sub {n w : Nat} (hn : n < 2 ^ 31) (hw : w < 2 ^ 31) : (if nI 0 < nI n - nI w then nI n - nI w else nI 0) = nI (n - w) := by
  by_cases h : w ≤ n
  · rw [nI_subE (c := n - w) rfl rfl (by omega)]
    by_cases h2 : n - w = 0
    · rw [h2]; rfl
    · rw [if_pos ((nI_ltI (by omega) (by omega)).mpr (by omega))]
  · have e : n - w = 0 := by omega
    rw [e, if_neg]
    intro h2
    have h3 : nI w - nI n = nI (w - n) := nI_subE rfl rfl (by omega)
    have h4 : nI n - nI w = - nI (w - n) := by rw [← h3, Int32.neg_sub]
    rw [h4, Int32.lt_iff_toInt_lt, nI_toInt (by omega), Int32.toInt_neg, nI_toInt (by omega)] at h2
    rw [Int.bmod_eq_of_le (by omega) (by omega)] at h2
    omega
set_option maxHeartbeats 4000000 in
set_option maxRecDepth 100000 in
theorem mt_Hd_calve (l : Launch) (Γ : GE) (sz : Nat) (e0 : Nat) (e1 : Nat) (e2 : Nat) (e3 : Nat) (e4 : Nat) (e5 : Nat) (td : Int32) (pk : Int32) (pd : Int32) (b : Nat) (c : Nat → Int32)  : KM l yX2_calve cX2_calve 2 none Γ 1 21 0 0 [.ref e0, .ref b] [[(e0, .inr (1, [.ref e1, .ref e2, .ref e3, .ref e4, .ref e5, .int td, .int pk, .int pd]))], [(b, cowE c)]] [] sz (Qv Γ (fun u_ => u_ = [[(e0, .inr (1, [.ref e1, .ref e2, .ref e3, .ref e4, .ref e5, .int td, .int pk, .int pd]))], [(b, cowE (calvC td c))]])) := by
  refine K_intro (by decide) (Nat.le_of_ble_eq_true rfl) ?_
  intro pr_ ev_ s mi_ below meth cd_ A ls hx hb hr hml hown hts hlocks hname hK hE hRo hP hD hA hS hsz hl
  have hl : lv_has ls 2 [(0, .ref e0), (1, .ref b)] := hl
  have hown : s.vm.findClass RX2 = some mi_.cls := hown
  refine lv_aload_n hx hb dX2_calve_0 rfl (lv_at hl 1 rfl) ?_
  refine b_calli (br := [[(e0, .inr (1, [.ref e1, .ref e2, .ref e3, .ref e4, .ref e5, .int td, .int pk, .int pd]))]]) (b_runV ⟨hx, hb, hml, hown, hts⟩ (mt_Cow_isCarrying l Γ _ b c) (lw_V q1024 q1025 q1026 q81 q1027) rfl rfl 0 (by decide +kernel) ⟨(Nat.le_of_ble_eq_true rfl), (Nat.le_of_ble_eq_true rfl)⟩ (c_pre hP hD hS hA hK hE [1] rfl rfl ro_nil) (recv_at (q := (RX5, TX5, 12)) hK (b_at (k := 1) hP rfl) rfl) rfl hl.1 rfl (Nat.le_of_ble_eq_true rfl) dX2_calve_1 ⟨(Nat.le_of_ble_eq_true rfl), (Nat.le_of_ble_eq_true rfl)⟩) hP hD hS hA [1] [0] rfl rfl rfl (fun r_1 u_1 H locs hw_1 hP hD hS _ => ?_)
  obtain ⟨rfl, rfl⟩ := hw_1
  have hP : WP Γ [[(b, cowE c)], [(e0, .inr (1, [.ref e1, .ref e2, .ref e3, .ref e4, .ref e5, .int td, .int pk, .int pd]))]] H := hP
  have hD : WD A [[(b, cowE c)], [(e0, .inr (1, [.ref e1, .ref e2, .ref e3, .ref e4, .ref e5, .int td, .int pk, .int pd]))]] := hD
  refine lv_if_eq (tgt := 26) hx hb dX2_calve_4 (by decide) (fun c_2 => ?_) (fun c_2 => ?_)
  · -- 4 taken
    have hP : WP Γ [[(e0, .inr (1, [.ref e1, .ref e2, .ref e3, .ref e4, .ref e5, .int td, .int pk, .int pd]))], [(b, cowE c)]] H := bP_sel hP [1, 0] rfl
    have hD : WD A [[(e0, .inr (1, [.ref e1, .ref e2, .ref e3, .ref e4, .ref e5, .int td, .int pk, .int pd]))], [(b, cowE c)]] := bD_sel hD [1, 0] rfl rfl
    exact b_vret hx hb hr hlocks hP hD hS (Nat.le_of_ble_eq_true rfl) (Nat.le_of_ble_eq_true rfl) (by first | with_reducible rfl | (simp [calvC, c_2]; done) | rfl) dX2_calve_26
  · -- 4 not taken
    refine lv_aload_n hx hb dX2_calve_7 rfl (lv_at hl 1 rfl) ?_
    refine b_getN (C := RX5) (T := TX5) (N := 12) (v := .int (c 8)) hx hb hts hE in_X5 hown hK (b_at (k := 0) hP rfl) rfl 8 (by decide) q439 (fun _ h9 => h9) rfl dX2_calve_8 ?_
    refine lv_aload_n hx hb dX2_calve_11 rfl (lv_at hl 0 rfl) ?_
    refine b_get (C := RX2) (T := TX2) (N := 8) (v := .int td) hx hb hts in_X2 hown hK (b_at (k := 1) hP rfl) rfl 5 (by decide) q174 (fun _ h9 => h9) rfl dX2_calve_12 ?_
    refine lv_icmp_ne (tgt := 26) hx hb dX2_calve_15 (by decide) (fun c_3 => ?_) (fun c_3 => ?_)
    · -- 15 taken
      have hP : WP Γ [[(e0, .inr (1, [.ref e1, .ref e2, .ref e3, .ref e4, .ref e5, .int td, .int pk, .int pd]))], [(b, cowE c)]] H := bP_sel hP [1, 0] rfl
      have hD : WD A [[(e0, .inr (1, [.ref e1, .ref e2, .ref e3, .ref e4, .ref e5, .int td, .int pk, .int pd]))], [(b, cowE c)]] := bD_sel hD [1, 0] rfl rfl
      exact b_vret hx hb hr hlocks hP hD hS (Nat.le_of_ble_eq_true rfl) (Nat.le_of_ble_eq_true rfl) (by first | with_reducible rfl | (simp [calvC, c_2, c_3]; done) | rfl) dX2_calve_26
    · -- 15 not taken
      refine lv_aload_n hx hb dX2_calve_18 rfl (lv_at hl 1 rfl) ?_
      refine lv_aload_n hx hb dX2_calve_19 rfl (lv_at hl 0 rfl) ?_
      refine b_get (C := RX2) (T := TX2) (N := 8) (v := .int td) hx hb hts in_X2 hown hK (b_at (k := 1) hP rfl) rfl 5 (by decide) q174 (fun _ h9 => h9) rfl dX2_calve_20 ?_
      refine b_callv (br := [[(e0, .inr (1, [.ref e1, .ref e2, .ref e3, .ref e4, .ref e5, .int td, .int pk, .int pd]))]]) (b_runV ⟨hx, hb, hml, hown, hts⟩ (mt_Cow_begin l Γ _ b c td) (lw_V q1200 q884 q885 q81 q886) rfl rfl 1 (by decide +kernel) ⟨(Nat.le_of_ble_eq_true rfl), (Nat.le_of_ble_eq_true rfl)⟩ (c_pre hP hD hS hA hK hE [0] rfl rfl ro_nil) (recv_at (q := (RX5, TX5, 12)) hK (b_at (k := 0) hP rfl) rfl) rfl hl.1 rfl (Nat.le_of_ble_eq_true rfl) dX2_calve_23 ⟨(Nat.le_of_ble_eq_true rfl), (Nat.le_of_ble_eq_true rfl)⟩) hP hD hS hA [0] [1] rfl rfl rfl (fun u_4 H locs hw_4 hP hD hS _ => ?_)
      obtain rfl := hw_4
      have hP : WP Γ [[(b, cowE (cowBegin c td))], [(e0, .inr (1, [.ref e1, .ref e2, .ref e3, .ref e4, .ref e5, .int td, .int pk, .int pd]))]] H := hP
      have hD : WD A [[(b, cowE (cowBegin c td))], [(e0, .inr (1, [.ref e1, .ref e2, .ref e3, .ref e4, .ref e5, .int td, .int pk, .int pd]))]] := hD
      have hP : WP Γ [[(e0, .inr (1, [.ref e1, .ref e2, .ref e3, .ref e4, .ref e5, .int td, .int pk, .int pd]))], [(b, cowE (cowBegin c td))]] H := bP_sel hP [1, 0] rfl
      have hD : WD A [[(e0, .inr (1, [.ref e1, .ref e2, .ref e3, .ref e4, .ref e5, .int td, .int pk, .int pd]))], [(b, cowE (cowBegin c td))]] := bD_sel hD [1, 0] rfl rfl
      exact b_vret hx hb hr hlocks hP hD hS (Nat.le_of_ble_eq_true rfl) (Nat.le_of_ble_eq_true rfl) (by first | with_reducible rfl | (simp [calvC, c_2, c_3]; done) | rfl) dX2_calve_26
set_option maxHeartbeats 4000000 in
set_option maxRecDepth 100000 in
theorem mt_Hd_dryOff (l : Launch) (Γ : GE) (sz : Nat) (e0 : Nat) (e1 : Nat) (e2 : Nat) (e3 : Nat) (e4 : Nat) (e5 : Nat) (td : Int32) (pk : Int32) (pd : Int32) (b : Nat) (c : Nat → Int32) (se : Nat → Int32)  : KM l yX2_dryOff cX2_dryOff 2 none Γ 1 20 0 0 [.ref e0, .ref b] [[(e0, .inr (1, [.ref e1, .ref e2, .ref e3, .ref e4, .ref e5, .int td, .int pk, .int pd]))], [(b, cowE c)], [(e5, .inl (Γ.2.1 0, 6, .inl se))]] [] sz (Qv Γ (fun u_ => u_ = [[(e0, .inr (1, [.ref e1, .ref e2, .ref e3, .ref e4, .ref e5, .int td, .int pk, .int pd]))], [(b, cowE (dryoC td (se 1) c))], [(e5, .inl (Γ.2.1 0, 6, .inl se))]])) := by
  refine K_intro (by decide) (Nat.le_of_ble_eq_true rfl) ?_
  intro pr_ ev_ s mi_ below meth cd_ A ls hx hb hr hml hown hts hlocks hname hK hE hRo hP hD hA hS hsz hl
  have hl : lv_has ls 2 [(0, .ref e0), (1, .ref b)] := hl
  have hown : s.vm.findClass RX2 = some mi_.cls := hown
  refine lv_aload_n hx hb dX2_dryOff_0 rfl (lv_at hl 1 rfl) ?_
  refine b_calli (br := [[(e0, .inr (1, [.ref e1, .ref e2, .ref e3, .ref e4, .ref e5, .int td, .int pk, .int pd]))], [(e5, .inl (Γ.2.1 0, 6, .inl se))]]) (b_runV ⟨hx, hb, hml, hown, hts⟩ (mt_Cow_isCarrying l Γ _ b c) (lw_V q1024 q1025 q1026 q81 q1027) rfl rfl 0 (by decide +kernel) ⟨(Nat.le_of_ble_eq_true rfl), (Nat.le_of_ble_eq_true rfl)⟩ (c_pre hP hD hS hA hK hE [1] rfl rfl ro_nil) (recv_at (q := (RX5, TX5, 12)) hK (b_at (k := 1) hP rfl) rfl) rfl hl.1 rfl (Nat.le_of_ble_eq_true rfl) dX2_dryOff_1 ⟨(Nat.le_of_ble_eq_true rfl), (Nat.le_of_ble_eq_true rfl)⟩) hP hD hS hA [1] [0, 2] rfl rfl rfl (fun r_1 u_1 H locs hw_1 hP hD hS _ => ?_)
  obtain ⟨rfl, rfl⟩ := hw_1
  have hP : WP Γ [[(b, cowE c)], [(e0, .inr (1, [.ref e1, .ref e2, .ref e3, .ref e4, .ref e5, .int td, .int pk, .int pd]))], [(e5, .inl (Γ.2.1 0, 6, .inl se))]] H := hP
  have hD : WD A [[(b, cowE c)], [(e0, .inr (1, [.ref e1, .ref e2, .ref e3, .ref e4, .ref e5, .int td, .int pk, .int pd]))], [(e5, .inl (Γ.2.1 0, 6, .inl se))]] := hD
  refine lv_if_eq (tgt := 37) hx hb dX2_dryOff_4 (by decide) (fun c_2 => ?_) (fun c_2 => ?_)
  · -- 4 taken
    have hP : WP Γ [[(e0, .inr (1, [.ref e1, .ref e2, .ref e3, .ref e4, .ref e5, .int td, .int pk, .int pd]))], [(b, cowE c)], [(e5, .inl (Γ.2.1 0, 6, .inl se))]] H := bP_sel hP [1, 0, 2] rfl
    have hD : WD A [[(e0, .inr (1, [.ref e1, .ref e2, .ref e3, .ref e4, .ref e5, .int td, .int pk, .int pd]))], [(b, cowE c)], [(e5, .inl (Γ.2.1 0, 6, .inl se))]] := bD_sel hD [1, 0, 2] rfl rfl
    exact b_vret hx hb hr hlocks hP hD hS (Nat.le_of_ble_eq_true rfl) (Nat.le_of_ble_eq_true rfl) (by first | with_reducible rfl | (simp [dryoC, c_2]; done) | rfl) dX2_dryOff_37
  · -- 4 not taken
    refine lv_aload_n hx hb dX2_dryOff_7 rfl (lv_at hl 1 rfl) ?_
    refine b_getN (C := RX5) (T := TX5) (N := 12) (v := .int (c 5)) hx hb hts hE in_X5 hown hK (b_at (k := 0) hP rfl) rfl 5 (by decide) q431 (fun _ h9 => h9) rfl dX2_dryOff_8 ?_
    refine lv_if_eq (tgt := 37) hx hb dX2_dryOff_11 (by decide) (fun c_3 => ?_) (fun c_3 => ?_)
    · -- 11 taken
      have hP : WP Γ [[(e0, .inr (1, [.ref e1, .ref e2, .ref e3, .ref e4, .ref e5, .int td, .int pk, .int pd]))], [(b, cowE c)], [(e5, .inl (Γ.2.1 0, 6, .inl se))]] H := bP_sel hP [1, 0, 2] rfl
      have hD : WD A [[(e0, .inr (1, [.ref e1, .ref e2, .ref e3, .ref e4, .ref e5, .int td, .int pk, .int pd]))], [(b, cowE c)], [(e5, .inl (Γ.2.1 0, 6, .inl se))]] := bD_sel hD [1, 0, 2] rfl rfl
      exact b_vret hx hb hr hlocks hP hD hS (Nat.le_of_ble_eq_true rfl) (Nat.le_of_ble_eq_true rfl) (by first | with_reducible rfl | (simp [dryoC, c_2, c_3]; done) | rfl) dX2_dryOff_37
    · -- 11 not taken
      refine lv_aload_n hx hb dX2_dryOff_14 rfl (lv_at hl 1 rfl) ?_
      refine b_getN (C := RX5) (T := TX5) (N := 12) (v := .int (c 8)) hx hb hts hE in_X5 hown hK (b_at (k := 0) hP rfl) rfl 8 (by decide) q439 (fun _ h9 => h9) rfl dX2_dryOff_15 ?_
      refine lv_aload_n hx hb dX2_dryOff_18 rfl (lv_at hl 0 rfl) ?_
      refine b_get (C := RX2) (T := TX2) (N := 8) (v := .int td) hx hb hts in_X2 hown hK (b_at (k := 1) hP rfl) rfl 5 (by decide) q174 (fun _ h9 => h9) rfl dX2_dryOff_19 ?_
      refine lv_aload_n hx hb dX2_dryOff_22 rfl (lv_at hl 0 rfl) ?_
      refine b_get (C := RX2) (T := TX2) (N := 8) (v := .ref e5) hx hb hts in_X2 hown hK (b_at (k := 1) hP rfl) rfl 4 (by decide) q172 (fun _ h9 => h9) rfl dX2_dryOff_23 ?_
      refine lv_iconst (v := 1) hx hb dX2_dryOff_26 (by decide) ?_
      refine b_iald hx hb hK (b_at (k := 2) hP rfl) 1 rfl (by omega) (by omega) dX2_dryOff_27 ?_
      refine lv_iadd hx hb dX2_dryOff_28 ?_
      refine lv_icmp_gt (tgt := 37) hx hb dX2_dryOff_29 (by decide) (fun c_4 => ?_) (fun c_4 => ?_)
      · -- 29 taken
        have hP : WP Γ [[(e0, .inr (1, [.ref e1, .ref e2, .ref e3, .ref e4, .ref e5, .int td, .int pk, .int pd]))], [(b, cowE c)], [(e5, .inl (Γ.2.1 0, 6, .inl se))]] H := bP_sel hP [1, 0, 2] rfl
        have hD : WD A [[(e0, .inr (1, [.ref e1, .ref e2, .ref e3, .ref e4, .ref e5, .int td, .int pk, .int pd]))], [(b, cowE c)], [(e5, .inl (Γ.2.1 0, 6, .inl se))]] := bD_sel hD [1, 0, 2] rfl rfl
        exact b_vret hx hb hr hlocks hP hD hS (Nat.le_of_ble_eq_true rfl) (Nat.le_of_ble_eq_true rfl) (by first | with_reducible rfl | (simp [dryoC, c_2, c_3, c_4]; done) | rfl) dX2_dryOff_37
      · -- 29 not taken
        refine lv_aload_n hx hb dX2_dryOff_32 rfl (lv_at hl 1 rfl) ?_
        refine lv_iconst (v := 0) hx hb dX2_dryOff_33 (by decide) ?_
        refine b_putN (C := RX5) (T := TX5) (N := 12) (ty := .boolean) (v := .int 0) hx hb hts hE in_X5 tyX5_ok nmX5 hown hK hP hD hS 0 rfl rfl 5 (by decide) q431 (fun _ h9 => h9) rfl (by decide +kernel) rfl rfl (Nat.le_of_ble_eq_true rfl) dX2_dryOff_34 (fun H locs hP hD hS => ?_)
        have hP : WP Γ [[(b, cowE (upd c 5 0))], [(e0, .inr (1, [.ref e1, .ref e2, .ref e3, .ref e4, .ref e5, .int td, .int pk, .int pd]))], [(e5, .inl (Γ.2.1 0, 6, .inl se))]] H := hP
        have hD : WD A [[(b, cowE (upd c 5 0))], [(e0, .inr (1, [.ref e1, .ref e2, .ref e3, .ref e4, .ref e5, .int td, .int pk, .int pd]))], [(e5, .inl (Γ.2.1 0, 6, .inl se))]] := hD
        have hP : WP Γ [[(e0, .inr (1, [.ref e1, .ref e2, .ref e3, .ref e4, .ref e5, .int td, .int pk, .int pd]))], [(b, cowE (upd c 5 0))], [(e5, .inl (Γ.2.1 0, 6, .inl se))]] H := bP_sel hP [1, 0, 2] rfl
        have hD : WD A [[(e0, .inr (1, [.ref e1, .ref e2, .ref e3, .ref e4, .ref e5, .int td, .int pk, .int pd]))], [(b, cowE (upd c 5 0))], [(e5, .inl (Γ.2.1 0, 6, .inl se))]] := bD_sel hD [1, 0, 2] rfl rfl
        exact b_vret hx hb hr hlocks hP hD hS (Nat.le_of_ble_eq_true rfl) (Nat.le_of_ble_eq_true rfl) (by first | with_reducible rfl | (simp [dryoC, c_2, c_3, c_4]; done) | rfl) dX2_dryOff_37
set_option maxHeartbeats 4000000 in
set_option maxRecDepth 100000 in
theorem mt_Hd_milk (l : Launch) (Γ : GE) (sz : Nat) (e0 : Nat) (e1 : Nat) (e2 : Nat) (e3 : Nat) (e4 : Nat) (e5 : Nat) (td : Int32) (pk : Int32) (pd : Int32) (b : Nat) (c : Nat → Int32) (li : Int32) (ce : Int32) (se : Nat → Int32)  : KM l yX2_milk cX2_milk 3 none Γ 3 75 0 0 [.ref e0, .ref b] [[(e0, .inr (1, [.ref e1, .ref e2, .ref e3, .ref e4, .ref e5, .int td, .int pk, .int pd]))], [(b, cowE c)], [(e4, .inr (2, [.int li, .int ce]))], [(e5, .inl (Γ.2.1 0, 6, .inl se))]] [] sz (Qv Γ (fun u_ => u_ = [[(e0, .inr (1, [.ref e1, .ref e2, .ref e3, .ref e4, .ref e5, .int td, .int pk, .int pd]))], [(b, cowE (milkC td li (se 3) c))], [(e4, .inr (2, [.int (li + milkA td li (se 3) c), .int (ce + milkA td li (se 3) c * c 3)]))], [(e5, .inl (Γ.2.1 0, 6, .inl se))]])) := by
  refine K_intro (by decide) (Nat.le_of_ble_eq_true rfl) ?_
  intro pr_ ev_ s mi_ below meth cd_ A ls hx hb hr hml hown hts hlocks hname hK hE hRo hP hD hA hS hsz hl
  have hl : lv_has ls 3 [(0, .ref e0), (1, .ref b)] := hl
  have hown : s.vm.findClass RX2 = some mi_.cls := hown
  refine lv_aload_n hx hb dX2_milk_0 rfl (lv_at hl 1 rfl) ?_
  refine lv_aload_n hx hb dX2_milk_1 rfl (lv_at hl 0 rfl) ?_
  refine b_get (C := RX2) (T := TX2) (N := 8) (v := .int td) hx hb hts in_X2 hown hK (b_at (k := 0) hP rfl) rfl 5 (by decide) q174 (fun _ h9 => h9) rfl dX2_milk_2 ?_
  refine b_calli (br := [[(e0, .inr (1, [.ref e1, .ref e2, .ref e3, .ref e4, .ref e5, .int td, .int pk, .int pd]))], [(e4, .inr (2, [.int li, .int ce]))], [(e5, .inl (Γ.2.1 0, 6, .inl se))]]) (b_runV ⟨hx, hb, hml, hown, hts⟩ (mt_Cow_litres l Γ _ b c td) (lw_V q1209 q1210 q1211 q81 q1212) rfl rfl 1 (by decide +kernel) ⟨(Nat.le_of_ble_eq_true rfl), (Nat.le_of_ble_eq_true rfl)⟩ (c_pre hP hD hS hA hK hE [1] rfl rfl ro_nil) (recv_at (q := (RX5, TX5, 12)) hK (b_at (k := 1) hP rfl) rfl) rfl hl.1 rfl (Nat.le_of_ble_eq_true rfl) dX2_milk_5 ⟨(Nat.le_of_ble_eq_true rfl), (Nat.le_of_ble_eq_true rfl)⟩) hP hD hS hA [1] [0, 2, 3] rfl rfl rfl (fun r_1 u_1 H locs hw_1 hP hD hS _ => ?_)
  obtain ⟨rfl, rfl⟩ := hw_1
  have hP : WP Γ [[(b, cowE c)], [(e0, .inr (1, [.ref e1, .ref e2, .ref e3, .ref e4, .ref e5, .int td, .int pk, .int pd]))], [(e4, .inr (2, [.int li, .int ce]))], [(e5, .inl (Γ.2.1 0, 6, .inl se))]] H := hP
  have hD : WD A [[(b, cowE c)], [(e0, .inr (1, [.ref e1, .ref e2, .ref e3, .ref e4, .ref e5, .int td, .int pk, .int pd]))], [(e4, .inr (2, [.int li, .int ce]))], [(e5, .inl (Γ.2.1 0, 6, .inl se))]] := hD
  refine lv_istore_n (lv' := [(2, .int (cowLit c td)), (0, .ref e0), (1, .ref b)]) hx hb dX2_milk_8 rfl hl (by decide) rfl (fun ls hl => ?_)
  refine lv_aload_n hx hb dX2_milk_9 rfl (lv_at hl 2 rfl) ?_
  refine lv_dup hx hb dX2_milk_10 rfl ?_
  refine b_getN (C := RX5) (T := TX5) (N := 12) (v := .int (c 10)) hx hb hts hE in_X5 hown hK (b_at (k := 0) hP rfl) rfl 10 (by decide) q444 (fun _ h9 => h9) rfl dX2_milk_11 ?_
  refine lv_iload_n hx hb dX2_milk_14 rfl (lv_at hl 0 rfl) ?_
  refine lv_iadd hx hb dX2_milk_15 ?_
  refine b_putN (C := RX5) (T := TX5) (N := 12) (ty := .int) (v := .int ((c 10) + (cowLit c td))) hx hb hts hE in_X5 tyX5_ok nmX5 hown hK hP hD hS 0 rfl rfl 10 (by decide) q444 (fun _ h9 => h9) rfl (by decide +kernel) rfl rfl (Nat.le_of_ble_eq_true rfl) dX2_milk_16 (fun H locs hP hD hS => ?_)
  have hP : WP Γ [[(b, cowE (upd c 10 ((c 10) + (cowLit c td))))], [(e0, .inr (1, [.ref e1, .ref e2, .ref e3, .ref e4, .ref e5, .int td, .int pk, .int pd]))], [(e4, .inr (2, [.int li, .int ce]))], [(e5, .inl (Γ.2.1 0, 6, .inl se))]] H := hP
  have hD : WD A [[(b, cowE (upd c 10 ((c 10) + (cowLit c td))))], [(e0, .inr (1, [.ref e1, .ref e2, .ref e3, .ref e4, .ref e5, .int td, .int pk, .int pd]))], [(e4, .inr (2, [.int li, .int ce]))], [(e5, .inl (Γ.2.1 0, 6, .inl se))]] := hD
  refine lv_iload_n hx hb dX2_milk_19 rfl (lv_at hl 0 rfl) ?_
  refine lv_if_le (tgt := 61) hx hb dX2_milk_20 (by decide) (fun c_2 => ?_) (fun c_2 => ?_)
  · -- 20 taken
    have d_2 := Int32.not_lt.mpr c_2
    have hA9 : milkA td li (se 3) c = 0 := by simp [milkA, c_2, d_2]
    have hA8 := milk_none (ce := ce) hA9
    have hP : WP Γ [[(e0, .inr (1, [.ref e1, .ref e2, .ref e3, .ref e4, .ref e5, .int td, .int pk, .int pd]))], [(b, cowE (upd c 10 ((c 10) + (cowLit c td))))], [(e4, .inr (2, [.int li, .int ce]))], [(e5, .inl (Γ.2.1 0, 6, .inl se))]] H := bP_sel hP [1, 0, 2, 3] rfl
    have hD : WD A [[(e0, .inr (1, [.ref e1, .ref e2, .ref e3, .ref e4, .ref e5, .int td, .int pk, .int pd]))], [(b, cowE (upd c 10 ((c 10) + (cowLit c td))))], [(e4, .inr (2, [.int li, .int ce]))], [(e5, .inl (Γ.2.1 0, 6, .inl se))]] := bD_sel hD [1, 0, 2, 3] rfl rfl
    exact b_vret hx hb hr hlocks hP hD hS (Nat.le_of_ble_eq_true rfl) (Nat.le_of_ble_eq_true rfl) (by rw [hA8.1, hA8.2.1, hA8.2.2]) dX2_milk_61
  · -- 20 not taken
    have d_2 := Int32.not_le.mp c_2
    refine lv_aload_n hx hb dX2_milk_23 rfl (lv_at hl 2 rfl) ?_
    refine lv_aload_n hx hb dX2_milk_24 rfl (lv_at hl 1 rfl) ?_
    refine b_get (C := RX2) (T := TX2) (N := 8) (v := .int td) hx hb hts in_X2 hown hK (b_at (k := 1) hP rfl) rfl 5 (by decide) q174 (fun _ h9 => h9) rfl dX2_milk_25 ?_
    refine b_calli (br := [[(e0, .inr (1, [.ref e1, .ref e2, .ref e3, .ref e4, .ref e5, .int td, .int pk, .int pd]))], [(e4, .inr (2, [.int li, .int ce]))], [(e5, .inl (Γ.2.1 0, 6, .inl se))]]) (b_runV ⟨hx, hb, hml, hown, hts⟩ (mt_Cow_isHeld l Γ _ b (upd c 10 ((c 10) + (cowLit c td))) td) (lw_V q1219 q1220 q1221 q81 q1222) rfl rfl 1 (by decide +kernel) ⟨(Nat.le_of_ble_eq_true rfl), (Nat.le_of_ble_eq_true rfl)⟩ (c_pre hP hD hS hA hK hE [0] rfl rfl ro_nil) (recv_at (q := (RX5, TX5, 12)) hK (b_at (k := 0) hP rfl) rfl) rfl hl.1 rfl (Nat.le_of_ble_eq_true rfl) dX2_milk_28 ⟨(Nat.le_of_ble_eq_true rfl), (Nat.le_of_ble_eq_true rfl)⟩) hP hD hS hA [0] [1, 2, 3] rfl rfl rfl (fun r_3 u_3 H locs hw_3 hP hD hS _ => ?_)
    obtain ⟨rfl, rfl⟩ := hw_3
    have hP : WP Γ [[(b, cowE (upd c 10 ((c 10) + (cowLit c td))))], [(e0, .inr (1, [.ref e1, .ref e2, .ref e3, .ref e4, .ref e5, .int td, .int pk, .int pd]))], [(e4, .inr (2, [.int li, .int ce]))], [(e5, .inl (Γ.2.1 0, 6, .inl se))]] H := hP
    have hD : WD A [[(b, cowE (upd c 10 ((c 10) + (cowLit c td))))], [(e0, .inr (1, [.ref e1, .ref e2, .ref e3, .ref e4, .ref e5, .int td, .int pk, .int pd]))], [(e4, .inr (2, [.int li, .int ce]))], [(e5, .inl (Γ.2.1 0, 6, .inl se))]] := hD
    refine lv_if_ne (tgt := 61) hx hb dX2_milk_31 (by decide) (fun c_4 => ?_) (fun c_4 => ?_)
    · -- 31 taken
      have c_99 : ¬ cowHeld c td = 0 := c_4
      have hA9 : milkA td li (se 3) c = 0 := by simp [milkA, c_2, d_2, c_4, c_99]
      have hA8 := milk_none (ce := ce) hA9
      have hP : WP Γ [[(e0, .inr (1, [.ref e1, .ref e2, .ref e3, .ref e4, .ref e5, .int td, .int pk, .int pd]))], [(b, cowE (upd c 10 ((c 10) + (cowLit c td))))], [(e4, .inr (2, [.int li, .int ce]))], [(e5, .inl (Γ.2.1 0, 6, .inl se))]] H := bP_sel hP [1, 0, 2, 3] rfl
      have hD : WD A [[(e0, .inr (1, [.ref e1, .ref e2, .ref e3, .ref e4, .ref e5, .int td, .int pk, .int pd]))], [(b, cowE (upd c 10 ((c 10) + (cowLit c td))))], [(e4, .inr (2, [.int li, .int ce]))], [(e5, .inl (Γ.2.1 0, 6, .inl se))]] := bD_sel hD [1, 0, 2, 3] rfl rfl
      exact b_vret hx hb hr hlocks hP hD hS (Nat.le_of_ble_eq_true rfl) (Nat.le_of_ble_eq_true rfl) (by rw [hA8.1, hA8.2.1, hA8.2.2]) dX2_milk_61
    · -- 31 not taken
      refine lv_aload_n hx hb dX2_milk_34 rfl (lv_at hl 2 rfl) ?_
      refine lv_dup hx hb dX2_milk_35 rfl ?_
      refine b_getN (C := RX5) (T := TX5) (N := 12) (v := .int (c 11)) hx hb hts hE in_X5 hown hK (b_at (k := 0) hP rfl) rfl 11 (by decide) q447 (fun _ h9 => h9) rfl dX2_milk_36 ?_
      refine lv_aload_n hx hb dX2_milk_39 rfl (lv_at hl 1 rfl) ?_
      refine b_get (C := RX2) (T := TX2) (N := 8) (v := .ref e4) hx hb hts in_X2 hown hK (b_at (k := 1) hP rfl) rfl 3 (by decide) q170 (fun _ h9 => h9) rfl dX2_milk_40 ?_
      refine lv_iload_n hx hb dX2_milk_43 rfl (lv_at hl 0 rfl) ?_
      refine lv_aload_n hx hb dX2_milk_44 rfl (lv_at hl 2 rfl) ?_
      refine b_getN (C := RX5) (T := TX5) (N := 12) (v := .int (c 3)) hx hb hts hE in_X5 hown hK (b_at (k := 0) hP rfl) rfl 3 (by decide) q428 (fun _ h9 => h9) rfl dX2_milk_45 ?_
      refine lv_aload_n hx hb dX2_milk_48 rfl (lv_at hl 1 rfl) ?_
      refine b_get (C := RX2) (T := TX2) (N := 8) (v := .ref e5) hx hb hts in_X2 hown hK (b_at (k := 1) hP rfl) rfl 4 (by decide) q172 (fun _ h9 => h9) rfl dX2_milk_49 ?_
      refine lv_iconst (v := 3) hx hb dX2_milk_52 (by decide) ?_
      refine b_iald hx hb hK (b_at (k := 3) hP rfl) 3 rfl (by omega) (by omega) dX2_milk_53 ?_
      refine b_calli (br := [[(b, cowE (upd c 10 ((c 10) + (cowLit c td))))], [(e0, .inr (1, [.ref e1, .ref e2, .ref e3, .ref e4, .ref e5, .int td, .int pk, .int pd]))], [(e5, .inl (Γ.2.1 0, 6, .inl se))]]) (b_runV ⟨hx, hb, hml, hown, hts⟩ (mt_Tank_fill l Γ _ e4 li ce (cowLit c td) (c 3) (se 3)) (lw_V q1223 q1224 q1225 q67 q1226) rfl rfl 3 (by decide +kernel) ⟨(Nat.le_of_ble_eq_true rfl), (Nat.le_of_ble_eq_true rfl)⟩ (c_pre hP hD hS hA hK hE [2] rfl rfl ro_nil) (recv_at (q := (RX3, TX3, 2)) hK (b_at (k := 2) hP rfl) rfl) rfl hl.1 rfl (Nat.le_of_ble_eq_true rfl) dX2_milk_54 ⟨(Nat.le_of_ble_eq_true rfl), (Nat.le_of_ble_eq_true rfl)⟩) hP hD hS hA [2] [0, 1, 3] rfl rfl rfl (fun r_5 u_5 H locs hw_5 hP hD hS _ => ?_)
      obtain ⟨rfl, rfl⟩ := hw_5
      have hP : WP Γ [[(e4, .inr (2, [.int (li + tkFill li (se 3) (cowLit c td)), .int (ce + (tkFill li (se 3) (cowLit c td)) * (c 3))]))], [(b, cowE (upd c 10 ((c 10) + (cowLit c td))))], [(e0, .inr (1, [.ref e1, .ref e2, .ref e3, .ref e4, .ref e5, .int td, .int pk, .int pd]))], [(e5, .inl (Γ.2.1 0, 6, .inl se))]] H := hP
      have hD : WD A [[(e4, .inr (2, [.int (li + tkFill li (se 3) (cowLit c td)), .int (ce + (tkFill li (se 3) (cowLit c td)) * (c 3))]))], [(b, cowE (upd c 10 ((c 10) + (cowLit c td))))], [(e0, .inr (1, [.ref e1, .ref e2, .ref e3, .ref e4, .ref e5, .int td, .int pk, .int pd]))], [(e5, .inl (Γ.2.1 0, 6, .inl se))]] := hD
      refine lv_iadd hx hb dX2_milk_57 ?_
      refine b_putN (C := RX5) (T := TX5) (N := 12) (ty := .int) (v := .int ((c 11) + (tkFill li (se 3) (cowLit c td)))) hx hb hts hE in_X5 tyX5_ok nmX5 hown hK hP hD hS 1 rfl rfl 11 (by decide) q447 (fun _ h9 => h9) rfl (by decide +kernel) rfl rfl (Nat.le_of_ble_eq_true rfl) dX2_milk_58 (fun H locs hP hD hS => ?_)
      have hP : WP Γ [[(e4, .inr (2, [.int (li + tkFill li (se 3) (cowLit c td)), .int (ce + (tkFill li (se 3) (cowLit c td)) * (c 3))]))], [(b, cowE (upd (upd c 10 ((c 10) + (cowLit c td))) 11 ((c 11) + (tkFill li (se 3) (cowLit c td)))))], [(e0, .inr (1, [.ref e1, .ref e2, .ref e3, .ref e4, .ref e5, .int td, .int pk, .int pd]))], [(e5, .inl (Γ.2.1 0, 6, .inl se))]] H := hP
      have hD : WD A [[(e4, .inr (2, [.int (li + tkFill li (se 3) (cowLit c td)), .int (ce + (tkFill li (se 3) (cowLit c td)) * (c 3))]))], [(b, cowE (upd (upd c 10 ((c 10) + (cowLit c td))) 11 ((c 11) + (tkFill li (se 3) (cowLit c td)))))], [(e0, .inr (1, [.ref e1, .ref e2, .ref e3, .ref e4, .ref e5, .int td, .int pk, .int pd]))], [(e5, .inl (Γ.2.1 0, 6, .inl se))]] := hD
      have c_99 : cowHeld c td = 0 := c_4
      have hA9 : milkA td li (se 3) c = tkFill li (se 3) (cowLit c td) := by simp [milkA, c_2, d_2, c_4, c_99]
      have hP : WP Γ [[(e0, .inr (1, [.ref e1, .ref e2, .ref e3, .ref e4, .ref e5, .int td, .int pk, .int pd]))], [(b, cowE (upd (upd c 10 ((c 10) + (cowLit c td))) 11 ((c 11) + (tkFill li (se 3) (cowLit c td)))))], [(e4, .inr (2, [.int (li + tkFill li (se 3) (cowLit c td)), .int (ce + (tkFill li (se 3) (cowLit c td)) * (c 3))]))], [(e5, .inl (Γ.2.1 0, 6, .inl se))]] H := bP_sel hP [2, 1, 0, 3] rfl
      have hD : WD A [[(e0, .inr (1, [.ref e1, .ref e2, .ref e3, .ref e4, .ref e5, .int td, .int pk, .int pd]))], [(b, cowE (upd (upd c 10 ((c 10) + (cowLit c td))) 11 ((c 11) + (tkFill li (se 3) (cowLit c td)))))], [(e4, .inr (2, [.int (li + tkFill li (se 3) (cowLit c td)), .int (ce + (tkFill li (se 3) (cowLit c td)) * (c 3))]))], [(e5, .inl (Γ.2.1 0, 6, .inl se))]] := bD_sel hD [2, 1, 0, 3] rfl rfl
      exact b_vret hx hb hr hlocks hP hD hS (Nat.le_of_ble_eq_true rfl) (Nat.le_of_ble_eq_true rfl) (by unfold milkC; rw [hA9]) dX2_milk_61
set_option maxHeartbeats 4000000 in
set_option maxRecDepth 100000 in
theorem mt_Hd_mean (l : Launch) (Γ : GE) (sz : Nat) (e0 : Nat) (e1 : Nat) (e2 : Nat) (e3 : Nat) (e4 : Nat) (e5 : Nat) (td : Int32) (pk : Int32) (pd : Int32) (x2 : LST) (m2 : Int32) (np : Nat) (pa : Nat → Nat) (pv : Nat → Nat → Int32) (P : va_W) (se : Nat → Int32) (w : Nat) (hal2 : alI Γ x2 np pa) (np61 : np ≤ 61) (hpk : ∀ k, k < np → (pa k, pickE (pv k)) ∈ P) (hw : se 4 = nI w) (hw9 : w ≤ 9) (hz : ¬ pSm pv 1 (np - w) np = 0) : KM l yX2_meanOfLatest cX2_meanOfLatest 5 (some FieldType.int) Γ 3 64 0 0 [.ref e0] [[(e0, .inr (1, [.ref e1, .ref e2, .ref e3, .ref e4, .ref e5, .int td, .int pk, .int pd]))], [(e3, .inr (11, [.int m2, .ref x2.1, .int (nI np)]))], (alA Γ x2), [(e5, .inl (Γ.2.1 0, 6, .inl se))]] [P] sz (Qi Γ (fun r_ u_ => r_ = (pSm pv 2 (np - w) np / pSm pv 1 (np - w) np) ∧ u_ = [[(e0, .inr (1, [.ref e1, .ref e2, .ref e3, .ref e4, .ref e5, .int td, .int pk, .int pd]))], [(e3, .inr (11, [.int m2, .ref x2.1, .int (nI np)]))], (alA Γ x2), [(e5, .inl (Γ.2.1 0, 6, .inl se))]])) := by
  refine K_intro (by decide) (Nat.le_of_ble_eq_true rfl) ?_
  intro pr_ ev_ s mi_ below meth cd_ A ls hx hb hr hml hown hts hlocks hname hK hE hRo hP hD hA hS hsz hl
  have hl : lv_has ls 5 [(0, .ref e0)] := hl
  have hown : s.vm.findClass RX2 = some mi_.cls := hown
  refine lv_iconst (v := 0) hx hb dX2_meanOfLatest_0 (by decide) ?_
  refine b_top (show (0 : Int32) = pSm pv 1 (np - w) (np - w) from (pSm_0 _ _ _).symm) ?_
  refine lv_istore_n (lv' := [(1, .int (pSm pv 1 (np - w) (np - w))), (0, .ref e0)]) hx hb dX2_meanOfLatest_1 rfl hl (by decide) rfl (fun ls hl => ?_)
  refine lv_iconst (v := 0) hx hb dX2_meanOfLatest_2 (by decide) ?_
  refine b_top (show (0 : Int32) = pSm pv 2 (np - w) (np - w) from (pSm_0 _ _ _).symm) ?_
  refine lv_istore_n (lv' := [(2, .int (pSm pv 2 (np - w) (np - w))), (1, .int (pSm pv 1 (np - w) (np - w))), (0, .ref e0)]) hx hb dX2_meanOfLatest_3 rfl hl (by decide) rfl (fun ls hl => ?_)
  refine lv_iconst (v := 0) hx hb dX2_meanOfLatest_4 (by decide) ?_
  refine lv_aload_n hx hb dX2_meanOfLatest_5 rfl (lv_at hl 2 rfl) ?_
  refine b_get (C := RX2) (T := TX2) (N := 8) (v := .ref e3) hx hb hts in_X2 hown hK (b_at (k := 0) hP rfl) rfl 2 (by decide) q168 (fun _ h9 => h9) rfl dX2_meanOfLatest_6 ?_
  refine b_calli (br := [[(e0, .inr (1, [.ref e1, .ref e2, .ref e3, .ref e4, .ref e5, .int td, .int pk, .int pd]))], (alA Γ x2), [(e5, .inl (Γ.2.1 0, 6, .inl se))]]) (b_runV ⟨hx, hb, hml, hown, hts⟩ (mt_AL_size l Γ _ e3 m2 x2.1 np) (lw_V q961 q818 q819 q66 q820) rfl rfl 0 (by decide +kernel) ⟨(Nat.le_of_ble_eq_true rfl), (Nat.le_of_ble_eq_true rfl)⟩ (c_pre hP hD hS hA hK hE [1] rfl rfl ro_nil) (recv_at (q := (RJ2, TJ2, 3)) hK (b_at (k := 1) hP rfl) rfl) rfl hl.1 rfl (Nat.le_of_ble_eq_true rfl) dX2_meanOfLatest_9 ⟨(Nat.le_of_ble_eq_true rfl), (Nat.le_of_ble_eq_true rfl)⟩) hP hD hS hA [1] [0, 2, 3] rfl rfl rfl (fun r_1 u_1 H locs hw_1 hP hD hS _ => ?_)
  obtain ⟨rfl, rfl⟩ := hw_1
  have hP : WP Γ [[(e3, .inr (11, [.int m2, .ref x2.1, .int (nI np)]))], [(e0, .inr (1, [.ref e1, .ref e2, .ref e3, .ref e4, .ref e5, .int td, .int pk, .int pd]))], (alA Γ x2), [(e5, .inl (Γ.2.1 0, 6, .inl se))]] H := hP
  have hD : WD A [[(e3, .inr (11, [.int m2, .ref x2.1, .int (nI np)]))], [(e0, .inr (1, [.ref e1, .ref e2, .ref e3, .ref e4, .ref e5, .int td, .int pk, .int pd]))], (alA Γ x2), [(e5, .inl (Γ.2.1 0, 6, .inl se))]] := hD
  refine lv_aload_n hx hb dX2_meanOfLatest_12 rfl (lv_at hl 2 rfl) ?_
  refine b_get (C := RX2) (T := TX2) (N := 8) (v := .ref e5) hx hb hts in_X2 hown hK (b_at (k := 1) hP rfl) rfl 4 (by decide) q172 (fun _ h9 => h9) rfl dX2_meanOfLatest_13 ?_
  refine lv_iconst (v := 4) hx hb dX2_meanOfLatest_16 (by decide) ?_
  refine b_iald hx hb hK (b_at (k := 3) hP rfl) 4 rfl (by omega) (by omega) dX2_meanOfLatest_17 ?_
  refine b_top (hw) ?_
  refine lv_isub hx hb dX2_meanOfLatest_18 ?_
  refine va_mmax hx hb (hml.trans hl.1.symm) hown (hts _ q1000) (hts _ q493) (hts _ q83) (hts _ q494) (Nat.le_of_ble_eq_true rfl) (Nat.le_of_ble_eq_true rfl) (Nat.le_of_ble_eq_true rfl) (Nat.le_of_ble_eq_true rfl) dX2_meanOfLatest_19 ?_
  refine b_top (show (if 0 < ((nI np) - (nI w)) then ((nI np) - (nI w)) else 0) = nI (np - w) from mx_sub (by omega) (by omega)) ?_
  refine lv_istore_n (lv' := [(3, .int (nI (np - w))), (2, .int (pSm pv 2 (np - w) (np - w))), (1, .int (pSm pv 1 (np - w) (np - w))), (0, .ref e0)]) hx hb dX2_meanOfLatest_22 rfl hl (by decide) rfl (fun ls hl => ?_)
  refine lv_iload_n hx hb dX2_meanOfLatest_23 rfl (lv_at hl 0 rfl) ?_
  refine lv_istore (lv' := [(4, .int (nI (np - w))), (3, .int (nI (np - w))), (2, .int (pSm pv 2 (np - w) (np - w))), (1, .int (pSm pv 1 (np - w) (np - w))), (0, .ref e0)]) hx hb dX2_meanOfLatest_24 hl (by decide) rfl (fun ls hl => ?_)
  have loop_2 : ∀ (fuel : Nat) (j : Nat), np - j < fuel → (np - w ≤ j) → (j ≤ np) → ∀ (H : Heap) (locs : List Loc) (ls : Array Slot), WP Γ [[(e3, .inr (11, [.int m2, .ref x2.1, .int (nI np)]))], [(e0, .inr (1, [.ref e1, .ref e2, .ref e3, .ref e4, .ref e5, .int td, .int pk, .int pd]))], (alA Γ x2), [(e5, .inl (Γ.2.1 0, 6, .inl se))]] H → WD A [[(e3, .inr (11, [.int m2, .ref x2.1, .int (nI np)]))], [(e0, .inr (1, [.ref e1, .ref e2, .ref e3, .ref e4, .ref e5, .int td, .int pk, .int pd]))], (alA Γ x2), [(e5, .inl (Γ.2.1 0, 6, .inl se))]] → va_S A s.heap H locs → lv_has ls 5 [(4, .int (nI j)), (0, .ref e0), (1, .int (pSm pv 1 (np - w) j)), (2, .int (pSm pv 2 (np - w) j)), (3, .int (nI (np - w)))] → W pr_ l ev_ { frames := 3, cells := 0, slots := 0, locals := 64 } s mi_ ([.ref e0] : List Value).toArray below meth cd_ H locs 0 0 (MQ below (Qi Γ (fun r_ u_ => r_ = (pSm pv 2 (np - w) np / pSm pv 1 (np - w) np) ∧ u_ = [[(e0, .inr (1, [.ref e1, .ref e2, .ref e3, .ref e4, .ref e5, .int td, .int pk, .int pd]))], [(e3, .inr (11, [.int m2, .ref x2.1, .int (nI np)]))], (alA Γ x2), [(e5, .inl (Γ.2.1 0, 6, .inl se))]]) A) ([.ref e0] : List Value).toArray s 0 0 A) (F0 mi_ 26 ls ([])) := by
    intro fuel
    induction fuel with
    | zero => intro j hfuel; exact absurd hfuel (Nat.not_lt_zero _)
    | succ fuel ih =>
      intro j hfuel hj hj2 H locs ls hP hD hS hl
      refine lv_iload hx hb dX2_meanOfLatest_26 (lv_at hl 0 rfl) ?_
      refine lv_aload_n hx hb dX2_meanOfLatest_28 rfl (lv_at hl 1 rfl) ?_
      refine b_get (C := RX2) (T := TX2) (N := 8) (v := .ref e3) hx hb hts in_X2 hown hK (b_at (k := 1) hP rfl) rfl 2 (by decide) q168 (fun _ h9 => h9) rfl dX2_meanOfLatest_29 ?_
      refine b_calli (br := [[(e0, .inr (1, [.ref e1, .ref e2, .ref e3, .ref e4, .ref e5, .int td, .int pk, .int pd]))], (alA Γ x2), [(e5, .inl (Γ.2.1 0, 6, .inl se))]]) (b_runV ⟨hx, hb, hml, hown, hts⟩ (mt_AL_size l Γ _ e3 m2 x2.1 np) (lw_V q961 q818 q819 q66 q820) rfl rfl 0 (by decide +kernel) ⟨(Nat.le_of_ble_eq_true rfl), (Nat.le_of_ble_eq_true rfl)⟩ (c_pre hP hD hS hA hK hE [0] rfl rfl ro_nil) (recv_at (q := (RJ2, TJ2, 3)) hK (b_at (k := 0) hP rfl) rfl) rfl hl.1 rfl (Nat.le_of_ble_eq_true rfl) dX2_meanOfLatest_32 ⟨(Nat.le_of_ble_eq_true rfl), (Nat.le_of_ble_eq_true rfl)⟩) hP hD hS hA [0] [1, 2, 3] rfl rfl rfl (fun r_3 u_3 H locs hw_3 hP hD hS _ => ?_)
      obtain ⟨rfl, rfl⟩ := hw_3
      have hP : WP Γ [[(e3, .inr (11, [.int m2, .ref x2.1, .int (nI np)]))], [(e0, .inr (1, [.ref e1, .ref e2, .ref e3, .ref e4, .ref e5, .int td, .int pk, .int pd]))], (alA Γ x2), [(e5, .inl (Γ.2.1 0, 6, .inl se))]] H := hP
      have hD : WD A [[(e3, .inr (11, [.int m2, .ref x2.1, .int (nI np)]))], [(e0, .inr (1, [.ref e1, .ref e2, .ref e3, .ref e4, .ref e5, .int td, .int pk, .int pd]))], (alA Γ x2), [(e5, .inl (Γ.2.1 0, 6, .inl se))]] := hD
      refine lv_icmp_ge (tgt := 80) hx hb dX2_meanOfLatest_35 (by decide) (fun c_4 => ?_) (fun c_4 => ?_)
      · -- 35 taken
        have n_4 : np ≤ j := (nI_leI (by omega) (by omega)).mp (show nI np ≤ nI j from c_4)
        have m_4 : ¬ (j < np) := by omega
        have d_4 := Int32.not_lt.mpr c_4
        have ej : j = np := by omega
        refine lv_iload_n hx hb dX2_meanOfLatest_80 rfl (lv_at hl 3 rfl) ?_
        refine lv_iload_n hx hb dX2_meanOfLatest_81 rfl (lv_at hl 2 rfl) ?_
        refine lv_idiv hx hb dX2_meanOfLatest_82 ((by rw [ej]; exact hz)) ?_
        have hP : WP Γ [[(e0, .inr (1, [.ref e1, .ref e2, .ref e3, .ref e4, .ref e5, .int td, .int pk, .int pd]))], [(e3, .inr (11, [.int m2, .ref x2.1, .int (nI np)]))], (alA Γ x2), [(e5, .inl (Γ.2.1 0, 6, .inl se))]] H := bP_sel hP [1, 0, 2, 3] rfl
        have hD : WD A [[(e0, .inr (1, [.ref e1, .ref e2, .ref e3, .ref e4, .ref e5, .int td, .int pk, .int pd]))], [(e3, .inr (11, [.int m2, .ref x2.1, .int (nI np)]))], (alA Γ x2), [(e5, .inl (Γ.2.1 0, 6, .inl se))]] := bD_sel hD [1, 0, 2, 3] rfl rfl
        exact b_iret hx hb hr hlocks hP hD hS (Nat.le_of_ble_eq_true rfl) (Nat.le_of_ble_eq_true rfl) ⟨(by rw [ej]), (by first | with_reducible rfl | (simp [n_4, m_4, d_4]; done) | rfl)⟩ dX2_meanOfLatest_83
      · -- 35 not taken
        have n_4 : ¬ (np ≤ j) := fun h => c_4 ((nI_leI (a := np) (b := j) (by omega) (by omega)).mpr h)
        have m_4 : j < np := by omega
        have d_4 := Int32.not_le.mp c_4
        refine lv_iload_n hx hb dX2_meanOfLatest_38 rfl (lv_at hl 2 rfl) ?_
        refine lv_aload_n hx hb dX2_meanOfLatest_39 rfl (lv_at hl 1 rfl) ?_
        refine b_get (C := RX2) (T := TX2) (N := 8) (v := .ref e3) hx hb hts in_X2 hown hK (b_at (k := 1) hP rfl) rfl 2 (by decide) q168 (fun _ h9 => h9) rfl dX2_meanOfLatest_40 ?_
        refine lv_iload hx hb dX2_meanOfLatest_43 (lv_at hl 0 rfl) ?_
        refine b_callq (br := [[(e0, .inr (1, [.ref e1, .ref e2, .ref e3, .ref e4, .ref e5, .int td, .int pk, .int pd]))], [(e5, .inl (Γ.2.1 0, 6, .inl se))]]) (b_runV ⟨hx, hb, hml, hown, hts⟩ (mt_AL_get l Γ _ e3 m2 x2 np pa j hal2 (by omega)) (lw_V q963 q964 q965 q66 q966) rfl rfl 1 (by decide +kernel) ⟨(Nat.le_of_ble_eq_true rfl), (Nat.le_of_ble_eq_true rfl)⟩ (c_pre hP hD hS hA hK hE [0, 2] rfl rfl ro_nil) (recv_at (q := (RJ2, TJ2, 3)) hK (b_at (k := 0) hP rfl) rfl) rfl hl.1 rfl (Nat.le_of_ble_eq_true rfl) dX2_meanOfLatest_45 ⟨(Nat.le_of_ble_eq_true rfl), (Nat.le_of_ble_eq_true rfl)⟩) hP hD hS hA [0, 2] [1, 3] rfl rfl rfl (fun r_5 u_5 H locs hw_5 hP hD hS _ => ?_)
        obtain ⟨rfl, rfl⟩ := hw_5
        have hP : WP Γ [[(e3, .inr (11, [.int m2, .ref x2.1, .int (nI np)]))], (alA Γ x2), [(e0, .inr (1, [.ref e1, .ref e2, .ref e3, .ref e4, .ref e5, .int td, .int pk, .int pd]))], [(e5, .inl (Γ.2.1 0, 6, .inl se))]] H := hP
        have hD : WD A [[(e3, .inr (11, [.int m2, .ref x2.1, .int (nI np)]))], (alA Γ x2), [(e0, .inr (1, [.ref e1, .ref e2, .ref e3, .ref e4, .ref e5, .int td, .int pk, .int pd]))], [(e5, .inl (Γ.2.1 0, 6, .inl se))]] := hD
        refine W.eq (g2 := F0 mi_ 48 ls ([.ref (pa j), .int (pSm pv 1 (np - w) j)])) rfl ?_
        refine va_castS hx hb hown (hts _ q1237) (hK.1 6 _ rfl).2 (recv_at (q := (RX7, TX7, 6)) hK (Rc.obj (by decide) ((hRo _ (mem_blk (k := 0) rfl (hpk j (by omega)))).keep hS (fun _ h => h))) rfl) dX2_meanOfLatest_48 ?_
        refine b_getN (C := RX7) (T := TX7) (N := 6) (v := .int (pv j 1)) hx hb hts hE in_X7 hown hK (Rc.obj (by decide) ((hRo _ (mem_blk (k := 0) rfl (hpk j (by omega)))).keep hS (fun _ h => h))) rfl 1 (by decide) q1245 (fun _ h9 => h9) rfl dX2_meanOfLatest_51 ?_
        refine lv_iadd hx hb dX2_meanOfLatest_54 ?_
        refine b_top (show ((pSm pv 1 (np - w) j) + (pv j 1)) = pSm pv 1 (np - w) (j + 1) from (pSm_s hj).symm) ?_
        refine lv_istore_n (lv' := [(1, .int (pSm pv 1 (np - w) (j + 1))), (4, .int (nI j)), (0, .ref e0), (2, .int (pSm pv 2 (np - w) j)), (3, .int (nI (np - w)))]) hx hb dX2_meanOfLatest_55 rfl hl (by decide) rfl (fun ls hl => ?_)
        refine lv_iload_n hx hb dX2_meanOfLatest_56 rfl (lv_at hl 3 rfl) ?_
        refine lv_aload_n hx hb dX2_meanOfLatest_57 rfl (lv_at hl 2 rfl) ?_
        refine b_get (C := RX2) (T := TX2) (N := 8) (v := .ref e3) hx hb hts in_X2 hown hK (b_at (k := 2) hP rfl) rfl 2 (by decide) q168 (fun _ h9 => h9) rfl dX2_meanOfLatest_58 ?_
        refine lv_iload hx hb dX2_meanOfLatest_61 (lv_at hl 1 rfl) ?_
        refine b_callq (br := [[(e0, .inr (1, [.ref e1, .ref e2, .ref e3, .ref e4, .ref e5, .int td, .int pk, .int pd]))], [(e5, .inl (Γ.2.1 0, 6, .inl se))]]) (b_runV ⟨hx, hb, hml, hown, hts⟩ (mt_AL_get l Γ _ e3 m2 x2 np pa j hal2 (by omega)) (lw_V q963 q964 q965 q66 q966) rfl rfl 1 (by decide +kernel) ⟨(Nat.le_of_ble_eq_true rfl), (Nat.le_of_ble_eq_true rfl)⟩ (c_pre hP hD hS hA hK hE [0, 1] rfl rfl ro_nil) (recv_at (q := (RJ2, TJ2, 3)) hK (b_at (k := 0) hP rfl) rfl) rfl hl.1 rfl (Nat.le_of_ble_eq_true rfl) dX2_meanOfLatest_63 ⟨(Nat.le_of_ble_eq_true rfl), (Nat.le_of_ble_eq_true rfl)⟩) hP hD hS hA [0, 1] [2, 3] rfl rfl rfl (fun r_6 u_6 H locs hw_6 hP hD hS _ => ?_)
        obtain ⟨rfl, rfl⟩ := hw_6
        have hP : WP Γ [[(e3, .inr (11, [.int m2, .ref x2.1, .int (nI np)]))], (alA Γ x2), [(e0, .inr (1, [.ref e1, .ref e2, .ref e3, .ref e4, .ref e5, .int td, .int pk, .int pd]))], [(e5, .inl (Γ.2.1 0, 6, .inl se))]] H := hP
        have hD : WD A [[(e3, .inr (11, [.int m2, .ref x2.1, .int (nI np)]))], (alA Γ x2), [(e0, .inr (1, [.ref e1, .ref e2, .ref e3, .ref e4, .ref e5, .int td, .int pk, .int pd]))], [(e5, .inl (Γ.2.1 0, 6, .inl se))]] := hD
        refine W.eq (g2 := F0 mi_ 66 ls ([.ref (pa j), .int (pSm pv 2 (np - w) j)])) rfl ?_
        refine va_castS hx hb hown (hts _ q1237) (hK.1 6 _ rfl).2 (recv_at (q := (RX7, TX7, 6)) hK (Rc.obj (by decide) ((hRo _ (mem_blk (k := 0) rfl (hpk j (by omega)))).keep hS (fun _ h => h))) rfl) dX2_meanOfLatest_66 ?_
        refine b_getN (C := RX7) (T := TX7) (N := 6) (v := .int (pv j 2)) hx hb hts hE in_X7 hown hK (Rc.obj (by decide) ((hRo _ (mem_blk (k := 0) rfl (hpk j (by omega)))).keep hS (fun _ h => h))) rfl 2 (by decide) q1248 (fun _ h9 => h9) rfl dX2_meanOfLatest_69 ?_
        refine lv_iadd hx hb dX2_meanOfLatest_72 ?_
        refine b_top (show ((pSm pv 2 (np - w) j) + (pv j 2)) = pSm pv 2 (np - w) (j + 1) from (pSm_s hj).symm) ?_
        refine lv_istore_n (lv' := [(2, .int (pSm pv 2 (np - w) (j + 1))), (1, .int (pSm pv 1 (np - w) (j + 1))), (4, .int (nI j)), (0, .ref e0), (3, .int (nI (np - w)))]) hx hb dX2_meanOfLatest_73 rfl hl (by decide) rfl (fun ls hl => ?_)
        refine lv_iinc (v := (nI (j + 1))) (lv' := [(4, .int (nI (j + 1))), (2, .int (pSm pv 2 (np - w) (j + 1))), (1, .int (pSm pv 1 (np - w) (j + 1))), (0, .ref e0), (3, .int (nI (np - w)))]) hx hb dX2_meanOfLatest_74 hl (k := 2) rfl (nI_addE (a := j) (b := 1) (c := j + 1) rfl rfl (by first | omega | rfl)) (by decide) rfl (fun ls hl => ?_)
        refine lv_goto (tgt := 26) hx hb dX2_meanOfLatest_77 (by decide) ?_
        have hP : WP Γ [[(e3, .inr (11, [.int m2, .ref x2.1, .int (nI np)]))], [(e0, .inr (1, [.ref e1, .ref e2, .ref e3, .ref e4, .ref e5, .int td, .int pk, .int pd]))], (alA Γ x2), [(e5, .inl (Γ.2.1 0, 6, .inl se))]] H := bP_sel hP [0, 2, 1, 3] rfl
        have hD : WD A [[(e3, .inr (11, [.int m2, .ref x2.1, .int (nI np)]))], [(e0, .inr (1, [.ref e1, .ref e2, .ref e3, .ref e4, .ref e5, .int td, .int pk, .int pd]))], (alA Γ x2), [(e5, .inl (Γ.2.1 0, 6, .inl se))]] := bD_sel hD [0, 2, 1, 3] rfl rfl
        exact ih (j + 1) (by omega) (by omega) (by omega) _ _ _ hP hD hS (lv_sub hl [0, 3, 2, 1, 4] rfl)
  exact loop_2 ((np - (np - w)) + 1) (np - w) (Nat.lt_succ_self _) (Nat.le_refl _) (by omega) _ _ _ hP hD hS (lv_sub hl [0, 4, 3, 2, 1] rfl)
def bonV (rv : Nat → Nat → Int32) (v : Int32) (nr : Nat) : Int32 := if rowK rv v nr < nr then rv (rowK rv v nr) 1 else 0
set_option maxHeartbeats 4000000 in
set_option maxRecDepth 100000 in
theorem mt_Hd_bonusFor (l : Launch) (Γ : GE) (sz : Nat) (e0 : Nat) (e1 : Nat) (e2 : Nat) (e3 : Nat) (e4 : Nat) (e5 : Nat) (td : Int32) (pk : Int32) (pd : Int32) (x1 : LST) (m1 : Int32) (nr : Nat) (ra : Nat → Nat) (rv : Nat → Nat → Int32) (P : va_W) (v : Int32) (hal1 : alI Γ x1 nr ra) (nr4 : nr ≤ 4) (hrw : ∀ k, k < nr → (ra k, rowE (rv k)) ∈ P) : KM l yX2_bonusFor cX2_bonusFor 4 (some FieldType.int) Γ 3 71 1 4 [.ref e0, .int v] [[(e0, .inr (1, [.ref e1, .ref e2, .ref e3, .ref e4, .ref e5, .int td, .int pk, .int pd]))], [(e2, .inr (11, [.int m1, .ref x1.1, .int (nI nr)]))], (alA Γ x1)] [P] sz (Qi Γ (fun r_ u_ => r_ = (bonV rv v nr) ∧ u_ = [[(e0, .inr (1, [.ref e1, .ref e2, .ref e3, .ref e4, .ref e5, .int td, .int pk, .int pd]))], [(e2, .inr (11, [.int m1, .ref x1.1, .int (nI nr)]))], (alA Γ x1)])) := by
  refine K_intro (by decide) (Nat.le_of_ble_eq_true rfl) ?_
  intro pr_ ev_ s mi_ below meth cd_ A ls hx hb hr hml hown hts hlocks hname hK hE hRo hP hD hA hS hsz hl
  have hl : lv_has ls 4 [(0, .ref e0), (1, .int v)] := hl
  have hown : s.vm.findClass RX2 = some mi_.cls := hown
  refine lv_aload_n hx hb dX2_bonusFor_0 rfl (lv_at hl 0 rfl) ?_
  refine b_get (C := RX2) (T := TX2) (N := 8) (v := .ref e2) hx hb hts in_X2 hown hK (b_at (k := 0) hP rfl) rfl 1 (by decide) q166 (fun _ h9 => h9) rfl dX2_bonusFor_1 ?_
  refine b_callq (br := [[(e0, .inr (1, [.ref e1, .ref e2, .ref e3, .ref e4, .ref e5, .int td, .int pk, .int pd]))], (alA Γ x1)]) (b_runV ⟨hx, hb, hml, hown, hts⟩ (mt_AL_iterator l Γ _ e2 m1 x1.1 nr) (lw_V q296 q297 q298 q66 q299) rfl rfl 0 (by decide +kernel) ⟨(Nat.le_of_ble_eq_true rfl), (Nat.le_of_ble_eq_true rfl)⟩ (c_pre hP hD hS hA hK hE [1] rfl rfl ro_nil) (recv_at (q := (RJ2, TJ2, 3)) hK (b_at (k := 1) hP rfl) rfl) rfl hl.1 rfl (Nat.le_of_ble_eq_true rfl) dX2_bonusFor_4 ⟨(Nat.le_of_ble_eq_true rfl), (Nat.le_of_ble_eq_true rfl)⟩) hP hD hS hA [1] [0, 2] rfl rfl rfl (fun r_1 u_1 H locs hw_1 hP hD hS _ => ?_)
  obtain ⟨t_1, rfl, rfl⟩ := hw_1
  have hP : WP Γ [[(t_1, .inr (15, [.int (nI 0), .int (-1), .int m1, .ref e2]))], [(e2, .inr (11, [.int m1, .ref x1.1, .int (nI nr)]))], [(e0, .inr (1, [.ref e1, .ref e2, .ref e3, .ref e4, .ref e5, .int td, .int pk, .int pd]))], (alA Γ x1)] H := hP
  have hD : WD A [[(t_1, .inr (15, [.int (nI 0), .int (-1), .int m1, .ref e2]))], [(e2, .inr (11, [.int m1, .ref x1.1, .int (nI nr)]))], [(e0, .inr (1, [.ref e1, .ref e2, .ref e3, .ref e4, .ref e5, .int td, .int pk, .int pd]))], (alA Γ x1)] := hD
  refine W.eq (g2 := F0 mi_ 7 ls ([.ref t_1])) rfl ?_
  refine lv_astore_n (lv' := [(2, .ref t_1), (0, .ref e0), (1, .int v)]) hx hb dX2_bonusFor_7 rfl hl (by decide) rfl (fun ls hl => ?_)
  have loop_2 : ∀ (fuel : Nat) (j : Nat) (lr : Int32), nr - j < fuel → (j ≤ nr) → (rowK rv v nr = rwK rv v (nr - j) j) → ∀ (H : Heap) (locs : List Loc) (ls : Array Slot), WP Γ [[(t_1, .inr (15, [.int (nI j), .int lr, .int m1, .ref e2]))], [(e2, .inr (11, [.int m1, .ref x1.1, .int (nI nr)]))], [(e0, .inr (1, [.ref e1, .ref e2, .ref e3, .ref e4, .ref e5, .int td, .int pk, .int pd]))], (alA Γ x1)] H → WD A [[(t_1, .inr (15, [.int (nI j), .int lr, .int m1, .ref e2]))], [(e2, .inr (11, [.int m1, .ref x1.1, .int (nI nr)]))], [(e0, .inr (1, [.ref e1, .ref e2, .ref e3, .ref e4, .ref e5, .int td, .int pk, .int pd]))], (alA Γ x1)] → va_S A s.heap H locs → lv_has ls 4 [(2, .ref t_1), (0, .ref e0), (1, .int v)] → W pr_ l ev_ { frames := 3, cells := 1, slots := 4, locals := 71 } s mi_ ([.ref e0, .int v] : List Value).toArray below meth cd_ H locs 1 4 (MQ below (Qi Γ (fun r_ u_ => r_ = (bonV rv v nr) ∧ u_ = [[(e0, .inr (1, [.ref e1, .ref e2, .ref e3, .ref e4, .ref e5, .int td, .int pk, .int pd]))], [(e2, .inr (11, [.int m1, .ref x1.1, .int (nI nr)]))], (alA Γ x1)]) A) ([.ref e0, .int v] : List Value).toArray s 1 4 A) (F0 mi_ 8 ls ([])) := by
    intro fuel
    induction fuel with
    | zero => intro j lr hfuel; exact absurd hfuel (Nat.not_lt_zero _)
    | succ fuel ih =>
      intro j lr hfuel hj hI H locs ls hP hD hS hl
      refine lv_aload_n hx hb dX2_bonusFor_8 rfl (lv_at hl 0 rfl) ?_
      by_cases hjn : j < nr
      ·
        refine b_call5i (br := [[(e0, .inr (1, [.ref e1, .ref e2, .ref e3, .ref e4, .ref e5, .int td, .int pk, .int pd]))], (alA Γ x1)]) (b_runF (x := ⟨"java/util/Iterator", "hasNext", "()Z"⟩) (hK.1 15 _ rfl).2 ⟨hx, hb, hml, hown, hts⟩ (mt_Itr_hasNext_yes l Γ _ t_1 e2 m1 x1.1 nr j lr (by omega) (by omega)) (hE.1.2.1.1 (fwL[1]'(by decide)) (List.getElem_mem _)) q320 q324 q326 q79 q328 rfl rfl 0 ⟨by decide, by decide, by decide +kernel⟩ ⟨(Nat.le_of_ble_eq_true rfl), (Nat.le_of_ble_eq_true rfl)⟩ (c_pre hP hD hS hA hK hE [0, 1] rfl rfl ro_nil) (recv_at (q := (RJ13, TJ13, 4)) hK (b_at (k := 0) hP rfl) rfl) rfl hl.1 rfl (Nat.le_of_ble_eq_true rfl) dX2_bonusFor_9 ⟨(Nat.le_of_ble_eq_true rfl), (Nat.le_of_ble_eq_true rfl)⟩) hP hD hS hA [0, 1] [2, 3] rfl rfl rfl (fun r_3 u_3 H locs hw_3 hP hD hS _ => ?_)
        obtain ⟨rfl, rfl⟩ := hw_3
        have hP : WP Γ [[(t_1, .inr (15, [.int (nI j), .int lr, .int m1, .ref e2]))], [(e2, .inr (11, [.int m1, .ref x1.1, .int (nI nr)]))], [(e0, .inr (1, [.ref e1, .ref e2, .ref e3, .ref e4, .ref e5, .int td, .int pk, .int pd]))], (alA Γ x1)] H := hP
        have hD : WD A [[(t_1, .inr (15, [.int (nI j), .int lr, .int m1, .ref e2]))], [(e2, .inr (11, [.int m1, .ref x1.1, .int (nI nr)]))], [(e0, .inr (1, [.ref e1, .ref e2, .ref e3, .ref e4, .ref e5, .int td, .int pk, .int pd]))], (alA Γ x1)] := hD
        refine lv_if_eq (tgt := 43) hx hb dX2_bonusFor_14 (by decide) (fun c_4 => ?_) (fun c_4 => ?_)
        · -- 14 taken
          have n_4 : 1 = 0 := (nI_eq (by omega) (by omega)).mp (show nI 1 = nI 0 from c_4)
          exact absurd n_4 (by omega)
        · -- 14 not taken
          have n_4 : ¬ (1 = 0) := fun h => c_4 ((nI_eq (a := 1) (b := 0) (by omega) (by omega)).mpr h)
          refine lv_aload_n hx hb dX2_bonusFor_17 rfl (lv_at hl 0 rfl) ?_
          refine b_call5q (br := [[(e0, .inr (1, [.ref e1, .ref e2, .ref e3, .ref e4, .ref e5, .int td, .int pk, .int pd]))]]) (b_runF (x := ⟨"java/util/Iterator", "next", "()Ljava/lang/Object;"⟩) (hK.1 15 _ rfl).2 ⟨hx, hb, hml, hown, hts⟩ (mt_Itr_next l Γ _ t_1 e2 m1 x1 nr j lr ra hal1 (by omega)) (hE.1.2.1.1 (fwL[2]'(by decide)) (List.getElem_mem _)) q330 q333 q335 q79 q337 rfl rfl 0 ⟨by decide, by decide, by decide +kernel⟩ ⟨(Nat.le_of_ble_eq_true rfl), (Nat.le_of_ble_eq_true rfl)⟩ (c_pre hP hD hS hA hK hE [0, 1, 3] rfl rfl ro_nil) (recv_at (q := (RJ13, TJ13, 4)) hK (b_at (k := 0) hP rfl) rfl) rfl hl.1 rfl (Nat.le_of_ble_eq_true rfl) dX2_bonusFor_18 ⟨(Nat.le_of_ble_eq_true rfl), (Nat.le_of_ble_eq_true rfl)⟩) hP hD hS hA [0, 1, 3] [2] rfl rfl rfl (fun r_5 u_5 H locs hw_5 hP hD hS _ => ?_)
          obtain ⟨rfl, rfl⟩ := hw_5
          have hP : WP Γ [[(t_1, .inr (15, [.int (nI (j + 1)), .int (nI j), .int m1, .ref e2]))], [(e2, .inr (11, [.int m1, .ref x1.1, .int (nI nr)]))], (alA Γ x1), [(e0, .inr (1, [.ref e1, .ref e2, .ref e3, .ref e4, .ref e5, .int td, .int pk, .int pd]))]] H := hP
          have hD : WD A [[(t_1, .inr (15, [.int (nI (j + 1)), .int (nI j), .int m1, .ref e2]))], [(e2, .inr (11, [.int m1, .ref x1.1, .int (nI nr)]))], (alA Γ x1), [(e0, .inr (1, [.ref e1, .ref e2, .ref e3, .ref e4, .ref e5, .int td, .int pk, .int pd]))]] := hD
          refine W.eq (g2 := F0 mi_ 23 ls ([.ref (ra j)])) rfl ?_
          refine va_castS hx hb hown (hts _ q1110) (hK.1 5 _ rfl).2 (recv_at (q := (RX6, TX6, 2)) hK (Rc.obj (by decide) ((hRo _ (mem_blk (k := 0) rfl (hrw j (by omega)))).keep hS (fun _ h => h))) rfl) dX2_bonusFor_23 ?_
          refine lv_astore_n (lv' := [(3, .ref (ra j)), (2, .ref t_1), (0, .ref e0), (1, .int v)]) hx hb dX2_bonusFor_26 rfl hl (by decide) rfl (fun ls hl => ?_)
          refine lv_aload_n hx hb dX2_bonusFor_27 rfl (lv_at hl 0 rfl) ?_
          refine b_getN (C := RX6) (T := TX6) (N := 2) (v := .int (rv j 0)) hx hb hts hE in_X6 hown hK (Rc.obj (by decide) ((hRo _ (mem_blk (k := 0) rfl (hrw j (by omega)))).keep hS (fun _ h => h))) rfl 0 (by decide) q1121 (fun _ h9 => h9) rfl dX2_bonusFor_28 ?_
          refine lv_iload_n hx hb dX2_bonusFor_31 rfl (lv_at hl 3 rfl) ?_
          refine lv_icmp_lt (tgt := 40) hx hb dX2_bonusFor_32 (by decide) (fun c_6 => ?_) (fun c_6 => ?_)
          · -- 32 taken
            refine lv_goto (tgt := 8) hx hb dX2_bonusFor_40 (by decide) ?_
            have hP : WP Γ [[(t_1, .inr (15, [.int (nI (j + 1)), .int (nI j), .int m1, .ref e2]))], [(e2, .inr (11, [.int m1, .ref x1.1, .int (nI nr)]))], [(e0, .inr (1, [.ref e1, .ref e2, .ref e3, .ref e4, .ref e5, .int td, .int pk, .int pd]))], (alA Γ x1)] H := bP_sel hP [0, 1, 3, 2] rfl
            have hD : WD A [[(t_1, .inr (15, [.int (nI (j + 1)), .int (nI j), .int m1, .ref e2]))], [(e2, .inr (11, [.int m1, .ref x1.1, .int (nI nr)]))], [(e0, .inr (1, [.ref e1, .ref e2, .ref e3, .ref e4, .ref e5, .int td, .int pk, .int pd]))], (alA Γ x1)] := bD_sel hD [0, 1, 3, 2] rfl rfl
            exact ih (j + 1) (nI j) (by omega) (by omega) (by rw [hI, show nr - j = (nr - (j + 1)) + 1 by omega, rwK, if_pos c_6]) _ _ _ hP hD hS (lv_sub hl [1, 2, 3] rfl)
          · -- 32 not taken
            have hK9 : rowK rv v nr = j := by rw [hI, show nr - j = (nr - (j + 1)) + 1 by omega, rwK, if_neg c_6]
            refine lv_aload_n hx hb dX2_bonusFor_35 rfl (lv_at hl 0 rfl) ?_
            refine b_getN (C := RX6) (T := TX6) (N := 2) (v := .int (rv j 1)) hx hb hts hE in_X6 hown hK (Rc.obj (by decide) ((hRo _ (mem_blk (k := 0) rfl (hrw j (by omega)))).keep hS (fun _ h => h))) rfl 1 (by decide) q1124 (fun _ h9 => h9) rfl dX2_bonusFor_36 ?_
            have hP : WP Γ [[(e0, .inr (1, [.ref e1, .ref e2, .ref e3, .ref e4, .ref e5, .int td, .int pk, .int pd]))], [(e2, .inr (11, [.int m1, .ref x1.1, .int (nI nr)]))], (alA Γ x1)] H := bP_sel hP [3, 1, 2] rfl
            have hD : WD A [[(e0, .inr (1, [.ref e1, .ref e2, .ref e3, .ref e4, .ref e5, .int td, .int pk, .int pd]))], [(e2, .inr (11, [.int m1, .ref x1.1, .int (nI nr)]))], (alA Γ x1)] := bD_sel hD [3, 1, 2] rfl rfl
            exact b_iret hx hb hr hlocks hP hD hS (Nat.le_of_ble_eq_true rfl) (Nat.le_of_ble_eq_true rfl) ⟨(by rw [bonV, hK9, if_pos (by omega)]), (by first | with_reducible rfl | (simp [hjn, n_4, c_6]; done) | rfl)⟩ dX2_bonusFor_39
      ·
        refine b_call5i (br := [[(e0, .inr (1, [.ref e1, .ref e2, .ref e3, .ref e4, .ref e5, .int td, .int pk, .int pd]))], (alA Γ x1)]) (b_runF (x := ⟨"java/util/Iterator", "hasNext", "()Z"⟩) (hK.1 15 _ rfl).2 ⟨hx, hb, hml, hown, hts⟩ (mt_Itr_hasNext_no l Γ _ t_1 e2 m1 x1.1 nr j lr (by omega) (by omega)) (hE.1.2.1.1 (fwL[1]'(by decide)) (List.getElem_mem _)) q320 q324 q326 q79 q328 rfl rfl 0 ⟨by decide, by decide, by decide +kernel⟩ ⟨(Nat.le_of_ble_eq_true rfl), (Nat.le_of_ble_eq_true rfl)⟩ (c_pre hP hD hS hA hK hE [0, 1] rfl rfl ro_nil) (recv_at (q := (RJ13, TJ13, 4)) hK (b_at (k := 0) hP rfl) rfl) rfl hl.1 rfl (Nat.le_of_ble_eq_true rfl) dX2_bonusFor_9 ⟨(Nat.le_of_ble_eq_true rfl), (Nat.le_of_ble_eq_true rfl)⟩) hP hD hS hA [0, 1] [2, 3] rfl rfl rfl (fun r_7 u_7 H locs hw_7 hP hD hS _ => ?_)
        obtain ⟨rfl, rfl⟩ := hw_7
        have hP : WP Γ [[(t_1, .inr (15, [.int (nI j), .int lr, .int m1, .ref e2]))], [(e2, .inr (11, [.int m1, .ref x1.1, .int (nI nr)]))], [(e0, .inr (1, [.ref e1, .ref e2, .ref e3, .ref e4, .ref e5, .int td, .int pk, .int pd]))], (alA Γ x1)] H := hP
        have hD : WD A [[(t_1, .inr (15, [.int (nI j), .int lr, .int m1, .ref e2]))], [(e2, .inr (11, [.int m1, .ref x1.1, .int (nI nr)]))], [(e0, .inr (1, [.ref e1, .ref e2, .ref e3, .ref e4, .ref e5, .int td, .int pk, .int pd]))], (alA Γ x1)] := hD
        refine lv_if_eq (tgt := 43) hx hb dX2_bonusFor_14 (by decide) (fun c_8 => ?_) (fun c_8 => ?_)
        · -- 14 taken
          have n_8 : 0 = 0 := (nI_eq (by omega) (by omega)).mp (show nI 0 = nI 0 from c_8)
          have hK9 : rowK rv v nr = j := by rw [hI, show nr - j = 0 by omega]; rfl
          refine lv_iconst (v := 0) hx hb dX2_bonusFor_43 (by decide) ?_
          have hP : WP Γ [[(e0, .inr (1, [.ref e1, .ref e2, .ref e3, .ref e4, .ref e5, .int td, .int pk, .int pd]))], [(e2, .inr (11, [.int m1, .ref x1.1, .int (nI nr)]))], (alA Γ x1)] H := bP_sel hP [2, 1, 3] rfl
          have hD : WD A [[(e0, .inr (1, [.ref e1, .ref e2, .ref e3, .ref e4, .ref e5, .int td, .int pk, .int pd]))], [(e2, .inr (11, [.int m1, .ref x1.1, .int (nI nr)]))], (alA Γ x1)] := bD_sel hD [2, 1, 3] rfl rfl
          exact b_iret hx hb hr hlocks hP hD hS (Nat.le_of_ble_eq_true rfl) (Nat.le_of_ble_eq_true rfl) ⟨(by rw [bonV, hK9, if_neg (by omega)]), (by first | with_reducible rfl | (simp [hjn, n_8]; done) | rfl)⟩ dX2_bonusFor_44
        · -- 14 not taken
          have n_8 : ¬ (0 = 0) := fun h => c_8 ((nI_eq (a := 0) (b := 0) (by omega) (by omega)).mpr h)
          exact absurd n_8 (by omega)
  exact loop_2 ((nr - 0) + 1) 0 (-1) (Nat.lt_succ_self _) (Nat.zero_le _) rfl _ _ _ hP hD hS (lv_sub hl [0, 1, 2] rfl)
def rwK9 : Unit := ()
theorem neg_lt {k : Nat} (h : k < 2 ^ 31) : (-1 : Int32) - nI k < 0 := by
  rw [Int32.lt_iff_toInt_lt, Int32.toInt_sub, nI_toInt h, show (-1 : Int32).toInt = -1 from rfl, show (0 : Int32).toInt = 0 from rfl, Int.bmod_eq_of_le (by omega) (by omega)]
  omega
theorem neg_neg1 (x : Int32) : (-1 : Int32) - (-1 - x) = x := by
  apply Int32.toBitVec_inj.mp
  simp only [Int32.toBitVec_sub]
  bv_omega
theorem obOk5 : obOk 5 := Or.inr (Or.inr (Or.inl rfl))
theorem obOk6 : obOk 6 := Or.inr (Or.inr (Or.inr (Or.inl rfl)))
theorem obOk4 : obOk 4 := Or.inr (Or.inl rfl)
set_option maxHeartbeats 4000000 in
set_option maxRecDepth 100000 in
theorem mt_Hd_setBonus_hit (l : Launch) (Γ : GE) (sz : Nat) (e0 : Nat) (e1 : Nat) (e2 : Nat) (e3 : Nat) (e4 : Nat) (e5 : Nat) (td : Int32) (pk : Int32) (pd : Int32) (x1 : LST) (m1 : Int32) (nr : Nat) (ra : Nat → Nat) (rv : Nat → Nat → Int32) (P : va_W) (lim : Int32) (bon : Int32) (hal1 : alI Γ x1 nr ra) (nr4 : nr ≤ 4) (hrw : ∀ k, k < nr → (ra k, rowE (rv k)) ∈ P) (hkn : rowK rv lim nr < nr) (hke : rv (rowK rv lim nr) 0 = lim) : KM l yX2_setBonus cX2_setBonus 4 none Γ 4 86 1 10 [.ref e0, .int lim, .int bon] [[(e0, .inr (1, [.ref e1, .ref e2, .ref e3, .ref e4, .ref e5, .int td, .int pk, .int pd]))], [(e2, .inr (11, [.int m1, .ref x1.1, .int (nI nr)]))], (alA Γ x1), P] [] sz (Qv Γ (fun u_ => ∃ a : Nat, ∃ y : LST, alI Γ y nr (va_up ra (rowK rv lim nr) a) ∧ u_ = [[(e0, .inr (1, [.ref e1, .ref e2, .ref e3, .ref e4, .ref e5, .int td, .int pk, .int pd]))], [(e2, .inr (11, [.int m1, .ref y.1, .int (nI nr)]))], (alA Γ y), ([(a, rowE (rwNew lim bon))] ++ P)])) := by
  refine K_intro (by decide) (Nat.le_of_ble_eq_true rfl) ?_
  intro pr_ ev_ s mi_ below meth cd_ A ls hx hb hr hml hown hts hlocks hname hK hE hRo hP hD hA hS hsz hl
  have hl : lv_has ls 4 [(0, .ref e0), (1, .int lim), (2, .int bon)] := hl
  have hown : s.vm.findClass RX2 = some mi_.cls := hown
  refine lv_aload_n hx hb dX2_setBonus_0 rfl (lv_at hl 0 rfl) ?_
  refine lv_iload_n hx hb dX2_setBonus_1 rfl (lv_at hl 1 rfl) ?_
  refine b_calli (br := [P]) (b_runV ⟨hx, hb, hml, hown, hts⟩ (mt_Hd_rowOf l Γ _ e0 e1 e2 e3 e4 e5 td pk pd x1 m1 nr ra rv P lim (by assumption) (by first | assumption | omega) (by assumption)) (lw_V q1106 q1108 qs10 q63 q1109) rfl rfl 1 (by decide +kernel) ⟨(Nat.le_of_ble_eq_true rfl), (Nat.le_of_ble_eq_true rfl)⟩ (c_pre hP hD hS hA hK hE [0, 1, 2] rfl rfl (ro_own (br := [P]) hP hD [0, 1, 2] [3] rfl rfl rfl)) (recv_at (q := (RX2, TX2, 8)) hK (b_at (k := 0) hP rfl) rfl) rfl hl.1 rfl (Nat.le_of_ble_eq_true rfl) dX2_setBonus_2 ⟨(Nat.le_of_ble_eq_true rfl), (Nat.le_of_ble_eq_true rfl)⟩) hP hD hS hA [0, 1, 2] [3] rfl rfl rfl (fun r_1 u_1 H locs hw_1 hP hD hS _ => ?_)
  obtain ⟨rfl, rfl⟩ := hw_1
  have hP : WP Γ [[(e0, .inr (1, [.ref e1, .ref e2, .ref e3, .ref e4, .ref e5, .int td, .int pk, .int pd]))], [(e2, .inr (11, [.int m1, .ref x1.1, .int (nI nr)]))], (alA Γ x1), P] H := hP
  have hD : WD A [[(e0, .inr (1, [.ref e1, .ref e2, .ref e3, .ref e4, .ref e5, .int td, .int pk, .int pd]))], [(e2, .inr (11, [.int m1, .ref x1.1, .int (nI nr)]))], (alA Γ x1), P] := hD
  refine b_top (show rowR rv lim nr = nI (rowK rv lim nr) from by rw [rowR, if_pos hkn, if_pos hke]) ?_
  refine lv_istore_n (lv' := [(3, .int (nI (rowK rv lim nr))), (0, .ref e0), (1, .int lim), (2, .int bon)]) hx hb dX2_setBonus_5 rfl hl (by decide) rfl (fun ls hl => ?_)
  refine lv_iload_n hx hb dX2_setBonus_6 rfl (lv_at hl 0 rfl) ?_
  refine lv_if_lt (tgt := 31) hx hb dX2_setBonus_7 (by decide) (fun c_2 => ?_) (fun c_2 => ?_)
  · -- 7 taken
    have n_2 : (rowK rv lim nr) < 0 := (nI_ltI (by omega) (by omega)).mp (show nI (rowK rv lim nr) < nI 0 from c_2)
    exfalso; omega
  · -- 7 not taken
    have n_2 : ¬ ((rowK rv lim nr) < 0) := fun h => c_2 ((nI_ltI (a := (rowK rv lim nr)) (b := 0) (by omega) (by omega)).mpr h)
    refine lv_aload_n hx hb dX2_setBonus_10 rfl (lv_at hl 1 rfl) ?_
    refine b_get (C := RX2) (T := TX2) (N := 8) (v := .ref e2) hx hb hts in_X2 hown hK (b_at (k := 0) hP rfl) rfl 1 (by decide) q166 (fun _ h9 => h9) rfl dX2_setBonus_11 ?_
    refine lv_iload_n hx hb dX2_setBonus_14 rfl (lv_at hl 0 rfl) ?_
    refine b_new (ci := 5) (fs := [.int 0, .int 0]) (C := RX6) (T := TX6) (N := 2) hx hb hts in_X6 tyX6_ok hown q1110 q1115 q94 hK hP hD hS hA rfl (fun j hj => by rcases (show j = 0 ∨ j = 1 by omega) with rfl | rfl <;> rfl) (Nat.le_of_ble_eq_true rfl) (Nat.le_of_ble_eq_true rfl) dX2_setBonus_15 (fun a_3 H hP hD hS => ?_)
    have hP : WP Γ [[(e0, .inr (1, [.ref e1, .ref e2, .ref e3, .ref e4, .ref e5, .int td, .int pk, .int pd]))], [(e2, .inr (11, [.int m1, .ref x1.1, .int (nI nr)]))], (alA Γ x1), P, [(a_3, .inr (5, [.int 0, .int 0]))]] H := hP
    have hD : WD A [[(e0, .inr (1, [.ref e1, .ref e2, .ref e3, .ref e4, .ref e5, .int td, .int pk, .int pd]))], [(e2, .inr (11, [.int m1, .ref x1.1, .int (nI nr)]))], (alA Γ x1), P, [(a_3, .inr (5, [.int 0, .int 0]))]] := hD
    refine lv_dup hx hb dX2_setBonus_18 rfl ?_
    refine lv_iload_n hx hb dX2_setBonus_19 rfl (lv_at hl 2 rfl) ?_
    refine lv_iload_n hx hb dX2_setBonus_20 rfl (lv_at hl 3 rfl) ?_
    refine b_callv (br := [[(e0, .inr (1, [.ref e1, .ref e2, .ref e3, .ref e4, .ref e5, .int td, .int pk, .int pd]))], [(e2, .inr (11, [.int m1, .ref x1.1, .int (nI nr)]))], (alA Γ x1), P]) (b_runI ⟨hx, hb, hml, hown, hts⟩ (mt_Row_init l Γ _ a_3 lim bon) (lw_meth q1118) q94 q1116 q1117 rfl rfl rfl 2 (by decide +kernel) ⟨(Nat.le_of_ble_eq_true rfl), (Nat.le_of_ble_eq_true rfl)⟩ (c_pre hP hD hS hA hK hE [4] rfl rfl ro_nil) rfl hl.1 rfl (Nat.le_of_ble_eq_true rfl) dX2_setBonus_21 ⟨(Nat.le_of_ble_eq_true rfl), (Nat.le_of_ble_eq_true rfl)⟩) hP hD hS hA [4] [0, 1, 2, 3] rfl rfl rfl (fun u_4 H locs hw_4 hP hD hS _ => ?_)
    obtain rfl := hw_4
    have hP : WP Γ [[(a_3, .inr (5, [.int lim, .int bon]))], [(e0, .inr (1, [.ref e1, .ref e2, .ref e3, .ref e4, .ref e5, .int td, .int pk, .int pd]))], [(e2, .inr (11, [.int m1, .ref x1.1, .int (nI nr)]))], (alA Γ x1), P] H := hP
    have hD : WD A [[(a_3, .inr (5, [.int lim, .int bon]))], [(e0, .inr (1, [.ref e1, .ref e2, .ref e3, .ref e4, .ref e5, .int td, .int pk, .int pd]))], [(e2, .inr (11, [.int m1, .ref x1.1, .int (nI nr)]))], (alA Γ x1), P] := hD
    have hP : WP Γ [[(a_3, .inr (5, [.int lim, .int bon]))], P, [(e0, .inr (1, [.ref e1, .ref e2, .ref e3, .ref e4, .ref e5, .int td, .int pk, .int pd]))], [(e2, .inr (11, [.int m1, .ref x1.1, .int (nI nr)]))], (alA Γ x1)] H := bP_sel hP [0, 4, 1, 2, 3] rfl
    have hD : WD A [[(a_3, .inr (5, [.int lim, .int bon]))], P, [(e0, .inr (1, [.ref e1, .ref e2, .ref e3, .ref e4, .ref e5, .int td, .int pk, .int pd]))], [(e2, .inr (11, [.int m1, .ref x1.1, .int (nI nr)]))], (alA Γ x1)] := bD_sel hD [0, 4, 1, 2, 3] rfl rfl
    have hP : WP Γ [([(a_3, rowE (rwNew lim bon))] ++ P), [(e0, .inr (1, [.ref e1, .ref e2, .ref e3, .ref e4, .ref e5, .int td, .int pk, .int pd]))], [(e2, .inr (11, [.int m1, .ref x1.1, .int (nI nr)]))], (alA Γ x1)] H := hP
    have hD : WD A [([(a_3, rowE (rwNew lim bon))] ++ P), [(e0, .inr (1, [.ref e1, .ref e2, .ref e3, .ref e4, .ref e5, .int td, .int pk, .int pd]))], [(e2, .inr (11, [.int m1, .ref x1.1, .int (nI nr)]))], (alA Γ x1)] := hD
    refine b_callq (br := [([(a_3, rowE (rwNew lim bon))] ++ P), [(e0, .inr (1, [.ref e1, .ref e2, .ref e3, .ref e4, .ref e5, .int td, .int pk, .int pd]))]]) (b_runV ⟨hx, hb, hml, hown, hts⟩ (mt_AL_set l Γ _ e2 m1 x1 nr ra (rowK rv lim nr) a_3 ([(a_3, rowE (rwNew lim bon))] ++ P) hal1 hkn (⟨5, _, List.mem_cons_self, obOk5⟩)) (lw_V q1131 q1132 q1133 q66 q1134) rfl rfl 2 (by decide +kernel) ⟨(Nat.le_of_ble_eq_true rfl), (Nat.le_of_ble_eq_true rfl)⟩ (c_pre hP hD hS hA hK hE [2, 3] rfl rfl (ro_own (br := [([(a_3, rowE (rwNew lim bon))] ++ P)]) hP hD [2, 3] [0] rfl rfl rfl)) (recv_at (q := (RJ2, TJ2, 3)) hK (b_at (k := 2) hP rfl) rfl) rfl hl.1 rfl (Nat.le_of_ble_eq_true rfl) dX2_setBonus_24 ⟨(Nat.le_of_ble_eq_true rfl), (Nat.le_of_ble_eq_true rfl)⟩) hP hD hS hA [2, 3] [0, 1] rfl rfl rfl (fun r_5 u_5 H locs hw_5 hP hD hS _ => ?_)
    obtain ⟨y_5, hy_5, rfl, rfl⟩ := hw_5
    have hP : WP Γ [[(e2, .inr (11, [.int m1, .ref y_5.1, .int (nI nr)]))], (alA Γ y_5), ([(a_3, rowE (rwNew lim bon))] ++ P), [(e0, .inr (1, [.ref e1, .ref e2, .ref e3, .ref e4, .ref e5, .int td, .int pk, .int pd]))]] H := hP
    have hD : WD A [[(e2, .inr (11, [.int m1, .ref y_5.1, .int (nI nr)]))], (alA Γ y_5), ([(a_3, rowE (rwNew lim bon))] ++ P), [(e0, .inr (1, [.ref e1, .ref e2, .ref e3, .ref e4, .ref e5, .int td, .int pk, .int pd]))]] := hD
    refine W.eq (g2 := F0 mi_ 27 ls ([.ref (ra (rowK rv lim nr))])) rfl ?_
    refine lv_pop hx hb dX2_setBonus_27 rfl ?_
    refine lv_goto (tgt := 50) hx hb dX2_setBonus_28 (by decide) ?_
    have hP : WP Γ [[(e0, .inr (1, [.ref e1, .ref e2, .ref e3, .ref e4, .ref e5, .int td, .int pk, .int pd]))], [(e2, .inr (11, [.int m1, .ref y_5.1, .int (nI nr)]))], (alA Γ y_5), ([(a_3, rowE (rwNew lim bon))] ++ P)] H := bP_sel hP [3, 0, 1, 2] rfl
    have hD : WD A [[(e0, .inr (1, [.ref e1, .ref e2, .ref e3, .ref e4, .ref e5, .int td, .int pk, .int pd]))], [(e2, .inr (11, [.int m1, .ref y_5.1, .int (nI nr)]))], (alA Γ y_5), ([(a_3, rowE (rwNew lim bon))] ++ P)] := bD_sel hD [3, 0, 1, 2] rfl rfl
    exact b_vret hx hb hr hlocks hP hD hS (Nat.le_of_ble_eq_true rfl) (Nat.le_of_ble_eq_true rfl) ⟨a_3, y_5, hy_5, (by first | with_reducible rfl | (simp [n_2, c_2]; done) | rfl)⟩ dX2_setBonus_50
set_option maxHeartbeats 4000000 in
set_option maxRecDepth 100000 in
theorem mt_Hd_setBonus_miss (l : Launch) (Γ : GE) (sz : Nat) (e0 : Nat) (e1 : Nat) (e2 : Nat) (e3 : Nat) (e4 : Nat) (e5 : Nat) (td : Int32) (pk : Int32) (pd : Int32) (x1 : LST) (m1 : Int32) (nr : Nat) (ra : Nat → Nat) (rv : Nat → Nat → Int32) (P : va_W) (lim : Int32) (bon : Int32) (hal1 : alI Γ x1 nr ra) (nr3 : nr ≤ 3) (hrw : ∀ k, k < nr → (ra k, rowE (rv k)) ∈ P) (hkn : rowK rv lim nr < nr → ¬ rv (rowK rv lim nr) 0 = lim) : KM l yX2_setBonus cX2_setBonus 4 none Γ 6 171 2 110 [.ref e0, .int lim, .int bon] [[(e0, .inr (1, [.ref e1, .ref e2, .ref e3, .ref e4, .ref e5, .int td, .int pk, .int pd]))], [(e2, .inr (11, [.int m1, .ref x1.1, .int (nI nr)]))], (alA Γ x1), P] [] sz (Qv Γ (fun u_ => ∃ a : Nat, ∃ y : LST, alI Γ y (nr + 1) (insN ra (rowK rv lim nr) a) ∧ u_ = [[(e0, .inr (1, [.ref e1, .ref e2, .ref e3, .ref e4, .ref e5, .int td, .int pk, .int pd]))], [(e2, .inr (11, [.int (m1 + 1), .ref y.1, .int (nI (nr + 1))]))], (alA Γ y), ([(a, rowE (rwNew lim bon))] ++ P)])) := by
  refine K_intro (by decide) (Nat.le_of_ble_eq_true rfl) ?_
  intro pr_ ev_ s mi_ below meth cd_ A ls hx hb hr hml hown hts hlocks hname hK hE hRo hP hD hA hS hsz hl
  have hl : lv_has ls 4 [(0, .ref e0), (1, .int lim), (2, .int bon)] := hl
  have hown : s.vm.findClass RX2 = some mi_.cls := hown
  refine lv_aload_n hx hb dX2_setBonus_0 rfl (lv_at hl 0 rfl) ?_
  refine lv_iload_n hx hb dX2_setBonus_1 rfl (lv_at hl 1 rfl) ?_
  refine b_calli (br := [P]) (b_runV ⟨hx, hb, hml, hown, hts⟩ (mt_Hd_rowOf l Γ _ e0 e1 e2 e3 e4 e5 td pk pd x1 m1 nr ra rv P lim (by assumption) (by first | assumption | omega) (by assumption)) (lw_V q1106 q1108 qs10 q63 q1109) rfl rfl 1 (by decide +kernel) ⟨(Nat.le_of_ble_eq_true rfl), (Nat.le_of_ble_eq_true rfl)⟩ (c_pre hP hD hS hA hK hE [0, 1, 2] rfl rfl (ro_own (br := [P]) hP hD [0, 1, 2] [3] rfl rfl rfl)) (recv_at (q := (RX2, TX2, 8)) hK (b_at (k := 0) hP rfl) rfl) rfl hl.1 rfl (Nat.le_of_ble_eq_true rfl) dX2_setBonus_2 ⟨(Nat.le_of_ble_eq_true rfl), (Nat.le_of_ble_eq_true rfl)⟩) hP hD hS hA [0, 1, 2] [3] rfl rfl rfl (fun r_1 u_1 H locs hw_1 hP hD hS _ => ?_)
  obtain ⟨rfl, rfl⟩ := hw_1
  have hP : WP Γ [[(e0, .inr (1, [.ref e1, .ref e2, .ref e3, .ref e4, .ref e5, .int td, .int pk, .int pd]))], [(e2, .inr (11, [.int m1, .ref x1.1, .int (nI nr)]))], (alA Γ x1), P] H := hP
  have hD : WD A [[(e0, .inr (1, [.ref e1, .ref e2, .ref e3, .ref e4, .ref e5, .int td, .int pk, .int pd]))], [(e2, .inr (11, [.int m1, .ref x1.1, .int (nI nr)]))], (alA Γ x1), P] := hD
  have hkle := rowK_le rv lim nr
  refine b_top (show rowR rv lim nr = -1 - nI (rowK rv lim nr) from by unfold rowR; split; split; exact absurd (by assumption) (hkn ‹_›); rfl; rfl) ?_
  refine lv_istore_n (lv' := [(3, .int (-1 - nI (rowK rv lim nr))), (0, .ref e0), (1, .int lim), (2, .int bon)]) hx hb dX2_setBonus_5 rfl hl (by decide) rfl (fun ls hl => ?_)
  refine lv_iload_n hx hb dX2_setBonus_6 rfl (lv_at hl 0 rfl) ?_
  refine lv_if_lt (tgt := 31) hx hb dX2_setBonus_7 (by decide) (fun c_2 => ?_) (fun c_2 => ?_)
  · -- 7 taken
    refine lv_aload_n hx hb dX2_setBonus_31 rfl (lv_at hl 1 rfl) ?_
    refine b_get (C := RX2) (T := TX2) (N := 8) (v := .ref e2) hx hb hts in_X2 hown hK (b_at (k := 0) hP rfl) rfl 1 (by decide) q166 (fun _ h9 => h9) rfl dX2_setBonus_32 ?_
    refine lv_iconst (v := (-1)) hx hb dX2_setBonus_35 (by decide) ?_
    refine lv_iload_n hx hb dX2_setBonus_36 rfl (lv_at hl 0 rfl) ?_
    refine lv_isub hx hb dX2_setBonus_37 ?_
    refine b_top (show ((-1) - (-1 - nI (rowK rv lim nr))) = nI (rowK rv lim nr) from neg_neg1 _) ?_
    refine b_new (ci := 5) (fs := [.int 0, .int 0]) (C := RX6) (T := TX6) (N := 2) hx hb hts in_X6 tyX6_ok hown q1110 q1115 q94 hK hP hD hS hA rfl (fun j hj => by rcases (show j = 0 ∨ j = 1 by omega) with rfl | rfl <;> rfl) (Nat.le_of_ble_eq_true rfl) (Nat.le_of_ble_eq_true rfl) dX2_setBonus_38 (fun a_3 H hP hD hS => ?_)
    have hP : WP Γ [[(e0, .inr (1, [.ref e1, .ref e2, .ref e3, .ref e4, .ref e5, .int td, .int pk, .int pd]))], [(e2, .inr (11, [.int m1, .ref x1.1, .int (nI nr)]))], (alA Γ x1), P, [(a_3, .inr (5, [.int 0, .int 0]))]] H := hP
    have hD : WD A [[(e0, .inr (1, [.ref e1, .ref e2, .ref e3, .ref e4, .ref e5, .int td, .int pk, .int pd]))], [(e2, .inr (11, [.int m1, .ref x1.1, .int (nI nr)]))], (alA Γ x1), P, [(a_3, .inr (5, [.int 0, .int 0]))]] := hD
    refine lv_dup hx hb dX2_setBonus_41 rfl ?_
    refine lv_iload_n hx hb dX2_setBonus_42 rfl (lv_at hl 2 rfl) ?_
    refine lv_iload_n hx hb dX2_setBonus_43 rfl (lv_at hl 3 rfl) ?_
    refine b_callv (br := [[(e0, .inr (1, [.ref e1, .ref e2, .ref e3, .ref e4, .ref e5, .int td, .int pk, .int pd]))], [(e2, .inr (11, [.int m1, .ref x1.1, .int (nI nr)]))], (alA Γ x1), P]) (b_runI ⟨hx, hb, hml, hown, hts⟩ (mt_Row_init l Γ _ a_3 lim bon) (lw_meth q1118) q94 q1116 q1117 rfl rfl rfl 2 (by decide +kernel) ⟨(Nat.le_of_ble_eq_true rfl), (Nat.le_of_ble_eq_true rfl)⟩ (c_pre hP hD hS hA hK hE [4] rfl rfl ro_nil) rfl hl.1 rfl (Nat.le_of_ble_eq_true rfl) dX2_setBonus_44 ⟨(Nat.le_of_ble_eq_true rfl), (Nat.le_of_ble_eq_true rfl)⟩) hP hD hS hA [4] [0, 1, 2, 3] rfl rfl rfl (fun u_4 H locs hw_4 hP hD hS _ => ?_)
    obtain rfl := hw_4
    have hP : WP Γ [[(a_3, .inr (5, [.int lim, .int bon]))], [(e0, .inr (1, [.ref e1, .ref e2, .ref e3, .ref e4, .ref e5, .int td, .int pk, .int pd]))], [(e2, .inr (11, [.int m1, .ref x1.1, .int (nI nr)]))], (alA Γ x1), P] H := hP
    have hD : WD A [[(a_3, .inr (5, [.int lim, .int bon]))], [(e0, .inr (1, [.ref e1, .ref e2, .ref e3, .ref e4, .ref e5, .int td, .int pk, .int pd]))], [(e2, .inr (11, [.int m1, .ref x1.1, .int (nI nr)]))], (alA Γ x1), P] := hD
    have hP : WP Γ [[(a_3, .inr (5, [.int lim, .int bon]))], P, [(e0, .inr (1, [.ref e1, .ref e2, .ref e3, .ref e4, .ref e5, .int td, .int pk, .int pd]))], [(e2, .inr (11, [.int m1, .ref x1.1, .int (nI nr)]))], (alA Γ x1)] H := bP_sel hP [0, 4, 1, 2, 3] rfl
    have hD : WD A [[(a_3, .inr (5, [.int lim, .int bon]))], P, [(e0, .inr (1, [.ref e1, .ref e2, .ref e3, .ref e4, .ref e5, .int td, .int pk, .int pd]))], [(e2, .inr (11, [.int m1, .ref x1.1, .int (nI nr)]))], (alA Γ x1)] := bD_sel hD [0, 4, 1, 2, 3] rfl rfl
    have hP : WP Γ [([(a_3, rowE (rwNew lim bon))] ++ P), [(e0, .inr (1, [.ref e1, .ref e2, .ref e3, .ref e4, .ref e5, .int td, .int pk, .int pd]))], [(e2, .inr (11, [.int m1, .ref x1.1, .int (nI nr)]))], (alA Γ x1)] H := hP
    have hD : WD A [([(a_3, rowE (rwNew lim bon))] ++ P), [(e0, .inr (1, [.ref e1, .ref e2, .ref e3, .ref e4, .ref e5, .int td, .int pk, .int pd]))], [(e2, .inr (11, [.int m1, .ref x1.1, .int (nI nr)]))], (alA Γ x1)] := hD
    refine b_callv (br := [([(a_3, rowE (rwNew lim bon))] ++ P), [(e0, .inr (1, [.ref e1, .ref e2, .ref e3, .ref e4, .ref e5, .int td, .int pk, .int pd]))]]) (b_runV ⟨hx, hb, hml, hown, hts⟩ (mt_AL_addAt l Γ _ e2 m1 x1 nr ra (rowK rv lim nr) a_3 ([(a_3, rowE (rwNew lim bon))] ++ P) hal1 (by omega) (by omega) (fun k hk => ⟨5, _, List.mem_append_right _ (hrw k hk), obOk5⟩) (⟨5, _, List.mem_cons_self, obOk5⟩)) (lw_V q1135 q1136 q1137 q66 q1138) rfl rfl 2 (by decide +kernel) ⟨(Nat.le_of_ble_eq_true rfl), (Nat.le_of_ble_eq_true rfl)⟩ (c_pre hP hD hS hA hK hE [2, 3] rfl rfl (ro_own (br := [([(a_3, rowE (rwNew lim bon))] ++ P)]) hP hD [2, 3] [0] rfl rfl rfl)) (recv_at (q := (RJ2, TJ2, 3)) hK (b_at (k := 2) hP rfl) rfl) rfl hl.1 rfl (Nat.le_of_ble_eq_true rfl) dX2_setBonus_47 ⟨(Nat.le_of_ble_eq_true rfl), (Nat.le_of_ble_eq_true rfl)⟩) hP hD hS hA [2, 3] [0, 1] rfl rfl rfl (fun u_5 H locs hw_5 hP hD hS _ => ?_)
    obtain ⟨y_5, hy_5, rfl⟩ := hw_5
    have hP : WP Γ [[(e2, .inr (11, [.int (m1 + 1), .ref y_5.1, .int (nI (nr + 1))]))], (alA Γ y_5), ([(a_3, rowE (rwNew lim bon))] ++ P), [(e0, .inr (1, [.ref e1, .ref e2, .ref e3, .ref e4, .ref e5, .int td, .int pk, .int pd]))]] H := hP
    have hD : WD A [[(e2, .inr (11, [.int (m1 + 1), .ref y_5.1, .int (nI (nr + 1))]))], (alA Γ y_5), ([(a_3, rowE (rwNew lim bon))] ++ P), [(e0, .inr (1, [.ref e1, .ref e2, .ref e3, .ref e4, .ref e5, .int td, .int pk, .int pd]))]] := hD
    have hP : WP Γ [[(e0, .inr (1, [.ref e1, .ref e2, .ref e3, .ref e4, .ref e5, .int td, .int pk, .int pd]))], [(e2, .inr (11, [.int (m1 + 1), .ref y_5.1, .int (nI (nr + 1))]))], (alA Γ y_5), ([(a_3, rowE (rwNew lim bon))] ++ P)] H := bP_sel hP [3, 0, 1, 2] rfl
    have hD : WD A [[(e0, .inr (1, [.ref e1, .ref e2, .ref e3, .ref e4, .ref e5, .int td, .int pk, .int pd]))], [(e2, .inr (11, [.int (m1 + 1), .ref y_5.1, .int (nI (nr + 1))]))], (alA Γ y_5), ([(a_3, rowE (rwNew lim bon))] ++ P)] := bD_sel hD [3, 0, 1, 2] rfl rfl
    exact b_vret hx hb hr hlocks hP hD hS (Nat.le_of_ble_eq_true rfl) (Nat.le_of_ble_eq_true rfl) ⟨a_3, y_5, hy_5, (by first | with_reducible rfl | (simp [c_2]; done) | rfl)⟩ dX2_setBonus_50
  · -- 7 not taken
    exact absurd (neg_lt (by omega)) c_2
def pkV1 (pv : Nat → Nat → Int32) (np : Nat) (td li ce : Int32) : Nat → Nat → Int32 := va_up pv np (pickNew td li ce)
def pkMean (pv : Nat → Nat → Int32) (np w : Nat) (td li ce : Int32) : Int32 := pSm (pkV1 pv np td li ce) 2 (np + 1 - w) (np + 1) / pSm (pkV1 pv np td li ce) 1 (np + 1 - w) (np + 1)
def pkDone (pv : Nat → Nat → Int32) (np w : Nat) (td li ce : Int32) (rv : Nat → Nat → Int32) (nr : Nat) (s5 : Int32) : Nat → Int32 := pickSettle (pickNew td li ce) (pkMean pv np w td li ce) (bonV rv (pkMean pv np w td li ce) nr) s5
def pkN (np : Nat) : Nat := if np < 60 then np + 1 else np
def pkM (m : Int32) (np : Nat) : Int32 := if np < 60 then m + 1 else m + 1 + 1
def pkA (pa : Nat → Nat) (np a : Nat) : Nat → Nat := if np < 60 then va_up pa np a else fun k => va_up pa np a (k + 1)
theorem pk_mem {pa : Nat → Nat} {pv : Nat → Nat → Int32} {np a : Nat} {c : Nat → Int32} {P : va_W} (h : ∀ k, k < np → (pa k, pickE (pv k)) ∈ P) : ∀ k, k < np + 1 → (va_up pa np a k, pickE (va_up pv np c k)) ∈ [(a, pickE c)] ++ P := by
  intro k hk
  by_cases e : k = np
  · subst e
    have e1 : va_up pa k a k = a := if_pos rfl
    have e2 : va_up pv k c k = c := if_pos rfl
    rw [e1, e2]
    exact List.mem_cons_self
  · have e1 : va_up pa np a k = pa k := if_neg e
    have e2 : va_up pv np c k = pv k := if_neg e
    rw [e1, e2]
    exact List.mem_append_right _ (h k (by omega))
set_option maxHeartbeats 4000000 in
set_option maxRecDepth 100000 in
theorem mt_Hd_pickUp (l : Launch) (Γ : GE) (sz : Nat) (e0 : Nat) (e1 : Nat) (e2 : Nat) (e3 : Nat) (e4 : Nat) (e5 : Nat) (td : Int32) (pk : Int32) (pd : Int32) (x1 : LST) (m1 : Int32) (nr : Nat) (ra : Nat → Nat) (rv : Nat → Nat → Int32) (P : va_W) (x2 : LST) (m2 : Int32) (np : Nat) (pa : Nat → Nat) (pv : Nat → Nat → Int32) (li : Int32) (ce : Int32) (se : Nat → Int32) (w : Nat) (hal1 : alI Γ x1 nr ra) (nr4 : nr ≤ 4) (hrw : ∀ k, k < nr → (ra k, rowE (rv k)) ∈ P) (hal2 : alI Γ x2 np pa) (np60 : np ≤ 60) (hpk : ∀ k, k < np → (pa k, pickE (pv k)) ∈ P) (hw : se 4 = nI w) (hw9 : w ≤ 9) (hz : ¬ pSm (pkV1 pv np td li ce) 1 (np + 1 - w) (np + 1) = 0) : KM l yX2_pickUp cX2_pickUp 4 (some FieldType.int) Γ 7 191 3 120 [.ref e0] [[(e0, .inr (1, [.ref e1, .ref e2, .ref e3, .ref e4, .ref e5, .int td, .int pk, .int pd]))], [(e2, .inr (11, [.int m1, .ref x1.1, .int (nI nr)]))], (alA Γ x1), [(e3, .inr (11, [.int m2, .ref x2.1, .int (nI np)]))], (alA Γ x2), [(e4, .inr (2, [.int li, .int ce]))], [(e5, .inl (Γ.2.1 0, 6, .inl se))], P] [] sz (Qi Γ (fun r_ u_ => ∃ a : Nat, ∃ y : LST, alI Γ y (pkN np) (pkA pa np a) ∧ r_ = li ∧ u_ = [[(e0, .inr (1, [.ref e1, .ref e2, .ref e3, .ref e4, .ref e5, .int td, .int (pk + li), .int (pd + (pkDone pv np w td li ce rv nr (se 5)) 5)]))], [(e2, .inr (11, [.int m1, .ref x1.1, .int (nI nr)]))], (alA Γ x1), [(e3, .inr (11, [.int (pkM m2 np), .ref y.1, .int (nI (pkN np))]))], (alA Γ y), [(e4, .inr (2, [.int 0, .int 0]))], [(e5, .inl (Γ.2.1 0, 6, .inl se))], ([(a, pickE (pkDone pv np w td li ce rv nr (se 5)))] ++ P)])) := by
  refine K_intro (by decide) (Nat.le_of_ble_eq_true rfl) ?_
  intro pr_ ev_ s mi_ below meth cd_ A ls hx hb hr hml hown hts hlocks hname hK hE hRo hP hD hA hS hsz hl
  have hl : lv_has ls 4 [(0, .ref e0)] := hl
  have hown : s.vm.findClass RX2 = some mi_.cls := hown
  refine lv_aload_n hx hb dX2_pickUp_0 rfl (lv_at hl 0 rfl) ?_
  refine b_get (C := RX2) (T := TX2) (N := 8) (v := .ref e4) hx hb hts in_X2 hown hK (b_at (k := 0) hP rfl) rfl 3 (by decide) q170 (fun _ h9 => h9) rfl dX2_pickUp_1 ?_
  refine b_getN (C := RX3) (T := TX3) (N := 2) (v := .int li) hx hb hts hE in_X3 hown hK (b_at (k := 5) hP rfl) rfl 0 (by decide) q153 (fun _ h9 => h9) rfl dX2_pickUp_4 ?_
  refine lv_istore_n (lv' := [(1, .int li), (0, .ref e0)]) hx hb dX2_pickUp_7 rfl hl (by decide) rfl (fun ls hl => ?_)
  refine b_new (ci := 6) (fs := [.int 0, .int 0, .int 0, .int 0, .int 0, .int 0]) (C := RX7) (T := TX7) (N := 6) hx hb hts in_X7 tyX7_ok hown q1237 q1238 q95 hK hP hD hS hA rfl (fun j hj => by rcases (show j = 0 ∨ j = 1 ∨ j = 2 ∨ j = 3 ∨ j = 4 ∨ j = 5 by omega) with rfl | rfl | rfl | rfl | rfl | rfl <;> rfl) (Nat.le_of_ble_eq_true rfl) (Nat.le_of_ble_eq_true rfl) dX2_pickUp_8 (fun a_1 H hP hD hS => ?_)
  have hP : WP Γ [[(e0, .inr (1, [.ref e1, .ref e2, .ref e3, .ref e4, .ref e5, .int td, .int pk, .int pd]))], [(e2, .inr (11, [.int m1, .ref x1.1, .int (nI nr)]))], (alA Γ x1), [(e3, .inr (11, [.int m2, .ref x2.1, .int (nI np)]))], (alA Γ x2), [(e4, .inr (2, [.int li, .int ce]))], [(e5, .inl (Γ.2.1 0, 6, .inl se))], P, [(a_1, .inr (6, [.int 0, .int 0, .int 0, .int 0, .int 0, .int 0]))]] H := hP
  have hD : WD A [[(e0, .inr (1, [.ref e1, .ref e2, .ref e3, .ref e4, .ref e5, .int td, .int pk, .int pd]))], [(e2, .inr (11, [.int m1, .ref x1.1, .int (nI nr)]))], (alA Γ x1), [(e3, .inr (11, [.int m2, .ref x2.1, .int (nI np)]))], (alA Γ x2), [(e4, .inr (2, [.int li, .int ce]))], [(e5, .inl (Γ.2.1 0, 6, .inl se))], P, [(a_1, .inr (6, [.int 0, .int 0, .int 0, .int 0, .int 0, .int 0]))]] := hD
  refine lv_dup hx hb dX2_pickUp_11 rfl ?_
  refine lv_aload_n hx hb dX2_pickUp_12 rfl (lv_at hl 1 rfl) ?_
  refine b_get (C := RX2) (T := TX2) (N := 8) (v := .int td) hx hb hts in_X2 hown hK (b_at (k := 0) hP rfl) rfl 5 (by decide) q174 (fun _ h9 => h9) rfl dX2_pickUp_13 ?_
  refine lv_iload_n hx hb dX2_pickUp_16 rfl (lv_at hl 0 rfl) ?_
  refine lv_aload_n hx hb dX2_pickUp_17 rfl (lv_at hl 1 rfl) ?_
  refine b_get (C := RX2) (T := TX2) (N := 8) (v := .ref e4) hx hb hts in_X2 hown hK (b_at (k := 0) hP rfl) rfl 3 (by decide) q170 (fun _ h9 => h9) rfl dX2_pickUp_18 ?_
  refine b_getN (C := RX3) (T := TX3) (N := 2) (v := .int ce) hx hb hts hE in_X3 hown hK (b_at (k := 5) hP rfl) rfl 1 (by decide) q156 (fun _ h9 => h9) rfl dX2_pickUp_21 ?_
  refine b_callv (br := [[(e0, .inr (1, [.ref e1, .ref e2, .ref e3, .ref e4, .ref e5, .int td, .int pk, .int pd]))], [(e2, .inr (11, [.int m1, .ref x1.1, .int (nI nr)]))], (alA Γ x1), [(e3, .inr (11, [.int m2, .ref x2.1, .int (nI np)]))], (alA Γ x2), [(e4, .inr (2, [.int li, .int ce]))], [(e5, .inl (Γ.2.1 0, 6, .inl se))], P]) (b_runI ⟨hx, hb, hml, hown, hts⟩ (mt_Pickup_init l Γ _ a_1 td li ce) (lw_meth q1241) q95 q1239 q1240 rfl rfl rfl 3 (by decide +kernel) ⟨(Nat.le_of_ble_eq_true rfl), (Nat.le_of_ble_eq_true rfl)⟩ (c_pre hP hD hS hA hK hE [8] rfl rfl ro_nil) rfl hl.1 rfl (Nat.le_of_ble_eq_true rfl) dX2_pickUp_24 ⟨(Nat.le_of_ble_eq_true rfl), (Nat.le_of_ble_eq_true rfl)⟩) hP hD hS hA [8] [0, 1, 2, 3, 4, 5, 6, 7] rfl rfl rfl (fun u_2 H locs hw_2 hP hD hS _ => ?_)
  obtain rfl := hw_2
  have hP : WP Γ [[(a_1, pickE (pickNew td li ce))], [(e0, .inr (1, [.ref e1, .ref e2, .ref e3, .ref e4, .ref e5, .int td, .int pk, .int pd]))], [(e2, .inr (11, [.int m1, .ref x1.1, .int (nI nr)]))], (alA Γ x1), [(e3, .inr (11, [.int m2, .ref x2.1, .int (nI np)]))], (alA Γ x2), [(e4, .inr (2, [.int li, .int ce]))], [(e5, .inl (Γ.2.1 0, 6, .inl se))], P] H := hP
  have hD : WD A [[(a_1, pickE (pickNew td li ce))], [(e0, .inr (1, [.ref e1, .ref e2, .ref e3, .ref e4, .ref e5, .int td, .int pk, .int pd]))], [(e2, .inr (11, [.int m1, .ref x1.1, .int (nI nr)]))], (alA Γ x1), [(e3, .inr (11, [.int m2, .ref x2.1, .int (nI np)]))], (alA Γ x2), [(e4, .inr (2, [.int li, .int ce]))], [(e5, .inl (Γ.2.1 0, 6, .inl se))], P] := hD
  refine lv_astore_n (lv' := [(2, .ref a_1), (1, .int li), (0, .ref e0)]) hx hb dX2_pickUp_27 rfl hl (by decide) rfl (fun ls hl => ?_)
  refine lv_aload_n hx hb dX2_pickUp_28 rfl (lv_at hl 2 rfl) ?_
  refine b_get (C := RX2) (T := TX2) (N := 8) (v := .ref e3) hx hb hts in_X2 hown hK (b_at (k := 1) hP rfl) rfl 2 (by decide) q168 (fun _ h9 => h9) rfl dX2_pickUp_29 ?_
  refine lv_aload_n hx hb dX2_pickUp_32 rfl (lv_at hl 0 rfl) ?_
  have hP : WP Γ [[(a_1, pickE (pickNew td li ce))], P, [(e0, .inr (1, [.ref e1, .ref e2, .ref e3, .ref e4, .ref e5, .int td, .int pk, .int pd]))], [(e2, .inr (11, [.int m1, .ref x1.1, .int (nI nr)]))], (alA Γ x1), [(e3, .inr (11, [.int m2, .ref x2.1, .int (nI np)]))], (alA Γ x2), [(e4, .inr (2, [.int li, .int ce]))], [(e5, .inl (Γ.2.1 0, 6, .inl se))]] H := bP_sel hP [0, 8, 1, 2, 3, 4, 5, 6, 7] rfl
  have hD : WD A [[(a_1, pickE (pickNew td li ce))], P, [(e0, .inr (1, [.ref e1, .ref e2, .ref e3, .ref e4, .ref e5, .int td, .int pk, .int pd]))], [(e2, .inr (11, [.int m1, .ref x1.1, .int (nI nr)]))], (alA Γ x1), [(e3, .inr (11, [.int m2, .ref x2.1, .int (nI np)]))], (alA Γ x2), [(e4, .inr (2, [.int li, .int ce]))], [(e5, .inl (Γ.2.1 0, 6, .inl se))]] := bD_sel hD [0, 8, 1, 2, 3, 4, 5, 6, 7] rfl rfl
  have hP : WP Γ [([(a_1, pickE (pickNew td li ce))] ++ P), [(e0, .inr (1, [.ref e1, .ref e2, .ref e3, .ref e4, .ref e5, .int td, .int pk, .int pd]))], [(e2, .inr (11, [.int m1, .ref x1.1, .int (nI nr)]))], (alA Γ x1), [(e3, .inr (11, [.int m2, .ref x2.1, .int (nI np)]))], (alA Γ x2), [(e4, .inr (2, [.int li, .int ce]))], [(e5, .inl (Γ.2.1 0, 6, .inl se))]] H := hP
  have hD : WD A [([(a_1, pickE (pickNew td li ce))] ++ P), [(e0, .inr (1, [.ref e1, .ref e2, .ref e3, .ref e4, .ref e5, .int td, .int pk, .int pd]))], [(e2, .inr (11, [.int m1, .ref x1.1, .int (nI nr)]))], (alA Γ x1), [(e3, .inr (11, [.int m2, .ref x2.1, .int (nI np)]))], (alA Γ x2), [(e4, .inr (2, [.int li, .int ce]))], [(e5, .inl (Γ.2.1 0, 6, .inl se))]] := hD
  refine b_calli (br := [([(a_1, pickE (pickNew td li ce))] ++ P), [(e0, .inr (1, [.ref e1, .ref e2, .ref e3, .ref e4, .ref e5, .int td, .int pk, .int pd]))], [(e2, .inr (11, [.int m1, .ref x1.1, .int (nI nr)]))], (alA Γ x1), [(e4, .inr (2, [.int li, .int ce]))], [(e5, .inl (Γ.2.1 0, 6, .inl se))]]) (b_runV ⟨hx, hb, hml, hown, hts⟩ (mt_AL_add l Γ _ e3 m2 x2 np pa a_1 ([(a_1, pickE (pickNew td li ce))] ++ P) hal2 (by omega) (fun k hk => ⟨6, _, List.mem_append_right _ (hpk k hk), obOk6⟩) (⟨6, _, List.mem_cons_self, obOk6⟩)) (lw_V q473 q474 q475 q66 q476) rfl rfl 1 (by decide +kernel) ⟨(Nat.le_of_ble_eq_true rfl), (Nat.le_of_ble_eq_true rfl)⟩ (c_pre hP hD hS hA hK hE [4, 5] rfl rfl (ro_own (br := [([(a_1, pickE (pickNew td li ce))] ++ P)]) hP hD [4, 5] [0] rfl rfl rfl)) (recv_at (q := (RJ2, TJ2, 3)) hK (b_at (k := 4) hP rfl) rfl) rfl hl.1 rfl (Nat.le_of_ble_eq_true rfl) dX2_pickUp_33 ⟨(Nat.le_of_ble_eq_true rfl), (Nat.le_of_ble_eq_true rfl)⟩) hP hD hS hA [4, 5] [0, 1, 2, 3, 6, 7] rfl rfl rfl (fun r_3 u_3 H locs hw_3 hP hD hS _ => ?_)
  obtain ⟨y_3, hy_3, rfl, rfl⟩ := hw_3
  have hP : WP Γ [[(e3, .inr (11, [.int (m2 + 1), .ref y_3.1, .int (nI (np + 1))]))], (alA Γ y_3), ([(a_1, pickE (pickNew td li ce))] ++ P), [(e0, .inr (1, [.ref e1, .ref e2, .ref e3, .ref e4, .ref e5, .int td, .int pk, .int pd]))], [(e2, .inr (11, [.int m1, .ref x1.1, .int (nI nr)]))], (alA Γ x1), [(e4, .inr (2, [.int li, .int ce]))], [(e5, .inl (Γ.2.1 0, 6, .inl se))]] H := hP
  have hD : WD A [[(e3, .inr (11, [.int (m2 + 1), .ref y_3.1, .int (nI (np + 1))]))], (alA Γ y_3), ([(a_1, pickE (pickNew td li ce))] ++ P), [(e0, .inr (1, [.ref e1, .ref e2, .ref e3, .ref e4, .ref e5, .int td, .int pk, .int pd]))], [(e2, .inr (11, [.int m1, .ref x1.1, .int (nI nr)]))], (alA Γ x1), [(e4, .inr (2, [.int li, .int ce]))], [(e5, .inl (Γ.2.1 0, 6, .inl se))]] := hD
  refine lv_pop hx hb dX2_pickUp_36 rfl ?_
  refine lv_aload_n hx hb dX2_pickUp_37 rfl (lv_at hl 2 rfl) ?_
  refine b_calli (br := [([(a_1, pickE (pickNew td li ce))] ++ P), [(e2, .inr (11, [.int m1, .ref x1.1, .int (nI nr)]))], (alA Γ x1), [(e4, .inr (2, [.int li, .int ce]))]]) (b_runV ⟨hx, hb, hml, hown, hts⟩ (mt_Hd_mean l Γ _ e0 e1 e2 e3 e4 e5 td pk pd y_3 (m2 + 1) (np + 1) (va_up pa np a_1) (pkV1 pv np td li ce) ([(a_1, pickE (pickNew td li ce))] ++ P) se w hy_3 (by first | assumption | omega) (pk_mem hpk) (by assumption) (by assumption) hz) (lw_V q1267 q1269 qs19 q63 q1270) rfl rfl 0 (by decide +kernel) ⟨(Nat.le_of_ble_eq_true rfl), (Nat.le_of_ble_eq_true rfl)⟩ (c_pre hP hD hS hA hK hE [3, 0, 1, 7] rfl rfl (ro_own (br := [([(a_1, pickE (pickNew td li ce))] ++ P)]) hP hD [3, 0, 1, 7] [2] rfl rfl rfl)) (recv_at (q := (RX2, TX2, 8)) hK (b_at (k := 3) hP rfl) rfl) rfl hl.1 rfl (Nat.le_of_ble_eq_true rfl) dX2_pickUp_38 ⟨(Nat.le_of_ble_eq_true rfl), (Nat.le_of_ble_eq_true rfl)⟩) hP hD hS hA [3, 0, 1, 7] [2, 4, 5, 6] rfl rfl rfl (fun r_4 u_4 H locs hw_4 hP hD hS _ => ?_)
  obtain ⟨rfl, rfl⟩ := hw_4
  have hP : WP Γ [[(e0, .inr (1, [.ref e1, .ref e2, .ref e3, .ref e4, .ref e5, .int td, .int pk, .int pd]))], [(e3, .inr (11, [.int (m2 + 1), .ref y_3.1, .int (nI (np + 1))]))], (alA Γ y_3), [(e5, .inl (Γ.2.1 0, 6, .inl se))], ([(a_1, pickE (pickNew td li ce))] ++ P), [(e2, .inr (11, [.int m1, .ref x1.1, .int (nI nr)]))], (alA Γ x1), [(e4, .inr (2, [.int li, .int ce]))]] H := hP
  have hD : WD A [[(e0, .inr (1, [.ref e1, .ref e2, .ref e3, .ref e4, .ref e5, .int td, .int pk, .int pd]))], [(e3, .inr (11, [.int (m2 + 1), .ref y_3.1, .int (nI (np + 1))]))], (alA Γ y_3), [(e5, .inl (Γ.2.1 0, 6, .inl se))], ([(a_1, pickE (pickNew td li ce))] ++ P), [(e2, .inr (11, [.int m1, .ref x1.1, .int (nI nr)]))], (alA Γ x1), [(e4, .inr (2, [.int li, .int ce]))]] := hD
  refine b_top (show (pSm (pkV1 pv np td li ce) 2 ((np + 1) - w) (np + 1) / pSm (pkV1 pv np td li ce) 1 ((np + 1) - w) (np + 1)) = pkMean pv np w td li ce from rfl) ?_
  refine lv_istore_n (lv' := [(3, .int (pkMean pv np w td li ce)), (2, .ref a_1), (1, .int li), (0, .ref e0)]) hx hb dX2_pickUp_41 rfl hl (by decide) rfl (fun ls hl => ?_)
  refine lv_aload_n hx hb dX2_pickUp_42 rfl (lv_at hl 1 rfl) ?_
  refine lv_iload_n hx hb dX2_pickUp_43 rfl (lv_at hl 0 rfl) ?_
  refine lv_aload_n hx hb dX2_pickUp_44 rfl (lv_at hl 3 rfl) ?_
  refine lv_iload_n hx hb dX2_pickUp_45 rfl (lv_at hl 0 rfl) ?_
  refine b_calli (br := [[(e3, .inr (11, [.int (m2 + 1), .ref y_3.1, .int (nI (np + 1))]))], (alA Γ y_3), [(e5, .inl (Γ.2.1 0, 6, .inl se))], ([(a_1, pickE (pickNew td li ce))] ++ P), [(e4, .inr (2, [.int li, .int ce]))]]) (b_runV ⟨hx, hb, hml, hown, hts⟩ (mt_Hd_bonusFor l Γ _ e0 e1 e2 e3 e4 e5 td pk pd x1 m1 nr ra rv ([(a_1, pickE (pickNew td li ce))] ++ P) (pkMean pv np w td li ce) (by assumption) (by first | assumption | omega) (fun k hk => List.mem_append_right _ (hrw k hk))) (lw_V q1271 q1273 qs20 q63 q1274) rfl rfl 1 (by decide +kernel) ⟨(Nat.le_of_ble_eq_true rfl), (Nat.le_of_ble_eq_true rfl)⟩ (c_pre hP hD hS hA hK hE [0, 5, 6] rfl rfl (ro_own (br := [([(a_1, pickE (pickNew td li ce))] ++ P)]) hP hD [0, 5, 6] [4] rfl rfl rfl)) (recv_at (q := (RX2, TX2, 8)) hK (b_at (k := 0) hP rfl) rfl) rfl hl.1 rfl (Nat.le_of_ble_eq_true rfl) dX2_pickUp_46 ⟨(Nat.le_of_ble_eq_true rfl), (Nat.le_of_ble_eq_true rfl)⟩) hP hD hS hA [0, 5, 6] [1, 2, 3, 4, 7] rfl rfl rfl (fun r_5 u_5 H locs hw_5 hP hD hS _ => ?_)
  obtain ⟨rfl, rfl⟩ := hw_5
  have hP : WP Γ [[(e0, .inr (1, [.ref e1, .ref e2, .ref e3, .ref e4, .ref e5, .int td, .int pk, .int pd]))], [(e2, .inr (11, [.int m1, .ref x1.1, .int (nI nr)]))], (alA Γ x1), [(e3, .inr (11, [.int (m2 + 1), .ref y_3.1, .int (nI (np + 1))]))], (alA Γ y_3), [(e5, .inl (Γ.2.1 0, 6, .inl se))], ([(a_1, pickE (pickNew td li ce))] ++ P), [(e4, .inr (2, [.int li, .int ce]))]] H := hP
  have hD : WD A [[(e0, .inr (1, [.ref e1, .ref e2, .ref e3, .ref e4, .ref e5, .int td, .int pk, .int pd]))], [(e2, .inr (11, [.int m1, .ref x1.1, .int (nI nr)]))], (alA Γ x1), [(e3, .inr (11, [.int (m2 + 1), .ref y_3.1, .int (nI (np + 1))]))], (alA Γ y_3), [(e5, .inl (Γ.2.1 0, 6, .inl se))], ([(a_1, pickE (pickNew td li ce))] ++ P), [(e4, .inr (2, [.int li, .int ce]))]] := hD
  refine lv_aload_n hx hb dX2_pickUp_49 rfl (lv_at hl 3 rfl) ?_
  refine b_get (C := RX2) (T := TX2) (N := 8) (v := .ref e5) hx hb hts in_X2 hown hK (b_at (k := 0) hP rfl) rfl 4 (by decide) q172 (fun _ h9 => h9) rfl dX2_pickUp_50 ?_
  refine lv_iconst (v := 5) hx hb dX2_pickUp_53 (by decide) ?_
  refine b_iald hx hb hK (b_at (k := 5) hP rfl) 5 rfl (by omega) (by omega) dX2_pickUp_54 ?_
  have hP : WP Γ [([(a_1, pickE (pickNew td li ce))] ++ P), [(e0, .inr (1, [.ref e1, .ref e2, .ref e3, .ref e4, .ref e5, .int td, .int pk, .int pd]))], [(e2, .inr (11, [.int m1, .ref x1.1, .int (nI nr)]))], (alA Γ x1), [(e3, .inr (11, [.int (m2 + 1), .ref y_3.1, .int (nI (np + 1))]))], (alA Γ y_3), [(e5, .inl (Γ.2.1 0, 6, .inl se))], [(e4, .inr (2, [.int li, .int ce]))]] H := bP_sel hP [6, 0, 1, 2, 3, 4, 5, 7] rfl
  have hD : WD A [([(a_1, pickE (pickNew td li ce))] ++ P), [(e0, .inr (1, [.ref e1, .ref e2, .ref e3, .ref e4, .ref e5, .int td, .int pk, .int pd]))], [(e2, .inr (11, [.int m1, .ref x1.1, .int (nI nr)]))], (alA Γ x1), [(e3, .inr (11, [.int (m2 + 1), .ref y_3.1, .int (nI (np + 1))]))], (alA Γ y_3), [(e5, .inl (Γ.2.1 0, 6, .inl se))], [(e4, .inr (2, [.int li, .int ce]))]] := bD_sel hD [6, 0, 1, 2, 3, 4, 5, 7] rfl rfl
  have hP : WP Γ [[(a_1, pickE (pickNew td li ce))], P, [(e0, .inr (1, [.ref e1, .ref e2, .ref e3, .ref e4, .ref e5, .int td, .int pk, .int pd]))], [(e2, .inr (11, [.int m1, .ref x1.1, .int (nI nr)]))], (alA Γ x1), [(e3, .inr (11, [.int (m2 + 1), .ref y_3.1, .int (nI (np + 1))]))], (alA Γ y_3), [(e5, .inl (Γ.2.1 0, 6, .inl se))], [(e4, .inr (2, [.int li, .int ce]))]] H := hP
  have hD : WD A [[(a_1, pickE (pickNew td li ce))], P, [(e0, .inr (1, [.ref e1, .ref e2, .ref e3, .ref e4, .ref e5, .int td, .int pk, .int pd]))], [(e2, .inr (11, [.int m1, .ref x1.1, .int (nI nr)]))], (alA Γ x1), [(e3, .inr (11, [.int (m2 + 1), .ref y_3.1, .int (nI (np + 1))]))], (alA Γ y_3), [(e5, .inl (Γ.2.1 0, 6, .inl se))], [(e4, .inr (2, [.int li, .int ce]))]] := hD
  refine b_callv (br := [P, [(e0, .inr (1, [.ref e1, .ref e2, .ref e3, .ref e4, .ref e5, .int td, .int pk, .int pd]))], [(e2, .inr (11, [.int m1, .ref x1.1, .int (nI nr)]))], (alA Γ x1), [(e3, .inr (11, [.int (m2 + 1), .ref y_3.1, .int (nI (np + 1))]))], (alA Γ y_3), [(e5, .inl (Γ.2.1 0, 6, .inl se))], [(e4, .inr (2, [.int li, .int ce]))]]) (b_runV ⟨hx, hb, hml, hown, hts⟩ (mt_Pickup_settle l Γ _ a_1 (pickNew td li ce) (pkMean pv np w td li ce) (bonV rv (pkMean pv np w td li ce) nr) (se 5)) (lw_V q1275 q1276 q1277 q95 q1278) rfl rfl 3 (by decide +kernel) ⟨(Nat.le_of_ble_eq_true rfl), (Nat.le_of_ble_eq_true rfl)⟩ (c_pre hP hD hS hA hK hE [0] rfl rfl ro_nil) (recv_at (q := (RX7, TX7, 6)) hK (b_at (k := 0) hP rfl) rfl) rfl hl.1 rfl (Nat.le_of_ble_eq_true rfl) dX2_pickUp_55 ⟨(Nat.le_of_ble_eq_true rfl), (Nat.le_of_ble_eq_true rfl)⟩) hP hD hS hA [0] [1, 2, 3, 4, 5, 6, 7, 8] rfl rfl rfl (fun u_6 H locs hw_6 hP hD hS _ => ?_)
  obtain rfl := hw_6
  have hP : WP Γ [[(a_1, pickE (pickSettle (pickNew td li ce) (pkMean pv np w td li ce) (bonV rv (pkMean pv np w td li ce) nr) (se 5)))], P, [(e0, .inr (1, [.ref e1, .ref e2, .ref e3, .ref e4, .ref e5, .int td, .int pk, .int pd]))], [(e2, .inr (11, [.int m1, .ref x1.1, .int (nI nr)]))], (alA Γ x1), [(e3, .inr (11, [.int (m2 + 1), .ref y_3.1, .int (nI (np + 1))]))], (alA Γ y_3), [(e5, .inl (Γ.2.1 0, 6, .inl se))], [(e4, .inr (2, [.int li, .int ce]))]] H := hP
  have hD : WD A [[(a_1, pickE (pickSettle (pickNew td li ce) (pkMean pv np w td li ce) (bonV rv (pkMean pv np w td li ce) nr) (se 5)))], P, [(e0, .inr (1, [.ref e1, .ref e2, .ref e3, .ref e4, .ref e5, .int td, .int pk, .int pd]))], [(e2, .inr (11, [.int m1, .ref x1.1, .int (nI nr)]))], (alA Γ x1), [(e3, .inr (11, [.int (m2 + 1), .ref y_3.1, .int (nI (np + 1))]))], (alA Γ y_3), [(e5, .inl (Γ.2.1 0, 6, .inl se))], [(e4, .inr (2, [.int li, .int ce]))]] := hD
  have hP : WP Γ [[(a_1, pickE (pkDone pv np w td li ce rv nr (se 5)))], P, [(e0, .inr (1, [.ref e1, .ref e2, .ref e3, .ref e4, .ref e5, .int td, .int pk, .int pd]))], [(e2, .inr (11, [.int m1, .ref x1.1, .int (nI nr)]))], (alA Γ x1), [(e3, .inr (11, [.int (m2 + 1), .ref y_3.1, .int (nI (np + 1))]))], (alA Γ y_3), [(e5, .inl (Γ.2.1 0, 6, .inl se))], [(e4, .inr (2, [.int li, .int ce]))]] H := hP
  have hD : WD A [[(a_1, pickE (pkDone pv np w td li ce rv nr (se 5)))], P, [(e0, .inr (1, [.ref e1, .ref e2, .ref e3, .ref e4, .ref e5, .int td, .int pk, .int pd]))], [(e2, .inr (11, [.int m1, .ref x1.1, .int (nI nr)]))], (alA Γ x1), [(e3, .inr (11, [.int (m2 + 1), .ref y_3.1, .int (nI (np + 1))]))], (alA Γ y_3), [(e5, .inl (Γ.2.1 0, 6, .inl se))], [(e4, .inr (2, [.int li, .int ce]))]] := hD
  refine lv_aload_n hx hb dX2_pickUp_58 rfl (lv_at hl 3 rfl) ?_
  refine b_get (C := RX2) (T := TX2) (N := 8) (v := .ref e3) hx hb hts in_X2 hown hK (b_at (k := 2) hP rfl) rfl 2 (by decide) q168 (fun _ h9 => h9) rfl dX2_pickUp_59 ?_
  refine b_calli (br := [[(a_1, pickE (pkDone pv np w td li ce rv nr (se 5)))], P, [(e0, .inr (1, [.ref e1, .ref e2, .ref e3, .ref e4, .ref e5, .int td, .int pk, .int pd]))], [(e2, .inr (11, [.int m1, .ref x1.1, .int (nI nr)]))], (alA Γ x1), (alA Γ y_3), [(e5, .inl (Γ.2.1 0, 6, .inl se))], [(e4, .inr (2, [.int li, .int ce]))]]) (b_runV ⟨hx, hb, hml, hown, hts⟩ (mt_AL_size l Γ _ e3 (m2 + 1) y_3.1 (np + 1)) (lw_V q961 q818 q819 q66 q820) rfl rfl 0 (by decide +kernel) ⟨(Nat.le_of_ble_eq_true rfl), (Nat.le_of_ble_eq_true rfl)⟩ (c_pre hP hD hS hA hK hE [5] rfl rfl ro_nil) (recv_at (q := (RJ2, TJ2, 3)) hK (b_at (k := 5) hP rfl) rfl) rfl hl.1 rfl (Nat.le_of_ble_eq_true rfl) dX2_pickUp_62 ⟨(Nat.le_of_ble_eq_true rfl), (Nat.le_of_ble_eq_true rfl)⟩) hP hD hS hA [5] [0, 1, 2, 3, 4, 6, 7, 8] rfl rfl rfl (fun r_7 u_7 H locs hw_7 hP hD hS _ => ?_)
  obtain ⟨rfl, rfl⟩ := hw_7
  have hP : WP Γ [[(e3, .inr (11, [.int (m2 + 1), .ref y_3.1, .int (nI (np + 1))]))], [(a_1, pickE (pkDone pv np w td li ce rv nr (se 5)))], P, [(e0, .inr (1, [.ref e1, .ref e2, .ref e3, .ref e4, .ref e5, .int td, .int pk, .int pd]))], [(e2, .inr (11, [.int m1, .ref x1.1, .int (nI nr)]))], (alA Γ x1), (alA Γ y_3), [(e5, .inl (Γ.2.1 0, 6, .inl se))], [(e4, .inr (2, [.int li, .int ce]))]] H := hP
  have hD : WD A [[(e3, .inr (11, [.int (m2 + 1), .ref y_3.1, .int (nI (np + 1))]))], [(a_1, pickE (pkDone pv np w td li ce rv nr (se 5)))], P, [(e0, .inr (1, [.ref e1, .ref e2, .ref e3, .ref e4, .ref e5, .int td, .int pk, .int pd]))], [(e2, .inr (11, [.int m1, .ref x1.1, .int (nI nr)]))], (alA Γ x1), (alA Γ y_3), [(e5, .inl (Γ.2.1 0, 6, .inl se))], [(e4, .inr (2, [.int li, .int ce]))]] := hD
  refine lv_bipush (v := 60) hx hb dX2_pickUp_65 (by decide) ?_
  refine lv_icmp_le (tgt := 79) hx hb dX2_pickUp_67 (by decide) (fun c_8 => ?_) (fun c_8 => ?_)
  · -- 67 taken
    have n_8 : np + 1 ≤ 60 := (nI_leI (by omega) (by omega)).mp (show nI (np + 1) ≤ nI 60 from c_8)
    have m_8 : ¬ (60 < np + 1) := by omega
    have d_8 := Int32.not_lt.mpr c_8
    refine lv_aload_n hx hb dX2_pickUp_79 rfl (lv_at hl 3 rfl) ?_
    refine lv_dup hx hb dX2_pickUp_80 rfl ?_
    refine b_get (C := RX2) (T := TX2) (N := 8) (v := .int pk) hx hb hts in_X2 hown hK (b_at (k := 3) hP rfl) rfl 6 (by decide) q176 (fun _ h9 => h9) rfl dX2_pickUp_81 ?_
    refine lv_iload_n hx hb dX2_pickUp_84 rfl (lv_at hl 2 rfl) ?_
    refine lv_iadd hx hb dX2_pickUp_85 ?_
    refine b_put (C := RX2) (T := TX2) (N := 8) (ty := .int) (v := .int (pk + li)) hx hb hts in_X2 tyX2_ok nmX2 hown hK hP hD hS 3 rfl rfl 6 (by decide) q176 (fun _ h9 => h9) rfl (by decide +kernel) rfl rfl (Nat.le_of_ble_eq_true rfl) dX2_pickUp_86 (fun H locs hP hD hS => ?_)
    have hP : WP Γ [[(e3, .inr (11, [.int (m2 + 1), .ref y_3.1, .int (nI (np + 1))]))], [(a_1, pickE (pkDone pv np w td li ce rv nr (se 5)))], P, [(e0, .inr (1, [.ref e1, .ref e2, .ref e3, .ref e4, .ref e5, .int td, .int (pk + li), .int pd]))], [(e2, .inr (11, [.int m1, .ref x1.1, .int (nI nr)]))], (alA Γ x1), (alA Γ y_3), [(e5, .inl (Γ.2.1 0, 6, .inl se))], [(e4, .inr (2, [.int li, .int ce]))]] H := hP
    have hD : WD A [[(e3, .inr (11, [.int (m2 + 1), .ref y_3.1, .int (nI (np + 1))]))], [(a_1, pickE (pkDone pv np w td li ce rv nr (se 5)))], P, [(e0, .inr (1, [.ref e1, .ref e2, .ref e3, .ref e4, .ref e5, .int td, .int (pk + li), .int pd]))], [(e2, .inr (11, [.int m1, .ref x1.1, .int (nI nr)]))], (alA Γ x1), (alA Γ y_3), [(e5, .inl (Γ.2.1 0, 6, .inl se))], [(e4, .inr (2, [.int li, .int ce]))]] := hD
    refine lv_aload_n hx hb dX2_pickUp_89 rfl (lv_at hl 3 rfl) ?_
    refine lv_dup hx hb dX2_pickUp_90 rfl ?_
    refine b_get (C := RX2) (T := TX2) (N := 8) (v := .int pd) hx hb hts in_X2 hown hK (b_at (k := 3) hP rfl) rfl 7 (by decide) q177 (fun _ h9 => h9) rfl dX2_pickUp_91 ?_
    refine lv_aload_n hx hb dX2_pickUp_94 rfl (lv_at hl 1 rfl) ?_
    refine b_getN (C := RX7) (T := TX7) (N := 6) (v := .int (pkDone pv np w td li ce rv nr (se 5) 5)) hx hb hts hE in_X7 hown hK (b_at (k := 1) hP rfl) rfl 5 (by decide) q1253 (fun _ h9 => h9) rfl dX2_pickUp_95 ?_
    refine lv_iadd hx hb dX2_pickUp_98 ?_
    refine b_put (C := RX2) (T := TX2) (N := 8) (ty := .int) (v := .int (pd + (pkDone pv np w td li ce rv nr (se 5) 5))) hx hb hts in_X2 tyX2_ok nmX2 hown hK hP hD hS 3 rfl rfl 7 (by decide) q177 (fun _ h9 => h9) rfl (by decide +kernel) rfl rfl (Nat.le_of_ble_eq_true rfl) dX2_pickUp_99 (fun H locs hP hD hS => ?_)
    have hP : WP Γ [[(e3, .inr (11, [.int (m2 + 1), .ref y_3.1, .int (nI (np + 1))]))], [(a_1, pickE (pkDone pv np w td li ce rv nr (se 5)))], P, [(e0, .inr (1, [.ref e1, .ref e2, .ref e3, .ref e4, .ref e5, .int td, .int (pk + li), .int (pd + (pkDone pv np w td li ce rv nr (se 5) 5))]))], [(e2, .inr (11, [.int m1, .ref x1.1, .int (nI nr)]))], (alA Γ x1), (alA Γ y_3), [(e5, .inl (Γ.2.1 0, 6, .inl se))], [(e4, .inr (2, [.int li, .int ce]))]] H := hP
    have hD : WD A [[(e3, .inr (11, [.int (m2 + 1), .ref y_3.1, .int (nI (np + 1))]))], [(a_1, pickE (pkDone pv np w td li ce rv nr (se 5)))], P, [(e0, .inr (1, [.ref e1, .ref e2, .ref e3, .ref e4, .ref e5, .int td, .int (pk + li), .int (pd + (pkDone pv np w td li ce rv nr (se 5) 5))]))], [(e2, .inr (11, [.int m1, .ref x1.1, .int (nI nr)]))], (alA Γ x1), (alA Γ y_3), [(e5, .inl (Γ.2.1 0, 6, .inl se))], [(e4, .inr (2, [.int li, .int ce]))]] := hD
    refine lv_aload_n hx hb dX2_pickUp_102 rfl (lv_at hl 3 rfl) ?_
    refine b_get (C := RX2) (T := TX2) (N := 8) (v := .ref e4) hx hb hts in_X2 hown hK (b_at (k := 3) hP rfl) rfl 3 (by decide) q170 (fun _ h9 => h9) rfl dX2_pickUp_103 ?_
    refine lv_iconst (v := 0) hx hb dX2_pickUp_106 (by decide) ?_
    refine b_putN (C := RX3) (T := TX3) (N := 2) (ty := .int) (v := .int 0) hx hb hts hE in_X3 tyX3_ok nmX3 hown hK hP hD hS 8 rfl rfl 0 (by decide) q153 (fun _ h9 => h9) rfl (by decide +kernel) rfl rfl (Nat.le_of_ble_eq_true rfl) dX2_pickUp_107 (fun H locs hP hD hS => ?_)
    have hP : WP Γ [[(e3, .inr (11, [.int (m2 + 1), .ref y_3.1, .int (nI (np + 1))]))], [(a_1, pickE (pkDone pv np w td li ce rv nr (se 5)))], P, [(e0, .inr (1, [.ref e1, .ref e2, .ref e3, .ref e4, .ref e5, .int td, .int (pk + li), .int (pd + (pkDone pv np w td li ce rv nr (se 5) 5))]))], [(e2, .inr (11, [.int m1, .ref x1.1, .int (nI nr)]))], (alA Γ x1), (alA Γ y_3), [(e5, .inl (Γ.2.1 0, 6, .inl se))], [(e4, .inr (2, [.int 0, .int ce]))]] H := hP
    have hD : WD A [[(e3, .inr (11, [.int (m2 + 1), .ref y_3.1, .int (nI (np + 1))]))], [(a_1, pickE (pkDone pv np w td li ce rv nr (se 5)))], P, [(e0, .inr (1, [.ref e1, .ref e2, .ref e3, .ref e4, .ref e5, .int td, .int (pk + li), .int (pd + (pkDone pv np w td li ce rv nr (se 5) 5))]))], [(e2, .inr (11, [.int m1, .ref x1.1, .int (nI nr)]))], (alA Γ x1), (alA Γ y_3), [(e5, .inl (Γ.2.1 0, 6, .inl se))], [(e4, .inr (2, [.int 0, .int ce]))]] := hD
    refine lv_aload_n hx hb dX2_pickUp_110 rfl (lv_at hl 3 rfl) ?_
    refine b_get (C := RX2) (T := TX2) (N := 8) (v := .ref e4) hx hb hts in_X2 hown hK (b_at (k := 3) hP rfl) rfl 3 (by decide) q170 (fun _ h9 => h9) rfl dX2_pickUp_111 ?_
    refine lv_iconst (v := 0) hx hb dX2_pickUp_114 (by decide) ?_
    refine b_putN (C := RX3) (T := TX3) (N := 2) (ty := .int) (v := .int 0) hx hb hts hE in_X3 tyX3_ok nmX3 hown hK hP hD hS 8 rfl rfl 1 (by decide) q156 (fun _ h9 => h9) rfl (by decide +kernel) rfl rfl (Nat.le_of_ble_eq_true rfl) dX2_pickUp_115 (fun H locs hP hD hS => ?_)
    have hP : WP Γ [[(e3, .inr (11, [.int (m2 + 1), .ref y_3.1, .int (nI (np + 1))]))], [(a_1, pickE (pkDone pv np w td li ce rv nr (se 5)))], P, [(e0, .inr (1, [.ref e1, .ref e2, .ref e3, .ref e4, .ref e5, .int td, .int (pk + li), .int (pd + (pkDone pv np w td li ce rv nr (se 5) 5))]))], [(e2, .inr (11, [.int m1, .ref x1.1, .int (nI nr)]))], (alA Γ x1), (alA Γ y_3), [(e5, .inl (Γ.2.1 0, 6, .inl se))], [(e4, .inr (2, [.int 0, .int 0]))]] H := hP
    have hD : WD A [[(e3, .inr (11, [.int (m2 + 1), .ref y_3.1, .int (nI (np + 1))]))], [(a_1, pickE (pkDone pv np w td li ce rv nr (se 5)))], P, [(e0, .inr (1, [.ref e1, .ref e2, .ref e3, .ref e4, .ref e5, .int td, .int (pk + li), .int (pd + (pkDone pv np w td li ce rv nr (se 5) 5))]))], [(e2, .inr (11, [.int m1, .ref x1.1, .int (nI nr)]))], (alA Γ x1), (alA Γ y_3), [(e5, .inl (Γ.2.1 0, 6, .inl se))], [(e4, .inr (2, [.int 0, .int 0]))]] := hD
    have hP : WP Γ [[(a_1, pickE (pkDone pv np w td li ce rv nr (se 5)))], P, [(e3, .inr (11, [.int (m2 + 1), .ref y_3.1, .int (nI (np + 1))]))], [(e0, .inr (1, [.ref e1, .ref e2, .ref e3, .ref e4, .ref e5, .int td, .int (pk + li), .int (pd + (pkDone pv np w td li ce rv nr (se 5) 5))]))], [(e2, .inr (11, [.int m1, .ref x1.1, .int (nI nr)]))], (alA Γ x1), (alA Γ y_3), [(e5, .inl (Γ.2.1 0, 6, .inl se))], [(e4, .inr (2, [.int 0, .int 0]))]] H := bP_sel hP [1, 2, 0, 3, 4, 5, 6, 7, 8] rfl
    have hD : WD A [[(a_1, pickE (pkDone pv np w td li ce rv nr (se 5)))], P, [(e3, .inr (11, [.int (m2 + 1), .ref y_3.1, .int (nI (np + 1))]))], [(e0, .inr (1, [.ref e1, .ref e2, .ref e3, .ref e4, .ref e5, .int td, .int (pk + li), .int (pd + (pkDone pv np w td li ce rv nr (se 5) 5))]))], [(e2, .inr (11, [.int m1, .ref x1.1, .int (nI nr)]))], (alA Γ x1), (alA Γ y_3), [(e5, .inl (Γ.2.1 0, 6, .inl se))], [(e4, .inr (2, [.int 0, .int 0]))]] := bD_sel hD [1, 2, 0, 3, 4, 5, 6, 7, 8] rfl rfl
    have hP : WP Γ [([(a_1, pickE (pkDone pv np w td li ce rv nr (se 5)))] ++ P), [(e3, .inr (11, [.int (m2 + 1), .ref y_3.1, .int (nI (np + 1))]))], [(e0, .inr (1, [.ref e1, .ref e2, .ref e3, .ref e4, .ref e5, .int td, .int (pk + li), .int (pd + (pkDone pv np w td li ce rv nr (se 5) 5))]))], [(e2, .inr (11, [.int m1, .ref x1.1, .int (nI nr)]))], (alA Γ x1), (alA Γ y_3), [(e5, .inl (Γ.2.1 0, 6, .inl se))], [(e4, .inr (2, [.int 0, .int 0]))]] H := hP
    have hD : WD A [([(a_1, pickE (pkDone pv np w td li ce rv nr (se 5)))] ++ P), [(e3, .inr (11, [.int (m2 + 1), .ref y_3.1, .int (nI (np + 1))]))], [(e0, .inr (1, [.ref e1, .ref e2, .ref e3, .ref e4, .ref e5, .int td, .int (pk + li), .int (pd + (pkDone pv np w td li ce rv nr (se 5) 5))]))], [(e2, .inr (11, [.int m1, .ref x1.1, .int (nI nr)]))], (alA Γ x1), (alA Γ y_3), [(e5, .inl (Γ.2.1 0, 6, .inl se))], [(e4, .inr (2, [.int 0, .int 0]))]] := hD
    have e9 : pkN np = np + 1 := if_pos (by omega)
    have e8 : pkM m2 np = m2 + 1 := if_pos (by omega)
    have e7 : pkA pa np a_1 = va_up pa np a_1 := if_pos (by omega)
    refine lv_iload_n hx hb dX2_pickUp_118 rfl (lv_at hl 2 rfl) ?_
    have hP : WP Γ [[(e0, .inr (1, [.ref e1, .ref e2, .ref e3, .ref e4, .ref e5, .int td, .int (pk + li), .int (pd + (pkDone pv np w td li ce rv nr (se 5) 5))]))], [(e2, .inr (11, [.int m1, .ref x1.1, .int (nI nr)]))], (alA Γ x1), [(e3, .inr (11, [.int (m2 + 1), .ref y_3.1, .int (nI (np + 1))]))], (alA Γ y_3), [(e4, .inr (2, [.int 0, .int 0]))], [(e5, .inl (Γ.2.1 0, 6, .inl se))], ([(a_1, pickE (pkDone pv np w td li ce rv nr (se 5)))] ++ P)] H := bP_sel hP [2, 3, 4, 1, 5, 7, 6, 0] rfl
    have hD : WD A [[(e0, .inr (1, [.ref e1, .ref e2, .ref e3, .ref e4, .ref e5, .int td, .int (pk + li), .int (pd + (pkDone pv np w td li ce rv nr (se 5) 5))]))], [(e2, .inr (11, [.int m1, .ref x1.1, .int (nI nr)]))], (alA Γ x1), [(e3, .inr (11, [.int (m2 + 1), .ref y_3.1, .int (nI (np + 1))]))], (alA Γ y_3), [(e4, .inr (2, [.int 0, .int 0]))], [(e5, .inl (Γ.2.1 0, 6, .inl se))], ([(a_1, pickE (pkDone pv np w td li ce rv nr (se 5)))] ++ P)] := bD_sel hD [2, 3, 4, 1, 5, 7, 6, 0] rfl rfl
    exact b_iret hx hb hr hlocks hP hD hS (Nat.le_of_ble_eq_true rfl) (Nat.le_of_ble_eq_true rfl) ⟨a_1, y_3, (by rw [e9, e7]; exact hy_3), (by first | with_reducible rfl | (simp [n_8, m_8, d_8]; done) | rfl), (by rw [e9, e8])⟩ dX2_pickUp_119
  · -- 67 not taken
    have n_8 : ¬ (np + 1 ≤ 60) := fun h => c_8 ((nI_leI (a := np + 1) (b := 60) (by omega) (by omega)).mpr h)
    have m_8 : 60 < np + 1 := by omega
    have d_8 := Int32.not_le.mp c_8
    refine lv_aload_n hx hb dX2_pickUp_70 rfl (lv_at hl 3 rfl) ?_
    refine b_get (C := RX2) (T := TX2) (N := 8) (v := .ref e3) hx hb hts in_X2 hown hK (b_at (k := 3) hP rfl) rfl 2 (by decide) q168 (fun _ h9 => h9) rfl dX2_pickUp_71 ?_
    refine lv_iconst (v := 0) hx hb dX2_pickUp_74 (by decide) ?_
    have hP : WP Γ [[(a_1, pickE (pkDone pv np w td li ce rv nr (se 5)))], P, [(e3, .inr (11, [.int (m2 + 1), .ref y_3.1, .int (nI (np + 1))]))], [(e0, .inr (1, [.ref e1, .ref e2, .ref e3, .ref e4, .ref e5, .int td, .int pk, .int pd]))], [(e2, .inr (11, [.int m1, .ref x1.1, .int (nI nr)]))], (alA Γ x1), (alA Γ y_3), [(e5, .inl (Γ.2.1 0, 6, .inl se))], [(e4, .inr (2, [.int li, .int ce]))]] H := bP_sel hP [1, 2, 0, 3, 4, 5, 6, 7, 8] rfl
    have hD : WD A [[(a_1, pickE (pkDone pv np w td li ce rv nr (se 5)))], P, [(e3, .inr (11, [.int (m2 + 1), .ref y_3.1, .int (nI (np + 1))]))], [(e0, .inr (1, [.ref e1, .ref e2, .ref e3, .ref e4, .ref e5, .int td, .int pk, .int pd]))], [(e2, .inr (11, [.int m1, .ref x1.1, .int (nI nr)]))], (alA Γ x1), (alA Γ y_3), [(e5, .inl (Γ.2.1 0, 6, .inl se))], [(e4, .inr (2, [.int li, .int ce]))]] := bD_sel hD [1, 2, 0, 3, 4, 5, 6, 7, 8] rfl rfl
    have hP : WP Γ [([(a_1, pickE (pkDone pv np w td li ce rv nr (se 5)))] ++ P), [(e3, .inr (11, [.int (m2 + 1), .ref y_3.1, .int (nI (np + 1))]))], [(e0, .inr (1, [.ref e1, .ref e2, .ref e3, .ref e4, .ref e5, .int td, .int pk, .int pd]))], [(e2, .inr (11, [.int m1, .ref x1.1, .int (nI nr)]))], (alA Γ x1), (alA Γ y_3), [(e5, .inl (Γ.2.1 0, 6, .inl se))], [(e4, .inr (2, [.int li, .int ce]))]] H := hP
    have hD : WD A [([(a_1, pickE (pkDone pv np w td li ce rv nr (se 5)))] ++ P), [(e3, .inr (11, [.int (m2 + 1), .ref y_3.1, .int (nI (np + 1))]))], [(e0, .inr (1, [.ref e1, .ref e2, .ref e3, .ref e4, .ref e5, .int td, .int pk, .int pd]))], [(e2, .inr (11, [.int m1, .ref x1.1, .int (nI nr)]))], (alA Γ x1), (alA Γ y_3), [(e5, .inl (Γ.2.1 0, 6, .inl se))], [(e4, .inr (2, [.int li, .int ce]))]] := hD
    refine b_callq (br := [([(a_1, pickE (pkDone pv np w td li ce rv nr (se 5)))] ++ P), [(e0, .inr (1, [.ref e1, .ref e2, .ref e3, .ref e4, .ref e5, .int td, .int pk, .int pd]))], [(e2, .inr (11, [.int m1, .ref x1.1, .int (nI nr)]))], (alA Γ x1), [(e5, .inl (Γ.2.1 0, 6, .inl se))], [(e4, .inr (2, [.int li, .int ce]))]]) (b_runV ⟨hx, hb, hml, hown, hts⟩ (mt_AL_remove0 l Γ _ e3 (m2 + 1) y_3 np (va_up pa np a_1) ([(a_1, pickE (pkDone pv np w td li ce rv nr (se 5)))] ++ P) hy_3 (by omega) (fun k hk => ⟨6, _, pk_mem hpk k hk, obOk6⟩)) (lw_V q1279 q1280 q1281 q66 q1282) rfl rfl 1 (by decide +kernel) ⟨(Nat.le_of_ble_eq_true rfl), (Nat.le_of_ble_eq_true rfl)⟩ (c_pre hP hD hS hA hK hE [1, 5] rfl rfl (ro_own (br := [([(a_1, pickE (pkDone pv np w td li ce rv nr (se 5)))] ++ P)]) hP hD [1, 5] [0] rfl rfl rfl)) (recv_at (q := (RJ2, TJ2, 3)) hK (b_at (k := 1) hP rfl) rfl) rfl hl.1 rfl (Nat.le_of_ble_eq_true rfl) dX2_pickUp_75 ⟨(Nat.le_of_ble_eq_true rfl), (Nat.le_of_ble_eq_true rfl)⟩) hP hD hS hA [1, 5] [0, 2, 3, 4, 6, 7] rfl rfl rfl (fun r_9 u_9 H locs hw_9 hP hD hS _ => ?_)
    obtain ⟨y_9, hy_9, rfl, rfl⟩ := hw_9
    have hP : WP Γ [[(e3, .inr (11, [.int ((m2 + 1) + 1), .ref y_9.1, .int (nI np)]))], (alA Γ y_9), ([(a_1, pickE (pkDone pv np w td li ce rv nr (se 5)))] ++ P), [(e0, .inr (1, [.ref e1, .ref e2, .ref e3, .ref e4, .ref e5, .int td, .int pk, .int pd]))], [(e2, .inr (11, [.int m1, .ref x1.1, .int (nI nr)]))], (alA Γ x1), [(e5, .inl (Γ.2.1 0, 6, .inl se))], [(e4, .inr (2, [.int li, .int ce]))]] H := hP
    have hD : WD A [[(e3, .inr (11, [.int ((m2 + 1) + 1), .ref y_9.1, .int (nI np)]))], (alA Γ y_9), ([(a_1, pickE (pkDone pv np w td li ce rv nr (se 5)))] ++ P), [(e0, .inr (1, [.ref e1, .ref e2, .ref e3, .ref e4, .ref e5, .int td, .int pk, .int pd]))], [(e2, .inr (11, [.int m1, .ref x1.1, .int (nI nr)]))], (alA Γ x1), [(e5, .inl (Γ.2.1 0, 6, .inl se))], [(e4, .inr (2, [.int li, .int ce]))]] := hD
    refine W.eq (g2 := F0 mi_ 78 ls ([.ref ((va_up pa np a_1) 0)])) rfl ?_
    have hP : WP Γ [([(a_1, pickE (pkDone pv np w td li ce rv nr (se 5)))] ++ P), [(e3, .inr (11, [.int ((m2 + 1) + 1), .ref y_9.1, .int (nI np)]))], (alA Γ y_9), [(e0, .inr (1, [.ref e1, .ref e2, .ref e3, .ref e4, .ref e5, .int td, .int pk, .int pd]))], [(e2, .inr (11, [.int m1, .ref x1.1, .int (nI nr)]))], (alA Γ x1), [(e5, .inl (Γ.2.1 0, 6, .inl se))], [(e4, .inr (2, [.int li, .int ce]))]] H := bP_sel hP [2, 0, 1, 3, 4, 5, 6, 7] rfl
    have hD : WD A [([(a_1, pickE (pkDone pv np w td li ce rv nr (se 5)))] ++ P), [(e3, .inr (11, [.int ((m2 + 1) + 1), .ref y_9.1, .int (nI np)]))], (alA Γ y_9), [(e0, .inr (1, [.ref e1, .ref e2, .ref e3, .ref e4, .ref e5, .int td, .int pk, .int pd]))], [(e2, .inr (11, [.int m1, .ref x1.1, .int (nI nr)]))], (alA Γ x1), [(e5, .inl (Γ.2.1 0, 6, .inl se))], [(e4, .inr (2, [.int li, .int ce]))]] := bD_sel hD [2, 0, 1, 3, 4, 5, 6, 7] rfl rfl
    have hP : WP Γ [[(a_1, pickE (pkDone pv np w td li ce rv nr (se 5)))], P, [(e3, .inr (11, [.int ((m2 + 1) + 1), .ref y_9.1, .int (nI np)]))], (alA Γ y_9), [(e0, .inr (1, [.ref e1, .ref e2, .ref e3, .ref e4, .ref e5, .int td, .int pk, .int pd]))], [(e2, .inr (11, [.int m1, .ref x1.1, .int (nI nr)]))], (alA Γ x1), [(e5, .inl (Γ.2.1 0, 6, .inl se))], [(e4, .inr (2, [.int li, .int ce]))]] H := hP
    have hD : WD A [[(a_1, pickE (pkDone pv np w td li ce rv nr (se 5)))], P, [(e3, .inr (11, [.int ((m2 + 1) + 1), .ref y_9.1, .int (nI np)]))], (alA Γ y_9), [(e0, .inr (1, [.ref e1, .ref e2, .ref e3, .ref e4, .ref e5, .int td, .int pk, .int pd]))], [(e2, .inr (11, [.int m1, .ref x1.1, .int (nI nr)]))], (alA Γ x1), [(e5, .inl (Γ.2.1 0, 6, .inl se))], [(e4, .inr (2, [.int li, .int ce]))]] := hD
    refine lv_pop hx hb dX2_pickUp_78 rfl ?_
    refine lv_aload_n hx hb dX2_pickUp_79 rfl (lv_at hl 3 rfl) ?_
    refine lv_dup hx hb dX2_pickUp_80 rfl ?_
    refine b_get (C := RX2) (T := TX2) (N := 8) (v := .int pk) hx hb hts in_X2 hown hK (b_at (k := 4) hP rfl) rfl 6 (by decide) q176 (fun _ h9 => h9) rfl dX2_pickUp_81 ?_
    refine lv_iload_n hx hb dX2_pickUp_84 rfl (lv_at hl 2 rfl) ?_
    refine lv_iadd hx hb dX2_pickUp_85 ?_
    refine b_put (C := RX2) (T := TX2) (N := 8) (ty := .int) (v := .int (pk + li)) hx hb hts in_X2 tyX2_ok nmX2 hown hK hP hD hS 4 rfl rfl 6 (by decide) q176 (fun _ h9 => h9) rfl (by decide +kernel) rfl rfl (Nat.le_of_ble_eq_true rfl) dX2_pickUp_86 (fun H locs hP hD hS => ?_)
    have hP : WP Γ [[(a_1, pickE (pkDone pv np w td li ce rv nr (se 5)))], P, [(e3, .inr (11, [.int ((m2 + 1) + 1), .ref y_9.1, .int (nI np)]))], (alA Γ y_9), [(e0, .inr (1, [.ref e1, .ref e2, .ref e3, .ref e4, .ref e5, .int td, .int (pk + li), .int pd]))], [(e2, .inr (11, [.int m1, .ref x1.1, .int (nI nr)]))], (alA Γ x1), [(e5, .inl (Γ.2.1 0, 6, .inl se))], [(e4, .inr (2, [.int li, .int ce]))]] H := hP
    have hD : WD A [[(a_1, pickE (pkDone pv np w td li ce rv nr (se 5)))], P, [(e3, .inr (11, [.int ((m2 + 1) + 1), .ref y_9.1, .int (nI np)]))], (alA Γ y_9), [(e0, .inr (1, [.ref e1, .ref e2, .ref e3, .ref e4, .ref e5, .int td, .int (pk + li), .int pd]))], [(e2, .inr (11, [.int m1, .ref x1.1, .int (nI nr)]))], (alA Γ x1), [(e5, .inl (Γ.2.1 0, 6, .inl se))], [(e4, .inr (2, [.int li, .int ce]))]] := hD
    refine lv_aload_n hx hb dX2_pickUp_89 rfl (lv_at hl 3 rfl) ?_
    refine lv_dup hx hb dX2_pickUp_90 rfl ?_
    refine b_get (C := RX2) (T := TX2) (N := 8) (v := .int pd) hx hb hts in_X2 hown hK (b_at (k := 4) hP rfl) rfl 7 (by decide) q177 (fun _ h9 => h9) rfl dX2_pickUp_91 ?_
    refine lv_aload_n hx hb dX2_pickUp_94 rfl (lv_at hl 1 rfl) ?_
    refine b_getN (C := RX7) (T := TX7) (N := 6) (v := .int (pkDone pv np w td li ce rv nr (se 5) 5)) hx hb hts hE in_X7 hown hK (b_at (k := 0) hP rfl) rfl 5 (by decide) q1253 (fun _ h9 => h9) rfl dX2_pickUp_95 ?_
    refine lv_iadd hx hb dX2_pickUp_98 ?_
    refine b_put (C := RX2) (T := TX2) (N := 8) (ty := .int) (v := .int (pd + (pkDone pv np w td li ce rv nr (se 5) 5))) hx hb hts in_X2 tyX2_ok nmX2 hown hK hP hD hS 4 rfl rfl 7 (by decide) q177 (fun _ h9 => h9) rfl (by decide +kernel) rfl rfl (Nat.le_of_ble_eq_true rfl) dX2_pickUp_99 (fun H locs hP hD hS => ?_)
    have hP : WP Γ [[(a_1, pickE (pkDone pv np w td li ce rv nr (se 5)))], P, [(e3, .inr (11, [.int ((m2 + 1) + 1), .ref y_9.1, .int (nI np)]))], (alA Γ y_9), [(e0, .inr (1, [.ref e1, .ref e2, .ref e3, .ref e4, .ref e5, .int td, .int (pk + li), .int (pd + (pkDone pv np w td li ce rv nr (se 5) 5))]))], [(e2, .inr (11, [.int m1, .ref x1.1, .int (nI nr)]))], (alA Γ x1), [(e5, .inl (Γ.2.1 0, 6, .inl se))], [(e4, .inr (2, [.int li, .int ce]))]] H := hP
    have hD : WD A [[(a_1, pickE (pkDone pv np w td li ce rv nr (se 5)))], P, [(e3, .inr (11, [.int ((m2 + 1) + 1), .ref y_9.1, .int (nI np)]))], (alA Γ y_9), [(e0, .inr (1, [.ref e1, .ref e2, .ref e3, .ref e4, .ref e5, .int td, .int (pk + li), .int (pd + (pkDone pv np w td li ce rv nr (se 5) 5))]))], [(e2, .inr (11, [.int m1, .ref x1.1, .int (nI nr)]))], (alA Γ x1), [(e5, .inl (Γ.2.1 0, 6, .inl se))], [(e4, .inr (2, [.int li, .int ce]))]] := hD
    refine lv_aload_n hx hb dX2_pickUp_102 rfl (lv_at hl 3 rfl) ?_
    refine b_get (C := RX2) (T := TX2) (N := 8) (v := .ref e4) hx hb hts in_X2 hown hK (b_at (k := 4) hP rfl) rfl 3 (by decide) q170 (fun _ h9 => h9) rfl dX2_pickUp_103 ?_
    refine lv_iconst (v := 0) hx hb dX2_pickUp_106 (by decide) ?_
    refine b_putN (C := RX3) (T := TX3) (N := 2) (ty := .int) (v := .int 0) hx hb hts hE in_X3 tyX3_ok nmX3 hown hK hP hD hS 8 rfl rfl 0 (by decide) q153 (fun _ h9 => h9) rfl (by decide +kernel) rfl rfl (Nat.le_of_ble_eq_true rfl) dX2_pickUp_107 (fun H locs hP hD hS => ?_)
    have hP : WP Γ [[(a_1, pickE (pkDone pv np w td li ce rv nr (se 5)))], P, [(e3, .inr (11, [.int ((m2 + 1) + 1), .ref y_9.1, .int (nI np)]))], (alA Γ y_9), [(e0, .inr (1, [.ref e1, .ref e2, .ref e3, .ref e4, .ref e5, .int td, .int (pk + li), .int (pd + (pkDone pv np w td li ce rv nr (se 5) 5))]))], [(e2, .inr (11, [.int m1, .ref x1.1, .int (nI nr)]))], (alA Γ x1), [(e5, .inl (Γ.2.1 0, 6, .inl se))], [(e4, .inr (2, [.int 0, .int ce]))]] H := hP
    have hD : WD A [[(a_1, pickE (pkDone pv np w td li ce rv nr (se 5)))], P, [(e3, .inr (11, [.int ((m2 + 1) + 1), .ref y_9.1, .int (nI np)]))], (alA Γ y_9), [(e0, .inr (1, [.ref e1, .ref e2, .ref e3, .ref e4, .ref e5, .int td, .int (pk + li), .int (pd + (pkDone pv np w td li ce rv nr (se 5) 5))]))], [(e2, .inr (11, [.int m1, .ref x1.1, .int (nI nr)]))], (alA Γ x1), [(e5, .inl (Γ.2.1 0, 6, .inl se))], [(e4, .inr (2, [.int 0, .int ce]))]] := hD
    refine lv_aload_n hx hb dX2_pickUp_110 rfl (lv_at hl 3 rfl) ?_
    refine b_get (C := RX2) (T := TX2) (N := 8) (v := .ref e4) hx hb hts in_X2 hown hK (b_at (k := 4) hP rfl) rfl 3 (by decide) q170 (fun _ h9 => h9) rfl dX2_pickUp_111 ?_
    refine lv_iconst (v := 0) hx hb dX2_pickUp_114 (by decide) ?_
    refine b_putN (C := RX3) (T := TX3) (N := 2) (ty := .int) (v := .int 0) hx hb hts hE in_X3 tyX3_ok nmX3 hown hK hP hD hS 8 rfl rfl 1 (by decide) q156 (fun _ h9 => h9) rfl (by decide +kernel) rfl rfl (Nat.le_of_ble_eq_true rfl) dX2_pickUp_115 (fun H locs hP hD hS => ?_)
    have hP : WP Γ [[(a_1, pickE (pkDone pv np w td li ce rv nr (se 5)))], P, [(e3, .inr (11, [.int ((m2 + 1) + 1), .ref y_9.1, .int (nI np)]))], (alA Γ y_9), [(e0, .inr (1, [.ref e1, .ref e2, .ref e3, .ref e4, .ref e5, .int td, .int (pk + li), .int (pd + (pkDone pv np w td li ce rv nr (se 5) 5))]))], [(e2, .inr (11, [.int m1, .ref x1.1, .int (nI nr)]))], (alA Γ x1), [(e5, .inl (Γ.2.1 0, 6, .inl se))], [(e4, .inr (2, [.int 0, .int 0]))]] H := hP
    have hD : WD A [[(a_1, pickE (pkDone pv np w td li ce rv nr (se 5)))], P, [(e3, .inr (11, [.int ((m2 + 1) + 1), .ref y_9.1, .int (nI np)]))], (alA Γ y_9), [(e0, .inr (1, [.ref e1, .ref e2, .ref e3, .ref e4, .ref e5, .int td, .int (pk + li), .int (pd + (pkDone pv np w td li ce rv nr (se 5) 5))]))], [(e2, .inr (11, [.int m1, .ref x1.1, .int (nI nr)]))], (alA Γ x1), [(e5, .inl (Γ.2.1 0, 6, .inl se))], [(e4, .inr (2, [.int 0, .int 0]))]] := hD
    have hP : WP Γ [([(a_1, pickE (pkDone pv np w td li ce rv nr (se 5)))] ++ P), [(e3, .inr (11, [.int ((m2 + 1) + 1), .ref y_9.1, .int (nI np)]))], (alA Γ y_9), [(e0, .inr (1, [.ref e1, .ref e2, .ref e3, .ref e4, .ref e5, .int td, .int (pk + li), .int (pd + (pkDone pv np w td li ce rv nr (se 5) 5))]))], [(e2, .inr (11, [.int m1, .ref x1.1, .int (nI nr)]))], (alA Γ x1), [(e5, .inl (Γ.2.1 0, 6, .inl se))], [(e4, .inr (2, [.int 0, .int 0]))]] H := hP
    have hD : WD A [([(a_1, pickE (pkDone pv np w td li ce rv nr (se 5)))] ++ P), [(e3, .inr (11, [.int ((m2 + 1) + 1), .ref y_9.1, .int (nI np)]))], (alA Γ y_9), [(e0, .inr (1, [.ref e1, .ref e2, .ref e3, .ref e4, .ref e5, .int td, .int (pk + li), .int (pd + (pkDone pv np w td li ce rv nr (se 5) 5))]))], [(e2, .inr (11, [.int m1, .ref x1.1, .int (nI nr)]))], (alA Γ x1), [(e5, .inl (Γ.2.1 0, 6, .inl se))], [(e4, .inr (2, [.int 0, .int 0]))]] := hD
    have e9 : pkN np = np := if_neg (by omega)
    have e8 : pkM m2 np = m2 + 1 + 1 := if_neg (by omega)
    have e7 : pkA pa np a_1 = fun k => va_up pa np a_1 (k + 1) := if_neg (by omega)
    refine lv_iload_n hx hb dX2_pickUp_118 rfl (lv_at hl 2 rfl) ?_
    have hP : WP Γ [[(e0, .inr (1, [.ref e1, .ref e2, .ref e3, .ref e4, .ref e5, .int td, .int (pk + li), .int (pd + (pkDone pv np w td li ce rv nr (se 5) 5))]))], [(e2, .inr (11, [.int m1, .ref x1.1, .int (nI nr)]))], (alA Γ x1), [(e3, .inr (11, [.int ((m2 + 1) + 1), .ref y_9.1, .int (nI np)]))], (alA Γ y_9), [(e4, .inr (2, [.int 0, .int 0]))], [(e5, .inl (Γ.2.1 0, 6, .inl se))], ([(a_1, pickE (pkDone pv np w td li ce rv nr (se 5)))] ++ P)] H := bP_sel hP [3, 4, 5, 1, 2, 7, 6, 0] rfl
    have hD : WD A [[(e0, .inr (1, [.ref e1, .ref e2, .ref e3, .ref e4, .ref e5, .int td, .int (pk + li), .int (pd + (pkDone pv np w td li ce rv nr (se 5) 5))]))], [(e2, .inr (11, [.int m1, .ref x1.1, .int (nI nr)]))], (alA Γ x1), [(e3, .inr (11, [.int ((m2 + 1) + 1), .ref y_9.1, .int (nI np)]))], (alA Γ y_9), [(e4, .inr (2, [.int 0, .int 0]))], [(e5, .inl (Γ.2.1 0, 6, .inl se))], ([(a_1, pickE (pkDone pv np w td li ce rv nr (se 5)))] ++ P)] := bD_sel hD [3, 4, 5, 1, 2, 7, 6, 0] rfl rfl
    exact b_iret hx hb hr hlocks hP hD hS (Nat.le_of_ble_eq_true rfl) (Nat.le_of_ble_eq_true rfl) ⟨a_1, y_9, (by rw [e9, e7]; exact hy_9), (by first | with_reducible rfl | (simp [n_8, m_8, d_8]; done) | rfl), (by rw [e9, e8])⟩ dX2_pickUp_119
