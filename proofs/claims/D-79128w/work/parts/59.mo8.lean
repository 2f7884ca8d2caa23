/-! MODEL: order -/
def agQ (g : Nat → Int32) (q c v : Int32) : Int32 := if q = 0 then moAg0 g c v else if q = 1 then moAg1 g c else if q = 2 then moAg2 g c else if q = 3 then moAg3 g c else if q = 4 then moAg1 g c else moAg5 g c v (g 10).toNatClampNeg
def doQ (g : Nat → Int32) (q c v : Int32) : Nat → Int32 := if q = 0 then moDo0 g c.toNatClampNeg v else if q = 1 then moDo1 g c.toNatClampNeg v else if q = 2 then moDo2 g c.toNatClampNeg else if q = 3 then moDo3 g c.toNatClampNeg else if q = 4 then moDo4 g c.toNatClampNeg else moRows g c v (g 10).toNatClampNeg
/-- the commands told, from the j-th on: the reason against (0: none), the row -/
def orF (w : Nat → Int32) : Nat → Nat → (Nat → Int32) → Int32 × (Nat → Int32)
  | 0, _, g => (0, g)
  | f + 1, j, g => if 0 < agQ g (w (3 * j)) (w (3 * j + 1)) (w (3 * j + 2)) then (agQ g (w (3 * j)) (w (3 * j + 1)) (w (3 * j + 2)), g) else orF w f (j + 1) (doQ g (w (3 * j)) (w (3 * j + 1)) (w (3 * j + 2)))
theorem moRowPut_lo (g : Nat → Int32) (lim bon : Int32) (k q : Nat) (h : q < 95) : moRowPut g lim bon k q = g q := by
  rw [moRowPut, pk_un (by omega), pk_un (by omega)]
theorem moIns_lo (lim bon : Int32) : ∀ (k : Nat) (g : Nat → Int32) (q : Nat), q < 95 → moIns lim bon g k q = upd g 10 (g 10 + 1) q := by
  intro k
  induction k with
  | zero => intro g q h; rw [moIns, moRowEnd, moRowPut_lo _ _ _ _ _ h]
  | succ k ih =>
    intro g q h
    rw [moIns]
    split
    · rw [ih _ _ h]
      simp only [upd]
      split
      · rw [if_neg (by omega), if_neg (by omega)]
      · rw [if_neg (by omega), if_neg (by omega)]
    · rw [moRowEnd, moRowPut_lo _ _ _ _ _ h]
theorem doQ_keep {g : Nat → Int32} {q c v : Int32} {n m : Nat} (h7 : g 7 = nI n) (h10 : g 10 = nI m) (hm : m ≤ 4) (h : ¬ 0 < agQ g q c v) : doQ g q c v 7 = nI n ∧ ∃ p : Nat, p ≤ 4 ∧ doQ g q c v 10 = nI p := by
  unfold doQ
  split
  · rw [moDo0, pk_un (by omega), pk_un (by omega)]; exact ⟨h7, m, hm, h10⟩
  · split
    · rw [moDo1, pk_un (by omega), pk_un (by omega)]; exact ⟨h7, m, hm, h10⟩
    · split
      · rw [moDo2, pk_un (by omega), pk_un (by omega)]; exact ⟨h7, m, hm, h10⟩
      · split
        · rw [moDo3, pk_un (by omega), pk_un (by omega)]; exact ⟨h7, m, hm, h10⟩
        · split
          · rw [moDo4, pk_un (by omega), pk_un (by omega)]; exact ⟨h7, m, hm, h10⟩
          · rename_i a b d e f
            rw [h10, nI_clamp (by omega)]
            unfold agQ at h
            rw [if_neg a, if_neg b, if_neg d, if_neg e, if_neg f, h10, nI_clamp (by omega)] at h
            unfold moRows
            by_cases c1 : moRow g c m < 0
            · rw [if_pos c1, moIns_lo _ _ _ _ _ (by omega), moIns_lo _ _ _ _ _ (by omega), pk_un (by omega), pk_us, h10, ← nI_succ]
              refine ⟨h7, m + 1, ?_, rfl⟩
              rcases Nat.lt_or_ge m 4 with z | z
              · omega
              · exfalso
                apply h
                unfold moAg5
                rw [if_pos (show m = 4 by omega), if_pos c1]
                split
                · decide
                · split <;> decide
            · rw [if_neg c1, moRowPut_lo _ _ _ _ _ (by omega), moRowPut_lo _ _ _ _ _ (by omega)]
              exact ⟨h7, m, hm, h10⟩

theorem agQ_k {g : Nat → Int32} {q c v : Int32} (hq : q = 0 ∨ q = 1 ∨ q = 2 ∨ q = 3 ∨ q = 4) (h : ¬ 0 < agQ g q c v) : ¬ moKept g c = 0 := by
  have n10 : ¬ (1 : Int32) = 0 := by decide
  have n20 : ¬ (2 : Int32) = 0 := by decide
  have n21 : ¬ (2 : Int32) = 1 := by decide
  have n30 : ¬ (3 : Int32) = 0 := by decide
  have n31 : ¬ (3 : Int32) = 1 := by decide
  have n32 : ¬ (3 : Int32) = 2 := by decide
  have n40 : ¬ (4 : Int32) = 0 := by decide
  have n41 : ¬ (4 : Int32) = 1 := by decide
  have n42 : ¬ (4 : Int32) = 2 := by decide
  have n43 : ¬ (4 : Int32) = 3 := by decide
  unfold agQ at h
  rcases hq with e | e | e | e | e
  · rw [e, if_pos rfl] at h; exact moAg0_k h
  · rw [e, if_neg n10, if_pos rfl] at h; exact moAg1_k h
  · rw [e, if_neg n20, if_neg n21, if_pos rfl] at h; exact moAg2_k h
  · rw [e, if_neg n30, if_neg n31, if_neg n32, if_pos rfl] at h; exact moAg3_k h
  · rw [e, if_neg n40, if_neg n41, if_neg n42, if_neg n43, if_pos rfl] at h; exact moAg1_k h
theorem agQ_at (g : Nat → Int32) (c v : Int32) : agQ g 0 c v = moAg0 g c v ∧ agQ g 1 c v = moAg1 g c ∧ agQ g 2 c v = moAg2 g c ∧ agQ g 3 c v = moAg3 g c ∧ agQ g 4 c v = moAg1 g c ∧ agQ g 5 c v = moAg5 g c v (g 10).toNatClampNeg := by
  unfold agQ
  refine ⟨?_, ?_, ?_, ?_, ?_, ?_⟩
  · rw [if_pos rfl]
  · rw [if_neg (by decide), if_pos rfl]
  · rw [if_neg (by decide), if_neg (by decide), if_pos rfl]
  · rw [if_neg (by decide), if_neg (by decide), if_neg (by decide), if_pos rfl]
  · rw [if_neg (by decide), if_neg (by decide), if_neg (by decide), if_neg (by decide), if_pos rfl]
  · rw [if_neg (by decide), if_neg (by decide), if_neg (by decide), if_neg (by decide), if_neg (by decide)]
theorem doQ_at (g : Nat → Int32) (c v : Int32) : doQ g 0 c v = moDo0 g c.toNatClampNeg v ∧ doQ g 1 c v = moDo1 g c.toNatClampNeg v ∧ doQ g 2 c v = moDo2 g c.toNatClampNeg ∧ doQ g 3 c v = moDo3 g c.toNatClampNeg ∧ doQ g 4 c v = moDo4 g c.toNatClampNeg ∧ doQ g 5 c v = moRows g c v (g 10).toNatClampNeg := by
  unfold doQ
  refine ⟨?_, ?_, ?_, ?_, ?_, ?_⟩
  · rw [if_pos rfl]
  · rw [if_neg (by decide), if_pos rfl]
  · rw [if_neg (by decide), if_neg (by decide), if_pos rfl]
  · rw [if_neg (by decide), if_neg (by decide), if_neg (by decide), if_pos rfl]
  · rw [if_neg (by decide), if_neg (by decide), if_neg (by decide), if_neg (by decide), if_pos rfl]
  · rw [if_neg (by decide), if_neg (by decide), if_neg (by decide), if_neg (by decide), if_neg (by decide)]
theorem orF_go {w : Nat → Int32} {f j : Nat} {g : Nat → Int32} (h : ¬ 0 < agQ g (w (3 * j)) (w (3 * j + 1)) (w (3 * j + 2))) : orF w (f + 1) j g = orF w f (j + 1) (doQ g (w (3 * j)) (w (3 * j + 1)) (w (3 * j + 2))) := by
  rw [orF, if_neg h]
theorem orF_hit {w : Nat → Int32} {f j : Nat} {g : Nat → Int32} (h : 0 < agQ g (w (3 * j)) (w (3 * j + 1)) (w (3 * j + 2))) : orF w (f + 1) j g = (agQ g (w (3 * j)) (w (3 * j + 1)) (w (3 * j + 2)), g) := by
  rw [orF, if_pos h]
set_option maxHeartbeats 4000000 in
set_option maxRecDepth 100000 in
theorem mt_Mo_order_bad (l : Launch) (Γ : GE) (sz : Nat) (a : Nat) (r : Nat → Nat) (i : Nat → Int32) (g : Nat → Int32) (t : Nat → Int32) (n : Nat) (v : Int32) (w : Nat → Int32) (sf : Nat → Int32) (ps : Nat → Int32) (sp : Nat) (v2 : Int32) (kn : Nat) (wt : Nat → Int32) (pn : Nat) (h10 : i 10 = nI n) (hn : n ≤ 50) (h12 : i 12 = v) (htx : textR t n v w = (0, sp, v2, kn, wt)) : KM l yX4_order cX4_order 4 (some FieldType.int) Γ 8 174 0 0 [.ref a] [[(a, moE r i)], [((r 0), .inl (Γ.2.1 0, 523, .inl g))], [((r 9), .inl (Γ.2.1 0, 50, .inl t))], [((r 14), .inl (Γ.2.1 0, 60, .inl w))], [((r 2), .inl (Γ.2.1 0, 523, .inl sf))], [((r 4), .inl (Γ.2.1 0, 4184, .inl ps))]] [] sz (Qi Γ (fun r_ u_ => ∃ i2 : Nat → Int32, i2 7 = 1 ∧ i2 13 = nI sp ∧ i2 10 = 0 ∧ i2 3 = i 3 ∧ i2 5 = i 5 ∧ i2 6 = i 6 ∧ r_ = 0 ∧ u_ = [[(a, moE r i2)], [((r 0), .inl (Γ.2.1 0, 523, .inl g))], [((r 9), .inl (Γ.2.1 0, 50, .inl t))], [((r 14), .inl (Γ.2.1 0, 60, .inl wt))], [((r 2), .inl (Γ.2.1 0, 523, .inl sf))], [((r 4), .inl (Γ.2.1 0, 4184, .inl ps))]])) := by
  refine K_intro (by decide) (Nat.le_of_ble_eq_true rfl) ?_
  intro pr_ ev_ s mi_ below meth cd_ A ls hx hb hr hml hown hts hlocks hname hK hE hRo hP hD hA hS hsz hl
  have hl : lv_has ls 4 [(0, .ref a)] := hl
  have hown : s.vm.findClass RX4 = some mi_.cls := hown
  refine lv_aload_n hx hb dX4_order_0 rfl (lv_at hl 0 rfl) ?_
  refine lv_iconst (v := 0) hx hb dX4_order_1 (by decide) ?_
  refine b_putM (C := RX4) (T := TX4) (N := 16) (ty := .int) (vv := 0) hx hb hts in_X4 tyX4_ok nmX4 hown hK hP hD hS 0 rfl rfl 7 (by decide) q1814 (fun _ h9 => h9) rfl (by decide +kernel) rfl rfl (Nat.le_of_ble_eq_true rfl) (moL_set7 _ _ _) dX4_order_2 (fun H locs hP hD hS => ?_)
  have hP : WP Γ [[(a, moE r (upd i 7 0))], [((r 0), .inl (Γ.2.1 0, 523, .inl g))], [((r 9), .inl (Γ.2.1 0, 50, .inl t))], [((r 14), .inl (Γ.2.1 0, 60, .inl w))], [((r 2), .inl (Γ.2.1 0, 523, .inl sf))], [((r 4), .inl (Γ.2.1 0, 4184, .inl ps))]] H := hP
  have hD : WD A [[(a, moE r (upd i 7 0))], [((r 0), .inl (Γ.2.1 0, 523, .inl g))], [((r 9), .inl (Γ.2.1 0, 50, .inl t))], [((r 14), .inl (Γ.2.1 0, 60, .inl w))], [((r 2), .inl (Γ.2.1 0, 523, .inl sf))], [((r 4), .inl (Γ.2.1 0, 4184, .inl ps))]] := hD
  refine lv_aload_n hx hb dX4_order_5 rfl (lv_at hl 0 rfl) ?_
  refine b_calli (br := [[((r 0), .inl (Γ.2.1 0, 523, .inl g))], [((r 2), .inl (Γ.2.1 0, 523, .inl sf))], [((r 4), .inl (Γ.2.1 0, 4184, .inl ps))]]) (b_runV ⟨hx, hb, hml, hown, hts⟩ (mt_Mo_isText l Γ _ a r (upd i 7 0) t n v w (by first | exact h10 | simp [upd, h10]) (by first | exact hn | omega) (by first | exact h12 | simp [upd, h12])) (lw_V q2147 q2149 qs52 q73 q2150) rfl rfl 0 (by decide +kernel) ⟨(Nat.le_of_ble_eq_true rfl), (Nat.le_of_ble_eq_true rfl)⟩ (c_pre hP hD hS hA hK hE [0, 2, 3] rfl rfl ro_nil) (recv_at (q := (RX4, TX4, 16)) hK (b_at (k := 0) hP rfl) rfl) rfl hl.1 rfl (Nat.le_of_ble_eq_true rfl) dX4_order_6 ⟨(Nat.le_of_ble_eq_true rfl), (Nat.le_of_ble_eq_true rfl)⟩) hP hD hS hA [0, 2, 3] [1, 4, 5] rfl rfl rfl (fun r_1 u_1 H locs hw_1 hP hD hS _ => ?_)
  obtain ⟨er_1, eu_1⟩ := hw_1
  rw [htx] at er_1 eu_1
  dsimp only at er_1 eu_1
  subst er_1
  subst eu_1
  have hP : WP Γ [[(a, moE r (upd (upd (upd (upd i 7 0) 15 (nI kn)) 12 v2) 11 (nI sp)))], [((r 9), .inl (Γ.2.1 0, 50, .inl t))], [((r 14), .inl (Γ.2.1 0, 60, .inl wt))], [((r 0), .inl (Γ.2.1 0, 523, .inl g))], [((r 2), .inl (Γ.2.1 0, 523, .inl sf))], [((r 4), .inl (Γ.2.1 0, 4184, .inl ps))]] H := hP
  have hD : WD A [[(a, moE r (upd (upd (upd (upd i 7 0) 15 (nI kn)) 12 v2) 11 (nI sp)))], [((r 9), .inl (Γ.2.1 0, 50, .inl t))], [((r 14), .inl (Γ.2.1 0, 60, .inl wt))], [((r 0), .inl (Γ.2.1 0, 523, .inl g))], [((r 2), .inl (Γ.2.1 0, 523, .inl sf))], [((r 4), .inl (Γ.2.1 0, 4184, .inl ps))]] := hD
  obtain ⟨i3, e_i3, f15, f11, f7, f3, f5, f6⟩ : ∃ z : Nat → Int32, z = (upd (upd (upd (upd i 7 0) 15 (nI kn)) 12 v2) 11 (nI sp)) ∧ z 15 = nI kn ∧ z 11 = nI sp ∧ z 7 = 0 ∧ z 3 = i 3 ∧ z 5 = i 5 ∧ z 6 = i 6 := ⟨_, rfl, (by simp [upd]), (by simp [upd]), (by simp [upd]), (by simp [upd]), (by simp [upd]), (by simp [upd])⟩
  rw [← e_i3] at hP hD
  refine lv_istore_n (lv' := [(1, .int (nI 0)), (0, .ref a)]) hx hb dX4_order_9 rfl hl (by decide) rfl (fun ls hl => ?_)
  refine lv_aload_n hx hb dX4_order_10 rfl (lv_at hl 1 rfl) ?_
  refine lv_iload_n hx hb dX4_order_11 rfl (lv_at hl 0 rfl) ?_
  refine lv_if_eq (tgt := 19) hx hb dX4_order_12 (by decide) (fun c_2 => ?_) (fun c_2 => ?_)
  · -- 12 taken
    have n_2 : 0 = 0 := (nI_eq (by omega) (by omega)).mp (show nI 0 = nI 0 from c_2)
    refine lv_aload_n hx hb dX4_order_19 rfl (lv_at hl 1 rfl) ?_
    refine b_get (C := RX4) (T := TX4) (N := 16) (v := .int (i3 11)) hx hb hts in_X4 hown hK (b_at (k := 0) hP rfl) rfl 11 (by decide) q1818 (fun _ h9 => h9) rfl dX4_order_20 ?_
    refine b_top (show i3 11 = nI sp from f11) ?_
    refine b_putM (C := RX4) (T := TX4) (N := 16) (ty := .int) (vv := (nI sp)) hx hb hts in_X4 tyX4_ok nmX4 hown hK hP hD hS 0 rfl rfl 13 (by decide) q1820 (fun _ h9 => h9) rfl (by decide +kernel) rfl rfl (Nat.le_of_ble_eq_true rfl) (moL_set13 _ _ _) dX4_order_23 (fun H locs hP hD hS => ?_)
    have hP : WP Γ [[(a, moE r (upd i3 13 (nI sp)))], [((r 9), .inl (Γ.2.1 0, 50, .inl t))], [((r 14), .inl (Γ.2.1 0, 60, .inl wt))], [((r 0), .inl (Γ.2.1 0, 523, .inl g))], [((r 2), .inl (Γ.2.1 0, 523, .inl sf))], [((r 4), .inl (Γ.2.1 0, 4184, .inl ps))]] H := hP
    have hD : WD A [[(a, moE r (upd i3 13 (nI sp)))], [((r 9), .inl (Γ.2.1 0, 50, .inl t))], [((r 14), .inl (Γ.2.1 0, 60, .inl wt))], [((r 0), .inl (Γ.2.1 0, 523, .inl g))], [((r 2), .inl (Γ.2.1 0, 523, .inl sf))], [((r 4), .inl (Γ.2.1 0, 4184, .inl ps))]] := hD
    refine lv_aload_n hx hb dX4_order_26 rfl (lv_at hl 1 rfl) ?_
    refine lv_iconst (v := 0) hx hb dX4_order_27 (by decide) ?_
    refine b_putM (C := RX4) (T := TX4) (N := 16) (ty := .int) (vv := 0) hx hb hts in_X4 tyX4_ok nmX4 hown hK hP hD hS 0 rfl rfl 10 (by decide) q1817 (fun _ h9 => h9) rfl (by decide +kernel) rfl rfl (Nat.le_of_ble_eq_true rfl) (moL_set10 _ _ _) dX4_order_28 (fun H locs hP hD hS => ?_)
    have hP : WP Γ [[(a, moE r (upd (upd i3 13 (nI sp)) 10 0))], [((r 9), .inl (Γ.2.1 0, 50, .inl t))], [((r 14), .inl (Γ.2.1 0, 60, .inl wt))], [((r 0), .inl (Γ.2.1 0, 523, .inl g))], [((r 2), .inl (Γ.2.1 0, 523, .inl sf))], [((r 4), .inl (Γ.2.1 0, 4184, .inl ps))]] H := hP
    have hD : WD A [[(a, moE r (upd (upd i3 13 (nI sp)) 10 0))], [((r 9), .inl (Γ.2.1 0, 50, .inl t))], [((r 14), .inl (Γ.2.1 0, 60, .inl wt))], [((r 0), .inl (Γ.2.1 0, 523, .inl g))], [((r 2), .inl (Γ.2.1 0, 523, .inl sf))], [((r 4), .inl (Γ.2.1 0, 4184, .inl ps))]] := hD
    refine lv_iload_n hx hb dX4_order_31 rfl (lv_at hl 0 rfl) ?_
    refine lv_if_ne (tgt := 41) hx hb dX4_order_32 (by decide) (fun c_3 => ?_) (fun c_3 => ?_)
    · -- 32 taken
      have n_3 : ¬ (0 = 0) := fun hh7 => c_3 ((nI_eq (a := 0) (b := 0) (by omega) (by omega)).mpr hh7)
      exact absurd n_3 (by omega)
    · -- 32 not taken
      have n_3 : 0 = 0 := (nI_eq (by omega) (by omega)).mp (show nI 0 = nI 0 from c_3)
      refine lv_aload_n hx hb dX4_order_35 rfl (lv_at hl 1 rfl) ?_
      refine lv_iconst (v := 1) hx hb dX4_order_36 (by decide) ?_
      refine b_calli (br := [[((r 9), .inl (Γ.2.1 0, 50, .inl t))], [((r 14), .inl (Γ.2.1 0, 60, .inl wt))], [((r 0), .inl (Γ.2.1 0, 523, .inl g))], [((r 2), .inl (Γ.2.1 0, 523, .inl sf))], [((r 4), .inl (Γ.2.1 0, 4184, .inl ps))]]) (b_runV ⟨hx, hb, hml, hown, hts⟩ (mt_Mo_fails l Γ _ a r (upd (upd i3 13 (nI sp)) 10 0) 1) (lw_V q1936 q1938 qs40 q73 q1939) rfl rfl 1 (by decide +kernel) ⟨(Nat.le_of_ble_eq_true rfl), (Nat.le_of_ble_eq_true rfl)⟩ (c_pre hP hD hS hA hK hE [0] rfl rfl ro_nil) (recv_at (q := (RX4, TX4, 16)) hK (b_at (k := 0) hP rfl) rfl) rfl hl.1 rfl (Nat.le_of_ble_eq_true rfl) dX4_order_37 ⟨(Nat.le_of_ble_eq_true rfl), (Nat.le_of_ble_eq_true rfl)⟩) hP hD hS hA [0] [1, 2, 3, 4, 5] rfl rfl rfl (fun r_4 u_4 H locs hw_4 hP hD hS _ => ?_)
      obtain ⟨rfl, rfl⟩ := hw_4
      have hP : WP Γ [[(a, moE r (upd (upd (upd i3 13 (nI sp)) 10 0) 7 1))], [((r 9), .inl (Γ.2.1 0, 50, .inl t))], [((r 14), .inl (Γ.2.1 0, 60, .inl wt))], [((r 0), .inl (Γ.2.1 0, 523, .inl g))], [((r 2), .inl (Γ.2.1 0, 523, .inl sf))], [((r 4), .inl (Γ.2.1 0, 4184, .inl ps))]] H := hP
      have hD : WD A [[(a, moE r (upd (upd (upd i3 13 (nI sp)) 10 0) 7 1))], [((r 9), .inl (Γ.2.1 0, 50, .inl t))], [((r 14), .inl (Γ.2.1 0, 60, .inl wt))], [((r 0), .inl (Γ.2.1 0, 523, .inl g))], [((r 2), .inl (Γ.2.1 0, 523, .inl sf))], [((r 4), .inl (Γ.2.1 0, 4184, .inl ps))]] := hD
      have hP : WP Γ [[(a, moE r (upd (upd (upd i3 13 (nI sp)) 10 0) 7 1))], [((r 0), .inl (Γ.2.1 0, 523, .inl g))], [((r 9), .inl (Γ.2.1 0, 50, .inl t))], [((r 14), .inl (Γ.2.1 0, 60, .inl wt))], [((r 2), .inl (Γ.2.1 0, 523, .inl sf))], [((r 4), .inl (Γ.2.1 0, 4184, .inl ps))]] H := bP_sel hP [0, 3, 1, 2, 4, 5] rfl
      have hD : WD A [[(a, moE r (upd (upd (upd i3 13 (nI sp)) 10 0) 7 1))], [((r 0), .inl (Γ.2.1 0, 523, .inl g))], [((r 9), .inl (Γ.2.1 0, 50, .inl t))], [((r 14), .inl (Γ.2.1 0, 60, .inl wt))], [((r 2), .inl (Γ.2.1 0, 523, .inl sf))], [((r 4), .inl (Γ.2.1 0, 4184, .inl ps))]] := bD_sel hD [0, 3, 1, 2, 4, 5] rfl rfl
      exact b_iret hx hb hr hlocks hP hD hS (Nat.le_of_ble_eq_true rfl) (Nat.le_of_ble_eq_true rfl) ⟨(upd (upd (upd i3 13 (nI sp)) 10 0) 7 1), (by simp [upd, f3, f5, f6, f15, f11, f7]), (by simp [upd, f3, f5, f6, f15, f11, f7]), (by simp [upd, f3, f5, f6, f15, f11, f7]), (by simp [upd, f3, f5, f6, f15, f11, f7]), (by simp [upd, f3, f5, f6, f15, f11, f7]), (by simp [upd, f3, f5, f6, f15, f11, f7]), (by first | with_reducible rfl | (simp [n_2, n_3]; done) | rfl), (by first | with_reducible rfl | (simp [n_2, n_3]; done) | rfl)⟩ dX4_order_40
  · -- 12 not taken
    have n_2 : ¬ (0 = 0) := fun hh7 => c_2 ((nI_eq (a := 0) (b := 0) (by omega) (by omega)).mpr hh7)
    exact absurd n_2 (by omega)
set_option maxHeartbeats 4000000 in
set_option maxRecDepth 100000 in
theorem mt_Mo_order_ok (l : Launch) (Γ : GE) (sz : Nat) (a : Nat) (r : Nat → Nat) (i : Nat → Int32) (g : Nat → Int32) (t : Nat → Int32) (n : Nat) (v : Int32) (w : Nat → Int32) (sf : Nat → Int32) (ps : Nat → Int32) (pn : Nat) (nc : Nat) (m0 : Nat) (sp : Nat) (v2 : Int32) (kn : Nat) (wt : Nat → Int32) (h10 : i 10 = nI n) (hn : n ≤ 50) (h12 : i 12 = v) (h5 : i 5 = nI pn) (hpn : pn ≤ 8) (hg7 : g 7 = nI nc) (hnc : nc ≤ 8) (hg10 : g 10 = nI m0) (hm0 : m0 ≤ 4) (hkn : kn ≤ 18) (hkd : ∀ j, j < kn → wt (3 * j) = 0 ∨ wt (3 * j) = 1 ∨ wt (3 * j) = 2 ∨ wt (3 * j) = 3 ∨ wt (3 * j) = 4 ∨ wt (3 * j) = 5) (htx : textR t n v w = (1, sp, v2, kn, wt)) (ho : (orF wt kn 0 g).1 = 0) : KM l yX4_order cX4_order 4 (some FieldType.int) Γ 8 174 0 0 [.ref a] [[(a, moE r i)], [((r 0), .inl (Γ.2.1 0, 523, .inl g))], [((r 9), .inl (Γ.2.1 0, 50, .inl t))], [((r 14), .inl (Γ.2.1 0, 60, .inl w))], [((r 2), .inl (Γ.2.1 0, 523, .inl sf))], [((r 4), .inl (Γ.2.1 0, 4184, .inl ps))]] [] sz (Qi Γ (fun r_ u_ => ∃ i2 : Nat → Int32, i2 7 = 0 ∧ i2 13 = -1 ∧ i2 10 = 0 ∧ i2 3 = i 3 ∧ i2 5 = nI (moPushN pn) ∧ i2 6 = i 6 ∧ r_ = (nI kn) ∧ u_ = [[(a, moE r i2)], [((r 0), .inl (Γ.2.1 0, 523, .inl (orF wt kn 0 g).2))], [((r 9), .inl (Γ.2.1 0, 50, .inl t))], [((r 14), .inl (Γ.2.1 0, 60, .inl wt))], [((r 2), .inl (Γ.2.1 0, 523, .inl (va_cpy g sf 0 0 523)))], [((r 4), .inl (Γ.2.1 0, 4184, .inl (moPush (va_cpy g sf 0 0 523) ps pn)))]])) := by
  refine K_intro (by decide) (Nat.le_of_ble_eq_true rfl) ?_
  intro pr_ ev_ s mi_ below meth cd_ A ls hx hb hr hml hown hts hlocks hname hK hE hRo hP hD hA hS hsz hl
  have hl : lv_has ls 4 [(0, .ref a)] := hl
  have hown : s.vm.findClass RX4 = some mi_.cls := hown
  refine lv_aload_n hx hb dX4_order_0 rfl (lv_at hl 0 rfl) ?_
  refine lv_iconst (v := 0) hx hb dX4_order_1 (by decide) ?_
  refine b_putM (C := RX4) (T := TX4) (N := 16) (ty := .int) (vv := 0) hx hb hts in_X4 tyX4_ok nmX4 hown hK hP hD hS 0 rfl rfl 7 (by decide) q1814 (fun _ h9 => h9) rfl (by decide +kernel) rfl rfl (Nat.le_of_ble_eq_true rfl) (moL_set7 _ _ _) dX4_order_2 (fun H locs hP hD hS => ?_)
  have hP : WP Γ [[(a, moE r (upd i 7 0))], [((r 0), .inl (Γ.2.1 0, 523, .inl g))], [((r 9), .inl (Γ.2.1 0, 50, .inl t))], [((r 14), .inl (Γ.2.1 0, 60, .inl w))], [((r 2), .inl (Γ.2.1 0, 523, .inl sf))], [((r 4), .inl (Γ.2.1 0, 4184, .inl ps))]] H := hP
  have hD : WD A [[(a, moE r (upd i 7 0))], [((r 0), .inl (Γ.2.1 0, 523, .inl g))], [((r 9), .inl (Γ.2.1 0, 50, .inl t))], [((r 14), .inl (Γ.2.1 0, 60, .inl w))], [((r 2), .inl (Γ.2.1 0, 523, .inl sf))], [((r 4), .inl (Γ.2.1 0, 4184, .inl ps))]] := hD
  refine lv_aload_n hx hb dX4_order_5 rfl (lv_at hl 0 rfl) ?_
  refine b_calli (br := [[((r 0), .inl (Γ.2.1 0, 523, .inl g))], [((r 2), .inl (Γ.2.1 0, 523, .inl sf))], [((r 4), .inl (Γ.2.1 0, 4184, .inl ps))]]) (b_runV ⟨hx, hb, hml, hown, hts⟩ (mt_Mo_isText l Γ _ a r (upd i 7 0) t n v w (by first | exact h10 | simp [upd, h10]) (by first | exact hn | omega) (by first | exact h12 | simp [upd, h12])) (lw_V q2147 q2149 qs52 q73 q2150) rfl rfl 0 (by decide +kernel) ⟨(Nat.le_of_ble_eq_true rfl), (Nat.le_of_ble_eq_true rfl)⟩ (c_pre hP hD hS hA hK hE [0, 2, 3] rfl rfl ro_nil) (recv_at (q := (RX4, TX4, 16)) hK (b_at (k := 0) hP rfl) rfl) rfl hl.1 rfl (Nat.le_of_ble_eq_true rfl) dX4_order_6 ⟨(Nat.le_of_ble_eq_true rfl), (Nat.le_of_ble_eq_true rfl)⟩) hP hD hS hA [0, 2, 3] [1, 4, 5] rfl rfl rfl (fun r_1 u_1 H locs hw_1 hP hD hS _ => ?_)
  obtain ⟨er_1, eu_1⟩ := hw_1
  rw [htx] at er_1 eu_1
  dsimp only at er_1 eu_1
  subst er_1
  subst eu_1
  have hP : WP Γ [[(a, moE r (upd (upd (upd (upd i 7 0) 15 (nI kn)) 12 v2) 11 (nI sp)))], [((r 9), .inl (Γ.2.1 0, 50, .inl t))], [((r 14), .inl (Γ.2.1 0, 60, .inl wt))], [((r 0), .inl (Γ.2.1 0, 523, .inl g))], [((r 2), .inl (Γ.2.1 0, 523, .inl sf))], [((r 4), .inl (Γ.2.1 0, 4184, .inl ps))]] H := hP
  have hD : WD A [[(a, moE r (upd (upd (upd (upd i 7 0) 15 (nI kn)) 12 v2) 11 (nI sp)))], [((r 9), .inl (Γ.2.1 0, 50, .inl t))], [((r 14), .inl (Γ.2.1 0, 60, .inl wt))], [((r 0), .inl (Γ.2.1 0, 523, .inl g))], [((r 2), .inl (Γ.2.1 0, 523, .inl sf))], [((r 4), .inl (Γ.2.1 0, 4184, .inl ps))]] := hD
  obtain ⟨i3, e_i3, f15, f11, f7, f3, f5, f6⟩ : ∃ z : Nat → Int32, z = (upd (upd (upd (upd i 7 0) 15 (nI kn)) 12 v2) 11 (nI sp)) ∧ z 15 = nI kn ∧ z 11 = nI sp ∧ z 7 = 0 ∧ z 3 = i 3 ∧ z 5 = i 5 ∧ z 6 = i 6 := ⟨_, rfl, (by simp [upd]), (by simp [upd]), (by simp [upd]), (by simp [upd]), (by simp [upd]), (by simp [upd])⟩
  rw [← e_i3] at hP hD
  refine lv_istore_n (lv' := [(1, .int (nI 1)), (0, .ref a)]) hx hb dX4_order_9 rfl hl (by decide) rfl (fun ls hl => ?_)
  refine lv_aload_n hx hb dX4_order_10 rfl (lv_at hl 1 rfl) ?_
  refine lv_iload_n hx hb dX4_order_11 rfl (lv_at hl 0 rfl) ?_
  refine lv_if_eq (tgt := 19) hx hb dX4_order_12 (by decide) (fun c_2 => ?_) (fun c_2 => ?_)
  · -- 12 taken
    have n_2 : 1 = 0 := (nI_eq (by omega) (by omega)).mp (show nI 1 = nI 0 from c_2)
    exact absurd n_2 (by omega)
  · -- 12 not taken
    have n_2 : ¬ (1 = 0) := fun hh7 => c_2 ((nI_eq (a := 1) (b := 0) (by omega) (by omega)).mpr hh7)
    refine lv_iconst (v := (-1)) hx hb dX4_order_15 (by decide) ?_
    refine lv_goto (tgt := 23) hx hb dX4_order_16 (by decide) ?_
    refine b_putM (C := RX4) (T := TX4) (N := 16) (ty := .int) (vv := (-1)) hx hb hts in_X4 tyX4_ok nmX4 hown hK hP hD hS 0 rfl rfl 13 (by decide) q1820 (fun _ h9 => h9) rfl (by decide +kernel) rfl rfl (Nat.le_of_ble_eq_true rfl) (moL_set13 _ _ _) dX4_order_23 (fun H locs hP hD hS => ?_)
    have hP : WP Γ [[(a, moE r (upd i3 13 (-1)))], [((r 9), .inl (Γ.2.1 0, 50, .inl t))], [((r 14), .inl (Γ.2.1 0, 60, .inl wt))], [((r 0), .inl (Γ.2.1 0, 523, .inl g))], [((r 2), .inl (Γ.2.1 0, 523, .inl sf))], [((r 4), .inl (Γ.2.1 0, 4184, .inl ps))]] H := hP
    have hD : WD A [[(a, moE r (upd i3 13 (-1)))], [((r 9), .inl (Γ.2.1 0, 50, .inl t))], [((r 14), .inl (Γ.2.1 0, 60, .inl wt))], [((r 0), .inl (Γ.2.1 0, 523, .inl g))], [((r 2), .inl (Γ.2.1 0, 523, .inl sf))], [((r 4), .inl (Γ.2.1 0, 4184, .inl ps))]] := hD
    refine lv_aload_n hx hb dX4_order_26 rfl (lv_at hl 1 rfl) ?_
    refine lv_iconst (v := 0) hx hb dX4_order_27 (by decide) ?_
    refine b_putM (C := RX4) (T := TX4) (N := 16) (ty := .int) (vv := 0) hx hb hts in_X4 tyX4_ok nmX4 hown hK hP hD hS 0 rfl rfl 10 (by decide) q1817 (fun _ h9 => h9) rfl (by decide +kernel) rfl rfl (Nat.le_of_ble_eq_true rfl) (moL_set10 _ _ _) dX4_order_28 (fun H locs hP hD hS => ?_)
    have hP : WP Γ [[(a, moE r (upd (upd i3 13 (-1)) 10 0))], [((r 9), .inl (Γ.2.1 0, 50, .inl t))], [((r 14), .inl (Γ.2.1 0, 60, .inl wt))], [((r 0), .inl (Γ.2.1 0, 523, .inl g))], [((r 2), .inl (Γ.2.1 0, 523, .inl sf))], [((r 4), .inl (Γ.2.1 0, 4184, .inl ps))]] H := hP
    have hD : WD A [[(a, moE r (upd (upd i3 13 (-1)) 10 0))], [((r 9), .inl (Γ.2.1 0, 50, .inl t))], [((r 14), .inl (Γ.2.1 0, 60, .inl wt))], [((r 0), .inl (Γ.2.1 0, 523, .inl g))], [((r 2), .inl (Γ.2.1 0, 523, .inl sf))], [((r 4), .inl (Γ.2.1 0, 4184, .inl ps))]] := hD
    refine lv_iload_n hx hb dX4_order_31 rfl (lv_at hl 0 rfl) ?_
    refine lv_if_ne (tgt := 41) hx hb dX4_order_32 (by decide) (fun c_3 => ?_) (fun c_3 => ?_)
    · -- 32 taken
      have n_3 : ¬ (1 = 0) := fun hh7 => c_3 ((nI_eq (a := 1) (b := 0) (by omega) (by omega)).mpr hh7)
      obtain ⟨i4, e_i4, g15, g13, g10, g7, g3, g5, g6⟩ : ∃ z : Nat → Int32, z = (upd (upd i3 13 (-1)) 10 0) ∧ z 15 = nI kn ∧ z 13 = -1 ∧ z 10 = 0 ∧ z 7 = 0 ∧ z 3 = i 3 ∧ z 5 = i 5 ∧ z 6 = i 6 := ⟨_, rfl, (by simp [upd, f3, f5, f6, f15, f11, f7]), (by simp [upd, f3, f5, f6, f15, f11, f7]), (by simp [upd, f3, f5, f6, f15, f11, f7]), (by simp [upd, f3, f5, f6, f15, f11, f7]), (by simp [upd, f3, f5, f6, f15, f11, f7]), (by simp [upd, f3, f5, f6, f15, f11, f7]), (by simp [upd, f3, f5, f6, f15, f11, f7])⟩
      rw [← e_i4] at hP hD
      refine lv_aload_n hx hb dX4_order_41 rfl (lv_at hl 1 rfl) ?_
      refine b_get (C := RX4) (T := TX4) (N := 16) (v := .ref (r 0)) hx hb hts in_X4 hown hK (b_at (k := 0) hP rfl) rfl 0 (by decide) q1807 (fun _ h9 => h9) rfl dX4_order_42 ?_
      refine lv_iconst (v := 0) hx hb dX4_order_45 (by decide) ?_
      refine lv_aload_n hx hb dX4_order_46 rfl (lv_at hl 1 rfl) ?_
      refine b_get (C := RX4) (T := TX4) (N := 16) (v := .ref (r 2)) hx hb hts in_X4 hown hK (b_at (k := 0) hP rfl) rfl 2 (by decide) q1809 (fun _ h9 => h9) rfl dX4_order_47 ?_
      refine lv_iconst (v := 0) hx hb dX4_order_50 (by decide) ?_
      refine b_callv (br := [[(a, moE r i4)], [((r 9), .inl (Γ.2.1 0, 50, .inl t))], [((r 14), .inl (Γ.2.1 0, 60, .inl wt))], [((r 4), .inl (Γ.2.1 0, 4184, .inl ps))]]) (b_runS ⟨hx, hb, hml, hown, hts⟩ (mt_Mo_copies l Γ _ (r 0) (r 2) g sf 523 523 0 0 (by omega) (by omega) (by omega)) (lw_S q1864 q1865 q73 q1866) rfl rfl 4 (by decide +kernel) ⟨(Nat.le_of_ble_eq_true rfl), (Nat.le_of_ble_eq_true rfl)⟩ (c_pre hP hD hS hA hK hE [3, 4] rfl rfl ro_nil) rfl hl.1 rfl (Nat.le_of_ble_eq_true rfl) dX4_order_51 ⟨(Nat.le_of_ble_eq_true rfl), (Nat.le_of_ble_eq_true rfl)⟩) hP hD hS hA [3, 4] [0, 1, 2, 5] rfl rfl rfl (fun u_4 H locs hw_4 hP hD hS _ => ?_)
      obtain rfl := hw_4
      have hP : WP Γ [[((r 0), .inl (Γ.2.1 0, 523, .inl g))], [((r 2), .inl (Γ.2.1 0, 523, .inl (va_cpy g sf 0 0 523)))], [(a, moE r i4)], [((r 9), .inl (Γ.2.1 0, 50, .inl t))], [((r 14), .inl (Γ.2.1 0, 60, .inl wt))], [((r 4), .inl (Γ.2.1 0, 4184, .inl ps))]] H := hP
      have hD : WD A [[((r 0), .inl (Γ.2.1 0, 523, .inl g))], [((r 2), .inl (Γ.2.1 0, 523, .inl (va_cpy g sf 0 0 523)))], [(a, moE r i4)], [((r 9), .inl (Γ.2.1 0, 50, .inl t))], [((r 14), .inl (Γ.2.1 0, 60, .inl wt))], [((r 4), .inl (Γ.2.1 0, 4184, .inl ps))]] := hD
      refine lv_iconst (v := 0) hx hb dX4_order_54 (by decide) ?_
      refine lv_istore_n (lv' := [(2, .int 0), (1, .int (nI 1)), (0, .ref a)]) hx hb dX4_order_55 rfl hl (by decide) rfl (fun ls hl => ?_)
      have loop_5 : ∀ (fuel : Nat) (j : Nat) (gj : Nat → Int32) (mj : Nat), kn - j < fuel → (j ≤ kn) → (gj 7 = nI nc) → (gj 10 = nI mj) → (mj ≤ 4) → (orF wt kn 0 g = orF wt (kn - j) j gj) → ∀ (H : Heap) (locs : List Loc) (ls : Array Slot), WP Γ [[((r 0), .inl (Γ.2.1 0, 523, .inl gj))], [((r 2), .inl (Γ.2.1 0, 523, .inl (va_cpy g sf 0 0 523)))], [(a, moE r i4)], [((r 9), .inl (Γ.2.1 0, 50, .inl t))], [((r 14), .inl (Γ.2.1 0, 60, .inl wt))], [((r 4), .inl (Γ.2.1 0, 4184, .inl ps))]] H → WD A [[((r 0), .inl (Γ.2.1 0, 523, .inl gj))], [((r 2), .inl (Γ.2.1 0, 523, .inl (va_cpy g sf 0 0 523)))], [(a, moE r i4)], [((r 9), .inl (Γ.2.1 0, 50, .inl t))], [((r 14), .inl (Γ.2.1 0, 60, .inl wt))], [((r 4), .inl (Γ.2.1 0, 4184, .inl ps))]] → va_S A s.heap H locs → lv_has ls 4 [(2, .int (nI j)), (1, .int 1), (0, .ref a)] → W pr_ l ev_ { frames := 8, cells := 0, slots := 0, locals := 174 } s mi_ ([.ref a] : List Value).toArray below meth cd_ H locs 0 0 (MQ below (Qi Γ (fun r_ u_ => ∃ i2 : Nat → Int32, i2 7 = 0 ∧ i2 13 = -1 ∧ i2 10 = 0 ∧ i2 3 = i 3 ∧ i2 5 = nI (moPushN pn) ∧ i2 6 = i 6 ∧ r_ = (nI kn) ∧ u_ = [[(a, moE r i2)], [((r 0), .inl (Γ.2.1 0, 523, .inl (orF wt kn 0 g).2))], [((r 9), .inl (Γ.2.1 0, 50, .inl t))], [((r 14), .inl (Γ.2.1 0, 60, .inl wt))], [((r 2), .inl (Γ.2.1 0, 523, .inl (va_cpy g sf 0 0 523)))], [((r 4), .inl (Γ.2.1 0, 4184, .inl (moPush (va_cpy g sf 0 0 523) ps pn)))]]) A) ([.ref a] : List Value).toArray s 0 0 A) (F0 mi_ 56 ls ([])) := by
        intro fuel
        induction fuel with
        | zero => intro j gj mj hfuel; exact absurd hfuel (Nat.not_lt_zero _)
        | succ fuel ih =>
          intro j gj mj hfuel hj hg7j hg10j hmj hor H locs ls hP hD hS hl
          refine lv_iload_n hx hb dX4_order_56 rfl (lv_at hl 0 rfl) ?_
          refine lv_aload_n hx hb dX4_order_57 rfl (lv_at hl 2 rfl) ?_
          refine b_get (C := RX4) (T := TX4) (N := 16) (v := .int (i4 15)) hx hb hts in_X4 hown hK (b_at (k := 2) hP rfl) rfl 15 (by decide) q1822 (fun _ h9 => h9) rfl dX4_order_58 ?_
          refine b_top (show i4 15 = nI kn from g15) ?_
          refine lv_icmp_ge (tgt := 164) hx hb dX4_order_61 (by decide) (fun c_6 => ?_) (fun c_6 => ?_)
          · -- 61 taken
            have n_6 : kn ≤ j := (nI_leI (by omega) (by omega)).mp (show nI kn ≤ nI j from c_6)
            have m_6 : ¬ (j < kn) := by omega
            have d_6 := Int32.not_lt.mpr c_6
            have hjk : j = kn := by omega
            rw [show kn - j = 0 by omega] at hor
            rw [show gj = (orF wt kn 0 g).2 from by rw [hor]; rfl] at hP hD
            refine lv_aload_n hx hb dX4_order_164 rfl (lv_at hl 2 rfl) ?_
            refine lv_aload_n hx hb dX4_order_165 rfl (lv_at hl 2 rfl) ?_
            refine b_get (C := RX4) (T := TX4) (N := 16) (v := .ref (r 2)) hx hb hts in_X4 hown hK (b_at (k := 2) hP rfl) rfl 2 (by decide) q1809 (fun _ h9 => h9) rfl dX4_order_166 ?_
            refine b_callv (br := [[((r 0), .inl (Γ.2.1 0, 523, .inl (orF wt kn 0 g).2))], [((r 9), .inl (Γ.2.1 0, 50, .inl t))], [((r 14), .inl (Γ.2.1 0, 60, .inl wt))]]) (b_runV ⟨hx, hb, hml, hown, hts⟩ (mt_Mo_changes l Γ _ a r i4 (r 2) (va_cpy g sf 0 0 523) ps pn (g5.trans h5) hpn) (lw_V q1882 q1884 qs31 q73 q1885) rfl rfl 1 (by decide +kernel) ⟨(Nat.le_of_ble_eq_true rfl), (Nat.le_of_ble_eq_true rfl)⟩ (c_pre hP hD hS hA hK hE [2, 1, 5] rfl rfl ro_nil) (recv_at (q := (RX4, TX4, 16)) hK (b_at (k := 2) hP rfl) rfl) rfl hl.1 rfl (Nat.le_of_ble_eq_true rfl) dX4_order_169 ⟨(Nat.le_of_ble_eq_true rfl), (Nat.le_of_ble_eq_true rfl)⟩) hP hD hS hA [2, 1, 5] [0, 3, 4] rfl rfl rfl (fun u_7 H locs hw_7 hP hD hS _ => ?_)
            obtain rfl := hw_7
            have hP : WP Γ [[(a, moE r (upd i4 5 (nI (moPushN pn))))], [((r 2), .inl (Γ.2.1 0, 523, .inl (va_cpy g sf 0 0 523)))], [((r 4), .inl (Γ.2.1 0, 4184, .inl (moPush (va_cpy g sf 0 0 523) ps pn)))], [((r 0), .inl (Γ.2.1 0, 523, .inl (orF wt kn 0 g).2))], [((r 9), .inl (Γ.2.1 0, 50, .inl t))], [((r 14), .inl (Γ.2.1 0, 60, .inl wt))]] H := hP
            have hD : WD A [[(a, moE r (upd i4 5 (nI (moPushN pn))))], [((r 2), .inl (Γ.2.1 0, 523, .inl (va_cpy g sf 0 0 523)))], [((r 4), .inl (Γ.2.1 0, 4184, .inl (moPush (va_cpy g sf 0 0 523) ps pn)))], [((r 0), .inl (Γ.2.1 0, 523, .inl (orF wt kn 0 g).2))], [((r 9), .inl (Γ.2.1 0, 50, .inl t))], [((r 14), .inl (Γ.2.1 0, 60, .inl wt))]] := hD
            refine lv_aload_n hx hb dX4_order_172 rfl (lv_at hl 2 rfl) ?_
            refine b_get (C := RX4) (T := TX4) (N := 16) (v := .int (i4 15)) hx hb hts in_X4 hown hK (b_at (k := 0) hP rfl) rfl 15 (by decide) q1822 (fun _ h9 => h9) rfl dX4_order_173 ?_
            refine b_top (show i4 15 = nI kn from g15) ?_
            have hP : WP Γ [[(a, moE r (upd i4 5 (nI (moPushN pn))))], [((r 0), .inl (Γ.2.1 0, 523, .inl (orF wt kn 0 g).2))], [((r 9), .inl (Γ.2.1 0, 50, .inl t))], [((r 14), .inl (Γ.2.1 0, 60, .inl wt))], [((r 2), .inl (Γ.2.1 0, 523, .inl (va_cpy g sf 0 0 523)))], [((r 4), .inl (Γ.2.1 0, 4184, .inl (moPush (va_cpy g sf 0 0 523) ps pn)))]] H := bP_sel hP [0, 3, 4, 5, 1, 2] rfl
            have hD : WD A [[(a, moE r (upd i4 5 (nI (moPushN pn))))], [((r 0), .inl (Γ.2.1 0, 523, .inl (orF wt kn 0 g).2))], [((r 9), .inl (Γ.2.1 0, 50, .inl t))], [((r 14), .inl (Γ.2.1 0, 60, .inl wt))], [((r 2), .inl (Γ.2.1 0, 523, .inl (va_cpy g sf 0 0 523)))], [((r 4), .inl (Γ.2.1 0, 4184, .inl (moPush (va_cpy g sf 0 0 523) ps pn)))]] := bD_sel hD [0, 3, 4, 5, 1, 2] rfl rfl
            exact b_iret hx hb hr hlocks hP hD hS (Nat.le_of_ble_eq_true rfl) (Nat.le_of_ble_eq_true rfl) ⟨(upd i4 5 (nI (moPushN pn))), (by simp [upd, g3, g5, g6, g7, g10, g13]), (by simp [upd, g3, g5, g6, g7, g10, g13]), (by simp [upd, g3, g5, g6, g7, g10, g13]), (by simp [upd, g3, g5, g6, g7, g10, g13]), (by simp [upd, g3, g5, g6, g7, g10, g13]), (by simp [upd, g3, g5, g6, g7, g10, g13]), (by first | with_reducible rfl | (simp [n_2, n_3, n_6, m_6, d_6]; done) | rfl), (by first | with_reducible rfl | (simp [n_2, n_3, n_6, m_6, d_6]; done) | rfl)⟩ dX4_order_176
          · -- 61 not taken
            have n_6 : ¬ (kn ≤ j) := fun hh7 => c_6 ((nI_leI (a := kn) (b := j) (by omega) (by omega)).mpr hh7)
            have m_6 : j < kn := by omega
            have d_6 := Int32.not_le.mp c_6
            refine lv_aload_n hx hb dX4_order_64 rfl (lv_at hl 2 rfl) ?_
            refine lv_aload_n hx hb dX4_order_65 rfl (lv_at hl 2 rfl) ?_
            refine b_get (C := RX4) (T := TX4) (N := 16) (v := .ref (r 14)) hx hb hts in_X4 hown hK (b_at (k := 2) hP rfl) rfl 14 (by decide) q1821 (fun _ h9 => h9) rfl dX4_order_66 ?_
            refine lv_iconst (v := 3) hx hb dX4_order_69 (by decide) ?_
            refine lv_iload_n hx hb dX4_order_70 rfl (lv_at hl 0 rfl) ?_
            refine lv_imul hx hb dX4_order_71 ?_
            refine b_top (nI_mulE (a := 3) (b := j) (c := 3 * j) rfl rfl (by first | omega | rfl)) ?_
            refine b_iald hx hb hK (b_at (k := 4) hP rfl) (3 * j) rfl (by omega) (by omega) dX4_order_72 ?_
            refine lv_aload_n hx hb dX4_order_73 rfl (lv_at hl 2 rfl) ?_
            refine b_get (C := RX4) (T := TX4) (N := 16) (v := .ref (r 14)) hx hb hts in_X4 hown hK (b_at (k := 2) hP rfl) rfl 14 (by decide) q1821 (fun _ h9 => h9) rfl dX4_order_74 ?_
            refine lv_iconst (v := 3) hx hb dX4_order_77 (by decide) ?_
            refine lv_iload_n hx hb dX4_order_78 rfl (lv_at hl 0 rfl) ?_
            refine lv_imul hx hb dX4_order_79 ?_
            refine b_top (nI_mulE (a := 3) (b := j) (c := 3 * j) rfl rfl (by first | omega | rfl)) ?_
            refine lv_iconst (v := 1) hx hb dX4_order_80 (by decide) ?_
            refine lv_iadd hx hb dX4_order_81 ?_
            refine b_top (nI_addE (a := 3 * j) (b := 1) (c := 3 * j + 1) rfl rfl (by first | omega | rfl)) ?_
            refine b_iald hx hb hK (b_at (k := 4) hP rfl) (3 * j + 1) rfl (by omega) (by omega) dX4_order_82 ?_
            refine lv_aload_n hx hb dX4_order_83 rfl (lv_at hl 2 rfl) ?_
            refine b_get (C := RX4) (T := TX4) (N := 16) (v := .ref (r 14)) hx hb hts in_X4 hown hK (b_at (k := 2) hP rfl) rfl 14 (by decide) q1821 (fun _ h9 => h9) rfl dX4_order_84 ?_
            refine lv_iconst (v := 3) hx hb dX4_order_87 (by decide) ?_
            refine lv_iload_n hx hb dX4_order_88 rfl (lv_at hl 0 rfl) ?_
            refine lv_imul hx hb dX4_order_89 ?_
            refine b_top (nI_mulE (a := 3) (b := j) (c := 3 * j) rfl rfl (by first | omega | rfl)) ?_
            refine lv_iconst (v := 2) hx hb dX4_order_90 (by decide) ?_
            refine lv_iadd hx hb dX4_order_91 ?_
            refine b_top (nI_addE (a := 3 * j) (b := 2) (c := 3 * j + 2) rfl rfl (by first | omega | rfl)) ?_
            refine b_iald hx hb hK (b_at (k := 4) hP rfl) (3 * j + 2) rfl (by omega) (by omega) dX4_order_92 ?_
            have hjk : j < kn := by omega
            rcases hkd j hjk with hq | hq | hq | hq | hq | hq
            · -- 0
              refine W.eq (g2 := F0 mi_ 93 ls ([.int (wt (3 * j + 2)), .int (wt (3 * j + 1)), .int 0, .ref a])) (by rw [hq]) ?_
              refine b_calli (br := [[((r 2), .inl (Γ.2.1 0, 523, .inl (va_cpy g sf 0 0 523)))], [((r 9), .inl (Γ.2.1 0, 50, .inl t))], [((r 14), .inl (Γ.2.1 0, 60, .inl wt))], [((r 4), .inl (Γ.2.1 0, 4184, .inl ps))]]) (b_runV ⟨hx, hb, hml, hown, hts⟩ (mt_Mo_against_0 l Γ _ a r i4 gj (wt (3 * j + 1)) (wt (3 * j + 2)) nc hg7j hnc) (lw_V q1908 q1910 qs33 q73 q1911) rfl rfl 3 (by decide +kernel) ⟨(Nat.le_of_ble_eq_true rfl), (Nat.le_of_ble_eq_true rfl)⟩ (c_pre hP hD hS hA hK hE [2, 0] rfl rfl ro_nil) (recv_at (q := (RX4, TX4, 16)) hK (b_at (k := 2) hP rfl) rfl) rfl hl.1 rfl (Nat.le_of_ble_eq_true rfl) dX4_order_93 ⟨(Nat.le_of_ble_eq_true rfl), (Nat.le_of_ble_eq_true rfl)⟩) hP hD hS hA [2, 0] [1, 3, 4, 5] rfl rfl rfl (fun r_8 u_8 H locs hw_8 hP hD hS _ => ?_)
              obtain ⟨rfl, rfl⟩ := hw_8
              have hP : WP Γ [[(a, moE r i4)], [((r 0), .inl (Γ.2.1 0, 523, .inl gj))], [((r 2), .inl (Γ.2.1 0, 523, .inl (va_cpy g sf 0 0 523)))], [((r 9), .inl (Γ.2.1 0, 50, .inl t))], [((r 14), .inl (Γ.2.1 0, 60, .inl wt))], [((r 4), .inl (Γ.2.1 0, 4184, .inl ps))]] H := hP
              have hD : WD A [[(a, moE r i4)], [((r 0), .inl (Γ.2.1 0, 523, .inl gj))], [((r 2), .inl (Γ.2.1 0, 523, .inl (va_cpy g sf 0 0 523)))], [((r 9), .inl (Γ.2.1 0, 50, .inl t))], [((r 14), .inl (Γ.2.1 0, 60, .inl wt))], [((r 4), .inl (Γ.2.1 0, 4184, .inl ps))]] := hD
              have hag : agQ gj (wt (3 * j)) (wt (3 * j + 1)) (wt (3 * j + 2)) = (moAg0 gj (wt (3 * j + 1)) (wt (3 * j + 2))) := by rw [hq, (agQ_at gj (wt (3 * j + 1)) (wt (3 * j + 2))).1]
              refine b_top hag.symm ?_
              refine lv_istore_n (lv' := [(3, .int (agQ gj (wt (3 * j)) (wt (3 * j + 1)) (wt (3 * j + 2)))), (2, .int (nI j)), (1, .int 1), (0, .ref a)]) hx hb dX4_order_96 rfl hl (by decide) rfl (fun ls hl => ?_)
              refine lv_iload_n hx hb dX4_order_97 rfl (lv_at hl 0 rfl) ?_
              refine lv_if_le (tgt := 125) hx hb dX4_order_98 (by decide) (fun c_9 => ?_) (fun c_9 => ?_)
              · -- 98 taken
                have d_9 := Int32.not_lt.mpr c_9
                refine lv_aload_n hx hb dX4_order_125 rfl (lv_at hl 3 rfl) ?_
                refine lv_aload_n hx hb dX4_order_126 rfl (lv_at hl 3 rfl) ?_
                refine b_get (C := RX4) (T := TX4) (N := 16) (v := .ref (r 14)) hx hb hts in_X4 hown hK (b_at (k := 0) hP rfl) rfl 14 (by decide) q1821 (fun _ h9 => h9) rfl dX4_order_127 ?_
                refine lv_iconst (v := 3) hx hb dX4_order_130 (by decide) ?_
                refine lv_iload_n hx hb dX4_order_131 rfl (lv_at hl 1 rfl) ?_
                refine lv_imul hx hb dX4_order_132 ?_
                refine b_top (nI_mulE (a := 3) (b := j) (c := 3 * j) rfl rfl (by first | omega | rfl)) ?_
                refine b_iald hx hb hK (b_at (k := 4) hP rfl) (3 * j) rfl (by omega) (by omega) dX4_order_133 ?_
                refine lv_aload_n hx hb dX4_order_134 rfl (lv_at hl 3 rfl) ?_
                refine b_get (C := RX4) (T := TX4) (N := 16) (v := .ref (r 14)) hx hb hts in_X4 hown hK (b_at (k := 0) hP rfl) rfl 14 (by decide) q1821 (fun _ h9 => h9) rfl dX4_order_135 ?_
                refine lv_iconst (v := 3) hx hb dX4_order_138 (by decide) ?_
                refine lv_iload_n hx hb dX4_order_139 rfl (lv_at hl 1 rfl) ?_
                refine lv_imul hx hb dX4_order_140 ?_
                refine b_top (nI_mulE (a := 3) (b := j) (c := 3 * j) rfl rfl (by first | omega | rfl)) ?_
                refine lv_iconst (v := 1) hx hb dX4_order_141 (by decide) ?_
                refine lv_iadd hx hb dX4_order_142 ?_
                refine b_top (nI_addE (a := 3 * j) (b := 1) (c := 3 * j + 1) rfl rfl (by first | omega | rfl)) ?_
                refine b_iald hx hb hK (b_at (k := 4) hP rfl) (3 * j + 1) rfl (by omega) (by omega) dX4_order_143 ?_
                refine lv_aload_n hx hb dX4_order_144 rfl (lv_at hl 3 rfl) ?_
                refine b_get (C := RX4) (T := TX4) (N := 16) (v := .ref (r 14)) hx hb hts in_X4 hown hK (b_at (k := 0) hP rfl) rfl 14 (by decide) q1821 (fun _ h9 => h9) rfl dX4_order_145 ?_
                refine lv_iconst (v := 3) hx hb dX4_order_148 (by decide) ?_
                refine lv_iload_n hx hb dX4_order_149 rfl (lv_at hl 1 rfl) ?_
                refine lv_imul hx hb dX4_order_150 ?_
                refine b_top (nI_mulE (a := 3) (b := j) (c := 3 * j) rfl rfl (by first | omega | rfl)) ?_
                refine lv_iconst (v := 2) hx hb dX4_order_151 (by decide) ?_
                refine lv_iadd hx hb dX4_order_152 ?_
                refine b_top (nI_addE (a := 3 * j) (b := 2) (c := 3 * j + 2) rfl rfl (by first | omega | rfl)) ?_
                refine b_iald hx hb hK (b_at (k := 4) hP rfl) (3 * j + 2) rfl (by omega) (by omega) dX4_order_153 ?_
                obtain ⟨k, hk, ek⟩ := moKept_nat hg7j hnc (agQ_k (by rw [hq]; decide) d_9)
                refine W.eq (g2 := F0 mi_ 154 ls ([.int (wt (3 * j + 2)), .int (nI k), .int 0, .ref a])) (by rw [hq, ek]) ?_
                refine b_calli (br := [[((r 2), .inl (Γ.2.1 0, 523, .inl (va_cpy g sf 0 0 523)))], [((r 9), .inl (Γ.2.1 0, 50, .inl t))], [((r 14), .inl (Γ.2.1 0, 60, .inl wt))], [((r 4), .inl (Γ.2.1 0, 4184, .inl ps))]]) (b_runV ⟨hx, hb, hml, hown, hts⟩ (mt_Mo_does_0 l Γ _ a r i4 gj k (wt (3 * j + 2)) nc hg7j hnc hk) (lw_V q1940 q1942 qs41 q73 q1943) rfl rfl 3 (by decide +kernel) ⟨(Nat.le_of_ble_eq_true rfl), (Nat.le_of_ble_eq_true rfl)⟩ (c_pre hP hD hS hA hK hE [0, 1] rfl rfl ro_nil) (recv_at (q := (RX4, TX4, 16)) hK (b_at (k := 0) hP rfl) rfl) rfl hl.1 rfl (Nat.le_of_ble_eq_true rfl) dX4_order_154 ⟨(Nat.le_of_ble_eq_true rfl), (Nat.le_of_ble_eq_true rfl)⟩) hP hD hS hA [0, 1] [2, 3, 4, 5] rfl rfl rfl (fun r_10 u_10 H locs hw_10 hP hD hS _ => ?_)
                obtain ⟨rfl, rfl⟩ := hw_10
                have hP : WP Γ [[(a, moE r i4)], [((r 0), .inl (Γ.2.1 0, 523, .inl (moDo0 gj k (wt (3 * j + 2)))))], [((r 2), .inl (Γ.2.1 0, 523, .inl (va_cpy g sf 0 0 523)))], [((r 9), .inl (Γ.2.1 0, 50, .inl t))], [((r 14), .inl (Γ.2.1 0, 60, .inl wt))], [((r 4), .inl (Γ.2.1 0, 4184, .inl ps))]] H := hP
                have hD : WD A [[(a, moE r i4)], [((r 0), .inl (Γ.2.1 0, 523, .inl (moDo0 gj k (wt (3 * j + 2)))))], [((r 2), .inl (Γ.2.1 0, 523, .inl (va_cpy g sf 0 0 523)))], [((r 9), .inl (Γ.2.1 0, 50, .inl t))], [((r 14), .inl (Γ.2.1 0, 60, .inl wt))], [((r 4), .inl (Γ.2.1 0, 4184, .inl ps))]] := hD
                rw [show (moDo0 gj k (wt (3 * j + 2))) = (doQ gj (wt (3 * j)) (wt (3 * j + 1)) (wt (3 * j + 2))) from by rw [hq, ek, (doQ_at gj (nI k) (wt (3 * j + 2))).1, nI_clamp (by omega)]] at hP hD
                have hkp := doQ_keep (q := wt (3 * j)) (c := wt (3 * j + 1)) (v := wt (3 * j + 2)) hg7j hg10j hmj d_9
                obtain ⟨hk7, mk, hmk, hk10⟩ := hkp
                refine lv_pop hx hb dX4_order_157 rfl ?_
                refine lv_iinc (v := (nI (j + 1))) (lv' := [(2, .int (nI (j + 1))), (3, .int (agQ gj (wt (3 * j)) (wt (3 * j + 1)) (wt (3 * j + 2)))), (1, .int 1), (0, .ref a)]) hx hb dX4_order_158 hl (k := 1) rfl (nI_addE (a := j) (b := 1) (c := j + 1) rfl rfl (by first | omega | rfl)) (by decide) rfl (fun ls hl => ?_)
                refine lv_goto (tgt := 56) hx hb dX4_order_161 (by decide) ?_
                have hP : WP Γ [[((r 0), .inl (Γ.2.1 0, 523, .inl (doQ gj (wt (3 * j)) (wt (3 * j + 1)) (wt (3 * j + 2)))))], [((r 2), .inl (Γ.2.1 0, 523, .inl (va_cpy g sf 0 0 523)))], [(a, moE r i4)], [((r 9), .inl (Γ.2.1 0, 50, .inl t))], [((r 14), .inl (Γ.2.1 0, 60, .inl wt))], [((r 4), .inl (Γ.2.1 0, 4184, .inl ps))]] H := bP_sel hP [1, 2, 0, 3, 4, 5] rfl
                have hD : WD A [[((r 0), .inl (Γ.2.1 0, 523, .inl (doQ gj (wt (3 * j)) (wt (3 * j + 1)) (wt (3 * j + 2)))))], [((r 2), .inl (Γ.2.1 0, 523, .inl (va_cpy g sf 0 0 523)))], [(a, moE r i4)], [((r 9), .inl (Γ.2.1 0, 50, .inl t))], [((r 14), .inl (Γ.2.1 0, 60, .inl wt))], [((r 4), .inl (Γ.2.1 0, 4184, .inl ps))]] := bD_sel hD [1, 2, 0, 3, 4, 5] rfl rfl
                exact ih (j + 1) (doQ gj (wt (3 * j)) (wt (3 * j + 1)) (wt (3 * j + 2))) mk (by omega) (by omega) hk7 hk10 hmk (by rw [hor, show kn - j = (kn - (j + 1)) + 1 by omega, orF_go d_9]) _ _ _ hP hD hS (lv_sub hl [0, 2, 3] rfl)
              · -- 98 not taken
                have d_9 := Int32.not_le.mp c_9
                rw [show kn - j = (kn - (j + 1)) + 1 by omega, orF_hit d_9] at hor
                rw [hor] at ho
                exact absurd ho (by intro e9; have h9 : (0 : Int32) < agQ gj (wt (3 * j)) (wt (3 * j + 1)) (wt (3 * j + 2)) := d_9; rw [show agQ gj (wt (3 * j)) (wt (3 * j + 1)) (wt (3 * j + 2)) = 0 from e9] at h9; exact absurd h9 (by decide))
            · -- 1
              refine W.eq (g2 := F0 mi_ 93 ls ([.int (wt (3 * j + 2)), .int (wt (3 * j + 1)), .int 1, .ref a])) (by rw [hq]) ?_
              refine b_calli (br := [[((r 2), .inl (Γ.2.1 0, 523, .inl (va_cpy g sf 0 0 523)))], [((r 9), .inl (Γ.2.1 0, 50, .inl t))], [((r 14), .inl (Γ.2.1 0, 60, .inl wt))], [((r 4), .inl (Γ.2.1 0, 4184, .inl ps))]]) (b_runV ⟨hx, hb, hml, hown, hts⟩ (mt_Mo_against_1 l Γ _ a r i4 gj (wt (3 * j + 1)) (wt (3 * j + 2)) nc hg7j hnc) (lw_V q1908 q1910 qs33 q73 q1911) rfl rfl 3 (by decide +kernel) ⟨(Nat.le_of_ble_eq_true rfl), (Nat.le_of_ble_eq_true rfl)⟩ (c_pre hP hD hS hA hK hE [2, 0] rfl rfl ro_nil) (recv_at (q := (RX4, TX4, 16)) hK (b_at (k := 2) hP rfl) rfl) rfl hl.1 rfl (Nat.le_of_ble_eq_true rfl) dX4_order_93 ⟨(Nat.le_of_ble_eq_true rfl), (Nat.le_of_ble_eq_true rfl)⟩) hP hD hS hA [2, 0] [1, 3, 4, 5] rfl rfl rfl (fun r_11 u_11 H locs hw_11 hP hD hS _ => ?_)
              obtain ⟨rfl, rfl⟩ := hw_11
              have hP : WP Γ [[(a, moE r i4)], [((r 0), .inl (Γ.2.1 0, 523, .inl gj))], [((r 2), .inl (Γ.2.1 0, 523, .inl (va_cpy g sf 0 0 523)))], [((r 9), .inl (Γ.2.1 0, 50, .inl t))], [((r 14), .inl (Γ.2.1 0, 60, .inl wt))], [((r 4), .inl (Γ.2.1 0, 4184, .inl ps))]] H := hP
              have hD : WD A [[(a, moE r i4)], [((r 0), .inl (Γ.2.1 0, 523, .inl gj))], [((r 2), .inl (Γ.2.1 0, 523, .inl (va_cpy g sf 0 0 523)))], [((r 9), .inl (Γ.2.1 0, 50, .inl t))], [((r 14), .inl (Γ.2.1 0, 60, .inl wt))], [((r 4), .inl (Γ.2.1 0, 4184, .inl ps))]] := hD
              have hag : agQ gj (wt (3 * j)) (wt (3 * j + 1)) (wt (3 * j + 2)) = (moAg1 gj (wt (3 * j + 1))) := by rw [hq, (agQ_at gj (wt (3 * j + 1)) (wt (3 * j + 2))).2.1]
              refine b_top hag.symm ?_
              refine lv_istore_n (lv' := [(3, .int (agQ gj (wt (3 * j)) (wt (3 * j + 1)) (wt (3 * j + 2)))), (2, .int (nI j)), (1, .int 1), (0, .ref a)]) hx hb dX4_order_96 rfl hl (by decide) rfl (fun ls hl => ?_)
              refine lv_iload_n hx hb dX4_order_97 rfl (lv_at hl 0 rfl) ?_
              refine lv_if_le (tgt := 125) hx hb dX4_order_98 (by decide) (fun c_12 => ?_) (fun c_12 => ?_)
              · -- 98 taken
                have d_12 := Int32.not_lt.mpr c_12
                refine lv_aload_n hx hb dX4_order_125 rfl (lv_at hl 3 rfl) ?_
                refine lv_aload_n hx hb dX4_order_126 rfl (lv_at hl 3 rfl) ?_
                refine b_get (C := RX4) (T := TX4) (N := 16) (v := .ref (r 14)) hx hb hts in_X4 hown hK (b_at (k := 0) hP rfl) rfl 14 (by decide) q1821 (fun _ h9 => h9) rfl dX4_order_127 ?_
                refine lv_iconst (v := 3) hx hb dX4_order_130 (by decide) ?_
                refine lv_iload_n hx hb dX4_order_131 rfl (lv_at hl 1 rfl) ?_
                refine lv_imul hx hb dX4_order_132 ?_
                refine b_top (nI_mulE (a := 3) (b := j) (c := 3 * j) rfl rfl (by first | omega | rfl)) ?_
                refine b_iald hx hb hK (b_at (k := 4) hP rfl) (3 * j) rfl (by omega) (by omega) dX4_order_133 ?_
                refine lv_aload_n hx hb dX4_order_134 rfl (lv_at hl 3 rfl) ?_
                refine b_get (C := RX4) (T := TX4) (N := 16) (v := .ref (r 14)) hx hb hts in_X4 hown hK (b_at (k := 0) hP rfl) rfl 14 (by decide) q1821 (fun _ h9 => h9) rfl dX4_order_135 ?_
                refine lv_iconst (v := 3) hx hb dX4_order_138 (by decide) ?_
                refine lv_iload_n hx hb dX4_order_139 rfl (lv_at hl 1 rfl) ?_
                refine lv_imul hx hb dX4_order_140 ?_
                refine b_top (nI_mulE (a := 3) (b := j) (c := 3 * j) rfl rfl (by first | omega | rfl)) ?_
                refine lv_iconst (v := 1) hx hb dX4_order_141 (by decide) ?_
                refine lv_iadd hx hb dX4_order_142 ?_
                refine b_top (nI_addE (a := 3 * j) (b := 1) (c := 3 * j + 1) rfl rfl (by first | omega | rfl)) ?_
                refine b_iald hx hb hK (b_at (k := 4) hP rfl) (3 * j + 1) rfl (by omega) (by omega) dX4_order_143 ?_
                refine lv_aload_n hx hb dX4_order_144 rfl (lv_at hl 3 rfl) ?_
                refine b_get (C := RX4) (T := TX4) (N := 16) (v := .ref (r 14)) hx hb hts in_X4 hown hK (b_at (k := 0) hP rfl) rfl 14 (by decide) q1821 (fun _ h9 => h9) rfl dX4_order_145 ?_
                refine lv_iconst (v := 3) hx hb dX4_order_148 (by decide) ?_
                refine lv_iload_n hx hb dX4_order_149 rfl (lv_at hl 1 rfl) ?_
                refine lv_imul hx hb dX4_order_150 ?_
                refine b_top (nI_mulE (a := 3) (b := j) (c := 3 * j) rfl rfl (by first | omega | rfl)) ?_
                refine lv_iconst (v := 2) hx hb dX4_order_151 (by decide) ?_
                refine lv_iadd hx hb dX4_order_152 ?_
                refine b_top (nI_addE (a := 3 * j) (b := 2) (c := 3 * j + 2) rfl rfl (by first | omega | rfl)) ?_
                refine b_iald hx hb hK (b_at (k := 4) hP rfl) (3 * j + 2) rfl (by omega) (by omega) dX4_order_153 ?_
                obtain ⟨k, hk, ek⟩ := moKept_nat hg7j hnc (agQ_k (by rw [hq]; decide) d_12)
                refine W.eq (g2 := F0 mi_ 154 ls ([.int (wt (3 * j + 2)), .int (nI k), .int 1, .ref a])) (by rw [hq, ek]) ?_
                refine b_calli (br := [[((r 2), .inl (Γ.2.1 0, 523, .inl (va_cpy g sf 0 0 523)))], [((r 9), .inl (Γ.2.1 0, 50, .inl t))], [((r 14), .inl (Γ.2.1 0, 60, .inl wt))], [((r 4), .inl (Γ.2.1 0, 4184, .inl ps))]]) (b_runV ⟨hx, hb, hml, hown, hts⟩ (mt_Mo_does_1 l Γ _ a r i4 gj k (wt (3 * j + 2)) nc hg7j hnc hk) (lw_V q1940 q1942 qs41 q73 q1943) rfl rfl 3 (by decide +kernel) ⟨(Nat.le_of_ble_eq_true rfl), (Nat.le_of_ble_eq_true rfl)⟩ (c_pre hP hD hS hA hK hE [0, 1] rfl rfl ro_nil) (recv_at (q := (RX4, TX4, 16)) hK (b_at (k := 0) hP rfl) rfl) rfl hl.1 rfl (Nat.le_of_ble_eq_true rfl) dX4_order_154 ⟨(Nat.le_of_ble_eq_true rfl), (Nat.le_of_ble_eq_true rfl)⟩) hP hD hS hA [0, 1] [2, 3, 4, 5] rfl rfl rfl (fun r_13 u_13 H locs hw_13 hP hD hS _ => ?_)
                obtain ⟨rfl, rfl⟩ := hw_13
                have hP : WP Γ [[(a, moE r i4)], [((r 0), .inl (Γ.2.1 0, 523, .inl (moDo1 gj k (wt (3 * j + 2)))))], [((r 2), .inl (Γ.2.1 0, 523, .inl (va_cpy g sf 0 0 523)))], [((r 9), .inl (Γ.2.1 0, 50, .inl t))], [((r 14), .inl (Γ.2.1 0, 60, .inl wt))], [((r 4), .inl (Γ.2.1 0, 4184, .inl ps))]] H := hP
                have hD : WD A [[(a, moE r i4)], [((r 0), .inl (Γ.2.1 0, 523, .inl (moDo1 gj k (wt (3 * j + 2)))))], [((r 2), .inl (Γ.2.1 0, 523, .inl (va_cpy g sf 0 0 523)))], [((r 9), .inl (Γ.2.1 0, 50, .inl t))], [((r 14), .inl (Γ.2.1 0, 60, .inl wt))], [((r 4), .inl (Γ.2.1 0, 4184, .inl ps))]] := hD
                rw [show (moDo1 gj k (wt (3 * j + 2))) = (doQ gj (wt (3 * j)) (wt (3 * j + 1)) (wt (3 * j + 2))) from by rw [hq, ek, (doQ_at gj (nI k) (wt (3 * j + 2))).2.1, nI_clamp (by omega)]] at hP hD
                have hkp := doQ_keep (q := wt (3 * j)) (c := wt (3 * j + 1)) (v := wt (3 * j + 2)) hg7j hg10j hmj d_12
                obtain ⟨hk7, mk, hmk, hk10⟩ := hkp
                refine lv_pop hx hb dX4_order_157 rfl ?_
                refine lv_iinc (v := (nI (j + 1))) (lv' := [(2, .int (nI (j + 1))), (3, .int (agQ gj (wt (3 * j)) (wt (3 * j + 1)) (wt (3 * j + 2)))), (1, .int 1), (0, .ref a)]) hx hb dX4_order_158 hl (k := 1) rfl (nI_addE (a := j) (b := 1) (c := j + 1) rfl rfl (by first | omega | rfl)) (by decide) rfl (fun ls hl => ?_)
                refine lv_goto (tgt := 56) hx hb dX4_order_161 (by decide) ?_
                have hP : WP Γ [[((r 0), .inl (Γ.2.1 0, 523, .inl (doQ gj (wt (3 * j)) (wt (3 * j + 1)) (wt (3 * j + 2)))))], [((r 2), .inl (Γ.2.1 0, 523, .inl (va_cpy g sf 0 0 523)))], [(a, moE r i4)], [((r 9), .inl (Γ.2.1 0, 50, .inl t))], [((r 14), .inl (Γ.2.1 0, 60, .inl wt))], [((r 4), .inl (Γ.2.1 0, 4184, .inl ps))]] H := bP_sel hP [1, 2, 0, 3, 4, 5] rfl
                have hD : WD A [[((r 0), .inl (Γ.2.1 0, 523, .inl (doQ gj (wt (3 * j)) (wt (3 * j + 1)) (wt (3 * j + 2)))))], [((r 2), .inl (Γ.2.1 0, 523, .inl (va_cpy g sf 0 0 523)))], [(a, moE r i4)], [((r 9), .inl (Γ.2.1 0, 50, .inl t))], [((r 14), .inl (Γ.2.1 0, 60, .inl wt))], [((r 4), .inl (Γ.2.1 0, 4184, .inl ps))]] := bD_sel hD [1, 2, 0, 3, 4, 5] rfl rfl
                exact ih (j + 1) (doQ gj (wt (3 * j)) (wt (3 * j + 1)) (wt (3 * j + 2))) mk (by omega) (by omega) hk7 hk10 hmk (by rw [hor, show kn - j = (kn - (j + 1)) + 1 by omega, orF_go d_12]) _ _ _ hP hD hS (lv_sub hl [0, 2, 3] rfl)
              · -- 98 not taken
                have d_12 := Int32.not_le.mp c_12
                rw [show kn - j = (kn - (j + 1)) + 1 by omega, orF_hit d_12] at hor
                rw [hor] at ho
                exact absurd ho (by intro e9; have h9 : (0 : Int32) < agQ gj (wt (3 * j)) (wt (3 * j + 1)) (wt (3 * j + 2)) := d_12; rw [show agQ gj (wt (3 * j)) (wt (3 * j + 1)) (wt (3 * j + 2)) = 0 from e9] at h9; exact absurd h9 (by decide))
            · -- 2
              refine W.eq (g2 := F0 mi_ 93 ls ([.int (wt (3 * j + 2)), .int (wt (3 * j + 1)), .int 2, .ref a])) (by rw [hq]) ?_
              refine b_calli (br := [[((r 2), .inl (Γ.2.1 0, 523, .inl (va_cpy g sf 0 0 523)))], [((r 9), .inl (Γ.2.1 0, 50, .inl t))], [((r 14), .inl (Γ.2.1 0, 60, .inl wt))], [((r 4), .inl (Γ.2.1 0, 4184, .inl ps))]]) (b_runV ⟨hx, hb, hml, hown, hts⟩ (mt_Mo_against_2 l Γ _ a r i4 gj (wt (3 * j + 1)) (wt (3 * j + 2)) nc hg7j hnc) (lw_V q1908 q1910 qs33 q73 q1911) rfl rfl 3 (by decide +kernel) ⟨(Nat.le_of_ble_eq_true rfl), (Nat.le_of_ble_eq_true rfl)⟩ (c_pre hP hD hS hA hK hE [2, 0] rfl rfl ro_nil) (recv_at (q := (RX4, TX4, 16)) hK (b_at (k := 2) hP rfl) rfl) rfl hl.1 rfl (Nat.le_of_ble_eq_true rfl) dX4_order_93 ⟨(Nat.le_of_ble_eq_true rfl), (Nat.le_of_ble_eq_true rfl)⟩) hP hD hS hA [2, 0] [1, 3, 4, 5] rfl rfl rfl (fun r_14 u_14 H locs hw_14 hP hD hS _ => ?_)
              obtain ⟨rfl, rfl⟩ := hw_14
              have hP : WP Γ [[(a, moE r i4)], [((r 0), .inl (Γ.2.1 0, 523, .inl gj))], [((r 2), .inl (Γ.2.1 0, 523, .inl (va_cpy g sf 0 0 523)))], [((r 9), .inl (Γ.2.1 0, 50, .inl t))], [((r 14), .inl (Γ.2.1 0, 60, .inl wt))], [((r 4), .inl (Γ.2.1 0, 4184, .inl ps))]] H := hP
              have hD : WD A [[(a, moE r i4)], [((r 0), .inl (Γ.2.1 0, 523, .inl gj))], [((r 2), .inl (Γ.2.1 0, 523, .inl (va_cpy g sf 0 0 523)))], [((r 9), .inl (Γ.2.1 0, 50, .inl t))], [((r 14), .inl (Γ.2.1 0, 60, .inl wt))], [((r 4), .inl (Γ.2.1 0, 4184, .inl ps))]] := hD
              have hag : agQ gj (wt (3 * j)) (wt (3 * j + 1)) (wt (3 * j + 2)) = (moAg2 gj (wt (3 * j + 1))) := by rw [hq, (agQ_at gj (wt (3 * j + 1)) (wt (3 * j + 2))).2.2.1]
              refine b_top hag.symm ?_
              refine lv_istore_n (lv' := [(3, .int (agQ gj (wt (3 * j)) (wt (3 * j + 1)) (wt (3 * j + 2)))), (2, .int (nI j)), (1, .int 1), (0, .ref a)]) hx hb dX4_order_96 rfl hl (by decide) rfl (fun ls hl => ?_)
              refine lv_iload_n hx hb dX4_order_97 rfl (lv_at hl 0 rfl) ?_
              refine lv_if_le (tgt := 125) hx hb dX4_order_98 (by decide) (fun c_15 => ?_) (fun c_15 => ?_)
              · -- 98 taken
                have d_15 := Int32.not_lt.mpr c_15
                refine lv_aload_n hx hb dX4_order_125 rfl (lv_at hl 3 rfl) ?_
                refine lv_aload_n hx hb dX4_order_126 rfl (lv_at hl 3 rfl) ?_
                refine b_get (C := RX4) (T := TX4) (N := 16) (v := .ref (r 14)) hx hb hts in_X4 hown hK (b_at (k := 0) hP rfl) rfl 14 (by decide) q1821 (fun _ h9 => h9) rfl dX4_order_127 ?_
                refine lv_iconst (v := 3) hx hb dX4_order_130 (by decide) ?_
                refine lv_iload_n hx hb dX4_order_131 rfl (lv_at hl 1 rfl) ?_
                refine lv_imul hx hb dX4_order_132 ?_
                refine b_top (nI_mulE (a := 3) (b := j) (c := 3 * j) rfl rfl (by first | omega | rfl)) ?_
                refine b_iald hx hb hK (b_at (k := 4) hP rfl) (3 * j) rfl (by omega) (by omega) dX4_order_133 ?_
                refine lv_aload_n hx hb dX4_order_134 rfl (lv_at hl 3 rfl) ?_
                refine b_get (C := RX4) (T := TX4) (N := 16) (v := .ref (r 14)) hx hb hts in_X4 hown hK (b_at (k := 0) hP rfl) rfl 14 (by decide) q1821 (fun _ h9 => h9) rfl dX4_order_135 ?_
                refine lv_iconst (v := 3) hx hb dX4_order_138 (by decide) ?_
                refine lv_iload_n hx hb dX4_order_139 rfl (lv_at hl 1 rfl) ?_
                refine lv_imul hx hb dX4_order_140 ?_
                refine b_top (nI_mulE (a := 3) (b := j) (c := 3 * j) rfl rfl (by first | omega | rfl)) ?_
                refine lv_iconst (v := 1) hx hb dX4_order_141 (by decide) ?_
                refine lv_iadd hx hb dX4_order_142 ?_
                refine b_top (nI_addE (a := 3 * j) (b := 1) (c := 3 * j + 1) rfl rfl (by first | omega | rfl)) ?_
                refine b_iald hx hb hK (b_at (k := 4) hP rfl) (3 * j + 1) rfl (by omega) (by omega) dX4_order_143 ?_
                refine lv_aload_n hx hb dX4_order_144 rfl (lv_at hl 3 rfl) ?_
                refine b_get (C := RX4) (T := TX4) (N := 16) (v := .ref (r 14)) hx hb hts in_X4 hown hK (b_at (k := 0) hP rfl) rfl 14 (by decide) q1821 (fun _ h9 => h9) rfl dX4_order_145 ?_
                refine lv_iconst (v := 3) hx hb dX4_order_148 (by decide) ?_
                refine lv_iload_n hx hb dX4_order_149 rfl (lv_at hl 1 rfl) ?_
                refine lv_imul hx hb dX4_order_150 ?_
                refine b_top (nI_mulE (a := 3) (b := j) (c := 3 * j) rfl rfl (by first | omega | rfl)) ?_
                refine lv_iconst (v := 2) hx hb dX4_order_151 (by decide) ?_
                refine lv_iadd hx hb dX4_order_152 ?_
                refine b_top (nI_addE (a := 3 * j) (b := 2) (c := 3 * j + 2) rfl rfl (by first | omega | rfl)) ?_
                refine b_iald hx hb hK (b_at (k := 4) hP rfl) (3 * j + 2) rfl (by omega) (by omega) dX4_order_153 ?_
                obtain ⟨k, hk, ek⟩ := moKept_nat hg7j hnc (agQ_k (by rw [hq]; decide) d_15)
                refine W.eq (g2 := F0 mi_ 154 ls ([.int (wt (3 * j + 2)), .int (nI k), .int 2, .ref a])) (by rw [hq, ek]) ?_
                refine b_calli (br := [[((r 2), .inl (Γ.2.1 0, 523, .inl (va_cpy g sf 0 0 523)))], [((r 9), .inl (Γ.2.1 0, 50, .inl t))], [((r 14), .inl (Γ.2.1 0, 60, .inl wt))], [((r 4), .inl (Γ.2.1 0, 4184, .inl ps))]]) (b_runV ⟨hx, hb, hml, hown, hts⟩ (mt_Mo_does_2 l Γ _ a r i4 gj k (wt (3 * j + 2)) nc hg7j hnc hk) (lw_V q1940 q1942 qs41 q73 q1943) rfl rfl 3 (by decide +kernel) ⟨(Nat.le_of_ble_eq_true rfl), (Nat.le_of_ble_eq_true rfl)⟩ (c_pre hP hD hS hA hK hE [0, 1] rfl rfl ro_nil) (recv_at (q := (RX4, TX4, 16)) hK (b_at (k := 0) hP rfl) rfl) rfl hl.1 rfl (Nat.le_of_ble_eq_true rfl) dX4_order_154 ⟨(Nat.le_of_ble_eq_true rfl), (Nat.le_of_ble_eq_true rfl)⟩) hP hD hS hA [0, 1] [2, 3, 4, 5] rfl rfl rfl (fun r_16 u_16 H locs hw_16 hP hD hS _ => ?_)
                obtain ⟨rfl, rfl⟩ := hw_16
                have hP : WP Γ [[(a, moE r i4)], [((r 0), .inl (Γ.2.1 0, 523, .inl (moDo2 gj k)))], [((r 2), .inl (Γ.2.1 0, 523, .inl (va_cpy g sf 0 0 523)))], [((r 9), .inl (Γ.2.1 0, 50, .inl t))], [((r 14), .inl (Γ.2.1 0, 60, .inl wt))], [((r 4), .inl (Γ.2.1 0, 4184, .inl ps))]] H := hP
                have hD : WD A [[(a, moE r i4)], [((r 0), .inl (Γ.2.1 0, 523, .inl (moDo2 gj k)))], [((r 2), .inl (Γ.2.1 0, 523, .inl (va_cpy g sf 0 0 523)))], [((r 9), .inl (Γ.2.1 0, 50, .inl t))], [((r 14), .inl (Γ.2.1 0, 60, .inl wt))], [((r 4), .inl (Γ.2.1 0, 4184, .inl ps))]] := hD
                rw [show (moDo2 gj k) = (doQ gj (wt (3 * j)) (wt (3 * j + 1)) (wt (3 * j + 2))) from by rw [hq, ek, (doQ_at gj (nI k) (wt (3 * j + 2))).2.2.1, nI_clamp (by omega)]] at hP hD
                have hkp := doQ_keep (q := wt (3 * j)) (c := wt (3 * j + 1)) (v := wt (3 * j + 2)) hg7j hg10j hmj d_15
                obtain ⟨hk7, mk, hmk, hk10⟩ := hkp
                refine lv_pop hx hb dX4_order_157 rfl ?_
                refine lv_iinc (v := (nI (j + 1))) (lv' := [(2, .int (nI (j + 1))), (3, .int (agQ gj (wt (3 * j)) (wt (3 * j + 1)) (wt (3 * j + 2)))), (1, .int 1), (0, .ref a)]) hx hb dX4_order_158 hl (k := 1) rfl (nI_addE (a := j) (b := 1) (c := j + 1) rfl rfl (by first | omega | rfl)) (by decide) rfl (fun ls hl => ?_)
                refine lv_goto (tgt := 56) hx hb dX4_order_161 (by decide) ?_
                have hP : WP Γ [[((r 0), .inl (Γ.2.1 0, 523, .inl (doQ gj (wt (3 * j)) (wt (3 * j + 1)) (wt (3 * j + 2)))))], [((r 2), .inl (Γ.2.1 0, 523, .inl (va_cpy g sf 0 0 523)))], [(a, moE r i4)], [((r 9), .inl (Γ.2.1 0, 50, .inl t))], [((r 14), .inl (Γ.2.1 0, 60, .inl wt))], [((r 4), .inl (Γ.2.1 0, 4184, .inl ps))]] H := bP_sel hP [1, 2, 0, 3, 4, 5] rfl
                have hD : WD A [[((r 0), .inl (Γ.2.1 0, 523, .inl (doQ gj (wt (3 * j)) (wt (3 * j + 1)) (wt (3 * j + 2)))))], [((r 2), .inl (Γ.2.1 0, 523, .inl (va_cpy g sf 0 0 523)))], [(a, moE r i4)], [((r 9), .inl (Γ.2.1 0, 50, .inl t))], [((r 14), .inl (Γ.2.1 0, 60, .inl wt))], [((r 4), .inl (Γ.2.1 0, 4184, .inl ps))]] := bD_sel hD [1, 2, 0, 3, 4, 5] rfl rfl
                exact ih (j + 1) (doQ gj (wt (3 * j)) (wt (3 * j + 1)) (wt (3 * j + 2))) mk (by omega) (by omega) hk7 hk10 hmk (by rw [hor, show kn - j = (kn - (j + 1)) + 1 by omega, orF_go d_15]) _ _ _ hP hD hS (lv_sub hl [0, 2, 3] rfl)
              · -- 98 not taken
                have d_15 := Int32.not_le.mp c_15
                rw [show kn - j = (kn - (j + 1)) + 1 by omega, orF_hit d_15] at hor
                rw [hor] at ho
                exact absurd ho (by intro e9; have h9 : (0 : Int32) < agQ gj (wt (3 * j)) (wt (3 * j + 1)) (wt (3 * j + 2)) := d_15; rw [show agQ gj (wt (3 * j)) (wt (3 * j + 1)) (wt (3 * j + 2)) = 0 from e9] at h9; exact absurd h9 (by decide))
            · -- 3
              refine W.eq (g2 := F0 mi_ 93 ls ([.int (wt (3 * j + 2)), .int (wt (3 * j + 1)), .int 3, .ref a])) (by rw [hq]) ?_
              refine b_calli (br := [[((r 2), .inl (Γ.2.1 0, 523, .inl (va_cpy g sf 0 0 523)))], [((r 9), .inl (Γ.2.1 0, 50, .inl t))], [((r 14), .inl (Γ.2.1 0, 60, .inl wt))], [((r 4), .inl (Γ.2.1 0, 4184, .inl ps))]]) (b_runV ⟨hx, hb, hml, hown, hts⟩ (mt_Mo_against_3 l Γ _ a r i4 gj (wt (3 * j + 1)) (wt (3 * j + 2)) nc hg7j hnc) (lw_V q1908 q1910 qs33 q73 q1911) rfl rfl 3 (by decide +kernel) ⟨(Nat.le_of_ble_eq_true rfl), (Nat.le_of_ble_eq_true rfl)⟩ (c_pre hP hD hS hA hK hE [2, 0] rfl rfl ro_nil) (recv_at (q := (RX4, TX4, 16)) hK (b_at (k := 2) hP rfl) rfl) rfl hl.1 rfl (Nat.le_of_ble_eq_true rfl) dX4_order_93 ⟨(Nat.le_of_ble_eq_true rfl), (Nat.le_of_ble_eq_true rfl)⟩) hP hD hS hA [2, 0] [1, 3, 4, 5] rfl rfl rfl (fun r_17 u_17 H locs hw_17 hP hD hS _ => ?_)
              obtain ⟨rfl, rfl⟩ := hw_17
              have hP : WP Γ [[(a, moE r i4)], [((r 0), .inl (Γ.2.1 0, 523, .inl gj))], [((r 2), .inl (Γ.2.1 0, 523, .inl (va_cpy g sf 0 0 523)))], [((r 9), .inl (Γ.2.1 0, 50, .inl t))], [((r 14), .inl (Γ.2.1 0, 60, .inl wt))], [((r 4), .inl (Γ.2.1 0, 4184, .inl ps))]] H := hP
              have hD : WD A [[(a, moE r i4)], [((r 0), .inl (Γ.2.1 0, 523, .inl gj))], [((r 2), .inl (Γ.2.1 0, 523, .inl (va_cpy g sf 0 0 523)))], [((r 9), .inl (Γ.2.1 0, 50, .inl t))], [((r 14), .inl (Γ.2.1 0, 60, .inl wt))], [((r 4), .inl (Γ.2.1 0, 4184, .inl ps))]] := hD
              have hag : agQ gj (wt (3 * j)) (wt (3 * j + 1)) (wt (3 * j + 2)) = (moAg3 gj (wt (3 * j + 1))) := by rw [hq, (agQ_at gj (wt (3 * j + 1)) (wt (3 * j + 2))).2.2.2.1]
              refine b_top hag.symm ?_
              refine lv_istore_n (lv' := [(3, .int (agQ gj (wt (3 * j)) (wt (3 * j + 1)) (wt (3 * j + 2)))), (2, .int (nI j)), (1, .int 1), (0, .ref a)]) hx hb dX4_order_96 rfl hl (by decide) rfl (fun ls hl => ?_)
              refine lv_iload_n hx hb dX4_order_97 rfl (lv_at hl 0 rfl) ?_
              refine lv_if_le (tgt := 125) hx hb dX4_order_98 (by decide) (fun c_18 => ?_) (fun c_18 => ?_)
              · -- 98 taken
                have d_18 := Int32.not_lt.mpr c_18
                refine lv_aload_n hx hb dX4_order_125 rfl (lv_at hl 3 rfl) ?_
                refine lv_aload_n hx hb dX4_order_126 rfl (lv_at hl 3 rfl) ?_
                refine b_get (C := RX4) (T := TX4) (N := 16) (v := .ref (r 14)) hx hb hts in_X4 hown hK (b_at (k := 0) hP rfl) rfl 14 (by decide) q1821 (fun _ h9 => h9) rfl dX4_order_127 ?_
                refine lv_iconst (v := 3) hx hb dX4_order_130 (by decide) ?_
                refine lv_iload_n hx hb dX4_order_131 rfl (lv_at hl 1 rfl) ?_
                refine lv_imul hx hb dX4_order_132 ?_
                refine b_top (nI_mulE (a := 3) (b := j) (c := 3 * j) rfl rfl (by first | omega | rfl)) ?_
                refine b_iald hx hb hK (b_at (k := 4) hP rfl) (3 * j) rfl (by omega) (by omega) dX4_order_133 ?_
                refine lv_aload_n hx hb dX4_order_134 rfl (lv_at hl 3 rfl) ?_
                refine b_get (C := RX4) (T := TX4) (N := 16) (v := .ref (r 14)) hx hb hts in_X4 hown hK (b_at (k := 0) hP rfl) rfl 14 (by decide) q1821 (fun _ h9 => h9) rfl dX4_order_135 ?_
                refine lv_iconst (v := 3) hx hb dX4_order_138 (by decide) ?_
                refine lv_iload_n hx hb dX4_order_139 rfl (lv_at hl 1 rfl) ?_
                refine lv_imul hx hb dX4_order_140 ?_
                refine b_top (nI_mulE (a := 3) (b := j) (c := 3 * j) rfl rfl (by first | omega | rfl)) ?_
                refine lv_iconst (v := 1) hx hb dX4_order_141 (by decide) ?_
                refine lv_iadd hx hb dX4_order_142 ?_
                refine b_top (nI_addE (a := 3 * j) (b := 1) (c := 3 * j + 1) rfl rfl (by first | omega | rfl)) ?_
                refine b_iald hx hb hK (b_at (k := 4) hP rfl) (3 * j + 1) rfl (by omega) (by omega) dX4_order_143 ?_
                refine lv_aload_n hx hb dX4_order_144 rfl (lv_at hl 3 rfl) ?_
                refine b_get (C := RX4) (T := TX4) (N := 16) (v := .ref (r 14)) hx hb hts in_X4 hown hK (b_at (k := 0) hP rfl) rfl 14 (by decide) q1821 (fun _ h9 => h9) rfl dX4_order_145 ?_
                refine lv_iconst (v := 3) hx hb dX4_order_148 (by decide) ?_
                refine lv_iload_n hx hb dX4_order_149 rfl (lv_at hl 1 rfl) ?_
                refine lv_imul hx hb dX4_order_150 ?_
                refine b_top (nI_mulE (a := 3) (b := j) (c := 3 * j) rfl rfl (by first | omega | rfl)) ?_
                refine lv_iconst (v := 2) hx hb dX4_order_151 (by decide) ?_
                refine lv_iadd hx hb dX4_order_152 ?_
                refine b_top (nI_addE (a := 3 * j) (b := 2) (c := 3 * j + 2) rfl rfl (by first | omega | rfl)) ?_
                refine b_iald hx hb hK (b_at (k := 4) hP rfl) (3 * j + 2) rfl (by omega) (by omega) dX4_order_153 ?_
                obtain ⟨k, hk, ek⟩ := moKept_nat hg7j hnc (agQ_k (by rw [hq]; decide) d_18)
                refine W.eq (g2 := F0 mi_ 154 ls ([.int (wt (3 * j + 2)), .int (nI k), .int 3, .ref a])) (by rw [hq, ek]) ?_
                refine b_calli (br := [[((r 2), .inl (Γ.2.1 0, 523, .inl (va_cpy g sf 0 0 523)))], [((r 9), .inl (Γ.2.1 0, 50, .inl t))], [((r 14), .inl (Γ.2.1 0, 60, .inl wt))], [((r 4), .inl (Γ.2.1 0, 4184, .inl ps))]]) (b_runV ⟨hx, hb, hml, hown, hts⟩ (mt_Mo_does_3 l Γ _ a r i4 gj k (wt (3 * j + 2)) nc hg7j hnc hk) (lw_V q1940 q1942 qs41 q73 q1943) rfl rfl 3 (by decide +kernel) ⟨(Nat.le_of_ble_eq_true rfl), (Nat.le_of_ble_eq_true rfl)⟩ (c_pre hP hD hS hA hK hE [0, 1] rfl rfl ro_nil) (recv_at (q := (RX4, TX4, 16)) hK (b_at (k := 0) hP rfl) rfl) rfl hl.1 rfl (Nat.le_of_ble_eq_true rfl) dX4_order_154 ⟨(Nat.le_of_ble_eq_true rfl), (Nat.le_of_ble_eq_true rfl)⟩) hP hD hS hA [0, 1] [2, 3, 4, 5] rfl rfl rfl (fun r_19 u_19 H locs hw_19 hP hD hS _ => ?_)
                obtain ⟨rfl, rfl⟩ := hw_19
                have hP : WP Γ [[(a, moE r i4)], [((r 0), .inl (Γ.2.1 0, 523, .inl (moDo3 gj k)))], [((r 2), .inl (Γ.2.1 0, 523, .inl (va_cpy g sf 0 0 523)))], [((r 9), .inl (Γ.2.1 0, 50, .inl t))], [((r 14), .inl (Γ.2.1 0, 60, .inl wt))], [((r 4), .inl (Γ.2.1 0, 4184, .inl ps))]] H := hP
                have hD : WD A [[(a, moE r i4)], [((r 0), .inl (Γ.2.1 0, 523, .inl (moDo3 gj k)))], [((r 2), .inl (Γ.2.1 0, 523, .inl (va_cpy g sf 0 0 523)))], [((r 9), .inl (Γ.2.1 0, 50, .inl t))], [((r 14), .inl (Γ.2.1 0, 60, .inl wt))], [((r 4), .inl (Γ.2.1 0, 4184, .inl ps))]] := hD
                rw [show (moDo3 gj k) = (doQ gj (wt (3 * j)) (wt (3 * j + 1)) (wt (3 * j + 2))) from by rw [hq, ek, (doQ_at gj (nI k) (wt (3 * j + 2))).2.2.2.1, nI_clamp (by omega)]] at hP hD
                have hkp := doQ_keep (q := wt (3 * j)) (c := wt (3 * j + 1)) (v := wt (3 * j + 2)) hg7j hg10j hmj d_18
                obtain ⟨hk7, mk, hmk, hk10⟩ := hkp
                refine lv_pop hx hb dX4_order_157 rfl ?_
                refine lv_iinc (v := (nI (j + 1))) (lv' := [(2, .int (nI (j + 1))), (3, .int (agQ gj (wt (3 * j)) (wt (3 * j + 1)) (wt (3 * j + 2)))), (1, .int 1), (0, .ref a)]) hx hb dX4_order_158 hl (k := 1) rfl (nI_addE (a := j) (b := 1) (c := j + 1) rfl rfl (by first | omega | rfl)) (by decide) rfl (fun ls hl => ?_)
                refine lv_goto (tgt := 56) hx hb dX4_order_161 (by decide) ?_
                have hP : WP Γ [[((r 0), .inl (Γ.2.1 0, 523, .inl (doQ gj (wt (3 * j)) (wt (3 * j + 1)) (wt (3 * j + 2)))))], [((r 2), .inl (Γ.2.1 0, 523, .inl (va_cpy g sf 0 0 523)))], [(a, moE r i4)], [((r 9), .inl (Γ.2.1 0, 50, .inl t))], [((r 14), .inl (Γ.2.1 0, 60, .inl wt))], [((r 4), .inl (Γ.2.1 0, 4184, .inl ps))]] H := bP_sel hP [1, 2, 0, 3, 4, 5] rfl
                have hD : WD A [[((r 0), .inl (Γ.2.1 0, 523, .inl (doQ gj (wt (3 * j)) (wt (3 * j + 1)) (wt (3 * j + 2)))))], [((r 2), .inl (Γ.2.1 0, 523, .inl (va_cpy g sf 0 0 523)))], [(a, moE r i4)], [((r 9), .inl (Γ.2.1 0, 50, .inl t))], [((r 14), .inl (Γ.2.1 0, 60, .inl wt))], [((r 4), .inl (Γ.2.1 0, 4184, .inl ps))]] := bD_sel hD [1, 2, 0, 3, 4, 5] rfl rfl
                exact ih (j + 1) (doQ gj (wt (3 * j)) (wt (3 * j + 1)) (wt (3 * j + 2))) mk (by omega) (by omega) hk7 hk10 hmk (by rw [hor, show kn - j = (kn - (j + 1)) + 1 by omega, orF_go d_18]) _ _ _ hP hD hS (lv_sub hl [0, 2, 3] rfl)
              · -- 98 not taken
                have d_18 := Int32.not_le.mp c_18
                rw [show kn - j = (kn - (j + 1)) + 1 by omega, orF_hit d_18] at hor
                rw [hor] at ho
                exact absurd ho (by intro e9; have h9 : (0 : Int32) < agQ gj (wt (3 * j)) (wt (3 * j + 1)) (wt (3 * j + 2)) := d_18; rw [show agQ gj (wt (3 * j)) (wt (3 * j + 1)) (wt (3 * j + 2)) = 0 from e9] at h9; exact absurd h9 (by decide))
            · -- 4
              refine W.eq (g2 := F0 mi_ 93 ls ([.int (wt (3 * j + 2)), .int (wt (3 * j + 1)), .int 4, .ref a])) (by rw [hq]) ?_
              refine b_calli (br := [[((r 2), .inl (Γ.2.1 0, 523, .inl (va_cpy g sf 0 0 523)))], [((r 9), .inl (Γ.2.1 0, 50, .inl t))], [((r 14), .inl (Γ.2.1 0, 60, .inl wt))], [((r 4), .inl (Γ.2.1 0, 4184, .inl ps))]]) (b_runV ⟨hx, hb, hml, hown, hts⟩ (mt_Mo_against_4 l Γ _ a r i4 gj (wt (3 * j + 1)) (wt (3 * j + 2)) nc hg7j hnc) (lw_V q1908 q1910 qs33 q73 q1911) rfl rfl 3 (by decide +kernel) ⟨(Nat.le_of_ble_eq_true rfl), (Nat.le_of_ble_eq_true rfl)⟩ (c_pre hP hD hS hA hK hE [2, 0] rfl rfl ro_nil) (recv_at (q := (RX4, TX4, 16)) hK (b_at (k := 2) hP rfl) rfl) rfl hl.1 rfl (Nat.le_of_ble_eq_true rfl) dX4_order_93 ⟨(Nat.le_of_ble_eq_true rfl), (Nat.le_of_ble_eq_true rfl)⟩) hP hD hS hA [2, 0] [1, 3, 4, 5] rfl rfl rfl (fun r_20 u_20 H locs hw_20 hP hD hS _ => ?_)
              obtain ⟨rfl, rfl⟩ := hw_20
              have hP : WP Γ [[(a, moE r i4)], [((r 0), .inl (Γ.2.1 0, 523, .inl gj))], [((r 2), .inl (Γ.2.1 0, 523, .inl (va_cpy g sf 0 0 523)))], [((r 9), .inl (Γ.2.1 0, 50, .inl t))], [((r 14), .inl (Γ.2.1 0, 60, .inl wt))], [((r 4), .inl (Γ.2.1 0, 4184, .inl ps))]] H := hP
              have hD : WD A [[(a, moE r i4)], [((r 0), .inl (Γ.2.1 0, 523, .inl gj))], [((r 2), .inl (Γ.2.1 0, 523, .inl (va_cpy g sf 0 0 523)))], [((r 9), .inl (Γ.2.1 0, 50, .inl t))], [((r 14), .inl (Γ.2.1 0, 60, .inl wt))], [((r 4), .inl (Γ.2.1 0, 4184, .inl ps))]] := hD
              have hag : agQ gj (wt (3 * j)) (wt (3 * j + 1)) (wt (3 * j + 2)) = (moAg1 gj (wt (3 * j + 1))) := by rw [hq, (agQ_at gj (wt (3 * j + 1)) (wt (3 * j + 2))).2.2.2.2.1]
              refine b_top hag.symm ?_
              refine lv_istore_n (lv' := [(3, .int (agQ gj (wt (3 * j)) (wt (3 * j + 1)) (wt (3 * j + 2)))), (2, .int (nI j)), (1, .int 1), (0, .ref a)]) hx hb dX4_order_96 rfl hl (by decide) rfl (fun ls hl => ?_)
              refine lv_iload_n hx hb dX4_order_97 rfl (lv_at hl 0 rfl) ?_
              refine lv_if_le (tgt := 125) hx hb dX4_order_98 (by decide) (fun c_21 => ?_) (fun c_21 => ?_)
              · -- 98 taken
                have d_21 := Int32.not_lt.mpr c_21
                refine lv_aload_n hx hb dX4_order_125 rfl (lv_at hl 3 rfl) ?_
                refine lv_aload_n hx hb dX4_order_126 rfl (lv_at hl 3 rfl) ?_
                refine b_get (C := RX4) (T := TX4) (N := 16) (v := .ref (r 14)) hx hb hts in_X4 hown hK (b_at (k := 0) hP rfl) rfl 14 (by decide) q1821 (fun _ h9 => h9) rfl dX4_order_127 ?_
                refine lv_iconst (v := 3) hx hb dX4_order_130 (by decide) ?_
                refine lv_iload_n hx hb dX4_order_131 rfl (lv_at hl 1 rfl) ?_
                refine lv_imul hx hb dX4_order_132 ?_
                refine b_top (nI_mulE (a := 3) (b := j) (c := 3 * j) rfl rfl (by first | omega | rfl)) ?_
                refine b_iald hx hb hK (b_at (k := 4) hP rfl) (3 * j) rfl (by omega) (by omega) dX4_order_133 ?_
                refine lv_aload_n hx hb dX4_order_134 rfl (lv_at hl 3 rfl) ?_
                refine b_get (C := RX4) (T := TX4) (N := 16) (v := .ref (r 14)) hx hb hts in_X4 hown hK (b_at (k := 0) hP rfl) rfl 14 (by decide) q1821 (fun _ h9 => h9) rfl dX4_order_135 ?_
                refine lv_iconst (v := 3) hx hb dX4_order_138 (by decide) ?_
                refine lv_iload_n hx hb dX4_order_139 rfl (lv_at hl 1 rfl) ?_
                refine lv_imul hx hb dX4_order_140 ?_
                refine b_top (nI_mulE (a := 3) (b := j) (c := 3 * j) rfl rfl (by first | omega | rfl)) ?_
                refine lv_iconst (v := 1) hx hb dX4_order_141 (by decide) ?_
                refine lv_iadd hx hb dX4_order_142 ?_
                refine b_top (nI_addE (a := 3 * j) (b := 1) (c := 3 * j + 1) rfl rfl (by first | omega | rfl)) ?_
                refine b_iald hx hb hK (b_at (k := 4) hP rfl) (3 * j + 1) rfl (by omega) (by omega) dX4_order_143 ?_
                refine lv_aload_n hx hb dX4_order_144 rfl (lv_at hl 3 rfl) ?_
                refine b_get (C := RX4) (T := TX4) (N := 16) (v := .ref (r 14)) hx hb hts in_X4 hown hK (b_at (k := 0) hP rfl) rfl 14 (by decide) q1821 (fun _ h9 => h9) rfl dX4_order_145 ?_
                refine lv_iconst (v := 3) hx hb dX4_order_148 (by decide) ?_
                refine lv_iload_n hx hb dX4_order_149 rfl (lv_at hl 1 rfl) ?_
                refine lv_imul hx hb dX4_order_150 ?_
                refine b_top (nI_mulE (a := 3) (b := j) (c := 3 * j) rfl rfl (by first | omega | rfl)) ?_
                refine lv_iconst (v := 2) hx hb dX4_order_151 (by decide) ?_
                refine lv_iadd hx hb dX4_order_152 ?_
                refine b_top (nI_addE (a := 3 * j) (b := 2) (c := 3 * j + 2) rfl rfl (by first | omega | rfl)) ?_
                refine b_iald hx hb hK (b_at (k := 4) hP rfl) (3 * j + 2) rfl (by omega) (by omega) dX4_order_153 ?_
                obtain ⟨k, hk, ek⟩ := moKept_nat hg7j hnc (agQ_k (by rw [hq]; decide) d_21)
                refine W.eq (g2 := F0 mi_ 154 ls ([.int (wt (3 * j + 2)), .int (nI k), .int 4, .ref a])) (by rw [hq, ek]) ?_
                refine b_calli (br := [[((r 2), .inl (Γ.2.1 0, 523, .inl (va_cpy g sf 0 0 523)))], [((r 9), .inl (Γ.2.1 0, 50, .inl t))], [((r 14), .inl (Γ.2.1 0, 60, .inl wt))], [((r 4), .inl (Γ.2.1 0, 4184, .inl ps))]]) (b_runV ⟨hx, hb, hml, hown, hts⟩ (mt_Mo_does_4 l Γ _ a r i4 gj k (wt (3 * j + 2)) nc hg7j hnc hk) (lw_V q1940 q1942 qs41 q73 q1943) rfl rfl 3 (by decide +kernel) ⟨(Nat.le_of_ble_eq_true rfl), (Nat.le_of_ble_eq_true rfl)⟩ (c_pre hP hD hS hA hK hE [0, 1] rfl rfl ro_nil) (recv_at (q := (RX4, TX4, 16)) hK (b_at (k := 0) hP rfl) rfl) rfl hl.1 rfl (Nat.le_of_ble_eq_true rfl) dX4_order_154 ⟨(Nat.le_of_ble_eq_true rfl), (Nat.le_of_ble_eq_true rfl)⟩) hP hD hS hA [0, 1] [2, 3, 4, 5] rfl rfl rfl (fun r_22 u_22 H locs hw_22 hP hD hS _ => ?_)
                obtain ⟨rfl, rfl⟩ := hw_22
                have hP : WP Γ [[(a, moE r i4)], [((r 0), .inl (Γ.2.1 0, 523, .inl (moDo4 gj k)))], [((r 2), .inl (Γ.2.1 0, 523, .inl (va_cpy g sf 0 0 523)))], [((r 9), .inl (Γ.2.1 0, 50, .inl t))], [((r 14), .inl (Γ.2.1 0, 60, .inl wt))], [((r 4), .inl (Γ.2.1 0, 4184, .inl ps))]] H := hP
                have hD : WD A [[(a, moE r i4)], [((r 0), .inl (Γ.2.1 0, 523, .inl (moDo4 gj k)))], [((r 2), .inl (Γ.2.1 0, 523, .inl (va_cpy g sf 0 0 523)))], [((r 9), .inl (Γ.2.1 0, 50, .inl t))], [((r 14), .inl (Γ.2.1 0, 60, .inl wt))], [((r 4), .inl (Γ.2.1 0, 4184, .inl ps))]] := hD
                rw [show (moDo4 gj k) = (doQ gj (wt (3 * j)) (wt (3 * j + 1)) (wt (3 * j + 2))) from by rw [hq, ek, (doQ_at gj (nI k) (wt (3 * j + 2))).2.2.2.2.1, nI_clamp (by omega)]] at hP hD
                have hkp := doQ_keep (q := wt (3 * j)) (c := wt (3 * j + 1)) (v := wt (3 * j + 2)) hg7j hg10j hmj d_21
                obtain ⟨hk7, mk, hmk, hk10⟩ := hkp
                refine lv_pop hx hb dX4_order_157 rfl ?_
                refine lv_iinc (v := (nI (j + 1))) (lv' := [(2, .int (nI (j + 1))), (3, .int (agQ gj (wt (3 * j)) (wt (3 * j + 1)) (wt (3 * j + 2)))), (1, .int 1), (0, .ref a)]) hx hb dX4_order_158 hl (k := 1) rfl (nI_addE (a := j) (b := 1) (c := j + 1) rfl rfl (by first | omega | rfl)) (by decide) rfl (fun ls hl => ?_)
                refine lv_goto (tgt := 56) hx hb dX4_order_161 (by decide) ?_
                have hP : WP Γ [[((r 0), .inl (Γ.2.1 0, 523, .inl (doQ gj (wt (3 * j)) (wt (3 * j + 1)) (wt (3 * j + 2)))))], [((r 2), .inl (Γ.2.1 0, 523, .inl (va_cpy g sf 0 0 523)))], [(a, moE r i4)], [((r 9), .inl (Γ.2.1 0, 50, .inl t))], [((r 14), .inl (Γ.2.1 0, 60, .inl wt))], [((r 4), .inl (Γ.2.1 0, 4184, .inl ps))]] H := bP_sel hP [1, 2, 0, 3, 4, 5] rfl
                have hD : WD A [[((r 0), .inl (Γ.2.1 0, 523, .inl (doQ gj (wt (3 * j)) (wt (3 * j + 1)) (wt (3 * j + 2)))))], [((r 2), .inl (Γ.2.1 0, 523, .inl (va_cpy g sf 0 0 523)))], [(a, moE r i4)], [((r 9), .inl (Γ.2.1 0, 50, .inl t))], [((r 14), .inl (Γ.2.1 0, 60, .inl wt))], [((r 4), .inl (Γ.2.1 0, 4184, .inl ps))]] := bD_sel hD [1, 2, 0, 3, 4, 5] rfl rfl
                exact ih (j + 1) (doQ gj (wt (3 * j)) (wt (3 * j + 1)) (wt (3 * j + 2))) mk (by omega) (by omega) hk7 hk10 hmk (by rw [hor, show kn - j = (kn - (j + 1)) + 1 by omega, orF_go d_21]) _ _ _ hP hD hS (lv_sub hl [0, 2, 3] rfl)
              · -- 98 not taken
                have d_21 := Int32.not_le.mp c_21
                rw [show kn - j = (kn - (j + 1)) + 1 by omega, orF_hit d_21] at hor
                rw [hor] at ho
                exact absurd ho (by intro e9; have h9 : (0 : Int32) < agQ gj (wt (3 * j)) (wt (3 * j + 1)) (wt (3 * j + 2)) := d_21; rw [show agQ gj (wt (3 * j)) (wt (3 * j + 1)) (wt (3 * j + 2)) = 0 from e9] at h9; exact absurd h9 (by decide))
            · -- 5
              refine W.eq (g2 := F0 mi_ 93 ls ([.int (wt (3 * j + 2)), .int (wt (3 * j + 1)), .int 5, .ref a])) (by rw [hq]) ?_
              refine b_calli (br := [[((r 2), .inl (Γ.2.1 0, 523, .inl (va_cpy g sf 0 0 523)))], [((r 9), .inl (Γ.2.1 0, 50, .inl t))], [((r 14), .inl (Γ.2.1 0, 60, .inl wt))], [((r 4), .inl (Γ.2.1 0, 4184, .inl ps))]]) (b_runV ⟨hx, hb, hml, hown, hts⟩ (mt_Mo_against_5 l Γ _ a r i4 gj (wt (3 * j + 1)) (wt (3 * j + 2)) mj hg10j (by omega)) (lw_V q1908 q1910 qs33 q73 q1911) rfl rfl 3 (by decide +kernel) ⟨(Nat.le_of_ble_eq_true rfl), (Nat.le_of_ble_eq_true rfl)⟩ (c_pre hP hD hS hA hK hE [2, 0] rfl rfl ro_nil) (recv_at (q := (RX4, TX4, 16)) hK (b_at (k := 2) hP rfl) rfl) rfl hl.1 rfl (Nat.le_of_ble_eq_true rfl) dX4_order_93 ⟨(Nat.le_of_ble_eq_true rfl), (Nat.le_of_ble_eq_true rfl)⟩) hP hD hS hA [2, 0] [1, 3, 4, 5] rfl rfl rfl (fun r_23 u_23 H locs hw_23 hP hD hS _ => ?_)
              obtain ⟨rfl, rfl⟩ := hw_23
              have hP : WP Γ [[(a, moE r i4)], [((r 0), .inl (Γ.2.1 0, 523, .inl gj))], [((r 2), .inl (Γ.2.1 0, 523, .inl (va_cpy g sf 0 0 523)))], [((r 9), .inl (Γ.2.1 0, 50, .inl t))], [((r 14), .inl (Γ.2.1 0, 60, .inl wt))], [((r 4), .inl (Γ.2.1 0, 4184, .inl ps))]] H := hP
              have hD : WD A [[(a, moE r i4)], [((r 0), .inl (Γ.2.1 0, 523, .inl gj))], [((r 2), .inl (Γ.2.1 0, 523, .inl (va_cpy g sf 0 0 523)))], [((r 9), .inl (Γ.2.1 0, 50, .inl t))], [((r 14), .inl (Γ.2.1 0, 60, .inl wt))], [((r 4), .inl (Γ.2.1 0, 4184, .inl ps))]] := hD
              have hag : agQ gj (wt (3 * j)) (wt (3 * j + 1)) (wt (3 * j + 2)) = (moAg5 gj (wt (3 * j + 1)) (wt (3 * j + 2)) mj) := by rw [hq, (agQ_at gj (wt (3 * j + 1)) (wt (3 * j + 2))).2.2.2.2.2, hg10j, nI_clamp (by omega)]
              refine b_top hag.symm ?_
              refine lv_istore_n (lv' := [(3, .int (agQ gj (wt (3 * j)) (wt (3 * j + 1)) (wt (3 * j + 2)))), (2, .int (nI j)), (1, .int 1), (0, .ref a)]) hx hb dX4_order_96 rfl hl (by decide) rfl (fun ls hl => ?_)
              refine lv_iload_n hx hb dX4_order_97 rfl (lv_at hl 0 rfl) ?_
              refine lv_if_le (tgt := 125) hx hb dX4_order_98 (by decide) (fun c_24 => ?_) (fun c_24 => ?_)
              · -- 98 taken
                have d_24 := Int32.not_lt.mpr c_24
                refine lv_aload_n hx hb dX4_order_125 rfl (lv_at hl 3 rfl) ?_
                refine lv_aload_n hx hb dX4_order_126 rfl (lv_at hl 3 rfl) ?_
                refine b_get (C := RX4) (T := TX4) (N := 16) (v := .ref (r 14)) hx hb hts in_X4 hown hK (b_at (k := 0) hP rfl) rfl 14 (by decide) q1821 (fun _ h9 => h9) rfl dX4_order_127 ?_
                refine lv_iconst (v := 3) hx hb dX4_order_130 (by decide) ?_
                refine lv_iload_n hx hb dX4_order_131 rfl (lv_at hl 1 rfl) ?_
                refine lv_imul hx hb dX4_order_132 ?_
                refine b_top (nI_mulE (a := 3) (b := j) (c := 3 * j) rfl rfl (by first | omega | rfl)) ?_
                refine b_iald hx hb hK (b_at (k := 4) hP rfl) (3 * j) rfl (by omega) (by omega) dX4_order_133 ?_
                refine lv_aload_n hx hb dX4_order_134 rfl (lv_at hl 3 rfl) ?_
                refine b_get (C := RX4) (T := TX4) (N := 16) (v := .ref (r 14)) hx hb hts in_X4 hown hK (b_at (k := 0) hP rfl) rfl 14 (by decide) q1821 (fun _ h9 => h9) rfl dX4_order_135 ?_
                refine lv_iconst (v := 3) hx hb dX4_order_138 (by decide) ?_
                refine lv_iload_n hx hb dX4_order_139 rfl (lv_at hl 1 rfl) ?_
                refine lv_imul hx hb dX4_order_140 ?_
                refine b_top (nI_mulE (a := 3) (b := j) (c := 3 * j) rfl rfl (by first | omega | rfl)) ?_
                refine lv_iconst (v := 1) hx hb dX4_order_141 (by decide) ?_
                refine lv_iadd hx hb dX4_order_142 ?_
                refine b_top (nI_addE (a := 3 * j) (b := 1) (c := 3 * j + 1) rfl rfl (by first | omega | rfl)) ?_
                refine b_iald hx hb hK (b_at (k := 4) hP rfl) (3 * j + 1) rfl (by omega) (by omega) dX4_order_143 ?_
                refine lv_aload_n hx hb dX4_order_144 rfl (lv_at hl 3 rfl) ?_
                refine b_get (C := RX4) (T := TX4) (N := 16) (v := .ref (r 14)) hx hb hts in_X4 hown hK (b_at (k := 0) hP rfl) rfl 14 (by decide) q1821 (fun _ h9 => h9) rfl dX4_order_145 ?_
                refine lv_iconst (v := 3) hx hb dX4_order_148 (by decide) ?_
                refine lv_iload_n hx hb dX4_order_149 rfl (lv_at hl 1 rfl) ?_
                refine lv_imul hx hb dX4_order_150 ?_
                refine b_top (nI_mulE (a := 3) (b := j) (c := 3 * j) rfl rfl (by first | omega | rfl)) ?_
                refine lv_iconst (v := 2) hx hb dX4_order_151 (by decide) ?_
                refine lv_iadd hx hb dX4_order_152 ?_
                refine b_top (nI_addE (a := 3 * j) (b := 2) (c := 3 * j + 2) rfl rfl (by first | omega | rfl)) ?_
                refine b_iald hx hb hK (b_at (k := 4) hP rfl) (3 * j + 2) rfl (by omega) (by omega) dX4_order_153 ?_
                refine W.eq (g2 := F0 mi_ 154 ls ([.int (wt (3 * j + 2)), .int (wt (3 * j + 1)), .int 5, .ref a])) (by rw [hq]) ?_
                refine b_calli (br := [[((r 2), .inl (Γ.2.1 0, 523, .inl (va_cpy g sf 0 0 523)))], [((r 9), .inl (Γ.2.1 0, 50, .inl t))], [((r 14), .inl (Γ.2.1 0, 60, .inl wt))], [((r 4), .inl (Γ.2.1 0, 4184, .inl ps))]]) (b_runV ⟨hx, hb, hml, hown, hts⟩ (mt_Mo_does_5 l Γ _ a r i4 gj (wt (3 * j + 1)) (wt (3 * j + 2)) mj hg10j (by omega)) (lw_V q1940 q1942 qs41 q73 q1943) rfl rfl 3 (by decide +kernel) ⟨(Nat.le_of_ble_eq_true rfl), (Nat.le_of_ble_eq_true rfl)⟩ (c_pre hP hD hS hA hK hE [0, 1] rfl rfl ro_nil) (recv_at (q := (RX4, TX4, 16)) hK (b_at (k := 0) hP rfl) rfl) rfl hl.1 rfl (Nat.le_of_ble_eq_true rfl) dX4_order_154 ⟨(Nat.le_of_ble_eq_true rfl), (Nat.le_of_ble_eq_true rfl)⟩) hP hD hS hA [0, 1] [2, 3, 4, 5] rfl rfl rfl (fun r_25 u_25 H locs hw_25 hP hD hS _ => ?_)
                obtain ⟨rfl, rfl⟩ := hw_25
                have hP : WP Γ [[(a, moE r i4)], [((r 0), .inl (Γ.2.1 0, 523, .inl (moRows gj (wt (3 * j + 1)) (wt (3 * j + 2)) mj)))], [((r 2), .inl (Γ.2.1 0, 523, .inl (va_cpy g sf 0 0 523)))], [((r 9), .inl (Γ.2.1 0, 50, .inl t))], [((r 14), .inl (Γ.2.1 0, 60, .inl wt))], [((r 4), .inl (Γ.2.1 0, 4184, .inl ps))]] H := hP
                have hD : WD A [[(a, moE r i4)], [((r 0), .inl (Γ.2.1 0, 523, .inl (moRows gj (wt (3 * j + 1)) (wt (3 * j + 2)) mj)))], [((r 2), .inl (Γ.2.1 0, 523, .inl (va_cpy g sf 0 0 523)))], [((r 9), .inl (Γ.2.1 0, 50, .inl t))], [((r 14), .inl (Γ.2.1 0, 60, .inl wt))], [((r 4), .inl (Γ.2.1 0, 4184, .inl ps))]] := hD
                rw [show (moRows gj (wt (3 * j + 1)) (wt (3 * j + 2)) mj) = (doQ gj (wt (3 * j)) (wt (3 * j + 1)) (wt (3 * j + 2))) from by rw [hq, (doQ_at gj (wt (3 * j + 1)) (wt (3 * j + 2))).2.2.2.2.2, hg10j, nI_clamp (by omega)]] at hP hD
                have hkp := doQ_keep (q := wt (3 * j)) (c := wt (3 * j + 1)) (v := wt (3 * j + 2)) hg7j hg10j hmj d_24
                obtain ⟨hk7, mk, hmk, hk10⟩ := hkp
                refine lv_pop hx hb dX4_order_157 rfl ?_
                refine lv_iinc (v := (nI (j + 1))) (lv' := [(2, .int (nI (j + 1))), (3, .int (agQ gj (wt (3 * j)) (wt (3 * j + 1)) (wt (3 * j + 2)))), (1, .int 1), (0, .ref a)]) hx hb dX4_order_158 hl (k := 1) rfl (nI_addE (a := j) (b := 1) (c := j + 1) rfl rfl (by first | omega | rfl)) (by decide) rfl (fun ls hl => ?_)
                refine lv_goto (tgt := 56) hx hb dX4_order_161 (by decide) ?_
                have hP : WP Γ [[((r 0), .inl (Γ.2.1 0, 523, .inl (doQ gj (wt (3 * j)) (wt (3 * j + 1)) (wt (3 * j + 2)))))], [((r 2), .inl (Γ.2.1 0, 523, .inl (va_cpy g sf 0 0 523)))], [(a, moE r i4)], [((r 9), .inl (Γ.2.1 0, 50, .inl t))], [((r 14), .inl (Γ.2.1 0, 60, .inl wt))], [((r 4), .inl (Γ.2.1 0, 4184, .inl ps))]] H := bP_sel hP [1, 2, 0, 3, 4, 5] rfl
                have hD : WD A [[((r 0), .inl (Γ.2.1 0, 523, .inl (doQ gj (wt (3 * j)) (wt (3 * j + 1)) (wt (3 * j + 2)))))], [((r 2), .inl (Γ.2.1 0, 523, .inl (va_cpy g sf 0 0 523)))], [(a, moE r i4)], [((r 9), .inl (Γ.2.1 0, 50, .inl t))], [((r 14), .inl (Γ.2.1 0, 60, .inl wt))], [((r 4), .inl (Γ.2.1 0, 4184, .inl ps))]] := bD_sel hD [1, 2, 0, 3, 4, 5] rfl rfl
                exact ih (j + 1) (doQ gj (wt (3 * j)) (wt (3 * j + 1)) (wt (3 * j + 2))) mk (by omega) (by omega) hk7 hk10 hmk (by rw [hor, show kn - j = (kn - (j + 1)) + 1 by omega, orF_go d_24]) _ _ _ hP hD hS (lv_sub hl [0, 2, 3] rfl)
              · -- 98 not taken
                have d_24 := Int32.not_le.mp c_24
                rw [show kn - j = (kn - (j + 1)) + 1 by omega, orF_hit d_24] at hor
                rw [hor] at ho
                exact absurd ho (by intro e9; have h9 : (0 : Int32) < agQ gj (wt (3 * j)) (wt (3 * j + 1)) (wt (3 * j + 2)) := d_24; rw [show agQ gj (wt (3 * j)) (wt (3 * j + 1)) (wt (3 * j + 2)) = 0 from e9] at h9; exact absurd h9 (by decide))
      exact loop_5 ((kn - 0) + 1) 0 g m0 (Nat.lt_succ_self _) (Nat.zero_le _) hg7 hg10 hm0 rfl _ _ _ hP hD hS (lv_sub hl [0, 1, 2] rfl)
    · -- 32 not taken
      have n_3 : 1 = 0 := (nI_eq (by omega) (by omega)).mp (show nI 1 = nI 0 from c_3)
      exact absurd n_3 (by omega)
set_option maxHeartbeats 4000000 in
set_option maxRecDepth 100000 in
theorem mt_Mo_order_ref (l : Launch) (Γ : GE) (sz : Nat) (a : Nat) (r : Nat → Nat) (i : Nat → Int32) (g : Nat → Int32) (t : Nat → Int32) (n : Nat) (v : Int32) (w : Nat → Int32) (sf : Nat → Int32) (ps : Nat → Int32) (pn : Nat) (nc : Nat) (m0 : Nat) (sp : Nat) (v2 : Int32) (kn : Nat) (wt : Nat → Int32) (h10 : i 10 = nI n) (hn : n ≤ 50) (h12 : i 12 = v) (h5 : i 5 = nI pn) (hpn : pn ≤ 8) (hg7 : g 7 = nI nc) (hnc : nc ≤ 8) (hg10 : g 10 = nI m0) (hm0 : m0 ≤ 4) (hkn : kn ≤ 18) (hkd : ∀ j, j < kn → wt (3 * j) = 0 ∨ wt (3 * j) = 1 ∨ wt (3 * j) = 2 ∨ wt (3 * j) = 3 ∨ wt (3 * j) = 4 ∨ wt (3 * j) = 5) (htx : textR t n v w = (1, sp, v2, kn, wt)) (ho : 0 < (orF wt kn 0 g).1) : KM l yX4_order cX4_order 4 (some FieldType.int) Γ 8 174 0 0 [.ref a] [[(a, moE r i)], [((r 0), .inl (Γ.2.1 0, 523, .inl g))], [((r 9), .inl (Γ.2.1 0, 50, .inl t))], [((r 14), .inl (Γ.2.1 0, 60, .inl w))], [((r 2), .inl (Γ.2.1 0, 523, .inl sf))], [((r 4), .inl (Γ.2.1 0, 4184, .inl ps))]] [] sz (Qi Γ (fun r_ u_ => ∃ i2 : Nat → Int32, i2 7 = 2 ∧ i2 13 = -1 ∧ i2 10 = 0 ∧ i2 3 = i 3 ∧ i2 5 = i 5 ∧ i2 6 = (orF wt kn 0 g).1 ∧ r_ = 0 ∧ u_ = [[(a, moE r i2)], [((r 0), .inl (Γ.2.1 0, 523, .inl (va_cpy (va_cpy g sf 0 0 523) (orF wt kn 0 g).2 0 0 523)))], [((r 9), .inl (Γ.2.1 0, 50, .inl t))], [((r 14), .inl (Γ.2.1 0, 60, .inl wt))], [((r 2), .inl (Γ.2.1 0, 523, .inl (va_cpy g sf 0 0 523)))], [((r 4), .inl (Γ.2.1 0, 4184, .inl ps))]])) := by
  refine K_intro (by decide) (Nat.le_of_ble_eq_true rfl) ?_
  intro pr_ ev_ s mi_ below meth cd_ A ls hx hb hr hml hown hts hlocks hname hK hE hRo hP hD hA hS hsz hl
  have hl : lv_has ls 4 [(0, .ref a)] := hl
  have hown : s.vm.findClass RX4 = some mi_.cls := hown
  refine lv_aload_n hx hb dX4_order_0 rfl (lv_at hl 0 rfl) ?_
  refine lv_iconst (v := 0) hx hb dX4_order_1 (by decide) ?_
  refine b_putM (C := RX4) (T := TX4) (N := 16) (ty := .int) (vv := 0) hx hb hts in_X4 tyX4_ok nmX4 hown hK hP hD hS 0 rfl rfl 7 (by decide) q1814 (fun _ h9 => h9) rfl (by decide +kernel) rfl rfl (Nat.le_of_ble_eq_true rfl) (moL_set7 _ _ _) dX4_order_2 (fun H locs hP hD hS => ?_)
  have hP : WP Γ [[(a, moE r (upd i 7 0))], [((r 0), .inl (Γ.2.1 0, 523, .inl g))], [((r 9), .inl (Γ.2.1 0, 50, .inl t))], [((r 14), .inl (Γ.2.1 0, 60, .inl w))], [((r 2), .inl (Γ.2.1 0, 523, .inl sf))], [((r 4), .inl (Γ.2.1 0, 4184, .inl ps))]] H := hP
  have hD : WD A [[(a, moE r (upd i 7 0))], [((r 0), .inl (Γ.2.1 0, 523, .inl g))], [((r 9), .inl (Γ.2.1 0, 50, .inl t))], [((r 14), .inl (Γ.2.1 0, 60, .inl w))], [((r 2), .inl (Γ.2.1 0, 523, .inl sf))], [((r 4), .inl (Γ.2.1 0, 4184, .inl ps))]] := hD
  refine lv_aload_n hx hb dX4_order_5 rfl (lv_at hl 0 rfl) ?_
  refine b_calli (br := [[((r 0), .inl (Γ.2.1 0, 523, .inl g))], [((r 2), .inl (Γ.2.1 0, 523, .inl sf))], [((r 4), .inl (Γ.2.1 0, 4184, .inl ps))]]) (b_runV ⟨hx, hb, hml, hown, hts⟩ (mt_Mo_isText l Γ _ a r (upd i 7 0) t n v w (by first | exact h10 | simp [upd, h10]) (by first | exact hn | omega) (by first | exact h12 | simp [upd, h12])) (lw_V q2147 q2149 qs52 q73 q2150) rfl rfl 0 (by decide +kernel) ⟨(Nat.le_of_ble_eq_true rfl), (Nat.le_of_ble_eq_true rfl)⟩ (c_pre hP hD hS hA hK hE [0, 2, 3] rfl rfl ro_nil) (recv_at (q := (RX4, TX4, 16)) hK (b_at (k := 0) hP rfl) rfl) rfl hl.1 rfl (Nat.le_of_ble_eq_true rfl) dX4_order_6 ⟨(Nat.le_of_ble_eq_true rfl), (Nat.le_of_ble_eq_true rfl)⟩) hP hD hS hA [0, 2, 3] [1, 4, 5] rfl rfl rfl (fun r_1 u_1 H locs hw_1 hP hD hS _ => ?_)
  obtain ⟨er_1, eu_1⟩ := hw_1
  rw [htx] at er_1 eu_1
  dsimp only at er_1 eu_1
  subst er_1
  subst eu_1
  have hP : WP Γ [[(a, moE r (upd (upd (upd (upd i 7 0) 15 (nI kn)) 12 v2) 11 (nI sp)))], [((r 9), .inl (Γ.2.1 0, 50, .inl t))], [((r 14), .inl (Γ.2.1 0, 60, .inl wt))], [((r 0), .inl (Γ.2.1 0, 523, .inl g))], [((r 2), .inl (Γ.2.1 0, 523, .inl sf))], [((r 4), .inl (Γ.2.1 0, 4184, .inl ps))]] H := hP
  have hD : WD A [[(a, moE r (upd (upd (upd (upd i 7 0) 15 (nI kn)) 12 v2) 11 (nI sp)))], [((r 9), .inl (Γ.2.1 0, 50, .inl t))], [((r 14), .inl (Γ.2.1 0, 60, .inl wt))], [((r 0), .inl (Γ.2.1 0, 523, .inl g))], [((r 2), .inl (Γ.2.1 0, 523, .inl sf))], [((r 4), .inl (Γ.2.1 0, 4184, .inl ps))]] := hD
  obtain ⟨i3, e_i3, f15, f11, f7, f3, f5, f6⟩ : ∃ z : Nat → Int32, z = (upd (upd (upd (upd i 7 0) 15 (nI kn)) 12 v2) 11 (nI sp)) ∧ z 15 = nI kn ∧ z 11 = nI sp ∧ z 7 = 0 ∧ z 3 = i 3 ∧ z 5 = i 5 ∧ z 6 = i 6 := ⟨_, rfl, (by simp [upd]), (by simp [upd]), (by simp [upd]), (by simp [upd]), (by simp [upd]), (by simp [upd])⟩
  rw [← e_i3] at hP hD
  refine lv_istore_n (lv' := [(1, .int (nI 1)), (0, .ref a)]) hx hb dX4_order_9 rfl hl (by decide) rfl (fun ls hl => ?_)
  refine lv_aload_n hx hb dX4_order_10 rfl (lv_at hl 1 rfl) ?_
  refine lv_iload_n hx hb dX4_order_11 rfl (lv_at hl 0 rfl) ?_
  refine lv_if_eq (tgt := 19) hx hb dX4_order_12 (by decide) (fun c_2 => ?_) (fun c_2 => ?_)
  · -- 12 taken
    have n_2 : 1 = 0 := (nI_eq (by omega) (by omega)).mp (show nI 1 = nI 0 from c_2)
    exact absurd n_2 (by omega)
  · -- 12 not taken
    have n_2 : ¬ (1 = 0) := fun hh7 => c_2 ((nI_eq (a := 1) (b := 0) (by omega) (by omega)).mpr hh7)
    refine lv_iconst (v := (-1)) hx hb dX4_order_15 (by decide) ?_
    refine lv_goto (tgt := 23) hx hb dX4_order_16 (by decide) ?_
    refine b_putM (C := RX4) (T := TX4) (N := 16) (ty := .int) (vv := (-1)) hx hb hts in_X4 tyX4_ok nmX4 hown hK hP hD hS 0 rfl rfl 13 (by decide) q1820 (fun _ h9 => h9) rfl (by decide +kernel) rfl rfl (Nat.le_of_ble_eq_true rfl) (moL_set13 _ _ _) dX4_order_23 (fun H locs hP hD hS => ?_)
    have hP : WP Γ [[(a, moE r (upd i3 13 (-1)))], [((r 9), .inl (Γ.2.1 0, 50, .inl t))], [((r 14), .inl (Γ.2.1 0, 60, .inl wt))], [((r 0), .inl (Γ.2.1 0, 523, .inl g))], [((r 2), .inl (Γ.2.1 0, 523, .inl sf))], [((r 4), .inl (Γ.2.1 0, 4184, .inl ps))]] H := hP
    have hD : WD A [[(a, moE r (upd i3 13 (-1)))], [((r 9), .inl (Γ.2.1 0, 50, .inl t))], [((r 14), .inl (Γ.2.1 0, 60, .inl wt))], [((r 0), .inl (Γ.2.1 0, 523, .inl g))], [((r 2), .inl (Γ.2.1 0, 523, .inl sf))], [((r 4), .inl (Γ.2.1 0, 4184, .inl ps))]] := hD
    refine lv_aload_n hx hb dX4_order_26 rfl (lv_at hl 1 rfl) ?_
    refine lv_iconst (v := 0) hx hb dX4_order_27 (by decide) ?_
    refine b_putM (C := RX4) (T := TX4) (N := 16) (ty := .int) (vv := 0) hx hb hts in_X4 tyX4_ok nmX4 hown hK hP hD hS 0 rfl rfl 10 (by decide) q1817 (fun _ h9 => h9) rfl (by decide +kernel) rfl rfl (Nat.le_of_ble_eq_true rfl) (moL_set10 _ _ _) dX4_order_28 (fun H locs hP hD hS => ?_)
    have hP : WP Γ [[(a, moE r (upd (upd i3 13 (-1)) 10 0))], [((r 9), .inl (Γ.2.1 0, 50, .inl t))], [((r 14), .inl (Γ.2.1 0, 60, .inl wt))], [((r 0), .inl (Γ.2.1 0, 523, .inl g))], [((r 2), .inl (Γ.2.1 0, 523, .inl sf))], [((r 4), .inl (Γ.2.1 0, 4184, .inl ps))]] H := hP
    have hD : WD A [[(a, moE r (upd (upd i3 13 (-1)) 10 0))], [((r 9), .inl (Γ.2.1 0, 50, .inl t))], [((r 14), .inl (Γ.2.1 0, 60, .inl wt))], [((r 0), .inl (Γ.2.1 0, 523, .inl g))], [((r 2), .inl (Γ.2.1 0, 523, .inl sf))], [((r 4), .inl (Γ.2.1 0, 4184, .inl ps))]] := hD
    refine lv_iload_n hx hb dX4_order_31 rfl (lv_at hl 0 rfl) ?_
    refine lv_if_ne (tgt := 41) hx hb dX4_order_32 (by decide) (fun c_3 => ?_) (fun c_3 => ?_)
    · -- 32 taken
      have n_3 : ¬ (1 = 0) := fun hh7 => c_3 ((nI_eq (a := 1) (b := 0) (by omega) (by omega)).mpr hh7)
      obtain ⟨i4, e_i4, g15, g13, g10, g7, g3, g5, g6⟩ : ∃ z : Nat → Int32, z = (upd (upd i3 13 (-1)) 10 0) ∧ z 15 = nI kn ∧ z 13 = -1 ∧ z 10 = 0 ∧ z 7 = 0 ∧ z 3 = i 3 ∧ z 5 = i 5 ∧ z 6 = i 6 := ⟨_, rfl, (by simp [upd, f3, f5, f6, f15, f11, f7]), (by simp [upd, f3, f5, f6, f15, f11, f7]), (by simp [upd, f3, f5, f6, f15, f11, f7]), (by simp [upd, f3, f5, f6, f15, f11, f7]), (by simp [upd, f3, f5, f6, f15, f11, f7]), (by simp [upd, f3, f5, f6, f15, f11, f7]), (by simp [upd, f3, f5, f6, f15, f11, f7])⟩
      rw [← e_i4] at hP hD
      refine lv_aload_n hx hb dX4_order_41 rfl (lv_at hl 1 rfl) ?_
      refine b_get (C := RX4) (T := TX4) (N := 16) (v := .ref (r 0)) hx hb hts in_X4 hown hK (b_at (k := 0) hP rfl) rfl 0 (by decide) q1807 (fun _ h9 => h9) rfl dX4_order_42 ?_
      refine lv_iconst (v := 0) hx hb dX4_order_45 (by decide) ?_
      refine lv_aload_n hx hb dX4_order_46 rfl (lv_at hl 1 rfl) ?_
      refine b_get (C := RX4) (T := TX4) (N := 16) (v := .ref (r 2)) hx hb hts in_X4 hown hK (b_at (k := 0) hP rfl) rfl 2 (by decide) q1809 (fun _ h9 => h9) rfl dX4_order_47 ?_
      refine lv_iconst (v := 0) hx hb dX4_order_50 (by decide) ?_
      refine b_callv (br := [[(a, moE r i4)], [((r 9), .inl (Γ.2.1 0, 50, .inl t))], [((r 14), .inl (Γ.2.1 0, 60, .inl wt))], [((r 4), .inl (Γ.2.1 0, 4184, .inl ps))]]) (b_runS ⟨hx, hb, hml, hown, hts⟩ (mt_Mo_copies l Γ _ (r 0) (r 2) g sf 523 523 0 0 (by omega) (by omega) (by omega)) (lw_S q1864 q1865 q73 q1866) rfl rfl 4 (by decide +kernel) ⟨(Nat.le_of_ble_eq_true rfl), (Nat.le_of_ble_eq_true rfl)⟩ (c_pre hP hD hS hA hK hE [3, 4] rfl rfl ro_nil) rfl hl.1 rfl (Nat.le_of_ble_eq_true rfl) dX4_order_51 ⟨(Nat.le_of_ble_eq_true rfl), (Nat.le_of_ble_eq_true rfl)⟩) hP hD hS hA [3, 4] [0, 1, 2, 5] rfl rfl rfl (fun u_4 H locs hw_4 hP hD hS _ => ?_)
      obtain rfl := hw_4
      have hP : WP Γ [[((r 0), .inl (Γ.2.1 0, 523, .inl g))], [((r 2), .inl (Γ.2.1 0, 523, .inl (va_cpy g sf 0 0 523)))], [(a, moE r i4)], [((r 9), .inl (Γ.2.1 0, 50, .inl t))], [((r 14), .inl (Γ.2.1 0, 60, .inl wt))], [((r 4), .inl (Γ.2.1 0, 4184, .inl ps))]] H := hP
      have hD : WD A [[((r 0), .inl (Γ.2.1 0, 523, .inl g))], [((r 2), .inl (Γ.2.1 0, 523, .inl (va_cpy g sf 0 0 523)))], [(a, moE r i4)], [((r 9), .inl (Γ.2.1 0, 50, .inl t))], [((r 14), .inl (Γ.2.1 0, 60, .inl wt))], [((r 4), .inl (Γ.2.1 0, 4184, .inl ps))]] := hD
      refine lv_iconst (v := 0) hx hb dX4_order_54 (by decide) ?_
      refine lv_istore_n (lv' := [(2, .int 0), (1, .int (nI 1)), (0, .ref a)]) hx hb dX4_order_55 rfl hl (by decide) rfl (fun ls hl => ?_)
      have loop_5 : ∀ (fuel : Nat) (j : Nat) (gj : Nat → Int32) (mj : Nat), kn - j < fuel → (j ≤ kn) → (gj 7 = nI nc) → (gj 10 = nI mj) → (mj ≤ 4) → (orF wt kn 0 g = orF wt (kn - j) j gj) → ∀ (H : Heap) (locs : List Loc) (ls : Array Slot), WP Γ [[((r 0), .inl (Γ.2.1 0, 523, .inl gj))], [((r 2), .inl (Γ.2.1 0, 523, .inl (va_cpy g sf 0 0 523)))], [(a, moE r i4)], [((r 9), .inl (Γ.2.1 0, 50, .inl t))], [((r 14), .inl (Γ.2.1 0, 60, .inl wt))], [((r 4), .inl (Γ.2.1 0, 4184, .inl ps))]] H → WD A [[((r 0), .inl (Γ.2.1 0, 523, .inl gj))], [((r 2), .inl (Γ.2.1 0, 523, .inl (va_cpy g sf 0 0 523)))], [(a, moE r i4)], [((r 9), .inl (Γ.2.1 0, 50, .inl t))], [((r 14), .inl (Γ.2.1 0, 60, .inl wt))], [((r 4), .inl (Γ.2.1 0, 4184, .inl ps))]] → va_S A s.heap H locs → lv_has ls 4 [(2, .int (nI j)), (1, .int 1), (0, .ref a)] → W pr_ l ev_ { frames := 8, cells := 0, slots := 0, locals := 174 } s mi_ ([.ref a] : List Value).toArray below meth cd_ H locs 0 0 (MQ below (Qi Γ (fun r_ u_ => ∃ i2 : Nat → Int32, i2 7 = 2 ∧ i2 13 = -1 ∧ i2 10 = 0 ∧ i2 3 = i 3 ∧ i2 5 = i 5 ∧ i2 6 = (orF wt kn 0 g).1 ∧ r_ = 0 ∧ u_ = [[(a, moE r i2)], [((r 0), .inl (Γ.2.1 0, 523, .inl (va_cpy (va_cpy g sf 0 0 523) (orF wt kn 0 g).2 0 0 523)))], [((r 9), .inl (Γ.2.1 0, 50, .inl t))], [((r 14), .inl (Γ.2.1 0, 60, .inl wt))], [((r 2), .inl (Γ.2.1 0, 523, .inl (va_cpy g sf 0 0 523)))], [((r 4), .inl (Γ.2.1 0, 4184, .inl ps))]]) A) ([.ref a] : List Value).toArray s 0 0 A) (F0 mi_ 56 ls ([])) := by
        intro fuel
        induction fuel with
        | zero => intro j gj mj hfuel; exact absurd hfuel (Nat.not_lt_zero _)
        | succ fuel ih =>
          intro j gj mj hfuel hj hg7j hg10j hmj hor H locs ls hP hD hS hl
          refine lv_iload_n hx hb dX4_order_56 rfl (lv_at hl 0 rfl) ?_
          refine lv_aload_n hx hb dX4_order_57 rfl (lv_at hl 2 rfl) ?_
          refine b_get (C := RX4) (T := TX4) (N := 16) (v := .int (i4 15)) hx hb hts in_X4 hown hK (b_at (k := 2) hP rfl) rfl 15 (by decide) q1822 (fun _ h9 => h9) rfl dX4_order_58 ?_
          refine b_top (show i4 15 = nI kn from g15) ?_
          refine lv_icmp_ge (tgt := 164) hx hb dX4_order_61 (by decide) (fun c_6 => ?_) (fun c_6 => ?_)
          · -- 61 taken
            have n_6 : kn ≤ j := (nI_leI (by omega) (by omega)).mp (show nI kn ≤ nI j from c_6)
            have m_6 : ¬ (j < kn) := by omega
            have d_6 := Int32.not_lt.mpr c_6
            have hjk : j = kn := by omega
            rw [show kn - j = 0 by omega] at hor
            rw [hor] at ho
            exact absurd ho (by show ¬ (0 : Int32) < 0; decide)
          · -- 61 not taken
            have n_6 : ¬ (kn ≤ j) := fun hh7 => c_6 ((nI_leI (a := kn) (b := j) (by omega) (by omega)).mpr hh7)
            have m_6 : j < kn := by omega
            have d_6 := Int32.not_le.mp c_6
            refine lv_aload_n hx hb dX4_order_64 rfl (lv_at hl 2 rfl) ?_
            refine lv_aload_n hx hb dX4_order_65 rfl (lv_at hl 2 rfl) ?_
            refine b_get (C := RX4) (T := TX4) (N := 16) (v := .ref (r 14)) hx hb hts in_X4 hown hK (b_at (k := 2) hP rfl) rfl 14 (by decide) q1821 (fun _ h9 => h9) rfl dX4_order_66 ?_
            refine lv_iconst (v := 3) hx hb dX4_order_69 (by decide) ?_
            refine lv_iload_n hx hb dX4_order_70 rfl (lv_at hl 0 rfl) ?_
            refine lv_imul hx hb dX4_order_71 ?_
            refine b_top (nI_mulE (a := 3) (b := j) (c := 3 * j) rfl rfl (by first | omega | rfl)) ?_
            refine b_iald hx hb hK (b_at (k := 4) hP rfl) (3 * j) rfl (by omega) (by omega) dX4_order_72 ?_
            refine lv_aload_n hx hb dX4_order_73 rfl (lv_at hl 2 rfl) ?_
            refine b_get (C := RX4) (T := TX4) (N := 16) (v := .ref (r 14)) hx hb hts in_X4 hown hK (b_at (k := 2) hP rfl) rfl 14 (by decide) q1821 (fun _ h9 => h9) rfl dX4_order_74 ?_
            refine lv_iconst (v := 3) hx hb dX4_order_77 (by decide) ?_
            refine lv_iload_n hx hb dX4_order_78 rfl (lv_at hl 0 rfl) ?_
            refine lv_imul hx hb dX4_order_79 ?_
            refine b_top (nI_mulE (a := 3) (b := j) (c := 3 * j) rfl rfl (by first | omega | rfl)) ?_
            refine lv_iconst (v := 1) hx hb dX4_order_80 (by decide) ?_
            refine lv_iadd hx hb dX4_order_81 ?_
            refine b_top (nI_addE (a := 3 * j) (b := 1) (c := 3 * j + 1) rfl rfl (by first | omega | rfl)) ?_
            refine b_iald hx hb hK (b_at (k := 4) hP rfl) (3 * j + 1) rfl (by omega) (by omega) dX4_order_82 ?_
            refine lv_aload_n hx hb dX4_order_83 rfl (lv_at hl 2 rfl) ?_
            refine b_get (C := RX4) (T := TX4) (N := 16) (v := .ref (r 14)) hx hb hts in_X4 hown hK (b_at (k := 2) hP rfl) rfl 14 (by decide) q1821 (fun _ h9 => h9) rfl dX4_order_84 ?_
            refine lv_iconst (v := 3) hx hb dX4_order_87 (by decide) ?_
            refine lv_iload_n hx hb dX4_order_88 rfl (lv_at hl 0 rfl) ?_
            refine lv_imul hx hb dX4_order_89 ?_
            refine b_top (nI_mulE (a := 3) (b := j) (c := 3 * j) rfl rfl (by first | omega | rfl)) ?_
            refine lv_iconst (v := 2) hx hb dX4_order_90 (by decide) ?_
            refine lv_iadd hx hb dX4_order_91 ?_
            refine b_top (nI_addE (a := 3 * j) (b := 2) (c := 3 * j + 2) rfl rfl (by first | omega | rfl)) ?_
            refine b_iald hx hb hK (b_at (k := 4) hP rfl) (3 * j + 2) rfl (by omega) (by omega) dX4_order_92 ?_
            have hjk : j < kn := by omega
            rcases hkd j hjk with hq | hq | hq | hq | hq | hq
            · -- 0
              refine W.eq (g2 := F0 mi_ 93 ls ([.int (wt (3 * j + 2)), .int (wt (3 * j + 1)), .int 0, .ref a])) (by rw [hq]) ?_
              refine b_calli (br := [[((r 2), .inl (Γ.2.1 0, 523, .inl (va_cpy g sf 0 0 523)))], [((r 9), .inl (Γ.2.1 0, 50, .inl t))], [((r 14), .inl (Γ.2.1 0, 60, .inl wt))], [((r 4), .inl (Γ.2.1 0, 4184, .inl ps))]]) (b_runV ⟨hx, hb, hml, hown, hts⟩ (mt_Mo_against_0 l Γ _ a r i4 gj (wt (3 * j + 1)) (wt (3 * j + 2)) nc hg7j hnc) (lw_V q1908 q1910 qs33 q73 q1911) rfl rfl 3 (by decide +kernel) ⟨(Nat.le_of_ble_eq_true rfl), (Nat.le_of_ble_eq_true rfl)⟩ (c_pre hP hD hS hA hK hE [2, 0] rfl rfl ro_nil) (recv_at (q := (RX4, TX4, 16)) hK (b_at (k := 2) hP rfl) rfl) rfl hl.1 rfl (Nat.le_of_ble_eq_true rfl) dX4_order_93 ⟨(Nat.le_of_ble_eq_true rfl), (Nat.le_of_ble_eq_true rfl)⟩) hP hD hS hA [2, 0] [1, 3, 4, 5] rfl rfl rfl (fun r_7 u_7 H locs hw_7 hP hD hS _ => ?_)
              obtain ⟨rfl, rfl⟩ := hw_7
              have hP : WP Γ [[(a, moE r i4)], [((r 0), .inl (Γ.2.1 0, 523, .inl gj))], [((r 2), .inl (Γ.2.1 0, 523, .inl (va_cpy g sf 0 0 523)))], [((r 9), .inl (Γ.2.1 0, 50, .inl t))], [((r 14), .inl (Γ.2.1 0, 60, .inl wt))], [((r 4), .inl (Γ.2.1 0, 4184, .inl ps))]] H := hP
              have hD : WD A [[(a, moE r i4)], [((r 0), .inl (Γ.2.1 0, 523, .inl gj))], [((r 2), .inl (Γ.2.1 0, 523, .inl (va_cpy g sf 0 0 523)))], [((r 9), .inl (Γ.2.1 0, 50, .inl t))], [((r 14), .inl (Γ.2.1 0, 60, .inl wt))], [((r 4), .inl (Γ.2.1 0, 4184, .inl ps))]] := hD
              have hag : agQ gj (wt (3 * j)) (wt (3 * j + 1)) (wt (3 * j + 2)) = (moAg0 gj (wt (3 * j + 1)) (wt (3 * j + 2))) := by rw [hq, (agQ_at gj (wt (3 * j + 1)) (wt (3 * j + 2))).1]
              refine b_top hag.symm ?_
              refine lv_istore_n (lv' := [(3, .int (agQ gj (wt (3 * j)) (wt (3 * j + 1)) (wt (3 * j + 2)))), (2, .int (nI j)), (1, .int 1), (0, .ref a)]) hx hb dX4_order_96 rfl hl (by decide) rfl (fun ls hl => ?_)
              refine lv_iload_n hx hb dX4_order_97 rfl (lv_at hl 0 rfl) ?_
              refine lv_if_le (tgt := 125) hx hb dX4_order_98 (by decide) (fun c_8 => ?_) (fun c_8 => ?_)
              · -- 98 taken
                have d_8 := Int32.not_lt.mpr c_8
                refine lv_aload_n hx hb dX4_order_125 rfl (lv_at hl 3 rfl) ?_
                refine lv_aload_n hx hb dX4_order_126 rfl (lv_at hl 3 rfl) ?_
                refine b_get (C := RX4) (T := TX4) (N := 16) (v := .ref (r 14)) hx hb hts in_X4 hown hK (b_at (k := 0) hP rfl) rfl 14 (by decide) q1821 (fun _ h9 => h9) rfl dX4_order_127 ?_
                refine lv_iconst (v := 3) hx hb dX4_order_130 (by decide) ?_
                refine lv_iload_n hx hb dX4_order_131 rfl (lv_at hl 1 rfl) ?_
                refine lv_imul hx hb dX4_order_132 ?_
                refine b_top (nI_mulE (a := 3) (b := j) (c := 3 * j) rfl rfl (by first | omega | rfl)) ?_
                refine b_iald hx hb hK (b_at (k := 4) hP rfl) (3 * j) rfl (by omega) (by omega) dX4_order_133 ?_
                refine lv_aload_n hx hb dX4_order_134 rfl (lv_at hl 3 rfl) ?_
                refine b_get (C := RX4) (T := TX4) (N := 16) (v := .ref (r 14)) hx hb hts in_X4 hown hK (b_at (k := 0) hP rfl) rfl 14 (by decide) q1821 (fun _ h9 => h9) rfl dX4_order_135 ?_
                refine lv_iconst (v := 3) hx hb dX4_order_138 (by decide) ?_
                refine lv_iload_n hx hb dX4_order_139 rfl (lv_at hl 1 rfl) ?_
                refine lv_imul hx hb dX4_order_140 ?_
                refine b_top (nI_mulE (a := 3) (b := j) (c := 3 * j) rfl rfl (by first | omega | rfl)) ?_
                refine lv_iconst (v := 1) hx hb dX4_order_141 (by decide) ?_
                refine lv_iadd hx hb dX4_order_142 ?_
                refine b_top (nI_addE (a := 3 * j) (b := 1) (c := 3 * j + 1) rfl rfl (by first | omega | rfl)) ?_
                refine b_iald hx hb hK (b_at (k := 4) hP rfl) (3 * j + 1) rfl (by omega) (by omega) dX4_order_143 ?_
                refine lv_aload_n hx hb dX4_order_144 rfl (lv_at hl 3 rfl) ?_
                refine b_get (C := RX4) (T := TX4) (N := 16) (v := .ref (r 14)) hx hb hts in_X4 hown hK (b_at (k := 0) hP rfl) rfl 14 (by decide) q1821 (fun _ h9 => h9) rfl dX4_order_145 ?_
                refine lv_iconst (v := 3) hx hb dX4_order_148 (by decide) ?_
                refine lv_iload_n hx hb dX4_order_149 rfl (lv_at hl 1 rfl) ?_
                refine lv_imul hx hb dX4_order_150 ?_
                refine b_top (nI_mulE (a := 3) (b := j) (c := 3 * j) rfl rfl (by first | omega | rfl)) ?_
                refine lv_iconst (v := 2) hx hb dX4_order_151 (by decide) ?_
                refine lv_iadd hx hb dX4_order_152 ?_
                refine b_top (nI_addE (a := 3 * j) (b := 2) (c := 3 * j + 2) rfl rfl (by first | omega | rfl)) ?_
                refine b_iald hx hb hK (b_at (k := 4) hP rfl) (3 * j + 2) rfl (by omega) (by omega) dX4_order_153 ?_
                obtain ⟨k, hk, ek⟩ := moKept_nat hg7j hnc (agQ_k (by rw [hq]; decide) d_8)
                refine W.eq (g2 := F0 mi_ 154 ls ([.int (wt (3 * j + 2)), .int (nI k), .int 0, .ref a])) (by rw [hq, ek]) ?_
                refine b_calli (br := [[((r 2), .inl (Γ.2.1 0, 523, .inl (va_cpy g sf 0 0 523)))], [((r 9), .inl (Γ.2.1 0, 50, .inl t))], [((r 14), .inl (Γ.2.1 0, 60, .inl wt))], [((r 4), .inl (Γ.2.1 0, 4184, .inl ps))]]) (b_runV ⟨hx, hb, hml, hown, hts⟩ (mt_Mo_does_0 l Γ _ a r i4 gj k (wt (3 * j + 2)) nc hg7j hnc hk) (lw_V q1940 q1942 qs41 q73 q1943) rfl rfl 3 (by decide +kernel) ⟨(Nat.le_of_ble_eq_true rfl), (Nat.le_of_ble_eq_true rfl)⟩ (c_pre hP hD hS hA hK hE [0, 1] rfl rfl ro_nil) (recv_at (q := (RX4, TX4, 16)) hK (b_at (k := 0) hP rfl) rfl) rfl hl.1 rfl (Nat.le_of_ble_eq_true rfl) dX4_order_154 ⟨(Nat.le_of_ble_eq_true rfl), (Nat.le_of_ble_eq_true rfl)⟩) hP hD hS hA [0, 1] [2, 3, 4, 5] rfl rfl rfl (fun r_9 u_9 H locs hw_9 hP hD hS _ => ?_)
                obtain ⟨rfl, rfl⟩ := hw_9
                have hP : WP Γ [[(a, moE r i4)], [((r 0), .inl (Γ.2.1 0, 523, .inl (moDo0 gj k (wt (3 * j + 2)))))], [((r 2), .inl (Γ.2.1 0, 523, .inl (va_cpy g sf 0 0 523)))], [((r 9), .inl (Γ.2.1 0, 50, .inl t))], [((r 14), .inl (Γ.2.1 0, 60, .inl wt))], [((r 4), .inl (Γ.2.1 0, 4184, .inl ps))]] H := hP
                have hD : WD A [[(a, moE r i4)], [((r 0), .inl (Γ.2.1 0, 523, .inl (moDo0 gj k (wt (3 * j + 2)))))], [((r 2), .inl (Γ.2.1 0, 523, .inl (va_cpy g sf 0 0 523)))], [((r 9), .inl (Γ.2.1 0, 50, .inl t))], [((r 14), .inl (Γ.2.1 0, 60, .inl wt))], [((r 4), .inl (Γ.2.1 0, 4184, .inl ps))]] := hD
                rw [show (moDo0 gj k (wt (3 * j + 2))) = (doQ gj (wt (3 * j)) (wt (3 * j + 1)) (wt (3 * j + 2))) from by rw [hq, ek, (doQ_at gj (nI k) (wt (3 * j + 2))).1, nI_clamp (by omega)]] at hP hD
                have hkp := doQ_keep (q := wt (3 * j)) (c := wt (3 * j + 1)) (v := wt (3 * j + 2)) hg7j hg10j hmj d_8
                obtain ⟨hk7, mk, hmk, hk10⟩ := hkp
                refine lv_pop hx hb dX4_order_157 rfl ?_
                refine lv_iinc (v := (nI (j + 1))) (lv' := [(2, .int (nI (j + 1))), (3, .int (agQ gj (wt (3 * j)) (wt (3 * j + 1)) (wt (3 * j + 2)))), (1, .int 1), (0, .ref a)]) hx hb dX4_order_158 hl (k := 1) rfl (nI_addE (a := j) (b := 1) (c := j + 1) rfl rfl (by first | omega | rfl)) (by decide) rfl (fun ls hl => ?_)
                refine lv_goto (tgt := 56) hx hb dX4_order_161 (by decide) ?_
                have hP : WP Γ [[((r 0), .inl (Γ.2.1 0, 523, .inl (doQ gj (wt (3 * j)) (wt (3 * j + 1)) (wt (3 * j + 2)))))], [((r 2), .inl (Γ.2.1 0, 523, .inl (va_cpy g sf 0 0 523)))], [(a, moE r i4)], [((r 9), .inl (Γ.2.1 0, 50, .inl t))], [((r 14), .inl (Γ.2.1 0, 60, .inl wt))], [((r 4), .inl (Γ.2.1 0, 4184, .inl ps))]] H := bP_sel hP [1, 2, 0, 3, 4, 5] rfl
                have hD : WD A [[((r 0), .inl (Γ.2.1 0, 523, .inl (doQ gj (wt (3 * j)) (wt (3 * j + 1)) (wt (3 * j + 2)))))], [((r 2), .inl (Γ.2.1 0, 523, .inl (va_cpy g sf 0 0 523)))], [(a, moE r i4)], [((r 9), .inl (Γ.2.1 0, 50, .inl t))], [((r 14), .inl (Γ.2.1 0, 60, .inl wt))], [((r 4), .inl (Γ.2.1 0, 4184, .inl ps))]] := bD_sel hD [1, 2, 0, 3, 4, 5] rfl rfl
                exact ih (j + 1) (doQ gj (wt (3 * j)) (wt (3 * j + 1)) (wt (3 * j + 2))) mk (by omega) (by omega) hk7 hk10 hmk (by rw [hor, show kn - j = (kn - (j + 1)) + 1 by omega, orF_go d_8]) _ _ _ hP hD hS (lv_sub hl [0, 2, 3] rfl)
              · -- 98 not taken
                have d_8 := Int32.not_le.mp c_8
                rw [show kn - j = (kn - (j + 1)) + 1 by omega, orF_hit d_8] at hor
                rw [show gj = (orF wt kn 0 g).2 from by rw [hor]] at hP hD
                have hoe : (orF wt kn 0 g).1 = agQ gj (wt (3 * j)) (wt (3 * j + 1)) (wt (3 * j + 2)) := by rw [hor]
                refine lv_aload_n hx hb dX4_order_101 rfl (lv_at hl 3 rfl) ?_
                refine b_get (C := RX4) (T := TX4) (N := 16) (v := .ref (r 2)) hx hb hts in_X4 hown hK (b_at (k := 0) hP rfl) rfl 2 (by decide) q1809 (fun _ h9 => h9) rfl dX4_order_102 ?_
                refine lv_iconst (v := 0) hx hb dX4_order_105 (by decide) ?_
                refine lv_aload_n hx hb dX4_order_106 rfl (lv_at hl 3 rfl) ?_
                refine b_get (C := RX4) (T := TX4) (N := 16) (v := .ref (r 0)) hx hb hts in_X4 hown hK (b_at (k := 0) hP rfl) rfl 0 (by decide) q1807 (fun _ h9 => h9) rfl dX4_order_107 ?_
                refine lv_iconst (v := 0) hx hb dX4_order_110 (by decide) ?_
                refine b_callv (br := [[(a, moE r i4)], [((r 9), .inl (Γ.2.1 0, 50, .inl t))], [((r 14), .inl (Γ.2.1 0, 60, .inl wt))], [((r 4), .inl (Γ.2.1 0, 4184, .inl ps))]]) (b_runS ⟨hx, hb, hml, hown, hts⟩ (mt_Mo_copies l Γ _ (r 2) (r 0) (va_cpy g sf 0 0 523) (orF wt kn 0 g).2 523 523 0 0 (by omega) (by omega) (by omega)) (lw_S q1864 q1865 q73 q1866) rfl rfl 4 (by decide +kernel) ⟨(Nat.le_of_ble_eq_true rfl), (Nat.le_of_ble_eq_true rfl)⟩ (c_pre hP hD hS hA hK hE [2, 1] rfl rfl ro_nil) rfl hl.1 rfl (Nat.le_of_ble_eq_true rfl) dX4_order_111 ⟨(Nat.le_of_ble_eq_true rfl), (Nat.le_of_ble_eq_true rfl)⟩) hP hD hS hA [2, 1] [0, 3, 4, 5] rfl rfl rfl (fun u_10 H locs hw_10 hP hD hS _ => ?_)
                obtain rfl := hw_10
                have hP : WP Γ [[((r 2), .inl (Γ.2.1 0, 523, .inl (va_cpy g sf 0 0 523)))], [((r 0), .inl (Γ.2.1 0, 523, .inl (va_cpy (va_cpy g sf 0 0 523) (orF wt kn 0 g).2 0 0 523)))], [(a, moE r i4)], [((r 9), .inl (Γ.2.1 0, 50, .inl t))], [((r 14), .inl (Γ.2.1 0, 60, .inl wt))], [((r 4), .inl (Γ.2.1 0, 4184, .inl ps))]] H := hP
                have hD : WD A [[((r 2), .inl (Γ.2.1 0, 523, .inl (va_cpy g sf 0 0 523)))], [((r 0), .inl (Γ.2.1 0, 523, .inl (va_cpy (va_cpy g sf 0 0 523) (orF wt kn 0 g).2 0 0 523)))], [(a, moE r i4)], [((r 9), .inl (Γ.2.1 0, 50, .inl t))], [((r 14), .inl (Γ.2.1 0, 60, .inl wt))], [((r 4), .inl (Γ.2.1 0, 4184, .inl ps))]] := hD
                refine lv_aload_n hx hb dX4_order_114 rfl (lv_at hl 3 rfl) ?_
                refine lv_iload_n hx hb dX4_order_115 rfl (lv_at hl 0 rfl) ?_
                refine b_putM (C := RX4) (T := TX4) (N := 16) (ty := .int) (vv := (agQ gj (wt (3 * j)) (wt (3 * j + 1)) (wt (3 * j + 2)))) hx hb hts in_X4 tyX4_ok nmX4 hown hK hP hD hS 2 rfl rfl 6 (by decide) q1813 (fun _ h9 => h9) rfl (by decide +kernel) rfl rfl (Nat.le_of_ble_eq_true rfl) (moL_set6 _ _ _) dX4_order_116 (fun H locs hP hD hS => ?_)
                have hP : WP Γ [[((r 2), .inl (Γ.2.1 0, 523, .inl (va_cpy g sf 0 0 523)))], [((r 0), .inl (Γ.2.1 0, 523, .inl (va_cpy (va_cpy g sf 0 0 523) (orF wt kn 0 g).2 0 0 523)))], [(a, moE r (upd i4 6 (agQ gj (wt (3 * j)) (wt (3 * j + 1)) (wt (3 * j + 2)))))], [((r 9), .inl (Γ.2.1 0, 50, .inl t))], [((r 14), .inl (Γ.2.1 0, 60, .inl wt))], [((r 4), .inl (Γ.2.1 0, 4184, .inl ps))]] H := hP
                have hD : WD A [[((r 2), .inl (Γ.2.1 0, 523, .inl (va_cpy g sf 0 0 523)))], [((r 0), .inl (Γ.2.1 0, 523, .inl (va_cpy (va_cpy g sf 0 0 523) (orF wt kn 0 g).2 0 0 523)))], [(a, moE r (upd i4 6 (agQ gj (wt (3 * j)) (wt (3 * j + 1)) (wt (3 * j + 2)))))], [((r 9), .inl (Γ.2.1 0, 50, .inl t))], [((r 14), .inl (Γ.2.1 0, 60, .inl wt))], [((r 4), .inl (Γ.2.1 0, 4184, .inl ps))]] := hD
                refine lv_aload_n hx hb dX4_order_119 rfl (lv_at hl 3 rfl) ?_
                refine lv_iconst (v := 2) hx hb dX4_order_120 (by decide) ?_
                refine b_calli (br := [[((r 2), .inl (Γ.2.1 0, 523, .inl (va_cpy g sf 0 0 523)))], [((r 0), .inl (Γ.2.1 0, 523, .inl (va_cpy (va_cpy g sf 0 0 523) (orF wt kn 0 g).2 0 0 523)))], [((r 9), .inl (Γ.2.1 0, 50, .inl t))], [((r 14), .inl (Γ.2.1 0, 60, .inl wt))], [((r 4), .inl (Γ.2.1 0, 4184, .inl ps))]]) (b_runV ⟨hx, hb, hml, hown, hts⟩ (mt_Mo_fails l Γ _ a r (upd i4 6 (agQ gj (wt (3 * j)) (wt (3 * j + 1)) (wt (3 * j + 2)))) 2) (lw_V q1936 q1938 qs40 q73 q1939) rfl rfl 1 (by decide +kernel) ⟨(Nat.le_of_ble_eq_true rfl), (Nat.le_of_ble_eq_true rfl)⟩ (c_pre hP hD hS hA hK hE [2] rfl rfl ro_nil) (recv_at (q := (RX4, TX4, 16)) hK (b_at (k := 2) hP rfl) rfl) rfl hl.1 rfl (Nat.le_of_ble_eq_true rfl) dX4_order_121 ⟨(Nat.le_of_ble_eq_true rfl), (Nat.le_of_ble_eq_true rfl)⟩) hP hD hS hA [2] [0, 1, 3, 4, 5] rfl rfl rfl (fun r_11 u_11 H locs hw_11 hP hD hS _ => ?_)
                obtain ⟨rfl, rfl⟩ := hw_11
                have hP : WP Γ [[(a, moE r (upd (upd i4 6 (agQ gj (wt (3 * j)) (wt (3 * j + 1)) (wt (3 * j + 2)))) 7 2))], [((r 2), .inl (Γ.2.1 0, 523, .inl (va_cpy g sf 0 0 523)))], [((r 0), .inl (Γ.2.1 0, 523, .inl (va_cpy (va_cpy g sf 0 0 523) (orF wt kn 0 g).2 0 0 523)))], [((r 9), .inl (Γ.2.1 0, 50, .inl t))], [((r 14), .inl (Γ.2.1 0, 60, .inl wt))], [((r 4), .inl (Γ.2.1 0, 4184, .inl ps))]] H := hP
                have hD : WD A [[(a, moE r (upd (upd i4 6 (agQ gj (wt (3 * j)) (wt (3 * j + 1)) (wt (3 * j + 2)))) 7 2))], [((r 2), .inl (Γ.2.1 0, 523, .inl (va_cpy g sf 0 0 523)))], [((r 0), .inl (Γ.2.1 0, 523, .inl (va_cpy (va_cpy g sf 0 0 523) (orF wt kn 0 g).2 0 0 523)))], [((r 9), .inl (Γ.2.1 0, 50, .inl t))], [((r 14), .inl (Γ.2.1 0, 60, .inl wt))], [((r 4), .inl (Γ.2.1 0, 4184, .inl ps))]] := hD
                have hP : WP Γ [[(a, moE r (upd (upd i4 6 (agQ gj (wt (3 * j)) (wt (3 * j + 1)) (wt (3 * j + 2)))) 7 2))], [((r 0), .inl (Γ.2.1 0, 523, .inl (va_cpy (va_cpy g sf 0 0 523) (orF wt kn 0 g).2 0 0 523)))], [((r 9), .inl (Γ.2.1 0, 50, .inl t))], [((r 14), .inl (Γ.2.1 0, 60, .inl wt))], [((r 2), .inl (Γ.2.1 0, 523, .inl (va_cpy g sf 0 0 523)))], [((r 4), .inl (Γ.2.1 0, 4184, .inl ps))]] H := bP_sel hP [0, 2, 3, 4, 1, 5] rfl
                have hD : WD A [[(a, moE r (upd (upd i4 6 (agQ gj (wt (3 * j)) (wt (3 * j + 1)) (wt (3 * j + 2)))) 7 2))], [((r 0), .inl (Γ.2.1 0, 523, .inl (va_cpy (va_cpy g sf 0 0 523) (orF wt kn 0 g).2 0 0 523)))], [((r 9), .inl (Γ.2.1 0, 50, .inl t))], [((r 14), .inl (Γ.2.1 0, 60, .inl wt))], [((r 2), .inl (Γ.2.1 0, 523, .inl (va_cpy g sf 0 0 523)))], [((r 4), .inl (Γ.2.1 0, 4184, .inl ps))]] := bD_sel hD [0, 2, 3, 4, 1, 5] rfl rfl
                exact b_iret hx hb hr hlocks hP hD hS (Nat.le_of_ble_eq_true rfl) (Nat.le_of_ble_eq_true rfl) ⟨(upd (upd i4 6 (agQ gj (wt (3 * j)) (wt (3 * j + 1)) (wt (3 * j + 2)))) 7 2), (by simp [upd, g3, g5, g6, g7, g10, g13]), (by simp [upd, g3, g5, g6, g7, g10, g13]), (by simp [upd, g3, g5, g6, g7, g10, g13]), (by simp [upd, g3, g5, g6, g7, g10, g13]), (by simp [upd, g3, g5, g6, g7, g10, g13]), (by simp [upd, hoe]), (by first | with_reducible rfl | (simp [n_2, n_3, n_6, m_6, d_6, c_8, d_8]; done) | rfl), (by first | with_reducible rfl | (simp [n_2, n_3, n_6, m_6, d_6, c_8, d_8]; done) | rfl)⟩ dX4_order_124
            · -- 1
              refine W.eq (g2 := F0 mi_ 93 ls ([.int (wt (3 * j + 2)), .int (wt (3 * j + 1)), .int 1, .ref a])) (by rw [hq]) ?_
              refine b_calli (br := [[((r 2), .inl (Γ.2.1 0, 523, .inl (va_cpy g sf 0 0 523)))], [((r 9), .inl (Γ.2.1 0, 50, .inl t))], [((r 14), .inl (Γ.2.1 0, 60, .inl wt))], [((r 4), .inl (Γ.2.1 0, 4184, .inl ps))]]) (b_runV ⟨hx, hb, hml, hown, hts⟩ (mt_Mo_against_1 l Γ _ a r i4 gj (wt (3 * j + 1)) (wt (3 * j + 2)) nc hg7j hnc) (lw_V q1908 q1910 qs33 q73 q1911) rfl rfl 3 (by decide +kernel) ⟨(Nat.le_of_ble_eq_true rfl), (Nat.le_of_ble_eq_true rfl)⟩ (c_pre hP hD hS hA hK hE [2, 0] rfl rfl ro_nil) (recv_at (q := (RX4, TX4, 16)) hK (b_at (k := 2) hP rfl) rfl) rfl hl.1 rfl (Nat.le_of_ble_eq_true rfl) dX4_order_93 ⟨(Nat.le_of_ble_eq_true rfl), (Nat.le_of_ble_eq_true rfl)⟩) hP hD hS hA [2, 0] [1, 3, 4, 5] rfl rfl rfl (fun r_12 u_12 H locs hw_12 hP hD hS _ => ?_)
              obtain ⟨rfl, rfl⟩ := hw_12
              have hP : WP Γ [[(a, moE r i4)], [((r 0), .inl (Γ.2.1 0, 523, .inl gj))], [((r 2), .inl (Γ.2.1 0, 523, .inl (va_cpy g sf 0 0 523)))], [((r 9), .inl (Γ.2.1 0, 50, .inl t))], [((r 14), .inl (Γ.2.1 0, 60, .inl wt))], [((r 4), .inl (Γ.2.1 0, 4184, .inl ps))]] H := hP
              have hD : WD A [[(a, moE r i4)], [((r 0), .inl (Γ.2.1 0, 523, .inl gj))], [((r 2), .inl (Γ.2.1 0, 523, .inl (va_cpy g sf 0 0 523)))], [((r 9), .inl (Γ.2.1 0, 50, .inl t))], [((r 14), .inl (Γ.2.1 0, 60, .inl wt))], [((r 4), .inl (Γ.2.1 0, 4184, .inl ps))]] := hD
              have hag : agQ gj (wt (3 * j)) (wt (3 * j + 1)) (wt (3 * j + 2)) = (moAg1 gj (wt (3 * j + 1))) := by rw [hq, (agQ_at gj (wt (3 * j + 1)) (wt (3 * j + 2))).2.1]
              refine b_top hag.symm ?_
              refine lv_istore_n (lv' := [(3, .int (agQ gj (wt (3 * j)) (wt (3 * j + 1)) (wt (3 * j + 2)))), (2, .int (nI j)), (1, .int 1), (0, .ref a)]) hx hb dX4_order_96 rfl hl (by decide) rfl (fun ls hl => ?_)
              refine lv_iload_n hx hb dX4_order_97 rfl (lv_at hl 0 rfl) ?_
              refine lv_if_le (tgt := 125) hx hb dX4_order_98 (by decide) (fun c_13 => ?_) (fun c_13 => ?_)
              · -- 98 taken
                have d_13 := Int32.not_lt.mpr c_13
                refine lv_aload_n hx hb dX4_order_125 rfl (lv_at hl 3 rfl) ?_
                refine lv_aload_n hx hb dX4_order_126 rfl (lv_at hl 3 rfl) ?_
                refine b_get (C := RX4) (T := TX4) (N := 16) (v := .ref (r 14)) hx hb hts in_X4 hown hK (b_at (k := 0) hP rfl) rfl 14 (by decide) q1821 (fun _ h9 => h9) rfl dX4_order_127 ?_
                refine lv_iconst (v := 3) hx hb dX4_order_130 (by decide) ?_
                refine lv_iload_n hx hb dX4_order_131 rfl (lv_at hl 1 rfl) ?_
                refine lv_imul hx hb dX4_order_132 ?_
                refine b_top (nI_mulE (a := 3) (b := j) (c := 3 * j) rfl rfl (by first | omega | rfl)) ?_
                refine b_iald hx hb hK (b_at (k := 4) hP rfl) (3 * j) rfl (by omega) (by omega) dX4_order_133 ?_
                refine lv_aload_n hx hb dX4_order_134 rfl (lv_at hl 3 rfl) ?_
                refine b_get (C := RX4) (T := TX4) (N := 16) (v := .ref (r 14)) hx hb hts in_X4 hown hK (b_at (k := 0) hP rfl) rfl 14 (by decide) q1821 (fun _ h9 => h9) rfl dX4_order_135 ?_
                refine lv_iconst (v := 3) hx hb dX4_order_138 (by decide) ?_
                refine lv_iload_n hx hb dX4_order_139 rfl (lv_at hl 1 rfl) ?_
                refine lv_imul hx hb dX4_order_140 ?_
                refine b_top (nI_mulE (a := 3) (b := j) (c := 3 * j) rfl rfl (by first | omega | rfl)) ?_
                refine lv_iconst (v := 1) hx hb dX4_order_141 (by decide) ?_
                refine lv_iadd hx hb dX4_order_142 ?_
                refine b_top (nI_addE (a := 3 * j) (b := 1) (c := 3 * j + 1) rfl rfl (by first | omega | rfl)) ?_
                refine b_iald hx hb hK (b_at (k := 4) hP rfl) (3 * j + 1) rfl (by omega) (by omega) dX4_order_143 ?_
                refine lv_aload_n hx hb dX4_order_144 rfl (lv_at hl 3 rfl) ?_
                refine b_get (C := RX4) (T := TX4) (N := 16) (v := .ref (r 14)) hx hb hts in_X4 hown hK (b_at (k := 0) hP rfl) rfl 14 (by decide) q1821 (fun _ h9 => h9) rfl dX4_order_145 ?_
                refine lv_iconst (v := 3) hx hb dX4_order_148 (by decide) ?_
                refine lv_iload_n hx hb dX4_order_149 rfl (lv_at hl 1 rfl) ?_
                refine lv_imul hx hb dX4_order_150 ?_
                refine b_top (nI_mulE (a := 3) (b := j) (c := 3 * j) rfl rfl (by first | omega | rfl)) ?_
                refine lv_iconst (v := 2) hx hb dX4_order_151 (by decide) ?_
                refine lv_iadd hx hb dX4_order_152 ?_
                refine b_top (nI_addE (a := 3 * j) (b := 2) (c := 3 * j + 2) rfl rfl (by first | omega | rfl)) ?_
                refine b_iald hx hb hK (b_at (k := 4) hP rfl) (3 * j + 2) rfl (by omega) (by omega) dX4_order_153 ?_
                obtain ⟨k, hk, ek⟩ := moKept_nat hg7j hnc (agQ_k (by rw [hq]; decide) d_13)
                refine W.eq (g2 := F0 mi_ 154 ls ([.int (wt (3 * j + 2)), .int (nI k), .int 1, .ref a])) (by rw [hq, ek]) ?_
                refine b_calli (br := [[((r 2), .inl (Γ.2.1 0, 523, .inl (va_cpy g sf 0 0 523)))], [((r 9), .inl (Γ.2.1 0, 50, .inl t))], [((r 14), .inl (Γ.2.1 0, 60, .inl wt))], [((r 4), .inl (Γ.2.1 0, 4184, .inl ps))]]) (b_runV ⟨hx, hb, hml, hown, hts⟩ (mt_Mo_does_1 l Γ _ a r i4 gj k (wt (3 * j + 2)) nc hg7j hnc hk) (lw_V q1940 q1942 qs41 q73 q1943) rfl rfl 3 (by decide +kernel) ⟨(Nat.le_of_ble_eq_true rfl), (Nat.le_of_ble_eq_true rfl)⟩ (c_pre hP hD hS hA hK hE [0, 1] rfl rfl ro_nil) (recv_at (q := (RX4, TX4, 16)) hK (b_at (k := 0) hP rfl) rfl) rfl hl.1 rfl (Nat.le_of_ble_eq_true rfl) dX4_order_154 ⟨(Nat.le_of_ble_eq_true rfl), (Nat.le_of_ble_eq_true rfl)⟩) hP hD hS hA [0, 1] [2, 3, 4, 5] rfl rfl rfl (fun r_14 u_14 H locs hw_14 hP hD hS _ => ?_)
                obtain ⟨rfl, rfl⟩ := hw_14
                have hP : WP Γ [[(a, moE r i4)], [((r 0), .inl (Γ.2.1 0, 523, .inl (moDo1 gj k (wt (3 * j + 2)))))], [((r 2), .inl (Γ.2.1 0, 523, .inl (va_cpy g sf 0 0 523)))], [((r 9), .inl (Γ.2.1 0, 50, .inl t))], [((r 14), .inl (Γ.2.1 0, 60, .inl wt))], [((r 4), .inl (Γ.2.1 0, 4184, .inl ps))]] H := hP
                have hD : WD A [[(a, moE r i4)], [((r 0), .inl (Γ.2.1 0, 523, .inl (moDo1 gj k (wt (3 * j + 2)))))], [((r 2), .inl (Γ.2.1 0, 523, .inl (va_cpy g sf 0 0 523)))], [((r 9), .inl (Γ.2.1 0, 50, .inl t))], [((r 14), .inl (Γ.2.1 0, 60, .inl wt))], [((r 4), .inl (Γ.2.1 0, 4184, .inl ps))]] := hD
                rw [show (moDo1 gj k (wt (3 * j + 2))) = (doQ gj (wt (3 * j)) (wt (3 * j + 1)) (wt (3 * j + 2))) from by rw [hq, ek, (doQ_at gj (nI k) (wt (3 * j + 2))).2.1, nI_clamp (by omega)]] at hP hD
                have hkp := doQ_keep (q := wt (3 * j)) (c := wt (3 * j + 1)) (v := wt (3 * j + 2)) hg7j hg10j hmj d_13
                obtain ⟨hk7, mk, hmk, hk10⟩ := hkp
                refine lv_pop hx hb dX4_order_157 rfl ?_
                refine lv_iinc (v := (nI (j + 1))) (lv' := [(2, .int (nI (j + 1))), (3, .int (agQ gj (wt (3 * j)) (wt (3 * j + 1)) (wt (3 * j + 2)))), (1, .int 1), (0, .ref a)]) hx hb dX4_order_158 hl (k := 1) rfl (nI_addE (a := j) (b := 1) (c := j + 1) rfl rfl (by first | omega | rfl)) (by decide) rfl (fun ls hl => ?_)
                refine lv_goto (tgt := 56) hx hb dX4_order_161 (by decide) ?_
                have hP : WP Γ [[((r 0), .inl (Γ.2.1 0, 523, .inl (doQ gj (wt (3 * j)) (wt (3 * j + 1)) (wt (3 * j + 2)))))], [((r 2), .inl (Γ.2.1 0, 523, .inl (va_cpy g sf 0 0 523)))], [(a, moE r i4)], [((r 9), .inl (Γ.2.1 0, 50, .inl t))], [((r 14), .inl (Γ.2.1 0, 60, .inl wt))], [((r 4), .inl (Γ.2.1 0, 4184, .inl ps))]] H := bP_sel hP [1, 2, 0, 3, 4, 5] rfl
                have hD : WD A [[((r 0), .inl (Γ.2.1 0, 523, .inl (doQ gj (wt (3 * j)) (wt (3 * j + 1)) (wt (3 * j + 2)))))], [((r 2), .inl (Γ.2.1 0, 523, .inl (va_cpy g sf 0 0 523)))], [(a, moE r i4)], [((r 9), .inl (Γ.2.1 0, 50, .inl t))], [((r 14), .inl (Γ.2.1 0, 60, .inl wt))], [((r 4), .inl (Γ.2.1 0, 4184, .inl ps))]] := bD_sel hD [1, 2, 0, 3, 4, 5] rfl rfl
                exact ih (j + 1) (doQ gj (wt (3 * j)) (wt (3 * j + 1)) (wt (3 * j + 2))) mk (by omega) (by omega) hk7 hk10 hmk (by rw [hor, show kn - j = (kn - (j + 1)) + 1 by omega, orF_go d_13]) _ _ _ hP hD hS (lv_sub hl [0, 2, 3] rfl)
              · -- 98 not taken
                have d_13 := Int32.not_le.mp c_13
                rw [show kn - j = (kn - (j + 1)) + 1 by omega, orF_hit d_13] at hor
                rw [show gj = (orF wt kn 0 g).2 from by rw [hor]] at hP hD
                have hoe : (orF wt kn 0 g).1 = agQ gj (wt (3 * j)) (wt (3 * j + 1)) (wt (3 * j + 2)) := by rw [hor]
                refine lv_aload_n hx hb dX4_order_101 rfl (lv_at hl 3 rfl) ?_
                refine b_get (C := RX4) (T := TX4) (N := 16) (v := .ref (r 2)) hx hb hts in_X4 hown hK (b_at (k := 0) hP rfl) rfl 2 (by decide) q1809 (fun _ h9 => h9) rfl dX4_order_102 ?_
                refine lv_iconst (v := 0) hx hb dX4_order_105 (by decide) ?_
                refine lv_aload_n hx hb dX4_order_106 rfl (lv_at hl 3 rfl) ?_
                refine b_get (C := RX4) (T := TX4) (N := 16) (v := .ref (r 0)) hx hb hts in_X4 hown hK (b_at (k := 0) hP rfl) rfl 0 (by decide) q1807 (fun _ h9 => h9) rfl dX4_order_107 ?_
                refine lv_iconst (v := 0) hx hb dX4_order_110 (by decide) ?_
                refine b_callv (br := [[(a, moE r i4)], [((r 9), .inl (Γ.2.1 0, 50, .inl t))], [((r 14), .inl (Γ.2.1 0, 60, .inl wt))], [((r 4), .inl (Γ.2.1 0, 4184, .inl ps))]]) (b_runS ⟨hx, hb, hml, hown, hts⟩ (mt_Mo_copies l Γ _ (r 2) (r 0) (va_cpy g sf 0 0 523) (orF wt kn 0 g).2 523 523 0 0 (by omega) (by omega) (by omega)) (lw_S q1864 q1865 q73 q1866) rfl rfl 4 (by decide +kernel) ⟨(Nat.le_of_ble_eq_true rfl), (Nat.le_of_ble_eq_true rfl)⟩ (c_pre hP hD hS hA hK hE [2, 1] rfl rfl ro_nil) rfl hl.1 rfl (Nat.le_of_ble_eq_true rfl) dX4_order_111 ⟨(Nat.le_of_ble_eq_true rfl), (Nat.le_of_ble_eq_true rfl)⟩) hP hD hS hA [2, 1] [0, 3, 4, 5] rfl rfl rfl (fun u_15 H locs hw_15 hP hD hS _ => ?_)
                obtain rfl := hw_15
                have hP : WP Γ [[((r 2), .inl (Γ.2.1 0, 523, .inl (va_cpy g sf 0 0 523)))], [((r 0), .inl (Γ.2.1 0, 523, .inl (va_cpy (va_cpy g sf 0 0 523) (orF wt kn 0 g).2 0 0 523)))], [(a, moE r i4)], [((r 9), .inl (Γ.2.1 0, 50, .inl t))], [((r 14), .inl (Γ.2.1 0, 60, .inl wt))], [((r 4), .inl (Γ.2.1 0, 4184, .inl ps))]] H := hP
                have hD : WD A [[((r 2), .inl (Γ.2.1 0, 523, .inl (va_cpy g sf 0 0 523)))], [((r 0), .inl (Γ.2.1 0, 523, .inl (va_cpy (va_cpy g sf 0 0 523) (orF wt kn 0 g).2 0 0 523)))], [(a, moE r i4)], [((r 9), .inl (Γ.2.1 0, 50, .inl t))], [((r 14), .inl (Γ.2.1 0, 60, .inl wt))], [((r 4), .inl (Γ.2.1 0, 4184, .inl ps))]] := hD
                refine lv_aload_n hx hb dX4_order_114 rfl (lv_at hl 3 rfl) ?_
                refine lv_iload_n hx hb dX4_order_115 rfl (lv_at hl 0 rfl) ?_
                refine b_putM (C := RX4) (T := TX4) (N := 16) (ty := .int) (vv := (agQ gj (wt (3 * j)) (wt (3 * j + 1)) (wt (3 * j + 2)))) hx hb hts in_X4 tyX4_ok nmX4 hown hK hP hD hS 2 rfl rfl 6 (by decide) q1813 (fun _ h9 => h9) rfl (by decide +kernel) rfl rfl (Nat.le_of_ble_eq_true rfl) (moL_set6 _ _ _) dX4_order_116 (fun H locs hP hD hS => ?_)
                have hP : WP Γ [[((r 2), .inl (Γ.2.1 0, 523, .inl (va_cpy g sf 0 0 523)))], [((r 0), .inl (Γ.2.1 0, 523, .inl (va_cpy (va_cpy g sf 0 0 523) (orF wt kn 0 g).2 0 0 523)))], [(a, moE r (upd i4 6 (agQ gj (wt (3 * j)) (wt (3 * j + 1)) (wt (3 * j + 2)))))], [((r 9), .inl (Γ.2.1 0, 50, .inl t))], [((r 14), .inl (Γ.2.1 0, 60, .inl wt))], [((r 4), .inl (Γ.2.1 0, 4184, .inl ps))]] H := hP
                have hD : WD A [[((r 2), .inl (Γ.2.1 0, 523, .inl (va_cpy g sf 0 0 523)))], [((r 0), .inl (Γ.2.1 0, 523, .inl (va_cpy (va_cpy g sf 0 0 523) (orF wt kn 0 g).2 0 0 523)))], [(a, moE r (upd i4 6 (agQ gj (wt (3 * j)) (wt (3 * j + 1)) (wt (3 * j + 2)))))], [((r 9), .inl (Γ.2.1 0, 50, .inl t))], [((r 14), .inl (Γ.2.1 0, 60, .inl wt))], [((r 4), .inl (Γ.2.1 0, 4184, .inl ps))]] := hD
                refine lv_aload_n hx hb dX4_order_119 rfl (lv_at hl 3 rfl) ?_
                refine lv_iconst (v := 2) hx hb dX4_order_120 (by decide) ?_
                refine b_calli (br := [[((r 2), .inl (Γ.2.1 0, 523, .inl (va_cpy g sf 0 0 523)))], [((r 0), .inl (Γ.2.1 0, 523, .inl (va_cpy (va_cpy g sf 0 0 523) (orF wt kn 0 g).2 0 0 523)))], [((r 9), .inl (Γ.2.1 0, 50, .inl t))], [((r 14), .inl (Γ.2.1 0, 60, .inl wt))], [((r 4), .inl (Γ.2.1 0, 4184, .inl ps))]]) (b_runV ⟨hx, hb, hml, hown, hts⟩ (mt_Mo_fails l Γ _ a r (upd i4 6 (agQ gj (wt (3 * j)) (wt (3 * j + 1)) (wt (3 * j + 2)))) 2) (lw_V q1936 q1938 qs40 q73 q1939) rfl rfl 1 (by decide +kernel) ⟨(Nat.le_of_ble_eq_true rfl), (Nat.le_of_ble_eq_true rfl)⟩ (c_pre hP hD hS hA hK hE [2] rfl rfl ro_nil) (recv_at (q := (RX4, TX4, 16)) hK (b_at (k := 2) hP rfl) rfl) rfl hl.1 rfl (Nat.le_of_ble_eq_true rfl) dX4_order_121 ⟨(Nat.le_of_ble_eq_true rfl), (Nat.le_of_ble_eq_true rfl)⟩) hP hD hS hA [2] [0, 1, 3, 4, 5] rfl rfl rfl (fun r_16 u_16 H locs hw_16 hP hD hS _ => ?_)
                obtain ⟨rfl, rfl⟩ := hw_16
                have hP : WP Γ [[(a, moE r (upd (upd i4 6 (agQ gj (wt (3 * j)) (wt (3 * j + 1)) (wt (3 * j + 2)))) 7 2))], [((r 2), .inl (Γ.2.1 0, 523, .inl (va_cpy g sf 0 0 523)))], [((r 0), .inl (Γ.2.1 0, 523, .inl (va_cpy (va_cpy g sf 0 0 523) (orF wt kn 0 g).2 0 0 523)))], [((r 9), .inl (Γ.2.1 0, 50, .inl t))], [((r 14), .inl (Γ.2.1 0, 60, .inl wt))], [((r 4), .inl (Γ.2.1 0, 4184, .inl ps))]] H := hP
                have hD : WD A [[(a, moE r (upd (upd i4 6 (agQ gj (wt (3 * j)) (wt (3 * j + 1)) (wt (3 * j + 2)))) 7 2))], [((r 2), .inl (Γ.2.1 0, 523, .inl (va_cpy g sf 0 0 523)))], [((r 0), .inl (Γ.2.1 0, 523, .inl (va_cpy (va_cpy g sf 0 0 523) (orF wt kn 0 g).2 0 0 523)))], [((r 9), .inl (Γ.2.1 0, 50, .inl t))], [((r 14), .inl (Γ.2.1 0, 60, .inl wt))], [((r 4), .inl (Γ.2.1 0, 4184, .inl ps))]] := hD
                have hP : WP Γ [[(a, moE r (upd (upd i4 6 (agQ gj (wt (3 * j)) (wt (3 * j + 1)) (wt (3 * j + 2)))) 7 2))], [((r 0), .inl (Γ.2.1 0, 523, .inl (va_cpy (va_cpy g sf 0 0 523) (orF wt kn 0 g).2 0 0 523)))], [((r 9), .inl (Γ.2.1 0, 50, .inl t))], [((r 14), .inl (Γ.2.1 0, 60, .inl wt))], [((r 2), .inl (Γ.2.1 0, 523, .inl (va_cpy g sf 0 0 523)))], [((r 4), .inl (Γ.2.1 0, 4184, .inl ps))]] H := bP_sel hP [0, 2, 3, 4, 1, 5] rfl
                have hD : WD A [[(a, moE r (upd (upd i4 6 (agQ gj (wt (3 * j)) (wt (3 * j + 1)) (wt (3 * j + 2)))) 7 2))], [((r 0), .inl (Γ.2.1 0, 523, .inl (va_cpy (va_cpy g sf 0 0 523) (orF wt kn 0 g).2 0 0 523)))], [((r 9), .inl (Γ.2.1 0, 50, .inl t))], [((r 14), .inl (Γ.2.1 0, 60, .inl wt))], [((r 2), .inl (Γ.2.1 0, 523, .inl (va_cpy g sf 0 0 523)))], [((r 4), .inl (Γ.2.1 0, 4184, .inl ps))]] := bD_sel hD [0, 2, 3, 4, 1, 5] rfl rfl
                exact b_iret hx hb hr hlocks hP hD hS (Nat.le_of_ble_eq_true rfl) (Nat.le_of_ble_eq_true rfl) ⟨(upd (upd i4 6 (agQ gj (wt (3 * j)) (wt (3 * j + 1)) (wt (3 * j + 2)))) 7 2), (by simp [upd, g3, g5, g6, g7, g10, g13]), (by simp [upd, g3, g5, g6, g7, g10, g13]), (by simp [upd, g3, g5, g6, g7, g10, g13]), (by simp [upd, g3, g5, g6, g7, g10, g13]), (by simp [upd, g3, g5, g6, g7, g10, g13]), (by simp [upd, hoe]), (by first | with_reducible rfl | (simp [n_2, n_3, n_6, m_6, d_6, c_13, d_13]; done) | rfl), (by first | with_reducible rfl | (simp [n_2, n_3, n_6, m_6, d_6, c_13, d_13]; done) | rfl)⟩ dX4_order_124
            · -- 2
              refine W.eq (g2 := F0 mi_ 93 ls ([.int (wt (3 * j + 2)), .int (wt (3 * j + 1)), .int 2, .ref a])) (by rw [hq]) ?_
              refine b_calli (br := [[((r 2), .inl (Γ.2.1 0, 523, .inl (va_cpy g sf 0 0 523)))], [((r 9), .inl (Γ.2.1 0, 50, .inl t))], [((r 14), .inl (Γ.2.1 0, 60, .inl wt))], [((r 4), .inl (Γ.2.1 0, 4184, .inl ps))]]) (b_runV ⟨hx, hb, hml, hown, hts⟩ (mt_Mo_against_2 l Γ _ a r i4 gj (wt (3 * j + 1)) (wt (3 * j + 2)) nc hg7j hnc) (lw_V q1908 q1910 qs33 q73 q1911) rfl rfl 3 (by decide +kernel) ⟨(Nat.le_of_ble_eq_true rfl), (Nat.le_of_ble_eq_true rfl)⟩ (c_pre hP hD hS hA hK hE [2, 0] rfl rfl ro_nil) (recv_at (q := (RX4, TX4, 16)) hK (b_at (k := 2) hP rfl) rfl) rfl hl.1 rfl (Nat.le_of_ble_eq_true rfl) dX4_order_93 ⟨(Nat.le_of_ble_eq_true rfl), (Nat.le_of_ble_eq_true rfl)⟩) hP hD hS hA [2, 0] [1, 3, 4, 5] rfl rfl rfl (fun r_17 u_17 H locs hw_17 hP hD hS _ => ?_)
              obtain ⟨rfl, rfl⟩ := hw_17
              have hP : WP Γ [[(a, moE r i4)], [((r 0), .inl (Γ.2.1 0, 523, .inl gj))], [((r 2), .inl (Γ.2.1 0, 523, .inl (va_cpy g sf 0 0 523)))], [((r 9), .inl (Γ.2.1 0, 50, .inl t))], [((r 14), .inl (Γ.2.1 0, 60, .inl wt))], [((r 4), .inl (Γ.2.1 0, 4184, .inl ps))]] H := hP
              have hD : WD A [[(a, moE r i4)], [((r 0), .inl (Γ.2.1 0, 523, .inl gj))], [((r 2), .inl (Γ.2.1 0, 523, .inl (va_cpy g sf 0 0 523)))], [((r 9), .inl (Γ.2.1 0, 50, .inl t))], [((r 14), .inl (Γ.2.1 0, 60, .inl wt))], [((r 4), .inl (Γ.2.1 0, 4184, .inl ps))]] := hD
              have hag : agQ gj (wt (3 * j)) (wt (3 * j + 1)) (wt (3 * j + 2)) = (moAg2 gj (wt (3 * j + 1))) := by rw [hq, (agQ_at gj (wt (3 * j + 1)) (wt (3 * j + 2))).2.2.1]
              refine b_top hag.symm ?_
              refine lv_istore_n (lv' := [(3, .int (agQ gj (wt (3 * j)) (wt (3 * j + 1)) (wt (3 * j + 2)))), (2, .int (nI j)), (1, .int 1), (0, .ref a)]) hx hb dX4_order_96 rfl hl (by decide) rfl (fun ls hl => ?_)
              refine lv_iload_n hx hb dX4_order_97 rfl (lv_at hl 0 rfl) ?_
              refine lv_if_le (tgt := 125) hx hb dX4_order_98 (by decide) (fun c_18 => ?_) (fun c_18 => ?_)
              · -- 98 taken
                have d_18 := Int32.not_lt.mpr c_18
                refine lv_aload_n hx hb dX4_order_125 rfl (lv_at hl 3 rfl) ?_
                refine lv_aload_n hx hb dX4_order_126 rfl (lv_at hl 3 rfl) ?_
                refine b_get (C := RX4) (T := TX4) (N := 16) (v := .ref (r 14)) hx hb hts in_X4 hown hK (b_at (k := 0) hP rfl) rfl 14 (by decide) q1821 (fun _ h9 => h9) rfl dX4_order_127 ?_
                refine lv_iconst (v := 3) hx hb dX4_order_130 (by decide) ?_
                refine lv_iload_n hx hb dX4_order_131 rfl (lv_at hl 1 rfl) ?_
                refine lv_imul hx hb dX4_order_132 ?_
                refine b_top (nI_mulE (a := 3) (b := j) (c := 3 * j) rfl rfl (by first | omega | rfl)) ?_
                refine b_iald hx hb hK (b_at (k := 4) hP rfl) (3 * j) rfl (by omega) (by omega) dX4_order_133 ?_
                refine lv_aload_n hx hb dX4_order_134 rfl (lv_at hl 3 rfl) ?_
                refine b_get (C := RX4) (T := TX4) (N := 16) (v := .ref (r 14)) hx hb hts in_X4 hown hK (b_at (k := 0) hP rfl) rfl 14 (by decide) q1821 (fun _ h9 => h9) rfl dX4_order_135 ?_
                refine lv_iconst (v := 3) hx hb dX4_order_138 (by decide) ?_
                refine lv_iload_n hx hb dX4_order_139 rfl (lv_at hl 1 rfl) ?_
                refine lv_imul hx hb dX4_order_140 ?_
                refine b_top (nI_mulE (a := 3) (b := j) (c := 3 * j) rfl rfl (by first | omega | rfl)) ?_
                refine lv_iconst (v := 1) hx hb dX4_order_141 (by decide) ?_
                refine lv_iadd hx hb dX4_order_142 ?_
                refine b_top (nI_addE (a := 3 * j) (b := 1) (c := 3 * j + 1) rfl rfl (by first | omega | rfl)) ?_
                refine b_iald hx hb hK (b_at (k := 4) hP rfl) (3 * j + 1) rfl (by omega) (by omega) dX4_order_143 ?_
                refine lv_aload_n hx hb dX4_order_144 rfl (lv_at hl 3 rfl) ?_
                refine b_get (C := RX4) (T := TX4) (N := 16) (v := .ref (r 14)) hx hb hts in_X4 hown hK (b_at (k := 0) hP rfl) rfl 14 (by decide) q1821 (fun _ h9 => h9) rfl dX4_order_145 ?_
                refine lv_iconst (v := 3) hx hb dX4_order_148 (by decide) ?_
                refine lv_iload_n hx hb dX4_order_149 rfl (lv_at hl 1 rfl) ?_
                refine lv_imul hx hb dX4_order_150 ?_
                refine b_top (nI_mulE (a := 3) (b := j) (c := 3 * j) rfl rfl (by first | omega | rfl)) ?_
                refine lv_iconst (v := 2) hx hb dX4_order_151 (by decide) ?_
                refine lv_iadd hx hb dX4_order_152 ?_
                refine b_top (nI_addE (a := 3 * j) (b := 2) (c := 3 * j + 2) rfl rfl (by first | omega | rfl)) ?_
                refine b_iald hx hb hK (b_at (k := 4) hP rfl) (3 * j + 2) rfl (by omega) (by omega) dX4_order_153 ?_
                obtain ⟨k, hk, ek⟩ := moKept_nat hg7j hnc (agQ_k (by rw [hq]; decide) d_18)
                refine W.eq (g2 := F0 mi_ 154 ls ([.int (wt (3 * j + 2)), .int (nI k), .int 2, .ref a])) (by rw [hq, ek]) ?_
                refine b_calli (br := [[((r 2), .inl (Γ.2.1 0, 523, .inl (va_cpy g sf 0 0 523)))], [((r 9), .inl (Γ.2.1 0, 50, .inl t))], [((r 14), .inl (Γ.2.1 0, 60, .inl wt))], [((r 4), .inl (Γ.2.1 0, 4184, .inl ps))]]) (b_runV ⟨hx, hb, hml, hown, hts⟩ (mt_Mo_does_2 l Γ _ a r i4 gj k (wt (3 * j + 2)) nc hg7j hnc hk) (lw_V q1940 q1942 qs41 q73 q1943) rfl rfl 3 (by decide +kernel) ⟨(Nat.le_of_ble_eq_true rfl), (Nat.le_of_ble_eq_true rfl)⟩ (c_pre hP hD hS hA hK hE [0, 1] rfl rfl ro_nil) (recv_at (q := (RX4, TX4, 16)) hK (b_at (k := 0) hP rfl) rfl) rfl hl.1 rfl (Nat.le_of_ble_eq_true rfl) dX4_order_154 ⟨(Nat.le_of_ble_eq_true rfl), (Nat.le_of_ble_eq_true rfl)⟩) hP hD hS hA [0, 1] [2, 3, 4, 5] rfl rfl rfl (fun r_19 u_19 H locs hw_19 hP hD hS _ => ?_)
                obtain ⟨rfl, rfl⟩ := hw_19
                have hP : WP Γ [[(a, moE r i4)], [((r 0), .inl (Γ.2.1 0, 523, .inl (moDo2 gj k)))], [((r 2), .inl (Γ.2.1 0, 523, .inl (va_cpy g sf 0 0 523)))], [((r 9), .inl (Γ.2.1 0, 50, .inl t))], [((r 14), .inl (Γ.2.1 0, 60, .inl wt))], [((r 4), .inl (Γ.2.1 0, 4184, .inl ps))]] H := hP
                have hD : WD A [[(a, moE r i4)], [((r 0), .inl (Γ.2.1 0, 523, .inl (moDo2 gj k)))], [((r 2), .inl (Γ.2.1 0, 523, .inl (va_cpy g sf 0 0 523)))], [((r 9), .inl (Γ.2.1 0, 50, .inl t))], [((r 14), .inl (Γ.2.1 0, 60, .inl wt))], [((r 4), .inl (Γ.2.1 0, 4184, .inl ps))]] := hD
                rw [show (moDo2 gj k) = (doQ gj (wt (3 * j)) (wt (3 * j + 1)) (wt (3 * j + 2))) from by rw [hq, ek, (doQ_at gj (nI k) (wt (3 * j + 2))).2.2.1, nI_clamp (by omega)]] at hP hD
                have hkp := doQ_keep (q := wt (3 * j)) (c := wt (3 * j + 1)) (v := wt (3 * j + 2)) hg7j hg10j hmj d_18
                obtain ⟨hk7, mk, hmk, hk10⟩ := hkp
                refine lv_pop hx hb dX4_order_157 rfl ?_
                refine lv_iinc (v := (nI (j + 1))) (lv' := [(2, .int (nI (j + 1))), (3, .int (agQ gj (wt (3 * j)) (wt (3 * j + 1)) (wt (3 * j + 2)))), (1, .int 1), (0, .ref a)]) hx hb dX4_order_158 hl (k := 1) rfl (nI_addE (a := j) (b := 1) (c := j + 1) rfl rfl (by first | omega | rfl)) (by decide) rfl (fun ls hl => ?_)
                refine lv_goto (tgt := 56) hx hb dX4_order_161 (by decide) ?_
                have hP : WP Γ [[((r 0), .inl (Γ.2.1 0, 523, .inl (doQ gj (wt (3 * j)) (wt (3 * j + 1)) (wt (3 * j + 2)))))], [((r 2), .inl (Γ.2.1 0, 523, .inl (va_cpy g sf 0 0 523)))], [(a, moE r i4)], [((r 9), .inl (Γ.2.1 0, 50, .inl t))], [((r 14), .inl (Γ.2.1 0, 60, .inl wt))], [((r 4), .inl (Γ.2.1 0, 4184, .inl ps))]] H := bP_sel hP [1, 2, 0, 3, 4, 5] rfl
                have hD : WD A [[((r 0), .inl (Γ.2.1 0, 523, .inl (doQ gj (wt (3 * j)) (wt (3 * j + 1)) (wt (3 * j + 2)))))], [((r 2), .inl (Γ.2.1 0, 523, .inl (va_cpy g sf 0 0 523)))], [(a, moE r i4)], [((r 9), .inl (Γ.2.1 0, 50, .inl t))], [((r 14), .inl (Γ.2.1 0, 60, .inl wt))], [((r 4), .inl (Γ.2.1 0, 4184, .inl ps))]] := bD_sel hD [1, 2, 0, 3, 4, 5] rfl rfl
                exact ih (j + 1) (doQ gj (wt (3 * j)) (wt (3 * j + 1)) (wt (3 * j + 2))) mk (by omega) (by omega) hk7 hk10 hmk (by rw [hor, show kn - j = (kn - (j + 1)) + 1 by omega, orF_go d_18]) _ _ _ hP hD hS (lv_sub hl [0, 2, 3] rfl)
              · -- 98 not taken
                have d_18 := Int32.not_le.mp c_18
                rw [show kn - j = (kn - (j + 1)) + 1 by omega, orF_hit d_18] at hor
                rw [show gj = (orF wt kn 0 g).2 from by rw [hor]] at hP hD
                have hoe : (orF wt kn 0 g).1 = agQ gj (wt (3 * j)) (wt (3 * j + 1)) (wt (3 * j + 2)) := by rw [hor]
                refine lv_aload_n hx hb dX4_order_101 rfl (lv_at hl 3 rfl) ?_
                refine b_get (C := RX4) (T := TX4) (N := 16) (v := .ref (r 2)) hx hb hts in_X4 hown hK (b_at (k := 0) hP rfl) rfl 2 (by decide) q1809 (fun _ h9 => h9) rfl dX4_order_102 ?_
                refine lv_iconst (v := 0) hx hb dX4_order_105 (by decide) ?_
                refine lv_aload_n hx hb dX4_order_106 rfl (lv_at hl 3 rfl) ?_
                refine b_get (C := RX4) (T := TX4) (N := 16) (v := .ref (r 0)) hx hb hts in_X4 hown hK (b_at (k := 0) hP rfl) rfl 0 (by decide) q1807 (fun _ h9 => h9) rfl dX4_order_107 ?_
                refine lv_iconst (v := 0) hx hb dX4_order_110 (by decide) ?_
                refine b_callv (br := [[(a, moE r i4)], [((r 9), .inl (Γ.2.1 0, 50, .inl t))], [((r 14), .inl (Γ.2.1 0, 60, .inl wt))], [((r 4), .inl (Γ.2.1 0, 4184, .inl ps))]]) (b_runS ⟨hx, hb, hml, hown, hts⟩ (mt_Mo_copies l Γ _ (r 2) (r 0) (va_cpy g sf 0 0 523) (orF wt kn 0 g).2 523 523 0 0 (by omega) (by omega) (by omega)) (lw_S q1864 q1865 q73 q1866) rfl rfl 4 (by decide +kernel) ⟨(Nat.le_of_ble_eq_true rfl), (Nat.le_of_ble_eq_true rfl)⟩ (c_pre hP hD hS hA hK hE [2, 1] rfl rfl ro_nil) rfl hl.1 rfl (Nat.le_of_ble_eq_true rfl) dX4_order_111 ⟨(Nat.le_of_ble_eq_true rfl), (Nat.le_of_ble_eq_true rfl)⟩) hP hD hS hA [2, 1] [0, 3, 4, 5] rfl rfl rfl (fun u_20 H locs hw_20 hP hD hS _ => ?_)
                obtain rfl := hw_20
                have hP : WP Γ [[((r 2), .inl (Γ.2.1 0, 523, .inl (va_cpy g sf 0 0 523)))], [((r 0), .inl (Γ.2.1 0, 523, .inl (va_cpy (va_cpy g sf 0 0 523) (orF wt kn 0 g).2 0 0 523)))], [(a, moE r i4)], [((r 9), .inl (Γ.2.1 0, 50, .inl t))], [((r 14), .inl (Γ.2.1 0, 60, .inl wt))], [((r 4), .inl (Γ.2.1 0, 4184, .inl ps))]] H := hP
                have hD : WD A [[((r 2), .inl (Γ.2.1 0, 523, .inl (va_cpy g sf 0 0 523)))], [((r 0), .inl (Γ.2.1 0, 523, .inl (va_cpy (va_cpy g sf 0 0 523) (orF wt kn 0 g).2 0 0 523)))], [(a, moE r i4)], [((r 9), .inl (Γ.2.1 0, 50, .inl t))], [((r 14), .inl (Γ.2.1 0, 60, .inl wt))], [((r 4), .inl (Γ.2.1 0, 4184, .inl ps))]] := hD
                refine lv_aload_n hx hb dX4_order_114 rfl (lv_at hl 3 rfl) ?_
                refine lv_iload_n hx hb dX4_order_115 rfl (lv_at hl 0 rfl) ?_
                refine b_putM (C := RX4) (T := TX4) (N := 16) (ty := .int) (vv := (agQ gj (wt (3 * j)) (wt (3 * j + 1)) (wt (3 * j + 2)))) hx hb hts in_X4 tyX4_ok nmX4 hown hK hP hD hS 2 rfl rfl 6 (by decide) q1813 (fun _ h9 => h9) rfl (by decide +kernel) rfl rfl (Nat.le_of_ble_eq_true rfl) (moL_set6 _ _ _) dX4_order_116 (fun H locs hP hD hS => ?_)
                have hP : WP Γ [[((r 2), .inl (Γ.2.1 0, 523, .inl (va_cpy g sf 0 0 523)))], [((r 0), .inl (Γ.2.1 0, 523, .inl (va_cpy (va_cpy g sf 0 0 523) (orF wt kn 0 g).2 0 0 523)))], [(a, moE r (upd i4 6 (agQ gj (wt (3 * j)) (wt (3 * j + 1)) (wt (3 * j + 2)))))], [((r 9), .inl (Γ.2.1 0, 50, .inl t))], [((r 14), .inl (Γ.2.1 0, 60, .inl wt))], [((r 4), .inl (Γ.2.1 0, 4184, .inl ps))]] H := hP
                have hD : WD A [[((r 2), .inl (Γ.2.1 0, 523, .inl (va_cpy g sf 0 0 523)))], [((r 0), .inl (Γ.2.1 0, 523, .inl (va_cpy (va_cpy g sf 0 0 523) (orF wt kn 0 g).2 0 0 523)))], [(a, moE r (upd i4 6 (agQ gj (wt (3 * j)) (wt (3 * j + 1)) (wt (3 * j + 2)))))], [((r 9), .inl (Γ.2.1 0, 50, .inl t))], [((r 14), .inl (Γ.2.1 0, 60, .inl wt))], [((r 4), .inl (Γ.2.1 0, 4184, .inl ps))]] := hD
                refine lv_aload_n hx hb dX4_order_119 rfl (lv_at hl 3 rfl) ?_
                refine lv_iconst (v := 2) hx hb dX4_order_120 (by decide) ?_
                refine b_calli (br := [[((r 2), .inl (Γ.2.1 0, 523, .inl (va_cpy g sf 0 0 523)))], [((r 0), .inl (Γ.2.1 0, 523, .inl (va_cpy (va_cpy g sf 0 0 523) (orF wt kn 0 g).2 0 0 523)))], [((r 9), .inl (Γ.2.1 0, 50, .inl t))], [((r 14), .inl (Γ.2.1 0, 60, .inl wt))], [((r 4), .inl (Γ.2.1 0, 4184, .inl ps))]]) (b_runV ⟨hx, hb, hml, hown, hts⟩ (mt_Mo_fails l Γ _ a r (upd i4 6 (agQ gj (wt (3 * j)) (wt (3 * j + 1)) (wt (3 * j + 2)))) 2) (lw_V q1936 q1938 qs40 q73 q1939) rfl rfl 1 (by decide +kernel) ⟨(Nat.le_of_ble_eq_true rfl), (Nat.le_of_ble_eq_true rfl)⟩ (c_pre hP hD hS hA hK hE [2] rfl rfl ro_nil) (recv_at (q := (RX4, TX4, 16)) hK (b_at (k := 2) hP rfl) rfl) rfl hl.1 rfl (Nat.le_of_ble_eq_true rfl) dX4_order_121 ⟨(Nat.le_of_ble_eq_true rfl), (Nat.le_of_ble_eq_true rfl)⟩) hP hD hS hA [2] [0, 1, 3, 4, 5] rfl rfl rfl (fun r_21 u_21 H locs hw_21 hP hD hS _ => ?_)
                obtain ⟨rfl, rfl⟩ := hw_21
                have hP : WP Γ [[(a, moE r (upd (upd i4 6 (agQ gj (wt (3 * j)) (wt (3 * j + 1)) (wt (3 * j + 2)))) 7 2))], [((r 2), .inl (Γ.2.1 0, 523, .inl (va_cpy g sf 0 0 523)))], [((r 0), .inl (Γ.2.1 0, 523, .inl (va_cpy (va_cpy g sf 0 0 523) (orF wt kn 0 g).2 0 0 523)))], [((r 9), .inl (Γ.2.1 0, 50, .inl t))], [((r 14), .inl (Γ.2.1 0, 60, .inl wt))], [((r 4), .inl (Γ.2.1 0, 4184, .inl ps))]] H := hP
                have hD : WD A [[(a, moE r (upd (upd i4 6 (agQ gj (wt (3 * j)) (wt (3 * j + 1)) (wt (3 * j + 2)))) 7 2))], [((r 2), .inl (Γ.2.1 0, 523, .inl (va_cpy g sf 0 0 523)))], [((r 0), .inl (Γ.2.1 0, 523, .inl (va_cpy (va_cpy g sf 0 0 523) (orF wt kn 0 g).2 0 0 523)))], [((r 9), .inl (Γ.2.1 0, 50, .inl t))], [((r 14), .inl (Γ.2.1 0, 60, .inl wt))], [((r 4), .inl (Γ.2.1 0, 4184, .inl ps))]] := hD
                have hP : WP Γ [[(a, moE r (upd (upd i4 6 (agQ gj (wt (3 * j)) (wt (3 * j + 1)) (wt (3 * j + 2)))) 7 2))], [((r 0), .inl (Γ.2.1 0, 523, .inl (va_cpy (va_cpy g sf 0 0 523) (orF wt kn 0 g).2 0 0 523)))], [((r 9), .inl (Γ.2.1 0, 50, .inl t))], [((r 14), .inl (Γ.2.1 0, 60, .inl wt))], [((r 2), .inl (Γ.2.1 0, 523, .inl (va_cpy g sf 0 0 523)))], [((r 4), .inl (Γ.2.1 0, 4184, .inl ps))]] H := bP_sel hP [0, 2, 3, 4, 1, 5] rfl
                have hD : WD A [[(a, moE r (upd (upd i4 6 (agQ gj (wt (3 * j)) (wt (3 * j + 1)) (wt (3 * j + 2)))) 7 2))], [((r 0), .inl (Γ.2.1 0, 523, .inl (va_cpy (va_cpy g sf 0 0 523) (orF wt kn 0 g).2 0 0 523)))], [((r 9), .inl (Γ.2.1 0, 50, .inl t))], [((r 14), .inl (Γ.2.1 0, 60, .inl wt))], [((r 2), .inl (Γ.2.1 0, 523, .inl (va_cpy g sf 0 0 523)))], [((r 4), .inl (Γ.2.1 0, 4184, .inl ps))]] := bD_sel hD [0, 2, 3, 4, 1, 5] rfl rfl
                exact b_iret hx hb hr hlocks hP hD hS (Nat.le_of_ble_eq_true rfl) (Nat.le_of_ble_eq_true rfl) ⟨(upd (upd i4 6 (agQ gj (wt (3 * j)) (wt (3 * j + 1)) (wt (3 * j + 2)))) 7 2), (by simp [upd, g3, g5, g6, g7, g10, g13]), (by simp [upd, g3, g5, g6, g7, g10, g13]), (by simp [upd, g3, g5, g6, g7, g10, g13]), (by simp [upd, g3, g5, g6, g7, g10, g13]), (by simp [upd, g3, g5, g6, g7, g10, g13]), (by simp [upd, hoe]), (by first | with_reducible rfl | (simp [n_2, n_3, n_6, m_6, d_6, c_18, d_18]; done) | rfl), (by first | with_reducible rfl | (simp [n_2, n_3, n_6, m_6, d_6, c_18, d_18]; done) | rfl)⟩ dX4_order_124
            · -- 3
              refine W.eq (g2 := F0 mi_ 93 ls ([.int (wt (3 * j + 2)), .int (wt (3 * j + 1)), .int 3, .ref a])) (by rw [hq]) ?_
              refine b_calli (br := [[((r 2), .inl (Γ.2.1 0, 523, .inl (va_cpy g sf 0 0 523)))], [((r 9), .inl (Γ.2.1 0, 50, .inl t))], [((r 14), .inl (Γ.2.1 0, 60, .inl wt))], [((r 4), .inl (Γ.2.1 0, 4184, .inl ps))]]) (b_runV ⟨hx, hb, hml, hown, hts⟩ (mt_Mo_against_3 l Γ _ a r i4 gj (wt (3 * j + 1)) (wt (3 * j + 2)) nc hg7j hnc) (lw_V q1908 q1910 qs33 q73 q1911) rfl rfl 3 (by decide +kernel) ⟨(Nat.le_of_ble_eq_true rfl), (Nat.le_of_ble_eq_true rfl)⟩ (c_pre hP hD hS hA hK hE [2, 0] rfl rfl ro_nil) (recv_at (q := (RX4, TX4, 16)) hK (b_at (k := 2) hP rfl) rfl) rfl hl.1 rfl (Nat.le_of_ble_eq_true rfl) dX4_order_93 ⟨(Nat.le_of_ble_eq_true rfl), (Nat.le_of_ble_eq_true rfl)⟩) hP hD hS hA [2, 0] [1, 3, 4, 5] rfl rfl rfl (fun r_22 u_22 H locs hw_22 hP hD hS _ => ?_)
              obtain ⟨rfl, rfl⟩ := hw_22
              have hP : WP Γ [[(a, moE r i4)], [((r 0), .inl (Γ.2.1 0, 523, .inl gj))], [((r 2), .inl (Γ.2.1 0, 523, .inl (va_cpy g sf 0 0 523)))], [((r 9), .inl (Γ.2.1 0, 50, .inl t))], [((r 14), .inl (Γ.2.1 0, 60, .inl wt))], [((r 4), .inl (Γ.2.1 0, 4184, .inl ps))]] H := hP
              have hD : WD A [[(a, moE r i4)], [((r 0), .inl (Γ.2.1 0, 523, .inl gj))], [((r 2), .inl (Γ.2.1 0, 523, .inl (va_cpy g sf 0 0 523)))], [((r 9), .inl (Γ.2.1 0, 50, .inl t))], [((r 14), .inl (Γ.2.1 0, 60, .inl wt))], [((r 4), .inl (Γ.2.1 0, 4184, .inl ps))]] := hD
              have hag : agQ gj (wt (3 * j)) (wt (3 * j + 1)) (wt (3 * j + 2)) = (moAg3 gj (wt (3 * j + 1))) := by rw [hq, (agQ_at gj (wt (3 * j + 1)) (wt (3 * j + 2))).2.2.2.1]
              refine b_top hag.symm ?_
              refine lv_istore_n (lv' := [(3, .int (agQ gj (wt (3 * j)) (wt (3 * j + 1)) (wt (3 * j + 2)))), (2, .int (nI j)), (1, .int 1), (0, .ref a)]) hx hb dX4_order_96 rfl hl (by decide) rfl (fun ls hl => ?_)
              refine lv_iload_n hx hb dX4_order_97 rfl (lv_at hl 0 rfl) ?_
              refine lv_if_le (tgt := 125) hx hb dX4_order_98 (by decide) (fun c_23 => ?_) (fun c_23 => ?_)
              · -- 98 taken
                have d_23 := Int32.not_lt.mpr c_23
                refine lv_aload_n hx hb dX4_order_125 rfl (lv_at hl 3 rfl) ?_
                refine lv_aload_n hx hb dX4_order_126 rfl (lv_at hl 3 rfl) ?_
                refine b_get (C := RX4) (T := TX4) (N := 16) (v := .ref (r 14)) hx hb hts in_X4 hown hK (b_at (k := 0) hP rfl) rfl 14 (by decide) q1821 (fun _ h9 => h9) rfl dX4_order_127 ?_
                refine lv_iconst (v := 3) hx hb dX4_order_130 (by decide) ?_
                refine lv_iload_n hx hb dX4_order_131 rfl (lv_at hl 1 rfl) ?_
                refine lv_imul hx hb dX4_order_132 ?_
                refine b_top (nI_mulE (a := 3) (b := j) (c := 3 * j) rfl rfl (by first | omega | rfl)) ?_
                refine b_iald hx hb hK (b_at (k := 4) hP rfl) (3 * j) rfl (by omega) (by omega) dX4_order_133 ?_
                refine lv_aload_n hx hb dX4_order_134 rfl (lv_at hl 3 rfl) ?_
                refine b_get (C := RX4) (T := TX4) (N := 16) (v := .ref (r 14)) hx hb hts in_X4 hown hK (b_at (k := 0) hP rfl) rfl 14 (by decide) q1821 (fun _ h9 => h9) rfl dX4_order_135 ?_
                refine lv_iconst (v := 3) hx hb dX4_order_138 (by decide) ?_
                refine lv_iload_n hx hb dX4_order_139 rfl (lv_at hl 1 rfl) ?_
                refine lv_imul hx hb dX4_order_140 ?_
                refine b_top (nI_mulE (a := 3) (b := j) (c := 3 * j) rfl rfl (by first | omega | rfl)) ?_
                refine lv_iconst (v := 1) hx hb dX4_order_141 (by decide) ?_
                refine lv_iadd hx hb dX4_order_142 ?_
                refine b_top (nI_addE (a := 3 * j) (b := 1) (c := 3 * j + 1) rfl rfl (by first | omega | rfl)) ?_
                refine b_iald hx hb hK (b_at (k := 4) hP rfl) (3 * j + 1) rfl (by omega) (by omega) dX4_order_143 ?_
                refine lv_aload_n hx hb dX4_order_144 rfl (lv_at hl 3 rfl) ?_
                refine b_get (C := RX4) (T := TX4) (N := 16) (v := .ref (r 14)) hx hb hts in_X4 hown hK (b_at (k := 0) hP rfl) rfl 14 (by decide) q1821 (fun _ h9 => h9) rfl dX4_order_145 ?_
                refine lv_iconst (v := 3) hx hb dX4_order_148 (by decide) ?_
                refine lv_iload_n hx hb dX4_order_149 rfl (lv_at hl 1 rfl) ?_
                refine lv_imul hx hb dX4_order_150 ?_
                refine b_top (nI_mulE (a := 3) (b := j) (c := 3 * j) rfl rfl (by first | omega | rfl)) ?_
                refine lv_iconst (v := 2) hx hb dX4_order_151 (by decide) ?_
                refine lv_iadd hx hb dX4_order_152 ?_
                refine b_top (nI_addE (a := 3 * j) (b := 2) (c := 3 * j + 2) rfl rfl (by first | omega | rfl)) ?_
                refine b_iald hx hb hK (b_at (k := 4) hP rfl) (3 * j + 2) rfl (by omega) (by omega) dX4_order_153 ?_
                obtain ⟨k, hk, ek⟩ := moKept_nat hg7j hnc (agQ_k (by rw [hq]; decide) d_23)
                refine W.eq (g2 := F0 mi_ 154 ls ([.int (wt (3 * j + 2)), .int (nI k), .int 3, .ref a])) (by rw [hq, ek]) ?_
                refine b_calli (br := [[((r 2), .inl (Γ.2.1 0, 523, .inl (va_cpy g sf 0 0 523)))], [((r 9), .inl (Γ.2.1 0, 50, .inl t))], [((r 14), .inl (Γ.2.1 0, 60, .inl wt))], [((r 4), .inl (Γ.2.1 0, 4184, .inl ps))]]) (b_runV ⟨hx, hb, hml, hown, hts⟩ (mt_Mo_does_3 l Γ _ a r i4 gj k (wt (3 * j + 2)) nc hg7j hnc hk) (lw_V q1940 q1942 qs41 q73 q1943) rfl rfl 3 (by decide +kernel) ⟨(Nat.le_of_ble_eq_true rfl), (Nat.le_of_ble_eq_true rfl)⟩ (c_pre hP hD hS hA hK hE [0, 1] rfl rfl ro_nil) (recv_at (q := (RX4, TX4, 16)) hK (b_at (k := 0) hP rfl) rfl) rfl hl.1 rfl (Nat.le_of_ble_eq_true rfl) dX4_order_154 ⟨(Nat.le_of_ble_eq_true rfl), (Nat.le_of_ble_eq_true rfl)⟩) hP hD hS hA [0, 1] [2, 3, 4, 5] rfl rfl rfl (fun r_24 u_24 H locs hw_24 hP hD hS _ => ?_)
                obtain ⟨rfl, rfl⟩ := hw_24
                have hP : WP Γ [[(a, moE r i4)], [((r 0), .inl (Γ.2.1 0, 523, .inl (moDo3 gj k)))], [((r 2), .inl (Γ.2.1 0, 523, .inl (va_cpy g sf 0 0 523)))], [((r 9), .inl (Γ.2.1 0, 50, .inl t))], [((r 14), .inl (Γ.2.1 0, 60, .inl wt))], [((r 4), .inl (Γ.2.1 0, 4184, .inl ps))]] H := hP
                have hD : WD A [[(a, moE r i4)], [((r 0), .inl (Γ.2.1 0, 523, .inl (moDo3 gj k)))], [((r 2), .inl (Γ.2.1 0, 523, .inl (va_cpy g sf 0 0 523)))], [((r 9), .inl (Γ.2.1 0, 50, .inl t))], [((r 14), .inl (Γ.2.1 0, 60, .inl wt))], [((r 4), .inl (Γ.2.1 0, 4184, .inl ps))]] := hD
                rw [show (moDo3 gj k) = (doQ gj (wt (3 * j)) (wt (3 * j + 1)) (wt (3 * j + 2))) from by rw [hq, ek, (doQ_at gj (nI k) (wt (3 * j + 2))).2.2.2.1, nI_clamp (by omega)]] at hP hD
                have hkp := doQ_keep (q := wt (3 * j)) (c := wt (3 * j + 1)) (v := wt (3 * j + 2)) hg7j hg10j hmj d_23
                obtain ⟨hk7, mk, hmk, hk10⟩ := hkp
                refine lv_pop hx hb dX4_order_157 rfl ?_
                refine lv_iinc (v := (nI (j + 1))) (lv' := [(2, .int (nI (j + 1))), (3, .int (agQ gj (wt (3 * j)) (wt (3 * j + 1)) (wt (3 * j + 2)))), (1, .int 1), (0, .ref a)]) hx hb dX4_order_158 hl (k := 1) rfl (nI_addE (a := j) (b := 1) (c := j + 1) rfl rfl (by first | omega | rfl)) (by decide) rfl (fun ls hl => ?_)
                refine lv_goto (tgt := 56) hx hb dX4_order_161 (by decide) ?_
                have hP : WP Γ [[((r 0), .inl (Γ.2.1 0, 523, .inl (doQ gj (wt (3 * j)) (wt (3 * j + 1)) (wt (3 * j + 2)))))], [((r 2), .inl (Γ.2.1 0, 523, .inl (va_cpy g sf 0 0 523)))], [(a, moE r i4)], [((r 9), .inl (Γ.2.1 0, 50, .inl t))], [((r 14), .inl (Γ.2.1 0, 60, .inl wt))], [((r 4), .inl (Γ.2.1 0, 4184, .inl ps))]] H := bP_sel hP [1, 2, 0, 3, 4, 5] rfl
                have hD : WD A [[((r 0), .inl (Γ.2.1 0, 523, .inl (doQ gj (wt (3 * j)) (wt (3 * j + 1)) (wt (3 * j + 2)))))], [((r 2), .inl (Γ.2.1 0, 523, .inl (va_cpy g sf 0 0 523)))], [(a, moE r i4)], [((r 9), .inl (Γ.2.1 0, 50, .inl t))], [((r 14), .inl (Γ.2.1 0, 60, .inl wt))], [((r 4), .inl (Γ.2.1 0, 4184, .inl ps))]] := bD_sel hD [1, 2, 0, 3, 4, 5] rfl rfl
                exact ih (j + 1) (doQ gj (wt (3 * j)) (wt (3 * j + 1)) (wt (3 * j + 2))) mk (by omega) (by omega) hk7 hk10 hmk (by rw [hor, show kn - j = (kn - (j + 1)) + 1 by omega, orF_go d_23]) _ _ _ hP hD hS (lv_sub hl [0, 2, 3] rfl)
              · -- 98 not taken
                have d_23 := Int32.not_le.mp c_23
                rw [show kn - j = (kn - (j + 1)) + 1 by omega, orF_hit d_23] at hor
                rw [show gj = (orF wt kn 0 g).2 from by rw [hor]] at hP hD
                have hoe : (orF wt kn 0 g).1 = agQ gj (wt (3 * j)) (wt (3 * j + 1)) (wt (3 * j + 2)) := by rw [hor]
                refine lv_aload_n hx hb dX4_order_101 rfl (lv_at hl 3 rfl) ?_
                refine b_get (C := RX4) (T := TX4) (N := 16) (v := .ref (r 2)) hx hb hts in_X4 hown hK (b_at (k := 0) hP rfl) rfl 2 (by decide) q1809 (fun _ h9 => h9) rfl dX4_order_102 ?_
                refine lv_iconst (v := 0) hx hb dX4_order_105 (by decide) ?_
                refine lv_aload_n hx hb dX4_order_106 rfl (lv_at hl 3 rfl) ?_
                refine b_get (C := RX4) (T := TX4) (N := 16) (v := .ref (r 0)) hx hb hts in_X4 hown hK (b_at (k := 0) hP rfl) rfl 0 (by decide) q1807 (fun _ h9 => h9) rfl dX4_order_107 ?_
                refine lv_iconst (v := 0) hx hb dX4_order_110 (by decide) ?_
                refine b_callv (br := [[(a, moE r i4)], [((r 9), .inl (Γ.2.1 0, 50, .inl t))], [((r 14), .inl (Γ.2.1 0, 60, .inl wt))], [((r 4), .inl (Γ.2.1 0, 4184, .inl ps))]]) (b_runS ⟨hx, hb, hml, hown, hts⟩ (mt_Mo_copies l Γ _ (r 2) (r 0) (va_cpy g sf 0 0 523) (orF wt kn 0 g).2 523 523 0 0 (by omega) (by omega) (by omega)) (lw_S q1864 q1865 q73 q1866) rfl rfl 4 (by decide +kernel) ⟨(Nat.le_of_ble_eq_true rfl), (Nat.le_of_ble_eq_true rfl)⟩ (c_pre hP hD hS hA hK hE [2, 1] rfl rfl ro_nil) rfl hl.1 rfl (Nat.le_of_ble_eq_true rfl) dX4_order_111 ⟨(Nat.le_of_ble_eq_true rfl), (Nat.le_of_ble_eq_true rfl)⟩) hP hD hS hA [2, 1] [0, 3, 4, 5] rfl rfl rfl (fun u_25 H locs hw_25 hP hD hS _ => ?_)
                obtain rfl := hw_25
                have hP : WP Γ [[((r 2), .inl (Γ.2.1 0, 523, .inl (va_cpy g sf 0 0 523)))], [((r 0), .inl (Γ.2.1 0, 523, .inl (va_cpy (va_cpy g sf 0 0 523) (orF wt kn 0 g).2 0 0 523)))], [(a, moE r i4)], [((r 9), .inl (Γ.2.1 0, 50, .inl t))], [((r 14), .inl (Γ.2.1 0, 60, .inl wt))], [((r 4), .inl (Γ.2.1 0, 4184, .inl ps))]] H := hP
                have hD : WD A [[((r 2), .inl (Γ.2.1 0, 523, .inl (va_cpy g sf 0 0 523)))], [((r 0), .inl (Γ.2.1 0, 523, .inl (va_cpy (va_cpy g sf 0 0 523) (orF wt kn 0 g).2 0 0 523)))], [(a, moE r i4)], [((r 9), .inl (Γ.2.1 0, 50, .inl t))], [((r 14), .inl (Γ.2.1 0, 60, .inl wt))], [((r 4), .inl (Γ.2.1 0, 4184, .inl ps))]] := hD
                refine lv_aload_n hx hb dX4_order_114 rfl (lv_at hl 3 rfl) ?_
                refine lv_iload_n hx hb dX4_order_115 rfl (lv_at hl 0 rfl) ?_
                refine b_putM (C := RX4) (T := TX4) (N := 16) (ty := .int) (vv := (agQ gj (wt (3 * j)) (wt (3 * j + 1)) (wt (3 * j + 2)))) hx hb hts in_X4 tyX4_ok nmX4 hown hK hP hD hS 2 rfl rfl 6 (by decide) q1813 (fun _ h9 => h9) rfl (by decide +kernel) rfl rfl (Nat.le_of_ble_eq_true rfl) (moL_set6 _ _ _) dX4_order_116 (fun H locs hP hD hS => ?_)
                have hP : WP Γ [[((r 2), .inl (Γ.2.1 0, 523, .inl (va_cpy g sf 0 0 523)))], [((r 0), .inl (Γ.2.1 0, 523, .inl (va_cpy (va_cpy g sf 0 0 523) (orF wt kn 0 g).2 0 0 523)))], [(a, moE r (upd i4 6 (agQ gj (wt (3 * j)) (wt (3 * j + 1)) (wt (3 * j + 2)))))], [((r 9), .inl (Γ.2.1 0, 50, .inl t))], [((r 14), .inl (Γ.2.1 0, 60, .inl wt))], [((r 4), .inl (Γ.2.1 0, 4184, .inl ps))]] H := hP
                have hD : WD A [[((r 2), .inl (Γ.2.1 0, 523, .inl (va_cpy g sf 0 0 523)))], [((r 0), .inl (Γ.2.1 0, 523, .inl (va_cpy (va_cpy g sf 0 0 523) (orF wt kn 0 g).2 0 0 523)))], [(a, moE r (upd i4 6 (agQ gj (wt (3 * j)) (wt (3 * j + 1)) (wt (3 * j + 2)))))], [((r 9), .inl (Γ.2.1 0, 50, .inl t))], [((r 14), .inl (Γ.2.1 0, 60, .inl wt))], [((r 4), .inl (Γ.2.1 0, 4184, .inl ps))]] := hD
                refine lv_aload_n hx hb dX4_order_119 rfl (lv_at hl 3 rfl) ?_
                refine lv_iconst (v := 2) hx hb dX4_order_120 (by decide) ?_
                refine b_calli (br := [[((r 2), .inl (Γ.2.1 0, 523, .inl (va_cpy g sf 0 0 523)))], [((r 0), .inl (Γ.2.1 0, 523, .inl (va_cpy (va_cpy g sf 0 0 523) (orF wt kn 0 g).2 0 0 523)))], [((r 9), .inl (Γ.2.1 0, 50, .inl t))], [((r 14), .inl (Γ.2.1 0, 60, .inl wt))], [((r 4), .inl (Γ.2.1 0, 4184, .inl ps))]]) (b_runV ⟨hx, hb, hml, hown, hts⟩ (mt_Mo_fails l Γ _ a r (upd i4 6 (agQ gj (wt (3 * j)) (wt (3 * j + 1)) (wt (3 * j + 2)))) 2) (lw_V q1936 q1938 qs40 q73 q1939) rfl rfl 1 (by decide +kernel) ⟨(Nat.le_of_ble_eq_true rfl), (Nat.le_of_ble_eq_true rfl)⟩ (c_pre hP hD hS hA hK hE [2] rfl rfl ro_nil) (recv_at (q := (RX4, TX4, 16)) hK (b_at (k := 2) hP rfl) rfl) rfl hl.1 rfl (Nat.le_of_ble_eq_true rfl) dX4_order_121 ⟨(Nat.le_of_ble_eq_true rfl), (Nat.le_of_ble_eq_true rfl)⟩) hP hD hS hA [2] [0, 1, 3, 4, 5] rfl rfl rfl (fun r_26 u_26 H locs hw_26 hP hD hS _ => ?_)
                obtain ⟨rfl, rfl⟩ := hw_26
                have hP : WP Γ [[(a, moE r (upd (upd i4 6 (agQ gj (wt (3 * j)) (wt (3 * j + 1)) (wt (3 * j + 2)))) 7 2))], [((r 2), .inl (Γ.2.1 0, 523, .inl (va_cpy g sf 0 0 523)))], [((r 0), .inl (Γ.2.1 0, 523, .inl (va_cpy (va_cpy g sf 0 0 523) (orF wt kn 0 g).2 0 0 523)))], [((r 9), .inl (Γ.2.1 0, 50, .inl t))], [((r 14), .inl (Γ.2.1 0, 60, .inl wt))], [((r 4), .inl (Γ.2.1 0, 4184, .inl ps))]] H := hP
                have hD : WD A [[(a, moE r (upd (upd i4 6 (agQ gj (wt (3 * j)) (wt (3 * j + 1)) (wt (3 * j + 2)))) 7 2))], [((r 2), .inl (Γ.2.1 0, 523, .inl (va_cpy g sf 0 0 523)))], [((r 0), .inl (Γ.2.1 0, 523, .inl (va_cpy (va_cpy g sf 0 0 523) (orF wt kn 0 g).2 0 0 523)))], [((r 9), .inl (Γ.2.1 0, 50, .inl t))], [((r 14), .inl (Γ.2.1 0, 60, .inl wt))], [((r 4), .inl (Γ.2.1 0, 4184, .inl ps))]] := hD
                have hP : WP Γ [[(a, moE r (upd (upd i4 6 (agQ gj (wt (3 * j)) (wt (3 * j + 1)) (wt (3 * j + 2)))) 7 2))], [((r 0), .inl (Γ.2.1 0, 523, .inl (va_cpy (va_cpy g sf 0 0 523) (orF wt kn 0 g).2 0 0 523)))], [((r 9), .inl (Γ.2.1 0, 50, .inl t))], [((r 14), .inl (Γ.2.1 0, 60, .inl wt))], [((r 2), .inl (Γ.2.1 0, 523, .inl (va_cpy g sf 0 0 523)))], [((r 4), .inl (Γ.2.1 0, 4184, .inl ps))]] H := bP_sel hP [0, 2, 3, 4, 1, 5] rfl
                have hD : WD A [[(a, moE r (upd (upd i4 6 (agQ gj (wt (3 * j)) (wt (3 * j + 1)) (wt (3 * j + 2)))) 7 2))], [((r 0), .inl (Γ.2.1 0, 523, .inl (va_cpy (va_cpy g sf 0 0 523) (orF wt kn 0 g).2 0 0 523)))], [((r 9), .inl (Γ.2.1 0, 50, .inl t))], [((r 14), .inl (Γ.2.1 0, 60, .inl wt))], [((r 2), .inl (Γ.2.1 0, 523, .inl (va_cpy g sf 0 0 523)))], [((r 4), .inl (Γ.2.1 0, 4184, .inl ps))]] := bD_sel hD [0, 2, 3, 4, 1, 5] rfl rfl
                exact b_iret hx hb hr hlocks hP hD hS (Nat.le_of_ble_eq_true rfl) (Nat.le_of_ble_eq_true rfl) ⟨(upd (upd i4 6 (agQ gj (wt (3 * j)) (wt (3 * j + 1)) (wt (3 * j + 2)))) 7 2), (by simp [upd, g3, g5, g6, g7, g10, g13]), (by simp [upd, g3, g5, g6, g7, g10, g13]), (by simp [upd, g3, g5, g6, g7, g10, g13]), (by simp [upd, g3, g5, g6, g7, g10, g13]), (by simp [upd, g3, g5, g6, g7, g10, g13]), (by simp [upd, hoe]), (by first | with_reducible rfl | (simp [n_2, n_3, n_6, m_6, d_6, c_23, d_23]; done) | rfl), (by first | with_reducible rfl | (simp [n_2, n_3, n_6, m_6, d_6, c_23, d_23]; done) | rfl)⟩ dX4_order_124
            · -- 4
              refine W.eq (g2 := F0 mi_ 93 ls ([.int (wt (3 * j + 2)), .int (wt (3 * j + 1)), .int 4, .ref a])) (by rw [hq]) ?_
              refine b_calli (br := [[((r 2), .inl (Γ.2.1 0, 523, .inl (va_cpy g sf 0 0 523)))], [((r 9), .inl (Γ.2.1 0, 50, .inl t))], [((r 14), .inl (Γ.2.1 0, 60, .inl wt))], [((r 4), .inl (Γ.2.1 0, 4184, .inl ps))]]) (b_runV ⟨hx, hb, hml, hown, hts⟩ (mt_Mo_against_4 l Γ _ a r i4 gj (wt (3 * j + 1)) (wt (3 * j + 2)) nc hg7j hnc) (lw_V q1908 q1910 qs33 q73 q1911) rfl rfl 3 (by decide +kernel) ⟨(Nat.le_of_ble_eq_true rfl), (Nat.le_of_ble_eq_true rfl)⟩ (c_pre hP hD hS hA hK hE [2, 0] rfl rfl ro_nil) (recv_at (q := (RX4, TX4, 16)) hK (b_at (k := 2) hP rfl) rfl) rfl hl.1 rfl (Nat.le_of_ble_eq_true rfl) dX4_order_93 ⟨(Nat.le_of_ble_eq_true rfl), (Nat.le_of_ble_eq_true rfl)⟩) hP hD hS hA [2, 0] [1, 3, 4, 5] rfl rfl rfl (fun r_27 u_27 H locs hw_27 hP hD hS _ => ?_)
              obtain ⟨rfl, rfl⟩ := hw_27
              have hP : WP Γ [[(a, moE r i4)], [((r 0), .inl (Γ.2.1 0, 523, .inl gj))], [((r 2), .inl (Γ.2.1 0, 523, .inl (va_cpy g sf 0 0 523)))], [((r 9), .inl (Γ.2.1 0, 50, .inl t))], [((r 14), .inl (Γ.2.1 0, 60, .inl wt))], [((r 4), .inl (Γ.2.1 0, 4184, .inl ps))]] H := hP
              have hD : WD A [[(a, moE r i4)], [((r 0), .inl (Γ.2.1 0, 523, .inl gj))], [((r 2), .inl (Γ.2.1 0, 523, .inl (va_cpy g sf 0 0 523)))], [((r 9), .inl (Γ.2.1 0, 50, .inl t))], [((r 14), .inl (Γ.2.1 0, 60, .inl wt))], [((r 4), .inl (Γ.2.1 0, 4184, .inl ps))]] := hD
              have hag : agQ gj (wt (3 * j)) (wt (3 * j + 1)) (wt (3 * j + 2)) = (moAg1 gj (wt (3 * j + 1))) := by rw [hq, (agQ_at gj (wt (3 * j + 1)) (wt (3 * j + 2))).2.2.2.2.1]
              refine b_top hag.symm ?_
              refine lv_istore_n (lv' := [(3, .int (agQ gj (wt (3 * j)) (wt (3 * j + 1)) (wt (3 * j + 2)))), (2, .int (nI j)), (1, .int 1), (0, .ref a)]) hx hb dX4_order_96 rfl hl (by decide) rfl (fun ls hl => ?_)
              refine lv_iload_n hx hb dX4_order_97 rfl (lv_at hl 0 rfl) ?_
              refine lv_if_le (tgt := 125) hx hb dX4_order_98 (by decide) (fun c_28 => ?_) (fun c_28 => ?_)
              · -- 98 taken
                have d_28 := Int32.not_lt.mpr c_28
                refine lv_aload_n hx hb dX4_order_125 rfl (lv_at hl 3 rfl) ?_
                refine lv_aload_n hx hb dX4_order_126 rfl (lv_at hl 3 rfl) ?_
                refine b_get (C := RX4) (T := TX4) (N := 16) (v := .ref (r 14)) hx hb hts in_X4 hown hK (b_at (k := 0) hP rfl) rfl 14 (by decide) q1821 (fun _ h9 => h9) rfl dX4_order_127 ?_
                refine lv_iconst (v := 3) hx hb dX4_order_130 (by decide) ?_
                refine lv_iload_n hx hb dX4_order_131 rfl (lv_at hl 1 rfl) ?_
                refine lv_imul hx hb dX4_order_132 ?_
                refine b_top (nI_mulE (a := 3) (b := j) (c := 3 * j) rfl rfl (by first | omega | rfl)) ?_
                refine b_iald hx hb hK (b_at (k := 4) hP rfl) (3 * j) rfl (by omega) (by omega) dX4_order_133 ?_
                refine lv_aload_n hx hb dX4_order_134 rfl (lv_at hl 3 rfl) ?_
                refine b_get (C := RX4) (T := TX4) (N := 16) (v := .ref (r 14)) hx hb hts in_X4 hown hK (b_at (k := 0) hP rfl) rfl 14 (by decide) q1821 (fun _ h9 => h9) rfl dX4_order_135 ?_
                refine lv_iconst (v := 3) hx hb dX4_order_138 (by decide) ?_
                refine lv_iload_n hx hb dX4_order_139 rfl (lv_at hl 1 rfl) ?_
                refine lv_imul hx hb dX4_order_140 ?_
                refine b_top (nI_mulE (a := 3) (b := j) (c := 3 * j) rfl rfl (by first | omega | rfl)) ?_
                refine lv_iconst (v := 1) hx hb dX4_order_141 (by decide) ?_
                refine lv_iadd hx hb dX4_order_142 ?_
                refine b_top (nI_addE (a := 3 * j) (b := 1) (c := 3 * j + 1) rfl rfl (by first | omega | rfl)) ?_
                refine b_iald hx hb hK (b_at (k := 4) hP rfl) (3 * j + 1) rfl (by omega) (by omega) dX4_order_143 ?_
                refine lv_aload_n hx hb dX4_order_144 rfl (lv_at hl 3 rfl) ?_
                refine b_get (C := RX4) (T := TX4) (N := 16) (v := .ref (r 14)) hx hb hts in_X4 hown hK (b_at (k := 0) hP rfl) rfl 14 (by decide) q1821 (fun _ h9 => h9) rfl dX4_order_145 ?_
                refine lv_iconst (v := 3) hx hb dX4_order_148 (by decide) ?_
                refine lv_iload_n hx hb dX4_order_149 rfl (lv_at hl 1 rfl) ?_
                refine lv_imul hx hb dX4_order_150 ?_
                refine b_top (nI_mulE (a := 3) (b := j) (c := 3 * j) rfl rfl (by first | omega | rfl)) ?_
                refine lv_iconst (v := 2) hx hb dX4_order_151 (by decide) ?_
                refine lv_iadd hx hb dX4_order_152 ?_
                refine b_top (nI_addE (a := 3 * j) (b := 2) (c := 3 * j + 2) rfl rfl (by first | omega | rfl)) ?_
                refine b_iald hx hb hK (b_at (k := 4) hP rfl) (3 * j + 2) rfl (by omega) (by omega) dX4_order_153 ?_
                obtain ⟨k, hk, ek⟩ := moKept_nat hg7j hnc (agQ_k (by rw [hq]; decide) d_28)
                refine W.eq (g2 := F0 mi_ 154 ls ([.int (wt (3 * j + 2)), .int (nI k), .int 4, .ref a])) (by rw [hq, ek]) ?_
                refine b_calli (br := [[((r 2), .inl (Γ.2.1 0, 523, .inl (va_cpy g sf 0 0 523)))], [((r 9), .inl (Γ.2.1 0, 50, .inl t))], [((r 14), .inl (Γ.2.1 0, 60, .inl wt))], [((r 4), .inl (Γ.2.1 0, 4184, .inl ps))]]) (b_runV ⟨hx, hb, hml, hown, hts⟩ (mt_Mo_does_4 l Γ _ a r i4 gj k (wt (3 * j + 2)) nc hg7j hnc hk) (lw_V q1940 q1942 qs41 q73 q1943) rfl rfl 3 (by decide +kernel) ⟨(Nat.le_of_ble_eq_true rfl), (Nat.le_of_ble_eq_true rfl)⟩ (c_pre hP hD hS hA hK hE [0, 1] rfl rfl ro_nil) (recv_at (q := (RX4, TX4, 16)) hK (b_at (k := 0) hP rfl) rfl) rfl hl.1 rfl (Nat.le_of_ble_eq_true rfl) dX4_order_154 ⟨(Nat.le_of_ble_eq_true rfl), (Nat.le_of_ble_eq_true rfl)⟩) hP hD hS hA [0, 1] [2, 3, 4, 5] rfl rfl rfl (fun r_29 u_29 H locs hw_29 hP hD hS _ => ?_)
                obtain ⟨rfl, rfl⟩ := hw_29
                have hP : WP Γ [[(a, moE r i4)], [((r 0), .inl (Γ.2.1 0, 523, .inl (moDo4 gj k)))], [((r 2), .inl (Γ.2.1 0, 523, .inl (va_cpy g sf 0 0 523)))], [((r 9), .inl (Γ.2.1 0, 50, .inl t))], [((r 14), .inl (Γ.2.1 0, 60, .inl wt))], [((r 4), .inl (Γ.2.1 0, 4184, .inl ps))]] H := hP
                have hD : WD A [[(a, moE r i4)], [((r 0), .inl (Γ.2.1 0, 523, .inl (moDo4 gj k)))], [((r 2), .inl (Γ.2.1 0, 523, .inl (va_cpy g sf 0 0 523)))], [((r 9), .inl (Γ.2.1 0, 50, .inl t))], [((r 14), .inl (Γ.2.1 0, 60, .inl wt))], [((r 4), .inl (Γ.2.1 0, 4184, .inl ps))]] := hD
                rw [show (moDo4 gj k) = (doQ gj (wt (3 * j)) (wt (3 * j + 1)) (wt (3 * j + 2))) from by rw [hq, ek, (doQ_at gj (nI k) (wt (3 * j + 2))).2.2.2.2.1, nI_clamp (by omega)]] at hP hD
                have hkp := doQ_keep (q := wt (3 * j)) (c := wt (3 * j + 1)) (v := wt (3 * j + 2)) hg7j hg10j hmj d_28
                obtain ⟨hk7, mk, hmk, hk10⟩ := hkp
                refine lv_pop hx hb dX4_order_157 rfl ?_
                refine lv_iinc (v := (nI (j + 1))) (lv' := [(2, .int (nI (j + 1))), (3, .int (agQ gj (wt (3 * j)) (wt (3 * j + 1)) (wt (3 * j + 2)))), (1, .int 1), (0, .ref a)]) hx hb dX4_order_158 hl (k := 1) rfl (nI_addE (a := j) (b := 1) (c := j + 1) rfl rfl (by first | omega | rfl)) (by decide) rfl (fun ls hl => ?_)
                refine lv_goto (tgt := 56) hx hb dX4_order_161 (by decide) ?_
                have hP : WP Γ [[((r 0), .inl (Γ.2.1 0, 523, .inl (doQ gj (wt (3 * j)) (wt (3 * j + 1)) (wt (3 * j + 2)))))], [((r 2), .inl (Γ.2.1 0, 523, .inl (va_cpy g sf 0 0 523)))], [(a, moE r i4)], [((r 9), .inl (Γ.2.1 0, 50, .inl t))], [((r 14), .inl (Γ.2.1 0, 60, .inl wt))], [((r 4), .inl (Γ.2.1 0, 4184, .inl ps))]] H := bP_sel hP [1, 2, 0, 3, 4, 5] rfl
                have hD : WD A [[((r 0), .inl (Γ.2.1 0, 523, .inl (doQ gj (wt (3 * j)) (wt (3 * j + 1)) (wt (3 * j + 2)))))], [((r 2), .inl (Γ.2.1 0, 523, .inl (va_cpy g sf 0 0 523)))], [(a, moE r i4)], [((r 9), .inl (Γ.2.1 0, 50, .inl t))], [((r 14), .inl (Γ.2.1 0, 60, .inl wt))], [((r 4), .inl (Γ.2.1 0, 4184, .inl ps))]] := bD_sel hD [1, 2, 0, 3, 4, 5] rfl rfl
                exact ih (j + 1) (doQ gj (wt (3 * j)) (wt (3 * j + 1)) (wt (3 * j + 2))) mk (by omega) (by omega) hk7 hk10 hmk (by rw [hor, show kn - j = (kn - (j + 1)) + 1 by omega, orF_go d_28]) _ _ _ hP hD hS (lv_sub hl [0, 2, 3] rfl)
              · -- 98 not taken
                have d_28 := Int32.not_le.mp c_28
                rw [show kn - j = (kn - (j + 1)) + 1 by omega, orF_hit d_28] at hor
                rw [show gj = (orF wt kn 0 g).2 from by rw [hor]] at hP hD
                have hoe : (orF wt kn 0 g).1 = agQ gj (wt (3 * j)) (wt (3 * j + 1)) (wt (3 * j + 2)) := by rw [hor]
                refine lv_aload_n hx hb dX4_order_101 rfl (lv_at hl 3 rfl) ?_
                refine b_get (C := RX4) (T := TX4) (N := 16) (v := .ref (r 2)) hx hb hts in_X4 hown hK (b_at (k := 0) hP rfl) rfl 2 (by decide) q1809 (fun _ h9 => h9) rfl dX4_order_102 ?_
                refine lv_iconst (v := 0) hx hb dX4_order_105 (by decide) ?_
                refine lv_aload_n hx hb dX4_order_106 rfl (lv_at hl 3 rfl) ?_
                refine b_get (C := RX4) (T := TX4) (N := 16) (v := .ref (r 0)) hx hb hts in_X4 hown hK (b_at (k := 0) hP rfl) rfl 0 (by decide) q1807 (fun _ h9 => h9) rfl dX4_order_107 ?_
                refine lv_iconst (v := 0) hx hb dX4_order_110 (by decide) ?_
                refine b_callv (br := [[(a, moE r i4)], [((r 9), .inl (Γ.2.1 0, 50, .inl t))], [((r 14), .inl (Γ.2.1 0, 60, .inl wt))], [((r 4), .inl (Γ.2.1 0, 4184, .inl ps))]]) (b_runS ⟨hx, hb, hml, hown, hts⟩ (mt_Mo_copies l Γ _ (r 2) (r 0) (va_cpy g sf 0 0 523) (orF wt kn 0 g).2 523 523 0 0 (by omega) (by omega) (by omega)) (lw_S q1864 q1865 q73 q1866) rfl rfl 4 (by decide +kernel) ⟨(Nat.le_of_ble_eq_true rfl), (Nat.le_of_ble_eq_true rfl)⟩ (c_pre hP hD hS hA hK hE [2, 1] rfl rfl ro_nil) rfl hl.1 rfl (Nat.le_of_ble_eq_true rfl) dX4_order_111 ⟨(Nat.le_of_ble_eq_true rfl), (Nat.le_of_ble_eq_true rfl)⟩) hP hD hS hA [2, 1] [0, 3, 4, 5] rfl rfl rfl (fun u_30 H locs hw_30 hP hD hS _ => ?_)
                obtain rfl := hw_30
                have hP : WP Γ [[((r 2), .inl (Γ.2.1 0, 523, .inl (va_cpy g sf 0 0 523)))], [((r 0), .inl (Γ.2.1 0, 523, .inl (va_cpy (va_cpy g sf 0 0 523) (orF wt kn 0 g).2 0 0 523)))], [(a, moE r i4)], [((r 9), .inl (Γ.2.1 0, 50, .inl t))], [((r 14), .inl (Γ.2.1 0, 60, .inl wt))], [((r 4), .inl (Γ.2.1 0, 4184, .inl ps))]] H := hP
                have hD : WD A [[((r 2), .inl (Γ.2.1 0, 523, .inl (va_cpy g sf 0 0 523)))], [((r 0), .inl (Γ.2.1 0, 523, .inl (va_cpy (va_cpy g sf 0 0 523) (orF wt kn 0 g).2 0 0 523)))], [(a, moE r i4)], [((r 9), .inl (Γ.2.1 0, 50, .inl t))], [((r 14), .inl (Γ.2.1 0, 60, .inl wt))], [((r 4), .inl (Γ.2.1 0, 4184, .inl ps))]] := hD
                refine lv_aload_n hx hb dX4_order_114 rfl (lv_at hl 3 rfl) ?_
                refine lv_iload_n hx hb dX4_order_115 rfl (lv_at hl 0 rfl) ?_
                refine b_putM (C := RX4) (T := TX4) (N := 16) (ty := .int) (vv := (agQ gj (wt (3 * j)) (wt (3 * j + 1)) (wt (3 * j + 2)))) hx hb hts in_X4 tyX4_ok nmX4 hown hK hP hD hS 2 rfl rfl 6 (by decide) q1813 (fun _ h9 => h9) rfl (by decide +kernel) rfl rfl (Nat.le_of_ble_eq_true rfl) (moL_set6 _ _ _) dX4_order_116 (fun H locs hP hD hS => ?_)
                have hP : WP Γ [[((r 2), .inl (Γ.2.1 0, 523, .inl (va_cpy g sf 0 0 523)))], [((r 0), .inl (Γ.2.1 0, 523, .inl (va_cpy (va_cpy g sf 0 0 523) (orF wt kn 0 g).2 0 0 523)))], [(a, moE r (upd i4 6 (agQ gj (wt (3 * j)) (wt (3 * j + 1)) (wt (3 * j + 2)))))], [((r 9), .inl (Γ.2.1 0, 50, .inl t))], [((r 14), .inl (Γ.2.1 0, 60, .inl wt))], [((r 4), .inl (Γ.2.1 0, 4184, .inl ps))]] H := hP
                have hD : WD A [[((r 2), .inl (Γ.2.1 0, 523, .inl (va_cpy g sf 0 0 523)))], [((r 0), .inl (Γ.2.1 0, 523, .inl (va_cpy (va_cpy g sf 0 0 523) (orF wt kn 0 g).2 0 0 523)))], [(a, moE r (upd i4 6 (agQ gj (wt (3 * j)) (wt (3 * j + 1)) (wt (3 * j + 2)))))], [((r 9), .inl (Γ.2.1 0, 50, .inl t))], [((r 14), .inl (Γ.2.1 0, 60, .inl wt))], [((r 4), .inl (Γ.2.1 0, 4184, .inl ps))]] := hD
                refine lv_aload_n hx hb dX4_order_119 rfl (lv_at hl 3 rfl) ?_
                refine lv_iconst (v := 2) hx hb dX4_order_120 (by decide) ?_
                refine b_calli (br := [[((r 2), .inl (Γ.2.1 0, 523, .inl (va_cpy g sf 0 0 523)))], [((r 0), .inl (Γ.2.1 0, 523, .inl (va_cpy (va_cpy g sf 0 0 523) (orF wt kn 0 g).2 0 0 523)))], [((r 9), .inl (Γ.2.1 0, 50, .inl t))], [((r 14), .inl (Γ.2.1 0, 60, .inl wt))], [((r 4), .inl (Γ.2.1 0, 4184, .inl ps))]]) (b_runV ⟨hx, hb, hml, hown, hts⟩ (mt_Mo_fails l Γ _ a r (upd i4 6 (agQ gj (wt (3 * j)) (wt (3 * j + 1)) (wt (3 * j + 2)))) 2) (lw_V q1936 q1938 qs40 q73 q1939) rfl rfl 1 (by decide +kernel) ⟨(Nat.le_of_ble_eq_true rfl), (Nat.le_of_ble_eq_true rfl)⟩ (c_pre hP hD hS hA hK hE [2] rfl rfl ro_nil) (recv_at (q := (RX4, TX4, 16)) hK (b_at (k := 2) hP rfl) rfl) rfl hl.1 rfl (Nat.le_of_ble_eq_true rfl) dX4_order_121 ⟨(Nat.le_of_ble_eq_true rfl), (Nat.le_of_ble_eq_true rfl)⟩) hP hD hS hA [2] [0, 1, 3, 4, 5] rfl rfl rfl (fun r_31 u_31 H locs hw_31 hP hD hS _ => ?_)
                obtain ⟨rfl, rfl⟩ := hw_31
                have hP : WP Γ [[(a, moE r (upd (upd i4 6 (agQ gj (wt (3 * j)) (wt (3 * j + 1)) (wt (3 * j + 2)))) 7 2))], [((r 2), .inl (Γ.2.1 0, 523, .inl (va_cpy g sf 0 0 523)))], [((r 0), .inl (Γ.2.1 0, 523, .inl (va_cpy (va_cpy g sf 0 0 523) (orF wt kn 0 g).2 0 0 523)))], [((r 9), .inl (Γ.2.1 0, 50, .inl t))], [((r 14), .inl (Γ.2.1 0, 60, .inl wt))], [((r 4), .inl (Γ.2.1 0, 4184, .inl ps))]] H := hP
                have hD : WD A [[(a, moE r (upd (upd i4 6 (agQ gj (wt (3 * j)) (wt (3 * j + 1)) (wt (3 * j + 2)))) 7 2))], [((r 2), .inl (Γ.2.1 0, 523, .inl (va_cpy g sf 0 0 523)))], [((r 0), .inl (Γ.2.1 0, 523, .inl (va_cpy (va_cpy g sf 0 0 523) (orF wt kn 0 g).2 0 0 523)))], [((r 9), .inl (Γ.2.1 0, 50, .inl t))], [((r 14), .inl (Γ.2.1 0, 60, .inl wt))], [((r 4), .inl (Γ.2.1 0, 4184, .inl ps))]] := hD
                have hP : WP Γ [[(a, moE r (upd (upd i4 6 (agQ gj (wt (3 * j)) (wt (3 * j + 1)) (wt (3 * j + 2)))) 7 2))], [((r 0), .inl (Γ.2.1 0, 523, .inl (va_cpy (va_cpy g sf 0 0 523) (orF wt kn 0 g).2 0 0 523)))], [((r 9), .inl (Γ.2.1 0, 50, .inl t))], [((r 14), .inl (Γ.2.1 0, 60, .inl wt))], [((r 2), .inl (Γ.2.1 0, 523, .inl (va_cpy g sf 0 0 523)))], [((r 4), .inl (Γ.2.1 0, 4184, .inl ps))]] H := bP_sel hP [0, 2, 3, 4, 1, 5] rfl
                have hD : WD A [[(a, moE r (upd (upd i4 6 (agQ gj (wt (3 * j)) (wt (3 * j + 1)) (wt (3 * j + 2)))) 7 2))], [((r 0), .inl (Γ.2.1 0, 523, .inl (va_cpy (va_cpy g sf 0 0 523) (orF wt kn 0 g).2 0 0 523)))], [((r 9), .inl (Γ.2.1 0, 50, .inl t))], [((r 14), .inl (Γ.2.1 0, 60, .inl wt))], [((r 2), .inl (Γ.2.1 0, 523, .inl (va_cpy g sf 0 0 523)))], [((r 4), .inl (Γ.2.1 0, 4184, .inl ps))]] := bD_sel hD [0, 2, 3, 4, 1, 5] rfl rfl
                exact b_iret hx hb hr hlocks hP hD hS (Nat.le_of_ble_eq_true rfl) (Nat.le_of_ble_eq_true rfl) ⟨(upd (upd i4 6 (agQ gj (wt (3 * j)) (wt (3 * j + 1)) (wt (3 * j + 2)))) 7 2), (by simp [upd, g3, g5, g6, g7, g10, g13]), (by simp [upd, g3, g5, g6, g7, g10, g13]), (by simp [upd, g3, g5, g6, g7, g10, g13]), (by simp [upd, g3, g5, g6, g7, g10, g13]), (by simp [upd, g3, g5, g6, g7, g10, g13]), (by simp [upd, hoe]), (by first | with_reducible rfl | (simp [n_2, n_3, n_6, m_6, d_6, c_28, d_28]; done) | rfl), (by first | with_reducible rfl | (simp [n_2, n_3, n_6, m_6, d_6, c_28, d_28]; done) | rfl)⟩ dX4_order_124
            · -- 5
              refine W.eq (g2 := F0 mi_ 93 ls ([.int (wt (3 * j + 2)), .int (wt (3 * j + 1)), .int 5, .ref a])) (by rw [hq]) ?_
              refine b_calli (br := [[((r 2), .inl (Γ.2.1 0, 523, .inl (va_cpy g sf 0 0 523)))], [((r 9), .inl (Γ.2.1 0, 50, .inl t))], [((r 14), .inl (Γ.2.1 0, 60, .inl wt))], [((r 4), .inl (Γ.2.1 0, 4184, .inl ps))]]) (b_runV ⟨hx, hb, hml, hown, hts⟩ (mt_Mo_against_5 l Γ _ a r i4 gj (wt (3 * j + 1)) (wt (3 * j + 2)) mj hg10j (by omega)) (lw_V q1908 q1910 qs33 q73 q1911) rfl rfl 3 (by decide +kernel) ⟨(Nat.le_of_ble_eq_true rfl), (Nat.le_of_ble_eq_true rfl)⟩ (c_pre hP hD hS hA hK hE [2, 0] rfl rfl ro_nil) (recv_at (q := (RX4, TX4, 16)) hK (b_at (k := 2) hP rfl) rfl) rfl hl.1 rfl (Nat.le_of_ble_eq_true rfl) dX4_order_93 ⟨(Nat.le_of_ble_eq_true rfl), (Nat.le_of_ble_eq_true rfl)⟩) hP hD hS hA [2, 0] [1, 3, 4, 5] rfl rfl rfl (fun r_32 u_32 H locs hw_32 hP hD hS _ => ?_)
              obtain ⟨rfl, rfl⟩ := hw_32
              have hP : WP Γ [[(a, moE r i4)], [((r 0), .inl (Γ.2.1 0, 523, .inl gj))], [((r 2), .inl (Γ.2.1 0, 523, .inl (va_cpy g sf 0 0 523)))], [((r 9), .inl (Γ.2.1 0, 50, .inl t))], [((r 14), .inl (Γ.2.1 0, 60, .inl wt))], [((r 4), .inl (Γ.2.1 0, 4184, .inl ps))]] H := hP
              have hD : WD A [[(a, moE r i4)], [((r 0), .inl (Γ.2.1 0, 523, .inl gj))], [((r 2), .inl (Γ.2.1 0, 523, .inl (va_cpy g sf 0 0 523)))], [((r 9), .inl (Γ.2.1 0, 50, .inl t))], [((r 14), .inl (Γ.2.1 0, 60, .inl wt))], [((r 4), .inl (Γ.2.1 0, 4184, .inl ps))]] := hD
              have hag : agQ gj (wt (3 * j)) (wt (3 * j + 1)) (wt (3 * j + 2)) = (moAg5 gj (wt (3 * j + 1)) (wt (3 * j + 2)) mj) := by rw [hq, (agQ_at gj (wt (3 * j + 1)) (wt (3 * j + 2))).2.2.2.2.2, hg10j, nI_clamp (by omega)]
              refine b_top hag.symm ?_
              refine lv_istore_n (lv' := [(3, .int (agQ gj (wt (3 * j)) (wt (3 * j + 1)) (wt (3 * j + 2)))), (2, .int (nI j)), (1, .int 1), (0, .ref a)]) hx hb dX4_order_96 rfl hl (by decide) rfl (fun ls hl => ?_)
              refine lv_iload_n hx hb dX4_order_97 rfl (lv_at hl 0 rfl) ?_
              refine lv_if_le (tgt := 125) hx hb dX4_order_98 (by decide) (fun c_33 => ?_) (fun c_33 => ?_)
              · -- 98 taken
                have d_33 := Int32.not_lt.mpr c_33
                refine lv_aload_n hx hb dX4_order_125 rfl (lv_at hl 3 rfl) ?_
                refine lv_aload_n hx hb dX4_order_126 rfl (lv_at hl 3 rfl) ?_
                refine b_get (C := RX4) (T := TX4) (N := 16) (v := .ref (r 14)) hx hb hts in_X4 hown hK (b_at (k := 0) hP rfl) rfl 14 (by decide) q1821 (fun _ h9 => h9) rfl dX4_order_127 ?_
                refine lv_iconst (v := 3) hx hb dX4_order_130 (by decide) ?_
                refine lv_iload_n hx hb dX4_order_131 rfl (lv_at hl 1 rfl) ?_
                refine lv_imul hx hb dX4_order_132 ?_
                refine b_top (nI_mulE (a := 3) (b := j) (c := 3 * j) rfl rfl (by first | omega | rfl)) ?_
                refine b_iald hx hb hK (b_at (k := 4) hP rfl) (3 * j) rfl (by omega) (by omega) dX4_order_133 ?_
                refine lv_aload_n hx hb dX4_order_134 rfl (lv_at hl 3 rfl) ?_
                refine b_get (C := RX4) (T := TX4) (N := 16) (v := .ref (r 14)) hx hb hts in_X4 hown hK (b_at (k := 0) hP rfl) rfl 14 (by decide) q1821 (fun _ h9 => h9) rfl dX4_order_135 ?_
                refine lv_iconst (v := 3) hx hb dX4_order_138 (by decide) ?_
                refine lv_iload_n hx hb dX4_order_139 rfl (lv_at hl 1 rfl) ?_
                refine lv_imul hx hb dX4_order_140 ?_
                refine b_top (nI_mulE (a := 3) (b := j) (c := 3 * j) rfl rfl (by first | omega | rfl)) ?_
                refine lv_iconst (v := 1) hx hb dX4_order_141 (by decide) ?_
                refine lv_iadd hx hb dX4_order_142 ?_
                refine b_top (nI_addE (a := 3 * j) (b := 1) (c := 3 * j + 1) rfl rfl (by first | omega | rfl)) ?_
                refine b_iald hx hb hK (b_at (k := 4) hP rfl) (3 * j + 1) rfl (by omega) (by omega) dX4_order_143 ?_
                refine lv_aload_n hx hb dX4_order_144 rfl (lv_at hl 3 rfl) ?_
                refine b_get (C := RX4) (T := TX4) (N := 16) (v := .ref (r 14)) hx hb hts in_X4 hown hK (b_at (k := 0) hP rfl) rfl 14 (by decide) q1821 (fun _ h9 => h9) rfl dX4_order_145 ?_
                refine lv_iconst (v := 3) hx hb dX4_order_148 (by decide) ?_
                refine lv_iload_n hx hb dX4_order_149 rfl (lv_at hl 1 rfl) ?_
                refine lv_imul hx hb dX4_order_150 ?_
                refine b_top (nI_mulE (a := 3) (b := j) (c := 3 * j) rfl rfl (by first | omega | rfl)) ?_
                refine lv_iconst (v := 2) hx hb dX4_order_151 (by decide) ?_
                refine lv_iadd hx hb dX4_order_152 ?_
                refine b_top (nI_addE (a := 3 * j) (b := 2) (c := 3 * j + 2) rfl rfl (by first | omega | rfl)) ?_
                refine b_iald hx hb hK (b_at (k := 4) hP rfl) (3 * j + 2) rfl (by omega) (by omega) dX4_order_153 ?_
                refine W.eq (g2 := F0 mi_ 154 ls ([.int (wt (3 * j + 2)), .int (wt (3 * j + 1)), .int 5, .ref a])) (by rw [hq]) ?_
                refine b_calli (br := [[((r 2), .inl (Γ.2.1 0, 523, .inl (va_cpy g sf 0 0 523)))], [((r 9), .inl (Γ.2.1 0, 50, .inl t))], [((r 14), .inl (Γ.2.1 0, 60, .inl wt))], [((r 4), .inl (Γ.2.1 0, 4184, .inl ps))]]) (b_runV ⟨hx, hb, hml, hown, hts⟩ (mt_Mo_does_5 l Γ _ a r i4 gj (wt (3 * j + 1)) (wt (3 * j + 2)) mj hg10j (by omega)) (lw_V q1940 q1942 qs41 q73 q1943) rfl rfl 3 (by decide +kernel) ⟨(Nat.le_of_ble_eq_true rfl), (Nat.le_of_ble_eq_true rfl)⟩ (c_pre hP hD hS hA hK hE [0, 1] rfl rfl ro_nil) (recv_at (q := (RX4, TX4, 16)) hK (b_at (k := 0) hP rfl) rfl) rfl hl.1 rfl (Nat.le_of_ble_eq_true rfl) dX4_order_154 ⟨(Nat.le_of_ble_eq_true rfl), (Nat.le_of_ble_eq_true rfl)⟩) hP hD hS hA [0, 1] [2, 3, 4, 5] rfl rfl rfl (fun r_34 u_34 H locs hw_34 hP hD hS _ => ?_)
                obtain ⟨rfl, rfl⟩ := hw_34
                have hP : WP Γ [[(a, moE r i4)], [((r 0), .inl (Γ.2.1 0, 523, .inl (moRows gj (wt (3 * j + 1)) (wt (3 * j + 2)) mj)))], [((r 2), .inl (Γ.2.1 0, 523, .inl (va_cpy g sf 0 0 523)))], [((r 9), .inl (Γ.2.1 0, 50, .inl t))], [((r 14), .inl (Γ.2.1 0, 60, .inl wt))], [((r 4), .inl (Γ.2.1 0, 4184, .inl ps))]] H := hP
                have hD : WD A [[(a, moE r i4)], [((r 0), .inl (Γ.2.1 0, 523, .inl (moRows gj (wt (3 * j + 1)) (wt (3 * j + 2)) mj)))], [((r 2), .inl (Γ.2.1 0, 523, .inl (va_cpy g sf 0 0 523)))], [((r 9), .inl (Γ.2.1 0, 50, .inl t))], [((r 14), .inl (Γ.2.1 0, 60, .inl wt))], [((r 4), .inl (Γ.2.1 0, 4184, .inl ps))]] := hD
                rw [show (moRows gj (wt (3 * j + 1)) (wt (3 * j + 2)) mj) = (doQ gj (wt (3 * j)) (wt (3 * j + 1)) (wt (3 * j + 2))) from by rw [hq, (doQ_at gj (wt (3 * j + 1)) (wt (3 * j + 2))).2.2.2.2.2, hg10j, nI_clamp (by omega)]] at hP hD
                have hkp := doQ_keep (q := wt (3 * j)) (c := wt (3 * j + 1)) (v := wt (3 * j + 2)) hg7j hg10j hmj d_33
                obtain ⟨hk7, mk, hmk, hk10⟩ := hkp
                refine lv_pop hx hb dX4_order_157 rfl ?_
                refine lv_iinc (v := (nI (j + 1))) (lv' := [(2, .int (nI (j + 1))), (3, .int (agQ gj (wt (3 * j)) (wt (3 * j + 1)) (wt (3 * j + 2)))), (1, .int 1), (0, .ref a)]) hx hb dX4_order_158 hl (k := 1) rfl (nI_addE (a := j) (b := 1) (c := j + 1) rfl rfl (by first | omega | rfl)) (by decide) rfl (fun ls hl => ?_)
                refine lv_goto (tgt := 56) hx hb dX4_order_161 (by decide) ?_
                have hP : WP Γ [[((r 0), .inl (Γ.2.1 0, 523, .inl (doQ gj (wt (3 * j)) (wt (3 * j + 1)) (wt (3 * j + 2)))))], [((r 2), .inl (Γ.2.1 0, 523, .inl (va_cpy g sf 0 0 523)))], [(a, moE r i4)], [((r 9), .inl (Γ.2.1 0, 50, .inl t))], [((r 14), .inl (Γ.2.1 0, 60, .inl wt))], [((r 4), .inl (Γ.2.1 0, 4184, .inl ps))]] H := bP_sel hP [1, 2, 0, 3, 4, 5] rfl
                have hD : WD A [[((r 0), .inl (Γ.2.1 0, 523, .inl (doQ gj (wt (3 * j)) (wt (3 * j + 1)) (wt (3 * j + 2)))))], [((r 2), .inl (Γ.2.1 0, 523, .inl (va_cpy g sf 0 0 523)))], [(a, moE r i4)], [((r 9), .inl (Γ.2.1 0, 50, .inl t))], [((r 14), .inl (Γ.2.1 0, 60, .inl wt))], [((r 4), .inl (Γ.2.1 0, 4184, .inl ps))]] := bD_sel hD [1, 2, 0, 3, 4, 5] rfl rfl
                exact ih (j + 1) (doQ gj (wt (3 * j)) (wt (3 * j + 1)) (wt (3 * j + 2))) mk (by omega) (by omega) hk7 hk10 hmk (by rw [hor, show kn - j = (kn - (j + 1)) + 1 by omega, orF_go d_33]) _ _ _ hP hD hS (lv_sub hl [0, 2, 3] rfl)
              · -- 98 not taken
                have d_33 := Int32.not_le.mp c_33
                rw [show kn - j = (kn - (j + 1)) + 1 by omega, orF_hit d_33] at hor
                rw [show gj = (orF wt kn 0 g).2 from by rw [hor]] at hP hD
                have hoe : (orF wt kn 0 g).1 = agQ gj (wt (3 * j)) (wt (3 * j + 1)) (wt (3 * j + 2)) := by rw [hor]
                refine lv_aload_n hx hb dX4_order_101 rfl (lv_at hl 3 rfl) ?_
                refine b_get (C := RX4) (T := TX4) (N := 16) (v := .ref (r 2)) hx hb hts in_X4 hown hK (b_at (k := 0) hP rfl) rfl 2 (by decide) q1809 (fun _ h9 => h9) rfl dX4_order_102 ?_
                refine lv_iconst (v := 0) hx hb dX4_order_105 (by decide) ?_
                refine lv_aload_n hx hb dX4_order_106 rfl (lv_at hl 3 rfl) ?_
                refine b_get (C := RX4) (T := TX4) (N := 16) (v := .ref (r 0)) hx hb hts in_X4 hown hK (b_at (k := 0) hP rfl) rfl 0 (by decide) q1807 (fun _ h9 => h9) rfl dX4_order_107 ?_
                refine lv_iconst (v := 0) hx hb dX4_order_110 (by decide) ?_
                refine b_callv (br := [[(a, moE r i4)], [((r 9), .inl (Γ.2.1 0, 50, .inl t))], [((r 14), .inl (Γ.2.1 0, 60, .inl wt))], [((r 4), .inl (Γ.2.1 0, 4184, .inl ps))]]) (b_runS ⟨hx, hb, hml, hown, hts⟩ (mt_Mo_copies l Γ _ (r 2) (r 0) (va_cpy g sf 0 0 523) (orF wt kn 0 g).2 523 523 0 0 (by omega) (by omega) (by omega)) (lw_S q1864 q1865 q73 q1866) rfl rfl 4 (by decide +kernel) ⟨(Nat.le_of_ble_eq_true rfl), (Nat.le_of_ble_eq_true rfl)⟩ (c_pre hP hD hS hA hK hE [2, 1] rfl rfl ro_nil) rfl hl.1 rfl (Nat.le_of_ble_eq_true rfl) dX4_order_111 ⟨(Nat.le_of_ble_eq_true rfl), (Nat.le_of_ble_eq_true rfl)⟩) hP hD hS hA [2, 1] [0, 3, 4, 5] rfl rfl rfl (fun u_35 H locs hw_35 hP hD hS _ => ?_)
                obtain rfl := hw_35
                have hP : WP Γ [[((r 2), .inl (Γ.2.1 0, 523, .inl (va_cpy g sf 0 0 523)))], [((r 0), .inl (Γ.2.1 0, 523, .inl (va_cpy (va_cpy g sf 0 0 523) (orF wt kn 0 g).2 0 0 523)))], [(a, moE r i4)], [((r 9), .inl (Γ.2.1 0, 50, .inl t))], [((r 14), .inl (Γ.2.1 0, 60, .inl wt))], [((r 4), .inl (Γ.2.1 0, 4184, .inl ps))]] H := hP
                have hD : WD A [[((r 2), .inl (Γ.2.1 0, 523, .inl (va_cpy g sf 0 0 523)))], [((r 0), .inl (Γ.2.1 0, 523, .inl (va_cpy (va_cpy g sf 0 0 523) (orF wt kn 0 g).2 0 0 523)))], [(a, moE r i4)], [((r 9), .inl (Γ.2.1 0, 50, .inl t))], [((r 14), .inl (Γ.2.1 0, 60, .inl wt))], [((r 4), .inl (Γ.2.1 0, 4184, .inl ps))]] := hD
                refine lv_aload_n hx hb dX4_order_114 rfl (lv_at hl 3 rfl) ?_
                refine lv_iload_n hx hb dX4_order_115 rfl (lv_at hl 0 rfl) ?_
                refine b_putM (C := RX4) (T := TX4) (N := 16) (ty := .int) (vv := (agQ gj (wt (3 * j)) (wt (3 * j + 1)) (wt (3 * j + 2)))) hx hb hts in_X4 tyX4_ok nmX4 hown hK hP hD hS 2 rfl rfl 6 (by decide) q1813 (fun _ h9 => h9) rfl (by decide +kernel) rfl rfl (Nat.le_of_ble_eq_true rfl) (moL_set6 _ _ _) dX4_order_116 (fun H locs hP hD hS => ?_)
                have hP : WP Γ [[((r 2), .inl (Γ.2.1 0, 523, .inl (va_cpy g sf 0 0 523)))], [((r 0), .inl (Γ.2.1 0, 523, .inl (va_cpy (va_cpy g sf 0 0 523) (orF wt kn 0 g).2 0 0 523)))], [(a, moE r (upd i4 6 (agQ gj (wt (3 * j)) (wt (3 * j + 1)) (wt (3 * j + 2)))))], [((r 9), .inl (Γ.2.1 0, 50, .inl t))], [((r 14), .inl (Γ.2.1 0, 60, .inl wt))], [((r 4), .inl (Γ.2.1 0, 4184, .inl ps))]] H := hP
                have hD : WD A [[((r 2), .inl (Γ.2.1 0, 523, .inl (va_cpy g sf 0 0 523)))], [((r 0), .inl (Γ.2.1 0, 523, .inl (va_cpy (va_cpy g sf 0 0 523) (orF wt kn 0 g).2 0 0 523)))], [(a, moE r (upd i4 6 (agQ gj (wt (3 * j)) (wt (3 * j + 1)) (wt (3 * j + 2)))))], [((r 9), .inl (Γ.2.1 0, 50, .inl t))], [((r 14), .inl (Γ.2.1 0, 60, .inl wt))], [((r 4), .inl (Γ.2.1 0, 4184, .inl ps))]] := hD
                refine lv_aload_n hx hb dX4_order_119 rfl (lv_at hl 3 rfl) ?_
                refine lv_iconst (v := 2) hx hb dX4_order_120 (by decide) ?_
                refine b_calli (br := [[((r 2), .inl (Γ.2.1 0, 523, .inl (va_cpy g sf 0 0 523)))], [((r 0), .inl (Γ.2.1 0, 523, .inl (va_cpy (va_cpy g sf 0 0 523) (orF wt kn 0 g).2 0 0 523)))], [((r 9), .inl (Γ.2.1 0, 50, .inl t))], [((r 14), .inl (Γ.2.1 0, 60, .inl wt))], [((r 4), .inl (Γ.2.1 0, 4184, .inl ps))]]) (b_runV ⟨hx, hb, hml, hown, hts⟩ (mt_Mo_fails l Γ _ a r (upd i4 6 (agQ gj (wt (3 * j)) (wt (3 * j + 1)) (wt (3 * j + 2)))) 2) (lw_V q1936 q1938 qs40 q73 q1939) rfl rfl 1 (by decide +kernel) ⟨(Nat.le_of_ble_eq_true rfl), (Nat.le_of_ble_eq_true rfl)⟩ (c_pre hP hD hS hA hK hE [2] rfl rfl ro_nil) (recv_at (q := (RX4, TX4, 16)) hK (b_at (k := 2) hP rfl) rfl) rfl hl.1 rfl (Nat.le_of_ble_eq_true rfl) dX4_order_121 ⟨(Nat.le_of_ble_eq_true rfl), (Nat.le_of_ble_eq_true rfl)⟩) hP hD hS hA [2] [0, 1, 3, 4, 5] rfl rfl rfl (fun r_36 u_36 H locs hw_36 hP hD hS _ => ?_)
                obtain ⟨rfl, rfl⟩ := hw_36
                have hP : WP Γ [[(a, moE r (upd (upd i4 6 (agQ gj (wt (3 * j)) (wt (3 * j + 1)) (wt (3 * j + 2)))) 7 2))], [((r 2), .inl (Γ.2.1 0, 523, .inl (va_cpy g sf 0 0 523)))], [((r 0), .inl (Γ.2.1 0, 523, .inl (va_cpy (va_cpy g sf 0 0 523) (orF wt kn 0 g).2 0 0 523)))], [((r 9), .inl (Γ.2.1 0, 50, .inl t))], [((r 14), .inl (Γ.2.1 0, 60, .inl wt))], [((r 4), .inl (Γ.2.1 0, 4184, .inl ps))]] H := hP
                have hD : WD A [[(a, moE r (upd (upd i4 6 (agQ gj (wt (3 * j)) (wt (3 * j + 1)) (wt (3 * j + 2)))) 7 2))], [((r 2), .inl (Γ.2.1 0, 523, .inl (va_cpy g sf 0 0 523)))], [((r 0), .inl (Γ.2.1 0, 523, .inl (va_cpy (va_cpy g sf 0 0 523) (orF wt kn 0 g).2 0 0 523)))], [((r 9), .inl (Γ.2.1 0, 50, .inl t))], [((r 14), .inl (Γ.2.1 0, 60, .inl wt))], [((r 4), .inl (Γ.2.1 0, 4184, .inl ps))]] := hD
                have hP : WP Γ [[(a, moE r (upd (upd i4 6 (agQ gj (wt (3 * j)) (wt (3 * j + 1)) (wt (3 * j + 2)))) 7 2))], [((r 0), .inl (Γ.2.1 0, 523, .inl (va_cpy (va_cpy g sf 0 0 523) (orF wt kn 0 g).2 0 0 523)))], [((r 9), .inl (Γ.2.1 0, 50, .inl t))], [((r 14), .inl (Γ.2.1 0, 60, .inl wt))], [((r 2), .inl (Γ.2.1 0, 523, .inl (va_cpy g sf 0 0 523)))], [((r 4), .inl (Γ.2.1 0, 4184, .inl ps))]] H := bP_sel hP [0, 2, 3, 4, 1, 5] rfl
                have hD : WD A [[(a, moE r (upd (upd i4 6 (agQ gj (wt (3 * j)) (wt (3 * j + 1)) (wt (3 * j + 2)))) 7 2))], [((r 0), .inl (Γ.2.1 0, 523, .inl (va_cpy (va_cpy g sf 0 0 523) (orF wt kn 0 g).2 0 0 523)))], [((r 9), .inl (Γ.2.1 0, 50, .inl t))], [((r 14), .inl (Γ.2.1 0, 60, .inl wt))], [((r 2), .inl (Γ.2.1 0, 523, .inl (va_cpy g sf 0 0 523)))], [((r 4), .inl (Γ.2.1 0, 4184, .inl ps))]] := bD_sel hD [0, 2, 3, 4, 1, 5] rfl rfl
                exact b_iret hx hb hr hlocks hP hD hS (Nat.le_of_ble_eq_true rfl) (Nat.le_of_ble_eq_true rfl) ⟨(upd (upd i4 6 (agQ gj (wt (3 * j)) (wt (3 * j + 1)) (wt (3 * j + 2)))) 7 2), (by simp [upd, g3, g5, g6, g7, g10, g13]), (by simp [upd, g3, g5, g6, g7, g10, g13]), (by simp [upd, g3, g5, g6, g7, g10, g13]), (by simp [upd, g3, g5, g6, g7, g10, g13]), (by simp [upd, g3, g5, g6, g7, g10, g13]), (by simp [upd, hoe]), (by first | with_reducible rfl | (simp [n_2, n_3, n_6, m_6, d_6, c_33, d_33]; done) | rfl), (by first | with_reducible rfl | (simp [n_2, n_3, n_6, m_6, d_6, c_33, d_33]; done) | rfl)⟩ dX4_order_124
      exact loop_5 ((kn - 0) + 1) 0 g m0 (Nat.lt_succ_self _) (Nat.zero_le _) hg7 hg10 hm0 rfl _ _ _ hP hD hS (lv_sub hl [0, 1, 2] rfl)
    · -- 32 not taken
      have n_3 : 1 = 0 := (nI_eq (by omega) (by omega)).mp (show nI 1 = nI 0 from c_3)
      exact absurd n_3 (by omega)
