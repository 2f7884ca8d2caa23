/-! COMPONENT: read() -/
def txF (L : List Int32) : Nat → Nat → Int32 × Nat
  | 0, p => (0, p)
  | f + 1, p => if (cmdS L p).1 = 0 then cmdS L p else if rdH L (cmdS L p).2 = 59 then txF L f ((cmdS L p).2 + 1) else (if (cmdS L p).2 = L.length then 1 else 0, (cmdS L p).2)
/-- the whole text: read or not, where the fault is -/
def txS (L : List Int32) : Int32 × Nat := txF L (L.length + 1) 0
def txP (L : List Int32) : Nat → Nat → List Nat
  | 0, _ => []
  | f + 1, p => if (cmdS L p).1 = 0 then [] else p :: (if rdH L (cmdS L p).2 = 59 then txP L f ((cmdS L p).2 + 1) else [])
/-- where the commands begin -/
def txPS (L : List Int32) : List Nat := txP L (L.length + 1) 0
def tpI (L : List Int32) (j : Nat) (ps : Nat → Nat) (r : List Nat) : Prop := ∃ D : List Nat, D.length = j ∧ (∀ k, k < j → D.getD k 0 = ps k) ∧ txPS L = D ++ r
theorem tpI_push {L : List Int32} {j p : Nat} {ps : Nat → Nat} {r : List Nat} (h : tpI L j ps (p :: r)) : tpI L (j + 1) (va_up ps j p) r := by
  obtain ⟨D, h1, h2, h3⟩ := h
  refine ⟨D ++ [p], by rw [List.length_append, h1]; rfl, fun k hk => ?_, by rw [h3]; simp⟩
  show _ = if k = j then p else ps k
  by_cases e : k = j
  · rw [if_pos e, e, List.getD_eq_getElem?_getD, List.getElem?_append_right (by omega), h1]
    simp
  · rw [if_neg e, ← h2 k (by omega), List.getD_eq_getElem?_getD, List.getD_eq_getElem?_getD, List.getElem?_append_left (by omega)]
theorem tpI_end {L : List Int32} {j : Nat} {ps : Nat → Nat} (h : tpI L j ps []) : (txPS L).length = j ∧ ∀ k, k < j → (txPS L).getD k 0 = ps k := by
  obtain ⟨D, h1, h2, h3⟩ := h
  rw [List.append_nil] at h3
  rw [h3]
  exact ⟨h1, h2⟩
/-- behind a command that ends at q -/
def txR (L : List Int32) (f q : Nat) : Int32 × Nat := if rdH L q = 59 then txF L f (q + 1) else (if q = L.length then 1 else 0, q)
def txQ (L : List Int32) (f q : Nat) : List Nat := if rdH L q = 59 then txP L f (q + 1) else []
theorem tx_step {L : List Int32} {f p : Nat} (h : ¬ (cmdS L p).1 = 0) : txF L (f + 1) p = txR L f (cmdS L p).2 := by rw [txF, if_neg h]; rfl
theorem tx_bad {L : List Int32} {f p : Nat} (h : (cmdS L p).1 = 0) : txF L (f + 1) p = cmdS L p := by rw [txF, if_pos h]
theorem tp_step {L : List Int32} {f p : Nat} (h : ¬ (cmdS L p).1 = 0) : txP L (f + 1) p = p :: txQ L f (cmdS L p).2 := by rw [txP, if_neg h]; rfl
theorem cms_up {L : List Int32} {n : Nat} {ps : Nat → Nat} {cm : Nat → CM} {p : Nat} {q : CM} (h : ∀ k, k < n → cmOk L (ps k) (cm k)) (hq : cmOk L p q) : ∀ k, k < n + 1 → cmOk L (va_up ps n p k) (va_up cm n q k) := by
  intro k hk
  show cmOk L (if k = n then p else ps k) (if k = n then q else cm k)
  split
  · exact hq
  · exact h k (by omega)
def cm0 : CM := (0, 0, (0, fun _ => 0), [], 0, 0, 0, 0)
set_option maxHeartbeats 4000000 in
set_option maxRecDepth 100000 in
theorem mt_Rd_read_ok_0 (l : Launch) (Γ : GE) (sz : Nat) (a : Nat) (o : Nat) (y : SST) (L : List Int32) (z1 : Int32) (z2 : Int32) (hst : stF y L) (hL5 : L.length ≤ 50) (hcs9 : (txS L).1 = 1) : KM l yX10_read cX10_read 2 (some (FieldType.object "java/util/ArrayList")) Γ 8 216 (4 * L.length + 20) (700 * L.length + 1400) [.ref a] [[(a, .inr (8, [.ref o, .int (nI 0)]))]] [[(o, .inr (14, [.ref y.1, .int 0, .int z1, .int z2]))], [(y.1, .inl (Γ.2.1 1, L.length, .inl y.2))]] sz (Qq Γ (fun r_ u_ => ∃ al : Nat, ∃ m : Int32, ∃ x : LST, ∃ n : Nat, ∃ ps : Nat → Nat, ∃ cm : Nat → CM, alI Γ x n (fun k => (cm k).a) ∧ ((txPS L).length = n ∧ ∀ k, k < n → (txPS L).getD k 0 = ps k) ∧ (∀ k, k < n → cmOk L (ps k) (cm k)) ∧ n ≤ 50 ∧ r_ = some al ∧ u_ = [[(al, .inr (11, [.int m, .ref x.1, .int (nI n)]))], (alA Γ x), (cmsB Γ n cm)])) := by
  refine K_intro (by decide) (Nat.le_of_ble_eq_true rfl) ?_
  intro pr_ ev_ s mi_ below meth cd_ A ls hx hb hr hml hown hts hlocks hname hK hE hRo hP hD hA hS hsz hl
  have hl : lv_has ls 2 [(0, .ref a)] := hl
  have hown : s.vm.findClass RX10 = some mi_.cls := hown
  have hll := hst.1
  have hP : WP Γ [(cmsB Γ 0 (fun _ => cm0)), [(a, .inr (8, [.ref o, .int (nI 0)]))]] s.heap := hP
  have hD : WD A [(cmsB Γ 0 (fun _ => cm0)), [(a, .inr (8, [.ref o, .int (nI 0)]))]] := hD
  refine b_new (ci := 11) (fs := [.int 0, .null, .int 0]) (C := RJ2) (T := TJ2) (N := 3) hx hb hts in_J2 tyJ2_ok hown q1551 q118 q66 hK hP hD hS hA rfl (fun j hj => by rcases (show j = 0 ∨ j = 1 ∨ j = 2 by omega) with rfl | rfl | rfl <;> rfl) (by first | omega | (dsimp only; omega)) (by first | omega | (dsimp only; omega)) dX10_read_0 (fun a_1 H hP hD hS => ?_)
  have hP : WP Γ [(cmsB Γ 0 (fun _ => cm0)), [(a, .inr (8, [.ref o, .int (nI 0)]))], [(a_1, .inr (11, [.int 0, .null, .int 0]))]] H := hP
  have hD : WD A [(cmsB Γ 0 (fun _ => cm0)), [(a, .inr (8, [.ref o, .int (nI 0)]))], [(a_1, .inr (11, [.int 0, .null, .int 0]))]] := hD
  refine lv_dup hx hb dX10_read_3 rfl ?_
  refine b_callv (br := [(cmsB Γ 0 (fun _ => cm0)), [(a, .inr (8, [.ref o, .int (nI 0)]))]]) (b_runI ⟨hx, hb, hml, hown, hts⟩ (mt_AL_init l Γ _ a_1) (lw_meth q121) q66 q1552 q120 rfl rfl rfl 0 (by decide +kernel) ⟨(Nat.le_of_ble_eq_true rfl), (Nat.le_of_ble_eq_true rfl)⟩ (c_pre hP hD hS hA hK hE [2] rfl rfl ro_nil) rfl hl.1 rfl (Nat.le_of_ble_eq_true rfl) dX10_read_4 ⟨(by first | omega | (dsimp only; omega)), (by first | omega | (dsimp only; omega))⟩) hP hD hS hA [2] [0, 1] rfl rfl rfl (fun u_2 H locs hw_2 hP hD hS _ => ?_)
  obtain ⟨y_2, hy_2, hy0_2, rfl⟩ := hw_2
  have hP : WP Γ [[(a_1, .inr (11, [.int 0, .ref y_2.1, .int (nI 0)]))], (alA Γ y_2), (cmsB Γ 0 (fun _ => cm0)), [(a, .inr (8, [.ref o, .int (nI 0)]))]] H := hP
  have hD : WD A [[(a_1, .inr (11, [.int 0, .ref y_2.1, .int (nI 0)]))], (alA Γ y_2), (cmsB Γ 0 (fun _ => cm0)), [(a, .inr (8, [.ref o, .int (nI 0)]))]] := hD
  refine lv_astore_n (lv' := [(1, .ref a_1), (0, .ref a)]) hx hb dX10_read_7 rfl hl (by decide) rfl (fun ls hl => ?_)
  refine lv_aload_n hx hb dX10_read_8 rfl (lv_at hl 0 rfl) ?_
  refine lv_aload_n hx hb dX10_read_9 rfl (lv_at hl 1 rfl) ?_
  by_cases b8_0 : (cmdS L 0).1 = 0
  ·
    have hwin := wE_in (L := L) (i := 0) (by omega)
    have htx : txS L = cmdS L 0 := tx_bad b8_0
    exact absurd hcs9 (by rw [htx, b8_0]; decide)
  ·
    have hwin := wE_in (L := L) (i := 0) (by omega)
    have hcs := (cmdS_01 L 0).resolve_left b8_0
    have hadv := cmd_adv (i := 0) (by omega) hcs
    refine b_callq (br := [[(a_1, .inr (11, [.int 0, .ref y_2.1, .int (nI 0)]))], (alA Γ y_2), (cmsB Γ 0 (fun _ => cm0))]) (b_runV ⟨hx, hb, hml, hown, hts⟩ (mt_Rd_command_ok_0 l Γ _ a o y L z1 z2 0 (by assumption) (by omega) (by first | exact hL5 | omega) hcs) (lw_V q1553 q1555 qs25 q99 q1556) rfl rfl 0 (by decide +kernel) ⟨(Nat.le_of_ble_eq_true rfl), (Nat.le_of_ble_eq_true rfl)⟩ (c_pre hP hD hS hA hK hE [3] rfl rfl (ro_app (ro_pass (ro_sel (ro2 := [[(o, .inr (14, [.ref y.1, .int 0, .int z1, .int z2]))]]) hRo [0] rfl) hD hS hA [3] rfl) (ro_pass (ro_sel (ro2 := [[(y.1, .inl (Γ.2.1 1, L.length, .inl y.2))]]) hRo [1] rfl) hD hS hA [3] rfl))) (recv_at (q := (RX10, TX10, 2)) hK (b_at (k := 3) hP rfl) rfl) rfl hl.1 rfl (Nat.le_of_ble_eq_true rfl) dX10_read_10 ⟨(by first | omega | (dsimp only; omega)), (by first | omega | (dsimp only; omega))⟩) hP hD hS hA [3] [0, 1, 2] rfl rfl rfl (fun r_3 u_3 H locs hw_3 hP hD hS _ => ?_)
    obtain ⟨c_3, o2_3, y2_3, h2_3, z2__3, hs_3, hh_3, rfl, rfl⟩ := hw_3
    have hP : WP Γ [[(a, .inr (8, [.ref o, .int (nI (cmdS L 0).2)]))], [(c_3, .inr (10, [.ref o2_3, .int (cmdV L 0), .int (cmdX L 0)]))], [(o2_3, .inr (14, [.ref y2_3.1, .int 0, .int h2_3, .int z2__3]))], [(y2_3.1, .inl (Γ.2.1 1, (slL L 0 (wE L 0)).length, .inl y2_3.2))], [(a_1, .inr (11, [.int 0, .ref y_2.1, .int (nI 0)]))], (alA Γ y_2), (cmsB Γ 0 (fun _ => cm0))] H := hP
    have hD : WD A [[(a, .inr (8, [.ref o, .int (nI (cmdS L 0).2)]))], [(c_3, .inr (10, [.ref o2_3, .int (cmdV L 0), .int (cmdX L 0)]))], [(o2_3, .inr (14, [.ref y2_3.1, .int 0, .int h2_3, .int z2__3]))], [(y2_3.1, .inl (Γ.2.1 1, (slL L 0 (wE L 0)).length, .inl y2_3.2))], [(a_1, .inr (11, [.int 0, .ref y_2.1, .int (nI 0)]))], (alA Γ y_2), (cmsB Γ 0 (fun _ => cm0))] := hD
    refine W.eq (g2 := F0 mi_ 13 ls ([.ref c_3, .ref a_1])) rfl ?_
    have hP : WP Γ [[(c_3, .inr (10, [.ref o2_3, .int (cmdV L 0), .int (cmdX L 0)]))], [(o2_3, .inr (14, [.ref y2_3.1, .int 0, .int h2_3, .int z2__3]))], [(y2_3.1, .inl (Γ.2.1 1, (slL L 0 (wE L 0)).length, .inl y2_3.2))], (cmsB Γ 0 (fun _ => cm0)), [(a, .inr (8, [.ref o, .int (nI (cmdS L 0).2)]))], [(a_1, .inr (11, [.int 0, .ref y_2.1, .int (nI 0)]))], (alA Γ y_2)] H := bP_sel hP [1, 2, 3, 6, 0, 4, 5] rfl
    have hD : WD A [[(c_3, .inr (10, [.ref o2_3, .int (cmdV L 0), .int (cmdX L 0)]))], [(o2_3, .inr (14, [.ref y2_3.1, .int 0, .int h2_3, .int z2__3]))], [(y2_3.1, .inl (Γ.2.1 1, (slL L 0 (wE L 0)).length, .inl y2_3.2))], (cmsB Γ 0 (fun _ => cm0)), [(a, .inr (8, [.ref o, .int (nI (cmdS L 0).2)]))], [(a_1, .inr (11, [.int 0, .ref y_2.1, .int (nI 0)]))], (alA Γ y_2)] := bD_sel hD [1, 2, 3, 6, 0, 4, 5] rfl rfl
    obtain ⟨qq_3, hqq_3⟩ : ∃ z : CM, z = (c_3, o2_3, y2_3, (slL L 0 (wE L 0)), (cmdV L 0), (cmdX L 0), h2_3, z2__3) := ⟨_, rfl⟩
    have hP : WP Γ [(cmsB Γ (0 + 1) (va_up (fun _ => cm0) 0 qq_3)), [(a, .inr (8, [.ref o, .int (nI (cmdS L 0).2)]))], [(a_1, .inr (11, [.int 0, .ref y_2.1, .int (nI 0)]))], (alA Γ y_2)] H := cmsP_push (q := qq_3) (by rw [hqq_3]; exact hP)
    have hD : WD A [(cmsB Γ (0 + 1) (va_up (fun _ => cm0) 0 qq_3)), [(a, .inr (8, [.ref o, .int (nI (cmdS L 0).2)]))], [(a_1, .inr (11, [.int 0, .ref y_2.1, .int (nI 0)]))], (alA Γ y_2)] := cmsD_push (q := qq_3) (by rw [hqq_3]; exact hD)
    have hqa_3 : c_3 = qq_3.a := by rw [hqq_3]
    have hqo_3 : cmOk L 0 qq_3 := by rw [hqq_3]; exact ⟨rfl, rfl, rfl, hs_3, hh_3, hcs⟩
    refine W.eq (g2 := F0 mi_ 13 ls ([.ref qq_3.a, .ref a_1])) (by rw [hqa_3]) ?_
    refine b_calli (br := [(cmsB Γ (0 + 1) (va_up (fun _ => cm0) 0 qq_3)), [(a, .inr (8, [.ref o, .int (nI (cmdS L 0).2)]))]]) (b_runV ⟨hx, hb, hml, hown, hts⟩ (mt_AL_add l Γ _ a_1 0 y_2 0 (fun k => ((fun _ => cm0) k).a) qq_3.a (cmsB Γ (0 + 1) (va_up (fun _ => cm0) 0 qq_3)) (hy_2 _) (by omega) cms_el2 cms_el1) (lw_V q1693 q474 q475 q66 q476) rfl rfl 1 (by decide +kernel) ⟨(Nat.le_of_ble_eq_true rfl), (Nat.le_of_ble_eq_true rfl)⟩ (c_pre hP hD hS hA hK hE [2, 3] rfl rfl (ro_own (br := [(cmsB Γ (0 + 1) (va_up (fun _ => cm0) 0 qq_3))]) hP hD [2, 3] [0] rfl rfl rfl)) (recv_at (q := (RJ2, TJ2, 3)) hK (b_at (k := 2) hP rfl) rfl) rfl hl.1 rfl (Nat.le_of_ble_eq_true rfl) dX10_read_13 ⟨(by first | omega | (dsimp only; omega)), (by first | omega | (dsimp only; omega))⟩) hP hD hS hA [2, 3] [0, 1] rfl rfl rfl (fun r_4 u_4 H locs hw_4 hP hD hS _ => ?_)
    obtain ⟨y_4, hy_4, rfl, rfl⟩ := hw_4
    have hP : WP Γ [[(a_1, .inr (11, [.int (0 + 1), .ref y_4.1, .int (nI 1)]))], (alA Γ y_4), (cmsB Γ (0 + 1) (va_up (fun _ => cm0) 0 qq_3)), [(a, .inr (8, [.ref o, .int (nI (cmdS L 0).2)]))]] H := hP
    have hD : WD A [[(a_1, .inr (11, [.int (0 + 1), .ref y_4.1, .int (nI 1)]))], (alA Γ y_4), (cmsB Γ (0 + 1) (va_up (fun _ => cm0) 0 qq_3)), [(a, .inr (8, [.ref o, .int (nI (cmdS L 0).2)]))]] := hD
    refine lv_pop hx hb dX10_read_16 rfl ?_
    have hTS : txS L = txR L L.length (cmdS L 0).2 := tx_step b8_0
    have hTP : tpI L (0 + 1) (va_up (fun _ => 0) 0 0) (txQ L L.length (cmdS L 0).2) := tpI_push (L := L) (j := 0) (ps := fun _ => 0) ⟨[], rfl, fun k hk => absurd hk (Nat.not_lt_zero k), tp_step b8_0⟩
    have hAx : alI Γ y_4 (0 + 1) (fun k => (va_up (fun _ => cm0) 0 qq_3 k).a) := by rw [cmA_up]; exact hy_4
    have hP : WP Γ [[(a, .inr (8, [.ref o, .int (nI (cmdS L 0).2)]))], [(a_1, .inr (11, [.int (0 + 1), .ref y_4.1, .int (nI 1)]))], (alA Γ y_4), (cmsB Γ (0 + 1) (va_up (fun _ => cm0) 0 qq_3))] H := bP_sel hP [3, 0, 1, 2] rfl
    have hD : WD A [[(a, .inr (8, [.ref o, .int (nI (cmdS L 0).2)]))], [(a_1, .inr (11, [.int (0 + 1), .ref y_4.1, .int (nI 1)]))], (alA Γ y_4), (cmsB Γ (0 + 1) (va_up (fun _ => cm0) 0 qq_3))] := bD_sel hD [3, 0, 1, 2] rfl rfl
    have loop_5 : ∀ (fuel : Nat) (q : Nat) (x5 : LST) (m5 : Int32) (j : Nat) (ps : Nat → Nat) (cm : Nat → CM) (f : Nat), L.length + 1 - q < fuel → (q ≤ L.length) → (j ≤ q) → (1 ≤ j) → (L.length ≤ f + q) → (alI Γ x5 j (fun k => (cm k).a)) → (txS L = txR L f q) → (tpI L j ps (txQ L f q)) → (∀ k, k < j → cmOk L (ps k) (cm k)) → ∀ (H : Heap) (locs : List Loc) (ls : Array Slot), WP Γ [[(a, .inr (8, [.ref o, .int (nI q)]))], [(a_1, .inr (11, [.int m5, .ref x5.1, .int (nI j)]))], (alA Γ x5), (cmsB Γ j cm)] H → WD A [[(a, .inr (8, [.ref o, .int (nI q)]))], [(a_1, .inr (11, [.int m5, .ref x5.1, .int (nI j)]))], (alA Γ x5), (cmsB Γ j cm)] → va_S A s.heap H locs → lv_has ls 2 [(1, .ref a_1), (0, .ref a)] → W pr_ l ev_ { frames := 8, cells := (4 * L.length + 20), slots := (700 * L.length + 1400), locals := 216 } s mi_ ([.ref a] : List Value).toArray below meth cd_ H locs (4 * q + 1) (700 * q + 3) (MQ below (Qq Γ (fun r_ u_ => ∃ al : Nat, ∃ m : Int32, ∃ x : LST, ∃ n : Nat, ∃ ps : Nat → Nat, ∃ cm : Nat → CM, alI Γ x n (fun k => (cm k).a) ∧ ((txPS L).length = n ∧ ∀ k, k < n → (txPS L).getD k 0 = ps k) ∧ (∀ k, k < n → cmOk L (ps k) (cm k)) ∧ n ≤ 50 ∧ r_ = some al ∧ u_ = [[(al, .inr (11, [.int m, .ref x.1, .int (nI n)]))], (alA Γ x), (cmsB Γ n cm)]) A) ([.ref a] : List Value).toArray s (4 * L.length + 20) (700 * L.length + 1400) A) (F0 mi_ 17 ls ([])) := by
      intro fuel
      induction fuel with
      | zero => intro q x5 m5 j ps cm f hfuel; exact absurd hfuel (Nat.not_lt_zero _)
      | succ fuel ih =>
        intro q x5 m5 j ps cm f hfuel hqn hjq hj1 hfq hAx hTS hTP hcm H locs ls hP hD hS hl
        refine lv_aload_n hx hb dX10_read_17 rfl (lv_at hl 1 rfl) ?_
        refine lv_bipush (v := 59) hx hb dX10_read_18 (by decide) ?_
        by_cases h59 : rdH L q = 59
        ·
          have hql := rdH_lt (by decide) h59
          obtain ⟨f1, rfl⟩ : ∃ f1, f = f1 + 1 := ⟨f - 1, by omega⟩
          refine b_calli (br := [[(a_1, .inr (11, [.int m5, .ref x5.1, .int (nI j)]))], (alA Γ x5), (cmsB Γ j cm)]) (b_runV ⟨hx, hb, hml, hown, hts⟩ (mt_Rd_skip_yes_0 l Γ _ a o y L z1 z2 q 59 (by assumption) (by omega) (by omega)) (lw_V q1669 q1671 qs29 q99 q1672) rfl rfl 1 (by decide +kernel) ⟨(Nat.le_of_ble_eq_true rfl), (Nat.le_of_ble_eq_true rfl)⟩ (c_pre hP hD hS hA hK hE [0] rfl rfl (ro_app (ro_pass (ro_sel (ro2 := [[(o, .inr (14, [.ref y.1, .int 0, .int z1, .int z2]))]]) hRo [0] rfl) hD hS hA [0] rfl) (ro_pass (ro_sel (ro2 := [[(y.1, .inl (Γ.2.1 1, L.length, .inl y.2))]]) hRo [1] rfl) hD hS hA [0] rfl))) (recv_at (q := (RX10, TX10, 2)) hK (b_at (k := 0) hP rfl) rfl) rfl hl.1 rfl (Nat.le_of_ble_eq_true rfl) dX10_read_20 ⟨(by first | omega | (dsimp only; omega)), (by first | omega | (dsimp only; omega))⟩) hP hD hS hA [0] [1, 2, 3] rfl rfl rfl (fun r_6 u_6 H locs hw_6 hP hD hS _ => ?_)
          obtain ⟨rfl, rfl⟩ := hw_6
          have hP : WP Γ [[(a, .inr (8, [.ref o, .int (nI (q + 1))]))], [(a_1, .inr (11, [.int m5, .ref x5.1, .int (nI j)]))], (alA Γ x5), (cmsB Γ j cm)] H := hP
          have hD : WD A [[(a, .inr (8, [.ref o, .int (nI (q + 1))]))], [(a_1, .inr (11, [.int m5, .ref x5.1, .int (nI j)]))], (alA Γ x5), (cmsB Γ j cm)] := hD
          refine lv_if_eq (tgt := 38) hx hb dX10_read_23 (by decide) (fun c_7 => ?_) (fun c_7 => ?_)
          · -- 23 taken
            have n_7 : 1 = 0 := (nI_eq (by omega) (by omega)).mp (show nI 1 = nI 0 from c_7)
            exact absurd n_7 (by omega)
          · -- 23 not taken
            have n_7 : ¬ (1 = 0) := fun hh7 => c_7 ((nI_eq (a := 1) (b := 0) (by omega) (by omega)).mpr hh7)
            refine lv_aload_n hx hb dX10_read_26 rfl (lv_at hl 0 rfl) ?_
            refine lv_aload_n hx hb dX10_read_27 rfl (lv_at hl 1 rfl) ?_
            by_cases b8_q : (cmdS L (q + 1)).1 = 0
            ·
              have hwin := wE_in (L := L) (i := q + 1) (by omega)
              have htx : txS L = cmdS L (q + 1) := (by rw [hTS]; unfold txR; rw [if_pos h59]; exact tx_bad b8_q)
              exact absurd hcs9 (by rw [htx, b8_q]; decide)
            ·
              have hwin := wE_in (L := L) (i := q + 1) (by omega)
              have hcs := (cmdS_01 L (q + 1)).resolve_left b8_q
              have hadv := cmd_adv (i := q + 1) (by omega) hcs
              refine b_callq (br := [[(a_1, .inr (11, [.int m5, .ref x5.1, .int (nI j)]))], (alA Γ x5), (cmsB Γ j cm)]) (b_runV ⟨hx, hb, hml, hown, hts⟩ (mt_Rd_command_ok_0 l Γ _ a o y L z1 z2 (q + 1) (by assumption) (by omega) (by first | exact hL5 | omega) hcs) (lw_V q1553 q1555 qs25 q99 q1556) rfl rfl 0 (by decide +kernel) ⟨(Nat.le_of_ble_eq_true rfl), (Nat.le_of_ble_eq_true rfl)⟩ (c_pre hP hD hS hA hK hE [0] rfl rfl (ro_app (ro_pass (ro_sel (ro2 := [[(o, .inr (14, [.ref y.1, .int 0, .int z1, .int z2]))]]) hRo [0] rfl) hD hS hA [0] rfl) (ro_pass (ro_sel (ro2 := [[(y.1, .inl (Γ.2.1 1, L.length, .inl y.2))]]) hRo [1] rfl) hD hS hA [0] rfl))) (recv_at (q := (RX10, TX10, 2)) hK (b_at (k := 0) hP rfl) rfl) rfl hl.1 rfl (Nat.le_of_ble_eq_true rfl) dX10_read_28 ⟨(by first | omega | (dsimp only; omega)), (by first | omega | (dsimp only; omega))⟩) hP hD hS hA [0] [1, 2, 3] rfl rfl rfl (fun r_8 u_8 H locs hw_8 hP hD hS _ => ?_)
              obtain ⟨c_8, o2_8, y2_8, h2_8, z2__8, hs_8, hh_8, rfl, rfl⟩ := hw_8
              have hP : WP Γ [[(a, .inr (8, [.ref o, .int (nI (cmdS L (q + 1)).2)]))], [(c_8, .inr (10, [.ref o2_8, .int (cmdV L (q + 1)), .int (cmdX L (q + 1))]))], [(o2_8, .inr (14, [.ref y2_8.1, .int 0, .int h2_8, .int z2__8]))], [(y2_8.1, .inl (Γ.2.1 1, (slL L (q + 1) (wE L (q + 1))).length, .inl y2_8.2))], [(a_1, .inr (11, [.int m5, .ref x5.1, .int (nI j)]))], (alA Γ x5), (cmsB Γ j cm)] H := hP
              have hD : WD A [[(a, .inr (8, [.ref o, .int (nI (cmdS L (q + 1)).2)]))], [(c_8, .inr (10, [.ref o2_8, .int (cmdV L (q + 1)), .int (cmdX L (q + 1))]))], [(o2_8, .inr (14, [.ref y2_8.1, .int 0, .int h2_8, .int z2__8]))], [(y2_8.1, .inl (Γ.2.1 1, (slL L (q + 1) (wE L (q + 1))).length, .inl y2_8.2))], [(a_1, .inr (11, [.int m5, .ref x5.1, .int (nI j)]))], (alA Γ x5), (cmsB Γ j cm)] := hD
              refine W.eq (g2 := F0 mi_ 31 ls ([.ref c_8, .ref a_1])) rfl ?_
              have hP : WP Γ [[(c_8, .inr (10, [.ref o2_8, .int (cmdV L (q + 1)), .int (cmdX L (q + 1))]))], [(o2_8, .inr (14, [.ref y2_8.1, .int 0, .int h2_8, .int z2__8]))], [(y2_8.1, .inl (Γ.2.1 1, (slL L (q + 1) (wE L (q + 1))).length, .inl y2_8.2))], (cmsB Γ j cm), [(a, .inr (8, [.ref o, .int (nI (cmdS L (q + 1)).2)]))], [(a_1, .inr (11, [.int m5, .ref x5.1, .int (nI j)]))], (alA Γ x5)] H := bP_sel hP [1, 2, 3, 6, 0, 4, 5] rfl
              have hD : WD A [[(c_8, .inr (10, [.ref o2_8, .int (cmdV L (q + 1)), .int (cmdX L (q + 1))]))], [(o2_8, .inr (14, [.ref y2_8.1, .int 0, .int h2_8, .int z2__8]))], [(y2_8.1, .inl (Γ.2.1 1, (slL L (q + 1) (wE L (q + 1))).length, .inl y2_8.2))], (cmsB Γ j cm), [(a, .inr (8, [.ref o, .int (nI (cmdS L (q + 1)).2)]))], [(a_1, .inr (11, [.int m5, .ref x5.1, .int (nI j)]))], (alA Γ x5)] := bD_sel hD [1, 2, 3, 6, 0, 4, 5] rfl rfl
              obtain ⟨qq_8, hqq_8⟩ : ∃ z : CM, z = (c_8, o2_8, y2_8, (slL L (q + 1) (wE L (q + 1))), (cmdV L (q + 1)), (cmdX L (q + 1)), h2_8, z2__8) := ⟨_, rfl⟩
              have hP : WP Γ [(cmsB Γ (j + 1) (va_up cm j qq_8)), [(a, .inr (8, [.ref o, .int (nI (cmdS L (q + 1)).2)]))], [(a_1, .inr (11, [.int m5, .ref x5.1, .int (nI j)]))], (alA Γ x5)] H := cmsP_push (q := qq_8) (by rw [hqq_8]; exact hP)
              have hD : WD A [(cmsB Γ (j + 1) (va_up cm j qq_8)), [(a, .inr (8, [.ref o, .int (nI (cmdS L (q + 1)).2)]))], [(a_1, .inr (11, [.int m5, .ref x5.1, .int (nI j)]))], (alA Γ x5)] := cmsD_push (q := qq_8) (by rw [hqq_8]; exact hD)
              have hqa_8 : c_8 = qq_8.a := by rw [hqq_8]
              have hqo_8 : cmOk L (q + 1) qq_8 := by rw [hqq_8]; exact ⟨rfl, rfl, rfl, hs_8, hh_8, hcs⟩
              refine W.eq (g2 := F0 mi_ 31 ls ([.ref qq_8.a, .ref a_1])) (by rw [hqa_8]) ?_
              refine b_calli (br := [(cmsB Γ (j + 1) (va_up cm j qq_8)), [(a, .inr (8, [.ref o, .int (nI (cmdS L (q + 1)).2)]))]]) (b_runV ⟨hx, hb, hml, hown, hts⟩ (mt_AL_add l Γ _ a_1 m5 x5 j (fun k => (cm k).a) qq_8.a (cmsB Γ (j + 1) (va_up cm j qq_8)) hAx (by omega) cms_el2 cms_el1) (lw_V q1693 q474 q475 q66 q476) rfl rfl 1 (by decide +kernel) ⟨(Nat.le_of_ble_eq_true rfl), (Nat.le_of_ble_eq_true rfl)⟩ (c_pre hP hD hS hA hK hE [2, 3] rfl rfl (ro_own (br := [(cmsB Γ (j + 1) (va_up cm j qq_8))]) hP hD [2, 3] [0] rfl rfl rfl)) (recv_at (q := (RJ2, TJ2, 3)) hK (b_at (k := 2) hP rfl) rfl) rfl hl.1 rfl (Nat.le_of_ble_eq_true rfl) dX10_read_31 ⟨(by first | omega | (dsimp only; omega)), (by first | omega | (dsimp only; omega))⟩) hP hD hS hA [2, 3] [0, 1] rfl rfl rfl (fun r_9 u_9 H locs hw_9 hP hD hS _ => ?_)
              obtain ⟨y_9, hy_9, rfl, rfl⟩ := hw_9
              have hP : WP Γ [[(a_1, .inr (11, [.int (m5 + 1), .ref y_9.1, .int (nI (j + 1))]))], (alA Γ y_9), (cmsB Γ (j + 1) (va_up cm j qq_8)), [(a, .inr (8, [.ref o, .int (nI (cmdS L (q + 1)).2)]))]] H := hP
              have hD : WD A [[(a_1, .inr (11, [.int (m5 + 1), .ref y_9.1, .int (nI (j + 1))]))], (alA Γ y_9), (cmsB Γ (j + 1) (va_up cm j qq_8)), [(a, .inr (8, [.ref o, .int (nI (cmdS L (q + 1)).2)]))]] := hD
              refine lv_pop hx hb dX10_read_34 rfl ?_
              refine lv_goto (tgt := 17) hx hb dX10_read_35 (by decide) ?_
              have hP : WP Γ [[(a, .inr (8, [.ref o, .int (nI (cmdS L (q + 1)).2)]))], [(a_1, .inr (11, [.int (m5 + 1), .ref y_9.1, .int (nI (j + 1))]))], (alA Γ y_9), (cmsB Γ (j + 1) (va_up cm j qq_8))] H := bP_sel hP [3, 0, 1, 2] rfl
              have hD : WD A [[(a, .inr (8, [.ref o, .int (nI (cmdS L (q + 1)).2)]))], [(a_1, .inr (11, [.int (m5 + 1), .ref y_9.1, .int (nI (j + 1))]))], (alA Γ y_9), (cmsB Γ (j + 1) (va_up cm j qq_8))] := bD_sel hD [3, 0, 1, 2] rfl rfl
              have hTS2 : txS L = txR L f1 (cmdS L (q + 1)).2 := by rw [hTS]; unfold txR; rw [if_pos h59]; exact tx_step b8_q
              have hTP2 : tpI L (j + 1) (va_up ps j (q + 1)) (txQ L f1 (cmdS L (q + 1)).2) := tpI_push (by unfold txQ at hTP; rw [if_pos h59, tp_step b8_q] at hTP; exact hTP)
              have hAx2 : alI Γ y_9 (j + 1) (fun k => (va_up cm j qq_8 k).a) := by rw [cmA_up]; exact hy_9
              refine W.widen (k := (4 * (cmdS L (q + 1)).2 + 1)) (n := (700 * (cmdS L (q + 1)).2 + 3)) (by omega) (by omega) ?_
              exact ih (cmdS L (q + 1)).2 y_9 (m5 + 1) (j + 1) (va_up ps j (q + 1)) (va_up cm j qq_8) f1 (by omega) (by omega) (by omega) (by omega) (by omega) hAx2 hTS2 hTP2 (cms_up hcm hqo_8) _ _ _ hP hD hS (lv_sub hl [0, 1] rfl)
        ·
          refine b_calli (br := [[(a_1, .inr (11, [.int m5, .ref x5.1, .int (nI j)]))], (alA Γ x5), (cmsB Γ j cm)]) (b_runV ⟨hx, hb, hml, hown, hts⟩ (mt_Rd_skip_no_0 l Γ _ a o y L z1 z2 q 59 (by assumption) (by omega) (by omega)) (lw_V q1669 q1671 qs29 q99 q1672) rfl rfl 1 (by decide +kernel) ⟨(Nat.le_of_ble_eq_true rfl), (Nat.le_of_ble_eq_true rfl)⟩ (c_pre hP hD hS hA hK hE [0] rfl rfl (ro_app (ro_pass (ro_sel (ro2 := [[(o, .inr (14, [.ref y.1, .int 0, .int z1, .int z2]))]]) hRo [0] rfl) hD hS hA [0] rfl) (ro_pass (ro_sel (ro2 := [[(y.1, .inl (Γ.2.1 1, L.length, .inl y.2))]]) hRo [1] rfl) hD hS hA [0] rfl))) (recv_at (q := (RX10, TX10, 2)) hK (b_at (k := 0) hP rfl) rfl) rfl hl.1 rfl (Nat.le_of_ble_eq_true rfl) dX10_read_20 ⟨(by first | omega | (dsimp only; omega)), (by first | omega | (dsimp only; omega))⟩) hP hD hS hA [0] [1, 2, 3] rfl rfl rfl (fun r_10 u_10 H locs hw_10 hP hD hS _ => ?_)
          obtain ⟨rfl, rfl⟩ := hw_10
          have hP : WP Γ [[(a, .inr (8, [.ref o, .int (nI q)]))], [(a_1, .inr (11, [.int m5, .ref x5.1, .int (nI j)]))], (alA Γ x5), (cmsB Γ j cm)] H := hP
          have hD : WD A [[(a, .inr (8, [.ref o, .int (nI q)]))], [(a_1, .inr (11, [.int m5, .ref x5.1, .int (nI j)]))], (alA Γ x5), (cmsB Γ j cm)] := hD
          refine lv_if_eq (tgt := 38) hx hb dX10_read_23 (by decide) (fun c_11 => ?_) (fun c_11 => ?_)
          · -- 23 taken
            have n_11 : 0 = 0 := (nI_eq (by omega) (by omega)).mp (show nI 0 = nI 0 from c_11)
            refine lv_aload_n hx hb dX10_read_38 rfl (lv_at hl 1 rfl) ?_
            refine b_get (C := RX10) (T := TX10) (N := 2) (v := .int (nI q)) hx hb hts in_X10 hown hK (b_at (k := 0) hP rfl) rfl 1 (by decide) q1539 (fun _ h9 => h9) rfl dX10_read_39 ?_
            refine lv_aload_n hx hb dX10_read_42 rfl (lv_at hl 1 rfl) ?_
            refine b_get (C := RX10) (T := TX10) (N := 2) (v := .ref o) hx hb hts in_X10 hown hK (b_at (k := 0) hP rfl) rfl 0 (by decide) q1538 (fun _ h9 => h9) rfl dX10_read_43 ?_
            refine b_calli (br := [[(a, .inr (8, [.ref o, .int (nI q)]))], [(a_1, .inr (11, [.int m5, .ref x5.1, .int (nI j)]))], (alA Γ x5), (cmsB Γ j cm)]) (b_runV ⟨hx, hb, hml, hown, hts⟩ (mt_Str_length_0 l Γ _ o y.1 z1 z2 L.length y.2 (by omega)) (lw_V q1567 q666 q667 q71 q668) rfl rfl 0 (by decide +kernel) ⟨(Nat.le_of_ble_eq_true rfl), (Nat.le_of_ble_eq_true rfl)⟩ (c_pre hP hD hS hA hK hE [] rfl rfl (ro_app (ro_pass (ro_sel (ro2 := [[(o, .inr (14, [.ref y.1, .int 0, .int z1, .int z2]))]]) hRo [0] rfl) hD hS hA [] rfl) (ro_pass (ro_sel (ro2 := [[(y.1, .inl (Γ.2.1 1, L.length, .inl y.2))]]) hRo [1] rfl) hD hS hA [] rfl))) (recv_ro hK ((hRo (o, .inr (14, [.ref y.1, .int 0, .int z1, .int z2])) (by simp)).keep hS (fun _ h => h))) rfl hl.1 rfl (Nat.le_of_ble_eq_true rfl) dX10_read_46 ⟨(by first | omega | (dsimp only; omega)), (by first | omega | (dsimp only; omega))⟩) hP hD hS hA [] [0, 1, 2, 3] rfl rfl rfl (fun r_12 u_12 H locs hw_12 hP hD hS _ => ?_)
            obtain ⟨rfl, rfl⟩ := hw_12
            have hP : WP Γ [[(a, .inr (8, [.ref o, .int (nI q)]))], [(a_1, .inr (11, [.int m5, .ref x5.1, .int (nI j)]))], (alA Γ x5), (cmsB Γ j cm)] H := hP
            have hD : WD A [[(a, .inr (8, [.ref o, .int (nI q)]))], [(a_1, .inr (11, [.int m5, .ref x5.1, .int (nI j)]))], (alA Γ x5), (cmsB Γ j cm)] := hD
            refine lv_icmp_ge (tgt := 64) hx hb dX10_read_49 (by decide) (fun c_13 => ?_) (fun c_13 => ?_)
            · -- 49 taken
              have n_13 : L.length ≤ q := (nI_leI (by omega) (by omega)).mp (show nI L.length ≤ nI q from c_13)
              have m_13 : ¬ (q < L.length) := by omega
              have d_13 := Int32.not_lt.mpr c_13
              have htx : txS L = (1, q) := by rw [hTS]; unfold txR; rw [if_neg h59, if_pos (by omega)]
              refine lv_aload_n hx hb dX10_read_64 rfl (lv_at hl 0 rfl) ?_
              have hP : WP Γ [[(a_1, .inr (11, [.int m5, .ref x5.1, .int (nI j)]))], (alA Γ x5), (cmsB Γ j cm)] H := bP_sel hP [1, 2, 3] rfl
              have hD : WD A [[(a_1, .inr (11, [.int m5, .ref x5.1, .int (nI j)]))], (alA Γ x5), (cmsB Γ j cm)] := bD_sel hD [1, 2, 3] rfl rfl
              exact b_aret hx hb hr (by first | exact Or.inl ⟨_, rfl⟩ | exact Or.inr ⟨_, rfl⟩) hlocks hP hD hS (by first | omega | (dsimp only; omega)) (by first | omega | (dsimp only; omega)) ⟨a_1, m5, x5, j, ps, cm, hAx, (tpI_end (by unfold txQ at hTP; rw [if_neg h59] at hTP; exact hTP)), hcm, (by omega), (by first | with_reducible rfl | (simp [b8_0, h59, n_11, n_13, m_13, d_13]; done) | rfl), rfl⟩ dX10_read_65
            · -- 49 not taken
              have n_13 : ¬ (L.length ≤ q) := fun hh7 => c_13 ((nI_leI (a := L.length) (b := q) (by omega) (by omega)).mpr hh7)
              have m_13 : q < L.length := by omega
              have d_13 := Int32.not_le.mp c_13
              have htx : txS L = (0, q) := by rw [hTS]; unfold txR; rw [if_neg h59, if_neg (by omega)]
              exact absurd hcs9 (by rw [htx]; show ¬ (0 : Int32) = 1; decide)
          · -- 23 not taken
            have n_11 : ¬ (0 = 0) := fun hh7 => c_11 ((nI_eq (a := 0) (b := 0) (by omega) (by omega)).mpr hh7)
            exact absurd n_11 (by omega)
    refine W.widen (k := (4 * (cmdS L 0).2 + 1)) (n := (700 * (cmdS L 0).2 + 3)) (by omega) (by omega) ?_
    exact loop_5 ((L.length + 1 - (cmdS L 0).2) + 1) (cmdS L 0).2 y_4 (0 + 1) (0 + 1) (va_up (fun _ => 0) 0 0) (va_up (fun _ => cm0) 0 qq_3) L.length (Nat.lt_succ_self _) (by omega) (by omega) (by omega) (by omega) hAx hTS hTP (cms_up (n := 0) (fun k hk => absurd hk (Nat.not_lt_zero k)) hqo_3) _ _ _ hP hD hS (lv_sub hl [0, 1] rfl)
set_option maxHeartbeats 4000000 in
set_option maxRecDepth 100000 in
theorem mt_Rd_read_x_0 (l : Launch) (Γ : GE) (sz : Nat) (a : Nat) (o : Nat) (y : SST) (L : List Int32) (z1 : Int32) (z2 : Int32) (hnt : l.stackTraces = false) (hst : stF y L) (hL5 : L.length ≤ 50) (hcs9 : (txS L).1 = 0) : KMX l yX10_read cX10_read 2 (some (FieldType.object "java/util/ArrayList")) Γ 8 216 (4 * L.length + 20) (700 * L.length + 1400) [.ref a] [[(a, .inr (8, [.ref o, .int (nI 0)]))]] [[(o, .inr (14, [.ref y.1, .int 0, .int z1, .int z2]))], [(y.1, .inl (Γ.2.1 1, L.length, .inl y.2))]] sz "DairyBook$Fault" (fun q_ u_ => u_ = [[(q_, .inr (9, [.int (nI (txS L).2)]))]]) := by
  refine K_introX (by decide) (Nat.le_of_ble_eq_true rfl) ?_
  intro pr_ ev_ s mi_ below meth cd_ A ls hx hb hr hml hown hts hlocks hname hK hE hRo hP hD hA hS hsz hl ht9
  have hl : lv_has ls 2 [(0, .ref a)] := hl
  have hown : s.vm.findClass RX10 = some mi_.cls := hown
  have hll := hst.1
  have hP : WP Γ [(cmsB Γ 0 (fun _ => cm0)), [(a, .inr (8, [.ref o, .int (nI 0)]))]] s.heap := hP
  have hD : WD A [(cmsB Γ 0 (fun _ => cm0)), [(a, .inr (8, [.ref o, .int (nI 0)]))]] := hD
  refine b_new (ci := 11) (fs := [.int 0, .null, .int 0]) (C := RJ2) (T := TJ2) (N := 3) hx hb hts in_J2 tyJ2_ok hown q1551 q118 q66 hK hP hD hS hA rfl (fun j hj => by rcases (show j = 0 ∨ j = 1 ∨ j = 2 by omega) with rfl | rfl | rfl <;> rfl) (by first | omega | (dsimp only; omega)) (by first | omega | (dsimp only; omega)) dX10_read_0 (fun a_1 H hP hD hS => ?_)
  have hP : WP Γ [(cmsB Γ 0 (fun _ => cm0)), [(a, .inr (8, [.ref o, .int (nI 0)]))], [(a_1, .inr (11, [.int 0, .null, .int 0]))]] H := hP
  have hD : WD A [(cmsB Γ 0 (fun _ => cm0)), [(a, .inr (8, [.ref o, .int (nI 0)]))], [(a_1, .inr (11, [.int 0, .null, .int 0]))]] := hD
  refine lv_dup hx hb dX10_read_3 rfl ?_
  refine b_callv (br := [(cmsB Γ 0 (fun _ => cm0)), [(a, .inr (8, [.ref o, .int (nI 0)]))]]) (b_runI ⟨hx, hb, hml, hown, hts⟩ (mt_AL_init l Γ _ a_1) (lw_meth q121) q66 q1552 q120 rfl rfl rfl 0 (by decide +kernel) ⟨(Nat.le_of_ble_eq_true rfl), (Nat.le_of_ble_eq_true rfl)⟩ (c_pre hP hD hS hA hK hE [2] rfl rfl ro_nil) rfl hl.1 rfl (Nat.le_of_ble_eq_true rfl) dX10_read_4 ⟨(by first | omega | (dsimp only; omega)), (by first | omega | (dsimp only; omega))⟩) hP hD hS hA [2] [0, 1] rfl rfl rfl (fun u_2 H locs hw_2 hP hD hS _ => ?_)
  obtain ⟨y_2, hy_2, hy0_2, rfl⟩ := hw_2
  have hP : WP Γ [[(a_1, .inr (11, [.int 0, .ref y_2.1, .int (nI 0)]))], (alA Γ y_2), (cmsB Γ 0 (fun _ => cm0)), [(a, .inr (8, [.ref o, .int (nI 0)]))]] H := hP
  have hD : WD A [[(a_1, .inr (11, [.int 0, .ref y_2.1, .int (nI 0)]))], (alA Γ y_2), (cmsB Γ 0 (fun _ => cm0)), [(a, .inr (8, [.ref o, .int (nI 0)]))]] := hD
  refine lv_astore_n (lv' := [(1, .ref a_1), (0, .ref a)]) hx hb dX10_read_7 rfl hl (by decide) rfl (fun ls hl => ?_)
  refine lv_aload_n hx hb dX10_read_8 rfl (lv_at hl 0 rfl) ?_
  refine lv_aload_n hx hb dX10_read_9 rfl (lv_at hl 1 rfl) ?_
  by_cases b8_0 : (cmdS L 0).1 = 0
  ·
    have hwin := wE_in (L := L) (i := 0) (by omega)
    have htx : txS L = cmdS L 0 := tx_bad b8_0
    refine b_callx (br := [[(a_1, .inr (11, [.int 0, .ref y_2.1, .int (nI 0)]))], (alA Γ y_2), (cmsB Γ 0 (fun _ => cm0))]) (b_runVx ⟨hx, hb, hml, hown, hts⟩ (mt_Rd_command_x_0 l Γ _ a o y L z1 z2 0 hnt (by assumption) (by omega) (by first | exact hL5 | omega) b8_0) (lw_V q1553 q1555 qs25 q99 q1556) rfl rfl 0 (by decide +kernel) ⟨(Nat.le_of_ble_eq_true rfl), (Nat.le_of_ble_eq_true rfl)⟩ (c_pre hP hD hS hA hK hE [3] rfl rfl (ro_app (ro_pass (ro_sel (ro2 := [[(o, .inr (14, [.ref y.1, .int 0, .int z1, .int z2]))]]) hRo [0] rfl) hD hS hA [3] rfl) (ro_pass (ro_sel (ro2 := [[(y.1, .inl (Γ.2.1 1, L.length, .inl y.2))]]) hRo [1] rfl) hD hS hA [3] rfl))) (recv_at (q := (RX10, TX10, 2)) hK (b_at (k := 3) hP rfl) rfl) rfl hl.1 rfl (Nat.le_of_ble_eq_true rfl) dX10_read_10 ⟨(by first | omega | (dsimp only; omega)), (by first | omega | (dsimp only; omega))⟩) hP hD hS hA [3] [0, 1, 2] rfl rfl rfl (fun q_3 ce_3 u_3 H locs hw_3 hP hD hS _ hce_3 hcv_3 hcl_3 => ?_)
    obtain rfl := hw_3
    have hP : WP Γ [[(q_3, .inr (9, [.int (nI (cmdS L 0).2)]))], [(a_1, .inr (11, [.int 0, .ref y_2.1, .int (nI 0)]))], (alA Γ y_2), (cmsB Γ 0 (fun _ => cm0))] H := hP
    have hD : WD A [[(q_3, .inr (9, [.int (nI (cmdS L 0).2)]))], [(a_1, .inr (11, [.int 0, .ref y_2.1, .int (nI 0)]))], (alA Γ y_2), (cmsB Γ 0 (fun _ => cm0))] := hD
    have hP : WP Γ [[(q_3, .inr (9, [.int (nI (cmdS L 0).2)]))]] H := bP_sel hP [0] rfl
    have hD : WD A [[(q_3, .inr (9, [.int (nI (cmdS L 0).2)]))]] := bD_sel hD [0] rfl rfl
    exact b_outx hlocks (fun x hx9 => (ht9 x hx9).elim) hP hD hS hce_3 hcv_3 hcl_3 (by first | with_reducible rfl | (simp [htx, b8_0]; done) | rfl) (by first | omega | (dsimp only; omega)) (by first | omega | (dsimp only; omega))
  ·
    have hwin := wE_in (L := L) (i := 0) (by omega)
    have hcs := (cmdS_01 L 0).resolve_left b8_0
    have hadv := cmd_adv (i := 0) (by omega) hcs
    refine b_callq (br := [[(a_1, .inr (11, [.int 0, .ref y_2.1, .int (nI 0)]))], (alA Γ y_2), (cmsB Γ 0 (fun _ => cm0))]) (b_runV ⟨hx, hb, hml, hown, hts⟩ (mt_Rd_command_ok_0 l Γ _ a o y L z1 z2 0 (by assumption) (by omega) (by first | exact hL5 | omega) hcs) (lw_V q1553 q1555 qs25 q99 q1556) rfl rfl 0 (by decide +kernel) ⟨(Nat.le_of_ble_eq_true rfl), (Nat.le_of_ble_eq_true rfl)⟩ (c_pre hP hD hS hA hK hE [3] rfl rfl (ro_app (ro_pass (ro_sel (ro2 := [[(o, .inr (14, [.ref y.1, .int 0, .int z1, .int z2]))]]) hRo [0] rfl) hD hS hA [3] rfl) (ro_pass (ro_sel (ro2 := [[(y.1, .inl (Γ.2.1 1, L.length, .inl y.2))]]) hRo [1] rfl) hD hS hA [3] rfl))) (recv_at (q := (RX10, TX10, 2)) hK (b_at (k := 3) hP rfl) rfl) rfl hl.1 rfl (Nat.le_of_ble_eq_true rfl) dX10_read_10 ⟨(by first | omega | (dsimp only; omega)), (by first | omega | (dsimp only; omega))⟩) hP hD hS hA [3] [0, 1, 2] rfl rfl rfl (fun r_4 u_4 H locs hw_4 hP hD hS _ => ?_)
    obtain ⟨c_4, o2_4, y2_4, h2_4, z2__4, hs_4, hh_4, rfl, rfl⟩ := hw_4
    have hP : WP Γ [[(a, .inr (8, [.ref o, .int (nI (cmdS L 0).2)]))], [(c_4, .inr (10, [.ref o2_4, .int (cmdV L 0), .int (cmdX L 0)]))], [(o2_4, .inr (14, [.ref y2_4.1, .int 0, .int h2_4, .int z2__4]))], [(y2_4.1, .inl (Γ.2.1 1, (slL L 0 (wE L 0)).length, .inl y2_4.2))], [(a_1, .inr (11, [.int 0, .ref y_2.1, .int (nI 0)]))], (alA Γ y_2), (cmsB Γ 0 (fun _ => cm0))] H := hP
    have hD : WD A [[(a, .inr (8, [.ref o, .int (nI (cmdS L 0).2)]))], [(c_4, .inr (10, [.ref o2_4, .int (cmdV L 0), .int (cmdX L 0)]))], [(o2_4, .inr (14, [.ref y2_4.1, .int 0, .int h2_4, .int z2__4]))], [(y2_4.1, .inl (Γ.2.1 1, (slL L 0 (wE L 0)).length, .inl y2_4.2))], [(a_1, .inr (11, [.int 0, .ref y_2.1, .int (nI 0)]))], (alA Γ y_2), (cmsB Γ 0 (fun _ => cm0))] := hD
    refine W.eq (g2 := F0 mi_ 13 ls ([.ref c_4, .ref a_1])) rfl ?_
    have hP : WP Γ [[(c_4, .inr (10, [.ref o2_4, .int (cmdV L 0), .int (cmdX L 0)]))], [(o2_4, .inr (14, [.ref y2_4.1, .int 0, .int h2_4, .int z2__4]))], [(y2_4.1, .inl (Γ.2.1 1, (slL L 0 (wE L 0)).length, .inl y2_4.2))], (cmsB Γ 0 (fun _ => cm0)), [(a, .inr (8, [.ref o, .int (nI (cmdS L 0).2)]))], [(a_1, .inr (11, [.int 0, .ref y_2.1, .int (nI 0)]))], (alA Γ y_2)] H := bP_sel hP [1, 2, 3, 6, 0, 4, 5] rfl
    have hD : WD A [[(c_4, .inr (10, [.ref o2_4, .int (cmdV L 0), .int (cmdX L 0)]))], [(o2_4, .inr (14, [.ref y2_4.1, .int 0, .int h2_4, .int z2__4]))], [(y2_4.1, .inl (Γ.2.1 1, (slL L 0 (wE L 0)).length, .inl y2_4.2))], (cmsB Γ 0 (fun _ => cm0)), [(a, .inr (8, [.ref o, .int (nI (cmdS L 0).2)]))], [(a_1, .inr (11, [.int 0, .ref y_2.1, .int (nI 0)]))], (alA Γ y_2)] := bD_sel hD [1, 2, 3, 6, 0, 4, 5] rfl rfl
    obtain ⟨qq_4, hqq_4⟩ : ∃ z : CM, z = (c_4, o2_4, y2_4, (slL L 0 (wE L 0)), (cmdV L 0), (cmdX L 0), h2_4, z2__4) := ⟨_, rfl⟩
    have hP : WP Γ [(cmsB Γ (0 + 1) (va_up (fun _ => cm0) 0 qq_4)), [(a, .inr (8, [.ref o, .int (nI (cmdS L 0).2)]))], [(a_1, .inr (11, [.int 0, .ref y_2.1, .int (nI 0)]))], (alA Γ y_2)] H := cmsP_push (q := qq_4) (by rw [hqq_4]; exact hP)
    have hD : WD A [(cmsB Γ (0 + 1) (va_up (fun _ => cm0) 0 qq_4)), [(a, .inr (8, [.ref o, .int (nI (cmdS L 0).2)]))], [(a_1, .inr (11, [.int 0, .ref y_2.1, .int (nI 0)]))], (alA Γ y_2)] := cmsD_push (q := qq_4) (by rw [hqq_4]; exact hD)
    have hqa_4 : c_4 = qq_4.a := by rw [hqq_4]
    have hqo_4 : cmOk L 0 qq_4 := by rw [hqq_4]; exact ⟨rfl, rfl, rfl, hs_4, hh_4, hcs⟩
    refine W.eq (g2 := F0 mi_ 13 ls ([.ref qq_4.a, .ref a_1])) (by rw [hqa_4]) ?_
    refine b_calli (br := [(cmsB Γ (0 + 1) (va_up (fun _ => cm0) 0 qq_4)), [(a, .inr (8, [.ref o, .int (nI (cmdS L 0).2)]))]]) (b_runV ⟨hx, hb, hml, hown, hts⟩ (mt_AL_add l Γ _ a_1 0 y_2 0 (fun k => ((fun _ => cm0) k).a) qq_4.a (cmsB Γ (0 + 1) (va_up (fun _ => cm0) 0 qq_4)) (hy_2 _) (by omega) cms_el2 cms_el1) (lw_V q1693 q474 q475 q66 q476) rfl rfl 1 (by decide +kernel) ⟨(Nat.le_of_ble_eq_true rfl), (Nat.le_of_ble_eq_true rfl)⟩ (c_pre hP hD hS hA hK hE [2, 3] rfl rfl (ro_own (br := [(cmsB Γ (0 + 1) (va_up (fun _ => cm0) 0 qq_4))]) hP hD [2, 3] [0] rfl rfl rfl)) (recv_at (q := (RJ2, TJ2, 3)) hK (b_at (k := 2) hP rfl) rfl) rfl hl.1 rfl (Nat.le_of_ble_eq_true rfl) dX10_read_13 ⟨(by first | omega | (dsimp only; omega)), (by first | omega | (dsimp only; omega))⟩) hP hD hS hA [2, 3] [0, 1] rfl rfl rfl (fun r_5 u_5 H locs hw_5 hP hD hS _ => ?_)
    obtain ⟨y_5, hy_5, rfl, rfl⟩ := hw_5
    have hP : WP Γ [[(a_1, .inr (11, [.int (0 + 1), .ref y_5.1, .int (nI 1)]))], (alA Γ y_5), (cmsB Γ (0 + 1) (va_up (fun _ => cm0) 0 qq_4)), [(a, .inr (8, [.ref o, .int (nI (cmdS L 0).2)]))]] H := hP
    have hD : WD A [[(a_1, .inr (11, [.int (0 + 1), .ref y_5.1, .int (nI 1)]))], (alA Γ y_5), (cmsB Γ (0 + 1) (va_up (fun _ => cm0) 0 qq_4)), [(a, .inr (8, [.ref o, .int (nI (cmdS L 0).2)]))]] := hD
    refine lv_pop hx hb dX10_read_16 rfl ?_
    have hTS : txS L = txR L L.length (cmdS L 0).2 := tx_step b8_0
    have hTP : tpI L (0 + 1) (va_up (fun _ => 0) 0 0) (txQ L L.length (cmdS L 0).2) := tpI_push (L := L) (j := 0) (ps := fun _ => 0) ⟨[], rfl, fun k hk => absurd hk (Nat.not_lt_zero k), tp_step b8_0⟩
    have hAx : alI Γ y_5 (0 + 1) (fun k => (va_up (fun _ => cm0) 0 qq_4 k).a) := by rw [cmA_up]; exact hy_5
    have hP : WP Γ [[(a, .inr (8, [.ref o, .int (nI (cmdS L 0).2)]))], [(a_1, .inr (11, [.int (0 + 1), .ref y_5.1, .int (nI 1)]))], (alA Γ y_5), (cmsB Γ (0 + 1) (va_up (fun _ => cm0) 0 qq_4))] H := bP_sel hP [3, 0, 1, 2] rfl
    have hD : WD A [[(a, .inr (8, [.ref o, .int (nI (cmdS L 0).2)]))], [(a_1, .inr (11, [.int (0 + 1), .ref y_5.1, .int (nI 1)]))], (alA Γ y_5), (cmsB Γ (0 + 1) (va_up (fun _ => cm0) 0 qq_4))] := bD_sel hD [3, 0, 1, 2] rfl rfl
    have loop_6 : ∀ (fuel : Nat) (q : Nat) (x5 : LST) (m5 : Int32) (j : Nat) (ps : Nat → Nat) (cm : Nat → CM) (f : Nat), L.length + 1 - q < fuel → (q ≤ L.length) → (j ≤ q) → (1 ≤ j) → (L.length ≤ f + q) → (alI Γ x5 j (fun k => (cm k).a)) → (txS L = txR L f q) → (tpI L j ps (txQ L f q)) → (∀ k, k < j → cmOk L (ps k) (cm k)) → ∀ (H : Heap) (locs : List Loc) (ls : Array Slot), WP Γ [[(a, .inr (8, [.ref o, .int (nI q)]))], [(a_1, .inr (11, [.int m5, .ref x5.1, .int (nI j)]))], (alA Γ x5), (cmsB Γ j cm)] H → WD A [[(a, .inr (8, [.ref o, .int (nI q)]))], [(a_1, .inr (11, [.int m5, .ref x5.1, .int (nI j)]))], (alA Γ x5), (cmsB Γ j cm)] → va_S A s.heap H locs → lv_has ls 2 [(1, .ref a_1), (0, .ref a)] → W pr_ l ev_ { frames := 8, cells := (4 * L.length + 20), slots := (700 * L.length + 1400), locals := 216 } s mi_ ([.ref a] : List Value).toArray below meth cd_ H locs (4 * q + 1) (700 * q + 3) (vx_MQ below QN (XB Γ "DairyBook$Fault" (fun q_ u_ => u_ = [[(q_, .inr (9, [.int (nI (txS L).2)]))]]) A) ([.ref a] : List Value).toArray s (4 * L.length + 20) (700 * L.length + 1400) A) (F0 mi_ 17 ls ([])) := by
      intro fuel
      induction fuel with
      | zero => intro q x5 m5 j ps cm f hfuel; exact absurd hfuel (Nat.not_lt_zero _)
      | succ fuel ih =>
        intro q x5 m5 j ps cm f hfuel hqn hjq hj1 hfq hAx hTS hTP hcm H locs ls hP hD hS hl
        refine lv_aload_n hx hb dX10_read_17 rfl (lv_at hl 1 rfl) ?_
        refine lv_bipush (v := 59) hx hb dX10_read_18 (by decide) ?_
        by_cases h59 : rdH L q = 59
        ·
          have hql := rdH_lt (by decide) h59
          obtain ⟨f1, rfl⟩ : ∃ f1, f = f1 + 1 := ⟨f - 1, by omega⟩
          refine b_calli (br := [[(a_1, .inr (11, [.int m5, .ref x5.1, .int (nI j)]))], (alA Γ x5), (cmsB Γ j cm)]) (b_runV ⟨hx, hb, hml, hown, hts⟩ (mt_Rd_skip_yes_0 l Γ _ a o y L z1 z2 q 59 (by assumption) (by omega) (by omega)) (lw_V q1669 q1671 qs29 q99 q1672) rfl rfl 1 (by decide +kernel) ⟨(Nat.le_of_ble_eq_true rfl), (Nat.le_of_ble_eq_true rfl)⟩ (c_pre hP hD hS hA hK hE [0] rfl rfl (ro_app (ro_pass (ro_sel (ro2 := [[(o, .inr (14, [.ref y.1, .int 0, .int z1, .int z2]))]]) hRo [0] rfl) hD hS hA [0] rfl) (ro_pass (ro_sel (ro2 := [[(y.1, .inl (Γ.2.1 1, L.length, .inl y.2))]]) hRo [1] rfl) hD hS hA [0] rfl))) (recv_at (q := (RX10, TX10, 2)) hK (b_at (k := 0) hP rfl) rfl) rfl hl.1 rfl (Nat.le_of_ble_eq_true rfl) dX10_read_20 ⟨(by first | omega | (dsimp only; omega)), (by first | omega | (dsimp only; omega))⟩) hP hD hS hA [0] [1, 2, 3] rfl rfl rfl (fun r_7 u_7 H locs hw_7 hP hD hS _ => ?_)
          obtain ⟨rfl, rfl⟩ := hw_7
          have hP : WP Γ [[(a, .inr (8, [.ref o, .int (nI (q + 1))]))], [(a_1, .inr (11, [.int m5, .ref x5.1, .int (nI j)]))], (alA Γ x5), (cmsB Γ j cm)] H := hP
          have hD : WD A [[(a, .inr (8, [.ref o, .int (nI (q + 1))]))], [(a_1, .inr (11, [.int m5, .ref x5.1, .int (nI j)]))], (alA Γ x5), (cmsB Γ j cm)] := hD
          refine lv_if_eq (tgt := 38) hx hb dX10_read_23 (by decide) (fun c_8 => ?_) (fun c_8 => ?_)
          · -- 23 taken
            have n_8 : 1 = 0 := (nI_eq (by omega) (by omega)).mp (show nI 1 = nI 0 from c_8)
            exact absurd n_8 (by omega)
          · -- 23 not taken
            have n_8 : ¬ (1 = 0) := fun hh7 => c_8 ((nI_eq (a := 1) (b := 0) (by omega) (by omega)).mpr hh7)
            refine lv_aload_n hx hb dX10_read_26 rfl (lv_at hl 0 rfl) ?_
            refine lv_aload_n hx hb dX10_read_27 rfl (lv_at hl 1 rfl) ?_
            by_cases b8_q : (cmdS L (q + 1)).1 = 0
            ·
              have hwin := wE_in (L := L) (i := q + 1) (by omega)
              have htx : txS L = cmdS L (q + 1) := (by rw [hTS]; unfold txR; rw [if_pos h59]; exact tx_bad b8_q)
              refine b_callx (br := [[(a_1, .inr (11, [.int m5, .ref x5.1, .int (nI j)]))], (alA Γ x5), (cmsB Γ j cm)]) (b_runVx ⟨hx, hb, hml, hown, hts⟩ (mt_Rd_command_x_0 l Γ _ a o y L z1 z2 (q + 1) hnt (by assumption) (by omega) (by first | exact hL5 | omega) b8_q) (lw_V q1553 q1555 qs25 q99 q1556) rfl rfl 0 (by decide +kernel) ⟨(Nat.le_of_ble_eq_true rfl), (Nat.le_of_ble_eq_true rfl)⟩ (c_pre hP hD hS hA hK hE [0] rfl rfl (ro_app (ro_pass (ro_sel (ro2 := [[(o, .inr (14, [.ref y.1, .int 0, .int z1, .int z2]))]]) hRo [0] rfl) hD hS hA [0] rfl) (ro_pass (ro_sel (ro2 := [[(y.1, .inl (Γ.2.1 1, L.length, .inl y.2))]]) hRo [1] rfl) hD hS hA [0] rfl))) (recv_at (q := (RX10, TX10, 2)) hK (b_at (k := 0) hP rfl) rfl) rfl hl.1 rfl (Nat.le_of_ble_eq_true rfl) dX10_read_28 ⟨(by first | omega | (dsimp only; omega)), (by first | omega | (dsimp only; omega))⟩) hP hD hS hA [0] [1, 2, 3] rfl rfl rfl (fun q_9 ce_9 u_9 H locs hw_9 hP hD hS _ hce_9 hcv_9 hcl_9 => ?_)
              obtain rfl := hw_9
              have hP : WP Γ [[(q_9, .inr (9, [.int (nI (cmdS L (q + 1)).2)]))], [(a_1, .inr (11, [.int m5, .ref x5.1, .int (nI j)]))], (alA Γ x5), (cmsB Γ j cm)] H := hP
              have hD : WD A [[(q_9, .inr (9, [.int (nI (cmdS L (q + 1)).2)]))], [(a_1, .inr (11, [.int m5, .ref x5.1, .int (nI j)]))], (alA Γ x5), (cmsB Γ j cm)] := hD
              have hP : WP Γ [[(q_9, .inr (9, [.int (nI (cmdS L (q + 1)).2)]))]] H := bP_sel hP [0] rfl
              have hD : WD A [[(q_9, .inr (9, [.int (nI (cmdS L (q + 1)).2)]))]] := bD_sel hD [0] rfl rfl
              exact b_outx hlocks (fun x hx9 => (ht9 x hx9).elim) hP hD hS hce_9 hcv_9 hcl_9 (by first | with_reducible rfl | (simp [htx, b8_0, h59, n_8, b8_q]; done) | rfl) (by first | omega | (dsimp only; omega)) (by first | omega | (dsimp only; omega))
            ·
              have hwin := wE_in (L := L) (i := q + 1) (by omega)
              have hcs := (cmdS_01 L (q + 1)).resolve_left b8_q
              have hadv := cmd_adv (i := q + 1) (by omega) hcs
              refine b_callq (br := [[(a_1, .inr (11, [.int m5, .ref x5.1, .int (nI j)]))], (alA Γ x5), (cmsB Γ j cm)]) (b_runV ⟨hx, hb, hml, hown, hts⟩ (mt_Rd_command_ok_0 l Γ _ a o y L z1 z2 (q + 1) (by assumption) (by omega) (by first | exact hL5 | omega) hcs) (lw_V q1553 q1555 qs25 q99 q1556) rfl rfl 0 (by decide +kernel) ⟨(Nat.le_of_ble_eq_true rfl), (Nat.le_of_ble_eq_true rfl)⟩ (c_pre hP hD hS hA hK hE [0] rfl rfl (ro_app (ro_pass (ro_sel (ro2 := [[(o, .inr (14, [.ref y.1, .int 0, .int z1, .int z2]))]]) hRo [0] rfl) hD hS hA [0] rfl) (ro_pass (ro_sel (ro2 := [[(y.1, .inl (Γ.2.1 1, L.length, .inl y.2))]]) hRo [1] rfl) hD hS hA [0] rfl))) (recv_at (q := (RX10, TX10, 2)) hK (b_at (k := 0) hP rfl) rfl) rfl hl.1 rfl (Nat.le_of_ble_eq_true rfl) dX10_read_28 ⟨(by first | omega | (dsimp only; omega)), (by first | omega | (dsimp only; omega))⟩) hP hD hS hA [0] [1, 2, 3] rfl rfl rfl (fun r_10 u_10 H locs hw_10 hP hD hS _ => ?_)
              obtain ⟨c_10, o2_10, y2_10, h2_10, z2__10, hs_10, hh_10, rfl, rfl⟩ := hw_10
              have hP : WP Γ [[(a, .inr (8, [.ref o, .int (nI (cmdS L (q + 1)).2)]))], [(c_10, .inr (10, [.ref o2_10, .int (cmdV L (q + 1)), .int (cmdX L (q + 1))]))], [(o2_10, .inr (14, [.ref y2_10.1, .int 0, .int h2_10, .int z2__10]))], [(y2_10.1, .inl (Γ.2.1 1, (slL L (q + 1) (wE L (q + 1))).length, .inl y2_10.2))], [(a_1, .inr (11, [.int m5, .ref x5.1, .int (nI j)]))], (alA Γ x5), (cmsB Γ j cm)] H := hP
              have hD : WD A [[(a, .inr (8, [.ref o, .int (nI (cmdS L (q + 1)).2)]))], [(c_10, .inr (10, [.ref o2_10, .int (cmdV L (q + 1)), .int (cmdX L (q + 1))]))], [(o2_10, .inr (14, [.ref y2_10.1, .int 0, .int h2_10, .int z2__10]))], [(y2_10.1, .inl (Γ.2.1 1, (slL L (q + 1) (wE L (q + 1))).length, .inl y2_10.2))], [(a_1, .inr (11, [.int m5, .ref x5.1, .int (nI j)]))], (alA Γ x5), (cmsB Γ j cm)] := hD
              refine W.eq (g2 := F0 mi_ 31 ls ([.ref c_10, .ref a_1])) rfl ?_
              have hP : WP Γ [[(c_10, .inr (10, [.ref o2_10, .int (cmdV L (q + 1)), .int (cmdX L (q + 1))]))], [(o2_10, .inr (14, [.ref y2_10.1, .int 0, .int h2_10, .int z2__10]))], [(y2_10.1, .inl (Γ.2.1 1, (slL L (q + 1) (wE L (q + 1))).length, .inl y2_10.2))], (cmsB Γ j cm), [(a, .inr (8, [.ref o, .int (nI (cmdS L (q + 1)).2)]))], [(a_1, .inr (11, [.int m5, .ref x5.1, .int (nI j)]))], (alA Γ x5)] H := bP_sel hP [1, 2, 3, 6, 0, 4, 5] rfl
              have hD : WD A [[(c_10, .inr (10, [.ref o2_10, .int (cmdV L (q + 1)), .int (cmdX L (q + 1))]))], [(o2_10, .inr (14, [.ref y2_10.1, .int 0, .int h2_10, .int z2__10]))], [(y2_10.1, .inl (Γ.2.1 1, (slL L (q + 1) (wE L (q + 1))).length, .inl y2_10.2))], (cmsB Γ j cm), [(a, .inr (8, [.ref o, .int (nI (cmdS L (q + 1)).2)]))], [(a_1, .inr (11, [.int m5, .ref x5.1, .int (nI j)]))], (alA Γ x5)] := bD_sel hD [1, 2, 3, 6, 0, 4, 5] rfl rfl
              obtain ⟨qq_10, hqq_10⟩ : ∃ z : CM, z = (c_10, o2_10, y2_10, (slL L (q + 1) (wE L (q + 1))), (cmdV L (q + 1)), (cmdX L (q + 1)), h2_10, z2__10) := ⟨_, rfl⟩
              have hP : WP Γ [(cmsB Γ (j + 1) (va_up cm j qq_10)), [(a, .inr (8, [.ref o, .int (nI (cmdS L (q + 1)).2)]))], [(a_1, .inr (11, [.int m5, .ref x5.1, .int (nI j)]))], (alA Γ x5)] H := cmsP_push (q := qq_10) (by rw [hqq_10]; exact hP)
              have hD : WD A [(cmsB Γ (j + 1) (va_up cm j qq_10)), [(a, .inr (8, [.ref o, .int (nI (cmdS L (q + 1)).2)]))], [(a_1, .inr (11, [.int m5, .ref x5.1, .int (nI j)]))], (alA Γ x5)] := cmsD_push (q := qq_10) (by rw [hqq_10]; exact hD)
              have hqa_10 : c_10 = qq_10.a := by rw [hqq_10]
              have hqo_10 : cmOk L (q + 1) qq_10 := by rw [hqq_10]; exact ⟨rfl, rfl, rfl, hs_10, hh_10, hcs⟩
              refine W.eq (g2 := F0 mi_ 31 ls ([.ref qq_10.a, .ref a_1])) (by rw [hqa_10]) ?_
              refine b_calli (br := [(cmsB Γ (j + 1) (va_up cm j qq_10)), [(a, .inr (8, [.ref o, .int (nI (cmdS L (q + 1)).2)]))]]) (b_runV ⟨hx, hb, hml, hown, hts⟩ (mt_AL_add l Γ _ a_1 m5 x5 j (fun k => (cm k).a) qq_10.a (cmsB Γ (j + 1) (va_up cm j qq_10)) hAx (by omega) cms_el2 cms_el1) (lw_V q1693 q474 q475 q66 q476) rfl rfl 1 (by decide +kernel) ⟨(Nat.le_of_ble_eq_true rfl), (Nat.le_of_ble_eq_true rfl)⟩ (c_pre hP hD hS hA hK hE [2, 3] rfl rfl (ro_own (br := [(cmsB Γ (j + 1) (va_up cm j qq_10))]) hP hD [2, 3] [0] rfl rfl rfl)) (recv_at (q := (RJ2, TJ2, 3)) hK (b_at (k := 2) hP rfl) rfl) rfl hl.1 rfl (Nat.le_of_ble_eq_true rfl) dX10_read_31 ⟨(by first | omega | (dsimp only; omega)), (by first | omega | (dsimp only; omega))⟩) hP hD hS hA [2, 3] [0, 1] rfl rfl rfl (fun r_11 u_11 H locs hw_11 hP hD hS _ => ?_)
              obtain ⟨y_11, hy_11, rfl, rfl⟩ := hw_11
              have hP : WP Γ [[(a_1, .inr (11, [.int (m5 + 1), .ref y_11.1, .int (nI (j + 1))]))], (alA Γ y_11), (cmsB Γ (j + 1) (va_up cm j qq_10)), [(a, .inr (8, [.ref o, .int (nI (cmdS L (q + 1)).2)]))]] H := hP
              have hD : WD A [[(a_1, .inr (11, [.int (m5 + 1), .ref y_11.1, .int (nI (j + 1))]))], (alA Γ y_11), (cmsB Γ (j + 1) (va_up cm j qq_10)), [(a, .inr (8, [.ref o, .int (nI (cmdS L (q + 1)).2)]))]] := hD
              refine lv_pop hx hb dX10_read_34 rfl ?_
              refine lv_goto (tgt := 17) hx hb dX10_read_35 (by decide) ?_
              have hP : WP Γ [[(a, .inr (8, [.ref o, .int (nI (cmdS L (q + 1)).2)]))], [(a_1, .inr (11, [.int (m5 + 1), .ref y_11.1, .int (nI (j + 1))]))], (alA Γ y_11), (cmsB Γ (j + 1) (va_up cm j qq_10))] H := bP_sel hP [3, 0, 1, 2] rfl
              have hD : WD A [[(a, .inr (8, [.ref o, .int (nI (cmdS L (q + 1)).2)]))], [(a_1, .inr (11, [.int (m5 + 1), .ref y_11.1, .int (nI (j + 1))]))], (alA Γ y_11), (cmsB Γ (j + 1) (va_up cm j qq_10))] := bD_sel hD [3, 0, 1, 2] rfl rfl
              have hTS2 : txS L = txR L f1 (cmdS L (q + 1)).2 := by rw [hTS]; unfold txR; rw [if_pos h59]; exact tx_step b8_q
              have hTP2 : tpI L (j + 1) (va_up ps j (q + 1)) (txQ L f1 (cmdS L (q + 1)).2) := tpI_push (by unfold txQ at hTP; rw [if_pos h59, tp_step b8_q] at hTP; exact hTP)
              have hAx2 : alI Γ y_11 (j + 1) (fun k => (va_up cm j qq_10 k).a) := by rw [cmA_up]; exact hy_11
              refine W.widen (k := (4 * (cmdS L (q + 1)).2 + 1)) (n := (700 * (cmdS L (q + 1)).2 + 3)) (by omega) (by omega) ?_
              exact ih (cmdS L (q + 1)).2 y_11 (m5 + 1) (j + 1) (va_up ps j (q + 1)) (va_up cm j qq_10) f1 (by omega) (by omega) (by omega) (by omega) (by omega) hAx2 hTS2 hTP2 (cms_up hcm hqo_10) _ _ _ hP hD hS (lv_sub hl [0, 1] rfl)
        ·
          refine b_calli (br := [[(a_1, .inr (11, [.int m5, .ref x5.1, .int (nI j)]))], (alA Γ x5), (cmsB Γ j cm)]) (b_runV ⟨hx, hb, hml, hown, hts⟩ (mt_Rd_skip_no_0 l Γ _ a o y L z1 z2 q 59 (by assumption) (by omega) (by omega)) (lw_V q1669 q1671 qs29 q99 q1672) rfl rfl 1 (by decide +kernel) ⟨(Nat.le_of_ble_eq_true rfl), (Nat.le_of_ble_eq_true rfl)⟩ (c_pre hP hD hS hA hK hE [0] rfl rfl (ro_app (ro_pass (ro_sel (ro2 := [[(o, .inr (14, [.ref y.1, .int 0, .int z1, .int z2]))]]) hRo [0] rfl) hD hS hA [0] rfl) (ro_pass (ro_sel (ro2 := [[(y.1, .inl (Γ.2.1 1, L.length, .inl y.2))]]) hRo [1] rfl) hD hS hA [0] rfl))) (recv_at (q := (RX10, TX10, 2)) hK (b_at (k := 0) hP rfl) rfl) rfl hl.1 rfl (Nat.le_of_ble_eq_true rfl) dX10_read_20 ⟨(by first | omega | (dsimp only; omega)), (by first | omega | (dsimp only; omega))⟩) hP hD hS hA [0] [1, 2, 3] rfl rfl rfl (fun r_12 u_12 H locs hw_12 hP hD hS _ => ?_)
          obtain ⟨rfl, rfl⟩ := hw_12
          have hP : WP Γ [[(a, .inr (8, [.ref o, .int (nI q)]))], [(a_1, .inr (11, [.int m5, .ref x5.1, .int (nI j)]))], (alA Γ x5), (cmsB Γ j cm)] H := hP
          have hD : WD A [[(a, .inr (8, [.ref o, .int (nI q)]))], [(a_1, .inr (11, [.int m5, .ref x5.1, .int (nI j)]))], (alA Γ x5), (cmsB Γ j cm)] := hD
          refine lv_if_eq (tgt := 38) hx hb dX10_read_23 (by decide) (fun c_13 => ?_) (fun c_13 => ?_)
          · -- 23 taken
            have n_13 : 0 = 0 := (nI_eq (by omega) (by omega)).mp (show nI 0 = nI 0 from c_13)
            refine lv_aload_n hx hb dX10_read_38 rfl (lv_at hl 1 rfl) ?_
            refine b_get (C := RX10) (T := TX10) (N := 2) (v := .int (nI q)) hx hb hts in_X10 hown hK (b_at (k := 0) hP rfl) rfl 1 (by decide) q1539 (fun _ h9 => h9) rfl dX10_read_39 ?_
            refine lv_aload_n hx hb dX10_read_42 rfl (lv_at hl 1 rfl) ?_
            refine b_get (C := RX10) (T := TX10) (N := 2) (v := .ref o) hx hb hts in_X10 hown hK (b_at (k := 0) hP rfl) rfl 0 (by decide) q1538 (fun _ h9 => h9) rfl dX10_read_43 ?_
            refine b_calli (br := [[(a, .inr (8, [.ref o, .int (nI q)]))], [(a_1, .inr (11, [.int m5, .ref x5.1, .int (nI j)]))], (alA Γ x5), (cmsB Γ j cm)]) (b_runV ⟨hx, hb, hml, hown, hts⟩ (mt_Str_length_0 l Γ _ o y.1 z1 z2 L.length y.2 (by omega)) (lw_V q1567 q666 q667 q71 q668) rfl rfl 0 (by decide +kernel) ⟨(Nat.le_of_ble_eq_true rfl), (Nat.le_of_ble_eq_true rfl)⟩ (c_pre hP hD hS hA hK hE [] rfl rfl (ro_app (ro_pass (ro_sel (ro2 := [[(o, .inr (14, [.ref y.1, .int 0, .int z1, .int z2]))]]) hRo [0] rfl) hD hS hA [] rfl) (ro_pass (ro_sel (ro2 := [[(y.1, .inl (Γ.2.1 1, L.length, .inl y.2))]]) hRo [1] rfl) hD hS hA [] rfl))) (recv_ro hK ((hRo (o, .inr (14, [.ref y.1, .int 0, .int z1, .int z2])) (by simp)).keep hS (fun _ h => h))) rfl hl.1 rfl (Nat.le_of_ble_eq_true rfl) dX10_read_46 ⟨(by first | omega | (dsimp only; omega)), (by first | omega | (dsimp only; omega))⟩) hP hD hS hA [] [0, 1, 2, 3] rfl rfl rfl (fun r_14 u_14 H locs hw_14 hP hD hS _ => ?_)
            obtain ⟨rfl, rfl⟩ := hw_14
            have hP : WP Γ [[(a, .inr (8, [.ref o, .int (nI q)]))], [(a_1, .inr (11, [.int m5, .ref x5.1, .int (nI j)]))], (alA Γ x5), (cmsB Γ j cm)] H := hP
            have hD : WD A [[(a, .inr (8, [.ref o, .int (nI q)]))], [(a_1, .inr (11, [.int m5, .ref x5.1, .int (nI j)]))], (alA Γ x5), (cmsB Γ j cm)] := hD
            refine lv_icmp_ge (tgt := 64) hx hb dX10_read_49 (by decide) (fun c_15 => ?_) (fun c_15 => ?_)
            · -- 49 taken
              have n_15 : L.length ≤ q := (nI_leI (by omega) (by omega)).mp (show nI L.length ≤ nI q from c_15)
              have m_15 : ¬ (q < L.length) := by omega
              have d_15 := Int32.not_lt.mpr c_15
              have htx : txS L = (1, q) := by rw [hTS]; unfold txR; rw [if_neg h59, if_pos (by omega)]
              exact absurd hcs9 (by rw [htx]; show ¬ (1 : Int32) = 0; decide)
            · -- 49 not taken
              have n_15 : ¬ (L.length ≤ q) := fun hh7 => c_15 ((nI_leI (a := L.length) (b := q) (by omega) (by omega)).mpr hh7)
              have m_15 : q < L.length := by omega
              have d_15 := Int32.not_le.mp c_15
              have htx : txS L = (0, q) := by rw [hTS]; unfold txR; rw [if_neg h59, if_neg (by omega)]
              refine b_newF hx hb hts hown q1646 hK hP hD hS hA (by first | omega | (dsimp only; omega)) (by first | omega | (dsimp only; omega)) dX10_read_52 (fun a_16 H hP hD hS hraw_a_16 => ?_)
              have hP : WP Γ [[(a, .inr (8, [.ref o, .int (nI q)]))], [(a_1, .inr (11, [.int m5, .ref x5.1, .int (nI j)]))], (alA Γ x5), (cmsB Γ j cm), [(a_16, .inr (9, [.int 0]))]] H := hP
              have hD : WD A [[(a, .inr (8, [.ref o, .int (nI q)]))], [(a_1, .inr (11, [.int m5, .ref x5.1, .int (nI j)]))], (alA Γ x5), (cmsB Γ j cm), [(a_16, .inr (9, [.int 0]))]] := hD
              refine lv_dup hx hb dX10_read_55 rfl ?_
              refine lv_aload_n hx hb dX10_read_56 rfl (lv_at hl 1 rfl) ?_
              refine b_get (C := RX10) (T := TX10) (N := 2) (v := .int (nI q)) hx hb hts in_X10 hown hK (b_at (k := 0) hP rfl) rfl 1 (by decide) q1539 (fun _ h9 => h9) rfl dX10_read_57 ?_
              refine b_callv (br := [[(a, .inr (8, [.ref o, .int (nI q)]))], [(a_1, .inr (11, [.int m5, .ref x5.1, .int (nI j)]))], (alA Γ x5), (cmsB Γ j cm)]) (b_runIF ⟨hx, hb, hml, hown, hts⟩ (mt_Fl_init l Γ _ a_16 (nI q) hnt) q1655 rfl rfl ⟨(Nat.le_of_ble_eq_true rfl), (Nat.le_of_ble_eq_true rfl)⟩ (cf_pre (c_pre hP hD hS hA hK hE [4] rfl rfl ro_nil) hraw_a_16) hl.1 rfl (Nat.le_of_ble_eq_true rfl) dX10_read_60 ⟨(by first | omega | (dsimp only; omega)), (by first | omega | (dsimp only; omega))⟩) hP hD hS hA [4] [0, 1, 2, 3] rfl rfl rfl (fun u_17 H locs hw_17 hP hD hS _ => ?_)
              obtain rfl := hw_17
              have hP : WP Γ [[(a_16, .inr (9, [.int (nI q)]))], [(a, .inr (8, [.ref o, .int (nI q)]))], [(a_1, .inr (11, [.int m5, .ref x5.1, .int (nI j)]))], (alA Γ x5), (cmsB Γ j cm)] H := hP
              have hD : WD A [[(a_16, .inr (9, [.int (nI q)]))], [(a, .inr (8, [.ref o, .int (nI q)]))], [(a_1, .inr (11, [.int m5, .ref x5.1, .int (nI j)]))], (alA Γ x5), (cmsB Γ j cm)] := hD
              refine vx_athrow hx hb dX10_read_63 ?_
              obtain ⟨ce_18, hce_18, hcv_18, hcl_18⟩ := fl_ce hK (b_at (k := 0) hP rfl)
              have hP : WP Γ [[(a_16, .inr (9, [.int (nI q)]))]] H := bP_sel hP [0] rfl
              have hD : WD A [[(a_16, .inr (9, [.int (nI q)]))]] := bD_sel hD [0] rfl rfl
              exact b_outx hlocks (fun x hx9 => (ht9 x hx9).elim) hP hD hS hce_18 hcv_18 hcl_18 (by first | with_reducible rfl | (simp [htx, b8_0, h59, n_13, n_15, m_15, d_15]; done) | rfl) (by first | omega | (dsimp only; omega)) (by first | omega | (dsimp only; omega))
          · -- 23 not taken
            have n_13 : ¬ (0 = 0) := fun hh7 => c_13 ((nI_eq (a := 0) (b := 0) (by omega) (by omega)).mpr hh7)
            exact absurd n_13 (by omega)
    refine W.widen (k := (4 * (cmdS L 0).2 + 1)) (n := (700 * (cmdS L 0).2 + 3)) (by omega) (by omega) ?_
    exact loop_6 ((L.length + 1 - (cmdS L 0).2) + 1) (cmdS L 0).2 y_5 (0 + 1) (0 + 1) (va_up (fun _ => 0) 0 0) (va_up (fun _ => cm0) 0 qq_4) L.length (Nat.lt_succ_self _) (by omega) (by omega) (by omega) (by omega) hAx hTS hTP (cms_up (n := 0) (fun k hk => absurd hk (Nat.not_lt_zero k)) hqo_4) _ _ _ hP hD hS (lv_sub hl [0, 1] rfl)
set_option maxHeartbeats 4000000 in
set_option maxRecDepth 100000 in
theorem mt_Rd_read_ok_1 (l : Launch) (Γ : GE) (sz : Nat) (a : Nat) (o : Nat) (y : SST) (L : List Int32) (z1 : Int32) (z2 : Int32) (hst : stU y L) (hL5 : L.length ≤ 50) (hcs9 : (txS L).1 = 1) : KM l yX10_read cX10_read 2 (some (FieldType.object "java/util/ArrayList")) Γ 9 216 (4 * L.length + 20) (700 * L.length + 1400) [.ref a] [[(a, .inr (8, [.ref o, .int (nI 0)]))]] [[(o, .inr (14, [.ref y.1, .int 1, .int z1, .int z2]))], [(y.1, .inl (Γ.2.1 1, 2 * L.length, .inl y.2))]] sz (Qq Γ (fun r_ u_ => ∃ al : Nat, ∃ m : Int32, ∃ x : LST, ∃ n : Nat, ∃ ps : Nat → Nat, ∃ cm : Nat → CM, alI Γ x n (fun k => (cm k).a) ∧ ((txPS L).length = n ∧ ∀ k, k < n → (txPS L).getD k 0 = ps k) ∧ (∀ k, k < n → cmOk L (ps k) (cm k)) ∧ n ≤ 50 ∧ r_ = some al ∧ u_ = [[(al, .inr (11, [.int m, .ref x.1, .int (nI n)]))], (alA Γ x), (cmsB Γ n cm)])) := by
  refine K_intro (by decide) (Nat.le_of_ble_eq_true rfl) ?_
  intro pr_ ev_ s mi_ below meth cd_ A ls hx hb hr hml hown hts hlocks hname hK hE hRo hP hD hA hS hsz hl
  have hl : lv_has ls 2 [(0, .ref a)] := hl
  have hown : s.vm.findClass RX10 = some mi_.cls := hown
  have hll := hst.1
  have hP : WP Γ [(cmsB Γ 0 (fun _ => cm0)), [(a, .inr (8, [.ref o, .int (nI 0)]))]] s.heap := hP
  have hD : WD A [(cmsB Γ 0 (fun _ => cm0)), [(a, .inr (8, [.ref o, .int (nI 0)]))]] := hD
  refine b_new (ci := 11) (fs := [.int 0, .null, .int 0]) (C := RJ2) (T := TJ2) (N := 3) hx hb hts in_J2 tyJ2_ok hown q1551 q118 q66 hK hP hD hS hA rfl (fun j hj => by rcases (show j = 0 ∨ j = 1 ∨ j = 2 by omega) with rfl | rfl | rfl <;> rfl) (by first | omega | (dsimp only; omega)) (by first | omega | (dsimp only; omega)) dX10_read_0 (fun a_1 H hP hD hS => ?_)
  have hP : WP Γ [(cmsB Γ 0 (fun _ => cm0)), [(a, .inr (8, [.ref o, .int (nI 0)]))], [(a_1, .inr (11, [.int 0, .null, .int 0]))]] H := hP
  have hD : WD A [(cmsB Γ 0 (fun _ => cm0)), [(a, .inr (8, [.ref o, .int (nI 0)]))], [(a_1, .inr (11, [.int 0, .null, .int 0]))]] := hD
  refine lv_dup hx hb dX10_read_3 rfl ?_
  refine b_callv (br := [(cmsB Γ 0 (fun _ => cm0)), [(a, .inr (8, [.ref o, .int (nI 0)]))]]) (b_runI ⟨hx, hb, hml, hown, hts⟩ (mt_AL_init l Γ _ a_1) (lw_meth q121) q66 q1552 q120 rfl rfl rfl 0 (by decide +kernel) ⟨(Nat.le_of_ble_eq_true rfl), (Nat.le_of_ble_eq_true rfl)⟩ (c_pre hP hD hS hA hK hE [2] rfl rfl ro_nil) rfl hl.1 rfl (Nat.le_of_ble_eq_true rfl) dX10_read_4 ⟨(by first | omega | (dsimp only; omega)), (by first | omega | (dsimp only; omega))⟩) hP hD hS hA [2] [0, 1] rfl rfl rfl (fun u_2 H locs hw_2 hP hD hS _ => ?_)
  obtain ⟨y_2, hy_2, hy0_2, rfl⟩ := hw_2
  have hP : WP Γ [[(a_1, .inr (11, [.int 0, .ref y_2.1, .int (nI 0)]))], (alA Γ y_2), (cmsB Γ 0 (fun _ => cm0)), [(a, .inr (8, [.ref o, .int (nI 0)]))]] H := hP
  have hD : WD A [[(a_1, .inr (11, [.int 0, .ref y_2.1, .int (nI 0)]))], (alA Γ y_2), (cmsB Γ 0 (fun _ => cm0)), [(a, .inr (8, [.ref o, .int (nI 0)]))]] := hD
  refine lv_astore_n (lv' := [(1, .ref a_1), (0, .ref a)]) hx hb dX10_read_7 rfl hl (by decide) rfl (fun ls hl => ?_)
  refine lv_aload_n hx hb dX10_read_8 rfl (lv_at hl 0 rfl) ?_
  refine lv_aload_n hx hb dX10_read_9 rfl (lv_at hl 1 rfl) ?_
  by_cases b8_0 : (cmdS L 0).1 = 0
  ·
    have hwin := wE_in (L := L) (i := 0) (by omega)
    have htx : txS L = cmdS L 0 := tx_bad b8_0
    exact absurd hcs9 (by rw [htx, b8_0]; decide)
  ·
    have hwin := wE_in (L := L) (i := 0) (by omega)
    have hcs := (cmdS_01 L 0).resolve_left b8_0
    have hadv := cmd_adv (i := 0) (by omega) hcs
    refine b_callq (br := [[(a_1, .inr (11, [.int 0, .ref y_2.1, .int (nI 0)]))], (alA Γ y_2), (cmsB Γ 0 (fun _ => cm0))]) (b_runV ⟨hx, hb, hml, hown, hts⟩ (mt_Rd_command_ok_1 l Γ _ a o y L z1 z2 0 (by assumption) (by omega) (by first | exact hL5 | omega) hcs) (lw_V q1553 q1555 qs25 q99 q1556) rfl rfl 0 (by decide +kernel) ⟨(Nat.le_of_ble_eq_true rfl), (Nat.le_of_ble_eq_true rfl)⟩ (c_pre hP hD hS hA hK hE [3] rfl rfl (ro_app (ro_pass (ro_sel (ro2 := [[(o, .inr (14, [.ref y.1, .int 1, .int z1, .int z2]))]]) hRo [0] rfl) hD hS hA [3] rfl) (ro_pass (ro_sel (ro2 := [[(y.1, .inl (Γ.2.1 1, 2 * L.length, .inl y.2))]]) hRo [1] rfl) hD hS hA [3] rfl))) (recv_at (q := (RX10, TX10, 2)) hK (b_at (k := 3) hP rfl) rfl) rfl hl.1 rfl (Nat.le_of_ble_eq_true rfl) dX10_read_10 ⟨(by first | omega | (dsimp only; omega)), (by first | omega | (dsimp only; omega))⟩) hP hD hS hA [3] [0, 1, 2] rfl rfl rfl (fun r_3 u_3 H locs hw_3 hP hD hS _ => ?_)
    obtain ⟨c_3, o2_3, y2_3, h2_3, z2__3, hs_3, hh_3, rfl, rfl⟩ := hw_3
    have hP : WP Γ [[(a, .inr (8, [.ref o, .int (nI (cmdS L 0).2)]))], [(c_3, .inr (10, [.ref o2_3, .int (cmdV L 0), .int (cmdX L 0)]))], [(o2_3, .inr (14, [.ref y2_3.1, .int 0, .int h2_3, .int z2__3]))], [(y2_3.1, .inl (Γ.2.1 1, (slL L 0 (wE L 0)).length, .inl y2_3.2))], [(a_1, .inr (11, [.int 0, .ref y_2.1, .int (nI 0)]))], (alA Γ y_2), (cmsB Γ 0 (fun _ => cm0))] H := hP
    have hD : WD A [[(a, .inr (8, [.ref o, .int (nI (cmdS L 0).2)]))], [(c_3, .inr (10, [.ref o2_3, .int (cmdV L 0), .int (cmdX L 0)]))], [(o2_3, .inr (14, [.ref y2_3.1, .int 0, .int h2_3, .int z2__3]))], [(y2_3.1, .inl (Γ.2.1 1, (slL L 0 (wE L 0)).length, .inl y2_3.2))], [(a_1, .inr (11, [.int 0, .ref y_2.1, .int (nI 0)]))], (alA Γ y_2), (cmsB Γ 0 (fun _ => cm0))] := hD
    refine W.eq (g2 := F0 mi_ 13 ls ([.ref c_3, .ref a_1])) rfl ?_
    have hP : WP Γ [[(c_3, .inr (10, [.ref o2_3, .int (cmdV L 0), .int (cmdX L 0)]))], [(o2_3, .inr (14, [.ref y2_3.1, .int 0, .int h2_3, .int z2__3]))], [(y2_3.1, .inl (Γ.2.1 1, (slL L 0 (wE L 0)).length, .inl y2_3.2))], (cmsB Γ 0 (fun _ => cm0)), [(a, .inr (8, [.ref o, .int (nI (cmdS L 0).2)]))], [(a_1, .inr (11, [.int 0, .ref y_2.1, .int (nI 0)]))], (alA Γ y_2)] H := bP_sel hP [1, 2, 3, 6, 0, 4, 5] rfl
    have hD : WD A [[(c_3, .inr (10, [.ref o2_3, .int (cmdV L 0), .int (cmdX L 0)]))], [(o2_3, .inr (14, [.ref y2_3.1, .int 0, .int h2_3, .int z2__3]))], [(y2_3.1, .inl (Γ.2.1 1, (slL L 0 (wE L 0)).length, .inl y2_3.2))], (cmsB Γ 0 (fun _ => cm0)), [(a, .inr (8, [.ref o, .int (nI (cmdS L 0).2)]))], [(a_1, .inr (11, [.int 0, .ref y_2.1, .int (nI 0)]))], (alA Γ y_2)] := bD_sel hD [1, 2, 3, 6, 0, 4, 5] rfl rfl
    obtain ⟨qq_3, hqq_3⟩ : ∃ z : CM, z = (c_3, o2_3, y2_3, (slL L 0 (wE L 0)), (cmdV L 0), (cmdX L 0), h2_3, z2__3) := ⟨_, rfl⟩
    have hP : WP Γ [(cmsB Γ (0 + 1) (va_up (fun _ => cm0) 0 qq_3)), [(a, .inr (8, [.ref o, .int (nI (cmdS L 0).2)]))], [(a_1, .inr (11, [.int 0, .ref y_2.1, .int (nI 0)]))], (alA Γ y_2)] H := cmsP_push (q := qq_3) (by rw [hqq_3]; exact hP)
    have hD : WD A [(cmsB Γ (0 + 1) (va_up (fun _ => cm0) 0 qq_3)), [(a, .inr (8, [.ref o, .int (nI (cmdS L 0).2)]))], [(a_1, .inr (11, [.int 0, .ref y_2.1, .int (nI 0)]))], (alA Γ y_2)] := cmsD_push (q := qq_3) (by rw [hqq_3]; exact hD)
    have hqa_3 : c_3 = qq_3.a := by rw [hqq_3]
    have hqo_3 : cmOk L 0 qq_3 := by rw [hqq_3]; exact ⟨rfl, rfl, rfl, hs_3, hh_3, hcs⟩
    refine W.eq (g2 := F0 mi_ 13 ls ([.ref qq_3.a, .ref a_1])) (by rw [hqa_3]) ?_
    refine b_calli (br := [(cmsB Γ (0 + 1) (va_up (fun _ => cm0) 0 qq_3)), [(a, .inr (8, [.ref o, .int (nI (cmdS L 0).2)]))]]) (b_runV ⟨hx, hb, hml, hown, hts⟩ (mt_AL_add l Γ _ a_1 0 y_2 0 (fun k => ((fun _ => cm0) k).a) qq_3.a (cmsB Γ (0 + 1) (va_up (fun _ => cm0) 0 qq_3)) (hy_2 _) (by omega) cms_el2 cms_el1) (lw_V q1693 q474 q475 q66 q476) rfl rfl 1 (by decide +kernel) ⟨(Nat.le_of_ble_eq_true rfl), (Nat.le_of_ble_eq_true rfl)⟩ (c_pre hP hD hS hA hK hE [2, 3] rfl rfl (ro_own (br := [(cmsB Γ (0 + 1) (va_up (fun _ => cm0) 0 qq_3))]) hP hD [2, 3] [0] rfl rfl rfl)) (recv_at (q := (RJ2, TJ2, 3)) hK (b_at (k := 2) hP rfl) rfl) rfl hl.1 rfl (Nat.le_of_ble_eq_true rfl) dX10_read_13 ⟨(by first | omega | (dsimp only; omega)), (by first | omega | (dsimp only; omega))⟩) hP hD hS hA [2, 3] [0, 1] rfl rfl rfl (fun r_4 u_4 H locs hw_4 hP hD hS _ => ?_)
    obtain ⟨y_4, hy_4, rfl, rfl⟩ := hw_4
    have hP : WP Γ [[(a_1, .inr (11, [.int (0 + 1), .ref y_4.1, .int (nI 1)]))], (alA Γ y_4), (cmsB Γ (0 + 1) (va_up (fun _ => cm0) 0 qq_3)), [(a, .inr (8, [.ref o, .int (nI (cmdS L 0).2)]))]] H := hP
    have hD : WD A [[(a_1, .inr (11, [.int (0 + 1), .ref y_4.1, .int (nI 1)]))], (alA Γ y_4), (cmsB Γ (0 + 1) (va_up (fun _ => cm0) 0 qq_3)), [(a, .inr (8, [.ref o, .int (nI (cmdS L 0).2)]))]] := hD
    refine lv_pop hx hb dX10_read_16 rfl ?_
    have hTS : txS L = txR L L.length (cmdS L 0).2 := tx_step b8_0
    have hTP : tpI L (0 + 1) (va_up (fun _ => 0) 0 0) (txQ L L.length (cmdS L 0).2) := tpI_push (L := L) (j := 0) (ps := fun _ => 0) ⟨[], rfl, fun k hk => absurd hk (Nat.not_lt_zero k), tp_step b8_0⟩
    have hAx : alI Γ y_4 (0 + 1) (fun k => (va_up (fun _ => cm0) 0 qq_3 k).a) := by rw [cmA_up]; exact hy_4
    have hP : WP Γ [[(a, .inr (8, [.ref o, .int (nI (cmdS L 0).2)]))], [(a_1, .inr (11, [.int (0 + 1), .ref y_4.1, .int (nI 1)]))], (alA Γ y_4), (cmsB Γ (0 + 1) (va_up (fun _ => cm0) 0 qq_3))] H := bP_sel hP [3, 0, 1, 2] rfl
    have hD : WD A [[(a, .inr (8, [.ref o, .int (nI (cmdS L 0).2)]))], [(a_1, .inr (11, [.int (0 + 1), .ref y_4.1, .int (nI 1)]))], (alA Γ y_4), (cmsB Γ (0 + 1) (va_up (fun _ => cm0) 0 qq_3))] := bD_sel hD [3, 0, 1, 2] rfl rfl
    have loop_5 : ∀ (fuel : Nat) (q : Nat) (x5 : LST) (m5 : Int32) (j : Nat) (ps : Nat → Nat) (cm : Nat → CM) (f : Nat), L.length + 1 - q < fuel → (q ≤ L.length) → (j ≤ q) → (1 ≤ j) → (L.length ≤ f + q) → (alI Γ x5 j (fun k => (cm k).a)) → (txS L = txR L f q) → (tpI L j ps (txQ L f q)) → (∀ k, k < j → cmOk L (ps k) (cm k)) → ∀ (H : Heap) (locs : List Loc) (ls : Array Slot), WP Γ [[(a, .inr (8, [.ref o, .int (nI q)]))], [(a_1, .inr (11, [.int m5, .ref x5.1, .int (nI j)]))], (alA Γ x5), (cmsB Γ j cm)] H → WD A [[(a, .inr (8, [.ref o, .int (nI q)]))], [(a_1, .inr (11, [.int m5, .ref x5.1, .int (nI j)]))], (alA Γ x5), (cmsB Γ j cm)] → va_S A s.heap H locs → lv_has ls 2 [(1, .ref a_1), (0, .ref a)] → W pr_ l ev_ { frames := 9, cells := (4 * L.length + 20), slots := (700 * L.length + 1400), locals := 216 } s mi_ ([.ref a] : List Value).toArray below meth cd_ H locs (4 * q + 1) (700 * q + 3) (MQ below (Qq Γ (fun r_ u_ => ∃ al : Nat, ∃ m : Int32, ∃ x : LST, ∃ n : Nat, ∃ ps : Nat → Nat, ∃ cm : Nat → CM, alI Γ x n (fun k => (cm k).a) ∧ ((txPS L).length = n ∧ ∀ k, k < n → (txPS L).getD k 0 = ps k) ∧ (∀ k, k < n → cmOk L (ps k) (cm k)) ∧ n ≤ 50 ∧ r_ = some al ∧ u_ = [[(al, .inr (11, [.int m, .ref x.1, .int (nI n)]))], (alA Γ x), (cmsB Γ n cm)]) A) ([.ref a] : List Value).toArray s (4 * L.length + 20) (700 * L.length + 1400) A) (F0 mi_ 17 ls ([])) := by
      intro fuel
      induction fuel with
      | zero => intro q x5 m5 j ps cm f hfuel; exact absurd hfuel (Nat.not_lt_zero _)
      | succ fuel ih =>
        intro q x5 m5 j ps cm f hfuel hqn hjq hj1 hfq hAx hTS hTP hcm H locs ls hP hD hS hl
        refine lv_aload_n hx hb dX10_read_17 rfl (lv_at hl 1 rfl) ?_
        refine lv_bipush (v := 59) hx hb dX10_read_18 (by decide) ?_
        by_cases h59 : rdH L q = 59
        ·
          have hql := rdH_lt (by decide) h59
          obtain ⟨f1, rfl⟩ : ∃ f1, f = f1 + 1 := ⟨f - 1, by omega⟩
          refine b_calli (br := [[(a_1, .inr (11, [.int m5, .ref x5.1, .int (nI j)]))], (alA Γ x5), (cmsB Γ j cm)]) (b_runV ⟨hx, hb, hml, hown, hts⟩ (mt_Rd_skip_yes_1 l Γ _ a o y L z1 z2 q 59 (by assumption) (by omega) (by omega)) (lw_V q1669 q1671 qs29 q99 q1672) rfl rfl 1 (by decide +kernel) ⟨(Nat.le_of_ble_eq_true rfl), (Nat.le_of_ble_eq_true rfl)⟩ (c_pre hP hD hS hA hK hE [0] rfl rfl (ro_app (ro_pass (ro_sel (ro2 := [[(o, .inr (14, [.ref y.1, .int 1, .int z1, .int z2]))]]) hRo [0] rfl) hD hS hA [0] rfl) (ro_pass (ro_sel (ro2 := [[(y.1, .inl (Γ.2.1 1, 2 * L.length, .inl y.2))]]) hRo [1] rfl) hD hS hA [0] rfl))) (recv_at (q := (RX10, TX10, 2)) hK (b_at (k := 0) hP rfl) rfl) rfl hl.1 rfl (Nat.le_of_ble_eq_true rfl) dX10_read_20 ⟨(by first | omega | (dsimp only; omega)), (by first | omega | (dsimp only; omega))⟩) hP hD hS hA [0] [1, 2, 3] rfl rfl rfl (fun r_6 u_6 H locs hw_6 hP hD hS _ => ?_)
          obtain ⟨rfl, rfl⟩ := hw_6
          have hP : WP Γ [[(a, .inr (8, [.ref o, .int (nI (q + 1))]))], [(a_1, .inr (11, [.int m5, .ref x5.1, .int (nI j)]))], (alA Γ x5), (cmsB Γ j cm)] H := hP
          have hD : WD A [[(a, .inr (8, [.ref o, .int (nI (q + 1))]))], [(a_1, .inr (11, [.int m5, .ref x5.1, .int (nI j)]))], (alA Γ x5), (cmsB Γ j cm)] := hD
          refine lv_if_eq (tgt := 38) hx hb dX10_read_23 (by decide) (fun c_7 => ?_) (fun c_7 => ?_)
          · -- 23 taken
            have n_7 : 1 = 0 := (nI_eq (by omega) (by omega)).mp (show nI 1 = nI 0 from c_7)
            exact absurd n_7 (by omega)
          · -- 23 not taken
            have n_7 : ¬ (1 = 0) := fun hh7 => c_7 ((nI_eq (a := 1) (b := 0) (by omega) (by omega)).mpr hh7)
            refine lv_aload_n hx hb dX10_read_26 rfl (lv_at hl 0 rfl) ?_
            refine lv_aload_n hx hb dX10_read_27 rfl (lv_at hl 1 rfl) ?_
            by_cases b8_q : (cmdS L (q + 1)).1 = 0
            ·
              have hwin := wE_in (L := L) (i := q + 1) (by omega)
              have htx : txS L = cmdS L (q + 1) := (by rw [hTS]; unfold txR; rw [if_pos h59]; exact tx_bad b8_q)
              exact absurd hcs9 (by rw [htx, b8_q]; decide)
            ·
              have hwin := wE_in (L := L) (i := q + 1) (by omega)
              have hcs := (cmdS_01 L (q + 1)).resolve_left b8_q
              have hadv := cmd_adv (i := q + 1) (by omega) hcs
              refine b_callq (br := [[(a_1, .inr (11, [.int m5, .ref x5.1, .int (nI j)]))], (alA Γ x5), (cmsB Γ j cm)]) (b_runV ⟨hx, hb, hml, hown, hts⟩ (mt_Rd_command_ok_1 l Γ _ a o y L z1 z2 (q + 1) (by assumption) (by omega) (by first | exact hL5 | omega) hcs) (lw_V q1553 q1555 qs25 q99 q1556) rfl rfl 0 (by decide +kernel) ⟨(Nat.le_of_ble_eq_true rfl), (Nat.le_of_ble_eq_true rfl)⟩ (c_pre hP hD hS hA hK hE [0] rfl rfl (ro_app (ro_pass (ro_sel (ro2 := [[(o, .inr (14, [.ref y.1, .int 1, .int z1, .int z2]))]]) hRo [0] rfl) hD hS hA [0] rfl) (ro_pass (ro_sel (ro2 := [[(y.1, .inl (Γ.2.1 1, 2 * L.length, .inl y.2))]]) hRo [1] rfl) hD hS hA [0] rfl))) (recv_at (q := (RX10, TX10, 2)) hK (b_at (k := 0) hP rfl) rfl) rfl hl.1 rfl (Nat.le_of_ble_eq_true rfl) dX10_read_28 ⟨(by first | omega | (dsimp only; omega)), (by first | omega | (dsimp only; omega))⟩) hP hD hS hA [0] [1, 2, 3] rfl rfl rfl (fun r_8 u_8 H locs hw_8 hP hD hS _ => ?_)
              obtain ⟨c_8, o2_8, y2_8, h2_8, z2__8, hs_8, hh_8, rfl, rfl⟩ := hw_8
              have hP : WP Γ [[(a, .inr (8, [.ref o, .int (nI (cmdS L (q + 1)).2)]))], [(c_8, .inr (10, [.ref o2_8, .int (cmdV L (q + 1)), .int (cmdX L (q + 1))]))], [(o2_8, .inr (14, [.ref y2_8.1, .int 0, .int h2_8, .int z2__8]))], [(y2_8.1, .inl (Γ.2.1 1, (slL L (q + 1) (wE L (q + 1))).length, .inl y2_8.2))], [(a_1, .inr (11, [.int m5, .ref x5.1, .int (nI j)]))], (alA Γ x5), (cmsB Γ j cm)] H := hP
              have hD : WD A [[(a, .inr (8, [.ref o, .int (nI (cmdS L (q + 1)).2)]))], [(c_8, .inr (10, [.ref o2_8, .int (cmdV L (q + 1)), .int (cmdX L (q + 1))]))], [(o2_8, .inr (14, [.ref y2_8.1, .int 0, .int h2_8, .int z2__8]))], [(y2_8.1, .inl (Γ.2.1 1, (slL L (q + 1) (wE L (q + 1))).length, .inl y2_8.2))], [(a_1, .inr (11, [.int m5, .ref x5.1, .int (nI j)]))], (alA Γ x5), (cmsB Γ j cm)] := hD
              refine W.eq (g2 := F0 mi_ 31 ls ([.ref c_8, .ref a_1])) rfl ?_
              have hP : WP Γ [[(c_8, .inr (10, [.ref o2_8, .int (cmdV L (q + 1)), .int (cmdX L (q + 1))]))], [(o2_8, .inr (14, [.ref y2_8.1, .int 0, .int h2_8, .int z2__8]))], [(y2_8.1, .inl (Γ.2.1 1, (slL L (q + 1) (wE L (q + 1))).length, .inl y2_8.2))], (cmsB Γ j cm), [(a, .inr (8, [.ref o, .int (nI (cmdS L (q + 1)).2)]))], [(a_1, .inr (11, [.int m5, .ref x5.1, .int (nI j)]))], (alA Γ x5)] H := bP_sel hP [1, 2, 3, 6, 0, 4, 5] rfl
              have hD : WD A [[(c_8, .inr (10, [.ref o2_8, .int (cmdV L (q + 1)), .int (cmdX L (q + 1))]))], [(o2_8, .inr (14, [.ref y2_8.1, .int 0, .int h2_8, .int z2__8]))], [(y2_8.1, .inl (Γ.2.1 1, (slL L (q + 1) (wE L (q + 1))).length, .inl y2_8.2))], (cmsB Γ j cm), [(a, .inr (8, [.ref o, .int (nI (cmdS L (q + 1)).2)]))], [(a_1, .inr (11, [.int m5, .ref x5.1, .int (nI j)]))], (alA Γ x5)] := bD_sel hD [1, 2, 3, 6, 0, 4, 5] rfl rfl
              obtain ⟨qq_8, hqq_8⟩ : ∃ z : CM, z = (c_8, o2_8, y2_8, (slL L (q + 1) (wE L (q + 1))), (cmdV L (q + 1)), (cmdX L (q + 1)), h2_8, z2__8) := ⟨_, rfl⟩
              have hP : WP Γ [(cmsB Γ (j + 1) (va_up cm j qq_8)), [(a, .inr (8, [.ref o, .int (nI (cmdS L (q + 1)).2)]))], [(a_1, .inr (11, [.int m5, .ref x5.1, .int (nI j)]))], (alA Γ x5)] H := cmsP_push (q := qq_8) (by rw [hqq_8]; exact hP)
              have hD : WD A [(cmsB Γ (j + 1) (va_up cm j qq_8)), [(a, .inr (8, [.ref o, .int (nI (cmdS L (q + 1)).2)]))], [(a_1, .inr (11, [.int m5, .ref x5.1, .int (nI j)]))], (alA Γ x5)] := cmsD_push (q := qq_8) (by rw [hqq_8]; exact hD)
              have hqa_8 : c_8 = qq_8.a := by rw [hqq_8]
              have hqo_8 : cmOk L (q + 1) qq_8 := by rw [hqq_8]; exact ⟨rfl, rfl, rfl, hs_8, hh_8, hcs⟩
              refine W.eq (g2 := F0 mi_ 31 ls ([.ref qq_8.a, .ref a_1])) (by rw [hqa_8]) ?_
              refine b_calli (br := [(cmsB Γ (j + 1) (va_up cm j qq_8)), [(a, .inr (8, [.ref o, .int (nI (cmdS L (q + 1)).2)]))]]) (b_runV ⟨hx, hb, hml, hown, hts⟩ (mt_AL_add l Γ _ a_1 m5 x5 j (fun k => (cm k).a) qq_8.a (cmsB Γ (j + 1) (va_up cm j qq_8)) hAx (by omega) cms_el2 cms_el1) (lw_V q1693 q474 q475 q66 q476) rfl rfl 1 (by decide +kernel) ⟨(Nat.le_of_ble_eq_true rfl), (Nat.le_of_ble_eq_true rfl)⟩ (c_pre hP hD hS hA hK hE [2, 3] rfl rfl (ro_own (br := [(cmsB Γ (j + 1) (va_up cm j qq_8))]) hP hD [2, 3] [0] rfl rfl rfl)) (recv_at (q := (RJ2, TJ2, 3)) hK (b_at (k := 2) hP rfl) rfl) rfl hl.1 rfl (Nat.le_of_ble_eq_true rfl) dX10_read_31 ⟨(by first | omega | (dsimp only; omega)), (by first | omega | (dsimp only; omega))⟩) hP hD hS hA [2, 3] [0, 1] rfl rfl rfl (fun r_9 u_9 H locs hw_9 hP hD hS _ => ?_)
              obtain ⟨y_9, hy_9, rfl, rfl⟩ := hw_9
              have hP : WP Γ [[(a_1, .inr (11, [.int (m5 + 1), .ref y_9.1, .int (nI (j + 1))]))], (alA Γ y_9), (cmsB Γ (j + 1) (va_up cm j qq_8)), [(a, .inr (8, [.ref o, .int (nI (cmdS L (q + 1)).2)]))]] H := hP
              have hD : WD A [[(a_1, .inr (11, [.int (m5 + 1), .ref y_9.1, .int (nI (j + 1))]))], (alA Γ y_9), (cmsB Γ (j + 1) (va_up cm j qq_8)), [(a, .inr (8, [.ref o, .int (nI (cmdS L (q + 1)).2)]))]] := hD
              refine lv_pop hx hb dX10_read_34 rfl ?_
              refine lv_goto (tgt := 17) hx hb dX10_read_35 (by decide) ?_
              have hP : WP Γ [[(a, .inr (8, [.ref o, .int (nI (cmdS L (q + 1)).2)]))], [(a_1, .inr (11, [.int (m5 + 1), .ref y_9.1, .int (nI (j + 1))]))], (alA Γ y_9), (cmsB Γ (j + 1) (va_up cm j qq_8))] H := bP_sel hP [3, 0, 1, 2] rfl
              have hD : WD A [[(a, .inr (8, [.ref o, .int (nI (cmdS L (q + 1)).2)]))], [(a_1, .inr (11, [.int (m5 + 1), .ref y_9.1, .int (nI (j + 1))]))], (alA Γ y_9), (cmsB Γ (j + 1) (va_up cm j qq_8))] := bD_sel hD [3, 0, 1, 2] rfl rfl
              have hTS2 : txS L = txR L f1 (cmdS L (q + 1)).2 := by rw [hTS]; unfold txR; rw [if_pos h59]; exact tx_step b8_q
              have hTP2 : tpI L (j + 1) (va_up ps j (q + 1)) (txQ L f1 (cmdS L (q + 1)).2) := tpI_push (by unfold txQ at hTP; rw [if_pos h59, tp_step b8_q] at hTP; exact hTP)
              have hAx2 : alI Γ y_9 (j + 1) (fun k => (va_up cm j qq_8 k).a) := by rw [cmA_up]; exact hy_9
              refine W.widen (k := (4 * (cmdS L (q + 1)).2 + 1)) (n := (700 * (cmdS L (q + 1)).2 + 3)) (by omega) (by omega) ?_
              exact ih (cmdS L (q + 1)).2 y_9 (m5 + 1) (j + 1) (va_up ps j (q + 1)) (va_up cm j qq_8) f1 (by omega) (by omega) (by omega) (by omega) (by omega) hAx2 hTS2 hTP2 (cms_up hcm hqo_8) _ _ _ hP hD hS (lv_sub hl [0, 1] rfl)
        ·
          refine b_calli (br := [[(a_1, .inr (11, [.int m5, .ref x5.1, .int (nI j)]))], (alA Γ x5), (cmsB Γ j cm)]) (b_runV ⟨hx, hb, hml, hown, hts⟩ (mt_Rd_skip_no_1 l Γ _ a o y L z1 z2 q 59 (by assumption) (by omega) (by omega)) (lw_V q1669 q1671 qs29 q99 q1672) rfl rfl 1 (by decide +kernel) ⟨(Nat.le_of_ble_eq_true rfl), (Nat.le_of_ble_eq_true rfl)⟩ (c_pre hP hD hS hA hK hE [0] rfl rfl (ro_app (ro_pass (ro_sel (ro2 := [[(o, .inr (14, [.ref y.1, .int 1, .int z1, .int z2]))]]) hRo [0] rfl) hD hS hA [0] rfl) (ro_pass (ro_sel (ro2 := [[(y.1, .inl (Γ.2.1 1, 2 * L.length, .inl y.2))]]) hRo [1] rfl) hD hS hA [0] rfl))) (recv_at (q := (RX10, TX10, 2)) hK (b_at (k := 0) hP rfl) rfl) rfl hl.1 rfl (Nat.le_of_ble_eq_true rfl) dX10_read_20 ⟨(by first | omega | (dsimp only; omega)), (by first | omega | (dsimp only; omega))⟩) hP hD hS hA [0] [1, 2, 3] rfl rfl rfl (fun r_10 u_10 H locs hw_10 hP hD hS _ => ?_)
          obtain ⟨rfl, rfl⟩ := hw_10
          have hP : WP Γ [[(a, .inr (8, [.ref o, .int (nI q)]))], [(a_1, .inr (11, [.int m5, .ref x5.1, .int (nI j)]))], (alA Γ x5), (cmsB Γ j cm)] H := hP
          have hD : WD A [[(a, .inr (8, [.ref o, .int (nI q)]))], [(a_1, .inr (11, [.int m5, .ref x5.1, .int (nI j)]))], (alA Γ x5), (cmsB Γ j cm)] := hD
          refine lv_if_eq (tgt := 38) hx hb dX10_read_23 (by decide) (fun c_11 => ?_) (fun c_11 => ?_)
          · -- 23 taken
            have n_11 : 0 = 0 := (nI_eq (by omega) (by omega)).mp (show nI 0 = nI 0 from c_11)
            refine lv_aload_n hx hb dX10_read_38 rfl (lv_at hl 1 rfl) ?_
            refine b_get (C := RX10) (T := TX10) (N := 2) (v := .int (nI q)) hx hb hts in_X10 hown hK (b_at (k := 0) hP rfl) rfl 1 (by decide) q1539 (fun _ h9 => h9) rfl dX10_read_39 ?_
            refine lv_aload_n hx hb dX10_read_42 rfl (lv_at hl 1 rfl) ?_
            refine b_get (C := RX10) (T := TX10) (N := 2) (v := .ref o) hx hb hts in_X10 hown hK (b_at (k := 0) hP rfl) rfl 0 (by decide) q1538 (fun _ h9 => h9) rfl dX10_read_43 ?_
            refine b_calli (br := [[(a, .inr (8, [.ref o, .int (nI q)]))], [(a_1, .inr (11, [.int m5, .ref x5.1, .int (nI j)]))], (alA Γ x5), (cmsB Γ j cm)]) (b_runV ⟨hx, hb, hml, hown, hts⟩ (mt_Str_length_1 l Γ _ o y.1 z1 z2 L.length y.2 (by omega)) (lw_V q1567 q666 q667 q71 q668) rfl rfl 0 (by decide +kernel) ⟨(Nat.le_of_ble_eq_true rfl), (Nat.le_of_ble_eq_true rfl)⟩ (c_pre hP hD hS hA hK hE [] rfl rfl (ro_app (ro_pass (ro_sel (ro2 := [[(o, .inr (14, [.ref y.1, .int 1, .int z1, .int z2]))]]) hRo [0] rfl) hD hS hA [] rfl) (ro_pass (ro_sel (ro2 := [[(y.1, .inl (Γ.2.1 1, 2 * L.length, .inl y.2))]]) hRo [1] rfl) hD hS hA [] rfl))) (recv_ro hK ((hRo (o, .inr (14, [.ref y.1, .int 1, .int z1, .int z2])) (by simp)).keep hS (fun _ h => h))) rfl hl.1 rfl (Nat.le_of_ble_eq_true rfl) dX10_read_46 ⟨(by first | omega | (dsimp only; omega)), (by first | omega | (dsimp only; omega))⟩) hP hD hS hA [] [0, 1, 2, 3] rfl rfl rfl (fun r_12 u_12 H locs hw_12 hP hD hS _ => ?_)
            obtain ⟨rfl, rfl⟩ := hw_12
            have hP : WP Γ [[(a, .inr (8, [.ref o, .int (nI q)]))], [(a_1, .inr (11, [.int m5, .ref x5.1, .int (nI j)]))], (alA Γ x5), (cmsB Γ j cm)] H := hP
            have hD : WD A [[(a, .inr (8, [.ref o, .int (nI q)]))], [(a_1, .inr (11, [.int m5, .ref x5.1, .int (nI j)]))], (alA Γ x5), (cmsB Γ j cm)] := hD
            refine lv_icmp_ge (tgt := 64) hx hb dX10_read_49 (by decide) (fun c_13 => ?_) (fun c_13 => ?_)
            · -- 49 taken
              have n_13 : L.length ≤ q := (nI_leI (by omega) (by omega)).mp (show nI L.length ≤ nI q from c_13)
              have m_13 : ¬ (q < L.length) := by omega
              have d_13 := Int32.not_lt.mpr c_13
              have htx : txS L = (1, q) := by rw [hTS]; unfold txR; rw [if_neg h59, if_pos (by omega)]
              refine lv_aload_n hx hb dX10_read_64 rfl (lv_at hl 0 rfl) ?_
              have hP : WP Γ [[(a_1, .inr (11, [.int m5, .ref x5.1, .int (nI j)]))], (alA Γ x5), (cmsB Γ j cm)] H := bP_sel hP [1, 2, 3] rfl
              have hD : WD A [[(a_1, .inr (11, [.int m5, .ref x5.1, .int (nI j)]))], (alA Γ x5), (cmsB Γ j cm)] := bD_sel hD [1, 2, 3] rfl rfl
              exact b_aret hx hb hr (by first | exact Or.inl ⟨_, rfl⟩ | exact Or.inr ⟨_, rfl⟩) hlocks hP hD hS (by first | omega | (dsimp only; omega)) (by first | omega | (dsimp only; omega)) ⟨a_1, m5, x5, j, ps, cm, hAx, (tpI_end (by unfold txQ at hTP; rw [if_neg h59] at hTP; exact hTP)), hcm, (by omega), (by first | with_reducible rfl | (simp [b8_0, h59, n_11, n_13, m_13, d_13]; done) | rfl), rfl⟩ dX10_read_65
            · -- 49 not taken
              have n_13 : ¬ (L.length ≤ q) := fun hh7 => c_13 ((nI_leI (a := L.length) (b := q) (by omega) (by omega)).mpr hh7)
              have m_13 : q < L.length := by omega
              have d_13 := Int32.not_le.mp c_13
              have htx : txS L = (0, q) := by rw [hTS]; unfold txR; rw [if_neg h59, if_neg (by omega)]
              exact absurd hcs9 (by rw [htx]; show ¬ (0 : Int32) = 1; decide)
          · -- 23 not taken
            have n_11 : ¬ (0 = 0) := fun hh7 => c_11 ((nI_eq (a := 0) (b := 0) (by omega) (by omega)).mpr hh7)
            exact absurd n_11 (by omega)
    refine W.widen (k := (4 * (cmdS L 0).2 + 1)) (n := (700 * (cmdS L 0).2 + 3)) (by omega) (by omega) ?_
    exact loop_5 ((L.length + 1 - (cmdS L 0).2) + 1) (cmdS L 0).2 y_4 (0 + 1) (0 + 1) (va_up (fun _ => 0) 0 0) (va_up (fun _ => cm0) 0 qq_3) L.length (Nat.lt_succ_self _) (by omega) (by omega) (by omega) (by omega) hAx hTS hTP (cms_up (n := 0) (fun k hk => absurd hk (Nat.not_lt_zero k)) hqo_3) _ _ _ hP hD hS (lv_sub hl [0, 1] rfl)
set_option maxHeartbeats 4000000 in
set_option maxRecDepth 100000 in
theorem mt_Rd_read_x_1 (l : Launch) (Γ : GE) (sz : Nat) (a : Nat) (o : Nat) (y : SST) (L : List Int32) (z1 : Int32) (z2 : Int32) (hnt : l.stackTraces = false) (hst : stU y L) (hL5 : L.length ≤ 50) (hcs9 : (txS L).1 = 0) : KMX l yX10_read cX10_read 2 (some (FieldType.object "java/util/ArrayList")) Γ 9 216 (4 * L.length + 20) (700 * L.length + 1400) [.ref a] [[(a, .inr (8, [.ref o, .int (nI 0)]))]] [[(o, .inr (14, [.ref y.1, .int 1, .int z1, .int z2]))], [(y.1, .inl (Γ.2.1 1, 2 * L.length, .inl y.2))]] sz "DairyBook$Fault" (fun q_ u_ => u_ = [[(q_, .inr (9, [.int (nI (txS L).2)]))]]) := by
  refine K_introX (by decide) (Nat.le_of_ble_eq_true rfl) ?_
  intro pr_ ev_ s mi_ below meth cd_ A ls hx hb hr hml hown hts hlocks hname hK hE hRo hP hD hA hS hsz hl ht9
  have hl : lv_has ls 2 [(0, .ref a)] := hl
  have hown : s.vm.findClass RX10 = some mi_.cls := hown
  have hll := hst.1
  have hP : WP Γ [(cmsB Γ 0 (fun _ => cm0)), [(a, .inr (8, [.ref o, .int (nI 0)]))]] s.heap := hP
  have hD : WD A [(cmsB Γ 0 (fun _ => cm0)), [(a, .inr (8, [.ref o, .int (nI 0)]))]] := hD
  refine b_new (ci := 11) (fs := [.int 0, .null, .int 0]) (C := RJ2) (T := TJ2) (N := 3) hx hb hts in_J2 tyJ2_ok hown q1551 q118 q66 hK hP hD hS hA rfl (fun j hj => by rcases (show j = 0 ∨ j = 1 ∨ j = 2 by omega) with rfl | rfl | rfl <;> rfl) (by first | omega | (dsimp only; omega)) (by first | omega | (dsimp only; omega)) dX10_read_0 (fun a_1 H hP hD hS => ?_)
  have hP : WP Γ [(cmsB Γ 0 (fun _ => cm0)), [(a, .inr (8, [.ref o, .int (nI 0)]))], [(a_1, .inr (11, [.int 0, .null, .int 0]))]] H := hP
  have hD : WD A [(cmsB Γ 0 (fun _ => cm0)), [(a, .inr (8, [.ref o, .int (nI 0)]))], [(a_1, .inr (11, [.int 0, .null, .int 0]))]] := hD
  refine lv_dup hx hb dX10_read_3 rfl ?_
  refine b_callv (br := [(cmsB Γ 0 (fun _ => cm0)), [(a, .inr (8, [.ref o, .int (nI 0)]))]]) (b_runI ⟨hx, hb, hml, hown, hts⟩ (mt_AL_init l Γ _ a_1) (lw_meth q121) q66 q1552 q120 rfl rfl rfl 0 (by decide +kernel) ⟨(Nat.le_of_ble_eq_true rfl), (Nat.le_of_ble_eq_true rfl)⟩ (c_pre hP hD hS hA hK hE [2] rfl rfl ro_nil) rfl hl.1 rfl (Nat.le_of_ble_eq_true rfl) dX10_read_4 ⟨(by first | omega | (dsimp only; omega)), (by first | omega | (dsimp only; omega))⟩) hP hD hS hA [2] [0, 1] rfl rfl rfl (fun u_2 H locs hw_2 hP hD hS _ => ?_)
  obtain ⟨y_2, hy_2, hy0_2, rfl⟩ := hw_2
  have hP : WP Γ [[(a_1, .inr (11, [.int 0, .ref y_2.1, .int (nI 0)]))], (alA Γ y_2), (cmsB Γ 0 (fun _ => cm0)), [(a, .inr (8, [.ref o, .int (nI 0)]))]] H := hP
  have hD : WD A [[(a_1, .inr (11, [.int 0, .ref y_2.1, .int (nI 0)]))], (alA Γ y_2), (cmsB Γ 0 (fun _ => cm0)), [(a, .inr (8, [.ref o, .int (nI 0)]))]] := hD
  refine lv_astore_n (lv' := [(1, .ref a_1), (0, .ref a)]) hx hb dX10_read_7 rfl hl (by decide) rfl (fun ls hl => ?_)
  refine lv_aload_n hx hb dX10_read_8 rfl (lv_at hl 0 rfl) ?_
  refine lv_aload_n hx hb dX10_read_9 rfl (lv_at hl 1 rfl) ?_
  by_cases b8_0 : (cmdS L 0).1 = 0
  ·
    have hwin := wE_in (L := L) (i := 0) (by omega)
    have htx : txS L = cmdS L 0 := tx_bad b8_0
    refine b_callx (br := [[(a_1, .inr (11, [.int 0, .ref y_2.1, .int (nI 0)]))], (alA Γ y_2), (cmsB Γ 0 (fun _ => cm0))]) (b_runVx ⟨hx, hb, hml, hown, hts⟩ (mt_Rd_command_x_1 l Γ _ a o y L z1 z2 0 hnt (by assumption) (by omega) (by first | exact hL5 | omega) b8_0) (lw_V q1553 q1555 qs25 q99 q1556) rfl rfl 0 (by decide +kernel) ⟨(Nat.le_of_ble_eq_true rfl), (Nat.le_of_ble_eq_true rfl)⟩ (c_pre hP hD hS hA hK hE [3] rfl rfl (ro_app (ro_pass (ro_sel (ro2 := [[(o, .inr (14, [.ref y.1, .int 1, .int z1, .int z2]))]]) hRo [0] rfl) hD hS hA [3] rfl) (ro_pass (ro_sel (ro2 := [[(y.1, .inl (Γ.2.1 1, 2 * L.length, .inl y.2))]]) hRo [1] rfl) hD hS hA [3] rfl))) (recv_at (q := (RX10, TX10, 2)) hK (b_at (k := 3) hP rfl) rfl) rfl hl.1 rfl (Nat.le_of_ble_eq_true rfl) dX10_read_10 ⟨(by first | omega | (dsimp only; omega)), (by first | omega | (dsimp only; omega))⟩) hP hD hS hA [3] [0, 1, 2] rfl rfl rfl (fun q_3 ce_3 u_3 H locs hw_3 hP hD hS _ hce_3 hcv_3 hcl_3 => ?_)
    obtain rfl := hw_3
    have hP : WP Γ [[(q_3, .inr (9, [.int (nI (cmdS L 0).2)]))], [(a_1, .inr (11, [.int 0, .ref y_2.1, .int (nI 0)]))], (alA Γ y_2), (cmsB Γ 0 (fun _ => cm0))] H := hP
    have hD : WD A [[(q_3, .inr (9, [.int (nI (cmdS L 0).2)]))], [(a_1, .inr (11, [.int 0, .ref y_2.1, .int (nI 0)]))], (alA Γ y_2), (cmsB Γ 0 (fun _ => cm0))] := hD
    have hP : WP Γ [[(q_3, .inr (9, [.int (nI (cmdS L 0).2)]))]] H := bP_sel hP [0] rfl
    have hD : WD A [[(q_3, .inr (9, [.int (nI (cmdS L 0).2)]))]] := bD_sel hD [0] rfl rfl
    exact b_outx hlocks (fun x hx9 => (ht9 x hx9).elim) hP hD hS hce_3 hcv_3 hcl_3 (by first | with_reducible rfl | (simp [htx, b8_0]; done) | rfl) (by first | omega | (dsimp only; omega)) (by first | omega | (dsimp only; omega))
  ·
    have hwin := wE_in (L := L) (i := 0) (by omega)
    have hcs := (cmdS_01 L 0).resolve_left b8_0
    have hadv := cmd_adv (i := 0) (by omega) hcs
    refine b_callq (br := [[(a_1, .inr (11, [.int 0, .ref y_2.1, .int (nI 0)]))], (alA Γ y_2), (cmsB Γ 0 (fun _ => cm0))]) (b_runV ⟨hx, hb, hml, hown, hts⟩ (mt_Rd_command_ok_1 l Γ _ a o y L z1 z2 0 (by assumption) (by omega) (by first | exact hL5 | omega) hcs) (lw_V q1553 q1555 qs25 q99 q1556) rfl rfl 0 (by decide +kernel) ⟨(Nat.le_of_ble_eq_true rfl), (Nat.le_of_ble_eq_true rfl)⟩ (c_pre hP hD hS hA hK hE [3] rfl rfl (ro_app (ro_pass (ro_sel (ro2 := [[(o, .inr (14, [.ref y.1, .int 1, .int z1, .int z2]))]]) hRo [0] rfl) hD hS hA [3] rfl) (ro_pass (ro_sel (ro2 := [[(y.1, .inl (Γ.2.1 1, 2 * L.length, .inl y.2))]]) hRo [1] rfl) hD hS hA [3] rfl))) (recv_at (q := (RX10, TX10, 2)) hK (b_at (k := 3) hP rfl) rfl) rfl hl.1 rfl (Nat.le_of_ble_eq_true rfl) dX10_read_10 ⟨(by first | omega | (dsimp only; omega)), (by first | omega | (dsimp only; omega))⟩) hP hD hS hA [3] [0, 1, 2] rfl rfl rfl (fun r_4 u_4 H locs hw_4 hP hD hS _ => ?_)
    obtain ⟨c_4, o2_4, y2_4, h2_4, z2__4, hs_4, hh_4, rfl, rfl⟩ := hw_4
    have hP : WP Γ [[(a, .inr (8, [.ref o, .int (nI (cmdS L 0).2)]))], [(c_4, .inr (10, [.ref o2_4, .int (cmdV L 0), .int (cmdX L 0)]))], [(o2_4, .inr (14, [.ref y2_4.1, .int 0, .int h2_4, .int z2__4]))], [(y2_4.1, .inl (Γ.2.1 1, (slL L 0 (wE L 0)).length, .inl y2_4.2))], [(a_1, .inr (11, [.int 0, .ref y_2.1, .int (nI 0)]))], (alA Γ y_2), (cmsB Γ 0 (fun _ => cm0))] H := hP
    have hD : WD A [[(a, .inr (8, [.ref o, .int (nI (cmdS L 0).2)]))], [(c_4, .inr (10, [.ref o2_4, .int (cmdV L 0), .int (cmdX L 0)]))], [(o2_4, .inr (14, [.ref y2_4.1, .int 0, .int h2_4, .int z2__4]))], [(y2_4.1, .inl (Γ.2.1 1, (slL L 0 (wE L 0)).length, .inl y2_4.2))], [(a_1, .inr (11, [.int 0, .ref y_2.1, .int (nI 0)]))], (alA Γ y_2), (cmsB Γ 0 (fun _ => cm0))] := hD
    refine W.eq (g2 := F0 mi_ 13 ls ([.ref c_4, .ref a_1])) rfl ?_
    have hP : WP Γ [[(c_4, .inr (10, [.ref o2_4, .int (cmdV L 0), .int (cmdX L 0)]))], [(o2_4, .inr (14, [.ref y2_4.1, .int 0, .int h2_4, .int z2__4]))], [(y2_4.1, .inl (Γ.2.1 1, (slL L 0 (wE L 0)).length, .inl y2_4.2))], (cmsB Γ 0 (fun _ => cm0)), [(a, .inr (8, [.ref o, .int (nI (cmdS L 0).2)]))], [(a_1, .inr (11, [.int 0, .ref y_2.1, .int (nI 0)]))], (alA Γ y_2)] H := bP_sel hP [1, 2, 3, 6, 0, 4, 5] rfl
    have hD : WD A [[(c_4, .inr (10, [.ref o2_4, .int (cmdV L 0), .int (cmdX L 0)]))], [(o2_4, .inr (14, [.ref y2_4.1, .int 0, .int h2_4, .int z2__4]))], [(y2_4.1, .inl (Γ.2.1 1, (slL L 0 (wE L 0)).length, .inl y2_4.2))], (cmsB Γ 0 (fun _ => cm0)), [(a, .inr (8, [.ref o, .int (nI (cmdS L 0).2)]))], [(a_1, .inr (11, [.int 0, .ref y_2.1, .int (nI 0)]))], (alA Γ y_2)] := bD_sel hD [1, 2, 3, 6, 0, 4, 5] rfl rfl
    obtain ⟨qq_4, hqq_4⟩ : ∃ z : CM, z = (c_4, o2_4, y2_4, (slL L 0 (wE L 0)), (cmdV L 0), (cmdX L 0), h2_4, z2__4) := ⟨_, rfl⟩
    have hP : WP Γ [(cmsB Γ (0 + 1) (va_up (fun _ => cm0) 0 qq_4)), [(a, .inr (8, [.ref o, .int (nI (cmdS L 0).2)]))], [(a_1, .inr (11, [.int 0, .ref y_2.1, .int (nI 0)]))], (alA Γ y_2)] H := cmsP_push (q := qq_4) (by rw [hqq_4]; exact hP)
    have hD : WD A [(cmsB Γ (0 + 1) (va_up (fun _ => cm0) 0 qq_4)), [(a, .inr (8, [.ref o, .int (nI (cmdS L 0).2)]))], [(a_1, .inr (11, [.int 0, .ref y_2.1, .int (nI 0)]))], (alA Γ y_2)] := cmsD_push (q := qq_4) (by rw [hqq_4]; exact hD)
    have hqa_4 : c_4 = qq_4.a := by rw [hqq_4]
    have hqo_4 : cmOk L 0 qq_4 := by rw [hqq_4]; exact ⟨rfl, rfl, rfl, hs_4, hh_4, hcs⟩
    refine W.eq (g2 := F0 mi_ 13 ls ([.ref qq_4.a, .ref a_1])) (by rw [hqa_4]) ?_
    refine b_calli (br := [(cmsB Γ (0 + 1) (va_up (fun _ => cm0) 0 qq_4)), [(a, .inr (8, [.ref o, .int (nI (cmdS L 0).2)]))]]) (b_runV ⟨hx, hb, hml, hown, hts⟩ (mt_AL_add l Γ _ a_1 0 y_2 0 (fun k => ((fun _ => cm0) k).a) qq_4.a (cmsB Γ (0 + 1) (va_up (fun _ => cm0) 0 qq_4)) (hy_2 _) (by omega) cms_el2 cms_el1) (lw_V q1693 q474 q475 q66 q476) rfl rfl 1 (by decide +kernel) ⟨(Nat.le_of_ble_eq_true rfl), (Nat.le_of_ble_eq_true rfl)⟩ (c_pre hP hD hS hA hK hE [2, 3] rfl rfl (ro_own (br := [(cmsB Γ (0 + 1) (va_up (fun _ => cm0) 0 qq_4))]) hP hD [2, 3] [0] rfl rfl rfl)) (recv_at (q := (RJ2, TJ2, 3)) hK (b_at (k := 2) hP rfl) rfl) rfl hl.1 rfl (Nat.le_of_ble_eq_true rfl) dX10_read_13 ⟨(by first | omega | (dsimp only; omega)), (by first | omega | (dsimp only; omega))⟩) hP hD hS hA [2, 3] [0, 1] rfl rfl rfl (fun r_5 u_5 H locs hw_5 hP hD hS _ => ?_)
    obtain ⟨y_5, hy_5, rfl, rfl⟩ := hw_5
    have hP : WP Γ [[(a_1, .inr (11, [.int (0 + 1), .ref y_5.1, .int (nI 1)]))], (alA Γ y_5), (cmsB Γ (0 + 1) (va_up (fun _ => cm0) 0 qq_4)), [(a, .inr (8, [.ref o, .int (nI (cmdS L 0).2)]))]] H := hP
    have hD : WD A [[(a_1, .inr (11, [.int (0 + 1), .ref y_5.1, .int (nI 1)]))], (alA Γ y_5), (cmsB Γ (0 + 1) (va_up (fun _ => cm0) 0 qq_4)), [(a, .inr (8, [.ref o, .int (nI (cmdS L 0).2)]))]] := hD
    refine lv_pop hx hb dX10_read_16 rfl ?_
    have hTS : txS L = txR L L.length (cmdS L 0).2 := tx_step b8_0
    have hTP : tpI L (0 + 1) (va_up (fun _ => 0) 0 0) (txQ L L.length (cmdS L 0).2) := tpI_push (L := L) (j := 0) (ps := fun _ => 0) ⟨[], rfl, fun k hk => absurd hk (Nat.not_lt_zero k), tp_step b8_0⟩
    have hAx : alI Γ y_5 (0 + 1) (fun k => (va_up (fun _ => cm0) 0 qq_4 k).a) := by rw [cmA_up]; exact hy_5
    have hP : WP Γ [[(a, .inr (8, [.ref o, .int (nI (cmdS L 0).2)]))], [(a_1, .inr (11, [.int (0 + 1), .ref y_5.1, .int (nI 1)]))], (alA Γ y_5), (cmsB Γ (0 + 1) (va_up (fun _ => cm0) 0 qq_4))] H := bP_sel hP [3, 0, 1, 2] rfl
    have hD : WD A [[(a, .inr (8, [.ref o, .int (nI (cmdS L 0).2)]))], [(a_1, .inr (11, [.int (0 + 1), .ref y_5.1, .int (nI 1)]))], (alA Γ y_5), (cmsB Γ (0 + 1) (va_up (fun _ => cm0) 0 qq_4))] := bD_sel hD [3, 0, 1, 2] rfl rfl
    have loop_6 : ∀ (fuel : Nat) (q : Nat) (x5 : LST) (m5 : Int32) (j : Nat) (ps : Nat → Nat) (cm : Nat → CM) (f : Nat), L.length + 1 - q < fuel → (q ≤ L.length) → (j ≤ q) → (1 ≤ j) → (L.length ≤ f + q) → (alI Γ x5 j (fun k => (cm k).a)) → (txS L = txR L f q) → (tpI L j ps (txQ L f q)) → (∀ k, k < j → cmOk L (ps k) (cm k)) → ∀ (H : Heap) (locs : List Loc) (ls : Array Slot), WP Γ [[(a, .inr (8, [.ref o, .int (nI q)]))], [(a_1, .inr (11, [.int m5, .ref x5.1, .int (nI j)]))], (alA Γ x5), (cmsB Γ j cm)] H → WD A [[(a, .inr (8, [.ref o, .int (nI q)]))], [(a_1, .inr (11, [.int m5, .ref x5.1, .int (nI j)]))], (alA Γ x5), (cmsB Γ j cm)] → va_S A s.heap H locs → lv_has ls 2 [(1, .ref a_1), (0, .ref a)] → W pr_ l ev_ { frames := 9, cells := (4 * L.length + 20), slots := (700 * L.length + 1400), locals := 216 } s mi_ ([.ref a] : List Value).toArray below meth cd_ H locs (4 * q + 1) (700 * q + 3) (vx_MQ below QN (XB Γ "DairyBook$Fault" (fun q_ u_ => u_ = [[(q_, .inr (9, [.int (nI (txS L).2)]))]]) A) ([.ref a] : List Value).toArray s (4 * L.length + 20) (700 * L.length + 1400) A) (F0 mi_ 17 ls ([])) := by
      intro fuel
      induction fuel with
      | zero => intro q x5 m5 j ps cm f hfuel; exact absurd hfuel (Nat.not_lt_zero _)
      | succ fuel ih =>
        intro q x5 m5 j ps cm f hfuel hqn hjq hj1 hfq hAx hTS hTP hcm H locs ls hP hD hS hl
        refine lv_aload_n hx hb dX10_read_17 rfl (lv_at hl 1 rfl) ?_
        refine lv_bipush (v := 59) hx hb dX10_read_18 (by decide) ?_
        by_cases h59 : rdH L q = 59
        ·
          have hql := rdH_lt (by decide) h59
          obtain ⟨f1, rfl⟩ : ∃ f1, f = f1 + 1 := ⟨f - 1, by omega⟩
          refine b_calli (br := [[(a_1, .inr (11, [.int m5, .ref x5.1, .int (nI j)]))], (alA Γ x5), (cmsB Γ j cm)]) (b_runV ⟨hx, hb, hml, hown, hts⟩ (mt_Rd_skip_yes_1 l Γ _ a o y L z1 z2 q 59 (by assumption) (by omega) (by omega)) (lw_V q1669 q1671 qs29 q99 q1672) rfl rfl 1 (by decide +kernel) ⟨(Nat.le_of_ble_eq_true rfl), (Nat.le_of_ble_eq_true rfl)⟩ (c_pre hP hD hS hA hK hE [0] rfl rfl (ro_app (ro_pass (ro_sel (ro2 := [[(o, .inr (14, [.ref y.1, .int 1, .int z1, .int z2]))]]) hRo [0] rfl) hD hS hA [0] rfl) (ro_pass (ro_sel (ro2 := [[(y.1, .inl (Γ.2.1 1, 2 * L.length, .inl y.2))]]) hRo [1] rfl) hD hS hA [0] rfl))) (recv_at (q := (RX10, TX10, 2)) hK (b_at (k := 0) hP rfl) rfl) rfl hl.1 rfl (Nat.le_of_ble_eq_true rfl) dX10_read_20 ⟨(by first | omega | (dsimp only; omega)), (by first | omega | (dsimp only; omega))⟩) hP hD hS hA [0] [1, 2, 3] rfl rfl rfl (fun r_7 u_7 H locs hw_7 hP hD hS _ => ?_)
          obtain ⟨rfl, rfl⟩ := hw_7
          have hP : WP Γ [[(a, .inr (8, [.ref o, .int (nI (q + 1))]))], [(a_1, .inr (11, [.int m5, .ref x5.1, .int (nI j)]))], (alA Γ x5), (cmsB Γ j cm)] H := hP
          have hD : WD A [[(a, .inr (8, [.ref o, .int (nI (q + 1))]))], [(a_1, .inr (11, [.int m5, .ref x5.1, .int (nI j)]))], (alA Γ x5), (cmsB Γ j cm)] := hD
          refine lv_if_eq (tgt := 38) hx hb dX10_read_23 (by decide) (fun c_8 => ?_) (fun c_8 => ?_)
          · -- 23 taken
            have n_8 : 1 = 0 := (nI_eq (by omega) (by omega)).mp (show nI 1 = nI 0 from c_8)
            exact absurd n_8 (by omega)
          · -- 23 not taken
            have n_8 : ¬ (1 = 0) := fun hh7 => c_8 ((nI_eq (a := 1) (b := 0) (by omega) (by omega)).mpr hh7)
            refine lv_aload_n hx hb dX10_read_26 rfl (lv_at hl 0 rfl) ?_
            refine lv_aload_n hx hb dX10_read_27 rfl (lv_at hl 1 rfl) ?_
            by_cases b8_q : (cmdS L (q + 1)).1 = 0
            ·
              have hwin := wE_in (L := L) (i := q + 1) (by omega)
              have htx : txS L = cmdS L (q + 1) := (by rw [hTS]; unfold txR; rw [if_pos h59]; exact tx_bad b8_q)
              refine b_callx (br := [[(a_1, .inr (11, [.int m5, .ref x5.1, .int (nI j)]))], (alA Γ x5), (cmsB Γ j cm)]) (b_runVx ⟨hx, hb, hml, hown, hts⟩ (mt_Rd_command_x_1 l Γ _ a o y L z1 z2 (q + 1) hnt (by assumption) (by omega) (by first | exact hL5 | omega) b8_q) (lw_V q1553 q1555 qs25 q99 q1556) rfl rfl 0 (by decide +kernel) ⟨(Nat.le_of_ble_eq_true rfl), (Nat.le_of_ble_eq_true rfl)⟩ (c_pre hP hD hS hA hK hE [0] rfl rfl (ro_app (ro_pass (ro_sel (ro2 := [[(o, .inr (14, [.ref y.1, .int 1, .int z1, .int z2]))]]) hRo [0] rfl) hD hS hA [0] rfl) (ro_pass (ro_sel (ro2 := [[(y.1, .inl (Γ.2.1 1, 2 * L.length, .inl y.2))]]) hRo [1] rfl) hD hS hA [0] rfl))) (recv_at (q := (RX10, TX10, 2)) hK (b_at (k := 0) hP rfl) rfl) rfl hl.1 rfl (Nat.le_of_ble_eq_true rfl) dX10_read_28 ⟨(by first | omega | (dsimp only; omega)), (by first | omega | (dsimp only; omega))⟩) hP hD hS hA [0] [1, 2, 3] rfl rfl rfl (fun q_9 ce_9 u_9 H locs hw_9 hP hD hS _ hce_9 hcv_9 hcl_9 => ?_)
              obtain rfl := hw_9
              have hP : WP Γ [[(q_9, .inr (9, [.int (nI (cmdS L (q + 1)).2)]))], [(a_1, .inr (11, [.int m5, .ref x5.1, .int (nI j)]))], (alA Γ x5), (cmsB Γ j cm)] H := hP
              have hD : WD A [[(q_9, .inr (9, [.int (nI (cmdS L (q + 1)).2)]))], [(a_1, .inr (11, [.int m5, .ref x5.1, .int (nI j)]))], (alA Γ x5), (cmsB Γ j cm)] := hD
              have hP : WP Γ [[(q_9, .inr (9, [.int (nI (cmdS L (q + 1)).2)]))]] H := bP_sel hP [0] rfl
              have hD : WD A [[(q_9, .inr (9, [.int (nI (cmdS L (q + 1)).2)]))]] := bD_sel hD [0] rfl rfl
              exact b_outx hlocks (fun x hx9 => (ht9 x hx9).elim) hP hD hS hce_9 hcv_9 hcl_9 (by first | with_reducible rfl | (simp [htx, b8_0, h59, n_8, b8_q]; done) | rfl) (by first | omega | (dsimp only; omega)) (by first | omega | (dsimp only; omega))
            ·
              have hwin := wE_in (L := L) (i := q + 1) (by omega)
              have hcs := (cmdS_01 L (q + 1)).resolve_left b8_q
              have hadv := cmd_adv (i := q + 1) (by omega) hcs
              refine b_callq (br := [[(a_1, .inr (11, [.int m5, .ref x5.1, .int (nI j)]))], (alA Γ x5), (cmsB Γ j cm)]) (b_runV ⟨hx, hb, hml, hown, hts⟩ (mt_Rd_command_ok_1 l Γ _ a o y L z1 z2 (q + 1) (by assumption) (by omega) (by first | exact hL5 | omega) hcs) (lw_V q1553 q1555 qs25 q99 q1556) rfl rfl 0 (by decide +kernel) ⟨(Nat.le_of_ble_eq_true rfl), (Nat.le_of_ble_eq_true rfl)⟩ (c_pre hP hD hS hA hK hE [0] rfl rfl (ro_app (ro_pass (ro_sel (ro2 := [[(o, .inr (14, [.ref y.1, .int 1, .int z1, .int z2]))]]) hRo [0] rfl) hD hS hA [0] rfl) (ro_pass (ro_sel (ro2 := [[(y.1, .inl (Γ.2.1 1, 2 * L.length, .inl y.2))]]) hRo [1] rfl) hD hS hA [0] rfl))) (recv_at (q := (RX10, TX10, 2)) hK (b_at (k := 0) hP rfl) rfl) rfl hl.1 rfl (Nat.le_of_ble_eq_true rfl) dX10_read_28 ⟨(by first | omega | (dsimp only; omega)), (by first | omega | (dsimp only; omega))⟩) hP hD hS hA [0] [1, 2, 3] rfl rfl rfl (fun r_10 u_10 H locs hw_10 hP hD hS _ => ?_)
              obtain ⟨c_10, o2_10, y2_10, h2_10, z2__10, hs_10, hh_10, rfl, rfl⟩ := hw_10
              have hP : WP Γ [[(a, .inr (8, [.ref o, .int (nI (cmdS L (q + 1)).2)]))], [(c_10, .inr (10, [.ref o2_10, .int (cmdV L (q + 1)), .int (cmdX L (q + 1))]))], [(o2_10, .inr (14, [.ref y2_10.1, .int 0, .int h2_10, .int z2__10]))], [(y2_10.1, .inl (Γ.2.1 1, (slL L (q + 1) (wE L (q + 1))).length, .inl y2_10.2))], [(a_1, .inr (11, [.int m5, .ref x5.1, .int (nI j)]))], (alA Γ x5), (cmsB Γ j cm)] H := hP
              have hD : WD A [[(a, .inr (8, [.ref o, .int (nI (cmdS L (q + 1)).2)]))], [(c_10, .inr (10, [.ref o2_10, .int (cmdV L (q + 1)), .int (cmdX L (q + 1))]))], [(o2_10, .inr (14, [.ref y2_10.1, .int 0, .int h2_10, .int z2__10]))], [(y2_10.1, .inl (Γ.2.1 1, (slL L (q + 1) (wE L (q + 1))).length, .inl y2_10.2))], [(a_1, .inr (11, [.int m5, .ref x5.1, .int (nI j)]))], (alA Γ x5), (cmsB Γ j cm)] := hD
              refine W.eq (g2 := F0 mi_ 31 ls ([.ref c_10, .ref a_1])) rfl ?_
              have hP : WP Γ [[(c_10, .inr (10, [.ref o2_10, .int (cmdV L (q + 1)), .int (cmdX L (q + 1))]))], [(o2_10, .inr (14, [.ref y2_10.1, .int 0, .int h2_10, .int z2__10]))], [(y2_10.1, .inl (Γ.2.1 1, (slL L (q + 1) (wE L (q + 1))).length, .inl y2_10.2))], (cmsB Γ j cm), [(a, .inr (8, [.ref o, .int (nI (cmdS L (q + 1)).2)]))], [(a_1, .inr (11, [.int m5, .ref x5.1, .int (nI j)]))], (alA Γ x5)] H := bP_sel hP [1, 2, 3, 6, 0, 4, 5] rfl
              have hD : WD A [[(c_10, .inr (10, [.ref o2_10, .int (cmdV L (q + 1)), .int (cmdX L (q + 1))]))], [(o2_10, .inr (14, [.ref y2_10.1, .int 0, .int h2_10, .int z2__10]))], [(y2_10.1, .inl (Γ.2.1 1, (slL L (q + 1) (wE L (q + 1))).length, .inl y2_10.2))], (cmsB Γ j cm), [(a, .inr (8, [.ref o, .int (nI (cmdS L (q + 1)).2)]))], [(a_1, .inr (11, [.int m5, .ref x5.1, .int (nI j)]))], (alA Γ x5)] := bD_sel hD [1, 2, 3, 6, 0, 4, 5] rfl rfl
              obtain ⟨qq_10, hqq_10⟩ : ∃ z : CM, z = (c_10, o2_10, y2_10, (slL L (q + 1) (wE L (q + 1))), (cmdV L (q + 1)), (cmdX L (q + 1)), h2_10, z2__10) := ⟨_, rfl⟩
              have hP : WP Γ [(cmsB Γ (j + 1) (va_up cm j qq_10)), [(a, .inr (8, [.ref o, .int (nI (cmdS L (q + 1)).2)]))], [(a_1, .inr (11, [.int m5, .ref x5.1, .int (nI j)]))], (alA Γ x5)] H := cmsP_push (q := qq_10) (by rw [hqq_10]; exact hP)
              have hD : WD A [(cmsB Γ (j + 1) (va_up cm j qq_10)), [(a, .inr (8, [.ref o, .int (nI (cmdS L (q + 1)).2)]))], [(a_1, .inr (11, [.int m5, .ref x5.1, .int (nI j)]))], (alA Γ x5)] := cmsD_push (q := qq_10) (by rw [hqq_10]; exact hD)
              have hqa_10 : c_10 = qq_10.a := by rw [hqq_10]
              have hqo_10 : cmOk L (q + 1) qq_10 := by rw [hqq_10]; exact ⟨rfl, rfl, rfl, hs_10, hh_10, hcs⟩
              refine W.eq (g2 := F0 mi_ 31 ls ([.ref qq_10.a, .ref a_1])) (by rw [hqa_10]) ?_
              refine b_calli (br := [(cmsB Γ (j + 1) (va_up cm j qq_10)), [(a, .inr (8, [.ref o, .int (nI (cmdS L (q + 1)).2)]))]]) (b_runV ⟨hx, hb, hml, hown, hts⟩ (mt_AL_add l Γ _ a_1 m5 x5 j (fun k => (cm k).a) qq_10.a (cmsB Γ (j + 1) (va_up cm j qq_10)) hAx (by omega) cms_el2 cms_el1) (lw_V q1693 q474 q475 q66 q476) rfl rfl 1 (by decide +kernel) ⟨(Nat.le_of_ble_eq_true rfl), (Nat.le_of_ble_eq_true rfl)⟩ (c_pre hP hD hS hA hK hE [2, 3] rfl rfl (ro_own (br := [(cmsB Γ (j + 1) (va_up cm j qq_10))]) hP hD [2, 3] [0] rfl rfl rfl)) (recv_at (q := (RJ2, TJ2, 3)) hK (b_at (k := 2) hP rfl) rfl) rfl hl.1 rfl (Nat.le_of_ble_eq_true rfl) dX10_read_31 ⟨(by first | omega | (dsimp only; omega)), (by first | omega | (dsimp only; omega))⟩) hP hD hS hA [2, 3] [0, 1] rfl rfl rfl (fun r_11 u_11 H locs hw_11 hP hD hS _ => ?_)
              obtain ⟨y_11, hy_11, rfl, rfl⟩ := hw_11
              have hP : WP Γ [[(a_1, .inr (11, [.int (m5 + 1), .ref y_11.1, .int (nI (j + 1))]))], (alA Γ y_11), (cmsB Γ (j + 1) (va_up cm j qq_10)), [(a, .inr (8, [.ref o, .int (nI (cmdS L (q + 1)).2)]))]] H := hP
              have hD : WD A [[(a_1, .inr (11, [.int (m5 + 1), .ref y_11.1, .int (nI (j + 1))]))], (alA Γ y_11), (cmsB Γ (j + 1) (va_up cm j qq_10)), [(a, .inr (8, [.ref o, .int (nI (cmdS L (q + 1)).2)]))]] := hD
              refine lv_pop hx hb dX10_read_34 rfl ?_
              refine lv_goto (tgt := 17) hx hb dX10_read_35 (by decide) ?_
              have hP : WP Γ [[(a, .inr (8, [.ref o, .int (nI (cmdS L (q + 1)).2)]))], [(a_1, .inr (11, [.int (m5 + 1), .ref y_11.1, .int (nI (j + 1))]))], (alA Γ y_11), (cmsB Γ (j + 1) (va_up cm j qq_10))] H := bP_sel hP [3, 0, 1, 2] rfl
              have hD : WD A [[(a, .inr (8, [.ref o, .int (nI (cmdS L (q + 1)).2)]))], [(a_1, .inr (11, [.int (m5 + 1), .ref y_11.1, .int (nI (j + 1))]))], (alA Γ y_11), (cmsB Γ (j + 1) (va_up cm j qq_10))] := bD_sel hD [3, 0, 1, 2] rfl rfl
              have hTS2 : txS L = txR L f1 (cmdS L (q + 1)).2 := by rw [hTS]; unfold txR; rw [if_pos h59]; exact tx_step b8_q
              have hTP2 : tpI L (j + 1) (va_up ps j (q + 1)) (txQ L f1 (cmdS L (q + 1)).2) := tpI_push (by unfold txQ at hTP; rw [if_pos h59, tp_step b8_q] at hTP; exact hTP)
              have hAx2 : alI Γ y_11 (j + 1) (fun k => (va_up cm j qq_10 k).a) := by rw [cmA_up]; exact hy_11
              refine W.widen (k := (4 * (cmdS L (q + 1)).2 + 1)) (n := (700 * (cmdS L (q + 1)).2 + 3)) (by omega) (by omega) ?_
              exact ih (cmdS L (q + 1)).2 y_11 (m5 + 1) (j + 1) (va_up ps j (q + 1)) (va_up cm j qq_10) f1 (by omega) (by omega) (by omega) (by omega) (by omega) hAx2 hTS2 hTP2 (cms_up hcm hqo_10) _ _ _ hP hD hS (lv_sub hl [0, 1] rfl)
        ·
          refine b_calli (br := [[(a_1, .inr (11, [.int m5, .ref x5.1, .int (nI j)]))], (alA Γ x5), (cmsB Γ j cm)]) (b_runV ⟨hx, hb, hml, hown, hts⟩ (mt_Rd_skip_no_1 l Γ _ a o y L z1 z2 q 59 (by assumption) (by omega) (by omega)) (lw_V q1669 q1671 qs29 q99 q1672) rfl rfl 1 (by decide +kernel) ⟨(Nat.le_of_ble_eq_true rfl), (Nat.le_of_ble_eq_true rfl)⟩ (c_pre hP hD hS hA hK hE [0] rfl rfl (ro_app (ro_pass (ro_sel (ro2 := [[(o, .inr (14, [.ref y.1, .int 1, .int z1, .int z2]))]]) hRo [0] rfl) hD hS hA [0] rfl) (ro_pass (ro_sel (ro2 := [[(y.1, .inl (Γ.2.1 1, 2 * L.length, .inl y.2))]]) hRo [1] rfl) hD hS hA [0] rfl))) (recv_at (q := (RX10, TX10, 2)) hK (b_at (k := 0) hP rfl) rfl) rfl hl.1 rfl (Nat.le_of_ble_eq_true rfl) dX10_read_20 ⟨(by first | omega | (dsimp only; omega)), (by first | omega | (dsimp only; omega))⟩) hP hD hS hA [0] [1, 2, 3] rfl rfl rfl (fun r_12 u_12 H locs hw_12 hP hD hS _ => ?_)
          obtain ⟨rfl, rfl⟩ := hw_12
          have hP : WP Γ [[(a, .inr (8, [.ref o, .int (nI q)]))], [(a_1, .inr (11, [.int m5, .ref x5.1, .int (nI j)]))], (alA Γ x5), (cmsB Γ j cm)] H := hP
          have hD : WD A [[(a, .inr (8, [.ref o, .int (nI q)]))], [(a_1, .inr (11, [.int m5, .ref x5.1, .int (nI j)]))], (alA Γ x5), (cmsB Γ j cm)] := hD
          refine lv_if_eq (tgt := 38) hx hb dX10_read_23 (by decide) (fun c_13 => ?_) (fun c_13 => ?_)
          · -- 23 taken
            have n_13 : 0 = 0 := (nI_eq (by omega) (by omega)).mp (show nI 0 = nI 0 from c_13)
            refine lv_aload_n hx hb dX10_read_38 rfl (lv_at hl 1 rfl) ?_
            refine b_get (C := RX10) (T := TX10) (N := 2) (v := .int (nI q)) hx hb hts in_X10 hown hK (b_at (k := 0) hP rfl) rfl 1 (by decide) q1539 (fun _ h9 => h9) rfl dX10_read_39 ?_
            refine lv_aload_n hx hb dX10_read_42 rfl (lv_at hl 1 rfl) ?_
            refine b_get (C := RX10) (T := TX10) (N := 2) (v := .ref o) hx hb hts in_X10 hown hK (b_at (k := 0) hP rfl) rfl 0 (by decide) q1538 (fun _ h9 => h9) rfl dX10_read_43 ?_
            refine b_calli (br := [[(a, .inr (8, [.ref o, .int (nI q)]))], [(a_1, .inr (11, [.int m5, .ref x5.1, .int (nI j)]))], (alA Γ x5), (cmsB Γ j cm)]) (b_runV ⟨hx, hb, hml, hown, hts⟩ (mt_Str_length_1 l Γ _ o y.1 z1 z2 L.length y.2 (by omega)) (lw_V q1567 q666 q667 q71 q668) rfl rfl 0 (by decide +kernel) ⟨(Nat.le_of_ble_eq_true rfl), (Nat.le_of_ble_eq_true rfl)⟩ (c_pre hP hD hS hA hK hE [] rfl rfl (ro_app (ro_pass (ro_sel (ro2 := [[(o, .inr (14, [.ref y.1, .int 1, .int z1, .int z2]))]]) hRo [0] rfl) hD hS hA [] rfl) (ro_pass (ro_sel (ro2 := [[(y.1, .inl (Γ.2.1 1, 2 * L.length, .inl y.2))]]) hRo [1] rfl) hD hS hA [] rfl))) (recv_ro hK ((hRo (o, .inr (14, [.ref y.1, .int 1, .int z1, .int z2])) (by simp)).keep hS (fun _ h => h))) rfl hl.1 rfl (Nat.le_of_ble_eq_true rfl) dX10_read_46 ⟨(by first | omega | (dsimp only; omega)), (by first | omega | (dsimp only; omega))⟩) hP hD hS hA [] [0, 1, 2, 3] rfl rfl rfl (fun r_14 u_14 H locs hw_14 hP hD hS _ => ?_)
            obtain ⟨rfl, rfl⟩ := hw_14
            have hP : WP Γ [[(a, .inr (8, [.ref o, .int (nI q)]))], [(a_1, .inr (11, [.int m5, .ref x5.1, .int (nI j)]))], (alA Γ x5), (cmsB Γ j cm)] H := hP
            have hD : WD A [[(a, .inr (8, [.ref o, .int (nI q)]))], [(a_1, .inr (11, [.int m5, .ref x5.1, .int (nI j)]))], (alA Γ x5), (cmsB Γ j cm)] := hD
            refine lv_icmp_ge (tgt := 64) hx hb dX10_read_49 (by decide) (fun c_15 => ?_) (fun c_15 => ?_)
            · -- 49 taken
              have n_15 : L.length ≤ q := (nI_leI (by omega) (by omega)).mp (show nI L.length ≤ nI q from c_15)
              have m_15 : ¬ (q < L.length) := by omega
              have d_15 := Int32.not_lt.mpr c_15
              have htx : txS L = (1, q) := by rw [hTS]; unfold txR; rw [if_neg h59, if_pos (by omega)]
              exact absurd hcs9 (by rw [htx]; show ¬ (1 : Int32) = 0; decide)
            · -- 49 not taken
              have n_15 : ¬ (L.length ≤ q) := fun hh7 => c_15 ((nI_leI (a := L.length) (b := q) (by omega) (by omega)).mpr hh7)
              have m_15 : q < L.length := by omega
              have d_15 := Int32.not_le.mp c_15
              have htx : txS L = (0, q) := by rw [hTS]; unfold txR; rw [if_neg h59, if_neg (by omega)]
              refine b_newF hx hb hts hown q1646 hK hP hD hS hA (by first | omega | (dsimp only; omega)) (by first | omega | (dsimp only; omega)) dX10_read_52 (fun a_16 H hP hD hS hraw_a_16 => ?_)
              have hP : WP Γ [[(a, .inr (8, [.ref o, .int (nI q)]))], [(a_1, .inr (11, [.int m5, .ref x5.1, .int (nI j)]))], (alA Γ x5), (cmsB Γ j cm), [(a_16, .inr (9, [.int 0]))]] H := hP
              have hD : WD A [[(a, .inr (8, [.ref o, .int (nI q)]))], [(a_1, .inr (11, [.int m5, .ref x5.1, .int (nI j)]))], (alA Γ x5), (cmsB Γ j cm), [(a_16, .inr (9, [.int 0]))]] := hD
              refine lv_dup hx hb dX10_read_55 rfl ?_
              refine lv_aload_n hx hb dX10_read_56 rfl (lv_at hl 1 rfl) ?_
              refine b_get (C := RX10) (T := TX10) (N := 2) (v := .int (nI q)) hx hb hts in_X10 hown hK (b_at (k := 0) hP rfl) rfl 1 (by decide) q1539 (fun _ h9 => h9) rfl dX10_read_57 ?_
              refine b_callv (br := [[(a, .inr (8, [.ref o, .int (nI q)]))], [(a_1, .inr (11, [.int m5, .ref x5.1, .int (nI j)]))], (alA Γ x5), (cmsB Γ j cm)]) (b_runIF ⟨hx, hb, hml, hown, hts⟩ (mt_Fl_init l Γ _ a_16 (nI q) hnt) q1655 rfl rfl ⟨(Nat.le_of_ble_eq_true rfl), (Nat.le_of_ble_eq_true rfl)⟩ (cf_pre (c_pre hP hD hS hA hK hE [4] rfl rfl ro_nil) hraw_a_16) hl.1 rfl (Nat.le_of_ble_eq_true rfl) dX10_read_60 ⟨(by first | omega | (dsimp only; omega)), (by first | omega | (dsimp only; omega))⟩) hP hD hS hA [4] [0, 1, 2, 3] rfl rfl rfl (fun u_17 H locs hw_17 hP hD hS _ => ?_)
              obtain rfl := hw_17
              have hP : WP Γ [[(a_16, .inr (9, [.int (nI q)]))], [(a, .inr (8, [.ref o, .int (nI q)]))], [(a_1, .inr (11, [.int m5, .ref x5.1, .int (nI j)]))], (alA Γ x5), (cmsB Γ j cm)] H := hP
              have hD : WD A [[(a_16, .inr (9, [.int (nI q)]))], [(a, .inr (8, [.ref o, .int (nI q)]))], [(a_1, .inr (11, [.int m5, .ref x5.1, .int (nI j)]))], (alA Γ x5), (cmsB Γ j cm)] := hD
              refine vx_athrow hx hb dX10_read_63 ?_
              obtain ⟨ce_18, hce_18, hcv_18, hcl_18⟩ := fl_ce hK (b_at (k := 0) hP rfl)
              have hP : WP Γ [[(a_16, .inr (9, [.int (nI q)]))]] H := bP_sel hP [0] rfl
              have hD : WD A [[(a_16, .inr (9, [.int (nI q)]))]] := bD_sel hD [0] rfl rfl
              exact b_outx hlocks (fun x hx9 => (ht9 x hx9).elim) hP hD hS hce_18 hcv_18 hcl_18 (by first | with_reducible rfl | (simp [htx, b8_0, h59, n_13, n_15, m_15, d_15]; done) | rfl) (by first | omega | (dsimp only; omega)) (by first | omega | (dsimp only; omega))
          · -- 23 not taken
            have n_13 : ¬ (0 = 0) := fun hh7 => c_13 ((nI_eq (a := 0) (b := 0) (by omega) (by omega)).mpr hh7)
            exact absurd n_13 (by omega)
    refine W.widen (k := (4 * (cmdS L 0).2 + 1)) (n := (700 * (cmdS L 0).2 + 3)) (by omega) (by omega) ?_
    exact loop_6 ((L.length + 1 - (cmdS L 0).2) + 1) (cmdS L 0).2 y_5 (0 + 1) (0 + 1) (va_up (fun _ => 0) 0 0) (va_up (fun _ => cm0) 0 qq_4) L.length (Nat.lt_succ_self _) (by omega) (by omega) (by omega) (by omega) hAx hTS hTP (cms_up (n := 0) (fun k hk => absurd hk (Nat.not_lt_zero k)) hqo_4) _ _ _ hP hD hS (lv_sub hl [0, 1] rfl)
