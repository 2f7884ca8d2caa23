/-! COMPONENT: the reader's commands as blocks; command() and read() -/
def famB (n : Nat) (f : Nat → va_W) : va_W := ((List.range n).map f).flatten
def famX (n k : Nat) (f : Nat → va_W) : va_W := (((List.range n).filter fun j => decide (j ≠ k)).map f).flatten
theorem fam_up (n : Nat) (f : Nat → va_W) (w : va_W) : famB (n + 1) (va_up f n w) = famB n f ++ w := by
  unfold famB
  rw [List.range_succ, List.map_append, List.flatten_append]
  congr 1
  · congr 1
    apply List.map_congr_left
    intro k hk
    have h1 : k < n := List.mem_range.mp hk
    exact if_neg (by omega)
  · show List.flatten [va_up f n w n] = w
    rw [show va_up f n w n = w from if_pos rfl]
    simp
theorem fam_perm {n k : Nat} (hk : k < n) (f : Nat → va_W) : List.Perm (famB n f) (f k ++ famX n k f) := by
  have := ((range_perm hk).map f).flatten
  exact this
theorem famX_up (n k : Nat) (f : Nat → va_W) (w : va_W) : famX n k (va_up f k w) = famX n k f := by
  unfold famX
  congr 1
  apply List.map_congr_left
  intro j hj
  have h1 := (List.mem_filter.mp hj).2
  have h2 : j ≠ k := of_decide_eq_true h1
  exact if_neg h2
theorem fam_perm2 {n k : Nat} (hk : k < n) (f : Nat → va_W) (w : va_W) : List.Perm (w ++ famX n k f) (famB n (va_up f k w)) := by
  have := (fam_perm hk (va_up f k w)).symm
  rw [famX_up, show va_up f k w k = w from if_pos rfl] at this
  exact this
/-- a command: its address, its word's, the word's bytes, the word, its numbers; the word's hash -/
abbrev CM : Type := Nat × Nat × SST × List Int32 × Int32 × Int32 × Int32 × Int32
abbrev CM.a (q : CM) : Nat := q.1
abbrev CM.s (q : CM) : Nat := q.2.1
abbrev CM.y (q : CM) : SST := q.2.2.1
abbrev CM.w (q : CM) : List Int32 := q.2.2.2.1
abbrev CM.f (q : CM) : Int32 := q.2.2.2.2.1
abbrev CM.g (q : CM) : Int32 := q.2.2.2.2.2.1
abbrev CM.h (q : CM) : Int32 := q.2.2.2.2.2.2.1
abbrev CM.z (q : CM) : Int32 := q.2.2.2.2.2.2.2
def cmC (Γ : GE) (q : CM) : va_W := [(q.a, .inr (10, [.ref q.s, .int q.f, .int q.g])), (q.s, .inr (14, [.ref q.y.1, .int 0, .int q.h, .int q.z])), (q.y.1, .inl (Γ.2.1 1, q.w.length, .inl q.y.2))]
def cmsB (Γ : GE) (n : Nat) (cm : Nat → CM) : va_W := famB n fun k => cmC Γ (cm k)
def cmsX (Γ : GE) (n k : Nat) (cm : Nat → CM) : va_W := famX n k fun j => cmC Γ (cm j)
theorem cmC_up (Γ : GE) (cm : Nat → CM) (k : Nat) (q : CM) : (fun j => cmC Γ (va_up cm k q j)) = va_up (fun j => cmC Γ (cm j)) k (cmC Γ q) := by
  funext j
  show cmC Γ (if j = k then q else cm j) = if j = k then cmC Γ q else cmC Γ (cm j)
  split <;> rfl
theorem cms_push (Γ : GE) (n : Nat) (cm : Nat → CM) (q : CM) : cmsB Γ (n + 1) (va_up cm n q) = cmsB Γ n cm ++ cmC Γ q := by
  unfold cmsB
  rw [cmC_up, fam_up]
theorem cmsP_push {Γ : GE} {D : va_G} {cl : List vw_C} {n : Nat} {cm : Nat → CM} {q : CM} {rest : BW} {H : Heap} (h : va_P D cl (List.flatten ([(q.a, .inr (10, [.ref q.s, .int q.f, .int q.g]))] :: [(q.s, .inr (14, [.ref q.y.1, .int 0, .int q.h, .int q.z]))] :: [(q.y.1, .inl (Γ.2.1 1, q.w.length, .inl q.y.2))] :: cmsB Γ n cm :: rest)) H) : va_P D cl (List.flatten (cmsB Γ (n + 1) (va_up cm n q) :: rest)) H :=
  bP_perm (Bs := [[(q.a, .inr (10, [.ref q.s, .int q.f, .int q.g]))], [(q.s, .inr (14, [.ref q.y.1, .int 0, .int q.h, .int q.z]))], [(q.y.1, .inl (Γ.2.1 1, q.w.length, .inl q.y.2))], cmsB Γ n cm]) (Cs := [cmsB Γ (n + 1) (va_up cm n q)]) h (by simpa [cms_push, cmC] using List.perm_append_comm (l₁ := cmC Γ q) (l₂ := cmsB Γ n cm))
theorem cmsD_push {Γ : GE} {A : Nat → Prop} {n : Nat} {cm : Nat → CM} {q : CM} {rest : BW} (h : va_D A (List.flatten ([(q.a, .inr (10, [.ref q.s, .int q.f, .int q.g]))] :: [(q.s, .inr (14, [.ref q.y.1, .int 0, .int q.h, .int q.z]))] :: [(q.y.1, .inl (Γ.2.1 1, q.w.length, .inl q.y.2))] :: cmsB Γ n cm :: rest))) : va_D A (List.flatten (cmsB Γ (n + 1) (va_up cm n q) :: rest)) :=
  bD_perm (Bs := [[(q.a, .inr (10, [.ref q.s, .int q.f, .int q.g]))], [(q.s, .inr (14, [.ref q.y.1, .int 0, .int q.h, .int q.z]))], [(q.y.1, .inl (Γ.2.1 1, q.w.length, .inl q.y.2))], cmsB Γ n cm]) (Cs := [cmsB Γ (n + 1) (va_up cm n q)]) h (by simpa [cms_push, cmC] using List.perm_append_comm (l₁ := cmC Γ q) (l₂ := cmsB Γ n cm))
theorem cms_mem {Γ : GE} {n k : Nat} {cm : Nat → CM} (hk : k < n) : ((cm k).a, .inr (10, [.ref (cm k).s, .int (cm k).f, .int (cm k).g])) ∈ cmsB Γ n cm :=
  List.mem_flatten.mpr ⟨cmC Γ (cm k), List.mem_map.mpr ⟨k, List.mem_range.mpr hk, rfl⟩, List.mem_cons_self⟩
theorem cms_el {Γ : GE} {n : Nat} {cm : Nat → CM} {m : Nat} (hm : m ≤ n) : elIn (cmsB Γ n cm) m (fun k => (cm k).a) := fun k hk => ⟨10, _, cms_mem (by omega), Or.inr (Or.inr (Or.inr (Or.inr rfl)))⟩
theorem cms_el2 {Γ : GE} {n : Nat} {cm : Nat → CM} {q : CM} : elIn (cmsB Γ (n + 1) (va_up cm n q)) n (fun k => (cm k).a) := fun k hk => by
  have h9 : inE (cmsB Γ (n + 1) (va_up cm n q)) (va_up cm n q k).a := cms_el (Γ := Γ) (cm := va_up cm n q) (Nat.le_refl (n + 1)) k (by omega)
  rw [show va_up cm n q k = cm k from if_neg (by omega)] at h9
  exact h9
theorem cms_el1 {Γ : GE} {n : Nat} {cm : Nat → CM} {q : CM} : inE (cmsB Γ (n + 1) (va_up cm n q)) q.a := by
  have h9 : inE (cmsB Γ (n + 1) (va_up cm n q)) (va_up cm n q n).a := cms_el (Γ := Γ) (cm := va_up cm n q) (Nat.le_refl (n + 1)) n (by omega)
  rw [show va_up cm n q n = q from if_pos rfl] at h9
  exact h9
theorem cmA_up (cm : Nat → CM) (n : Nat) (q : CM) : (fun k => (va_up cm n q k).a) = va_up (fun k => (cm k).a) n q.a := by
  funext k
  show (if k = n then q else cm k).a = if k = n then q.a else (cm k).a
  split <;> rfl
/-- the command read at p -/
def cmOk (L : List Int32) (p : Nat) (q : CM) : Prop := q.w = slL L p (wE L p) ∧ q.f = cmdV L p ∧ q.g = cmdX L p ∧ stF q.y q.w ∧ (q.h = strH q.w ∨ q.h = 0 ∧ q.z = 0) ∧ (cmdS L p).1 = 1
theorem cmdS_01 (L : List Int32) (i : Nat) : (cmdS L i).1 = 0 ∨ (cmdS L i).1 = 1 := by
  unfold cmdS cmdS1 cmdS2
  repeat' split
  all_goals first | exact Or.inl rfl | exact Or.inr rfl
theorem nmW_len {W : List Int32} (h : ¬ nmW W = 0) : 3 ≤ W.length := by
  unfold nmW at h
  split at h
  · rename_i e; rw [e]; decide
  split at h
  · rename_i e; rw [e]; decide
  split at h
  · rename_i e; rw [e]; decide
  split at h
  · rename_i e; rw [e]; decide
  split at h
  · rename_i e; rw [e]; decide
  split at h
  · rename_i e; rw [e]; decide
  · exact absurd rfl h
theorem cmd_adv {L : List Int32} {i : Nat} (hi : i ≤ L.length) (h : (cmdS L i).1 = 1) : i + 3 ≤ wE L i ∧ wE L i + 2 ≤ (cmdS L i).2 ∧ (cmdS L i).2 ≤ L.length := by
  have z1 : ¬ (0 : Int32) = 1 := by decide
  unfold cmdS at h ⊢
  by_cases h1 : nmW (slL L i (wE L i)) = 0
  · rw [if_pos h1] at h; exact absurd h z1
  rw [if_neg h1] at h ⊢
  have h2 := nmW_len h1
  have h3 := wE_in hi
  rw [slL_len h3.2] at h2
  unfold cmdS1 at h ⊢
  by_cases h4 : rdH L (wE L i) = 32
  · rw [if_pos h4] at h ⊢
    by_cases h5 : inC (rdH L (wE L i + 1)) 48 57 = 0
    · rw [if_pos h5] at h; exact absurd h z1
    rw [if_neg h5] at h ⊢
    have h6 := nP_in h5
    by_cases h7 : nmW (slL L i (wE L i)) = 1
    · rw [if_pos h7]; exact ⟨by omega, h6.1, h6.2⟩
    rw [if_neg h7] at h ⊢
    unfold cmdS2 at h ⊢
    by_cases h8 : rdH L (nP L (wE L i + 1)).2 = 32
    · rw [if_pos h8] at h ⊢
      by_cases h9 : inC (rdH L ((nP L (wE L i + 1)).2 + 1)) 48 57 = 0
      · rw [if_pos h9] at h; exact absurd h z1
      rw [if_neg h9]
      have h10 := nP_in h9
      exact ⟨by omega, by show _ ≤ (nP L ((nP L (wE L i + 1)).2 + 1)).2; omega, h10.2⟩
    · rw [if_neg h8] at h; exact absurd h z1
  · rw [if_neg h4] at h; exact absurd h z1
set_option maxHeartbeats 4000000 in
set_option maxRecDepth 100000 in
theorem mt_Rd_must_x_0 (l : Launch) (Γ : GE) (sz : Nat) (a : Nat) (o : Nat) (y : SST) (L : List Int32) (z1 : Int32) (z2 : Int32) (i : Nat) (c : Int32) (hnt : l.stackTraces = false) (hst : stF y L) (hi5 : i ≤ 512) (hc9 : ¬ rdH L i = c) : KMX l yX10_must cX10_must 2 none Γ 6 126 1 7 [.ref a, .int c] [[(a, .inr (8, [.ref o, .int (nI i)]))]] [[(o, .inr (14, [.ref y.1, .int 0, .int z1, .int z2]))], [(y.1, .inl (Γ.2.1 1, L.length, .inl y.2))]] sz "DairyBook$Fault" (fun q_ u_ => u_ = [[(q_, .inr (9, [.int (nI i)]))]]) := by
  refine K_introX (by decide) (Nat.le_of_ble_eq_true rfl) ?_
  intro pr_ ev_ s mi_ below meth cd_ A ls hx hb hr hml hown hts hlocks hname hK hE hRo hP hD hA hS hsz hl ht9
  have hl : lv_has ls 2 [(0, .ref a), (1, .int c)] := hl
  have hown : s.vm.findClass RX10 = some mi_.cls := hown
  refine lv_aload_n hx hb dX10_must_0 rfl (lv_at hl 0 rfl) ?_
  refine lv_iload_n hx hb dX10_must_1 rfl (lv_at hl 1 rfl) ?_
  refine b_calli (br := []) (b_runV ⟨hx, hb, hml, hown, hts⟩ (mt_Rd_skip_no_0 l Γ _ a o y L z1 z2 i c (by assumption) (by first | exact hi5 | omega) (by first | exact hc9 | omega)) (lw_V q1669 q1671 qs29 q99 q1672) rfl rfl 1 (by decide +kernel) ⟨(Nat.le_of_ble_eq_true rfl), (Nat.le_of_ble_eq_true rfl)⟩ (c_pre hP hD hS hA hK hE [0] rfl rfl (ro_app (ro_pass (ro_sel (ro2 := [[(o, .inr (14, [.ref y.1, .int 0, .int z1, .int z2]))]]) hRo [0] rfl) hD hS hA [0] rfl) (ro_pass (ro_sel (ro2 := [[(y.1, .inl (Γ.2.1 1, L.length, .inl y.2))]]) hRo [1] rfl) hD hS hA [0] rfl))) (recv_at (q := (RX10, TX10, 2)) hK (b_at (k := 0) hP rfl) rfl) rfl hl.1 rfl (Nat.le_of_ble_eq_true rfl) dX10_must_2 ⟨(Nat.le_of_ble_eq_true rfl), (Nat.le_of_ble_eq_true rfl)⟩) hP hD hS hA [0] [] rfl rfl rfl (fun r_1 u_1 H locs hw_1 hP hD hS _ => ?_)
  obtain ⟨rfl, rfl⟩ := hw_1
  have hP : WP Γ [[(a, .inr (8, [.ref o, .int (nI i)]))]] H := hP
  have hD : WD A [[(a, .inr (8, [.ref o, .int (nI i)]))]] := hD
  refine lv_if_ne (tgt := 20) hx hb dX10_must_5 (by decide) (fun c_2 => ?_) (fun c_2 => ?_)
  · -- 5 taken
    have n_2 : ¬ (0 = 0) := fun hh7 => c_2 ((nI_eq (a := 0) (b := 0) (by omega) (by omega)).mpr hh7)
    exact absurd rfl c_2
  · -- 5 not taken
    have n_2 : 0 = 0 := (nI_eq (by omega) (by omega)).mp (show nI 0 = nI 0 from c_2)
    refine b_newF hx hb hts hown q1646 hK hP hD hS hA (Nat.le_of_ble_eq_true rfl) (Nat.le_of_ble_eq_true rfl) dX10_must_8 (fun a_3 H hP hD hS hraw_a_3 => ?_)
    have hP : WP Γ [[(a, .inr (8, [.ref o, .int (nI i)]))], [(a_3, .inr (9, [.int 0]))]] H := hP
    have hD : WD A [[(a, .inr (8, [.ref o, .int (nI i)]))], [(a_3, .inr (9, [.int 0]))]] := hD
    refine lv_dup hx hb dX10_must_11 rfl ?_
    refine lv_aload_n hx hb dX10_must_12 rfl (lv_at hl 0 rfl) ?_
    refine b_get (C := RX10) (T := TX10) (N := 2) (v := .int (nI i)) hx hb hts in_X10 hown hK (b_at (k := 0) hP rfl) rfl 1 (by decide) q1539 (fun _ h9 => h9) rfl dX10_must_13 ?_
    refine b_callv (br := [[(a, .inr (8, [.ref o, .int (nI i)]))]]) (b_runIF ⟨hx, hb, hml, hown, hts⟩ (mt_Fl_init l Γ _ a_3 (nI i) hnt) q1655 rfl rfl ⟨(Nat.le_of_ble_eq_true rfl), (Nat.le_of_ble_eq_true rfl)⟩ (cf_pre (c_pre hP hD hS hA hK hE [1] rfl rfl ro_nil) hraw_a_3) hl.1 rfl (Nat.le_of_ble_eq_true rfl) dX10_must_16 ⟨(Nat.le_of_ble_eq_true rfl), (Nat.le_of_ble_eq_true rfl)⟩) hP hD hS hA [1] [0] rfl rfl rfl (fun u_4 H locs hw_4 hP hD hS _ => ?_)
    obtain rfl := hw_4
    have hP : WP Γ [[(a_3, .inr (9, [.int (nI i)]))], [(a, .inr (8, [.ref o, .int (nI i)]))]] H := hP
    have hD : WD A [[(a_3, .inr (9, [.int (nI i)]))], [(a, .inr (8, [.ref o, .int (nI i)]))]] := hD
    refine vx_athrow hx hb dX10_must_19 ?_
    obtain ⟨ce_5, hce_5, hcv_5, hcl_5⟩ := fl_ce hK (b_at (k := 0) hP rfl)
    have hP : WP Γ [[(a_3, .inr (9, [.int (nI i)]))]] H := bP_sel hP [0] rfl
    have hD : WD A [[(a_3, .inr (9, [.int (nI i)]))]] := bD_sel hD [0] rfl rfl
    exact b_outx hlocks (fun x hx9 => (ht9 x hx9).elim) hP hD hS hce_5 hcv_5 hcl_5 (by first | with_reducible rfl | (simp [n_2]; done) | rfl) (Nat.le_of_ble_eq_true rfl) (Nat.le_of_ble_eq_true rfl)
set_option maxHeartbeats 4000000 in
set_option maxRecDepth 100000 in
theorem mt_Rd_must_x_1 (l : Launch) (Γ : GE) (sz : Nat) (a : Nat) (o : Nat) (y : SST) (L : List Int32) (z1 : Int32) (z2 : Int32) (i : Nat) (c : Int32) (hnt : l.stackTraces = false) (hst : stU y L) (hi5 : i ≤ 512) (hc9 : ¬ rdH L i = c) : KMX l yX10_must cX10_must 2 none Γ 7 147 1 7 [.ref a, .int c] [[(a, .inr (8, [.ref o, .int (nI i)]))]] [[(o, .inr (14, [.ref y.1, .int 1, .int z1, .int z2]))], [(y.1, .inl (Γ.2.1 1, 2 * L.length, .inl y.2))]] sz "DairyBook$Fault" (fun q_ u_ => u_ = [[(q_, .inr (9, [.int (nI i)]))]]) := by
  refine K_introX (by decide) (Nat.le_of_ble_eq_true rfl) ?_
  intro pr_ ev_ s mi_ below meth cd_ A ls hx hb hr hml hown hts hlocks hname hK hE hRo hP hD hA hS hsz hl ht9
  have hl : lv_has ls 2 [(0, .ref a), (1, .int c)] := hl
  have hown : s.vm.findClass RX10 = some mi_.cls := hown
  refine lv_aload_n hx hb dX10_must_0 rfl (lv_at hl 0 rfl) ?_
  refine lv_iload_n hx hb dX10_must_1 rfl (lv_at hl 1 rfl) ?_
  refine b_calli (br := []) (b_runV ⟨hx, hb, hml, hown, hts⟩ (mt_Rd_skip_no_1 l Γ _ a o y L z1 z2 i c (by assumption) (by first | exact hi5 | omega) (by first | exact hc9 | omega)) (lw_V q1669 q1671 qs29 q99 q1672) rfl rfl 1 (by decide +kernel) ⟨(Nat.le_of_ble_eq_true rfl), (Nat.le_of_ble_eq_true rfl)⟩ (c_pre hP hD hS hA hK hE [0] rfl rfl (ro_app (ro_pass (ro_sel (ro2 := [[(o, .inr (14, [.ref y.1, .int 1, .int z1, .int z2]))]]) hRo [0] rfl) hD hS hA [0] rfl) (ro_pass (ro_sel (ro2 := [[(y.1, .inl (Γ.2.1 1, 2 * L.length, .inl y.2))]]) hRo [1] rfl) hD hS hA [0] rfl))) (recv_at (q := (RX10, TX10, 2)) hK (b_at (k := 0) hP rfl) rfl) rfl hl.1 rfl (Nat.le_of_ble_eq_true rfl) dX10_must_2 ⟨(Nat.le_of_ble_eq_true rfl), (Nat.le_of_ble_eq_true rfl)⟩) hP hD hS hA [0] [] rfl rfl rfl (fun r_1 u_1 H locs hw_1 hP hD hS _ => ?_)
  obtain ⟨rfl, rfl⟩ := hw_1
  have hP : WP Γ [[(a, .inr (8, [.ref o, .int (nI i)]))]] H := hP
  have hD : WD A [[(a, .inr (8, [.ref o, .int (nI i)]))]] := hD
  refine lv_if_ne (tgt := 20) hx hb dX10_must_5 (by decide) (fun c_2 => ?_) (fun c_2 => ?_)
  · -- 5 taken
    have n_2 : ¬ (0 = 0) := fun hh7 => c_2 ((nI_eq (a := 0) (b := 0) (by omega) (by omega)).mpr hh7)
    exact absurd rfl c_2
  · -- 5 not taken
    have n_2 : 0 = 0 := (nI_eq (by omega) (by omega)).mp (show nI 0 = nI 0 from c_2)
    refine b_newF hx hb hts hown q1646 hK hP hD hS hA (Nat.le_of_ble_eq_true rfl) (Nat.le_of_ble_eq_true rfl) dX10_must_8 (fun a_3 H hP hD hS hraw_a_3 => ?_)
    have hP : WP Γ [[(a, .inr (8, [.ref o, .int (nI i)]))], [(a_3, .inr (9, [.int 0]))]] H := hP
    have hD : WD A [[(a, .inr (8, [.ref o, .int (nI i)]))], [(a_3, .inr (9, [.int 0]))]] := hD
    refine lv_dup hx hb dX10_must_11 rfl ?_
    refine lv_aload_n hx hb dX10_must_12 rfl (lv_at hl 0 rfl) ?_
    refine b_get (C := RX10) (T := TX10) (N := 2) (v := .int (nI i)) hx hb hts in_X10 hown hK (b_at (k := 0) hP rfl) rfl 1 (by decide) q1539 (fun _ h9 => h9) rfl dX10_must_13 ?_
    refine b_callv (br := [[(a, .inr (8, [.ref o, .int (nI i)]))]]) (b_runIF ⟨hx, hb, hml, hown, hts⟩ (mt_Fl_init l Γ _ a_3 (nI i) hnt) q1655 rfl rfl ⟨(Nat.le_of_ble_eq_true rfl), (Nat.le_of_ble_eq_true rfl)⟩ (cf_pre (c_pre hP hD hS hA hK hE [1] rfl rfl ro_nil) hraw_a_3) hl.1 rfl (Nat.le_of_ble_eq_true rfl) dX10_must_16 ⟨(Nat.le_of_ble_eq_true rfl), (Nat.le_of_ble_eq_true rfl)⟩) hP hD hS hA [1] [0] rfl rfl rfl (fun u_4 H locs hw_4 hP hD hS _ => ?_)
    obtain rfl := hw_4
    have hP : WP Γ [[(a_3, .inr (9, [.int (nI i)]))], [(a, .inr (8, [.ref o, .int (nI i)]))]] H := hP
    have hD : WD A [[(a_3, .inr (9, [.int (nI i)]))], [(a, .inr (8, [.ref o, .int (nI i)]))]] := hD
    refine vx_athrow hx hb dX10_must_19 ?_
    obtain ⟨ce_5, hce_5, hcv_5, hcl_5⟩ := fl_ce hK (b_at (k := 0) hP rfl)
    have hP : WP Γ [[(a_3, .inr (9, [.int (nI i)]))]] H := bP_sel hP [0] rfl
    have hD : WD A [[(a_3, .inr (9, [.int (nI i)]))]] := bD_sel hD [0] rfl rfl
    exact b_outx hlocks (fun x hx9 => (ht9 x hx9).elim) hP hD hS hce_5 hcv_5 hcl_5 (by first | with_reducible rfl | (simp [n_2]; done) | rfl) (Nat.le_of_ble_eq_true rfl) (Nat.le_of_ble_eq_true rfl)
set_option maxHeartbeats 4000000 in
set_option maxRecDepth 100000 in
theorem mt_Rd_command_ok_0 (l : Launch) (Γ : GE) (sz : Nat) (a : Nat) (o : Nat) (y : SST) (L : List Int32) (z1 : Int32) (z2 : Int32) (i : Nat) (hst : stF y L) (hiL : i ≤ L.length) (hL5 : L.length ≤ 50) (hcs9 : (cmdS L i).1 = 1) : KM l yX10_command cX10_command 3 (some (FieldType.object "DairyBook$Command")) Γ 7 194 (wE L i - i + 12) (512 * (wE L i - i) + 1110) [.ref a] [[(a, .inr (8, [.ref o, .int (nI i)]))]] [[(o, .inr (14, [.ref y.1, .int 0, .int z1, .int z2]))], [(y.1, .inl (Γ.2.1 1, L.length, .inl y.2))]] sz (Qq Γ (fun r_ u_ => ∃ c : Nat, ∃ o2 : Nat, ∃ y2 : SST, ∃ h2 : Int32, ∃ z2_ : Int32, stF y2 (slL L i (wE L i)) ∧ (h2 = strH (slL L i (wE L i)) ∨ h2 = 0 ∧ z2_ = 0) ∧ r_ = some c ∧ u_ = [[(a, .inr (8, [.ref o, .int (nI (cmdS L i).2)]))], [(c, .inr (10, [.ref o2, .int (cmdV L i), .int (cmdX L i)]))], [(o2, .inr (14, [.ref y2.1, .int 0, .int h2, .int z2_]))], [(y2.1, .inl (Γ.2.1 1, (slL L i (wE L i)).length, .inl y2.2))]])) := by
  refine K_intro (by decide) (Nat.le_of_ble_eq_true rfl) ?_
  intro pr_ ev_ s mi_ below meth cd_ A ls hx hb hr hml hown hts hlocks hname hK hE hRo hP hD hA hS hsz hl
  have hl : lv_has ls 3 [(0, .ref a)] := hl
  have hown : s.vm.findClass RX10 = some mi_.cls := hown
  have hll := hst.1
  refine lv_aload_n hx hb dX10_command_0 rfl (lv_at hl 0 rfl) ?_
  by_cases b9_w : ¬ nmW (slL L i (wE L i)) = 0
  ·
    refine b_callq (br := []) (b_runV ⟨hx, hb, hml, hown, hts⟩ (mt_Rd_word_ok_0 l Γ _ a o y L z1 z2 i (by assumption) (by first | exact hiL | omega) (by first | exact hL5 | omega) (by omega)) (lw_V q1557 q1559 qs26 q99 q1560) rfl rfl 0 (by decide +kernel) ⟨(Nat.le_of_ble_eq_true rfl), (Nat.le_of_ble_eq_true rfl)⟩ (c_pre hP hD hS hA hK hE [0] rfl rfl (ro_app (ro_pass (ro_sel (ro2 := [[(o, .inr (14, [.ref y.1, .int 0, .int z1, .int z2]))]]) hRo [0] rfl) hD hS hA [0] rfl) (ro_pass (ro_sel (ro2 := [[(y.1, .inl (Γ.2.1 1, L.length, .inl y.2))]]) hRo [1] rfl) hD hS hA [0] rfl))) (recv_at (q := (RX10, TX10, 2)) hK (b_at (k := 0) hP rfl) rfl) rfl hl.1 rfl (Nat.le_of_ble_eq_true rfl) dX10_command_1 ⟨(by first | omega | (dsimp only; omega)), (by first | omega | (dsimp only; omega))⟩) hP hD hS hA [0] [] rfl rfl rfl (fun r_1 u_1 H locs hw_1 hP hD hS _ => ?_)
    obtain ⟨o2_1, y2_1, h2_1, z2__1, hs_1, hh_1, rfl, rfl⟩ := hw_1
    have hP : WP Γ [[(a, .inr (8, [.ref o, .int (nI (wE L i))]))], [(o2_1, .inr (14, [.ref y2_1.1, .int 0, .int h2_1, .int z2__1]))], [(y2_1.1, .inl (Γ.2.1 1, (slL L i (wE L i)).length, .inl y2_1.2))]] H := hP
    have hD : WD A [[(a, .inr (8, [.ref o, .int (nI (wE L i))]))], [(o2_1, .inr (14, [.ref y2_1.1, .int 0, .int h2_1, .int z2__1]))], [(y2_1.1, .inl (Γ.2.1 1, (slL L i (wE L i)).length, .inl y2_1.2))]] := hD
    refine W.eq (g2 := F0 mi_ 4 ls ([.ref o2_1])) rfl ?_
    have hwi := wE_in hiL
    refine lv_astore_n (lv' := [(1, .ref o2_1), (0, .ref a)]) hx hb dX10_command_4 rfl hl (by decide) rfl (fun ls hl => ?_)
    refine lv_aload_n hx hb dX10_command_5 rfl (lv_at hl 1 rfl) ?_
    refine lv_bipush (v := 32) hx hb dX10_command_6 (by decide) ?_
    by_cases b9_s : rdH L (wE L i) = 32
    ·
      refine b_callv (br := [[(o2_1, .inr (14, [.ref y2_1.1, .int 0, .int h2_1, .int z2__1]))], [(y2_1.1, .inl (Γ.2.1 1, (slL L i (wE L i)).length, .inl y2_1.2))]]) (b_runV ⟨hx, hb, hml, hown, hts⟩ (mt_Rd_must_ok_0 l Γ _ a o y L z1 z2 (wE L i) 32 (by assumption) (by omega) (by omega)) (lw_V q1665 q1667 qs28 q99 q1668) rfl rfl 1 (by decide +kernel) ⟨(Nat.le_of_ble_eq_true rfl), (Nat.le_of_ble_eq_true rfl)⟩ (c_pre hP hD hS hA hK hE [0] rfl rfl (ro_app (ro_pass (ro_sel (ro2 := [[(o, .inr (14, [.ref y.1, .int 0, .int z1, .int z2]))]]) hRo [0] rfl) hD hS hA [0] rfl) (ro_pass (ro_sel (ro2 := [[(y.1, .inl (Γ.2.1 1, L.length, .inl y.2))]]) hRo [1] rfl) hD hS hA [0] rfl))) (recv_at (q := (RX10, TX10, 2)) hK (b_at (k := 0) hP rfl) rfl) rfl hl.1 rfl (Nat.le_of_ble_eq_true rfl) dX10_command_8 ⟨(by first | omega | (dsimp only; omega)), (by first | omega | (dsimp only; omega))⟩) hP hD hS hA [0] [1, 2] rfl rfl rfl (fun u_2 H locs hw_2 hP hD hS _ => ?_)
      obtain rfl := hw_2
      have hP : WP Γ [[(a, .inr (8, [.ref o, .int (nI ((wE L i) + 1))]))], [(o2_1, .inr (14, [.ref y2_1.1, .int 0, .int h2_1, .int z2__1]))], [(y2_1.1, .inl (Γ.2.1 1, (slL L i (wE L i)).length, .inl y2_1.2))]] H := hP
      have hD : WD A [[(a, .inr (8, [.ref o, .int (nI ((wE L i) + 1))]))], [(o2_1, .inr (14, [.ref y2_1.1, .int 0, .int h2_1, .int z2__1]))], [(y2_1.1, .inl (Γ.2.1 1, (slL L i (wE L i)).length, .inl y2_1.2))]] := hD
      have hwl := rdH_lt (by decide) b9_s
      refine lv_aload_n hx hb dX10_command_11 rfl (lv_at hl 1 rfl) ?_
      by_cases b9_d : ¬ inC (rdH L (wE L i + 1)) 48 57 = 0
      ·
        refine b_calli (br := [[(o2_1, .inr (14, [.ref y2_1.1, .int 0, .int h2_1, .int z2__1]))], [(y2_1.1, .inl (Γ.2.1 1, (slL L i (wE L i)).length, .inl y2_1.2))]]) (b_runV ⟨hx, hb, hml, hown, hts⟩ (mt_Rd_number_ok_0 l Γ _ a o y L z1 z2 ((wE L i) + 1) (by assumption) (by omega) (by omega)) (lw_V q1673 q1675 qs30 q99 q1676) rfl rfl 0 (by decide +kernel) ⟨(Nat.le_of_ble_eq_true rfl), (Nat.le_of_ble_eq_true rfl)⟩ (c_pre hP hD hS hA hK hE [0] rfl rfl (ro_app (ro_pass (ro_sel (ro2 := [[(o, .inr (14, [.ref y.1, .int 0, .int z1, .int z2]))]]) hRo [0] rfl) hD hS hA [0] rfl) (ro_pass (ro_sel (ro2 := [[(y.1, .inl (Γ.2.1 1, L.length, .inl y.2))]]) hRo [1] rfl) hD hS hA [0] rfl))) (recv_at (q := (RX10, TX10, 2)) hK (b_at (k := 0) hP rfl) rfl) rfl hl.1 rfl (Nat.le_of_ble_eq_true rfl) dX10_command_12 ⟨(by first | omega | (dsimp only; omega)), (by first | omega | (dsimp only; omega))⟩) hP hD hS hA [0] [1, 2] rfl rfl rfl (fun r_3 u_3 H locs hw_3 hP hD hS _ => ?_)
        obtain ⟨rfl, rfl⟩ := hw_3
        have hP : WP Γ [[(a, .inr (8, [.ref o, .int (nI (nP L ((wE L i) + 1)).2)]))], [(o2_1, .inr (14, [.ref y2_1.1, .int 0, .int h2_1, .int z2__1]))], [(y2_1.1, .inl (Γ.2.1 1, (slL L i (wE L i)).length, .inl y2_1.2))]] H := hP
        have hD : WD A [[(a, .inr (8, [.ref o, .int (nI (nP L ((wE L i) + 1)).2)]))], [(o2_1, .inr (14, [.ref y2_1.1, .int 0, .int h2_1, .int z2__1]))], [(y2_1.1, .inl (Γ.2.1 1, (slL L i (wE L i)).length, .inl y2_1.2))]] := hD
        have hnp := nP_in b9_d
        refine lv_istore_n (lv' := [(2, .int (nP L ((wE L i) + 1)).1), (1, .ref o2_1), (0, .ref a)]) hx hb dX10_command_15 rfl hl (by decide) rfl (fun ls hl => ?_)
        refine lv_aload_n hx hb dX10_command_16 rfl (lv_at hl 1 rfl) ?_
        refine b_calli (br := [[(a, .inr (8, [.ref o, .int (nI (nP L ((wE L i) + 1)).2)]))]]) (b_runS ⟨hx, hb, hml, hown, hts⟩ (mt_Rd_nof l Γ _ o2_1 y2_1 (slL L i (wE L i)) h2_1 z2__1 hs_1 hh_1) (lw_S q1572 q1573 q99 q1574) rfl rfl 1 (by decide +kernel) ⟨(Nat.le_of_ble_eq_true rfl), (Nat.le_of_ble_eq_true rfl)⟩ (c_pre hP hD hS hA hK hE [1, 2] rfl rfl ro_nil) rfl hl.1 rfl (Nat.le_of_ble_eq_true rfl) dX10_command_17 ⟨(by first | omega | (dsimp only; omega)), (by first | omega | (dsimp only; omega))⟩) hP hD hS hA [1, 2] [0] rfl rfl rfl (fun r_4 u_4 H locs hw_4 hP hD hS _ => ?_)
        obtain ⟨h2_4, z2_4, hh2_4, rfl, rfl⟩ := hw_4
        have hP : WP Γ [[(o2_1, .inr (14, [.ref y2_1.1, .int 0, .int h2_4, .int z2_4]))], [(y2_1.1, .inl (Γ.2.1 1, (slL L i (wE L i)).length, .inl y2_1.2))], [(a, .inr (8, [.ref o, .int (nI (nP L ((wE L i) + 1)).2)]))]] H := hP
        have hD : WD A [[(o2_1, .inr (14, [.ref y2_1.1, .int 0, .int h2_4, .int z2_4]))], [(y2_1.1, .inl (Γ.2.1 1, (slL L i (wE L i)).length, .inl y2_1.2))], [(a, .inr (8, [.ref o, .int (nI (nP L ((wE L i) + 1)).2)]))]] := hD
        refine lv_iconst (v := 1) hx hb dX10_command_20 (by decide) ?_
        refine lv_icmp_ne (tgt := 35) hx hb dX10_command_21 (by decide) (fun c_5 => ?_) (fun c_5 => ?_)
        · -- 21 taken
          have b9_1 : ¬ nmW (slL L i (wE L i)) = 1 := c_5
          refine lv_aload_n hx hb dX10_command_35 rfl (lv_at hl 2 rfl) ?_
          refine lv_bipush (v := 32) hx hb dX10_command_36 (by decide) ?_
          by_cases b9_t : rdH L (nP L (wE L i + 1)).2 = 32
          ·
            refine b_callv (br := [[(o2_1, .inr (14, [.ref y2_1.1, .int 0, .int h2_4, .int z2_4]))], [(y2_1.1, .inl (Γ.2.1 1, (slL L i (wE L i)).length, .inl y2_1.2))]]) (b_runV ⟨hx, hb, hml, hown, hts⟩ (mt_Rd_must_ok_0 l Γ _ a o y L z1 z2 (nP L ((wE L i) + 1)).2 32 (by assumption) (by omega) (by omega)) (lw_V q1665 q1667 qs28 q99 q1668) rfl rfl 1 (by decide +kernel) ⟨(Nat.le_of_ble_eq_true rfl), (Nat.le_of_ble_eq_true rfl)⟩ (c_pre hP hD hS hA hK hE [2] rfl rfl (ro_app (ro_pass (ro_sel (ro2 := [[(o, .inr (14, [.ref y.1, .int 0, .int z1, .int z2]))]]) hRo [0] rfl) hD hS hA [2] rfl) (ro_pass (ro_sel (ro2 := [[(y.1, .inl (Γ.2.1 1, L.length, .inl y.2))]]) hRo [1] rfl) hD hS hA [2] rfl))) (recv_at (q := (RX10, TX10, 2)) hK (b_at (k := 2) hP rfl) rfl) rfl hl.1 rfl (Nat.le_of_ble_eq_true rfl) dX10_command_38 ⟨(by first | omega | (dsimp only; omega)), (by first | omega | (dsimp only; omega))⟩) hP hD hS hA [2] [0, 1] rfl rfl rfl (fun u_6 H locs hw_6 hP hD hS _ => ?_)
            obtain rfl := hw_6
            have hP : WP Γ [[(a, .inr (8, [.ref o, .int (nI ((nP L ((wE L i) + 1)).2 + 1))]))], [(o2_1, .inr (14, [.ref y2_1.1, .int 0, .int h2_4, .int z2_4]))], [(y2_1.1, .inl (Γ.2.1 1, (slL L i (wE L i)).length, .inl y2_1.2))]] H := hP
            have hD : WD A [[(a, .inr (8, [.ref o, .int (nI ((nP L ((wE L i) + 1)).2 + 1))]))], [(o2_1, .inr (14, [.ref y2_1.1, .int 0, .int h2_4, .int z2_4]))], [(y2_1.1, .inl (Γ.2.1 1, (slL L i (wE L i)).length, .inl y2_1.2))]] := hD
            have hwl2 := rdH_lt (by decide) b9_t
            refine b_new (ci := 10) (fs := [.null, .int 0, .int 0]) (C := RX12) (T := TX12) (N := 3) hx hb hts in_X12 tyX12_ok hown q1677 q1678 q101 hK hP hD hS hA rfl (fun j hj => by rcases (show j = 0 ∨ j = 1 ∨ j = 2 by omega) with rfl | rfl | rfl <;> rfl) (by first | omega | (dsimp only; omega)) (by first | omega | (dsimp only; omega)) dX10_command_41 (fun a_7 H hP hD hS => ?_)
            have hP : WP Γ [[(a, .inr (8, [.ref o, .int (nI ((nP L ((wE L i) + 1)).2 + 1))]))], [(o2_1, .inr (14, [.ref y2_1.1, .int 0, .int h2_4, .int z2_4]))], [(y2_1.1, .inl (Γ.2.1 1, (slL L i (wE L i)).length, .inl y2_1.2))], [(a_7, .inr (10, [.null, .int 0, .int 0]))]] H := hP
            have hD : WD A [[(a, .inr (8, [.ref o, .int (nI ((nP L ((wE L i) + 1)).2 + 1))]))], [(o2_1, .inr (14, [.ref y2_1.1, .int 0, .int h2_4, .int z2_4]))], [(y2_1.1, .inl (Γ.2.1 1, (slL L i (wE L i)).length, .inl y2_1.2))], [(a_7, .inr (10, [.null, .int 0, .int 0]))]] := hD
            refine lv_dup hx hb dX10_command_44 rfl ?_
            refine lv_aload_n hx hb dX10_command_45 rfl (lv_at hl 1 rfl) ?_
            refine lv_iload_n hx hb dX10_command_46 rfl (lv_at hl 0 rfl) ?_
            refine lv_aload_n hx hb dX10_command_47 rfl (lv_at hl 2 rfl) ?_
            by_cases b9_e : ¬ inC (rdH L ((nP L (wE L i + 1)).2 + 1)) 48 57 = 0
            ·
              refine b_calli (br := [[(o2_1, .inr (14, [.ref y2_1.1, .int 0, .int h2_4, .int z2_4]))], [(y2_1.1, .inl (Γ.2.1 1, (slL L i (wE L i)).length, .inl y2_1.2))], [(a_7, .inr (10, [.null, .int 0, .int 0]))]]) (b_runV ⟨hx, hb, hml, hown, hts⟩ (mt_Rd_number_ok_0 l Γ _ a o y L z1 z2 ((nP L ((wE L i) + 1)).2 + 1) (by assumption) (by omega) (by omega)) (lw_V q1673 q1675 qs30 q99 q1676) rfl rfl 0 (by decide +kernel) ⟨(Nat.le_of_ble_eq_true rfl), (Nat.le_of_ble_eq_true rfl)⟩ (c_pre hP hD hS hA hK hE [0] rfl rfl (ro_app (ro_pass (ro_sel (ro2 := [[(o, .inr (14, [.ref y.1, .int 0, .int z1, .int z2]))]]) hRo [0] rfl) hD hS hA [0] rfl) (ro_pass (ro_sel (ro2 := [[(y.1, .inl (Γ.2.1 1, L.length, .inl y.2))]]) hRo [1] rfl) hD hS hA [0] rfl))) (recv_at (q := (RX10, TX10, 2)) hK (b_at (k := 0) hP rfl) rfl) rfl hl.1 rfl (Nat.le_of_ble_eq_true rfl) dX10_command_48 ⟨(by first | omega | (dsimp only; omega)), (by first | omega | (dsimp only; omega))⟩) hP hD hS hA [0] [1, 2, 3] rfl rfl rfl (fun r_8 u_8 H locs hw_8 hP hD hS _ => ?_)
              obtain ⟨rfl, rfl⟩ := hw_8
              have hP : WP Γ [[(a, .inr (8, [.ref o, .int (nI (nP L ((nP L ((wE L i) + 1)).2 + 1)).2)]))], [(o2_1, .inr (14, [.ref y2_1.1, .int 0, .int h2_4, .int z2_4]))], [(y2_1.1, .inl (Γ.2.1 1, (slL L i (wE L i)).length, .inl y2_1.2))], [(a_7, .inr (10, [.null, .int 0, .int 0]))]] H := hP
              have hD : WD A [[(a, .inr (8, [.ref o, .int (nI (nP L ((nP L ((wE L i) + 1)).2 + 1)).2)]))], [(o2_1, .inr (14, [.ref y2_1.1, .int 0, .int h2_4, .int z2_4]))], [(y2_1.1, .inl (Γ.2.1 1, (slL L i (wE L i)).length, .inl y2_1.2))], [(a_7, .inr (10, [.null, .int 0, .int 0]))]] := hD
              refine b_callv (br := [[(a, .inr (8, [.ref o, .int (nI (nP L ((nP L ((wE L i) + 1)).2 + 1)).2)]))], [(o2_1, .inr (14, [.ref y2_1.1, .int 0, .int h2_4, .int z2_4]))], [(y2_1.1, .inl (Γ.2.1 1, (slL L i (wE L i)).length, .inl y2_1.2))]]) (b_runI ⟨hx, hb, hml, hown, hts⟩ (mt_Cm_init l Γ _ a_7 o2_1 (nP L ((wE L i) + 1)).1 (nP L ((nP L ((wE L i) + 1)).2 + 1)).1) (lw_meth q1681) q101 q1679 q1680 rfl rfl rfl 3 (by decide +kernel) ⟨(Nat.le_of_ble_eq_true rfl), (Nat.le_of_ble_eq_true rfl)⟩ (c_pre hP hD hS hA hK hE [3] rfl rfl ro_nil) rfl hl.1 rfl (Nat.le_of_ble_eq_true rfl) dX10_command_51 ⟨(by first | omega | (dsimp only; omega)), (by first | omega | (dsimp only; omega))⟩) hP hD hS hA [3] [0, 1, 2] rfl rfl rfl (fun u_9 H locs hw_9 hP hD hS _ => ?_)
              obtain rfl := hw_9
              have hP : WP Γ [[(a_7, .inr (10, [.ref o2_1, .int (nP L ((wE L i) + 1)).1, .int (nP L ((nP L ((wE L i) + 1)).2 + 1)).1]))], [(a, .inr (8, [.ref o, .int (nI (nP L ((nP L ((wE L i) + 1)).2 + 1)).2)]))], [(o2_1, .inr (14, [.ref y2_1.1, .int 0, .int h2_4, .int z2_4]))], [(y2_1.1, .inl (Γ.2.1 1, (slL L i (wE L i)).length, .inl y2_1.2))]] H := hP
              have hD : WD A [[(a_7, .inr (10, [.ref o2_1, .int (nP L ((wE L i) + 1)).1, .int (nP L ((nP L ((wE L i) + 1)).2 + 1)).1]))], [(a, .inr (8, [.ref o, .int (nI (nP L ((nP L ((wE L i) + 1)).2 + 1)).2)]))], [(o2_1, .inr (14, [.ref y2_1.1, .int 0, .int h2_4, .int z2_4]))], [(y2_1.1, .inl (Γ.2.1 1, (slL L i (wE L i)).length, .inl y2_1.2))]] := hD
              have hP : WP Γ [[(a, .inr (8, [.ref o, .int (nI (nP L ((nP L ((wE L i) + 1)).2 + 1)).2)]))], [(a_7, .inr (10, [.ref o2_1, .int (nP L ((wE L i) + 1)).1, .int (nP L ((nP L ((wE L i) + 1)).2 + 1)).1]))], [(o2_1, .inr (14, [.ref y2_1.1, .int 0, .int h2_4, .int z2_4]))], [(y2_1.1, .inl (Γ.2.1 1, (slL L i (wE L i)).length, .inl y2_1.2))]] H := bP_sel hP [1, 0, 2, 3] rfl
              have hD : WD A [[(a, .inr (8, [.ref o, .int (nI (nP L ((nP L ((wE L i) + 1)).2 + 1)).2)]))], [(a_7, .inr (10, [.ref o2_1, .int (nP L ((wE L i) + 1)).1, .int (nP L ((nP L ((wE L i) + 1)).2 + 1)).1]))], [(o2_1, .inr (14, [.ref y2_1.1, .int 0, .int h2_4, .int z2_4]))], [(y2_1.1, .inl (Γ.2.1 1, (slL L i (wE L i)).length, .inl y2_1.2))]] := bD_sel hD [1, 0, 2, 3] rfl rfl
              exact b_aret hx hb hr (by first | exact Or.inl ⟨_, rfl⟩ | exact Or.inr ⟨_, rfl⟩) hlocks hP hD hS (by first | omega | (dsimp only; omega)) (by first | omega | (dsimp only; omega)) ⟨a_7, o2_1, y2_1, h2_4, z2_4, hs_1, hh2_4, rfl, (by simp [cmdS, cmdS1, cmdS2, cmdV, cmdX, b9_w, b9_s, b9_d, b9_1, b9_t, b9_e])⟩ dX10_command_54
            ·
              have b9_e := Classical.not_not.mp b9_e
              exact absurd hcs9 (by simp [cmdS, cmdS1, cmdS2, b9_w, b9_s, b9_d, b9_1, b9_t, b9_e])
          ·
            exact absurd hcs9 (by simp [cmdS, cmdS1, cmdS2, b9_w, b9_s, b9_d, b9_1, b9_t])
        · -- 21 not taken
          have b9_1 : nmW (slL L i (wE L i)) = 1 := c_5
          refine b_new (ci := 10) (fs := [.null, .int 0, .int 0]) (C := RX12) (T := TX12) (N := 3) hx hb hts in_X12 tyX12_ok hown q1677 q1678 q101 hK hP hD hS hA rfl (fun j hj => by rcases (show j = 0 ∨ j = 1 ∨ j = 2 by omega) with rfl | rfl | rfl <;> rfl) (by first | omega | (dsimp only; omega)) (by first | omega | (dsimp only; omega)) dX10_command_24 (fun a_10 H hP hD hS => ?_)
          have hP : WP Γ [[(o2_1, .inr (14, [.ref y2_1.1, .int 0, .int h2_4, .int z2_4]))], [(y2_1.1, .inl (Γ.2.1 1, (slL L i (wE L i)).length, .inl y2_1.2))], [(a, .inr (8, [.ref o, .int (nI (nP L ((wE L i) + 1)).2)]))], [(a_10, .inr (10, [.null, .int 0, .int 0]))]] H := hP
          have hD : WD A [[(o2_1, .inr (14, [.ref y2_1.1, .int 0, .int h2_4, .int z2_4]))], [(y2_1.1, .inl (Γ.2.1 1, (slL L i (wE L i)).length, .inl y2_1.2))], [(a, .inr (8, [.ref o, .int (nI (nP L ((wE L i) + 1)).2)]))], [(a_10, .inr (10, [.null, .int 0, .int 0]))]] := hD
          refine lv_dup hx hb dX10_command_27 rfl ?_
          refine lv_aload_n hx hb dX10_command_28 rfl (lv_at hl 1 rfl) ?_
          refine lv_iload_n hx hb dX10_command_29 rfl (lv_at hl 0 rfl) ?_
          refine lv_iconst (v := 0) hx hb dX10_command_30 (by decide) ?_
          refine b_callv (br := [[(o2_1, .inr (14, [.ref y2_1.1, .int 0, .int h2_4, .int z2_4]))], [(y2_1.1, .inl (Γ.2.1 1, (slL L i (wE L i)).length, .inl y2_1.2))], [(a, .inr (8, [.ref o, .int (nI (nP L ((wE L i) + 1)).2)]))]]) (b_runI ⟨hx, hb, hml, hown, hts⟩ (mt_Cm_init l Γ _ a_10 o2_1 (nP L ((wE L i) + 1)).1 0) (lw_meth q1681) q101 q1679 q1680 rfl rfl rfl 3 (by decide +kernel) ⟨(Nat.le_of_ble_eq_true rfl), (Nat.le_of_ble_eq_true rfl)⟩ (c_pre hP hD hS hA hK hE [3] rfl rfl ro_nil) rfl hl.1 rfl (Nat.le_of_ble_eq_true rfl) dX10_command_31 ⟨(by first | omega | (dsimp only; omega)), (by first | omega | (dsimp only; omega))⟩) hP hD hS hA [3] [0, 1, 2] rfl rfl rfl (fun u_11 H locs hw_11 hP hD hS _ => ?_)
          obtain rfl := hw_11
          have hP : WP Γ [[(a_10, .inr (10, [.ref o2_1, .int (nP L ((wE L i) + 1)).1, .int 0]))], [(o2_1, .inr (14, [.ref y2_1.1, .int 0, .int h2_4, .int z2_4]))], [(y2_1.1, .inl (Γ.2.1 1, (slL L i (wE L i)).length, .inl y2_1.2))], [(a, .inr (8, [.ref o, .int (nI (nP L ((wE L i) + 1)).2)]))]] H := hP
          have hD : WD A [[(a_10, .inr (10, [.ref o2_1, .int (nP L ((wE L i) + 1)).1, .int 0]))], [(o2_1, .inr (14, [.ref y2_1.1, .int 0, .int h2_4, .int z2_4]))], [(y2_1.1, .inl (Γ.2.1 1, (slL L i (wE L i)).length, .inl y2_1.2))], [(a, .inr (8, [.ref o, .int (nI (nP L ((wE L i) + 1)).2)]))]] := hD
          have hP : WP Γ [[(a, .inr (8, [.ref o, .int (nI (nP L ((wE L i) + 1)).2)]))], [(a_10, .inr (10, [.ref o2_1, .int (nP L ((wE L i) + 1)).1, .int 0]))], [(o2_1, .inr (14, [.ref y2_1.1, .int 0, .int h2_4, .int z2_4]))], [(y2_1.1, .inl (Γ.2.1 1, (slL L i (wE L i)).length, .inl y2_1.2))]] H := bP_sel hP [3, 0, 1, 2] rfl
          have hD : WD A [[(a, .inr (8, [.ref o, .int (nI (nP L ((wE L i) + 1)).2)]))], [(a_10, .inr (10, [.ref o2_1, .int (nP L ((wE L i) + 1)).1, .int 0]))], [(o2_1, .inr (14, [.ref y2_1.1, .int 0, .int h2_4, .int z2_4]))], [(y2_1.1, .inl (Γ.2.1 1, (slL L i (wE L i)).length, .inl y2_1.2))]] := bD_sel hD [3, 0, 1, 2] rfl rfl
          exact b_aret hx hb hr (by first | exact Or.inl ⟨_, rfl⟩ | exact Or.inr ⟨_, rfl⟩) hlocks hP hD hS (by first | omega | (dsimp only; omega)) (by first | omega | (dsimp only; omega)) ⟨a_10, o2_1, y2_1, h2_4, z2_4, hs_1, hh2_4, rfl, (by simp [cmdS, cmdS1, cmdS2, cmdV, cmdX, b9_w, b9_s, b9_d, b9_1])⟩ dX10_command_34
      ·
        have b9_d := Classical.not_not.mp b9_d
        exact absurd hcs9 (by simp [cmdS, cmdS1, cmdS2, b9_w, b9_s, b9_d])
    ·
      exact absurd hcs9 (by simp [cmdS, cmdS1, cmdS2, b9_w, b9_s])
  ·
    have b9_w := Classical.not_not.mp b9_w
    exact absurd hcs9 (by simp [cmdS, cmdS1, cmdS2, b9_w])
set_option maxHeartbeats 4000000 in
set_option maxRecDepth 100000 in
theorem mt_Rd_command_x_0 (l : Launch) (Γ : GE) (sz : Nat) (a : Nat) (o : Nat) (y : SST) (L : List Int32) (z1 : Int32) (z2 : Int32) (i : Nat) (hnt : l.stackTraces = false) (hst : stF y L) (hiL : i ≤ L.length) (hL5 : L.length ≤ 50) (hcs9 : (cmdS L i).1 = 0) : KMX l yX10_command cX10_command 3 (some (FieldType.object "DairyBook$Command")) Γ 7 194 (wE L i - i + 12) (512 * (wE L i - i) + 1110) [.ref a] [[(a, .inr (8, [.ref o, .int (nI i)]))]] [[(o, .inr (14, [.ref y.1, .int 0, .int z1, .int z2]))], [(y.1, .inl (Γ.2.1 1, L.length, .inl y.2))]] sz "DairyBook$Fault" (fun q_ u_ => u_ = [[(q_, .inr (9, [.int (nI (cmdS L i).2)]))]]) := by
  refine K_introX (by decide) (Nat.le_of_ble_eq_true rfl) ?_
  intro pr_ ev_ s mi_ below meth cd_ A ls hx hb hr hml hown hts hlocks hname hK hE hRo hP hD hA hS hsz hl ht9
  have hl : lv_has ls 3 [(0, .ref a)] := hl
  have hown : s.vm.findClass RX10 = some mi_.cls := hown
  have hll := hst.1
  refine lv_aload_n hx hb dX10_command_0 rfl (lv_at hl 0 rfl) ?_
  by_cases b9_w : ¬ nmW (slL L i (wE L i)) = 0
  ·
    refine b_callq (br := []) (b_runV ⟨hx, hb, hml, hown, hts⟩ (mt_Rd_word_ok_0 l Γ _ a o y L z1 z2 i (by assumption) (by first | exact hiL | omega) (by first | exact hL5 | omega) (by omega)) (lw_V q1557 q1559 qs26 q99 q1560) rfl rfl 0 (by decide +kernel) ⟨(Nat.le_of_ble_eq_true rfl), (Nat.le_of_ble_eq_true rfl)⟩ (c_pre hP hD hS hA hK hE [0] rfl rfl (ro_app (ro_pass (ro_sel (ro2 := [[(o, .inr (14, [.ref y.1, .int 0, .int z1, .int z2]))]]) hRo [0] rfl) hD hS hA [0] rfl) (ro_pass (ro_sel (ro2 := [[(y.1, .inl (Γ.2.1 1, L.length, .inl y.2))]]) hRo [1] rfl) hD hS hA [0] rfl))) (recv_at (q := (RX10, TX10, 2)) hK (b_at (k := 0) hP rfl) rfl) rfl hl.1 rfl (Nat.le_of_ble_eq_true rfl) dX10_command_1 ⟨(by first | omega | (dsimp only; omega)), (by first | omega | (dsimp only; omega))⟩) hP hD hS hA [0] [] rfl rfl rfl (fun r_1 u_1 H locs hw_1 hP hD hS _ => ?_)
    obtain ⟨o2_1, y2_1, h2_1, z2__1, hs_1, hh_1, rfl, rfl⟩ := hw_1
    have hP : WP Γ [[(a, .inr (8, [.ref o, .int (nI (wE L i))]))], [(o2_1, .inr (14, [.ref y2_1.1, .int 0, .int h2_1, .int z2__1]))], [(y2_1.1, .inl (Γ.2.1 1, (slL L i (wE L i)).length, .inl y2_1.2))]] H := hP
    have hD : WD A [[(a, .inr (8, [.ref o, .int (nI (wE L i))]))], [(o2_1, .inr (14, [.ref y2_1.1, .int 0, .int h2_1, .int z2__1]))], [(y2_1.1, .inl (Γ.2.1 1, (slL L i (wE L i)).length, .inl y2_1.2))]] := hD
    refine W.eq (g2 := F0 mi_ 4 ls ([.ref o2_1])) rfl ?_
    have hwi := wE_in hiL
    refine lv_astore_n (lv' := [(1, .ref o2_1), (0, .ref a)]) hx hb dX10_command_4 rfl hl (by decide) rfl (fun ls hl => ?_)
    refine lv_aload_n hx hb dX10_command_5 rfl (lv_at hl 1 rfl) ?_
    refine lv_bipush (v := 32) hx hb dX10_command_6 (by decide) ?_
    by_cases b9_s : rdH L (wE L i) = 32
    ·
      refine b_callv (br := [[(o2_1, .inr (14, [.ref y2_1.1, .int 0, .int h2_1, .int z2__1]))], [(y2_1.1, .inl (Γ.2.1 1, (slL L i (wE L i)).length, .inl y2_1.2))]]) (b_runV ⟨hx, hb, hml, hown, hts⟩ (mt_Rd_must_ok_0 l Γ _ a o y L z1 z2 (wE L i) 32 (by assumption) (by omega) (by omega)) (lw_V q1665 q1667 qs28 q99 q1668) rfl rfl 1 (by decide +kernel) ⟨(Nat.le_of_ble_eq_true rfl), (Nat.le_of_ble_eq_true rfl)⟩ (c_pre hP hD hS hA hK hE [0] rfl rfl (ro_app (ro_pass (ro_sel (ro2 := [[(o, .inr (14, [.ref y.1, .int 0, .int z1, .int z2]))]]) hRo [0] rfl) hD hS hA [0] rfl) (ro_pass (ro_sel (ro2 := [[(y.1, .inl (Γ.2.1 1, L.length, .inl y.2))]]) hRo [1] rfl) hD hS hA [0] rfl))) (recv_at (q := (RX10, TX10, 2)) hK (b_at (k := 0) hP rfl) rfl) rfl hl.1 rfl (Nat.le_of_ble_eq_true rfl) dX10_command_8 ⟨(by first | omega | (dsimp only; omega)), (by first | omega | (dsimp only; omega))⟩) hP hD hS hA [0] [1, 2] rfl rfl rfl (fun u_2 H locs hw_2 hP hD hS _ => ?_)
      obtain rfl := hw_2
      have hP : WP Γ [[(a, .inr (8, [.ref o, .int (nI ((wE L i) + 1))]))], [(o2_1, .inr (14, [.ref y2_1.1, .int 0, .int h2_1, .int z2__1]))], [(y2_1.1, .inl (Γ.2.1 1, (slL L i (wE L i)).length, .inl y2_1.2))]] H := hP
      have hD : WD A [[(a, .inr (8, [.ref o, .int (nI ((wE L i) + 1))]))], [(o2_1, .inr (14, [.ref y2_1.1, .int 0, .int h2_1, .int z2__1]))], [(y2_1.1, .inl (Γ.2.1 1, (slL L i (wE L i)).length, .inl y2_1.2))]] := hD
      have hwl := rdH_lt (by decide) b9_s
      refine lv_aload_n hx hb dX10_command_11 rfl (lv_at hl 1 rfl) ?_
      by_cases b9_d : ¬ inC (rdH L (wE L i + 1)) 48 57 = 0
      ·
        refine b_calli (br := [[(o2_1, .inr (14, [.ref y2_1.1, .int 0, .int h2_1, .int z2__1]))], [(y2_1.1, .inl (Γ.2.1 1, (slL L i (wE L i)).length, .inl y2_1.2))]]) (b_runV ⟨hx, hb, hml, hown, hts⟩ (mt_Rd_number_ok_0 l Γ _ a o y L z1 z2 ((wE L i) + 1) (by assumption) (by omega) (by omega)) (lw_V q1673 q1675 qs30 q99 q1676) rfl rfl 0 (by decide +kernel) ⟨(Nat.le_of_ble_eq_true rfl), (Nat.le_of_ble_eq_true rfl)⟩ (c_pre hP hD hS hA hK hE [0] rfl rfl (ro_app (ro_pass (ro_sel (ro2 := [[(o, .inr (14, [.ref y.1, .int 0, .int z1, .int z2]))]]) hRo [0] rfl) hD hS hA [0] rfl) (ro_pass (ro_sel (ro2 := [[(y.1, .inl (Γ.2.1 1, L.length, .inl y.2))]]) hRo [1] rfl) hD hS hA [0] rfl))) (recv_at (q := (RX10, TX10, 2)) hK (b_at (k := 0) hP rfl) rfl) rfl hl.1 rfl (Nat.le_of_ble_eq_true rfl) dX10_command_12 ⟨(by first | omega | (dsimp only; omega)), (by first | omega | (dsimp only; omega))⟩) hP hD hS hA [0] [1, 2] rfl rfl rfl (fun r_3 u_3 H locs hw_3 hP hD hS _ => ?_)
        obtain ⟨rfl, rfl⟩ := hw_3
        have hP : WP Γ [[(a, .inr (8, [.ref o, .int (nI (nP L ((wE L i) + 1)).2)]))], [(o2_1, .inr (14, [.ref y2_1.1, .int 0, .int h2_1, .int z2__1]))], [(y2_1.1, .inl (Γ.2.1 1, (slL L i (wE L i)).length, .inl y2_1.2))]] H := hP
        have hD : WD A [[(a, .inr (8, [.ref o, .int (nI (nP L ((wE L i) + 1)).2)]))], [(o2_1, .inr (14, [.ref y2_1.1, .int 0, .int h2_1, .int z2__1]))], [(y2_1.1, .inl (Γ.2.1 1, (slL L i (wE L i)).length, .inl y2_1.2))]] := hD
        have hnp := nP_in b9_d
        refine lv_istore_n (lv' := [(2, .int (nP L ((wE L i) + 1)).1), (1, .ref o2_1), (0, .ref a)]) hx hb dX10_command_15 rfl hl (by decide) rfl (fun ls hl => ?_)
        refine lv_aload_n hx hb dX10_command_16 rfl (lv_at hl 1 rfl) ?_
        refine b_calli (br := [[(a, .inr (8, [.ref o, .int (nI (nP L ((wE L i) + 1)).2)]))]]) (b_runS ⟨hx, hb, hml, hown, hts⟩ (mt_Rd_nof l Γ _ o2_1 y2_1 (slL L i (wE L i)) h2_1 z2__1 hs_1 hh_1) (lw_S q1572 q1573 q99 q1574) rfl rfl 1 (by decide +kernel) ⟨(Nat.le_of_ble_eq_true rfl), (Nat.le_of_ble_eq_true rfl)⟩ (c_pre hP hD hS hA hK hE [1, 2] rfl rfl ro_nil) rfl hl.1 rfl (Nat.le_of_ble_eq_true rfl) dX10_command_17 ⟨(by first | omega | (dsimp only; omega)), (by first | omega | (dsimp only; omega))⟩) hP hD hS hA [1, 2] [0] rfl rfl rfl (fun r_4 u_4 H locs hw_4 hP hD hS _ => ?_)
        obtain ⟨h2_4, z2_4, hh2_4, rfl, rfl⟩ := hw_4
        have hP : WP Γ [[(o2_1, .inr (14, [.ref y2_1.1, .int 0, .int h2_4, .int z2_4]))], [(y2_1.1, .inl (Γ.2.1 1, (slL L i (wE L i)).length, .inl y2_1.2))], [(a, .inr (8, [.ref o, .int (nI (nP L ((wE L i) + 1)).2)]))]] H := hP
        have hD : WD A [[(o2_1, .inr (14, [.ref y2_1.1, .int 0, .int h2_4, .int z2_4]))], [(y2_1.1, .inl (Γ.2.1 1, (slL L i (wE L i)).length, .inl y2_1.2))], [(a, .inr (8, [.ref o, .int (nI (nP L ((wE L i) + 1)).2)]))]] := hD
        refine lv_iconst (v := 1) hx hb dX10_command_20 (by decide) ?_
        refine lv_icmp_ne (tgt := 35) hx hb dX10_command_21 (by decide) (fun c_5 => ?_) (fun c_5 => ?_)
        · -- 21 taken
          have b9_1 : ¬ nmW (slL L i (wE L i)) = 1 := c_5
          refine lv_aload_n hx hb dX10_command_35 rfl (lv_at hl 2 rfl) ?_
          refine lv_bipush (v := 32) hx hb dX10_command_36 (by decide) ?_
          by_cases b9_t : rdH L (nP L (wE L i + 1)).2 = 32
          ·
            refine b_callv (br := [[(o2_1, .inr (14, [.ref y2_1.1, .int 0, .int h2_4, .int z2_4]))], [(y2_1.1, .inl (Γ.2.1 1, (slL L i (wE L i)).length, .inl y2_1.2))]]) (b_runV ⟨hx, hb, hml, hown, hts⟩ (mt_Rd_must_ok_0 l Γ _ a o y L z1 z2 (nP L ((wE L i) + 1)).2 32 (by assumption) (by omega) (by omega)) (lw_V q1665 q1667 qs28 q99 q1668) rfl rfl 1 (by decide +kernel) ⟨(Nat.le_of_ble_eq_true rfl), (Nat.le_of_ble_eq_true rfl)⟩ (c_pre hP hD hS hA hK hE [2] rfl rfl (ro_app (ro_pass (ro_sel (ro2 := [[(o, .inr (14, [.ref y.1, .int 0, .int z1, .int z2]))]]) hRo [0] rfl) hD hS hA [2] rfl) (ro_pass (ro_sel (ro2 := [[(y.1, .inl (Γ.2.1 1, L.length, .inl y.2))]]) hRo [1] rfl) hD hS hA [2] rfl))) (recv_at (q := (RX10, TX10, 2)) hK (b_at (k := 2) hP rfl) rfl) rfl hl.1 rfl (Nat.le_of_ble_eq_true rfl) dX10_command_38 ⟨(by first | omega | (dsimp only; omega)), (by first | omega | (dsimp only; omega))⟩) hP hD hS hA [2] [0, 1] rfl rfl rfl (fun u_6 H locs hw_6 hP hD hS _ => ?_)
            obtain rfl := hw_6
            have hP : WP Γ [[(a, .inr (8, [.ref o, .int (nI ((nP L ((wE L i) + 1)).2 + 1))]))], [(o2_1, .inr (14, [.ref y2_1.1, .int 0, .int h2_4, .int z2_4]))], [(y2_1.1, .inl (Γ.2.1 1, (slL L i (wE L i)).length, .inl y2_1.2))]] H := hP
            have hD : WD A [[(a, .inr (8, [.ref o, .int (nI ((nP L ((wE L i) + 1)).2 + 1))]))], [(o2_1, .inr (14, [.ref y2_1.1, .int 0, .int h2_4, .int z2_4]))], [(y2_1.1, .inl (Γ.2.1 1, (slL L i (wE L i)).length, .inl y2_1.2))]] := hD
            have hwl2 := rdH_lt (by decide) b9_t
            refine b_new (ci := 10) (fs := [.null, .int 0, .int 0]) (C := RX12) (T := TX12) (N := 3) hx hb hts in_X12 tyX12_ok hown q1677 q1678 q101 hK hP hD hS hA rfl (fun j hj => by rcases (show j = 0 ∨ j = 1 ∨ j = 2 by omega) with rfl | rfl | rfl <;> rfl) (by first | omega | (dsimp only; omega)) (by first | omega | (dsimp only; omega)) dX10_command_41 (fun a_7 H hP hD hS => ?_)
            have hP : WP Γ [[(a, .inr (8, [.ref o, .int (nI ((nP L ((wE L i) + 1)).2 + 1))]))], [(o2_1, .inr (14, [.ref y2_1.1, .int 0, .int h2_4, .int z2_4]))], [(y2_1.1, .inl (Γ.2.1 1, (slL L i (wE L i)).length, .inl y2_1.2))], [(a_7, .inr (10, [.null, .int 0, .int 0]))]] H := hP
            have hD : WD A [[(a, .inr (8, [.ref o, .int (nI ((nP L ((wE L i) + 1)).2 + 1))]))], [(o2_1, .inr (14, [.ref y2_1.1, .int 0, .int h2_4, .int z2_4]))], [(y2_1.1, .inl (Γ.2.1 1, (slL L i (wE L i)).length, .inl y2_1.2))], [(a_7, .inr (10, [.null, .int 0, .int 0]))]] := hD
            refine lv_dup hx hb dX10_command_44 rfl ?_
            refine lv_aload_n hx hb dX10_command_45 rfl (lv_at hl 1 rfl) ?_
            refine lv_iload_n hx hb dX10_command_46 rfl (lv_at hl 0 rfl) ?_
            refine lv_aload_n hx hb dX10_command_47 rfl (lv_at hl 2 rfl) ?_
            by_cases b9_e : ¬ inC (rdH L ((nP L (wE L i + 1)).2 + 1)) 48 57 = 0
            ·
              refine b_calli (br := [[(o2_1, .inr (14, [.ref y2_1.1, .int 0, .int h2_4, .int z2_4]))], [(y2_1.1, .inl (Γ.2.1 1, (slL L i (wE L i)).length, .inl y2_1.2))], [(a_7, .inr (10, [.null, .int 0, .int 0]))]]) (b_runV ⟨hx, hb, hml, hown, hts⟩ (mt_Rd_number_ok_0 l Γ _ a o y L z1 z2 ((nP L ((wE L i) + 1)).2 + 1) (by assumption) (by omega) (by omega)) (lw_V q1673 q1675 qs30 q99 q1676) rfl rfl 0 (by decide +kernel) ⟨(Nat.le_of_ble_eq_true rfl), (Nat.le_of_ble_eq_true rfl)⟩ (c_pre hP hD hS hA hK hE [0] rfl rfl (ro_app (ro_pass (ro_sel (ro2 := [[(o, .inr (14, [.ref y.1, .int 0, .int z1, .int z2]))]]) hRo [0] rfl) hD hS hA [0] rfl) (ro_pass (ro_sel (ro2 := [[(y.1, .inl (Γ.2.1 1, L.length, .inl y.2))]]) hRo [1] rfl) hD hS hA [0] rfl))) (recv_at (q := (RX10, TX10, 2)) hK (b_at (k := 0) hP rfl) rfl) rfl hl.1 rfl (Nat.le_of_ble_eq_true rfl) dX10_command_48 ⟨(by first | omega | (dsimp only; omega)), (by first | omega | (dsimp only; omega))⟩) hP hD hS hA [0] [1, 2, 3] rfl rfl rfl (fun r_8 u_8 H locs hw_8 hP hD hS _ => ?_)
              obtain ⟨rfl, rfl⟩ := hw_8
              have hP : WP Γ [[(a, .inr (8, [.ref o, .int (nI (nP L ((nP L ((wE L i) + 1)).2 + 1)).2)]))], [(o2_1, .inr (14, [.ref y2_1.1, .int 0, .int h2_4, .int z2_4]))], [(y2_1.1, .inl (Γ.2.1 1, (slL L i (wE L i)).length, .inl y2_1.2))], [(a_7, .inr (10, [.null, .int 0, .int 0]))]] H := hP
              have hD : WD A [[(a, .inr (8, [.ref o, .int (nI (nP L ((nP L ((wE L i) + 1)).2 + 1)).2)]))], [(o2_1, .inr (14, [.ref y2_1.1, .int 0, .int h2_4, .int z2_4]))], [(y2_1.1, .inl (Γ.2.1 1, (slL L i (wE L i)).length, .inl y2_1.2))], [(a_7, .inr (10, [.null, .int 0, .int 0]))]] := hD
              refine b_callv (br := [[(a, .inr (8, [.ref o, .int (nI (nP L ((nP L ((wE L i) + 1)).2 + 1)).2)]))], [(o2_1, .inr (14, [.ref y2_1.1, .int 0, .int h2_4, .int z2_4]))], [(y2_1.1, .inl (Γ.2.1 1, (slL L i (wE L i)).length, .inl y2_1.2))]]) (b_runI ⟨hx, hb, hml, hown, hts⟩ (mt_Cm_init l Γ _ a_7 o2_1 (nP L ((wE L i) + 1)).1 (nP L ((nP L ((wE L i) + 1)).2 + 1)).1) (lw_meth q1681) q101 q1679 q1680 rfl rfl rfl 3 (by decide +kernel) ⟨(Nat.le_of_ble_eq_true rfl), (Nat.le_of_ble_eq_true rfl)⟩ (c_pre hP hD hS hA hK hE [3] rfl rfl ro_nil) rfl hl.1 rfl (Nat.le_of_ble_eq_true rfl) dX10_command_51 ⟨(by first | omega | (dsimp only; omega)), (by first | omega | (dsimp only; omega))⟩) hP hD hS hA [3] [0, 1, 2] rfl rfl rfl (fun u_9 H locs hw_9 hP hD hS _ => ?_)
              obtain rfl := hw_9
              have hP : WP Γ [[(a_7, .inr (10, [.ref o2_1, .int (nP L ((wE L i) + 1)).1, .int (nP L ((nP L ((wE L i) + 1)).2 + 1)).1]))], [(a, .inr (8, [.ref o, .int (nI (nP L ((nP L ((wE L i) + 1)).2 + 1)).2)]))], [(o2_1, .inr (14, [.ref y2_1.1, .int 0, .int h2_4, .int z2_4]))], [(y2_1.1, .inl (Γ.2.1 1, (slL L i (wE L i)).length, .inl y2_1.2))]] H := hP
              have hD : WD A [[(a_7, .inr (10, [.ref o2_1, .int (nP L ((wE L i) + 1)).1, .int (nP L ((nP L ((wE L i) + 1)).2 + 1)).1]))], [(a, .inr (8, [.ref o, .int (nI (nP L ((nP L ((wE L i) + 1)).2 + 1)).2)]))], [(o2_1, .inr (14, [.ref y2_1.1, .int 0, .int h2_4, .int z2_4]))], [(y2_1.1, .inl (Γ.2.1 1, (slL L i (wE L i)).length, .inl y2_1.2))]] := hD
              exact absurd hcs9 (by simp [cmdS, cmdS1, cmdS2, b9_w, b9_s, b9_d, b9_1, b9_t, b9_e])
            ·
              have b9_e := Classical.not_not.mp b9_e
              refine b_callx (br := [[(o2_1, .inr (14, [.ref y2_1.1, .int 0, .int h2_4, .int z2_4]))], [(y2_1.1, .inl (Γ.2.1 1, (slL L i (wE L i)).length, .inl y2_1.2))], [(a_7, .inr (10, [.null, .int 0, .int 0]))]]) (b_runVx ⟨hx, hb, hml, hown, hts⟩ (mt_Rd_number_x_0 l Γ _ a o y L z1 z2 ((nP L ((wE L i) + 1)).2 + 1) hnt (by assumption) (by omega) b9_e) (lw_V q1673 q1675 qs30 q99 q1676) rfl rfl 0 (by decide +kernel) ⟨(Nat.le_of_ble_eq_true rfl), (Nat.le_of_ble_eq_true rfl)⟩ (c_pre hP hD hS hA hK hE [0] rfl rfl (ro_app (ro_pass (ro_sel (ro2 := [[(o, .inr (14, [.ref y.1, .int 0, .int z1, .int z2]))]]) hRo [0] rfl) hD hS hA [0] rfl) (ro_pass (ro_sel (ro2 := [[(y.1, .inl (Γ.2.1 1, L.length, .inl y.2))]]) hRo [1] rfl) hD hS hA [0] rfl))) (recv_at (q := (RX10, TX10, 2)) hK (b_at (k := 0) hP rfl) rfl) rfl hl.1 rfl (Nat.le_of_ble_eq_true rfl) dX10_command_48 ⟨(by first | omega | (dsimp only; omega)), (by first | omega | (dsimp only; omega))⟩) hP hD hS hA [0] [1, 2, 3] rfl rfl rfl (fun q_10 ce_10 u_10 H locs hw_10 hP hD hS _ hce_10 hcv_10 hcl_10 => ?_)
              obtain rfl := hw_10
              have hP : WP Γ [[(q_10, .inr (9, [.int (nI ((nP L ((wE L i) + 1)).2 + 1))]))], [(o2_1, .inr (14, [.ref y2_1.1, .int 0, .int h2_4, .int z2_4]))], [(y2_1.1, .inl (Γ.2.1 1, (slL L i (wE L i)).length, .inl y2_1.2))], [(a_7, .inr (10, [.null, .int 0, .int 0]))]] H := hP
              have hD : WD A [[(q_10, .inr (9, [.int (nI ((nP L ((wE L i) + 1)).2 + 1))]))], [(o2_1, .inr (14, [.ref y2_1.1, .int 0, .int h2_4, .int z2_4]))], [(y2_1.1, .inl (Γ.2.1 1, (slL L i (wE L i)).length, .inl y2_1.2))], [(a_7, .inr (10, [.null, .int 0, .int 0]))]] := hD
              have hP : WP Γ [[(q_10, .inr (9, [.int (nI ((nP L ((wE L i) + 1)).2 + 1))]))]] H := bP_sel hP [0] rfl
              have hD : WD A [[(q_10, .inr (9, [.int (nI ((nP L ((wE L i) + 1)).2 + 1))]))]] := bD_sel hD [0] rfl rfl
              exact b_outx hlocks (fun x hx9 => (ht9 x hx9).elim) hP hD hS hce_10 hcv_10 hcl_10 (by first | with_reducible rfl | (simp [cmdS, cmdS1, cmdS2, b9_w, b9_s, b9_d, c_5, b9_1, b9_t, b9_e]; done) | rfl) (by first | omega | (dsimp only; omega)) (by first | omega | (dsimp only; omega))
          ·
            refine b_callx (br := [[(o2_1, .inr (14, [.ref y2_1.1, .int 0, .int h2_4, .int z2_4]))], [(y2_1.1, .inl (Γ.2.1 1, (slL L i (wE L i)).length, .inl y2_1.2))]]) (b_runVx ⟨hx, hb, hml, hown, hts⟩ (mt_Rd_must_x_0 l Γ _ a o y L z1 z2 (nP L ((wE L i) + 1)).2 32 hnt (by assumption) (by omega) (by omega)) (lw_V q1665 q1667 qs28 q99 q1668) rfl rfl 1 (by decide +kernel) ⟨(Nat.le_of_ble_eq_true rfl), (Nat.le_of_ble_eq_true rfl)⟩ (c_pre hP hD hS hA hK hE [2] rfl rfl (ro_app (ro_pass (ro_sel (ro2 := [[(o, .inr (14, [.ref y.1, .int 0, .int z1, .int z2]))]]) hRo [0] rfl) hD hS hA [2] rfl) (ro_pass (ro_sel (ro2 := [[(y.1, .inl (Γ.2.1 1, L.length, .inl y.2))]]) hRo [1] rfl) hD hS hA [2] rfl))) (recv_at (q := (RX10, TX10, 2)) hK (b_at (k := 2) hP rfl) rfl) rfl hl.1 rfl (Nat.le_of_ble_eq_true rfl) dX10_command_38 ⟨(by first | omega | (dsimp only; omega)), (by first | omega | (dsimp only; omega))⟩) hP hD hS hA [2] [0, 1] rfl rfl rfl (fun q_11 ce_11 u_11 H locs hw_11 hP hD hS _ hce_11 hcv_11 hcl_11 => ?_)
            obtain rfl := hw_11
            have hP : WP Γ [[(q_11, .inr (9, [.int (nI (nP L ((wE L i) + 1)).2)]))], [(o2_1, .inr (14, [.ref y2_1.1, .int 0, .int h2_4, .int z2_4]))], [(y2_1.1, .inl (Γ.2.1 1, (slL L i (wE L i)).length, .inl y2_1.2))]] H := hP
            have hD : WD A [[(q_11, .inr (9, [.int (nI (nP L ((wE L i) + 1)).2)]))], [(o2_1, .inr (14, [.ref y2_1.1, .int 0, .int h2_4, .int z2_4]))], [(y2_1.1, .inl (Γ.2.1 1, (slL L i (wE L i)).length, .inl y2_1.2))]] := hD
            have hP : WP Γ [[(q_11, .inr (9, [.int (nI (nP L ((wE L i) + 1)).2)]))]] H := bP_sel hP [0] rfl
            have hD : WD A [[(q_11, .inr (9, [.int (nI (nP L ((wE L i) + 1)).2)]))]] := bD_sel hD [0] rfl rfl
            exact b_outx hlocks (fun x hx9 => (ht9 x hx9).elim) hP hD hS hce_11 hcv_11 hcl_11 (by first | with_reducible rfl | (simp [cmdS, cmdS1, cmdS2, b9_w, b9_s, b9_d, c_5, b9_1, b9_t]; done) | rfl) (by first | omega | (dsimp only; omega)) (by first | omega | (dsimp only; omega))
        · -- 21 not taken
          have b9_1 : nmW (slL L i (wE L i)) = 1 := c_5
          refine b_new (ci := 10) (fs := [.null, .int 0, .int 0]) (C := RX12) (T := TX12) (N := 3) hx hb hts in_X12 tyX12_ok hown q1677 q1678 q101 hK hP hD hS hA rfl (fun j hj => by rcases (show j = 0 ∨ j = 1 ∨ j = 2 by omega) with rfl | rfl | rfl <;> rfl) (by first | omega | (dsimp only; omega)) (by first | omega | (dsimp only; omega)) dX10_command_24 (fun a_12 H hP hD hS => ?_)
          have hP : WP Γ [[(o2_1, .inr (14, [.ref y2_1.1, .int 0, .int h2_4, .int z2_4]))], [(y2_1.1, .inl (Γ.2.1 1, (slL L i (wE L i)).length, .inl y2_1.2))], [(a, .inr (8, [.ref o, .int (nI (nP L ((wE L i) + 1)).2)]))], [(a_12, .inr (10, [.null, .int 0, .int 0]))]] H := hP
          have hD : WD A [[(o2_1, .inr (14, [.ref y2_1.1, .int 0, .int h2_4, .int z2_4]))], [(y2_1.1, .inl (Γ.2.1 1, (slL L i (wE L i)).length, .inl y2_1.2))], [(a, .inr (8, [.ref o, .int (nI (nP L ((wE L i) + 1)).2)]))], [(a_12, .inr (10, [.null, .int 0, .int 0]))]] := hD
          refine lv_dup hx hb dX10_command_27 rfl ?_
          refine lv_aload_n hx hb dX10_command_28 rfl (lv_at hl 1 rfl) ?_
          refine lv_iload_n hx hb dX10_command_29 rfl (lv_at hl 0 rfl) ?_
          refine lv_iconst (v := 0) hx hb dX10_command_30 (by decide) ?_
          refine b_callv (br := [[(o2_1, .inr (14, [.ref y2_1.1, .int 0, .int h2_4, .int z2_4]))], [(y2_1.1, .inl (Γ.2.1 1, (slL L i (wE L i)).length, .inl y2_1.2))], [(a, .inr (8, [.ref o, .int (nI (nP L ((wE L i) + 1)).2)]))]]) (b_runI ⟨hx, hb, hml, hown, hts⟩ (mt_Cm_init l Γ _ a_12 o2_1 (nP L ((wE L i) + 1)).1 0) (lw_meth q1681) q101 q1679 q1680 rfl rfl rfl 3 (by decide +kernel) ⟨(Nat.le_of_ble_eq_true rfl), (Nat.le_of_ble_eq_true rfl)⟩ (c_pre hP hD hS hA hK hE [3] rfl rfl ro_nil) rfl hl.1 rfl (Nat.le_of_ble_eq_true rfl) dX10_command_31 ⟨(by first | omega | (dsimp only; omega)), (by first | omega | (dsimp only; omega))⟩) hP hD hS hA [3] [0, 1, 2] rfl rfl rfl (fun u_13 H locs hw_13 hP hD hS _ => ?_)
          obtain rfl := hw_13
          have hP : WP Γ [[(a_12, .inr (10, [.ref o2_1, .int (nP L ((wE L i) + 1)).1, .int 0]))], [(o2_1, .inr (14, [.ref y2_1.1, .int 0, .int h2_4, .int z2_4]))], [(y2_1.1, .inl (Γ.2.1 1, (slL L i (wE L i)).length, .inl y2_1.2))], [(a, .inr (8, [.ref o, .int (nI (nP L ((wE L i) + 1)).2)]))]] H := hP
          have hD : WD A [[(a_12, .inr (10, [.ref o2_1, .int (nP L ((wE L i) + 1)).1, .int 0]))], [(o2_1, .inr (14, [.ref y2_1.1, .int 0, .int h2_4, .int z2_4]))], [(y2_1.1, .inl (Γ.2.1 1, (slL L i (wE L i)).length, .inl y2_1.2))], [(a, .inr (8, [.ref o, .int (nI (nP L ((wE L i) + 1)).2)]))]] := hD
          exact absurd hcs9 (by simp [cmdS, cmdS1, cmdS2, b9_w, b9_s, b9_d, b9_1])
      ·
        have b9_d := Classical.not_not.mp b9_d
        refine b_callx (br := [[(o2_1, .inr (14, [.ref y2_1.1, .int 0, .int h2_1, .int z2__1]))], [(y2_1.1, .inl (Γ.2.1 1, (slL L i (wE L i)).length, .inl y2_1.2))]]) (b_runVx ⟨hx, hb, hml, hown, hts⟩ (mt_Rd_number_x_0 l Γ _ a o y L z1 z2 ((wE L i) + 1) hnt (by assumption) (by omega) b9_d) (lw_V q1673 q1675 qs30 q99 q1676) rfl rfl 0 (by decide +kernel) ⟨(Nat.le_of_ble_eq_true rfl), (Nat.le_of_ble_eq_true rfl)⟩ (c_pre hP hD hS hA hK hE [0] rfl rfl (ro_app (ro_pass (ro_sel (ro2 := [[(o, .inr (14, [.ref y.1, .int 0, .int z1, .int z2]))]]) hRo [0] rfl) hD hS hA [0] rfl) (ro_pass (ro_sel (ro2 := [[(y.1, .inl (Γ.2.1 1, L.length, .inl y.2))]]) hRo [1] rfl) hD hS hA [0] rfl))) (recv_at (q := (RX10, TX10, 2)) hK (b_at (k := 0) hP rfl) rfl) rfl hl.1 rfl (Nat.le_of_ble_eq_true rfl) dX10_command_12 ⟨(by first | omega | (dsimp only; omega)), (by first | omega | (dsimp only; omega))⟩) hP hD hS hA [0] [1, 2] rfl rfl rfl (fun q_14 ce_14 u_14 H locs hw_14 hP hD hS _ hce_14 hcv_14 hcl_14 => ?_)
        obtain rfl := hw_14
        have hP : WP Γ [[(q_14, .inr (9, [.int (nI ((wE L i) + 1))]))], [(o2_1, .inr (14, [.ref y2_1.1, .int 0, .int h2_1, .int z2__1]))], [(y2_1.1, .inl (Γ.2.1 1, (slL L i (wE L i)).length, .inl y2_1.2))]] H := hP
        have hD : WD A [[(q_14, .inr (9, [.int (nI ((wE L i) + 1))]))], [(o2_1, .inr (14, [.ref y2_1.1, .int 0, .int h2_1, .int z2__1]))], [(y2_1.1, .inl (Γ.2.1 1, (slL L i (wE L i)).length, .inl y2_1.2))]] := hD
        have hP : WP Γ [[(q_14, .inr (9, [.int (nI ((wE L i) + 1))]))]] H := bP_sel hP [0] rfl
        have hD : WD A [[(q_14, .inr (9, [.int (nI ((wE L i) + 1))]))]] := bD_sel hD [0] rfl rfl
        exact b_outx hlocks (fun x hx9 => (ht9 x hx9).elim) hP hD hS hce_14 hcv_14 hcl_14 (by first | with_reducible rfl | (simp [cmdS, cmdS1, cmdS2, b9_w, b9_s, b9_d]; done) | rfl) (by first | omega | (dsimp only; omega)) (by first | omega | (dsimp only; omega))
    ·
      refine b_callx (br := [[(o2_1, .inr (14, [.ref y2_1.1, .int 0, .int h2_1, .int z2__1]))], [(y2_1.1, .inl (Γ.2.1 1, (slL L i (wE L i)).length, .inl y2_1.2))]]) (b_runVx ⟨hx, hb, hml, hown, hts⟩ (mt_Rd_must_x_0 l Γ _ a o y L z1 z2 (wE L i) 32 hnt (by assumption) (by omega) (by omega)) (lw_V q1665 q1667 qs28 q99 q1668) rfl rfl 1 (by decide +kernel) ⟨(Nat.le_of_ble_eq_true rfl), (Nat.le_of_ble_eq_true rfl)⟩ (c_pre hP hD hS hA hK hE [0] rfl rfl (ro_app (ro_pass (ro_sel (ro2 := [[(o, .inr (14, [.ref y.1, .int 0, .int z1, .int z2]))]]) hRo [0] rfl) hD hS hA [0] rfl) (ro_pass (ro_sel (ro2 := [[(y.1, .inl (Γ.2.1 1, L.length, .inl y.2))]]) hRo [1] rfl) hD hS hA [0] rfl))) (recv_at (q := (RX10, TX10, 2)) hK (b_at (k := 0) hP rfl) rfl) rfl hl.1 rfl (Nat.le_of_ble_eq_true rfl) dX10_command_8 ⟨(by first | omega | (dsimp only; omega)), (by first | omega | (dsimp only; omega))⟩) hP hD hS hA [0] [1, 2] rfl rfl rfl (fun q_15 ce_15 u_15 H locs hw_15 hP hD hS _ hce_15 hcv_15 hcl_15 => ?_)
      obtain rfl := hw_15
      have hP : WP Γ [[(q_15, .inr (9, [.int (nI (wE L i))]))], [(o2_1, .inr (14, [.ref y2_1.1, .int 0, .int h2_1, .int z2__1]))], [(y2_1.1, .inl (Γ.2.1 1, (slL L i (wE L i)).length, .inl y2_1.2))]] H := hP
      have hD : WD A [[(q_15, .inr (9, [.int (nI (wE L i))]))], [(o2_1, .inr (14, [.ref y2_1.1, .int 0, .int h2_1, .int z2__1]))], [(y2_1.1, .inl (Γ.2.1 1, (slL L i (wE L i)).length, .inl y2_1.2))]] := hD
      have hP : WP Γ [[(q_15, .inr (9, [.int (nI (wE L i))]))]] H := bP_sel hP [0] rfl
      have hD : WD A [[(q_15, .inr (9, [.int (nI (wE L i))]))]] := bD_sel hD [0] rfl rfl
      exact b_outx hlocks (fun x hx9 => (ht9 x hx9).elim) hP hD hS hce_15 hcv_15 hcl_15 (by first | with_reducible rfl | (simp [cmdS, cmdS1, cmdS2, b9_w, b9_s]; done) | rfl) (by first | omega | (dsimp only; omega)) (by first | omega | (dsimp only; omega))
  ·
    have b9_w := Classical.not_not.mp b9_w
    refine b_callx (br := []) (b_runVx ⟨hx, hb, hml, hown, hts⟩ (mt_Rd_word_x_0 l Γ _ a o y L z1 z2 i hnt (by assumption) (by first | exact hiL | omega) (by first | exact hL5 | omega) b9_w) (lw_V q1557 q1559 qs26 q99 q1560) rfl rfl 0 (by decide +kernel) ⟨(Nat.le_of_ble_eq_true rfl), (Nat.le_of_ble_eq_true rfl)⟩ (c_pre hP hD hS hA hK hE [0] rfl rfl (ro_app (ro_pass (ro_sel (ro2 := [[(o, .inr (14, [.ref y.1, .int 0, .int z1, .int z2]))]]) hRo [0] rfl) hD hS hA [0] rfl) (ro_pass (ro_sel (ro2 := [[(y.1, .inl (Γ.2.1 1, L.length, .inl y.2))]]) hRo [1] rfl) hD hS hA [0] rfl))) (recv_at (q := (RX10, TX10, 2)) hK (b_at (k := 0) hP rfl) rfl) rfl hl.1 rfl (Nat.le_of_ble_eq_true rfl) dX10_command_1 ⟨(by first | omega | (dsimp only; omega)), (by first | omega | (dsimp only; omega))⟩) hP hD hS hA [0] [] rfl rfl rfl (fun q_16 ce_16 u_16 H locs hw_16 hP hD hS _ hce_16 hcv_16 hcl_16 => ?_)
    obtain rfl := hw_16
    have hP : WP Γ [[(q_16, .inr (9, [.int (nI i)]))]] H := hP
    have hD : WD A [[(q_16, .inr (9, [.int (nI i)]))]] := hD
    exact b_outx hlocks (fun x hx9 => (ht9 x hx9).elim) hP hD hS hce_16 hcv_16 hcl_16 (by first | with_reducible rfl | (simp [cmdS, cmdS1, cmdS2, b9_w]; done) | rfl) (by first | omega | (dsimp only; omega)) (by first | omega | (dsimp only; omega))
set_option maxHeartbeats 4000000 in
set_option maxRecDepth 100000 in
theorem mt_Rd_command_ok_1 (l : Launch) (Γ : GE) (sz : Nat) (a : Nat) (o : Nat) (y : SST) (L : List Int32) (z1 : Int32) (z2 : Int32) (i : Nat) (hst : stU y L) (hiL : i ≤ L.length) (hL5 : L.length ≤ 50) (hcs9 : (cmdS L i).1 = 1) : KM l yX10_command cX10_command 3 (some (FieldType.object "DairyBook$Command")) Γ 8 194 (wE L i - i + 12) (512 * (wE L i - i) + 1110) [.ref a] [[(a, .inr (8, [.ref o, .int (nI i)]))]] [[(o, .inr (14, [.ref y.1, .int 1, .int z1, .int z2]))], [(y.1, .inl (Γ.2.1 1, 2 * L.length, .inl y.2))]] sz (Qq Γ (fun r_ u_ => ∃ c : Nat, ∃ o2 : Nat, ∃ y2 : SST, ∃ h2 : Int32, ∃ z2_ : Int32, stF y2 (slL L i (wE L i)) ∧ (h2 = strH (slL L i (wE L i)) ∨ h2 = 0 ∧ z2_ = 0) ∧ r_ = some c ∧ u_ = [[(a, .inr (8, [.ref o, .int (nI (cmdS L i).2)]))], [(c, .inr (10, [.ref o2, .int (cmdV L i), .int (cmdX L i)]))], [(o2, .inr (14, [.ref y2.1, .int 0, .int h2, .int z2_]))], [(y2.1, .inl (Γ.2.1 1, (slL L i (wE L i)).length, .inl y2.2))]])) := by
  refine K_intro (by decide) (Nat.le_of_ble_eq_true rfl) ?_
  intro pr_ ev_ s mi_ below meth cd_ A ls hx hb hr hml hown hts hlocks hname hK hE hRo hP hD hA hS hsz hl
  have hl : lv_has ls 3 [(0, .ref a)] := hl
  have hown : s.vm.findClass RX10 = some mi_.cls := hown
  have hll := hst.1
  refine lv_aload_n hx hb dX10_command_0 rfl (lv_at hl 0 rfl) ?_
  by_cases b9_w : ¬ nmW (slL L i (wE L i)) = 0
  ·
    refine b_callq (br := []) (b_runV ⟨hx, hb, hml, hown, hts⟩ (mt_Rd_word_ok_1 l Γ _ a o y L z1 z2 i (by assumption) (by first | exact hiL | omega) (by first | exact hL5 | omega) (by omega)) (lw_V q1557 q1559 qs26 q99 q1560) rfl rfl 0 (by decide +kernel) ⟨(Nat.le_of_ble_eq_true rfl), (Nat.le_of_ble_eq_true rfl)⟩ (c_pre hP hD hS hA hK hE [0] rfl rfl (ro_app (ro_pass (ro_sel (ro2 := [[(o, .inr (14, [.ref y.1, .int 1, .int z1, .int z2]))]]) hRo [0] rfl) hD hS hA [0] rfl) (ro_pass (ro_sel (ro2 := [[(y.1, .inl (Γ.2.1 1, 2 * L.length, .inl y.2))]]) hRo [1] rfl) hD hS hA [0] rfl))) (recv_at (q := (RX10, TX10, 2)) hK (b_at (k := 0) hP rfl) rfl) rfl hl.1 rfl (Nat.le_of_ble_eq_true rfl) dX10_command_1 ⟨(by first | omega | (dsimp only; omega)), (by first | omega | (dsimp only; omega))⟩) hP hD hS hA [0] [] rfl rfl rfl (fun r_1 u_1 H locs hw_1 hP hD hS _ => ?_)
    obtain ⟨o2_1, y2_1, h2_1, z2__1, hs_1, hh_1, rfl, rfl⟩ := hw_1
    have hP : WP Γ [[(a, .inr (8, [.ref o, .int (nI (wE L i))]))], [(o2_1, .inr (14, [.ref y2_1.1, .int 0, .int h2_1, .int z2__1]))], [(y2_1.1, .inl (Γ.2.1 1, (slL L i (wE L i)).length, .inl y2_1.2))]] H := hP
    have hD : WD A [[(a, .inr (8, [.ref o, .int (nI (wE L i))]))], [(o2_1, .inr (14, [.ref y2_1.1, .int 0, .int h2_1, .int z2__1]))], [(y2_1.1, .inl (Γ.2.1 1, (slL L i (wE L i)).length, .inl y2_1.2))]] := hD
    refine W.eq (g2 := F0 mi_ 4 ls ([.ref o2_1])) rfl ?_
    have hwi := wE_in hiL
    refine lv_astore_n (lv' := [(1, .ref o2_1), (0, .ref a)]) hx hb dX10_command_4 rfl hl (by decide) rfl (fun ls hl => ?_)
    refine lv_aload_n hx hb dX10_command_5 rfl (lv_at hl 1 rfl) ?_
    refine lv_bipush (v := 32) hx hb dX10_command_6 (by decide) ?_
    by_cases b9_s : rdH L (wE L i) = 32
    ·
      refine b_callv (br := [[(o2_1, .inr (14, [.ref y2_1.1, .int 0, .int h2_1, .int z2__1]))], [(y2_1.1, .inl (Γ.2.1 1, (slL L i (wE L i)).length, .inl y2_1.2))]]) (b_runV ⟨hx, hb, hml, hown, hts⟩ (mt_Rd_must_ok_1 l Γ _ a o y L z1 z2 (wE L i) 32 (by assumption) (by omega) (by omega)) (lw_V q1665 q1667 qs28 q99 q1668) rfl rfl 1 (by decide +kernel) ⟨(Nat.le_of_ble_eq_true rfl), (Nat.le_of_ble_eq_true rfl)⟩ (c_pre hP hD hS hA hK hE [0] rfl rfl (ro_app (ro_pass (ro_sel (ro2 := [[(o, .inr (14, [.ref y.1, .int 1, .int z1, .int z2]))]]) hRo [0] rfl) hD hS hA [0] rfl) (ro_pass (ro_sel (ro2 := [[(y.1, .inl (Γ.2.1 1, 2 * L.length, .inl y.2))]]) hRo [1] rfl) hD hS hA [0] rfl))) (recv_at (q := (RX10, TX10, 2)) hK (b_at (k := 0) hP rfl) rfl) rfl hl.1 rfl (Nat.le_of_ble_eq_true rfl) dX10_command_8 ⟨(by first | omega | (dsimp only; omega)), (by first | omega | (dsimp only; omega))⟩) hP hD hS hA [0] [1, 2] rfl rfl rfl (fun u_2 H locs hw_2 hP hD hS _ => ?_)
      obtain rfl := hw_2
      have hP : WP Γ [[(a, .inr (8, [.ref o, .int (nI ((wE L i) + 1))]))], [(o2_1, .inr (14, [.ref y2_1.1, .int 0, .int h2_1, .int z2__1]))], [(y2_1.1, .inl (Γ.2.1 1, (slL L i (wE L i)).length, .inl y2_1.2))]] H := hP
      have hD : WD A [[(a, .inr (8, [.ref o, .int (nI ((wE L i) + 1))]))], [(o2_1, .inr (14, [.ref y2_1.1, .int 0, .int h2_1, .int z2__1]))], [(y2_1.1, .inl (Γ.2.1 1, (slL L i (wE L i)).length, .inl y2_1.2))]] := hD
      have hwl := rdH_lt (by decide) b9_s
      refine lv_aload_n hx hb dX10_command_11 rfl (lv_at hl 1 rfl) ?_
      by_cases b9_d : ¬ inC (rdH L (wE L i + 1)) 48 57 = 0
      ·
        refine b_calli (br := [[(o2_1, .inr (14, [.ref y2_1.1, .int 0, .int h2_1, .int z2__1]))], [(y2_1.1, .inl (Γ.2.1 1, (slL L i (wE L i)).length, .inl y2_1.2))]]) (b_runV ⟨hx, hb, hml, hown, hts⟩ (mt_Rd_number_ok_1 l Γ _ a o y L z1 z2 ((wE L i) + 1) (by assumption) (by omega) (by omega)) (lw_V q1673 q1675 qs30 q99 q1676) rfl rfl 0 (by decide +kernel) ⟨(Nat.le_of_ble_eq_true rfl), (Nat.le_of_ble_eq_true rfl)⟩ (c_pre hP hD hS hA hK hE [0] rfl rfl (ro_app (ro_pass (ro_sel (ro2 := [[(o, .inr (14, [.ref y.1, .int 1, .int z1, .int z2]))]]) hRo [0] rfl) hD hS hA [0] rfl) (ro_pass (ro_sel (ro2 := [[(y.1, .inl (Γ.2.1 1, 2 * L.length, .inl y.2))]]) hRo [1] rfl) hD hS hA [0] rfl))) (recv_at (q := (RX10, TX10, 2)) hK (b_at (k := 0) hP rfl) rfl) rfl hl.1 rfl (Nat.le_of_ble_eq_true rfl) dX10_command_12 ⟨(by first | omega | (dsimp only; omega)), (by first | omega | (dsimp only; omega))⟩) hP hD hS hA [0] [1, 2] rfl rfl rfl (fun r_3 u_3 H locs hw_3 hP hD hS _ => ?_)
        obtain ⟨rfl, rfl⟩ := hw_3
        have hP : WP Γ [[(a, .inr (8, [.ref o, .int (nI (nP L ((wE L i) + 1)).2)]))], [(o2_1, .inr (14, [.ref y2_1.1, .int 0, .int h2_1, .int z2__1]))], [(y2_1.1, .inl (Γ.2.1 1, (slL L i (wE L i)).length, .inl y2_1.2))]] H := hP
        have hD : WD A [[(a, .inr (8, [.ref o, .int (nI (nP L ((wE L i) + 1)).2)]))], [(o2_1, .inr (14, [.ref y2_1.1, .int 0, .int h2_1, .int z2__1]))], [(y2_1.1, .inl (Γ.2.1 1, (slL L i (wE L i)).length, .inl y2_1.2))]] := hD
        have hnp := nP_in b9_d
        refine lv_istore_n (lv' := [(2, .int (nP L ((wE L i) + 1)).1), (1, .ref o2_1), (0, .ref a)]) hx hb dX10_command_15 rfl hl (by decide) rfl (fun ls hl => ?_)
        refine lv_aload_n hx hb dX10_command_16 rfl (lv_at hl 1 rfl) ?_
        refine b_calli (br := [[(a, .inr (8, [.ref o, .int (nI (nP L ((wE L i) + 1)).2)]))]]) (b_runS ⟨hx, hb, hml, hown, hts⟩ (mt_Rd_nof l Γ _ o2_1 y2_1 (slL L i (wE L i)) h2_1 z2__1 hs_1 hh_1) (lw_S q1572 q1573 q99 q1574) rfl rfl 1 (by decide +kernel) ⟨(Nat.le_of_ble_eq_true rfl), (Nat.le_of_ble_eq_true rfl)⟩ (c_pre hP hD hS hA hK hE [1, 2] rfl rfl ro_nil) rfl hl.1 rfl (Nat.le_of_ble_eq_true rfl) dX10_command_17 ⟨(by first | omega | (dsimp only; omega)), (by first | omega | (dsimp only; omega))⟩) hP hD hS hA [1, 2] [0] rfl rfl rfl (fun r_4 u_4 H locs hw_4 hP hD hS _ => ?_)
        obtain ⟨h2_4, z2_4, hh2_4, rfl, rfl⟩ := hw_4
        have hP : WP Γ [[(o2_1, .inr (14, [.ref y2_1.1, .int 0, .int h2_4, .int z2_4]))], [(y2_1.1, .inl (Γ.2.1 1, (slL L i (wE L i)).length, .inl y2_1.2))], [(a, .inr (8, [.ref o, .int (nI (nP L ((wE L i) + 1)).2)]))]] H := hP
        have hD : WD A [[(o2_1, .inr (14, [.ref y2_1.1, .int 0, .int h2_4, .int z2_4]))], [(y2_1.1, .inl (Γ.2.1 1, (slL L i (wE L i)).length, .inl y2_1.2))], [(a, .inr (8, [.ref o, .int (nI (nP L ((wE L i) + 1)).2)]))]] := hD
        refine lv_iconst (v := 1) hx hb dX10_command_20 (by decide) ?_
        refine lv_icmp_ne (tgt := 35) hx hb dX10_command_21 (by decide) (fun c_5 => ?_) (fun c_5 => ?_)
        · -- 21 taken
          have b9_1 : ¬ nmW (slL L i (wE L i)) = 1 := c_5
          refine lv_aload_n hx hb dX10_command_35 rfl (lv_at hl 2 rfl) ?_
          refine lv_bipush (v := 32) hx hb dX10_command_36 (by decide) ?_
          by_cases b9_t : rdH L (nP L (wE L i + 1)).2 = 32
          ·
            refine b_callv (br := [[(o2_1, .inr (14, [.ref y2_1.1, .int 0, .int h2_4, .int z2_4]))], [(y2_1.1, .inl (Γ.2.1 1, (slL L i (wE L i)).length, .inl y2_1.2))]]) (b_runV ⟨hx, hb, hml, hown, hts⟩ (mt_Rd_must_ok_1 l Γ _ a o y L z1 z2 (nP L ((wE L i) + 1)).2 32 (by assumption) (by omega) (by omega)) (lw_V q1665 q1667 qs28 q99 q1668) rfl rfl 1 (by decide +kernel) ⟨(Nat.le_of_ble_eq_true rfl), (Nat.le_of_ble_eq_true rfl)⟩ (c_pre hP hD hS hA hK hE [2] rfl rfl (ro_app (ro_pass (ro_sel (ro2 := [[(o, .inr (14, [.ref y.1, .int 1, .int z1, .int z2]))]]) hRo [0] rfl) hD hS hA [2] rfl) (ro_pass (ro_sel (ro2 := [[(y.1, .inl (Γ.2.1 1, 2 * L.length, .inl y.2))]]) hRo [1] rfl) hD hS hA [2] rfl))) (recv_at (q := (RX10, TX10, 2)) hK (b_at (k := 2) hP rfl) rfl) rfl hl.1 rfl (Nat.le_of_ble_eq_true rfl) dX10_command_38 ⟨(by first | omega | (dsimp only; omega)), (by first | omega | (dsimp only; omega))⟩) hP hD hS hA [2] [0, 1] rfl rfl rfl (fun u_6 H locs hw_6 hP hD hS _ => ?_)
            obtain rfl := hw_6
            have hP : WP Γ [[(a, .inr (8, [.ref o, .int (nI ((nP L ((wE L i) + 1)).2 + 1))]))], [(o2_1, .inr (14, [.ref y2_1.1, .int 0, .int h2_4, .int z2_4]))], [(y2_1.1, .inl (Γ.2.1 1, (slL L i (wE L i)).length, .inl y2_1.2))]] H := hP
            have hD : WD A [[(a, .inr (8, [.ref o, .int (nI ((nP L ((wE L i) + 1)).2 + 1))]))], [(o2_1, .inr (14, [.ref y2_1.1, .int 0, .int h2_4, .int z2_4]))], [(y2_1.1, .inl (Γ.2.1 1, (slL L i (wE L i)).length, .inl y2_1.2))]] := hD
            have hwl2 := rdH_lt (by decide) b9_t
            refine b_new (ci := 10) (fs := [.null, .int 0, .int 0]) (C := RX12) (T := TX12) (N := 3) hx hb hts in_X12 tyX12_ok hown q1677 q1678 q101 hK hP hD hS hA rfl (fun j hj => by rcases (show j = 0 ∨ j = 1 ∨ j = 2 by omega) with rfl | rfl | rfl <;> rfl) (by first | omega | (dsimp only; omega)) (by first | omega | (dsimp only; omega)) dX10_command_41 (fun a_7 H hP hD hS => ?_)
            have hP : WP Γ [[(a, .inr (8, [.ref o, .int (nI ((nP L ((wE L i) + 1)).2 + 1))]))], [(o2_1, .inr (14, [.ref y2_1.1, .int 0, .int h2_4, .int z2_4]))], [(y2_1.1, .inl (Γ.2.1 1, (slL L i (wE L i)).length, .inl y2_1.2))], [(a_7, .inr (10, [.null, .int 0, .int 0]))]] H := hP
            have hD : WD A [[(a, .inr (8, [.ref o, .int (nI ((nP L ((wE L i) + 1)).2 + 1))]))], [(o2_1, .inr (14, [.ref y2_1.1, .int 0, .int h2_4, .int z2_4]))], [(y2_1.1, .inl (Γ.2.1 1, (slL L i (wE L i)).length, .inl y2_1.2))], [(a_7, .inr (10, [.null, .int 0, .int 0]))]] := hD
            refine lv_dup hx hb dX10_command_44 rfl ?_
            refine lv_aload_n hx hb dX10_command_45 rfl (lv_at hl 1 rfl) ?_
            refine lv_iload_n hx hb dX10_command_46 rfl (lv_at hl 0 rfl) ?_
            refine lv_aload_n hx hb dX10_command_47 rfl (lv_at hl 2 rfl) ?_
            by_cases b9_e : ¬ inC (rdH L ((nP L (wE L i + 1)).2 + 1)) 48 57 = 0
            ·
              refine b_calli (br := [[(o2_1, .inr (14, [.ref y2_1.1, .int 0, .int h2_4, .int z2_4]))], [(y2_1.1, .inl (Γ.2.1 1, (slL L i (wE L i)).length, .inl y2_1.2))], [(a_7, .inr (10, [.null, .int 0, .int 0]))]]) (b_runV ⟨hx, hb, hml, hown, hts⟩ (mt_Rd_number_ok_1 l Γ _ a o y L z1 z2 ((nP L ((wE L i) + 1)).2 + 1) (by assumption) (by omega) (by omega)) (lw_V q1673 q1675 qs30 q99 q1676) rfl rfl 0 (by decide +kernel) ⟨(Nat.le_of_ble_eq_true rfl), (Nat.le_of_ble_eq_true rfl)⟩ (c_pre hP hD hS hA hK hE [0] rfl rfl (ro_app (ro_pass (ro_sel (ro2 := [[(o, .inr (14, [.ref y.1, .int 1, .int z1, .int z2]))]]) hRo [0] rfl) hD hS hA [0] rfl) (ro_pass (ro_sel (ro2 := [[(y.1, .inl (Γ.2.1 1, 2 * L.length, .inl y.2))]]) hRo [1] rfl) hD hS hA [0] rfl))) (recv_at (q := (RX10, TX10, 2)) hK (b_at (k := 0) hP rfl) rfl) rfl hl.1 rfl (Nat.le_of_ble_eq_true rfl) dX10_command_48 ⟨(by first | omega | (dsimp only; omega)), (by first | omega | (dsimp only; omega))⟩) hP hD hS hA [0] [1, 2, 3] rfl rfl rfl (fun r_8 u_8 H locs hw_8 hP hD hS _ => ?_)
              obtain ⟨rfl, rfl⟩ := hw_8
              have hP : WP Γ [[(a, .inr (8, [.ref o, .int (nI (nP L ((nP L ((wE L i) + 1)).2 + 1)).2)]))], [(o2_1, .inr (14, [.ref y2_1.1, .int 0, .int h2_4, .int z2_4]))], [(y2_1.1, .inl (Γ.2.1 1, (slL L i (wE L i)).length, .inl y2_1.2))], [(a_7, .inr (10, [.null, .int 0, .int 0]))]] H := hP
              have hD : WD A [[(a, .inr (8, [.ref o, .int (nI (nP L ((nP L ((wE L i) + 1)).2 + 1)).2)]))], [(o2_1, .inr (14, [.ref y2_1.1, .int 0, .int h2_4, .int z2_4]))], [(y2_1.1, .inl (Γ.2.1 1, (slL L i (wE L i)).length, .inl y2_1.2))], [(a_7, .inr (10, [.null, .int 0, .int 0]))]] := hD
              refine b_callv (br := [[(a, .inr (8, [.ref o, .int (nI (nP L ((nP L ((wE L i) + 1)).2 + 1)).2)]))], [(o2_1, .inr (14, [.ref y2_1.1, .int 0, .int h2_4, .int z2_4]))], [(y2_1.1, .inl (Γ.2.1 1, (slL L i (wE L i)).length, .inl y2_1.2))]]) (b_runI ⟨hx, hb, hml, hown, hts⟩ (mt_Cm_init l Γ _ a_7 o2_1 (nP L ((wE L i) + 1)).1 (nP L ((nP L ((wE L i) + 1)).2 + 1)).1) (lw_meth q1681) q101 q1679 q1680 rfl rfl rfl 3 (by decide +kernel) ⟨(Nat.le_of_ble_eq_true rfl), (Nat.le_of_ble_eq_true rfl)⟩ (c_pre hP hD hS hA hK hE [3] rfl rfl ro_nil) rfl hl.1 rfl (Nat.le_of_ble_eq_true rfl) dX10_command_51 ⟨(by first | omega | (dsimp only; omega)), (by first | omega | (dsimp only; omega))⟩) hP hD hS hA [3] [0, 1, 2] rfl rfl rfl (fun u_9 H locs hw_9 hP hD hS _ => ?_)
              obtain rfl := hw_9
              have hP : WP Γ [[(a_7, .inr (10, [.ref o2_1, .int (nP L ((wE L i) + 1)).1, .int (nP L ((nP L ((wE L i) + 1)).2 + 1)).1]))], [(a, .inr (8, [.ref o, .int (nI (nP L ((nP L ((wE L i) + 1)).2 + 1)).2)]))], [(o2_1, .inr (14, [.ref y2_1.1, .int 0, .int h2_4, .int z2_4]))], [(y2_1.1, .inl (Γ.2.1 1, (slL L i (wE L i)).length, .inl y2_1.2))]] H := hP
              have hD : WD A [[(a_7, .inr (10, [.ref o2_1, .int (nP L ((wE L i) + 1)).1, .int (nP L ((nP L ((wE L i) + 1)).2 + 1)).1]))], [(a, .inr (8, [.ref o, .int (nI (nP L ((nP L ((wE L i) + 1)).2 + 1)).2)]))], [(o2_1, .inr (14, [.ref y2_1.1, .int 0, .int h2_4, .int z2_4]))], [(y2_1.1, .inl (Γ.2.1 1, (slL L i (wE L i)).length, .inl y2_1.2))]] := hD
              have hP : WP Γ [[(a, .inr (8, [.ref o, .int (nI (nP L ((nP L ((wE L i) + 1)).2 + 1)).2)]))], [(a_7, .inr (10, [.ref o2_1, .int (nP L ((wE L i) + 1)).1, .int (nP L ((nP L ((wE L i) + 1)).2 + 1)).1]))], [(o2_1, .inr (14, [.ref y2_1.1, .int 0, .int h2_4, .int z2_4]))], [(y2_1.1, .inl (Γ.2.1 1, (slL L i (wE L i)).length, .inl y2_1.2))]] H := bP_sel hP [1, 0, 2, 3] rfl
              have hD : WD A [[(a, .inr (8, [.ref o, .int (nI (nP L ((nP L ((wE L i) + 1)).2 + 1)).2)]))], [(a_7, .inr (10, [.ref o2_1, .int (nP L ((wE L i) + 1)).1, .int (nP L ((nP L ((wE L i) + 1)).2 + 1)).1]))], [(o2_1, .inr (14, [.ref y2_1.1, .int 0, .int h2_4, .int z2_4]))], [(y2_1.1, .inl (Γ.2.1 1, (slL L i (wE L i)).length, .inl y2_1.2))]] := bD_sel hD [1, 0, 2, 3] rfl rfl
              exact b_aret hx hb hr (by first | exact Or.inl ⟨_, rfl⟩ | exact Or.inr ⟨_, rfl⟩) hlocks hP hD hS (by first | omega | (dsimp only; omega)) (by first | omega | (dsimp only; omega)) ⟨a_7, o2_1, y2_1, h2_4, z2_4, hs_1, hh2_4, rfl, (by simp [cmdS, cmdS1, cmdS2, cmdV, cmdX, b9_w, b9_s, b9_d, b9_1, b9_t, b9_e])⟩ dX10_command_54
            ·
              have b9_e := Classical.not_not.mp b9_e
              exact absurd hcs9 (by simp [cmdS, cmdS1, cmdS2, b9_w, b9_s, b9_d, b9_1, b9_t, b9_e])
          ·
            exact absurd hcs9 (by simp [cmdS, cmdS1, cmdS2, b9_w, b9_s, b9_d, b9_1, b9_t])
        · -- 21 not taken
          have b9_1 : nmW (slL L i (wE L i)) = 1 := c_5
          refine b_new (ci := 10) (fs := [.null, .int 0, .int 0]) (C := RX12) (T := TX12) (N := 3) hx hb hts in_X12 tyX12_ok hown q1677 q1678 q101 hK hP hD hS hA rfl (fun j hj => by rcases (show j = 0 ∨ j = 1 ∨ j = 2 by omega) with rfl | rfl | rfl <;> rfl) (by first | omega | (dsimp only; omega)) (by first | omega | (dsimp only; omega)) dX10_command_24 (fun a_10 H hP hD hS => ?_)
          have hP : WP Γ [[(o2_1, .inr (14, [.ref y2_1.1, .int 0, .int h2_4, .int z2_4]))], [(y2_1.1, .inl (Γ.2.1 1, (slL L i (wE L i)).length, .inl y2_1.2))], [(a, .inr (8, [.ref o, .int (nI (nP L ((wE L i) + 1)).2)]))], [(a_10, .inr (10, [.null, .int 0, .int 0]))]] H := hP
          have hD : WD A [[(o2_1, .inr (14, [.ref y2_1.1, .int 0, .int h2_4, .int z2_4]))], [(y2_1.1, .inl (Γ.2.1 1, (slL L i (wE L i)).length, .inl y2_1.2))], [(a, .inr (8, [.ref o, .int (nI (nP L ((wE L i) + 1)).2)]))], [(a_10, .inr (10, [.null, .int 0, .int 0]))]] := hD
          refine lv_dup hx hb dX10_command_27 rfl ?_
          refine lv_aload_n hx hb dX10_command_28 rfl (lv_at hl 1 rfl) ?_
          refine lv_iload_n hx hb dX10_command_29 rfl (lv_at hl 0 rfl) ?_
          refine lv_iconst (v := 0) hx hb dX10_command_30 (by decide) ?_
          refine b_callv (br := [[(o2_1, .inr (14, [.ref y2_1.1, .int 0, .int h2_4, .int z2_4]))], [(y2_1.1, .inl (Γ.2.1 1, (slL L i (wE L i)).length, .inl y2_1.2))], [(a, .inr (8, [.ref o, .int (nI (nP L ((wE L i) + 1)).2)]))]]) (b_runI ⟨hx, hb, hml, hown, hts⟩ (mt_Cm_init l Γ _ a_10 o2_1 (nP L ((wE L i) + 1)).1 0) (lw_meth q1681) q101 q1679 q1680 rfl rfl rfl 3 (by decide +kernel) ⟨(Nat.le_of_ble_eq_true rfl), (Nat.le_of_ble_eq_true rfl)⟩ (c_pre hP hD hS hA hK hE [3] rfl rfl ro_nil) rfl hl.1 rfl (Nat.le_of_ble_eq_true rfl) dX10_command_31 ⟨(by first | omega | (dsimp only; omega)), (by first | omega | (dsimp only; omega))⟩) hP hD hS hA [3] [0, 1, 2] rfl rfl rfl (fun u_11 H locs hw_11 hP hD hS _ => ?_)
          obtain rfl := hw_11
          have hP : WP Γ [[(a_10, .inr (10, [.ref o2_1, .int (nP L ((wE L i) + 1)).1, .int 0]))], [(o2_1, .inr (14, [.ref y2_1.1, .int 0, .int h2_4, .int z2_4]))], [(y2_1.1, .inl (Γ.2.1 1, (slL L i (wE L i)).length, .inl y2_1.2))], [(a, .inr (8, [.ref o, .int (nI (nP L ((wE L i) + 1)).2)]))]] H := hP
          have hD : WD A [[(a_10, .inr (10, [.ref o2_1, .int (nP L ((wE L i) + 1)).1, .int 0]))], [(o2_1, .inr (14, [.ref y2_1.1, .int 0, .int h2_4, .int z2_4]))], [(y2_1.1, .inl (Γ.2.1 1, (slL L i (wE L i)).length, .inl y2_1.2))], [(a, .inr (8, [.ref o, .int (nI (nP L ((wE L i) + 1)).2)]))]] := hD
          have hP : WP Γ [[(a, .inr (8, [.ref o, .int (nI (nP L ((wE L i) + 1)).2)]))], [(a_10, .inr (10, [.ref o2_1, .int (nP L ((wE L i) + 1)).1, .int 0]))], [(o2_1, .inr (14, [.ref y2_1.1, .int 0, .int h2_4, .int z2_4]))], [(y2_1.1, .inl (Γ.2.1 1, (slL L i (wE L i)).length, .inl y2_1.2))]] H := bP_sel hP [3, 0, 1, 2] rfl
          have hD : WD A [[(a, .inr (8, [.ref o, .int (nI (nP L ((wE L i) + 1)).2)]))], [(a_10, .inr (10, [.ref o2_1, .int (nP L ((wE L i) + 1)).1, .int 0]))], [(o2_1, .inr (14, [.ref y2_1.1, .int 0, .int h2_4, .int z2_4]))], [(y2_1.1, .inl (Γ.2.1 1, (slL L i (wE L i)).length, .inl y2_1.2))]] := bD_sel hD [3, 0, 1, 2] rfl rfl
          exact b_aret hx hb hr (by first | exact Or.inl ⟨_, rfl⟩ | exact Or.inr ⟨_, rfl⟩) hlocks hP hD hS (by first | omega | (dsimp only; omega)) (by first | omega | (dsimp only; omega)) ⟨a_10, o2_1, y2_1, h2_4, z2_4, hs_1, hh2_4, rfl, (by simp [cmdS, cmdS1, cmdS2, cmdV, cmdX, b9_w, b9_s, b9_d, b9_1])⟩ dX10_command_34
      ·
        have b9_d := Classical.not_not.mp b9_d
        exact absurd hcs9 (by simp [cmdS, cmdS1, cmdS2, b9_w, b9_s, b9_d])
    ·
      exact absurd hcs9 (by simp [cmdS, cmdS1, cmdS2, b9_w, b9_s])
  ·
    have b9_w := Classical.not_not.mp b9_w
    exact absurd hcs9 (by simp [cmdS, cmdS1, cmdS2, b9_w])
set_option maxHeartbeats 4000000 in
set_option maxRecDepth 100000 in
theorem mt_Rd_command_x_1 (l : Launch) (Γ : GE) (sz : Nat) (a : Nat) (o : Nat) (y : SST) (L : List Int32) (z1 : Int32) (z2 : Int32) (i : Nat) (hnt : l.stackTraces = false) (hst : stU y L) (hiL : i ≤ L.length) (hL5 : L.length ≤ 50) (hcs9 : (cmdS L i).1 = 0) : KMX l yX10_command cX10_command 3 (some (FieldType.object "DairyBook$Command")) Γ 8 194 (wE L i - i + 12) (512 * (wE L i - i) + 1110) [.ref a] [[(a, .inr (8, [.ref o, .int (nI i)]))]] [[(o, .inr (14, [.ref y.1, .int 1, .int z1, .int z2]))], [(y.1, .inl (Γ.2.1 1, 2 * L.length, .inl y.2))]] sz "DairyBook$Fault" (fun q_ u_ => u_ = [[(q_, .inr (9, [.int (nI (cmdS L i).2)]))]]) := by
  refine K_introX (by decide) (Nat.le_of_ble_eq_true rfl) ?_
  intro pr_ ev_ s mi_ below meth cd_ A ls hx hb hr hml hown hts hlocks hname hK hE hRo hP hD hA hS hsz hl ht9
  have hl : lv_has ls 3 [(0, .ref a)] := hl
  have hown : s.vm.findClass RX10 = some mi_.cls := hown
  have hll := hst.1
  refine lv_aload_n hx hb dX10_command_0 rfl (lv_at hl 0 rfl) ?_
  by_cases b9_w : ¬ nmW (slL L i (wE L i)) = 0
  ·
    refine b_callq (br := []) (b_runV ⟨hx, hb, hml, hown, hts⟩ (mt_Rd_word_ok_1 l Γ _ a o y L z1 z2 i (by assumption) (by first | exact hiL | omega) (by first | exact hL5 | omega) (by omega)) (lw_V q1557 q1559 qs26 q99 q1560) rfl rfl 0 (by decide +kernel) ⟨(Nat.le_of_ble_eq_true rfl), (Nat.le_of_ble_eq_true rfl)⟩ (c_pre hP hD hS hA hK hE [0] rfl rfl (ro_app (ro_pass (ro_sel (ro2 := [[(o, .inr (14, [.ref y.1, .int 1, .int z1, .int z2]))]]) hRo [0] rfl) hD hS hA [0] rfl) (ro_pass (ro_sel (ro2 := [[(y.1, .inl (Γ.2.1 1, 2 * L.length, .inl y.2))]]) hRo [1] rfl) hD hS hA [0] rfl))) (recv_at (q := (RX10, TX10, 2)) hK (b_at (k := 0) hP rfl) rfl) rfl hl.1 rfl (Nat.le_of_ble_eq_true rfl) dX10_command_1 ⟨(by first | omega | (dsimp only; omega)), (by first | omega | (dsimp only; omega))⟩) hP hD hS hA [0] [] rfl rfl rfl (fun r_1 u_1 H locs hw_1 hP hD hS _ => ?_)
    obtain ⟨o2_1, y2_1, h2_1, z2__1, hs_1, hh_1, rfl, rfl⟩ := hw_1
    have hP : WP Γ [[(a, .inr (8, [.ref o, .int (nI (wE L i))]))], [(o2_1, .inr (14, [.ref y2_1.1, .int 0, .int h2_1, .int z2__1]))], [(y2_1.1, .inl (Γ.2.1 1, (slL L i (wE L i)).length, .inl y2_1.2))]] H := hP
    have hD : WD A [[(a, .inr (8, [.ref o, .int (nI (wE L i))]))], [(o2_1, .inr (14, [.ref y2_1.1, .int 0, .int h2_1, .int z2__1]))], [(y2_1.1, .inl (Γ.2.1 1, (slL L i (wE L i)).length, .inl y2_1.2))]] := hD
    refine W.eq (g2 := F0 mi_ 4 ls ([.ref o2_1])) rfl ?_
    have hwi := wE_in hiL
    refine lv_astore_n (lv' := [(1, .ref o2_1), (0, .ref a)]) hx hb dX10_command_4 rfl hl (by decide) rfl (fun ls hl => ?_)
    refine lv_aload_n hx hb dX10_command_5 rfl (lv_at hl 1 rfl) ?_
    refine lv_bipush (v := 32) hx hb dX10_command_6 (by decide) ?_
    by_cases b9_s : rdH L (wE L i) = 32
    ·
      refine b_callv (br := [[(o2_1, .inr (14, [.ref y2_1.1, .int 0, .int h2_1, .int z2__1]))], [(y2_1.1, .inl (Γ.2.1 1, (slL L i (wE L i)).length, .inl y2_1.2))]]) (b_runV ⟨hx, hb, hml, hown, hts⟩ (mt_Rd_must_ok_1 l Γ _ a o y L z1 z2 (wE L i) 32 (by assumption) (by omega) (by omega)) (lw_V q1665 q1667 qs28 q99 q1668) rfl rfl 1 (by decide +kernel) ⟨(Nat.le_of_ble_eq_true rfl), (Nat.le_of_ble_eq_true rfl)⟩ (c_pre hP hD hS hA hK hE [0] rfl rfl (ro_app (ro_pass (ro_sel (ro2 := [[(o, .inr (14, [.ref y.1, .int 1, .int z1, .int z2]))]]) hRo [0] rfl) hD hS hA [0] rfl) (ro_pass (ro_sel (ro2 := [[(y.1, .inl (Γ.2.1 1, 2 * L.length, .inl y.2))]]) hRo [1] rfl) hD hS hA [0] rfl))) (recv_at (q := (RX10, TX10, 2)) hK (b_at (k := 0) hP rfl) rfl) rfl hl.1 rfl (Nat.le_of_ble_eq_true rfl) dX10_command_8 ⟨(by first | omega | (dsimp only; omega)), (by first | omega | (dsimp only; omega))⟩) hP hD hS hA [0] [1, 2] rfl rfl rfl (fun u_2 H locs hw_2 hP hD hS _ => ?_)
      obtain rfl := hw_2
      have hP : WP Γ [[(a, .inr (8, [.ref o, .int (nI ((wE L i) + 1))]))], [(o2_1, .inr (14, [.ref y2_1.1, .int 0, .int h2_1, .int z2__1]))], [(y2_1.1, .inl (Γ.2.1 1, (slL L i (wE L i)).length, .inl y2_1.2))]] H := hP
      have hD : WD A [[(a, .inr (8, [.ref o, .int (nI ((wE L i) + 1))]))], [(o2_1, .inr (14, [.ref y2_1.1, .int 0, .int h2_1, .int z2__1]))], [(y2_1.1, .inl (Γ.2.1 1, (slL L i (wE L i)).length, .inl y2_1.2))]] := hD
      have hwl := rdH_lt (by decide) b9_s
      refine lv_aload_n hx hb dX10_command_11 rfl (lv_at hl 1 rfl) ?_
      by_cases b9_d : ¬ inC (rdH L (wE L i + 1)) 48 57 = 0
      ·
        refine b_calli (br := [[(o2_1, .inr (14, [.ref y2_1.1, .int 0, .int h2_1, .int z2__1]))], [(y2_1.1, .inl (Γ.2.1 1, (slL L i (wE L i)).length, .inl y2_1.2))]]) (b_runV ⟨hx, hb, hml, hown, hts⟩ (mt_Rd_number_ok_1 l Γ _ a o y L z1 z2 ((wE L i) + 1) (by assumption) (by omega) (by omega)) (lw_V q1673 q1675 qs30 q99 q1676) rfl rfl 0 (by decide +kernel) ⟨(Nat.le_of_ble_eq_true rfl), (Nat.le_of_ble_eq_true rfl)⟩ (c_pre hP hD hS hA hK hE [0] rfl rfl (ro_app (ro_pass (ro_sel (ro2 := [[(o, .inr (14, [.ref y.1, .int 1, .int z1, .int z2]))]]) hRo [0] rfl) hD hS hA [0] rfl) (ro_pass (ro_sel (ro2 := [[(y.1, .inl (Γ.2.1 1, 2 * L.length, .inl y.2))]]) hRo [1] rfl) hD hS hA [0] rfl))) (recv_at (q := (RX10, TX10, 2)) hK (b_at (k := 0) hP rfl) rfl) rfl hl.1 rfl (Nat.le_of_ble_eq_true rfl) dX10_command_12 ⟨(by first | omega | (dsimp only; omega)), (by first | omega | (dsimp only; omega))⟩) hP hD hS hA [0] [1, 2] rfl rfl rfl (fun r_3 u_3 H locs hw_3 hP hD hS _ => ?_)
        obtain ⟨rfl, rfl⟩ := hw_3
        have hP : WP Γ [[(a, .inr (8, [.ref o, .int (nI (nP L ((wE L i) + 1)).2)]))], [(o2_1, .inr (14, [.ref y2_1.1, .int 0, .int h2_1, .int z2__1]))], [(y2_1.1, .inl (Γ.2.1 1, (slL L i (wE L i)).length, .inl y2_1.2))]] H := hP
        have hD : WD A [[(a, .inr (8, [.ref o, .int (nI (nP L ((wE L i) + 1)).2)]))], [(o2_1, .inr (14, [.ref y2_1.1, .int 0, .int h2_1, .int z2__1]))], [(y2_1.1, .inl (Γ.2.1 1, (slL L i (wE L i)).length, .inl y2_1.2))]] := hD
        have hnp := nP_in b9_d
        refine lv_istore_n (lv' := [(2, .int (nP L ((wE L i) + 1)).1), (1, .ref o2_1), (0, .ref a)]) hx hb dX10_command_15 rfl hl (by decide) rfl (fun ls hl => ?_)
        refine lv_aload_n hx hb dX10_command_16 rfl (lv_at hl 1 rfl) ?_
        refine b_calli (br := [[(a, .inr (8, [.ref o, .int (nI (nP L ((wE L i) + 1)).2)]))]]) (b_runS ⟨hx, hb, hml, hown, hts⟩ (mt_Rd_nof l Γ _ o2_1 y2_1 (slL L i (wE L i)) h2_1 z2__1 hs_1 hh_1) (lw_S q1572 q1573 q99 q1574) rfl rfl 1 (by decide +kernel) ⟨(Nat.le_of_ble_eq_true rfl), (Nat.le_of_ble_eq_true rfl)⟩ (c_pre hP hD hS hA hK hE [1, 2] rfl rfl ro_nil) rfl hl.1 rfl (Nat.le_of_ble_eq_true rfl) dX10_command_17 ⟨(by first | omega | (dsimp only; omega)), (by first | omega | (dsimp only; omega))⟩) hP hD hS hA [1, 2] [0] rfl rfl rfl (fun r_4 u_4 H locs hw_4 hP hD hS _ => ?_)
        obtain ⟨h2_4, z2_4, hh2_4, rfl, rfl⟩ := hw_4
        have hP : WP Γ [[(o2_1, .inr (14, [.ref y2_1.1, .int 0, .int h2_4, .int z2_4]))], [(y2_1.1, .inl (Γ.2.1 1, (slL L i (wE L i)).length, .inl y2_1.2))], [(a, .inr (8, [.ref o, .int (nI (nP L ((wE L i) + 1)).2)]))]] H := hP
        have hD : WD A [[(o2_1, .inr (14, [.ref y2_1.1, .int 0, .int h2_4, .int z2_4]))], [(y2_1.1, .inl (Γ.2.1 1, (slL L i (wE L i)).length, .inl y2_1.2))], [(a, .inr (8, [.ref o, .int (nI (nP L ((wE L i) + 1)).2)]))]] := hD
        refine lv_iconst (v := 1) hx hb dX10_command_20 (by decide) ?_
        refine lv_icmp_ne (tgt := 35) hx hb dX10_command_21 (by decide) (fun c_5 => ?_) (fun c_5 => ?_)
        · -- 21 taken
          have b9_1 : ¬ nmW (slL L i (wE L i)) = 1 := c_5
          refine lv_aload_n hx hb dX10_command_35 rfl (lv_at hl 2 rfl) ?_
          refine lv_bipush (v := 32) hx hb dX10_command_36 (by decide) ?_
          by_cases b9_t : rdH L (nP L (wE L i + 1)).2 = 32
          ·
            refine b_callv (br := [[(o2_1, .inr (14, [.ref y2_1.1, .int 0, .int h2_4, .int z2_4]))], [(y2_1.1, .inl (Γ.2.1 1, (slL L i (wE L i)).length, .inl y2_1.2))]]) (b_runV ⟨hx, hb, hml, hown, hts⟩ (mt_Rd_must_ok_1 l Γ _ a o y L z1 z2 (nP L ((wE L i) + 1)).2 32 (by assumption) (by omega) (by omega)) (lw_V q1665 q1667 qs28 q99 q1668) rfl rfl 1 (by decide +kernel) ⟨(Nat.le_of_ble_eq_true rfl), (Nat.le_of_ble_eq_true rfl)⟩ (c_pre hP hD hS hA hK hE [2] rfl rfl (ro_app (ro_pass (ro_sel (ro2 := [[(o, .inr (14, [.ref y.1, .int 1, .int z1, .int z2]))]]) hRo [0] rfl) hD hS hA [2] rfl) (ro_pass (ro_sel (ro2 := [[(y.1, .inl (Γ.2.1 1, 2 * L.length, .inl y.2))]]) hRo [1] rfl) hD hS hA [2] rfl))) (recv_at (q := (RX10, TX10, 2)) hK (b_at (k := 2) hP rfl) rfl) rfl hl.1 rfl (Nat.le_of_ble_eq_true rfl) dX10_command_38 ⟨(by first | omega | (dsimp only; omega)), (by first | omega | (dsimp only; omega))⟩) hP hD hS hA [2] [0, 1] rfl rfl rfl (fun u_6 H locs hw_6 hP hD hS _ => ?_)
            obtain rfl := hw_6
            have hP : WP Γ [[(a, .inr (8, [.ref o, .int (nI ((nP L ((wE L i) + 1)).2 + 1))]))], [(o2_1, .inr (14, [.ref y2_1.1, .int 0, .int h2_4, .int z2_4]))], [(y2_1.1, .inl (Γ.2.1 1, (slL L i (wE L i)).length, .inl y2_1.2))]] H := hP
            have hD : WD A [[(a, .inr (8, [.ref o, .int (nI ((nP L ((wE L i) + 1)).2 + 1))]))], [(o2_1, .inr (14, [.ref y2_1.1, .int 0, .int h2_4, .int z2_4]))], [(y2_1.1, .inl (Γ.2.1 1, (slL L i (wE L i)).length, .inl y2_1.2))]] := hD
            have hwl2 := rdH_lt (by decide) b9_t
            refine b_new (ci := 10) (fs := [.null, .int 0, .int 0]) (C := RX12) (T := TX12) (N := 3) hx hb hts in_X12 tyX12_ok hown q1677 q1678 q101 hK hP hD hS hA rfl (fun j hj => by rcases (show j = 0 ∨ j = 1 ∨ j = 2 by omega) with rfl | rfl | rfl <;> rfl) (by first | omega | (dsimp only; omega)) (by first | omega | (dsimp only; omega)) dX10_command_41 (fun a_7 H hP hD hS => ?_)
            have hP : WP Γ [[(a, .inr (8, [.ref o, .int (nI ((nP L ((wE L i) + 1)).2 + 1))]))], [(o2_1, .inr (14, [.ref y2_1.1, .int 0, .int h2_4, .int z2_4]))], [(y2_1.1, .inl (Γ.2.1 1, (slL L i (wE L i)).length, .inl y2_1.2))], [(a_7, .inr (10, [.null, .int 0, .int 0]))]] H := hP
            have hD : WD A [[(a, .inr (8, [.ref o, .int (nI ((nP L ((wE L i) + 1)).2 + 1))]))], [(o2_1, .inr (14, [.ref y2_1.1, .int 0, .int h2_4, .int z2_4]))], [(y2_1.1, .inl (Γ.2.1 1, (slL L i (wE L i)).length, .inl y2_1.2))], [(a_7, .inr (10, [.null, .int 0, .int 0]))]] := hD
            refine lv_dup hx hb dX10_command_44 rfl ?_
            refine lv_aload_n hx hb dX10_command_45 rfl (lv_at hl 1 rfl) ?_
            refine lv_iload_n hx hb dX10_command_46 rfl (lv_at hl 0 rfl) ?_
            refine lv_aload_n hx hb dX10_command_47 rfl (lv_at hl 2 rfl) ?_
            by_cases b9_e : ¬ inC (rdH L ((nP L (wE L i + 1)).2 + 1)) 48 57 = 0
            ·
              refine b_calli (br := [[(o2_1, .inr (14, [.ref y2_1.1, .int 0, .int h2_4, .int z2_4]))], [(y2_1.1, .inl (Γ.2.1 1, (slL L i (wE L i)).length, .inl y2_1.2))], [(a_7, .inr (10, [.null, .int 0, .int 0]))]]) (b_runV ⟨hx, hb, hml, hown, hts⟩ (mt_Rd_number_ok_1 l Γ _ a o y L z1 z2 ((nP L ((wE L i) + 1)).2 + 1) (by assumption) (by omega) (by omega)) (lw_V q1673 q1675 qs30 q99 q1676) rfl rfl 0 (by decide +kernel) ⟨(Nat.le_of_ble_eq_true rfl), (Nat.le_of_ble_eq_true rfl)⟩ (c_pre hP hD hS hA hK hE [0] rfl rfl (ro_app (ro_pass (ro_sel (ro2 := [[(o, .inr (14, [.ref y.1, .int 1, .int z1, .int z2]))]]) hRo [0] rfl) hD hS hA [0] rfl) (ro_pass (ro_sel (ro2 := [[(y.1, .inl (Γ.2.1 1, 2 * L.length, .inl y.2))]]) hRo [1] rfl) hD hS hA [0] rfl))) (recv_at (q := (RX10, TX10, 2)) hK (b_at (k := 0) hP rfl) rfl) rfl hl.1 rfl (Nat.le_of_ble_eq_true rfl) dX10_command_48 ⟨(by first | omega | (dsimp only; omega)), (by first | omega | (dsimp only; omega))⟩) hP hD hS hA [0] [1, 2, 3] rfl rfl rfl (fun r_8 u_8 H locs hw_8 hP hD hS _ => ?_)
              obtain ⟨rfl, rfl⟩ := hw_8
              have hP : WP Γ [[(a, .inr (8, [.ref o, .int (nI (nP L ((nP L ((wE L i) + 1)).2 + 1)).2)]))], [(o2_1, .inr (14, [.ref y2_1.1, .int 0, .int h2_4, .int z2_4]))], [(y2_1.1, .inl (Γ.2.1 1, (slL L i (wE L i)).length, .inl y2_1.2))], [(a_7, .inr (10, [.null, .int 0, .int 0]))]] H := hP
              have hD : WD A [[(a, .inr (8, [.ref o, .int (nI (nP L ((nP L ((wE L i) + 1)).2 + 1)).2)]))], [(o2_1, .inr (14, [.ref y2_1.1, .int 0, .int h2_4, .int z2_4]))], [(y2_1.1, .inl (Γ.2.1 1, (slL L i (wE L i)).length, .inl y2_1.2))], [(a_7, .inr (10, [.null, .int 0, .int 0]))]] := hD
              refine b_callv (br := [[(a, .inr (8, [.ref o, .int (nI (nP L ((nP L ((wE L i) + 1)).2 + 1)).2)]))], [(o2_1, .inr (14, [.ref y2_1.1, .int 0, .int h2_4, .int z2_4]))], [(y2_1.1, .inl (Γ.2.1 1, (slL L i (wE L i)).length, .inl y2_1.2))]]) (b_runI ⟨hx, hb, hml, hown, hts⟩ (mt_Cm_init l Γ _ a_7 o2_1 (nP L ((wE L i) + 1)).1 (nP L ((nP L ((wE L i) + 1)).2 + 1)).1) (lw_meth q1681) q101 q1679 q1680 rfl rfl rfl 3 (by decide +kernel) ⟨(Nat.le_of_ble_eq_true rfl), (Nat.le_of_ble_eq_true rfl)⟩ (c_pre hP hD hS hA hK hE [3] rfl rfl ro_nil) rfl hl.1 rfl (Nat.le_of_ble_eq_true rfl) dX10_command_51 ⟨(by first | omega | (dsimp only; omega)), (by first | omega | (dsimp only; omega))⟩) hP hD hS hA [3] [0, 1, 2] rfl rfl rfl (fun u_9 H locs hw_9 hP hD hS _ => ?_)
              obtain rfl := hw_9
              have hP : WP Γ [[(a_7, .inr (10, [.ref o2_1, .int (nP L ((wE L i) + 1)).1, .int (nP L ((nP L ((wE L i) + 1)).2 + 1)).1]))], [(a, .inr (8, [.ref o, .int (nI (nP L ((nP L ((wE L i) + 1)).2 + 1)).2)]))], [(o2_1, .inr (14, [.ref y2_1.1, .int 0, .int h2_4, .int z2_4]))], [(y2_1.1, .inl (Γ.2.1 1, (slL L i (wE L i)).length, .inl y2_1.2))]] H := hP
              have hD : WD A [[(a_7, .inr (10, [.ref o2_1, .int (nP L ((wE L i) + 1)).1, .int (nP L ((nP L ((wE L i) + 1)).2 + 1)).1]))], [(a, .inr (8, [.ref o, .int (nI (nP L ((nP L ((wE L i) + 1)).2 + 1)).2)]))], [(o2_1, .inr (14, [.ref y2_1.1, .int 0, .int h2_4, .int z2_4]))], [(y2_1.1, .inl (Γ.2.1 1, (slL L i (wE L i)).length, .inl y2_1.2))]] := hD
              exact absurd hcs9 (by simp [cmdS, cmdS1, cmdS2, b9_w, b9_s, b9_d, b9_1, b9_t, b9_e])
            ·
              have b9_e := Classical.not_not.mp b9_e
              refine b_callx (br := [[(o2_1, .inr (14, [.ref y2_1.1, .int 0, .int h2_4, .int z2_4]))], [(y2_1.1, .inl (Γ.2.1 1, (slL L i (wE L i)).length, .inl y2_1.2))], [(a_7, .inr (10, [.null, .int 0, .int 0]))]]) (b_runVx ⟨hx, hb, hml, hown, hts⟩ (mt_Rd_number_x_1 l Γ _ a o y L z1 z2 ((nP L ((wE L i) + 1)).2 + 1) hnt (by assumption) (by omega) b9_e) (lw_V q1673 q1675 qs30 q99 q1676) rfl rfl 0 (by decide +kernel) ⟨(Nat.le_of_ble_eq_true rfl), (Nat.le_of_ble_eq_true rfl)⟩ (c_pre hP hD hS hA hK hE [0] rfl rfl (ro_app (ro_pass (ro_sel (ro2 := [[(o, .inr (14, [.ref y.1, .int 1, .int z1, .int z2]))]]) hRo [0] rfl) hD hS hA [0] rfl) (ro_pass (ro_sel (ro2 := [[(y.1, .inl (Γ.2.1 1, 2 * L.length, .inl y.2))]]) hRo [1] rfl) hD hS hA [0] rfl))) (recv_at (q := (RX10, TX10, 2)) hK (b_at (k := 0) hP rfl) rfl) rfl hl.1 rfl (Nat.le_of_ble_eq_true rfl) dX10_command_48 ⟨(by first | omega | (dsimp only; omega)), (by first | omega | (dsimp only; omega))⟩) hP hD hS hA [0] [1, 2, 3] rfl rfl rfl (fun q_10 ce_10 u_10 H locs hw_10 hP hD hS _ hce_10 hcv_10 hcl_10 => ?_)
              obtain rfl := hw_10
              have hP : WP Γ [[(q_10, .inr (9, [.int (nI ((nP L ((wE L i) + 1)).2 + 1))]))], [(o2_1, .inr (14, [.ref y2_1.1, .int 0, .int h2_4, .int z2_4]))], [(y2_1.1, .inl (Γ.2.1 1, (slL L i (wE L i)).length, .inl y2_1.2))], [(a_7, .inr (10, [.null, .int 0, .int 0]))]] H := hP
              have hD : WD A [[(q_10, .inr (9, [.int (nI ((nP L ((wE L i) + 1)).2 + 1))]))], [(o2_1, .inr (14, [.ref y2_1.1, .int 0, .int h2_4, .int z2_4]))], [(y2_1.1, .inl (Γ.2.1 1, (slL L i (wE L i)).length, .inl y2_1.2))], [(a_7, .inr (10, [.null, .int 0, .int 0]))]] := hD
              have hP : WP Γ [[(q_10, .inr (9, [.int (nI ((nP L ((wE L i) + 1)).2 + 1))]))]] H := bP_sel hP [0] rfl
              have hD : WD A [[(q_10, .inr (9, [.int (nI ((nP L ((wE L i) + 1)).2 + 1))]))]] := bD_sel hD [0] rfl rfl
              exact b_outx hlocks (fun x hx9 => (ht9 x hx9).elim) hP hD hS hce_10 hcv_10 hcl_10 (by first | with_reducible rfl | (simp [cmdS, cmdS1, cmdS2, b9_w, b9_s, b9_d, c_5, b9_1, b9_t, b9_e]; done) | rfl) (by first | omega | (dsimp only; omega)) (by first | omega | (dsimp only; omega))
          ·
            refine b_callx (br := [[(o2_1, .inr (14, [.ref y2_1.1, .int 0, .int h2_4, .int z2_4]))], [(y2_1.1, .inl (Γ.2.1 1, (slL L i (wE L i)).length, .inl y2_1.2))]]) (b_runVx ⟨hx, hb, hml, hown, hts⟩ (mt_Rd_must_x_1 l Γ _ a o y L z1 z2 (nP L ((wE L i) + 1)).2 32 hnt (by assumption) (by omega) (by omega)) (lw_V q1665 q1667 qs28 q99 q1668) rfl rfl 1 (by decide +kernel) ⟨(Nat.le_of_ble_eq_true rfl), (Nat.le_of_ble_eq_true rfl)⟩ (c_pre hP hD hS hA hK hE [2] rfl rfl (ro_app (ro_pass (ro_sel (ro2 := [[(o, .inr (14, [.ref y.1, .int 1, .int z1, .int z2]))]]) hRo [0] rfl) hD hS hA [2] rfl) (ro_pass (ro_sel (ro2 := [[(y.1, .inl (Γ.2.1 1, 2 * L.length, .inl y.2))]]) hRo [1] rfl) hD hS hA [2] rfl))) (recv_at (q := (RX10, TX10, 2)) hK (b_at (k := 2) hP rfl) rfl) rfl hl.1 rfl (Nat.le_of_ble_eq_true rfl) dX10_command_38 ⟨(by first | omega | (dsimp only; omega)), (by first | omega | (dsimp only; omega))⟩) hP hD hS hA [2] [0, 1] rfl rfl rfl (fun q_11 ce_11 u_11 H locs hw_11 hP hD hS _ hce_11 hcv_11 hcl_11 => ?_)
            obtain rfl := hw_11
            have hP : WP Γ [[(q_11, .inr (9, [.int (nI (nP L ((wE L i) + 1)).2)]))], [(o2_1, .inr (14, [.ref y2_1.1, .int 0, .int h2_4, .int z2_4]))], [(y2_1.1, .inl (Γ.2.1 1, (slL L i (wE L i)).length, .inl y2_1.2))]] H := hP
            have hD : WD A [[(q_11, .inr (9, [.int (nI (nP L ((wE L i) + 1)).2)]))], [(o2_1, .inr (14, [.ref y2_1.1, .int 0, .int h2_4, .int z2_4]))], [(y2_1.1, .inl (Γ.2.1 1, (slL L i (wE L i)).length, .inl y2_1.2))]] := hD
            have hP : WP Γ [[(q_11, .inr (9, [.int (nI (nP L ((wE L i) + 1)).2)]))]] H := bP_sel hP [0] rfl
            have hD : WD A [[(q_11, .inr (9, [.int (nI (nP L ((wE L i) + 1)).2)]))]] := bD_sel hD [0] rfl rfl
            exact b_outx hlocks (fun x hx9 => (ht9 x hx9).elim) hP hD hS hce_11 hcv_11 hcl_11 (by first | with_reducible rfl | (simp [cmdS, cmdS1, cmdS2, b9_w, b9_s, b9_d, c_5, b9_1, b9_t]; done) | rfl) (by first | omega | (dsimp only; omega)) (by first | omega | (dsimp only; omega))
        · -- 21 not taken
          have b9_1 : nmW (slL L i (wE L i)) = 1 := c_5
          refine b_new (ci := 10) (fs := [.null, .int 0, .int 0]) (C := RX12) (T := TX12) (N := 3) hx hb hts in_X12 tyX12_ok hown q1677 q1678 q101 hK hP hD hS hA rfl (fun j hj => by rcases (show j = 0 ∨ j = 1 ∨ j = 2 by omega) with rfl | rfl | rfl <;> rfl) (by first | omega | (dsimp only; omega)) (by first | omega | (dsimp only; omega)) dX10_command_24 (fun a_12 H hP hD hS => ?_)
          have hP : WP Γ [[(o2_1, .inr (14, [.ref y2_1.1, .int 0, .int h2_4, .int z2_4]))], [(y2_1.1, .inl (Γ.2.1 1, (slL L i (wE L i)).length, .inl y2_1.2))], [(a, .inr (8, [.ref o, .int (nI (nP L ((wE L i) + 1)).2)]))], [(a_12, .inr (10, [.null, .int 0, .int 0]))]] H := hP
          have hD : WD A [[(o2_1, .inr (14, [.ref y2_1.1, .int 0, .int h2_4, .int z2_4]))], [(y2_1.1, .inl (Γ.2.1 1, (slL L i (wE L i)).length, .inl y2_1.2))], [(a, .inr (8, [.ref o, .int (nI (nP L ((wE L i) + 1)).2)]))], [(a_12, .inr (10, [.null, .int 0, .int 0]))]] := hD
          refine lv_dup hx hb dX10_command_27 rfl ?_
          refine lv_aload_n hx hb dX10_command_28 rfl (lv_at hl 1 rfl) ?_
          refine lv_iload_n hx hb dX10_command_29 rfl (lv_at hl 0 rfl) ?_
          refine lv_iconst (v := 0) hx hb dX10_command_30 (by decide) ?_
          refine b_callv (br := [[(o2_1, .inr (14, [.ref y2_1.1, .int 0, .int h2_4, .int z2_4]))], [(y2_1.1, .inl (Γ.2.1 1, (slL L i (wE L i)).length, .inl y2_1.2))], [(a, .inr (8, [.ref o, .int (nI (nP L ((wE L i) + 1)).2)]))]]) (b_runI ⟨hx, hb, hml, hown, hts⟩ (mt_Cm_init l Γ _ a_12 o2_1 (nP L ((wE L i) + 1)).1 0) (lw_meth q1681) q101 q1679 q1680 rfl rfl rfl 3 (by decide +kernel) ⟨(Nat.le_of_ble_eq_true rfl), (Nat.le_of_ble_eq_true rfl)⟩ (c_pre hP hD hS hA hK hE [3] rfl rfl ro_nil) rfl hl.1 rfl (Nat.le_of_ble_eq_true rfl) dX10_command_31 ⟨(by first | omega | (dsimp only; omega)), (by first | omega | (dsimp only; omega))⟩) hP hD hS hA [3] [0, 1, 2] rfl rfl rfl (fun u_13 H locs hw_13 hP hD hS _ => ?_)
          obtain rfl := hw_13
          have hP : WP Γ [[(a_12, .inr (10, [.ref o2_1, .int (nP L ((wE L i) + 1)).1, .int 0]))], [(o2_1, .inr (14, [.ref y2_1.1, .int 0, .int h2_4, .int z2_4]))], [(y2_1.1, .inl (Γ.2.1 1, (slL L i (wE L i)).length, .inl y2_1.2))], [(a, .inr (8, [.ref o, .int (nI (nP L ((wE L i) + 1)).2)]))]] H := hP
          have hD : WD A [[(a_12, .inr (10, [.ref o2_1, .int (nP L ((wE L i) + 1)).1, .int 0]))], [(o2_1, .inr (14, [.ref y2_1.1, .int 0, .int h2_4, .int z2_4]))], [(y2_1.1, .inl (Γ.2.1 1, (slL L i (wE L i)).length, .inl y2_1.2))], [(a, .inr (8, [.ref o, .int (nI (nP L ((wE L i) + 1)).2)]))]] := hD
          exact absurd hcs9 (by simp [cmdS, cmdS1, cmdS2, b9_w, b9_s, b9_d, b9_1])
      ·
        have b9_d := Classical.not_not.mp b9_d
        refine b_callx (br := [[(o2_1, .inr (14, [.ref y2_1.1, .int 0, .int h2_1, .int z2__1]))], [(y2_1.1, .inl (Γ.2.1 1, (slL L i (wE L i)).length, .inl y2_1.2))]]) (b_runVx ⟨hx, hb, hml, hown, hts⟩ (mt_Rd_number_x_1 l Γ _ a o y L z1 z2 ((wE L i) + 1) hnt (by assumption) (by omega) b9_d) (lw_V q1673 q1675 qs30 q99 q1676) rfl rfl 0 (by decide +kernel) ⟨(Nat.le_of_ble_eq_true rfl), (Nat.le_of_ble_eq_true rfl)⟩ (c_pre hP hD hS hA hK hE [0] rfl rfl (ro_app (ro_pass (ro_sel (ro2 := [[(o, .inr (14, [.ref y.1, .int 1, .int z1, .int z2]))]]) hRo [0] rfl) hD hS hA [0] rfl) (ro_pass (ro_sel (ro2 := [[(y.1, .inl (Γ.2.1 1, 2 * L.length, .inl y.2))]]) hRo [1] rfl) hD hS hA [0] rfl))) (recv_at (q := (RX10, TX10, 2)) hK (b_at (k := 0) hP rfl) rfl) rfl hl.1 rfl (Nat.le_of_ble_eq_true rfl) dX10_command_12 ⟨(by first | omega | (dsimp only; omega)), (by first | omega | (dsimp only; omega))⟩) hP hD hS hA [0] [1, 2] rfl rfl rfl (fun q_14 ce_14 u_14 H locs hw_14 hP hD hS _ hce_14 hcv_14 hcl_14 => ?_)
        obtain rfl := hw_14
        have hP : WP Γ [[(q_14, .inr (9, [.int (nI ((wE L i) + 1))]))], [(o2_1, .inr (14, [.ref y2_1.1, .int 0, .int h2_1, .int z2__1]))], [(y2_1.1, .inl (Γ.2.1 1, (slL L i (wE L i)).length, .inl y2_1.2))]] H := hP
        have hD : WD A [[(q_14, .inr (9, [.int (nI ((wE L i) + 1))]))], [(o2_1, .inr (14, [.ref y2_1.1, .int 0, .int h2_1, .int z2__1]))], [(y2_1.1, .inl (Γ.2.1 1, (slL L i (wE L i)).length, .inl y2_1.2))]] := hD
        have hP : WP Γ [[(q_14, .inr (9, [.int (nI ((wE L i) + 1))]))]] H := bP_sel hP [0] rfl
        have hD : WD A [[(q_14, .inr (9, [.int (nI ((wE L i) + 1))]))]] := bD_sel hD [0] rfl rfl
        exact b_outx hlocks (fun x hx9 => (ht9 x hx9).elim) hP hD hS hce_14 hcv_14 hcl_14 (by first | with_reducible rfl | (simp [cmdS, cmdS1, cmdS2, b9_w, b9_s, b9_d]; done) | rfl) (by first | omega | (dsimp only; omega)) (by first | omega | (dsimp only; omega))
    ·
      refine b_callx (br := [[(o2_1, .inr (14, [.ref y2_1.1, .int 0, .int h2_1, .int z2__1]))], [(y2_1.1, .inl (Γ.2.1 1, (slL L i (wE L i)).length, .inl y2_1.2))]]) (b_runVx ⟨hx, hb, hml, hown, hts⟩ (mt_Rd_must_x_1 l Γ _ a o y L z1 z2 (wE L i) 32 hnt (by assumption) (by omega) (by omega)) (lw_V q1665 q1667 qs28 q99 q1668) rfl rfl 1 (by decide +kernel) ⟨(Nat.le_of_ble_eq_true rfl), (Nat.le_of_ble_eq_true rfl)⟩ (c_pre hP hD hS hA hK hE [0] rfl rfl (ro_app (ro_pass (ro_sel (ro2 := [[(o, .inr (14, [.ref y.1, .int 1, .int z1, .int z2]))]]) hRo [0] rfl) hD hS hA [0] rfl) (ro_pass (ro_sel (ro2 := [[(y.1, .inl (Γ.2.1 1, 2 * L.length, .inl y.2))]]) hRo [1] rfl) hD hS hA [0] rfl))) (recv_at (q := (RX10, TX10, 2)) hK (b_at (k := 0) hP rfl) rfl) rfl hl.1 rfl (Nat.le_of_ble_eq_true rfl) dX10_command_8 ⟨(by first | omega | (dsimp only; omega)), (by first | omega | (dsimp only; omega))⟩) hP hD hS hA [0] [1, 2] rfl rfl rfl (fun q_15 ce_15 u_15 H locs hw_15 hP hD hS _ hce_15 hcv_15 hcl_15 => ?_)
      obtain rfl := hw_15
      have hP : WP Γ [[(q_15, .inr (9, [.int (nI (wE L i))]))], [(o2_1, .inr (14, [.ref y2_1.1, .int 0, .int h2_1, .int z2__1]))], [(y2_1.1, .inl (Γ.2.1 1, (slL L i (wE L i)).length, .inl y2_1.2))]] H := hP
      have hD : WD A [[(q_15, .inr (9, [.int (nI (wE L i))]))], [(o2_1, .inr (14, [.ref y2_1.1, .int 0, .int h2_1, .int z2__1]))], [(y2_1.1, .inl (Γ.2.1 1, (slL L i (wE L i)).length, .inl y2_1.2))]] := hD
      have hP : WP Γ [[(q_15, .inr (9, [.int (nI (wE L i))]))]] H := bP_sel hP [0] rfl
      have hD : WD A [[(q_15, .inr (9, [.int (nI (wE L i))]))]] := bD_sel hD [0] rfl rfl
      exact b_outx hlocks (fun x hx9 => (ht9 x hx9).elim) hP hD hS hce_15 hcv_15 hcl_15 (by first | with_reducible rfl | (simp [cmdS, cmdS1, cmdS2, b9_w, b9_s]; done) | rfl) (by first | omega | (dsimp only; omega)) (by first | omega | (dsimp only; omega))
  ·
    have b9_w := Classical.not_not.mp b9_w
    refine b_callx (br := []) (b_runVx ⟨hx, hb, hml, hown, hts⟩ (mt_Rd_word_x_1 l Γ _ a o y L z1 z2 i hnt (by assumption) (by first | exact hiL | omega) (by first | exact hL5 | omega) b9_w) (lw_V q1557 q1559 qs26 q99 q1560) rfl rfl 0 (by decide +kernel) ⟨(Nat.le_of_ble_eq_true rfl), (Nat.le_of_ble_eq_true rfl)⟩ (c_pre hP hD hS hA hK hE [0] rfl rfl (ro_app (ro_pass (ro_sel (ro2 := [[(o, .inr (14, [.ref y.1, .int 1, .int z1, .int z2]))]]) hRo [0] rfl) hD hS hA [0] rfl) (ro_pass (ro_sel (ro2 := [[(y.1, .inl (Γ.2.1 1, 2 * L.length, .inl y.2))]]) hRo [1] rfl) hD hS hA [0] rfl))) (recv_at (q := (RX10, TX10, 2)) hK (b_at (k := 0) hP rfl) rfl) rfl hl.1 rfl (Nat.le_of_ble_eq_true rfl) dX10_command_1 ⟨(by first | omega | (dsimp only; omega)), (by first | omega | (dsimp only; omega))⟩) hP hD hS hA [0] [] rfl rfl rfl (fun q_16 ce_16 u_16 H locs hw_16 hP hD hS _ hce_16 hcv_16 hcl_16 => ?_)
    obtain rfl := hw_16
    have hP : WP Γ [[(q_16, .inr (9, [.int (nI i)]))]] H := hP
    have hD : WD A [[(q_16, .inr (9, [.int (nI i)]))]] := hD
    exact b_outx hlocks (fun x hx9 => (ht9 x hx9).elim) hP hD hS hce_16 hcv_16 hcl_16 (by first | with_reducible rfl | (simp [cmdS, cmdS1, cmdS2, b9_w]; done) | rfl) (by first | omega | (dsimp only; omega)) (by first | omega | (dsimp only; omega))
