/-! MODEL: days -/
def moComes (g : Nat → Int32) (k : Nat) : Int32 := if g 0 - g (10 * k + 20) < 4 then 0 else if g 0 < g (10 * k + 22) then 0 else if moLit g k (g 0 - g (10 * k + 20)) < moFree g then moLit g k (g 0 - g (10 * k + 20)) else moFree g
def moMilk5 (g : Nat → Int32) (k : Nat) (x y : Int32) : Nat → Int32 := upd (upd (upd (upd (upd g (10 * k + 23) (g (10 * k + 23) + x)) (10 * k + 24) (g (10 * k + 24) + y)) 8 (g 8 + y)) 9 (g 9 + y * g (10 * k + 17))) 14 (g 14 + (x - y))
def moMilk (g : Nat → Int32) (k : Nat) : Nat → Int32 := moMilk5 g k (moLit g k (g 0 - g (10 * k + 20))) (moComes g k)
def moCalve (g : Nat → Int32) (k : Nat) : Nat → Int32 := if moCar g k = 0 then g else if g (10 * k + 21) = g 0 then upd (upd (upd (upd g (10 * k + 19) 1) (10 * k + 20) (g 0)) (10 * k + 18) (g (10 * k + 18) + 1)) (10 * k + 21) (-1) else g
def moDry (g : Nat → Int32) (k : Nat) : Nat → Int32 := if moCar g k = 0 then g else if moMil g k = 0 then g else if g 0 + g 2 < g (10 * k + 21) then g else upd g (10 * k + 19) 0
def moMilkS (g : Nat → Int32) (k : Nat) : Nat → Int32 := if moMil g k = 0 then g else moMilk g k
def moIt (f : (Nat → Int32) → Nat → (Nat → Int32)) (g : Nat → Int32) : Nat → (Nat → Int32)
  | 0 => g
  | n + 1 => f (moIt f g n) n
theorem moIt_keep {f : (Nat → Int32) → Nat → (Nat → Int32)} {g : Nat → Int32} {q : Nat} (h : ∀ g k, f g k q = g q) : ∀ n, moIt f g n q = g q := by
  intro n
  induction n with
  | zero => rfl
  | succ n ih => rw [moIt, h, ih]
theorem moCalve_keep {q : Nat} (hq : q < 15) (g : Nat → Int32) (k : Nat) : moCalve g k q = g q := by
  unfold moCalve
  split
  · rfl
  · split
    · rw [pk_un (by omega), pk_un (by omega), pk_un (by omega), pk_un (by omega)]
    · rfl
theorem moDry_keep {q : Nat} (hq : q < 15) (g : Nat → Int32) (k : Nat) : moDry g k q = g q := by
  unfold moDry
  split
  · rfl
  · split
    · rfl
    · split
      · rfl
      · rw [pk_un (by omega)]
theorem moMilkS_keep {q : Nat} (hq : q < 15) (h8 : q ≠ 8) (h9 : q ≠ 9) (h14 : q ≠ 14) (g : Nat → Int32) (k : Nat) : moMilkS g k q = g q := by
  unfold moMilkS moMilk moMilk5
  split
  · rfl
  · rw [pk_un h14, pk_un h9, pk_un h8, pk_un (by omega), pk_un (by omega)]
def moHerdDay (g : Nat → Int32) (n : Nat) : Nat → Int32 := moIt moMilkS (moIt moDry (moIt moCalve g n) n) n
theorem moHerdDay_keep {q : Nat} (hq : q < 15) (h8 : q ≠ 8) (h9 : q ≠ 9) (h14 : q ≠ 14) (g : Nat → Int32) (n : Nat) : moHerdDay g n q = g q := by
  rw [moHerdDay, moIt_keep (moMilkS_keep hq h8 h9 h14), moIt_keep (moDry_keep hq), moIt_keep (moCalve_keep hq)]
set_option maxHeartbeats 4000000 in
set_option maxRecDepth 100000 in
theorem mt_Mo_milks (l : Launch) (Γ : GE) (sz : Nat) (a : Nat) (r : Nat → Nat) (i : Nat → Int32) (g : Nat → Int32) (k : Nat) (hk : k < 8) : KM l yX4_milks cX4_milks 5 none Γ 2 46 0 0 [.ref a, .int (nI k)] [[(a, moE r i)], [((r 0), .inl (Γ.2.1 0, 523, .inl g))]] [] sz (Qv Γ (fun u_ => u_ = [[(a, moE r i)], [((r 0), .inl (Γ.2.1 0, 523, .inl (moMilk g k)))]])) := by
  refine K_intro (by decide) (Nat.le_of_ble_eq_true rfl) ?_
  intro pr_ ev_ s mi_ below meth cd_ A ls hx hb hr hml hown hts hlocks hname hK hE hRo hP hD hA hS hsz hl
  have hl : lv_has ls 5 [(0, .ref a), (1, .int (nI k))] := hl
  have hown : s.vm.findClass RX4 = some mi_.cls := hown
  refine lv_aload_n hx hb dX4_milks_0 rfl (lv_at hl 0 rfl) ?_
  refine lv_iload_n hx hb dX4_milks_1 rfl (lv_at hl 1 rfl) ?_
  refine lv_aload_n hx hb dX4_milks_2 rfl (lv_at hl 0 rfl) ?_
  refine lv_iload_n hx hb dX4_milks_3 rfl (lv_at hl 1 rfl) ?_
  refine b_calli (br := []) (b_runV ⟨hx, hb, hml, hown, hts⟩ (mt_Mo_inMilk l Γ _ a r i g k (by first | exact hk | omega)) (lw_V q1932 q1934 qs39 q73 q1935) rfl rfl 1 (by decide +kernel) ⟨(Nat.le_of_ble_eq_true rfl), (Nat.le_of_ble_eq_true rfl)⟩ (c_pre hP hD hS hA hK hE [0, 1] rfl rfl ro_nil) (recv_at (q := (RX4, TX4, 16)) hK (b_at (k := 0) hP rfl) rfl) rfl hl.1 rfl (Nat.le_of_ble_eq_true rfl) dX4_milks_4 ⟨(Nat.le_of_ble_eq_true rfl), (Nat.le_of_ble_eq_true rfl)⟩) hP hD hS hA [0, 1] [] rfl rfl rfl (fun r_1 u_1 H locs hw_1 hP hD hS _ => ?_)
  obtain ⟨rfl, rfl⟩ := hw_1
  have hP : WP Γ [[(a, moE r i)], [((r 0), .inl (Γ.2.1 0, 523, .inl g))]] H := hP
  have hD : WD A [[(a, moE r i)], [((r 0), .inl (Γ.2.1 0, 523, .inl g))]] := hD
  refine b_calli (br := []) (b_runV ⟨hx, hb, hml, hown, hts⟩ (mt_Mo_litres l Γ _ a r i g k (g 0 - g (10 * k + 20)) (by first | exact hk | omega)) (lw_V q1996 q1998 qs47 q73 q1999) rfl rfl 2 (by decide +kernel) ⟨(Nat.le_of_ble_eq_true rfl), (Nat.le_of_ble_eq_true rfl)⟩ (c_pre hP hD hS hA hK hE [0, 1] rfl rfl ro_nil) (recv_at (q := (RX4, TX4, 16)) hK (b_at (k := 0) hP rfl) rfl) rfl hl.1 rfl (Nat.le_of_ble_eq_true rfl) dX4_milks_7 ⟨(Nat.le_of_ble_eq_true rfl), (Nat.le_of_ble_eq_true rfl)⟩) hP hD hS hA [0, 1] [] rfl rfl rfl (fun r_2 u_2 H locs hw_2 hP hD hS _ => ?_)
  obtain ⟨rfl, rfl⟩ := hw_2
  have hP : WP Γ [[(a, moE r i)], [((r 0), .inl (Γ.2.1 0, 523, .inl g))]] H := hP
  have hD : WD A [[(a, moE r i)], [((r 0), .inl (Γ.2.1 0, 523, .inl g))]] := hD
  refine lv_istore_n (lv' := [(2, .int (moLit g k (g 0 - g (10 * k + 20)))), (0, .ref a), (1, .int (nI k))]) hx hb dX4_milks_10 rfl hl (by decide) rfl (fun ls hl => ?_)
  refine lv_aload_n hx hb dX4_milks_11 rfl (lv_at hl 1 rfl) ?_
  refine lv_iload_n hx hb dX4_milks_12 rfl (lv_at hl 2 rfl) ?_
  refine b_calli (br := []) (b_runV ⟨hx, hb, hml, hown, hts⟩ (mt_Mo_inMilk l Γ _ a r i g k (by first | exact hk | omega)) (lw_V q1932 q1934 qs39 q73 q1935) rfl rfl 1 (by decide +kernel) ⟨(Nat.le_of_ble_eq_true rfl), (Nat.le_of_ble_eq_true rfl)⟩ (c_pre hP hD hS hA hK hE [0, 1] rfl rfl ro_nil) (recv_at (q := (RX4, TX4, 16)) hK (b_at (k := 0) hP rfl) rfl) rfl hl.1 rfl (Nat.le_of_ble_eq_true rfl) dX4_milks_13 ⟨(Nat.le_of_ble_eq_true rfl), (Nat.le_of_ble_eq_true rfl)⟩) hP hD hS hA [0, 1] [] rfl rfl rfl (fun r_3 u_3 H locs hw_3 hP hD hS _ => ?_)
  obtain ⟨rfl, rfl⟩ := hw_3
  have hP : WP Γ [[(a, moE r i)], [((r 0), .inl (Γ.2.1 0, 523, .inl g))]] H := hP
  have hD : WD A [[(a, moE r i)], [((r 0), .inl (Γ.2.1 0, 523, .inl g))]] := hD
  refine lv_iconst (v := 4) hx hb dX4_milks_16 (by decide) ?_
  refine lv_icmp_lt (tgt := 40) hx hb dX4_milks_17 (by decide) (fun c_4 => ?_) (fun c_4 => ?_)
  · -- 17 taken
    refine lv_iconst (v := 1) hx hb dX4_milks_40 (by decide) ?_
    refine lv_goto (tgt := 45) hx hb dX4_milks_41 (by decide) ?_
    refine lv_istore_n (lv' := [(3, .int 1), (2, .int (moLit g k (g 0 - g (10 * k + 20)))), (0, .ref a), (1, .int (nI k))]) hx hb dX4_milks_45 rfl hl (by decide) rfl (fun ls hl => ?_)
    refine lv_iload_n hx hb dX4_milks_46 rfl (lv_at hl 0 rfl) ?_
    refine lv_if_eq (tgt := 54) hx hb dX4_milks_47 (by decide) (fun c_5 => ?_) (fun c_5 => ?_)
    · -- 47 taken
      have n_5 : 1 = 0 := (nI_eq (by omega) (by omega)).mp (show nI 1 = nI 0 from c_5)
      exact absurd n_5 (by omega)
    · -- 47 not taken
      have n_5 : ¬ (1 = 0) := fun h => c_5 ((nI_eq (a := 1) (b := 0) (by omega) (by omega)).mpr h)
      refine lv_iconst (v := 0) hx hb dX4_milks_50 (by decide) ?_
      refine lv_goto (tgt := 70) hx hb dX4_milks_51 (by decide) ?_
      refine lv_istore (lv' := [(4, .int 0), (3, .int 1), (2, .int (moLit g k (g 0 - g (10 * k + 20)))), (0, .ref a), (1, .int (nI k))]) hx hb dX4_milks_70 hl (by decide) rfl (fun ls hl => ?_)
      refine lv_aload_n hx hb dX4_milks_72 rfl (lv_at hl 3 rfl) ?_
      refine b_get (C := RX4) (T := TX4) (N := 16) (v := .ref (r 0)) hx hb hts in_X4 hown hK (b_at (k := 0) hP rfl) rfl 0 (by decide) q1807 (fun _ h9 => h9) rfl dX4_milks_73 ?_
      refine lv_iload_n hx hb dX4_milks_76 rfl (lv_at hl 4 rfl) ?_
      refine lv_bipush (v := 8) hx hb dX4_milks_77 (by decide) ?_
      refine b_calli (br := [[(a, moE r i)], [((r 0), .inl (Γ.2.1 0, 523, .inl g))]]) (b_runS ⟨hx, hb, hml, hown, hts⟩ (mt_Mo_at l Γ _ k 8) (lw_S q1886 q1887 q73 q1888) rfl rfl 2 (by decide +kernel) ⟨(Nat.le_of_ble_eq_true rfl), (Nat.le_of_ble_eq_true rfl)⟩ (c_pre hP hD hS hA hK hE [] rfl rfl ro_nil) rfl hl.1 rfl (Nat.le_of_ble_eq_true rfl) dX4_milks_79 ⟨(Nat.le_of_ble_eq_true rfl), (Nat.le_of_ble_eq_true rfl)⟩) hP hD hS hA [] [0, 1] rfl rfl rfl (fun r_6 u_6 H locs hw_6 hP hD hS _ => ?_)
      obtain ⟨rfl, rfl⟩ := hw_6
      have hP : WP Γ [[(a, moE r i)], [((r 0), .inl (Γ.2.1 0, 523, .inl g))]] H := hP
      have hD : WD A [[(a, moE r i)], [((r 0), .inl (Γ.2.1 0, 523, .inl g))]] := hD
      refine lv_dup2_11 hx hb dX4_milks_82 rfl rfl ?_
      refine b_iald hx hb hK (b_at (k := 1) hP rfl) (10 * k + 23) rfl (by omega) (by omega) dX4_milks_83 ?_
      refine lv_iload_n hx hb dX4_milks_84 rfl (lv_at hl 2 rfl) ?_
      refine lv_iadd hx hb dX4_milks_85 ?_
      refine b_iast hx hb hK hP hD hS 1 rfl (10 * k + 23) rfl (by omega) (by omega) dX4_milks_86 (fun H locs hP hD hS => ?_)
      have hP : WP Γ [[(a, moE r i)], [((r 0), .inl (Γ.2.1 0, 523, .inl (upd g (10 * k + 23) ((g (10 * k + 23)) + (moLit g k (g 0 - g (10 * k + 20)))))))]] H := hP
      have hD : WD A [[(a, moE r i)], [((r 0), .inl (Γ.2.1 0, 523, .inl (upd g (10 * k + 23) ((g (10 * k + 23)) + (moLit g k (g 0 - g (10 * k + 20)))))))]] := hD
      refine lv_aload_n hx hb dX4_milks_87 rfl (lv_at hl 3 rfl) ?_
      refine b_get (C := RX4) (T := TX4) (N := 16) (v := .ref (r 0)) hx hb hts in_X4 hown hK (b_at (k := 0) hP rfl) rfl 0 (by decide) q1807 (fun _ h9 => h9) rfl dX4_milks_88 ?_
      refine lv_iload_n hx hb dX4_milks_91 rfl (lv_at hl 4 rfl) ?_
      refine lv_bipush (v := 9) hx hb dX4_milks_92 (by decide) ?_
      refine b_calli (br := [[(a, moE r i)], [((r 0), .inl (Γ.2.1 0, 523, .inl (upd g (10 * k + 23) ((g (10 * k + 23)) + (moLit g k (g 0 - g (10 * k + 20)))))))]]) (b_runS ⟨hx, hb, hml, hown, hts⟩ (mt_Mo_at l Γ _ k 9) (lw_S q1886 q1887 q73 q1888) rfl rfl 2 (by decide +kernel) ⟨(Nat.le_of_ble_eq_true rfl), (Nat.le_of_ble_eq_true rfl)⟩ (c_pre hP hD hS hA hK hE [] rfl rfl ro_nil) rfl hl.1 rfl (Nat.le_of_ble_eq_true rfl) dX4_milks_94 ⟨(Nat.le_of_ble_eq_true rfl), (Nat.le_of_ble_eq_true rfl)⟩) hP hD hS hA [] [0, 1] rfl rfl rfl (fun r_7 u_7 H locs hw_7 hP hD hS _ => ?_)
      obtain ⟨rfl, rfl⟩ := hw_7
      have hP : WP Γ [[(a, moE r i)], [((r 0), .inl (Γ.2.1 0, 523, .inl (upd g (10 * k + 23) ((g (10 * k + 23)) + (moLit g k (g 0 - g (10 * k + 20)))))))]] H := hP
      have hD : WD A [[(a, moE r i)], [((r 0), .inl (Γ.2.1 0, 523, .inl (upd g (10 * k + 23) ((g (10 * k + 23)) + (moLit g k (g 0 - g (10 * k + 20)))))))]] := hD
      refine lv_dup2_11 hx hb dX4_milks_97 rfl rfl ?_
      refine b_iald hx hb hK (b_at (k := 1) hP rfl) (10 * k + 24) rfl (by omega) (by omega) dX4_milks_98 ?_
      refine b_top (show (upd g (10 * k + 23) ((g (10 * k + 23)) + (moLit g k (g 0 - g (10 * k + 20)))) (10 * k + 24)) = (g (10 * k + 24)) from by rw [pk_un (by omega)]) ?_
      refine lv_iload hx hb dX4_milks_99 (lv_at hl 0 rfl) ?_
      refine lv_iadd hx hb dX4_milks_101 ?_
      refine b_iast hx hb hK hP hD hS 1 rfl (10 * k + 24) rfl (by omega) (by omega) dX4_milks_102 (fun H locs hP hD hS => ?_)
      have hP : WP Γ [[(a, moE r i)], [((r 0), .inl (Γ.2.1 0, 523, .inl (upd (upd g (10 * k + 23) ((g (10 * k + 23)) + (moLit g k (g 0 - g (10 * k + 20))))) (10 * k + 24) ((g (10 * k + 24)) + 0))))]] H := hP
      have hD : WD A [[(a, moE r i)], [((r 0), .inl (Γ.2.1 0, 523, .inl (upd (upd g (10 * k + 23) ((g (10 * k + 23)) + (moLit g k (g 0 - g (10 * k + 20))))) (10 * k + 24) ((g (10 * k + 24)) + 0))))]] := hD
      refine lv_aload_n hx hb dX4_milks_103 rfl (lv_at hl 3 rfl) ?_
      refine b_get (C := RX4) (T := TX4) (N := 16) (v := .ref (r 0)) hx hb hts in_X4 hown hK (b_at (k := 0) hP rfl) rfl 0 (by decide) q1807 (fun _ h9 => h9) rfl dX4_milks_104 ?_
      refine lv_bipush (v := 8) hx hb dX4_milks_107 (by decide) ?_
      refine lv_dup2_11 hx hb dX4_milks_109 rfl rfl ?_
      refine b_iald hx hb hK (b_at (k := 1) hP rfl) 8 rfl (by omega) (by omega) dX4_milks_110 ?_
      refine b_top (show (upd (upd g (10 * k + 23) ((g (10 * k + 23)) + (moLit g k (g 0 - g (10 * k + 20))))) (10 * k + 24) ((g (10 * k + 24)) + 0) 8) = (g 8) from by rw [pk_un (by omega), pk_un (by omega)]) ?_
      refine lv_iload hx hb dX4_milks_111 (lv_at hl 0 rfl) ?_
      refine lv_iadd hx hb dX4_milks_113 ?_
      refine b_iast hx hb hK hP hD hS 1 rfl 8 rfl (by omega) (by omega) dX4_milks_114 (fun H locs hP hD hS => ?_)
      have hP : WP Γ [[(a, moE r i)], [((r 0), .inl (Γ.2.1 0, 523, .inl (upd (upd (upd g (10 * k + 23) ((g (10 * k + 23)) + (moLit g k (g 0 - g (10 * k + 20))))) (10 * k + 24) ((g (10 * k + 24)) + 0)) 8 ((g 8) + 0))))]] H := hP
      have hD : WD A [[(a, moE r i)], [((r 0), .inl (Γ.2.1 0, 523, .inl (upd (upd (upd g (10 * k + 23) ((g (10 * k + 23)) + (moLit g k (g 0 - g (10 * k + 20))))) (10 * k + 24) ((g (10 * k + 24)) + 0)) 8 ((g 8) + 0))))]] := hD
      refine lv_aload_n hx hb dX4_milks_115 rfl (lv_at hl 3 rfl) ?_
      refine b_get (C := RX4) (T := TX4) (N := 16) (v := .ref (r 0)) hx hb hts in_X4 hown hK (b_at (k := 0) hP rfl) rfl 0 (by decide) q1807 (fun _ h9 => h9) rfl dX4_milks_116 ?_
      refine lv_bipush (v := 9) hx hb dX4_milks_119 (by decide) ?_
      refine lv_dup2_11 hx hb dX4_milks_121 rfl rfl ?_
      refine b_iald hx hb hK (b_at (k := 1) hP rfl) 9 rfl (by omega) (by omega) dX4_milks_122 ?_
      refine b_top (show (upd (upd (upd g (10 * k + 23) ((g (10 * k + 23)) + (moLit g k (g 0 - g (10 * k + 20))))) (10 * k + 24) ((g (10 * k + 24)) + 0)) 8 ((g 8) + 0) 9) = (g 9) from by rw [pk_un (by omega), pk_un (by omega), pk_un (by omega)]) ?_
      refine lv_iload hx hb dX4_milks_123 (lv_at hl 0 rfl) ?_
      refine lv_aload_n hx hb dX4_milks_125 rfl (lv_at hl 3 rfl) ?_
      refine b_get (C := RX4) (T := TX4) (N := 16) (v := .ref (r 0)) hx hb hts in_X4 hown hK (b_at (k := 0) hP rfl) rfl 0 (by decide) q1807 (fun _ h9 => h9) rfl dX4_milks_126 ?_
      refine lv_iload_n hx hb dX4_milks_129 rfl (lv_at hl 4 rfl) ?_
      refine lv_iconst (v := 2) hx hb dX4_milks_130 (by decide) ?_
      refine b_calli (br := [[(a, moE r i)], [((r 0), .inl (Γ.2.1 0, 523, .inl (upd (upd (upd g (10 * k + 23) ((g (10 * k + 23)) + (moLit g k (g 0 - g (10 * k + 20))))) (10 * k + 24) ((g (10 * k + 24)) + 0)) 8 ((g 8) + 0))))]]) (b_runS ⟨hx, hb, hml, hown, hts⟩ (mt_Mo_at l Γ _ k 2) (lw_S q1886 q1887 q73 q1888) rfl rfl 2 (by decide +kernel) ⟨(Nat.le_of_ble_eq_true rfl), (Nat.le_of_ble_eq_true rfl)⟩ (c_pre hP hD hS hA hK hE [] rfl rfl ro_nil) rfl hl.1 rfl (Nat.le_of_ble_eq_true rfl) dX4_milks_131 ⟨(Nat.le_of_ble_eq_true rfl), (Nat.le_of_ble_eq_true rfl)⟩) hP hD hS hA [] [0, 1] rfl rfl rfl (fun r_8 u_8 H locs hw_8 hP hD hS _ => ?_)
      obtain ⟨rfl, rfl⟩ := hw_8
      have hP : WP Γ [[(a, moE r i)], [((r 0), .inl (Γ.2.1 0, 523, .inl (upd (upd (upd g (10 * k + 23) ((g (10 * k + 23)) + (moLit g k (g 0 - g (10 * k + 20))))) (10 * k + 24) ((g (10 * k + 24)) + 0)) 8 ((g 8) + 0))))]] H := hP
      have hD : WD A [[(a, moE r i)], [((r 0), .inl (Γ.2.1 0, 523, .inl (upd (upd (upd g (10 * k + 23) ((g (10 * k + 23)) + (moLit g k (g 0 - g (10 * k + 20))))) (10 * k + 24) ((g (10 * k + 24)) + 0)) 8 ((g 8) + 0))))]] := hD
      refine b_iald hx hb hK (b_at (k := 1) hP rfl) (10 * k + 17) rfl (by omega) (by omega) dX4_milks_134 ?_
      refine b_top (show (upd (upd (upd g (10 * k + 23) ((g (10 * k + 23)) + (moLit g k (g 0 - g (10 * k + 20))))) (10 * k + 24) ((g (10 * k + 24)) + 0)) 8 ((g 8) + 0) (10 * k + 17)) = (g (10 * k + 17)) from by rw [pk_un (by omega), pk_un (by omega), pk_un (by omega)]) ?_
      refine lv_imul hx hb dX4_milks_135 ?_
      refine lv_iadd hx hb dX4_milks_136 ?_
      refine b_iast hx hb hK hP hD hS 1 rfl 9 rfl (by omega) (by omega) dX4_milks_137 (fun H locs hP hD hS => ?_)
      have hP : WP Γ [[(a, moE r i)], [((r 0), .inl (Γ.2.1 0, 523, .inl (upd (upd (upd (upd g (10 * k + 23) ((g (10 * k + 23)) + (moLit g k (g 0 - g (10 * k + 20))))) (10 * k + 24) ((g (10 * k + 24)) + 0)) 8 ((g 8) + 0)) 9 ((g 9) + (0 * (g (10 * k + 17)))))))]] H := hP
      have hD : WD A [[(a, moE r i)], [((r 0), .inl (Γ.2.1 0, 523, .inl (upd (upd (upd (upd g (10 * k + 23) ((g (10 * k + 23)) + (moLit g k (g 0 - g (10 * k + 20))))) (10 * k + 24) ((g (10 * k + 24)) + 0)) 8 ((g 8) + 0)) 9 ((g 9) + (0 * (g (10 * k + 17)))))))]] := hD
      refine lv_aload_n hx hb dX4_milks_138 rfl (lv_at hl 3 rfl) ?_
      refine b_get (C := RX4) (T := TX4) (N := 16) (v := .ref (r 0)) hx hb hts in_X4 hown hK (b_at (k := 0) hP rfl) rfl 0 (by decide) q1807 (fun _ h9 => h9) rfl dX4_milks_139 ?_
      refine lv_bipush (v := 14) hx hb dX4_milks_142 (by decide) ?_
      refine lv_dup2_11 hx hb dX4_milks_144 rfl rfl ?_
      refine b_iald hx hb hK (b_at (k := 1) hP rfl) 14 rfl (by omega) (by omega) dX4_milks_145 ?_
      refine b_top (show (upd (upd (upd (upd g (10 * k + 23) ((g (10 * k + 23)) + (moLit g k (g 0 - g (10 * k + 20))))) (10 * k + 24) ((g (10 * k + 24)) + 0)) 8 ((g 8) + 0)) 9 ((g 9) + (0 * (g (10 * k + 17)))) 14) = (g 14) from by rw [pk_un (by omega), pk_un (by omega), pk_un (by omega), pk_un (by omega)]) ?_
      refine lv_iload_n hx hb dX4_milks_146 rfl (lv_at hl 2 rfl) ?_
      refine lv_iload hx hb dX4_milks_147 (lv_at hl 0 rfl) ?_
      refine lv_isub hx hb dX4_milks_149 ?_
      refine lv_iadd hx hb dX4_milks_150 ?_
      refine b_iast hx hb hK hP hD hS 1 rfl 14 rfl (by omega) (by omega) dX4_milks_151 (fun H locs hP hD hS => ?_)
      have hP : WP Γ [[(a, moE r i)], [((r 0), .inl (Γ.2.1 0, 523, .inl (upd (upd (upd (upd (upd g (10 * k + 23) ((g (10 * k + 23)) + (moLit g k (g 0 - g (10 * k + 20))))) (10 * k + 24) ((g (10 * k + 24)) + 0)) 8 ((g 8) + 0)) 9 ((g 9) + (0 * (g (10 * k + 17))))) 14 ((g 14) + ((moLit g k (g 0 - g (10 * k + 20))) - 0)))))]] H := hP
      have hD : WD A [[(a, moE r i)], [((r 0), .inl (Γ.2.1 0, 523, .inl (upd (upd (upd (upd (upd g (10 * k + 23) ((g (10 * k + 23)) + (moLit g k (g 0 - g (10 * k + 20))))) (10 * k + 24) ((g (10 * k + 24)) + 0)) 8 ((g 8) + 0)) 9 ((g 9) + (0 * (g (10 * k + 17))))) 14 ((g 14) + ((moLit g k (g 0 - g (10 * k + 20))) - 0)))))]] := hD
      exact b_vret hx hb hr hlocks hP hD hS (Nat.le_of_ble_eq_true rfl) (Nat.le_of_ble_eq_true rfl) (by first | with_reducible rfl | (simp [moMilk, moMilk5, moComes, c_4, n_5]; done) | rfl) dX4_milks_152
  · -- 17 not taken
    refine lv_aload_n hx hb dX4_milks_20 rfl (lv_at hl 1 rfl) ?_
    refine b_get (C := RX4) (T := TX4) (N := 16) (v := .ref (r 0)) hx hb hts in_X4 hown hK (b_at (k := 0) hP rfl) rfl 0 (by decide) q1807 (fun _ h9 => h9) rfl dX4_milks_21 ?_
    refine lv_iload_n hx hb dX4_milks_24 rfl (lv_at hl 2 rfl) ?_
    refine lv_bipush (v := 7) hx hb dX4_milks_25 (by decide) ?_
    refine b_calli (br := [[(a, moE r i)], [((r 0), .inl (Γ.2.1 0, 523, .inl g))]]) (b_runS ⟨hx, hb, hml, hown, hts⟩ (mt_Mo_at l Γ _ k 7) (lw_S q1886 q1887 q73 q1888) rfl rfl 2 (by decide +kernel) ⟨(Nat.le_of_ble_eq_true rfl), (Nat.le_of_ble_eq_true rfl)⟩ (c_pre hP hD hS hA hK hE [] rfl rfl ro_nil) rfl hl.1 rfl (Nat.le_of_ble_eq_true rfl) dX4_milks_27 ⟨(Nat.le_of_ble_eq_true rfl), (Nat.le_of_ble_eq_true rfl)⟩) hP hD hS hA [] [0, 1] rfl rfl rfl (fun r_9 u_9 H locs hw_9 hP hD hS _ => ?_)
    obtain ⟨rfl, rfl⟩ := hw_9
    have hP : WP Γ [[(a, moE r i)], [((r 0), .inl (Γ.2.1 0, 523, .inl g))]] H := hP
    have hD : WD A [[(a, moE r i)], [((r 0), .inl (Γ.2.1 0, 523, .inl g))]] := hD
    refine b_iald hx hb hK (b_at (k := 1) hP rfl) (10 * k + 22) rfl (by omega) (by omega) dX4_milks_30 ?_
    refine lv_aload_n hx hb dX4_milks_31 rfl (lv_at hl 1 rfl) ?_
    refine b_get (C := RX4) (T := TX4) (N := 16) (v := .ref (r 0)) hx hb hts in_X4 hown hK (b_at (k := 0) hP rfl) rfl 0 (by decide) q1807 (fun _ h9 => h9) rfl dX4_milks_32 ?_
    refine lv_iconst (v := 0) hx hb dX4_milks_35 (by decide) ?_
    refine b_iald hx hb hK (b_at (k := 1) hP rfl) 0 rfl (by omega) (by omega) dX4_milks_36 ?_
    refine lv_icmp_le (tgt := 44) hx hb dX4_milks_37 (by decide) (fun c_10 => ?_) (fun c_10 => ?_)
    · -- 37 taken
      have d_10 := Int32.not_lt.mpr c_10
      refine lv_iconst (v := 0) hx hb dX4_milks_44 (by decide) ?_
      refine lv_istore_n (lv' := [(3, .int 0), (2, .int (moLit g k (g 0 - g (10 * k + 20)))), (0, .ref a), (1, .int (nI k))]) hx hb dX4_milks_45 rfl hl (by decide) rfl (fun ls hl => ?_)
      refine lv_iload_n hx hb dX4_milks_46 rfl (lv_at hl 0 rfl) ?_
      refine lv_if_eq (tgt := 54) hx hb dX4_milks_47 (by decide) (fun c_11 => ?_) (fun c_11 => ?_)
      · -- 47 taken
        have n_11 : 0 = 0 := (nI_eq (by omega) (by omega)).mp (show nI 0 = nI 0 from c_11)
        refine lv_iload_n hx hb dX4_milks_54 rfl (lv_at hl 1 rfl) ?_
        refine lv_aload_n hx hb dX4_milks_55 rfl (lv_at hl 2 rfl) ?_
        refine b_calli (br := []) (b_runV ⟨hx, hb, hml, hown, hts⟩ (mt_Mo_free l Γ _ a r i g) (lw_V q2000 q2002 qs48 q73 q2003) rfl rfl 0 (by decide +kernel) ⟨(Nat.le_of_ble_eq_true rfl), (Nat.le_of_ble_eq_true rfl)⟩ (c_pre hP hD hS hA hK hE [0, 1] rfl rfl ro_nil) (recv_at (q := (RX4, TX4, 16)) hK (b_at (k := 0) hP rfl) rfl) rfl hl.1 rfl (Nat.le_of_ble_eq_true rfl) dX4_milks_56 ⟨(Nat.le_of_ble_eq_true rfl), (Nat.le_of_ble_eq_true rfl)⟩) hP hD hS hA [0, 1] [] rfl rfl rfl (fun r_12 u_12 H locs hw_12 hP hD hS _ => ?_)
        obtain ⟨rfl, rfl⟩ := hw_12
        have hP : WP Γ [[(a, moE r i)], [((r 0), .inl (Γ.2.1 0, 523, .inl g))]] H := hP
        have hD : WD A [[(a, moE r i)], [((r 0), .inl (Γ.2.1 0, 523, .inl g))]] := hD
        refine lv_icmp_ge (tgt := 66) hx hb dX4_milks_59 (by decide) (fun c_13 => ?_) (fun c_13 => ?_)
        · -- 59 taken
          have d_13 := Int32.not_lt.mpr c_13
          refine lv_aload_n hx hb dX4_milks_66 rfl (lv_at hl 2 rfl) ?_
          refine b_calli (br := []) (b_runV ⟨hx, hb, hml, hown, hts⟩ (mt_Mo_free l Γ _ a r i g) (lw_V q2000 q2002 qs48 q73 q2003) rfl rfl 0 (by decide +kernel) ⟨(Nat.le_of_ble_eq_true rfl), (Nat.le_of_ble_eq_true rfl)⟩ (c_pre hP hD hS hA hK hE [0, 1] rfl rfl ro_nil) (recv_at (q := (RX4, TX4, 16)) hK (b_at (k := 0) hP rfl) rfl) rfl hl.1 rfl (Nat.le_of_ble_eq_true rfl) dX4_milks_67 ⟨(Nat.le_of_ble_eq_true rfl), (Nat.le_of_ble_eq_true rfl)⟩) hP hD hS hA [0, 1] [] rfl rfl rfl (fun r_14 u_14 H locs hw_14 hP hD hS _ => ?_)
          obtain ⟨rfl, rfl⟩ := hw_14
          have hP : WP Γ [[(a, moE r i)], [((r 0), .inl (Γ.2.1 0, 523, .inl g))]] H := hP
          have hD : WD A [[(a, moE r i)], [((r 0), .inl (Γ.2.1 0, 523, .inl g))]] := hD
          refine lv_istore (lv' := [(4, .int (moFree g)), (3, .int 0), (2, .int (moLit g k (g 0 - g (10 * k + 20)))), (0, .ref a), (1, .int (nI k))]) hx hb dX4_milks_70 hl (by decide) rfl (fun ls hl => ?_)
          refine lv_aload_n hx hb dX4_milks_72 rfl (lv_at hl 3 rfl) ?_
          refine b_get (C := RX4) (T := TX4) (N := 16) (v := .ref (r 0)) hx hb hts in_X4 hown hK (b_at (k := 0) hP rfl) rfl 0 (by decide) q1807 (fun _ h9 => h9) rfl dX4_milks_73 ?_
          refine lv_iload_n hx hb dX4_milks_76 rfl (lv_at hl 4 rfl) ?_
          refine lv_bipush (v := 8) hx hb dX4_milks_77 (by decide) ?_
          refine b_calli (br := [[(a, moE r i)], [((r 0), .inl (Γ.2.1 0, 523, .inl g))]]) (b_runS ⟨hx, hb, hml, hown, hts⟩ (mt_Mo_at l Γ _ k 8) (lw_S q1886 q1887 q73 q1888) rfl rfl 2 (by decide +kernel) ⟨(Nat.le_of_ble_eq_true rfl), (Nat.le_of_ble_eq_true rfl)⟩ (c_pre hP hD hS hA hK hE [] rfl rfl ro_nil) rfl hl.1 rfl (Nat.le_of_ble_eq_true rfl) dX4_milks_79 ⟨(Nat.le_of_ble_eq_true rfl), (Nat.le_of_ble_eq_true rfl)⟩) hP hD hS hA [] [0, 1] rfl rfl rfl (fun r_15 u_15 H locs hw_15 hP hD hS _ => ?_)
          obtain ⟨rfl, rfl⟩ := hw_15
          have hP : WP Γ [[(a, moE r i)], [((r 0), .inl (Γ.2.1 0, 523, .inl g))]] H := hP
          have hD : WD A [[(a, moE r i)], [((r 0), .inl (Γ.2.1 0, 523, .inl g))]] := hD
          refine lv_dup2_11 hx hb dX4_milks_82 rfl rfl ?_
          refine b_iald hx hb hK (b_at (k := 1) hP rfl) (10 * k + 23) rfl (by omega) (by omega) dX4_milks_83 ?_
          refine lv_iload_n hx hb dX4_milks_84 rfl (lv_at hl 2 rfl) ?_
          refine lv_iadd hx hb dX4_milks_85 ?_
          refine b_iast hx hb hK hP hD hS 1 rfl (10 * k + 23) rfl (by omega) (by omega) dX4_milks_86 (fun H locs hP hD hS => ?_)
          have hP : WP Γ [[(a, moE r i)], [((r 0), .inl (Γ.2.1 0, 523, .inl (upd g (10 * k + 23) ((g (10 * k + 23)) + (moLit g k (g 0 - g (10 * k + 20)))))))]] H := hP
          have hD : WD A [[(a, moE r i)], [((r 0), .inl (Γ.2.1 0, 523, .inl (upd g (10 * k + 23) ((g (10 * k + 23)) + (moLit g k (g 0 - g (10 * k + 20)))))))]] := hD
          refine lv_aload_n hx hb dX4_milks_87 rfl (lv_at hl 3 rfl) ?_
          refine b_get (C := RX4) (T := TX4) (N := 16) (v := .ref (r 0)) hx hb hts in_X4 hown hK (b_at (k := 0) hP rfl) rfl 0 (by decide) q1807 (fun _ h9 => h9) rfl dX4_milks_88 ?_
          refine lv_iload_n hx hb dX4_milks_91 rfl (lv_at hl 4 rfl) ?_
          refine lv_bipush (v := 9) hx hb dX4_milks_92 (by decide) ?_
          refine b_calli (br := [[(a, moE r i)], [((r 0), .inl (Γ.2.1 0, 523, .inl (upd g (10 * k + 23) ((g (10 * k + 23)) + (moLit g k (g 0 - g (10 * k + 20)))))))]]) (b_runS ⟨hx, hb, hml, hown, hts⟩ (mt_Mo_at l Γ _ k 9) (lw_S q1886 q1887 q73 q1888) rfl rfl 2 (by decide +kernel) ⟨(Nat.le_of_ble_eq_true rfl), (Nat.le_of_ble_eq_true rfl)⟩ (c_pre hP hD hS hA hK hE [] rfl rfl ro_nil) rfl hl.1 rfl (Nat.le_of_ble_eq_true rfl) dX4_milks_94 ⟨(Nat.le_of_ble_eq_true rfl), (Nat.le_of_ble_eq_true rfl)⟩) hP hD hS hA [] [0, 1] rfl rfl rfl (fun r_16 u_16 H locs hw_16 hP hD hS _ => ?_)
          obtain ⟨rfl, rfl⟩ := hw_16
          have hP : WP Γ [[(a, moE r i)], [((r 0), .inl (Γ.2.1 0, 523, .inl (upd g (10 * k + 23) ((g (10 * k + 23)) + (moLit g k (g 0 - g (10 * k + 20)))))))]] H := hP
          have hD : WD A [[(a, moE r i)], [((r 0), .inl (Γ.2.1 0, 523, .inl (upd g (10 * k + 23) ((g (10 * k + 23)) + (moLit g k (g 0 - g (10 * k + 20)))))))]] := hD
          refine lv_dup2_11 hx hb dX4_milks_97 rfl rfl ?_
          refine b_iald hx hb hK (b_at (k := 1) hP rfl) (10 * k + 24) rfl (by omega) (by omega) dX4_milks_98 ?_
          refine b_top (show (upd g (10 * k + 23) ((g (10 * k + 23)) + (moLit g k (g 0 - g (10 * k + 20)))) (10 * k + 24)) = (g (10 * k + 24)) from by rw [pk_un (by omega)]) ?_
          refine lv_iload hx hb dX4_milks_99 (lv_at hl 0 rfl) ?_
          refine lv_iadd hx hb dX4_milks_101 ?_
          refine b_iast hx hb hK hP hD hS 1 rfl (10 * k + 24) rfl (by omega) (by omega) dX4_milks_102 (fun H locs hP hD hS => ?_)
          have hP : WP Γ [[(a, moE r i)], [((r 0), .inl (Γ.2.1 0, 523, .inl (upd (upd g (10 * k + 23) ((g (10 * k + 23)) + (moLit g k (g 0 - g (10 * k + 20))))) (10 * k + 24) ((g (10 * k + 24)) + (moFree g)))))]] H := hP
          have hD : WD A [[(a, moE r i)], [((r 0), .inl (Γ.2.1 0, 523, .inl (upd (upd g (10 * k + 23) ((g (10 * k + 23)) + (moLit g k (g 0 - g (10 * k + 20))))) (10 * k + 24) ((g (10 * k + 24)) + (moFree g)))))]] := hD
          refine lv_aload_n hx hb dX4_milks_103 rfl (lv_at hl 3 rfl) ?_
          refine b_get (C := RX4) (T := TX4) (N := 16) (v := .ref (r 0)) hx hb hts in_X4 hown hK (b_at (k := 0) hP rfl) rfl 0 (by decide) q1807 (fun _ h9 => h9) rfl dX4_milks_104 ?_
          refine lv_bipush (v := 8) hx hb dX4_milks_107 (by decide) ?_
          refine lv_dup2_11 hx hb dX4_milks_109 rfl rfl ?_
          refine b_iald hx hb hK (b_at (k := 1) hP rfl) 8 rfl (by omega) (by omega) dX4_milks_110 ?_
          refine b_top (show (upd (upd g (10 * k + 23) ((g (10 * k + 23)) + (moLit g k (g 0 - g (10 * k + 20))))) (10 * k + 24) ((g (10 * k + 24)) + (moFree g)) 8) = (g 8) from by rw [pk_un (by omega), pk_un (by omega)]) ?_
          refine lv_iload hx hb dX4_milks_111 (lv_at hl 0 rfl) ?_
          refine lv_iadd hx hb dX4_milks_113 ?_
          refine b_iast hx hb hK hP hD hS 1 rfl 8 rfl (by omega) (by omega) dX4_milks_114 (fun H locs hP hD hS => ?_)
          have hP : WP Γ [[(a, moE r i)], [((r 0), .inl (Γ.2.1 0, 523, .inl (upd (upd (upd g (10 * k + 23) ((g (10 * k + 23)) + (moLit g k (g 0 - g (10 * k + 20))))) (10 * k + 24) ((g (10 * k + 24)) + (moFree g))) 8 ((g 8) + (moFree g)))))]] H := hP
          have hD : WD A [[(a, moE r i)], [((r 0), .inl (Γ.2.1 0, 523, .inl (upd (upd (upd g (10 * k + 23) ((g (10 * k + 23)) + (moLit g k (g 0 - g (10 * k + 20))))) (10 * k + 24) ((g (10 * k + 24)) + (moFree g))) 8 ((g 8) + (moFree g)))))]] := hD
          refine lv_aload_n hx hb dX4_milks_115 rfl (lv_at hl 3 rfl) ?_
          refine b_get (C := RX4) (T := TX4) (N := 16) (v := .ref (r 0)) hx hb hts in_X4 hown hK (b_at (k := 0) hP rfl) rfl 0 (by decide) q1807 (fun _ h9 => h9) rfl dX4_milks_116 ?_
          refine lv_bipush (v := 9) hx hb dX4_milks_119 (by decide) ?_
          refine lv_dup2_11 hx hb dX4_milks_121 rfl rfl ?_
          refine b_iald hx hb hK (b_at (k := 1) hP rfl) 9 rfl (by omega) (by omega) dX4_milks_122 ?_
          refine b_top (show (upd (upd (upd g (10 * k + 23) ((g (10 * k + 23)) + (moLit g k (g 0 - g (10 * k + 20))))) (10 * k + 24) ((g (10 * k + 24)) + (moFree g))) 8 ((g 8) + (moFree g)) 9) = (g 9) from by rw [pk_un (by omega), pk_un (by omega), pk_un (by omega)]) ?_
          refine lv_iload hx hb dX4_milks_123 (lv_at hl 0 rfl) ?_
          refine lv_aload_n hx hb dX4_milks_125 rfl (lv_at hl 3 rfl) ?_
          refine b_get (C := RX4) (T := TX4) (N := 16) (v := .ref (r 0)) hx hb hts in_X4 hown hK (b_at (k := 0) hP rfl) rfl 0 (by decide) q1807 (fun _ h9 => h9) rfl dX4_milks_126 ?_
          refine lv_iload_n hx hb dX4_milks_129 rfl (lv_at hl 4 rfl) ?_
          refine lv_iconst (v := 2) hx hb dX4_milks_130 (by decide) ?_
          refine b_calli (br := [[(a, moE r i)], [((r 0), .inl (Γ.2.1 0, 523, .inl (upd (upd (upd g (10 * k + 23) ((g (10 * k + 23)) + (moLit g k (g 0 - g (10 * k + 20))))) (10 * k + 24) ((g (10 * k + 24)) + (moFree g))) 8 ((g 8) + (moFree g)))))]]) (b_runS ⟨hx, hb, hml, hown, hts⟩ (mt_Mo_at l Γ _ k 2) (lw_S q1886 q1887 q73 q1888) rfl rfl 2 (by decide +kernel) ⟨(Nat.le_of_ble_eq_true rfl), (Nat.le_of_ble_eq_true rfl)⟩ (c_pre hP hD hS hA hK hE [] rfl rfl ro_nil) rfl hl.1 rfl (Nat.le_of_ble_eq_true rfl) dX4_milks_131 ⟨(Nat.le_of_ble_eq_true rfl), (Nat.le_of_ble_eq_true rfl)⟩) hP hD hS hA [] [0, 1] rfl rfl rfl (fun r_17 u_17 H locs hw_17 hP hD hS _ => ?_)
          obtain ⟨rfl, rfl⟩ := hw_17
          have hP : WP Γ [[(a, moE r i)], [((r 0), .inl (Γ.2.1 0, 523, .inl (upd (upd (upd g (10 * k + 23) ((g (10 * k + 23)) + (moLit g k (g 0 - g (10 * k + 20))))) (10 * k + 24) ((g (10 * k + 24)) + (moFree g))) 8 ((g 8) + (moFree g)))))]] H := hP
          have hD : WD A [[(a, moE r i)], [((r 0), .inl (Γ.2.1 0, 523, .inl (upd (upd (upd g (10 * k + 23) ((g (10 * k + 23)) + (moLit g k (g 0 - g (10 * k + 20))))) (10 * k + 24) ((g (10 * k + 24)) + (moFree g))) 8 ((g 8) + (moFree g)))))]] := hD
          refine b_iald hx hb hK (b_at (k := 1) hP rfl) (10 * k + 17) rfl (by omega) (by omega) dX4_milks_134 ?_
          refine b_top (show (upd (upd (upd g (10 * k + 23) ((g (10 * k + 23)) + (moLit g k (g 0 - g (10 * k + 20))))) (10 * k + 24) ((g (10 * k + 24)) + (moFree g))) 8 ((g 8) + (moFree g)) (10 * k + 17)) = (g (10 * k + 17)) from by rw [pk_un (by omega), pk_un (by omega), pk_un (by omega)]) ?_
          refine lv_imul hx hb dX4_milks_135 ?_
          refine lv_iadd hx hb dX4_milks_136 ?_
          refine b_iast hx hb hK hP hD hS 1 rfl 9 rfl (by omega) (by omega) dX4_milks_137 (fun H locs hP hD hS => ?_)
          have hP : WP Γ [[(a, moE r i)], [((r 0), .inl (Γ.2.1 0, 523, .inl (upd (upd (upd (upd g (10 * k + 23) ((g (10 * k + 23)) + (moLit g k (g 0 - g (10 * k + 20))))) (10 * k + 24) ((g (10 * k + 24)) + (moFree g))) 8 ((g 8) + (moFree g))) 9 ((g 9) + ((moFree g) * (g (10 * k + 17)))))))]] H := hP
          have hD : WD A [[(a, moE r i)], [((r 0), .inl (Γ.2.1 0, 523, .inl (upd (upd (upd (upd g (10 * k + 23) ((g (10 * k + 23)) + (moLit g k (g 0 - g (10 * k + 20))))) (10 * k + 24) ((g (10 * k + 24)) + (moFree g))) 8 ((g 8) + (moFree g))) 9 ((g 9) + ((moFree g) * (g (10 * k + 17)))))))]] := hD
          refine lv_aload_n hx hb dX4_milks_138 rfl (lv_at hl 3 rfl) ?_
          refine b_get (C := RX4) (T := TX4) (N := 16) (v := .ref (r 0)) hx hb hts in_X4 hown hK (b_at (k := 0) hP rfl) rfl 0 (by decide) q1807 (fun _ h9 => h9) rfl dX4_milks_139 ?_
          refine lv_bipush (v := 14) hx hb dX4_milks_142 (by decide) ?_
          refine lv_dup2_11 hx hb dX4_milks_144 rfl rfl ?_
          refine b_iald hx hb hK (b_at (k := 1) hP rfl) 14 rfl (by omega) (by omega) dX4_milks_145 ?_
          refine b_top (show (upd (upd (upd (upd g (10 * k + 23) ((g (10 * k + 23)) + (moLit g k (g 0 - g (10 * k + 20))))) (10 * k + 24) ((g (10 * k + 24)) + (moFree g))) 8 ((g 8) + (moFree g))) 9 ((g 9) + ((moFree g) * (g (10 * k + 17)))) 14) = (g 14) from by rw [pk_un (by omega), pk_un (by omega), pk_un (by omega), pk_un (by omega)]) ?_
          refine lv_iload_n hx hb dX4_milks_146 rfl (lv_at hl 2 rfl) ?_
          refine lv_iload hx hb dX4_milks_147 (lv_at hl 0 rfl) ?_
          refine lv_isub hx hb dX4_milks_149 ?_
          refine lv_iadd hx hb dX4_milks_150 ?_
          refine b_iast hx hb hK hP hD hS 1 rfl 14 rfl (by omega) (by omega) dX4_milks_151 (fun H locs hP hD hS => ?_)
          have hP : WP Γ [[(a, moE r i)], [((r 0), .inl (Γ.2.1 0, 523, .inl (upd (upd (upd (upd (upd g (10 * k + 23) ((g (10 * k + 23)) + (moLit g k (g 0 - g (10 * k + 20))))) (10 * k + 24) ((g (10 * k + 24)) + (moFree g))) 8 ((g 8) + (moFree g))) 9 ((g 9) + ((moFree g) * (g (10 * k + 17))))) 14 ((g 14) + ((moLit g k (g 0 - g (10 * k + 20))) - (moFree g))))))]] H := hP
          have hD : WD A [[(a, moE r i)], [((r 0), .inl (Γ.2.1 0, 523, .inl (upd (upd (upd (upd (upd g (10 * k + 23) ((g (10 * k + 23)) + (moLit g k (g 0 - g (10 * k + 20))))) (10 * k + 24) ((g (10 * k + 24)) + (moFree g))) 8 ((g 8) + (moFree g))) 9 ((g 9) + ((moFree g) * (g (10 * k + 17))))) 14 ((g 14) + ((moLit g k (g 0 - g (10 * k + 20))) - (moFree g))))))]] := hD
          exact b_vret hx hb hr hlocks hP hD hS (Nat.le_of_ble_eq_true rfl) (Nat.le_of_ble_eq_true rfl) (by first | with_reducible rfl | (simp [moMilk, moMilk5, moComes, c_4, c_10, d_10, n_11, c_13, d_13]; done) | rfl) dX4_milks_152
        · -- 59 not taken
          have d_13 := Int32.not_le.mp c_13
          refine lv_iload_n hx hb dX4_milks_62 rfl (lv_at hl 1 rfl) ?_
          refine lv_goto (tgt := 70) hx hb dX4_milks_63 (by decide) ?_
          refine lv_istore (lv' := [(4, .int (moLit g k (g 0 - g (10 * k + 20)))), (3, .int 0), (2, .int (moLit g k (g 0 - g (10 * k + 20)))), (0, .ref a), (1, .int (nI k))]) hx hb dX4_milks_70 hl (by decide) rfl (fun ls hl => ?_)
          refine lv_aload_n hx hb dX4_milks_72 rfl (lv_at hl 3 rfl) ?_
          refine b_get (C := RX4) (T := TX4) (N := 16) (v := .ref (r 0)) hx hb hts in_X4 hown hK (b_at (k := 0) hP rfl) rfl 0 (by decide) q1807 (fun _ h9 => h9) rfl dX4_milks_73 ?_
          refine lv_iload_n hx hb dX4_milks_76 rfl (lv_at hl 4 rfl) ?_
          refine lv_bipush (v := 8) hx hb dX4_milks_77 (by decide) ?_
          refine b_calli (br := [[(a, moE r i)], [((r 0), .inl (Γ.2.1 0, 523, .inl g))]]) (b_runS ⟨hx, hb, hml, hown, hts⟩ (mt_Mo_at l Γ _ k 8) (lw_S q1886 q1887 q73 q1888) rfl rfl 2 (by decide +kernel) ⟨(Nat.le_of_ble_eq_true rfl), (Nat.le_of_ble_eq_true rfl)⟩ (c_pre hP hD hS hA hK hE [] rfl rfl ro_nil) rfl hl.1 rfl (Nat.le_of_ble_eq_true rfl) dX4_milks_79 ⟨(Nat.le_of_ble_eq_true rfl), (Nat.le_of_ble_eq_true rfl)⟩) hP hD hS hA [] [0, 1] rfl rfl rfl (fun r_18 u_18 H locs hw_18 hP hD hS _ => ?_)
          obtain ⟨rfl, rfl⟩ := hw_18
          have hP : WP Γ [[(a, moE r i)], [((r 0), .inl (Γ.2.1 0, 523, .inl g))]] H := hP
          have hD : WD A [[(a, moE r i)], [((r 0), .inl (Γ.2.1 0, 523, .inl g))]] := hD
          refine lv_dup2_11 hx hb dX4_milks_82 rfl rfl ?_
          refine b_iald hx hb hK (b_at (k := 1) hP rfl) (10 * k + 23) rfl (by omega) (by omega) dX4_milks_83 ?_
          refine lv_iload_n hx hb dX4_milks_84 rfl (lv_at hl 2 rfl) ?_
          refine lv_iadd hx hb dX4_milks_85 ?_
          refine b_iast hx hb hK hP hD hS 1 rfl (10 * k + 23) rfl (by omega) (by omega) dX4_milks_86 (fun H locs hP hD hS => ?_)
          have hP : WP Γ [[(a, moE r i)], [((r 0), .inl (Γ.2.1 0, 523, .inl (upd g (10 * k + 23) ((g (10 * k + 23)) + (moLit g k (g 0 - g (10 * k + 20)))))))]] H := hP
          have hD : WD A [[(a, moE r i)], [((r 0), .inl (Γ.2.1 0, 523, .inl (upd g (10 * k + 23) ((g (10 * k + 23)) + (moLit g k (g 0 - g (10 * k + 20)))))))]] := hD
          refine lv_aload_n hx hb dX4_milks_87 rfl (lv_at hl 3 rfl) ?_
          refine b_get (C := RX4) (T := TX4) (N := 16) (v := .ref (r 0)) hx hb hts in_X4 hown hK (b_at (k := 0) hP rfl) rfl 0 (by decide) q1807 (fun _ h9 => h9) rfl dX4_milks_88 ?_
          refine lv_iload_n hx hb dX4_milks_91 rfl (lv_at hl 4 rfl) ?_
          refine lv_bipush (v := 9) hx hb dX4_milks_92 (by decide) ?_
          refine b_calli (br := [[(a, moE r i)], [((r 0), .inl (Γ.2.1 0, 523, .inl (upd g (10 * k + 23) ((g (10 * k + 23)) + (moLit g k (g 0 - g (10 * k + 20)))))))]]) (b_runS ⟨hx, hb, hml, hown, hts⟩ (mt_Mo_at l Γ _ k 9) (lw_S q1886 q1887 q73 q1888) rfl rfl 2 (by decide +kernel) ⟨(Nat.le_of_ble_eq_true rfl), (Nat.le_of_ble_eq_true rfl)⟩ (c_pre hP hD hS hA hK hE [] rfl rfl ro_nil) rfl hl.1 rfl (Nat.le_of_ble_eq_true rfl) dX4_milks_94 ⟨(Nat.le_of_ble_eq_true rfl), (Nat.le_of_ble_eq_true rfl)⟩) hP hD hS hA [] [0, 1] rfl rfl rfl (fun r_19 u_19 H locs hw_19 hP hD hS _ => ?_)
          obtain ⟨rfl, rfl⟩ := hw_19
          have hP : WP Γ [[(a, moE r i)], [((r 0), .inl (Γ.2.1 0, 523, .inl (upd g (10 * k + 23) ((g (10 * k + 23)) + (moLit g k (g 0 - g (10 * k + 20)))))))]] H := hP
          have hD : WD A [[(a, moE r i)], [((r 0), .inl (Γ.2.1 0, 523, .inl (upd g (10 * k + 23) ((g (10 * k + 23)) + (moLit g k (g 0 - g (10 * k + 20)))))))]] := hD
          refine lv_dup2_11 hx hb dX4_milks_97 rfl rfl ?_
          refine b_iald hx hb hK (b_at (k := 1) hP rfl) (10 * k + 24) rfl (by omega) (by omega) dX4_milks_98 ?_
          refine b_top (show (upd g (10 * k + 23) ((g (10 * k + 23)) + (moLit g k (g 0 - g (10 * k + 20)))) (10 * k + 24)) = (g (10 * k + 24)) from by rw [pk_un (by omega)]) ?_
          refine lv_iload hx hb dX4_milks_99 (lv_at hl 0 rfl) ?_
          refine lv_iadd hx hb dX4_milks_101 ?_
          refine b_iast hx hb hK hP hD hS 1 rfl (10 * k + 24) rfl (by omega) (by omega) dX4_milks_102 (fun H locs hP hD hS => ?_)
          have hP : WP Γ [[(a, moE r i)], [((r 0), .inl (Γ.2.1 0, 523, .inl (upd (upd g (10 * k + 23) ((g (10 * k + 23)) + (moLit g k (g 0 - g (10 * k + 20))))) (10 * k + 24) ((g (10 * k + 24)) + (moLit g k (g 0 - g (10 * k + 20)))))))]] H := hP
          have hD : WD A [[(a, moE r i)], [((r 0), .inl (Γ.2.1 0, 523, .inl (upd (upd g (10 * k + 23) ((g (10 * k + 23)) + (moLit g k (g 0 - g (10 * k + 20))))) (10 * k + 24) ((g (10 * k + 24)) + (moLit g k (g 0 - g (10 * k + 20)))))))]] := hD
          refine lv_aload_n hx hb dX4_milks_103 rfl (lv_at hl 3 rfl) ?_
          refine b_get (C := RX4) (T := TX4) (N := 16) (v := .ref (r 0)) hx hb hts in_X4 hown hK (b_at (k := 0) hP rfl) rfl 0 (by decide) q1807 (fun _ h9 => h9) rfl dX4_milks_104 ?_
          refine lv_bipush (v := 8) hx hb dX4_milks_107 (by decide) ?_
          refine lv_dup2_11 hx hb dX4_milks_109 rfl rfl ?_
          refine b_iald hx hb hK (b_at (k := 1) hP rfl) 8 rfl (by omega) (by omega) dX4_milks_110 ?_
          refine b_top (show (upd (upd g (10 * k + 23) ((g (10 * k + 23)) + (moLit g k (g 0 - g (10 * k + 20))))) (10 * k + 24) ((g (10 * k + 24)) + (moLit g k (g 0 - g (10 * k + 20)))) 8) = (g 8) from by rw [pk_un (by omega), pk_un (by omega)]) ?_
          refine lv_iload hx hb dX4_milks_111 (lv_at hl 0 rfl) ?_
          refine lv_iadd hx hb dX4_milks_113 ?_
          refine b_iast hx hb hK hP hD hS 1 rfl 8 rfl (by omega) (by omega) dX4_milks_114 (fun H locs hP hD hS => ?_)
          have hP : WP Γ [[(a, moE r i)], [((r 0), .inl (Γ.2.1 0, 523, .inl (upd (upd (upd g (10 * k + 23) ((g (10 * k + 23)) + (moLit g k (g 0 - g (10 * k + 20))))) (10 * k + 24) ((g (10 * k + 24)) + (moLit g k (g 0 - g (10 * k + 20))))) 8 ((g 8) + (moLit g k (g 0 - g (10 * k + 20)))))))]] H := hP
          have hD : WD A [[(a, moE r i)], [((r 0), .inl (Γ.2.1 0, 523, .inl (upd (upd (upd g (10 * k + 23) ((g (10 * k + 23)) + (moLit g k (g 0 - g (10 * k + 20))))) (10 * k + 24) ((g (10 * k + 24)) + (moLit g k (g 0 - g (10 * k + 20))))) 8 ((g 8) + (moLit g k (g 0 - g (10 * k + 20)))))))]] := hD
          refine lv_aload_n hx hb dX4_milks_115 rfl (lv_at hl 3 rfl) ?_
          refine b_get (C := RX4) (T := TX4) (N := 16) (v := .ref (r 0)) hx hb hts in_X4 hown hK (b_at (k := 0) hP rfl) rfl 0 (by decide) q1807 (fun _ h9 => h9) rfl dX4_milks_116 ?_
          refine lv_bipush (v := 9) hx hb dX4_milks_119 (by decide) ?_
          refine lv_dup2_11 hx hb dX4_milks_121 rfl rfl ?_
          refine b_iald hx hb hK (b_at (k := 1) hP rfl) 9 rfl (by omega) (by omega) dX4_milks_122 ?_
          refine b_top (show (upd (upd (upd g (10 * k + 23) ((g (10 * k + 23)) + (moLit g k (g 0 - g (10 * k + 20))))) (10 * k + 24) ((g (10 * k + 24)) + (moLit g k (g 0 - g (10 * k + 20))))) 8 ((g 8) + (moLit g k (g 0 - g (10 * k + 20)))) 9) = (g 9) from by rw [pk_un (by omega), pk_un (by omega), pk_un (by omega)]) ?_
          refine lv_iload hx hb dX4_milks_123 (lv_at hl 0 rfl) ?_
          refine lv_aload_n hx hb dX4_milks_125 rfl (lv_at hl 3 rfl) ?_
          refine b_get (C := RX4) (T := TX4) (N := 16) (v := .ref (r 0)) hx hb hts in_X4 hown hK (b_at (k := 0) hP rfl) rfl 0 (by decide) q1807 (fun _ h9 => h9) rfl dX4_milks_126 ?_
          refine lv_iload_n hx hb dX4_milks_129 rfl (lv_at hl 4 rfl) ?_
          refine lv_iconst (v := 2) hx hb dX4_milks_130 (by decide) ?_
          refine b_calli (br := [[(a, moE r i)], [((r 0), .inl (Γ.2.1 0, 523, .inl (upd (upd (upd g (10 * k + 23) ((g (10 * k + 23)) + (moLit g k (g 0 - g (10 * k + 20))))) (10 * k + 24) ((g (10 * k + 24)) + (moLit g k (g 0 - g (10 * k + 20))))) 8 ((g 8) + (moLit g k (g 0 - g (10 * k + 20)))))))]]) (b_runS ⟨hx, hb, hml, hown, hts⟩ (mt_Mo_at l Γ _ k 2) (lw_S q1886 q1887 q73 q1888) rfl rfl 2 (by decide +kernel) ⟨(Nat.le_of_ble_eq_true rfl), (Nat.le_of_ble_eq_true rfl)⟩ (c_pre hP hD hS hA hK hE [] rfl rfl ro_nil) rfl hl.1 rfl (Nat.le_of_ble_eq_true rfl) dX4_milks_131 ⟨(Nat.le_of_ble_eq_true rfl), (Nat.le_of_ble_eq_true rfl)⟩) hP hD hS hA [] [0, 1] rfl rfl rfl (fun r_20 u_20 H locs hw_20 hP hD hS _ => ?_)
          obtain ⟨rfl, rfl⟩ := hw_20
          have hP : WP Γ [[(a, moE r i)], [((r 0), .inl (Γ.2.1 0, 523, .inl (upd (upd (upd g (10 * k + 23) ((g (10 * k + 23)) + (moLit g k (g 0 - g (10 * k + 20))))) (10 * k + 24) ((g (10 * k + 24)) + (moLit g k (g 0 - g (10 * k + 20))))) 8 ((g 8) + (moLit g k (g 0 - g (10 * k + 20)))))))]] H := hP
          have hD : WD A [[(a, moE r i)], [((r 0), .inl (Γ.2.1 0, 523, .inl (upd (upd (upd g (10 * k + 23) ((g (10 * k + 23)) + (moLit g k (g 0 - g (10 * k + 20))))) (10 * k + 24) ((g (10 * k + 24)) + (moLit g k (g 0 - g (10 * k + 20))))) 8 ((g 8) + (moLit g k (g 0 - g (10 * k + 20)))))))]] := hD
          refine b_iald hx hb hK (b_at (k := 1) hP rfl) (10 * k + 17) rfl (by omega) (by omega) dX4_milks_134 ?_
          refine b_top (show (upd (upd (upd g (10 * k + 23) ((g (10 * k + 23)) + (moLit g k (g 0 - g (10 * k + 20))))) (10 * k + 24) ((g (10 * k + 24)) + (moLit g k (g 0 - g (10 * k + 20))))) 8 ((g 8) + (moLit g k (g 0 - g (10 * k + 20)))) (10 * k + 17)) = (g (10 * k + 17)) from by rw [pk_un (by omega), pk_un (by omega), pk_un (by omega)]) ?_
          refine lv_imul hx hb dX4_milks_135 ?_
          refine lv_iadd hx hb dX4_milks_136 ?_
          refine b_iast hx hb hK hP hD hS 1 rfl 9 rfl (by omega) (by omega) dX4_milks_137 (fun H locs hP hD hS => ?_)
          have hP : WP Γ [[(a, moE r i)], [((r 0), .inl (Γ.2.1 0, 523, .inl (upd (upd (upd (upd g (10 * k + 23) ((g (10 * k + 23)) + (moLit g k (g 0 - g (10 * k + 20))))) (10 * k + 24) ((g (10 * k + 24)) + (moLit g k (g 0 - g (10 * k + 20))))) 8 ((g 8) + (moLit g k (g 0 - g (10 * k + 20))))) 9 ((g 9) + ((moLit g k (g 0 - g (10 * k + 20))) * (g (10 * k + 17)))))))]] H := hP
          have hD : WD A [[(a, moE r i)], [((r 0), .inl (Γ.2.1 0, 523, .inl (upd (upd (upd (upd g (10 * k + 23) ((g (10 * k + 23)) + (moLit g k (g 0 - g (10 * k + 20))))) (10 * k + 24) ((g (10 * k + 24)) + (moLit g k (g 0 - g (10 * k + 20))))) 8 ((g 8) + (moLit g k (g 0 - g (10 * k + 20))))) 9 ((g 9) + ((moLit g k (g 0 - g (10 * k + 20))) * (g (10 * k + 17)))))))]] := hD
          refine lv_aload_n hx hb dX4_milks_138 rfl (lv_at hl 3 rfl) ?_
          refine b_get (C := RX4) (T := TX4) (N := 16) (v := .ref (r 0)) hx hb hts in_X4 hown hK (b_at (k := 0) hP rfl) rfl 0 (by decide) q1807 (fun _ h9 => h9) rfl dX4_milks_139 ?_
          refine lv_bipush (v := 14) hx hb dX4_milks_142 (by decide) ?_
          refine lv_dup2_11 hx hb dX4_milks_144 rfl rfl ?_
          refine b_iald hx hb hK (b_at (k := 1) hP rfl) 14 rfl (by omega) (by omega) dX4_milks_145 ?_
          refine b_top (show (upd (upd (upd (upd g (10 * k + 23) ((g (10 * k + 23)) + (moLit g k (g 0 - g (10 * k + 20))))) (10 * k + 24) ((g (10 * k + 24)) + (moLit g k (g 0 - g (10 * k + 20))))) 8 ((g 8) + (moLit g k (g 0 - g (10 * k + 20))))) 9 ((g 9) + ((moLit g k (g 0 - g (10 * k + 20))) * (g (10 * k + 17)))) 14) = (g 14) from by rw [pk_un (by omega), pk_un (by omega), pk_un (by omega), pk_un (by omega)]) ?_
          refine lv_iload_n hx hb dX4_milks_146 rfl (lv_at hl 2 rfl) ?_
          refine lv_iload hx hb dX4_milks_147 (lv_at hl 0 rfl) ?_
          refine lv_isub hx hb dX4_milks_149 ?_
          refine lv_iadd hx hb dX4_milks_150 ?_
          refine b_iast hx hb hK hP hD hS 1 rfl 14 rfl (by omega) (by omega) dX4_milks_151 (fun H locs hP hD hS => ?_)
          have hP : WP Γ [[(a, moE r i)], [((r 0), .inl (Γ.2.1 0, 523, .inl (upd (upd (upd (upd (upd g (10 * k + 23) ((g (10 * k + 23)) + (moLit g k (g 0 - g (10 * k + 20))))) (10 * k + 24) ((g (10 * k + 24)) + (moLit g k (g 0 - g (10 * k + 20))))) 8 ((g 8) + (moLit g k (g 0 - g (10 * k + 20))))) 9 ((g 9) + ((moLit g k (g 0 - g (10 * k + 20))) * (g (10 * k + 17))))) 14 ((g 14) + ((moLit g k (g 0 - g (10 * k + 20))) - (moLit g k (g 0 - g (10 * k + 20))))))))]] H := hP
          have hD : WD A [[(a, moE r i)], [((r 0), .inl (Γ.2.1 0, 523, .inl (upd (upd (upd (upd (upd g (10 * k + 23) ((g (10 * k + 23)) + (moLit g k (g 0 - g (10 * k + 20))))) (10 * k + 24) ((g (10 * k + 24)) + (moLit g k (g 0 - g (10 * k + 20))))) 8 ((g 8) + (moLit g k (g 0 - g (10 * k + 20))))) 9 ((g 9) + ((moLit g k (g 0 - g (10 * k + 20))) * (g (10 * k + 17))))) 14 ((g 14) + ((moLit g k (g 0 - g (10 * k + 20))) - (moLit g k (g 0 - g (10 * k + 20))))))))]] := hD
          exact b_vret hx hb hr hlocks hP hD hS (Nat.le_of_ble_eq_true rfl) (Nat.le_of_ble_eq_true rfl) (by first | with_reducible rfl | (simp [moMilk, moMilk5, moComes, c_4, c_10, d_10, n_11, c_13, d_13]; done) | rfl) dX4_milks_152
      · -- 47 not taken
        have n_11 : ¬ (0 = 0) := fun h => c_11 ((nI_eq (a := 0) (b := 0) (by omega) (by omega)).mpr h)
        exact absurd n_11 (by omega)
    · -- 37 not taken
      have d_10 := Int32.not_le.mp c_10
      refine lv_iconst (v := 1) hx hb dX4_milks_40 (by decide) ?_
      refine lv_goto (tgt := 45) hx hb dX4_milks_41 (by decide) ?_
      refine lv_istore_n (lv' := [(3, .int 1), (2, .int (moLit g k (g 0 - g (10 * k + 20)))), (0, .ref a), (1, .int (nI k))]) hx hb dX4_milks_45 rfl hl (by decide) rfl (fun ls hl => ?_)
      refine lv_iload_n hx hb dX4_milks_46 rfl (lv_at hl 0 rfl) ?_
      refine lv_if_eq (tgt := 54) hx hb dX4_milks_47 (by decide) (fun c_21 => ?_) (fun c_21 => ?_)
      · -- 47 taken
        have n_21 : 1 = 0 := (nI_eq (by omega) (by omega)).mp (show nI 1 = nI 0 from c_21)
        exact absurd n_21 (by omega)
      · -- 47 not taken
        have n_21 : ¬ (1 = 0) := fun h => c_21 ((nI_eq (a := 1) (b := 0) (by omega) (by omega)).mpr h)
        refine lv_iconst (v := 0) hx hb dX4_milks_50 (by decide) ?_
        refine lv_goto (tgt := 70) hx hb dX4_milks_51 (by decide) ?_
        refine lv_istore (lv' := [(4, .int 0), (3, .int 1), (2, .int (moLit g k (g 0 - g (10 * k + 20)))), (0, .ref a), (1, .int (nI k))]) hx hb dX4_milks_70 hl (by decide) rfl (fun ls hl => ?_)
        refine lv_aload_n hx hb dX4_milks_72 rfl (lv_at hl 3 rfl) ?_
        refine b_get (C := RX4) (T := TX4) (N := 16) (v := .ref (r 0)) hx hb hts in_X4 hown hK (b_at (k := 0) hP rfl) rfl 0 (by decide) q1807 (fun _ h9 => h9) rfl dX4_milks_73 ?_
        refine lv_iload_n hx hb dX4_milks_76 rfl (lv_at hl 4 rfl) ?_
        refine lv_bipush (v := 8) hx hb dX4_milks_77 (by decide) ?_
        refine b_calli (br := [[(a, moE r i)], [((r 0), .inl (Γ.2.1 0, 523, .inl g))]]) (b_runS ⟨hx, hb, hml, hown, hts⟩ (mt_Mo_at l Γ _ k 8) (lw_S q1886 q1887 q73 q1888) rfl rfl 2 (by decide +kernel) ⟨(Nat.le_of_ble_eq_true rfl), (Nat.le_of_ble_eq_true rfl)⟩ (c_pre hP hD hS hA hK hE [] rfl rfl ro_nil) rfl hl.1 rfl (Nat.le_of_ble_eq_true rfl) dX4_milks_79 ⟨(Nat.le_of_ble_eq_true rfl), (Nat.le_of_ble_eq_true rfl)⟩) hP hD hS hA [] [0, 1] rfl rfl rfl (fun r_22 u_22 H locs hw_22 hP hD hS _ => ?_)
        obtain ⟨rfl, rfl⟩ := hw_22
        have hP : WP Γ [[(a, moE r i)], [((r 0), .inl (Γ.2.1 0, 523, .inl g))]] H := hP
        have hD : WD A [[(a, moE r i)], [((r 0), .inl (Γ.2.1 0, 523, .inl g))]] := hD
        refine lv_dup2_11 hx hb dX4_milks_82 rfl rfl ?_
        refine b_iald hx hb hK (b_at (k := 1) hP rfl) (10 * k + 23) rfl (by omega) (by omega) dX4_milks_83 ?_
        refine lv_iload_n hx hb dX4_milks_84 rfl (lv_at hl 2 rfl) ?_
        refine lv_iadd hx hb dX4_milks_85 ?_
        refine b_iast hx hb hK hP hD hS 1 rfl (10 * k + 23) rfl (by omega) (by omega) dX4_milks_86 (fun H locs hP hD hS => ?_)
        have hP : WP Γ [[(a, moE r i)], [((r 0), .inl (Γ.2.1 0, 523, .inl (upd g (10 * k + 23) ((g (10 * k + 23)) + (moLit g k (g 0 - g (10 * k + 20)))))))]] H := hP
        have hD : WD A [[(a, moE r i)], [((r 0), .inl (Γ.2.1 0, 523, .inl (upd g (10 * k + 23) ((g (10 * k + 23)) + (moLit g k (g 0 - g (10 * k + 20)))))))]] := hD
        refine lv_aload_n hx hb dX4_milks_87 rfl (lv_at hl 3 rfl) ?_
        refine b_get (C := RX4) (T := TX4) (N := 16) (v := .ref (r 0)) hx hb hts in_X4 hown hK (b_at (k := 0) hP rfl) rfl 0 (by decide) q1807 (fun _ h9 => h9) rfl dX4_milks_88 ?_
        refine lv_iload_n hx hb dX4_milks_91 rfl (lv_at hl 4 rfl) ?_
        refine lv_bipush (v := 9) hx hb dX4_milks_92 (by decide) ?_
        refine b_calli (br := [[(a, moE r i)], [((r 0), .inl (Γ.2.1 0, 523, .inl (upd g (10 * k + 23) ((g (10 * k + 23)) + (moLit g k (g 0 - g (10 * k + 20)))))))]]) (b_runS ⟨hx, hb, hml, hown, hts⟩ (mt_Mo_at l Γ _ k 9) (lw_S q1886 q1887 q73 q1888) rfl rfl 2 (by decide +kernel) ⟨(Nat.le_of_ble_eq_true rfl), (Nat.le_of_ble_eq_true rfl)⟩ (c_pre hP hD hS hA hK hE [] rfl rfl ro_nil) rfl hl.1 rfl (Nat.le_of_ble_eq_true rfl) dX4_milks_94 ⟨(Nat.le_of_ble_eq_true rfl), (Nat.le_of_ble_eq_true rfl)⟩) hP hD hS hA [] [0, 1] rfl rfl rfl (fun r_23 u_23 H locs hw_23 hP hD hS _ => ?_)
        obtain ⟨rfl, rfl⟩ := hw_23
        have hP : WP Γ [[(a, moE r i)], [((r 0), .inl (Γ.2.1 0, 523, .inl (upd g (10 * k + 23) ((g (10 * k + 23)) + (moLit g k (g 0 - g (10 * k + 20)))))))]] H := hP
        have hD : WD A [[(a, moE r i)], [((r 0), .inl (Γ.2.1 0, 523, .inl (upd g (10 * k + 23) ((g (10 * k + 23)) + (moLit g k (g 0 - g (10 * k + 20)))))))]] := hD
        refine lv_dup2_11 hx hb dX4_milks_97 rfl rfl ?_
        refine b_iald hx hb hK (b_at (k := 1) hP rfl) (10 * k + 24) rfl (by omega) (by omega) dX4_milks_98 ?_
        refine b_top (show (upd g (10 * k + 23) ((g (10 * k + 23)) + (moLit g k (g 0 - g (10 * k + 20)))) (10 * k + 24)) = (g (10 * k + 24)) from by rw [pk_un (by omega)]) ?_
        refine lv_iload hx hb dX4_milks_99 (lv_at hl 0 rfl) ?_
        refine lv_iadd hx hb dX4_milks_101 ?_
        refine b_iast hx hb hK hP hD hS 1 rfl (10 * k + 24) rfl (by omega) (by omega) dX4_milks_102 (fun H locs hP hD hS => ?_)
        have hP : WP Γ [[(a, moE r i)], [((r 0), .inl (Γ.2.1 0, 523, .inl (upd (upd g (10 * k + 23) ((g (10 * k + 23)) + (moLit g k (g 0 - g (10 * k + 20))))) (10 * k + 24) ((g (10 * k + 24)) + 0))))]] H := hP
        have hD : WD A [[(a, moE r i)], [((r 0), .inl (Γ.2.1 0, 523, .inl (upd (upd g (10 * k + 23) ((g (10 * k + 23)) + (moLit g k (g 0 - g (10 * k + 20))))) (10 * k + 24) ((g (10 * k + 24)) + 0))))]] := hD
        refine lv_aload_n hx hb dX4_milks_103 rfl (lv_at hl 3 rfl) ?_
        refine b_get (C := RX4) (T := TX4) (N := 16) (v := .ref (r 0)) hx hb hts in_X4 hown hK (b_at (k := 0) hP rfl) rfl 0 (by decide) q1807 (fun _ h9 => h9) rfl dX4_milks_104 ?_
        refine lv_bipush (v := 8) hx hb dX4_milks_107 (by decide) ?_
        refine lv_dup2_11 hx hb dX4_milks_109 rfl rfl ?_
        refine b_iald hx hb hK (b_at (k := 1) hP rfl) 8 rfl (by omega) (by omega) dX4_milks_110 ?_
        refine b_top (show (upd (upd g (10 * k + 23) ((g (10 * k + 23)) + (moLit g k (g 0 - g (10 * k + 20))))) (10 * k + 24) ((g (10 * k + 24)) + 0) 8) = (g 8) from by rw [pk_un (by omega), pk_un (by omega)]) ?_
        refine lv_iload hx hb dX4_milks_111 (lv_at hl 0 rfl) ?_
        refine lv_iadd hx hb dX4_milks_113 ?_
        refine b_iast hx hb hK hP hD hS 1 rfl 8 rfl (by omega) (by omega) dX4_milks_114 (fun H locs hP hD hS => ?_)
        have hP : WP Γ [[(a, moE r i)], [((r 0), .inl (Γ.2.1 0, 523, .inl (upd (upd (upd g (10 * k + 23) ((g (10 * k + 23)) + (moLit g k (g 0 - g (10 * k + 20))))) (10 * k + 24) ((g (10 * k + 24)) + 0)) 8 ((g 8) + 0))))]] H := hP
        have hD : WD A [[(a, moE r i)], [((r 0), .inl (Γ.2.1 0, 523, .inl (upd (upd (upd g (10 * k + 23) ((g (10 * k + 23)) + (moLit g k (g 0 - g (10 * k + 20))))) (10 * k + 24) ((g (10 * k + 24)) + 0)) 8 ((g 8) + 0))))]] := hD
        refine lv_aload_n hx hb dX4_milks_115 rfl (lv_at hl 3 rfl) ?_
        refine b_get (C := RX4) (T := TX4) (N := 16) (v := .ref (r 0)) hx hb hts in_X4 hown hK (b_at (k := 0) hP rfl) rfl 0 (by decide) q1807 (fun _ h9 => h9) rfl dX4_milks_116 ?_
        refine lv_bipush (v := 9) hx hb dX4_milks_119 (by decide) ?_
        refine lv_dup2_11 hx hb dX4_milks_121 rfl rfl ?_
        refine b_iald hx hb hK (b_at (k := 1) hP rfl) 9 rfl (by omega) (by omega) dX4_milks_122 ?_
        refine b_top (show (upd (upd (upd g (10 * k + 23) ((g (10 * k + 23)) + (moLit g k (g 0 - g (10 * k + 20))))) (10 * k + 24) ((g (10 * k + 24)) + 0)) 8 ((g 8) + 0) 9) = (g 9) from by rw [pk_un (by omega), pk_un (by omega), pk_un (by omega)]) ?_
        refine lv_iload hx hb dX4_milks_123 (lv_at hl 0 rfl) ?_
        refine lv_aload_n hx hb dX4_milks_125 rfl (lv_at hl 3 rfl) ?_
        refine b_get (C := RX4) (T := TX4) (N := 16) (v := .ref (r 0)) hx hb hts in_X4 hown hK (b_at (k := 0) hP rfl) rfl 0 (by decide) q1807 (fun _ h9 => h9) rfl dX4_milks_126 ?_
        refine lv_iload_n hx hb dX4_milks_129 rfl (lv_at hl 4 rfl) ?_
        refine lv_iconst (v := 2) hx hb dX4_milks_130 (by decide) ?_
        refine b_calli (br := [[(a, moE r i)], [((r 0), .inl (Γ.2.1 0, 523, .inl (upd (upd (upd g (10 * k + 23) ((g (10 * k + 23)) + (moLit g k (g 0 - g (10 * k + 20))))) (10 * k + 24) ((g (10 * k + 24)) + 0)) 8 ((g 8) + 0))))]]) (b_runS ⟨hx, hb, hml, hown, hts⟩ (mt_Mo_at l Γ _ k 2) (lw_S q1886 q1887 q73 q1888) rfl rfl 2 (by decide +kernel) ⟨(Nat.le_of_ble_eq_true rfl), (Nat.le_of_ble_eq_true rfl)⟩ (c_pre hP hD hS hA hK hE [] rfl rfl ro_nil) rfl hl.1 rfl (Nat.le_of_ble_eq_true rfl) dX4_milks_131 ⟨(Nat.le_of_ble_eq_true rfl), (Nat.le_of_ble_eq_true rfl)⟩) hP hD hS hA [] [0, 1] rfl rfl rfl (fun r_24 u_24 H locs hw_24 hP hD hS _ => ?_)
        obtain ⟨rfl, rfl⟩ := hw_24
        have hP : WP Γ [[(a, moE r i)], [((r 0), .inl (Γ.2.1 0, 523, .inl (upd (upd (upd g (10 * k + 23) ((g (10 * k + 23)) + (moLit g k (g 0 - g (10 * k + 20))))) (10 * k + 24) ((g (10 * k + 24)) + 0)) 8 ((g 8) + 0))))]] H := hP
        have hD : WD A [[(a, moE r i)], [((r 0), .inl (Γ.2.1 0, 523, .inl (upd (upd (upd g (10 * k + 23) ((g (10 * k + 23)) + (moLit g k (g 0 - g (10 * k + 20))))) (10 * k + 24) ((g (10 * k + 24)) + 0)) 8 ((g 8) + 0))))]] := hD
        refine b_iald hx hb hK (b_at (k := 1) hP rfl) (10 * k + 17) rfl (by omega) (by omega) dX4_milks_134 ?_
        refine b_top (show (upd (upd (upd g (10 * k + 23) ((g (10 * k + 23)) + (moLit g k (g 0 - g (10 * k + 20))))) (10 * k + 24) ((g (10 * k + 24)) + 0)) 8 ((g 8) + 0) (10 * k + 17)) = (g (10 * k + 17)) from by rw [pk_un (by omega), pk_un (by omega), pk_un (by omega)]) ?_
        refine lv_imul hx hb dX4_milks_135 ?_
        refine lv_iadd hx hb dX4_milks_136 ?_
        refine b_iast hx hb hK hP hD hS 1 rfl 9 rfl (by omega) (by omega) dX4_milks_137 (fun H locs hP hD hS => ?_)
        have hP : WP Γ [[(a, moE r i)], [((r 0), .inl (Γ.2.1 0, 523, .inl (upd (upd (upd (upd g (10 * k + 23) ((g (10 * k + 23)) + (moLit g k (g 0 - g (10 * k + 20))))) (10 * k + 24) ((g (10 * k + 24)) + 0)) 8 ((g 8) + 0)) 9 ((g 9) + (0 * (g (10 * k + 17)))))))]] H := hP
        have hD : WD A [[(a, moE r i)], [((r 0), .inl (Γ.2.1 0, 523, .inl (upd (upd (upd (upd g (10 * k + 23) ((g (10 * k + 23)) + (moLit g k (g 0 - g (10 * k + 20))))) (10 * k + 24) ((g (10 * k + 24)) + 0)) 8 ((g 8) + 0)) 9 ((g 9) + (0 * (g (10 * k + 17)))))))]] := hD
        refine lv_aload_n hx hb dX4_milks_138 rfl (lv_at hl 3 rfl) ?_
        refine b_get (C := RX4) (T := TX4) (N := 16) (v := .ref (r 0)) hx hb hts in_X4 hown hK (b_at (k := 0) hP rfl) rfl 0 (by decide) q1807 (fun _ h9 => h9) rfl dX4_milks_139 ?_
        refine lv_bipush (v := 14) hx hb dX4_milks_142 (by decide) ?_
        refine lv_dup2_11 hx hb dX4_milks_144 rfl rfl ?_
        refine b_iald hx hb hK (b_at (k := 1) hP rfl) 14 rfl (by omega) (by omega) dX4_milks_145 ?_
        refine b_top (show (upd (upd (upd (upd g (10 * k + 23) ((g (10 * k + 23)) + (moLit g k (g 0 - g (10 * k + 20))))) (10 * k + 24) ((g (10 * k + 24)) + 0)) 8 ((g 8) + 0)) 9 ((g 9) + (0 * (g (10 * k + 17)))) 14) = (g 14) from by rw [pk_un (by omega), pk_un (by omega), pk_un (by omega), pk_un (by omega)]) ?_
        refine lv_iload_n hx hb dX4_milks_146 rfl (lv_at hl 2 rfl) ?_
        refine lv_iload hx hb dX4_milks_147 (lv_at hl 0 rfl) ?_
        refine lv_isub hx hb dX4_milks_149 ?_
        refine lv_iadd hx hb dX4_milks_150 ?_
        refine b_iast hx hb hK hP hD hS 1 rfl 14 rfl (by omega) (by omega) dX4_milks_151 (fun H locs hP hD hS => ?_)
        have hP : WP Γ [[(a, moE r i)], [((r 0), .inl (Γ.2.1 0, 523, .inl (upd (upd (upd (upd (upd g (10 * k + 23) ((g (10 * k + 23)) + (moLit g k (g 0 - g (10 * k + 20))))) (10 * k + 24) ((g (10 * k + 24)) + 0)) 8 ((g 8) + 0)) 9 ((g 9) + (0 * (g (10 * k + 17))))) 14 ((g 14) + ((moLit g k (g 0 - g (10 * k + 20))) - 0)))))]] H := hP
        have hD : WD A [[(a, moE r i)], [((r 0), .inl (Γ.2.1 0, 523, .inl (upd (upd (upd (upd (upd g (10 * k + 23) ((g (10 * k + 23)) + (moLit g k (g 0 - g (10 * k + 20))))) (10 * k + 24) ((g (10 * k + 24)) + 0)) 8 ((g 8) + 0)) 9 ((g 9) + (0 * (g (10 * k + 17))))) 14 ((g 14) + ((moLit g k (g 0 - g (10 * k + 20))) - 0)))))]] := hD
        exact b_vret hx hb hr hlocks hP hD hS (Nat.le_of_ble_eq_true rfl) (Nat.le_of_ble_eq_true rfl) (by first | with_reducible rfl | (simp [moMilk, moMilk5, moComes, c_4, c_10, d_10, n_21]; done) | rfl) dX4_milks_152
def shiftP (g : Nat → Int32) (j : Nat) : Nat → Int32 := fun q => if 103 ≤ q ∧ q < 103 + j then g (q + 7) else g q
theorem shiftP_0 (g : Nat → Int32) : shiftP g 0 = g := by
  funext q
  rw [shiftP, if_neg (by omega)]
theorem shiftP_step (g : Nat → Int32) (j : Nat) : upd (shiftP g j) (j + 103) (shiftP g j (j + 110)) = shiftP g (j + 1) := by
  funext q
  simp only [upd, shiftP]
  by_cases h : q = j + 103
  · subst h
    rw [if_pos rfl, if_neg (by omega), if_pos (by omega)]
  · rw [if_neg h]
    by_cases h2 : 103 ≤ q ∧ q < 103 + j
    · rw [if_pos h2, if_pos (by omega)]
    · rw [if_neg h2, if_neg (by omega)]
/-- how many pickups stand ahead of the new one -/
def moM1 (np : Nat) : Nat := if np = 60 then 59 else np
def moPk1 (g : Nat → Int32) (np : Nat) : Nat → Int32 := if np = 60 then upd (shiftP g 413) 11 (nI 59) else g
def moPk2 (g : Nat → Int32) (m : Nat) : Nat → Int32 := upd (upd (upd (upd (upd g 11 (nI (m + 1))) (7 * m + 103) (g 0)) (7 * m + 104) (g 8)) (7 * m + 105) (g 9)) (7 * m + 106) (g 9 / g 8)
/-- t terms of f, from place m - 1 down -/
def sumDown (f : Nat → Int32) (m : Nat) : Nat → Int32
  | 0 => 0
  | t + 1 => sumDown f m t + f (m - 1 - t)
def moWinL (g : Nat → Int32) (m wd : Nat) : Int32 := sumDown (fun q => g (7 * q + 104)) m (min m wd)
def moWinC (g : Nat → Int32) (m wd : Nat) : Int32 := sumDown (fun q => g (7 * q + 105)) m (min m wd)
def moPk3 (g : Nat → Int32) (m : Nat) (mean bon : Int32) : Nat → Int32 :=
  upd (upd (upd (upd (upd (upd (upd g (7 * m + 107) mean) (7 * m + 108) bon) (7 * m + 109) ((g 6 + bon) * g 8)) 12 (g 12 + g 8)) 13 (g 13 + (g 6 + bon) * g 8)) 8 0) 9 0
def moMean (g : Nat → Int32) (np wd : Nat) : Int32 := moWinC (moPk2 (moPk1 g np) (moM1 np)) (moM1 np + 1) wd / moWinL (moPk2 (moPk1 g np) (moM1 np)) (moM1 np + 1) wd
def moPick (g : Nat → Int32) (np nr wd : Nat) : Nat → Int32 :=
  moPk3 (moPk2 (moPk1 g np) (moM1 np)) (moM1 np) (moMean g np wd) (moBon (upd (moPk2 (moPk1 g np) (moM1 np)) (7 * moM1 np + 107) (moMean g np wd)) (moMean g np wd) nr)
theorem dn_neg {q : Nat} (hq : q < 2 ^ 31) : nI q - 1 < 0 ↔ q = 0 := by
  cases q with
  | zero => exact ⟨fun _ => rfl, fun _ => by decide⟩
  | succ q => rw [nI_pred]; exact ⟨fun h => absurd h (nI_pos (by omega)), fun h => by omega⟩
theorem dn_lt {q m w : Nat} (hq : q < 2 ^ 20) (h1 : 1 ≤ q) (hm : m < 2 ^ 20) (hw : w < 2 ^ 20) : nI q - 1 < nI m - nI w ↔ q + w ≤ m := by
  obtain ⟨q, rfl⟩ : ∃ z, q = z + 1 := ⟨q - 1, by omega⟩
  rw [nI_pred, Int32.lt_iff_toInt_lt, pk_sub_toInt (by omega) (by omega), nI_toInt (by omega)]
  omega
set_option maxHeartbeats 4000000 in
set_option maxRecDepth 100000 in
theorem mt_Mo_picksUp (l : Launch) (Γ : GE) (sz : Nat) (a : Nat) (r : Nat → Nat) (i : Nat → Int32) (g : Nat → Int32) (np : Nat) (nr : Nat) (wd : Nat) (hg11 : g 11 = nI np) (hnp : np ≤ 60) (hg10 : g 10 = nI nr) (hnr : nr ≤ 4) (hg5 : g 5 = nI wd) (hwd : wd ≤ 6) (hg8 : ¬ g 8 = 0) (hL : ¬ moWinL (moPk2 (moPk1 g np) (moM1 np)) (moM1 np + 1) wd = 0) : KM l yX4_picksUp cX4_picksUp 5 none Γ 1 22 0 0 [.ref a] [[(a, moE r i)], [((r 0), .inl (Γ.2.1 0, 523, .inl g))]] [] sz (Qv Γ (fun u_ => u_ = [[(a, moE r i)], [((r 0), .inl (Γ.2.1 0, 523, .inl (moPick g np nr wd)))]])) := by
  refine K_intro (by decide) (Nat.le_of_ble_eq_true rfl) ?_
  intro pr_ ev_ s mi_ below meth cd_ A ls hx hb hr hml hown hts hlocks hname hK hE hRo hP hD hA hS hsz hl
  have hl : lv_has ls 5 [(0, .ref a)] := hl
  have hown : s.vm.findClass RX4 = some mi_.cls := hown
  refine lv_aload_n hx hb dX4_picksUp_0 rfl (lv_at hl 0 rfl) ?_
  refine b_get (C := RX4) (T := TX4) (N := 16) (v := .ref (r 0)) hx hb hts in_X4 hown hK (b_at (k := 0) hP rfl) rfl 0 (by decide) q1807 (fun _ h9 => h9) rfl dX4_picksUp_1 ?_
  refine lv_bipush (v := 11) hx hb dX4_picksUp_4 (by decide) ?_
  refine b_iald hx hb hK (b_at (k := 1) hP rfl) 11 rfl (by omega) (by omega) dX4_picksUp_6 ?_
  refine b_top (hg11) ?_
  refine lv_bipush (v := 60) hx hb dX4_picksUp_7 (by decide) ?_
  refine lv_icmp_ne (tgt := 54) hx hb dX4_picksUp_9 (by decide) (fun c_1 => ?_) (fun c_1 => ?_)
  · -- 9 taken
    have n_1 : ¬ (np = 60) := fun h => c_1 ((nI_eq (a := np) (b := 60) (by omega) (by omega)).mpr h)
    have e1 : moPk1 g np = g := by rw [moPk1, if_neg n_1]
    have em1 : moM1 np = np := by rw [moM1, if_neg n_1]
    rw [em1] at hL
    rw [show g = (moPk1 g np) from e1.symm] at hP hD
    have h1_11 : moPk1 g np 11 = nI np := by rw [e1]; exact hg11
    have h1k : ∀ q : Nat, q < 103 → q ≠ 11 → moPk1 g np q = g q := fun q _ _ => by rw [e1]
    refine lv_bipush (v := 103) hx hb dX4_picksUp_54 (by decide) ?_
    refine lv_bipush (v := 7) hx hb dX4_picksUp_56 (by decide) ?_
    refine lv_aload_n hx hb dX4_picksUp_58 rfl (lv_at hl 0 rfl) ?_
    refine b_get (C := RX4) (T := TX4) (N := 16) (v := .ref (r 0)) hx hb hts in_X4 hown hK (b_at (k := 0) hP rfl) rfl 0 (by decide) q1807 (fun _ h9 => h9) rfl dX4_picksUp_59 ?_
    refine lv_bipush (v := 11) hx hb dX4_picksUp_62 (by decide) ?_
    refine b_iald hx hb hK (b_at (k := 1) hP rfl) 11 rfl (by omega) (by omega) dX4_picksUp_64 ?_
    refine b_top (h1_11) ?_
    refine lv_imul hx hb dX4_picksUp_65 ?_
    refine b_top (nI_mulE (a := 7) (b := np) (c := 7 * np) rfl rfl (by first | omega | rfl)) ?_
    refine lv_iadd hx hb dX4_picksUp_66 ?_
    refine b_top (nI_addE (a := 103) (b := 7 * np) (c := 7 * np + 103) rfl rfl (by first | omega | rfl)) ?_
    refine lv_istore_n (lv' := [(1, .int (nI (7 * np + 103))), (0, .ref a)]) hx hb dX4_picksUp_67 rfl hl (by decide) rfl (fun ls hl => ?_)
    refine lv_aload_n hx hb dX4_picksUp_68 rfl (lv_at hl 1 rfl) ?_
    refine b_get (C := RX4) (T := TX4) (N := 16) (v := .ref (r 0)) hx hb hts in_X4 hown hK (b_at (k := 0) hP rfl) rfl 0 (by decide) q1807 (fun _ h9 => h9) rfl dX4_picksUp_69 ?_
    refine lv_bipush (v := 11) hx hb dX4_picksUp_72 (by decide) ?_
    refine lv_dup2_11 hx hb dX4_picksUp_74 rfl rfl ?_
    refine b_iald hx hb hK (b_at (k := 1) hP rfl) 11 rfl (by omega) (by omega) dX4_picksUp_75 ?_
    refine b_top (h1_11) ?_
    refine lv_iconst (v := 1) hx hb dX4_picksUp_76 (by decide) ?_
    refine lv_iadd hx hb dX4_picksUp_77 ?_
    refine b_top (nI_addE (a := np) (b := 1) (c := np + 1) rfl rfl (by first | omega | rfl)) ?_
    refine b_iast hx hb hK hP hD hS 1 rfl 11 rfl (by omega) (by omega) dX4_picksUp_78 (fun H locs hP hD hS => ?_)
    have hP : WP Γ [[(a, moE r i)], [((r 0), .inl (Γ.2.1 0, 523, .inl (upd (moPk1 g np) 11 (nI (np + 1)))))]] H := hP
    have hD : WD A [[(a, moE r i)], [((r 0), .inl (Γ.2.1 0, 523, .inl (upd (moPk1 g np) 11 (nI (np + 1)))))]] := hD
    refine lv_aload_n hx hb dX4_picksUp_79 rfl (lv_at hl 1 rfl) ?_
    refine b_get (C := RX4) (T := TX4) (N := 16) (v := .ref (r 0)) hx hb hts in_X4 hown hK (b_at (k := 0) hP rfl) rfl 0 (by decide) q1807 (fun _ h9 => h9) rfl dX4_picksUp_80 ?_
    refine lv_iload_n hx hb dX4_picksUp_83 rfl (lv_at hl 0 rfl) ?_
    refine lv_aload_n hx hb dX4_picksUp_84 rfl (lv_at hl 1 rfl) ?_
    refine b_get (C := RX4) (T := TX4) (N := 16) (v := .ref (r 0)) hx hb hts in_X4 hown hK (b_at (k := 0) hP rfl) rfl 0 (by decide) q1807 (fun _ h9 => h9) rfl dX4_picksUp_85 ?_
    refine lv_iconst (v := 0) hx hb dX4_picksUp_88 (by decide) ?_
    refine b_iald hx hb hK (b_at (k := 1) hP rfl) 0 rfl (by omega) (by omega) dX4_picksUp_89 ?_
    refine b_top (show (upd (moPk1 g np) 11 (nI (np + 1)) 0) = (moPk1 g np 0) from by rw [pk_un (by omega)]) ?_
    refine b_top (h1k 0 (by omega) (by omega)) ?_
    refine b_iast hx hb hK hP hD hS 1 rfl (7 * np + 103) rfl (by omega) (by omega) dX4_picksUp_90 (fun H locs hP hD hS => ?_)
    have hP : WP Γ [[(a, moE r i)], [((r 0), .inl (Γ.2.1 0, 523, .inl (upd (upd (moPk1 g np) 11 (nI (np + 1))) (7 * np + 103) (g 0))))]] H := hP
    have hD : WD A [[(a, moE r i)], [((r 0), .inl (Γ.2.1 0, 523, .inl (upd (upd (moPk1 g np) 11 (nI (np + 1))) (7 * np + 103) (g 0))))]] := hD
    refine lv_aload_n hx hb dX4_picksUp_91 rfl (lv_at hl 1 rfl) ?_
    refine b_get (C := RX4) (T := TX4) (N := 16) (v := .ref (r 0)) hx hb hts in_X4 hown hK (b_at (k := 0) hP rfl) rfl 0 (by decide) q1807 (fun _ h9 => h9) rfl dX4_picksUp_92 ?_
    refine lv_iload_n hx hb dX4_picksUp_95 rfl (lv_at hl 0 rfl) ?_
    refine lv_iconst (v := 1) hx hb dX4_picksUp_96 (by decide) ?_
    refine lv_iadd hx hb dX4_picksUp_97 ?_
    refine b_top (nI_addE (a := 7 * np + 103) (b := 1) (c := 7 * np + 104) rfl rfl (by first | omega | rfl)) ?_
    refine lv_aload_n hx hb dX4_picksUp_98 rfl (lv_at hl 1 rfl) ?_
    refine b_get (C := RX4) (T := TX4) (N := 16) (v := .ref (r 0)) hx hb hts in_X4 hown hK (b_at (k := 0) hP rfl) rfl 0 (by decide) q1807 (fun _ h9 => h9) rfl dX4_picksUp_99 ?_
    refine lv_bipush (v := 8) hx hb dX4_picksUp_102 (by decide) ?_
    refine b_iald hx hb hK (b_at (k := 1) hP rfl) 8 rfl (by omega) (by omega) dX4_picksUp_104 ?_
    refine b_top (show (upd (upd (moPk1 g np) 11 (nI (np + 1))) (7 * np + 103) (g 0) 8) = (moPk1 g np 8) from by rw [pk_un (by omega), pk_un (by omega)]) ?_
    refine b_top (h1k 8 (by omega) (by omega)) ?_
    refine b_iast hx hb hK hP hD hS 1 rfl (7 * np + 104) rfl (by omega) (by omega) dX4_picksUp_105 (fun H locs hP hD hS => ?_)
    have hP : WP Γ [[(a, moE r i)], [((r 0), .inl (Γ.2.1 0, 523, .inl (upd (upd (upd (moPk1 g np) 11 (nI (np + 1))) (7 * np + 103) (g 0)) (7 * np + 104) (g 8))))]] H := hP
    have hD : WD A [[(a, moE r i)], [((r 0), .inl (Γ.2.1 0, 523, .inl (upd (upd (upd (moPk1 g np) 11 (nI (np + 1))) (7 * np + 103) (g 0)) (7 * np + 104) (g 8))))]] := hD
    refine lv_aload_n hx hb dX4_picksUp_106 rfl (lv_at hl 1 rfl) ?_
    refine b_get (C := RX4) (T := TX4) (N := 16) (v := .ref (r 0)) hx hb hts in_X4 hown hK (b_at (k := 0) hP rfl) rfl 0 (by decide) q1807 (fun _ h9 => h9) rfl dX4_picksUp_107 ?_
    refine lv_iload_n hx hb dX4_picksUp_110 rfl (lv_at hl 0 rfl) ?_
    refine lv_iconst (v := 2) hx hb dX4_picksUp_111 (by decide) ?_
    refine lv_iadd hx hb dX4_picksUp_112 ?_
    refine b_top (nI_addE (a := 7 * np + 103) (b := 2) (c := 7 * np + 105) rfl rfl (by first | omega | rfl)) ?_
    refine lv_aload_n hx hb dX4_picksUp_113 rfl (lv_at hl 1 rfl) ?_
    refine b_get (C := RX4) (T := TX4) (N := 16) (v := .ref (r 0)) hx hb hts in_X4 hown hK (b_at (k := 0) hP rfl) rfl 0 (by decide) q1807 (fun _ h9 => h9) rfl dX4_picksUp_114 ?_
    refine lv_bipush (v := 9) hx hb dX4_picksUp_117 (by decide) ?_
    refine b_iald hx hb hK (b_at (k := 1) hP rfl) 9 rfl (by omega) (by omega) dX4_picksUp_119 ?_
    refine b_top (show (upd (upd (upd (moPk1 g np) 11 (nI (np + 1))) (7 * np + 103) (g 0)) (7 * np + 104) (g 8) 9) = (moPk1 g np 9) from by rw [pk_un (by omega), pk_un (by omega), pk_un (by omega)]) ?_
    refine b_top (h1k 9 (by omega) (by omega)) ?_
    refine b_iast hx hb hK hP hD hS 1 rfl (7 * np + 105) rfl (by omega) (by omega) dX4_picksUp_120 (fun H locs hP hD hS => ?_)
    have hP : WP Γ [[(a, moE r i)], [((r 0), .inl (Γ.2.1 0, 523, .inl (upd (upd (upd (upd (moPk1 g np) 11 (nI (np + 1))) (7 * np + 103) (g 0)) (7 * np + 104) (g 8)) (7 * np + 105) (g 9))))]] H := hP
    have hD : WD A [[(a, moE r i)], [((r 0), .inl (Γ.2.1 0, 523, .inl (upd (upd (upd (upd (moPk1 g np) 11 (nI (np + 1))) (7 * np + 103) (g 0)) (7 * np + 104) (g 8)) (7 * np + 105) (g 9))))]] := hD
    refine lv_aload_n hx hb dX4_picksUp_121 rfl (lv_at hl 1 rfl) ?_
    refine b_get (C := RX4) (T := TX4) (N := 16) (v := .ref (r 0)) hx hb hts in_X4 hown hK (b_at (k := 0) hP rfl) rfl 0 (by decide) q1807 (fun _ h9 => h9) rfl dX4_picksUp_122 ?_
    refine lv_iload_n hx hb dX4_picksUp_125 rfl (lv_at hl 0 rfl) ?_
    refine lv_iconst (v := 3) hx hb dX4_picksUp_126 (by decide) ?_
    refine lv_iadd hx hb dX4_picksUp_127 ?_
    refine b_top (nI_addE (a := 7 * np + 103) (b := 3) (c := 7 * np + 106) rfl rfl (by first | omega | rfl)) ?_
    refine lv_aload_n hx hb dX4_picksUp_128 rfl (lv_at hl 1 rfl) ?_
    refine b_get (C := RX4) (T := TX4) (N := 16) (v := .ref (r 0)) hx hb hts in_X4 hown hK (b_at (k := 0) hP rfl) rfl 0 (by decide) q1807 (fun _ h9 => h9) rfl dX4_picksUp_129 ?_
    refine lv_bipush (v := 9) hx hb dX4_picksUp_132 (by decide) ?_
    refine b_iald hx hb hK (b_at (k := 1) hP rfl) 9 rfl (by omega) (by omega) dX4_picksUp_134 ?_
    refine b_top (show (upd (upd (upd (upd (moPk1 g np) 11 (nI (np + 1))) (7 * np + 103) (g 0)) (7 * np + 104) (g 8)) (7 * np + 105) (g 9) 9) = (moPk1 g np 9) from by rw [pk_un (by omega), pk_un (by omega), pk_un (by omega), pk_un (by omega)]) ?_
    refine b_top (h1k 9 (by omega) (by omega)) ?_
    refine lv_aload_n hx hb dX4_picksUp_135 rfl (lv_at hl 1 rfl) ?_
    refine b_get (C := RX4) (T := TX4) (N := 16) (v := .ref (r 0)) hx hb hts in_X4 hown hK (b_at (k := 0) hP rfl) rfl 0 (by decide) q1807 (fun _ h9 => h9) rfl dX4_picksUp_136 ?_
    refine lv_bipush (v := 8) hx hb dX4_picksUp_139 (by decide) ?_
    refine b_iald hx hb hK (b_at (k := 1) hP rfl) 8 rfl (by omega) (by omega) dX4_picksUp_141 ?_
    refine b_top (show (upd (upd (upd (upd (moPk1 g np) 11 (nI (np + 1))) (7 * np + 103) (g 0)) (7 * np + 104) (g 8)) (7 * np + 105) (g 9) 8) = (moPk1 g np 8) from by rw [pk_un (by omega), pk_un (by omega), pk_un (by omega), pk_un (by omega)]) ?_
    refine b_top (h1k 8 (by omega) (by omega)) ?_
    refine lv_idiv hx hb dX4_picksUp_142 (hg8) ?_
    refine b_iast hx hb hK hP hD hS 1 rfl (7 * np + 106) rfl (by omega) (by omega) dX4_picksUp_143 (fun H locs hP hD hS => ?_)
    have hP : WP Γ [[(a, moE r i)], [((r 0), .inl (Γ.2.1 0, 523, .inl (upd (upd (upd (upd (upd (moPk1 g np) 11 (nI (np + 1))) (7 * np + 103) (g 0)) (7 * np + 104) (g 8)) (7 * np + 105) (g 9)) (7 * np + 106) ((g 9) / (g 8)))))]] H := hP
    have hD : WD A [[(a, moE r i)], [((r 0), .inl (Γ.2.1 0, 523, .inl (upd (upd (upd (upd (upd (moPk1 g np) 11 (nI (np + 1))) (7 * np + 103) (g 0)) (7 * np + 104) (g 8)) (7 * np + 105) (g 9)) (7 * np + 106) ((g 9) / (g 8)))))]] := hD
    rw [show (upd (upd (upd (upd (upd (moPk1 g np) 11 (nI (np + 1))) (7 * np + 103) (g 0)) (7 * np + 104) (g 8)) (7 * np + 105) (g 9)) (7 * np + 106) ((g 9) / (g 8))) = (moPk2 (moPk1 g np) np) from by rw [moPk2, h1k 0 (by omega) (by omega), h1k 8 (by omega) (by omega), h1k 9 (by omega) (by omega)]] at hP hD
    have h2k : ∀ q : Nat, q < 103 → q ≠ 11 → moPk2 (moPk1 g np) np q = g q := fun q h h2 => by rw [moPk2, pk_un (by omega), pk_un (by omega), pk_un (by omega), pk_un (by omega), pk_un h2]; exact h1k q h h2
    have h2_11 : moPk2 (moPk1 g np) np 11 = nI (np + 1) := by rw [moPk2, pk_un (by omega), pk_un (by omega), pk_un (by omega), pk_un (by omega), pk_us]
    refine lv_iconst (v := 0) hx hb dX4_picksUp_144 (by decide) ?_
    refine lv_istore_n (lv' := [(2, .int 0), (1, .int (nI (7 * np + 103))), (0, .ref a)]) hx hb dX4_picksUp_145 rfl hl (by decide) rfl (fun ls hl => ?_)
    refine lv_iconst (v := 0) hx hb dX4_picksUp_146 (by decide) ?_
    refine lv_istore_n (lv' := [(3, .int 0), (2, .int 0), (1, .int (nI (7 * np + 103))), (0, .ref a)]) hx hb dX4_picksUp_147 rfl hl (by decide) rfl (fun ls hl => ?_)
    refine lv_aload_n hx hb dX4_picksUp_148 rfl (lv_at hl 3 rfl) ?_
    refine b_get (C := RX4) (T := TX4) (N := 16) (v := .ref (r 0)) hx hb hts in_X4 hown hK (b_at (k := 0) hP rfl) rfl 0 (by decide) q1807 (fun _ h9 => h9) rfl dX4_picksUp_149 ?_
    refine lv_bipush (v := 11) hx hb dX4_picksUp_152 (by decide) ?_
    refine b_iald hx hb hK (b_at (k := 1) hP rfl) 11 rfl (by omega) (by omega) dX4_picksUp_154 ?_
    refine b_top (h2_11) ?_
    refine lv_iconst (v := 1) hx hb dX4_picksUp_155 (by decide) ?_
    refine lv_isub hx hb dX4_picksUp_156 ?_
    refine b_top (nI_subE (a := np + 1) (b := 1) (c := np) rfl rfl (by first | omega | rfl)) ?_
    refine b_top (show (nI np) = nI (np + 1 - 0) - 1 from by rw [Nat.sub_zero, nI_pred]) ?_
    refine lv_istore (lv' := [(4, .int (nI (np + 1 - 0) - 1)), (3, .int 0), (2, .int 0), (1, .int (nI (7 * np + 103))), (0, .ref a)]) hx hb dX4_picksUp_157 hl (by decide) rfl (fun ls hl => ?_)
    have loop_2 : ∀ (fuel : Nat) (t : Nat), wd + 1 - t < fuel → (t ≤ wd) → (t ≤ np + 1) → ∀ (H : Heap) (locs : List Loc) (ls : Array Slot), WP Γ [[(a, moE r i)], [((r 0), .inl (Γ.2.1 0, 523, .inl (moPk2 (moPk1 g np) np)))]] H → WD A [[(a, moE r i)], [((r 0), .inl (Γ.2.1 0, 523, .inl (moPk2 (moPk1 g np) np)))]] → va_S A s.heap H locs → lv_has ls 5 [(4, .int (nI (np + 1 - t) - 1)), (3, .int (sumDown (fun q => (moPk2 (moPk1 g np) np) (7 * q + 104)) (np + 1) t)), (2, .int (sumDown (fun q => (moPk2 (moPk1 g np) np) (7 * q + 105)) (np + 1) t)), (1, .int (nI (7 * np + 103))), (0, .ref a)] → W pr_ l ev_ { frames := 1, cells := 0, slots := 0, locals := 22 } s mi_ ([.ref a] : List Value).toArray below meth cd_ H locs 0 0 (MQ below (Qv Γ (fun u_ => u_ = [[(a, moE r i)], [((r 0), .inl (Γ.2.1 0, 523, .inl (moPick g np nr wd)))]]) A) ([.ref a] : List Value).toArray s 0 0 A) (F0 mi_ 159 ls ([])) := by
      intro fuel
      induction fuel with
      | zero => intro t hfuel; exact absurd hfuel (Nat.not_lt_zero _)
      | succ fuel ih =>
        intro t hfuel ht htm H locs ls hP hD hS hl
        refine lv_iload hx hb dX4_picksUp_159 (lv_at hl 0 rfl) ?_
        refine lv_if_lt (tgt := 225) hx hb dX4_picksUp_161 (by decide) (fun c_3 => ?_) (fun c_3 => ?_)
        · -- 161 taken
          have hq0 : (np + 1 - t) = 0 := (dn_neg (by omega)).mp c_3
          have et : min (np + 1) wd = t := by omega
          rw [show sumDown (fun q => (moPk2 (moPk1 g np) np) (7 * q + 104)) (np + 1) t = moWinL (moPk2 (moPk1 g np) np) (np + 1) wd from by rw [moWinL, et], show sumDown (fun q => (moPk2 (moPk1 g np) np) (7 * q + 105)) (np + 1) t = moWinC (moPk2 (moPk1 g np) np) (np + 1) wd from by rw [moWinC, et]] at hl
          refine lv_aload_n hx hb dX4_picksUp_225 rfl (lv_at hl 4 rfl) ?_
          refine b_get (C := RX4) (T := TX4) (N := 16) (v := .ref (r 0)) hx hb hts in_X4 hown hK (b_at (k := 0) hP rfl) rfl 0 (by decide) q1807 (fun _ h9 => h9) rfl dX4_picksUp_226 ?_
          refine lv_iload_n hx hb dX4_picksUp_229 rfl (lv_at hl 3 rfl) ?_
          refine lv_iconst (v := 4) hx hb dX4_picksUp_230 (by decide) ?_
          refine lv_iadd hx hb dX4_picksUp_231 ?_
          refine b_top (nI_addE (a := 7 * np + 103) (b := 4) (c := 7 * np + 107) rfl rfl (by first | omega | rfl)) ?_
          refine lv_iload_n hx hb dX4_picksUp_232 rfl (lv_at hl 2 rfl) ?_
          refine lv_iload_n hx hb dX4_picksUp_233 rfl (lv_at hl 1 rfl) ?_
          refine lv_idiv hx hb dX4_picksUp_234 (hL) ?_
          refine b_top (show ((moWinC (moPk2 (moPk1 g np) np) (np + 1) wd) / (moWinL (moPk2 (moPk1 g np) np) (np + 1) wd)) = moMean g np wd from by rw [moMean, em1]) ?_
          refine b_iast hx hb hK hP hD hS 1 rfl (7 * np + 107) rfl (by omega) (by omega) dX4_picksUp_235 (fun H locs hP hD hS => ?_)
          have hP : WP Γ [[(a, moE r i)], [((r 0), .inl (Γ.2.1 0, 523, .inl (upd (moPk2 (moPk1 g np) np) (7 * np + 107) (moMean g np wd))))]] H := hP
          have hD : WD A [[(a, moE r i)], [((r 0), .inl (Γ.2.1 0, 523, .inl (upd (moPk2 (moPk1 g np) np) (7 * np + 107) (moMean g np wd))))]] := hD
          refine lv_aload_n hx hb dX4_picksUp_236 rfl (lv_at hl 4 rfl) ?_
          refine b_get (C := RX4) (T := TX4) (N := 16) (v := .ref (r 0)) hx hb hts in_X4 hown hK (b_at (k := 0) hP rfl) rfl 0 (by decide) q1807 (fun _ h9 => h9) rfl dX4_picksUp_237 ?_
          refine lv_iload_n hx hb dX4_picksUp_240 rfl (lv_at hl 3 rfl) ?_
          refine lv_iconst (v := 5) hx hb dX4_picksUp_241 (by decide) ?_
          refine lv_iadd hx hb dX4_picksUp_242 ?_
          refine b_top (nI_addE (a := 7 * np + 103) (b := 5) (c := 7 * np + 108) rfl rfl (by first | omega | rfl)) ?_
          refine lv_aload_n hx hb dX4_picksUp_243 rfl (lv_at hl 4 rfl) ?_
          refine lv_aload_n hx hb dX4_picksUp_244 rfl (lv_at hl 4 rfl) ?_
          refine b_get (C := RX4) (T := TX4) (N := 16) (v := .ref (r 0)) hx hb hts in_X4 hown hK (b_at (k := 0) hP rfl) rfl 0 (by decide) q1807 (fun _ h9 => h9) rfl dX4_picksUp_245 ?_
          refine lv_iload_n hx hb dX4_picksUp_248 rfl (lv_at hl 3 rfl) ?_
          refine lv_iconst (v := 4) hx hb dX4_picksUp_249 (by decide) ?_
          refine lv_iadd hx hb dX4_picksUp_250 ?_
          refine b_top (nI_addE (a := 7 * np + 103) (b := 4) (c := 7 * np + 107) rfl rfl (by first | omega | rfl)) ?_
          refine b_iald hx hb hK (b_at (k := 1) hP rfl) (7 * np + 107) rfl (by omega) (by omega) dX4_picksUp_251 ?_
          refine b_top (show (upd (moPk2 (moPk1 g np) np) (7 * np + 107) (moMean g np wd) (7 * np + 107)) = (moMean g np wd) from by rw [pk_us]) ?_
          refine b_calli (br := []) (b_runV ⟨hx, hb, hml, hown, hts⟩ (mt_Mo_bonusFor l Γ _ a r i (upd (moPk2 (moPk1 g np) np) (7 * np + 107) (moMean g np wd)) (moMean g np wd) nr (by rw [pk_un (by omega)]; exact (h2k 10 (by omega) (by omega)).trans hg10) (by omega)) (lw_V q2008 q2010 qs50 q73 q2011) rfl rfl 1 (by decide +kernel) ⟨(Nat.le_of_ble_eq_true rfl), (Nat.le_of_ble_eq_true rfl)⟩ (c_pre hP hD hS hA hK hE [0, 1] rfl rfl ro_nil) (recv_at (q := (RX4, TX4, 16)) hK (b_at (k := 0) hP rfl) rfl) rfl hl.1 rfl (Nat.le_of_ble_eq_true rfl) dX4_picksUp_252 ⟨(Nat.le_of_ble_eq_true rfl), (Nat.le_of_ble_eq_true rfl)⟩) hP hD hS hA [0, 1] [] rfl rfl rfl (fun r_4 u_4 H locs hw_4 hP hD hS _ => ?_)
          obtain ⟨rfl, rfl⟩ := hw_4
          have hP : WP Γ [[(a, moE r i)], [((r 0), .inl (Γ.2.1 0, 523, .inl (upd (moPk2 (moPk1 g np) np) (7 * np + 107) (moMean g np wd))))]] H := hP
          have hD : WD A [[(a, moE r i)], [((r 0), .inl (Γ.2.1 0, 523, .inl (upd (moPk2 (moPk1 g np) np) (7 * np + 107) (moMean g np wd))))]] := hD
          refine b_iast hx hb hK hP hD hS 1 rfl (7 * np + 108) rfl (by omega) (by omega) dX4_picksUp_255 (fun H locs hP hD hS => ?_)
          have hP : WP Γ [[(a, moE r i)], [((r 0), .inl (Γ.2.1 0, 523, .inl (upd (upd (moPk2 (moPk1 g np) np) (7 * np + 107) (moMean g np wd)) (7 * np + 108) (moBon (upd (moPk2 (moPk1 g np) np) (7 * np + 107) (moMean g np wd)) (moMean g np wd) nr))))]] H := hP
          have hD : WD A [[(a, moE r i)], [((r 0), .inl (Γ.2.1 0, 523, .inl (upd (upd (moPk2 (moPk1 g np) np) (7 * np + 107) (moMean g np wd)) (7 * np + 108) (moBon (upd (moPk2 (moPk1 g np) np) (7 * np + 107) (moMean g np wd)) (moMean g np wd) nr))))]] := hD
          refine lv_aload_n hx hb dX4_picksUp_256 rfl (lv_at hl 4 rfl) ?_
          refine b_get (C := RX4) (T := TX4) (N := 16) (v := .ref (r 0)) hx hb hts in_X4 hown hK (b_at (k := 0) hP rfl) rfl 0 (by decide) q1807 (fun _ h9 => h9) rfl dX4_picksUp_257 ?_
          refine lv_iload_n hx hb dX4_picksUp_260 rfl (lv_at hl 3 rfl) ?_
          refine lv_bipush (v := 6) hx hb dX4_picksUp_261 (by decide) ?_
          refine lv_iadd hx hb dX4_picksUp_263 ?_
          refine b_top (nI_addE (a := 7 * np + 103) (b := 6) (c := 7 * np + 109) rfl rfl (by first | omega | rfl)) ?_
          refine lv_aload_n hx hb dX4_picksUp_264 rfl (lv_at hl 4 rfl) ?_
          refine b_get (C := RX4) (T := TX4) (N := 16) (v := .ref (r 0)) hx hb hts in_X4 hown hK (b_at (k := 0) hP rfl) rfl 0 (by decide) q1807 (fun _ h9 => h9) rfl dX4_picksUp_265 ?_
          refine lv_bipush (v := 6) hx hb dX4_picksUp_268 (by decide) ?_
          refine b_iald hx hb hK (b_at (k := 1) hP rfl) 6 rfl (by omega) (by omega) dX4_picksUp_270 ?_
          refine b_top (show (upd (upd (moPk2 (moPk1 g np) np) (7 * np + 107) (moMean g np wd)) (7 * np + 108) (moBon (upd (moPk2 (moPk1 g np) np) (7 * np + 107) (moMean g np wd)) (moMean g np wd) nr) 6) = (upd (moPk2 (moPk1 g np) np) (7 * np + 107) (moMean g np wd) 6) from by rw [pk_un (by omega)]) ?_
          refine lv_aload_n hx hb dX4_picksUp_271 rfl (lv_at hl 4 rfl) ?_
          refine b_get (C := RX4) (T := TX4) (N := 16) (v := .ref (r 0)) hx hb hts in_X4 hown hK (b_at (k := 0) hP rfl) rfl 0 (by decide) q1807 (fun _ h9 => h9) rfl dX4_picksUp_272 ?_
          refine lv_iload_n hx hb dX4_picksUp_275 rfl (lv_at hl 3 rfl) ?_
          refine lv_iconst (v := 5) hx hb dX4_picksUp_276 (by decide) ?_
          refine lv_iadd hx hb dX4_picksUp_277 ?_
          refine b_top (nI_addE (a := 7 * np + 103) (b := 5) (c := 7 * np + 108) rfl rfl (by first | omega | rfl)) ?_
          refine b_iald hx hb hK (b_at (k := 1) hP rfl) (7 * np + 108) rfl (by omega) (by omega) dX4_picksUp_278 ?_
          refine b_top (show (upd (upd (moPk2 (moPk1 g np) np) (7 * np + 107) (moMean g np wd)) (7 * np + 108) (moBon (upd (moPk2 (moPk1 g np) np) (7 * np + 107) (moMean g np wd)) (moMean g np wd) nr) (7 * np + 108)) = (moBon (upd (moPk2 (moPk1 g np) np) (7 * np + 107) (moMean g np wd)) (moMean g np wd) nr) from by rw [pk_us]) ?_
          refine lv_iadd hx hb dX4_picksUp_279 ?_
          refine lv_aload_n hx hb dX4_picksUp_280 rfl (lv_at hl 4 rfl) ?_
          refine b_get (C := RX4) (T := TX4) (N := 16) (v := .ref (r 0)) hx hb hts in_X4 hown hK (b_at (k := 0) hP rfl) rfl 0 (by decide) q1807 (fun _ h9 => h9) rfl dX4_picksUp_281 ?_
          refine lv_bipush (v := 8) hx hb dX4_picksUp_284 (by decide) ?_
          refine b_iald hx hb hK (b_at (k := 1) hP rfl) 8 rfl (by omega) (by omega) dX4_picksUp_286 ?_
          refine b_top (show (upd (upd (moPk2 (moPk1 g np) np) (7 * np + 107) (moMean g np wd)) (7 * np + 108) (moBon (upd (moPk2 (moPk1 g np) np) (7 * np + 107) (moMean g np wd)) (moMean g np wd) nr) 8) = (upd (moPk2 (moPk1 g np) np) (7 * np + 107) (moMean g np wd) 8) from by rw [pk_un (by omega)]) ?_
          refine lv_imul hx hb dX4_picksUp_287 ?_
          refine b_iast hx hb hK hP hD hS 1 rfl (7 * np + 109) rfl (by omega) (by omega) dX4_picksUp_288 (fun H locs hP hD hS => ?_)
          have hP : WP Γ [[(a, moE r i)], [((r 0), .inl (Γ.2.1 0, 523, .inl (upd (upd (upd (moPk2 (moPk1 g np) np) (7 * np + 107) (moMean g np wd)) (7 * np + 108) (moBon (upd (moPk2 (moPk1 g np) np) (7 * np + 107) (moMean g np wd)) (moMean g np wd) nr)) (7 * np + 109) (((upd (moPk2 (moPk1 g np) np) (7 * np + 107) (moMean g np wd) 6) + (moBon (upd (moPk2 (moPk1 g np) np) (7 * np + 107) (moMean g np wd)) (moMean g np wd) nr)) * (upd (moPk2 (moPk1 g np) np) (7 * np + 107) (moMean g np wd) 8)))))]] H := hP
          have hD : WD A [[(a, moE r i)], [((r 0), .inl (Γ.2.1 0, 523, .inl (upd (upd (upd (moPk2 (moPk1 g np) np) (7 * np + 107) (moMean g np wd)) (7 * np + 108) (moBon (upd (moPk2 (moPk1 g np) np) (7 * np + 107) (moMean g np wd)) (moMean g np wd) nr)) (7 * np + 109) (((upd (moPk2 (moPk1 g np) np) (7 * np + 107) (moMean g np wd) 6) + (moBon (upd (moPk2 (moPk1 g np) np) (7 * np + 107) (moMean g np wd)) (moMean g np wd) nr)) * (upd (moPk2 (moPk1 g np) np) (7 * np + 107) (moMean g np wd) 8)))))]] := hD
          refine lv_aload_n hx hb dX4_picksUp_289 rfl (lv_at hl 4 rfl) ?_
          refine b_get (C := RX4) (T := TX4) (N := 16) (v := .ref (r 0)) hx hb hts in_X4 hown hK (b_at (k := 0) hP rfl) rfl 0 (by decide) q1807 (fun _ h9 => h9) rfl dX4_picksUp_290 ?_
          refine lv_bipush (v := 12) hx hb dX4_picksUp_293 (by decide) ?_
          refine lv_dup2_11 hx hb dX4_picksUp_295 rfl rfl ?_
          refine b_iald hx hb hK (b_at (k := 1) hP rfl) 12 rfl (by omega) (by omega) dX4_picksUp_296 ?_
          refine b_top (show (upd (upd (upd (moPk2 (moPk1 g np) np) (7 * np + 107) (moMean g np wd)) (7 * np + 108) (moBon (upd (moPk2 (moPk1 g np) np) (7 * np + 107) (moMean g np wd)) (moMean g np wd) nr)) (7 * np + 109) (((upd (moPk2 (moPk1 g np) np) (7 * np + 107) (moMean g np wd) 6) + (moBon (upd (moPk2 (moPk1 g np) np) (7 * np + 107) (moMean g np wd)) (moMean g np wd) nr)) * (upd (moPk2 (moPk1 g np) np) (7 * np + 107) (moMean g np wd) 8)) 12) = (upd (moPk2 (moPk1 g np) np) (7 * np + 107) (moMean g np wd) 12) from by rw [pk_un (by omega), pk_un (by omega)]) ?_
          refine lv_aload_n hx hb dX4_picksUp_297 rfl (lv_at hl 4 rfl) ?_
          refine b_get (C := RX4) (T := TX4) (N := 16) (v := .ref (r 0)) hx hb hts in_X4 hown hK (b_at (k := 0) hP rfl) rfl 0 (by decide) q1807 (fun _ h9 => h9) rfl dX4_picksUp_298 ?_
          refine lv_bipush (v := 8) hx hb dX4_picksUp_301 (by decide) ?_
          refine b_iald hx hb hK (b_at (k := 1) hP rfl) 8 rfl (by omega) (by omega) dX4_picksUp_303 ?_
          refine b_top (show (upd (upd (upd (moPk2 (moPk1 g np) np) (7 * np + 107) (moMean g np wd)) (7 * np + 108) (moBon (upd (moPk2 (moPk1 g np) np) (7 * np + 107) (moMean g np wd)) (moMean g np wd) nr)) (7 * np + 109) (((upd (moPk2 (moPk1 g np) np) (7 * np + 107) (moMean g np wd) 6) + (moBon (upd (moPk2 (moPk1 g np) np) (7 * np + 107) (moMean g np wd)) (moMean g np wd) nr)) * (upd (moPk2 (moPk1 g np) np) (7 * np + 107) (moMean g np wd) 8)) 8) = (upd (moPk2 (moPk1 g np) np) (7 * np + 107) (moMean g np wd) 8) from by rw [pk_un (by omega), pk_un (by omega)]) ?_
          refine lv_iadd hx hb dX4_picksUp_304 ?_
          refine b_iast hx hb hK hP hD hS 1 rfl 12 rfl (by omega) (by omega) dX4_picksUp_305 (fun H locs hP hD hS => ?_)
          have hP : WP Γ [[(a, moE r i)], [((r 0), .inl (Γ.2.1 0, 523, .inl (upd (upd (upd (upd (moPk2 (moPk1 g np) np) (7 * np + 107) (moMean g np wd)) (7 * np + 108) (moBon (upd (moPk2 (moPk1 g np) np) (7 * np + 107) (moMean g np wd)) (moMean g np wd) nr)) (7 * np + 109) (((upd (moPk2 (moPk1 g np) np) (7 * np + 107) (moMean g np wd) 6) + (moBon (upd (moPk2 (moPk1 g np) np) (7 * np + 107) (moMean g np wd)) (moMean g np wd) nr)) * (upd (moPk2 (moPk1 g np) np) (7 * np + 107) (moMean g np wd) 8))) 12 ((upd (moPk2 (moPk1 g np) np) (7 * np + 107) (moMean g np wd) 12) + (upd (moPk2 (moPk1 g np) np) (7 * np + 107) (moMean g np wd) 8)))))]] H := hP
          have hD : WD A [[(a, moE r i)], [((r 0), .inl (Γ.2.1 0, 523, .inl (upd (upd (upd (upd (moPk2 (moPk1 g np) np) (7 * np + 107) (moMean g np wd)) (7 * np + 108) (moBon (upd (moPk2 (moPk1 g np) np) (7 * np + 107) (moMean g np wd)) (moMean g np wd) nr)) (7 * np + 109) (((upd (moPk2 (moPk1 g np) np) (7 * np + 107) (moMean g np wd) 6) + (moBon (upd (moPk2 (moPk1 g np) np) (7 * np + 107) (moMean g np wd)) (moMean g np wd) nr)) * (upd (moPk2 (moPk1 g np) np) (7 * np + 107) (moMean g np wd) 8))) 12 ((upd (moPk2 (moPk1 g np) np) (7 * np + 107) (moMean g np wd) 12) + (upd (moPk2 (moPk1 g np) np) (7 * np + 107) (moMean g np wd) 8)))))]] := hD
          refine lv_aload_n hx hb dX4_picksUp_306 rfl (lv_at hl 4 rfl) ?_
          refine b_get (C := RX4) (T := TX4) (N := 16) (v := .ref (r 0)) hx hb hts in_X4 hown hK (b_at (k := 0) hP rfl) rfl 0 (by decide) q1807 (fun _ h9 => h9) rfl dX4_picksUp_307 ?_
          refine lv_bipush (v := 13) hx hb dX4_picksUp_310 (by decide) ?_
          refine lv_dup2_11 hx hb dX4_picksUp_312 rfl rfl ?_
          refine b_iald hx hb hK (b_at (k := 1) hP rfl) 13 rfl (by omega) (by omega) dX4_picksUp_313 ?_
          refine b_top (show (upd (upd (upd (upd (moPk2 (moPk1 g np) np) (7 * np + 107) (moMean g np wd)) (7 * np + 108) (moBon (upd (moPk2 (moPk1 g np) np) (7 * np + 107) (moMean g np wd)) (moMean g np wd) nr)) (7 * np + 109) (((upd (moPk2 (moPk1 g np) np) (7 * np + 107) (moMean g np wd) 6) + (moBon (upd (moPk2 (moPk1 g np) np) (7 * np + 107) (moMean g np wd)) (moMean g np wd) nr)) * (upd (moPk2 (moPk1 g np) np) (7 * np + 107) (moMean g np wd) 8))) 12 ((upd (moPk2 (moPk1 g np) np) (7 * np + 107) (moMean g np wd) 12) + (upd (moPk2 (moPk1 g np) np) (7 * np + 107) (moMean g np wd) 8)) 13) = (upd (moPk2 (moPk1 g np) np) (7 * np + 107) (moMean g np wd) 13) from by rw [pk_un (by omega), pk_un (by omega), pk_un (by omega)]) ?_
          refine lv_aload_n hx hb dX4_picksUp_314 rfl (lv_at hl 4 rfl) ?_
          refine b_get (C := RX4) (T := TX4) (N := 16) (v := .ref (r 0)) hx hb hts in_X4 hown hK (b_at (k := 0) hP rfl) rfl 0 (by decide) q1807 (fun _ h9 => h9) rfl dX4_picksUp_315 ?_
          refine lv_iload_n hx hb dX4_picksUp_318 rfl (lv_at hl 3 rfl) ?_
          refine lv_bipush (v := 6) hx hb dX4_picksUp_319 (by decide) ?_
          refine lv_iadd hx hb dX4_picksUp_321 ?_
          refine b_top (nI_addE (a := 7 * np + 103) (b := 6) (c := 7 * np + 109) rfl rfl (by first | omega | rfl)) ?_
          refine b_iald hx hb hK (b_at (k := 1) hP rfl) (7 * np + 109) rfl (by omega) (by omega) dX4_picksUp_322 ?_
          refine b_top (show (upd (upd (upd (upd (moPk2 (moPk1 g np) np) (7 * np + 107) (moMean g np wd)) (7 * np + 108) (moBon (upd (moPk2 (moPk1 g np) np) (7 * np + 107) (moMean g np wd)) (moMean g np wd) nr)) (7 * np + 109) (((upd (moPk2 (moPk1 g np) np) (7 * np + 107) (moMean g np wd) 6) + (moBon (upd (moPk2 (moPk1 g np) np) (7 * np + 107) (moMean g np wd)) (moMean g np wd) nr)) * (upd (moPk2 (moPk1 g np) np) (7 * np + 107) (moMean g np wd) 8))) 12 ((upd (moPk2 (moPk1 g np) np) (7 * np + 107) (moMean g np wd) 12) + (upd (moPk2 (moPk1 g np) np) (7 * np + 107) (moMean g np wd) 8)) (7 * np + 109)) = (((upd (moPk2 (moPk1 g np) np) (7 * np + 107) (moMean g np wd) 6) + (moBon (upd (moPk2 (moPk1 g np) np) (7 * np + 107) (moMean g np wd)) (moMean g np wd) nr)) * (upd (moPk2 (moPk1 g np) np) (7 * np + 107) (moMean g np wd) 8)) from by rw [pk_un (by omega), pk_us]) ?_
          refine lv_iadd hx hb dX4_picksUp_323 ?_
          refine b_iast hx hb hK hP hD hS 1 rfl 13 rfl (by omega) (by omega) dX4_picksUp_324 (fun H locs hP hD hS => ?_)
          have hP : WP Γ [[(a, moE r i)], [((r 0), .inl (Γ.2.1 0, 523, .inl (upd (upd (upd (upd (upd (moPk2 (moPk1 g np) np) (7 * np + 107) (moMean g np wd)) (7 * np + 108) (moBon (upd (moPk2 (moPk1 g np) np) (7 * np + 107) (moMean g np wd)) (moMean g np wd) nr)) (7 * np + 109) (((upd (moPk2 (moPk1 g np) np) (7 * np + 107) (moMean g np wd) 6) + (moBon (upd (moPk2 (moPk1 g np) np) (7 * np + 107) (moMean g np wd)) (moMean g np wd) nr)) * (upd (moPk2 (moPk1 g np) np) (7 * np + 107) (moMean g np wd) 8))) 12 ((upd (moPk2 (moPk1 g np) np) (7 * np + 107) (moMean g np wd) 12) + (upd (moPk2 (moPk1 g np) np) (7 * np + 107) (moMean g np wd) 8))) 13 ((upd (moPk2 (moPk1 g np) np) (7 * np + 107) (moMean g np wd) 13) + (((upd (moPk2 (moPk1 g np) np) (7 * np + 107) (moMean g np wd) 6) + (moBon (upd (moPk2 (moPk1 g np) np) (7 * np + 107) (moMean g np wd)) (moMean g np wd) nr)) * (upd (moPk2 (moPk1 g np) np) (7 * np + 107) (moMean g np wd) 8))))))]] H := hP
          have hD : WD A [[(a, moE r i)], [((r 0), .inl (Γ.2.1 0, 523, .inl (upd (upd (upd (upd (upd (moPk2 (moPk1 g np) np) (7 * np + 107) (moMean g np wd)) (7 * np + 108) (moBon (upd (moPk2 (moPk1 g np) np) (7 * np + 107) (moMean g np wd)) (moMean g np wd) nr)) (7 * np + 109) (((upd (moPk2 (moPk1 g np) np) (7 * np + 107) (moMean g np wd) 6) + (moBon (upd (moPk2 (moPk1 g np) np) (7 * np + 107) (moMean g np wd)) (moMean g np wd) nr)) * (upd (moPk2 (moPk1 g np) np) (7 * np + 107) (moMean g np wd) 8))) 12 ((upd (moPk2 (moPk1 g np) np) (7 * np + 107) (moMean g np wd) 12) + (upd (moPk2 (moPk1 g np) np) (7 * np + 107) (moMean g np wd) 8))) 13 ((upd (moPk2 (moPk1 g np) np) (7 * np + 107) (moMean g np wd) 13) + (((upd (moPk2 (moPk1 g np) np) (7 * np + 107) (moMean g np wd) 6) + (moBon (upd (moPk2 (moPk1 g np) np) (7 * np + 107) (moMean g np wd)) (moMean g np wd) nr)) * (upd (moPk2 (moPk1 g np) np) (7 * np + 107) (moMean g np wd) 8))))))]] := hD
          refine lv_aload_n hx hb dX4_picksUp_325 rfl (lv_at hl 4 rfl) ?_
          refine b_get (C := RX4) (T := TX4) (N := 16) (v := .ref (r 0)) hx hb hts in_X4 hown hK (b_at (k := 0) hP rfl) rfl 0 (by decide) q1807 (fun _ h9 => h9) rfl dX4_picksUp_326 ?_
          refine lv_bipush (v := 8) hx hb dX4_picksUp_329 (by decide) ?_
          refine lv_iconst (v := 0) hx hb dX4_picksUp_331 (by decide) ?_
          refine b_iast hx hb hK hP hD hS 1 rfl 8 rfl (by omega) (by omega) dX4_picksUp_332 (fun H locs hP hD hS => ?_)
          have hP : WP Γ [[(a, moE r i)], [((r 0), .inl (Γ.2.1 0, 523, .inl (upd (upd (upd (upd (upd (upd (moPk2 (moPk1 g np) np) (7 * np + 107) (moMean g np wd)) (7 * np + 108) (moBon (upd (moPk2 (moPk1 g np) np) (7 * np + 107) (moMean g np wd)) (moMean g np wd) nr)) (7 * np + 109) (((upd (moPk2 (moPk1 g np) np) (7 * np + 107) (moMean g np wd) 6) + (moBon (upd (moPk2 (moPk1 g np) np) (7 * np + 107) (moMean g np wd)) (moMean g np wd) nr)) * (upd (moPk2 (moPk1 g np) np) (7 * np + 107) (moMean g np wd) 8))) 12 ((upd (moPk2 (moPk1 g np) np) (7 * np + 107) (moMean g np wd) 12) + (upd (moPk2 (moPk1 g np) np) (7 * np + 107) (moMean g np wd) 8))) 13 ((upd (moPk2 (moPk1 g np) np) (7 * np + 107) (moMean g np wd) 13) + (((upd (moPk2 (moPk1 g np) np) (7 * np + 107) (moMean g np wd) 6) + (moBon (upd (moPk2 (moPk1 g np) np) (7 * np + 107) (moMean g np wd)) (moMean g np wd) nr)) * (upd (moPk2 (moPk1 g np) np) (7 * np + 107) (moMean g np wd) 8)))) 8 0)))]] H := hP
          have hD : WD A [[(a, moE r i)], [((r 0), .inl (Γ.2.1 0, 523, .inl (upd (upd (upd (upd (upd (upd (moPk2 (moPk1 g np) np) (7 * np + 107) (moMean g np wd)) (7 * np + 108) (moBon (upd (moPk2 (moPk1 g np) np) (7 * np + 107) (moMean g np wd)) (moMean g np wd) nr)) (7 * np + 109) (((upd (moPk2 (moPk1 g np) np) (7 * np + 107) (moMean g np wd) 6) + (moBon (upd (moPk2 (moPk1 g np) np) (7 * np + 107) (moMean g np wd)) (moMean g np wd) nr)) * (upd (moPk2 (moPk1 g np) np) (7 * np + 107) (moMean g np wd) 8))) 12 ((upd (moPk2 (moPk1 g np) np) (7 * np + 107) (moMean g np wd) 12) + (upd (moPk2 (moPk1 g np) np) (7 * np + 107) (moMean g np wd) 8))) 13 ((upd (moPk2 (moPk1 g np) np) (7 * np + 107) (moMean g np wd) 13) + (((upd (moPk2 (moPk1 g np) np) (7 * np + 107) (moMean g np wd) 6) + (moBon (upd (moPk2 (moPk1 g np) np) (7 * np + 107) (moMean g np wd)) (moMean g np wd) nr)) * (upd (moPk2 (moPk1 g np) np) (7 * np + 107) (moMean g np wd) 8)))) 8 0)))]] := hD
          refine lv_aload_n hx hb dX4_picksUp_333 rfl (lv_at hl 4 rfl) ?_
          refine b_get (C := RX4) (T := TX4) (N := 16) (v := .ref (r 0)) hx hb hts in_X4 hown hK (b_at (k := 0) hP rfl) rfl 0 (by decide) q1807 (fun _ h9 => h9) rfl dX4_picksUp_334 ?_
          refine lv_bipush (v := 9) hx hb dX4_picksUp_337 (by decide) ?_
          refine lv_iconst (v := 0) hx hb dX4_picksUp_339 (by decide) ?_
          refine b_iast hx hb hK hP hD hS 1 rfl 9 rfl (by omega) (by omega) dX4_picksUp_340 (fun H locs hP hD hS => ?_)
          have hP : WP Γ [[(a, moE r i)], [((r 0), .inl (Γ.2.1 0, 523, .inl (upd (upd (upd (upd (upd (upd (upd (moPk2 (moPk1 g np) np) (7 * np + 107) (moMean g np wd)) (7 * np + 108) (moBon (upd (moPk2 (moPk1 g np) np) (7 * np + 107) (moMean g np wd)) (moMean g np wd) nr)) (7 * np + 109) (((upd (moPk2 (moPk1 g np) np) (7 * np + 107) (moMean g np wd) 6) + (moBon (upd (moPk2 (moPk1 g np) np) (7 * np + 107) (moMean g np wd)) (moMean g np wd) nr)) * (upd (moPk2 (moPk1 g np) np) (7 * np + 107) (moMean g np wd) 8))) 12 ((upd (moPk2 (moPk1 g np) np) (7 * np + 107) (moMean g np wd) 12) + (upd (moPk2 (moPk1 g np) np) (7 * np + 107) (moMean g np wd) 8))) 13 ((upd (moPk2 (moPk1 g np) np) (7 * np + 107) (moMean g np wd) 13) + (((upd (moPk2 (moPk1 g np) np) (7 * np + 107) (moMean g np wd) 6) + (moBon (upd (moPk2 (moPk1 g np) np) (7 * np + 107) (moMean g np wd)) (moMean g np wd) nr)) * (upd (moPk2 (moPk1 g np) np) (7 * np + 107) (moMean g np wd) 8)))) 8 0) 9 0)))]] H := hP
          have hD : WD A [[(a, moE r i)], [((r 0), .inl (Γ.2.1 0, 523, .inl (upd (upd (upd (upd (upd (upd (upd (moPk2 (moPk1 g np) np) (7 * np + 107) (moMean g np wd)) (7 * np + 108) (moBon (upd (moPk2 (moPk1 g np) np) (7 * np + 107) (moMean g np wd)) (moMean g np wd) nr)) (7 * np + 109) (((upd (moPk2 (moPk1 g np) np) (7 * np + 107) (moMean g np wd) 6) + (moBon (upd (moPk2 (moPk1 g np) np) (7 * np + 107) (moMean g np wd)) (moMean g np wd) nr)) * (upd (moPk2 (moPk1 g np) np) (7 * np + 107) (moMean g np wd) 8))) 12 ((upd (moPk2 (moPk1 g np) np) (7 * np + 107) (moMean g np wd) 12) + (upd (moPk2 (moPk1 g np) np) (7 * np + 107) (moMean g np wd) 8))) 13 ((upd (moPk2 (moPk1 g np) np) (7 * np + 107) (moMean g np wd) 13) + (((upd (moPk2 (moPk1 g np) np) (7 * np + 107) (moMean g np wd) 6) + (moBon (upd (moPk2 (moPk1 g np) np) (7 * np + 107) (moMean g np wd)) (moMean g np wd) nr)) * (upd (moPk2 (moPk1 g np) np) (7 * np + 107) (moMean g np wd) 8)))) 8 0) 9 0)))]] := hD
          exact b_vret hx hb hr hlocks hP hD hS (Nat.le_of_ble_eq_true rfl) (Nat.le_of_ble_eq_true rfl) (by rw [moPick, em1, moPk3, pk_un (f := moPk2 (moPk1 g np) np) (show (6 : Nat) ≠ 7 * np + 107 by omega), pk_un (f := moPk2 (moPk1 g np) np) (show (8 : Nat) ≠ 7 * np + 107 by omega), pk_un (f := moPk2 (moPk1 g np) np) (show (12 : Nat) ≠ 7 * np + 107 by omega), pk_un (f := moPk2 (moPk1 g np) np) (show (13 : Nat) ≠ 7 * np + 107 by omega), h2k 6 (by omega) (by omega), h2k 8 (by omega) (by omega), h2k 12 (by omega) (by omega), h2k 13 (by omega) (by omega)]) dX4_picksUp_341
        · -- 161 not taken
          have hq0 : ¬ (np + 1 - t) = 0 := fun h => c_3 ((dn_neg (by omega)).mpr h)
          refine lv_iload hx hb dX4_picksUp_164 (lv_at hl 0 rfl) ?_
          refine lv_aload_n hx hb dX4_picksUp_166 rfl (lv_at hl 4 rfl) ?_
          refine b_get (C := RX4) (T := TX4) (N := 16) (v := .ref (r 0)) hx hb hts in_X4 hown hK (b_at (k := 0) hP rfl) rfl 0 (by decide) q1807 (fun _ h9 => h9) rfl dX4_picksUp_167 ?_
          refine lv_bipush (v := 11) hx hb dX4_picksUp_170 (by decide) ?_
          refine b_iald hx hb hK (b_at (k := 1) hP rfl) 11 rfl (by omega) (by omega) dX4_picksUp_172 ?_
          refine b_top (h2_11) ?_
          refine lv_aload_n hx hb dX4_picksUp_173 rfl (lv_at hl 4 rfl) ?_
          refine b_get (C := RX4) (T := TX4) (N := 16) (v := .ref (r 0)) hx hb hts in_X4 hown hK (b_at (k := 0) hP rfl) rfl 0 (by decide) q1807 (fun _ h9 => h9) rfl dX4_picksUp_174 ?_
          refine lv_iconst (v := 5) hx hb dX4_picksUp_177 (by decide) ?_
          refine b_iald hx hb hK (b_at (k := 1) hP rfl) 5 rfl (by omega) (by omega) dX4_picksUp_178 ?_
          refine b_top (((h2k 5 (by omega) (by omega)).trans hg5)) ?_
          refine lv_isub hx hb dX4_picksUp_179 ?_
          refine lv_icmp_lt (tgt := 225) hx hb dX4_picksUp_180 (by decide) (fun c_5 => ?_) (fun c_5 => ?_)
          · -- 180 taken
            have hq1 : (np + 1 - t) + wd ≤ np + 1 := (dn_lt (by omega) (by omega) (by omega) (by omega)).mp c_5
            have et : min (np + 1) wd = t := by omega
            rw [show sumDown (fun q => (moPk2 (moPk1 g np) np) (7 * q + 104)) (np + 1) t = moWinL (moPk2 (moPk1 g np) np) (np + 1) wd from by rw [moWinL, et], show sumDown (fun q => (moPk2 (moPk1 g np) np) (7 * q + 105)) (np + 1) t = moWinC (moPk2 (moPk1 g np) np) (np + 1) wd from by rw [moWinC, et]] at hl
            refine lv_aload_n hx hb dX4_picksUp_225 rfl (lv_at hl 4 rfl) ?_
            refine b_get (C := RX4) (T := TX4) (N := 16) (v := .ref (r 0)) hx hb hts in_X4 hown hK (b_at (k := 0) hP rfl) rfl 0 (by decide) q1807 (fun _ h9 => h9) rfl dX4_picksUp_226 ?_
            refine lv_iload_n hx hb dX4_picksUp_229 rfl (lv_at hl 3 rfl) ?_
            refine lv_iconst (v := 4) hx hb dX4_picksUp_230 (by decide) ?_
            refine lv_iadd hx hb dX4_picksUp_231 ?_
            refine b_top (nI_addE (a := 7 * np + 103) (b := 4) (c := 7 * np + 107) rfl rfl (by first | omega | rfl)) ?_
            refine lv_iload_n hx hb dX4_picksUp_232 rfl (lv_at hl 2 rfl) ?_
            refine lv_iload_n hx hb dX4_picksUp_233 rfl (lv_at hl 1 rfl) ?_
            refine lv_idiv hx hb dX4_picksUp_234 (hL) ?_
            refine b_top (show ((moWinC (moPk2 (moPk1 g np) np) (np + 1) wd) / (moWinL (moPk2 (moPk1 g np) np) (np + 1) wd)) = moMean g np wd from by rw [moMean, em1]) ?_
            refine b_iast hx hb hK hP hD hS 1 rfl (7 * np + 107) rfl (by omega) (by omega) dX4_picksUp_235 (fun H locs hP hD hS => ?_)
            have hP : WP Γ [[(a, moE r i)], [((r 0), .inl (Γ.2.1 0, 523, .inl (upd (moPk2 (moPk1 g np) np) (7 * np + 107) (moMean g np wd))))]] H := hP
            have hD : WD A [[(a, moE r i)], [((r 0), .inl (Γ.2.1 0, 523, .inl (upd (moPk2 (moPk1 g np) np) (7 * np + 107) (moMean g np wd))))]] := hD
            refine lv_aload_n hx hb dX4_picksUp_236 rfl (lv_at hl 4 rfl) ?_
            refine b_get (C := RX4) (T := TX4) (N := 16) (v := .ref (r 0)) hx hb hts in_X4 hown hK (b_at (k := 0) hP rfl) rfl 0 (by decide) q1807 (fun _ h9 => h9) rfl dX4_picksUp_237 ?_
            refine lv_iload_n hx hb dX4_picksUp_240 rfl (lv_at hl 3 rfl) ?_
            refine lv_iconst (v := 5) hx hb dX4_picksUp_241 (by decide) ?_
            refine lv_iadd hx hb dX4_picksUp_242 ?_
            refine b_top (nI_addE (a := 7 * np + 103) (b := 5) (c := 7 * np + 108) rfl rfl (by first | omega | rfl)) ?_
            refine lv_aload_n hx hb dX4_picksUp_243 rfl (lv_at hl 4 rfl) ?_
            refine lv_aload_n hx hb dX4_picksUp_244 rfl (lv_at hl 4 rfl) ?_
            refine b_get (C := RX4) (T := TX4) (N := 16) (v := .ref (r 0)) hx hb hts in_X4 hown hK (b_at (k := 0) hP rfl) rfl 0 (by decide) q1807 (fun _ h9 => h9) rfl dX4_picksUp_245 ?_
            refine lv_iload_n hx hb dX4_picksUp_248 rfl (lv_at hl 3 rfl) ?_
            refine lv_iconst (v := 4) hx hb dX4_picksUp_249 (by decide) ?_
            refine lv_iadd hx hb dX4_picksUp_250 ?_
            refine b_top (nI_addE (a := 7 * np + 103) (b := 4) (c := 7 * np + 107) rfl rfl (by first | omega | rfl)) ?_
            refine b_iald hx hb hK (b_at (k := 1) hP rfl) (7 * np + 107) rfl (by omega) (by omega) dX4_picksUp_251 ?_
            refine b_top (show (upd (moPk2 (moPk1 g np) np) (7 * np + 107) (moMean g np wd) (7 * np + 107)) = (moMean g np wd) from by rw [pk_us]) ?_
            refine b_calli (br := []) (b_runV ⟨hx, hb, hml, hown, hts⟩ (mt_Mo_bonusFor l Γ _ a r i (upd (moPk2 (moPk1 g np) np) (7 * np + 107) (moMean g np wd)) (moMean g np wd) nr (by rw [pk_un (by omega)]; exact (h2k 10 (by omega) (by omega)).trans hg10) (by omega)) (lw_V q2008 q2010 qs50 q73 q2011) rfl rfl 1 (by decide +kernel) ⟨(Nat.le_of_ble_eq_true rfl), (Nat.le_of_ble_eq_true rfl)⟩ (c_pre hP hD hS hA hK hE [0, 1] rfl rfl ro_nil) (recv_at (q := (RX4, TX4, 16)) hK (b_at (k := 0) hP rfl) rfl) rfl hl.1 rfl (Nat.le_of_ble_eq_true rfl) dX4_picksUp_252 ⟨(Nat.le_of_ble_eq_true rfl), (Nat.le_of_ble_eq_true rfl)⟩) hP hD hS hA [0, 1] [] rfl rfl rfl (fun r_6 u_6 H locs hw_6 hP hD hS _ => ?_)
            obtain ⟨rfl, rfl⟩ := hw_6
            have hP : WP Γ [[(a, moE r i)], [((r 0), .inl (Γ.2.1 0, 523, .inl (upd (moPk2 (moPk1 g np) np) (7 * np + 107) (moMean g np wd))))]] H := hP
            have hD : WD A [[(a, moE r i)], [((r 0), .inl (Γ.2.1 0, 523, .inl (upd (moPk2 (moPk1 g np) np) (7 * np + 107) (moMean g np wd))))]] := hD
            refine b_iast hx hb hK hP hD hS 1 rfl (7 * np + 108) rfl (by omega) (by omega) dX4_picksUp_255 (fun H locs hP hD hS => ?_)
            have hP : WP Γ [[(a, moE r i)], [((r 0), .inl (Γ.2.1 0, 523, .inl (upd (upd (moPk2 (moPk1 g np) np) (7 * np + 107) (moMean g np wd)) (7 * np + 108) (moBon (upd (moPk2 (moPk1 g np) np) (7 * np + 107) (moMean g np wd)) (moMean g np wd) nr))))]] H := hP
            have hD : WD A [[(a, moE r i)], [((r 0), .inl (Γ.2.1 0, 523, .inl (upd (upd (moPk2 (moPk1 g np) np) (7 * np + 107) (moMean g np wd)) (7 * np + 108) (moBon (upd (moPk2 (moPk1 g np) np) (7 * np + 107) (moMean g np wd)) (moMean g np wd) nr))))]] := hD
            refine lv_aload_n hx hb dX4_picksUp_256 rfl (lv_at hl 4 rfl) ?_
            refine b_get (C := RX4) (T := TX4) (N := 16) (v := .ref (r 0)) hx hb hts in_X4 hown hK (b_at (k := 0) hP rfl) rfl 0 (by decide) q1807 (fun _ h9 => h9) rfl dX4_picksUp_257 ?_
            refine lv_iload_n hx hb dX4_picksUp_260 rfl (lv_at hl 3 rfl) ?_
            refine lv_bipush (v := 6) hx hb dX4_picksUp_261 (by decide) ?_
            refine lv_iadd hx hb dX4_picksUp_263 ?_
            refine b_top (nI_addE (a := 7 * np + 103) (b := 6) (c := 7 * np + 109) rfl rfl (by first | omega | rfl)) ?_
            refine lv_aload_n hx hb dX4_picksUp_264 rfl (lv_at hl 4 rfl) ?_
            refine b_get (C := RX4) (T := TX4) (N := 16) (v := .ref (r 0)) hx hb hts in_X4 hown hK (b_at (k := 0) hP rfl) rfl 0 (by decide) q1807 (fun _ h9 => h9) rfl dX4_picksUp_265 ?_
            refine lv_bipush (v := 6) hx hb dX4_picksUp_268 (by decide) ?_
            refine b_iald hx hb hK (b_at (k := 1) hP rfl) 6 rfl (by omega) (by omega) dX4_picksUp_270 ?_
            refine b_top (show (upd (upd (moPk2 (moPk1 g np) np) (7 * np + 107) (moMean g np wd)) (7 * np + 108) (moBon (upd (moPk2 (moPk1 g np) np) (7 * np + 107) (moMean g np wd)) (moMean g np wd) nr) 6) = (upd (moPk2 (moPk1 g np) np) (7 * np + 107) (moMean g np wd) 6) from by rw [pk_un (by omega)]) ?_
            refine lv_aload_n hx hb dX4_picksUp_271 rfl (lv_at hl 4 rfl) ?_
            refine b_get (C := RX4) (T := TX4) (N := 16) (v := .ref (r 0)) hx hb hts in_X4 hown hK (b_at (k := 0) hP rfl) rfl 0 (by decide) q1807 (fun _ h9 => h9) rfl dX4_picksUp_272 ?_
            refine lv_iload_n hx hb dX4_picksUp_275 rfl (lv_at hl 3 rfl) ?_
            refine lv_iconst (v := 5) hx hb dX4_picksUp_276 (by decide) ?_
            refine lv_iadd hx hb dX4_picksUp_277 ?_
            refine b_top (nI_addE (a := 7 * np + 103) (b := 5) (c := 7 * np + 108) rfl rfl (by first | omega | rfl)) ?_
            refine b_iald hx hb hK (b_at (k := 1) hP rfl) (7 * np + 108) rfl (by omega) (by omega) dX4_picksUp_278 ?_
            refine b_top (show (upd (upd (moPk2 (moPk1 g np) np) (7 * np + 107) (moMean g np wd)) (7 * np + 108) (moBon (upd (moPk2 (moPk1 g np) np) (7 * np + 107) (moMean g np wd)) (moMean g np wd) nr) (7 * np + 108)) = (moBon (upd (moPk2 (moPk1 g np) np) (7 * np + 107) (moMean g np wd)) (moMean g np wd) nr) from by rw [pk_us]) ?_
            refine lv_iadd hx hb dX4_picksUp_279 ?_
            refine lv_aload_n hx hb dX4_picksUp_280 rfl (lv_at hl 4 rfl) ?_
            refine b_get (C := RX4) (T := TX4) (N := 16) (v := .ref (r 0)) hx hb hts in_X4 hown hK (b_at (k := 0) hP rfl) rfl 0 (by decide) q1807 (fun _ h9 => h9) rfl dX4_picksUp_281 ?_
            refine lv_bipush (v := 8) hx hb dX4_picksUp_284 (by decide) ?_
            refine b_iald hx hb hK (b_at (k := 1) hP rfl) 8 rfl (by omega) (by omega) dX4_picksUp_286 ?_
            refine b_top (show (upd (upd (moPk2 (moPk1 g np) np) (7 * np + 107) (moMean g np wd)) (7 * np + 108) (moBon (upd (moPk2 (moPk1 g np) np) (7 * np + 107) (moMean g np wd)) (moMean g np wd) nr) 8) = (upd (moPk2 (moPk1 g np) np) (7 * np + 107) (moMean g np wd) 8) from by rw [pk_un (by omega)]) ?_
            refine lv_imul hx hb dX4_picksUp_287 ?_
            refine b_iast hx hb hK hP hD hS 1 rfl (7 * np + 109) rfl (by omega) (by omega) dX4_picksUp_288 (fun H locs hP hD hS => ?_)
            have hP : WP Γ [[(a, moE r i)], [((r 0), .inl (Γ.2.1 0, 523, .inl (upd (upd (upd (moPk2 (moPk1 g np) np) (7 * np + 107) (moMean g np wd)) (7 * np + 108) (moBon (upd (moPk2 (moPk1 g np) np) (7 * np + 107) (moMean g np wd)) (moMean g np wd) nr)) (7 * np + 109) (((upd (moPk2 (moPk1 g np) np) (7 * np + 107) (moMean g np wd) 6) + (moBon (upd (moPk2 (moPk1 g np) np) (7 * np + 107) (moMean g np wd)) (moMean g np wd) nr)) * (upd (moPk2 (moPk1 g np) np) (7 * np + 107) (moMean g np wd) 8)))))]] H := hP
            have hD : WD A [[(a, moE r i)], [((r 0), .inl (Γ.2.1 0, 523, .inl (upd (upd (upd (moPk2 (moPk1 g np) np) (7 * np + 107) (moMean g np wd)) (7 * np + 108) (moBon (upd (moPk2 (moPk1 g np) np) (7 * np + 107) (moMean g np wd)) (moMean g np wd) nr)) (7 * np + 109) (((upd (moPk2 (moPk1 g np) np) (7 * np + 107) (moMean g np wd) 6) + (moBon (upd (moPk2 (moPk1 g np) np) (7 * np + 107) (moMean g np wd)) (moMean g np wd) nr)) * (upd (moPk2 (moPk1 g np) np) (7 * np + 107) (moMean g np wd) 8)))))]] := hD
            refine lv_aload_n hx hb dX4_picksUp_289 rfl (lv_at hl 4 rfl) ?_
            refine b_get (C := RX4) (T := TX4) (N := 16) (v := .ref (r 0)) hx hb hts in_X4 hown hK (b_at (k := 0) hP rfl) rfl 0 (by decide) q1807 (fun _ h9 => h9) rfl dX4_picksUp_290 ?_
            refine lv_bipush (v := 12) hx hb dX4_picksUp_293 (by decide) ?_
            refine lv_dup2_11 hx hb dX4_picksUp_295 rfl rfl ?_
            refine b_iald hx hb hK (b_at (k := 1) hP rfl) 12 rfl (by omega) (by omega) dX4_picksUp_296 ?_
            refine b_top (show (upd (upd (upd (moPk2 (moPk1 g np) np) (7 * np + 107) (moMean g np wd)) (7 * np + 108) (moBon (upd (moPk2 (moPk1 g np) np) (7 * np + 107) (moMean g np wd)) (moMean g np wd) nr)) (7 * np + 109) (((upd (moPk2 (moPk1 g np) np) (7 * np + 107) (moMean g np wd) 6) + (moBon (upd (moPk2 (moPk1 g np) np) (7 * np + 107) (moMean g np wd)) (moMean g np wd) nr)) * (upd (moPk2 (moPk1 g np) np) (7 * np + 107) (moMean g np wd) 8)) 12) = (upd (moPk2 (moPk1 g np) np) (7 * np + 107) (moMean g np wd) 12) from by rw [pk_un (by omega), pk_un (by omega)]) ?_
            refine lv_aload_n hx hb dX4_picksUp_297 rfl (lv_at hl 4 rfl) ?_
            refine b_get (C := RX4) (T := TX4) (N := 16) (v := .ref (r 0)) hx hb hts in_X4 hown hK (b_at (k := 0) hP rfl) rfl 0 (by decide) q1807 (fun _ h9 => h9) rfl dX4_picksUp_298 ?_
            refine lv_bipush (v := 8) hx hb dX4_picksUp_301 (by decide) ?_
            refine b_iald hx hb hK (b_at (k := 1) hP rfl) 8 rfl (by omega) (by omega) dX4_picksUp_303 ?_
            refine b_top (show (upd (upd (upd (moPk2 (moPk1 g np) np) (7 * np + 107) (moMean g np wd)) (7 * np + 108) (moBon (upd (moPk2 (moPk1 g np) np) (7 * np + 107) (moMean g np wd)) (moMean g np wd) nr)) (7 * np + 109) (((upd (moPk2 (moPk1 g np) np) (7 * np + 107) (moMean g np wd) 6) + (moBon (upd (moPk2 (moPk1 g np) np) (7 * np + 107) (moMean g np wd)) (moMean g np wd) nr)) * (upd (moPk2 (moPk1 g np) np) (7 * np + 107) (moMean g np wd) 8)) 8) = (upd (moPk2 (moPk1 g np) np) (7 * np + 107) (moMean g np wd) 8) from by rw [pk_un (by omega), pk_un (by omega)]) ?_
            refine lv_iadd hx hb dX4_picksUp_304 ?_
            refine b_iast hx hb hK hP hD hS 1 rfl 12 rfl (by omega) (by omega) dX4_picksUp_305 (fun H locs hP hD hS => ?_)
            have hP : WP Γ [[(a, moE r i)], [((r 0), .inl (Γ.2.1 0, 523, .inl (upd (upd (upd (upd (moPk2 (moPk1 g np) np) (7 * np + 107) (moMean g np wd)) (7 * np + 108) (moBon (upd (moPk2 (moPk1 g np) np) (7 * np + 107) (moMean g np wd)) (moMean g np wd) nr)) (7 * np + 109) (((upd (moPk2 (moPk1 g np) np) (7 * np + 107) (moMean g np wd) 6) + (moBon (upd (moPk2 (moPk1 g np) np) (7 * np + 107) (moMean g np wd)) (moMean g np wd) nr)) * (upd (moPk2 (moPk1 g np) np) (7 * np + 107) (moMean g np wd) 8))) 12 ((upd (moPk2 (moPk1 g np) np) (7 * np + 107) (moMean g np wd) 12) + (upd (moPk2 (moPk1 g np) np) (7 * np + 107) (moMean g np wd) 8)))))]] H := hP
            have hD : WD A [[(a, moE r i)], [((r 0), .inl (Γ.2.1 0, 523, .inl (upd (upd (upd (upd (moPk2 (moPk1 g np) np) (7 * np + 107) (moMean g np wd)) (7 * np + 108) (moBon (upd (moPk2 (moPk1 g np) np) (7 * np + 107) (moMean g np wd)) (moMean g np wd) nr)) (7 * np + 109) (((upd (moPk2 (moPk1 g np) np) (7 * np + 107) (moMean g np wd) 6) + (moBon (upd (moPk2 (moPk1 g np) np) (7 * np + 107) (moMean g np wd)) (moMean g np wd) nr)) * (upd (moPk2 (moPk1 g np) np) (7 * np + 107) (moMean g np wd) 8))) 12 ((upd (moPk2 (moPk1 g np) np) (7 * np + 107) (moMean g np wd) 12) + (upd (moPk2 (moPk1 g np) np) (7 * np + 107) (moMean g np wd) 8)))))]] := hD
            refine lv_aload_n hx hb dX4_picksUp_306 rfl (lv_at hl 4 rfl) ?_
            refine b_get (C := RX4) (T := TX4) (N := 16) (v := .ref (r 0)) hx hb hts in_X4 hown hK (b_at (k := 0) hP rfl) rfl 0 (by decide) q1807 (fun _ h9 => h9) rfl dX4_picksUp_307 ?_
            refine lv_bipush (v := 13) hx hb dX4_picksUp_310 (by decide) ?_
            refine lv_dup2_11 hx hb dX4_picksUp_312 rfl rfl ?_
            refine b_iald hx hb hK (b_at (k := 1) hP rfl) 13 rfl (by omega) (by omega) dX4_picksUp_313 ?_
            refine b_top (show (upd (upd (upd (upd (moPk2 (moPk1 g np) np) (7 * np + 107) (moMean g np wd)) (7 * np + 108) (moBon (upd (moPk2 (moPk1 g np) np) (7 * np + 107) (moMean g np wd)) (moMean g np wd) nr)) (7 * np + 109) (((upd (moPk2 (moPk1 g np) np) (7 * np + 107) (moMean g np wd) 6) + (moBon (upd (moPk2 (moPk1 g np) np) (7 * np + 107) (moMean g np wd)) (moMean g np wd) nr)) * (upd (moPk2 (moPk1 g np) np) (7 * np + 107) (moMean g np wd) 8))) 12 ((upd (moPk2 (moPk1 g np) np) (7 * np + 107) (moMean g np wd) 12) + (upd (moPk2 (moPk1 g np) np) (7 * np + 107) (moMean g np wd) 8)) 13) = (upd (moPk2 (moPk1 g np) np) (7 * np + 107) (moMean g np wd) 13) from by rw [pk_un (by omega), pk_un (by omega), pk_un (by omega)]) ?_
            refine lv_aload_n hx hb dX4_picksUp_314 rfl (lv_at hl 4 rfl) ?_
            refine b_get (C := RX4) (T := TX4) (N := 16) (v := .ref (r 0)) hx hb hts in_X4 hown hK (b_at (k := 0) hP rfl) rfl 0 (by decide) q1807 (fun _ h9 => h9) rfl dX4_picksUp_315 ?_
            refine lv_iload_n hx hb dX4_picksUp_318 rfl (lv_at hl 3 rfl) ?_
            refine lv_bipush (v := 6) hx hb dX4_picksUp_319 (by decide) ?_
            refine lv_iadd hx hb dX4_picksUp_321 ?_
            refine b_top (nI_addE (a := 7 * np + 103) (b := 6) (c := 7 * np + 109) rfl rfl (by first | omega | rfl)) ?_
            refine b_iald hx hb hK (b_at (k := 1) hP rfl) (7 * np + 109) rfl (by omega) (by omega) dX4_picksUp_322 ?_
            refine b_top (show (upd (upd (upd (upd (moPk2 (moPk1 g np) np) (7 * np + 107) (moMean g np wd)) (7 * np + 108) (moBon (upd (moPk2 (moPk1 g np) np) (7 * np + 107) (moMean g np wd)) (moMean g np wd) nr)) (7 * np + 109) (((upd (moPk2 (moPk1 g np) np) (7 * np + 107) (moMean g np wd) 6) + (moBon (upd (moPk2 (moPk1 g np) np) (7 * np + 107) (moMean g np wd)) (moMean g np wd) nr)) * (upd (moPk2 (moPk1 g np) np) (7 * np + 107) (moMean g np wd) 8))) 12 ((upd (moPk2 (moPk1 g np) np) (7 * np + 107) (moMean g np wd) 12) + (upd (moPk2 (moPk1 g np) np) (7 * np + 107) (moMean g np wd) 8)) (7 * np + 109)) = (((upd (moPk2 (moPk1 g np) np) (7 * np + 107) (moMean g np wd) 6) + (moBon (upd (moPk2 (moPk1 g np) np) (7 * np + 107) (moMean g np wd)) (moMean g np wd) nr)) * (upd (moPk2 (moPk1 g np) np) (7 * np + 107) (moMean g np wd) 8)) from by rw [pk_un (by omega), pk_us]) ?_
            refine lv_iadd hx hb dX4_picksUp_323 ?_
            refine b_iast hx hb hK hP hD hS 1 rfl 13 rfl (by omega) (by omega) dX4_picksUp_324 (fun H locs hP hD hS => ?_)
            have hP : WP Γ [[(a, moE r i)], [((r 0), .inl (Γ.2.1 0, 523, .inl (upd (upd (upd (upd (upd (moPk2 (moPk1 g np) np) (7 * np + 107) (moMean g np wd)) (7 * np + 108) (moBon (upd (moPk2 (moPk1 g np) np) (7 * np + 107) (moMean g np wd)) (moMean g np wd) nr)) (7 * np + 109) (((upd (moPk2 (moPk1 g np) np) (7 * np + 107) (moMean g np wd) 6) + (moBon (upd (moPk2 (moPk1 g np) np) (7 * np + 107) (moMean g np wd)) (moMean g np wd) nr)) * (upd (moPk2 (moPk1 g np) np) (7 * np + 107) (moMean g np wd) 8))) 12 ((upd (moPk2 (moPk1 g np) np) (7 * np + 107) (moMean g np wd) 12) + (upd (moPk2 (moPk1 g np) np) (7 * np + 107) (moMean g np wd) 8))) 13 ((upd (moPk2 (moPk1 g np) np) (7 * np + 107) (moMean g np wd) 13) + (((upd (moPk2 (moPk1 g np) np) (7 * np + 107) (moMean g np wd) 6) + (moBon (upd (moPk2 (moPk1 g np) np) (7 * np + 107) (moMean g np wd)) (moMean g np wd) nr)) * (upd (moPk2 (moPk1 g np) np) (7 * np + 107) (moMean g np wd) 8))))))]] H := hP
            have hD : WD A [[(a, moE r i)], [((r 0), .inl (Γ.2.1 0, 523, .inl (upd (upd (upd (upd (upd (moPk2 (moPk1 g np) np) (7 * np + 107) (moMean g np wd)) (7 * np + 108) (moBon (upd (moPk2 (moPk1 g np) np) (7 * np + 107) (moMean g np wd)) (moMean g np wd) nr)) (7 * np + 109) (((upd (moPk2 (moPk1 g np) np) (7 * np + 107) (moMean g np wd) 6) + (moBon (upd (moPk2 (moPk1 g np) np) (7 * np + 107) (moMean g np wd)) (moMean g np wd) nr)) * (upd (moPk2 (moPk1 g np) np) (7 * np + 107) (moMean g np wd) 8))) 12 ((upd (moPk2 (moPk1 g np) np) (7 * np + 107) (moMean g np wd) 12) + (upd (moPk2 (moPk1 g np) np) (7 * np + 107) (moMean g np wd) 8))) 13 ((upd (moPk2 (moPk1 g np) np) (7 * np + 107) (moMean g np wd) 13) + (((upd (moPk2 (moPk1 g np) np) (7 * np + 107) (moMean g np wd) 6) + (moBon (upd (moPk2 (moPk1 g np) np) (7 * np + 107) (moMean g np wd)) (moMean g np wd) nr)) * (upd (moPk2 (moPk1 g np) np) (7 * np + 107) (moMean g np wd) 8))))))]] := hD
            refine lv_aload_n hx hb dX4_picksUp_325 rfl (lv_at hl 4 rfl) ?_
            refine b_get (C := RX4) (T := TX4) (N := 16) (v := .ref (r 0)) hx hb hts in_X4 hown hK (b_at (k := 0) hP rfl) rfl 0 (by decide) q1807 (fun _ h9 => h9) rfl dX4_picksUp_326 ?_
            refine lv_bipush (v := 8) hx hb dX4_picksUp_329 (by decide) ?_
            refine lv_iconst (v := 0) hx hb dX4_picksUp_331 (by decide) ?_
            refine b_iast hx hb hK hP hD hS 1 rfl 8 rfl (by omega) (by omega) dX4_picksUp_332 (fun H locs hP hD hS => ?_)
            have hP : WP Γ [[(a, moE r i)], [((r 0), .inl (Γ.2.1 0, 523, .inl (upd (upd (upd (upd (upd (upd (moPk2 (moPk1 g np) np) (7 * np + 107) (moMean g np wd)) (7 * np + 108) (moBon (upd (moPk2 (moPk1 g np) np) (7 * np + 107) (moMean g np wd)) (moMean g np wd) nr)) (7 * np + 109) (((upd (moPk2 (moPk1 g np) np) (7 * np + 107) (moMean g np wd) 6) + (moBon (upd (moPk2 (moPk1 g np) np) (7 * np + 107) (moMean g np wd)) (moMean g np wd) nr)) * (upd (moPk2 (moPk1 g np) np) (7 * np + 107) (moMean g np wd) 8))) 12 ((upd (moPk2 (moPk1 g np) np) (7 * np + 107) (moMean g np wd) 12) + (upd (moPk2 (moPk1 g np) np) (7 * np + 107) (moMean g np wd) 8))) 13 ((upd (moPk2 (moPk1 g np) np) (7 * np + 107) (moMean g np wd) 13) + (((upd (moPk2 (moPk1 g np) np) (7 * np + 107) (moMean g np wd) 6) + (moBon (upd (moPk2 (moPk1 g np) np) (7 * np + 107) (moMean g np wd)) (moMean g np wd) nr)) * (upd (moPk2 (moPk1 g np) np) (7 * np + 107) (moMean g np wd) 8)))) 8 0)))]] H := hP
            have hD : WD A [[(a, moE r i)], [((r 0), .inl (Γ.2.1 0, 523, .inl (upd (upd (upd (upd (upd (upd (moPk2 (moPk1 g np) np) (7 * np + 107) (moMean g np wd)) (7 * np + 108) (moBon (upd (moPk2 (moPk1 g np) np) (7 * np + 107) (moMean g np wd)) (moMean g np wd) nr)) (7 * np + 109) (((upd (moPk2 (moPk1 g np) np) (7 * np + 107) (moMean g np wd) 6) + (moBon (upd (moPk2 (moPk1 g np) np) (7 * np + 107) (moMean g np wd)) (moMean g np wd) nr)) * (upd (moPk2 (moPk1 g np) np) (7 * np + 107) (moMean g np wd) 8))) 12 ((upd (moPk2 (moPk1 g np) np) (7 * np + 107) (moMean g np wd) 12) + (upd (moPk2 (moPk1 g np) np) (7 * np + 107) (moMean g np wd) 8))) 13 ((upd (moPk2 (moPk1 g np) np) (7 * np + 107) (moMean g np wd) 13) + (((upd (moPk2 (moPk1 g np) np) (7 * np + 107) (moMean g np wd) 6) + (moBon (upd (moPk2 (moPk1 g np) np) (7 * np + 107) (moMean g np wd)) (moMean g np wd) nr)) * (upd (moPk2 (moPk1 g np) np) (7 * np + 107) (moMean g np wd) 8)))) 8 0)))]] := hD
            refine lv_aload_n hx hb dX4_picksUp_333 rfl (lv_at hl 4 rfl) ?_
            refine b_get (C := RX4) (T := TX4) (N := 16) (v := .ref (r 0)) hx hb hts in_X4 hown hK (b_at (k := 0) hP rfl) rfl 0 (by decide) q1807 (fun _ h9 => h9) rfl dX4_picksUp_334 ?_
            refine lv_bipush (v := 9) hx hb dX4_picksUp_337 (by decide) ?_
            refine lv_iconst (v := 0) hx hb dX4_picksUp_339 (by decide) ?_
            refine b_iast hx hb hK hP hD hS 1 rfl 9 rfl (by omega) (by omega) dX4_picksUp_340 (fun H locs hP hD hS => ?_)
            have hP : WP Γ [[(a, moE r i)], [((r 0), .inl (Γ.2.1 0, 523, .inl (upd (upd (upd (upd (upd (upd (upd (moPk2 (moPk1 g np) np) (7 * np + 107) (moMean g np wd)) (7 * np + 108) (moBon (upd (moPk2 (moPk1 g np) np) (7 * np + 107) (moMean g np wd)) (moMean g np wd) nr)) (7 * np + 109) (((upd (moPk2 (moPk1 g np) np) (7 * np + 107) (moMean g np wd) 6) + (moBon (upd (moPk2 (moPk1 g np) np) (7 * np + 107) (moMean g np wd)) (moMean g np wd) nr)) * (upd (moPk2 (moPk1 g np) np) (7 * np + 107) (moMean g np wd) 8))) 12 ((upd (moPk2 (moPk1 g np) np) (7 * np + 107) (moMean g np wd) 12) + (upd (moPk2 (moPk1 g np) np) (7 * np + 107) (moMean g np wd) 8))) 13 ((upd (moPk2 (moPk1 g np) np) (7 * np + 107) (moMean g np wd) 13) + (((upd (moPk2 (moPk1 g np) np) (7 * np + 107) (moMean g np wd) 6) + (moBon (upd (moPk2 (moPk1 g np) np) (7 * np + 107) (moMean g np wd)) (moMean g np wd) nr)) * (upd (moPk2 (moPk1 g np) np) (7 * np + 107) (moMean g np wd) 8)))) 8 0) 9 0)))]] H := hP
            have hD : WD A [[(a, moE r i)], [((r 0), .inl (Γ.2.1 0, 523, .inl (upd (upd (upd (upd (upd (upd (upd (moPk2 (moPk1 g np) np) (7 * np + 107) (moMean g np wd)) (7 * np + 108) (moBon (upd (moPk2 (moPk1 g np) np) (7 * np + 107) (moMean g np wd)) (moMean g np wd) nr)) (7 * np + 109) (((upd (moPk2 (moPk1 g np) np) (7 * np + 107) (moMean g np wd) 6) + (moBon (upd (moPk2 (moPk1 g np) np) (7 * np + 107) (moMean g np wd)) (moMean g np wd) nr)) * (upd (moPk2 (moPk1 g np) np) (7 * np + 107) (moMean g np wd) 8))) 12 ((upd (moPk2 (moPk1 g np) np) (7 * np + 107) (moMean g np wd) 12) + (upd (moPk2 (moPk1 g np) np) (7 * np + 107) (moMean g np wd) 8))) 13 ((upd (moPk2 (moPk1 g np) np) (7 * np + 107) (moMean g np wd) 13) + (((upd (moPk2 (moPk1 g np) np) (7 * np + 107) (moMean g np wd) 6) + (moBon (upd (moPk2 (moPk1 g np) np) (7 * np + 107) (moMean g np wd)) (moMean g np wd) nr)) * (upd (moPk2 (moPk1 g np) np) (7 * np + 107) (moMean g np wd) 8)))) 8 0) 9 0)))]] := hD
            exact b_vret hx hb hr hlocks hP hD hS (Nat.le_of_ble_eq_true rfl) (Nat.le_of_ble_eq_true rfl) (by rw [moPick, em1, moPk3, pk_un (f := moPk2 (moPk1 g np) np) (show (6 : Nat) ≠ 7 * np + 107 by omega), pk_un (f := moPk2 (moPk1 g np) np) (show (8 : Nat) ≠ 7 * np + 107 by omega), pk_un (f := moPk2 (moPk1 g np) np) (show (12 : Nat) ≠ 7 * np + 107 by omega), pk_un (f := moPk2 (moPk1 g np) np) (show (13 : Nat) ≠ 7 * np + 107 by omega), h2k 6 (by omega) (by omega), h2k 8 (by omega) (by omega), h2k 12 (by omega) (by omega), h2k 13 (by omega) (by omega)]) dX4_picksUp_341
          · -- 180 not taken
            have hq1 : ¬ (np + 1 - t) + wd ≤ np + 1 := fun h => c_5 ((dn_lt (by omega) (by omega) (by omega) (by omega)).mpr h)
            have ej : nI (np + 1 - t) - 1 = nI (np + 1 - 1 - t) := by rw [show np + 1 - t = (np + 1 - 1 - t) + 1 by omega]; exact nI_pred _
            refine lv_iload_n hx hb dX4_picksUp_183 rfl (lv_at hl 1 rfl) ?_
            refine lv_aload_n hx hb dX4_picksUp_184 rfl (lv_at hl 4 rfl) ?_
            refine b_get (C := RX4) (T := TX4) (N := 16) (v := .ref (r 0)) hx hb hts in_X4 hown hK (b_at (k := 0) hP rfl) rfl 0 (by decide) q1807 (fun _ h9 => h9) rfl dX4_picksUp_185 ?_
            refine lv_bipush (v := 103) hx hb dX4_picksUp_188 (by decide) ?_
            refine lv_bipush (v := 7) hx hb dX4_picksUp_190 (by decide) ?_
            refine lv_iload hx hb dX4_picksUp_192 (lv_at hl 0 rfl) ?_
            refine b_top ej ?_
            refine lv_imul hx hb dX4_picksUp_194 ?_
            refine b_top (nI_mulE (a := 7) (b := (np + 1 - 1 - t)) (c := 7 * (np + 1 - 1 - t)) rfl rfl (by first | omega | rfl)) ?_
            refine lv_iadd hx hb dX4_picksUp_195 ?_
            refine b_top (nI_addE (a := 103) (b := 7 * (np + 1 - 1 - t)) (c := 7 * (np + 1 - 1 - t) + 103) rfl rfl (by first | omega | rfl)) ?_
            refine lv_iconst (v := 1) hx hb dX4_picksUp_196 (by decide) ?_
            refine lv_iadd hx hb dX4_picksUp_197 ?_
            refine b_top (nI_addE (a := 7 * (np + 1 - 1 - t) + 103) (b := 1) (c := 7 * (np + 1 - 1 - t) + 104) rfl rfl (by first | omega | rfl)) ?_
            refine b_iald hx hb hK (b_at (k := 1) hP rfl) (7 * (np + 1 - 1 - t) + 104) rfl (by omega) (by omega) dX4_picksUp_198 ?_
            refine lv_iadd hx hb dX4_picksUp_199 ?_
            refine b_top (show ((sumDown (fun q => (moPk2 (moPk1 g np) np) (7 * q + 104)) (np + 1) t) + (moPk2 (moPk1 g np) np (7 * (np + 1 - 1 - t) + 104))) = sumDown (fun q => (moPk2 (moPk1 g np) np) (7 * q + 104)) (np + 1) (t + 1) from rfl) ?_
            refine lv_istore_n (lv' := [(3, .int (sumDown (fun q => (moPk2 (moPk1 g np) np) (7 * q + 104)) (np + 1) (t + 1))), (4, .int (nI (np + 1 - t) - 1)), (2, .int (sumDown (fun q => (moPk2 (moPk1 g np) np) (7 * q + 105)) (np + 1) t)), (1, .int (nI (7 * np + 103))), (0, .ref a)]) hx hb dX4_picksUp_200 rfl hl (by decide) rfl (fun ls hl => ?_)
            refine lv_iload_n hx hb dX4_picksUp_201 rfl (lv_at hl 2 rfl) ?_
            refine lv_aload_n hx hb dX4_picksUp_202 rfl (lv_at hl 4 rfl) ?_
            refine b_get (C := RX4) (T := TX4) (N := 16) (v := .ref (r 0)) hx hb hts in_X4 hown hK (b_at (k := 0) hP rfl) rfl 0 (by decide) q1807 (fun _ h9 => h9) rfl dX4_picksUp_203 ?_
            refine lv_bipush (v := 103) hx hb dX4_picksUp_206 (by decide) ?_
            refine lv_bipush (v := 7) hx hb dX4_picksUp_208 (by decide) ?_
            refine lv_iload hx hb dX4_picksUp_210 (lv_at hl 1 rfl) ?_
            refine b_top ej ?_
            refine lv_imul hx hb dX4_picksUp_212 ?_
            refine b_top (nI_mulE (a := 7) (b := (np + 1 - 1 - t)) (c := 7 * (np + 1 - 1 - t)) rfl rfl (by first | omega | rfl)) ?_
            refine lv_iadd hx hb dX4_picksUp_213 ?_
            refine b_top (nI_addE (a := 103) (b := 7 * (np + 1 - 1 - t)) (c := 7 * (np + 1 - 1 - t) + 103) rfl rfl (by first | omega | rfl)) ?_
            refine lv_iconst (v := 2) hx hb dX4_picksUp_214 (by decide) ?_
            refine lv_iadd hx hb dX4_picksUp_215 ?_
            refine b_top (nI_addE (a := 7 * (np + 1 - 1 - t) + 103) (b := 2) (c := 7 * (np + 1 - 1 - t) + 105) rfl rfl (by first | omega | rfl)) ?_
            refine b_iald hx hb hK (b_at (k := 1) hP rfl) (7 * (np + 1 - 1 - t) + 105) rfl (by omega) (by omega) dX4_picksUp_216 ?_
            refine lv_iadd hx hb dX4_picksUp_217 ?_
            refine b_top (show ((sumDown (fun q => (moPk2 (moPk1 g np) np) (7 * q + 105)) (np + 1) t) + (moPk2 (moPk1 g np) np (7 * (np + 1 - 1 - t) + 105))) = sumDown (fun q => (moPk2 (moPk1 g np) np) (7 * q + 105)) (np + 1) (t + 1) from rfl) ?_
            refine lv_istore_n (lv' := [(2, .int (sumDown (fun q => (moPk2 (moPk1 g np) np) (7 * q + 105)) (np + 1) (t + 1))), (3, .int (sumDown (fun q => (moPk2 (moPk1 g np) np) (7 * q + 104)) (np + 1) (t + 1))), (4, .int (nI (np + 1 - t) - 1)), (1, .int (nI (7 * np + 103))), (0, .ref a)]) hx hb dX4_picksUp_218 rfl hl (by decide) rfl (fun ls hl => ?_)
            refine lv_iinc (v := ((nI (np + 1 - t) - 1) + (-1))) (lv' := [(4, .int ((nI (np + 1 - t) - 1) + (-1))), (2, .int (sumDown (fun q => (moPk2 (moPk1 g np) np) (7 * q + 105)) (np + 1) (t + 1))), (3, .int (sumDown (fun q => (moPk2 (moPk1 g np) np) (7 * q + 104)) (np + 1) (t + 1))), (1, .int (nI (7 * np + 103))), (0, .ref a)]) hx hb dX4_picksUp_219 hl (k := 2) rfl (rfl) (by decide) rfl (fun ls hl => ?_)
            rw [show ((nI (np + 1 - t) - 1) + (-1)) = (nI (np + 1 - (t + 1)) - 1) from by rw [ej, show np + 1 - 1 - t = np + 1 - (t + 1) by omega]; exact (Int32.sub_eq_add_neg _ 1).symm] at hl
            refine lv_goto (tgt := 159) hx hb dX4_picksUp_222 (by decide) ?_
            exact ih (t + 1) (by omega) (by omega) (by omega) _ _ _ hP hD hS (lv_sub hl [0, 2, 1, 3, 4] rfl)
    exact loop_2 ((wd + 1 - 0) + 1) 0 (Nat.lt_succ_self _) (Nat.zero_le _) (Nat.zero_le _) _ _ _ hP hD hS (lv_sub hl [0, 1, 2, 3, 4] rfl)
  · -- 9 not taken
    have n_1 : np = 60 := (nI_eq (by omega) (by omega)).mp (show nI np = nI 60 from c_1)
    subst n_1
    refine lv_bipush (v := 103) hx hb dX4_picksUp_12 (by decide) ?_
    refine lv_istore_n (lv' := [(1, .int 103), (0, .ref a)]) hx hb dX4_picksUp_14 rfl hl (by decide) rfl (fun ls hl => ?_)
    rw [show g = (shiftP g 0) from (shiftP_0 g).symm] at hP hD
    have loop_7 : ∀ (fuel : Nat) (j : Nat), 413 - j < fuel → (j ≤ 413) → ∀ (H : Heap) (locs : List Loc) (ls : Array Slot), WP Γ [[(a, moE r i)], [((r 0), .inl (Γ.2.1 0, 523, .inl (shiftP g j)))]] H → WD A [[(a, moE r i)], [((r 0), .inl (Γ.2.1 0, 523, .inl (shiftP g j)))]] → va_S A s.heap H locs → lv_has ls 5 [(1, .int (nI (j + 103))), (0, .ref a)] → W pr_ l ev_ { frames := 1, cells := 0, slots := 0, locals := 22 } s mi_ ([.ref a] : List Value).toArray below meth cd_ H locs 0 0 (MQ below (Qv Γ (fun u_ => u_ = [[(a, moE r i)], [((r 0), .inl (Γ.2.1 0, 523, .inl (moPick g 60 nr wd)))]]) A) ([.ref a] : List Value).toArray s 0 0 A) (F0 mi_ 15 ls ([])) := by
      intro fuel
      induction fuel with
      | zero => intro j hfuel; exact absurd hfuel (Nat.not_lt_zero _)
      | succ fuel ih =>
        intro j hfuel hj H locs ls hP hD hS hl
        refine lv_iload_n hx hb dX4_picksUp_15 rfl (lv_at hl 0 rfl) ?_
        refine lv_sipush (v := 516) hx hb dX4_picksUp_16 (by decide) ?_
        refine lv_icmp_ge (tgt := 43) hx hb dX4_picksUp_19 (by decide) (fun c_8 => ?_) (fun c_8 => ?_)
        · -- 19 taken
          have n_8 : 516 ≤ j + 103 := (nI_leI (by omega) (by omega)).mp (show nI 516 ≤ nI (j + 103) from c_8)
          have d_8 := Int32.not_lt.mpr c_8
          obtain rfl : j = 413 := by omega
          refine lv_aload_n hx hb dX4_picksUp_43 rfl (lv_at hl 1 rfl) ?_
          refine b_get (C := RX4) (T := TX4) (N := 16) (v := .ref (r 0)) hx hb hts in_X4 hown hK (b_at (k := 0) hP rfl) rfl 0 (by decide) q1807 (fun _ h9 => h9) rfl dX4_picksUp_44 ?_
          refine lv_bipush (v := 11) hx hb dX4_picksUp_47 (by decide) ?_
          refine lv_dup2_11 hx hb dX4_picksUp_49 rfl rfl ?_
          refine b_iald hx hb hK (b_at (k := 1) hP rfl) 11 rfl (by omega) (by omega) dX4_picksUp_50 ?_
          refine b_top ((show shiftP g 413 11 = nI 60 from hg11)) ?_
          refine lv_iconst (v := 1) hx hb dX4_picksUp_51 (by decide) ?_
          refine lv_isub hx hb dX4_picksUp_52 ?_
          refine b_top (nI_subE (a := 60) (b := 1) (c := 59) rfl rfl (by first | omega | rfl)) ?_
          refine b_iast hx hb hK hP hD hS 1 rfl 11 rfl (by omega) (by omega) dX4_picksUp_53 (fun H locs hP hD hS => ?_)
          have hP : WP Γ [[(a, moE r i)], [((r 0), .inl (Γ.2.1 0, 523, .inl (upd (shiftP g 413) 11 (nI 59))))]] H := hP
          have hD : WD A [[(a, moE r i)], [((r 0), .inl (Γ.2.1 0, 523, .inl (upd (shiftP g 413) 11 (nI 59))))]] := hD
          rw [show (upd (shiftP g 413) 11 (nI 59)) = (moPk1 g 60) from rfl] at hP hD
          have e1 : moPk1 g 60 = upd (shiftP g 413) 11 (nI 59) := rfl
          have h1_11 : moPk1 g 60 11 = nI 59 := rfl
          have h1k : ∀ q : Nat, q < 103 → q ≠ 11 → moPk1 g 60 q = g q := fun q h h2 => by rw [e1, pk_un h2, shiftP, if_neg (by omega)]
          refine lv_bipush (v := 103) hx hb dX4_picksUp_54 (by decide) ?_
          refine lv_bipush (v := 7) hx hb dX4_picksUp_56 (by decide) ?_
          refine lv_aload_n hx hb dX4_picksUp_58 rfl (lv_at hl 1 rfl) ?_
          refine b_get (C := RX4) (T := TX4) (N := 16) (v := .ref (r 0)) hx hb hts in_X4 hown hK (b_at (k := 0) hP rfl) rfl 0 (by decide) q1807 (fun _ h9 => h9) rfl dX4_picksUp_59 ?_
          refine lv_bipush (v := 11) hx hb dX4_picksUp_62 (by decide) ?_
          refine b_iald hx hb hK (b_at (k := 1) hP rfl) 11 rfl (by omega) (by omega) dX4_picksUp_64 ?_
          refine b_top (h1_11) ?_
          refine lv_imul hx hb dX4_picksUp_65 ?_
          refine b_top (nI_mulE (a := 7) (b := 59) (c := 413) rfl rfl (by first | omega | rfl)) ?_
          refine lv_iadd hx hb dX4_picksUp_66 ?_
          refine b_top (nI_addE (a := 103) (b := 413) (c := 516) rfl rfl (by first | omega | rfl)) ?_
          refine lv_istore_n (lv' := [(1, .int (nI 516)), (0, .ref a)]) hx hb dX4_picksUp_67 rfl hl (by decide) rfl (fun ls hl => ?_)
          refine lv_aload_n hx hb dX4_picksUp_68 rfl (lv_at hl 1 rfl) ?_
          refine b_get (C := RX4) (T := TX4) (N := 16) (v := .ref (r 0)) hx hb hts in_X4 hown hK (b_at (k := 0) hP rfl) rfl 0 (by decide) q1807 (fun _ h9 => h9) rfl dX4_picksUp_69 ?_
          refine lv_bipush (v := 11) hx hb dX4_picksUp_72 (by decide) ?_
          refine lv_dup2_11 hx hb dX4_picksUp_74 rfl rfl ?_
          refine b_iald hx hb hK (b_at (k := 1) hP rfl) 11 rfl (by omega) (by omega) dX4_picksUp_75 ?_
          refine b_top (h1_11) ?_
          refine lv_iconst (v := 1) hx hb dX4_picksUp_76 (by decide) ?_
          refine lv_iadd hx hb dX4_picksUp_77 ?_
          refine b_top (nI_addE (a := 59) (b := 1) (c := 60) rfl rfl (by first | omega | rfl)) ?_
          refine b_iast hx hb hK hP hD hS 1 rfl 11 rfl (by omega) (by omega) dX4_picksUp_78 (fun H locs hP hD hS => ?_)
          have hP : WP Γ [[(a, moE r i)], [((r 0), .inl (Γ.2.1 0, 523, .inl (upd (moPk1 g 60) 11 (nI 60))))]] H := hP
          have hD : WD A [[(a, moE r i)], [((r 0), .inl (Γ.2.1 0, 523, .inl (upd (moPk1 g 60) 11 (nI 60))))]] := hD
          refine lv_aload_n hx hb dX4_picksUp_79 rfl (lv_at hl 1 rfl) ?_
          refine b_get (C := RX4) (T := TX4) (N := 16) (v := .ref (r 0)) hx hb hts in_X4 hown hK (b_at (k := 0) hP rfl) rfl 0 (by decide) q1807 (fun _ h9 => h9) rfl dX4_picksUp_80 ?_
          refine lv_iload_n hx hb dX4_picksUp_83 rfl (lv_at hl 0 rfl) ?_
          refine lv_aload_n hx hb dX4_picksUp_84 rfl (lv_at hl 1 rfl) ?_
          refine b_get (C := RX4) (T := TX4) (N := 16) (v := .ref (r 0)) hx hb hts in_X4 hown hK (b_at (k := 0) hP rfl) rfl 0 (by decide) q1807 (fun _ h9 => h9) rfl dX4_picksUp_85 ?_
          refine lv_iconst (v := 0) hx hb dX4_picksUp_88 (by decide) ?_
          refine b_iald hx hb hK (b_at (k := 1) hP rfl) 0 rfl (by omega) (by omega) dX4_picksUp_89 ?_
          refine b_top (show (upd (moPk1 g 60) 11 (nI 60) 0) = (moPk1 g 60 0) from by rw [pk_un (by omega)]) ?_
          refine b_top (h1k 0 (by omega) (by omega)) ?_
          refine b_iast hx hb hK hP hD hS 1 rfl 516 rfl (by omega) (by omega) dX4_picksUp_90 (fun H locs hP hD hS => ?_)
          have hP : WP Γ [[(a, moE r i)], [((r 0), .inl (Γ.2.1 0, 523, .inl (upd (upd (moPk1 g 60) 11 (nI 60)) 516 (g 0))))]] H := hP
          have hD : WD A [[(a, moE r i)], [((r 0), .inl (Γ.2.1 0, 523, .inl (upd (upd (moPk1 g 60) 11 (nI 60)) 516 (g 0))))]] := hD
          refine lv_aload_n hx hb dX4_picksUp_91 rfl (lv_at hl 1 rfl) ?_
          refine b_get (C := RX4) (T := TX4) (N := 16) (v := .ref (r 0)) hx hb hts in_X4 hown hK (b_at (k := 0) hP rfl) rfl 0 (by decide) q1807 (fun _ h9 => h9) rfl dX4_picksUp_92 ?_
          refine lv_iload_n hx hb dX4_picksUp_95 rfl (lv_at hl 0 rfl) ?_
          refine lv_iconst (v := 1) hx hb dX4_picksUp_96 (by decide) ?_
          refine lv_iadd hx hb dX4_picksUp_97 ?_
          refine b_top (nI_addE (a := 516) (b := 1) (c := 517) rfl rfl (by first | omega | rfl)) ?_
          refine lv_aload_n hx hb dX4_picksUp_98 rfl (lv_at hl 1 rfl) ?_
          refine b_get (C := RX4) (T := TX4) (N := 16) (v := .ref (r 0)) hx hb hts in_X4 hown hK (b_at (k := 0) hP rfl) rfl 0 (by decide) q1807 (fun _ h9 => h9) rfl dX4_picksUp_99 ?_
          refine lv_bipush (v := 8) hx hb dX4_picksUp_102 (by decide) ?_
          refine b_iald hx hb hK (b_at (k := 1) hP rfl) 8 rfl (by omega) (by omega) dX4_picksUp_104 ?_
          refine b_top (show (upd (upd (moPk1 g 60) 11 (nI 60)) 516 (g 0) 8) = (moPk1 g 60 8) from by rw [pk_un (by omega), pk_un (by omega)]) ?_
          refine b_top (h1k 8 (by omega) (by omega)) ?_
          refine b_iast hx hb hK hP hD hS 1 rfl 517 rfl (by omega) (by omega) dX4_picksUp_105 (fun H locs hP hD hS => ?_)
          have hP : WP Γ [[(a, moE r i)], [((r 0), .inl (Γ.2.1 0, 523, .inl (upd (upd (upd (moPk1 g 60) 11 (nI 60)) 516 (g 0)) 517 (g 8))))]] H := hP
          have hD : WD A [[(a, moE r i)], [((r 0), .inl (Γ.2.1 0, 523, .inl (upd (upd (upd (moPk1 g 60) 11 (nI 60)) 516 (g 0)) 517 (g 8))))]] := hD
          refine lv_aload_n hx hb dX4_picksUp_106 rfl (lv_at hl 1 rfl) ?_
          refine b_get (C := RX4) (T := TX4) (N := 16) (v := .ref (r 0)) hx hb hts in_X4 hown hK (b_at (k := 0) hP rfl) rfl 0 (by decide) q1807 (fun _ h9 => h9) rfl dX4_picksUp_107 ?_
          refine lv_iload_n hx hb dX4_picksUp_110 rfl (lv_at hl 0 rfl) ?_
          refine lv_iconst (v := 2) hx hb dX4_picksUp_111 (by decide) ?_
          refine lv_iadd hx hb dX4_picksUp_112 ?_
          refine b_top (nI_addE (a := 516) (b := 2) (c := 518) rfl rfl (by first | omega | rfl)) ?_
          refine lv_aload_n hx hb dX4_picksUp_113 rfl (lv_at hl 1 rfl) ?_
          refine b_get (C := RX4) (T := TX4) (N := 16) (v := .ref (r 0)) hx hb hts in_X4 hown hK (b_at (k := 0) hP rfl) rfl 0 (by decide) q1807 (fun _ h9 => h9) rfl dX4_picksUp_114 ?_
          refine lv_bipush (v := 9) hx hb dX4_picksUp_117 (by decide) ?_
          refine b_iald hx hb hK (b_at (k := 1) hP rfl) 9 rfl (by omega) (by omega) dX4_picksUp_119 ?_
          refine b_top (show (upd (upd (upd (moPk1 g 60) 11 (nI 60)) 516 (g 0)) 517 (g 8) 9) = (moPk1 g 60 9) from by rw [pk_un (by omega), pk_un (by omega), pk_un (by omega)]) ?_
          refine b_top (h1k 9 (by omega) (by omega)) ?_
          refine b_iast hx hb hK hP hD hS 1 rfl 518 rfl (by omega) (by omega) dX4_picksUp_120 (fun H locs hP hD hS => ?_)
          have hP : WP Γ [[(a, moE r i)], [((r 0), .inl (Γ.2.1 0, 523, .inl (upd (upd (upd (upd (moPk1 g 60) 11 (nI 60)) 516 (g 0)) 517 (g 8)) 518 (g 9))))]] H := hP
          have hD : WD A [[(a, moE r i)], [((r 0), .inl (Γ.2.1 0, 523, .inl (upd (upd (upd (upd (moPk1 g 60) 11 (nI 60)) 516 (g 0)) 517 (g 8)) 518 (g 9))))]] := hD
          refine lv_aload_n hx hb dX4_picksUp_121 rfl (lv_at hl 1 rfl) ?_
          refine b_get (C := RX4) (T := TX4) (N := 16) (v := .ref (r 0)) hx hb hts in_X4 hown hK (b_at (k := 0) hP rfl) rfl 0 (by decide) q1807 (fun _ h9 => h9) rfl dX4_picksUp_122 ?_
          refine lv_iload_n hx hb dX4_picksUp_125 rfl (lv_at hl 0 rfl) ?_
          refine lv_iconst (v := 3) hx hb dX4_picksUp_126 (by decide) ?_
          refine lv_iadd hx hb dX4_picksUp_127 ?_
          refine b_top (nI_addE (a := 516) (b := 3) (c := 519) rfl rfl (by first | omega | rfl)) ?_
          refine lv_aload_n hx hb dX4_picksUp_128 rfl (lv_at hl 1 rfl) ?_
          refine b_get (C := RX4) (T := TX4) (N := 16) (v := .ref (r 0)) hx hb hts in_X4 hown hK (b_at (k := 0) hP rfl) rfl 0 (by decide) q1807 (fun _ h9 => h9) rfl dX4_picksUp_129 ?_
          refine lv_bipush (v := 9) hx hb dX4_picksUp_132 (by decide) ?_
          refine b_iald hx hb hK (b_at (k := 1) hP rfl) 9 rfl (by omega) (by omega) dX4_picksUp_134 ?_
          refine b_top (show (upd (upd (upd (upd (moPk1 g 60) 11 (nI 60)) 516 (g 0)) 517 (g 8)) 518 (g 9) 9) = (moPk1 g 60 9) from by rw [pk_un (by omega), pk_un (by omega), pk_un (by omega), pk_un (by omega)]) ?_
          refine b_top (h1k 9 (by omega) (by omega)) ?_
          refine lv_aload_n hx hb dX4_picksUp_135 rfl (lv_at hl 1 rfl) ?_
          refine b_get (C := RX4) (T := TX4) (N := 16) (v := .ref (r 0)) hx hb hts in_X4 hown hK (b_at (k := 0) hP rfl) rfl 0 (by decide) q1807 (fun _ h9 => h9) rfl dX4_picksUp_136 ?_
          refine lv_bipush (v := 8) hx hb dX4_picksUp_139 (by decide) ?_
          refine b_iald hx hb hK (b_at (k := 1) hP rfl) 8 rfl (by omega) (by omega) dX4_picksUp_141 ?_
          refine b_top (show (upd (upd (upd (upd (moPk1 g 60) 11 (nI 60)) 516 (g 0)) 517 (g 8)) 518 (g 9) 8) = (moPk1 g 60 8) from by rw [pk_un (by omega), pk_un (by omega), pk_un (by omega), pk_un (by omega)]) ?_
          refine b_top (h1k 8 (by omega) (by omega)) ?_
          refine lv_idiv hx hb dX4_picksUp_142 (hg8) ?_
          refine b_iast hx hb hK hP hD hS 1 rfl 519 rfl (by omega) (by omega) dX4_picksUp_143 (fun H locs hP hD hS => ?_)
          have hP : WP Γ [[(a, moE r i)], [((r 0), .inl (Γ.2.1 0, 523, .inl (upd (upd (upd (upd (upd (moPk1 g 60) 11 (nI 60)) 516 (g 0)) 517 (g 8)) 518 (g 9)) 519 ((g 9) / (g 8)))))]] H := hP
          have hD : WD A [[(a, moE r i)], [((r 0), .inl (Γ.2.1 0, 523, .inl (upd (upd (upd (upd (upd (moPk1 g 60) 11 (nI 60)) 516 (g 0)) 517 (g 8)) 518 (g 9)) 519 ((g 9) / (g 8)))))]] := hD
          rw [show (upd (upd (upd (upd (upd (moPk1 g 60) 11 (nI 60)) 516 (g 0)) 517 (g 8)) 518 (g 9)) 519 ((g 9) / (g 8))) = (moPk2 (moPk1 g 60) 59) from by rw [moPk2, h1k 0 (by omega) (by omega), h1k 8 (by omega) (by omega), h1k 9 (by omega) (by omega)]] at hP hD
          have h2k : ∀ q : Nat, q < 103 → q ≠ 11 → moPk2 (moPk1 g 60) 59 q = g q := fun q h h2 => by rw [moPk2, pk_un (by omega), pk_un (by omega), pk_un (by omega), pk_un (by omega), pk_un h2]; exact h1k q h h2
          have h2_11 : moPk2 (moPk1 g 60) 59 11 = nI (59 + 1) := by rw [moPk2, pk_un (by omega), pk_un (by omega), pk_un (by omega), pk_un (by omega), pk_us]
          refine lv_iconst (v := 0) hx hb dX4_picksUp_144 (by decide) ?_
          refine lv_istore_n (lv' := [(2, .int 0), (1, .int (nI 516)), (0, .ref a)]) hx hb dX4_picksUp_145 rfl hl (by decide) rfl (fun ls hl => ?_)
          refine lv_iconst (v := 0) hx hb dX4_picksUp_146 (by decide) ?_
          refine lv_istore_n (lv' := [(3, .int 0), (2, .int 0), (1, .int (nI 516)), (0, .ref a)]) hx hb dX4_picksUp_147 rfl hl (by decide) rfl (fun ls hl => ?_)
          refine lv_aload_n hx hb dX4_picksUp_148 rfl (lv_at hl 3 rfl) ?_
          refine b_get (C := RX4) (T := TX4) (N := 16) (v := .ref (r 0)) hx hb hts in_X4 hown hK (b_at (k := 0) hP rfl) rfl 0 (by decide) q1807 (fun _ h9 => h9) rfl dX4_picksUp_149 ?_
          refine lv_bipush (v := 11) hx hb dX4_picksUp_152 (by decide) ?_
          refine b_iald hx hb hK (b_at (k := 1) hP rfl) 11 rfl (by omega) (by omega) dX4_picksUp_154 ?_
          refine b_top (h2_11) ?_
          refine lv_iconst (v := 1) hx hb dX4_picksUp_155 (by decide) ?_
          refine lv_isub hx hb dX4_picksUp_156 ?_
          refine b_top (nI_subE (a := 60) (b := 1) (c := 59) rfl rfl (by first | omega | rfl)) ?_
          refine b_top (show (nI 59) = nI (59 + 1 - 0) - 1 from by rw [Nat.sub_zero, nI_pred]) ?_
          refine lv_istore (lv' := [(4, .int (nI (59 + 1 - 0) - 1)), (3, .int 0), (2, .int 0), (1, .int (nI 516)), (0, .ref a)]) hx hb dX4_picksUp_157 hl (by decide) rfl (fun ls hl => ?_)
          have loop_9 : ∀ (fuel : Nat) (t : Nat), wd + 1 - t < fuel → (t ≤ wd) → (t ≤ 59 + 1) → ∀ (H : Heap) (locs : List Loc) (ls : Array Slot), WP Γ [[(a, moE r i)], [((r 0), .inl (Γ.2.1 0, 523, .inl (moPk2 (moPk1 g 60) 59)))]] H → WD A [[(a, moE r i)], [((r 0), .inl (Γ.2.1 0, 523, .inl (moPk2 (moPk1 g 60) 59)))]] → va_S A s.heap H locs → lv_has ls 5 [(4, .int (nI (59 + 1 - t) - 1)), (3, .int (sumDown (fun q => (moPk2 (moPk1 g 60) 59) (7 * q + 104)) (59 + 1) t)), (2, .int (sumDown (fun q => (moPk2 (moPk1 g 60) 59) (7 * q + 105)) (59 + 1) t)), (1, .int (nI 516)), (0, .ref a)] → W pr_ l ev_ { frames := 1, cells := 0, slots := 0, locals := 22 } s mi_ ([.ref a] : List Value).toArray below meth cd_ H locs 0 0 (MQ below (Qv Γ (fun u_ => u_ = [[(a, moE r i)], [((r 0), .inl (Γ.2.1 0, 523, .inl (moPick g 60 nr wd)))]]) A) ([.ref a] : List Value).toArray s 0 0 A) (F0 mi_ 159 ls ([])) := by
            intro fuel
            induction fuel with
            | zero => intro t hfuel; exact absurd hfuel (Nat.not_lt_zero _)
            | succ fuel ih =>
              intro t hfuel ht htm H locs ls hP hD hS hl
              refine lv_iload hx hb dX4_picksUp_159 (lv_at hl 0 rfl) ?_
              refine lv_if_lt (tgt := 225) hx hb dX4_picksUp_161 (by decide) (fun c_10 => ?_) (fun c_10 => ?_)
              · -- 161 taken
                have hq0 : (59 + 1 - t) = 0 := (dn_neg (by omega)).mp c_10
                have et : min (59 + 1) wd = t := by omega
                rw [show sumDown (fun q => (moPk2 (moPk1 g 60) 59) (7 * q + 104)) (59 + 1) t = moWinL (moPk2 (moPk1 g 60) 59) (59 + 1) wd from by rw [moWinL, et], show sumDown (fun q => (moPk2 (moPk1 g 60) 59) (7 * q + 105)) (59 + 1) t = moWinC (moPk2 (moPk1 g 60) 59) (59 + 1) wd from by rw [moWinC, et]] at hl
                refine lv_aload_n hx hb dX4_picksUp_225 rfl (lv_at hl 4 rfl) ?_
                refine b_get (C := RX4) (T := TX4) (N := 16) (v := .ref (r 0)) hx hb hts in_X4 hown hK (b_at (k := 0) hP rfl) rfl 0 (by decide) q1807 (fun _ h9 => h9) rfl dX4_picksUp_226 ?_
                refine lv_iload_n hx hb dX4_picksUp_229 rfl (lv_at hl 3 rfl) ?_
                refine lv_iconst (v := 4) hx hb dX4_picksUp_230 (by decide) ?_
                refine lv_iadd hx hb dX4_picksUp_231 ?_
                refine b_top (nI_addE (a := 516) (b := 4) (c := 520) rfl rfl (by first | omega | rfl)) ?_
                refine lv_iload_n hx hb dX4_picksUp_232 rfl (lv_at hl 2 rfl) ?_
                refine lv_iload_n hx hb dX4_picksUp_233 rfl (lv_at hl 1 rfl) ?_
                refine lv_idiv hx hb dX4_picksUp_234 (hL) ?_
                refine b_top (show ((moWinC (moPk2 (moPk1 g 60) 59) (59 + 1) wd) / (moWinL (moPk2 (moPk1 g 60) 59) (59 + 1) wd)) = moMean g 60 wd from rfl) ?_
                refine b_iast hx hb hK hP hD hS 1 rfl 520 rfl (by omega) (by omega) dX4_picksUp_235 (fun H locs hP hD hS => ?_)
                have hP : WP Γ [[(a, moE r i)], [((r 0), .inl (Γ.2.1 0, 523, .inl (upd (moPk2 (moPk1 g 60) 59) 520 (moMean g 60 wd))))]] H := hP
                have hD : WD A [[(a, moE r i)], [((r 0), .inl (Γ.2.1 0, 523, .inl (upd (moPk2 (moPk1 g 60) 59) 520 (moMean g 60 wd))))]] := hD
                refine lv_aload_n hx hb dX4_picksUp_236 rfl (lv_at hl 4 rfl) ?_
                refine b_get (C := RX4) (T := TX4) (N := 16) (v := .ref (r 0)) hx hb hts in_X4 hown hK (b_at (k := 0) hP rfl) rfl 0 (by decide) q1807 (fun _ h9 => h9) rfl dX4_picksUp_237 ?_
                refine lv_iload_n hx hb dX4_picksUp_240 rfl (lv_at hl 3 rfl) ?_
                refine lv_iconst (v := 5) hx hb dX4_picksUp_241 (by decide) ?_
                refine lv_iadd hx hb dX4_picksUp_242 ?_
                refine b_top (nI_addE (a := 516) (b := 5) (c := 521) rfl rfl (by first | omega | rfl)) ?_
                refine lv_aload_n hx hb dX4_picksUp_243 rfl (lv_at hl 4 rfl) ?_
                refine lv_aload_n hx hb dX4_picksUp_244 rfl (lv_at hl 4 rfl) ?_
                refine b_get (C := RX4) (T := TX4) (N := 16) (v := .ref (r 0)) hx hb hts in_X4 hown hK (b_at (k := 0) hP rfl) rfl 0 (by decide) q1807 (fun _ h9 => h9) rfl dX4_picksUp_245 ?_
                refine lv_iload_n hx hb dX4_picksUp_248 rfl (lv_at hl 3 rfl) ?_
                refine lv_iconst (v := 4) hx hb dX4_picksUp_249 (by decide) ?_
                refine lv_iadd hx hb dX4_picksUp_250 ?_
                refine b_top (nI_addE (a := 516) (b := 4) (c := 520) rfl rfl (by first | omega | rfl)) ?_
                refine b_iald hx hb hK (b_at (k := 1) hP rfl) 520 rfl (by omega) (by omega) dX4_picksUp_251 ?_
                refine b_top (show (upd (moPk2 (moPk1 g 60) 59) 520 (moMean g 60 wd) 520) = (moMean g 60 wd) from by rw [pk_us]) ?_
                refine b_calli (br := []) (b_runV ⟨hx, hb, hml, hown, hts⟩ (mt_Mo_bonusFor l Γ _ a r i (upd (moPk2 (moPk1 g 60) 59) 520 (moMean g 60 wd)) (moMean g 60 wd) nr (by rw [pk_un (by omega)]; exact (h2k 10 (by omega) (by omega)).trans hg10) (by omega)) (lw_V q2008 q2010 qs50 q73 q2011) rfl rfl 1 (by decide +kernel) ⟨(Nat.le_of_ble_eq_true rfl), (Nat.le_of_ble_eq_true rfl)⟩ (c_pre hP hD hS hA hK hE [0, 1] rfl rfl ro_nil) (recv_at (q := (RX4, TX4, 16)) hK (b_at (k := 0) hP rfl) rfl) rfl hl.1 rfl (Nat.le_of_ble_eq_true rfl) dX4_picksUp_252 ⟨(Nat.le_of_ble_eq_true rfl), (Nat.le_of_ble_eq_true rfl)⟩) hP hD hS hA [0, 1] [] rfl rfl rfl (fun r_11 u_11 H locs hw_11 hP hD hS _ => ?_)
                obtain ⟨rfl, rfl⟩ := hw_11
                have hP : WP Γ [[(a, moE r i)], [((r 0), .inl (Γ.2.1 0, 523, .inl (upd (moPk2 (moPk1 g 60) 59) 520 (moMean g 60 wd))))]] H := hP
                have hD : WD A [[(a, moE r i)], [((r 0), .inl (Γ.2.1 0, 523, .inl (upd (moPk2 (moPk1 g 60) 59) 520 (moMean g 60 wd))))]] := hD
                refine b_iast hx hb hK hP hD hS 1 rfl 521 rfl (by omega) (by omega) dX4_picksUp_255 (fun H locs hP hD hS => ?_)
                have hP : WP Γ [[(a, moE r i)], [((r 0), .inl (Γ.2.1 0, 523, .inl (upd (upd (moPk2 (moPk1 g 60) 59) 520 (moMean g 60 wd)) 521 (moBon (upd (moPk2 (moPk1 g 60) 59) 520 (moMean g 60 wd)) (moMean g 60 wd) nr))))]] H := hP
                have hD : WD A [[(a, moE r i)], [((r 0), .inl (Γ.2.1 0, 523, .inl (upd (upd (moPk2 (moPk1 g 60) 59) 520 (moMean g 60 wd)) 521 (moBon (upd (moPk2 (moPk1 g 60) 59) 520 (moMean g 60 wd)) (moMean g 60 wd) nr))))]] := hD
                refine lv_aload_n hx hb dX4_picksUp_256 rfl (lv_at hl 4 rfl) ?_
                refine b_get (C := RX4) (T := TX4) (N := 16) (v := .ref (r 0)) hx hb hts in_X4 hown hK (b_at (k := 0) hP rfl) rfl 0 (by decide) q1807 (fun _ h9 => h9) rfl dX4_picksUp_257 ?_
                refine lv_iload_n hx hb dX4_picksUp_260 rfl (lv_at hl 3 rfl) ?_
                refine lv_bipush (v := 6) hx hb dX4_picksUp_261 (by decide) ?_
                refine lv_iadd hx hb dX4_picksUp_263 ?_
                refine b_top (nI_addE (a := 516) (b := 6) (c := 522) rfl rfl (by first | omega | rfl)) ?_
                refine lv_aload_n hx hb dX4_picksUp_264 rfl (lv_at hl 4 rfl) ?_
                refine b_get (C := RX4) (T := TX4) (N := 16) (v := .ref (r 0)) hx hb hts in_X4 hown hK (b_at (k := 0) hP rfl) rfl 0 (by decide) q1807 (fun _ h9 => h9) rfl dX4_picksUp_265 ?_
                refine lv_bipush (v := 6) hx hb dX4_picksUp_268 (by decide) ?_
                refine b_iald hx hb hK (b_at (k := 1) hP rfl) 6 rfl (by omega) (by omega) dX4_picksUp_270 ?_
                refine b_top (show (upd (upd (moPk2 (moPk1 g 60) 59) 520 (moMean g 60 wd)) 521 (moBon (upd (moPk2 (moPk1 g 60) 59) 520 (moMean g 60 wd)) (moMean g 60 wd) nr) 6) = (upd (moPk2 (moPk1 g 60) 59) 520 (moMean g 60 wd) 6) from by rw [pk_un (by omega)]) ?_
                refine lv_aload_n hx hb dX4_picksUp_271 rfl (lv_at hl 4 rfl) ?_
                refine b_get (C := RX4) (T := TX4) (N := 16) (v := .ref (r 0)) hx hb hts in_X4 hown hK (b_at (k := 0) hP rfl) rfl 0 (by decide) q1807 (fun _ h9 => h9) rfl dX4_picksUp_272 ?_
                refine lv_iload_n hx hb dX4_picksUp_275 rfl (lv_at hl 3 rfl) ?_
                refine lv_iconst (v := 5) hx hb dX4_picksUp_276 (by decide) ?_
                refine lv_iadd hx hb dX4_picksUp_277 ?_
                refine b_top (nI_addE (a := 516) (b := 5) (c := 521) rfl rfl (by first | omega | rfl)) ?_
                refine b_iald hx hb hK (b_at (k := 1) hP rfl) 521 rfl (by omega) (by omega) dX4_picksUp_278 ?_
                refine b_top (show (upd (upd (moPk2 (moPk1 g 60) 59) 520 (moMean g 60 wd)) 521 (moBon (upd (moPk2 (moPk1 g 60) 59) 520 (moMean g 60 wd)) (moMean g 60 wd) nr) 521) = (moBon (upd (moPk2 (moPk1 g 60) 59) 520 (moMean g 60 wd)) (moMean g 60 wd) nr) from by rw [pk_us]) ?_
                refine lv_iadd hx hb dX4_picksUp_279 ?_
                refine lv_aload_n hx hb dX4_picksUp_280 rfl (lv_at hl 4 rfl) ?_
                refine b_get (C := RX4) (T := TX4) (N := 16) (v := .ref (r 0)) hx hb hts in_X4 hown hK (b_at (k := 0) hP rfl) rfl 0 (by decide) q1807 (fun _ h9 => h9) rfl dX4_picksUp_281 ?_
                refine lv_bipush (v := 8) hx hb dX4_picksUp_284 (by decide) ?_
                refine b_iald hx hb hK (b_at (k := 1) hP rfl) 8 rfl (by omega) (by omega) dX4_picksUp_286 ?_
                refine b_top (show (upd (upd (moPk2 (moPk1 g 60) 59) 520 (moMean g 60 wd)) 521 (moBon (upd (moPk2 (moPk1 g 60) 59) 520 (moMean g 60 wd)) (moMean g 60 wd) nr) 8) = (upd (moPk2 (moPk1 g 60) 59) 520 (moMean g 60 wd) 8) from by rw [pk_un (by omega)]) ?_
                refine lv_imul hx hb dX4_picksUp_287 ?_
                refine b_iast hx hb hK hP hD hS 1 rfl 522 rfl (by omega) (by omega) dX4_picksUp_288 (fun H locs hP hD hS => ?_)
                have hP : WP Γ [[(a, moE r i)], [((r 0), .inl (Γ.2.1 0, 523, .inl (upd (upd (upd (moPk2 (moPk1 g 60) 59) 520 (moMean g 60 wd)) 521 (moBon (upd (moPk2 (moPk1 g 60) 59) 520 (moMean g 60 wd)) (moMean g 60 wd) nr)) 522 (((upd (moPk2 (moPk1 g 60) 59) 520 (moMean g 60 wd) 6) + (moBon (upd (moPk2 (moPk1 g 60) 59) 520 (moMean g 60 wd)) (moMean g 60 wd) nr)) * (upd (moPk2 (moPk1 g 60) 59) 520 (moMean g 60 wd) 8)))))]] H := hP
                have hD : WD A [[(a, moE r i)], [((r 0), .inl (Γ.2.1 0, 523, .inl (upd (upd (upd (moPk2 (moPk1 g 60) 59) 520 (moMean g 60 wd)) 521 (moBon (upd (moPk2 (moPk1 g 60) 59) 520 (moMean g 60 wd)) (moMean g 60 wd) nr)) 522 (((upd (moPk2 (moPk1 g 60) 59) 520 (moMean g 60 wd) 6) + (moBon (upd (moPk2 (moPk1 g 60) 59) 520 (moMean g 60 wd)) (moMean g 60 wd) nr)) * (upd (moPk2 (moPk1 g 60) 59) 520 (moMean g 60 wd) 8)))))]] := hD
                refine lv_aload_n hx hb dX4_picksUp_289 rfl (lv_at hl 4 rfl) ?_
                refine b_get (C := RX4) (T := TX4) (N := 16) (v := .ref (r 0)) hx hb hts in_X4 hown hK (b_at (k := 0) hP rfl) rfl 0 (by decide) q1807 (fun _ h9 => h9) rfl dX4_picksUp_290 ?_
                refine lv_bipush (v := 12) hx hb dX4_picksUp_293 (by decide) ?_
                refine lv_dup2_11 hx hb dX4_picksUp_295 rfl rfl ?_
                refine b_iald hx hb hK (b_at (k := 1) hP rfl) 12 rfl (by omega) (by omega) dX4_picksUp_296 ?_
                refine b_top (show (upd (upd (upd (moPk2 (moPk1 g 60) 59) 520 (moMean g 60 wd)) 521 (moBon (upd (moPk2 (moPk1 g 60) 59) 520 (moMean g 60 wd)) (moMean g 60 wd) nr)) 522 (((upd (moPk2 (moPk1 g 60) 59) 520 (moMean g 60 wd) 6) + (moBon (upd (moPk2 (moPk1 g 60) 59) 520 (moMean g 60 wd)) (moMean g 60 wd) nr)) * (upd (moPk2 (moPk1 g 60) 59) 520 (moMean g 60 wd) 8)) 12) = (upd (moPk2 (moPk1 g 60) 59) 520 (moMean g 60 wd) 12) from by rw [pk_un (by omega), pk_un (by omega)]) ?_
                refine lv_aload_n hx hb dX4_picksUp_297 rfl (lv_at hl 4 rfl) ?_
                refine b_get (C := RX4) (T := TX4) (N := 16) (v := .ref (r 0)) hx hb hts in_X4 hown hK (b_at (k := 0) hP rfl) rfl 0 (by decide) q1807 (fun _ h9 => h9) rfl dX4_picksUp_298 ?_
                refine lv_bipush (v := 8) hx hb dX4_picksUp_301 (by decide) ?_
                refine b_iald hx hb hK (b_at (k := 1) hP rfl) 8 rfl (by omega) (by omega) dX4_picksUp_303 ?_
                refine b_top (show (upd (upd (upd (moPk2 (moPk1 g 60) 59) 520 (moMean g 60 wd)) 521 (moBon (upd (moPk2 (moPk1 g 60) 59) 520 (moMean g 60 wd)) (moMean g 60 wd) nr)) 522 (((upd (moPk2 (moPk1 g 60) 59) 520 (moMean g 60 wd) 6) + (moBon (upd (moPk2 (moPk1 g 60) 59) 520 (moMean g 60 wd)) (moMean g 60 wd) nr)) * (upd (moPk2 (moPk1 g 60) 59) 520 (moMean g 60 wd) 8)) 8) = (upd (moPk2 (moPk1 g 60) 59) 520 (moMean g 60 wd) 8) from by rw [pk_un (by omega), pk_un (by omega)]) ?_
                refine lv_iadd hx hb dX4_picksUp_304 ?_
                refine b_iast hx hb hK hP hD hS 1 rfl 12 rfl (by omega) (by omega) dX4_picksUp_305 (fun H locs hP hD hS => ?_)
                have hP : WP Γ [[(a, moE r i)], [((r 0), .inl (Γ.2.1 0, 523, .inl (upd (upd (upd (upd (moPk2 (moPk1 g 60) 59) 520 (moMean g 60 wd)) 521 (moBon (upd (moPk2 (moPk1 g 60) 59) 520 (moMean g 60 wd)) (moMean g 60 wd) nr)) 522 (((upd (moPk2 (moPk1 g 60) 59) 520 (moMean g 60 wd) 6) + (moBon (upd (moPk2 (moPk1 g 60) 59) 520 (moMean g 60 wd)) (moMean g 60 wd) nr)) * (upd (moPk2 (moPk1 g 60) 59) 520 (moMean g 60 wd) 8))) 12 ((upd (moPk2 (moPk1 g 60) 59) 520 (moMean g 60 wd) 12) + (upd (moPk2 (moPk1 g 60) 59) 520 (moMean g 60 wd) 8)))))]] H := hP
                have hD : WD A [[(a, moE r i)], [((r 0), .inl (Γ.2.1 0, 523, .inl (upd (upd (upd (upd (moPk2 (moPk1 g 60) 59) 520 (moMean g 60 wd)) 521 (moBon (upd (moPk2 (moPk1 g 60) 59) 520 (moMean g 60 wd)) (moMean g 60 wd) nr)) 522 (((upd (moPk2 (moPk1 g 60) 59) 520 (moMean g 60 wd) 6) + (moBon (upd (moPk2 (moPk1 g 60) 59) 520 (moMean g 60 wd)) (moMean g 60 wd) nr)) * (upd (moPk2 (moPk1 g 60) 59) 520 (moMean g 60 wd) 8))) 12 ((upd (moPk2 (moPk1 g 60) 59) 520 (moMean g 60 wd) 12) + (upd (moPk2 (moPk1 g 60) 59) 520 (moMean g 60 wd) 8)))))]] := hD
                refine lv_aload_n hx hb dX4_picksUp_306 rfl (lv_at hl 4 rfl) ?_
                refine b_get (C := RX4) (T := TX4) (N := 16) (v := .ref (r 0)) hx hb hts in_X4 hown hK (b_at (k := 0) hP rfl) rfl 0 (by decide) q1807 (fun _ h9 => h9) rfl dX4_picksUp_307 ?_
                refine lv_bipush (v := 13) hx hb dX4_picksUp_310 (by decide) ?_
                refine lv_dup2_11 hx hb dX4_picksUp_312 rfl rfl ?_
                refine b_iald hx hb hK (b_at (k := 1) hP rfl) 13 rfl (by omega) (by omega) dX4_picksUp_313 ?_
                refine b_top (show (upd (upd (upd (upd (moPk2 (moPk1 g 60) 59) 520 (moMean g 60 wd)) 521 (moBon (upd (moPk2 (moPk1 g 60) 59) 520 (moMean g 60 wd)) (moMean g 60 wd) nr)) 522 (((upd (moPk2 (moPk1 g 60) 59) 520 (moMean g 60 wd) 6) + (moBon (upd (moPk2 (moPk1 g 60) 59) 520 (moMean g 60 wd)) (moMean g 60 wd) nr)) * (upd (moPk2 (moPk1 g 60) 59) 520 (moMean g 60 wd) 8))) 12 ((upd (moPk2 (moPk1 g 60) 59) 520 (moMean g 60 wd) 12) + (upd (moPk2 (moPk1 g 60) 59) 520 (moMean g 60 wd) 8)) 13) = (upd (moPk2 (moPk1 g 60) 59) 520 (moMean g 60 wd) 13) from by rw [pk_un (by omega), pk_un (by omega), pk_un (by omega)]) ?_
                refine lv_aload_n hx hb dX4_picksUp_314 rfl (lv_at hl 4 rfl) ?_
                refine b_get (C := RX4) (T := TX4) (N := 16) (v := .ref (r 0)) hx hb hts in_X4 hown hK (b_at (k := 0) hP rfl) rfl 0 (by decide) q1807 (fun _ h9 => h9) rfl dX4_picksUp_315 ?_
                refine lv_iload_n hx hb dX4_picksUp_318 rfl (lv_at hl 3 rfl) ?_
                refine lv_bipush (v := 6) hx hb dX4_picksUp_319 (by decide) ?_
                refine lv_iadd hx hb dX4_picksUp_321 ?_
                refine b_top (nI_addE (a := 516) (b := 6) (c := 522) rfl rfl (by first | omega | rfl)) ?_
                refine b_iald hx hb hK (b_at (k := 1) hP rfl) 522 rfl (by omega) (by omega) dX4_picksUp_322 ?_
                refine b_top (show (upd (upd (upd (upd (moPk2 (moPk1 g 60) 59) 520 (moMean g 60 wd)) 521 (moBon (upd (moPk2 (moPk1 g 60) 59) 520 (moMean g 60 wd)) (moMean g 60 wd) nr)) 522 (((upd (moPk2 (moPk1 g 60) 59) 520 (moMean g 60 wd) 6) + (moBon (upd (moPk2 (moPk1 g 60) 59) 520 (moMean g 60 wd)) (moMean g 60 wd) nr)) * (upd (moPk2 (moPk1 g 60) 59) 520 (moMean g 60 wd) 8))) 12 ((upd (moPk2 (moPk1 g 60) 59) 520 (moMean g 60 wd) 12) + (upd (moPk2 (moPk1 g 60) 59) 520 (moMean g 60 wd) 8)) 522) = (((upd (moPk2 (moPk1 g 60) 59) 520 (moMean g 60 wd) 6) + (moBon (upd (moPk2 (moPk1 g 60) 59) 520 (moMean g 60 wd)) (moMean g 60 wd) nr)) * (upd (moPk2 (moPk1 g 60) 59) 520 (moMean g 60 wd) 8)) from by rw [pk_un (by omega), pk_us]) ?_
                refine lv_iadd hx hb dX4_picksUp_323 ?_
                refine b_iast hx hb hK hP hD hS 1 rfl 13 rfl (by omega) (by omega) dX4_picksUp_324 (fun H locs hP hD hS => ?_)
                have hP : WP Γ [[(a, moE r i)], [((r 0), .inl (Γ.2.1 0, 523, .inl (upd (upd (upd (upd (upd (moPk2 (moPk1 g 60) 59) 520 (moMean g 60 wd)) 521 (moBon (upd (moPk2 (moPk1 g 60) 59) 520 (moMean g 60 wd)) (moMean g 60 wd) nr)) 522 (((upd (moPk2 (moPk1 g 60) 59) 520 (moMean g 60 wd) 6) + (moBon (upd (moPk2 (moPk1 g 60) 59) 520 (moMean g 60 wd)) (moMean g 60 wd) nr)) * (upd (moPk2 (moPk1 g 60) 59) 520 (moMean g 60 wd) 8))) 12 ((upd (moPk2 (moPk1 g 60) 59) 520 (moMean g 60 wd) 12) + (upd (moPk2 (moPk1 g 60) 59) 520 (moMean g 60 wd) 8))) 13 ((upd (moPk2 (moPk1 g 60) 59) 520 (moMean g 60 wd) 13) + (((upd (moPk2 (moPk1 g 60) 59) 520 (moMean g 60 wd) 6) + (moBon (upd (moPk2 (moPk1 g 60) 59) 520 (moMean g 60 wd)) (moMean g 60 wd) nr)) * (upd (moPk2 (moPk1 g 60) 59) 520 (moMean g 60 wd) 8))))))]] H := hP
                have hD : WD A [[(a, moE r i)], [((r 0), .inl (Γ.2.1 0, 523, .inl (upd (upd (upd (upd (upd (moPk2 (moPk1 g 60) 59) 520 (moMean g 60 wd)) 521 (moBon (upd (moPk2 (moPk1 g 60) 59) 520 (moMean g 60 wd)) (moMean g 60 wd) nr)) 522 (((upd (moPk2 (moPk1 g 60) 59) 520 (moMean g 60 wd) 6) + (moBon (upd (moPk2 (moPk1 g 60) 59) 520 (moMean g 60 wd)) (moMean g 60 wd) nr)) * (upd (moPk2 (moPk1 g 60) 59) 520 (moMean g 60 wd) 8))) 12 ((upd (moPk2 (moPk1 g 60) 59) 520 (moMean g 60 wd) 12) + (upd (moPk2 (moPk1 g 60) 59) 520 (moMean g 60 wd) 8))) 13 ((upd (moPk2 (moPk1 g 60) 59) 520 (moMean g 60 wd) 13) + (((upd (moPk2 (moPk1 g 60) 59) 520 (moMean g 60 wd) 6) + (moBon (upd (moPk2 (moPk1 g 60) 59) 520 (moMean g 60 wd)) (moMean g 60 wd) nr)) * (upd (moPk2 (moPk1 g 60) 59) 520 (moMean g 60 wd) 8))))))]] := hD
                refine lv_aload_n hx hb dX4_picksUp_325 rfl (lv_at hl 4 rfl) ?_
                refine b_get (C := RX4) (T := TX4) (N := 16) (v := .ref (r 0)) hx hb hts in_X4 hown hK (b_at (k := 0) hP rfl) rfl 0 (by decide) q1807 (fun _ h9 => h9) rfl dX4_picksUp_326 ?_
                refine lv_bipush (v := 8) hx hb dX4_picksUp_329 (by decide) ?_
                refine lv_iconst (v := 0) hx hb dX4_picksUp_331 (by decide) ?_
                refine b_iast hx hb hK hP hD hS 1 rfl 8 rfl (by omega) (by omega) dX4_picksUp_332 (fun H locs hP hD hS => ?_)
                have hP : WP Γ [[(a, moE r i)], [((r 0), .inl (Γ.2.1 0, 523, .inl (upd (upd (upd (upd (upd (upd (moPk2 (moPk1 g 60) 59) 520 (moMean g 60 wd)) 521 (moBon (upd (moPk2 (moPk1 g 60) 59) 520 (moMean g 60 wd)) (moMean g 60 wd) nr)) 522 (((upd (moPk2 (moPk1 g 60) 59) 520 (moMean g 60 wd) 6) + (moBon (upd (moPk2 (moPk1 g 60) 59) 520 (moMean g 60 wd)) (moMean g 60 wd) nr)) * (upd (moPk2 (moPk1 g 60) 59) 520 (moMean g 60 wd) 8))) 12 ((upd (moPk2 (moPk1 g 60) 59) 520 (moMean g 60 wd) 12) + (upd (moPk2 (moPk1 g 60) 59) 520 (moMean g 60 wd) 8))) 13 ((upd (moPk2 (moPk1 g 60) 59) 520 (moMean g 60 wd) 13) + (((upd (moPk2 (moPk1 g 60) 59) 520 (moMean g 60 wd) 6) + (moBon (upd (moPk2 (moPk1 g 60) 59) 520 (moMean g 60 wd)) (moMean g 60 wd) nr)) * (upd (moPk2 (moPk1 g 60) 59) 520 (moMean g 60 wd) 8)))) 8 0)))]] H := hP
                have hD : WD A [[(a, moE r i)], [((r 0), .inl (Γ.2.1 0, 523, .inl (upd (upd (upd (upd (upd (upd (moPk2 (moPk1 g 60) 59) 520 (moMean g 60 wd)) 521 (moBon (upd (moPk2 (moPk1 g 60) 59) 520 (moMean g 60 wd)) (moMean g 60 wd) nr)) 522 (((upd (moPk2 (moPk1 g 60) 59) 520 (moMean g 60 wd) 6) + (moBon (upd (moPk2 (moPk1 g 60) 59) 520 (moMean g 60 wd)) (moMean g 60 wd) nr)) * (upd (moPk2 (moPk1 g 60) 59) 520 (moMean g 60 wd) 8))) 12 ((upd (moPk2 (moPk1 g 60) 59) 520 (moMean g 60 wd) 12) + (upd (moPk2 (moPk1 g 60) 59) 520 (moMean g 60 wd) 8))) 13 ((upd (moPk2 (moPk1 g 60) 59) 520 (moMean g 60 wd) 13) + (((upd (moPk2 (moPk1 g 60) 59) 520 (moMean g 60 wd) 6) + (moBon (upd (moPk2 (moPk1 g 60) 59) 520 (moMean g 60 wd)) (moMean g 60 wd) nr)) * (upd (moPk2 (moPk1 g 60) 59) 520 (moMean g 60 wd) 8)))) 8 0)))]] := hD
                refine lv_aload_n hx hb dX4_picksUp_333 rfl (lv_at hl 4 rfl) ?_
                refine b_get (C := RX4) (T := TX4) (N := 16) (v := .ref (r 0)) hx hb hts in_X4 hown hK (b_at (k := 0) hP rfl) rfl 0 (by decide) q1807 (fun _ h9 => h9) rfl dX4_picksUp_334 ?_
                refine lv_bipush (v := 9) hx hb dX4_picksUp_337 (by decide) ?_
                refine lv_iconst (v := 0) hx hb dX4_picksUp_339 (by decide) ?_
                refine b_iast hx hb hK hP hD hS 1 rfl 9 rfl (by omega) (by omega) dX4_picksUp_340 (fun H locs hP hD hS => ?_)
                have hP : WP Γ [[(a, moE r i)], [((r 0), .inl (Γ.2.1 0, 523, .inl (upd (upd (upd (upd (upd (upd (upd (moPk2 (moPk1 g 60) 59) 520 (moMean g 60 wd)) 521 (moBon (upd (moPk2 (moPk1 g 60) 59) 520 (moMean g 60 wd)) (moMean g 60 wd) nr)) 522 (((upd (moPk2 (moPk1 g 60) 59) 520 (moMean g 60 wd) 6) + (moBon (upd (moPk2 (moPk1 g 60) 59) 520 (moMean g 60 wd)) (moMean g 60 wd) nr)) * (upd (moPk2 (moPk1 g 60) 59) 520 (moMean g 60 wd) 8))) 12 ((upd (moPk2 (moPk1 g 60) 59) 520 (moMean g 60 wd) 12) + (upd (moPk2 (moPk1 g 60) 59) 520 (moMean g 60 wd) 8))) 13 ((upd (moPk2 (moPk1 g 60) 59) 520 (moMean g 60 wd) 13) + (((upd (moPk2 (moPk1 g 60) 59) 520 (moMean g 60 wd) 6) + (moBon (upd (moPk2 (moPk1 g 60) 59) 520 (moMean g 60 wd)) (moMean g 60 wd) nr)) * (upd (moPk2 (moPk1 g 60) 59) 520 (moMean g 60 wd) 8)))) 8 0) 9 0)))]] H := hP
                have hD : WD A [[(a, moE r i)], [((r 0), .inl (Γ.2.1 0, 523, .inl (upd (upd (upd (upd (upd (upd (upd (moPk2 (moPk1 g 60) 59) 520 (moMean g 60 wd)) 521 (moBon (upd (moPk2 (moPk1 g 60) 59) 520 (moMean g 60 wd)) (moMean g 60 wd) nr)) 522 (((upd (moPk2 (moPk1 g 60) 59) 520 (moMean g 60 wd) 6) + (moBon (upd (moPk2 (moPk1 g 60) 59) 520 (moMean g 60 wd)) (moMean g 60 wd) nr)) * (upd (moPk2 (moPk1 g 60) 59) 520 (moMean g 60 wd) 8))) 12 ((upd (moPk2 (moPk1 g 60) 59) 520 (moMean g 60 wd) 12) + (upd (moPk2 (moPk1 g 60) 59) 520 (moMean g 60 wd) 8))) 13 ((upd (moPk2 (moPk1 g 60) 59) 520 (moMean g 60 wd) 13) + (((upd (moPk2 (moPk1 g 60) 59) 520 (moMean g 60 wd) 6) + (moBon (upd (moPk2 (moPk1 g 60) 59) 520 (moMean g 60 wd)) (moMean g 60 wd) nr)) * (upd (moPk2 (moPk1 g 60) 59) 520 (moMean g 60 wd) 8)))) 8 0) 9 0)))]] := hD
                exact b_vret hx hb hr hlocks hP hD hS (Nat.le_of_ble_eq_true rfl) (Nat.le_of_ble_eq_true rfl) (by rw [moPick, show moM1 60 = 59 from rfl, moPk3, pk_un (f := moPk2 (moPk1 g 60) 59) (show (6 : Nat) ≠ 7 * 59 + 107 by omega), pk_un (f := moPk2 (moPk1 g 60) 59) (show (8 : Nat) ≠ 7 * 59 + 107 by omega), pk_un (f := moPk2 (moPk1 g 60) 59) (show (12 : Nat) ≠ 7 * 59 + 107 by omega), pk_un (f := moPk2 (moPk1 g 60) 59) (show (13 : Nat) ≠ 7 * 59 + 107 by omega), h2k 6 (by omega) (by omega), h2k 8 (by omega) (by omega), h2k 12 (by omega) (by omega), h2k 13 (by omega) (by omega)]) dX4_picksUp_341
              · -- 161 not taken
                have hq0 : ¬ (59 + 1 - t) = 0 := fun h => c_10 ((dn_neg (by omega)).mpr h)
                refine lv_iload hx hb dX4_picksUp_164 (lv_at hl 0 rfl) ?_
                refine lv_aload_n hx hb dX4_picksUp_166 rfl (lv_at hl 4 rfl) ?_
                refine b_get (C := RX4) (T := TX4) (N := 16) (v := .ref (r 0)) hx hb hts in_X4 hown hK (b_at (k := 0) hP rfl) rfl 0 (by decide) q1807 (fun _ h9 => h9) rfl dX4_picksUp_167 ?_
                refine lv_bipush (v := 11) hx hb dX4_picksUp_170 (by decide) ?_
                refine b_iald hx hb hK (b_at (k := 1) hP rfl) 11 rfl (by omega) (by omega) dX4_picksUp_172 ?_
                refine b_top (h2_11) ?_
                refine lv_aload_n hx hb dX4_picksUp_173 rfl (lv_at hl 4 rfl) ?_
                refine b_get (C := RX4) (T := TX4) (N := 16) (v := .ref (r 0)) hx hb hts in_X4 hown hK (b_at (k := 0) hP rfl) rfl 0 (by decide) q1807 (fun _ h9 => h9) rfl dX4_picksUp_174 ?_
                refine lv_iconst (v := 5) hx hb dX4_picksUp_177 (by decide) ?_
                refine b_iald hx hb hK (b_at (k := 1) hP rfl) 5 rfl (by omega) (by omega) dX4_picksUp_178 ?_
                refine b_top (((h2k 5 (by omega) (by omega)).trans hg5)) ?_
                refine lv_isub hx hb dX4_picksUp_179 ?_
                refine lv_icmp_lt (tgt := 225) hx hb dX4_picksUp_180 (by decide) (fun c_12 => ?_) (fun c_12 => ?_)
                · -- 180 taken
                  have hq1 : (59 + 1 - t) + wd ≤ 59 + 1 := (dn_lt (by omega) (by omega) (by omega) (by omega)).mp c_12
                  have et : min (59 + 1) wd = t := by omega
                  rw [show sumDown (fun q => (moPk2 (moPk1 g 60) 59) (7 * q + 104)) (59 + 1) t = moWinL (moPk2 (moPk1 g 60) 59) (59 + 1) wd from by rw [moWinL, et], show sumDown (fun q => (moPk2 (moPk1 g 60) 59) (7 * q + 105)) (59 + 1) t = moWinC (moPk2 (moPk1 g 60) 59) (59 + 1) wd from by rw [moWinC, et]] at hl
                  refine lv_aload_n hx hb dX4_picksUp_225 rfl (lv_at hl 4 rfl) ?_
                  refine b_get (C := RX4) (T := TX4) (N := 16) (v := .ref (r 0)) hx hb hts in_X4 hown hK (b_at (k := 0) hP rfl) rfl 0 (by decide) q1807 (fun _ h9 => h9) rfl dX4_picksUp_226 ?_
                  refine lv_iload_n hx hb dX4_picksUp_229 rfl (lv_at hl 3 rfl) ?_
                  refine lv_iconst (v := 4) hx hb dX4_picksUp_230 (by decide) ?_
                  refine lv_iadd hx hb dX4_picksUp_231 ?_
                  refine b_top (nI_addE (a := 516) (b := 4) (c := 520) rfl rfl (by first | omega | rfl)) ?_
                  refine lv_iload_n hx hb dX4_picksUp_232 rfl (lv_at hl 2 rfl) ?_
                  refine lv_iload_n hx hb dX4_picksUp_233 rfl (lv_at hl 1 rfl) ?_
                  refine lv_idiv hx hb dX4_picksUp_234 (hL) ?_
                  refine b_top (show ((moWinC (moPk2 (moPk1 g 60) 59) (59 + 1) wd) / (moWinL (moPk2 (moPk1 g 60) 59) (59 + 1) wd)) = moMean g 60 wd from rfl) ?_
                  refine b_iast hx hb hK hP hD hS 1 rfl 520 rfl (by omega) (by omega) dX4_picksUp_235 (fun H locs hP hD hS => ?_)
                  have hP : WP Γ [[(a, moE r i)], [((r 0), .inl (Γ.2.1 0, 523, .inl (upd (moPk2 (moPk1 g 60) 59) 520 (moMean g 60 wd))))]] H := hP
                  have hD : WD A [[(a, moE r i)], [((r 0), .inl (Γ.2.1 0, 523, .inl (upd (moPk2 (moPk1 g 60) 59) 520 (moMean g 60 wd))))]] := hD
                  refine lv_aload_n hx hb dX4_picksUp_236 rfl (lv_at hl 4 rfl) ?_
                  refine b_get (C := RX4) (T := TX4) (N := 16) (v := .ref (r 0)) hx hb hts in_X4 hown hK (b_at (k := 0) hP rfl) rfl 0 (by decide) q1807 (fun _ h9 => h9) rfl dX4_picksUp_237 ?_
                  refine lv_iload_n hx hb dX4_picksUp_240 rfl (lv_at hl 3 rfl) ?_
                  refine lv_iconst (v := 5) hx hb dX4_picksUp_241 (by decide) ?_
                  refine lv_iadd hx hb dX4_picksUp_242 ?_
                  refine b_top (nI_addE (a := 516) (b := 5) (c := 521) rfl rfl (by first | omega | rfl)) ?_
                  refine lv_aload_n hx hb dX4_picksUp_243 rfl (lv_at hl 4 rfl) ?_
                  refine lv_aload_n hx hb dX4_picksUp_244 rfl (lv_at hl 4 rfl) ?_
                  refine b_get (C := RX4) (T := TX4) (N := 16) (v := .ref (r 0)) hx hb hts in_X4 hown hK (b_at (k := 0) hP rfl) rfl 0 (by decide) q1807 (fun _ h9 => h9) rfl dX4_picksUp_245 ?_
                  refine lv_iload_n hx hb dX4_picksUp_248 rfl (lv_at hl 3 rfl) ?_
                  refine lv_iconst (v := 4) hx hb dX4_picksUp_249 (by decide) ?_
                  refine lv_iadd hx hb dX4_picksUp_250 ?_
                  refine b_top (nI_addE (a := 516) (b := 4) (c := 520) rfl rfl (by first | omega | rfl)) ?_
                  refine b_iald hx hb hK (b_at (k := 1) hP rfl) 520 rfl (by omega) (by omega) dX4_picksUp_251 ?_
                  refine b_top (show (upd (moPk2 (moPk1 g 60) 59) 520 (moMean g 60 wd) 520) = (moMean g 60 wd) from by rw [pk_us]) ?_
                  refine b_calli (br := []) (b_runV ⟨hx, hb, hml, hown, hts⟩ (mt_Mo_bonusFor l Γ _ a r i (upd (moPk2 (moPk1 g 60) 59) 520 (moMean g 60 wd)) (moMean g 60 wd) nr (by rw [pk_un (by omega)]; exact (h2k 10 (by omega) (by omega)).trans hg10) (by omega)) (lw_V q2008 q2010 qs50 q73 q2011) rfl rfl 1 (by decide +kernel) ⟨(Nat.le_of_ble_eq_true rfl), (Nat.le_of_ble_eq_true rfl)⟩ (c_pre hP hD hS hA hK hE [0, 1] rfl rfl ro_nil) (recv_at (q := (RX4, TX4, 16)) hK (b_at (k := 0) hP rfl) rfl) rfl hl.1 rfl (Nat.le_of_ble_eq_true rfl) dX4_picksUp_252 ⟨(Nat.le_of_ble_eq_true rfl), (Nat.le_of_ble_eq_true rfl)⟩) hP hD hS hA [0, 1] [] rfl rfl rfl (fun r_13 u_13 H locs hw_13 hP hD hS _ => ?_)
                  obtain ⟨rfl, rfl⟩ := hw_13
                  have hP : WP Γ [[(a, moE r i)], [((r 0), .inl (Γ.2.1 0, 523, .inl (upd (moPk2 (moPk1 g 60) 59) 520 (moMean g 60 wd))))]] H := hP
                  have hD : WD A [[(a, moE r i)], [((r 0), .inl (Γ.2.1 0, 523, .inl (upd (moPk2 (moPk1 g 60) 59) 520 (moMean g 60 wd))))]] := hD
                  refine b_iast hx hb hK hP hD hS 1 rfl 521 rfl (by omega) (by omega) dX4_picksUp_255 (fun H locs hP hD hS => ?_)
                  have hP : WP Γ [[(a, moE r i)], [((r 0), .inl (Γ.2.1 0, 523, .inl (upd (upd (moPk2 (moPk1 g 60) 59) 520 (moMean g 60 wd)) 521 (moBon (upd (moPk2 (moPk1 g 60) 59) 520 (moMean g 60 wd)) (moMean g 60 wd) nr))))]] H := hP
                  have hD : WD A [[(a, moE r i)], [((r 0), .inl (Γ.2.1 0, 523, .inl (upd (upd (moPk2 (moPk1 g 60) 59) 520 (moMean g 60 wd)) 521 (moBon (upd (moPk2 (moPk1 g 60) 59) 520 (moMean g 60 wd)) (moMean g 60 wd) nr))))]] := hD
                  refine lv_aload_n hx hb dX4_picksUp_256 rfl (lv_at hl 4 rfl) ?_
                  refine b_get (C := RX4) (T := TX4) (N := 16) (v := .ref (r 0)) hx hb hts in_X4 hown hK (b_at (k := 0) hP rfl) rfl 0 (by decide) q1807 (fun _ h9 => h9) rfl dX4_picksUp_257 ?_
                  refine lv_iload_n hx hb dX4_picksUp_260 rfl (lv_at hl 3 rfl) ?_
                  refine lv_bipush (v := 6) hx hb dX4_picksUp_261 (by decide) ?_
                  refine lv_iadd hx hb dX4_picksUp_263 ?_
                  refine b_top (nI_addE (a := 516) (b := 6) (c := 522) rfl rfl (by first | omega | rfl)) ?_
                  refine lv_aload_n hx hb dX4_picksUp_264 rfl (lv_at hl 4 rfl) ?_
                  refine b_get (C := RX4) (T := TX4) (N := 16) (v := .ref (r 0)) hx hb hts in_X4 hown hK (b_at (k := 0) hP rfl) rfl 0 (by decide) q1807 (fun _ h9 => h9) rfl dX4_picksUp_265 ?_
                  refine lv_bipush (v := 6) hx hb dX4_picksUp_268 (by decide) ?_
                  refine b_iald hx hb hK (b_at (k := 1) hP rfl) 6 rfl (by omega) (by omega) dX4_picksUp_270 ?_
                  refine b_top (show (upd (upd (moPk2 (moPk1 g 60) 59) 520 (moMean g 60 wd)) 521 (moBon (upd (moPk2 (moPk1 g 60) 59) 520 (moMean g 60 wd)) (moMean g 60 wd) nr) 6) = (upd (moPk2 (moPk1 g 60) 59) 520 (moMean g 60 wd) 6) from by rw [pk_un (by omega)]) ?_
                  refine lv_aload_n hx hb dX4_picksUp_271 rfl (lv_at hl 4 rfl) ?_
                  refine b_get (C := RX4) (T := TX4) (N := 16) (v := .ref (r 0)) hx hb hts in_X4 hown hK (b_at (k := 0) hP rfl) rfl 0 (by decide) q1807 (fun _ h9 => h9) rfl dX4_picksUp_272 ?_
                  refine lv_iload_n hx hb dX4_picksUp_275 rfl (lv_at hl 3 rfl) ?_
                  refine lv_iconst (v := 5) hx hb dX4_picksUp_276 (by decide) ?_
                  refine lv_iadd hx hb dX4_picksUp_277 ?_
                  refine b_top (nI_addE (a := 516) (b := 5) (c := 521) rfl rfl (by first | omega | rfl)) ?_
                  refine b_iald hx hb hK (b_at (k := 1) hP rfl) 521 rfl (by omega) (by omega) dX4_picksUp_278 ?_
                  refine b_top (show (upd (upd (moPk2 (moPk1 g 60) 59) 520 (moMean g 60 wd)) 521 (moBon (upd (moPk2 (moPk1 g 60) 59) 520 (moMean g 60 wd)) (moMean g 60 wd) nr) 521) = (moBon (upd (moPk2 (moPk1 g 60) 59) 520 (moMean g 60 wd)) (moMean g 60 wd) nr) from by rw [pk_us]) ?_
                  refine lv_iadd hx hb dX4_picksUp_279 ?_
                  refine lv_aload_n hx hb dX4_picksUp_280 rfl (lv_at hl 4 rfl) ?_
                  refine b_get (C := RX4) (T := TX4) (N := 16) (v := .ref (r 0)) hx hb hts in_X4 hown hK (b_at (k := 0) hP rfl) rfl 0 (by decide) q1807 (fun _ h9 => h9) rfl dX4_picksUp_281 ?_
                  refine lv_bipush (v := 8) hx hb dX4_picksUp_284 (by decide) ?_
                  refine b_iald hx hb hK (b_at (k := 1) hP rfl) 8 rfl (by omega) (by omega) dX4_picksUp_286 ?_
                  refine b_top (show (upd (upd (moPk2 (moPk1 g 60) 59) 520 (moMean g 60 wd)) 521 (moBon (upd (moPk2 (moPk1 g 60) 59) 520 (moMean g 60 wd)) (moMean g 60 wd) nr) 8) = (upd (moPk2 (moPk1 g 60) 59) 520 (moMean g 60 wd) 8) from by rw [pk_un (by omega)]) ?_
                  refine lv_imul hx hb dX4_picksUp_287 ?_
                  refine b_iast hx hb hK hP hD hS 1 rfl 522 rfl (by omega) (by omega) dX4_picksUp_288 (fun H locs hP hD hS => ?_)
                  have hP : WP Γ [[(a, moE r i)], [((r 0), .inl (Γ.2.1 0, 523, .inl (upd (upd (upd (moPk2 (moPk1 g 60) 59) 520 (moMean g 60 wd)) 521 (moBon (upd (moPk2 (moPk1 g 60) 59) 520 (moMean g 60 wd)) (moMean g 60 wd) nr)) 522 (((upd (moPk2 (moPk1 g 60) 59) 520 (moMean g 60 wd) 6) + (moBon (upd (moPk2 (moPk1 g 60) 59) 520 (moMean g 60 wd)) (moMean g 60 wd) nr)) * (upd (moPk2 (moPk1 g 60) 59) 520 (moMean g 60 wd) 8)))))]] H := hP
                  have hD : WD A [[(a, moE r i)], [((r 0), .inl (Γ.2.1 0, 523, .inl (upd (upd (upd (moPk2 (moPk1 g 60) 59) 520 (moMean g 60 wd)) 521 (moBon (upd (moPk2 (moPk1 g 60) 59) 520 (moMean g 60 wd)) (moMean g 60 wd) nr)) 522 (((upd (moPk2 (moPk1 g 60) 59) 520 (moMean g 60 wd) 6) + (moBon (upd (moPk2 (moPk1 g 60) 59) 520 (moMean g 60 wd)) (moMean g 60 wd) nr)) * (upd (moPk2 (moPk1 g 60) 59) 520 (moMean g 60 wd) 8)))))]] := hD
                  refine lv_aload_n hx hb dX4_picksUp_289 rfl (lv_at hl 4 rfl) ?_
                  refine b_get (C := RX4) (T := TX4) (N := 16) (v := .ref (r 0)) hx hb hts in_X4 hown hK (b_at (k := 0) hP rfl) rfl 0 (by decide) q1807 (fun _ h9 => h9) rfl dX4_picksUp_290 ?_
                  refine lv_bipush (v := 12) hx hb dX4_picksUp_293 (by decide) ?_
                  refine lv_dup2_11 hx hb dX4_picksUp_295 rfl rfl ?_
                  refine b_iald hx hb hK (b_at (k := 1) hP rfl) 12 rfl (by omega) (by omega) dX4_picksUp_296 ?_
                  refine b_top (show (upd (upd (upd (moPk2 (moPk1 g 60) 59) 520 (moMean g 60 wd)) 521 (moBon (upd (moPk2 (moPk1 g 60) 59) 520 (moMean g 60 wd)) (moMean g 60 wd) nr)) 522 (((upd (moPk2 (moPk1 g 60) 59) 520 (moMean g 60 wd) 6) + (moBon (upd (moPk2 (moPk1 g 60) 59) 520 (moMean g 60 wd)) (moMean g 60 wd) nr)) * (upd (moPk2 (moPk1 g 60) 59) 520 (moMean g 60 wd) 8)) 12) = (upd (moPk2 (moPk1 g 60) 59) 520 (moMean g 60 wd) 12) from by rw [pk_un (by omega), pk_un (by omega)]) ?_
                  refine lv_aload_n hx hb dX4_picksUp_297 rfl (lv_at hl 4 rfl) ?_
                  refine b_get (C := RX4) (T := TX4) (N := 16) (v := .ref (r 0)) hx hb hts in_X4 hown hK (b_at (k := 0) hP rfl) rfl 0 (by decide) q1807 (fun _ h9 => h9) rfl dX4_picksUp_298 ?_
                  refine lv_bipush (v := 8) hx hb dX4_picksUp_301 (by decide) ?_
                  refine b_iald hx hb hK (b_at (k := 1) hP rfl) 8 rfl (by omega) (by omega) dX4_picksUp_303 ?_
                  refine b_top (show (upd (upd (upd (moPk2 (moPk1 g 60) 59) 520 (moMean g 60 wd)) 521 (moBon (upd (moPk2 (moPk1 g 60) 59) 520 (moMean g 60 wd)) (moMean g 60 wd) nr)) 522 (((upd (moPk2 (moPk1 g 60) 59) 520 (moMean g 60 wd) 6) + (moBon (upd (moPk2 (moPk1 g 60) 59) 520 (moMean g 60 wd)) (moMean g 60 wd) nr)) * (upd (moPk2 (moPk1 g 60) 59) 520 (moMean g 60 wd) 8)) 8) = (upd (moPk2 (moPk1 g 60) 59) 520 (moMean g 60 wd) 8) from by rw [pk_un (by omega), pk_un (by omega)]) ?_
                  refine lv_iadd hx hb dX4_picksUp_304 ?_
                  refine b_iast hx hb hK hP hD hS 1 rfl 12 rfl (by omega) (by omega) dX4_picksUp_305 (fun H locs hP hD hS => ?_)
                  have hP : WP Γ [[(a, moE r i)], [((r 0), .inl (Γ.2.1 0, 523, .inl (upd (upd (upd (upd (moPk2 (moPk1 g 60) 59) 520 (moMean g 60 wd)) 521 (moBon (upd (moPk2 (moPk1 g 60) 59) 520 (moMean g 60 wd)) (moMean g 60 wd) nr)) 522 (((upd (moPk2 (moPk1 g 60) 59) 520 (moMean g 60 wd) 6) + (moBon (upd (moPk2 (moPk1 g 60) 59) 520 (moMean g 60 wd)) (moMean g 60 wd) nr)) * (upd (moPk2 (moPk1 g 60) 59) 520 (moMean g 60 wd) 8))) 12 ((upd (moPk2 (moPk1 g 60) 59) 520 (moMean g 60 wd) 12) + (upd (moPk2 (moPk1 g 60) 59) 520 (moMean g 60 wd) 8)))))]] H := hP
                  have hD : WD A [[(a, moE r i)], [((r 0), .inl (Γ.2.1 0, 523, .inl (upd (upd (upd (upd (moPk2 (moPk1 g 60) 59) 520 (moMean g 60 wd)) 521 (moBon (upd (moPk2 (moPk1 g 60) 59) 520 (moMean g 60 wd)) (moMean g 60 wd) nr)) 522 (((upd (moPk2 (moPk1 g 60) 59) 520 (moMean g 60 wd) 6) + (moBon (upd (moPk2 (moPk1 g 60) 59) 520 (moMean g 60 wd)) (moMean g 60 wd) nr)) * (upd (moPk2 (moPk1 g 60) 59) 520 (moMean g 60 wd) 8))) 12 ((upd (moPk2 (moPk1 g 60) 59) 520 (moMean g 60 wd) 12) + (upd (moPk2 (moPk1 g 60) 59) 520 (moMean g 60 wd) 8)))))]] := hD
                  refine lv_aload_n hx hb dX4_picksUp_306 rfl (lv_at hl 4 rfl) ?_
                  refine b_get (C := RX4) (T := TX4) (N := 16) (v := .ref (r 0)) hx hb hts in_X4 hown hK (b_at (k := 0) hP rfl) rfl 0 (by decide) q1807 (fun _ h9 => h9) rfl dX4_picksUp_307 ?_
                  refine lv_bipush (v := 13) hx hb dX4_picksUp_310 (by decide) ?_
                  refine lv_dup2_11 hx hb dX4_picksUp_312 rfl rfl ?_
                  refine b_iald hx hb hK (b_at (k := 1) hP rfl) 13 rfl (by omega) (by omega) dX4_picksUp_313 ?_
                  refine b_top (show (upd (upd (upd (upd (moPk2 (moPk1 g 60) 59) 520 (moMean g 60 wd)) 521 (moBon (upd (moPk2 (moPk1 g 60) 59) 520 (moMean g 60 wd)) (moMean g 60 wd) nr)) 522 (((upd (moPk2 (moPk1 g 60) 59) 520 (moMean g 60 wd) 6) + (moBon (upd (moPk2 (moPk1 g 60) 59) 520 (moMean g 60 wd)) (moMean g 60 wd) nr)) * (upd (moPk2 (moPk1 g 60) 59) 520 (moMean g 60 wd) 8))) 12 ((upd (moPk2 (moPk1 g 60) 59) 520 (moMean g 60 wd) 12) + (upd (moPk2 (moPk1 g 60) 59) 520 (moMean g 60 wd) 8)) 13) = (upd (moPk2 (moPk1 g 60) 59) 520 (moMean g 60 wd) 13) from by rw [pk_un (by omega), pk_un (by omega), pk_un (by omega)]) ?_
                  refine lv_aload_n hx hb dX4_picksUp_314 rfl (lv_at hl 4 rfl) ?_
                  refine b_get (C := RX4) (T := TX4) (N := 16) (v := .ref (r 0)) hx hb hts in_X4 hown hK (b_at (k := 0) hP rfl) rfl 0 (by decide) q1807 (fun _ h9 => h9) rfl dX4_picksUp_315 ?_
                  refine lv_iload_n hx hb dX4_picksUp_318 rfl (lv_at hl 3 rfl) ?_
                  refine lv_bipush (v := 6) hx hb dX4_picksUp_319 (by decide) ?_
                  refine lv_iadd hx hb dX4_picksUp_321 ?_
                  refine b_top (nI_addE (a := 516) (b := 6) (c := 522) rfl rfl (by first | omega | rfl)) ?_
                  refine b_iald hx hb hK (b_at (k := 1) hP rfl) 522 rfl (by omega) (by omega) dX4_picksUp_322 ?_
                  refine b_top (show (upd (upd (upd (upd (moPk2 (moPk1 g 60) 59) 520 (moMean g 60 wd)) 521 (moBon (upd (moPk2 (moPk1 g 60) 59) 520 (moMean g 60 wd)) (moMean g 60 wd) nr)) 522 (((upd (moPk2 (moPk1 g 60) 59) 520 (moMean g 60 wd) 6) + (moBon (upd (moPk2 (moPk1 g 60) 59) 520 (moMean g 60 wd)) (moMean g 60 wd) nr)) * (upd (moPk2 (moPk1 g 60) 59) 520 (moMean g 60 wd) 8))) 12 ((upd (moPk2 (moPk1 g 60) 59) 520 (moMean g 60 wd) 12) + (upd (moPk2 (moPk1 g 60) 59) 520 (moMean g 60 wd) 8)) 522) = (((upd (moPk2 (moPk1 g 60) 59) 520 (moMean g 60 wd) 6) + (moBon (upd (moPk2 (moPk1 g 60) 59) 520 (moMean g 60 wd)) (moMean g 60 wd) nr)) * (upd (moPk2 (moPk1 g 60) 59) 520 (moMean g 60 wd) 8)) from by rw [pk_un (by omega), pk_us]) ?_
                  refine lv_iadd hx hb dX4_picksUp_323 ?_
                  refine b_iast hx hb hK hP hD hS 1 rfl 13 rfl (by omega) (by omega) dX4_picksUp_324 (fun H locs hP hD hS => ?_)
                  have hP : WP Γ [[(a, moE r i)], [((r 0), .inl (Γ.2.1 0, 523, .inl (upd (upd (upd (upd (upd (moPk2 (moPk1 g 60) 59) 520 (moMean g 60 wd)) 521 (moBon (upd (moPk2 (moPk1 g 60) 59) 520 (moMean g 60 wd)) (moMean g 60 wd) nr)) 522 (((upd (moPk2 (moPk1 g 60) 59) 520 (moMean g 60 wd) 6) + (moBon (upd (moPk2 (moPk1 g 60) 59) 520 (moMean g 60 wd)) (moMean g 60 wd) nr)) * (upd (moPk2 (moPk1 g 60) 59) 520 (moMean g 60 wd) 8))) 12 ((upd (moPk2 (moPk1 g 60) 59) 520 (moMean g 60 wd) 12) + (upd (moPk2 (moPk1 g 60) 59) 520 (moMean g 60 wd) 8))) 13 ((upd (moPk2 (moPk1 g 60) 59) 520 (moMean g 60 wd) 13) + (((upd (moPk2 (moPk1 g 60) 59) 520 (moMean g 60 wd) 6) + (moBon (upd (moPk2 (moPk1 g 60) 59) 520 (moMean g 60 wd)) (moMean g 60 wd) nr)) * (upd (moPk2 (moPk1 g 60) 59) 520 (moMean g 60 wd) 8))))))]] H := hP
                  have hD : WD A [[(a, moE r i)], [((r 0), .inl (Γ.2.1 0, 523, .inl (upd (upd (upd (upd (upd (moPk2 (moPk1 g 60) 59) 520 (moMean g 60 wd)) 521 (moBon (upd (moPk2 (moPk1 g 60) 59) 520 (moMean g 60 wd)) (moMean g 60 wd) nr)) 522 (((upd (moPk2 (moPk1 g 60) 59) 520 (moMean g 60 wd) 6) + (moBon (upd (moPk2 (moPk1 g 60) 59) 520 (moMean g 60 wd)) (moMean g 60 wd) nr)) * (upd (moPk2 (moPk1 g 60) 59) 520 (moMean g 60 wd) 8))) 12 ((upd (moPk2 (moPk1 g 60) 59) 520 (moMean g 60 wd) 12) + (upd (moPk2 (moPk1 g 60) 59) 520 (moMean g 60 wd) 8))) 13 ((upd (moPk2 (moPk1 g 60) 59) 520 (moMean g 60 wd) 13) + (((upd (moPk2 (moPk1 g 60) 59) 520 (moMean g 60 wd) 6) + (moBon (upd (moPk2 (moPk1 g 60) 59) 520 (moMean g 60 wd)) (moMean g 60 wd) nr)) * (upd (moPk2 (moPk1 g 60) 59) 520 (moMean g 60 wd) 8))))))]] := hD
                  refine lv_aload_n hx hb dX4_picksUp_325 rfl (lv_at hl 4 rfl) ?_
                  refine b_get (C := RX4) (T := TX4) (N := 16) (v := .ref (r 0)) hx hb hts in_X4 hown hK (b_at (k := 0) hP rfl) rfl 0 (by decide) q1807 (fun _ h9 => h9) rfl dX4_picksUp_326 ?_
                  refine lv_bipush (v := 8) hx hb dX4_picksUp_329 (by decide) ?_
                  refine lv_iconst (v := 0) hx hb dX4_picksUp_331 (by decide) ?_
                  refine b_iast hx hb hK hP hD hS 1 rfl 8 rfl (by omega) (by omega) dX4_picksUp_332 (fun H locs hP hD hS => ?_)
                  have hP : WP Γ [[(a, moE r i)], [((r 0), .inl (Γ.2.1 0, 523, .inl (upd (upd (upd (upd (upd (upd (moPk2 (moPk1 g 60) 59) 520 (moMean g 60 wd)) 521 (moBon (upd (moPk2 (moPk1 g 60) 59) 520 (moMean g 60 wd)) (moMean g 60 wd) nr)) 522 (((upd (moPk2 (moPk1 g 60) 59) 520 (moMean g 60 wd) 6) + (moBon (upd (moPk2 (moPk1 g 60) 59) 520 (moMean g 60 wd)) (moMean g 60 wd) nr)) * (upd (moPk2 (moPk1 g 60) 59) 520 (moMean g 60 wd) 8))) 12 ((upd (moPk2 (moPk1 g 60) 59) 520 (moMean g 60 wd) 12) + (upd (moPk2 (moPk1 g 60) 59) 520 (moMean g 60 wd) 8))) 13 ((upd (moPk2 (moPk1 g 60) 59) 520 (moMean g 60 wd) 13) + (((upd (moPk2 (moPk1 g 60) 59) 520 (moMean g 60 wd) 6) + (moBon (upd (moPk2 (moPk1 g 60) 59) 520 (moMean g 60 wd)) (moMean g 60 wd) nr)) * (upd (moPk2 (moPk1 g 60) 59) 520 (moMean g 60 wd) 8)))) 8 0)))]] H := hP
                  have hD : WD A [[(a, moE r i)], [((r 0), .inl (Γ.2.1 0, 523, .inl (upd (upd (upd (upd (upd (upd (moPk2 (moPk1 g 60) 59) 520 (moMean g 60 wd)) 521 (moBon (upd (moPk2 (moPk1 g 60) 59) 520 (moMean g 60 wd)) (moMean g 60 wd) nr)) 522 (((upd (moPk2 (moPk1 g 60) 59) 520 (moMean g 60 wd) 6) + (moBon (upd (moPk2 (moPk1 g 60) 59) 520 (moMean g 60 wd)) (moMean g 60 wd) nr)) * (upd (moPk2 (moPk1 g 60) 59) 520 (moMean g 60 wd) 8))) 12 ((upd (moPk2 (moPk1 g 60) 59) 520 (moMean g 60 wd) 12) + (upd (moPk2 (moPk1 g 60) 59) 520 (moMean g 60 wd) 8))) 13 ((upd (moPk2 (moPk1 g 60) 59) 520 (moMean g 60 wd) 13) + (((upd (moPk2 (moPk1 g 60) 59) 520 (moMean g 60 wd) 6) + (moBon (upd (moPk2 (moPk1 g 60) 59) 520 (moMean g 60 wd)) (moMean g 60 wd) nr)) * (upd (moPk2 (moPk1 g 60) 59) 520 (moMean g 60 wd) 8)))) 8 0)))]] := hD
                  refine lv_aload_n hx hb dX4_picksUp_333 rfl (lv_at hl 4 rfl) ?_
                  refine b_get (C := RX4) (T := TX4) (N := 16) (v := .ref (r 0)) hx hb hts in_X4 hown hK (b_at (k := 0) hP rfl) rfl 0 (by decide) q1807 (fun _ h9 => h9) rfl dX4_picksUp_334 ?_
                  refine lv_bipush (v := 9) hx hb dX4_picksUp_337 (by decide) ?_
                  refine lv_iconst (v := 0) hx hb dX4_picksUp_339 (by decide) ?_
                  refine b_iast hx hb hK hP hD hS 1 rfl 9 rfl (by omega) (by omega) dX4_picksUp_340 (fun H locs hP hD hS => ?_)
                  have hP : WP Γ [[(a, moE r i)], [((r 0), .inl (Γ.2.1 0, 523, .inl (upd (upd (upd (upd (upd (upd (upd (moPk2 (moPk1 g 60) 59) 520 (moMean g 60 wd)) 521 (moBon (upd (moPk2 (moPk1 g 60) 59) 520 (moMean g 60 wd)) (moMean g 60 wd) nr)) 522 (((upd (moPk2 (moPk1 g 60) 59) 520 (moMean g 60 wd) 6) + (moBon (upd (moPk2 (moPk1 g 60) 59) 520 (moMean g 60 wd)) (moMean g 60 wd) nr)) * (upd (moPk2 (moPk1 g 60) 59) 520 (moMean g 60 wd) 8))) 12 ((upd (moPk2 (moPk1 g 60) 59) 520 (moMean g 60 wd) 12) + (upd (moPk2 (moPk1 g 60) 59) 520 (moMean g 60 wd) 8))) 13 ((upd (moPk2 (moPk1 g 60) 59) 520 (moMean g 60 wd) 13) + (((upd (moPk2 (moPk1 g 60) 59) 520 (moMean g 60 wd) 6) + (moBon (upd (moPk2 (moPk1 g 60) 59) 520 (moMean g 60 wd)) (moMean g 60 wd) nr)) * (upd (moPk2 (moPk1 g 60) 59) 520 (moMean g 60 wd) 8)))) 8 0) 9 0)))]] H := hP
                  have hD : WD A [[(a, moE r i)], [((r 0), .inl (Γ.2.1 0, 523, .inl (upd (upd (upd (upd (upd (upd (upd (moPk2 (moPk1 g 60) 59) 520 (moMean g 60 wd)) 521 (moBon (upd (moPk2 (moPk1 g 60) 59) 520 (moMean g 60 wd)) (moMean g 60 wd) nr)) 522 (((upd (moPk2 (moPk1 g 60) 59) 520 (moMean g 60 wd) 6) + (moBon (upd (moPk2 (moPk1 g 60) 59) 520 (moMean g 60 wd)) (moMean g 60 wd) nr)) * (upd (moPk2 (moPk1 g 60) 59) 520 (moMean g 60 wd) 8))) 12 ((upd (moPk2 (moPk1 g 60) 59) 520 (moMean g 60 wd) 12) + (upd (moPk2 (moPk1 g 60) 59) 520 (moMean g 60 wd) 8))) 13 ((upd (moPk2 (moPk1 g 60) 59) 520 (moMean g 60 wd) 13) + (((upd (moPk2 (moPk1 g 60) 59) 520 (moMean g 60 wd) 6) + (moBon (upd (moPk2 (moPk1 g 60) 59) 520 (moMean g 60 wd)) (moMean g 60 wd) nr)) * (upd (moPk2 (moPk1 g 60) 59) 520 (moMean g 60 wd) 8)))) 8 0) 9 0)))]] := hD
                  exact b_vret hx hb hr hlocks hP hD hS (Nat.le_of_ble_eq_true rfl) (Nat.le_of_ble_eq_true rfl) (by rw [moPick, show moM1 60 = 59 from rfl, moPk3, pk_un (f := moPk2 (moPk1 g 60) 59) (show (6 : Nat) ≠ 7 * 59 + 107 by omega), pk_un (f := moPk2 (moPk1 g 60) 59) (show (8 : Nat) ≠ 7 * 59 + 107 by omega), pk_un (f := moPk2 (moPk1 g 60) 59) (show (12 : Nat) ≠ 7 * 59 + 107 by omega), pk_un (f := moPk2 (moPk1 g 60) 59) (show (13 : Nat) ≠ 7 * 59 + 107 by omega), h2k 6 (by omega) (by omega), h2k 8 (by omega) (by omega), h2k 12 (by omega) (by omega), h2k 13 (by omega) (by omega)]) dX4_picksUp_341
                · -- 180 not taken
                  have hq1 : ¬ (59 + 1 - t) + wd ≤ 59 + 1 := fun h => c_12 ((dn_lt (by omega) (by omega) (by omega) (by omega)).mpr h)
                  have ej : nI (59 + 1 - t) - 1 = nI (59 + 1 - 1 - t) := by rw [show 59 + 1 - t = (59 + 1 - 1 - t) + 1 by omega]; exact nI_pred _
                  refine lv_iload_n hx hb dX4_picksUp_183 rfl (lv_at hl 1 rfl) ?_
                  refine lv_aload_n hx hb dX4_picksUp_184 rfl (lv_at hl 4 rfl) ?_
                  refine b_get (C := RX4) (T := TX4) (N := 16) (v := .ref (r 0)) hx hb hts in_X4 hown hK (b_at (k := 0) hP rfl) rfl 0 (by decide) q1807 (fun _ h9 => h9) rfl dX4_picksUp_185 ?_
                  refine lv_bipush (v := 103) hx hb dX4_picksUp_188 (by decide) ?_
                  refine lv_bipush (v := 7) hx hb dX4_picksUp_190 (by decide) ?_
                  refine lv_iload hx hb dX4_picksUp_192 (lv_at hl 0 rfl) ?_
                  refine b_top ej ?_
                  refine lv_imul hx hb dX4_picksUp_194 ?_
                  refine b_top (nI_mulE (a := 7) (b := (59 + 1 - 1 - t)) (c := 7 * (59 + 1 - 1 - t)) rfl rfl (by first | omega | rfl)) ?_
                  refine lv_iadd hx hb dX4_picksUp_195 ?_
                  refine b_top (nI_addE (a := 103) (b := 7 * (59 + 1 - 1 - t)) (c := 7 * (59 + 1 - 1 - t) + 103) rfl rfl (by first | omega | rfl)) ?_
                  refine lv_iconst (v := 1) hx hb dX4_picksUp_196 (by decide) ?_
                  refine lv_iadd hx hb dX4_picksUp_197 ?_
                  refine b_top (nI_addE (a := 7 * (59 + 1 - 1 - t) + 103) (b := 1) (c := 7 * (59 + 1 - 1 - t) + 104) rfl rfl (by first | omega | rfl)) ?_
                  refine b_iald hx hb hK (b_at (k := 1) hP rfl) (7 * (59 + 1 - 1 - t) + 104) rfl (by omega) (by omega) dX4_picksUp_198 ?_
                  refine lv_iadd hx hb dX4_picksUp_199 ?_
                  refine b_top (show ((sumDown (fun q => (moPk2 (moPk1 g 60) 59) (7 * q + 104)) (59 + 1) t) + (moPk2 (moPk1 g 60) 59 (7 * (59 + 1 - 1 - t) + 104))) = sumDown (fun q => (moPk2 (moPk1 g 60) 59) (7 * q + 104)) (59 + 1) (t + 1) from rfl) ?_
                  refine lv_istore_n (lv' := [(3, .int (sumDown (fun q => (moPk2 (moPk1 g 60) 59) (7 * q + 104)) (59 + 1) (t + 1))), (4, .int (nI (59 + 1 - t) - 1)), (2, .int (sumDown (fun q => (moPk2 (moPk1 g 60) 59) (7 * q + 105)) (59 + 1) t)), (1, .int (nI 516)), (0, .ref a)]) hx hb dX4_picksUp_200 rfl hl (by decide) rfl (fun ls hl => ?_)
                  refine lv_iload_n hx hb dX4_picksUp_201 rfl (lv_at hl 2 rfl) ?_
                  refine lv_aload_n hx hb dX4_picksUp_202 rfl (lv_at hl 4 rfl) ?_
                  refine b_get (C := RX4) (T := TX4) (N := 16) (v := .ref (r 0)) hx hb hts in_X4 hown hK (b_at (k := 0) hP rfl) rfl 0 (by decide) q1807 (fun _ h9 => h9) rfl dX4_picksUp_203 ?_
                  refine lv_bipush (v := 103) hx hb dX4_picksUp_206 (by decide) ?_
                  refine lv_bipush (v := 7) hx hb dX4_picksUp_208 (by decide) ?_
                  refine lv_iload hx hb dX4_picksUp_210 (lv_at hl 1 rfl) ?_
                  refine b_top ej ?_
                  refine lv_imul hx hb dX4_picksUp_212 ?_
                  refine b_top (nI_mulE (a := 7) (b := (59 + 1 - 1 - t)) (c := 7 * (59 + 1 - 1 - t)) rfl rfl (by first | omega | rfl)) ?_
                  refine lv_iadd hx hb dX4_picksUp_213 ?_
                  refine b_top (nI_addE (a := 103) (b := 7 * (59 + 1 - 1 - t)) (c := 7 * (59 + 1 - 1 - t) + 103) rfl rfl (by first | omega | rfl)) ?_
                  refine lv_iconst (v := 2) hx hb dX4_picksUp_214 (by decide) ?_
                  refine lv_iadd hx hb dX4_picksUp_215 ?_
                  refine b_top (nI_addE (a := 7 * (59 + 1 - 1 - t) + 103) (b := 2) (c := 7 * (59 + 1 - 1 - t) + 105) rfl rfl (by first | omega | rfl)) ?_
                  refine b_iald hx hb hK (b_at (k := 1) hP rfl) (7 * (59 + 1 - 1 - t) + 105) rfl (by omega) (by omega) dX4_picksUp_216 ?_
                  refine lv_iadd hx hb dX4_picksUp_217 ?_
                  refine b_top (show ((sumDown (fun q => (moPk2 (moPk1 g 60) 59) (7 * q + 105)) (59 + 1) t) + (moPk2 (moPk1 g 60) 59 (7 * (59 + 1 - 1 - t) + 105))) = sumDown (fun q => (moPk2 (moPk1 g 60) 59) (7 * q + 105)) (59 + 1) (t + 1) from rfl) ?_
                  refine lv_istore_n (lv' := [(2, .int (sumDown (fun q => (moPk2 (moPk1 g 60) 59) (7 * q + 105)) (59 + 1) (t + 1))), (3, .int (sumDown (fun q => (moPk2 (moPk1 g 60) 59) (7 * q + 104)) (59 + 1) (t + 1))), (4, .int (nI (59 + 1 - t) - 1)), (1, .int (nI 516)), (0, .ref a)]) hx hb dX4_picksUp_218 rfl hl (by decide) rfl (fun ls hl => ?_)
                  refine lv_iinc (v := ((nI (59 + 1 - t) - 1) + (-1))) (lv' := [(4, .int ((nI (59 + 1 - t) - 1) + (-1))), (2, .int (sumDown (fun q => (moPk2 (moPk1 g 60) 59) (7 * q + 105)) (59 + 1) (t + 1))), (3, .int (sumDown (fun q => (moPk2 (moPk1 g 60) 59) (7 * q + 104)) (59 + 1) (t + 1))), (1, .int (nI 516)), (0, .ref a)]) hx hb dX4_picksUp_219 hl (k := 2) rfl (rfl) (by decide) rfl (fun ls hl => ?_)
                  rw [show ((nI (59 + 1 - t) - 1) + (-1)) = (nI (59 + 1 - (t + 1)) - 1) from by rw [ej, show 59 + 1 - 1 - t = 59 + 1 - (t + 1) by omega]; exact (Int32.sub_eq_add_neg _ 1).symm] at hl
                  refine lv_goto (tgt := 159) hx hb dX4_picksUp_222 (by decide) ?_
                  exact ih (t + 1) (by omega) (by omega) (by omega) _ _ _ hP hD hS (lv_sub hl [0, 2, 1, 3, 4] rfl)
          exact loop_9 ((wd + 1 - 0) + 1) 0 (Nat.lt_succ_self _) (Nat.zero_le _) (Nat.zero_le _) _ _ _ hP hD hS (lv_sub hl [0, 1, 2, 3, 4] rfl)
        · -- 19 not taken
          have n_8 : ¬ (516 ≤ j + 103) := fun h => c_8 ((nI_leI (a := 516) (b := j + 103) (by omega) (by omega)).mpr h)
          have d_8 := Int32.not_le.mp c_8
          refine lv_aload_n hx hb dX4_picksUp_22 rfl (lv_at hl 1 rfl) ?_
          refine b_get (C := RX4) (T := TX4) (N := 16) (v := .ref (r 0)) hx hb hts in_X4 hown hK (b_at (k := 0) hP rfl) rfl 0 (by decide) q1807 (fun _ h9 => h9) rfl dX4_picksUp_23 ?_
          refine lv_iload_n hx hb dX4_picksUp_26 rfl (lv_at hl 0 rfl) ?_
          refine lv_aload_n hx hb dX4_picksUp_27 rfl (lv_at hl 1 rfl) ?_
          refine b_get (C := RX4) (T := TX4) (N := 16) (v := .ref (r 0)) hx hb hts in_X4 hown hK (b_at (k := 0) hP rfl) rfl 0 (by decide) q1807 (fun _ h9 => h9) rfl dX4_picksUp_28 ?_
          refine lv_iload_n hx hb dX4_picksUp_31 rfl (lv_at hl 0 rfl) ?_
          refine lv_bipush (v := 7) hx hb dX4_picksUp_32 (by decide) ?_
          refine lv_iadd hx hb dX4_picksUp_34 ?_
          refine b_top (nI_addE (a := j + 103) (b := 7) (c := j + 110) rfl rfl (by first | omega | rfl)) ?_
          refine b_iald hx hb hK (b_at (k := 1) hP rfl) (j + 110) rfl (by omega) (by omega) dX4_picksUp_35 ?_
          refine b_iast hx hb hK hP hD hS 1 rfl (j + 103) rfl (by omega) (by omega) dX4_picksUp_36 (fun H locs hP hD hS => ?_)
          have hP : WP Γ [[(a, moE r i)], [((r 0), .inl (Γ.2.1 0, 523, .inl (upd (shiftP g j) (j + 103) (shiftP g j (j + 110)))))]] H := hP
          have hD : WD A [[(a, moE r i)], [((r 0), .inl (Γ.2.1 0, 523, .inl (upd (shiftP g j) (j + 103) (shiftP g j (j + 110)))))]] := hD
          rw [show (upd (shiftP g j) (j + 103) (shiftP g j (j + 110))) = (shiftP g (j + 1)) from shiftP_step g j] at hP hD
          refine lv_iinc (v := (nI (j + 104))) (lv' := [(1, .int (nI (j + 104))), (0, .ref a)]) hx hb dX4_picksUp_37 hl (k := 0) rfl (nI_addE (b := 1) rfl rfl (by omega)) (by decide) rfl (fun ls hl => ?_)
          refine lv_goto (tgt := 15) hx hb dX4_picksUp_40 (by decide) ?_
          exact ih (j + 1) (by omega) (by omega) _ _ _ hP hD hS (lv_sub hl [0, 1] rfl)
    exact loop_7 ((413 - 0) + 1) 0 (Nat.lt_succ_self _) (Nat.zero_le _) _ _ _ hP hD hS (lv_sub hl [0, 1] rfl)
def moRem (x y : Int32) : Int32 := x - x / y * y
def moDay4 (g : Nat → Int32) (n np nr wd : Nat) : Nat → Int32 := if moRem (g 0 + 1) (g 3) = 0 then (if 0 < moHerdDay g n 8 then moPick (moHerdDay g n) np nr wd else moHerdDay g n) else moHerdDay g n
def moDay (g : Nat → Int32) (n np nr wd : Nat) : Nat → Int32 := upd (moDay4 g n np nr wd) 0 (moDay4 g n np nr wd 0 + 1)
set_option maxHeartbeats 4000000 in
set_option maxRecDepth 100000 in
theorem mt_Mo_goes (l : Launch) (Γ : GE) (sz : Nat) (a : Nat) (r : Nat → Nat) (i : Nat → Int32) (g : Nat → Int32) (n : Nat) (np : Nat) (nr : Nat) (wd : Nat) (hg7 : g 7 = nI n) (hn : n ≤ 8) (hg11 : g 11 = nI np) (hnp : np ≤ 60) (hg10 : g 10 = nI nr) (hnr : nr ≤ 4) (hg5 : g 5 = nI wd) (hwd : wd ≤ 6) (hg3 : ¬ g 3 = 0) (hL : 0 < moHerdDay g n 8 → ¬ moWinL (moPk2 (moPk1 (moHerdDay g n) np) (moM1 np)) (moM1 np + 1) wd = 0) : KM l yX4_goes cX4_goes 2 none Γ 3 70 0 0 [.ref a] [[(a, moE r i)], [((r 0), .inl (Γ.2.1 0, 523, .inl g))]] [] sz (Qv Γ (fun u_ => u_ = [[(a, moE r i)], [((r 0), .inl (Γ.2.1 0, 523, .inl (moDay g n np nr wd)))]])) := by
  refine K_intro (by decide) (Nat.le_of_ble_eq_true rfl) ?_
  intro pr_ ev_ s mi_ below meth cd_ A ls hx hb hr hml hown hts hlocks hname hK hE hRo hP hD hA hS hsz hl
  have hl : lv_has ls 2 [(0, .ref a)] := hl
  have hown : s.vm.findClass RX4 = some mi_.cls := hown
  refine lv_iconst (v := 0) hx hb dX4_goes_0 (by decide) ?_
  refine lv_istore_n (lv' := [(1, .int 0), (0, .ref a)]) hx hb dX4_goes_1 rfl hl (by decide) rfl (fun ls hl => ?_)
  rw [show g = (moIt moCalve g 0) from rfl] at hP hD
  have loop_1 : ∀ (fuel : Nat) (j : Nat), n - j < fuel → (j ≤ n) → ∀ (H : Heap) (locs : List Loc) (ls : Array Slot), WP Γ [[(a, moE r i)], [((r 0), .inl (Γ.2.1 0, 523, .inl (moIt moCalve g j)))]] H → WD A [[(a, moE r i)], [((r 0), .inl (Γ.2.1 0, 523, .inl (moIt moCalve g j)))]] → va_S A s.heap H locs → lv_has ls 2 [(1, .int (nI j)), (0, .ref a)] → W pr_ l ev_ { frames := 3, cells := 0, slots := 0, locals := 70 } s mi_ ([.ref a] : List Value).toArray below meth cd_ H locs 0 0 (MQ below (Qv Γ (fun u_ => u_ = [[(a, moE r i)], [((r 0), .inl (Γ.2.1 0, 523, .inl (moDay g n np nr wd)))]]) A) ([.ref a] : List Value).toArray s 0 0 A) (F0 mi_ 2 ls ([])) := by
    intro fuel
    induction fuel with
    | zero => intro j hfuel; exact absurd hfuel (Nat.not_lt_zero _)
    | succ fuel ih =>
      intro j hfuel hj H locs ls hP hD hS hl
      refine lv_iload_n hx hb dX4_goes_2 rfl (lv_at hl 0 rfl) ?_
      refine lv_aload_n hx hb dX4_goes_3 rfl (lv_at hl 1 rfl) ?_
      refine b_get (C := RX4) (T := TX4) (N := 16) (v := .ref (r 0)) hx hb hts in_X4 hown hK (b_at (k := 0) hP rfl) rfl 0 (by decide) q1807 (fun _ h9 => h9) rfl dX4_goes_4 ?_
      refine lv_bipush (v := 7) hx hb dX4_goes_7 (by decide) ?_
      refine b_iald hx hb hK (b_at (k := 1) hP rfl) 7 rfl (by omega) (by omega) dX4_goes_9 ?_
      refine b_top ((moIt_keep (moCalve_keep (by decide)) j).trans hg7) ?_
      refine lv_icmp_ge (tgt := 100) hx hb dX4_goes_10 (by decide) (fun c_2 => ?_) (fun c_2 => ?_)
      · -- 10 taken
        have n_2 : n ≤ j := (nI_leI (by omega) (by omega)).mp (show nI n ≤ nI j from c_2)
        have d_2 := Int32.not_lt.mpr c_2
        have ej : j = n := by omega
        rw [ej] at hP hD
        clear ej
        have hl : lv_has ls 2 [(0, .ref a)] := lv_sub hl [1] rfl
        refine lv_iconst (v := 0) hx hb dX4_goes_100 (by decide) ?_
        refine lv_istore_n (lv' := [(1, .int 0), (0, .ref a)]) hx hb dX4_goes_101 rfl hl (by decide) rfl (fun ls hl => ?_)
        rw [show (moIt moCalve g n) = (moIt moDry (moIt moCalve g n) 0) from rfl] at hP hD
        have loop_3 : ∀ (fuel : Nat) (j : Nat), n - j < fuel → (j ≤ n) → ∀ (H : Heap) (locs : List Loc) (ls : Array Slot), WP Γ [[(a, moE r i)], [((r 0), .inl (Γ.2.1 0, 523, .inl (moIt moDry (moIt moCalve g n) j)))]] H → WD A [[(a, moE r i)], [((r 0), .inl (Γ.2.1 0, 523, .inl (moIt moDry (moIt moCalve g n) j)))]] → va_S A s.heap H locs → lv_has ls 2 [(1, .int (nI j)), (0, .ref a)] → W pr_ l ev_ { frames := 3, cells := 0, slots := 0, locals := 70 } s mi_ ([.ref a] : List Value).toArray below meth cd_ H locs 0 0 (MQ below (Qv Γ (fun u_ => u_ = [[(a, moE r i)], [((r 0), .inl (Γ.2.1 0, 523, .inl (moDay g n np nr wd)))]]) A) ([.ref a] : List Value).toArray s 0 0 A) (F0 mi_ 102 ls ([])) := by
          intro fuel
          induction fuel with
          | zero => intro j hfuel; exact absurd hfuel (Nat.not_lt_zero _)
          | succ fuel ih =>
            intro j hfuel hj H locs ls hP hD hS hl
            refine lv_iload_n hx hb dX4_goes_102 rfl (lv_at hl 0 rfl) ?_
            refine lv_aload_n hx hb dX4_goes_103 rfl (lv_at hl 1 rfl) ?_
            refine b_get (C := RX4) (T := TX4) (N := 16) (v := .ref (r 0)) hx hb hts in_X4 hown hK (b_at (k := 0) hP rfl) rfl 0 (by decide) q1807 (fun _ h9 => h9) rfl dX4_goes_104 ?_
            refine lv_bipush (v := 7) hx hb dX4_goes_107 (by decide) ?_
            refine b_iald hx hb hK (b_at (k := 1) hP rfl) 7 rfl (by omega) (by omega) dX4_goes_109 ?_
            refine b_top ((moIt_keep (moDry_keep (by decide)) j).trans ((moIt_keep (moCalve_keep (by decide)) n).trans hg7)) ?_
            refine lv_icmp_ge (tgt := 173) hx hb dX4_goes_110 (by decide) (fun c_4 => ?_) (fun c_4 => ?_)
            · -- 110 taken
              have n_4 : n ≤ j := (nI_leI (by omega) (by omega)).mp (show nI n ≤ nI j from c_4)
              have d_4 := Int32.not_lt.mpr c_4
              have ej : j = n := by omega
              rw [ej] at hP hD
              clear ej
              have hl : lv_has ls 2 [(0, .ref a)] := lv_sub hl [1] rfl
              refine lv_iconst (v := 0) hx hb dX4_goes_173 (by decide) ?_
              refine lv_istore_n (lv' := [(1, .int 0), (0, .ref a)]) hx hb dX4_goes_174 rfl hl (by decide) rfl (fun ls hl => ?_)
              rw [show (moIt moDry (moIt moCalve g n) n) = (moIt moMilkS (moIt moDry (moIt moCalve g n) n) 0) from rfl] at hP hD
              have loop_5 : ∀ (fuel : Nat) (j : Nat), n - j < fuel → (j ≤ n) → ∀ (H : Heap) (locs : List Loc) (ls : Array Slot), WP Γ [[(a, moE r i)], [((r 0), .inl (Γ.2.1 0, 523, .inl (moIt moMilkS (moIt moDry (moIt moCalve g n) n) j)))]] H → WD A [[(a, moE r i)], [((r 0), .inl (Γ.2.1 0, 523, .inl (moIt moMilkS (moIt moDry (moIt moCalve g n) n) j)))]] → va_S A s.heap H locs → lv_has ls 2 [(1, .int (nI j)), (0, .ref a)] → W pr_ l ev_ { frames := 3, cells := 0, slots := 0, locals := 70 } s mi_ ([.ref a] : List Value).toArray below meth cd_ H locs 0 0 (MQ below (Qv Γ (fun u_ => u_ = [[(a, moE r i)], [((r 0), .inl (Γ.2.1 0, 523, .inl (moDay g n np nr wd)))]]) A) ([.ref a] : List Value).toArray s 0 0 A) (F0 mi_ 175 ls ([])) := by
                intro fuel
                induction fuel with
                | zero => intro j hfuel; exact absurd hfuel (Nat.not_lt_zero _)
                | succ fuel ih =>
                  intro j hfuel hj H locs ls hP hD hS hl
                  refine lv_iload_n hx hb dX4_goes_175 rfl (lv_at hl 0 rfl) ?_
                  refine lv_aload_n hx hb dX4_goes_176 rfl (lv_at hl 1 rfl) ?_
                  refine b_get (C := RX4) (T := TX4) (N := 16) (v := .ref (r 0)) hx hb hts in_X4 hown hK (b_at (k := 0) hP rfl) rfl 0 (by decide) q1807 (fun _ h9 => h9) rfl dX4_goes_177 ?_
                  refine lv_bipush (v := 7) hx hb dX4_goes_180 (by decide) ?_
                  refine b_iald hx hb hK (b_at (k := 1) hP rfl) 7 rfl (by omega) (by omega) dX4_goes_182 ?_
                  refine b_top ((moIt_keep (moMilkS_keep (by decide) (by decide) (by decide) (by decide)) j).trans ((moIt_keep (moDry_keep (by decide)) n).trans ((moIt_keep (moCalve_keep (by decide)) n).trans hg7))) ?_
                  refine lv_icmp_ge (tgt := 205) hx hb dX4_goes_183 (by decide) (fun c_6 => ?_) (fun c_6 => ?_)
                  · -- 183 taken
                    have n_6 : n ≤ j := (nI_leI (by omega) (by omega)).mp (show nI n ≤ nI j from c_6)
                    have d_6 := Int32.not_lt.mpr c_6
                    have ej : j = n := by omega
                    rw [ej] at hP hD
                    clear ej
                    have hl : lv_has ls 2 [(0, .ref a)] := lv_sub hl [1] rfl
                    rw [show (moIt moMilkS (moIt moDry (moIt moCalve g n) n) n) = (moHerdDay g n) from rfl] at hP hD
                    have hk0 : moHerdDay g n 0 = g 0 := moHerdDay_keep (by decide) (by decide) (by decide) (by decide) g n
                    have hk3 : moHerdDay g n 3 = g 3 := moHerdDay_keep (by decide) (by decide) (by decide) (by decide) g n
                    refine lv_aload_n hx hb dX4_goes_205 rfl (lv_at hl 0 rfl) ?_
                    refine b_get (C := RX4) (T := TX4) (N := 16) (v := .ref (r 0)) hx hb hts in_X4 hown hK (b_at (k := 0) hP rfl) rfl 0 (by decide) q1807 (fun _ h9 => h9) rfl dX4_goes_206 ?_
                    refine lv_iconst (v := 0) hx hb dX4_goes_209 (by decide) ?_
                    refine b_iald hx hb hK (b_at (k := 1) hP rfl) 0 rfl (by omega) (by omega) dX4_goes_210 ?_
                    refine b_top (hk0) ?_
                    refine lv_iconst (v := 1) hx hb dX4_goes_211 (by decide) ?_
                    refine lv_iadd hx hb dX4_goes_212 ?_
                    refine lv_aload_n hx hb dX4_goes_213 rfl (lv_at hl 0 rfl) ?_
                    refine b_get (C := RX4) (T := TX4) (N := 16) (v := .ref (r 0)) hx hb hts in_X4 hown hK (b_at (k := 0) hP rfl) rfl 0 (by decide) q1807 (fun _ h9 => h9) rfl dX4_goes_214 ?_
                    refine lv_iconst (v := 3) hx hb dX4_goes_217 (by decide) ?_
                    refine b_iald hx hb hK (b_at (k := 1) hP rfl) 3 rfl (by omega) (by omega) dX4_goes_218 ?_
                    refine b_top (hk3) ?_
                    refine lv_irem hx hb dX4_goes_219 (hg3) ?_
                    refine b_top (show (((g 0) + 1) - ((g 0) + 1) / (g 3) * (g 3)) = moRem (g 0 + 1) (g 3) from rfl) ?_
                    refine lv_if_ne (tgt := 237) hx hb dX4_goes_220 (by decide) (fun c_7 => ?_) (fun c_7 => ?_)
                    · -- 220 taken
                      refine lv_aload_n hx hb dX4_goes_237 rfl (lv_at hl 0 rfl) ?_
                      refine b_get (C := RX4) (T := TX4) (N := 16) (v := .ref (r 0)) hx hb hts in_X4 hown hK (b_at (k := 0) hP rfl) rfl 0 (by decide) q1807 (fun _ h9 => h9) rfl dX4_goes_238 ?_
                      refine lv_iconst (v := 0) hx hb dX4_goes_241 (by decide) ?_
                      refine lv_dup2_11 hx hb dX4_goes_242 rfl rfl ?_
                      refine b_iald hx hb hK (b_at (k := 1) hP rfl) 0 rfl (by omega) (by omega) dX4_goes_243 ?_
                      refine b_top (hk0) ?_
                      refine lv_iconst (v := 1) hx hb dX4_goes_244 (by decide) ?_
                      refine lv_iadd hx hb dX4_goes_245 ?_
                      refine b_iast hx hb hK hP hD hS 1 rfl 0 rfl (by omega) (by omega) dX4_goes_246 (fun H locs hP hD hS => ?_)
                      have hP : WP Γ [[(a, moE r i)], [((r 0), .inl (Γ.2.1 0, 523, .inl (upd (moHerdDay g n) 0 ((g 0) + 1))))]] H := hP
                      have hD : WD A [[(a, moE r i)], [((r 0), .inl (Γ.2.1 0, 523, .inl (upd (moHerdDay g n) 0 ((g 0) + 1))))]] := hD
                      exact b_vret hx hb hr hlocks hP hD hS (Nat.le_of_ble_eq_true rfl) (Nat.le_of_ble_eq_true rfl) (by first | with_reducible rfl | (simp [moDay, moDay4, n_2, d_2, n_4, d_4, n_6, d_6, hk0, hk3, c_7]; done) | rfl) dX4_goes_247
                    · -- 220 not taken
                      refine lv_aload_n hx hb dX4_goes_223 rfl (lv_at hl 0 rfl) ?_
                      refine b_get (C := RX4) (T := TX4) (N := 16) (v := .ref (r 0)) hx hb hts in_X4 hown hK (b_at (k := 0) hP rfl) rfl 0 (by decide) q1807 (fun _ h9 => h9) rfl dX4_goes_224 ?_
                      refine lv_bipush (v := 8) hx hb dX4_goes_227 (by decide) ?_
                      refine b_iald hx hb hK (b_at (k := 1) hP rfl) 8 rfl (by omega) (by omega) dX4_goes_229 ?_
                      refine lv_if_le (tgt := 237) hx hb dX4_goes_230 (by decide) (fun c_8 => ?_) (fun c_8 => ?_)
                      · -- 230 taken
                        have d_8 := Int32.not_lt.mpr c_8
                        refine lv_aload_n hx hb dX4_goes_237 rfl (lv_at hl 0 rfl) ?_
                        refine b_get (C := RX4) (T := TX4) (N := 16) (v := .ref (r 0)) hx hb hts in_X4 hown hK (b_at (k := 0) hP rfl) rfl 0 (by decide) q1807 (fun _ h9 => h9) rfl dX4_goes_238 ?_
                        refine lv_iconst (v := 0) hx hb dX4_goes_241 (by decide) ?_
                        refine lv_dup2_11 hx hb dX4_goes_242 rfl rfl ?_
                        refine b_iald hx hb hK (b_at (k := 1) hP rfl) 0 rfl (by omega) (by omega) dX4_goes_243 ?_
                        refine b_top (hk0) ?_
                        refine lv_iconst (v := 1) hx hb dX4_goes_244 (by decide) ?_
                        refine lv_iadd hx hb dX4_goes_245 ?_
                        refine b_iast hx hb hK hP hD hS 1 rfl 0 rfl (by omega) (by omega) dX4_goes_246 (fun H locs hP hD hS => ?_)
                        have hP : WP Γ [[(a, moE r i)], [((r 0), .inl (Γ.2.1 0, 523, .inl (upd (moHerdDay g n) 0 ((g 0) + 1))))]] H := hP
                        have hD : WD A [[(a, moE r i)], [((r 0), .inl (Γ.2.1 0, 523, .inl (upd (moHerdDay g n) 0 ((g 0) + 1))))]] := hD
                        exact b_vret hx hb hr hlocks hP hD hS (Nat.le_of_ble_eq_true rfl) (Nat.le_of_ble_eq_true rfl) (by first | with_reducible rfl | (simp [moDay, moDay4, n_2, d_2, n_4, d_4, n_6, d_6, hk0, hk3, c_7, c_8, d_8]; done) | rfl) dX4_goes_247
                      · -- 230 not taken
                        have d_8 := Int32.not_le.mp c_8
                        have hpos : 0 < moHerdDay g n 8 := d_8
                        refine lv_aload_n hx hb dX4_goes_233 rfl (lv_at hl 0 rfl) ?_
                        refine b_callv (br := []) (b_runV ⟨hx, hb, hml, hown, hts⟩ (mt_Mo_picksUp l Γ _ a r i (moHerdDay g n) np nr wd ((moHerdDay_keep (by decide) (by decide) (by decide) (by decide) g n).trans hg11) (by first | exact hnp | omega) ((moHerdDay_keep (by decide) (by decide) (by decide) (by decide) g n).trans hg10) (by first | exact hnr | omega) ((moHerdDay_keep (by decide) (by decide) (by decide) (by decide) g n).trans hg5) (by first | exact hwd | omega) (fun e9 => by have h9 := hpos; rw [e9] at h9; exact absurd h9 (by decide)) (hL hpos)) (lw_V q2004 q2006 qs49 q73 q2007) rfl rfl 0 (by decide +kernel) ⟨(Nat.le_of_ble_eq_true rfl), (Nat.le_of_ble_eq_true rfl)⟩ (c_pre hP hD hS hA hK hE [0, 1] rfl rfl ro_nil) (recv_at (q := (RX4, TX4, 16)) hK (b_at (k := 0) hP rfl) rfl) rfl hl.1 rfl (Nat.le_of_ble_eq_true rfl) dX4_goes_234 ⟨(Nat.le_of_ble_eq_true rfl), (Nat.le_of_ble_eq_true rfl)⟩) hP hD hS hA [0, 1] [] rfl rfl rfl (fun u_9 H locs hw_9 hP hD hS _ => ?_)
                        obtain rfl := hw_9
                        have hP : WP Γ [[(a, moE r i)], [((r 0), .inl (Γ.2.1 0, 523, .inl (moPick (moHerdDay g n) np nr wd)))]] H := hP
                        have hD : WD A [[(a, moE r i)], [((r 0), .inl (Γ.2.1 0, 523, .inl (moPick (moHerdDay g n) np nr wd)))]] := hD
                        refine lv_aload_n hx hb dX4_goes_237 rfl (lv_at hl 0 rfl) ?_
                        refine b_get (C := RX4) (T := TX4) (N := 16) (v := .ref (r 0)) hx hb hts in_X4 hown hK (b_at (k := 0) hP rfl) rfl 0 (by decide) q1807 (fun _ h9 => h9) rfl dX4_goes_238 ?_
                        refine lv_iconst (v := 0) hx hb dX4_goes_241 (by decide) ?_
                        refine lv_dup2_11 hx hb dX4_goes_242 rfl rfl ?_
                        refine b_iald hx hb hK (b_at (k := 1) hP rfl) 0 rfl (by omega) (by omega) dX4_goes_243 ?_
                        refine lv_iconst (v := 1) hx hb dX4_goes_244 (by decide) ?_
                        refine lv_iadd hx hb dX4_goes_245 ?_
                        refine b_iast hx hb hK hP hD hS 1 rfl 0 rfl (by omega) (by omega) dX4_goes_246 (fun H locs hP hD hS => ?_)
                        have hP : WP Γ [[(a, moE r i)], [((r 0), .inl (Γ.2.1 0, 523, .inl (upd (moPick (moHerdDay g n) np nr wd) 0 ((moPick (moHerdDay g n) np nr wd 0) + 1))))]] H := hP
                        have hD : WD A [[(a, moE r i)], [((r 0), .inl (Γ.2.1 0, 523, .inl (upd (moPick (moHerdDay g n) np nr wd) 0 ((moPick (moHerdDay g n) np nr wd 0) + 1))))]] := hD
                        exact b_vret hx hb hr hlocks hP hD hS (Nat.le_of_ble_eq_true rfl) (Nat.le_of_ble_eq_true rfl) (by first | with_reducible rfl | (simp [moDay, moDay4, n_2, d_2, n_4, d_4, n_6, d_6, hk0, hk3, c_7, c_8, d_8]; done) | rfl) dX4_goes_247
                  · -- 183 not taken
                    have n_6 : ¬ (n ≤ j) := fun h => c_6 ((nI_leI (a := n) (b := j) (by omega) (by omega)).mpr h)
                    have d_6 := Int32.not_le.mp c_6
                    refine lv_aload_n hx hb dX4_goes_186 rfl (lv_at hl 1 rfl) ?_
                    refine lv_iload_n hx hb dX4_goes_187 rfl (lv_at hl 0 rfl) ?_
                    refine b_calli (br := []) (b_runV ⟨hx, hb, hml, hown, hts⟩ (mt_Mo_isMilked l Γ _ a r i (moIt moMilkS (moIt moDry (moIt moCalve g n) n) j) j (by omega)) (lw_V q1928 q1930 qs38 q73 q1931) rfl rfl 1 (by decide +kernel) ⟨(Nat.le_of_ble_eq_true rfl), (Nat.le_of_ble_eq_true rfl)⟩ (c_pre hP hD hS hA hK hE [0, 1] rfl rfl ro_nil) (recv_at (q := (RX4, TX4, 16)) hK (b_at (k := 0) hP rfl) rfl) rfl hl.1 rfl (Nat.le_of_ble_eq_true rfl) dX4_goes_188 ⟨(Nat.le_of_ble_eq_true rfl), (Nat.le_of_ble_eq_true rfl)⟩) hP hD hS hA [0, 1] [] rfl rfl rfl (fun r_10 u_10 H locs hw_10 hP hD hS _ => ?_)
                    obtain ⟨rfl, rfl⟩ := hw_10
                    have hP : WP Γ [[(a, moE r i)], [((r 0), .inl (Γ.2.1 0, 523, .inl (moIt moMilkS (moIt moDry (moIt moCalve g n) n) j)))]] H := hP
                    have hD : WD A [[(a, moE r i)], [((r 0), .inl (Γ.2.1 0, 523, .inl (moIt moMilkS (moIt moDry (moIt moCalve g n) n) j)))]] := hD
                    refine lv_if_eq (tgt := 199) hx hb dX4_goes_191 (by decide) (fun c_11 => ?_) (fun c_11 => ?_)
                    · -- 191 taken
                      rw [show (moIt moMilkS (moIt moDry (moIt moCalve g n) n) j) = (moIt moMilkS (moIt moDry (moIt moCalve g n) n) (j + 1)) from by simp [moIt, moMilkS, d_2, d_4, d_6, c_11]] at hP hD
                      refine lv_iinc (v := (nI (j + 1))) (lv' := [(1, .int (nI (j + 1))), (0, .ref a)]) hx hb dX4_goes_199 hl (k := 0) rfl (nI_addE (b := 1) rfl rfl (by omega)) (by decide) rfl (fun ls hl => ?_)
                      refine lv_goto (tgt := 175) hx hb dX4_goes_202 (by decide) ?_
                      exact ih (j + 1) (by omega) (by omega) _ _ _ hP hD hS (lv_sub hl [0, 1] rfl)
                    · -- 191 not taken
                      refine lv_aload_n hx hb dX4_goes_194 rfl (lv_at hl 1 rfl) ?_
                      refine lv_iload_n hx hb dX4_goes_195 rfl (lv_at hl 0 rfl) ?_
                      refine b_callv (br := []) (b_runV ⟨hx, hb, hml, hown, hts⟩ (mt_Mo_milks l Γ _ a r i (moIt moMilkS (moIt moDry (moIt moCalve g n) n) j) j (by omega)) (lw_V q1992 q1994 qs46 q73 q1995) rfl rfl 1 (by decide +kernel) ⟨(Nat.le_of_ble_eq_true rfl), (Nat.le_of_ble_eq_true rfl)⟩ (c_pre hP hD hS hA hK hE [0, 1] rfl rfl ro_nil) (recv_at (q := (RX4, TX4, 16)) hK (b_at (k := 0) hP rfl) rfl) rfl hl.1 rfl (Nat.le_of_ble_eq_true rfl) dX4_goes_196 ⟨(Nat.le_of_ble_eq_true rfl), (Nat.le_of_ble_eq_true rfl)⟩) hP hD hS hA [0, 1] [] rfl rfl rfl (fun u_12 H locs hw_12 hP hD hS _ => ?_)
                      obtain rfl := hw_12
                      have hP : WP Γ [[(a, moE r i)], [((r 0), .inl (Γ.2.1 0, 523, .inl (moMilk (moIt moMilkS (moIt moDry (moIt moCalve g n) n) j) j)))]] H := hP
                      have hD : WD A [[(a, moE r i)], [((r 0), .inl (Γ.2.1 0, 523, .inl (moMilk (moIt moMilkS (moIt moDry (moIt moCalve g n) n) j) j)))]] := hD
                      rw [show (moMilk (moIt moMilkS (moIt moDry (moIt moCalve g n) n) j) j) = (moIt moMilkS (moIt moDry (moIt moCalve g n) n) (j + 1)) from by simp [moIt, moMilkS, d_2, d_4, d_6, c_11]] at hP hD
                      refine lv_iinc (v := (nI (j + 1))) (lv' := [(1, .int (nI (j + 1))), (0, .ref a)]) hx hb dX4_goes_199 hl (k := 0) rfl (nI_addE (b := 1) rfl rfl (by omega)) (by decide) rfl (fun ls hl => ?_)
                      refine lv_goto (tgt := 175) hx hb dX4_goes_202 (by decide) ?_
                      exact ih (j + 1) (by omega) (by omega) _ _ _ hP hD hS (lv_sub hl [0, 1] rfl)
              exact loop_5 ((n - 0) + 1) 0 (Nat.lt_succ_self _) (Nat.zero_le _) _ _ _ hP hD hS (lv_sub hl [0, 1] rfl)
            · -- 110 not taken
              have n_4 : ¬ (n ≤ j) := fun h => c_4 ((nI_leI (a := n) (b := j) (by omega) (by omega)).mpr h)
              have d_4 := Int32.not_le.mp c_4
              refine lv_aload_n hx hb dX4_goes_113 rfl (lv_at hl 1 rfl) ?_
              refine lv_iload_n hx hb dX4_goes_114 rfl (lv_at hl 0 rfl) ?_
              refine b_calli (br := []) (b_runV ⟨hx, hb, hml, hown, hts⟩ (mt_Mo_isCarrying l Γ _ a r i (moIt moDry (moIt moCalve g n) j) j (by omega)) (lw_V q1924 q1926 qs37 q73 q1927) rfl rfl 1 (by decide +kernel) ⟨(Nat.le_of_ble_eq_true rfl), (Nat.le_of_ble_eq_true rfl)⟩ (c_pre hP hD hS hA hK hE [0, 1] rfl rfl ro_nil) (recv_at (q := (RX4, TX4, 16)) hK (b_at (k := 0) hP rfl) rfl) rfl hl.1 rfl (Nat.le_of_ble_eq_true rfl) dX4_goes_115 ⟨(Nat.le_of_ble_eq_true rfl), (Nat.le_of_ble_eq_true rfl)⟩) hP hD hS hA [0, 1] [] rfl rfl rfl (fun r_13 u_13 H locs hw_13 hP hD hS _ => ?_)
              obtain ⟨rfl, rfl⟩ := hw_13
              have hP : WP Γ [[(a, moE r i)], [((r 0), .inl (Γ.2.1 0, 523, .inl (moIt moDry (moIt moCalve g n) j)))]] H := hP
              have hD : WD A [[(a, moE r i)], [((r 0), .inl (Γ.2.1 0, 523, .inl (moIt moDry (moIt moCalve g n) j)))]] := hD
              refine lv_if_eq (tgt := 167) hx hb dX4_goes_118 (by decide) (fun c_14 => ?_) (fun c_14 => ?_)
              · -- 118 taken
                rw [show (moIt moDry (moIt moCalve g n) j) = (moIt moDry (moIt moCalve g n) (j + 1)) from by simp [moIt, moDry, d_2, d_4, c_14]] at hP hD
                refine lv_iinc (v := (nI (j + 1))) (lv' := [(1, .int (nI (j + 1))), (0, .ref a)]) hx hb dX4_goes_167 hl (k := 0) rfl (nI_addE (b := 1) rfl rfl (by omega)) (by decide) rfl (fun ls hl => ?_)
                refine lv_goto (tgt := 102) hx hb dX4_goes_170 (by decide) ?_
                exact ih (j + 1) (by omega) (by omega) _ _ _ hP hD hS (lv_sub hl [0, 1] rfl)
              · -- 118 not taken
                refine lv_aload_n hx hb dX4_goes_121 rfl (lv_at hl 1 rfl) ?_
                refine lv_iload_n hx hb dX4_goes_122 rfl (lv_at hl 0 rfl) ?_
                refine b_calli (br := []) (b_runV ⟨hx, hb, hml, hown, hts⟩ (mt_Mo_isMilked l Γ _ a r i (moIt moDry (moIt moCalve g n) j) j (by omega)) (lw_V q1928 q1930 qs38 q73 q1931) rfl rfl 1 (by decide +kernel) ⟨(Nat.le_of_ble_eq_true rfl), (Nat.le_of_ble_eq_true rfl)⟩ (c_pre hP hD hS hA hK hE [0, 1] rfl rfl ro_nil) (recv_at (q := (RX4, TX4, 16)) hK (b_at (k := 0) hP rfl) rfl) rfl hl.1 rfl (Nat.le_of_ble_eq_true rfl) dX4_goes_123 ⟨(Nat.le_of_ble_eq_true rfl), (Nat.le_of_ble_eq_true rfl)⟩) hP hD hS hA [0, 1] [] rfl rfl rfl (fun r_15 u_15 H locs hw_15 hP hD hS _ => ?_)
                obtain ⟨rfl, rfl⟩ := hw_15
                have hP : WP Γ [[(a, moE r i)], [((r 0), .inl (Γ.2.1 0, 523, .inl (moIt moDry (moIt moCalve g n) j)))]] H := hP
                have hD : WD A [[(a, moE r i)], [((r 0), .inl (Γ.2.1 0, 523, .inl (moIt moDry (moIt moCalve g n) j)))]] := hD
                refine lv_if_eq (tgt := 167) hx hb dX4_goes_126 (by decide) (fun c_16 => ?_) (fun c_16 => ?_)
                · -- 126 taken
                  rw [show (moIt moDry (moIt moCalve g n) j) = (moIt moDry (moIt moCalve g n) (j + 1)) from by simp [moIt, moDry, d_2, d_4, c_14, c_16]] at hP hD
                  refine lv_iinc (v := (nI (j + 1))) (lv' := [(1, .int (nI (j + 1))), (0, .ref a)]) hx hb dX4_goes_167 hl (k := 0) rfl (nI_addE (b := 1) rfl rfl (by omega)) (by decide) rfl (fun ls hl => ?_)
                  refine lv_goto (tgt := 102) hx hb dX4_goes_170 (by decide) ?_
                  exact ih (j + 1) (by omega) (by omega) _ _ _ hP hD hS (lv_sub hl [0, 1] rfl)
                · -- 126 not taken
                  refine lv_aload_n hx hb dX4_goes_129 rfl (lv_at hl 1 rfl) ?_
                  refine b_get (C := RX4) (T := TX4) (N := 16) (v := .ref (r 0)) hx hb hts in_X4 hown hK (b_at (k := 0) hP rfl) rfl 0 (by decide) q1807 (fun _ h9 => h9) rfl dX4_goes_130 ?_
                  refine lv_iload_n hx hb dX4_goes_133 rfl (lv_at hl 0 rfl) ?_
                  refine lv_bipush (v := 6) hx hb dX4_goes_134 (by decide) ?_
                  refine b_calli (br := [[(a, moE r i)], [((r 0), .inl (Γ.2.1 0, 523, .inl (moIt moDry (moIt moCalve g n) j)))]]) (b_runS ⟨hx, hb, hml, hown, hts⟩ (mt_Mo_at l Γ _ j 6) (lw_S q1886 q1887 q73 q1888) rfl rfl 2 (by decide +kernel) ⟨(Nat.le_of_ble_eq_true rfl), (Nat.le_of_ble_eq_true rfl)⟩ (c_pre hP hD hS hA hK hE [] rfl rfl ro_nil) rfl hl.1 rfl (Nat.le_of_ble_eq_true rfl) dX4_goes_136 ⟨(Nat.le_of_ble_eq_true rfl), (Nat.le_of_ble_eq_true rfl)⟩) hP hD hS hA [] [0, 1] rfl rfl rfl (fun r_17 u_17 H locs hw_17 hP hD hS _ => ?_)
                  obtain ⟨rfl, rfl⟩ := hw_17
                  have hP : WP Γ [[(a, moE r i)], [((r 0), .inl (Γ.2.1 0, 523, .inl (moIt moDry (moIt moCalve g n) j)))]] H := hP
                  have hD : WD A [[(a, moE r i)], [((r 0), .inl (Γ.2.1 0, 523, .inl (moIt moDry (moIt moCalve g n) j)))]] := hD
                  refine b_iald hx hb hK (b_at (k := 1) hP rfl) (10 * j + 21) rfl (by omega) (by omega) dX4_goes_139 ?_
                  refine lv_aload_n hx hb dX4_goes_140 rfl (lv_at hl 1 rfl) ?_
                  refine b_get (C := RX4) (T := TX4) (N := 16) (v := .ref (r 0)) hx hb hts in_X4 hown hK (b_at (k := 0) hP rfl) rfl 0 (by decide) q1807 (fun _ h9 => h9) rfl dX4_goes_141 ?_
                  refine lv_iconst (v := 0) hx hb dX4_goes_144 (by decide) ?_
                  refine b_iald hx hb hK (b_at (k := 1) hP rfl) 0 rfl (by omega) (by omega) dX4_goes_145 ?_
                  refine lv_aload_n hx hb dX4_goes_146 rfl (lv_at hl 1 rfl) ?_
                  refine b_get (C := RX4) (T := TX4) (N := 16) (v := .ref (r 0)) hx hb hts in_X4 hown hK (b_at (k := 0) hP rfl) rfl 0 (by decide) q1807 (fun _ h9 => h9) rfl dX4_goes_147 ?_
                  refine lv_iconst (v := 2) hx hb dX4_goes_150 (by decide) ?_
                  refine b_iald hx hb hK (b_at (k := 1) hP rfl) 2 rfl (by omega) (by omega) dX4_goes_151 ?_
                  refine lv_iadd hx hb dX4_goes_152 ?_
                  refine lv_icmp_gt (tgt := 167) hx hb dX4_goes_153 (by decide) (fun c_18 => ?_) (fun c_18 => ?_)
                  · -- 153 taken
                    rw [show (moIt moDry (moIt moCalve g n) j) = (moIt moDry (moIt moCalve g n) (j + 1)) from by simp [moIt, moDry, d_2, d_4, c_14, c_16, c_18]] at hP hD
                    refine lv_iinc (v := (nI (j + 1))) (lv' := [(1, .int (nI (j + 1))), (0, .ref a)]) hx hb dX4_goes_167 hl (k := 0) rfl (nI_addE (b := 1) rfl rfl (by omega)) (by decide) rfl (fun ls hl => ?_)
                    refine lv_goto (tgt := 102) hx hb dX4_goes_170 (by decide) ?_
                    exact ih (j + 1) (by omega) (by omega) _ _ _ hP hD hS (lv_sub hl [0, 1] rfl)
                  · -- 153 not taken
                    refine lv_aload_n hx hb dX4_goes_156 rfl (lv_at hl 1 rfl) ?_
                    refine b_get (C := RX4) (T := TX4) (N := 16) (v := .ref (r 0)) hx hb hts in_X4 hown hK (b_at (k := 0) hP rfl) rfl 0 (by decide) q1807 (fun _ h9 => h9) rfl dX4_goes_157 ?_
                    refine lv_iload_n hx hb dX4_goes_160 rfl (lv_at hl 0 rfl) ?_
                    refine lv_iconst (v := 4) hx hb dX4_goes_161 (by decide) ?_
                    refine b_calli (br := [[(a, moE r i)], [((r 0), .inl (Γ.2.1 0, 523, .inl (moIt moDry (moIt moCalve g n) j)))]]) (b_runS ⟨hx, hb, hml, hown, hts⟩ (mt_Mo_at l Γ _ j 4) (lw_S q1886 q1887 q73 q1888) rfl rfl 2 (by decide +kernel) ⟨(Nat.le_of_ble_eq_true rfl), (Nat.le_of_ble_eq_true rfl)⟩ (c_pre hP hD hS hA hK hE [] rfl rfl ro_nil) rfl hl.1 rfl (Nat.le_of_ble_eq_true rfl) dX4_goes_162 ⟨(Nat.le_of_ble_eq_true rfl), (Nat.le_of_ble_eq_true rfl)⟩) hP hD hS hA [] [0, 1] rfl rfl rfl (fun r_19 u_19 H locs hw_19 hP hD hS _ => ?_)
                    obtain ⟨rfl, rfl⟩ := hw_19
                    have hP : WP Γ [[(a, moE r i)], [((r 0), .inl (Γ.2.1 0, 523, .inl (moIt moDry (moIt moCalve g n) j)))]] H := hP
                    have hD : WD A [[(a, moE r i)], [((r 0), .inl (Γ.2.1 0, 523, .inl (moIt moDry (moIt moCalve g n) j)))]] := hD
                    refine lv_iconst (v := 0) hx hb dX4_goes_165 (by decide) ?_
                    refine b_iast hx hb hK hP hD hS 1 rfl (10 * j + 19) rfl (by omega) (by omega) dX4_goes_166 (fun H locs hP hD hS => ?_)
                    have hP : WP Γ [[(a, moE r i)], [((r 0), .inl (Γ.2.1 0, 523, .inl (upd (moIt moDry (moIt moCalve g n) j) (10 * j + 19) 0)))]] H := hP
                    have hD : WD A [[(a, moE r i)], [((r 0), .inl (Γ.2.1 0, 523, .inl (upd (moIt moDry (moIt moCalve g n) j) (10 * j + 19) 0)))]] := hD
                    rw [show (upd (moIt moDry (moIt moCalve g n) j) (10 * j + 19) 0) = (moIt moDry (moIt moCalve g n) (j + 1)) from by simp [moIt, moDry, d_2, d_4, c_14, c_16, c_18]] at hP hD
                    refine lv_iinc (v := (nI (j + 1))) (lv' := [(1, .int (nI (j + 1))), (0, .ref a)]) hx hb dX4_goes_167 hl (k := 0) rfl (nI_addE (b := 1) rfl rfl (by omega)) (by decide) rfl (fun ls hl => ?_)
                    refine lv_goto (tgt := 102) hx hb dX4_goes_170 (by decide) ?_
                    exact ih (j + 1) (by omega) (by omega) _ _ _ hP hD hS (lv_sub hl [0, 1] rfl)
        exact loop_3 ((n - 0) + 1) 0 (Nat.lt_succ_self _) (Nat.zero_le _) _ _ _ hP hD hS (lv_sub hl [0, 1] rfl)
      · -- 10 not taken
        have n_2 : ¬ (n ≤ j) := fun h => c_2 ((nI_leI (a := n) (b := j) (by omega) (by omega)).mpr h)
        have d_2 := Int32.not_le.mp c_2
        refine lv_aload_n hx hb dX4_goes_13 rfl (lv_at hl 1 rfl) ?_
        refine lv_iload_n hx hb dX4_goes_14 rfl (lv_at hl 0 rfl) ?_
        refine b_calli (br := []) (b_runV ⟨hx, hb, hml, hown, hts⟩ (mt_Mo_isCarrying l Γ _ a r i (moIt moCalve g j) j (by omega)) (lw_V q1924 q1926 qs37 q73 q1927) rfl rfl 1 (by decide +kernel) ⟨(Nat.le_of_ble_eq_true rfl), (Nat.le_of_ble_eq_true rfl)⟩ (c_pre hP hD hS hA hK hE [0, 1] rfl rfl ro_nil) (recv_at (q := (RX4, TX4, 16)) hK (b_at (k := 0) hP rfl) rfl) rfl hl.1 rfl (Nat.le_of_ble_eq_true rfl) dX4_goes_15 ⟨(Nat.le_of_ble_eq_true rfl), (Nat.le_of_ble_eq_true rfl)⟩) hP hD hS hA [0, 1] [] rfl rfl rfl (fun r_20 u_20 H locs hw_20 hP hD hS _ => ?_)
        obtain ⟨rfl, rfl⟩ := hw_20
        have hP : WP Γ [[(a, moE r i)], [((r 0), .inl (Γ.2.1 0, 523, .inl (moIt moCalve g j)))]] H := hP
        have hD : WD A [[(a, moE r i)], [((r 0), .inl (Γ.2.1 0, 523, .inl (moIt moCalve g j)))]] := hD
        refine lv_if_eq (tgt := 94) hx hb dX4_goes_18 (by decide) (fun c_21 => ?_) (fun c_21 => ?_)
        · -- 18 taken
          rw [show (moIt moCalve g j) = (moIt moCalve g (j + 1)) from by simp [moIt, moCalve, d_2, c_21]] at hP hD
          refine lv_iinc (v := (nI (j + 1))) (lv' := [(1, .int (nI (j + 1))), (0, .ref a)]) hx hb dX4_goes_94 hl (k := 0) rfl (nI_addE (b := 1) rfl rfl (by omega)) (by decide) rfl (fun ls hl => ?_)
          refine lv_goto (tgt := 2) hx hb dX4_goes_97 (by decide) ?_
          exact ih (j + 1) (by omega) (by omega) _ _ _ hP hD hS (lv_sub hl [0, 1] rfl)
        · -- 18 not taken
          refine lv_aload_n hx hb dX4_goes_21 rfl (lv_at hl 1 rfl) ?_
          refine b_get (C := RX4) (T := TX4) (N := 16) (v := .ref (r 0)) hx hb hts in_X4 hown hK (b_at (k := 0) hP rfl) rfl 0 (by decide) q1807 (fun _ h9 => h9) rfl dX4_goes_22 ?_
          refine lv_iload_n hx hb dX4_goes_25 rfl (lv_at hl 0 rfl) ?_
          refine lv_bipush (v := 6) hx hb dX4_goes_26 (by decide) ?_
          refine b_calli (br := [[(a, moE r i)], [((r 0), .inl (Γ.2.1 0, 523, .inl (moIt moCalve g j)))]]) (b_runS ⟨hx, hb, hml, hown, hts⟩ (mt_Mo_at l Γ _ j 6) (lw_S q1886 q1887 q73 q1888) rfl rfl 2 (by decide +kernel) ⟨(Nat.le_of_ble_eq_true rfl), (Nat.le_of_ble_eq_true rfl)⟩ (c_pre hP hD hS hA hK hE [] rfl rfl ro_nil) rfl hl.1 rfl (Nat.le_of_ble_eq_true rfl) dX4_goes_28 ⟨(Nat.le_of_ble_eq_true rfl), (Nat.le_of_ble_eq_true rfl)⟩) hP hD hS hA [] [0, 1] rfl rfl rfl (fun r_22 u_22 H locs hw_22 hP hD hS _ => ?_)
          obtain ⟨rfl, rfl⟩ := hw_22
          have hP : WP Γ [[(a, moE r i)], [((r 0), .inl (Γ.2.1 0, 523, .inl (moIt moCalve g j)))]] H := hP
          have hD : WD A [[(a, moE r i)], [((r 0), .inl (Γ.2.1 0, 523, .inl (moIt moCalve g j)))]] := hD
          refine b_iald hx hb hK (b_at (k := 1) hP rfl) (10 * j + 21) rfl (by omega) (by omega) dX4_goes_31 ?_
          refine lv_aload_n hx hb dX4_goes_32 rfl (lv_at hl 1 rfl) ?_
          refine b_get (C := RX4) (T := TX4) (N := 16) (v := .ref (r 0)) hx hb hts in_X4 hown hK (b_at (k := 0) hP rfl) rfl 0 (by decide) q1807 (fun _ h9 => h9) rfl dX4_goes_33 ?_
          refine lv_iconst (v := 0) hx hb dX4_goes_36 (by decide) ?_
          refine b_iald hx hb hK (b_at (k := 1) hP rfl) 0 rfl (by omega) (by omega) dX4_goes_37 ?_
          refine lv_icmp_ne (tgt := 94) hx hb dX4_goes_38 (by decide) (fun c_23 => ?_) (fun c_23 => ?_)
          · -- 38 taken
            rw [show (moIt moCalve g j) = (moIt moCalve g (j + 1)) from by simp [moIt, moCalve, d_2, c_21, c_23]] at hP hD
            refine lv_iinc (v := (nI (j + 1))) (lv' := [(1, .int (nI (j + 1))), (0, .ref a)]) hx hb dX4_goes_94 hl (k := 0) rfl (nI_addE (b := 1) rfl rfl (by omega)) (by decide) rfl (fun ls hl => ?_)
            refine lv_goto (tgt := 2) hx hb dX4_goes_97 (by decide) ?_
            exact ih (j + 1) (by omega) (by omega) _ _ _ hP hD hS (lv_sub hl [0, 1] rfl)
          · -- 38 not taken
            refine lv_aload_n hx hb dX4_goes_41 rfl (lv_at hl 1 rfl) ?_
            refine b_get (C := RX4) (T := TX4) (N := 16) (v := .ref (r 0)) hx hb hts in_X4 hown hK (b_at (k := 0) hP rfl) rfl 0 (by decide) q1807 (fun _ h9 => h9) rfl dX4_goes_42 ?_
            refine lv_iload_n hx hb dX4_goes_45 rfl (lv_at hl 0 rfl) ?_
            refine lv_iconst (v := 4) hx hb dX4_goes_46 (by decide) ?_
            refine b_calli (br := [[(a, moE r i)], [((r 0), .inl (Γ.2.1 0, 523, .inl (moIt moCalve g j)))]]) (b_runS ⟨hx, hb, hml, hown, hts⟩ (mt_Mo_at l Γ _ j 4) (lw_S q1886 q1887 q73 q1888) rfl rfl 2 (by decide +kernel) ⟨(Nat.le_of_ble_eq_true rfl), (Nat.le_of_ble_eq_true rfl)⟩ (c_pre hP hD hS hA hK hE [] rfl rfl ro_nil) rfl hl.1 rfl (Nat.le_of_ble_eq_true rfl) dX4_goes_47 ⟨(Nat.le_of_ble_eq_true rfl), (Nat.le_of_ble_eq_true rfl)⟩) hP hD hS hA [] [0, 1] rfl rfl rfl (fun r_24 u_24 H locs hw_24 hP hD hS _ => ?_)
            obtain ⟨rfl, rfl⟩ := hw_24
            have hP : WP Γ [[(a, moE r i)], [((r 0), .inl (Γ.2.1 0, 523, .inl (moIt moCalve g j)))]] H := hP
            have hD : WD A [[(a, moE r i)], [((r 0), .inl (Γ.2.1 0, 523, .inl (moIt moCalve g j)))]] := hD
            refine lv_iconst (v := 1) hx hb dX4_goes_50 (by decide) ?_
            refine b_iast hx hb hK hP hD hS 1 rfl (10 * j + 19) rfl (by omega) (by omega) dX4_goes_51 (fun H locs hP hD hS => ?_)
            have hP : WP Γ [[(a, moE r i)], [((r 0), .inl (Γ.2.1 0, 523, .inl (upd (moIt moCalve g j) (10 * j + 19) 1)))]] H := hP
            have hD : WD A [[(a, moE r i)], [((r 0), .inl (Γ.2.1 0, 523, .inl (upd (moIt moCalve g j) (10 * j + 19) 1)))]] := hD
            refine lv_aload_n hx hb dX4_goes_52 rfl (lv_at hl 1 rfl) ?_
            refine b_get (C := RX4) (T := TX4) (N := 16) (v := .ref (r 0)) hx hb hts in_X4 hown hK (b_at (k := 0) hP rfl) rfl 0 (by decide) q1807 (fun _ h9 => h9) rfl dX4_goes_53 ?_
            refine lv_iload_n hx hb dX4_goes_56 rfl (lv_at hl 0 rfl) ?_
            refine lv_iconst (v := 5) hx hb dX4_goes_57 (by decide) ?_
            refine b_calli (br := [[(a, moE r i)], [((r 0), .inl (Γ.2.1 0, 523, .inl (upd (moIt moCalve g j) (10 * j + 19) 1)))]]) (b_runS ⟨hx, hb, hml, hown, hts⟩ (mt_Mo_at l Γ _ j 5) (lw_S q1886 q1887 q73 q1888) rfl rfl 2 (by decide +kernel) ⟨(Nat.le_of_ble_eq_true rfl), (Nat.le_of_ble_eq_true rfl)⟩ (c_pre hP hD hS hA hK hE [] rfl rfl ro_nil) rfl hl.1 rfl (Nat.le_of_ble_eq_true rfl) dX4_goes_58 ⟨(Nat.le_of_ble_eq_true rfl), (Nat.le_of_ble_eq_true rfl)⟩) hP hD hS hA [] [0, 1] rfl rfl rfl (fun r_25 u_25 H locs hw_25 hP hD hS _ => ?_)
            obtain ⟨rfl, rfl⟩ := hw_25
            have hP : WP Γ [[(a, moE r i)], [((r 0), .inl (Γ.2.1 0, 523, .inl (upd (moIt moCalve g j) (10 * j + 19) 1)))]] H := hP
            have hD : WD A [[(a, moE r i)], [((r 0), .inl (Γ.2.1 0, 523, .inl (upd (moIt moCalve g j) (10 * j + 19) 1)))]] := hD
            refine lv_aload_n hx hb dX4_goes_61 rfl (lv_at hl 1 rfl) ?_
            refine b_get (C := RX4) (T := TX4) (N := 16) (v := .ref (r 0)) hx hb hts in_X4 hown hK (b_at (k := 0) hP rfl) rfl 0 (by decide) q1807 (fun _ h9 => h9) rfl dX4_goes_62 ?_
            refine lv_iconst (v := 0) hx hb dX4_goes_65 (by decide) ?_
            refine b_iald hx hb hK (b_at (k := 1) hP rfl) 0 rfl (by omega) (by omega) dX4_goes_66 ?_
            refine b_top (show (upd (moIt moCalve g j) (10 * j + 19) 1 0) = (moIt moCalve g j 0) from by rw [pk_un (by omega)]) ?_
            refine b_iast hx hb hK hP hD hS 1 rfl (10 * j + 20) rfl (by omega) (by omega) dX4_goes_67 (fun H locs hP hD hS => ?_)
            have hP : WP Γ [[(a, moE r i)], [((r 0), .inl (Γ.2.1 0, 523, .inl (upd (upd (moIt moCalve g j) (10 * j + 19) 1) (10 * j + 20) (moIt moCalve g j 0))))]] H := hP
            have hD : WD A [[(a, moE r i)], [((r 0), .inl (Γ.2.1 0, 523, .inl (upd (upd (moIt moCalve g j) (10 * j + 19) 1) (10 * j + 20) (moIt moCalve g j 0))))]] := hD
            refine lv_aload_n hx hb dX4_goes_68 rfl (lv_at hl 1 rfl) ?_
            refine b_get (C := RX4) (T := TX4) (N := 16) (v := .ref (r 0)) hx hb hts in_X4 hown hK (b_at (k := 0) hP rfl) rfl 0 (by decide) q1807 (fun _ h9 => h9) rfl dX4_goes_69 ?_
            refine lv_iload_n hx hb dX4_goes_72 rfl (lv_at hl 0 rfl) ?_
            refine lv_iconst (v := 3) hx hb dX4_goes_73 (by decide) ?_
            refine b_calli (br := [[(a, moE r i)], [((r 0), .inl (Γ.2.1 0, 523, .inl (upd (upd (moIt moCalve g j) (10 * j + 19) 1) (10 * j + 20) (moIt moCalve g j 0))))]]) (b_runS ⟨hx, hb, hml, hown, hts⟩ (mt_Mo_at l Γ _ j 3) (lw_S q1886 q1887 q73 q1888) rfl rfl 2 (by decide +kernel) ⟨(Nat.le_of_ble_eq_true rfl), (Nat.le_of_ble_eq_true rfl)⟩ (c_pre hP hD hS hA hK hE [] rfl rfl ro_nil) rfl hl.1 rfl (Nat.le_of_ble_eq_true rfl) dX4_goes_74 ⟨(Nat.le_of_ble_eq_true rfl), (Nat.le_of_ble_eq_true rfl)⟩) hP hD hS hA [] [0, 1] rfl rfl rfl (fun r_26 u_26 H locs hw_26 hP hD hS _ => ?_)
            obtain ⟨rfl, rfl⟩ := hw_26
            have hP : WP Γ [[(a, moE r i)], [((r 0), .inl (Γ.2.1 0, 523, .inl (upd (upd (moIt moCalve g j) (10 * j + 19) 1) (10 * j + 20) (moIt moCalve g j 0))))]] H := hP
            have hD : WD A [[(a, moE r i)], [((r 0), .inl (Γ.2.1 0, 523, .inl (upd (upd (moIt moCalve g j) (10 * j + 19) 1) (10 * j + 20) (moIt moCalve g j 0))))]] := hD
            refine lv_dup2_11 hx hb dX4_goes_77 rfl rfl ?_
            refine b_iald hx hb hK (b_at (k := 1) hP rfl) (10 * j + 18) rfl (by omega) (by omega) dX4_goes_78 ?_
            refine b_top (show (upd (upd (moIt moCalve g j) (10 * j + 19) 1) (10 * j + 20) (moIt moCalve g j 0) (10 * j + 18)) = (moIt moCalve g j (10 * j + 18)) from by rw [pk_un (by omega), pk_un (by omega)]) ?_
            refine lv_iconst (v := 1) hx hb dX4_goes_79 (by decide) ?_
            refine lv_iadd hx hb dX4_goes_80 ?_
            refine b_iast hx hb hK hP hD hS 1 rfl (10 * j + 18) rfl (by omega) (by omega) dX4_goes_81 (fun H locs hP hD hS => ?_)
            have hP : WP Γ [[(a, moE r i)], [((r 0), .inl (Γ.2.1 0, 523, .inl (upd (upd (upd (moIt moCalve g j) (10 * j + 19) 1) (10 * j + 20) (moIt moCalve g j 0)) (10 * j + 18) ((moIt moCalve g j (10 * j + 18)) + 1))))]] H := hP
            have hD : WD A [[(a, moE r i)], [((r 0), .inl (Γ.2.1 0, 523, .inl (upd (upd (upd (moIt moCalve g j) (10 * j + 19) 1) (10 * j + 20) (moIt moCalve g j 0)) (10 * j + 18) ((moIt moCalve g j (10 * j + 18)) + 1))))]] := hD
            refine lv_aload_n hx hb dX4_goes_82 rfl (lv_at hl 1 rfl) ?_
            refine b_get (C := RX4) (T := TX4) (N := 16) (v := .ref (r 0)) hx hb hts in_X4 hown hK (b_at (k := 0) hP rfl) rfl 0 (by decide) q1807 (fun _ h9 => h9) rfl dX4_goes_83 ?_
            refine lv_iload_n hx hb dX4_goes_86 rfl (lv_at hl 0 rfl) ?_
            refine lv_bipush (v := 6) hx hb dX4_goes_87 (by decide) ?_
            refine b_calli (br := [[(a, moE r i)], [((r 0), .inl (Γ.2.1 0, 523, .inl (upd (upd (upd (moIt moCalve g j) (10 * j + 19) 1) (10 * j + 20) (moIt moCalve g j 0)) (10 * j + 18) ((moIt moCalve g j (10 * j + 18)) + 1))))]]) (b_runS ⟨hx, hb, hml, hown, hts⟩ (mt_Mo_at l Γ _ j 6) (lw_S q1886 q1887 q73 q1888) rfl rfl 2 (by decide +kernel) ⟨(Nat.le_of_ble_eq_true rfl), (Nat.le_of_ble_eq_true rfl)⟩ (c_pre hP hD hS hA hK hE [] rfl rfl ro_nil) rfl hl.1 rfl (Nat.le_of_ble_eq_true rfl) dX4_goes_89 ⟨(Nat.le_of_ble_eq_true rfl), (Nat.le_of_ble_eq_true rfl)⟩) hP hD hS hA [] [0, 1] rfl rfl rfl (fun r_27 u_27 H locs hw_27 hP hD hS _ => ?_)
            obtain ⟨rfl, rfl⟩ := hw_27
            have hP : WP Γ [[(a, moE r i)], [((r 0), .inl (Γ.2.1 0, 523, .inl (upd (upd (upd (moIt moCalve g j) (10 * j + 19) 1) (10 * j + 20) (moIt moCalve g j 0)) (10 * j + 18) ((moIt moCalve g j (10 * j + 18)) + 1))))]] H := hP
            have hD : WD A [[(a, moE r i)], [((r 0), .inl (Γ.2.1 0, 523, .inl (upd (upd (upd (moIt moCalve g j) (10 * j + 19) 1) (10 * j + 20) (moIt moCalve g j 0)) (10 * j + 18) ((moIt moCalve g j (10 * j + 18)) + 1))))]] := hD
            refine lv_iconst (v := (-1)) hx hb dX4_goes_92 (by decide) ?_
            refine b_iast hx hb hK hP hD hS 1 rfl (10 * j + 21) rfl (by omega) (by omega) dX4_goes_93 (fun H locs hP hD hS => ?_)
            have hP : WP Γ [[(a, moE r i)], [((r 0), .inl (Γ.2.1 0, 523, .inl (upd (upd (upd (upd (moIt moCalve g j) (10 * j + 19) 1) (10 * j + 20) (moIt moCalve g j 0)) (10 * j + 18) ((moIt moCalve g j (10 * j + 18)) + 1)) (10 * j + 21) (-1))))]] H := hP
            have hD : WD A [[(a, moE r i)], [((r 0), .inl (Γ.2.1 0, 523, .inl (upd (upd (upd (upd (moIt moCalve g j) (10 * j + 19) 1) (10 * j + 20) (moIt moCalve g j 0)) (10 * j + 18) ((moIt moCalve g j (10 * j + 18)) + 1)) (10 * j + 21) (-1))))]] := hD
            rw [show (upd (upd (upd (upd (moIt moCalve g j) (10 * j + 19) 1) (10 * j + 20) (moIt moCalve g j 0)) (10 * j + 18) ((moIt moCalve g j (10 * j + 18)) + 1)) (10 * j + 21) (-1)) = (moIt moCalve g (j + 1)) from by simp [moIt, moCalve, d_2, c_21, c_23]] at hP hD
            refine lv_iinc (v := (nI (j + 1))) (lv' := [(1, .int (nI (j + 1))), (0, .ref a)]) hx hb dX4_goes_94 hl (k := 0) rfl (nI_addE (b := 1) rfl rfl (by omega)) (by decide) rfl (fun ls hl => ?_)
            refine lv_goto (tgt := 2) hx hb dX4_goes_97 (by decide) ?_
            exact ih (j + 1) (by omega) (by omega) _ _ _ hP hD hS (lv_sub hl [0, 1] rfl)
  exact loop_1 ((n - 0) + 1) 0 (Nat.lt_succ_self _) (Nat.zero_le _) _ _ _ hP hD hS (lv_sub hl [0, 1] rfl)
def moN (g : Nat → Int32) (q : Nat) : Nat := (g q).toNatClampNeg
def moDayG (g : Nat → Int32) : Nat → Int32 := moDay g (moN g 7) (moN g 11) (moN g 10) (moN g 5)
def moDays (g : Nat → Int32) : Nat → (Nat → Int32)
  | 0 => g
  | d + 1 => moDayG (moDays g d)
/-- what a day asks of the row -/
def moDok (g : Nat → Int32) : Prop := (g 7 = nI (moN g 7) ∧ moN g 7 ≤ 8) ∧ (g 11 = nI (moN g 11) ∧ moN g 11 ≤ 60) ∧ (g 10 = nI (moN g 10) ∧ moN g 10 ≤ 4) ∧ (g 5 = nI (moN g 5) ∧ moN g 5 ≤ 6) ∧ ¬ g 3 = 0 ∧ (0 < moHerdDay g (moN g 7) 8 → ¬ moWinL (moPk2 (moPk1 (moHerdDay g (moN g 7)) (moN g 11)) (moM1 (moN g 11))) (moM1 (moN g 11) + 1) (moN g 5) = 0)
set_option maxHeartbeats 4000000 in
set_option maxRecDepth 100000 in
theorem mt_Mo_passes (l : Launch) (Γ : GE) (sz : Nat) (a : Nat) (r : Nat → Nat) (i : Nat → Int32) (g : Nat → Int32) (d : Nat) (hd : d < 1000) (hDd : ∀ k, k < d → moDok (moDays g k)) : KM l yX4_passes cX4_passes 4 (some FieldType.int) Γ 4 91 0 0 [.ref a, .int (nI d)] [[(a, moE r i)], [((r 0), .inl (Γ.2.1 0, 523, .inl g))]] [] sz (Qi Γ (fun r_ u_ => r_ = (moDays g d 12 - g 12) ∧ u_ = [[(a, moE r i)], [((r 0), .inl (Γ.2.1 0, 523, .inl (moDays g d)))]])) := by
  refine K_intro (by decide) (Nat.le_of_ble_eq_true rfl) ?_
  intro pr_ ev_ s mi_ below meth cd_ A ls hx hb hr hml hown hts hlocks hname hK hE hRo hP hD hA hS hsz hl
  have hl : lv_has ls 4 [(0, .ref a), (1, .int (nI d))] := hl
  have hown : s.vm.findClass RX4 = some mi_.cls := hown
  have hD9 := hDd
  refine lv_aload_n hx hb dX4_passes_0 rfl (lv_at hl 0 rfl) ?_
  refine b_get (C := RX4) (T := TX4) (N := 16) (v := .ref (r 0)) hx hb hts in_X4 hown hK (b_at (k := 0) hP rfl) rfl 0 (by decide) q1807 (fun _ h9 => h9) rfl dX4_passes_1 ?_
  refine lv_bipush (v := 12) hx hb dX4_passes_4 (by decide) ?_
  refine b_iald hx hb hK (b_at (k := 1) hP rfl) 12 rfl (by omega) (by omega) dX4_passes_6 ?_
  refine lv_istore_n (lv' := [(2, .int (g 12)), (0, .ref a), (1, .int (nI d))]) hx hb dX4_passes_7 rfl hl (by decide) rfl (fun ls hl => ?_)
  refine lv_iconst (v := 0) hx hb dX4_passes_8 (by decide) ?_
  refine lv_istore_n (lv' := [(3, .int 0), (2, .int (g 12)), (0, .ref a), (1, .int (nI d))]) hx hb dX4_passes_9 rfl hl (by decide) rfl (fun ls hl => ?_)
  rw [show g = (moDays g 0) from rfl] at hP hD
  have loop_1 : ∀ (fuel : Nat) (j : Nat), d - j < fuel → (j ≤ d) → ∀ (H : Heap) (locs : List Loc) (ls : Array Slot), WP Γ [[(a, moE r i)], [((r 0), .inl (Γ.2.1 0, 523, .inl (moDays g j)))]] H → WD A [[(a, moE r i)], [((r 0), .inl (Γ.2.1 0, 523, .inl (moDays g j)))]] → va_S A s.heap H locs → lv_has ls 4 [(3, .int (nI j)), (2, .int (g 12)), (0, .ref a), (1, .int (nI d))] → W pr_ l ev_ { frames := 4, cells := 0, slots := 0, locals := 91 } s mi_ ([.ref a, .int (nI d)] : List Value).toArray below meth cd_ H locs 0 0 (MQ below (Qi Γ (fun r_ u_ => r_ = (moDays g d 12 - g 12) ∧ u_ = [[(a, moE r i)], [((r 0), .inl (Γ.2.1 0, 523, .inl (moDays g d)))]]) A) ([.ref a, .int (nI d)] : List Value).toArray s 0 0 A) (F0 mi_ 10 ls ([])) := by
    intro fuel
    induction fuel with
    | zero => intro j hfuel; exact absurd hfuel (Nat.not_lt_zero _)
    | succ fuel ih =>
      intro j hfuel hj H locs ls hP hD hS hl
      refine lv_iload_n hx hb dX4_passes_10 rfl (lv_at hl 0 rfl) ?_
      refine lv_iload_n hx hb dX4_passes_11 rfl (lv_at hl 3 rfl) ?_
      refine lv_icmp_ge (tgt := 25) hx hb dX4_passes_12 (by decide) (fun c_2 => ?_) (fun c_2 => ?_)
      · -- 12 taken
        have n_2 : d ≤ j := (nI_leI (by omega) (by omega)).mp (show nI d ≤ nI j from c_2)
        have d_2 := Int32.not_lt.mpr c_2
        have ej : j = d := by omega
        rw [ej] at hP hD
        refine lv_aload_n hx hb dX4_passes_25 rfl (lv_at hl 2 rfl) ?_
        refine b_get (C := RX4) (T := TX4) (N := 16) (v := .ref (r 0)) hx hb hts in_X4 hown hK (b_at (k := 0) hP rfl) rfl 0 (by decide) q1807 (fun _ h9 => h9) rfl dX4_passes_26 ?_
        refine lv_bipush (v := 12) hx hb dX4_passes_29 (by decide) ?_
        refine b_iald hx hb hK (b_at (k := 1) hP rfl) 12 rfl (by omega) (by omega) dX4_passes_31 ?_
        refine lv_iload_n hx hb dX4_passes_32 rfl (lv_at hl 1 rfl) ?_
        refine lv_isub hx hb dX4_passes_33 ?_
        exact b_iret hx hb hr hlocks hP hD hS (Nat.le_of_ble_eq_true rfl) (Nat.le_of_ble_eq_true rfl) ⟨(by first | with_reducible rfl | (simp [n_2, d_2]; done) | rfl), (by first | with_reducible rfl | (simp [n_2, d_2]; done) | rfl)⟩ dX4_passes_34
      · -- 12 not taken
        have n_2 : ¬ (d ≤ j) := fun h => c_2 ((nI_leI (a := d) (b := j) (by omega) (by omega)).mpr h)
        have d_2 := Int32.not_le.mp c_2
        obtain ⟨⟨k1, k2⟩, ⟨k3, k4⟩, ⟨k5, k6⟩, ⟨k7, k8⟩, k9, k10⟩ := hD9 j (by omega)
        refine lv_aload_n hx hb dX4_passes_15 rfl (lv_at hl 2 rfl) ?_
        refine b_callv (br := []) (b_runV ⟨hx, hb, hml, hown, hts⟩ (mt_Mo_goes l Γ _ a r i (moDays g j) (moN (moDays g j) 7) (moN (moDays g j) 11) (moN (moDays g j) 10) (moN (moDays g j) 5) k1 k2 k3 k4 k5 k6 k7 k8 k9 k10) (lw_V q1988 q1990 qs45 q73 q1991) rfl rfl 0 (by decide +kernel) ⟨(Nat.le_of_ble_eq_true rfl), (Nat.le_of_ble_eq_true rfl)⟩ (c_pre hP hD hS hA hK hE [0, 1] rfl rfl ro_nil) (recv_at (q := (RX4, TX4, 16)) hK (b_at (k := 0) hP rfl) rfl) rfl hl.1 rfl (Nat.le_of_ble_eq_true rfl) dX4_passes_16 ⟨(Nat.le_of_ble_eq_true rfl), (Nat.le_of_ble_eq_true rfl)⟩) hP hD hS hA [0, 1] [] rfl rfl rfl (fun u_3 H locs hw_3 hP hD hS _ => ?_)
        obtain rfl := hw_3
        have hP : WP Γ [[(a, moE r i)], [((r 0), .inl (Γ.2.1 0, 523, .inl (moDay (moDays g j) (moN (moDays g j) 7) (moN (moDays g j) 11) (moN (moDays g j) 10) (moN (moDays g j) 5))))]] H := hP
        have hD : WD A [[(a, moE r i)], [((r 0), .inl (Γ.2.1 0, 523, .inl (moDay (moDays g j) (moN (moDays g j) 7) (moN (moDays g j) 11) (moN (moDays g j) 10) (moN (moDays g j) 5))))]] := hD
        rw [show (moDay (moDays g j) (moN (moDays g j) 7) (moN (moDays g j) 11) (moN (moDays g j) 10) (moN (moDays g j) 5)) = (moDays g (j + 1)) from rfl] at hP hD
        refine lv_iinc (v := (nI (j + 1))) (lv' := [(3, .int (nI (j + 1))), (2, .int (g 12)), (0, .ref a), (1, .int (nI d))]) hx hb dX4_passes_19 hl (k := 0) rfl (nI_addE (b := 1) rfl rfl (by omega)) (by decide) rfl (fun ls hl => ?_)
        refine lv_goto (tgt := 10) hx hb dX4_passes_22 (by decide) ?_
        exact ih (j + 1) (by omega) (by omega) _ _ _ hP hD hS (lv_sub hl [0, 1, 2, 3] rfl)
  exact loop_1 ((d - 0) + 1) 0 (Nat.lt_succ_self _) (Nat.zero_le _) _ _ _ hP hD hS (lv_sub hl [0, 1, 2, 3] rfl)
