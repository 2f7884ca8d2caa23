/-! LEAVES: Tank, Row, Pickup, Cow -/
def tkRoom (li cap : Int32) : Int32 := if 0 < cap - li then cap - li else 0
def tkFill (li cap more : Int32) : Int32 := if tkRoom li cap < more then tkRoom li cap else more
def tkCount (li ce : Int32) : Int32 := if li = 0 then 0 else ce / li
set_option maxHeartbeats 4000000 in
set_option maxRecDepth 100000 in
theorem mt_Tank_init (l : Launch) (Γ : GE) (sz : Nat) (a : Nat)  : KM l yX3_init cX3_init 1 none Γ 1 30 0 0 [.ref a] [[(a, .inr (2, [.int 0, .int 0]))]] [] sz (Qv Γ (fun u_ => u_ = [[(a, .inr (2, [.int 0, .int 0]))]])) := by
  refine K_intro (by decide) (Nat.le_of_ble_eq_true rfl) ?_
  intro pr_ ev_ s mi_ below meth cd_ A ls hx hb hr hml hown hts hlocks hname hK hE hRo hP hD hA hS hsz hl
  have hl : lv_has ls 1 [(0, .ref a)] := hl
  have hown : s.vm.findClass RX3 = some mi_.cls := hown
  refine lv_aload_n hx hb dX3_init_0 rfl (lv_at hl 0 rfl) ?_
  refine W.objInit hx hb hown (hts _ q151) (hts _ q109) (hts _ q110) rfl (by rw [hml]; exact hl.1) rfl dX3_init_1 (Nat.le_of_ble_eq_true rfl) (Nat.le_of_ble_eq_true rfl) ?_
  refine W.eq (g2 := F0 mi_ 4 ls ([])) rfl ?_
  exact b_vret hx hb hr hlocks hP hD hS (Nat.le_of_ble_eq_true rfl) (Nat.le_of_ble_eq_true rfl) (by first | rfl | (simp; done)) dX3_init_4
set_option maxHeartbeats 4000000 in
set_option maxRecDepth 100000 in
theorem mt_Tank_room (l : Launch) (Γ : GE) (sz : Nat) (a : Nat) (li : Int32) (ce : Int32) (cap : Int32)  : KM l yX3_room cX3_room 2 (some FieldType.int) Γ 1 30 0 0 [.ref a, .int cap] [[(a, .inr (2, [.int li, .int ce]))]] [] sz (Qi Γ (fun r_ u_ => r_ = (tkRoom li cap) ∧ u_ = [[(a, .inr (2, [.int li, .int ce]))]])) := by
  refine K_intro (by decide) (Nat.le_of_ble_eq_true rfl) ?_
  intro pr_ ev_ s mi_ below meth cd_ A ls hx hb hr hml hown hts hlocks hname hK hE hRo hP hD hA hS hsz hl
  have hl : lv_has ls 2 [(0, .ref a), (1, .int cap)] := hl
  have hown : s.vm.findClass RX3 = some mi_.cls := hown
  refine lv_iconst (v := 0) hx hb dX3_room_0 (by decide) ?_
  refine lv_iload_n hx hb dX3_room_1 rfl (lv_at hl 1 rfl) ?_
  refine lv_aload_n hx hb dX3_room_2 rfl (lv_at hl 0 rfl) ?_
  refine b_get (C := RX3) (T := TX3) (N := 2) (v := .int li) hx hb hts in_X3 hown hK (b_at (k := 0) hP rfl) rfl 0 (by decide) q152 (fun _ h9 => h9) rfl dX3_room_3 ?_
  refine lv_isub hx hb dX3_room_6 ?_
  refine va_mmax hx hb (hml.trans hl.1.symm) hown (hts _ q1231) (hts _ q493) (hts _ q83) (hts _ q494) (Nat.le_of_ble_eq_true rfl) (Nat.le_of_ble_eq_true rfl) (Nat.le_of_ble_eq_true rfl) (Nat.le_of_ble_eq_true rfl) dX3_room_7 ?_
  exact b_iret hx hb hr hlocks hP hD hS (Nat.le_of_ble_eq_true rfl) (Nat.le_of_ble_eq_true rfl) ⟨(by first | with_reducible rfl | (simp [tkRoom]; done) | rfl), (by first | with_reducible rfl | (simp [tkRoom]; done) | rfl)⟩ dX3_room_10
set_option maxHeartbeats 4000000 in
set_option maxRecDepth 100000 in
theorem mt_Tank_fill (l : Launch) (Γ : GE) (sz : Nat) (a : Nat) (li : Int32) (ce : Int32) (more : Int32) (count : Int32) (cap : Int32)  : KM l yX3_fill cX3_fill 5 (some FieldType.int) Γ 2 51 0 0 [.ref a, .int more, .int count, .int cap] [[(a, .inr (2, [.int li, .int ce]))]] [] sz (Qi Γ (fun r_ u_ => r_ = (tkFill li cap more) ∧ u_ = [[(a, .inr (2, [.int (li + tkFill li cap more), .int (ce + (tkFill li cap more) * count)]))]])) := by
  refine K_intro (by decide) (Nat.le_of_ble_eq_true rfl) ?_
  intro pr_ ev_ s mi_ below meth cd_ A ls hx hb hr hml hown hts hlocks hname hK hE hRo hP hD hA hS hsz hl
  have hl : lv_has ls 5 [(0, .ref a), (1, .int more), (2, .int count), (3, .int cap)] := hl
  have hown : s.vm.findClass RX3 = some mi_.cls := hown
  refine lv_iload_n hx hb dX3_fill_0 rfl (lv_at hl 1 rfl) ?_
  refine lv_aload_n hx hb dX3_fill_1 rfl (lv_at hl 0 rfl) ?_
  refine lv_iload_n hx hb dX3_fill_2 rfl (lv_at hl 3 rfl) ?_
  refine b_calli (br := []) (b_runV ⟨hx, hb, hml, hown, hts⟩ (mt_Tank_room l Γ _ a li ce cap) (lw_V q1227 q1228 q1229 q67 q1230) rfl rfl 1 (by decide +kernel) ⟨(Nat.le_of_ble_eq_true rfl), (Nat.le_of_ble_eq_true rfl)⟩ (c_pre hP hD hS hA hK hE [0] rfl rfl ro_nil) (recv_at (q := (RX3, TX3, 2)) hK (b_at (k := 0) hP rfl) rfl) rfl hl.1 rfl (Nat.le_of_ble_eq_true rfl) dX3_fill_3 ⟨(Nat.le_of_ble_eq_true rfl), (Nat.le_of_ble_eq_true rfl)⟩) hP hD hS hA [0] [] rfl rfl rfl (fun r_1 u_1 H locs hw_1 hP hD hS _ => ?_)
  obtain ⟨rfl, rfl⟩ := hw_1
  have hP : WP Γ [[(a, .inr (2, [.int li, .int ce]))]] H := hP
  have hD : WD A [[(a, .inr (2, [.int li, .int ce]))]] := hD
  refine va_mmin hx hb (hml.trans hl.1.symm) hown (hts _ q1232) (hts _ q537) (hts _ q83) (hts _ q538) (Nat.le_of_ble_eq_true rfl) (Nat.le_of_ble_eq_true rfl) (Nat.le_of_ble_eq_true rfl) (Nat.le_of_ble_eq_true rfl) dX3_fill_6 ?_
  refine lv_istore (lv' := [(4, .int (if (tkRoom li cap) < more then (tkRoom li cap) else more)), (0, .ref a), (1, .int more), (2, .int count), (3, .int cap)]) hx hb dX3_fill_9 hl (by decide) rfl (fun ls hl => ?_)
  refine lv_aload_n hx hb dX3_fill_11 rfl (lv_at hl 1 rfl) ?_
  refine lv_dup hx hb dX3_fill_12 rfl ?_
  refine b_get (C := RX3) (T := TX3) (N := 2) (v := .int li) hx hb hts in_X3 hown hK (b_at (k := 0) hP rfl) rfl 0 (by decide) q152 (fun _ h9 => h9) rfl dX3_fill_13 ?_
  refine lv_iload hx hb dX3_fill_16 (lv_at hl 0 rfl) ?_
  refine lv_iadd hx hb dX3_fill_18 ?_
  refine b_put (C := RX3) (T := TX3) (N := 2) (ty := .int) (v := .int (li + (if (tkRoom li cap) < more then (tkRoom li cap) else more))) hx hb hts in_X3 tyX3_ok nmX3 hown hK hP hD hS 0 rfl rfl 0 (by decide) q152 (fun _ h9 => h9) rfl (by decide +kernel) rfl rfl (Nat.le_of_ble_eq_true rfl) dX3_fill_19 (fun H locs hP hD hS => ?_)
  have hP : WP Γ [[(a, .inr (2, [.int (li + (if (tkRoom li cap) < more then (tkRoom li cap) else more)), .int ce]))]] H := hP
  have hD : WD A [[(a, .inr (2, [.int (li + (if (tkRoom li cap) < more then (tkRoom li cap) else more)), .int ce]))]] := hD
  refine lv_aload_n hx hb dX3_fill_22 rfl (lv_at hl 1 rfl) ?_
  refine lv_dup hx hb dX3_fill_23 rfl ?_
  refine b_get (C := RX3) (T := TX3) (N := 2) (v := .int ce) hx hb hts in_X3 hown hK (b_at (k := 0) hP rfl) rfl 1 (by decide) q155 (fun _ h9 => h9) rfl dX3_fill_24 ?_
  refine lv_iload hx hb dX3_fill_27 (lv_at hl 0 rfl) ?_
  refine lv_iload_n hx hb dX3_fill_29 rfl (lv_at hl 3 rfl) ?_
  refine lv_imul hx hb dX3_fill_30 ?_
  refine lv_iadd hx hb dX3_fill_31 ?_
  refine b_put (C := RX3) (T := TX3) (N := 2) (ty := .int) (v := .int (ce + ((if (tkRoom li cap) < more then (tkRoom li cap) else more) * count))) hx hb hts in_X3 tyX3_ok nmX3 hown hK hP hD hS 0 rfl rfl 1 (by decide) q155 (fun _ h9 => h9) rfl (by decide +kernel) rfl rfl (Nat.le_of_ble_eq_true rfl) dX3_fill_32 (fun H locs hP hD hS => ?_)
  have hP : WP Γ [[(a, .inr (2, [.int (li + (if (tkRoom li cap) < more then (tkRoom li cap) else more)), .int (ce + ((if (tkRoom li cap) < more then (tkRoom li cap) else more) * count))]))]] H := hP
  have hD : WD A [[(a, .inr (2, [.int (li + (if (tkRoom li cap) < more then (tkRoom li cap) else more)), .int (ce + ((if (tkRoom li cap) < more then (tkRoom li cap) else more) * count))]))]] := hD
  refine lv_iload hx hb dX3_fill_35 (lv_at hl 0 rfl) ?_
  exact b_iret hx hb hr hlocks hP hD hS (Nat.le_of_ble_eq_true rfl) (Nat.le_of_ble_eq_true rfl) ⟨(by first | with_reducible rfl | (simp [tkFill]; done) | rfl), (by first | with_reducible rfl | (simp [tkFill]; done) | rfl)⟩ dX3_fill_37
set_option maxHeartbeats 4000000 in
set_option maxRecDepth 100000 in
theorem mt_Tank_count (l : Launch) (Γ : GE) (sz : Nat) (a : Nat) (li : Int32) (ce : Int32)  : KM l yX3_count cX3_count 1 (some FieldType.int) Γ 0 0 0 0 [.ref a] [[(a, .inr (2, [.int li, .int ce]))]] [] sz (Qi Γ (fun r_ u_ => r_ = (tkCount li ce) ∧ u_ = [[(a, .inr (2, [.int li, .int ce]))]])) := by
  refine K_intro (by decide) (Nat.le_of_ble_eq_true rfl) ?_
  intro pr_ ev_ s mi_ below meth cd_ A ls hx hb hr hml hown hts hlocks hname hK hE hRo hP hD hA hS hsz hl
  have hl : lv_has ls 1 [(0, .ref a)] := hl
  have hown : s.vm.findClass RX3 = some mi_.cls := hown
  refine lv_aload_n hx hb dX3_count_0 rfl (lv_at hl 0 rfl) ?_
  refine b_get (C := RX3) (T := TX3) (N := 2) (v := .int li) hx hb hts in_X3 hown hK (b_at (k := 0) hP rfl) rfl 0 (by decide) q152 (fun _ h9 => h9) rfl dX3_count_1 ?_
  refine lv_if_ne (tgt := 11) hx hb dX3_count_4 (by decide) (fun c_1 => ?_) (fun c_1 => ?_)
  · -- 4 taken
    refine lv_aload_n hx hb dX3_count_11 rfl (lv_at hl 0 rfl) ?_
    refine b_get (C := RX3) (T := TX3) (N := 2) (v := .int ce) hx hb hts in_X3 hown hK (b_at (k := 0) hP rfl) rfl 1 (by decide) q155 (fun _ h9 => h9) rfl dX3_count_12 ?_
    refine lv_aload_n hx hb dX3_count_15 rfl (lv_at hl 0 rfl) ?_
    refine b_get (C := RX3) (T := TX3) (N := 2) (v := .int li) hx hb hts in_X3 hown hK (b_at (k := 0) hP rfl) rfl 0 (by decide) q152 (fun _ h9 => h9) rfl dX3_count_16 ?_
    refine lv_idiv hx hb dX3_count_19 (c_1) ?_
    exact b_iret hx hb hr hlocks hP hD hS (Nat.le_of_ble_eq_true rfl) (Nat.le_of_ble_eq_true rfl) ⟨(by first | with_reducible rfl | (simp [tkCount, c_1]; done) | rfl), (by first | with_reducible rfl | (simp [tkCount, c_1]; done) | rfl)⟩ dX3_count_20
  · -- 4 not taken
    subst c_1
    refine lv_iconst (v := 0) hx hb dX3_count_7 (by decide) ?_
    refine lv_goto (tgt := 20) hx hb dX3_count_8 (by decide) ?_
    exact b_iret hx hb hr hlocks hP hD hS (Nat.le_of_ble_eq_true rfl) (Nat.le_of_ble_eq_true rfl) ⟨(by first | with_reducible rfl | (simp [tkCount]; done) | rfl), (by first | with_reducible rfl | (simp [tkCount]; done) | rfl)⟩ dX3_count_20
set_option maxHeartbeats 4000000 in
set_option maxRecDepth 100000 in
theorem mt_Tank_take (l : Launch) (Γ : GE) (sz : Nat) (a : Nat) (li : Int32) (ce : Int32) (b : Nat) (l2 : Int32) (c2 : Int32)  : KM l yX3_take cX3_take 2 none Γ 0 0 0 0 [.ref a, .ref b] [[(a, .inr (2, [.int li, .int ce]))], [(b, .inr (2, [.int l2, .int c2]))]] [] sz (Qv Γ (fun u_ => u_ = [[(a, .inr (2, [.int l2, .int c2]))], [(b, .inr (2, [.int l2, .int c2]))]])) := by
  refine K_intro (by decide) (Nat.le_of_ble_eq_true rfl) ?_
  intro pr_ ev_ s mi_ below meth cd_ A ls hx hb hr hml hown hts hlocks hname hK hE hRo hP hD hA hS hsz hl
  have hl : lv_has ls 2 [(0, .ref a), (1, .ref b)] := hl
  have hown : s.vm.findClass RX3 = some mi_.cls := hown
  refine lv_aload_n hx hb dX3_take_0 rfl (lv_at hl 0 rfl) ?_
  refine lv_aload_n hx hb dX3_take_1 rfl (lv_at hl 1 rfl) ?_
  refine b_get (C := RX3) (T := TX3) (N := 2) (v := .int l2) hx hb hts in_X3 hown hK (b_at (k := 1) hP rfl) rfl 0 (by decide) q152 (fun _ h9 => h9) rfl dX3_take_2 ?_
  refine b_put (C := RX3) (T := TX3) (N := 2) (ty := .int) (v := .int l2) hx hb hts in_X3 tyX3_ok nmX3 hown hK hP hD hS 0 rfl rfl 0 (by decide) q152 (fun _ h9 => h9) rfl (by decide +kernel) rfl rfl (Nat.le_of_ble_eq_true rfl) dX3_take_5 (fun H locs hP hD hS => ?_)
  have hP : WP Γ [[(a, .inr (2, [.int l2, .int ce]))], [(b, .inr (2, [.int l2, .int c2]))]] H := hP
  have hD : WD A [[(a, .inr (2, [.int l2, .int ce]))], [(b, .inr (2, [.int l2, .int c2]))]] := hD
  refine lv_aload_n hx hb dX3_take_8 rfl (lv_at hl 0 rfl) ?_
  refine lv_aload_n hx hb dX3_take_9 rfl (lv_at hl 1 rfl) ?_
  refine b_get (C := RX3) (T := TX3) (N := 2) (v := .int c2) hx hb hts in_X3 hown hK (b_at (k := 1) hP rfl) rfl 1 (by decide) q155 (fun _ h9 => h9) rfl dX3_take_10 ?_
  refine b_put (C := RX3) (T := TX3) (N := 2) (ty := .int) (v := .int c2) hx hb hts in_X3 tyX3_ok nmX3 hown hK hP hD hS 0 rfl rfl 1 (by decide) q155 (fun _ h9 => h9) rfl (by decide +kernel) rfl rfl (Nat.le_of_ble_eq_true rfl) dX3_take_13 (fun H locs hP hD hS => ?_)
  have hP : WP Γ [[(a, .inr (2, [.int l2, .int c2]))], [(b, .inr (2, [.int l2, .int c2]))]] H := hP
  have hD : WD A [[(a, .inr (2, [.int l2, .int c2]))], [(b, .inr (2, [.int l2, .int c2]))]] := hD
  exact b_vret hx hb hr hlocks hP hD hS (Nat.le_of_ble_eq_true rfl) (Nat.le_of_ble_eq_true rfl) (by first | rfl | (simp; done)) dX3_take_16
set_option maxHeartbeats 4000000 in
set_option maxRecDepth 100000 in
theorem mt_Row_init (l : Launch) (Γ : GE) (sz : Nat) (a : Nat) (li : Int32) (bo : Int32)  : KM l yX6_init cX6_init 3 none Γ 1 30 0 0 [.ref a, .int li, .int bo] [[(a, .inr (5, [.int 0, .int 0]))]] [] sz (Qv Γ (fun u_ => u_ = [[(a, .inr (5, [.int li, .int bo]))]])) := by
  refine K_intro (by decide) (Nat.le_of_ble_eq_true rfl) ?_
  intro pr_ ev_ s mi_ below meth cd_ A ls hx hb hr hml hown hts hlocks hname hK hE hRo hP hD hA hS hsz hl
  have hl : lv_has ls 3 [(0, .ref a), (1, .int li), (2, .int bo)] := hl
  have hown : s.vm.findClass RX6 = some mi_.cls := hown
  refine lv_aload_n hx hb dX6_init_0 rfl (lv_at hl 0 rfl) ?_
  refine W.objInit hx hb hown (hts _ q1119) (hts _ q109) (hts _ q110) rfl (by rw [hml]; exact hl.1) rfl dX6_init_1 (Nat.le_of_ble_eq_true rfl) (Nat.le_of_ble_eq_true rfl) ?_
  refine W.eq (g2 := F0 mi_ 4 ls ([])) rfl ?_
  refine lv_aload_n hx hb dX6_init_4 rfl (lv_at hl 0 rfl) ?_
  refine lv_iload_n hx hb dX6_init_5 rfl (lv_at hl 1 rfl) ?_
  refine b_putF (C := RX6) (T := TX6) (N := 2) (ty := .int) (v := .int li) hx hb hts in_X6 tyX6_ok nmX6 hown hK hP hD hS 0 rfl rfl 0 (by decide) q1120 (fun _ h9 => h9) rfl hname rfl rfl (by decide +kernel) rfl rfl (Nat.le_of_ble_eq_true rfl) dX6_init_6 (fun H locs hP hD hS => ?_)
  have hP : WP Γ [[(a, .inr (5, [.int li, .int 0]))]] H := hP
  have hD : WD A [[(a, .inr (5, [.int li, .int 0]))]] := hD
  refine lv_aload_n hx hb dX6_init_9 rfl (lv_at hl 0 rfl) ?_
  refine lv_iload_n hx hb dX6_init_10 rfl (lv_at hl 2 rfl) ?_
  refine b_putF (C := RX6) (T := TX6) (N := 2) (ty := .int) (v := .int bo) hx hb hts in_X6 tyX6_ok nmX6 hown hK hP hD hS 0 rfl rfl 1 (by decide) q1123 (fun _ h9 => h9) rfl hname rfl rfl (by decide +kernel) rfl rfl (Nat.le_of_ble_eq_true rfl) dX6_init_11 (fun H locs hP hD hS => ?_)
  have hP : WP Γ [[(a, .inr (5, [.int li, .int bo]))]] H := hP
  have hD : WD A [[(a, .inr (5, [.int li, .int bo]))]] := hD
  exact b_vret hx hb hr hlocks hP hD hS (Nat.le_of_ble_eq_true rfl) (Nat.le_of_ble_eq_true rfl) (by first | rfl | (simp; done)) dX6_init_14
def pickNew (d l c : Int32) : Nat → Int32 := fun k => match k with
  | 0 => d
  | 1 => l
  | 2 => c
  | _ => 0
def pickSettle (c : Nat → Int32) (m x p : Int32) : Nat → Int32 := upd (upd (upd c 3 m) 4 x) 5 ((p + x) * c 1)
def pickTold (c : Nat → Int32) (w : Int32) : Int32 := if w = 0 then c 0 else if w = 1 then c 1 else if w = 2 then c 2 else if w = 3 then c 2 / c 1 else if w = 4 then c 3 else if w = 5 then c 4 else c 5
set_option maxHeartbeats 4000000 in
set_option maxRecDepth 100000 in
theorem mt_Pickup_init (l : Launch) (Γ : GE) (sz : Nat) (a : Nat) (d : Int32) (li : Int32) (ce : Int32)  : KM l yX7_init cX7_init 4 none Γ 1 30 0 0 [.ref a, .int d, .int li, .int ce] [[(a, .inr (6, [.int 0, .int 0, .int 0, .int 0, .int 0, .int 0]))]] [] sz (Qv Γ (fun u_ => u_ = [[(a, pickE (pickNew d li ce))]])) := by
  refine K_intro (by decide) (Nat.le_of_ble_eq_true rfl) ?_
  intro pr_ ev_ s mi_ below meth cd_ A ls hx hb hr hml hown hts hlocks hname hK hE hRo hP hD hA hS hsz hl
  have hl : lv_has ls 4 [(0, .ref a), (1, .int d), (2, .int li), (3, .int ce)] := hl
  have hown : s.vm.findClass RX7 = some mi_.cls := hown
  refine lv_aload_n hx hb dX7_init_0 rfl (lv_at hl 0 rfl) ?_
  refine W.objInit hx hb hown (hts _ q1242) (hts _ q109) (hts _ q110) rfl (by rw [hml]; exact hl.1) rfl dX7_init_1 (Nat.le_of_ble_eq_true rfl) (Nat.le_of_ble_eq_true rfl) ?_
  refine W.eq (g2 := F0 mi_ 4 ls ([])) rfl ?_
  refine lv_aload_n hx hb dX7_init_4 rfl (lv_at hl 0 rfl) ?_
  refine lv_iload_n hx hb dX7_init_5 rfl (lv_at hl 1 rfl) ?_
  refine b_putF (C := RX7) (T := TX7) (N := 6) (ty := .int) (v := .int d) hx hb hts in_X7 tyX7_ok nmX7 hown hK hP hD hS 0 rfl rfl 0 (by decide) q1243 (fun _ h9 => h9) rfl hname rfl rfl (by decide +kernel) rfl rfl (Nat.le_of_ble_eq_true rfl) dX7_init_6 (fun H locs hP hD hS => ?_)
  have hP : WP Γ [[(a, .inr (6, [.int d, .int 0, .int 0, .int 0, .int 0, .int 0]))]] H := hP
  have hD : WD A [[(a, .inr (6, [.int d, .int 0, .int 0, .int 0, .int 0, .int 0]))]] := hD
  refine lv_aload_n hx hb dX7_init_9 rfl (lv_at hl 0 rfl) ?_
  refine lv_iload_n hx hb dX7_init_10 rfl (lv_at hl 2 rfl) ?_
  refine b_putF (C := RX7) (T := TX7) (N := 6) (ty := .int) (v := .int li) hx hb hts in_X7 tyX7_ok nmX7 hown hK hP hD hS 0 rfl rfl 1 (by decide) q1244 (fun _ h9 => h9) rfl hname rfl rfl (by decide +kernel) rfl rfl (Nat.le_of_ble_eq_true rfl) dX7_init_11 (fun H locs hP hD hS => ?_)
  have hP : WP Γ [[(a, .inr (6, [.int d, .int li, .int 0, .int 0, .int 0, .int 0]))]] H := hP
  have hD : WD A [[(a, .inr (6, [.int d, .int li, .int 0, .int 0, .int 0, .int 0]))]] := hD
  refine lv_aload_n hx hb dX7_init_14 rfl (lv_at hl 0 rfl) ?_
  refine lv_iload_n hx hb dX7_init_15 rfl (lv_at hl 3 rfl) ?_
  refine b_putF (C := RX7) (T := TX7) (N := 6) (ty := .int) (v := .int ce) hx hb hts in_X7 tyX7_ok nmX7 hown hK hP hD hS 0 rfl rfl 2 (by decide) q1247 (fun _ h9 => h9) rfl hname rfl rfl (by decide +kernel) rfl rfl (Nat.le_of_ble_eq_true rfl) dX7_init_16 (fun H locs hP hD hS => ?_)
  have hP : WP Γ [[(a, .inr (6, [.int d, .int li, .int ce, .int 0, .int 0, .int 0]))]] H := hP
  have hD : WD A [[(a, .inr (6, [.int d, .int li, .int ce, .int 0, .int 0, .int 0]))]] := hD
  exact b_vret hx hb hr hlocks hP hD hS (Nat.le_of_ble_eq_true rfl) (Nat.le_of_ble_eq_true rfl) (by first | rfl | (simp; done)) dX7_init_19
set_option maxHeartbeats 4000000 in
set_option maxRecDepth 100000 in
theorem mt_Pickup_count (l : Launch) (Γ : GE) (sz : Nat) (a : Nat) (c : Nat → Int32) (hz : ¬ c 1 = 0) : KM l yX7_count cX7_count 1 (some FieldType.int) Γ 0 0 0 0 [.ref a] [[(a, pickE c)]] [] sz (Qi Γ (fun r_ u_ => r_ = (c 2 / c 1) ∧ u_ = [[(a, pickE c)]])) := by
  refine K_intro (by decide) (Nat.le_of_ble_eq_true rfl) ?_
  intro pr_ ev_ s mi_ below meth cd_ A ls hx hb hr hml hown hts hlocks hname hK hE hRo hP hD hA hS hsz hl
  have hl : lv_has ls 1 [(0, .ref a)] := hl
  have hown : s.vm.findClass RX7 = some mi_.cls := hown
  refine lv_aload_n hx hb dX7_count_0 rfl (lv_at hl 0 rfl) ?_
  refine b_get (C := RX7) (T := TX7) (N := 6) (v := .int (c 2)) hx hb hts in_X7 hown hK (b_at (k := 0) hP rfl) rfl 2 (by decide) q1247 (fun _ h9 => h9) rfl dX7_count_1 ?_
  refine lv_aload_n hx hb dX7_count_4 rfl (lv_at hl 0 rfl) ?_
  refine b_get (C := RX7) (T := TX7) (N := 6) (v := .int (c 1)) hx hb hts in_X7 hown hK (b_at (k := 0) hP rfl) rfl 1 (by decide) q1244 (fun _ h9 => h9) rfl dX7_count_5 ?_
  refine lv_idiv hx hb dX7_count_8 (hz) ?_
  exact b_iret hx hb hr hlocks hP hD hS (Nat.le_of_ble_eq_true rfl) (Nat.le_of_ble_eq_true rfl) ⟨(by first | rfl | (simp; done)), (by first | rfl | (simp; done))⟩ dX7_count_9
set_option maxHeartbeats 4000000 in
set_option maxRecDepth 100000 in
theorem mt_Pickup_settle (l : Launch) (Γ : GE) (sz : Nat) (a : Nat) (c : Nat → Int32) (m : Int32) (x : Int32) (p : Int32)  : KM l yX7_settle cX7_settle 4 none Γ 0 0 0 0 [.ref a, .int m, .int x, .int p] [[(a, pickE c)]] [] sz (Qv Γ (fun u_ => u_ = [[(a, pickE (pickSettle c m x p))]])) := by
  refine K_intro (by decide) (Nat.le_of_ble_eq_true rfl) ?_
  intro pr_ ev_ s mi_ below meth cd_ A ls hx hb hr hml hown hts hlocks hname hK hE hRo hP hD hA hS hsz hl
  have hl : lv_has ls 4 [(0, .ref a), (1, .int m), (2, .int x), (3, .int p)] := hl
  have hown : s.vm.findClass RX7 = some mi_.cls := hown
  refine lv_aload_n hx hb dX7_settle_0 rfl (lv_at hl 0 rfl) ?_
  refine lv_iload_n hx hb dX7_settle_1 rfl (lv_at hl 1 rfl) ?_
  refine b_put (C := RX7) (T := TX7) (N := 6) (ty := .int) (v := .int m) hx hb hts in_X7 tyX7_ok nmX7 hown hK hP hD hS 0 rfl rfl 3 (by decide) q1250 (fun _ h9 => h9) rfl (by decide +kernel) rfl rfl (Nat.le_of_ble_eq_true rfl) dX7_settle_2 (fun H locs hP hD hS => ?_)
  have hP : WP Γ [[(a, pickE (upd c 3 m))]] H := hP
  have hD : WD A [[(a, pickE (upd c 3 m))]] := hD
  refine lv_aload_n hx hb dX7_settle_5 rfl (lv_at hl 0 rfl) ?_
  refine lv_iload_n hx hb dX7_settle_6 rfl (lv_at hl 2 rfl) ?_
  refine b_put (C := RX7) (T := TX7) (N := 6) (ty := .int) (v := .int x) hx hb hts in_X7 tyX7_ok nmX7 hown hK hP hD hS 0 rfl rfl 4 (by decide) q1251 (fun _ h9 => h9) rfl (by decide +kernel) rfl rfl (Nat.le_of_ble_eq_true rfl) dX7_settle_7 (fun H locs hP hD hS => ?_)
  have hP : WP Γ [[(a, pickE (upd (upd c 3 m) 4 x))]] H := hP
  have hD : WD A [[(a, pickE (upd (upd c 3 m) 4 x))]] := hD
  refine lv_aload_n hx hb dX7_settle_10 rfl (lv_at hl 0 rfl) ?_
  refine lv_iload_n hx hb dX7_settle_11 rfl (lv_at hl 3 rfl) ?_
  refine lv_iload_n hx hb dX7_settle_12 rfl (lv_at hl 2 rfl) ?_
  refine lv_iadd hx hb dX7_settle_13 ?_
  refine lv_aload_n hx hb dX7_settle_14 rfl (lv_at hl 0 rfl) ?_
  refine b_get (C := RX7) (T := TX7) (N := 6) (v := .int (c 1)) hx hb hts in_X7 hown hK (b_at (k := 0) hP rfl) rfl 1 (by decide) q1244 (fun _ h9 => h9) rfl dX7_settle_15 ?_
  refine lv_imul hx hb dX7_settle_18 ?_
  refine b_put (C := RX7) (T := TX7) (N := 6) (ty := .int) (v := .int ((p + x) * (c 1))) hx hb hts in_X7 tyX7_ok nmX7 hown hK hP hD hS 0 rfl rfl 5 (by decide) q1252 (fun _ h9 => h9) rfl (by decide +kernel) rfl rfl (Nat.le_of_ble_eq_true rfl) dX7_settle_19 (fun H locs hP hD hS => ?_)
  have hP : WP Γ [[(a, pickE (upd (upd (upd c 3 m) 4 x) 5 ((p + x) * (c 1))))]] H := hP
  have hD : WD A [[(a, pickE (upd (upd (upd c 3 m) 4 x) 5 ((p + x) * (c 1))))]] := hD
  exact b_vret hx hb hr hlocks hP hD hS (Nat.le_of_ble_eq_true rfl) (Nat.le_of_ble_eq_true rfl) (by first | rfl | (simp; done)) dX7_settle_22
set_option maxHeartbeats 4000000 in
set_option maxRecDepth 100000 in
theorem mt_Pickup_told (l : Launch) (Γ : GE) (sz : Nat) (a : Nat) (c : Nat → Int32) (w : Int32) (hz : ¬ c 1 = 0) : KM l yX7_told cX7_told 2 (some FieldType.int) Γ 1 20 0 0 [.ref a, .int w] [[(a, pickE c)]] [] sz (Qi Γ (fun r_ u_ => r_ = (pickTold c w) ∧ u_ = [[(a, pickE c)]])) := by
  refine K_intro (by decide) (Nat.le_of_ble_eq_true rfl) ?_
  intro pr_ ev_ s mi_ below meth cd_ A ls hx hb hr hml hown hts hlocks hname hK hE hRo hP hD hA hS hsz hl
  have hl : lv_has ls 2 [(0, .ref a), (1, .int w)] := hl
  have hown : s.vm.findClass RX7 = some mi_.cls := hown
  refine lv_iload_n hx hb dX7_told_0 rfl (lv_at hl 1 rfl) ?_
  by_cases c_1_0 : w = 0
  · -- case 0
    subst c_1_0
    refine lv_tableIn (tgt := 40) hx hb dX7_told_1 (by decide) (by decide) rfl (by decide) ?_
    refine lv_aload_n hx hb dX7_told_40 rfl (lv_at hl 0 rfl) ?_
    refine b_get (C := RX7) (T := TX7) (N := 6) (v := .int (c 0)) hx hb hts in_X7 hown hK (b_at (k := 0) hP rfl) rfl 0 (by decide) q1243 (fun _ h9 => h9) rfl dX7_told_41 ?_
    exact b_iret hx hb hr hlocks hP hD hS (Nat.le_of_ble_eq_true rfl) (Nat.le_of_ble_eq_true rfl) ⟨(by first | with_reducible rfl | (simp [pickTold]; done) | rfl), (by first | with_reducible rfl | (simp [pickTold]; done) | rfl)⟩ dX7_told_44
  by_cases c_1_1 : w = 1
  · -- case 1
    subst c_1_1
    refine lv_tableIn (tgt := 45) hx hb dX7_told_1 (by decide) (by decide) rfl (by decide) ?_
    refine lv_aload_n hx hb dX7_told_45 rfl (lv_at hl 0 rfl) ?_
    refine b_get (C := RX7) (T := TX7) (N := 6) (v := .int (c 1)) hx hb hts in_X7 hown hK (b_at (k := 0) hP rfl) rfl 1 (by decide) q1244 (fun _ h9 => h9) rfl dX7_told_46 ?_
    exact b_iret hx hb hr hlocks hP hD hS (Nat.le_of_ble_eq_true rfl) (Nat.le_of_ble_eq_true rfl) ⟨(by first | with_reducible rfl | (simp [pickTold, c_1_0]; done) | rfl), (by first | with_reducible rfl | (simp [pickTold, c_1_0]; done) | rfl)⟩ dX7_told_49
  by_cases c_1_2 : w = 2
  · -- case 2
    subst c_1_2
    refine lv_tableIn (tgt := 50) hx hb dX7_told_1 (by decide) (by decide) rfl (by decide) ?_
    refine lv_aload_n hx hb dX7_told_50 rfl (lv_at hl 0 rfl) ?_
    refine b_get (C := RX7) (T := TX7) (N := 6) (v := .int (c 2)) hx hb hts in_X7 hown hK (b_at (k := 0) hP rfl) rfl 2 (by decide) q1247 (fun _ h9 => h9) rfl dX7_told_51 ?_
    exact b_iret hx hb hr hlocks hP hD hS (Nat.le_of_ble_eq_true rfl) (Nat.le_of_ble_eq_true rfl) ⟨(by first | with_reducible rfl | (simp [pickTold, c_1_0, c_1_1]; done) | rfl), (by first | with_reducible rfl | (simp [pickTold, c_1_0, c_1_1]; done) | rfl)⟩ dX7_told_54
  by_cases c_1_3 : w = 3
  · -- case 3
    subst c_1_3
    refine lv_tableIn (tgt := 55) hx hb dX7_told_1 (by decide) (by decide) rfl (by decide) ?_
    refine lv_aload_n hx hb dX7_told_55 rfl (lv_at hl 0 rfl) ?_
    refine b_calli (br := []) (b_runV ⟨hx, hb, hml, hown, hts⟩ (mt_Pickup_count l Γ _ a c hz) (lw_V q1362 q1363 q1364 q95 q1365) rfl rfl 0 (by decide +kernel) ⟨(Nat.le_of_ble_eq_true rfl), (Nat.le_of_ble_eq_true rfl)⟩ (c_pre hP hD hS hA hK hE [0] rfl rfl ro_nil) (recv_at (q := (RX7, TX7, 6)) hK (b_at (k := 0) hP rfl) rfl) rfl hl.1 rfl (Nat.le_of_ble_eq_true rfl) dX7_told_56 ⟨(Nat.le_of_ble_eq_true rfl), (Nat.le_of_ble_eq_true rfl)⟩) hP hD hS hA [0] [] rfl rfl rfl (fun r_2 u_2 H locs hw_2 hP hD hS _ => ?_)
    obtain ⟨rfl, rfl⟩ := hw_2
    have hP : WP Γ [[(a, pickE c)]] H := hP
    have hD : WD A [[(a, pickE c)]] := hD
    exact b_iret hx hb hr hlocks hP hD hS (Nat.le_of_ble_eq_true rfl) (Nat.le_of_ble_eq_true rfl) ⟨(by first | with_reducible rfl | (simp [pickTold, c_1_0, c_1_1, c_1_2]; done) | rfl), (by first | with_reducible rfl | (simp [pickTold, c_1_0, c_1_1, c_1_2]; done) | rfl)⟩ dX7_told_59
  by_cases c_1_4 : w = 4
  · -- case 4
    subst c_1_4
    refine lv_tableIn (tgt := 60) hx hb dX7_told_1 (by decide) (by decide) rfl (by decide) ?_
    refine lv_aload_n hx hb dX7_told_60 rfl (lv_at hl 0 rfl) ?_
    refine b_get (C := RX7) (T := TX7) (N := 6) (v := .int (c 3)) hx hb hts in_X7 hown hK (b_at (k := 0) hP rfl) rfl 3 (by decide) q1250 (fun _ h9 => h9) rfl dX7_told_61 ?_
    exact b_iret hx hb hr hlocks hP hD hS (Nat.le_of_ble_eq_true rfl) (Nat.le_of_ble_eq_true rfl) ⟨(by first | with_reducible rfl | (simp [pickTold, c_1_0, c_1_1, c_1_2, c_1_3]; done) | rfl), (by first | with_reducible rfl | (simp [pickTold, c_1_0, c_1_1, c_1_2, c_1_3]; done) | rfl)⟩ dX7_told_64
  by_cases c_1_5 : w = 5
  · -- case 5
    subst c_1_5
    refine lv_tableIn (tgt := 65) hx hb dX7_told_1 (by decide) (by decide) rfl (by decide) ?_
    refine lv_aload_n hx hb dX7_told_65 rfl (lv_at hl 0 rfl) ?_
    refine b_get (C := RX7) (T := TX7) (N := 6) (v := .int (c 4)) hx hb hts in_X7 hown hK (b_at (k := 0) hP rfl) rfl 4 (by decide) q1251 (fun _ h9 => h9) rfl dX7_told_66 ?_
    exact b_iret hx hb hr hlocks hP hD hS (Nat.le_of_ble_eq_true rfl) (Nat.le_of_ble_eq_true rfl) ⟨(by first | with_reducible rfl | (simp [pickTold, c_1_0, c_1_1, c_1_2, c_1_3, c_1_4]; done) | rfl), (by first | with_reducible rfl | (simp [pickTold, c_1_0, c_1_1, c_1_2, c_1_3, c_1_4]; done) | rfl)⟩ dX7_told_69
  refine lv_tableOut (tgt := 70) hx hb dX7_told_1 (sw_out 0 5 (by decide) (fun j h1 h2 => by rcases (show j = 0 ∨ j = 1 ∨ j = 2 ∨ j = 3 ∨ j = 4 ∨ j = 5 by omega) with rfl | rfl | rfl | rfl | rfl | rfl <;> assumption)) (by decide) ?_
  refine lv_aload_n hx hb dX7_told_70 rfl (lv_at hl 0 rfl) ?_
  refine b_get (C := RX7) (T := TX7) (N := 6) (v := .int (c 5)) hx hb hts in_X7 hown hK (b_at (k := 0) hP rfl) rfl 5 (by decide) q1252 (fun _ h9 => h9) rfl dX7_told_71 ?_
  exact b_iret hx hb hr hlocks hP hD hS (Nat.le_of_ble_eq_true rfl) (Nat.le_of_ble_eq_true rfl) ⟨(by first | with_reducible rfl | (simp [pickTold, c_1_0, c_1_1, c_1_2, c_1_3, c_1_4, c_1_5]; done) | rfl), (by first | with_reducible rfl | (simp [pickTold, c_1_0, c_1_1, c_1_2, c_1_3, c_1_4, c_1_5]; done) | rfl)⟩ dX7_told_74
def cowNew (n p d : Int32) : Nat → Int32 := fun k => match k with
  | 0 => n
  | 1 => p
  | 2 => d
  | 3 => 100
  | 8 => -1
  | _ => 0
def cvCurve (p d t : Int32) : Int32 :=
  let up := p / 2 + p * t / 40
  let down := p - d * t / 20
  let lo := if down < up then down else up
  if 0 < lo then lo else 0
def cowCar (c : Nat → Int32) : Int32 := if c 8 = -1 then 0 else if c 6 = 0 then 1 else 0
def cowMil (c : Nat → Int32) : Int32 := if c 5 = 0 then 0 else if c 6 = 0 then 1 else 0
def cowDim (c : Nat → Int32) (t : Int32) : Int32 := if cowMil c = 0 then -1 else t - c 7
def cowLit (c : Nat → Int32) (t : Int32) : Int32 := if cowMil c = 0 then 0 else cvCurve (c 1) (c 2) (t - c 7)
def cowHeld (c : Nat → Int32) (t : Int32) : Int32 := if t - c 7 < 4 then 1 else if t < c 9 then 1 else 0
def cowBegin (c : Nat → Int32) (d : Int32) : Nat → Int32 := upd (upd (upd (upd c 5 1) 7 d) 4 (c 4 + 1)) 8 (-1)
def cowState (c : Nat → Int32) : Int32 := if c 6 = 0 then (if c 5 = 0 then 0 else 1) else 2
def cowTold (c : Nat → Int32) (w t : Int32) : Int32 := if w = 0 then cowState c else if w = 1 then c 4 else if w = 2 then cowDim c t else if w = 3 then (if cowCar c = 0 then -1 else c 8) else if w = 4 then c 3 else if w = 5 then c 9 else if w = 6 then c 10 else if w = 7 then c 11 else cowLit c t
def cowB (c : Nat → Int32) : Prop := (c 5 = 0 ∨ c 5 = 1) ∧ (c 6 = 0 ∨ c 6 = 1)
set_option maxHeartbeats 4000000 in
set_option maxRecDepth 100000 in
theorem mt_Cow_init (l : Launch) (Γ : GE) (sz : Nat) (a : Nat) (n : Int32) (p : Int32) (d : Int32)  : KM l yX5_init_2 cX5_init_2 4 none Γ 1 30 0 0 [.ref a, .int n, .int p, .int d] [[(a, .inr (4, [.int 0, .int 0, .int 0, .int 0, .int 0, .int 0, .int 0, .int 0, .int 0, .int 0, .int 0, .int 0]))]] [] sz (Qv Γ (fun u_ => u_ = [[(a, cowE (cowNew n p d))]])) := by
  refine K_intro (by decide) (Nat.le_of_ble_eq_true rfl) ?_
  intro pr_ ev_ s mi_ below meth cd_ A ls hx hb hr hml hown hts hlocks hname hK hE hRo hP hD hA hS hsz hl
  have hl : lv_has ls 4 [(0, .ref a), (1, .int n), (2, .int p), (3, .int d)] := hl
  have hown : s.vm.findClass RX5 = some mi_.cls := hown
  refine lv_aload_n hx hb dX5_init_2_0 rfl (lv_at hl 0 rfl) ?_
  refine W.objInit hx hb hown (hts _ q420) (hts _ q109) (hts _ q110) rfl (by rw [hml]; exact hl.1) rfl dX5_init_2_1 (Nat.le_of_ble_eq_true rfl) (Nat.le_of_ble_eq_true rfl) ?_
  refine W.eq (g2 := F0 mi_ 4 ls ([])) rfl ?_
  refine lv_aload_n hx hb dX5_init_2_4 rfl (lv_at hl 0 rfl) ?_
  refine lv_bipush (v := 100) hx hb dX5_init_2_5 (by decide) ?_
  refine b_put (C := RX5) (T := TX5) (N := 12) (ty := .int) (v := .int 100) hx hb hts in_X5 tyX5_ok nmX5 hown hK hP hD hS 0 rfl rfl 3 (by decide) q425 (fun _ h9 => h9) rfl (by decide +kernel) rfl rfl (Nat.le_of_ble_eq_true rfl) dX5_init_2_7 (fun H locs hP hD hS => ?_)
  have hP : WP Γ [[(a, .inr (4, [.int 0, .int 0, .int 0, .int 100, .int 0, .int 0, .int 0, .int 0, .int 0, .int 0, .int 0, .int 0]))]] H := hP
  have hD : WD A [[(a, .inr (4, [.int 0, .int 0, .int 0, .int 100, .int 0, .int 0, .int 0, .int 0, .int 0, .int 0, .int 0, .int 0]))]] := hD
  refine lv_aload_n hx hb dX5_init_2_10 rfl (lv_at hl 0 rfl) ?_
  refine lv_iconst (v := (-1)) hx hb dX5_init_2_11 (by decide) ?_
  refine b_put (C := RX5) (T := TX5) (N := 12) (ty := .int) (v := .int (-1)) hx hb hts in_X5 tyX5_ok nmX5 hown hK hP hD hS 0 rfl rfl 8 (by decide) q438 (fun _ h9 => h9) rfl (by decide +kernel) rfl rfl (Nat.le_of_ble_eq_true rfl) dX5_init_2_12 (fun H locs hP hD hS => ?_)
  have hP : WP Γ [[(a, .inr (4, [.int 0, .int 0, .int 0, .int 100, .int 0, .int 0, .int 0, .int 0, .int (-1), .int 0, .int 0, .int 0]))]] H := hP
  have hD : WD A [[(a, .inr (4, [.int 0, .int 0, .int 0, .int 100, .int 0, .int 0, .int 0, .int 0, .int (-1), .int 0, .int 0, .int 0]))]] := hD
  refine lv_aload_n hx hb dX5_init_2_15 rfl (lv_at hl 0 rfl) ?_
  refine lv_iload_n hx hb dX5_init_2_16 rfl (lv_at hl 1 rfl) ?_
  refine b_putF (C := RX5) (T := TX5) (N := 12) (ty := .int) (v := .int n) hx hb hts in_X5 tyX5_ok nmX5 hown hK hP hD hS 0 rfl rfl 0 (by decide) q421 (fun _ h9 => h9) rfl hname rfl rfl (by decide +kernel) rfl rfl (Nat.le_of_ble_eq_true rfl) dX5_init_2_17 (fun H locs hP hD hS => ?_)
  have hP : WP Γ [[(a, .inr (4, [.int n, .int 0, .int 0, .int 100, .int 0, .int 0, .int 0, .int 0, .int (-1), .int 0, .int 0, .int 0]))]] H := hP
  have hD : WD A [[(a, .inr (4, [.int n, .int 0, .int 0, .int 100, .int 0, .int 0, .int 0, .int 0, .int (-1), .int 0, .int 0, .int 0]))]] := hD
  refine lv_aload_n hx hb dX5_init_2_20 rfl (lv_at hl 0 rfl) ?_
  refine lv_iload_n hx hb dX5_init_2_21 rfl (lv_at hl 2 rfl) ?_
  refine b_putF (C := RX5) (T := TX5) (N := 12) (ty := .int) (v := .int p) hx hb hts in_X5 tyX5_ok nmX5 hown hK hP hD hS 0 rfl rfl 1 (by decide) q423 (fun _ h9 => h9) rfl hname rfl rfl (by decide +kernel) rfl rfl (Nat.le_of_ble_eq_true rfl) dX5_init_2_22 (fun H locs hP hD hS => ?_)
  have hP : WP Γ [[(a, .inr (4, [.int n, .int p, .int 0, .int 100, .int 0, .int 0, .int 0, .int 0, .int (-1), .int 0, .int 0, .int 0]))]] H := hP
  have hD : WD A [[(a, .inr (4, [.int n, .int p, .int 0, .int 100, .int 0, .int 0, .int 0, .int 0, .int (-1), .int 0, .int 0, .int 0]))]] := hD
  refine lv_aload_n hx hb dX5_init_2_25 rfl (lv_at hl 0 rfl) ?_
  refine lv_iload_n hx hb dX5_init_2_26 rfl (lv_at hl 3 rfl) ?_
  refine b_putF (C := RX5) (T := TX5) (N := 12) (ty := .int) (v := .int d) hx hb hts in_X5 tyX5_ok nmX5 hown hK hP hD hS 0 rfl rfl 2 (by decide) q424 (fun _ h9 => h9) rfl hname rfl rfl (by decide +kernel) rfl rfl (Nat.le_of_ble_eq_true rfl) dX5_init_2_27 (fun H locs hP hD hS => ?_)
  have hP : WP Γ [[(a, .inr (4, [.int n, .int p, .int d, .int 100, .int 0, .int 0, .int 0, .int 0, .int (-1), .int 0, .int 0, .int 0]))]] H := hP
  have hD : WD A [[(a, .inr (4, [.int n, .int p, .int d, .int 100, .int 0, .int 0, .int 0, .int 0, .int (-1), .int 0, .int 0, .int 0]))]] := hD
  exact b_vret hx hb hr hlocks hP hD hS (Nat.le_of_ble_eq_true rfl) (Nat.le_of_ble_eq_true rfl) (by first | rfl | (simp; done)) dX5_init_2_30
set_option maxHeartbeats 4000000 in
set_option maxRecDepth 100000 in
theorem mt_Cow_copy (l : Launch) (Γ : GE) (sz : Nat) (a : Nat) (b : Nat) (c : Nat → Int32) (hB : cowB c) : KM l yX5_init cX5_init 2 none Γ 2 53 0 0 [.ref a, .ref b] [[(a, .inr (4, [.int 0, .int 0, .int 0, .int 0, .int 0, .int 0, .int 0, .int 0, .int 0, .int 0, .int 0, .int 0]))], [(b, cowE c)]] [] sz (Qv Γ (fun u_ => u_ = [[(a, cowE c)], [(b, cowE c)]])) := by
  refine K_intro (by decide) (Nat.le_of_ble_eq_true rfl) ?_
  intro pr_ ev_ s mi_ below meth cd_ A ls hx hb hr hml hown hts hlocks hname hK hE hRo hP hD hA hS hsz hl
  have hl : lv_has ls 2 [(0, .ref a), (1, .ref b)] := hl
  have hown : s.vm.findClass RX5 = some mi_.cls := hown
  refine lv_aload_n hx hb dX5_init_0 rfl (lv_at hl 0 rfl) ?_
  refine lv_aload_n hx hb dX5_init_1 rfl (lv_at hl 1 rfl) ?_
  refine b_get (C := RX5) (T := TX5) (N := 12) (v := .int (c 0)) hx hb hts in_X5 hown hK (b_at (k := 1) hP rfl) rfl 0 (by decide) q421 (fun _ h9 => h9) rfl dX5_init_2 ?_
  refine lv_aload_n hx hb dX5_init_5 rfl (lv_at hl 1 rfl) ?_
  refine b_get (C := RX5) (T := TX5) (N := 12) (v := .int (c 1)) hx hb hts in_X5 hown hK (b_at (k := 1) hP rfl) rfl 1 (by decide) q423 (fun _ h9 => h9) rfl dX5_init_6 ?_
  refine lv_aload_n hx hb dX5_init_9 rfl (lv_at hl 1 rfl) ?_
  refine b_get (C := RX5) (T := TX5) (N := 12) (v := .int (c 2)) hx hb hts in_X5 hown hK (b_at (k := 1) hP rfl) rfl 2 (by decide) q424 (fun _ h9 => h9) rfl dX5_init_10 ?_
  refine b_callv (br := [[(b, cowE c)]]) (b_runI ⟨hx, hb, hml, hown, hts⟩ (mt_Cow_init l Γ _ a (c 0) (c 1) (c 2)) (lw_meth q419) q81 q417 q418 rfl rfl rfl 3 (by decide +kernel) ⟨(Nat.le_of_ble_eq_true rfl), (Nat.le_of_ble_eq_true rfl)⟩ (c_pre hP hD hS hA hK hE [0] rfl rfl ro_nil) rfl hl.1 rfl (Nat.le_of_ble_eq_true rfl) dX5_init_13 ⟨(Nat.le_of_ble_eq_true rfl), (Nat.le_of_ble_eq_true rfl)⟩) hP hD hS hA [0] [1] rfl rfl rfl (fun u_1 H locs hw_1 hP hD hS _ => ?_)
  obtain rfl := hw_1
  have hP : WP Γ [[(a, cowE (cowNew (c 0) (c 1) (c 2)))], [(b, cowE c)]] H := hP
  have hD : WD A [[(a, cowE (cowNew (c 0) (c 1) (c 2)))], [(b, cowE c)]] := hD
  refine lv_aload_n hx hb dX5_init_16 rfl (lv_at hl 0 rfl) ?_
  refine lv_aload_n hx hb dX5_init_17 rfl (lv_at hl 1 rfl) ?_
  refine b_get (C := RX5) (T := TX5) (N := 12) (v := .int (c 3)) hx hb hts in_X5 hown hK (b_at (k := 1) hP rfl) rfl 3 (by decide) q425 (fun _ h9 => h9) rfl dX5_init_18 ?_
  refine b_put (C := RX5) (T := TX5) (N := 12) (ty := .int) (v := .int (c 3)) hx hb hts in_X5 tyX5_ok nmX5 hown hK hP hD hS 0 rfl rfl 3 (by decide) q425 (fun _ h9 => h9) rfl (by decide +kernel) rfl rfl (Nat.le_of_ble_eq_true rfl) dX5_init_21 (fun H locs hP hD hS => ?_)
  have hP : WP Γ [[(a, cowE (upd (cowNew (c 0) (c 1) (c 2)) 3 (c 3)))], [(b, cowE c)]] H := hP
  have hD : WD A [[(a, cowE (upd (cowNew (c 0) (c 1) (c 2)) 3 (c 3)))], [(b, cowE c)]] := hD
  refine lv_aload_n hx hb dX5_init_24 rfl (lv_at hl 0 rfl) ?_
  refine lv_aload_n hx hb dX5_init_25 rfl (lv_at hl 1 rfl) ?_
  refine b_get (C := RX5) (T := TX5) (N := 12) (v := .int (c 4)) hx hb hts in_X5 hown hK (b_at (k := 1) hP rfl) rfl 4 (by decide) q429 (fun _ h9 => h9) rfl dX5_init_26 ?_
  refine b_put (C := RX5) (T := TX5) (N := 12) (ty := .int) (v := .int (c 4)) hx hb hts in_X5 tyX5_ok nmX5 hown hK hP hD hS 0 rfl rfl 4 (by decide) q429 (fun _ h9 => h9) rfl (by decide +kernel) rfl rfl (Nat.le_of_ble_eq_true rfl) dX5_init_29 (fun H locs hP hD hS => ?_)
  have hP : WP Γ [[(a, cowE (upd (upd (cowNew (c 0) (c 1) (c 2)) 3 (c 3)) 4 (c 4)))], [(b, cowE c)]] H := hP
  have hD : WD A [[(a, cowE (upd (upd (cowNew (c 0) (c 1) (c 2)) 3 (c 3)) 4 (c 4)))], [(b, cowE c)]] := hD
  refine lv_aload_n hx hb dX5_init_32 rfl (lv_at hl 0 rfl) ?_
  refine lv_aload_n hx hb dX5_init_33 rfl (lv_at hl 1 rfl) ?_
  refine b_get (C := RX5) (T := TX5) (N := 12) (v := .int (c 5)) hx hb hts in_X5 hown hK (b_at (k := 1) hP rfl) rfl 5 (by decide) q430 (fun _ h9 => h9) rfl dX5_init_34 ?_
  refine b_put (C := RX5) (T := TX5) (N := 12) (ty := .boolean) (v := .int (c 5)) hx hb hts in_X5 tyX5_ok nmX5 hown hK hP hD hS 0 rfl rfl 5 (by decide) q430 (fun _ h9 => h9) rfl (by decide +kernel) (nar_bool hB.1).1 (nar_bool hB.1).2 (Nat.le_of_ble_eq_true rfl) dX5_init_37 (fun H locs hP hD hS => ?_)
  have hP : WP Γ [[(a, cowE (upd (upd (upd (cowNew (c 0) (c 1) (c 2)) 3 (c 3)) 4 (c 4)) 5 (c 5)))], [(b, cowE c)]] H := hP
  have hD : WD A [[(a, cowE (upd (upd (upd (cowNew (c 0) (c 1) (c 2)) 3 (c 3)) 4 (c 4)) 5 (c 5)))], [(b, cowE c)]] := hD
  refine lv_aload_n hx hb dX5_init_40 rfl (lv_at hl 0 rfl) ?_
  refine lv_aload_n hx hb dX5_init_41 rfl (lv_at hl 1 rfl) ?_
  refine b_get (C := RX5) (T := TX5) (N := 12) (v := .int (c 6)) hx hb hts in_X5 hown hK (b_at (k := 1) hP rfl) rfl 6 (by decide) q432 (fun _ h9 => h9) rfl dX5_init_42 ?_
  refine b_put (C := RX5) (T := TX5) (N := 12) (ty := .boolean) (v := .int (c 6)) hx hb hts in_X5 tyX5_ok nmX5 hown hK hP hD hS 0 rfl rfl 6 (by decide) q432 (fun _ h9 => h9) rfl (by decide +kernel) (nar_bool hB.2).1 (nar_bool hB.2).2 (Nat.le_of_ble_eq_true rfl) dX5_init_45 (fun H locs hP hD hS => ?_)
  have hP : WP Γ [[(a, cowE (upd (upd (upd (upd (cowNew (c 0) (c 1) (c 2)) 3 (c 3)) 4 (c 4)) 5 (c 5)) 6 (c 6)))], [(b, cowE c)]] H := hP
  have hD : WD A [[(a, cowE (upd (upd (upd (upd (cowNew (c 0) (c 1) (c 2)) 3 (c 3)) 4 (c 4)) 5 (c 5)) 6 (c 6)))], [(b, cowE c)]] := hD
  refine lv_aload_n hx hb dX5_init_48 rfl (lv_at hl 0 rfl) ?_
  refine lv_aload_n hx hb dX5_init_49 rfl (lv_at hl 1 rfl) ?_
  refine b_get (C := RX5) (T := TX5) (N := 12) (v := .int (c 7)) hx hb hts in_X5 hown hK (b_at (k := 1) hP rfl) rfl 7 (by decide) q436 (fun _ h9 => h9) rfl dX5_init_50 ?_
  refine b_put (C := RX5) (T := TX5) (N := 12) (ty := .int) (v := .int (c 7)) hx hb hts in_X5 tyX5_ok nmX5 hown hK hP hD hS 0 rfl rfl 7 (by decide) q436 (fun _ h9 => h9) rfl (by decide +kernel) rfl rfl (Nat.le_of_ble_eq_true rfl) dX5_init_53 (fun H locs hP hD hS => ?_)
  have hP : WP Γ [[(a, cowE (upd (upd (upd (upd (upd (cowNew (c 0) (c 1) (c 2)) 3 (c 3)) 4 (c 4)) 5 (c 5)) 6 (c 6)) 7 (c 7)))], [(b, cowE c)]] H := hP
  have hD : WD A [[(a, cowE (upd (upd (upd (upd (upd (cowNew (c 0) (c 1) (c 2)) 3 (c 3)) 4 (c 4)) 5 (c 5)) 6 (c 6)) 7 (c 7)))], [(b, cowE c)]] := hD
  refine lv_aload_n hx hb dX5_init_56 rfl (lv_at hl 0 rfl) ?_
  refine lv_aload_n hx hb dX5_init_57 rfl (lv_at hl 1 rfl) ?_
  refine b_get (C := RX5) (T := TX5) (N := 12) (v := .int (c 8)) hx hb hts in_X5 hown hK (b_at (k := 1) hP rfl) rfl 8 (by decide) q438 (fun _ h9 => h9) rfl dX5_init_58 ?_
  refine b_put (C := RX5) (T := TX5) (N := 12) (ty := .int) (v := .int (c 8)) hx hb hts in_X5 tyX5_ok nmX5 hown hK hP hD hS 0 rfl rfl 8 (by decide) q438 (fun _ h9 => h9) rfl (by decide +kernel) rfl rfl (Nat.le_of_ble_eq_true rfl) dX5_init_61 (fun H locs hP hD hS => ?_)
  have hP : WP Γ [[(a, cowE (upd (upd (upd (upd (upd (upd (cowNew (c 0) (c 1) (c 2)) 3 (c 3)) 4 (c 4)) 5 (c 5)) 6 (c 6)) 7 (c 7)) 8 (c 8)))], [(b, cowE c)]] H := hP
  have hD : WD A [[(a, cowE (upd (upd (upd (upd (upd (upd (cowNew (c 0) (c 1) (c 2)) 3 (c 3)) 4 (c 4)) 5 (c 5)) 6 (c 6)) 7 (c 7)) 8 (c 8)))], [(b, cowE c)]] := hD
  refine lv_aload_n hx hb dX5_init_64 rfl (lv_at hl 0 rfl) ?_
  refine lv_aload_n hx hb dX5_init_65 rfl (lv_at hl 1 rfl) ?_
  refine b_get (C := RX5) (T := TX5) (N := 12) (v := .int (c 9)) hx hb hts in_X5 hown hK (b_at (k := 1) hP rfl) rfl 9 (by decide) q441 (fun _ h9 => h9) rfl dX5_init_66 ?_
  refine b_put (C := RX5) (T := TX5) (N := 12) (ty := .int) (v := .int (c 9)) hx hb hts in_X5 tyX5_ok nmX5 hown hK hP hD hS 0 rfl rfl 9 (by decide) q441 (fun _ h9 => h9) rfl (by decide +kernel) rfl rfl (Nat.le_of_ble_eq_true rfl) dX5_init_69 (fun H locs hP hD hS => ?_)
  have hP : WP Γ [[(a, cowE (upd (upd (upd (upd (upd (upd (upd (cowNew (c 0) (c 1) (c 2)) 3 (c 3)) 4 (c 4)) 5 (c 5)) 6 (c 6)) 7 (c 7)) 8 (c 8)) 9 (c 9)))], [(b, cowE c)]] H := hP
  have hD : WD A [[(a, cowE (upd (upd (upd (upd (upd (upd (upd (cowNew (c 0) (c 1) (c 2)) 3 (c 3)) 4 (c 4)) 5 (c 5)) 6 (c 6)) 7 (c 7)) 8 (c 8)) 9 (c 9)))], [(b, cowE c)]] := hD
  refine lv_aload_n hx hb dX5_init_72 rfl (lv_at hl 0 rfl) ?_
  refine lv_aload_n hx hb dX5_init_73 rfl (lv_at hl 1 rfl) ?_
  refine b_get (C := RX5) (T := TX5) (N := 12) (v := .int (c 10)) hx hb hts in_X5 hown hK (b_at (k := 1) hP rfl) rfl 10 (by decide) q443 (fun _ h9 => h9) rfl dX5_init_74 ?_
  refine b_put (C := RX5) (T := TX5) (N := 12) (ty := .int) (v := .int (c 10)) hx hb hts in_X5 tyX5_ok nmX5 hown hK hP hD hS 0 rfl rfl 10 (by decide) q443 (fun _ h9 => h9) rfl (by decide +kernel) rfl rfl (Nat.le_of_ble_eq_true rfl) dX5_init_77 (fun H locs hP hD hS => ?_)
  have hP : WP Γ [[(a, cowE (upd (upd (upd (upd (upd (upd (upd (upd (cowNew (c 0) (c 1) (c 2)) 3 (c 3)) 4 (c 4)) 5 (c 5)) 6 (c 6)) 7 (c 7)) 8 (c 8)) 9 (c 9)) 10 (c 10)))], [(b, cowE c)]] H := hP
  have hD : WD A [[(a, cowE (upd (upd (upd (upd (upd (upd (upd (upd (cowNew (c 0) (c 1) (c 2)) 3 (c 3)) 4 (c 4)) 5 (c 5)) 6 (c 6)) 7 (c 7)) 8 (c 8)) 9 (c 9)) 10 (c 10)))], [(b, cowE c)]] := hD
  refine lv_aload_n hx hb dX5_init_80 rfl (lv_at hl 0 rfl) ?_
  refine lv_aload_n hx hb dX5_init_81 rfl (lv_at hl 1 rfl) ?_
  refine b_get (C := RX5) (T := TX5) (N := 12) (v := .int (c 11)) hx hb hts in_X5 hown hK (b_at (k := 1) hP rfl) rfl 11 (by decide) q446 (fun _ h9 => h9) rfl dX5_init_82 ?_
  refine b_put (C := RX5) (T := TX5) (N := 12) (ty := .int) (v := .int (c 11)) hx hb hts in_X5 tyX5_ok nmX5 hown hK hP hD hS 0 rfl rfl 11 (by decide) q446 (fun _ h9 => h9) rfl (by decide +kernel) rfl rfl (Nat.le_of_ble_eq_true rfl) dX5_init_85 (fun H locs hP hD hS => ?_)
  have hP : WP Γ [[(a, cowE (upd (upd (upd (upd (upd (upd (upd (upd (upd (cowNew (c 0) (c 1) (c 2)) 3 (c 3)) 4 (c 4)) 5 (c 5)) 6 (c 6)) 7 (c 7)) 8 (c 8)) 9 (c 9)) 10 (c 10)) 11 (c 11)))], [(b, cowE c)]] H := hP
  have hD : WD A [[(a, cowE (upd (upd (upd (upd (upd (upd (upd (upd (upd (cowNew (c 0) (c 1) (c 2)) 3 (c 3)) 4 (c 4)) 5 (c 5)) 6 (c 6)) 7 (c 7)) 8 (c 8)) 9 (c 9)) 10 (c 10)) 11 (c 11)))], [(b, cowE c)]] := hD
  exact b_vret hx hb hr hlocks hP hD hS (Nat.le_of_ble_eq_true rfl) (Nat.le_of_ble_eq_true rfl) (by first | rfl | (simp; done)) dX5_init_88
set_option maxHeartbeats 4000000 in
set_option maxRecDepth 100000 in
theorem mt_Cow_curve (l : Launch) (Γ : GE) (sz : Nat) (a : Nat) (c : Nat → Int32) (t : Int32)  : KM l yX5_curve cX5_curve 4 (some FieldType.int) Γ 1 31 0 0 [.ref a, .int t] [[(a, cowE c)]] [] sz (Qi Γ (fun r_ u_ => r_ = (cvCurve (c 1) (c 2) t) ∧ u_ = [[(a, cowE c)]])) := by
  refine K_intro (by decide) (Nat.le_of_ble_eq_true rfl) ?_
  intro pr_ ev_ s mi_ below meth cd_ A ls hx hb hr hml hown hts hlocks hname hK hE hRo hP hD hA hS hsz hl
  have hl : lv_has ls 4 [(0, .ref a), (1, .int t)] := hl
  have hown : s.vm.findClass RX5 = some mi_.cls := hown
  refine lv_aload_n hx hb dX5_curve_0 rfl (lv_at hl 0 rfl) ?_
  refine b_get (C := RX5) (T := TX5) (N := 12) (v := .int (c 1)) hx hb hts in_X5 hown hK (b_at (k := 0) hP rfl) rfl 1 (by decide) q423 (fun _ h9 => h9) rfl dX5_curve_1 ?_
  refine lv_iconst (v := 2) hx hb dX5_curve_4 (by decide) ?_
  refine lv_idiv hx hb dX5_curve_5 (by decide) ?_
  refine lv_aload_n hx hb dX5_curve_6 rfl (lv_at hl 0 rfl) ?_
  refine b_get (C := RX5) (T := TX5) (N := 12) (v := .int (c 1)) hx hb hts in_X5 hown hK (b_at (k := 0) hP rfl) rfl 1 (by decide) q423 (fun _ h9 => h9) rfl dX5_curve_7 ?_
  refine lv_iload_n hx hb dX5_curve_10 rfl (lv_at hl 1 rfl) ?_
  refine lv_imul hx hb dX5_curve_11 ?_
  refine lv_bipush (v := 40) hx hb dX5_curve_12 (by decide) ?_
  refine lv_idiv hx hb dX5_curve_14 (by decide) ?_
  refine lv_iadd hx hb dX5_curve_15 ?_
  refine lv_istore_n (lv' := [(2, .int (((c 1) / 2) + (((c 1) * t) / 40))), (0, .ref a), (1, .int t)]) hx hb dX5_curve_16 rfl hl (by decide) rfl (fun ls hl => ?_)
  refine lv_aload_n hx hb dX5_curve_17 rfl (lv_at hl 1 rfl) ?_
  refine b_get (C := RX5) (T := TX5) (N := 12) (v := .int (c 1)) hx hb hts in_X5 hown hK (b_at (k := 0) hP rfl) rfl 1 (by decide) q423 (fun _ h9 => h9) rfl dX5_curve_18 ?_
  refine lv_aload_n hx hb dX5_curve_21 rfl (lv_at hl 1 rfl) ?_
  refine b_get (C := RX5) (T := TX5) (N := 12) (v := .int (c 2)) hx hb hts in_X5 hown hK (b_at (k := 0) hP rfl) rfl 2 (by decide) q424 (fun _ h9 => h9) rfl dX5_curve_22 ?_
  refine lv_iload_n hx hb dX5_curve_25 rfl (lv_at hl 2 rfl) ?_
  refine lv_imul hx hb dX5_curve_26 ?_
  refine lv_bipush (v := 20) hx hb dX5_curve_27 (by decide) ?_
  refine lv_idiv hx hb dX5_curve_29 (by decide) ?_
  refine lv_isub hx hb dX5_curve_30 ?_
  refine lv_istore_n (lv' := [(3, .int ((c 1) - (((c 2) * t) / 20))), (2, .int (((c 1) / 2) + (((c 1) * t) / 40))), (0, .ref a), (1, .int t)]) hx hb dX5_curve_31 rfl hl (by decide) rfl (fun ls hl => ?_)
  refine lv_iconst (v := 0) hx hb dX5_curve_32 (by decide) ?_
  refine lv_iload_n hx hb dX5_curve_33 rfl (lv_at hl 1 rfl) ?_
  refine lv_iload_n hx hb dX5_curve_34 rfl (lv_at hl 0 rfl) ?_
  refine va_mmin hx hb (hml.trans hl.1.symm) hown (hts _ q1217) (hts _ q537) (hts _ q83) (hts _ q538) (Nat.le_of_ble_eq_true rfl) (Nat.le_of_ble_eq_true rfl) (Nat.le_of_ble_eq_true rfl) (Nat.le_of_ble_eq_true rfl) dX5_curve_35 ?_
  refine va_mmax hx hb (hml.trans hl.1.symm) hown (hts _ q1218) (hts _ q493) (hts _ q83) (hts _ q494) (Nat.le_of_ble_eq_true rfl) (Nat.le_of_ble_eq_true rfl) (Nat.le_of_ble_eq_true rfl) (Nat.le_of_ble_eq_true rfl) dX5_curve_38 ?_
  exact b_iret hx hb hr hlocks hP hD hS (Nat.le_of_ble_eq_true rfl) (Nat.le_of_ble_eq_true rfl) ⟨(by first | with_reducible rfl | (simp [cvCurve]; done) | rfl), (by first | with_reducible rfl | (simp [cvCurve]; done) | rfl)⟩ dX5_curve_41
set_option maxHeartbeats 4000000 in
set_option maxRecDepth 100000 in
theorem mt_Cow_isCarrying (l : Launch) (Γ : GE) (sz : Nat) (a : Nat) (c : Nat → Int32)  : KM l yX5_isCarrying cX5_isCarrying 1 (some FieldType.boolean) Γ 0 0 0 0 [.ref a] [[(a, cowE c)]] [] sz (Qi Γ (fun r_ u_ => r_ = (cowCar c) ∧ u_ = [[(a, cowE c)]])) := by
  refine K_intro (by decide) (Nat.le_of_ble_eq_true rfl) ?_
  intro pr_ ev_ s mi_ below meth cd_ A ls hx hb hr hml hown hts hlocks hname hK hE hRo hP hD hA hS hsz hl
  have hl : lv_has ls 1 [(0, .ref a)] := hl
  have hown : s.vm.findClass RX5 = some mi_.cls := hown
  refine lv_aload_n hx hb dX5_isCarrying_0 rfl (lv_at hl 0 rfl) ?_
  refine b_get (C := RX5) (T := TX5) (N := 12) (v := .int (c 8)) hx hb hts in_X5 hown hK (b_at (k := 0) hP rfl) rfl 8 (by decide) q438 (fun _ h9 => h9) rfl dX5_isCarrying_1 ?_
  refine lv_iconst (v := (-1)) hx hb dX5_isCarrying_4 (by decide) ?_
  refine lv_icmp_eq (tgt := 19) hx hb dX5_isCarrying_5 (by decide) (fun c_1 => ?_) (fun c_1 => ?_)
  · -- 5 taken
    refine lv_iconst (v := 0) hx hb dX5_isCarrying_19 (by decide) ?_
    exact b_zret hx hb hr hlocks hP hD hS (Nat.le_of_ble_eq_true rfl) (Nat.le_of_ble_eq_true rfl) rfl ⟨(by first | with_reducible rfl | (simp [cowCar, c_1]; done) | rfl), (by first | with_reducible rfl | (simp [cowCar, c_1]; done) | rfl)⟩ dX5_isCarrying_20
  · -- 5 not taken
    refine lv_aload_n hx hb dX5_isCarrying_8 rfl (lv_at hl 0 rfl) ?_
    refine b_get (C := RX5) (T := TX5) (N := 12) (v := .int (c 6)) hx hb hts in_X5 hown hK (b_at (k := 0) hP rfl) rfl 6 (by decide) q432 (fun _ h9 => h9) rfl dX5_isCarrying_9 ?_
    refine lv_if_ne (tgt := 19) hx hb dX5_isCarrying_12 (by decide) (fun c_2 => ?_) (fun c_2 => ?_)
    · -- 12 taken
      refine lv_iconst (v := 0) hx hb dX5_isCarrying_19 (by decide) ?_
      exact b_zret hx hb hr hlocks hP hD hS (Nat.le_of_ble_eq_true rfl) (Nat.le_of_ble_eq_true rfl) rfl ⟨(by first | with_reducible rfl | (simp [cowCar, c_1, c_2]; done) | rfl), (by first | with_reducible rfl | (simp [cowCar, c_1, c_2]; done) | rfl)⟩ dX5_isCarrying_20
    · -- 12 not taken
      refine lv_iconst (v := 1) hx hb dX5_isCarrying_15 (by decide) ?_
      refine lv_goto (tgt := 20) hx hb dX5_isCarrying_16 (by decide) ?_
      exact b_zret hx hb hr hlocks hP hD hS (Nat.le_of_ble_eq_true rfl) (Nat.le_of_ble_eq_true rfl) rfl ⟨(by first | with_reducible rfl | (simp [cowCar, c_1, c_2]; done) | rfl), (by first | with_reducible rfl | (simp [cowCar, c_1, c_2]; done) | rfl)⟩ dX5_isCarrying_20
set_option maxHeartbeats 4000000 in
set_option maxRecDepth 100000 in
theorem mt_Cow_isMilked (l : Launch) (Γ : GE) (sz : Nat) (a : Nat) (c : Nat → Int32)  : KM l yX5_isMilked cX5_isMilked 1 (some FieldType.boolean) Γ 0 0 0 0 [.ref a] [[(a, cowE c)]] [] sz (Qi Γ (fun r_ u_ => r_ = (cowMil c) ∧ u_ = [[(a, cowE c)]])) := by
  refine K_intro (by decide) (Nat.le_of_ble_eq_true rfl) ?_
  intro pr_ ev_ s mi_ below meth cd_ A ls hx hb hr hml hown hts hlocks hname hK hE hRo hP hD hA hS hsz hl
  have hl : lv_has ls 1 [(0, .ref a)] := hl
  have hown : s.vm.findClass RX5 = some mi_.cls := hown
  refine lv_aload_n hx hb dX5_isMilked_0 rfl (lv_at hl 0 rfl) ?_
  refine b_get (C := RX5) (T := TX5) (N := 12) (v := .int (c 5)) hx hb hts in_X5 hown hK (b_at (k := 0) hP rfl) rfl 5 (by decide) q430 (fun _ h9 => h9) rfl dX5_isMilked_1 ?_
  refine lv_if_eq (tgt := 18) hx hb dX5_isMilked_4 (by decide) (fun c_1 => ?_) (fun c_1 => ?_)
  · -- 4 taken
    refine lv_iconst (v := 0) hx hb dX5_isMilked_18 (by decide) ?_
    exact b_zret hx hb hr hlocks hP hD hS (Nat.le_of_ble_eq_true rfl) (Nat.le_of_ble_eq_true rfl) rfl ⟨(by first | with_reducible rfl | (simp [cowMil, c_1]; done) | rfl), (by first | with_reducible rfl | (simp [cowMil, c_1]; done) | rfl)⟩ dX5_isMilked_19
  · -- 4 not taken
    refine lv_aload_n hx hb dX5_isMilked_7 rfl (lv_at hl 0 rfl) ?_
    refine b_get (C := RX5) (T := TX5) (N := 12) (v := .int (c 6)) hx hb hts in_X5 hown hK (b_at (k := 0) hP rfl) rfl 6 (by decide) q432 (fun _ h9 => h9) rfl dX5_isMilked_8 ?_
    refine lv_if_ne (tgt := 18) hx hb dX5_isMilked_11 (by decide) (fun c_2 => ?_) (fun c_2 => ?_)
    · -- 11 taken
      refine lv_iconst (v := 0) hx hb dX5_isMilked_18 (by decide) ?_
      exact b_zret hx hb hr hlocks hP hD hS (Nat.le_of_ble_eq_true rfl) (Nat.le_of_ble_eq_true rfl) rfl ⟨(by first | with_reducible rfl | (simp [cowMil, c_1, c_2]; done) | rfl), (by first | with_reducible rfl | (simp [cowMil, c_1, c_2]; done) | rfl)⟩ dX5_isMilked_19
    · -- 11 not taken
      refine lv_iconst (v := 1) hx hb dX5_isMilked_14 (by decide) ?_
      refine lv_goto (tgt := 19) hx hb dX5_isMilked_15 (by decide) ?_
      exact b_zret hx hb hr hlocks hP hD hS (Nat.le_of_ble_eq_true rfl) (Nat.le_of_ble_eq_true rfl) rfl ⟨(by first | with_reducible rfl | (simp [cowMil, c_1, c_2]; done) | rfl), (by first | with_reducible rfl | (simp [cowMil, c_1, c_2]; done) | rfl)⟩ dX5_isMilked_19
set_option maxHeartbeats 4000000 in
set_option maxRecDepth 100000 in
theorem mt_Cow_daysInMilk (l : Launch) (Γ : GE) (sz : Nat) (a : Nat) (c : Nat → Int32) (t : Int32)  : KM l yX5_daysInMilk cX5_daysInMilk 2 (some FieldType.int) Γ 1 20 0 0 [.ref a, .int t] [[(a, cowE c)]] [] sz (Qi Γ (fun r_ u_ => r_ = (cowDim c t) ∧ u_ = [[(a, cowE c)]])) := by
  refine K_intro (by decide) (Nat.le_of_ble_eq_true rfl) ?_
  intro pr_ ev_ s mi_ below meth cd_ A ls hx hb hr hml hown hts hlocks hname hK hE hRo hP hD hA hS hsz hl
  have hl : lv_has ls 2 [(0, .ref a), (1, .int t)] := hl
  have hown : s.vm.findClass RX5 = some mi_.cls := hown
  refine lv_aload_n hx hb dX5_daysInMilk_0 rfl (lv_at hl 0 rfl) ?_
  refine b_calli (br := []) (b_runV ⟨hx, hb, hml, hown, hts⟩ (mt_Cow_isMilked l Γ _ a c) (lw_V q1036 q1029 q1030 q81 q1031) rfl rfl 0 (by decide +kernel) ⟨(Nat.le_of_ble_eq_true rfl), (Nat.le_of_ble_eq_true rfl)⟩ (c_pre hP hD hS hA hK hE [0] rfl rfl ro_nil) (recv_at (q := (RX5, TX5, 12)) hK (b_at (k := 0) hP rfl) rfl) rfl hl.1 rfl (Nat.le_of_ble_eq_true rfl) dX5_daysInMilk_1 ⟨(Nat.le_of_ble_eq_true rfl), (Nat.le_of_ble_eq_true rfl)⟩) hP hD hS hA [0] [] rfl rfl rfl (fun r_1 u_1 H locs hw_1 hP hD hS _ => ?_)
  obtain ⟨rfl, rfl⟩ := hw_1
  have hP : WP Γ [[(a, cowE c)]] H := hP
  have hD : WD A [[(a, cowE c)]] := hD
  refine lv_if_eq (tgt := 16) hx hb dX5_daysInMilk_4 (by decide) (fun c_2 => ?_) (fun c_2 => ?_)
  · -- 4 taken
    refine lv_iconst (v := (-1)) hx hb dX5_daysInMilk_16 (by decide) ?_
    exact b_iret hx hb hr hlocks hP hD hS (Nat.le_of_ble_eq_true rfl) (Nat.le_of_ble_eq_true rfl) ⟨(by first | with_reducible rfl | (simp [cowDim, c_2]; done) | rfl), (by first | with_reducible rfl | (simp [cowDim, c_2]; done) | rfl)⟩ dX5_daysInMilk_17
  · -- 4 not taken
    refine lv_iload_n hx hb dX5_daysInMilk_7 rfl (lv_at hl 1 rfl) ?_
    refine lv_aload_n hx hb dX5_daysInMilk_8 rfl (lv_at hl 0 rfl) ?_
    refine b_get (C := RX5) (T := TX5) (N := 12) (v := .int (c 7)) hx hb hts in_X5 hown hK (b_at (k := 0) hP rfl) rfl 7 (by decide) q436 (fun _ h9 => h9) rfl dX5_daysInMilk_9 ?_
    refine lv_isub hx hb dX5_daysInMilk_12 ?_
    refine lv_goto (tgt := 17) hx hb dX5_daysInMilk_13 (by decide) ?_
    exact b_iret hx hb hr hlocks hP hD hS (Nat.le_of_ble_eq_true rfl) (Nat.le_of_ble_eq_true rfl) ⟨(by first | with_reducible rfl | (simp [cowDim, c_2]; done) | rfl), (by first | with_reducible rfl | (simp [cowDim, c_2]; done) | rfl)⟩ dX5_daysInMilk_17
set_option maxHeartbeats 4000000 in
set_option maxRecDepth 100000 in
theorem mt_Cow_litres (l : Launch) (Γ : GE) (sz : Nat) (a : Nat) (c : Nat → Int32) (t : Int32)  : KM l yX5_litres cX5_litres 2 (some FieldType.int) Γ 2 54 0 0 [.ref a, .int t] [[(a, cowE c)]] [] sz (Qi Γ (fun r_ u_ => r_ = (cowLit c t) ∧ u_ = [[(a, cowE c)]])) := by
  refine K_intro (by decide) (Nat.le_of_ble_eq_true rfl) ?_
  intro pr_ ev_ s mi_ below meth cd_ A ls hx hb hr hml hown hts hlocks hname hK hE hRo hP hD hA hS hsz hl
  have hl : lv_has ls 2 [(0, .ref a), (1, .int t)] := hl
  have hown : s.vm.findClass RX5 = some mi_.cls := hown
  refine lv_aload_n hx hb dX5_litres_0 rfl (lv_at hl 0 rfl) ?_
  refine b_calli (br := []) (b_runV ⟨hx, hb, hml, hown, hts⟩ (mt_Cow_isMilked l Γ _ a c) (lw_V q1036 q1029 q1030 q81 q1031) rfl rfl 0 (by decide +kernel) ⟨(Nat.le_of_ble_eq_true rfl), (Nat.le_of_ble_eq_true rfl)⟩ (c_pre hP hD hS hA hK hE [0] rfl rfl ro_nil) (recv_at (q := (RX5, TX5, 12)) hK (b_at (k := 0) hP rfl) rfl) rfl hl.1 rfl (Nat.le_of_ble_eq_true rfl) dX5_litres_1 ⟨(Nat.le_of_ble_eq_true rfl), (Nat.le_of_ble_eq_true rfl)⟩) hP hD hS hA [0] [] rfl rfl rfl (fun r_1 u_1 H locs hw_1 hP hD hS _ => ?_)
  obtain ⟨rfl, rfl⟩ := hw_1
  have hP : WP Γ [[(a, cowE c)]] H := hP
  have hD : WD A [[(a, cowE c)]] := hD
  refine lv_if_eq (tgt := 20) hx hb dX5_litres_4 (by decide) (fun c_2 => ?_) (fun c_2 => ?_)
  · -- 4 taken
    refine lv_iconst (v := 0) hx hb dX5_litres_20 (by decide) ?_
    exact b_iret hx hb hr hlocks hP hD hS (Nat.le_of_ble_eq_true rfl) (Nat.le_of_ble_eq_true rfl) ⟨(by first | with_reducible rfl | (simp [cowLit, c_2]; done) | rfl), (by first | with_reducible rfl | (simp [cowLit, c_2]; done) | rfl)⟩ dX5_litres_21
  · -- 4 not taken
    refine lv_aload_n hx hb dX5_litres_7 rfl (lv_at hl 0 rfl) ?_
    refine lv_iload_n hx hb dX5_litres_8 rfl (lv_at hl 1 rfl) ?_
    refine lv_aload_n hx hb dX5_litres_9 rfl (lv_at hl 0 rfl) ?_
    refine b_get (C := RX5) (T := TX5) (N := 12) (v := .int (c 7)) hx hb hts in_X5 hown hK (b_at (k := 0) hP rfl) rfl 7 (by decide) q436 (fun _ h9 => h9) rfl dX5_litres_10 ?_
    refine lv_isub hx hb dX5_litres_13 ?_
    refine b_calli (br := []) (b_runV ⟨hx, hb, hml, hown, hts⟩ (mt_Cow_curve l Γ _ a c (t - (c 7))) (lw_V q1213 q1214 q1215 q81 q1216) rfl rfl 1 (by decide +kernel) ⟨(Nat.le_of_ble_eq_true rfl), (Nat.le_of_ble_eq_true rfl)⟩ (c_pre hP hD hS hA hK hE [0] rfl rfl ro_nil) (recv_at (q := (RX5, TX5, 12)) hK (b_at (k := 0) hP rfl) rfl) rfl hl.1 rfl (Nat.le_of_ble_eq_true rfl) dX5_litres_14 ⟨(Nat.le_of_ble_eq_true rfl), (Nat.le_of_ble_eq_true rfl)⟩) hP hD hS hA [0] [] rfl rfl rfl (fun r_3 u_3 H locs hw_3 hP hD hS _ => ?_)
    obtain ⟨rfl, rfl⟩ := hw_3
    have hP : WP Γ [[(a, cowE c)]] H := hP
    have hD : WD A [[(a, cowE c)]] := hD
    refine lv_goto (tgt := 21) hx hb dX5_litres_17 (by decide) ?_
    exact b_iret hx hb hr hlocks hP hD hS (Nat.le_of_ble_eq_true rfl) (Nat.le_of_ble_eq_true rfl) ⟨(by first | with_reducible rfl | (simp [cowLit, c_2]; done) | rfl), (by first | with_reducible rfl | (simp [cowLit, c_2]; done) | rfl)⟩ dX5_litres_21
set_option maxHeartbeats 4000000 in
set_option maxRecDepth 100000 in
theorem mt_Cow_isHeld (l : Launch) (Γ : GE) (sz : Nat) (a : Nat) (c : Nat → Int32) (t : Int32)  : KM l yX5_isHeld cX5_isHeld 2 (some FieldType.boolean) Γ 0 0 0 0 [.ref a, .int t] [[(a, cowE c)]] [] sz (Qi Γ (fun r_ u_ => r_ = (cowHeld c t) ∧ u_ = [[(a, cowE c)]])) := by
  refine K_intro (by decide) (Nat.le_of_ble_eq_true rfl) ?_
  intro pr_ ev_ s mi_ below meth cd_ A ls hx hb hr hml hown hts hlocks hname hK hE hRo hP hD hA hS hsz hl
  have hl : lv_has ls 2 [(0, .ref a), (1, .int t)] := hl
  have hown : s.vm.findClass RX5 = some mi_.cls := hown
  refine lv_iload_n hx hb dX5_isHeld_0 rfl (lv_at hl 1 rfl) ?_
  refine lv_aload_n hx hb dX5_isHeld_1 rfl (lv_at hl 0 rfl) ?_
  refine b_get (C := RX5) (T := TX5) (N := 12) (v := .int (c 7)) hx hb hts in_X5 hown hK (b_at (k := 0) hP rfl) rfl 7 (by decide) q436 (fun _ h9 => h9) rfl dX5_isHeld_2 ?_
  refine lv_isub hx hb dX5_isHeld_5 ?_
  refine lv_iconst (v := 4) hx hb dX5_isHeld_6 (by decide) ?_
  refine lv_icmp_lt (tgt := 18) hx hb dX5_isHeld_7 (by decide) (fun c_1 => ?_) (fun c_1 => ?_)
  · -- 7 taken
    refine lv_iconst (v := 1) hx hb dX5_isHeld_18 (by decide) ?_
    refine lv_goto (tgt := 23) hx hb dX5_isHeld_19 (by decide) ?_
    exact b_zret hx hb hr hlocks hP hD hS (Nat.le_of_ble_eq_true rfl) (Nat.le_of_ble_eq_true rfl) rfl ⟨(by first | with_reducible rfl | (simp [cowHeld, c_1]; done) | rfl), (by first | with_reducible rfl | (simp [cowHeld, c_1]; done) | rfl)⟩ dX5_isHeld_23
  · -- 7 not taken
    refine lv_aload_n hx hb dX5_isHeld_10 rfl (lv_at hl 0 rfl) ?_
    refine b_get (C := RX5) (T := TX5) (N := 12) (v := .int (c 9)) hx hb hts in_X5 hown hK (b_at (k := 0) hP rfl) rfl 9 (by decide) q441 (fun _ h9 => h9) rfl dX5_isHeld_11 ?_
    refine lv_iload_n hx hb dX5_isHeld_14 rfl (lv_at hl 1 rfl) ?_
    refine lv_icmp_le (tgt := 22) hx hb dX5_isHeld_15 (by decide) (fun c_2 => ?_) (fun c_2 => ?_)
    · -- 15 taken
      have d_2 := Int32.not_lt.mpr c_2
      refine lv_iconst (v := 0) hx hb dX5_isHeld_22 (by decide) ?_
      exact b_zret hx hb hr hlocks hP hD hS (Nat.le_of_ble_eq_true rfl) (Nat.le_of_ble_eq_true rfl) rfl ⟨(by first | with_reducible rfl | (simp [cowHeld, c_1, c_2, d_2]; done) | rfl), (by first | with_reducible rfl | (simp [cowHeld, c_1, c_2, d_2]; done) | rfl)⟩ dX5_isHeld_23
    · -- 15 not taken
      have d_2 := Int32.not_le.mp c_2
      refine lv_iconst (v := 1) hx hb dX5_isHeld_18 (by decide) ?_
      refine lv_goto (tgt := 23) hx hb dX5_isHeld_19 (by decide) ?_
      exact b_zret hx hb hr hlocks hP hD hS (Nat.le_of_ble_eq_true rfl) (Nat.le_of_ble_eq_true rfl) rfl ⟨(by first | with_reducible rfl | (simp [cowHeld, c_1, c_2, d_2]; done) | rfl), (by first | with_reducible rfl | (simp [cowHeld, c_1, c_2, d_2]; done) | rfl)⟩ dX5_isHeld_23
set_option maxHeartbeats 4000000 in
set_option maxRecDepth 100000 in
theorem mt_Cow_begin (l : Launch) (Γ : GE) (sz : Nat) (a : Nat) (c : Nat → Int32) (d : Int32)  : KM l yX5_begin cX5_begin 2 none Γ 0 0 0 0 [.ref a, .int d] [[(a, cowE c)]] [] sz (Qv Γ (fun u_ => u_ = [[(a, cowE (cowBegin c d))]])) := by
  refine K_intro (by decide) (Nat.le_of_ble_eq_true rfl) ?_
  intro pr_ ev_ s mi_ below meth cd_ A ls hx hb hr hml hown hts hlocks hname hK hE hRo hP hD hA hS hsz hl
  have hl : lv_has ls 2 [(0, .ref a), (1, .int d)] := hl
  have hown : s.vm.findClass RX5 = some mi_.cls := hown
  refine lv_aload_n hx hb dX5_begin_0 rfl (lv_at hl 0 rfl) ?_
  refine lv_iconst (v := 1) hx hb dX5_begin_1 (by decide) ?_
  refine b_put (C := RX5) (T := TX5) (N := 12) (ty := .boolean) (v := .int 1) hx hb hts in_X5 tyX5_ok nmX5 hown hK hP hD hS 0 rfl rfl 5 (by decide) q430 (fun _ h9 => h9) rfl (by decide +kernel) rfl rfl (Nat.le_of_ble_eq_true rfl) dX5_begin_2 (fun H locs hP hD hS => ?_)
  have hP : WP Γ [[(a, cowE (upd c 5 1))]] H := hP
  have hD : WD A [[(a, cowE (upd c 5 1))]] := hD
  refine lv_aload_n hx hb dX5_begin_5 rfl (lv_at hl 0 rfl) ?_
  refine lv_iload_n hx hb dX5_begin_6 rfl (lv_at hl 1 rfl) ?_
  refine b_put (C := RX5) (T := TX5) (N := 12) (ty := .int) (v := .int d) hx hb hts in_X5 tyX5_ok nmX5 hown hK hP hD hS 0 rfl rfl 7 (by decide) q436 (fun _ h9 => h9) rfl (by decide +kernel) rfl rfl (Nat.le_of_ble_eq_true rfl) dX5_begin_7 (fun H locs hP hD hS => ?_)
  have hP : WP Γ [[(a, cowE (upd (upd c 5 1) 7 d))]] H := hP
  have hD : WD A [[(a, cowE (upd (upd c 5 1) 7 d))]] := hD
  refine lv_aload_n hx hb dX5_begin_10 rfl (lv_at hl 0 rfl) ?_
  refine lv_dup hx hb dX5_begin_11 rfl ?_
  refine b_get (C := RX5) (T := TX5) (N := 12) (v := .int (c 4)) hx hb hts in_X5 hown hK (b_at (k := 0) hP rfl) rfl 4 (by decide) q429 (fun _ h9 => h9) rfl dX5_begin_12 ?_
  refine lv_iconst (v := 1) hx hb dX5_begin_15 (by decide) ?_
  refine lv_iadd hx hb dX5_begin_16 ?_
  refine b_put (C := RX5) (T := TX5) (N := 12) (ty := .int) (v := .int ((c 4) + 1)) hx hb hts in_X5 tyX5_ok nmX5 hown hK hP hD hS 0 rfl rfl 4 (by decide) q429 (fun _ h9 => h9) rfl (by decide +kernel) rfl rfl (Nat.le_of_ble_eq_true rfl) dX5_begin_17 (fun H locs hP hD hS => ?_)
  have hP : WP Γ [[(a, cowE (upd (upd (upd c 5 1) 7 d) 4 ((c 4) + 1)))]] H := hP
  have hD : WD A [[(a, cowE (upd (upd (upd c 5 1) 7 d) 4 ((c 4) + 1)))]] := hD
  refine lv_aload_n hx hb dX5_begin_20 rfl (lv_at hl 0 rfl) ?_
  refine lv_iconst (v := (-1)) hx hb dX5_begin_21 (by decide) ?_
  refine b_put (C := RX5) (T := TX5) (N := 12) (ty := .int) (v := .int (-1)) hx hb hts in_X5 tyX5_ok nmX5 hown hK hP hD hS 0 rfl rfl 8 (by decide) q438 (fun _ h9 => h9) rfl (by decide +kernel) rfl rfl (Nat.le_of_ble_eq_true rfl) dX5_begin_22 (fun H locs hP hD hS => ?_)
  have hP : WP Γ [[(a, cowE (upd (upd (upd (upd c 5 1) 7 d) 4 ((c 4) + 1)) 8 (-1)))]] H := hP
  have hD : WD A [[(a, cowE (upd (upd (upd (upd c 5 1) 7 d) 4 ((c 4) + 1)) 8 (-1)))]] := hD
  exact b_vret hx hb hr hlocks hP hD hS (Nat.le_of_ble_eq_true rfl) (Nat.le_of_ble_eq_true rfl) (by first | rfl | (simp; done)) dX5_begin_25
set_option maxHeartbeats 4000000 in
set_option maxRecDepth 100000 in
theorem mt_Cow_stateNumber (l : Launch) (Γ : GE) (sz : Nat) (a : Nat) (c : Nat → Int32)  : KM l yX5_stateNumber cX5_stateNumber 1 (some FieldType.int) Γ 0 0 0 0 [.ref a] [[(a, cowE c)]] [] sz (Qi Γ (fun r_ u_ => r_ = (cowState c) ∧ u_ = [[(a, cowE c)]])) := by
  refine K_intro (by decide) (Nat.le_of_ble_eq_true rfl) ?_
  intro pr_ ev_ s mi_ below meth cd_ A ls hx hb hr hml hown hts hlocks hname hK hE hRo hP hD hA hS hsz hl
  have hl : lv_has ls 1 [(0, .ref a)] := hl
  have hown : s.vm.findClass RX5 = some mi_.cls := hown
  refine lv_aload_n hx hb dX5_stateNumber_0 rfl (lv_at hl 0 rfl) ?_
  refine b_get (C := RX5) (T := TX5) (N := 12) (v := .int (c 6)) hx hb hts in_X5 hown hK (b_at (k := 0) hP rfl) rfl 6 (by decide) q432 (fun _ h9 => h9) rfl dX5_stateNumber_1 ?_
  refine lv_if_eq (tgt := 11) hx hb dX5_stateNumber_4 (by decide) (fun c_1 => ?_) (fun c_1 => ?_)
  · -- 4 taken
    refine lv_aload_n hx hb dX5_stateNumber_11 rfl (lv_at hl 0 rfl) ?_
    refine b_get (C := RX5) (T := TX5) (N := 12) (v := .int (c 5)) hx hb hts in_X5 hown hK (b_at (k := 0) hP rfl) rfl 5 (by decide) q430 (fun _ h9 => h9) rfl dX5_stateNumber_12 ?_
    refine lv_if_eq (tgt := 22) hx hb dX5_stateNumber_15 (by decide) (fun c_2 => ?_) (fun c_2 => ?_)
    · -- 15 taken
      refine lv_iconst (v := 0) hx hb dX5_stateNumber_22 (by decide) ?_
      exact b_iret hx hb hr hlocks hP hD hS (Nat.le_of_ble_eq_true rfl) (Nat.le_of_ble_eq_true rfl) ⟨(by first | with_reducible rfl | (simp [cowState, c_1, c_2]; done) | rfl), (by first | with_reducible rfl | (simp [cowState, c_1, c_2]; done) | rfl)⟩ dX5_stateNumber_23
    · -- 15 not taken
      refine lv_iconst (v := 1) hx hb dX5_stateNumber_18 (by decide) ?_
      refine lv_goto (tgt := 23) hx hb dX5_stateNumber_19 (by decide) ?_
      exact b_iret hx hb hr hlocks hP hD hS (Nat.le_of_ble_eq_true rfl) (Nat.le_of_ble_eq_true rfl) ⟨(by first | with_reducible rfl | (simp [cowState, c_1, c_2]; done) | rfl), (by first | with_reducible rfl | (simp [cowState, c_1, c_2]; done) | rfl)⟩ dX5_stateNumber_23
  · -- 4 not taken
    refine lv_iconst (v := 2) hx hb dX5_stateNumber_7 (by decide) ?_
    refine lv_goto (tgt := 23) hx hb dX5_stateNumber_8 (by decide) ?_
    exact b_iret hx hb hr hlocks hP hD hS (Nat.le_of_ble_eq_true rfl) (Nat.le_of_ble_eq_true rfl) ⟨(by first | with_reducible rfl | (simp [cowState, c_1]; done) | rfl), (by first | with_reducible rfl | (simp [cowState, c_1]; done) | rfl)⟩ dX5_stateNumber_23
set_option maxHeartbeats 4000000 in
set_option maxRecDepth 100000 in
theorem mt_Cow_told (l : Launch) (Γ : GE) (sz : Nat) (a : Nat) (c : Nat → Int32) (w : Int32) (t : Int32)  : KM l yX5_told cX5_told 3 (some FieldType.int) Γ 3 75 0 0 [.ref a, .int w, .int t] [[(a, cowE c)]] [] sz (Qi Γ (fun r_ u_ => r_ = (cowTold c w t) ∧ u_ = [[(a, cowE c)]])) := by
  refine K_intro (by decide) (Nat.le_of_ble_eq_true rfl) ?_
  intro pr_ ev_ s mi_ below meth cd_ A ls hx hb hr hml hown hts hlocks hname hK hE hRo hP hD hA hS hsz hl
  have hl : lv_has ls 3 [(0, .ref a), (1, .int w), (2, .int t)] := hl
  have hown : s.vm.findClass RX5 = some mi_.cls := hown
  refine lv_iload_n hx hb dX5_told_0 rfl (lv_at hl 1 rfl) ?_
  by_cases c_1_0 : w = 0
  · -- case 0
    subst c_1_0
    refine lv_tableIn (tgt := 48) hx hb dX5_told_1 (by decide) (by decide) rfl (by decide) ?_
    refine lv_aload_n hx hb dX5_told_48 rfl (lv_at hl 0 rfl) ?_
    refine b_calli (br := []) (b_runV ⟨hx, hb, hml, hown, hts⟩ (mt_Cow_stateNumber l Γ _ a c) (lw_V q1302 q1303 q1304 q81 q1305) rfl rfl 0 (by decide +kernel) ⟨(Nat.le_of_ble_eq_true rfl), (Nat.le_of_ble_eq_true rfl)⟩ (c_pre hP hD hS hA hK hE [0] rfl rfl ro_nil) (recv_at (q := (RX5, TX5, 12)) hK (b_at (k := 0) hP rfl) rfl) rfl hl.1 rfl (Nat.le_of_ble_eq_true rfl) dX5_told_49 ⟨(Nat.le_of_ble_eq_true rfl), (Nat.le_of_ble_eq_true rfl)⟩) hP hD hS hA [0] [] rfl rfl rfl (fun r_2 u_2 H locs hw_2 hP hD hS _ => ?_)
    obtain ⟨rfl, rfl⟩ := hw_2
    have hP : WP Γ [[(a, cowE c)]] H := hP
    have hD : WD A [[(a, cowE c)]] := hD
    exact b_iret hx hb hr hlocks hP hD hS (Nat.le_of_ble_eq_true rfl) (Nat.le_of_ble_eq_true rfl) ⟨(by first | with_reducible rfl | (simp [cowTold]; done) | rfl), (by first | with_reducible rfl | (simp [cowTold]; done) | rfl)⟩ dX5_told_52
  by_cases c_1_1 : w = 1
  · -- case 1
    subst c_1_1
    refine lv_tableIn (tgt := 53) hx hb dX5_told_1 (by decide) (by decide) rfl (by decide) ?_
    refine lv_aload_n hx hb dX5_told_53 rfl (lv_at hl 0 rfl) ?_
    refine b_get (C := RX5) (T := TX5) (N := 12) (v := .int (c 4)) hx hb hts in_X5 hown hK (b_at (k := 0) hP rfl) rfl 4 (by decide) q429 (fun _ h9 => h9) rfl dX5_told_54 ?_
    exact b_iret hx hb hr hlocks hP hD hS (Nat.le_of_ble_eq_true rfl) (Nat.le_of_ble_eq_true rfl) ⟨(by first | with_reducible rfl | (simp [cowTold, c_1_0]; done) | rfl), (by first | with_reducible rfl | (simp [cowTold, c_1_0]; done) | rfl)⟩ dX5_told_57
  by_cases c_1_2 : w = 2
  · -- case 2
    subst c_1_2
    refine lv_tableIn (tgt := 58) hx hb dX5_told_1 (by decide) (by decide) rfl (by decide) ?_
    refine lv_aload_n hx hb dX5_told_58 rfl (lv_at hl 0 rfl) ?_
    refine lv_iload_n hx hb dX5_told_59 rfl (lv_at hl 2 rfl) ?_
    refine b_calli (br := []) (b_runV ⟨hx, hb, hml, hown, hts⟩ (mt_Cow_daysInMilk l Γ _ a c t) (lw_V q1306 q1033 q1034 q81 q1035) rfl rfl 1 (by decide +kernel) ⟨(Nat.le_of_ble_eq_true rfl), (Nat.le_of_ble_eq_true rfl)⟩ (c_pre hP hD hS hA hK hE [0] rfl rfl ro_nil) (recv_at (q := (RX5, TX5, 12)) hK (b_at (k := 0) hP rfl) rfl) rfl hl.1 rfl (Nat.le_of_ble_eq_true rfl) dX5_told_60 ⟨(Nat.le_of_ble_eq_true rfl), (Nat.le_of_ble_eq_true rfl)⟩) hP hD hS hA [0] [] rfl rfl rfl (fun r_3 u_3 H locs hw_3 hP hD hS _ => ?_)
    obtain ⟨rfl, rfl⟩ := hw_3
    have hP : WP Γ [[(a, cowE c)]] H := hP
    have hD : WD A [[(a, cowE c)]] := hD
    exact b_iret hx hb hr hlocks hP hD hS (Nat.le_of_ble_eq_true rfl) (Nat.le_of_ble_eq_true rfl) ⟨(by first | with_reducible rfl | (simp [cowTold, c_1_0, c_1_1]; done) | rfl), (by first | with_reducible rfl | (simp [cowTold, c_1_0, c_1_1]; done) | rfl)⟩ dX5_told_63
  by_cases c_1_3 : w = 3
  · -- case 3
    subst c_1_3
    refine lv_tableIn (tgt := 64) hx hb dX5_told_1 (by decide) (by decide) rfl (by decide) ?_
    refine lv_aload_n hx hb dX5_told_64 rfl (lv_at hl 0 rfl) ?_
    refine b_calli (br := []) (b_runV ⟨hx, hb, hml, hown, hts⟩ (mt_Cow_isCarrying l Γ _ a c) (lw_V q1307 q1025 q1026 q81 q1027) rfl rfl 0 (by decide +kernel) ⟨(Nat.le_of_ble_eq_true rfl), (Nat.le_of_ble_eq_true rfl)⟩ (c_pre hP hD hS hA hK hE [0] rfl rfl ro_nil) (recv_at (q := (RX5, TX5, 12)) hK (b_at (k := 0) hP rfl) rfl) rfl hl.1 rfl (Nat.le_of_ble_eq_true rfl) dX5_told_65 ⟨(Nat.le_of_ble_eq_true rfl), (Nat.le_of_ble_eq_true rfl)⟩) hP hD hS hA [0] [] rfl rfl rfl (fun r_4 u_4 H locs hw_4 hP hD hS _ => ?_)
    obtain ⟨rfl, rfl⟩ := hw_4
    have hP : WP Γ [[(a, cowE c)]] H := hP
    have hD : WD A [[(a, cowE c)]] := hD
    refine lv_if_eq (tgt := 78) hx hb dX5_told_68 (by decide) (fun c_5 => ?_) (fun c_5 => ?_)
    · -- 68 taken
      refine lv_iconst (v := (-1)) hx hb dX5_told_78 (by decide) ?_
      exact b_iret hx hb hr hlocks hP hD hS (Nat.le_of_ble_eq_true rfl) (Nat.le_of_ble_eq_true rfl) ⟨(by first | with_reducible rfl | (simp [cowTold, c_1_0, c_1_1, c_1_2, c_5]; done) | rfl), (by first | with_reducible rfl | (simp [cowTold, c_1_0, c_1_1, c_1_2, c_5]; done) | rfl)⟩ dX5_told_79
    · -- 68 not taken
      refine lv_aload_n hx hb dX5_told_71 rfl (lv_at hl 0 rfl) ?_
      refine b_get (C := RX5) (T := TX5) (N := 12) (v := .int (c 8)) hx hb hts in_X5 hown hK (b_at (k := 0) hP rfl) rfl 8 (by decide) q438 (fun _ h9 => h9) rfl dX5_told_72 ?_
      refine lv_goto (tgt := 79) hx hb dX5_told_75 (by decide) ?_
      exact b_iret hx hb hr hlocks hP hD hS (Nat.le_of_ble_eq_true rfl) (Nat.le_of_ble_eq_true rfl) ⟨(by first | with_reducible rfl | (simp [cowTold, c_1_0, c_1_1, c_1_2, c_5]; done) | rfl), (by first | with_reducible rfl | (simp [cowTold, c_1_0, c_1_1, c_1_2, c_5]; done) | rfl)⟩ dX5_told_79
  by_cases c_1_4 : w = 4
  · -- case 4
    subst c_1_4
    refine lv_tableIn (tgt := 80) hx hb dX5_told_1 (by decide) (by decide) rfl (by decide) ?_
    refine lv_aload_n hx hb dX5_told_80 rfl (lv_at hl 0 rfl) ?_
    refine b_get (C := RX5) (T := TX5) (N := 12) (v := .int (c 3)) hx hb hts in_X5 hown hK (b_at (k := 0) hP rfl) rfl 3 (by decide) q425 (fun _ h9 => h9) rfl dX5_told_81 ?_
    exact b_iret hx hb hr hlocks hP hD hS (Nat.le_of_ble_eq_true rfl) (Nat.le_of_ble_eq_true rfl) ⟨(by first | with_reducible rfl | (simp [cowTold, c_1_0, c_1_1, c_1_2, c_1_3]; done) | rfl), (by first | with_reducible rfl | (simp [cowTold, c_1_0, c_1_1, c_1_2, c_1_3]; done) | rfl)⟩ dX5_told_84
  by_cases c_1_5 : w = 5
  · -- case 5
    subst c_1_5
    refine lv_tableIn (tgt := 85) hx hb dX5_told_1 (by decide) (by decide) rfl (by decide) ?_
    refine lv_aload_n hx hb dX5_told_85 rfl (lv_at hl 0 rfl) ?_
    refine b_get (C := RX5) (T := TX5) (N := 12) (v := .int (c 9)) hx hb hts in_X5 hown hK (b_at (k := 0) hP rfl) rfl 9 (by decide) q441 (fun _ h9 => h9) rfl dX5_told_86 ?_
    exact b_iret hx hb hr hlocks hP hD hS (Nat.le_of_ble_eq_true rfl) (Nat.le_of_ble_eq_true rfl) ⟨(by first | with_reducible rfl | (simp [cowTold, c_1_0, c_1_1, c_1_2, c_1_3, c_1_4]; done) | rfl), (by first | with_reducible rfl | (simp [cowTold, c_1_0, c_1_1, c_1_2, c_1_3, c_1_4]; done) | rfl)⟩ dX5_told_89
  by_cases c_1_6 : w = 6
  · -- case 6
    subst c_1_6
    refine lv_tableIn (tgt := 90) hx hb dX5_told_1 (by decide) (by decide) rfl (by decide) ?_
    refine lv_aload_n hx hb dX5_told_90 rfl (lv_at hl 0 rfl) ?_
    refine b_get (C := RX5) (T := TX5) (N := 12) (v := .int (c 10)) hx hb hts in_X5 hown hK (b_at (k := 0) hP rfl) rfl 10 (by decide) q443 (fun _ h9 => h9) rfl dX5_told_91 ?_
    exact b_iret hx hb hr hlocks hP hD hS (Nat.le_of_ble_eq_true rfl) (Nat.le_of_ble_eq_true rfl) ⟨(by first | with_reducible rfl | (simp [cowTold, c_1_0, c_1_1, c_1_2, c_1_3, c_1_4, c_1_5]; done) | rfl), (by first | with_reducible rfl | (simp [cowTold, c_1_0, c_1_1, c_1_2, c_1_3, c_1_4, c_1_5]; done) | rfl)⟩ dX5_told_94
  by_cases c_1_7 : w = 7
  · -- case 7
    subst c_1_7
    refine lv_tableIn (tgt := 95) hx hb dX5_told_1 (by decide) (by decide) rfl (by decide) ?_
    refine lv_aload_n hx hb dX5_told_95 rfl (lv_at hl 0 rfl) ?_
    refine b_get (C := RX5) (T := TX5) (N := 12) (v := .int (c 11)) hx hb hts in_X5 hown hK (b_at (k := 0) hP rfl) rfl 11 (by decide) q446 (fun _ h9 => h9) rfl dX5_told_96 ?_
    exact b_iret hx hb hr hlocks hP hD hS (Nat.le_of_ble_eq_true rfl) (Nat.le_of_ble_eq_true rfl) ⟨(by first | with_reducible rfl | (simp [cowTold, c_1_0, c_1_1, c_1_2, c_1_3, c_1_4, c_1_5, c_1_6]; done) | rfl), (by first | with_reducible rfl | (simp [cowTold, c_1_0, c_1_1, c_1_2, c_1_3, c_1_4, c_1_5, c_1_6]; done) | rfl)⟩ dX5_told_99
  refine lv_tableOut (tgt := 100) hx hb dX5_told_1 (sw_out 0 7 (by decide) (fun j h1 h2 => by rcases (show j = 0 ∨ j = 1 ∨ j = 2 ∨ j = 3 ∨ j = 4 ∨ j = 5 ∨ j = 6 ∨ j = 7 by omega) with rfl | rfl | rfl | rfl | rfl | rfl | rfl | rfl <;> assumption)) (by decide) ?_
  refine lv_aload_n hx hb dX5_told_100 rfl (lv_at hl 0 rfl) ?_
  refine lv_iload_n hx hb dX5_told_101 rfl (lv_at hl 2 rfl) ?_
  refine b_calli (br := []) (b_runV ⟨hx, hb, hml, hown, hts⟩ (mt_Cow_litres l Γ _ a c t) (lw_V q1308 q1210 q1211 q81 q1212) rfl rfl 1 (by decide +kernel) ⟨(Nat.le_of_ble_eq_true rfl), (Nat.le_of_ble_eq_true rfl)⟩ (c_pre hP hD hS hA hK hE [0] rfl rfl ro_nil) (recv_at (q := (RX5, TX5, 12)) hK (b_at (k := 0) hP rfl) rfl) rfl hl.1 rfl (Nat.le_of_ble_eq_true rfl) dX5_told_102 ⟨(Nat.le_of_ble_eq_true rfl), (Nat.le_of_ble_eq_true rfl)⟩) hP hD hS hA [0] [] rfl rfl rfl (fun r_6 u_6 H locs hw_6 hP hD hS _ => ?_)
  obtain ⟨rfl, rfl⟩ := hw_6
  have hP : WP Γ [[(a, cowE c)]] H := hP
  have hD : WD A [[(a, cowE c)]] := hD
  exact b_iret hx hb hr hlocks hP hD hS (Nat.le_of_ble_eq_true rfl) (Nat.le_of_ble_eq_true rfl) ⟨(by first | with_reducible rfl | (simp [cowTold, c_1_0, c_1_1, c_1_2, c_1_3, c_1_4, c_1_5, c_1_6, c_1_7]; done) | rfl), (by first | with_reducible rfl | (simp [cowTold, c_1_0, c_1_1, c_1_2, c_1_3, c_1_4, c_1_5, c_1_6, c_1_7]; done) | rfl)⟩ dX5_told_105
