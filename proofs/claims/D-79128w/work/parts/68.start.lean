/-! THE START: what every state knows, out of the start's words -/
set_option maxHeartbeats 4000000 in
set_option maxRecDepth 100000 in
/-- the start's own words -/
def stW : List Cond := flatC (Cond.and given_1 narrow_1)
abbrev stT (i : Nat) : Term := .string (str_own i) (str_ix i)
abbrev stV (i : Nat) : Term := .field (stT i) "java/lang/String" "value" "[B"
theorem st_ex : ∀ i, i < nStr → stW[([454, 522, 529, 536, 543, 550, 557, 564, 572, 580, 587, 595, 603, 611, 651, 661, 672, 683, 694, 703, 713, 724, 736, 746, 758, 770, 887, 896, 905, 915, 924, 933, 945, 958, 971, 982, 994] : List Nat).getD i 0]? = some (Cond.exactly (stT i) "java/lang/String") := by decide +kernel
theorem st_co : ∀ i, i < nStr → stW[([455, 523, 530, 537, 544, 551, 558, 565, 573, 581, 588, 596, 604, 612, 652, 662, 673, 684, 695, 704, 714, 725, 737, 747, 759, 771, 888, 897, 906, 916, 925, 934, 946, 959, 972, 983, 995] : List Nat).getD i 0]? = some (Cond.eq (.field (stT i) "java/lang/String" "coder" "B") (.int 0)) := by decide +kernel
theorem st_ar : ∀ i, i < nStr → stW[([456, 524, 531, 538, 545, 552, 559, 566, 574, 582, 589, 597, 605, 613, 653, 663, 674, 685, 696, 705, 715, 726, 738, 748, 760, 772, 889, 898, 907, 917, 926, 935, 947, 960, 973, 984, 996] : List Nat).getD i 0]? = some (Cond.arrayOf (stV i) .byte) := by decide +kernel
theorem st_le : ∀ i, i < nStr → stW[([457, 525, 532, 539, 546, 553, 560, 567, 575, 583, 590, 598, 606, 614, 654, 664, 675, 686, 697, 706, 716, 727, 739, 749, 761, 773, 890, 899, 908, 918, 927, 936, 948, 961, 974, 985, 997] : List Nat).getD i 0]? = some (Cond.eq (.length (stV i)) (.int (Int32.ofNat (str_by i).length))) := by decide +kernel
theorem st_el : ∀ i, i < nStr → ∀ j, j < (str_by i).length → stW[(([[], [526], [533], [540], [547], [554], [561], [568, 569], [576, 577], [584], [591], [599, 600], [607, 608], [615, 616, 617], [655, 656, 657, 658], [665, 666, 667, 668, 669], [676, 677, 678, 679, 680], [687, 688, 689, 690, 691], [698, 699, 700], [707, 708, 709, 710], [717, 718, 719, 720], [728, 729, 730, 731, 732], [740, 741, 742], [750, 751, 752, 753, 754], [762, 763, 764, 765, 766], [774, 775, 776, 777], [891, 892], [900, 901], [909, 910, 911], [919, 920], [928, 929], [937, 938, 939, 940], [949, 950, 951, 952, 953], [962, 963, 964, 965, 966], [975, 976, 977], [986, 987, 988, 989], [998, 999, 1000, 1001, 1002]] : List (List Nat)).getD i []).getD j 0]? = some (Cond.eq (.elem (stV i) (.int (Int32.ofNat j))) (.int ((str_by i).getD j 0))) := by decide +kernel
theorem st_sh : ∀ i, i < nStr → (str_by i).length < 2 ^ 31 := by decide +kernel
theorem st_DigitOnes : ∀ j, j < 100 → stW[([14, 15, 16, 17, 18, 19, 20, 21, 22, 23, 24, 25, 26, 27, 28, 29, 30, 31, 32, 33, 34, 35, 36, 37, 38, 39, 40, 41, 42, 43, 44, 45, 46, 47, 48, 49, 50, 51, 52, 53, 54, 55, 56, 57, 58, 59, 60, 61, 62, 63, 64, 65, 66, 67, 68, 69, 70, 71, 72, 73, 74, 75, 76, 77, 78, 79, 80, 81, 82, 83, 84, 85, 86, 87, 88, 89, 90, 91, 92, 93, 94, 95, 96, 97, 98, 99, 100, 101, 102, 103, 104, 105, 106, 107, 108, 109, 110, 111, 112, 113] : List Nat).getD j 0]? = some (Cond.eq (.elem (.static "java/lang/Integer" "DigitOnes" "[B") (.int (Int32.ofNat j))) (.int (nI (48 + j % 10)))) := by decide +kernel
theorem st_DigitTens : ∀ j, j < 100 → stW[([117, 118, 119, 120, 121, 122, 123, 124, 125, 126, 127, 128, 129, 130, 131, 132, 133, 134, 135, 136, 137, 138, 139, 140, 141, 142, 143, 144, 145, 146, 147, 148, 149, 150, 151, 152, 153, 154, 155, 156, 157, 158, 159, 160, 161, 162, 163, 164, 165, 166, 167, 168, 169, 170, 171, 172, 173, 174, 175, 176, 177, 178, 179, 180, 181, 182, 183, 184, 185, 186, 187, 188, 189, 190, 191, 192, 193, 194, 195, 196, 197, 198, 199, 200, 201, 202, 203, 204, 205, 206, 207, 208, 209, 210, 211, 212, 213, 214, 215, 216] : List Nat).getD j 0]? = some (Cond.eq (.elem (.static "java/lang/Integer" "DigitTens" "[B") (.int (Int32.ofNat j))) (.int (nI (48 + j / 10)))) := by decide +kernel
theorem st_nc0 : stW[229]? = some (Cond.not (.castable "java/lang/IllegalStateException" "java/lang/IllegalArgumentException")) := by decide +kernel
theorem st_nc1 : stW[277]? = some (Cond.not (.castable "java/lang/IllegalArgumentException" "java/lang/IndexOutOfBoundsException")) := by decide +kernel
theorem st_nc2 : stW[299]? = some (Cond.not (.castable "java/lang/IllegalArgumentException" "java/lang/UnsupportedOperationException")) := by decide +kernel
theorem st_nc3 : stW[278]? = some (Cond.not (.castable "java/lang/IllegalStateException" "java/lang/IndexOutOfBoundsException")) := by decide +kernel
theorem st_nc4 : stW[231]? = some (Cond.not (.castable "java/util/NoSuchElementException" "java/lang/IllegalArgumentException")) := by decide +kernel
theorem st_nc5 : stW[236]? = some (Cond.not (.castable "java/lang/UnsupportedOperationException" "java/lang/IllegalArgumentException")) := by decide +kernel
theorem st_la0 : stW[1009]? = some (laW 0) := by decide +kernel
theorem st_la1 : stW[1010]? = some (laW 1) := by decide +kernel
theorem st_la2 : stW[1011]? = some (laW 2) := by decide +kernel
theorem st_la3 : stW[1012]? = some (laW 3) := by decide +kernel
theorem st_la4 : stW[1013]? = some (laW 4) := by decide +kernel
theorem st_la5 : stW[1014]? = some (laW 5) := by decide +kernel
theorem st_sr : ∀ i, i < nStr → Cond.stringRef (str_own i) (str_ix i) (str_tx i) ∈ lw_tbl := by
  have F : ∀ {w : Cond}, w ∈ lw_all → w ∈ lw_tbl := fun h => (List.mem_filter.mp h).1
  intro i hi
  match i, hi with
  | 0, _ => exact q247
  | 1, _ => exact q1433
  | 2, _ => exact q1439
  | 3, _ => exact q1440
  | 4, _ => exact q1441
  | 5, _ => exact q1442
  | 6, _ => exact q1443
  | 7, _ => exact q1444
  | 8, _ => exact q1445
  | 9, _ => exact q1452
  | 10, _ => exact q1455
  | 11, _ => exact q1456
  | 12, _ => exact q1457
  | 13, _ => exact q1458
  | 14, _ => exact q1632
  | 15, _ => exact q1641
  | 16, _ => exact q1642
  | 17, _ => exact q1643
  | 18, _ => exact q1644
  | 19, _ => exact q1645
  | 20, _ => exact q1705
  | 21, _ => exact q1707
  | 22, _ => exact q1708
  | 23, _ => exact q1709
  | 24, _ => exact q1719
  | 25, _ => exact q1720
  | 26, _ => exact q2110
  | 27, _ => exact q2112
  | 28, _ => exact q2113
  | 29, _ => exact q2119
  | 30, _ => exact q2120
  | 31, _ => exact q2170
  | 32, _ => exact q2171
  | 33, _ => exact q2172
  | 34, _ => exact q2173
  | 35, _ => exact q2174
  | 36, _ => exact q2175
  | n + 37, h => exact absurd h (by show ¬ n + 37 < 37; omega)
theorem la_site {w : Cond} {x : MethodName} {pc ix : Nat} {σ : Jvm.Lambda.Shape} (h : laPart w = some (x, pc, ix, σ)) : w = .lambdaSite x pc ix σ := by
  unfold laPart at h
  split at h
  · cases h; rfl
  · cases h
theorem la_cap : ∀ i, i < 6 → ∀ (x : MethodName) (pc ix : Nat) (σ : Jvm.Lambda.Shape), laPart (laW i) = some (x, pc, ix, σ) → σ.captured = [] := by
  intro i hi x pc ix σ h
  rcases (show i = 0 ∨ i = 1 ∨ i = 2 ∨ i = 3 ∨ i = 4 ∨ i = 5 by omega) with rfl | rfl | rfl | rfl | rfl | rfl <;> (cases h; rfl)
theorem la_of {x : MethodName} {pc ix : Nat} {σ : Jvm.Lambda.Shape} {s : State} {args : Array Value} (h : (Cond.lambdaSite x pc ix σ).before args s = true) (hc : σ.captured = []) : ∃ a, va_La x pc σ a (fun q => s.heap.size ≤ q) s s.heap := by
  obtain ⟨c, one, h1⟩ := Cond.lambdaSite_spec (args := args) (first := s) (o := none) (s := s) (idx := []) h
  obtain ⟨m, k, cf, i0, p0, l, hm, hk, hcf, -, -, hfind, hmade, hcan, hd⟩ := State.lambdaAt?_spec h1
  rcases hd with ⟨a, cell, rfl, -, -, hcell, hcls, hvm, -⟩ | ⟨-, -, z⟩
  · exact ⟨a, m, k, cf, i0, p0, cell, hm, hk, hcf, hfind, by rw [hcls]; exact hmade, by rw [hcls]; exact hcan, hcell, hvm, Nat.not_le.mpr (Array.getElem?_eq_some_iff.mp hcell).1⟩
  · exact absurd hc z
theorem ar_of {ty : FieldType} {s : State} {args : Array Value} (h : (Cond.arrayClass ty).before args s = true) : ∃ cA, s.vm.findClass ("[" ++ ty.toString) = some cA ∧ ArrOfT s cA ty := by
  obtain ⟨c, k, comp, h1, h2, h3⟩ := Cond.arrayClass_spec (args := args) (first := s) (o := none) (s := s) (idx := []) h
  exact ⟨c, h1, fun n z => ⟨fun k h => (by cases h), k, h2, comp, h3⟩⟩
theorem ao_of {C : String} {s : State} {args : Array Value} (h : (Cond.arrayOver (.object C)).before args s = true) : ∃ cA, va_RA s cA (.object C) ∧ ArrOfT s cA (.object C) := by
  obtain ⟨comp, c, k, h1, h2, h3, h4, h5⟩ := Cond.arrayOver_spec (args := args) (first := s) (o := none) (s := s) (idx := []) h
  exact ⟨c, ⟨k, comp, h3, h4, h1, h5⟩, fun n z => ⟨fun k h => (by cases h), k, h3, comp, h4⟩⟩
theorem st_fx {s : State} {sb : Nat} (hgv : (Cond.and given_1 narrow_1).before #[Value.ref sb] s = true) : ∀ (k : Nat) (w : Cond), stW[k]? = some w → w.before #[Value.ref sb] s = true := fun k w h => flat_of_before _ hgv w (List.mem_of_getElem? h)

theorem st_cls {s : State} {sb : Nat} (htl : ∀ w ∈ lw_all, w.before #[Value.ref sb] s = true) : ∃ (dC : Nat → ClassId) (dI : Nat → Nat → Nat), ∀ (k : Nat) (q : vw_C), cls[k]? = some q → u_Kn s q.1 q.2.1 q.2.2 (dC k) (dI k) := by
  obtain ⟨c0, i0, h0⟩ := u_known (C := RX1) (T := TX1) (N := 9) (n := 9) htl in_X1 (htl _ q104)
  obtain ⟨c1, i1, h1⟩ := u_known (C := RX2) (T := TX2) (N := 8) (n := 8) htl in_X2 (htl _ q112)
  obtain ⟨c2, i2, h2⟩ := u_known (C := RX3) (T := TX3) (N := 2) (n := 2) htl in_X3 (htl _ q147)
  obtain ⟨c3, i3, h3⟩ := u_known (C := RX4) (T := TX4) (N := 16) (n := 16) htl in_X4 (htl _ q1800)
  obtain ⟨c4, i4, h4⟩ := u_known (C := RX5) (T := TX5) (N := 12) (n := 12) htl in_X5 (htl _ q413)
  obtain ⟨c5, i5, h5⟩ := u_known (C := RX6) (T := TX6) (N := 2) (n := 2) htl in_X6 (htl _ q1115)
  obtain ⟨c6, i6, h6⟩ := u_known (C := RX7) (T := TX7) (N := 6) (n := 6) htl in_X7 (htl _ q1238)
  obtain ⟨c7, i7, h7⟩ := u_known (C := RX9) (T := TX9) (N := 1) (n := 1) htl in_X9 (htl _ q1408)
  obtain ⟨c8, i8, h8⟩ := u_known (C := RX10) (T := TX10) (N := 2) (n := 2) htl in_X10 (htl _ q1532)
  obtain ⟨c9, i9, h9⟩ := u_known (C := RXF) (T := TXF) (N := 1) (n := 7) htl in_XF (htl _ q1647)
  obtain ⟨c10, i10, h10⟩ := u_known (C := RX12) (T := TX12) (N := 3) (n := 3) htl in_X12 (htl _ q1678)
  obtain ⟨c11, i11, h11⟩ := u_known (C := RJ2) (T := TJ2) (N := 3) (n := 3) htl in_J2 (htl _ q118)
  obtain ⟨c12, i12, h12⟩ := u_known (C := RJ3) (T := TJ3) (N := 3) (n := 3) htl in_J3 (htl _ q197)
  obtain ⟨c13, i13, h13⟩ := u_known (C := RJ5) (T := TJ5) (N := 4) (n := 4) htl in_J5 (htl _ q215)
  obtain ⟨c14, i14, h14⟩ := u_known (C := RJ6) (T := TJ6) (N := 4) (n := 4) htl in_J6 (htl _ q713)
  obtain ⟨c15, i15, h15⟩ := u_known (C := RJ13) (T := TJ13) (N := 4) (n := 4) htl in_J13 (htl _ q301)
  obtain ⟨c16, i16, h16⟩ := u_known (C := RJ11) (T := TJ11) (N := 0) (n := 6) htl (fun w hw => by simp [u_ws] at hw) (htl _ q567)
  obtain ⟨c17, i17, h17⟩ := u_known (C := RJ12) (T := TJ12) (N := 0) (n := 6) htl (fun w hw => by simp [u_ws] at hw) (htl _ q825)
  obtain ⟨c18, i18, h18⟩ := u_known (C := RJ21) (T := TJ21) (N := 0) (n := 6) htl (fun w hw => by simp [u_ws] at hw) (htl _ q918)
  obtain ⟨c19, i19, h19⟩ := u_known (C := RJ14) (T := TJ14) (N := 0) (n := 6) htl (fun w hw => by simp [u_ws] at hw) (htl _ q343)
  obtain ⟨c20, i20, h20⟩ := u_known (C := RJ24) (T := TJ24) (N := 0) (n := 6) htl (fun w hw => by simp [u_ws] at hw) (htl _ q982)
  obtain ⟨c21, i21, h21⟩ := u_known (C := RJ26) (T := TJ26) (N := 0) (n := 6) htl (fun w hw => by simp [u_ws] at hw) (htl _ q1745)
  refine ⟨fun k => ([c0, c1, c2, c3, c4, c5, c6, c7, c8, c9, c10, c11, c12, c13, c14, c15, c16, c17, c18, c19, c20, c21] : List ClassId).getD k 0, fun k => ([i0, i1, i2, i3, i4, i5, i6, i7, i8, i9, i10, i11, i12, i13, i14, i15, i16, i17, i18, i19, i20, i21] : List (Nat → Nat)).getD k (fun _ => 0), ?_⟩
  intro k q hq
  match k, hq with
  | 0, hq => cases hq; exact h0
  | 1, hq => cases hq; exact h1
  | 2, hq => cases hq; exact h2
  | 3, hq => cases hq; exact h3
  | 4, hq => cases hq; exact h4
  | 5, hq => cases hq; exact h5
  | 6, hq => cases hq; exact h6
  | 7, hq => cases hq; exact h7
  | 8, hq => cases hq; exact h8
  | 9, hq => cases hq; exact h9
  | 10, hq => cases hq; exact h10
  | 11, hq => cases hq; exact h11
  | 12, hq => cases hq; exact h12
  | 13, hq => cases hq; exact h13
  | 14, hq => cases hq; exact h14
  | 15, hq => cases hq; exact h15
  | 16, hq => cases hq; exact h16
  | 17, hq => cases hq; exact h17
  | 18, hq => cases hq; exact h18
  | 19, hq => cases hq; exact h19
  | 20, hq => cases hq; exact h20
  | 21, hq => cases hq; exact h21
  | k + 22, hq => simp [cls] at hq
theorem st_str {s : State} {sb : Nat} (hfx : ∀ (k : Nat) (w : Cond), stW[k]? = some w → w.before #[Value.ref sb] s = true) : ∃ sk sv : Nat → Nat, ∀ i, i < nStr → (stT i).eval #[Value.ref sb] s none [] s = some (.ref (sk i)) ∧ va_O "java/lang/String" (sk i) (fun q => s.heap.size ≤ q) s s.heap ∧ va_OF "java/lang/String" "coder" "B" (.int 0) (sk i) (fun q => s.heap.size ≤ q) s s.heap ∧ va_OF "java/lang/String" "value" "[B" (.ref (sv i)) (sk i) (fun q => s.heap.size ≤ q) s s.heap ∧ va_T .byte (sv i) (str_by i).length (fun j => .int ((str_by i).getD j 0)) (fun q => s.heap.size ≤ q) s s.heap := by
  have hA : ∀ a : Nat, a < s.heap.size → ¬ (fun q : Nat => s.heap.size ≤ q) a := fun a h => Nat.not_le.mpr h
  have h0 : ∀ i : Nat, ∃ q : Nat × Nat, i < nStr → (stT i).eval #[Value.ref sb] s none [] s = some (.ref q.1) ∧ va_O "java/lang/String" q.1 (fun q => s.heap.size ≤ q) s s.heap ∧ va_OF "java/lang/String" "coder" "B" (.int 0) q.1 (fun q => s.heap.size ≤ q) s s.heap ∧ va_OF "java/lang/String" "value" "[B" (.ref q.2) q.1 (fun q => s.heap.size ≤ q) s s.heap ∧ va_T .byte q.2 (str_by i).length (fun j => .int ((str_by i).getD j 0)) (fun q => s.heap.size ≤ q) s s.heap := by
    intro i
    by_cases hi : i < nStr
    · obtain ⟨a, c, cA, kA, q1, q2, q3, q4, q5, q6, -⟩ := Cond.exactly_spec (args := #[Value.ref sb]) (first := s) (o := none) (s := s) (idx := []) (t := stT i) (cls := "java/lang/String") (hfx _ _ (st_ex i hi))
      obtain ⟨t, ht, hT⟩ := va_Tof (f := fun j => .int ((str_by i).getD j 0)) (A := fun q => s.heap.size ≤ q) (st_sh i hi) (hfx _ _ (st_ar i hi)) (va_eqt (hfx _ _ (st_le i hi))) (fun j hj => va_eqt (hfx _ _ (st_el i hi j hj))) hA
      exact ⟨(a, t), fun _ => ⟨q1, ⟨cA, q3, q5, by rw [q6]; exact q2, hA a (Array.getElem?_eq_some_iff.mp q3).1⟩, vk_OFof q1 (va_eqt (hfx _ _ (st_co i hi))) hA, vk_OFof q1 ht hA, hT⟩⟩
    · exact ⟨(0, 0), fun h => absurd h hi⟩
  obtain ⟨ad, had⟩ := Classical.axiomOfChoice h0
  exact ⟨fun i => (ad i).1, fun i => (ad i).2, had⟩
theorem st_lam {s : State} {sb : Nat} (hfx : ∀ (k : Nat) (w : Cond), stW[k]? = some w → w.before #[Value.ref sb] s = true) : ∃ la : Nat → Nat, ∀ (i : Nat) (x : MethodName) (pc ix : Nat) (σ : Jvm.Lambda.Shape), i < 6 → laPart (laW i) = some (x, pc, ix, σ) → va_La x pc σ (la i) (fun q => s.heap.size ≤ q) s s.heap := by
  have hw : ∀ i, i < 6 → (laW i).before #[Value.ref sb] s = true := by
    intro i hi
    rcases (show i = 0 ∨ i = 1 ∨ i = 2 ∨ i = 3 ∨ i = 4 ∨ i = 5 by omega) with rfl | rfl | rfl | rfl | rfl | rfl
    · exact hfx _ _ st_la0
    · exact hfx _ _ st_la1
    · exact hfx _ _ st_la2
    · exact hfx _ _ st_la3
    · exact hfx _ _ st_la4
    · exact hfx _ _ st_la5
  have h0 : ∀ i : Nat, ∃ a : Nat, ∀ (x : MethodName) (pc ix : Nat) (σ : Jvm.Lambda.Shape), i < 6 → laPart (laW i) = some (x, pc, ix, σ) → va_La x pc σ a (fun q => s.heap.size ≤ q) s s.heap := by
    intro i
    by_cases hi : i < 6
    · cases hl : laPart (laW i) with
      | none => exact ⟨0, fun x pc ix σ _ h => by cases h⟩
      | some w =>
        obtain ⟨x, pc, ix, σ⟩ := w
        have h1 := hw i hi
        rw [la_site hl] at h1
        obtain ⟨a, ha⟩ := la_of h1 (la_cap i hi x pc ix σ hl)
        exact ⟨a, fun x' pc' ix' σ' _ h => by cases h; exact ha⟩
    · exact ⟨0, fun _ _ _ _ h => absurd h hi⟩
  obtain ⟨la, hla⟩ := Classical.axiomOfChoice h0
  exact ⟨la, hla⟩
theorem en_start {s : State} {sb : Nat} (hts : ∀ w ∈ lw_tbl, w.before #[Value.ref sb] s = true) (hgv : (Cond.and given_1 narrow_1).before #[Value.ref sb] s = true) : ∃ Γ : GE, va_K Γ.1 cls (tysG Γ) s ∧ EN Γ (fun q => s.heap.size ≤ q) s := by
  have htl : ∀ w ∈ lw_all, w.before #[Value.ref sb] s = true := fun w h => hts w (List.mem_filter.mp h).1
  have hfx := st_fx hgv
  have hA : ∀ a : Nat, a < s.heap.size → ¬ (fun q : Nat => s.heap.size ≤ q) a := fun a h => Nat.not_le.mpr h
  obtain ⟨dC, dI, hKc⟩ := st_cls htl
  obtain ⟨k0, e0, z0⟩ := ar_of (htl _ q195)
  obtain ⟨k1, e1, z1⟩ := ar_of (htl _ q246)
  obtain ⟨k2, e2, z2⟩ := ao_of (hts _ q203)
  obtain ⟨k3, e3, z3⟩ := ar_of (htl _ q2206)
  obtain ⟨k4, e4, z4⟩ := ar_of (htl _ q2207)
  obtain ⟨mi, hmi⟩ := va_Mi.of (hfx 453 (Cond.isRef (.mirror "[Ljava/lang/Object;")) (by decide +kernel))
  obtain ⟨t0, ht0, hT0⟩ := va_Tof (tm := .static "java/util/ArrayList" "DEFAULTCAPACITY_EMPTY_ELEMENTDATA" "[Ljava/lang/Object;") (ty := .object "java/lang/Object") (N := 0) (f := fun _ => .null) (A := (fun q => s.heap.size ≤ q)) (by decide) (hfx 5 (Cond.arrayOf (.static "java/util/ArrayList" "DEFAULTCAPACITY_EMPTY_ELEMENTDATA" "[Ljava/lang/Object;") (.object "java/lang/Object")) (by decide +kernel)) (va_eqt (hfx 7 (Cond.eq (.length (.static "java/util/ArrayList" "DEFAULTCAPACITY_EMPTY_ELEMENTDATA" "[Ljava/lang/Object;")) (.int (Int32.ofNat 0))) (by decide +kernel))) (fun j hj => absurd hj (Nat.not_lt_zero _)) hA
  have hZ0 := va_Zref (A := (fun q => s.heap.size ≤ q)) (hts _ q130) (htl _ q66) ht0 hA
  have hO0 := va_Oof (A := (fun q => s.heap.size ≤ q)) (hfx 6 (Cond.exactly (.static "java/util/ArrayList" "DEFAULTCAPACITY_EMPTY_ELEMENTDATA" "[Ljava/lang/Object;") "[Ljava/lang/Object;") (by decide +kernel)) ht0 hA
  obtain ⟨t1, ht1, hT1⟩ := va_Tof (tm := .static "java/lang/Integer" "DigitOnes" "[B") (ty := .byte) (N := 100) (f := fun j => .int (nI (48 + j % 10))) (A := (fun q => s.heap.size ≤ q)) (by decide) (hfx 12 (Cond.arrayOf (.static "java/lang/Integer" "DigitOnes" "[B") .byte) (by decide +kernel)) (va_eqt (hfx 13 (Cond.eq (.length (.static "java/lang/Integer" "DigitOnes" "[B")) (.int (Int32.ofNat 100))) (by decide +kernel))) (fun j hj => va_eqt (hfx _ _ (st_DigitOnes j hj))) hA
  have hZ1 := va_Zref (A := (fun q => s.heap.size ≤ q)) (hts _ q616) (htl _ q87) ht1 hA
  obtain ⟨t2, ht2, hT2⟩ := va_Tof (tm := .static "java/lang/Integer" "DigitTens" "[B") (ty := .byte) (N := 100) (f := fun j => .int (nI (48 + j / 10))) (A := (fun q => s.heap.size ≤ q)) (by decide) (hfx 115 (Cond.arrayOf (.static "java/lang/Integer" "DigitTens" "[B") .byte) (by decide +kernel)) (va_eqt (hfx 116 (Cond.eq (.length (.static "java/lang/Integer" "DigitTens" "[B")) (.int (Int32.ofNat 100))) (by decide +kernel))) (fun j hj => va_eqt (hfx _ _ (st_DigitTens j hj))) hA
  have hZ2 := va_Zref (A := (fun q => s.heap.size ≤ q)) (hts _ q618) (htl _ q87) ht2 hA
  obtain ⟨sk, sv, hst⟩ := st_str hfx
  obtain ⟨la, hla⟩ := st_lam hfx
  obtain ⟨ad, d0, d1, d2, d3, dl, dk, dv⟩ : ∃ ad : Nat → Nat, ad 0 = t0 ∧ ad 1 = t1 ∧ ad 2 = t2 ∧ ad 3 = mi ∧ (∀ i, i < 6 → ad (10 + i) = la i) ∧ (∀ i, ad (100 + 2 * i) = sk i) ∧ (∀ i, ad (101 + 2 * i) = sv i) := by
    refine ⟨fun n => if n = 0 then t0 else if n = 1 then t1 else if n = 2 then t2 else if n = 3 then mi else if n < 100 then la (n - 10) else if n % 2 = 0 then sk ((n - 100) / 2) else sv ((n - 101) / 2), rfl, rfl, rfl, rfl, fun i hi => ?_, fun i => ?_, fun i => ?_⟩
    · dsimp only
      rw [if_neg (by omega), if_neg (by omega), if_neg (by omega), if_neg (by omega), if_pos (by omega), show 10 + i - 10 = i by omega]
    · dsimp only
      rw [if_neg (by omega), if_neg (by omega), if_neg (by omega), if_neg (by omega), if_neg (by omega), if_pos (by omega), show (100 + 2 * i - 100) / 2 = i by omega]
    · dsimp only
      rw [if_neg (by omega), if_neg (by omega), if_neg (by omega), if_neg (by omega), if_neg (by omega), if_neg (by omega), show (101 + 2 * i - 101) / 2 = i by omega]
  rw [← d0] at hZ0 hO0 hT0
  rw [← d1] at hZ1 hT1
  rw [← d2] at hZ2 hT2
  rw [← d3] at hmi
  refine ⟨((dC, dI), (fun k => ([k0, k1, k2, k3, k4] : List ClassId).getD k 0), ad), ⟨hKc, fun k q hq => ?_⟩, ⟨fun w hw hk => va_Nw.of (nwOk_tbl w hk) (hts w hw), ⟨fun q hq => ?_, ⟨?_, ?_⟩, hmi, va_AO.of (hts _ q203)⟩, fun i x pc ix σ hi h => ?_, fun q hq => ?_⟩, ⟨⟨hZ0, hT0, hO0⟩, ⟨vx_Zqof (hts _ q369) (htl _ q74) (hfx 9 (Cond.isRef (.static "java/lang/Throwable" "UNASSIGNED_STACK" "[Ljava/lang/StackTraceElement;")) (by decide +kernel)) hA, vx_Zqof (hts _ q371) (htl _ q74) (hfx 10 (Cond.isRef (.static "java/lang/Throwable" "SUPPRESSED_SENTINEL" "Ljava/util/List;")) (by decide +kernel)) hA⟩, ⟨(va_Zof (hts _ q224) (htl _ q71) (va_eqi (hfx 8 (Cond.eq (.static "java/lang/String" "COMPACT_STRINGS" "Z") (.int 1)) (by decide +kernel))) hA), (va_Zof (hts _ q646) (htl _ q72) (va_eqi (hfx 219 (Cond.eq (.static "java/lang/StringUTF16" "HI_BYTE_SHIFT" "I") (.int 0)) (by decide +kernel))) hA), (va_Zof (hts _ q648) (htl _ q72) (va_eqi (hfx 220 (Cond.eq (.static "java/lang/StringUTF16" "LO_BYTE_SHIFT" "I") (.int 8)) (by decide +kernel))) hA), (va_Zof (hts _ q644) (htl _ q72) (va_eqi (hfx 218 (Cond.eq (.static "java/lang/StringUTF16" "$assertionsDisabled" "Z") (.int 1)) (by decide +kernel))) hA)⟩, fun i hi => ?_, ⟨⟨hZ1, hT1⟩, ⟨hZ2, hT2⟩⟩, va_Zqof (hts _ q632) (htl _ q88) (hfx 217 (Cond.isRef (.static "jdk/internal/util/Preconditions" "SIOOBE_FORMATTER" "Ljava/util/function/BiFunction;")) (by decide +kernel)) hA⟩, fun i hi => ?_⟩
  · match k, hq with
    | 0, hq => cases hq; exact ⟨z0, e0⟩
    | 1, hq => cases hq; exact ⟨z1, e1⟩
    | 2, hq => cases hq; exact ⟨z2, e2⟩
    | 3, hq => cases hq; exact ⟨z3, e3⟩
    | 4, hq => cases hq; exact ⟨z4, e4⟩
    | k + 5, hq => simp [tysG] at hq
  · simp only [fwL, List.mem_cons, List.not_mem_nil, or_false] at hq
    rcases hq with rfl | rfl | rfl | rfl | rfl
    · exact va_Fw.of (hts _ q551) (hts _ q550) (hts _ q789) (hts _ q787) (hts _ q785)
    · exact va_Fw.of (hts _ q322) (hts _ q321) (hts _ q327) (hts _ q325) (hts _ q323)
    · exact va_Fw.of (hts _ q332) (hts _ q331) (hts _ q336) (hts _ q334) (hts _ q323)
    · exact va_Fw.of (hts _ q1422) (hts _ q1421) (hts _ q1426) (hts _ q1424) (hts _ q1402)
    · exact va_Fw.of (hts _ q1422) (hts _ q1421) (hts _ q1450) (hts _ q1448) (hts _ q1446)
  · exact ⟨va_tabs rfl rfl (hts _ q1401), va_tabs rfl rfl (hts _ q1400), va_tabs rfl rfl (hts _ q1405), (hfx 1007 (Cond.landsInDefault "DairyBook$Cow" stN stN) (by decide +kernel)), va_tabs rfl rfl (hts _ q1402)⟩
  · exact ⟨va_tabs rfl rfl (hts _ q1401), va_tabs rfl rfl (hts _ q1400), va_tabs rfl rfl (hts _ q1405), (hfx 1008 (Cond.landsInDefault "DairyBook$Pickup" stN stN) (by decide +kernel)), va_tabs rfl rfl (hts _ q1446)⟩
  · show va_La x pc σ (ad (10 + i)) _ _ _
    rw [dl i hi]
    exact hla i x pc ix σ hi h
  · simp only [ncL, List.mem_cons, List.not_mem_nil, or_false] at hq
    rcases hq with rfl | rfl | rfl | rfl | rfl | rfl
    · exact va_Nc.of (hfx _ _ st_nc0)
    · exact va_Nc.of (hfx _ _ st_nc1)
    · exact va_Nc.of (hfx _ _ st_nc2)
    · exact va_Nc.of (hfx _ _ st_nc3)
    · exact va_Nc.of (hfx _ _ st_nc4)
    · exact va_Nc.of (hfx _ _ st_nc5)
  · obtain ⟨-, h1, h2, h3, h4⟩ := hst i hi
    show va_O "java/lang/String" (ad (100 + 2 * i)) _ _ _ ∧ va_OF "java/lang/String" "coder" "B" (.int 0) (ad (100 + 2 * i)) _ _ _ ∧ va_OF "java/lang/String" "value" "[B" (.ref (ad (101 + 2 * i))) (ad (100 + 2 * i)) _ _ _ ∧ va_T .byte (ad (101 + 2 * i)) _ _ _ _ _
    rw [dk, dv]
    exact ⟨h1, h2, h3, h4⟩
  · show vk_R (str_own i) (str_ix i) (str_tx i) (ad (100 + 2 * i)) s
    rw [dk]
    exact vk_R.of (hts _ (st_sr i hi)) (hst i hi).1
