/-! THE LAW: its switch and its loop -/
section LAWLOOP
variable {l : Launch} {Γ : GE} {pr_ : Program} {ev_ : Env} {s : State} {mi_ : MethodId} {below : List Frame} {meth : Method} {cd_ : Code} {A : Nat → Prop} {Q : State → Prop} {sb sL : Nat} {xs : Nat → Int32} {b a ou od da dv : Nat} {r : Nat → Nat} {j C0 S0 : Nat}

set_option maxHeartbeats 4000000 in
set_option maxRecDepth 100000 in
theorem law_switch (X : LWC l Γ pr_ s mi_ cd_ A sb sL xs) (hj : 4 * j + 4 ≤ sL) (hC : C0 + 10000 ≤ 652951) (hSl : S0 + 109000 ≤ 7040994) (kk : LK l Γ pr_ ev_ s mi_ below meth cd_ A Q sb b a ou od da dv r 1989 (nI (4 * j)) (C0 + 10000) (S0 + 109000)) : LK l Γ pr_ ev_ s mi_ below meth cd_ A Q sb b a ou od da dv r 37 (nI (4 * j)) C0 S0 := by
  intro h t v zs df dp kn hk tx tB L wr wB Lw fl rf ov ow P i g kf sf ps tt wt pB H locs ls Iv hP hD hS hl
  have X9 := X
  obtain ⟨hx, hb, hml, hown, hts, hK, hE, hA, hX, hbl, hbA, hnt, hsL⟩ := X
  have hl9 : lv_has ls 9 [(0, .ref sb), (1, .ref b), (2, .ref a), (3, .ref ou), (4, .ref od), (5, .int (nI (4 * j)))] := hl
  refine lv_aload_n hx hb dL_law_37 rfl (lv_at hl9 0 rfl) ?_
  refine lv_iload hx hb dL_law_38 (lv_at hl9 5 rfl) ?_
  refine lw_ld hx hb hX hbl hbA hS (4 * j) (by omega) hsL (v := xs (4 * j)) rfl dL_law_40 ?_
  refine lv_bipush (v := 63) hx hb dL_law_41 (by decide) ?_
  refine lv_iand hx hb dL_law_43 ?_
  generalize xs (4 * j) &&& 63 = z
  by_cases c_0 : z = 0
  · refine lv_tableIn (tgt := 192) hx hb dL_law_44 (by rw [c_0]; decide) (by rw [c_0]; decide) (by rw [c_0]; rfl) (by decide) ?_
    exact sg_0 X9 hj hC hSl kk Iv hP hD hS hl
  by_cases c_1 : z = 1
  · refine lv_tableIn (tgt := 272) hx hb dL_law_44 (by rw [c_1]; decide) (by rw [c_1]; decide) (by rw [c_1]; rfl) (by decide) ?_
    exact sg_1 X9 hj hC hSl kk Iv hP hD hS hl
  by_cases c_2 : z = 2
  · refine lv_tableIn (tgt := 340) hx hb dL_law_44 (by rw [c_2]; decide) (by rw [c_2]; decide) (by rw [c_2]; rfl) (by decide) ?_
    exact sg_2 X9 hj hC hSl kk Iv hP hD hS hl
  by_cases c_3 : z = 3
  · refine lv_tableIn (tgt := 396) hx hb dL_law_44 (by rw [c_3]; decide) (by rw [c_3]; decide) (by rw [c_3]; rfl) (by decide) ?_
    exact sg_3 X9 hj hC hSl kk Iv hP hD hS hl
  by_cases c_4 : z = 4
  · refine lv_tableIn (tgt := 464) hx hb dL_law_44 (by rw [c_4]; decide) (by rw [c_4]; decide) (by rw [c_4]; rfl) (by decide) ?_
    exact sg_4 X9 hj hC hSl kk Iv hP hD hS hl
  by_cases c_5 : z = 5
  · refine lv_tableIn (tgt := 532) hx hb dL_law_44 (by rw [c_5]; decide) (by rw [c_5]; decide) (by rw [c_5]; rfl) (by decide) ?_
    exact sg_5 X9 hj hC hSl kk Iv hP hD hS hl
  by_cases c_6 : z = 6
  · refine lv_tableIn (tgt := 588) hx hb dL_law_44 (by rw [c_6]; decide) (by rw [c_6]; decide) (by rw [c_6]; rfl) (by decide) ?_
    exact sg_6 X9 hj hC hSl kk Iv hP hD hS hl
  by_cases c_7 : z = 7
  · refine lv_tableIn (tgt := 644) hx hb dL_law_44 (by rw [c_7]; decide) (by rw [c_7]; decide) (by rw [c_7]; rfl) (by decide) ?_
    exact sg_7 X9 hj hC hSl kk Iv hP hD hS hl
  by_cases c_8 : z = 8
  · refine lv_tableIn (tgt := 700) hx hb dL_law_44 (by rw [c_8]; decide) (by rw [c_8]; decide) (by rw [c_8]; rfl) (by decide) ?_
    exact sg_8 X9 hj hC hSl kk Iv hP hD hS hl
  by_cases c_9 : z = 9
  · refine lv_tableIn (tgt := 768) hx hb dL_law_44 (by rw [c_9]; decide) (by rw [c_9]; decide) (by rw [c_9]; rfl) (by decide) ?_
    exact sg_9 X9 hj hC hSl kk Iv hP hD hS hl
  by_cases c_10 : z = 10
  · refine lv_tableIn (tgt := 852) hx hb dL_law_44 (by rw [c_10]; decide) (by rw [c_10]; decide) (by rw [c_10]; rfl) (by decide) ?_
    exact sg_10 X9 hj hC hSl kk Iv hP hD hS hl
  by_cases c_11 : z = 11
  · refine lv_tableIn (tgt := 896) hx hb dL_law_44 (by rw [c_11]; decide) (by rw [c_11]; decide) (by rw [c_11]; rfl) (by decide) ?_
    exact sg_11 X9 hj hC hSl kk Iv hP hD hS hl
  by_cases c_12 : z = 12
  · refine lv_tableIn (tgt := 952) hx hb dL_law_44 (by rw [c_12]; decide) (by rw [c_12]; decide) (by rw [c_12]; rfl) (by decide) ?_
    exact sg_12 X9 hj hC hSl kk Iv hP hD hS hl
  by_cases c_13 : z = 13
  · refine lv_tableIn (tgt := 965) hx hb dL_law_44 (by rw [c_13]; decide) (by rw [c_13]; decide) (by rw [c_13]; rfl) (by decide) ?_
    exact sg_13 X9 hj hC hSl kk Iv hP hD hS hl
  by_cases c_14 : z = 14
  · refine lv_tableIn (tgt := 1033) hx hb dL_law_44 (by rw [c_14]; decide) (by rw [c_14]; decide) (by rw [c_14]; rfl) (by decide) ?_
    exact sg_14 X9 hj hC hSl kk Iv hP hD hS hl
  by_cases c_15 : z = 15
  · refine lv_tableIn (tgt := 1101) hx hb dL_law_44 (by rw [c_15]; decide) (by rw [c_15]; decide) (by rw [c_15]; rfl) (by decide) ?_
    exact sg_15 X9 hj hC hSl kk Iv hP hD hS hl
  by_cases c_16 : z = 16
  · refine lv_tableIn (tgt := 1157) hx hb dL_law_44 (by rw [c_16]; decide) (by rw [c_16]; decide) (by rw [c_16]; rfl) (by decide) ?_
    exact sg_16 X9 hj hC hSl kk Iv hP hD hS hl
  by_cases c_17 : z = 17
  · refine lv_tableIn (tgt := 1213) hx hb dL_law_44 (by rw [c_17]; decide) (by rw [c_17]; decide) (by rw [c_17]; rfl) (by decide) ?_
    exact sg_17 X9 hj hC hSl kk Iv hP hD hS hl
  by_cases c_18 : z = 18
  · refine lv_tableIn (tgt := 1269) hx hb dL_law_44 (by rw [c_18]; decide) (by rw [c_18]; decide) (by rw [c_18]; rfl) (by decide) ?_
    exact sg_18 X9 hj hC hSl kk Iv hP hD hS hl
  by_cases c_19 : z = 19
  · refine lv_tableIn (tgt := 1337) hx hb dL_law_44 (by rw [c_19]; decide) (by rw [c_19]; decide) (by rw [c_19]; rfl) (by decide) ?_
    exact sg_19 X9 hj hC hSl kk Iv hP hD hS hl
  by_cases c_20 : z = 20
  · refine lv_tableIn (tgt := 1426) hx hb dL_law_44 (by rw [c_20]; decide) (by rw [c_20]; decide) (by rw [c_20]; rfl) (by decide) ?_
    exact sg_20 X9 hj hC hSl kk Iv hP hD hS hl
  by_cases c_21 : z = 21
  · refine lv_tableIn (tgt := 1482) hx hb dL_law_44 (by rw [c_21]; decide) (by rw [c_21]; decide) (by rw [c_21]; rfl) (by decide) ?_
    exact sg_21 X9 hj hC hSl kk Iv hP hD hS hl
  by_cases c_22 : z = 22
  · refine lv_tableIn (tgt := 1538) hx hb dL_law_44 (by rw [c_22]; decide) (by rw [c_22]; decide) (by rw [c_22]; rfl) (by decide) ?_
    exact sg_22 X9 hj hC hSl kk Iv hP hD hS hl
  by_cases c_23 : z = 23
  · refine lv_tableIn (tgt := 1594) hx hb dL_law_44 (by rw [c_23]; decide) (by rw [c_23]; decide) (by rw [c_23]; rfl) (by decide) ?_
    exact sg_23 X9 hj hC hSl kk Iv hP hD hS hl
  by_cases c_24 : z = 24
  · refine lv_tableIn (tgt := 1650) hx hb dL_law_44 (by rw [c_24]; decide) (by rw [c_24]; decide) (by rw [c_24]; rfl) (by decide) ?_
    exact sg_24 X9 hj hC hSl kk Iv hP hD hS hl
  by_cases c_25 : z = 25
  · refine lv_tableIn (tgt := 1688) hx hb dL_law_44 (by rw [c_25]; decide) (by rw [c_25]; decide) (by rw [c_25]; rfl) (by decide) ?_
    exact sg_25 X9 hj hC hSl kk Iv hP hD hS hl
  by_cases c_26 : z = 26
  · refine lv_tableIn (tgt := 1732) hx hb dL_law_44 (by rw [c_26]; decide) (by rw [c_26]; decide) (by rw [c_26]; rfl) (by decide) ?_
    exact sg_26 X9 hj hC hSl kk Iv hP hD hS hl
  by_cases c_27 : z = 27
  · refine lv_tableIn (tgt := 1745) hx hb dL_law_44 (by rw [c_27]; decide) (by rw [c_27]; decide) (by rw [c_27]; rfl) (by decide) ?_
    exact sg_27 X9 hj hC hSl kk Iv hP hD hS hl
  by_cases c_28 : z = 28
  · refine lv_tableIn (tgt := 1801) hx hb dL_law_44 (by rw [c_28]; decide) (by rw [c_28]; decide) (by rw [c_28]; rfl) (by decide) ?_
    exact sg_28 X9 hj hC hSl kk Iv hP hD hS hl
  by_cases c_29 : z = 29
  · refine lv_tableIn (tgt := 1845) hx hb dL_law_44 (by rw [c_29]; decide) (by rw [c_29]; decide) (by rw [c_29]; rfl) (by decide) ?_
    exact sg_29 X9 hj hC hSl kk Iv hP hD hS hl
  by_cases c_30 : z = 30
  · refine lv_tableIn (tgt := 1910) hx hb dL_law_44 (by rw [c_30]; decide) (by rw [c_30]; decide) (by rw [c_30]; rfl) (by decide) ?_
    exact sg_30 X9 hj hC hSl kk Iv hP hD hS hl
  by_cases c_31 : z = 31
  · refine lv_tableIn (tgt := 1954) hx hb dL_law_44 (by rw [c_31]; decide) (by rw [c_31]; decide) (by rw [c_31]; rfl) (by decide) ?_
    exact sg_31 X9 hj hC hSl kk Iv hP hD hS hl
  by_cases c_32 : z = 32
  · refine lv_tableIn (tgt := 1965) hx hb dL_law_44 (by rw [c_32]; decide) (by rw [c_32]; decide) (by rw [c_32]; rfl) (by decide) ?_
    exact sg_32 X9 hj hC hSl kk Iv hP hD hS hl
  refine lv_tableOut (tgt := 1989) hx hb dL_law_44 (sw_out 0 32 (by decide) (fun j h1 h2 => by rcases (show j = 0 ∨ j = 1 ∨ j = 2 ∨ j = 3 ∨ j = 4 ∨ j = 5 ∨ j = 6 ∨ j = 7 ∨ j = 8 ∨ j = 9 ∨ j = 10 ∨ j = 11 ∨ j = 12 ∨ j = 13 ∨ j = 14 ∨ j = 15 ∨ j = 16 ∨ j = 17 ∨ j = 18 ∨ j = 19 ∨ j = 20 ∨ j = 21 ∨ j = 22 ∨ j = 23 ∨ j = 24 ∨ j = 25 ∨ j = 26 ∨ j = 27 ∨ j = 28 ∨ j = 29 ∨ j = 30 ∨ j = 31 ∨ j = 32 by omega) with rfl | rfl | rfl | rfl | rfl | rfl | rfl | rfl | rfl | rfl | rfl | rfl | rfl | rfl | rfl | rfl | rfl | rfl | rfl | rfl | rfl | rfl | rfl | rfl | rfl | rfl | rfl | rfl | rfl | rfl | rfl | rfl | rfl <;> assumption)) (by decide) ?_
  refine W.widen (k := C0 + 10000) (n := S0 + 109000) (by omega) (by omega) ?_
  exact kk h t v zs df dp kn hk tx tB L wr wB Lw fl rf ov ow P i g kf sf ps tt wt pB H locs ls Iv hP hD hS hl
theorem sub4 {L j : Nat} (hL : L ≤ 256) (hj : j ≤ 64) : (Int32.ofNat L - 4 < nI (4 * j)) ↔ L < 4 * j + 4 := by
  have e1 : (nI L).toInt = L := ti_nI (by omega)
  have e4 : (4 : Int32).toInt = 4 := by decide
  have e2 : (nI (4 * j)).toInt = ((4 * j : Nat) : Int) := ti_nI (by omega)
  rw [ti_lt, show Int32.ofNat L = nI L from rfl, ti_sub (by rw [e1, e4]; omega) (by rw [e1, e4]; omega), e1, e4, e2]
  omega
set_option maxHeartbeats 4000000 in
set_option maxRecDepth 100000 in
theorem law_loop (X : LWC l Γ pr_ s mi_ cd_ (fun q => s.heap.size ≤ q) sb sL xs) (hr : meth.sig.returnType = ret) (hlocks : meth.locks = false) : ∀ (n j C0 S0 : Nat), j + n = 64 → C0 + 10000 * n ≤ 652951 → S0 + 109000 * n ≤ 7040994 → LK l Γ pr_ ev_ s mi_ below meth cd_ (fun q => s.heap.size ≤ q) (lw_Z below #[Value.ref sb] s) sb b a ou od da dv r 28 (nI (4 * j)) C0 S0 := by
  have X9 := X
  obtain ⟨hx, hb, hml, hown, hts, hK, hE, hA, hX, hbl, hbA, hnt, hsL⟩ := X
  intro n
  induction n with
  | zero =>
    intro j C0 S0 hjn hC hSl h t v zs df dp kn hk tx tB L wr wB Lw fl rf ov ow P i g kf sf ps tt wt pB H locs ls Iv hP hD hS hl
    have hl9 : lv_has ls 9 [(0, .ref sb), (1, .ref b), (2, .ref a), (3, .ref ou), (4, .ref od), (5, .int (nI (4 * j)))] := hl
    refine lv_iload hx hb dL_law_28 (lv_at hl9 5 rfl) ?_
    refine lv_aload_n hx hb dL_law_30 rfl (lv_at hl9 0 rfl) ?_
    refine va_slen hx hb hX hbl hbA hS dL_law_31 ?_
    refine lv_iconst (v := 4) hx hb dL_law_32 (by decide) ?_
    refine lv_isub hx hb dL_law_33 ?_
    refine lv_icmp_gt (tgt := 1995) hx hb dL_law_34 (by decide) (fun c => ?_) (fun c => ?_)
    · refine lv_iconst (v := 1) hx hb dL_law_1995 (by decide) ?_
      refine va_forget (fun q hq => hS.2.2 q hq) ?_
      refine W.widen (k := 652951) (n := 7040994) (by omega) (by omega) ?_
      exact lw_ret hx hb hr hlocks dL_law_1996
    · exact absurd ((sub4 hsL (by omega)).mpr (by omega)) c
  | succ n ih =>
    intro j C0 S0 hjn hC hSl h t v zs df dp kn hk tx tB L wr wB Lw fl rf ov ow P i g kf sf ps tt wt pB H locs ls Iv hP hD hS hl
    have hl9 : lv_has ls 9 [(0, .ref sb), (1, .ref b), (2, .ref a), (3, .ref ou), (4, .ref od), (5, .int (nI (4 * j)))] := hl
    refine lv_iload hx hb dL_law_28 (lv_at hl9 5 rfl) ?_
    refine lv_aload_n hx hb dL_law_30 rfl (lv_at hl9 0 rfl) ?_
    refine va_slen hx hb hX hbl hbA hS dL_law_31 ?_
    refine lv_iconst (v := 4) hx hb dL_law_32 (by decide) ?_
    refine lv_isub hx hb dL_law_33 ?_
    refine lv_icmp_gt (tgt := 1995) hx hb dL_law_34 (by decide) (fun c => ?_) (fun c => ?_)
    · refine lv_iconst (v := 1) hx hb dL_law_1995 (by decide) ?_
      refine va_forget (fun q hq => hS.2.2 q hq) ?_
      refine W.widen (k := 652951) (n := 7040994) (by omega) (by omega) ?_
      exact lw_ret hx hb hr hlocks dL_law_1996
    · have hj : 4 * j + 4 ≤ sL := Nat.not_lt.mp (fun z => c ((sub4 hsL (by omega)).mpr z))
      have hC1 : C0 + 10000 + 10000 * n ≤ 652951 := by rw [Nat.mul_add, Nat.mul_one] at hC; exact Nat.le_trans (Nat.le_of_eq (by rw [Nat.add_assoc, Nat.add_comm 10000])) hC
      have hS1 : S0 + 109000 + 109000 * n ≤ 7040994 := by rw [Nat.mul_add, Nat.mul_one] at hSl; exact Nat.le_trans (Nat.le_of_eq (by rw [Nat.add_assoc, Nat.add_comm 109000])) hSl
      refine law_switch X9 hj (Nat.le_trans (Nat.le_add_right _ _) hC1) (Nat.le_trans (Nat.le_add_right _ _) hS1) (fun h t v zs df dp kn hk tx tB L wr wB Lw fl rf ov ow P i g kf sf ps tt wt pB H locs ls Iv hP hD hS hl => ?_) h t v zs df dp kn hk tx tB L wr wB Lw fl rf ov ow P i g kf sf ps tt wt pB H locs ls Iv hP hD hS hl
      have hl : lv_has ls 9 [(0, .ref sb), (1, .ref b), (2, .ref a), (3, .ref ou), (4, .ref od), (5, .int (nI (4 * j)))] := hl
      refine lv_iinc (v := nI (4 * (j + 1))) (lv' := [(5, .int (nI (4 * (j + 1)))), (0, .ref sb), (1, .ref b), (2, .ref a), (3, .ref ou), (4, .ref od)]) hx hb dL_law_1989 hl (k := 5) rfl (nI_addE (a := 4 * j) (b := 4) (c := 4 * (j + 1)) rfl rfl (by omega)) (by decide) rfl (fun ls hl => ?_)
      refine lv_goto (tgt := 28) hx hb dL_law_1992 (by decide) ?_
      exact ih (j + 1) (C0 + 10000) (S0 + 109000) (by omega) hC1 hS1 h t v zs df dp kn hk tx tB L wr wB Lw fl rf ov ow P i g kf sf ps tt wt pB H locs ls Iv hP hD hS (lv_sub hl [1, 2, 3, 4, 5, 0] rfl)
end LAWLOOP
