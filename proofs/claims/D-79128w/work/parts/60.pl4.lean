/-! THE PLAIN LAW 4: a day, days -/
theorem nat_of {v : Int32} (h : 0 ≤ v.toInt) : v = nI v.toNatClampNeg := by
  have h2 : v.toInt < 2 ^ 31 := Int32.toInt_lt v
  have e : v.toNatClampNeg = v.toInt.toNat := rfl
  refine ti_eq ?_
  rw [e]
  show v.toInt = (Int32.ofNat v.toInt.toNat).toInt
  rw [Int32.toInt_ofNat_of_lt (by omega)]
  omega
theorem clamp_bw {v : Int32} {lo hi : Nat} (h : bw v lo hi) : lo ≤ v.toNatClampNeg ∧ v.toNatClampNeg ≤ hi := by
  have e : v.toNatClampNeg = v.toInt.toNat := rfl
  obtain ⟨a, b⟩ := h
  rw [e]
  omega
theorem bw_0 : bw 0 0 999 := ⟨by rw [ti_0]; omega, by rw [ti_0]; omega⟩
theorem pick_RS {g : Nat → Int32} {n nr w : Nat} {rv : Nat → Nat → Int32} {se : Nat → Int32} {S : HS} (h : RS g n nr rv se S) (hb : BS n nr se S) (hw : w ≤ 6) :
    RS (moPick g S.np nr w) n nr rv se (S.td, S.pk + S.li, S.pd + pkDone S.pv S.np w S.td S.li S.ce rv nr (se 5) 5, 0, 0, S.cv, pkN S.np, pkVN S.pv S.np (pkDone S.pv S.np w S.td S.li S.ce rv nr (se 5))) := by
  obtain ⟨⟨a0, as, a7, a8, a9, a10, a11, a12, a13⟩, hc, hr, hp, a14⟩ := h
  obtain ⟨⟨hn8, hnr, hnp⟩, -, -, -⟩ := hb
  have hm := moM1_lt hnp
  have hme := mean_eq (td := S.td) hnp hw hp
  rw [a8, a9] at hme
  have lo2 : ∀ q, q < 103 → q ≠ 11 → moPk2 (moPk1 g S.np) (moM1 S.np) q = g q := fun q q1 q2 => by
    rw [pk2_at, if_neg (by omega), if_neg (by omega), if_neg (by omega), if_neg (by omega), if_neg (by omega), pk1_else g S.np q q1 q2]
  have hbo : moBon (upd (moPk2 (moPk1 g S.np) (moM1 S.np)) (7 * moM1 S.np + 107) (moMean g S.np w)) (moMean g S.np w) nr = bonV rv (pkMean S.pv S.np w S.td S.li S.ce) nr := by
    rw [hme]
    unfold moBon bonV rowK
    rw [bon_eq (rv := rv) _ nr 0 (fun k _ k2 => by
      have hk : k < nr := by omega
      simp only [upd]
      rw [if_neg (by omega), if_neg (by omega), lo2 _ (by omega) (by omega), lo2 _ (by omega) (by omega)]
      exact hr k hk), Nat.zero_add]
  have hg : ∀ q, moPick g S.np nr w q = moPk3 (moPk2 (moPk1 g S.np) (moM1 S.np)) (moM1 S.np) (pkMean S.pv S.np w S.td S.li S.ce) (bonV rv (pkMean S.pv S.np w S.td S.li S.ce) nr) q := fun q => by
    unfold moPick
    rw [hbo, hme]
  have hd5 : ∀ x b p : Int32, pickSettle (pickNew S.td S.li S.ce) x b p 5 = (p + b) * S.li := fun x b p => by simp [pickSettle, upd, pickNew]
  have lo3 : ∀ q, q < 103 → q ≠ 8 → q ≠ 9 → q ≠ 11 → q ≠ 12 → q ≠ 13 → moPick g S.np nr w q = g q := fun q q1 q8 q9 q11 q12 q13 => by
    rw [hg, pk3_at, if_neg q9, if_neg q8, if_neg q13, if_neg q12, if_neg (by omega), if_neg (by omega), if_neg (by omega), lo2 q q1 q11]
  have s6 : g 6 = se 5 := as 5 (by omega)
  refine ⟨⟨?_, ?_, ?_, ?_, ?_, ?_, ?_, ?_, ?_⟩, ?_, ?_, ?_, ?_⟩
  · rw [lo3 0 (by omega) (by omega) (by omega) (by omega) (by omega) (by omega)]; exact a0
  · intro k hk
    rw [lo3 (k + 1) (by omega) (by omega) (by omega) (by omega) (by omega) (by omega)]; exact as k hk
  · rw [lo3 7 (by omega) (by omega) (by omega) (by omega) (by omega) (by omega)]; exact a7
  · rw [hg, pk3_at, if_neg (by omega), if_pos rfl]
  · rw [hg, pk3_at, if_pos rfl]
  · rw [lo3 10 (by omega) (by omega) (by omega) (by omega) (by omega) (by omega)]; exact a10
  · rw [hg, pk3_at, if_neg (by omega), if_neg (by omega), if_neg (by omega), if_neg (by omega), if_neg (by omega), if_neg (by omega), if_neg (by omega), pk2_at, if_neg (by omega), if_neg (by omega), if_neg (by omega), if_neg (by omega), if_pos rfl, hm.2]
  · rw [hg, pk3_at, if_neg (by omega), if_neg (by omega), if_neg (by omega), if_pos rfl, lo2 12 (by omega) (by omega), lo2 8 (by omega) (by omega), a12, a8]
  · rw [hg, pk3_at, if_neg (by omega), if_neg (by omega), if_pos rfl, lo2 13 (by omega) (by omega), lo2 8 (by omega) (by omega), lo2 6 (by omega) (by omega), a13, a8, s6]
    show _ = S.pd + pickSettle (pickNew S.td S.li S.ce) _ _ _ 5
    rw [hd5]
  · intro k hk
    exact (hc k hk).congr (fun q q1 q2 => lo3 q (by omega) (by omega) (by omega) (by omega) (by omega) (by omega))
  · intro k hk
    rw [lo3 _ (by omega) (by omega) (by omega) (by omega) (by omega) (by omega), lo3 _ (by omega) (by omega) (by omega) (by omega) (by omega) (by omega)]
    exact hr k hk
  · intro k hk
    have hk : k < pkN S.np := hk
    show PW _ k (pkVN S.pv S.np (pkDone S.pv S.np w S.td S.li S.ce rv nr (se 5)) k)
    by_cases e : k = moM1 S.np
    · have e2 : pkVN S.pv S.np (pkDone S.pv S.np w S.td S.li S.ce rv nr (se 5)) k = pkDone S.pv S.np w S.td S.li S.ce rv nr (se 5) := by
        unfold pkVN
        unfold moM1 at e
        by_cases z : S.np = 60
        · rw [if_pos z] at e
          rw [if_neg (by omega)]
          show (if k + 1 = S.np then _ else _) = _
          rw [if_pos (by omega)]
        · rw [if_neg z] at e
          rw [if_pos (by omega)]
          show (if k = S.np then _ else _) = _
          rw [if_pos e]
      rw [e2]
      unfold pkDone
      generalize pkMean S.pv S.np w S.td S.li S.ce = x at hg ⊢
      generalize bonV rv x nr = b at hg ⊢
      have p1 : ∀ q, moPick g S.np nr w q = _ := hg
      have l0 : moPk1 g S.np 0 = g 0 := pk1_else g S.np 0 (by omega) (by omega)
      have l8 : moPk1 g S.np 8 = g 8 := pk1_else g S.np 8 (by omega) (by omega)
      have l9 : moPk1 g S.np 9 = g 9 := pk1_else g S.np 9 (by omega) (by omega)
      unfold PW
      rw [e, hg, hg, hg, hg, hg, hg, hg]
      simp only [pk3_at]
      refine ⟨?_, ?_, ?_, ?_, ?_, ?_, ?_⟩
      · rw [if_neg (by omega), if_neg (by omega), if_neg (by omega), if_neg (by omega), if_neg (by omega), if_neg (by omega), if_neg (by omega), pk2_at, if_neg (by omega), if_neg (by omega), if_neg (by omega), if_pos rfl, l0, a0]
        simp [pickSettle, upd, pickNew]
      · rw [if_neg (by omega), if_neg (by omega), if_neg (by omega), if_neg (by omega), if_neg (by omega), if_neg (by omega), if_neg (by omega), pk2_at, if_neg (by omega), if_neg (by omega), if_pos rfl, l8, a8]
        simp [pickSettle, upd, pickNew]
      · rw [if_neg (by omega), if_neg (by omega), if_neg (by omega), if_neg (by omega), if_neg (by omega), if_neg (by omega), if_neg (by omega), pk2_at, if_neg (by omega), if_pos rfl, l9, a9]
        simp [pickSettle, upd, pickNew]
      · rw [if_neg (by omega), if_neg (by omega), if_neg (by omega), if_neg (by omega), if_neg (by omega), if_neg (by omega), if_neg (by omega), pk2_at, if_pos rfl, l8, l9, a8, a9]
        simp [pickSettle, upd, pickNew]
      · rw [if_neg (by omega), if_neg (by omega), if_neg (by omega), if_neg (by omega), if_neg (by omega), if_neg (by omega), if_pos trivial]
        simp [pickSettle, upd, pickNew]
      · rw [if_neg (by omega), if_neg (by omega), if_neg (by omega), if_neg (by omega), if_neg (by omega), if_pos trivial]
        simp [pickSettle, upd, pickNew]
      · rw [if_neg (by omega), if_neg (by omega), if_neg (by omega), if_neg (by omega), if_pos trivial, lo2 6 (by omega) (by omega), lo2 8 (by omega) (by omega), s6, a8, hd5]
    · have e2 : pkVN S.pv S.np (pkDone S.pv S.np w S.td S.li S.ce rv nr (se 5)) k = pkOld S.pv S.np k := by
        unfold pkVN pkOld
        unfold moM1 at e
        unfold pkN at hk
        by_cases z : S.np < 60
        · rw [if_pos z] at hk ⊢
          rw [if_pos z]
          rw [if_neg (by omega)] at e
          show (if k = S.np then _ else _) = _
          rw [if_neg (by omega)]
        · rw [if_neg z] at hk ⊢
          rw [if_neg z]
          rw [if_pos (by omega)] at e
          show (if k + 1 = S.np then _ else _) = _
          rw [if_neg (by omega)]
      rw [e2]
      refine (pk1_old hnp hp k (by omega)).congr (fun q q1 q2 => ?_)
      rw [hg, pk3_at, if_neg (by omega), if_neg (by omega), if_neg (by omega), if_neg (by omega), if_neg (by omega), if_neg (by omega), if_neg (by omega), pk2_at, if_neg (by omega), if_neg (by omega), if_neg (by omega), if_neg (by omega), if_neg (by omega)]
  · rw [lo3 14 (by omega) (by omega) (by omega) (by omega) (by omega) (by omega)]
    exact a14
theorem herd_RS {g : Nat → Int32} {n nr : Nat} {rv : Nat → Nat → Int32} {se : Nat → Int32} {S : HS} (h : RS g n nr rv se S) (hb : BS n nr se S) :
    RS (moHerdDay g n) n nr rv se (S.td, S.pk, S.pd, (dyT n se S).1, (dyT n se S).2, dyC n se S, S.np, S.pv) ∧ bw (dyT n se S).1 0 999 := by
  obtain ⟨⟨a0, as, a7, a8, a9, a10, a11, a12, a13⟩, hc, hr, hp, a14⟩ := h
  obtain ⟨⟨hn8, hnr, hnp⟩, hs, hli, -⟩ := hb
  obtain ⟨d1, d2, d3, d4, d5, d6⟩ := herd_day hn8 a0 (as 1 (by omega)) (as 3 (by omega)) a8 a9 a14 hc hli hs.2.2.2.1
  have k : ∀ q, q < 15 ∨ 95 ≤ q → q ≠ 8 → q ≠ 9 → q ≠ 14 → moHerdDay g n q = g q := d6
  refine ⟨⟨⟨?_, ?_, ?_, d2, d3, ?_, ?_, ?_, ?_⟩, d1, ?_, ?_, d5⟩, d4⟩
  · rw [k 0 (by omega) (by omega) (by omega) (by omega)]; exact a0
  · intro j hj; rw [k (j + 1) (by omega) (by omega) (by omega) (by omega)]; exact as j hj
  · rw [k 7 (by omega) (by omega) (by omega) (by omega)]; exact a7
  · rw [k 10 (by omega) (by omega) (by omega) (by omega)]; exact a10
  · rw [k 11 (by omega) (by omega) (by omega) (by omega)]; exact a11
  · rw [k 12 (by omega) (by omega) (by omega) (by omega)]; exact a12
  · rw [k 13 (by omega) (by omega) (by omega) (by omega)]; exact a13
  · intro j hj; rw [k _ (by omega) (by omega) (by omega) (by omega), k _ (by omega) (by omega) (by omega) (by omega)]; exact hr j hj
  · intro j hj; exact (hp j hj).congr (fun q q1 q2 => k q (by omega) (by omega) (by omega) (by omega))
theorem next_RS {g : Nat → Int32} {n nr : Nat} {rv : Nat → Nat → Int32} {se : Nat → Int32} {td pk pd li ce : Int32} {cv : Nat → Nat → Int32} {np : Nat} {pv : Nat → Nat → Int32} (h : RS g n nr rv se (td, pk, pd, li, ce, cv, np, pv)) : RS (upd g 0 (g 0 + 1)) n nr rv se (td + 1, pk, pd, li, ce, cv, np, pv) := by
  obtain ⟨⟨a0, as, a7, a8, a9, a10, a11, a12, a13⟩, hc, hr, hp, a14⟩ := h
  have k : ∀ q, q ≠ 0 → upd g 0 (g 0 + 1) q = g q := fun q hq => by simp only [upd]; rw [if_neg hq]
  refine ⟨⟨?_, ?_, ?_, ?_, ?_, ?_, ?_, ?_, ?_⟩, ?_, ?_, ?_, ?_⟩
  · simp only [upd]; rw [if_pos trivial, a0]
  · intro j hj; rw [k (j + 1) (by omega)]; exact as j hj
  · rw [k 7 (by omega)]; exact a7
  · rw [k 8 (by omega)]; exact a8
  · rw [k 9 (by omega)]; exact a9
  · rw [k 10 (by omega)]; exact a10
  · rw [k 11 (by omega)]; exact a11
  · rw [k 12 (by omega)]; exact a12
  · rw [k 13 (by omega)]; exact a13
  · intro j hj; exact (hc j hj).congr (fun q _ _ => k q (by omega))
  · intro j hj; rw [k _ (by omega), k _ (by omega)]; exact hr j hj
  · intro j hj; exact (hp j hj).congr (fun q _ _ => k q (by omega))
  · rw [k 14 (by omega)]; exact a14
theorem day_RS {g : Nat → Int32} {n nr : Nat} {rv : Nat → Nat → Int32} {se : Nat → Int32} {S : HS} (h : RS g n nr rv se S) (hb : BS n nr se S) :
    RS (moDayG g) n nr rv se (dyS n nr rv se (se 4).toNatClampNeg S) ∧ BS n nr se (dyS n nr rv se (se 4).toNatClampNeg S) ∧ moDok g ∧ dyOk n se (se 4).toNatClampNeg S := by
  have hH := herd_RS h hb
  have hb0 := hb
  obtain ⟨⟨hn8, hnr, hnp⟩, hs, hli, hpl⟩ := hb
  obtain ⟨⟨a0, as, a7, a8, a9, a10, a11, a12, a13⟩, hc, hr, hp, a14⟩ := h
  have hw := clamp_bw (lo := 1) (hi := 6) hs.2.2.2.2.1
  have m7 : moN g 7 = n := by unfold moN; rw [a7, nI_clamp (by omega)]
  have m10 : moN g 10 = nr := by unfold moN; rw [a10, nI_clamp (by omega)]
  have m11 : moN g 11 = S.np := by unfold moN; rw [a11, nI_clamp (by omega)]
  have m5 : moN g 5 = (se 4).toNatClampNeg := by unfold moN; rw [as 4 (by omega)]
  have g3 : g 3 = se 2 := as 2 (by omega)
  have s2 : ¬ se 2 = 0 := fun e => by have := hs.2.2.1.1; rw [e, ti_0] at this; omega
  obtain ⟨hR, hT⟩ := hH
  have hpos : 0 < (dyT n se S).1 → bw (dyT n se S).1 1 999 := fun p => by
    have p' := ti_lt.mp p
    rw [ti_0] at p'
    exact ⟨by omega, hT.2⟩
  have hwin : 0 < (dyT n se S).1 → ¬ pSm (pkV1 S.pv S.np S.td (dyT n se S).1 (dyT n se S).2) 1 (S.np + 1 - (se 4).toNatClampNeg) (S.np + 1) = 0 := fun p => win_pos hnp hw.2 hw.1 hpl (hpos p)
  have hB1 : BS n nr se (S.td, S.pk, S.pd, (dyT n se S).1, (dyT n se S).2, dyC n se S, S.np, S.pv) := ⟨⟨hn8, hnr, hnp⟩, hs, hT, hpl⟩
  have h8 : moHerdDay g n 8 = (dyT n se S).1 := hR.1.2.2.2.1
  have h9 : moHerdDay g n 9 = (dyT n se S).2 := hR.1.2.2.2.2.1
  refine ⟨?_, ?_, ?_, fun _ p => hwin p⟩
  · unfold moDayG
    rw [m7, m10, m11, m5]
    unfold moDay moDay4 moRem
    rw [a0, g3, h8]
    by_cases c1 : S.td + 1 - (S.td + 1) / se 2 * se 2 = 0
    · rw [if_pos c1]
      by_cases c2 : 0 < (dyT n se S).1
      · rw [if_pos c2]
        unfold dyS
        rw [if_pos ⟨c1, c2⟩]
        have h9 := pick_RS hR hB1 hw.2
        have h10 := next_RS h9
        exact h10
      · rw [if_neg c2]
        unfold dyS
        rw [if_neg (fun z => c2 z.2)]
        exact next_RS hR
    · rw [if_neg c1]
      unfold dyS
      rw [if_neg (fun z => c1 z.1)]
      exact next_RS hR
  · unfold dyS
    by_cases c : S.td + 1 - (S.td + 1) / se 2 * se 2 = 0 ∧ 0 < (dyT n se S).1
    · rw [if_pos c]
      refine ⟨⟨hn8, hnr, ?_⟩, hs, bw_0, ?_⟩
      · show pkN S.np ≤ 60
        unfold pkN; split <;> omega
      · intro k hk
        have hk : k < pkN S.np := hk
        show bw (pkVN S.pv S.np (pkDone S.pv S.np (se 4).toNatClampNeg S.td (dyT n se S).1 (dyT n se S).2 rv nr (se 5)) k 1) 1 999
        have d1 : pkDone S.pv S.np (se 4).toNatClampNeg S.td (dyT n se S).1 (dyT n se S).2 rv nr (se 5) 1 = (dyT n se S).1 := by simp [pkDone, pickSettle, upd, pickNew]
        unfold pkVN
        unfold pkN at hk
        by_cases z : S.np < 60
        · rw [if_pos z] at hk ⊢
          show bw ((if k = S.np then _ else S.pv k) 1) 1 999
          by_cases e : k = S.np
          · rw [if_pos e, d1]; exact hpos c.2
          · rw [if_neg e]; exact hpl k (by omega)
        · rw [if_neg z] at hk ⊢
          show bw ((if k + 1 = S.np then _ else S.pv (k + 1)) 1) 1 999
          by_cases e : k + 1 = S.np
          · rw [if_pos e, d1]; exact hpos c.2
          · rw [if_neg e]; exact hpl (k + 1) (by omega)
    · rw [if_neg c]
      exact ⟨⟨hn8, hnr, hnp⟩, hs, hT, hpl⟩
  · unfold moDok
    rw [m7, m10, m11, m5]
    refine ⟨⟨a7, hn8⟩, ⟨a11, hnp⟩, ⟨a10, hnr⟩, ⟨?_, hw.2⟩, ?_, fun p => ?_⟩
    · rw [as 4 (by omega)]; exact nat_of (by have := hs.2.2.2.2.1.1; omega)
    · rw [g3]; exact s2
    · rw [h8] at p
      unfold moWinL
      rw [win_eq (td := S.td) hnp hw.2 hR.2.2.2.1 104 1 (Or.inl ⟨rfl, rfl⟩), h8, h9]
      exact hwin p
theorem days_RS {g : Nat → Int32} {n nr : Nat} {rv : Nat → Nat → Int32} {se : Nat → Int32} {S : HS} (h : RS g n nr rv se S) (hb : BS n nr se S) : ∀ j,
    RS (moDays g j) n nr rv se (dyN n nr rv se (se 4).toNatClampNeg S j) ∧ BS n nr se (dyN n nr rv se (se 4).toNatClampNeg S j) := by
  intro j
  induction j with
  | zero => exact ⟨h, hb⟩
  | succ j ih => exact ⟨(day_RS ih.1 ih.2).1, (day_RS ih.1 ih.2).2.1⟩
theorem days_ok {g : Nat → Int32} {n nr : Nat} {rv : Nat → Nat → Int32} {se : Nat → Int32} {S : HS} (h : RS g n nr rv se S) (hb : BS n nr se S) (j : Nat) : moDok (moDays g j) ∧ dyOk n se (se 4).toNatClampNeg (dyN n nr rv se (se 4).toNatClampNeg S j) :=
  ⟨(day_RS (days_RS h hb j).1 (days_RS h hb j).2).2.2.1, (day_RS (days_RS h hb j).1 (days_RS h hb j).2).2.2.2⟩
