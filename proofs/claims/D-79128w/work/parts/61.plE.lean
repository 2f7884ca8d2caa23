/-! THE PLAIN LAW 14: the commands of an order -/
theorem nw_vals : noW (str_by 20) = 0 ∧ noW (str_by 21) = 2 ∧ noW (str_by 22) = 3 ∧ noW (str_by 24) = 1 ∧ noW (str_by 25) = 4 ∧ noW (str_by 23) = 5 := by decide +kernel
theorem cmRf_at (t : HB) (u v : Int32) : cmRf (str_by 20) t u v = rfHold t.n t.S.cv u v ∧ cmRf (str_by 21) t u v = rfServe t.n t.S.cv t.S.td u ∧ cmRf (str_by 22) t u v = rfDry t.n t.S.cv u ∧ cmRf (str_by 24) t u v = rfCow t.n t.S.cv u ∧ cmRf (str_by 25) t u v = rfCow t.n t.S.cv u ∧ cmRf (str_by 23) t u v = rfBonus t.rv t.nr u v := by
  unfold cmRf
  refine ⟨?_, ?_, ?_, ?_, ?_, ?_⟩
  · rw [if_pos rfl]
  · rw [if_neg (by decide +kernel), if_pos rfl]
  · rw [if_neg (by decide +kernel), if_neg (by decide +kernel), if_pos rfl]
  · rw [if_neg (by decide +kernel), if_neg (by decide +kernel), if_neg (by decide +kernel), if_neg (by decide +kernel)]
  · rw [if_neg (by decide +kernel), if_neg (by decide +kernel), if_neg (by decide +kernel), if_neg (by decide +kernel)]
  · rw [if_neg (by decide +kernel), if_neg (by decide +kernel), if_neg (by decide +kernel), if_pos rfl]
/-- a command is refused on both sides for the same reason -/
theorem ag_cm {g : Nat → Int32} {t : HB} {q : CM} {L : List Int32} {p j : Nat} {w : Nat → Int32} (hh : RB g t) (ok : cmOk L p q) (h3 : told3 L p j w) : agQ g (w (3 * j)) (w (3 * j + 1)) (w (3 * j + 2)) = cmRf q.w t q.f q.g := by
  obtain ⟨t1, t2, t3⟩ := h3
  rw [← ok.1] at t1
  rw [t1, t2, t3, ← ok.2.1, ← ok.2.2.1]
  have hnr : (g 10).toNatClampNeg = t.nr := by rw [hh.nr.1, nI_clamp (by have := hh.nr.2; omega)]
  obtain ⟨n0, n2, n3, n1, n4, n5⟩ := nw_vals
  have A := agQ_at g q.f q.g
  have C := cmRf_at t q.f q.g
  rcases cm_six ok with e | e | e | e | e | e <;> rw [e]
  · rw [n0, A.1, C.1, ag0_eq hh]
  · rw [n2, A.2.2.1, C.2.1, ag2_eq hh]
  · rw [n3, A.2.2.2.1, C.2.2.1, ag3_eq hh]
  · rw [n1, A.2.1, C.2.2.2.1, ag1_eq hh]
  · rw [n4, A.2.2.2.2.1, C.2.2.2.2.1, ag1_eq hh]
  · rw [n5, A.2.2.2.2.2, C.2.2.2.2.2, hnr, ag5_eq hh]
/-- a command carried out on both sides -/
theorem do_cm {g : Nat → Int32} {t t' : HB} {q : CM} {L : List Int32} {p j : Nat} {w : Nat → Int32} (hh : RB g t) (ok : cmOk L p q) (h3 : told3 L p j w) (hz : cmRf q.w t q.f q.g = 0) (hs : cmSt q.w q.f q.g t t') : RB (doQ g (w (3 * j)) (w (3 * j + 1)) (w (3 * j + 2))) t' := by
  obtain ⟨t1, t2, t3⟩ := h3
  rw [← ok.1] at t1
  rw [t1, t2, t3, ← ok.2.1, ← ok.2.2.1]
  have hn8 := hh.n.2
  have hnr : (g 10).toNatClampNeg = t.nr := by rw [hh.nr.1, nI_clamp (by have := hh.nr.2; omega)]
  obtain ⟨n0, n2, n3, n1, n4, n5⟩ := nw_vals
  have D := doQ_at g q.f q.g
  rcases hs with ⟨e, k, hk, hu, et⟩ | ⟨e, k, hk, hu, et⟩ | ⟨e, k, hk, hu, et⟩ | ⟨e, k, hk, hu, et⟩ | ⟨e, k, hk, hu, et⟩ | ⟨e, eS, en, ese, hb⟩
  · rw [e, n0, D.1, hu, nI_clamp (by omega), et]
    exact RB_hold hh hk q.g
  · rw [e, n2, D.2.2.1, hu, nI_clamp (by omega), et]
    exact RB_serve hh hk
  · have h6 : t.S.cv k 6 = 0 := by
      rw [e, (cmRf_at t q.f q.g).2.2.1, hu] at hz
      unfold rfDry at hz
      by_cases z : thC t.n t.S.cv (nI k) = 0
      · rw [if_pos z] at hz; exact absurd hz (by decide)
      · obtain ⟨k2, hk2, ek, x⟩ := th_nat hn8 z
        have : k = k2 := by
          have := congrArg Int32.toNatClampNeg ek
          rw [nI_clamp (by omega), nI_clamp (by omega)] at this
          exact this
        rw [this]
        exact x
    rw [e, n3, D.2.2.2.1, hu, nI_clamp (by omega), et]
    exact RB_dry hh hk h6
  · rw [e, n1, D.2.1, hu, nI_clamp (by omega), et]
    exact RB_cells hh hk q.g
  · rw [e, n4, D.2.2.2.2.1, hu, nI_clamp (by omega), et]
    exact RB_sell hh hk
  · rw [e, n5, D.2.2.2.2.2, hnr]
    rcases hb with ⟨b1, b2, b3, b4⟩ | ⟨b1, b2, b3, b4⟩
    · exact (RB_hit (bon := q.g) hh b1 b2 t.x1 t.m1 t.ra).of ⟨eS, en, b3, b4, fun k _ => by rw [ese]; rfl⟩
    · exact (RB_miss (bon := q.g) hh b2 (fun x y => b1 ⟨x, y⟩) t.x1 t.m1 t.ra).of ⟨eS, en, b3, b4, fun k _ => by rw [ese]; rfl⟩
