/-! THE PLAIN LAW 8: days of the book, what is kept -/
theorem dyN_td (n nr : Nat) (rv : Nat → Nat → Int32) (se : Nat → Int32) (w : Nat) (S : HS) : ∀ j, (dyN n nr rv se w S j).td = S.td + nI j ∧ (dyN n nr rv se w S j).pk = S.pk + dyP n nr rv se w S j := by
  intro j
  induction j with
  | zero =>
    refine ⟨?_, ?_⟩
    · show S.td = S.td + 0
      rw [Int32.add_zero]
    · show S.pk = S.pk + 0
      rw [Int32.add_zero]
  | succ j ih =>
    have a : ∀ T : HS, (dyS n nr rv se w T).td = T.td + 1 ∧ (dyS n nr rv se w T).pk = T.pk + dyL n se T := fun T => by
      unfold dyS dyL
      by_cases c : T.td + 1 - (T.td + 1) / se 2 * se 2 = 0 ∧ 0 < (dyT n se T).1
      · rw [if_pos c, if_pos c]; exact ⟨rfl, rfl⟩
      · rw [if_neg c, if_neg c, Int32.add_zero]; exact ⟨rfl, rfl⟩
    refine ⟨?_, ?_⟩
    · show (dyS n nr rv se w (dyN n nr rv se w S j)).td = _
      rw [(a _).1, ih.1, Int32.add_assoc, ← nI_succ]
    · show (dyS n nr rv se w (dyN n nr rv se w S j)).pk = S.pk + (dyP n nr rv se w S j + dyL n se (dyN n nr rv se w S j))
      rw [(a _).2, ih.2, Int32.add_assoc]
theorem cp_td {td : Int32} {q : Nat} (ht : bw td 0 400) (hq : q ≤ 30) (h : ¬ cpS td (nI q) = 0) : bw (td + nI q) 0 400 := by
  obtain ⟨a, b⟩ := ht
  have e := ti_nI (n := q) (by omega)
  have f : (td + nI q).toInt = td.toInt + q := by rw [ti_add (by rw [e]; omega) (by rw [e]; omega), e]
  unfold cpS at h
  by_cases z : 30 < nI q
  · rw [if_pos z] at h; exact absurd rfl h
  · rw [if_neg z] at h
    by_cases y : 400 < td + nI q
    · rw [if_pos y] at h; exact absurd rfl h
    · have y' : ¬ (400 : Int32).toInt < (td + nI q).toInt := fun w => y (ti_lt.mpr w)
      have e4 : (400 : Int32).toInt = 400 := rfl
      rw [e4] at y'
      unfold bw
      omega
/-- days that pass -/
theorem RB_days {g : Nat → Int32} {h : HB} {q : Nat} (hh : RB g h) (hq : q ≤ 30) (hc : ¬ cpS h.S.td (nI q) = 0) (y : LST) (m : Int32) (pb : Nat → Nat) :
    RB (moDays g q) (HB.setPk h (dyN h.n h.nr h.rv h.se (h.se 4).toNatClampNeg h.S q) y m pb) ∧ moDays g q 12 - g 12 = dyP h.n h.nr h.rv h.se (h.se 4).toNatClampNeg h.S q := by
  have hd := days_RS hh.1 hh.2.1 q
  have ht := dyN_td h.n h.nr h.rv h.se (h.se 4).toNatClampNeg h.S q
  refine ⟨⟨hd.1, hd.2, ?_, hh.2.2.2⟩, ?_⟩
  · show bw (dyN h.n h.nr h.rv h.se (h.se 4).toNatClampNeg h.S q).td 0 400
    rw [ht.1]
    exact cp_td hh.2.2.1 hq hc
  · have e1 : moDays g q 12 = (dyN h.n h.nr h.rv h.se (h.se 4).toNatClampNeg h.S q).pk := hd.1.1.2.2.2.2.2.2.2.1
    have e2 : g 12 = h.S.pk := hh.1.1.2.2.2.2.2.2.2.1
    rw [e1, e2, ht.2]
    generalize h.S.pk = a
    generalize dyP h.n h.nr h.rv h.se (h.se 4).toNatClampNeg h.S q = b
    grind
theorem RB_dok {g : Nat → Int32} {h : HB} (hh : RB g h) (j : Nat) : moDok (moDays g j) ∧ dyOk h.n h.se (h.se 4).toNatClampNeg (dyN h.n h.nr h.rv h.se (h.se 4).toNatClampNeg h.S j) := days_ok hh.1 hh.2.1 j
theorem RB_w {g : Nat → Int32} {h : HB} (hh : RB g h) : h.se 4 = nI (h.se 4).toNatClampNeg ∧ (h.se 4).toNatClampNeg ≤ 6 ∧ ¬ h.se 2 = 0 := by
  have s4 := hh.2.1.2.1.2.2.2.2.1
  have s2 := hh.2.1.2.1.2.2.1
  refine ⟨nat_of (by have := s4.1; omega), (clamp_bw (lo := 1) (hi := 6) s4).2, fun e => ?_⟩
  have := s2.1
  rw [e, ti_0] at this
  omega
/-- what is kept of earlier states -/
def KB (ps : Nat → Int32) (kn : Nat) (hk : Nat → HB) : Prop := ∀ k, k < kn → RB (fun q => ps (523 * k + q)) (hk k)
theorem cpy_at (f t : Nat → Int32) (sp dp n q : Nat) : va_cpy f t sp dp n q = if dp ≤ q ∧ q < dp + n then f (sp + (q - dp)) else t q := rfl
theorem KB_push {f ps : Nat → Int32} {kn : Nat} {hk : Nat → HB} {g : HB} (h : KB ps kn hk) (hg : RB f g) (hn : kn ≤ 8) : KB (moPush f ps kn) (kpN kn) (kpH kn hk g) ∧ moPushN kn = kpN kn := by
  refine ⟨fun k hk9 => ?_, rfl⟩
  unfold moPush kpH
  unfold kpN at hk9
  by_cases z : kn = 8
  · rw [if_pos z] at hk9
    rw [if_pos z, if_pos z]
    show RB _ (if k = 7 then g else hk (k + 1))
    by_cases y : k = 7
    · rw [if_pos y]
      refine hg.agree (fun q hq => ?_)
      show va_cpy f (moShift ps 3661) 0 3661 523 (523 * k + q) = f q
      rw [cpy_at, if_pos (by omega), show 0 + (523 * k + q - 3661) = q by omega]
    · rw [if_neg y]
      refine (h (k + 1) (by omega)).agree (fun q hq => ?_)
      show va_cpy f (moShift ps 3661) 0 3661 523 (523 * k + q) = ps (523 * (k + 1) + q)
      rw [cpy_at, if_neg (by omega)]
      show (if 523 * k + q < 3661 then ps (523 * k + q + 523) else ps (523 * k + q)) = ps (523 * (k + 1) + q)
      rw [if_pos (by omega), show 523 * k + q + 523 = 523 * (k + 1) + q by omega]
  · rw [if_neg z] at hk9
    rw [if_neg z, if_neg z]
    show RB _ (if k = kn then g else hk k)
    by_cases y : k = kn
    · rw [if_pos y]
      refine hg.agree (fun q hq => ?_)
      show va_cpy f ps 0 (523 * kn) 523 (523 * k + q) = f q
      rw [cpy_at, if_pos (by omega), show 0 + (523 * k + q - 523 * kn) = q by omega]
    · rw [if_neg y]
      refine (h k (by omega)).agree (fun q hq => ?_)
      show va_cpy f ps 0 (523 * kn) 523 (523 * k + q) = ps (523 * k + q)
      rw [cpy_at, if_neg (by omega)]
theorem KB_pop {g ps : Nat → Int32} {kn : Nat} {hk : Nat → HB} (h : KB ps (kn + 1) hk) : RB (va_cpy ps g (523 * kn) 0 523) (hk kn) ∧ KB ps kn hk :=
  ⟨(h kn (by omega)).agree (fun q hq => by rw [cpy_at, if_pos (by omega), show 523 * kn + (q - 0) = 523 * kn + q by omega]), fun k hk9 => h k (by omega)⟩
theorem RB_cpy {f g : Nat → Int32} {h : HB} (hh : RB f h) : RB (va_cpy f g 0 0 523) h := hh.agree (fun q hq => by rw [cpy_at, if_pos (by omega), show 0 + (q - 0) = q by omega])
