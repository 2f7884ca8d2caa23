/-! THE PLAIN LAW 10: texts, on the letters alone -/
theorem here_c {t t' : Nat → Int32} {n : Nat} (e : ∀ q, q < n → t q = t' q) (p : Nat) : hereP t n p = hereP t' n p := by
  unfold hereP
  by_cases z : p < n
  · rw [if_pos z, if_pos z, e p z]
  · rw [if_neg z, if_neg z]
theorem digF_c {t t' : Nat → Int32} {n : Nat} (e : ∀ q, q < n → t q = t' q) : ∀ f v p, digF t n f v p = digF t' n f v p := by
  intro f
  induction f with
  | zero => intro v p; rfl
  | succ f ih => intro v p; rw [digF, digF, here_c e, ih]
theorem numP_c {t t' : Nat → Int32} {n : Nat} (e : ∀ q, q < n → t q = t' q) (p : Nat) : numP t n p = numP t' n p := by
  unfold numP
  rw [here_c e, digF_c e]
theorem wEndF_c {t t' : Nat → Int32} {n : Nat} (e : ∀ q, q < n → t q = t' q) : ∀ f p, wEndF t n f p = wEndF t' n f p := by
  intro f
  induction f with
  | zero => intro p; rfl
  | succ f ih => intro p; rw [wEndF, wEndF, here_c e, ih]
theorem wEnd_c {t t' : Nat → Int32} {n : Nat} (e : ∀ q, q < n → t q = t' q) (p : Nat) : wEnd t n p = wEnd t' n p := wEndF_c e _ _
theorem eqW_c {t t' : Nat → Int32} {n : Nat} (e : ∀ q, q < n → t q = t' q) (fr q : Nat) : ∀ j, fr + j ≤ n → eqW t fr q j = eqW t' fr q j := by
  intro j
  induction j with
  | zero => intro _; rfl
  | succ j ih => intro h; rw [eqW, eqW, ih (by omega), e _ (by omega)]
theorem isW_c {t t' : Nat → Int32} {n : Nat} (e : ∀ q, q < n → t q = t' q) {fr to : Nat} (h : to ≤ n) (q L : Nat) : isW t fr to q L = isW t' fr to q L := by
  unfold isW
  by_cases z : to = fr + L
  · rw [if_pos z, if_pos z, eqW_c e fr q L (by omega)]
  · rw [if_neg z, if_neg z]
theorem wordNo_c {t t' : Nat → Int32} {n : Nat} (e : ∀ q, q < n → t q = t' q) {fr to : Nat} (h : to ≤ n) : wordNo t fr to = wordNo t' fr to := by
  unfold wordNo
  rw [isW_c e h, isW_c e h, isW_c e h, isW_c e h, isW_c e h, isW_c e h]
theorem cmdT_c {t t' : Nat → Int32} {n : Nat} (e : ∀ q, q < n → t q = t' q) (p : Nat) (v : Int32) (k : Nat) (w : Nat → Int32) : cmdT t n p v k w = cmdT t' n p v k w := by
  unfold cmdT
  rw [here_c e, here_c e, numP_c e]
theorem cmdU_c {t t' : Nat → Int32} {n : Nat} (e : ∀ q, q < n → t q = t' q) (p : Nat) (o : Int32) (k : Nat) (w : Nat → Int32) : cmdU t n p o k w = cmdU t' n p o k w := by
  unfold cmdU
  rw [numP_c e, cmdT_c e]
theorem cmdR_c {t t' : Nat → Int32} {n : Nat} (e : ∀ q, q < n → t q = t' q) {p : Nat} (hp : p ≤ n) (v : Int32) (k : Nat) (w : Nat → Int32) : cmdR t n p v k w = cmdR t' n p v k w := by
  unfold cmdR
  have hw : wEnd t n p ≤ n := (wEndF_in t n _ p hp).2
  rw [wordNo_c e hw, wEnd_c e, here_c e, here_c e, cmdU_c e]
/-- a slice is a word -/
theorem eqW_iff (L W : List Int32) (fr q : Nat) (hq : ∀ j, j < W.length → lc ((str_by q).getD j 0) = W.getD j 0) : ∀ j, j ≤ W.length → fr + j ≤ L.length → (eqW (ltF L) fr q j = 1 ↔ (L.drop fr).take j = W.take j) := by
  intro j
  induction j with
  | zero => intro _ _; rw [eqW, List.take_zero, List.take_zero]; exact ⟨fun _ => rfl, fun _ => rfl⟩
  | succ j ih =>
    intro h1 h2
    have hi := ih (by omega) (by omega)
    have hd : j < (L.drop fr).length := by rw [List.length_drop]; omega
    have e1 : (L.drop fr).take (j + 1) = (L.drop fr).take j ++ [L.getD (fr + j) 0] := by
      rw [List.take_succ, List.getElem?_eq_getElem hd, List.getElem_drop, List.getD_eq_getElem?_getD, List.getElem?_eq_getElem (by omega)]
      rfl
    have e2 : W.take (j + 1) = W.take j ++ [W.getD j 0] := by
      rw [List.take_succ, List.getD_eq_getElem?_getD, List.getElem?_eq_getElem (by omega)]
      rfl
    rw [eqW, e1, e2, hq j (by omega)]
    show (if eqW (ltF L) fr q j = 0 then (0 : Int32) else if L.getD (fr + j) 0 = W.getD j 0 then 1 else 0) = 1 ↔ _
    rcases eqW_01 (ltF L) fr q j with z | z
    · rw [if_pos z]
      refine ⟨fun x => absurd x (by decide), fun x => ?_⟩
      have y := List.append_inj_left' x rfl
      rw [z] at hi
      exact absurd (hi.mpr y) (by decide)
    · rw [if_neg (by rw [z]; decide)]
      by_cases y : L.getD (fr + j) 0 = W.getD j 0
      · rw [if_pos y, y]
        exact ⟨fun _ => by rw [hi.mp z], fun _ => rfl⟩
      · rw [if_neg y]
        refine ⟨fun x => absurd x (by decide), fun x => ?_⟩
        have w := List.append_inj_right' x rfl
        exact absurd (List.cons.inj w).1 y
theorem isW_iff {L W : List Int32} {fr to q : Nat} (hq : ∀ j, j < W.length → lc ((str_by q).getD j 0) = W.getD j 0) (h1 : fr ≤ to) (h2 : to ≤ L.length) : isW (ltF L) fr to q W.length = 0 ↔ ¬ slL L fr to = W := by
  unfold isW slL
  by_cases z : to = fr + W.length
  · rw [if_pos z]
    have h := eqW_iff L W fr q hq W.length (Nat.le_refl _) (by omega)
    rw [List.take_length] at h
    have e : to - fr = W.length := by omega
    rw [e]
    rcases eqW_01 (ltF L) fr q W.length with y | y
    · rw [y] at h ⊢
      exact ⟨fun _ x => absurd (h.mpr x) (by decide), fun _ => rfl⟩
    · rw [y] at h ⊢
      exact ⟨fun x => absurd x (by decide), fun x => absurd (h.mp rfl) x⟩
  · rw [if_neg z]
    refine ⟨fun _ x => z ?_, fun _ => rfl⟩
    have := congrArg List.length x
    rw [List.length_take, List.length_drop] at this
    omega
theorem lcq (i : Nat) (h : i < nStr) : ∀ j, j < (str_by i).length → lc ((str_by i).getD j 0) = (str_by i).getD j 0 := fun j hj => by
  rw [List.getD_eq_getElem?_getD, List.getElem?_eq_getElem hj]
  exact (lc_lit i h _ (List.getElem_mem hj)).1
/-- the number of a word of command; -1: none -/
def noW (W : List Int32) : Int32 := if W = str_by 31 then 0 else if W = str_by 32 then 1 else if W = str_by 33 then 2 else if W = str_by 34 then 3 else if W = str_by 35 then 4 else if W = str_by 36 then 5 else -1
theorem wordNo_eq {L : List Int32} {p e : Nat} (h1 : p ≤ e) (h2 : e ≤ L.length) : wordNo (ltF L) p e = noW (slL L p e) := by
  have a1 := isW_iff (L := L) (W := str_by 31) (fr := p) (to := e) (q := 31) (lcq 31 (by decide)) h1 h2
  have a2 := isW_iff (L := L) (W := str_by 32) (fr := p) (to := e) (q := 32) (lcq 32 (by decide)) h1 h2
  have a3 := isW_iff (L := L) (W := str_by 33) (fr := p) (to := e) (q := 33) (lcq 33 (by decide)) h1 h2
  have a4 := isW_iff (L := L) (W := str_by 34) (fr := p) (to := e) (q := 34) (lcq 34 (by decide)) h1 h2
  have a5 := isW_iff (L := L) (W := str_by 35) (fr := p) (to := e) (q := 35) (lcq 35 (by decide)) h1 h2
  have a6 := isW_iff (L := L) (W := str_by 36) (fr := p) (to := e) (q := 36) (lcq 36 (by decide)) h1 h2
  rw [show (str_by 31).length = 4 by decide +kernel] at a1
  rw [show (str_by 32).length = 5 by decide +kernel] at a2
  rw [show (str_by 33).length = 5 by decide +kernel] at a3
  rw [show (str_by 34).length = 3 by decide +kernel] at a4
  rw [show (str_by 35).length = 4 by decide +kernel] at a5
  rw [show (str_by 36).length = 5 by decide +kernel] at a6
  unfold wordNo noW
  by_cases z1 : slL L p e = str_by 31
  · rw [if_neg (fun x => (a1.mp x) z1), if_pos z1]
  rw [if_pos (a1.mpr z1), if_neg z1]
  by_cases z2 : slL L p e = str_by 32
  · rw [if_neg (fun x => (a2.mp x) z2), if_pos z2]
  rw [if_pos (a2.mpr z2), if_neg z2]
  by_cases z3 : slL L p e = str_by 33
  · rw [if_neg (fun x => (a3.mp x) z3), if_pos z3]
  rw [if_pos (a3.mpr z3), if_neg z3]
  by_cases z4 : slL L p e = str_by 34
  · rw [if_neg (fun x => (a4.mp x) z4), if_pos z4]
  rw [if_pos (a4.mpr z4), if_neg z4]
  by_cases z5 : slL L p e = str_by 35
  · rw [if_neg (fun x => (a5.mp x) z5), if_pos z5]
  rw [if_pos (a5.mpr z5), if_neg z5]
  by_cases z6 : slL L p e = str_by 36
  · rw [if_neg (fun x => (a6.mp x) z6), if_pos z6]
  rw [if_pos (a6.mpr z6), if_neg z6]
/-- the words of both sides -/
theorem str_same : str_by 31 = str_by 20 ∧ str_by 33 = str_by 21 ∧ str_by 34 = str_by 22 ∧ str_by 36 = str_by 23 ∧ str_by 32 = str_by 24 ∧ str_by 35 = str_by 25 := by decide +kernel
theorem noW_nm (W : List Int32) : (nmW W = 0 ∧ noW W = -1) ∨ (nmW W = 2 ∧ (noW W = 0 ∧ W = str_by 20 ∨ noW W = 1 ∧ W = str_by 24 ∨ noW W = 5 ∧ W = str_by 23)) ∨ (nmW W = 1 ∧ (noW W = 2 ∧ W = str_by 21 ∨ noW W = 3 ∧ W = str_by 22 ∨ noW W = 4 ∧ W = str_by 25)) := by
  by_cases z1 : W = str_by 31
  · rw [z1]; exact Or.inr (Or.inl (by decide +kernel))
  by_cases z2 : W = str_by 32
  · rw [z2]; exact Or.inr (Or.inl (by decide +kernel))
  by_cases z3 : W = str_by 33
  · rw [z3]; exact Or.inr (Or.inr (by decide +kernel))
  by_cases z4 : W = str_by 34
  · rw [z4]; exact Or.inr (Or.inr (by decide +kernel))
  by_cases z5 : W = str_by 35
  · rw [z5]; exact Or.inr (Or.inr (by decide +kernel))
  by_cases z6 : W = str_by 36
  · rw [z6]; exact Or.inr (Or.inl (by decide +kernel))
  refine Or.inl ⟨?_, ?_⟩
  · obtain ⟨e1, e2, e3, e4, e5, e6⟩ : (∀ j, 14 ≤ j → j ≤ 19 → str_by j = str_by 31 ∨ str_by j = str_by 32 ∨ str_by j = str_by 33 ∨ str_by j = str_by 34 ∨ str_by j = str_by 35 ∨ str_by j = str_by 36) ∧ True ∧ True ∧ True ∧ True ∧ True := by
      refine ⟨fun j h1 h2 => ?_, trivial, trivial, trivial, trivial, trivial⟩
      rcases (show j = 14 ∨ j = 15 ∨ j = 16 ∨ j = 17 ∨ j = 18 ∨ j = 19 by omega) with e | e | e | e | e | e <;> rw [e] <;> decide +kernel
    refine nmW_0 (fun j h1 h2 e => ?_)
    rcases e1 j h1 h2 with x | x | x | x | x | x
    · exact z1 (e.trans x)
    · exact z2 (e.trans x)
    · exact z3 (e.trans x)
    · exact z4 (e.trans x)
    · exact z5 (e.trans x)
    · exact z6 (e.trans x)
  · unfold noW
    rw [if_neg z1, if_neg z2, if_neg z3, if_neg z4, if_neg z5, if_neg z6]
