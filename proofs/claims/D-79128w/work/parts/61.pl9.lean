/-! THE PLAIN LAW 9: what the questions answer -/
theorem cow_ans {g : Nat → Int32} {h : HB} {k : Nat} (hh : RB g h) (hk : k < h.n) (w : Int32) : cowM g k w = cowTold (h.S.cv k) w h.S.td := by
  have hc := hh.cow hk
  unfold cowM cowTold
  rw [hc.mil, hc.car, hc.lit, hh.td, ← hc.2.1.2.1]
  obtain ⟨⟨p0, p1, p2, p3, p4⟩, ⟨p5, p7, p8, p9, p10, p11⟩, -, -⟩ := hc
  rw [p5, ← p4, ← p3, ← p8, ← p9, ← p10, ← p11]
  rfl
theorem dry_ans {g : Nat → Int32} {h : HB} {k : Nat} (hh : RB g h) (hk : k < h.n) : dryM g k = mxI h.S.td (h.S.cv k 8 - h.se 1) := by
  unfold dryM mxI
  rw [hh.td, ← (hh.cow hk).2.1.2.2.1, show g 2 = h.se 1 from hh.se (k := 1) (by omega)]
theorem tank_ans {g : Nat → Int32} {h : HB} (hh : RB g h) {w : Int32} (hw : w = 0 ∨ w = 1 ∨ w = 2 ∨ w = 3) : tankM g w = tkW h.S.li h.S.ce (h.se 3) w := by
  have a8 : g 8 = h.S.li := hh.1.1.2.2.2.1
  have a9 : g 9 = h.S.ce := hh.1.1.2.2.2.2.1
  have a4 : g 4 = h.se 3 := hh.se (k := 3) (by omega)
  have hf : moFree g = tkRoom h.S.li (h.se 3) := by
    rw [tkRoom_eq hh.2.1.2.2.1 hh.2.1.2.1.2.2.2.1]
    unfold moFree
    rw [a8, a4]
  unfold tankM tkW
  rw [hf, a8, a9]
  rcases hw with e | e | e | e <;> rw [e]
  · rfl
  · rw [if_neg (show ¬ (1 : Int32) = 0 by decide), if_pos rfl, if_neg (show ¬ (1 : Int32) = 0 by decide), if_pos rfl]
  · rw [if_neg (show ¬ (2 : Int32) = 0 by decide), if_neg (show ¬ (2 : Int32) = 1 by decide), if_neg (show ¬ (2 : Int32) = 3 by decide), if_neg (show ¬ (2 : Int32) = 0 by decide), if_neg (show ¬ (2 : Int32) = 1 by decide), if_pos rfl]
    rfl
  · rw [if_neg (show ¬ (3 : Int32) = 0 by decide), if_neg (show ¬ (3 : Int32) = 1 by decide), if_pos rfl, if_neg (show ¬ (3 : Int32) = 0 by decide), if_neg (show ¬ (3 : Int32) = 1 by decide), if_neg (show ¬ (3 : Int32) = 2 by decide)]
theorem seven {w : Int32} (h : ¬ inC w 0 6 = 0) : w = 0 ∨ w = 1 ∨ w = 2 ∨ w = 3 ∨ w = 4 ∨ w = 5 ∨ w = 6 := by
  obtain ⟨k, hk, e⟩ := inC_nat (n := 7) (by omega) (show ¬ inC w 0 (nI 7 - 1) = 0 from h)
  rw [e]
  rcases (show k = 0 ∨ k = 1 ∨ k = 2 ∨ k = 3 ∨ k = 4 ∨ k = 5 ∨ k = 6 by omega) with z | z | z | z | z | z | z <;> rw [z] <;> decide
theorem PW.told {g : Nat → Int32} {k : Nat} {c : Nat → Int32} (h : PW g k c) {w : Int32} (hw : ¬ inC w 0 6 = 0) : g (7 * k + w.toNatClampNeg + 103) = pickTold c w := by
  obtain ⟨p0, p1, p2, p3, p4, p5, p6⟩ := h
  unfold pickTold
  rcases seven hw with e | e | e | e | e | e | e <;> rw [e]
  · rw [if_pos rfl, ← p0]; rfl
  · rw [if_neg (by decide), if_pos rfl, ← p1]; rfl
  · rw [if_neg (by decide), if_neg (by decide), if_pos rfl, ← p2]; rfl
  · rw [if_neg (by decide), if_neg (by decide), if_neg (by decide), if_pos rfl, ← p3]; rfl
  · rw [if_neg (by decide), if_neg (by decide), if_neg (by decide), if_neg (by decide), if_pos rfl, ← p4]; rfl
  · rw [if_neg (by decide), if_neg (by decide), if_neg (by decide), if_neg (by decide), if_neg (by decide), if_pos rfl, ← p5]; rfl
  · rw [if_neg (by decide), if_neg (by decide), if_neg (by decide), if_neg (by decide), if_neg (by decide), if_neg (by decide), ← p6]; rfl
theorem sumUp_pSm {f : Nat → Int32} {pv : Nat → Nat → Int32} {i x : Nat} : ∀ t, (∀ q, q < x + t → f q = pv q i) → sumUp f x t = pSm pv i x (x + t) := by
  intro t
  induction t with
  | zero => intro _; rw [sumUp, Nat.add_zero, pSm_0]
  | succ t ih =>
    intro h
    rw [sumUp, ih (fun q hq => h q (by omega)), h _ (by omega), show x + (t + 1) = (x + t) + 1 by omega]
    show _ = if x ≤ x + t then pSm pv i x (x + t) + pv (x + t) i else 0
    rw [if_pos (by omega)]
theorem mean_ans {g : Nat → Int32} {h : HB} {x y : Nat} (hh : RB g h) (hxy : x ≤ y) (hy : y < h.S.np) : meanC g x y = pSm h.S.pv 2 x (y + 1) ∧ meanL g x y = pSm h.S.pv 1 x (y + 1) ∧ ¬ pSm h.S.pv 1 x (y + 1) = 0 := by
  have hn := hh.np.2
  unfold meanC meanL
  rw [sumUp_pSm (pv := h.S.pv) (i := 2) (y + 1 - x) (fun q hq => (hh.pick (k := q) (by omega)).2.2.1), sumUp_pSm (pv := h.S.pv) (i := 1) (y + 1 - x) (fun q hq => (hh.pick (k := q) (by omega)).2.1), show x + (y + 1 - x) = y + 1 by omega]
  refine ⟨rfl, rfl, fun e => ?_⟩
  have hb := pSm_bw (pv := h.S.pv) (i := 1) (j0 := x) (y + 1) (by omega) (by omega) (fun k a b => hh.2.1.2.2.2 k (by omega))
  rw [e] at hb
  have h1 := hb.1
  rw [ti_0] at h1
  omega
theorem bst_eq {f f' : Nat → Int32} : ∀ n, (∀ q, q < n → f q = f' q) → bstN f n = bsN f' n := by
  intro n
  induction n with
  | zero => intro _; rfl
  | succ n ih =>
    intro h
    have e := ih (fun q hq => h q (by omega))
    rw [bstN, bsN, e]
    cases n with
    | zero => rw [bsN]; simp
    | succ n =>
      have hb : bsN f' (n + 1) < n + 1 := by rw [← e]; exact bstN_lt f (n + 1) (by omega)
      rw [h _ (show bsN f' (n + 1) < n + 1 + 1 by omega), h (n + 1) (by omega)]
theorem acc_ans {g : Nat → Int32} {h : HB} (hh : RB g h) {w : Int32} (hw : ¬ inC w 0 8 = 0) : accM g w h.n = accV h.S.cv h.S.pk h.S.pd h.S.np h.n w := by
  obtain ⟨k, hk, e⟩ := inC_nat (n := 9) (by omega) (show ¬ inC w 0 (nI 9 - 1) = 0 from hw)
  have hn := hh.n
  have s0 : moHerd g h.n = ctS laV0 h.S.cv h.n := by
    unfold moHerd ctS
    refine bx_congr _ (fun j hj => ?_)
    have e1 : moKept g (nI j) = laV0 (h.S.cv j) := by
      rw [kept_eq hh]
      unfold thC laV0
      rw [nI_clamp (by omega)]
      have i1 : ¬ inC (nI j) 0 (nI h.n - 1) = 0 := by
        have e9 : nI h.n - 1 = nI (h.n - 1) := nI_subE (a := h.n) (b := 1) rfl rfl (by omega)
        have t1 := ti_nI (n := j) (by omega)
        have t2 := ti_nI (n := h.n - 1) (by omega)
        rw [e9]
        unfold inC
        rw [if_neg (fun z => by have := ti_lt.mp z; rw [t1, ti_0] at this; omega), if_neg (fun z => by have := ti_lt.mp z; rw [t1, t2] at this; omega)]
        decide
      rw [if_neg i1]
    rw [e1]
  have s1 : moThat g 1 h.n = ctS laV1 h.S.cv h.n := by
    unfold moThat ctS
    refine bx_congr _ (fun j hj => ?_)
    rw [if_pos rfl, (hh.cow hj).mil]
    rfl
  have s2 : moThat g 2 h.n = ctS laV2 h.S.cv h.n := by
    unfold moThat ctS
    refine bx_congr _ (fun j hj => ?_)
    rw [if_neg (by decide), (hh.cow hj).car]
    rfl
  have s3 : moSum g 8 h.n = smS laV3 h.S.cv h.n := by
    unfold moSum smS
    exact bx_congr _ (fun j hj => (hh.cow hj).2.1.2.2.2.2.1.symm)
  have s4 : moSum g 9 h.n = smS laV4 h.S.cv h.n := by
    unfold moSum smS
    exact bx_congr _ (fun j hj => (hh.cow hj).2.1.2.2.2.2.2.symm)
  have s5 : g 14 = smS laV5 h.S.cv h.n := hh.1.2.2.2.2
  have a12 : g 12 = h.S.pk := hh.1.1.2.2.2.2.2.2.2.1
  have a13 : g 13 = h.S.pd := hh.1.1.2.2.2.2.2.2.2.2
  unfold accM accV
  rw [s0, s3, s4, s5, a12, a13, hh.np.1, e]
  rcases (show k = 0 ∨ k = 1 ∨ k = 2 ∨ k = 3 ∨ k = 4 ∨ k = 5 ∨ k = 6 ∨ k = 7 ∨ k = 8 by omega) with z | z | z | z | z | z | z | z | z <;> rw [z]
  · rw [if_pos (show nI 0 = 0 from rfl), if_pos (show nI 0 = 0 from rfl)]
  · rw [if_neg (show ¬ nI 1 = 0 by decide), if_pos (show nI 1 = 1 from rfl), if_neg (show ¬ nI 1 = 0 by decide), if_pos (show nI 1 = 1 from rfl)]
    exact s1
  · rw [if_neg (show ¬ nI 2 = 0 by decide), if_neg (show ¬ nI 2 = 1 by decide), if_pos (show nI 2 = 2 from rfl), if_neg (show ¬ nI 2 = 0 by decide), if_neg (show ¬ nI 2 = 1 by decide), if_pos (show nI 2 = 2 from rfl)]
    exact s2
  · rw [show nI 3 = (3 : Int32) from rfl]
    simp only [show ¬ (3 : Int32) = 0 by decide, show ¬ (3 : Int32) = 1 by decide, show ¬ (3 : Int32) = 2 by decide, if_false, if_true]
  · rw [show nI 4 = (4 : Int32) from rfl]
    simp only [show ¬ (4 : Int32) = 0 by decide, show ¬ (4 : Int32) = 1 by decide, show ¬ (4 : Int32) = 2 by decide, show ¬ (4 : Int32) = 3 by decide, if_false, if_true]
  · rw [show nI 5 = (5 : Int32) from rfl]
    simp only [show ¬ (5 : Int32) = 0 by decide, show ¬ (5 : Int32) = 1 by decide, show ¬ (5 : Int32) = 2 by decide, show ¬ (5 : Int32) = 3 by decide, show ¬ (5 : Int32) = 4 by decide, if_false, if_true]
  · rw [show nI 6 = (6 : Int32) from rfl]
    simp only [show ¬ (6 : Int32) = 0 by decide, show ¬ (6 : Int32) = 1 by decide, show ¬ (6 : Int32) = 2 by decide, show ¬ (6 : Int32) = 3 by decide, show ¬ (6 : Int32) = 4 by decide, show ¬ (6 : Int32) = 5 by decide, if_false, if_true]
  · rw [show nI 7 = (7 : Int32) from rfl]
    simp only [show ¬ (7 : Int32) = 0 by decide, show ¬ (7 : Int32) = 1 by decide, show ¬ (7 : Int32) = 2 by decide, show ¬ (7 : Int32) = 3 by decide, show ¬ (7 : Int32) = 4 by decide, show ¬ (7 : Int32) = 5 by decide, show ¬ (7 : Int32) = 6 by decide, if_false, if_true]
  · rw [show nI 8 = (8 : Int32) from rfl]
    simp only [show ¬ (8 : Int32) = 0 by decide, show ¬ (8 : Int32) = 1 by decide, show ¬ (8 : Int32) = 2 by decide, show ¬ (8 : Int32) = 3 by decide, show ¬ (8 : Int32) = 4 by decide, show ¬ (8 : Int32) = 5 by decide, show ¬ (8 : Int32) = 6 by decide, show ¬ (8 : Int32) = 7 by decide, if_false]
theorem pick_txt {g : Nat → Int32} {k : Nat} {c : Nat → Int32} (h : PW g k c) : pkT (g (7 * k + 103)) (g (7 * k + 104)) (g (7 * k + 106)) (g (7 * k + 107)) (g (7 * k + 108)) (g (7 * k + 109)) = psT c := by
  obtain ⟨p0, p1, p2, p3, p4, p5, p6⟩ := h
  rw [p0, p1, p3, p4, p5, p6]
  unfold pkT psT
  rfl
