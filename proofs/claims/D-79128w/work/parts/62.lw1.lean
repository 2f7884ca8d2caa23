/-! THE LAW's BODY: what its loop keeps -/
def strW (Γ : GE) (wr : Nat) (y : SST) (Lw : List Int32) : va_W := [(wr, .inr (14, [.ref y.1, .int 0, .int 0, .int 0])), (y.1, .inl (Γ.2.1 1, Lw.length, .inl y.2))]
def sbW0 (Γ : GE) (tx : Nat) (x : SBT) (L : List Int32) : va_W := [(tx, .inr (13, [.ref x.1, .int 0, .int x.2.2.2, .int (nI L.length)])), (x.1, .inl (Γ.2.1 1, x.2.1, .inl x.2.2.1))]
def sbW1 (Γ : GE) (tx : Nat) (x : SBT) (L : List Int32) : va_W := [(tx, .inr (13, [.ref x.1, .int 1, .int x.2.2.2, .int (nI L.length)])), (x.1, .inl (Γ.2.1 1, 2 * x.2.1, .inl x.2.2.1))]
/-- the text's builder, in either coder -/
def TX (Γ : GE) (tx : Nat) (tB : va_W) (L : List Int32) : Prop := L.length ≤ 50 ∧ ∃ x : SBT, x.2.2.2 = 0 ∧ ((sbF 0 x L ∧ tB = sbW0 Γ tx x L) ∨ (sbF 1 x L ∧ tB = sbW1 Γ tx x L))
/-- what is written: the constant "" or a string of its own -/
def WR (Γ : GE) (wr : Nat) (wB : va_W) (Lw : List Int32) : Prop := (wB = [] ∧ wr = adK Γ 0 ∧ Lw = []) ∨ ∃ y : SST, stF y Lw ∧ wB = strW Γ wr y Lw
/-- the model's paper -/
def PP (Γ : GE) (q : Nat) (pB : va_W) (Lw : List Int32) : Prop := ∃ x : SBT, sbF 0 x Lw ∧ pB = sbW0 Γ q x Lw
def LI (Γ : GE) (r : Nat → Nat) (h t v : HB) (zs : Int32) (df : Nat → Option Nat) (dp kn : Nat) (hk : Nat → HB) (tx : Nat) (tB : va_W) (L : List Int32) (wr : Nat) (wB : va_W) (Lw : List Int32) (fl rf : Int32) (P : va_W) (i g kf ps tt : Nat → Int32) (pB : va_W) : Prop :=
  hdOk Γ P h ∧ hdOk0 Γ t ∧ hdOk0 Γ v ∧ ((zs = 0 ∧ i 3 = 0) ∨ (zs = 1 ∧ i 3 = 1 ∧ RB kf v ∧ hdOk Γ P v)) ∧ (∀ k, k < kn → hdOk Γ P (hk k)) ∧ kn ≤ 8 ∧ dqI df dp kn (kpA hk) ∧ KB ps kn hk ∧ i 5 = nI kn ∧ RB g h ∧ i 6 = rf ∧ 0 ≤ rf ∧ i 13 = fl ∧ i 10 = nI L.length ∧ (∀ q, q < L.length → tt q = L.getD q 0) ∧ TX Γ tx tB L ∧ WR Γ wr wB Lw ∧ PP Γ (r 8) pB Lw
abbrev lwB (Γ : GE) (b a ou od da dv : Nat) (r : Nat → Nat) (h t v : HB) (zs : Int32) (df : Nat → Option Nat) (dp kn : Nat) (hk : Nat → HB) (tx : Nat) (tB : va_W) (wr : Nat) (wB : va_W) (fl rf : Int32) (ov : Nat → Int64) (ow : Nat → UInt64) (P : va_W) (i g kf sf ps tt wt : Nat → Int32) (pB : va_W) : BW :=
  [[(b, .inr (0, [.ref h.e0, .ref t.e0, .ref v.e0, .int zs, .ref da, .ref tx, .ref wr, .int fl, .int rf]))], (hdB Γ h), (hdB Γ t), (hdB Γ v), [(da, .inr (12, [.ref dv, .int (nI dp), .int (nI ((dp + kn) % 17))]))], [(dv, .inl (Γ.2.1 2, 17, .inr (.inr (.inr (.inr df)))))], (kpB Γ kn hk), tB, wB, P, [(a, moE r i)], [((r 0), .inl (Γ.2.1 0, 523, .inl g))], [((r 1), .inl (Γ.2.1 0, 523, .inl kf))], [((r 2), .inl (Γ.2.1 0, 523, .inl sf))], [((r 4), .inl (Γ.2.1 0, 4184, .inl ps))], [((r 9), .inl (Γ.2.1 0, 50, .inl tt))], [((r 14), .inl (Γ.2.1 0, 60, .inl wt))], pB, [(ou, .inl (Γ.2.1 3, 1, .inr (.inl ov)))], [(od, .inl (Γ.2.1 4, 1, .inr (.inr (.inr (.inl ow)))))]]
abbrev lwL (sb b a ou od : Nat) (x : Int32) : List (Nat × Value) := [(0, .ref sb), (1, .ref b), (2, .ref a), (3, .ref ou), (4, .ref od), (5, .int x)]
abbrev lwRm : Room := { frames := 8192, cells := 652951, slots := 7040994, locals := 104096 }
/-- what holds throughout the law -/
def LWC (l : Launch) (Γ : GE) (p : Program) (s : State) (m : MethodId) (c : Code) (A : Nat → Prop) (sb sL : Nat) (xs : Nat → Int32) : Prop :=
  p.tables.exec = Jvm.exec ∧ c.code = cL_law ∧ c.maxLocals = 9 ∧ s.vm.findClass RX0 = some m.cls ∧ (∀ w ∈ lw_all, w.before #[Value.ref sb] s = true) ∧ va_K Γ.1 cls (tysG Γ) s ∧ EN Γ A s ∧ (∀ q : Nat, s.heap.size ≤ q → A q) ∧ va_X sb sL xs s s.heap ∧ sb < s.heap.size ∧ ¬ A sb ∧ l.stackTraces = false ∧ sL ≤ 256
/-- from a place of the law's loop on, whatever the two hold -/
def LK (l : Launch) (Γ : GE) (p : Program) (e : Env) (s : State) (m : MethodId) (below : List Frame) (meth : Method) (c : Code) (A : Nat → Prop) (Q : State → Prop) (sb b a ou od da dv : Nat) (r : Nat → Nat) (pc : Nat) (x : Int32) (C S : Nat) : Prop :=
  ∀ (h t v : HB) (zs : Int32) (df : Nat → Option Nat) (dp kn : Nat) (hk : Nat → HB) (tx : Nat) (tB : va_W) (L : List Int32) (wr : Nat) (wB : va_W) (Lw : List Int32) (fl rf : Int32) (ov : Nat → Int64) (ow : Nat → UInt64) (P : va_W) (i g kf sf ps tt wt : Nat → Int32) (pB : va_W) (H : Heap) (locs : List Loc) (ls : Array Slot),
    LI Γ r h t v zs df dp kn hk tx tB L wr wB Lw fl rf P i g kf ps tt pB → WP Γ (lwB Γ b a ou od da dv r h t v zs df dp kn hk tx tB wr wB fl rf ov ow P i g kf sf ps tt wt pB) H → WD A (lwB Γ b a ou od da dv r h t v zs df dp kn hk tx tB wr wB fl rf ov ow P i g kf sf ps tt wt pB) → va_S A s.heap H locs → lv_has ls 9 (lwL sb b a ou od x) →
    W p l e lwRm s m #[Value.ref sb] below meth c H locs C S Q (F0 m pc ls [])
theorem oSel_0 {α : Type} {T : Int32} {x y : α} (h : T = 0) : oSel T x y = x := if_pos h
theorem oSel_c {α : Type} {T : Int32} {x y : α} (h : ¬ T = 0) : oSel T x y = y := if_neg h
theorem oSelD_0 {T : Int32} {x y : UInt64} (h : T = 0) : oSelD T x y = x := if_pos h
theorem oSelD_c {T : Int32} {x y : UInt64} (h : ¬ T = 0) : oSelD T x y = y := if_neg h
theorem oI2_0 {i : Nat → Int32} {T : Int32} {n : Nat} (h : T = 0) : oI2 i T n = upd (upd i 7 0) 5 (nI (kpN n)) := if_pos h
theorem oI2_c {i : Nat → Int32} {T : Int32} {n : Nat} (h : ¬ T = 0) : oI2 i T n = upd i 7 T := if_neg h
theorem pos_ne {x : Int32} (h : x = 0) : ¬ 0 < x := by rw [h]; decide
theorem oI_0 {i : Nat → Int32} {T : Int32} {n : Nat} (h : T = 0) : oI i T n = upd (upd i 7 0) 5 (nI (kpN n)) := if_neg (pos_ne h)
theorem oI_c {i : Nat → Int32} {T : Int32} {n : Nat} (h : 0 < T) : oI i T n = upd (upd i 6 T) 7 1 := if_pos h
theorem oP_0 {T : Int32} {g ps : Nat → Int32} {n : Nat} (h : T = 0) : oP T g ps n = moPush g ps n := if_neg (pos_ne h)
theorem oP_c {T : Int32} {g ps : Nat → Int32} {n : Nat} (h : 0 < T) : oP T g ps n = ps := if_pos h
theorem oG_0 {T : Int32} {g g2 : Nat → Int32} (h : T = 0) : oG T g g2 = g2 := if_neg (pos_ne h)
theorem oG_c {T : Int32} {g g2 : Nat → Int32} (h : 0 < T) : oG T g g2 = g := if_pos h
theorem oR_0 {T x : Int32} (h : T = 0) : oR T x = x := if_neg (pos_ne h)
theorem oR_c {T x : Int32} (h : 0 < T) : oR T x = 0 := if_pos h
theorem oI1_0 {i : Nat → Int32} {T v : Int32} {n : Nat} (h : T = 0) (z : ¬ inR v 0 999 = 0) : oI1 i T v n = upd (upd i 7 0) 5 (nI (kpN n)) := (if_neg (pos_ne h)).trans (if_neg z)
theorem oI1_2 {i : Nat → Int32} {T v : Int32} {n : Nat} (h : T = 0) (z : inR v 0 999 = 0) : oI1 i T v n = upd i 7 2 := (if_neg (pos_ne h)).trans (if_pos z)
theorem oI1_c {i : Nat → Int32} {T v : Int32} {n : Nat} (h : 0 < T) : oI1 i T v n = upd (upd i 6 T) 7 1 := if_pos h
theorem oP1_0 {T v : Int32} {g ps : Nat → Int32} {n : Nat} (h : T = 0) (z : ¬ inR v 0 999 = 0) : oP1 T v g ps n = moPush g ps n := (if_neg (pos_ne h)).trans (if_neg z)
theorem oP1_2 {T v : Int32} {g ps : Nat → Int32} {n : Nat} (h : T = 0) (z : inR v 0 999 = 0) : oP1 T v g ps n = ps := (if_neg (pos_ne h)).trans (if_pos z)
theorem oP1_c {T v : Int32} {g ps : Nat → Int32} {n : Nat} (h : 0 < T) : oP1 T v g ps n = ps := if_pos h
theorem oG1_0 {T v : Int32} {g g2 : Nat → Int32} (h : T = 0) (z : ¬ inR v 0 999 = 0) : oG1 T v g g2 = g2 := (if_neg (pos_ne h)).trans (if_neg z)
theorem oG1_2 {T v : Int32} {g g2 : Nat → Int32} (h : T = 0) (z : inR v 0 999 = 0) : oG1 T v g g2 = g := (if_neg (pos_ne h)).trans (if_pos z)
theorem oG1_c {T v : Int32} {g g2 : Nat → Int32} (h : 0 < T) : oG1 T v g g2 = g := if_pos h
theorem oR1_0 {T v x : Int32} (h : T = 0) (z : ¬ inR v 0 999 = 0) : oR1 T v x = x := (if_neg (pos_ne h)).trans (if_neg z)
theorem oR1_2 {T v x : Int32} (h : T = 0) (z : inR v 0 999 = 0) : oR1 T v x = 0 := (if_neg (pos_ne h)).trans (if_pos z)
theorem oR1_c {T v x : Int32} (h : 0 < T) : oR1 T v x = 0 := if_pos h
theorem kpN_le {n : Nat} (h : n ≤ 8) : kpN n ≤ 8 := by
  unfold kpN
  split <;> omega
theorem KB_kp {f ps : Nat → Int32} {kn : Nat} {hk : Nat → HB} {g h : HB} (hh : KB ps kn hk) (hg : RB f h) (e : hvEq g h) (hn : kn ≤ 8) : KB (moPush f ps kn) (kpN kn) (kpH kn hk g) := (KB_push hh (hg.of e) hn).1
theorem hdOk_cow {Γ : GE} {P : va_W} {h : HB} {k : Nat} {c : Nat → Int32} (o : hdOk Γ P h) (hc : cowB c) : hdOk Γ P (HB.setS h (HS.setCv h.S (va_up h.S.cv k c))) := by
  obtain ⟨h1, h2, h3, h4, h5, h6, h7, h8, h9⟩ := o
  refine ⟨h1, h2, h3, h4, h5, h6, h7, h8, fun q hq => ?_⟩
  show cowB (if q = k then c else h.S.cv q)
  by_cases e : q = k
  · rw [if_pos e]; exact hc
  · rw [if_neg e]; exact h9 q hq
theorem hdOk.cow {Γ : GE} {P : va_W} {h : HB} {k : Nat} (o : hdOk Γ P h) (hk : k < h.n) : cowB (h.S.cv k) := o.2.2.2.2.2.2.2.2 k hk
theorem cowB_up {c : Nat → Int32} {k : Nat} {x : Int32} (o : cowB c) (h : 7 ≤ k ∨ k ≤ 4) : cowB (upd c k x) := by
  refine ⟨?_, ?_⟩
  · show (if 5 = k then x else c 5) = 0 ∨ (if 5 = k then x else c 5) = 1
    rw [if_neg (by omega)]; exact o.1
  · show (if 6 = k then x else c 6) = 0 ∨ (if 6 = k then x else c 6) = 1
    rw [if_neg (by omega)]; exact o.2
theorem cowB_dry {c : Nat → Int32} (o : cowB c) : cowB (upd c 5 0) := ⟨Or.inl rfl, o.2⟩
theorem cowB_sell {c : Nat → Int32} (o : cowB c) : cowB (upd c 6 1) := ⟨o.1, Or.inr rfl⟩
theorem hdOk.zero {Γ : GE} {P : va_W} {h : HB} (o : hdOk Γ P h) : hdOk0 Γ h := ⟨o.1, o.2.2.1, o.2.2.2.2.2.1⟩
theorem zs_grow {Γ : GE} {P Q : va_W} {v : HB} {zs : Int32} {i kf : Nat → Int32} (o : (zs = 0 ∧ i 3 = 0) ∨ (zs = 1 ∧ i 3 = 1 ∧ RB kf v ∧ hdOk Γ P v)) (hs : ∀ z, z ∈ P → z ∈ Q) : (zs = 0 ∧ i 3 = 0) ∨ (zs = 1 ∧ i 3 = 1 ∧ RB kf v ∧ hdOk Γ Q v) := o.imp id (fun z => ⟨z.1, z.2.1, z.2.2.1, z.2.2.2.grow hs⟩)
theorem i2c_ch (u : Int32) : isCh ((u.toUInt32 % 65536).toInt32) := by
  have h : (u.toUInt32 % 65536).toNat < 65536 := by
    rw [UInt32.toNat_mod]
    exact Nat.mod_lt _ (by decide)
  refine ⟨(u.toUInt32 % 65536).toNat, h, ?_⟩
  show _ = Int32.ofNat _
  rw [← Int32.toInt_inj]
  rw [show Int32.ofNat (u.toUInt32 % 65536).toNat = Int32.ofNat (u.toUInt32 % 65536).toNat from rfl, Int32.toInt_ofNat_of_lt (by omega)]
  show ((u.toUInt32 % 65536).toInt32).toBitVec.toInt = _
  rw [BitVec.toInt_eq_toNat_of_lt]
  · rfl
  · show 2 * (u.toUInt32 % 65536).toNat < 2 ^ 32
    omega
theorem rf01_hold (n : Nat) (cv : Nat → Nat → Int32) (c v : Int32) : rfHold n cv c v = 0 ∨ 0 < rfHold n cv c v := by
  unfold rfHold
  split
  · exact Or.inr (by decide)
  · split
    · exact Or.inr (by decide)
    · exact Or.inl rfl
theorem rf01_cow (n : Nat) (cv : Nat → Nat → Int32) (c : Int32) : rfCow n cv c = 0 ∨ 0 < rfCow n cv c := by
  unfold rfCow
  split
  · exact Or.inr (by decide)
  · exact Or.inl rfl
theorem rf01_serve (n : Nat) (cv : Nat → Nat → Int32) (t c : Int32) : rfServe n cv t c = 0 ∨ 0 < rfServe n cv t c := by
  unfold rfServe
  split
  · exact Or.inr (by decide)
  · split
    · split
      · exact Or.inl rfl
      · split
        · exact Or.inr (by decide)
        · exact Or.inl rfl
    · exact Or.inr (by decide)
theorem rf01_dry (n : Nat) (cv : Nat → Nat → Int32) (c : Int32) : rfDry n cv c = 0 ∨ 0 < rfDry n cv c := by
  unfold rfDry
  split
  · exact Or.inr (by decide)
  · split
    · exact Or.inr (by decide)
    · exact Or.inl rfl
theorem rf01_bonus (rv : Nat → Nat → Int32) (nr : Nat) (lim bon : Int32) : rfBonus rv nr lim bon = 0 ∨ 0 < rfBonus rv nr lim bon := by
  unfold rfBonus
  split
  · exact Or.inr (by decide)
  · split
    · exact Or.inr (by decide)
    · split
      · split
        · exact Or.inr (by decide)
        · exact Or.inl rfl
      · exact Or.inl rfl
theorem hold_th {n : Nat} {cv : Nat → Nat → Int32} {c v : Int32} (h : rfHold n cv c v = 0) : ¬ thC n cv c = 0 := fun z => by
  unfold rfHold at h
  rw [if_pos z] at h
  exact absurd h (by decide)
theorem cow_th {n : Nat} {cv : Nat → Nat → Int32} {c : Int32} (h : rfCow n cv c = 0) : ¬ thC n cv c = 0 := fun z => by
  unfold rfCow at h
  rw [if_pos z] at h
  exact absurd h (by decide)
theorem serve_th {n : Nat} {cv : Nat → Nat → Int32} {t c : Int32} (h : rfServe n cv t c = 0) : ¬ thC n cv c = 0 := fun z => by
  unfold rfServe at h
  rw [if_pos z] at h
  exact absurd h (by decide)
theorem dry_th {n : Nat} {cv : Nat → Nat → Int32} {c : Int32} (h : rfDry n cv c = 0) : ¬ thC n cv c = 0 := fun z => by
  unfold rfDry at h
  rw [if_pos z] at h
  exact absurd h (by decide)
theorem neg_row {k : Nat} (h : k ≤ 4) : (-1 : Int32) - nI k < 0 := by
  rcases (show k = 0 ∨ k = 1 ∨ k = 2 ∨ k = 3 ∨ k = 4 by omega) with e | e | e | e | e <;> rw [e] <;> decide
theorem bonus_nr {g : Nat → Int32} {h : HB} {lim bon : Int32} (hh : RB g h) (hR : rfBonus h.rv h.nr lim bon = 0) (hk : ¬ (rowK h.rv lim h.nr < h.nr ∧ h.rv (rowK h.rv lim h.nr) 0 = lim)) : h.nr ≤ 3 := by
  obtain ⟨k1, k2⟩ := rowK_le4 hh lim
  by_cases e : h.nr = 4
  · exfalso
    have hr : rowR h.rv lim h.nr < 0 := by
      unfold rowR
      by_cases e1 : rowK h.rv lim h.nr < h.nr
      · rw [if_pos e1, if_neg (fun z => hk ⟨e1, z⟩)]; exact neg_row (by omega)
      · rw [if_neg e1]; exact neg_row (by omega)
    unfold rfBonus at hR
    by_cases a1 : inC lim 0 999 = 0
    · rw [if_pos a1] at hR; exact absurd hR (by decide)
    · by_cases a2 : inC bon 0 20 = 0
      · rw [if_neg a1, if_pos a2] at hR; exact absurd hR (by decide)
      · rw [if_neg a1, if_neg a2, if_pos e, if_pos hr] at hR; exact absurd hR (by decide)
  · omega
theorem i_le {x : Int32} (h : 0 < x) : 0 ≤ x := Int32.le_of_lt h
theorem pv_ne {g : Nat → Int32} {h : HB} {k : Nat} (hh : RB g h) (hk : k < h.S.np) : ¬ h.S.pv k 1 = 0 := fun z => by
  have := (hh.2.1.2.2.2 k hk).1
  rw [z, ti_0] at this
  omega
theorem oSel_t {α : Type} {T c : Int32} {x y : α} (h : T = c) (hc : ¬ c = 0) : oSel T x y = y := if_neg (by rw [h]; exact hc)
theorem oI2_t {i : Nat → Int32} {T c : Int32} {n : Nat} (h : T = c) (hc : ¬ c = 0) : oI2 i T n = upd i 7 c := by rw [oI2_c (by rw [h]; exact hc), h]
theorem hold_ans {g : Nat → Int32} {h : HB} {k : Nat} (hh : RB g h) (hk : k < h.n) (v : Int32) : moDo0 g k v (10 * k + 22) = mxI (h.S.cv k 9) (h.S.td + v) := by
  have h9 := (hh.cow hk).2.1.2.2.2.1
  unfold moDo0
  rw [pk_us, ← h9, hh.td]
  unfold mxI
  by_cases a : h.S.td + v < h.S.cv k 9
  · rw [if_pos a, if_neg (fun z => by rw [ti_lt] at a z; omega)]
  · rw [if_neg a]
    by_cases b : h.S.cv k 9 < h.S.td + v
    · rw [if_pos b]
    · rw [if_neg b]; exact ti_eq (by rw [ti_lt] at a b; omega)
theorem serve_ans {g : Nat → Int32} {h : HB} (hh : RB g h) : g 0 + g 1 = h.S.td + h.se 0 := by
  rw [hh.td, show g 1 = h.se 0 from hh.se (k := 0) (by omega)]
theorem accM_at (g : Nat → Int32) (n : Nat) : accM g 0 n = moHerd g n ∧ accM g 3 n = moSum g 8 n ∧ accM g 4 n = moSum g 9 n := by
  refine ⟨if_pos rfl, ?_, ?_⟩
  · unfold accM
    rw [if_neg (by decide), if_neg (by decide), if_neg (by decide), if_pos rfl]
  · unfold accM
    rw [if_neg (by decide), if_neg (by decide), if_neg (by decide), if_neg (by decide), if_pos rfl]
theorem sell_ans {g : Nat → Int32} {h : HB} {k : Nat} (hh : RB g h) (hk : k < h.n) : moHerd (moDo4 g k) h.n = accV (va_up h.S.cv k (upd (h.S.cv k) 6 1)) h.S.pk h.S.pd h.S.np h.n 0 := by
  have e := acc_ans (RB_sell hh hk) (w := 0) (by decide)
  rw [show (HB.setS h (HS.setCv h.S (va_up h.S.cv k (upd (h.S.cv k) 6 1)))).n = h.n from rfl, (accM_at _ _).1] at e
  exact e
theorem share_ans {g : Nat → Int32} {h : HB} (hh : RB g h) : moSum g 8 h.n = accV h.S.cv h.S.pk h.S.pd h.S.np h.n 3 ∧ moSum g 9 h.n = accV h.S.cv h.S.pk h.S.pd h.S.np h.n 4 :=
  ⟨by rw [← (accM_at g h.n).2.1]; exact acc_ans hh (by decide), by rw [← (accM_at g h.n).2.2]; exact acc_ans hh (by decide)⟩
theorem hdOk_pk {Γ : GE} {P Q : va_W} {h : HB} {g' : Nat → Int32} {S : HS} {y : LST} {m : Int32} {pb : Nat → Nat} (o : hdOk Γ P h) (hs : ∀ z, z ∈ P → z ∈ Q) (hb : RB g' (HB.setPk h S y m pb)) (hy : alI Γ y S.np pb) (hq : ∀ k, k < S.np → (pb k, pickE (S.pv k)) ∈ Q) : hdOk Γ Q (HB.setPk h S y m pb) :=
  ⟨o.1, o.2.1, o.2.2.1, o.2.2.2.1, fun k hk => hs _ (o.2.2.2.2.1 k hk), hy, hb.np.2, hq, fun k hk => (hb.cow hk).2.2.1⟩
theorem hd0_pk {Γ : GE} {P : va_W} {h : HB} {S : HS} {y : LST} {m : Int32} {pb : Nat → Nat} (o : hdOk Γ P h) (hy : alI Γ y S.np pb) : hdOk0 Γ (HB.setPk h S y m pb) := ⟨o.1, o.2.2.1, hy⟩
theorem inC_none (c : Int32) : inC c 0 (nI 0 - 1) = 0 := by
  unfold inC
  by_cases h : c < 0
  · rw [if_pos h]
  · rw [if_neg h, if_pos]
    rw [show nI 0 - 1 = (-1 : Int32) from by decide]
    rw [ti_lt] at h ⊢
    rw [ti_0] at h
    rw [show (-1 : Int32).toInt = -1 from by decide]
    omega
theorem inR_none (c : Int32) : inR c 0 (nI 0 - 1) = 0 := inC_none c
theorem inR_1 {c lo hi : Int32} (h : ¬ inC c lo hi = 0) : inR c lo hi = 1 := (inC_01 c lo hi).resolve_left h
theorem T_wr_x {c : Int32} {n : Nat} (h : inC c 0 (nI n - 1) = 0) : T_wr c n = 1 := if_pos h
theorem T_wr_ok {c : Int32} {n : Nat} (h : ¬ inC c 0 (nI n - 1) = 0) : T_wr c n = 0 := if_neg h
theorem rc_e0 {Γ : GE} {A : Nat → Prop} {s : State} (hE : EN Γ A s) : ∃ (y : SST) (L : List Int32), L = [] ∧ stF y L ∧ Rc Γ A s s.heap (adK Γ 0, .inr (14, [.ref y.1, .int 0, .int 0, .int 0])) ∧ Rc Γ A s s.heap (y.1, .inl (Γ.2.1 1, L.length, .inl y.2)) := by
  have e0 : str_by 0 = [] := by decide +kernel
  have h := hE.str va_S.rf (fun _ z => z) 0 (by decide)
  refine ⟨(adV Γ 0, fun j => (str_by 0).getD j 0), str_by 0, e0, ⟨by rw [e0]; decide, fun j => ?_, fun j hj => ?_⟩, h (strO Γ 0) (by simp), h (strV Γ 0) (by simp)⟩
  · show fits .byte (.int ((str_by 0).getD j 0)) = true
    rw [e0]
    rfl
  · rw [e0] at hj
    exact absurd hj (Nat.not_lt_zero _)
theorem tt_push {tt : Nat → Int32} {L : List Int32} (h : ∀ q, q < L.length → tt q = L.getD q 0) (c : Int32) : ∀ q, q < (L ++ [c]).length → upd tt L.length c q = (L ++ [c]).getD q 0 := by
  intro q hq
  rw [List.length_append, List.length_singleton] at hq
  show (if q = L.length then c else tt q) = _
  by_cases e : q = L.length
  · rw [if_pos e, e, List.getD_eq_getElem?_getD, List.getElem?_append_right (Nat.le_refl _), Nat.sub_self]
    rfl
  · rw [if_neg e, h q (by omega), List.getD_eq_getElem?_getD, List.getD_eq_getElem?_getD, List.getElem?_append_left (by omega)]
theorem len_push (L : List Int32) (c : Int32) : nI (L.length + 1) = nI (L ++ [c]).length := by rw [List.length_append, List.length_singleton]
theorem len_push_le {L : List Int32} (c : Int32) (h : L.length ≤ 49) : (L ++ [c]).length ≤ 50 := by rw [List.length_append, List.length_singleton]; omega
theorem dq_0 (f : Nat → Option Nat) (c : Nat → Nat) : dqI f 0 0 c := ⟨by omega, by omega, fun k hk => absurd hk (Nat.not_lt_zero _)⟩
theorem KB_0 (ps : Nat → Int32) (hk : Nat → HB) : KB ps 0 hk := fun k hk => absurd hk (Nat.not_lt_zero _)
theorem txr {t : Nat → Int32} {n : Nat} {v : Int32} {w : Nat → Int32} {c : Int32} (h : (textR t n v w).1 = c) : textR t n v w = (c, (textR t n v w).2.1, (textR t n v w).2.2.1, (textR t n v w).2.2.2.1, (textR t n v w).2.2.2.2) := by rw [← h]
section LWLD
variable {p : Program} {l : Launch} {e : Env} {R : Room} {s : State} {m : MethodId} {args : Array Value} {below : List Frame} {meth : Method} {c : Code} {H : Heap} {locs : List Loc} {cells slots : Nat} {Q : State → Prop} {cc : ByteArray} {pc : Nat} {ls : Array Slot} {A : Nat → Prop} {rest : List Value}
theorem lw_ld (hx : p.tables.exec = Jvm.exec) (hb : c.code = cc) {sb sL : Nat} {xs : Nat → Int32} (hX : va_X sb sL xs s s.heap) (hbl : sb < s.heap.size) (hbA : ¬ A sb) (hS : va_S A s.heap H locs) (n : Nat) (hn : n < sL) (hL : sL ≤ 256) {v : Int32} (hv : xs n = v) (hdg : decode cc pc = .ok (.iaload, 1))
    (kk : W p l e R s m args below meth c H locs cells slots Q (F0 m (pc + 1) ls (.int v :: rest))) : W p l e R s m args below meth c H locs cells slots Q (F0 m pc ls (.int (nI n) :: .ref sb :: rest)) := by
  refine va_sld hx hb hX hbl hbA hS (vp_in_nI hn (by omega)) hdg ?_
  rw [nI_clamp (by omega), hv]
  exact kk
end LWLD
theorem orF_01 (w g : Nat → Int32) (f : Nat) : (orF w f 0 g).1 = 0 ∨ 0 < (orF w f 0 g).1 := by
  rcases orF_gS w g f 0 with ⟨jx, -, -, c, -, x⟩ | ⟨-, x⟩
  · have x : orF w f 0 g = (agS w g jx, gS w g jx) := x
    rw [x]; exact Or.inr c
  · have x : orF w f 0 g = (0, gS w g (0 + f)) := x
    rw [x]; exact Or.inl rfl
theorem zero_or_succ (n : Nat) : n = 0 ∨ ∃ m, n = m + 1 := by
  cases n with
  | zero => exact Or.inl rfl
  | succ m => exact Or.inr ⟨m, rfl⟩
