/-! JDK: ArrayList. A list's array: its address, its room, its places; n elements, the k-th at c k -/
abbrev LST : Type := Nat × Nat × (Nat → Option Nat)
def alA (Γ : GE) (x : LST) : va_W := if x.2.1 = 0 then [] else [(x.1, .inl (Γ.2.1 2, x.2.1, .inr (.inr (.inr (.inr x.2.2)))))]
theorem alA_0 {Γ : GE} {x : LST} (h : x.2.1 = 0) : alA Γ x = [] := if_pos h
theorem alA_1 {Γ : GE} {x : LST} (h : ¬ x.2.1 = 0) : alA Γ x = [(x.1, .inl (Γ.2.1 2, x.2.1, .inr (.inr (.inr (.inr x.2.2)))))] := if_neg h
theorem b_aretQ {p : Program} {l : Launch} {e : Env} {R : Room} {s : State} {m : MethodId} {args : Array Value} {below : List Frame} {meth : Method} {c : Code} {H : Heap} {locs : List Loc} {cells slots mc ms : Nat} {cc : ByteArray} {pc : Nat} {ls : Array Slot} {Γ : GE} {A : Nat → Prop} {bs : BW} {post : Option Nat → BW → Prop} {r : Option Nat} {ty : FieldType} (hx : p.tables.exec = Jvm.exec) (hb : c.code = cc) (hr : meth.sig.returnType = some ty) (hty : (∃ n, ty = .object n) ∨ ∃ t, ty = .array t) (hlocks : meth.locks = false) (hP : va_P Γ.1 cls bs.flatten H) (hD : va_D A bs.flatten) (hS : va_S A s.heap H locs) (hc : cells ≤ mc) (hs : slots ≤ ms) (hp : post r bs) (d : decode cc pc = .ok (.areturn, 1)) :
    W p l e R s m args below meth c H locs cells slots (MQ below (Qq Γ post A) args s mc ms A) (F0 m pc ls [va_rf r]) := by
  cases r with
  | none => exact b_aretN hx hb hr hty hlocks hP hD hS hc hs hp d
  | some v => exact b_aret hx hb hr hty hlocks hP hD hS hc hs hp d
theorem recv_arr {Γ : GE} {s : State} {H : Heap} {a n : Nat} {f : Nat → Option Nat} (hK : va_K Γ.1 cls (tysG Γ) s) (h : va_at Γ.1 cls (a, .inl (Γ.2.1 2, n, .inr (.inr (.inr (.inr f))))) H) : ∃ cell : Cell, H[a]? = some cell ∧ cell.vm.isStatics = false ∧ s.vm.findClass "[Ljava/lang/Object;" = some cell.cls := ⟨_, h, rfl, va_nmO (hK.2 2 _ rfl).2 rfl⟩
def alI (Γ : GE) (x : LST) (n : Nat) (c : Nat → Nat) : Prop := n ≤ x.2.1 ∧ x.2.1 ≤ 100 ∧ (x.2.1 = 0 → x.1 = Γ.2.2 0) ∧ (∀ k, k < n → x.2.2 k = some (c k)) ∧ ∀ k, n ≤ k → x.2.2 k = none
theorem alI_n {Γ : GE} {x : LST} {n : Nat} {c : Nat → Nat} (h : alI Γ x n c) : n ≤ x.2.1 ∧ x.2.1 ≤ 100 := ⟨h.1, h.2.1⟩
/-- objects that lists hold -/
def obOk (ci : Nat) : Prop := ci = 1 ∨ ci = 4 ∨ ci = 5 ∨ ci = 6 ∨ ci = 10
def inE (E : va_W) (a : Nat) : Prop := ∃ (ci : Nat) (fs : List Value), (a, .inr (ci, fs)) ∈ E ∧ obOk ci
theorem el_any {Γ : GE} {A : Nat → Prop} {s : State} {H : Heap} {locs : List Loc} {E : va_W} {a : Nat} (hK : va_K Γ.1 cls (tysG Γ) s) (hE : EN Γ A s) (hRo : ∀ q ∈ ([E] : BW).flatten, Rc Γ A s s.heap q) (hS : va_S A s.heap H locs) (h : inE E a) : va_Any "java/lang/Object" s H a := by
  obtain ⟨ci, fs, hm, ho⟩ := h
  have hr := (hRo _ (by simp only [List.flatten_cons, List.flatten_nil, List.append_nil]; exact hm)).keep hS (fun _ h => h)
  rcases ho with rfl | rfl | rfl | rfl | rfl
  · exact any_of hK hE (Rc.obj (by decide) hr) (r := (RX2, TX2, 8)) rfl q2225
  · exact any_of hK hE (Rc.obj (by decide) hr) (r := (RX5, TX5, 12)) rfl q2235
  · exact any_of hK hE (Rc.obj (by decide) hr) (r := (RX6, TX6, 2)) rfl q2240
  · exact any_of hK hE (Rc.obj (by decide) hr) (r := (RX7, TX7, 6)) rfl q2241
  · exact any_of hK hE (Rc.obj (by decide) hr) (r := (RX12, TX12, 3)) rfl q2247
def elIn (E : va_W) (n : Nat) (c : Nat → Nat) : Prop := ∀ k, k < n → inE E (c k)
theorem al_el {Γ : GE} {x : LST} {n : Nat} {c : Nat → Nat} {E : va_W} (h : alI Γ x n c) (he : elIn E n c) : ∀ k y, x.2.2 k = some y → inE E y := by
  intro k y hy
  by_cases hk : k < n
  · rw [h.2.2.2.1 k hk] at hy
    cases hy
    exact he k hk
  · rw [h.2.2.2.2 k (by omega)] at hy
    cases hy
/-- one more behind -/
theorem alI_push {Γ : GE} {v cap n e : Nat} {f : Nat → Option Nat} {c : Nat → Nat} (h : alI Γ (v, cap, f) n c) (hn : n < cap) : alI Γ (v, cap, va_up f n (some e)) (n + 1) (va_up c n e) := by
  obtain ⟨h1, h2, h3, h4, h5⟩ := h
  refine ⟨hn, h2, h3, fun k hk => ?_, fun k hk => ?_⟩
  · show (if k = n then some e else f k) = some (if k = n then e else c k)
    split
    · rfl
    · exact h4 k (by omega)
  · show (if k = n then some e else f k) = none
    rw [if_neg (by omega)]
    exact h5 k (by omega)
theorem alI_set {Γ : GE} {v cap n e i : Nat} {f : Nat → Option Nat} {c : Nat → Nat} (h : alI Γ (v, cap, f) n c) (hi : i < n) : alI Γ (v, cap, va_up f i (some e)) n (va_up c i e) := by
  obtain ⟨h1, h2, h3, h4, h5⟩ := h
  refine ⟨h1, h2, h3, fun k hk => ?_, fun k hk => ?_⟩
  · show (if k = i then some e else f k) = some (if k = i then e else c k)
    split
    · rfl
    · exact h4 k hk
  · show (if k = i then some e else f k) = none
    rw [if_neg (by omega)]
    exact h5 k hk
/-- more room -/
theorem alI_grow {Γ : GE} {v v2 cap cap2 n : Nat} {f : Nat → Option Nat} {c : Nat → Nat} (h : alI Γ (v, cap, f) n c) (h1 : cap ≤ cap2) (h2 : cap2 ≤ 100) (h3 : 0 < cap2) : alI Γ (v2, cap2, va_cpy f (fun _ => none) 0 0 cap) n c := by
  obtain ⟨a1, a2, a3, a4, a5⟩ := h
  refine ⟨Nat.le_trans a1 h1, h2, fun h => absurd h (by show ¬ cap2 = 0; omega), fun k hk => ?_, fun k hk => ?_⟩
  · show (if 0 ≤ k ∧ k < 0 + cap then f (0 + (k - 0)) else none) = _
    have : n ≤ cap := a1
    rw [if_pos (by omega), show 0 + (k - 0) = k by omega]
    exact a4 k hk
  · show (if 0 ≤ k ∧ k < 0 + cap then f (0 + (k - 0)) else none) = _
    split
    · rw [show 0 + (k - 0) = k by omega]
      exact a5 k hk
    · rfl
theorem alI_new {Γ : GE} {v cap : Nat} {c : Nat → Nat} (h2 : cap ≤ 100) (h3 : 0 < cap) : alI Γ (v, cap, fun _ => none) 0 c :=
  ⟨Nat.zero_le _, h2, fun h => absurd h (by show ¬ cap = 0; omega), fun k hk => absurd hk (Nat.not_lt_zero k), fun _ _ => rfl⟩
theorem alI_nil {Γ : GE} {c : Nat → Nat} : alI Γ (Γ.2.2 0, 0, fun _ => none) 0 c :=
  ⟨Nat.zero_le _, by show 0 ≤ 100; omega, fun _ => rfl, fun k hk => absurd hk (Nat.not_lt_zero k), fun _ _ => rfl⟩
theorem alI_c {Γ : GE} {x : LST} {n : Nat} {c c2 : Nat → Nat} (h : alI Γ x n c) (e : ∀ k, k < n → c2 k = c k) : alI Γ x n c2 :=
  ⟨h.1, h.2.1, h.2.2.1, fun k hk => by rw [e k hk]; exact h.2.2.2.1 k hk, h.2.2.2.2⟩
def insN (c : Nat → Nat) (i e : Nat) : Nat → Nat := fun k => if k < i then c k else if k = i then e else c (k - 1)
theorem alI_ins {Γ : GE} {v cap n e i : Nat} {f : Nat → Option Nat} {c : Nat → Nat} (h : alI Γ (v, cap, f) n c) (hn : n < cap) (hi : i ≤ n) : alI Γ (v, cap, va_up (va_cpy f f i (i + 1) (n - i)) i (some e)) (n + 1) (insN c i e) := by
  obtain ⟨h1, h2, h3, h4, h5⟩ := h
  refine ⟨hn, h2, h3, fun k hk => ?_, fun k hk => ?_⟩
  · show (if k = i then some e else if i + 1 ≤ k ∧ k < i + 1 + (n - i) then f (i + (k - (i + 1))) else f k) = some (if k < i then c k else if k = i then e else c (k - 1))
    by_cases e1 : k = i
    · rw [if_pos e1, if_neg (by omega), if_pos e1]
    · rw [if_neg e1]
      by_cases e2 : k < i
      · rw [if_neg (by omega), if_pos e2]; exact h4 k (by omega)
      · rw [if_pos (by omega), if_neg e2, if_neg e1, show i + (k - (i + 1)) = k - 1 by omega]; exact h4 _ (by omega)
  · show (if k = i then some e else if i + 1 ≤ k ∧ k < i + 1 + (n - i) then f (i + (k - (i + 1))) else f k) = none
    rw [if_neg (by omega), if_neg (by omega)]
    exact h5 k (by omega)
theorem alI_rem {Γ : GE} {v cap n : Nat} {f : Nat → Option Nat} {c : Nat → Nat} (h : alI Γ (v, cap, f) (n + 1) c) : alI Γ (v, cap, va_up (va_cpy f f 1 0 n) n none) n (fun k => c (k + 1)) := by
  obtain ⟨h1, h2, h3, h4, h5⟩ := h
  refine ⟨by show n ≤ cap; have : n + 1 ≤ cap := h1; omega, h2, h3, fun k hk => ?_, fun k hk => ?_⟩
  · show (if k = n then none else if 0 ≤ k ∧ k < 0 + n then f (1 + (k - 0)) else f k) = some (c (k + 1))
    rw [if_neg (by omega), if_pos (by omega), show 1 + (k - 0) = k + 1 by omega]
    exact h4 _ (by omega)
  · show (if k = n then none else if 0 ≤ k ∧ k < 0 + n then f (1 + (k - 0)) else f k) = none
    split
    · rfl
    · rw [if_neg (by omega)]
      exact h5 k (by omega)
theorem alI_all {Γ : GE} {x : LST} {v cap n : Nat} {f g : Nat → Option Nat} {c : Nat → Nat} (h : alI Γ x n c) (hn : n ≤ cap) (hc : cap ≤ 100) (h0 : 0 < cap) (hg : ∀ k, k < n → g k = x.2.2 k) (hf : ∀ k, f k = none) : alI Γ (v, cap, va_cpy g f 0 0 n) n c := by
  refine ⟨hn, hc, fun h => absurd h (by show ¬ cap = 0; omega), fun k hk => ?_, fun k hk => ?_⟩
  · show (if 0 ≤ k ∧ k < 0 + n then g (0 + (k - 0)) else f k) = _
    rw [if_pos (by omega), show 0 + (k - 0) = k by omega, hg k hk]
    exact h.2.2.2.1 k hk
  · show (if 0 ≤ k ∧ k < 0 + n then g (0 + (k - 0)) else f k) = _
    rw [if_neg (by omega)]
    exact hf k
theorem alI_f0 {Γ : GE} {x : LST} {c : Nat → Nat} (h : alI Γ x 0 c) : ∀ k, x.2.2 k = none := fun k => h.2.2.2.2 k (Nat.zero_le _)
def clrF (f : Nat → Option Nat) (j : Nat) : Nat → Option Nat := fun k => if k < j then none else f k
theorem clrF_0 (f : Nat → Option Nat) : clrF f 0 = f := by funext k; simp [clrF]
theorem clrF_step (f : Nat → Option Nat) (j : Nat) : va_up (clrF f j) j none = clrF f (j + 1) := by
  funext k
  simp only [va_up, clrF]
  by_cases h : k = j
  · rw [if_pos h, if_pos (by omega)]
  · rw [if_neg h]
    by_cases h2 : k < j
    · rw [if_pos h2, if_pos (by omega)]
    · rw [if_neg h2, if_neg (by omega)]
theorem alI_clr {Γ : GE} {x : LST} {n : Nat} {c : Nat → Nat} (h : alI Γ x n c) : alI Γ (x.1, x.2.1, clrF x.2.2 n) 0 c := by
  refine ⟨Nat.zero_le _, h.2.1, h.2.2.1, fun k hk => absurd hk (Nat.not_lt_zero k), fun k _ => ?_⟩
  show (if k < n then none else x.2.2 k) = none
  split
  · rfl
  · exact h.2.2.2.2 k (by omega)
set_option maxHeartbeats 4000000 in
set_option maxRecDepth 100000 in
theorem mt_copyOfq2 (l : Launch) (Γ : GE) (sz : Nat) (d : Nat) (n : Nat) (f : Nat → Option Nat) (q : Nat) (E : va_W) (hn : n ≤ 100) (hq : q ≤ 200) (hel : ∀ k y, f k = some y → inE E y) : KM l yJ17_copyOf_2 cJ17_copyOf_2 4 (some (FieldType.array (FieldType.object "java/lang/Object"))) Γ 1 60 1 q [.ref d, .int (nI q), .ref (Γ.2.2 3)] [[(d, .inl (Γ.2.1 2, n, .inr (.inr (.inr (.inr f)))))]] [E] sz (Qq Γ (fun r_ u_ => ∃ w : Nat, r_ = some w ∧ u_ = [[(d, .inl (Γ.2.1 2, n, .inr (.inr (.inr (.inr f)))))], [(w, .inl (Γ.2.1 2, q, .inr (.inr (.inr (.inr (va_cpy f (fun _ => none) 0 0 (mnN n q)))))))]])) := by
  refine K_intro (by decide) (Nat.le_of_ble_eq_true rfl) ?_
  intro pr_ ev_ s mi_ below meth cd_ A ls hx hb hr hml hown hts hlocks hname hK hE hRo hP hD hA hS hsz hl
  have hl : lv_has ls 4 [(0, .ref d), (1, .int (nI q)), (2, .ref (Γ.2.2 3))] := hl
  have hown : s.vm.findClass RJ17 = some mi_.cls := hown
  have hmn : mnN n q ≤ n ∧ mnN n q ≤ q := by unfold mnN; split <;> omega
  refine lv_aload_n hx hb dJ17_copyOf_2_0 rfl (lv_at hl 2 rfl) ?_
  refine va_ldcM hx hb hown (hts _ q534) hE.1.2.1.2.2.1 dJ17_copyOf_2_1 ?_
  refine lv_acmp_ne (rx := (some (Γ.2.2 3))) (ry := (some (Γ.2.2 3))) (tgt := 13) hx hb dJ17_copyOf_2_3 (by decide) (fun c_1 => ?_) (fun c_1 => ?_)
  · -- 3 taken
    exact absurd rfl c_1
  · -- 3 not taken
    refine lv_iload_n hx hb dJ17_copyOf_2_6 rfl (lv_at hl 1 rfl) ?_
    refine b_newq hx hb hts hE hown q535 hK hP hD hS hA q rfl (by omega) (by first | omega | (dsimp only; omega)) (by first | omega | (dsimp only; omega)) dJ17_copyOf_2_7 (fun a_2 H hP hD hS => ?_)
    have hP : WP Γ [[(d, .inl (Γ.2.1 2, n, .inr (.inr (.inr (.inr f)))))], [(a_2, .inl (Γ.2.1 2, q, .inr (.inr (.inr (.inr (fun _ => none))))))]] H := hP
    have hD : WD A [[(d, .inl (Γ.2.1 2, n, .inr (.inr (.inr (.inr f)))))], [(a_2, .inl (Γ.2.1 2, q, .inr (.inr (.inr (.inr (fun _ => none))))))]] := hD
    refine lv_goto (tgt := 24) hx hb dJ17_copyOf_2_10 (by decide) ?_
    refine lv_astore_n (lv' := [(3, .ref a_2), (0, .ref d), (1, .int (nI q)), (2, .ref (Γ.2.2 3))]) hx hb dJ17_copyOf_2_24 rfl hl (by decide) rfl (fun ls hl => ?_)
    refine lv_aload_n hx hb dJ17_copyOf_2_25 rfl (lv_at hl 1 rfl) ?_
    refine lv_iconst (v := 0) hx hb dJ17_copyOf_2_26 (by decide) ?_
    refine lv_aload_n hx hb dJ17_copyOf_2_27 rfl (lv_at hl 0 rfl) ?_
    refine lv_iconst (v := 0) hx hb dJ17_copyOf_2_28 (by decide) ?_
    refine lv_aload_n hx hb dJ17_copyOf_2_29 rfl (lv_at hl 1 rfl) ?_
    refine b_alen hx hb hK 2 (b_at (k := 0) hP rfl) rfl dJ17_copyOf_2_30 ?_
    refine lv_iload_n hx hb dJ17_copyOf_2_31 rfl (lv_at hl 2 rfl) ?_
    refine va_mmin hx hb (hml.trans hl.1.symm) hown (hts _ q536) (hts _ q537) (hts _ q83) (hts _ q538) (Nat.le_of_ble_eq_true rfl) (Nat.le_of_ble_eq_true rfl) (by first | omega | (dsimp only; omega)) (by first | omega | (dsimp only; omega)) dJ17_copyOf_2_32 ?_
    refine b_top (mn_nI (a := n) (b := q) (by omega) (by omega)) ?_
    refine b_copyq hx hb hts (hml.trans hl.1.symm) hown q539 q541 q540 q85 hK hP hD hS 0 1 rfl rfl 0 0 (mnN n q) rfl rfl rfl (by omega) (by omega) (by omega) (by omega) (fun i _ y hy => el_any hK hE hRo hS (hel _ y hy)) (Nat.le_of_ble_eq_true rfl) (Nat.le_of_ble_eq_true rfl) dJ17_copyOf_2_35 (fun H locs hP hD hS => ?_)
    have hP : WP Γ [[(d, .inl (Γ.2.1 2, n, .inr (.inr (.inr (.inr f)))))], [(a_2, .inl (Γ.2.1 2, q, .inr (.inr (.inr (.inr (va_cpy f (fun _ => none) 0 0 (mnN n q)))))))]] H := hP
    have hD : WD A [[(d, .inl (Γ.2.1 2, n, .inr (.inr (.inr (.inr f)))))], [(a_2, .inl (Γ.2.1 2, q, .inr (.inr (.inr (.inr (va_cpy f (fun _ => none) 0 0 (mnN n q)))))))]] := hD
    refine lv_aload_n hx hb dJ17_copyOf_2_38 rfl (lv_at hl 0 rfl) ?_
    exact b_aret hx hb hr (by first | exact Or.inl ⟨_, rfl⟩ | exact Or.inr ⟨_, rfl⟩) hlocks hP hD hS (by first | omega | (dsimp only; omega)) (by first | omega | (dsimp only; omega)) ⟨a_2, (by first | with_reducible rfl | (simp [c_1]; done) | rfl), (by first | with_reducible rfl | (simp [c_1]; done) | rfl)⟩ dJ17_copyOf_2_39
set_option maxHeartbeats 4000000 in
set_option maxRecDepth 100000 in
theorem mt_copyOfq (l : Launch) (Γ : GE) (sz : Nat) (d : Nat) (n : Nat) (f : Nat → Option Nat) (q : Nat) (E : va_W) (hn : n ≤ 100) (hq : q ≤ 200) (hel : ∀ k y, f k = some y → inE E y) : KM l yJ17_copyOf cJ17_copyOf 2 (some (FieldType.array (FieldType.object "java/lang/Object"))) Γ 2 83 1 q [.ref d, .int (nI q)] [[(d, .inl (Γ.2.1 2, n, .inr (.inr (.inr (.inr f)))))]] [E] sz (Qq Γ (fun r_ u_ => ∃ w : Nat, r_ = some w ∧ u_ = [[(d, .inl (Γ.2.1 2, n, .inr (.inr (.inr (.inr f)))))], [(w, .inl (Γ.2.1 2, q, .inr (.inr (.inr (.inr (va_cpy f (fun _ => none) 0 0 (mnN n q)))))))]])) := by
  refine K_intro (by decide) (Nat.le_of_ble_eq_true rfl) ?_
  intro pr_ ev_ s mi_ below meth cd_ A ls hx hb hr hml hown hts hlocks hname hK hE hRo hP hD hA hS hsz hl
  have hl : lv_has ls 2 [(0, .ref d), (1, .int (nI q))] := hl
  have hown : s.vm.findClass RJ17 = some mi_.cls := hown
  refine lv_aload_n hx hb dJ17_copyOf_0 rfl (lv_at hl 0 rfl) ?_
  refine lv_iload_n hx hb dJ17_copyOf_1 rfl (lv_at hl 1 rfl) ?_
  refine lv_aload_n hx hb dJ17_copyOf_2 rfl (lv_at hl 0 rfl) ?_
  refine va_getC hx hb (hml.trans hl.1.symm) hown (hts _ q502) (va_Nw.use rfl (hE.1.1 _ q2252 rfl)) (hts _ q2251) (hts _ q503) (hts _ q530) hE.1.2.1.2.2.1 (recv_arr hK (b_at (k := 0) hP rfl)) (Nat.le_of_ble_eq_true rfl) (Nat.le_of_ble_eq_true rfl) dJ17_copyOf_3 ?_
  refine b_callq (br := []) (b_runS ⟨hx, hb, hml, hown, hts⟩ (mt_copyOfq2 l Γ _ d n f q E (by first | exact hn | omega) (by first | exact hq | omega) (by first | exact hel | omega)) (lw_S q531 q532 q84 q533) rfl rfl 3 (by decide +kernel) ⟨(Nat.le_of_ble_eq_true rfl), (Nat.le_of_ble_eq_true rfl)⟩ (c_pre hP hD hS hA hK hE [0] rfl rfl (ro_pass (ro_sel (ro2 := [E]) hRo [0] rfl) hD hS hA [0] rfl)) rfl hl.1 rfl (Nat.le_of_ble_eq_true rfl) dJ17_copyOf_6 ⟨(by first | omega | (dsimp only; omega)), (by first | omega | (dsimp only; omega))⟩) hP hD hS hA [0] [] rfl rfl rfl (fun r_1 u_1 H locs hw_1 hP hD hS _ => ?_)
  obtain ⟨w_1, rfl, rfl⟩ := hw_1
  have hP : WP Γ [[(d, .inl (Γ.2.1 2, n, .inr (.inr (.inr (.inr f)))))], [(w_1, .inl (Γ.2.1 2, q, .inr (.inr (.inr (.inr (va_cpy f (fun _ => none) 0 0 (mnN n q)))))))]] H := hP
  have hD : WD A [[(d, .inl (Γ.2.1 2, n, .inr (.inr (.inr (.inr f)))))], [(w_1, .inl (Γ.2.1 2, q, .inr (.inr (.inr (.inr (va_cpy f (fun _ => none) 0 0 (mnN n q)))))))]] := hD
  refine W.eq (g2 := F0 mi_ 9 ls ([.ref w_1])) rfl ?_
  exact b_aret hx hb hr (by first | exact Or.inl ⟨_, rfl⟩ | exact Or.inr ⟨_, rfl⟩) hlocks hP hD hS (by first | omega | (dsimp only; omega)) (by first | omega | (dsimp only; omega)) ⟨w_1, (by first | rfl | (simp; done)), (by first | rfl | (simp; done))⟩ dJ17_copyOf_9
set_option maxHeartbeats 4000000 in
set_option maxRecDepth 100000 in
theorem mt_copyOfq2_e (l : Launch) (Γ : GE) (sz : Nat)   : KM l yJ17_copyOf_2 cJ17_copyOf_2 4 (some (FieldType.array (FieldType.object "java/lang/Object"))) Γ 1 60 1 0 [.ref (Γ.2.2 0), .int (nI 0), .ref (Γ.2.2 3)] [] [] sz (Qq Γ (fun r_ u_ => ∃ w : Nat, r_ = some w ∧ u_ = [[(w, .inl (Γ.2.1 2, 0, .inr (.inr (.inr (.inr (fun _ => none))))))]])) := by
  refine K_intro (by decide) (Nat.le_of_ble_eq_true rfl) ?_
  intro pr_ ev_ s mi_ below meth cd_ A ls hx hb hr hml hown hts hlocks hname hK hE hRo hP hD hA hS hsz hl
  have hl : lv_has ls 4 [(0, .ref (Γ.2.2 0)), (1, .int (nI 0)), (2, .ref (Γ.2.2 3))] := hl
  have hown : s.vm.findClass RJ17 = some mi_.cls := hown
  refine lv_aload_n hx hb dJ17_copyOf_2_0 rfl (lv_at hl 2 rfl) ?_
  refine va_ldcM hx hb hown (hts _ q534) hE.1.2.1.2.2.1 dJ17_copyOf_2_1 ?_
  refine lv_acmp_ne (rx := (some (Γ.2.2 3))) (ry := (some (Γ.2.2 3))) (tgt := 13) hx hb dJ17_copyOf_2_3 (by decide) (fun c_1 => ?_) (fun c_1 => ?_)
  · -- 3 taken
    exact absurd rfl c_1
  · -- 3 not taken
    refine lv_iload_n hx hb dJ17_copyOf_2_6 rfl (lv_at hl 1 rfl) ?_
    refine b_newq hx hb hts hE hown q535 hK hP hD hS hA 0 rfl (by omega) (Nat.le_of_ble_eq_true rfl) (Nat.le_of_ble_eq_true rfl) dJ17_copyOf_2_7 (fun a_2 H hP hD hS => ?_)
    have hP : WP Γ [[(a_2, .inl (Γ.2.1 2, 0, .inr (.inr (.inr (.inr (fun _ => none))))))]] H := hP
    have hD : WD A [[(a_2, .inl (Γ.2.1 2, 0, .inr (.inr (.inr (.inr (fun _ => none))))))]] := hD
    refine lv_goto (tgt := 24) hx hb dJ17_copyOf_2_10 (by decide) ?_
    refine lv_astore_n (lv' := [(3, .ref a_2), (0, .ref (Γ.2.2 0)), (1, .int (nI 0)), (2, .ref (Γ.2.2 3))]) hx hb dJ17_copyOf_2_24 rfl hl (by decide) rfl (fun ls hl => ?_)
    refine lv_aload_n hx hb dJ17_copyOf_2_25 rfl (lv_at hl 1 rfl) ?_
    refine lv_iconst (v := 0) hx hb dJ17_copyOf_2_26 (by decide) ?_
    refine lv_aload_n hx hb dJ17_copyOf_2_27 rfl (lv_at hl 0 rfl) ?_
    refine lv_iconst (v := 0) hx hb dJ17_copyOf_2_28 (by decide) ?_
    refine lv_aload_n hx hb dJ17_copyOf_2_29 rfl (lv_at hl 1 rfl) ?_
    refine va_tlen hx hb hE.2.1.1.2.1 hS (v := nI 0) rfl dJ17_copyOf_2_30 ?_
    refine lv_iload_n hx hb dJ17_copyOf_2_31 rfl (lv_at hl 2 rfl) ?_
    refine va_mmin hx hb (hml.trans hl.1.symm) hown (hts _ q536) (hts _ q537) (hts _ q83) (hts _ q538) (Nat.le_of_ble_eq_true rfl) (Nat.le_of_ble_eq_true rfl) (Nat.le_of_ble_eq_true rfl) (Nat.le_of_ble_eq_true rfl) dJ17_copyOf_2_32 ?_
    refine b_top (mn_nI (a := 0) (b := 0) (by omega) (by omega)) ?_
    refine b_copyg hx hb hts (hml.trans hl.1.symm) hown q539 q541 q540 q85 hK hE hP hD hS 0 rfl rfl rfl rfl (Nat.le_of_ble_eq_true rfl) (Nat.le_of_ble_eq_true rfl) dJ17_copyOf_2_35 (fun H locs hP hD hS => ?_)
    have hP : WP Γ [[(a_2, .inl (Γ.2.1 2, 0, .inr (.inr (.inr (.inr (fun _ => none))))))]] H := hP
    have hD : WD A [[(a_2, .inl (Γ.2.1 2, 0, .inr (.inr (.inr (.inr (fun _ => none))))))]] := hD
    refine lv_aload_n hx hb dJ17_copyOf_2_38 rfl (lv_at hl 0 rfl) ?_
    exact b_aret hx hb hr (by first | exact Or.inl ⟨_, rfl⟩ | exact Or.inr ⟨_, rfl⟩) hlocks hP hD hS (Nat.le_of_ble_eq_true rfl) (Nat.le_of_ble_eq_true rfl) ⟨a_2, (by first | with_reducible rfl | (simp [c_1]; done) | rfl), (by first | with_reducible rfl | (simp [c_1]; done) | rfl)⟩ dJ17_copyOf_2_39
set_option maxHeartbeats 4000000 in
set_option maxRecDepth 100000 in
theorem mt_copyOfq_e (l : Launch) (Γ : GE) (sz : Nat)   : KM l yJ17_copyOf cJ17_copyOf 2 (some (FieldType.array (FieldType.object "java/lang/Object"))) Γ 2 83 1 0 [.ref (Γ.2.2 0), .int (nI 0)] [] [] sz (Qq Γ (fun r_ u_ => ∃ w : Nat, r_ = some w ∧ u_ = [[(w, .inl (Γ.2.1 2, 0, .inr (.inr (.inr (.inr (fun _ => none))))))]])) := by
  refine K_intro (by decide) (Nat.le_of_ble_eq_true rfl) ?_
  intro pr_ ev_ s mi_ below meth cd_ A ls hx hb hr hml hown hts hlocks hname hK hE hRo hP hD hA hS hsz hl
  have hl : lv_has ls 2 [(0, .ref (Γ.2.2 0)), (1, .int (nI 0))] := hl
  have hown : s.vm.findClass RJ17 = some mi_.cls := hown
  refine lv_aload_n hx hb dJ17_copyOf_0 rfl (lv_at hl 0 rfl) ?_
  refine lv_iload_n hx hb dJ17_copyOf_1 rfl (lv_at hl 1 rfl) ?_
  refine lv_aload_n hx hb dJ17_copyOf_2 rfl (lv_at hl 0 rfl) ?_
  refine va_getC hx hb (hml.trans hl.1.symm) hown (hts _ q502) (va_Nw.use rfl (hE.1.1 _ q2252 rfl)) (hts _ q2251) (hts _ q503) (hts _ q530) hE.1.2.1.2.2.1 (va_Orecv hE.2.1.1.2.2 hS) (Nat.le_of_ble_eq_true rfl) (Nat.le_of_ble_eq_true rfl) dJ17_copyOf_3 ?_
  refine b_callq (br := []) (b_runS ⟨hx, hb, hml, hown, hts⟩ (mt_copyOfq2_e l Γ _ ) (lw_S q531 q532 q84 q533) rfl rfl 3 (by decide +kernel) ⟨(Nat.le_of_ble_eq_true rfl), (Nat.le_of_ble_eq_true rfl)⟩ (c_pre hP hD hS hA hK hE [] rfl rfl ro_nil) rfl hl.1 rfl (Nat.le_of_ble_eq_true rfl) dJ17_copyOf_6 ⟨(Nat.le_of_ble_eq_true rfl), (Nat.le_of_ble_eq_true rfl)⟩) hP hD hS hA [] [] rfl rfl rfl (fun r_1 u_1 H locs hw_1 hP hD hS _ => ?_)
  obtain ⟨w_1, rfl, rfl⟩ := hw_1
  have hP : WP Γ [[(w_1, .inl (Γ.2.1 2, 0, .inr (.inr (.inr (.inr (fun _ => none))))))]] H := hP
  have hD : WD A [[(w_1, .inl (Γ.2.1 2, 0, .inr (.inr (.inr (.inr (fun _ => none))))))]] := hD
  refine W.eq (g2 := F0 mi_ 9 ls ([.ref w_1])) rfl ?_
  exact b_aret hx hb hr (by first | exact Or.inl ⟨_, rfl⟩ | exact Or.inr ⟨_, rfl⟩) hlocks hP hD hS (Nat.le_of_ble_eq_true rfl) (Nat.le_of_ble_eq_true rfl) ⟨w_1, (by first | rfl | (simp; done)), (by first | rfl | (simp; done))⟩ dJ17_copyOf_9
/-- the room behind grow -/
def glN (cap q : Nat) : Nat := cap + mxN (q - cap) (cap / 2)
theorem glN_b {cap q : Nat} (h : cap < q) (h2 : q ≤ 65) : q ≤ glN cap q ∧ glN cap q ≤ 100 ∧ 0 < glN cap q ∧ cap ≤ glN cap q := by
  unfold glN mxN
  split <;> omega
set_option maxHeartbeats 4000000 in
set_option maxRecDepth 100000 in
theorem mt_AL_grow2 (l : Launch) (Γ : GE) (sz : Nat) (a : Nat) (m : Int32) (v : Nat) (n : Nat) (cap : Nat) (f : Nat → Option Nat) (q : Nat) (E : va_W) (hc0 : 0 < cap) (hcq : cap < q) (hq : q ≤ 65) (hel : ∀ k y, f k = some y → inE E y) : KM l yJ2_grow_2 cJ2_grow_2 4 (some (FieldType.array (FieldType.object "java/lang/Object"))) Γ 3 104 1 100 [.ref a, .int (nI q)] [[(a, .inr (11, [.int m, .ref v, .int (nI n)]))], [(v, .inl (Γ.2.1 2, cap, .inr (.inr (.inr (.inr f)))))]] [E] sz (Qq Γ (fun r_ u_ => ∃ w : Nat, r_ = some w ∧ u_ = [[(a, .inr (11, [.int m, .ref w, .int (nI n)]))], [(w, .inl (Γ.2.1 2, (glN cap q), .inr (.inr (.inr (.inr (va_cpy f (fun _ => none) 0 0 cap))))))]])) := by
  refine K_intro (by decide) (Nat.le_of_ble_eq_true rfl) ?_
  intro pr_ ev_ s mi_ below meth cd_ A ls hx hb hr hml hown hts hlocks hname hK hE hRo hP hD hA hS hsz hl
  have hl : lv_has ls 4 [(0, .ref a), (1, .int (nI q))] := hl
  have hown : s.vm.findClass RJ2 = some mi_.cls := hown
  have hgl := glN_b hcq hq
  have hmx : mxN (q - cap) (cap / 2) ≤ 100 ∧ 0 < mxN (q - cap) (cap / 2) := by unfold mxN; split <;> omega
  refine lv_aload_n hx hb dJ2_grow_2_0 rfl (lv_at hl 0 rfl) ?_
  refine b_get (C := RJ2) (T := TJ2) (N := 3) (v := .ref v) hx hb hts in_J2 hown hK (b_at (k := 0) hP rfl) rfl 1 (by decide) q131 (fun _ h9 => h9) rfl dJ2_grow_2_1 ?_
  refine b_alen hx hb hK 2 (b_at (k := 1) hP rfl) rfl dJ2_grow_2_4 ?_
  refine lv_istore_n (lv' := [(2, .int (nI cap)), (0, .ref a), (1, .int (nI q))]) hx hb dJ2_grow_2_5 rfl hl (by decide) rfl (fun ls hl => ?_)
  refine lv_iload_n hx hb dJ2_grow_2_6 rfl (lv_at hl 0 rfl) ?_
  refine lv_if_gt (tgt := 20) hx hb dJ2_grow_2_7 (by decide) (fun c_1 => ?_) (fun c_1 => ?_)
  · -- 7 taken
    have n_1 : 0 < cap := (nI_ltI (by omega) (by omega)).mp (show nI 0 < nI cap from c_1)
    refine lv_iload_n hx hb dJ2_grow_2_20 rfl (lv_at hl 0 rfl) ?_
    refine lv_iload_n hx hb dJ2_grow_2_21 rfl (lv_at hl 2 rfl) ?_
    refine lv_iload_n hx hb dJ2_grow_2_22 rfl (lv_at hl 0 rfl) ?_
    refine lv_isub hx hb dJ2_grow_2_23 ?_
    refine b_top (nI_subE (a := q) (b := cap) (c := (q - cap)) rfl rfl (by first | omega | rfl)) ?_
    refine lv_iload_n hx hb dJ2_grow_2_24 rfl (lv_at hl 0 rfl) ?_
    refine lv_iconst (v := 1) hx hb dJ2_grow_2_25 (by decide) ?_
    refine lv_ishr hx hb dJ2_grow_2_26 ?_
    refine b_top (nI_shrE (a := cap) (k := 1) (c := (cap / 2)) rfl rfl (by decide) (by omega) (by omega)) ?_
    refine b_calli (br := [[(a, .inr (11, [.int m, .ref v, .int (nI n)]))], [(v, .inl (Γ.2.1 2, cap, .inr (.inr (.inr (.inr f)))))]]) (b_runS ⟨hx, hb, hml, hown, hts⟩ (mt_newLength l Γ _ cap (q - cap) (cap / 2) (by omega) (by omega) (by omega) (by omega)) (lw_S q489 q490 q82 q491) rfl rfl 3 (by decide +kernel) ⟨(Nat.le_of_ble_eq_true rfl), (Nat.le_of_ble_eq_true rfl)⟩ (c_pre hP hD hS hA hK hE [] rfl rfl ro_nil) rfl hl.1 rfl (Nat.le_of_ble_eq_true rfl) dJ2_grow_2_27 ⟨(Nat.le_of_ble_eq_true rfl), (Nat.le_of_ble_eq_true rfl)⟩) hP hD hS hA [] [0, 1] rfl rfl rfl (fun r_2 u_2 H locs hw_2 hP hD hS _ => ?_)
    obtain ⟨rfl, rfl⟩ := hw_2
    have hP : WP Γ [[(a, .inr (11, [.int m, .ref v, .int (nI n)]))], [(v, .inl (Γ.2.1 2, cap, .inr (.inr (.inr (.inr f)))))]] H := hP
    have hD : WD A [[(a, .inr (11, [.int m, .ref v, .int (nI n)]))], [(v, .inl (Γ.2.1 2, cap, .inr (.inr (.inr (.inr f)))))]] := hD
    refine b_top (show (nI (cap + (mxN (q - cap) (cap / 2)))) = nI (glN cap q) from rfl) ?_
    refine lv_istore_n (lv' := [(3, .int (nI (glN cap q))), (2, .int (nI cap)), (0, .ref a), (1, .int (nI q))]) hx hb dJ2_grow_2_30 rfl hl (by decide) rfl (fun ls hl => ?_)
    refine lv_aload_n hx hb dJ2_grow_2_31 rfl (lv_at hl 2 rfl) ?_
    refine lv_aload_n hx hb dJ2_grow_2_32 rfl (lv_at hl 2 rfl) ?_
    refine b_get (C := RJ2) (T := TJ2) (N := 3) (v := .ref v) hx hb hts in_J2 hown hK (b_at (k := 0) hP rfl) rfl 1 (by decide) q131 (fun _ h9 => h9) rfl dJ2_grow_2_33 ?_
    refine lv_iload_n hx hb dJ2_grow_2_36 rfl (lv_at hl 0 rfl) ?_
    refine b_callq (br := [[(a, .inr (11, [.int m, .ref v, .int (nI n)]))]]) (b_runS ⟨hx, hb, hml, hown, hts⟩ (mt_copyOfq l Γ _ v cap f (glN cap q) E (by omega) (by first | exact hq | omega) (by first | exact hel | omega)) (lw_S q499 q500 q84 q501) rfl rfl 2 (by decide +kernel) ⟨(Nat.le_of_ble_eq_true rfl), (Nat.le_of_ble_eq_true rfl)⟩ (c_pre hP hD hS hA hK hE [1] rfl rfl (ro_pass (ro_sel (ro2 := [E]) hRo [0] rfl) hD hS hA [1] rfl)) rfl hl.1 rfl (Nat.le_of_ble_eq_true rfl) dJ2_grow_2_37 ⟨(by first | omega | (dsimp only; omega)), (by first | omega | (dsimp only; omega))⟩) hP hD hS hA [1] [0] rfl rfl rfl (fun r_3 u_3 H locs hw_3 hP hD hS _ => ?_)
    obtain ⟨w_3, rfl, rfl⟩ := hw_3
    have hP : WP Γ [[(v, .inl (Γ.2.1 2, cap, .inr (.inr (.inr (.inr f)))))], [(w_3, .inl (Γ.2.1 2, (glN cap q), .inr (.inr (.inr (.inr (va_cpy f (fun _ => none) 0 0 (mnN cap (glN cap q))))))))], [(a, .inr (11, [.int m, .ref v, .int (nI n)]))]] H := hP
    have hD : WD A [[(v, .inl (Γ.2.1 2, cap, .inr (.inr (.inr (.inr f)))))], [(w_3, .inl (Γ.2.1 2, (glN cap q), .inr (.inr (.inr (.inr (va_cpy f (fun _ => none) 0 0 (mnN cap (glN cap q))))))))], [(a, .inr (11, [.int m, .ref v, .int (nI n)]))]] := hD
    refine W.eq (g2 := F0 mi_ 40 ls ([.ref w_3, .ref a])) rfl ?_
    rw [show (va_cpy f (fun _ => none) 0 0 (mnN cap (glN cap q))) = (va_cpy f (fun _ => none) 0 0 cap) from by rw [show mnN cap (glN cap q) = cap from by unfold mnN; rw [if_neg (by omega)]]] at hP hD
    refine lv_dup_x1 hx hb dJ2_grow_2_40 rfl rfl ?_
    refine b_put (C := RJ2) (T := TJ2) (N := 3) (ty := (tyJ2 1)) (v := .ref w_3) hx hb hts in_J2 tyJ2_ok nmJ2 hown hK hP hD hS 2 rfl rfl 1 (by decide) q131 (fun _ h9 => h9) rfl (by decide +kernel) rfl rfl (Nat.le_of_ble_eq_true rfl) dJ2_grow_2_41 (fun H locs hP hD hS => ?_)
    have hP : WP Γ [[(v, .inl (Γ.2.1 2, cap, .inr (.inr (.inr (.inr f)))))], [(w_3, .inl (Γ.2.1 2, (glN cap q), .inr (.inr (.inr (.inr (va_cpy f (fun _ => none) 0 0 cap))))))], [(a, .inr (11, [.int m, .ref w_3, .int (nI n)]))]] H := hP
    have hD : WD A [[(v, .inl (Γ.2.1 2, cap, .inr (.inr (.inr (.inr f)))))], [(w_3, .inl (Γ.2.1 2, (glN cap q), .inr (.inr (.inr (.inr (va_cpy f (fun _ => none) 0 0 cap))))))], [(a, .inr (11, [.int m, .ref w_3, .int (nI n)]))]] := hD
    have hP : WP Γ [[(a, .inr (11, [.int m, .ref w_3, .int (nI n)]))], [(w_3, .inl (Γ.2.1 2, (glN cap q), .inr (.inr (.inr (.inr (va_cpy f (fun _ => none) 0 0 cap))))))]] H := bP_sel hP [2, 1] rfl
    have hD : WD A [[(a, .inr (11, [.int m, .ref w_3, .int (nI n)]))], [(w_3, .inl (Γ.2.1 2, (glN cap q), .inr (.inr (.inr (.inr (va_cpy f (fun _ => none) 0 0 cap))))))]] := bD_sel hD [2, 1] rfl rfl
    exact b_aret hx hb hr (by first | exact Or.inl ⟨_, rfl⟩ | exact Or.inr ⟨_, rfl⟩) hlocks hP hD hS (by first | omega | (dsimp only; omega)) (by first | omega | (dsimp only; omega)) ⟨w_3, (by first | with_reducible rfl | (simp [n_1, c_1]; done) | rfl), (by first | with_reducible rfl | (simp [n_1, c_1]; done) | rfl)⟩ dJ2_grow_2_44
  · -- 7 not taken
    have n_1 : ¬ (0 < cap) := fun h => c_1 ((nI_ltI (a := 0) (b := cap) (by omega) (by omega)).mpr h)
    exfalso; omega
set_option maxHeartbeats 4000000 in
set_option maxRecDepth 100000 in
theorem mt_AL_grow2_e (l : Launch) (Γ : GE) (sz : Nat) (a : Nat) (m : Int32) (n : Nat) (q : Nat) (hq : q ≤ 65) : KM l yJ2_grow_2 cJ2_grow_2 4 (some (FieldType.array (FieldType.object "java/lang/Object"))) Γ 1 31 1 100 [.ref a, .int (nI q)] [[(a, .inr (11, [.int m, .ref (Γ.2.2 0), .int (nI n)]))]] [] sz (Qq Γ (fun r_ u_ => ∃ w : Nat, r_ = some w ∧ u_ = [[(a, .inr (11, [.int m, .ref w, .int (nI n)]))], [(w, .inl (Γ.2.1 2, (mxN 10 q), .inr (.inr (.inr (.inr (fun _ => none))))))]])) := by
  refine K_intro (by decide) (Nat.le_of_ble_eq_true rfl) ?_
  intro pr_ ev_ s mi_ below meth cd_ A ls hx hb hr hml hown hts hlocks hname hK hE hRo hP hD hA hS hsz hl
  have hl : lv_has ls 4 [(0, .ref a), (1, .int (nI q))] := hl
  have hown : s.vm.findClass RJ2 = some mi_.cls := hown
  have hmx : mxN 10 q ≤ 100 ∧ 10 ≤ mxN 10 q ∧ q ≤ mxN 10 q := by unfold mxN; split <;> omega
  refine lv_aload_n hx hb dJ2_grow_2_0 rfl (lv_at hl 0 rfl) ?_
  refine b_get (C := RJ2) (T := TJ2) (N := 3) (v := .ref (Γ.2.2 0)) hx hb hts in_J2 hown hK (b_at (k := 0) hP rfl) rfl 1 (by decide) q131 (fun _ h9 => h9) rfl dJ2_grow_2_1 ?_
  refine va_tlen hx hb hE.2.1.1.2.1 hS (v := nI 0) rfl dJ2_grow_2_4 ?_
  refine lv_istore_n (lv' := [(2, .int (nI 0)), (0, .ref a), (1, .int (nI q))]) hx hb dJ2_grow_2_5 rfl hl (by decide) rfl (fun ls hl => ?_)
  refine lv_iload_n hx hb dJ2_grow_2_6 rfl (lv_at hl 0 rfl) ?_
  refine lv_if_gt (tgt := 20) hx hb dJ2_grow_2_7 (by decide) (fun c_1 => ?_) (fun c_1 => ?_)
  · -- 7 taken
    have n_1 : 0 < 0 := (nI_ltI (by omega) (by omega)).mp (show nI 0 < nI 0 from c_1)
    exact absurd n_1 (by omega)
  · -- 7 not taken
    have n_1 : ¬ (0 < 0) := fun h => c_1 ((nI_ltI (a := 0) (b := 0) (by omega) (by omega)).mpr h)
    refine lv_aload_n hx hb dJ2_grow_2_10 rfl (lv_at hl 1 rfl) ?_
    refine b_get (C := RJ2) (T := TJ2) (N := 3) (v := .ref (Γ.2.2 0)) hx hb hts in_J2 hown hK (b_at (k := 0) hP rfl) rfl 1 (by decide) q131 (fun _ h9 => h9) rfl dJ2_grow_2_11 ?_
    refine va_gets (C := "java/util/ArrayList") (n := "DEFAULTCAPACITY_EMPTY_ELEMENTDATA") (d := "[Ljava/lang/Object;") hx hb hE.deft hS hown (hts _ q129) (fun _ h9 => h9) dJ2_grow_2_14 ?_
    refine lv_acmp_eq (rx := (some (Γ.2.2 0))) (ry := (some (Γ.2.2 0))) (tgt := 45) hx hb dJ2_grow_2_17 (by decide) (fun c_2 => ?_) (fun c_2 => ?_)
    · -- 17 taken
      refine lv_aload_n hx hb dJ2_grow_2_45 rfl (lv_at hl 1 rfl) ?_
      refine lv_bipush (v := 10) hx hb dJ2_grow_2_46 (by decide) ?_
      refine lv_iload_n hx hb dJ2_grow_2_48 rfl (lv_at hl 2 rfl) ?_
      refine va_mmax hx hb (hml.trans hl.1.symm) hown (hts _ q542) (hts _ q493) (hts _ q83) (hts _ q494) (Nat.le_of_ble_eq_true rfl) (Nat.le_of_ble_eq_true rfl) (Nat.le_of_ble_eq_true rfl) (Nat.le_of_ble_eq_true rfl) dJ2_grow_2_49 ?_
      refine b_top (mx_nI (a := 10) (b := q) (by omega) (by omega)) ?_
      refine b_newq hx hb hts hE hown q543 hK hP hD hS hA (mxN 10 q) rfl (by omega) (Nat.le_of_ble_eq_true rfl) (by first | omega | (dsimp only; omega)) dJ2_grow_2_52 (fun a_3 H hP hD hS => ?_)
      have hP : WP Γ [[(a, .inr (11, [.int m, .ref (Γ.2.2 0), .int (nI n)]))], [(a_3, .inl (Γ.2.1 2, (mxN 10 q), .inr (.inr (.inr (.inr (fun _ => none))))))]] H := hP
      have hD : WD A [[(a, .inr (11, [.int m, .ref (Γ.2.2 0), .int (nI n)]))], [(a_3, .inl (Γ.2.1 2, (mxN 10 q), .inr (.inr (.inr (.inr (fun _ => none))))))]] := hD
      refine lv_dup_x1 hx hb dJ2_grow_2_55 rfl rfl ?_
      refine b_put (C := RJ2) (T := TJ2) (N := 3) (ty := (tyJ2 1)) (v := .ref a_3) hx hb hts in_J2 tyJ2_ok nmJ2 hown hK hP hD hS 0 rfl rfl 1 (by decide) q131 (fun _ h9 => h9) rfl (by decide +kernel) rfl rfl (Nat.le_of_ble_eq_true rfl) dJ2_grow_2_56 (fun H locs hP hD hS => ?_)
      have hP : WP Γ [[(a, .inr (11, [.int m, .ref a_3, .int (nI n)]))], [(a_3, .inl (Γ.2.1 2, (mxN 10 q), .inr (.inr (.inr (.inr (fun _ => none))))))]] H := hP
      have hD : WD A [[(a, .inr (11, [.int m, .ref a_3, .int (nI n)]))], [(a_3, .inl (Γ.2.1 2, (mxN 10 q), .inr (.inr (.inr (.inr (fun _ => none))))))]] := hD
      exact b_aret hx hb hr (by first | exact Or.inl ⟨_, rfl⟩ | exact Or.inr ⟨_, rfl⟩) hlocks hP hD hS (by first | omega | (dsimp only; omega)) (by first | omega | (dsimp only; omega)) ⟨a_3, (by first | with_reducible rfl | (simp [n_1, c_2]; done) | rfl), (by first | with_reducible rfl | (simp [n_1, c_2]; done) | rfl)⟩ dJ2_grow_2_59
    · -- 17 not taken
      exact absurd rfl c_2
set_option maxHeartbeats 4000000 in
set_option maxRecDepth 100000 in
theorem mt_AL_grow (l : Launch) (Γ : GE) (sz : Nat) (a : Nat) (m : Int32) (v : Nat) (n : Nat) (cap : Nat) (f : Nat → Option Nat) (E : va_W) (hc0 : 0 < cap) (hcq : cap ≤ n) (hq : n + 1 ≤ 65) (hel : ∀ k y, f k = some y → inE E y) : KM l yJ2_grow cJ2_grow 1 (some (FieldType.array (FieldType.object "java/lang/Object"))) Γ 4 127 1 100 [.ref a] [[(a, .inr (11, [.int m, .ref v, .int (nI n)]))], [(v, .inl (Γ.2.1 2, cap, .inr (.inr (.inr (.inr f)))))]] [E] sz (Qq Γ (fun r_ u_ => ∃ w : Nat, r_ = some w ∧ u_ = [[(a, .inr (11, [.int m, .ref w, .int (nI n)]))], [(w, .inl (Γ.2.1 2, (glN cap (n + 1)), .inr (.inr (.inr (.inr (va_cpy f (fun _ => none) 0 0 cap))))))]])) := by
  refine K_intro (by decide) (Nat.le_of_ble_eq_true rfl) ?_
  intro pr_ ev_ s mi_ below meth cd_ A ls hx hb hr hml hown hts hlocks hname hK hE hRo hP hD hA hS hsz hl
  have hl : lv_has ls 1 [(0, .ref a)] := hl
  have hown : s.vm.findClass RJ2 = some mi_.cls := hown
  refine lv_aload_n hx hb dJ2_grow_0 rfl (lv_at hl 0 rfl) ?_
  refine lv_aload_n hx hb dJ2_grow_1 rfl (lv_at hl 0 rfl) ?_
  refine b_get (C := RJ2) (T := TJ2) (N := 3) (v := .int (nI n)) hx hb hts in_J2 hown hK (b_at (k := 0) hP rfl) rfl 2 (by decide) q134 (fun _ h9 => h9) rfl dJ2_grow_2 ?_
  refine lv_iconst (v := 1) hx hb dJ2_grow_5 (by decide) ?_
  refine lv_iadd hx hb dJ2_grow_6 ?_
  refine b_top (nI_addE (a := n) (b := 1) (c := n + 1) rfl rfl (by first | omega | rfl)) ?_
  refine b_callq (br := []) (b_runV ⟨hx, hb, hml, hown, hts⟩ (mt_AL_grow2 l Γ _ a m v n cap f (n + 1) E (by first | exact hc0 | omega) (by omega) (by first | exact hq | omega) (by first | exact hel | omega)) (lw_V q485 q487 qs3 q66 q488) rfl rfl 1 (by decide +kernel) ⟨(Nat.le_of_ble_eq_true rfl), (Nat.le_of_ble_eq_true rfl)⟩ (c_pre hP hD hS hA hK hE [0, 1] rfl rfl (ro_pass (ro_sel (ro2 := [E]) hRo [0] rfl) hD hS hA [0, 1] rfl)) (recv_at (q := (RJ2, TJ2, 3)) hK (b_at (k := 0) hP rfl) rfl) rfl hl.1 rfl (Nat.le_of_ble_eq_true rfl) dJ2_grow_7 ⟨(Nat.le_of_ble_eq_true rfl), (Nat.le_of_ble_eq_true rfl)⟩) hP hD hS hA [0, 1] [] rfl rfl rfl (fun r_1 u_1 H locs hw_1 hP hD hS _ => ?_)
  obtain ⟨w_1, rfl, rfl⟩ := hw_1
  have hP : WP Γ [[(a, .inr (11, [.int m, .ref w_1, .int (nI n)]))], [(w_1, .inl (Γ.2.1 2, (glN cap (n + 1)), .inr (.inr (.inr (.inr (va_cpy f (fun _ => none) 0 0 cap))))))]] H := hP
  have hD : WD A [[(a, .inr (11, [.int m, .ref w_1, .int (nI n)]))], [(w_1, .inl (Γ.2.1 2, (glN cap (n + 1)), .inr (.inr (.inr (.inr (va_cpy f (fun _ => none) 0 0 cap))))))]] := hD
  refine W.eq (g2 := F0 mi_ 10 ls ([.ref w_1])) rfl ?_
  exact b_aret hx hb hr (by first | exact Or.inl ⟨_, rfl⟩ | exact Or.inr ⟨_, rfl⟩) hlocks hP hD hS (Nat.le_of_ble_eq_true rfl) (Nat.le_of_ble_eq_true rfl) ⟨w_1, (by first | rfl | (simp; done)), (by first | rfl | (simp; done))⟩ dJ2_grow_10
set_option maxHeartbeats 4000000 in
set_option maxRecDepth 100000 in
theorem mt_AL_grow_e (l : Launch) (Γ : GE) (sz : Nat) (a : Nat) (m : Int32) (n : Nat) (hq : n + 1 ≤ 65) : KM l yJ2_grow cJ2_grow 1 (some (FieldType.array (FieldType.object "java/lang/Object"))) Γ 2 54 1 100 [.ref a] [[(a, .inr (11, [.int m, .ref (Γ.2.2 0), .int (nI n)]))]] [] sz (Qq Γ (fun r_ u_ => ∃ w : Nat, r_ = some w ∧ u_ = [[(a, .inr (11, [.int m, .ref w, .int (nI n)]))], [(w, .inl (Γ.2.1 2, (mxN 10 (n + 1)), .inr (.inr (.inr (.inr (fun _ => none))))))]])) := by
  refine K_intro (by decide) (Nat.le_of_ble_eq_true rfl) ?_
  intro pr_ ev_ s mi_ below meth cd_ A ls hx hb hr hml hown hts hlocks hname hK hE hRo hP hD hA hS hsz hl
  have hl : lv_has ls 1 [(0, .ref a)] := hl
  have hown : s.vm.findClass RJ2 = some mi_.cls := hown
  refine lv_aload_n hx hb dJ2_grow_0 rfl (lv_at hl 0 rfl) ?_
  refine lv_aload_n hx hb dJ2_grow_1 rfl (lv_at hl 0 rfl) ?_
  refine b_get (C := RJ2) (T := TJ2) (N := 3) (v := .int (nI n)) hx hb hts in_J2 hown hK (b_at (k := 0) hP rfl) rfl 2 (by decide) q134 (fun _ h9 => h9) rfl dJ2_grow_2 ?_
  refine lv_iconst (v := 1) hx hb dJ2_grow_5 (by decide) ?_
  refine lv_iadd hx hb dJ2_grow_6 ?_
  refine b_top (nI_addE (a := n) (b := 1) (c := n + 1) rfl rfl (by first | omega | rfl)) ?_
  refine b_callq (br := []) (b_runV ⟨hx, hb, hml, hown, hts⟩ (mt_AL_grow2_e l Γ _ a m n (n + 1) (by first | exact hq | omega)) (lw_V q485 q487 qs3 q66 q488) rfl rfl 1 (by decide +kernel) ⟨(Nat.le_of_ble_eq_true rfl), (Nat.le_of_ble_eq_true rfl)⟩ (c_pre hP hD hS hA hK hE [0] rfl rfl ro_nil) (recv_at (q := (RJ2, TJ2, 3)) hK (b_at (k := 0) hP rfl) rfl) rfl hl.1 rfl (Nat.le_of_ble_eq_true rfl) dJ2_grow_7 ⟨(Nat.le_of_ble_eq_true rfl), (Nat.le_of_ble_eq_true rfl)⟩) hP hD hS hA [0] [] rfl rfl rfl (fun r_1 u_1 H locs hw_1 hP hD hS _ => ?_)
  obtain ⟨w_1, rfl, rfl⟩ := hw_1
  have hP : WP Γ [[(a, .inr (11, [.int m, .ref w_1, .int (nI n)]))], [(w_1, .inl (Γ.2.1 2, (mxN 10 (n + 1)), .inr (.inr (.inr (.inr (fun _ => none))))))]] H := hP
  have hD : WD A [[(a, .inr (11, [.int m, .ref w_1, .int (nI n)]))], [(w_1, .inl (Γ.2.1 2, (mxN 10 (n + 1)), .inr (.inr (.inr (.inr (fun _ => none))))))]] := hD
  refine W.eq (g2 := F0 mi_ 10 ls ([.ref w_1])) rfl ?_
  exact b_aret hx hb hr (by first | exact Or.inl ⟨_, rfl⟩ | exact Or.inr ⟨_, rfl⟩) hlocks hP hD hS (Nat.le_of_ble_eq_true rfl) (Nat.le_of_ble_eq_true rfl) ⟨w_1, (by first | rfl | (simp; done)), (by first | rfl | (simp; done))⟩ dJ2_grow_10
set_option maxHeartbeats 4000000 in
set_option maxRecDepth 100000 in
theorem mt_AC_init (l : Launch) (Γ : GE) (sz : Nat) (a : Nat) (m : Int32) (n : Int32)  : KM l yJ0_init cJ0_init 1 none Γ 1 30 0 0 [.ref a] [[(a, .inr (11, [.int m, .null, .int n]))]] [] sz (Qv Γ (fun u_ => u_ = [[(a, .inr (11, [.int m, .null, .int n]))]])) := by
  refine K_intro (by decide) (Nat.le_of_ble_eq_true rfl) ?_
  intro pr_ ev_ s mi_ below meth cd_ A ls hx hb hr hml hown hts hlocks hname hK hE hRo hP hD hA hS hsz hl
  have hl : lv_has ls 1 [(0, .ref a)] := hl
  have hown : s.vm.findClass RJ0 = some mi_.cls := hown
  refine lv_aload_n hx hb dJ0_init_0 rfl (lv_at hl 0 rfl) ?_
  refine W.objInit hx hb hown (hts _ q128) (hts _ q109) (hts _ q110) rfl (by rw [hml]; exact hl.1) rfl dJ0_init_1 (Nat.le_of_ble_eq_true rfl) (Nat.le_of_ble_eq_true rfl) ?_
  refine W.eq (g2 := F0 mi_ 4 ls ([])) rfl ?_
  exact b_vret hx hb hr hlocks hP hD hS (Nat.le_of_ble_eq_true rfl) (Nat.le_of_ble_eq_true rfl) (by first | rfl | (simp; done)) dJ0_init_4
set_option maxHeartbeats 4000000 in
set_option maxRecDepth 100000 in
theorem mt_AC_initD (l : Launch) (Γ : GE) (sz : Nat) (a : Nat) (m : Int32) (n : Int32)  : KM l yJ0_init cJ0_init 1 none Γ 1 30 0 0 [.ref a] [[(a, .inr (12, [.null, .int m, .int n]))]] [] sz (Qv Γ (fun u_ => u_ = [[(a, .inr (12, [.null, .int m, .int n]))]])) := by
  refine K_intro (by decide) (Nat.le_of_ble_eq_true rfl) ?_
  intro pr_ ev_ s mi_ below meth cd_ A ls hx hb hr hml hown hts hlocks hname hK hE hRo hP hD hA hS hsz hl
  have hl : lv_has ls 1 [(0, .ref a)] := hl
  have hown : s.vm.findClass RJ0 = some mi_.cls := hown
  refine lv_aload_n hx hb dJ0_init_0 rfl (lv_at hl 0 rfl) ?_
  refine W.objInit hx hb hown (hts _ q128) (hts _ q109) (hts _ q110) rfl (by rw [hml]; exact hl.1) rfl dJ0_init_1 (Nat.le_of_ble_eq_true rfl) (Nat.le_of_ble_eq_true rfl) ?_
  refine W.eq (g2 := F0 mi_ 4 ls ([])) rfl ?_
  exact b_vret hx hb hr hlocks hP hD hS (Nat.le_of_ble_eq_true rfl) (Nat.le_of_ble_eq_true rfl) (by first | rfl | (simp; done)) dJ0_init_4
set_option maxHeartbeats 4000000 in
set_option maxRecDepth 100000 in
theorem mt_ALs_init (l : Launch) (Γ : GE) (sz : Nat) (a : Nat) (m : Int32) (n : Int32)  : KM l yJ1_init cJ1_init 1 none Γ 2 50 0 0 [.ref a] [[(a, .inr (11, [.int m, .null, .int n]))]] [] sz (Qv Γ (fun u_ => u_ = [[(a, .inr (11, [.int 0, .null, .int n]))]])) := by
  refine K_intro (by decide) (Nat.le_of_ble_eq_true rfl) ?_
  intro pr_ ev_ s mi_ below meth cd_ A ls hx hb hr hml hown hts hlocks hname hK hE hRo hP hD hA hS hsz hl
  have hl : lv_has ls 1 [(0, .ref a)] := hl
  have hown : s.vm.findClass RJ1 = some mi_.cls := hown
  refine lv_aload_n hx hb dJ1_init_0 rfl (lv_at hl 0 rfl) ?_
  refine b_callv (br := []) (b_runI ⟨hx, hb, hml, hown, hts⟩ (mt_AC_init l Γ _ a m n) (lw_meth q127) q64 q125 q126 rfl rfl rfl 0 (by decide +kernel) ⟨(Nat.le_of_ble_eq_true rfl), (Nat.le_of_ble_eq_true rfl)⟩ (c_pre hP hD hS hA hK hE [0] rfl rfl ro_nil) rfl hl.1 rfl (Nat.le_of_ble_eq_true rfl) dJ1_init_1 ⟨(Nat.le_of_ble_eq_true rfl), (Nat.le_of_ble_eq_true rfl)⟩) hP hD hS hA [0] [] rfl rfl rfl (fun u_1 H locs hw_1 hP hD hS _ => ?_)
  obtain rfl := hw_1
  have hP : WP Γ [[(a, .inr (11, [.int m, .null, .int n]))]] H := hP
  have hD : WD A [[(a, .inr (11, [.int m, .null, .int n]))]] := hD
  refine lv_aload_n hx hb dJ1_init_4 rfl (lv_at hl 0 rfl) ?_
  refine lv_iconst (v := 0) hx hb dJ1_init_5 (by decide) ?_
  refine b_put (C := RJ2) (T := TJ2) (N := 3) (ty := .int) (v := .int 0) hx hb hts in_J2 tyJ2_ok nmJ2 hown hK hP hD hS 0 rfl rfl 0 (by decide) q135 (fun _ h9 => h9) rfl (by decide +kernel) rfl rfl (Nat.le_of_ble_eq_true rfl) dJ1_init_6 (fun H locs hP hD hS => ?_)
  have hP : WP Γ [[(a, .inr (11, [.int 0, .null, .int n]))]] H := hP
  have hD : WD A [[(a, .inr (11, [.int 0, .null, .int n]))]] := hD
  exact b_vret hx hb hr hlocks hP hD hS (Nat.le_of_ble_eq_true rfl) (Nat.le_of_ble_eq_true rfl) (by first | rfl | (simp; done)) dJ1_init_9
set_option maxHeartbeats 4000000 in
set_option maxRecDepth 100000 in
theorem mt_AL_init (l : Launch) (Γ : GE) (sz : Nat) (a : Nat)  : KM l yJ2_init cJ2_init 1 none Γ 3 70 0 0 [.ref a] [[(a, .inr (11, [.int 0, .null, .int 0]))]] [] sz (Qv Γ (fun u_ => ∃ y : LST, (∀ c, alI Γ y 0 c) ∧ y.2.1 = 0 ∧ u_ = [[(a, .inr (11, [.int 0, .ref y.1, .int (nI 0)]))], (alA Γ y)])) := by
  refine K_intro (by decide) (Nat.le_of_ble_eq_true rfl) ?_
  intro pr_ ev_ s mi_ below meth cd_ A ls hx hb hr hml hown hts hlocks hname hK hE hRo hP hD hA hS hsz hl
  have hl : lv_has ls 1 [(0, .ref a)] := hl
  have hown : s.vm.findClass RJ2 = some mi_.cls := hown
  refine lv_aload_n hx hb dJ2_init_0 rfl (lv_at hl 0 rfl) ?_
  refine b_callv (br := []) (b_runI ⟨hx, hb, hml, hown, hts⟩ (mt_ALs_init l Γ _ a 0 0) (lw_meth q124) q65 q122 q123 rfl rfl rfl 0 (by decide +kernel) ⟨(Nat.le_of_ble_eq_true rfl), (Nat.le_of_ble_eq_true rfl)⟩ (c_pre hP hD hS hA hK hE [0] rfl rfl ro_nil) rfl hl.1 rfl (Nat.le_of_ble_eq_true rfl) dJ2_init_1 ⟨(Nat.le_of_ble_eq_true rfl), (Nat.le_of_ble_eq_true rfl)⟩) hP hD hS hA [0] [] rfl rfl rfl (fun u_1 H locs hw_1 hP hD hS _ => ?_)
  obtain rfl := hw_1
  have hP : WP Γ [[(a, .inr (11, [.int 0, .null, .int 0]))]] H := hP
  have hD : WD A [[(a, .inr (11, [.int 0, .null, .int 0]))]] := hD
  refine lv_aload_n hx hb dJ2_init_4 rfl (lv_at hl 0 rfl) ?_
  refine va_gets (C := "java/util/ArrayList") (n := "DEFAULTCAPACITY_EMPTY_ELEMENTDATA") (d := "[Ljava/lang/Object;") hx hb hE.deft hS hown (hts _ q129) (fun _ h9 => h9) dJ2_init_5 ?_
  refine b_put (C := RJ2) (T := TJ2) (N := 3) (ty := (tyJ2 1)) (v := .ref (Γ.2.2 0)) hx hb hts in_J2 tyJ2_ok nmJ2 hown hK hP hD hS 0 rfl rfl 1 (by decide) q131 (fun _ h9 => h9) rfl (by decide +kernel) rfl rfl (Nat.le_of_ble_eq_true rfl) dJ2_init_8 (fun H locs hP hD hS => ?_)
  have hP : WP Γ [[(a, .inr (11, [.int 0, .ref (Γ.2.2 0), .int 0]))]] H := hP
  have hD : WD A [[(a, .inr (11, [.int 0, .ref (Γ.2.2 0), .int 0]))]] := hD
  have hP : WP Γ [[(a, .inr (11, [.int 0, .ref (Γ.2.2 0), .int 0]))], []] H := hP
  have hD : WD A [[(a, .inr (11, [.int 0, .ref (Γ.2.2 0), .int 0]))], []] := hD
  have hP : WP Γ [[(a, .inr (11, [.int 0, .ref (Γ.2.2 0), .int 0]))], (alA Γ (Γ.2.2 0, 0, fun _ => none))] H := by rw [alA_0 rfl]; exact hP
  have hD : WD A [[(a, .inr (11, [.int 0, .ref (Γ.2.2 0), .int 0]))], (alA Γ (Γ.2.2 0, 0, fun _ => none))] := by rw [alA_0 rfl]; exact hD
  exact b_vret hx hb hr hlocks hP hD hS (Nat.le_of_ble_eq_true rfl) (Nat.le_of_ble_eq_true rfl) ⟨(Γ.2.2 0, 0, fun _ => none), fun c => alI_nil, rfl, rfl⟩ dJ2_init_11
set_option maxHeartbeats 4000000 in
set_option maxRecDepth 100000 in
theorem mt_AL_size (l : Launch) (Γ : GE) (sz : Nat) (a : Nat) (m : Int32) (v : Nat) (n : Nat)  : KM l yJ2_size cJ2_size 1 (some FieldType.int) Γ 0 0 0 0 [.ref a] [[(a, .inr (11, [.int m, .ref v, .int (nI n)]))]] [] sz (Qi Γ (fun r_ u_ => r_ = (nI n) ∧ u_ = [[(a, .inr (11, [.int m, .ref v, .int (nI n)]))]])) := by
  refine K_intro (by decide) (Nat.le_of_ble_eq_true rfl) ?_
  intro pr_ ev_ s mi_ below meth cd_ A ls hx hb hr hml hown hts hlocks hname hK hE hRo hP hD hA hS hsz hl
  have hl : lv_has ls 1 [(0, .ref a)] := hl
  have hown : s.vm.findClass RJ2 = some mi_.cls := hown
  refine lv_aload_n hx hb dJ2_size_0 rfl (lv_at hl 0 rfl) ?_
  refine b_get (C := RJ2) (T := TJ2) (N := 3) (v := .int (nI n)) hx hb hts in_J2 hown hK (b_at (k := 0) hP rfl) rfl 2 (by decide) q134 (fun _ h9 => h9) rfl dJ2_size_1 ?_
  exact b_iret hx hb hr hlocks hP hD hS (Nat.le_of_ble_eq_true rfl) (Nat.le_of_ble_eq_true rfl) ⟨(by first | rfl | (simp; done)), (by first | rfl | (simp; done))⟩ dJ2_size_4
set_option maxHeartbeats 4000000 in
set_option maxRecDepth 100000 in
theorem mt_AL_isEmpty (l : Launch) (Γ : GE) (sz : Nat) (a : Nat) (m : Int32) (v : Nat) (n : Nat) (hn : n ≤ 100) : KM l yJ2_isEmpty cJ2_isEmpty 1 (some FieldType.boolean) Γ 0 0 0 0 [.ref a] [[(a, .inr (11, [.int m, .ref v, .int (nI n)]))]] [] sz (Qi Γ (fun r_ u_ => r_ = (if n = 0 then 1 else 0) ∧ u_ = [[(a, .inr (11, [.int m, .ref v, .int (nI n)]))]])) := by
  refine K_intro (by decide) (Nat.le_of_ble_eq_true rfl) ?_
  intro pr_ ev_ s mi_ below meth cd_ A ls hx hb hr hml hown hts hlocks hname hK hE hRo hP hD hA hS hsz hl
  have hl : lv_has ls 1 [(0, .ref a)] := hl
  have hown : s.vm.findClass RJ2 = some mi_.cls := hown
  refine lv_aload_n hx hb dJ2_isEmpty_0 rfl (lv_at hl 0 rfl) ?_
  refine b_get (C := RJ2) (T := TJ2) (N := 3) (v := .int (nI n)) hx hb hts in_J2 hown hK (b_at (k := 0) hP rfl) rfl 2 (by decide) q134 (fun _ h9 => h9) rfl dJ2_isEmpty_1 ?_
  refine lv_if_ne (tgt := 11) hx hb dJ2_isEmpty_4 (by decide) (fun c_1 => ?_) (fun c_1 => ?_)
  · -- 4 taken
    have n_1 : ¬ (n = 0) := fun h => c_1 ((nI_eq (a := n) (b := 0) (by omega) (by omega)).mpr h)
    refine lv_iconst (v := 0) hx hb dJ2_isEmpty_11 (by decide) ?_
    exact b_zret hx hb hr hlocks hP hD hS (Nat.le_of_ble_eq_true rfl) (Nat.le_of_ble_eq_true rfl) rfl ⟨(by first | with_reducible rfl | (simp [n_1]; done) | rfl), (by first | with_reducible rfl | (simp [n_1]; done) | rfl)⟩ dJ2_isEmpty_12
  · -- 4 not taken
    have n_1 : n = 0 := (nI_eq (by omega) (by omega)).mp (show nI n = nI 0 from c_1)
    refine lv_iconst (v := 1) hx hb dJ2_isEmpty_7 (by decide) ?_
    refine lv_goto (tgt := 12) hx hb dJ2_isEmpty_8 (by decide) ?_
    exact b_zret hx hb hr hlocks hP hD hS (Nat.le_of_ble_eq_true rfl) (Nat.le_of_ble_eq_true rfl) rfl ⟨(by first | with_reducible rfl | (simp [n_1]; done) | (subst n_1; simp []; done) | rfl), (by first | with_reducible rfl | (simp [n_1]; done) | (subst n_1; simp []; done) | rfl)⟩ dJ2_isEmpty_12
set_option maxHeartbeats 4000000 in
set_option maxRecDepth 100000 in
theorem mt_Obs_checkIndex (l : Launch) (Γ : GE) (sz : Nat) (i : Nat) (n : Nat) (hi : i < n) (hn : n < 2 ^ 31) : KM l yJ23_checkIndex cJ23_checkIndex 2 (some FieldType.int) Γ 1 22 0 0 [.int (nI i), .int (nI n)] [] [] sz (Qi Γ (fun r_ u_ => r_ = (nI i) ∧ u_ = [])) := by
  refine K_intro (by decide) (Nat.le_of_ble_eq_true rfl) ?_
  intro pr_ ev_ s mi_ below meth cd_ A ls hx hb hr hml hown hts hlocks hname hK hE hRo hP hD hA hS hsz hl
  have hl : lv_has ls 2 [(0, .int (nI i)), (1, .int (nI n))] := hl
  have hown : s.vm.findClass RJ23 = some mi_.cls := hown
  refine lv_iload_n hx hb dJ23_checkIndex_0 rfl (lv_at hl 0 rfl) ?_
  refine lv_iload_n hx hb dJ23_checkIndex_1 rfl (lv_at hl 1 rfl) ?_
  refine lv_null hx hb dJ23_checkIndex_2 ?_
  refine b_calli (br := []) (b_runS ⟨hx, hb, hml, hown, hts⟩ (mt_Pre_checkIndexN l Γ _ i n (by first | exact hi | omega) (by first | exact hn | omega)) (lw_S q970 q971 q88 q972) rfl rfl 3 (by decide +kernel) ⟨(Nat.le_of_ble_eq_true rfl), (Nat.le_of_ble_eq_true rfl)⟩ (c_pre hP hD hS hA hK hE [] rfl rfl ro_nil) rfl hl.1 rfl (Nat.le_of_ble_eq_true rfl) dJ23_checkIndex_3 ⟨(Nat.le_of_ble_eq_true rfl), (Nat.le_of_ble_eq_true rfl)⟩) hP hD hS hA [] [] rfl rfl rfl (fun r_1 u_1 H locs hw_1 hP hD hS _ => ?_)
  obtain ⟨rfl, rfl⟩ := hw_1
  have hP : WP Γ [] H := hP
  have hD : WD A [] := hD
  exact b_iret hx hb hr hlocks hP hD hS (Nat.le_of_ble_eq_true rfl) (Nat.le_of_ble_eq_true rfl) ⟨(by first | rfl | (simp; done)), (by first | rfl | (simp; done))⟩ dJ23_checkIndex_6
set_option maxHeartbeats 4000000 in
set_option maxRecDepth 100000 in
theorem mt_AL_elementData (l : Launch) (Γ : GE) (sz : Nat) (a : Nat) (m : Int32) (v : Nat) (n : Nat) (cap : Nat) (f : Nat → Option Nat) (i : Nat) (hi : i < cap) (hc : cap ≤ 100) : KM l yJ2_elementData cJ2_elementData 2 (some (FieldType.object "java/lang/Object")) Γ 0 0 0 0 [.ref a, .int (nI i)] [[(a, .inr (11, [.int m, .ref v, .int (nI n)]))], [(v, .inl (Γ.2.1 2, cap, .inr (.inr (.inr (.inr f)))))]] [] sz (Qq Γ (fun r_ u_ => r_ = (f i) ∧ u_ = [[(a, .inr (11, [.int m, .ref v, .int (nI n)]))], [(v, .inl (Γ.2.1 2, cap, .inr (.inr (.inr (.inr f)))))]])) := by
  refine K_intro (by decide) (Nat.le_of_ble_eq_true rfl) ?_
  intro pr_ ev_ s mi_ below meth cd_ A ls hx hb hr hml hown hts hlocks hname hK hE hRo hP hD hA hS hsz hl
  have hl : lv_has ls 2 [(0, .ref a), (1, .int (nI i))] := hl
  have hown : s.vm.findClass RJ2 = some mi_.cls := hown
  refine lv_aload_n hx hb dJ2_elementData_0 rfl (lv_at hl 0 rfl) ?_
  refine b_get (C := RJ2) (T := TJ2) (N := 3) (v := .ref v) hx hb hts in_J2 hown hK (b_at (k := 0) hP rfl) rfl 1 (by decide) q131 (fun _ h9 => h9) rfl dJ2_elementData_1 ?_
  refine lv_iload_n hx hb dJ2_elementData_4 rfl (lv_at hl 1 rfl) ?_
  refine b_aald hx hb hK (b_at (k := 1) hP rfl) i rfl (by omega) (by omega) dJ2_elementData_5 ?_
  exact b_aretQ hx hb hr (by first | exact Or.inl ⟨_, rfl⟩ | exact Or.inr ⟨_, rfl⟩) hlocks hP hD hS (Nat.le_of_ble_eq_true rfl) (Nat.le_of_ble_eq_true rfl) ⟨(by first | rfl | (simp; done)), (by first | rfl | (simp; done))⟩ dJ2_elementData_6
set_option maxHeartbeats 4000000 in
set_option maxRecDepth 100000 in
theorem mt_AL_get (l : Launch) (Γ : GE) (sz : Nat) (a : Nat) (m : Int32) (x : LST) (n : Nat) (c : Nat → Nat) (i : Nat) (hal : alI Γ x n c) (hi : i < n) : KM l yJ2_get cJ2_get 2 (some (FieldType.object "java/lang/Object")) Γ 2 43 0 0 [.ref a, .int (nI i)] [[(a, .inr (11, [.int m, .ref x.1, .int (nI n)]))], (alA Γ x)] [] sz (Qq Γ (fun r_ u_ => r_ = some (c i) ∧ u_ = [[(a, .inr (11, [.int m, .ref x.1, .int (nI n)]))], (alA Γ x)])) := by
  refine K_intro (by decide) (Nat.le_of_ble_eq_true rfl) ?_
  intro pr_ ev_ s mi_ below meth cd_ A ls hx hb hr hml hown hts hlocks hname hK hE hRo hP hD hA hS hsz hl
  have hl : lv_has ls 2 [(0, .ref a), (1, .int (nI i))] := hl
  have hown : s.vm.findClass RJ2 = some mi_.cls := hown
  have hln := alI_n hal
  have hcap : ¬ x.2.1 = 0 := by omega
  rw [alA_1 hcap] at hP hD
  have hP : WP Γ [[(a, .inr (11, [.int m, .ref x.1, .int (nI n)]))], [(x.1, .inl (Γ.2.1 2, x.2.1, .inr (.inr (.inr (.inr x.2.2)))))]] s.heap := hP
  have hD : WD A [[(a, .inr (11, [.int m, .ref x.1, .int (nI n)]))], [(x.1, .inl (Γ.2.1 2, x.2.1, .inr (.inr (.inr (.inr x.2.2)))))]] := hD
  refine lv_iload_n hx hb dJ2_get_0 rfl (lv_at hl 1 rfl) ?_
  refine lv_aload_n hx hb dJ2_get_1 rfl (lv_at hl 0 rfl) ?_
  refine b_get (C := RJ2) (T := TJ2) (N := 3) (v := .int (nI n)) hx hb hts in_J2 hown hK (b_at (k := 0) hP rfl) rfl 2 (by decide) q134 (fun _ h9 => h9) rfl dJ2_get_2 ?_
  refine b_calli (br := [[(a, .inr (11, [.int m, .ref x.1, .int (nI n)]))], [(x.1, .inl (Γ.2.1 2, x.2.1, .inr (.inr (.inr (.inr x.2.2)))))]]) (b_runS ⟨hx, hb, hml, hown, hts⟩ (mt_Obs_checkIndex l Γ _ i n (by first | exact hi | omega) (by omega)) (lw_S q967 q968 q92 q969) rfl rfl 2 (by decide +kernel) ⟨(Nat.le_of_ble_eq_true rfl), (Nat.le_of_ble_eq_true rfl)⟩ (c_pre hP hD hS hA hK hE [] rfl rfl ro_nil) rfl hl.1 rfl (Nat.le_of_ble_eq_true rfl) dJ2_get_5 ⟨(Nat.le_of_ble_eq_true rfl), (Nat.le_of_ble_eq_true rfl)⟩) hP hD hS hA [] [0, 1] rfl rfl rfl (fun r_1 u_1 H locs hw_1 hP hD hS _ => ?_)
  obtain ⟨rfl, rfl⟩ := hw_1
  have hP : WP Γ [[(a, .inr (11, [.int m, .ref x.1, .int (nI n)]))], [(x.1, .inl (Γ.2.1 2, x.2.1, .inr (.inr (.inr (.inr x.2.2)))))]] H := hP
  have hD : WD A [[(a, .inr (11, [.int m, .ref x.1, .int (nI n)]))], [(x.1, .inl (Γ.2.1 2, x.2.1, .inr (.inr (.inr (.inr x.2.2)))))]] := hD
  refine lv_pop hx hb dJ2_get_8 rfl ?_
  refine lv_aload_n hx hb dJ2_get_9 rfl (lv_at hl 0 rfl) ?_
  refine lv_iload_n hx hb dJ2_get_10 rfl (lv_at hl 1 rfl) ?_
  refine b_callq (br := []) (b_runV ⟨hx, hb, hml, hown, hts⟩ (mt_AL_elementData l Γ _ a m x.1 n x.2.1 x.2.2 i (by omega) (by omega)) (lw_V q973 q974 q975 q66 q976) rfl rfl 1 (by decide +kernel) ⟨(Nat.le_of_ble_eq_true rfl), (Nat.le_of_ble_eq_true rfl)⟩ (c_pre hP hD hS hA hK hE [0, 1] rfl rfl ro_nil) (recv_at (q := (RJ2, TJ2, 3)) hK (b_at (k := 0) hP rfl) rfl) rfl hl.1 rfl (Nat.le_of_ble_eq_true rfl) dJ2_get_11 ⟨(Nat.le_of_ble_eq_true rfl), (Nat.le_of_ble_eq_true rfl)⟩) hP hD hS hA [0, 1] [] rfl rfl rfl (fun r_2 u_2 H locs hw_2 hP hD hS _ => ?_)
  obtain ⟨rfl, rfl⟩ := hw_2
  have hP : WP Γ [[(a, .inr (11, [.int m, .ref x.1, .int (nI n)]))], [(x.1, .inl (Γ.2.1 2, x.2.1, .inr (.inr (.inr (.inr x.2.2)))))]] H := hP
  have hD : WD A [[(a, .inr (11, [.int m, .ref x.1, .int (nI n)]))], [(x.1, .inl (Γ.2.1 2, x.2.1, .inr (.inr (.inr (.inr x.2.2)))))]] := hD
  refine W.eq (g2 := F0 mi_ 14 ls ([va_rf (x.2.2 i)])) rfl ?_
  rw [show (x.2.2 i) = some (c i) from hal.2.2.2.1 i hi]
  refine W.eq (g2 := F0 mi_ 14 ls ([.ref (c i)])) rfl ?_
  rw [show [(x.1, .inl (Γ.2.1 2, x.2.1, .inr (.inr (.inr (.inr x.2.2)))))] = alA Γ x from (alA_1 hcap).symm] at hP hD
  have hP : WP Γ [[(a, .inr (11, [.int m, .ref x.1, .int (nI n)]))], (alA Γ x)] H := hP
  have hD : WD A [[(a, .inr (11, [.int m, .ref x.1, .int (nI n)]))], (alA Γ x)] := hD
  exact b_aret hx hb hr (by first | exact Or.inl ⟨_, rfl⟩ | exact Or.inr ⟨_, rfl⟩) hlocks hP hD hS (Nat.le_of_ble_eq_true rfl) (Nat.le_of_ble_eq_true rfl) ⟨(by first | with_reducible rfl | (simp [hcap]; done) | rfl), (by first | with_reducible rfl | (simp [hcap]; done) | rfl)⟩ dJ2_get_14
set_option maxHeartbeats 4000000 in
set_option maxRecDepth 100000 in
theorem mt_AL_set (l : Launch) (Γ : GE) (sz : Nat) (a : Nat) (m : Int32) (x : LST) (n : Nat) (c : Nat → Nat) (i : Nat) (e : Nat) (E : va_W) (hal : alI Γ x n c) (hi : i < n) (he : inE E e) : KM l yJ2_set cJ2_set 4 (some (FieldType.object "java/lang/Object")) Γ 2 43 0 0 [.ref a, .int (nI i), .ref e] [[(a, .inr (11, [.int m, .ref x.1, .int (nI n)]))], (alA Γ x)] [E] sz (Qq Γ (fun r_ u_ => ∃ y : LST, alI Γ y n (va_up c i e) ∧ r_ = some (c i) ∧ u_ = [[(a, .inr (11, [.int m, .ref y.1, .int (nI n)]))], (alA Γ y)])) := by
  refine K_intro (by decide) (Nat.le_of_ble_eq_true rfl) ?_
  intro pr_ ev_ s mi_ below meth cd_ A ls hx hb hr hml hown hts hlocks hname hK hE hRo hP hD hA hS hsz hl
  have hl : lv_has ls 4 [(0, .ref a), (1, .int (nI i)), (2, .ref e)] := hl
  have hown : s.vm.findClass RJ2 = some mi_.cls := hown
  have hln := alI_n hal
  have hcap : ¬ x.2.1 = 0 := by omega
  rw [alA_1 hcap] at hP hD
  have hP : WP Γ [[(a, .inr (11, [.int m, .ref x.1, .int (nI n)]))], [(x.1, .inl (Γ.2.1 2, x.2.1, .inr (.inr (.inr (.inr x.2.2)))))]] s.heap := hP
  have hD : WD A [[(a, .inr (11, [.int m, .ref x.1, .int (nI n)]))], [(x.1, .inl (Γ.2.1 2, x.2.1, .inr (.inr (.inr (.inr x.2.2)))))]] := hD
  refine lv_iload_n hx hb dJ2_set_0 rfl (lv_at hl 1 rfl) ?_
  refine lv_aload_n hx hb dJ2_set_1 rfl (lv_at hl 0 rfl) ?_
  refine b_get (C := RJ2) (T := TJ2) (N := 3) (v := .int (nI n)) hx hb hts in_J2 hown hK (b_at (k := 0) hP rfl) rfl 2 (by decide) q134 (fun _ h9 => h9) rfl dJ2_set_2 ?_
  refine b_calli (br := [[(a, .inr (11, [.int m, .ref x.1, .int (nI n)]))], [(x.1, .inl (Γ.2.1 2, x.2.1, .inr (.inr (.inr (.inr x.2.2)))))]]) (b_runS ⟨hx, hb, hml, hown, hts⟩ (mt_Obs_checkIndex l Γ _ i n (by first | exact hi | omega) (by omega)) (lw_S q967 q968 q92 q969) rfl rfl 2 (by decide +kernel) ⟨(Nat.le_of_ble_eq_true rfl), (Nat.le_of_ble_eq_true rfl)⟩ (c_pre hP hD hS hA hK hE [] rfl rfl ro_nil) rfl hl.1 rfl (Nat.le_of_ble_eq_true rfl) dJ2_set_5 ⟨(Nat.le_of_ble_eq_true rfl), (Nat.le_of_ble_eq_true rfl)⟩) hP hD hS hA [] [0, 1] rfl rfl rfl (fun r_1 u_1 H locs hw_1 hP hD hS _ => ?_)
  obtain ⟨rfl, rfl⟩ := hw_1
  have hP : WP Γ [[(a, .inr (11, [.int m, .ref x.1, .int (nI n)]))], [(x.1, .inl (Γ.2.1 2, x.2.1, .inr (.inr (.inr (.inr x.2.2)))))]] H := hP
  have hD : WD A [[(a, .inr (11, [.int m, .ref x.1, .int (nI n)]))], [(x.1, .inl (Γ.2.1 2, x.2.1, .inr (.inr (.inr (.inr x.2.2)))))]] := hD
  refine lv_pop hx hb dJ2_set_8 rfl ?_
  refine lv_aload_n hx hb dJ2_set_9 rfl (lv_at hl 0 rfl) ?_
  refine lv_iload_n hx hb dJ2_set_10 rfl (lv_at hl 1 rfl) ?_
  refine b_callq (br := []) (b_runV ⟨hx, hb, hml, hown, hts⟩ (mt_AL_elementData l Γ _ a m x.1 n x.2.1 x.2.2 i (by first | exact hi | omega) (by omega)) (lw_V q973 q974 q975 q66 q976) rfl rfl 1 (by decide +kernel) ⟨(Nat.le_of_ble_eq_true rfl), (Nat.le_of_ble_eq_true rfl)⟩ (c_pre hP hD hS hA hK hE [0, 1] rfl rfl ro_nil) (recv_at (q := (RJ2, TJ2, 3)) hK (b_at (k := 0) hP rfl) rfl) rfl hl.1 rfl (Nat.le_of_ble_eq_true rfl) dJ2_set_11 ⟨(Nat.le_of_ble_eq_true rfl), (Nat.le_of_ble_eq_true rfl)⟩) hP hD hS hA [0, 1] [] rfl rfl rfl (fun r_2 u_2 H locs hw_2 hP hD hS _ => ?_)
  obtain ⟨rfl, rfl⟩ := hw_2
  have hP : WP Γ [[(a, .inr (11, [.int m, .ref x.1, .int (nI n)]))], [(x.1, .inl (Γ.2.1 2, x.2.1, .inr (.inr (.inr (.inr x.2.2)))))]] H := hP
  have hD : WD A [[(a, .inr (11, [.int m, .ref x.1, .int (nI n)]))], [(x.1, .inl (Γ.2.1 2, x.2.1, .inr (.inr (.inr (.inr x.2.2)))))]] := hD
  refine W.eq (g2 := F0 mi_ 14 ls ([va_rf (x.2.2 i)])) rfl ?_
  rw [show (x.2.2 i) = some (c i) from hal.2.2.2.1 i hi]
  refine W.eq (g2 := F0 mi_ 14 ls ([.ref (c i)])) rfl ?_
  refine lv_astore_n (lv' := [(3, .ref (c i)), (0, .ref a), (1, .int (nI i)), (2, .ref e)]) hx hb dJ2_set_14 rfl hl (by decide) rfl (fun ls hl => ?_)
  refine lv_aload_n hx hb dJ2_set_15 rfl (lv_at hl 1 rfl) ?_
  refine b_get (C := RJ2) (T := TJ2) (N := 3) (v := .ref x.1) hx hb hts in_J2 hown hK (b_at (k := 0) hP rfl) rfl 1 (by decide) q131 (fun _ h9 => h9) rfl dJ2_set_16 ?_
  refine lv_iload_n hx hb dJ2_set_19 rfl (lv_at hl 2 rfl) ?_
  refine lv_aload_n hx hb dJ2_set_20 rfl (lv_at hl 3 rfl) ?_
  refine b_aast hx hb hK hP hD hS 1 rfl (el_any hK hE hRo hS he) i rfl (by omega) (by omega) dJ2_set_21 (fun H locs hP hD hS => ?_)
  have hP : WP Γ [[(a, .inr (11, [.int m, .ref x.1, .int (nI n)]))], [(x.1, .inl (Γ.2.1 2, x.2.1, .inr (.inr (.inr (.inr (va_up x.2.2 i (some e)))))))]] H := hP
  have hD : WD A [[(a, .inr (11, [.int m, .ref x.1, .int (nI n)]))], [(x.1, .inl (Γ.2.1 2, x.2.1, .inr (.inr (.inr (.inr (va_up x.2.2 i (some e)))))))]] := hD
  refine lv_aload_n hx hb dJ2_set_22 rfl (lv_at hl 0 rfl) ?_
  rw [show [(x.1, .inl (Γ.2.1 2, x.2.1, .inr (.inr (.inr (.inr (va_up x.2.2 i (some e)))))))] = alA Γ (x.1, x.2.1, (va_up x.2.2 i (some e))) from (alA_1 (x := (x.1, x.2.1, (va_up x.2.2 i (some e)))) (by dsimp only; omega)).symm] at hP hD
  have hP : WP Γ [[(a, .inr (11, [.int m, .ref x.1, .int (nI n)]))], (alA Γ (x.1, x.2.1, (va_up x.2.2 i (some e))))] H := hP
  have hD : WD A [[(a, .inr (11, [.int m, .ref x.1, .int (nI n)]))], (alA Γ (x.1, x.2.1, (va_up x.2.2 i (some e))))] := hD
  exact b_aret hx hb hr (by first | exact Or.inl ⟨_, rfl⟩ | exact Or.inr ⟨_, rfl⟩) hlocks hP hD hS (Nat.le_of_ble_eq_true rfl) (Nat.le_of_ble_eq_true rfl) ⟨(x.1, x.2.1, (va_up x.2.2 i (some e))), (alI_set (v := x.1) (cap := x.2.1) (f := x.2.2) hal hi), (by first | with_reducible rfl | (simp [hcap]; done) | rfl), rfl⟩ dJ2_set_23
set_option maxHeartbeats 4000000 in
set_option maxRecDepth 100000 in
theorem mt_AL_add2_fit (l : Launch) (Γ : GE) (sz : Nat) (a : Nat) (m : Int32) (v : Nat) (n : Nat) (cap : Nat) (f : Nat → Option Nat) (e : Nat) (E : va_W) (hn : n < cap) (hc : cap ≤ 100) (he : inE E e) : KM l yJ2_add_2 cJ2_add_2 4 none Γ 0 0 0 0 [.ref a, .ref e, .ref v, .int (nI n)] [[(a, .inr (11, [.int m, .ref v, .int (nI n)]))], [(v, .inl (Γ.2.1 2, cap, .inr (.inr (.inr (.inr f)))))]] [E] sz (Qv Γ (fun u_ => u_ = [[(a, .inr (11, [.int m, .ref v, .int (nI (n + 1))]))], [(v, .inl (Γ.2.1 2, cap, .inr (.inr (.inr (.inr (va_up f n (some e)))))))]])) := by
  refine K_intro (by decide) (Nat.le_of_ble_eq_true rfl) ?_
  intro pr_ ev_ s mi_ below meth cd_ A ls hx hb hr hml hown hts hlocks hname hK hE hRo hP hD hA hS hsz hl
  have hl : lv_has ls 4 [(0, .ref a), (1, .ref e), (2, .ref v), (3, .int (nI n))] := hl
  have hown : s.vm.findClass RJ2 = some mi_.cls := hown
  refine lv_iload_n hx hb dJ2_add_2_0 rfl (lv_at hl 3 rfl) ?_
  refine lv_aload_n hx hb dJ2_add_2_1 rfl (lv_at hl 2 rfl) ?_
  refine b_alen hx hb hK 2 (b_at (k := 1) hP rfl) rfl dJ2_add_2_2 ?_
  refine lv_icmp_ne (tgt := 11) hx hb dJ2_add_2_3 (by decide) (fun c_1 => ?_) (fun c_1 => ?_)
  · -- 3 taken
    have n_1 : ¬ (n = cap) := fun h => c_1 ((nI_eq (a := n) (b := cap) (by omega) (by omega)).mpr h)
    refine lv_aload_n hx hb dJ2_add_2_11 rfl (lv_at hl 2 rfl) ?_
    refine lv_iload_n hx hb dJ2_add_2_12 rfl (lv_at hl 3 rfl) ?_
    refine lv_aload_n hx hb dJ2_add_2_13 rfl (lv_at hl 1 rfl) ?_
    refine b_aast hx hb hK hP hD hS 1 rfl (el_any hK hE hRo hS he) n rfl (by omega) (by omega) dJ2_add_2_14 (fun H locs hP hD hS => ?_)
    have hP : WP Γ [[(a, .inr (11, [.int m, .ref v, .int (nI n)]))], [(v, .inl (Γ.2.1 2, cap, .inr (.inr (.inr (.inr (va_up f n (some e)))))))]] H := hP
    have hD : WD A [[(a, .inr (11, [.int m, .ref v, .int (nI n)]))], [(v, .inl (Γ.2.1 2, cap, .inr (.inr (.inr (.inr (va_up f n (some e)))))))]] := hD
    refine lv_aload_n hx hb dJ2_add_2_15 rfl (lv_at hl 0 rfl) ?_
    refine lv_iload_n hx hb dJ2_add_2_16 rfl (lv_at hl 3 rfl) ?_
    refine lv_iconst (v := 1) hx hb dJ2_add_2_17 (by decide) ?_
    refine lv_iadd hx hb dJ2_add_2_18 ?_
    refine b_top (nI_addE (a := n) (b := 1) (c := n + 1) rfl rfl (by first | omega | rfl)) ?_
    refine b_put (C := RJ2) (T := TJ2) (N := 3) (ty := .int) (v := .int (nI (n + 1))) hx hb hts in_J2 tyJ2_ok nmJ2 hown hK hP hD hS 0 rfl rfl 2 (by decide) q134 (fun _ h9 => h9) rfl (by decide +kernel) rfl rfl (Nat.le_of_ble_eq_true rfl) dJ2_add_2_19 (fun H locs hP hD hS => ?_)
    have hP : WP Γ [[(a, .inr (11, [.int m, .ref v, .int (nI (n + 1))]))], [(v, .inl (Γ.2.1 2, cap, .inr (.inr (.inr (.inr (va_up f n (some e)))))))]] H := hP
    have hD : WD A [[(a, .inr (11, [.int m, .ref v, .int (nI (n + 1))]))], [(v, .inl (Γ.2.1 2, cap, .inr (.inr (.inr (.inr (va_up f n (some e)))))))]] := hD
    exact b_vret hx hb hr hlocks hP hD hS (Nat.le_of_ble_eq_true rfl) (Nat.le_of_ble_eq_true rfl) (by first | with_reducible rfl | (simp [n_1]; done) | rfl) dJ2_add_2_22
  · -- 3 not taken
    have n_1 : n = cap := (nI_eq (by omega) (by omega)).mp (show nI n = nI cap from c_1)
    exfalso; omega
set_option maxHeartbeats 4000000 in
set_option maxRecDepth 100000 in
theorem mt_AL_add2_grow (l : Launch) (Γ : GE) (sz : Nat) (a : Nat) (m : Int32) (v : Nat) (n : Nat) (cap : Nat) (f : Nat → Option Nat) (e : Nat) (E : va_W) (hn : n = cap) (hc0 : 0 < cap) (hc : n + 1 ≤ 65) (he : inE E e) (hel : ∀ k y, f k = some y → inE E y) : KM l yJ2_add_2 cJ2_add_2 4 none Γ 5 147 1 100 [.ref a, .ref e, .ref v, .int (nI n)] [[(a, .inr (11, [.int m, .ref v, .int (nI n)]))], [(v, .inl (Γ.2.1 2, cap, .inr (.inr (.inr (.inr f)))))]] [E] sz (Qv Γ (fun u_ => ∃ w : Nat, u_ = [[(a, .inr (11, [.int m, .ref w, .int (nI (n + 1))]))], [(w, .inl (Γ.2.1 2, (glN cap (n + 1)), .inr (.inr (.inr (.inr (va_up (va_cpy f (fun _ => none) 0 0 cap) n (some e)))))))]])) := by
  refine K_intro (by decide) (Nat.le_of_ble_eq_true rfl) ?_
  intro pr_ ev_ s mi_ below meth cd_ A ls hx hb hr hml hown hts hlocks hname hK hE hRo hP hD hA hS hsz hl
  have hl : lv_has ls 4 [(0, .ref a), (1, .ref e), (2, .ref v), (3, .int (nI n))] := hl
  have hown : s.vm.findClass RJ2 = some mi_.cls := hown
  have hgl := glN_b (cap := cap) (q := n + 1) (by omega) hc
  refine lv_iload_n hx hb dJ2_add_2_0 rfl (lv_at hl 3 rfl) ?_
  refine lv_aload_n hx hb dJ2_add_2_1 rfl (lv_at hl 2 rfl) ?_
  refine b_alen hx hb hK 2 (b_at (k := 1) hP rfl) rfl dJ2_add_2_2 ?_
  refine lv_icmp_ne (tgt := 11) hx hb dJ2_add_2_3 (by decide) (fun c_1 => ?_) (fun c_1 => ?_)
  · -- 3 taken
    have n_1 : ¬ (n = cap) := fun h => c_1 ((nI_eq (a := n) (b := cap) (by omega) (by omega)).mpr h)
    exfalso; omega
  · -- 3 not taken
    have n_1 : n = cap := (nI_eq (by omega) (by omega)).mp (show nI n = nI cap from c_1)
    refine lv_aload_n hx hb dJ2_add_2_6 rfl (lv_at hl 0 rfl) ?_
    refine b_callq (br := []) (b_runV ⟨hx, hb, hml, hown, hts⟩ (mt_AL_grow l Γ _ a m v n cap f E (by first | exact hc0 | omega) (by omega) (by omega) (by first | exact hel | omega)) (lw_V q481 q483 qs2 q66 q484) rfl rfl 0 (by decide +kernel) ⟨(Nat.le_of_ble_eq_true rfl), (Nat.le_of_ble_eq_true rfl)⟩ (c_pre hP hD hS hA hK hE [0, 1] rfl rfl (ro_pass (ro_sel (ro2 := [E]) hRo [0] rfl) hD hS hA [0, 1] rfl)) (recv_at (q := (RJ2, TJ2, 3)) hK (b_at (k := 0) hP rfl) rfl) rfl hl.1 rfl (Nat.le_of_ble_eq_true rfl) dJ2_add_2_7 ⟨(Nat.le_of_ble_eq_true rfl), (Nat.le_of_ble_eq_true rfl)⟩) hP hD hS hA [0, 1] [] rfl rfl rfl (fun r_2 u_2 H locs hw_2 hP hD hS _ => ?_)
    obtain ⟨w_2, rfl, rfl⟩ := hw_2
    have hP : WP Γ [[(a, .inr (11, [.int m, .ref w_2, .int (nI n)]))], [(w_2, .inl (Γ.2.1 2, (glN cap (n + 1)), .inr (.inr (.inr (.inr (va_cpy f (fun _ => none) 0 0 cap))))))]] H := hP
    have hD : WD A [[(a, .inr (11, [.int m, .ref w_2, .int (nI n)]))], [(w_2, .inl (Γ.2.1 2, (glN cap (n + 1)), .inr (.inr (.inr (.inr (va_cpy f (fun _ => none) 0 0 cap))))))]] := hD
    refine W.eq (g2 := F0 mi_ 10 ls ([.ref w_2])) rfl ?_
    refine lv_astore_n (lv' := [(2, .ref w_2), (0, .ref a), (1, .ref e), (3, .int (nI n))]) hx hb dJ2_add_2_10 rfl hl (by decide) rfl (fun ls hl => ?_)
    refine lv_aload_n hx hb dJ2_add_2_11 rfl (lv_at hl 0 rfl) ?_
    refine lv_iload_n hx hb dJ2_add_2_12 rfl (lv_at hl 3 rfl) ?_
    refine lv_aload_n hx hb dJ2_add_2_13 rfl (lv_at hl 2 rfl) ?_
    refine b_aast hx hb hK hP hD hS 1 rfl (el_any hK hE hRo hS he) n rfl (by omega) (by omega) dJ2_add_2_14 (fun H locs hP hD hS => ?_)
    have hP : WP Γ [[(a, .inr (11, [.int m, .ref w_2, .int (nI n)]))], [(w_2, .inl (Γ.2.1 2, (glN cap (n + 1)), .inr (.inr (.inr (.inr (va_up (va_cpy f (fun _ => none) 0 0 cap) n (some e)))))))]] H := hP
    have hD : WD A [[(a, .inr (11, [.int m, .ref w_2, .int (nI n)]))], [(w_2, .inl (Γ.2.1 2, (glN cap (n + 1)), .inr (.inr (.inr (.inr (va_up (va_cpy f (fun _ => none) 0 0 cap) n (some e)))))))]] := hD
    refine lv_aload_n hx hb dJ2_add_2_15 rfl (lv_at hl 1 rfl) ?_
    refine lv_iload_n hx hb dJ2_add_2_16 rfl (lv_at hl 3 rfl) ?_
    refine lv_iconst (v := 1) hx hb dJ2_add_2_17 (by decide) ?_
    refine lv_iadd hx hb dJ2_add_2_18 ?_
    refine b_top (nI_addE (a := n) (b := 1) (c := n + 1) rfl rfl (by first | omega | rfl)) ?_
    refine b_put (C := RJ2) (T := TJ2) (N := 3) (ty := .int) (v := .int (nI (n + 1))) hx hb hts in_J2 tyJ2_ok nmJ2 hown hK hP hD hS 0 rfl rfl 2 (by decide) q134 (fun _ h9 => h9) rfl (by decide +kernel) rfl rfl (Nat.le_of_ble_eq_true rfl) dJ2_add_2_19 (fun H locs hP hD hS => ?_)
    have hP : WP Γ [[(a, .inr (11, [.int m, .ref w_2, .int (nI (n + 1))]))], [(w_2, .inl (Γ.2.1 2, (glN cap (n + 1)), .inr (.inr (.inr (.inr (va_up (va_cpy f (fun _ => none) 0 0 cap) n (some e)))))))]] H := hP
    have hD : WD A [[(a, .inr (11, [.int m, .ref w_2, .int (nI (n + 1))]))], [(w_2, .inl (Γ.2.1 2, (glN cap (n + 1)), .inr (.inr (.inr (.inr (va_up (va_cpy f (fun _ => none) 0 0 cap) n (some e)))))))]] := hD
    exact b_vret hx hb hr hlocks hP hD hS (Nat.le_of_ble_eq_true rfl) (Nat.le_of_ble_eq_true rfl) ⟨w_2, (by first | with_reducible rfl | (simp [n_1]; done) | rfl)⟩ dJ2_add_2_22
set_option maxHeartbeats 4000000 in
set_option maxRecDepth 100000 in
theorem mt_AL_add2_e (l : Launch) (Γ : GE) (sz : Nat) (a : Nat) (m : Int32) (n : Nat) (e : Nat) (E : va_W) (hn : n = 0) (he : inE E e) : KM l yJ2_add_2 cJ2_add_2 4 none Γ 3 74 1 100 [.ref a, .ref e, .ref (Γ.2.2 0), .int (nI n)] [[(a, .inr (11, [.int m, .ref (Γ.2.2 0), .int (nI n)]))]] [E] sz (Qv Γ (fun u_ => ∃ w : Nat, u_ = [[(a, .inr (11, [.int m, .ref w, .int (nI (n + 1))]))], [(w, .inl (Γ.2.1 2, (mxN 10 (n + 1)), .inr (.inr (.inr (.inr (va_up (fun _ => none) n (some e)))))))]])) := by
  refine K_intro (by decide) (Nat.le_of_ble_eq_true rfl) ?_
  intro pr_ ev_ s mi_ below meth cd_ A ls hx hb hr hml hown hts hlocks hname hK hE hRo hP hD hA hS hsz hl
  have hl : lv_has ls 4 [(0, .ref a), (1, .ref e), (2, .ref (Γ.2.2 0)), (3, .int (nI n))] := hl
  have hown : s.vm.findClass RJ2 = some mi_.cls := hown
  have hmx : mxN 10 (n + 1) ≤ 100 ∧ 10 ≤ mxN 10 (n + 1) := by unfold mxN; split <;> omega
  refine lv_iload_n hx hb dJ2_add_2_0 rfl (lv_at hl 3 rfl) ?_
  refine lv_aload_n hx hb dJ2_add_2_1 rfl (lv_at hl 2 rfl) ?_
  refine va_tlen hx hb hE.2.1.1.2.1 hS (v := nI 0) rfl dJ2_add_2_2 ?_
  refine lv_icmp_ne (tgt := 11) hx hb dJ2_add_2_3 (by decide) (fun c_1 => ?_) (fun c_1 => ?_)
  · -- 3 taken
    have n_1 : ¬ (n = 0) := fun h => c_1 ((nI_eq (a := n) (b := 0) (by omega) (by omega)).mpr h)
    exfalso; omega
  · -- 3 not taken
    have n_1 : n = 0 := (nI_eq (by omega) (by omega)).mp (show nI n = nI 0 from c_1)
    refine lv_aload_n hx hb dJ2_add_2_6 rfl (lv_at hl 0 rfl) ?_
    refine b_callq (br := []) (b_runV ⟨hx, hb, hml, hown, hts⟩ (mt_AL_grow_e l Γ _ a m n (by omega)) (lw_V q481 q483 qs2 q66 q484) rfl rfl 0 (by decide +kernel) ⟨(Nat.le_of_ble_eq_true rfl), (Nat.le_of_ble_eq_true rfl)⟩ (c_pre hP hD hS hA hK hE [0] rfl rfl ro_nil) (recv_at (q := (RJ2, TJ2, 3)) hK (b_at (k := 0) hP rfl) rfl) rfl hl.1 rfl (Nat.le_of_ble_eq_true rfl) dJ2_add_2_7 ⟨(Nat.le_of_ble_eq_true rfl), (Nat.le_of_ble_eq_true rfl)⟩) hP hD hS hA [0] [] rfl rfl rfl (fun r_2 u_2 H locs hw_2 hP hD hS _ => ?_)
    obtain ⟨w_2, rfl, rfl⟩ := hw_2
    have hP : WP Γ [[(a, .inr (11, [.int m, .ref w_2, .int (nI n)]))], [(w_2, .inl (Γ.2.1 2, (mxN 10 (n + 1)), .inr (.inr (.inr (.inr (fun _ => none))))))]] H := hP
    have hD : WD A [[(a, .inr (11, [.int m, .ref w_2, .int (nI n)]))], [(w_2, .inl (Γ.2.1 2, (mxN 10 (n + 1)), .inr (.inr (.inr (.inr (fun _ => none))))))]] := hD
    refine W.eq (g2 := F0 mi_ 10 ls ([.ref w_2])) rfl ?_
    refine lv_astore_n (lv' := [(2, .ref w_2), (0, .ref a), (1, .ref e), (3, .int (nI n))]) hx hb dJ2_add_2_10 rfl hl (by decide) rfl (fun ls hl => ?_)
    refine lv_aload_n hx hb dJ2_add_2_11 rfl (lv_at hl 0 rfl) ?_
    refine lv_iload_n hx hb dJ2_add_2_12 rfl (lv_at hl 3 rfl) ?_
    refine lv_aload_n hx hb dJ2_add_2_13 rfl (lv_at hl 2 rfl) ?_
    refine b_aast hx hb hK hP hD hS 1 rfl (el_any hK hE hRo hS he) n rfl (by omega) (by omega) dJ2_add_2_14 (fun H locs hP hD hS => ?_)
    have hP : WP Γ [[(a, .inr (11, [.int m, .ref w_2, .int (nI n)]))], [(w_2, .inl (Γ.2.1 2, (mxN 10 (n + 1)), .inr (.inr (.inr (.inr (va_up (fun _ => none) n (some e)))))))]] H := hP
    have hD : WD A [[(a, .inr (11, [.int m, .ref w_2, .int (nI n)]))], [(w_2, .inl (Γ.2.1 2, (mxN 10 (n + 1)), .inr (.inr (.inr (.inr (va_up (fun _ => none) n (some e)))))))]] := hD
    refine lv_aload_n hx hb dJ2_add_2_15 rfl (lv_at hl 1 rfl) ?_
    refine lv_iload_n hx hb dJ2_add_2_16 rfl (lv_at hl 3 rfl) ?_
    refine lv_iconst (v := 1) hx hb dJ2_add_2_17 (by decide) ?_
    refine lv_iadd hx hb dJ2_add_2_18 ?_
    refine b_top (nI_addE (a := n) (b := 1) (c := n + 1) rfl rfl (by first | omega | rfl)) ?_
    refine b_put (C := RJ2) (T := TJ2) (N := 3) (ty := .int) (v := .int (nI (n + 1))) hx hb hts in_J2 tyJ2_ok nmJ2 hown hK hP hD hS 0 rfl rfl 2 (by decide) q134 (fun _ h9 => h9) rfl (by decide +kernel) rfl rfl (Nat.le_of_ble_eq_true rfl) dJ2_add_2_19 (fun H locs hP hD hS => ?_)
    have hP : WP Γ [[(a, .inr (11, [.int m, .ref w_2, .int (nI (n + 1))]))], [(w_2, .inl (Γ.2.1 2, (mxN 10 (n + 1)), .inr (.inr (.inr (.inr (va_up (fun _ => none) n (some e)))))))]] H := hP
    have hD : WD A [[(a, .inr (11, [.int m, .ref w_2, .int (nI (n + 1))]))], [(w_2, .inl (Γ.2.1 2, (mxN 10 (n + 1)), .inr (.inr (.inr (.inr (va_up (fun _ => none) n (some e)))))))]] := hD
    exact b_vret hx hb hr hlocks hP hD hS (Nat.le_of_ble_eq_true rfl) (Nat.le_of_ble_eq_true rfl) ⟨w_2, (by first | with_reducible rfl | (simp [n_1]; done) | (subst n_1; simp []; done) | rfl)⟩ dJ2_add_2_22
set_option maxHeartbeats 4000000 in
set_option maxRecDepth 100000 in
theorem mt_AL_add (l : Launch) (Γ : GE) (sz : Nat) (a : Nat) (m : Int32) (x : LST) (n : Nat) (c : Nat → Nat) (e : Nat) (E : va_W) (hal : alI Γ x n c) (hn64 : n ≤ 62) (hel : elIn E n c) (he : inE E e) : KM l yJ2_add cJ2_add 2 (some FieldType.boolean) Γ 6 170 1 100 [.ref a, .ref e] [[(a, .inr (11, [.int m, .ref x.1, .int (nI n)]))], (alA Γ x)] [E] sz (Qi Γ (fun r_ u_ => ∃ y : LST, alI Γ y (n + 1) (va_up c n e) ∧ r_ = 1 ∧ u_ = [[(a, .inr (11, [.int (m + 1), .ref y.1, .int (nI (n + 1))]))], (alA Γ y)])) := by
  refine K_intro (by decide) (Nat.le_of_ble_eq_true rfl) ?_
  intro pr_ ev_ s mi_ below meth cd_ A ls hx hb hr hml hown hts hlocks hname hK hE hRo hP hD hA hS hsz hl
  have hl : lv_has ls 2 [(0, .ref a), (1, .ref e)] := hl
  have hown : s.vm.findClass RJ2 = some mi_.cls := hown
  by_cases hcap : x.2.1 = 0
  ·
    have hln := alI_n hal
    have hv0 := hal.2.2.1 hcap
    rw [alA_0 hcap] at hP hD
    have hP : WP Γ [[(a, .inr (11, [.int m, .ref x.1, .int (nI n)]))]] s.heap := bP_sel hP [0] rfl
    have hD : WD A [[(a, .inr (11, [.int m, .ref x.1, .int (nI n)]))]] := bD_sel hD [0] rfl rfl
    rw [hv0] at hP hD
    have hP : WP Γ [[(a, .inr (11, [.int m, .ref (Γ.2.2 0), .int (nI n)]))]] s.heap := hP
    have hD : WD A [[(a, .inr (11, [.int m, .ref (Γ.2.2 0), .int (nI n)]))]] := hD
    refine lv_aload_n hx hb dJ2_add_0 rfl (lv_at hl 0 rfl) ?_
    refine lv_dup hx hb dJ2_add_1 rfl ?_
    refine b_get (C := RJ2) (T := TJ2) (N := 3) (v := .int m) hx hb hts in_J2 hown hK (b_at (k := 0) hP rfl) rfl 0 (by decide) q138 (u_same (hts _ q137)) rfl dJ2_add_2 ?_
    refine lv_iconst (v := 1) hx hb dJ2_add_5 (by decide) ?_
    refine lv_iadd hx hb dJ2_add_6 ?_
    refine b_put (C := RJ2) (T := TJ2) (N := 3) (ty := .int) (v := .int (m + 1)) hx hb hts in_J2 tyJ2_ok nmJ2 hown hK hP hD hS 0 rfl rfl 0 (by decide) q138 (u_same (hts _ q137)) rfl (by decide +kernel) rfl rfl (Nat.le_of_ble_eq_true rfl) dJ2_add_7 (fun H locs hP hD hS => ?_)
    have hP : WP Γ [[(a, .inr (11, [.int (m + 1), .ref (Γ.2.2 0), .int (nI n)]))]] H := hP
    have hD : WD A [[(a, .inr (11, [.int (m + 1), .ref (Γ.2.2 0), .int (nI n)]))]] := hD
    refine lv_aload_n hx hb dJ2_add_10 rfl (lv_at hl 0 rfl) ?_
    refine lv_aload_n hx hb dJ2_add_11 rfl (lv_at hl 1 rfl) ?_
    refine lv_aload_n hx hb dJ2_add_12 rfl (lv_at hl 0 rfl) ?_
    refine b_get (C := RJ2) (T := TJ2) (N := 3) (v := .ref (Γ.2.2 0)) hx hb hts in_J2 hown hK (b_at (k := 0) hP rfl) rfl 1 (by decide) q131 (fun _ h9 => h9) rfl dJ2_add_13 ?_
    refine lv_aload_n hx hb dJ2_add_16 rfl (lv_at hl 0 rfl) ?_
    refine b_get (C := RJ2) (T := TJ2) (N := 3) (v := .int (nI n)) hx hb hts in_J2 hown hK (b_at (k := 0) hP rfl) rfl 2 (by decide) q134 (fun _ h9 => h9) rfl dJ2_add_17 ?_
    have hn0 : n = 0 := by omega
    refine b_callv (br := []) (b_runV ⟨hx, hb, hml, hown, hts⟩ (mt_AL_add2_e l Γ _ a (m + 1) n e E hn0 (by first | exact he | omega)) (lw_V q477 q479 qs1 q66 q480) rfl rfl 3 (by decide +kernel) ⟨(Nat.le_of_ble_eq_true rfl), (Nat.le_of_ble_eq_true rfl)⟩ (c_pre hP hD hS hA hK hE [0] rfl rfl (ro_pass (ro_sel (ro2 := [E]) hRo [0] rfl) hD hS hA [0] rfl)) (recv_at (q := (RJ2, TJ2, 3)) hK (b_at (k := 0) hP rfl) rfl) rfl hl.1 rfl (Nat.le_of_ble_eq_true rfl) dJ2_add_20 ⟨(Nat.le_of_ble_eq_true rfl), (Nat.le_of_ble_eq_true rfl)⟩) hP hD hS hA [0] [] rfl rfl rfl (fun u_1 H locs hw_1 hP hD hS _ => ?_)
    obtain ⟨w_1, rfl⟩ := hw_1
    have hP : WP Γ [[(a, .inr (11, [.int (m + 1), .ref w_1, .int (nI (n + 1))]))], [(w_1, .inl (Γ.2.1 2, (mxN 10 (n + 1)), .inr (.inr (.inr (.inr (va_up (fun _ => none) n (some e)))))))]] H := hP
    have hD : WD A [[(a, .inr (11, [.int (m + 1), .ref w_1, .int (nI (n + 1))]))], [(w_1, .inl (Γ.2.1 2, (mxN 10 (n + 1)), .inr (.inr (.inr (.inr (va_up (fun _ => none) n (some e)))))))]] := hD
    refine lv_iconst (v := 1) hx hb dJ2_add_23 (by decide) ?_
    have hmx : mxN 10 (n + 1) ≤ 100 ∧ 10 ≤ mxN 10 (n + 1) := by unfold mxN; split <;> omega
    rw [show [(w_1, .inl (Γ.2.1 2, (mxN 10 (n + 1)), .inr (.inr (.inr (.inr (va_up (fun _ => none) n (some e)))))))] = alA Γ (w_1, (mxN 10 (n + 1)), (va_up (fun _ => none) n (some e))) from (alA_1 (x := (w_1, (mxN 10 (n + 1)), (va_up (fun _ => none) n (some e)))) (by dsimp only; omega)).symm] at hP hD
    have hP : WP Γ [[(a, .inr (11, [.int (m + 1), .ref w_1, .int (nI (n + 1))]))], (alA Γ (w_1, (mxN 10 (n + 1)), (va_up (fun _ => none) n (some e))))] H := hP
    have hD : WD A [[(a, .inr (11, [.int (m + 1), .ref w_1, .int (nI (n + 1))]))], (alA Γ (w_1, (mxN 10 (n + 1)), (va_up (fun _ => none) n (some e))))] := hD
    exact b_zret hx hb hr hlocks hP hD hS (Nat.le_of_ble_eq_true rfl) (Nat.le_of_ble_eq_true rfl) rfl ⟨(w_1, (mxN 10 (n + 1)), (va_up (fun _ => none) n (some e))), (by have h9 := alI_push (Γ := Γ) (v := w_1) (cap := mxN 10 (n + 1)) (n := 0) (e := e) (c := c) (alI_new hmx.1 (by omega)) (by omega); rw [hn0]; rw [hn0] at h9; exact h9), (by first | with_reducible rfl | (simp [hcap]; done) | rfl), rfl⟩ dJ2_add_24
  ·
    have hln := alI_n hal
    rw [alA_1 hcap] at hP hD
    have hP : WP Γ [[(a, .inr (11, [.int m, .ref x.1, .int (nI n)]))], [(x.1, .inl (Γ.2.1 2, x.2.1, .inr (.inr (.inr (.inr x.2.2)))))]] s.heap := hP
    have hD : WD A [[(a, .inr (11, [.int m, .ref x.1, .int (nI n)]))], [(x.1, .inl (Γ.2.1 2, x.2.1, .inr (.inr (.inr (.inr x.2.2)))))]] := hD
    refine lv_aload_n hx hb dJ2_add_0 rfl (lv_at hl 0 rfl) ?_
    refine lv_dup hx hb dJ2_add_1 rfl ?_
    refine b_get (C := RJ2) (T := TJ2) (N := 3) (v := .int m) hx hb hts in_J2 hown hK (b_at (k := 0) hP rfl) rfl 0 (by decide) q138 (u_same (hts _ q137)) rfl dJ2_add_2 ?_
    refine lv_iconst (v := 1) hx hb dJ2_add_5 (by decide) ?_
    refine lv_iadd hx hb dJ2_add_6 ?_
    refine b_put (C := RJ2) (T := TJ2) (N := 3) (ty := .int) (v := .int (m + 1)) hx hb hts in_J2 tyJ2_ok nmJ2 hown hK hP hD hS 0 rfl rfl 0 (by decide) q138 (u_same (hts _ q137)) rfl (by decide +kernel) rfl rfl (Nat.le_of_ble_eq_true rfl) dJ2_add_7 (fun H locs hP hD hS => ?_)
    have hP : WP Γ [[(a, .inr (11, [.int (m + 1), .ref x.1, .int (nI n)]))], [(x.1, .inl (Γ.2.1 2, x.2.1, .inr (.inr (.inr (.inr x.2.2)))))]] H := hP
    have hD : WD A [[(a, .inr (11, [.int (m + 1), .ref x.1, .int (nI n)]))], [(x.1, .inl (Γ.2.1 2, x.2.1, .inr (.inr (.inr (.inr x.2.2)))))]] := hD
    refine lv_aload_n hx hb dJ2_add_10 rfl (lv_at hl 0 rfl) ?_
    refine lv_aload_n hx hb dJ2_add_11 rfl (lv_at hl 1 rfl) ?_
    refine lv_aload_n hx hb dJ2_add_12 rfl (lv_at hl 0 rfl) ?_
    refine b_get (C := RJ2) (T := TJ2) (N := 3) (v := .ref x.1) hx hb hts in_J2 hown hK (b_at (k := 0) hP rfl) rfl 1 (by decide) q131 (fun _ h9 => h9) rfl dJ2_add_13 ?_
    refine lv_aload_n hx hb dJ2_add_16 rfl (lv_at hl 0 rfl) ?_
    refine b_get (C := RJ2) (T := TJ2) (N := 3) (v := .int (nI n)) hx hb hts in_J2 hown hK (b_at (k := 0) hP rfl) rfl 2 (by decide) q134 (fun _ h9 => h9) rfl dJ2_add_17 ?_
    by_cases hfit : n < x.2.1
    ·
      refine b_callv (br := []) (b_runV ⟨hx, hb, hml, hown, hts⟩ (mt_AL_add2_fit l Γ _ a (m + 1) x.1 n x.2.1 x.2.2 e E (by omega) (by omega) (by first | exact he | omega)) (lw_V q477 q479 qs1 q66 q480) rfl rfl 3 (by decide +kernel) ⟨(Nat.le_of_ble_eq_true rfl), (Nat.le_of_ble_eq_true rfl)⟩ (c_pre hP hD hS hA hK hE [0, 1] rfl rfl (ro_pass (ro_sel (ro2 := [E]) hRo [0] rfl) hD hS hA [0, 1] rfl)) (recv_at (q := (RJ2, TJ2, 3)) hK (b_at (k := 0) hP rfl) rfl) rfl hl.1 rfl (Nat.le_of_ble_eq_true rfl) dJ2_add_20 ⟨(Nat.le_of_ble_eq_true rfl), (Nat.le_of_ble_eq_true rfl)⟩) hP hD hS hA [0, 1] [] rfl rfl rfl (fun u_2 H locs hw_2 hP hD hS _ => ?_)
      obtain rfl := hw_2
      have hP : WP Γ [[(a, .inr (11, [.int (m + 1), .ref x.1, .int (nI (n + 1))]))], [(x.1, .inl (Γ.2.1 2, x.2.1, .inr (.inr (.inr (.inr (va_up x.2.2 n (some e)))))))]] H := hP
      have hD : WD A [[(a, .inr (11, [.int (m + 1), .ref x.1, .int (nI (n + 1))]))], [(x.1, .inl (Γ.2.1 2, x.2.1, .inr (.inr (.inr (.inr (va_up x.2.2 n (some e)))))))]] := hD
      refine lv_iconst (v := 1) hx hb dJ2_add_23 (by decide) ?_
      rw [show [(x.1, .inl (Γ.2.1 2, x.2.1, .inr (.inr (.inr (.inr (va_up x.2.2 n (some e)))))))] = alA Γ (x.1, x.2.1, (va_up x.2.2 n (some e))) from (alA_1 (x := (x.1, x.2.1, (va_up x.2.2 n (some e)))) (by dsimp only; omega)).symm] at hP hD
      have hP : WP Γ [[(a, .inr (11, [.int (m + 1), .ref x.1, .int (nI (n + 1))]))], (alA Γ (x.1, x.2.1, (va_up x.2.2 n (some e))))] H := hP
      have hD : WD A [[(a, .inr (11, [.int (m + 1), .ref x.1, .int (nI (n + 1))]))], (alA Γ (x.1, x.2.1, (va_up x.2.2 n (some e))))] := hD
      exact b_zret hx hb hr hlocks hP hD hS (Nat.le_of_ble_eq_true rfl) (Nat.le_of_ble_eq_true rfl) rfl ⟨(x.1, x.2.1, (va_up x.2.2 n (some e))), (alI_push (v := x.1) (cap := x.2.1) (f := x.2.2) hal hfit), (by first | with_reducible rfl | (simp [hcap, hfit]; done) | rfl), rfl⟩ dJ2_add_24
    ·
      refine b_callv (br := []) (b_runV ⟨hx, hb, hml, hown, hts⟩ (mt_AL_add2_grow l Γ _ a (m + 1) x.1 n x.2.1 x.2.2 e E (by omega) (by omega) (by omega) (by first | exact he | omega) (al_el hal hel)) (lw_V q477 q479 qs1 q66 q480) rfl rfl 3 (by decide +kernel) ⟨(Nat.le_of_ble_eq_true rfl), (Nat.le_of_ble_eq_true rfl)⟩ (c_pre hP hD hS hA hK hE [0, 1] rfl rfl (ro_pass (ro_sel (ro2 := [E]) hRo [0] rfl) hD hS hA [0, 1] rfl)) (recv_at (q := (RJ2, TJ2, 3)) hK (b_at (k := 0) hP rfl) rfl) rfl hl.1 rfl (Nat.le_of_ble_eq_true rfl) dJ2_add_20 ⟨(Nat.le_of_ble_eq_true rfl), (Nat.le_of_ble_eq_true rfl)⟩) hP hD hS hA [0, 1] [] rfl rfl rfl (fun u_3 H locs hw_3 hP hD hS _ => ?_)
      obtain ⟨w_3, rfl⟩ := hw_3
      have hP : WP Γ [[(a, .inr (11, [.int (m + 1), .ref w_3, .int (nI (n + 1))]))], [(w_3, .inl (Γ.2.1 2, (glN x.2.1 (n + 1)), .inr (.inr (.inr (.inr (va_up (va_cpy x.2.2 (fun _ => none) 0 0 x.2.1) n (some e)))))))]] H := hP
      have hD : WD A [[(a, .inr (11, [.int (m + 1), .ref w_3, .int (nI (n + 1))]))], [(w_3, .inl (Γ.2.1 2, (glN x.2.1 (n + 1)), .inr (.inr (.inr (.inr (va_up (va_cpy x.2.2 (fun _ => none) 0 0 x.2.1) n (some e)))))))]] := hD
      refine lv_iconst (v := 1) hx hb dJ2_add_23 (by decide) ?_
      have hgl := glN_b (cap := x.2.1) (q := n + 1) (by omega) (by omega)
      rw [show [(w_3, .inl (Γ.2.1 2, (glN x.2.1 (n + 1)), .inr (.inr (.inr (.inr (va_up (va_cpy x.2.2 (fun _ => none) 0 0 x.2.1) n (some e)))))))] = alA Γ (w_3, (glN x.2.1 (n + 1)), (va_up (va_cpy x.2.2 (fun _ => none) 0 0 x.2.1) n (some e))) from (alA_1 (x := (w_3, (glN x.2.1 (n + 1)), (va_up (va_cpy x.2.2 (fun _ => none) 0 0 x.2.1) n (some e)))) (by dsimp only; omega)).symm] at hP hD
      have hP : WP Γ [[(a, .inr (11, [.int (m + 1), .ref w_3, .int (nI (n + 1))]))], (alA Γ (w_3, (glN x.2.1 (n + 1)), (va_up (va_cpy x.2.2 (fun _ => none) 0 0 x.2.1) n (some e))))] H := hP
      have hD : WD A [[(a, .inr (11, [.int (m + 1), .ref w_3, .int (nI (n + 1))]))], (alA Γ (w_3, (glN x.2.1 (n + 1)), (va_up (va_cpy x.2.2 (fun _ => none) 0 0 x.2.1) n (some e))))] := hD
      exact b_zret hx hb hr hlocks hP hD hS (Nat.le_of_ble_eq_true rfl) (Nat.le_of_ble_eq_true rfl) rfl ⟨(w_3, (glN x.2.1 (n + 1)), (va_up (va_cpy x.2.2 (fun _ => none) 0 0 x.2.1) n (some e))), (alI_push (alI_grow (v2 := w_3) (cap2 := glN x.2.1 (n + 1)) (v := x.1) (cap := x.2.1) (f := x.2.2) hal hgl.2.2.2 hgl.2.1 hgl.2.2.1) (by omega)), (by first | with_reducible rfl | (simp [hcap, hfit]; done) | rfl), rfl⟩ dJ2_add_24
set_option maxHeartbeats 4000000 in
set_option maxRecDepth 100000 in
theorem mt_AL_rangeAdd (l : Launch) (Γ : GE) (sz : Nat) (a : Nat) (m : Int32) (v : Nat) (n : Nat) (i : Nat) (hi : i ≤ n) (hn : n ≤ 100) : KM l yJ2_rangeCheckForAdd cJ2_rangeCheckForAdd 2 none Γ 0 0 0 0 [.ref a, .int (nI i)] [[(a, .inr (11, [.int m, .ref v, .int (nI n)]))]] [] sz (Qv Γ (fun u_ => u_ = [[(a, .inr (11, [.int m, .ref v, .int (nI n)]))]])) := by
  refine K_intro (by decide) (Nat.le_of_ble_eq_true rfl) ?_
  intro pr_ ev_ s mi_ below meth cd_ A ls hx hb hr hml hown hts hlocks hname hK hE hRo hP hD hA hS hsz hl
  have hl : lv_has ls 2 [(0, .ref a), (1, .int (nI i))] := hl
  have hown : s.vm.findClass RJ2 = some mi_.cls := hown
  refine lv_iload_n hx hb dJ2_rangeCheckForAdd_0 rfl (lv_at hl 1 rfl) ?_
  refine lv_aload_n hx hb dJ2_rangeCheckForAdd_1 rfl (lv_at hl 0 rfl) ?_
  refine b_get (C := RJ2) (T := TJ2) (N := 3) (v := .int (nI n)) hx hb hts in_J2 hown hK (b_at (k := 0) hP rfl) rfl 2 (by decide) q134 (fun _ h9 => h9) rfl dJ2_rangeCheckForAdd_2 ?_
  refine lv_icmp_gt (tgt := 12) hx hb dJ2_rangeCheckForAdd_5 (by decide) (fun c_1 => ?_) (fun c_1 => ?_)
  · -- 5 taken
    have n_1 : n < i := (nI_ltI (by omega) (by omega)).mp (show nI n < nI i from c_1)
    exfalso; omega
  · -- 5 not taken
    have n_1 : ¬ (n < i) := fun h => c_1 ((nI_ltI (a := n) (b := i) (by omega) (by omega)).mpr h)
    refine lv_iload_n hx hb dJ2_rangeCheckForAdd_8 rfl (lv_at hl 1 rfl) ?_
    refine lv_if_ge (tgt := 25) hx hb dJ2_rangeCheckForAdd_9 (by decide) (fun c_2 => ?_) (fun c_2 => ?_)
    · -- 9 taken
      have n_2 : 0 ≤ i := (nI_leI (by omega) (by omega)).mp (show nI 0 ≤ nI i from c_2)
      have m_2 : ¬ (i < 0) := by omega
      have d_2 := Int32.not_lt.mpr c_2
      exact b_vret hx hb hr hlocks hP hD hS (Nat.le_of_ble_eq_true rfl) (Nat.le_of_ble_eq_true rfl) (by first | with_reducible rfl | (simp [n_1, c_1, n_2, m_2, d_2]; done) | rfl) dJ2_rangeCheckForAdd_25
    · -- 9 not taken
      have n_2 : ¬ (0 ≤ i) := fun h => c_2 ((nI_leI (a := 0) (b := i) (by omega) (by omega)).mpr h)
      have m_2 : i < 0 := by omega
      have d_2 := Int32.not_le.mp c_2
      exfalso; omega
set_option maxHeartbeats 4000000 in
set_option maxRecDepth 100000 in
theorem mt_AL_addAt (l : Launch) (Γ : GE) (sz : Nat) (a : Nat) (m : Int32) (x : LST) (n : Nat) (c : Nat → Nat) (i : Nat) (e : Nat) (E : va_W) (hal : alI Γ x n c) (hi : i ≤ n) (hn64 : n ≤ 62) (hel : elIn E n c) (he : inE E e) : KM l yJ2_add_3 cJ2_add_3 5 none Γ 5 147 1 100 [.ref a, .int (nI i), .ref e] [[(a, .inr (11, [.int m, .ref x.1, .int (nI n)]))], (alA Γ x)] [E] sz (Qv Γ (fun u_ => ∃ y : LST, alI Γ y (n + 1) (insN c i e) ∧ u_ = [[(a, .inr (11, [.int (m + 1), .ref y.1, .int (nI (n + 1))]))], (alA Γ y)])) := by
  refine K_intro (by decide) (Nat.le_of_ble_eq_true rfl) ?_
  intro pr_ ev_ s mi_ below meth cd_ A ls hx hb hr hml hown hts hlocks hname hK hE hRo hP hD hA hS hsz hl
  have hl : lv_has ls 5 [(0, .ref a), (1, .int (nI i)), (2, .ref e)] := hl
  have hown : s.vm.findClass RJ2 = some mi_.cls := hown
  by_cases hcap : x.2.1 = 0
  ·
    have hln := alI_n hal
    have hv0 := hal.2.2.1 hcap
    rw [alA_0 hcap] at hP hD
    have hP : WP Γ [[(a, .inr (11, [.int m, .ref x.1, .int (nI n)]))]] s.heap := bP_sel hP [0] rfl
    have hD : WD A [[(a, .inr (11, [.int m, .ref x.1, .int (nI n)]))]] := bD_sel hD [0] rfl rfl
    rw [hv0] at hP hD
    have hP : WP Γ [[(a, .inr (11, [.int m, .ref (Γ.2.2 0), .int (nI n)]))]] s.heap := hP
    have hD : WD A [[(a, .inr (11, [.int m, .ref (Γ.2.2 0), .int (nI n)]))]] := hD
    refine lv_aload_n hx hb dJ2_add_3_0 rfl (lv_at hl 0 rfl) ?_
    refine lv_iload_n hx hb dJ2_add_3_1 rfl (lv_at hl 1 rfl) ?_
    refine b_callv (br := []) (b_runV ⟨hx, hb, hml, hown, hts⟩ (mt_AL_rangeAdd l Γ _ a m (Γ.2.2 0) n i (by first | exact hi | omega) (by omega)) (lw_V q1139 q1141 qs11 q66 q1142) rfl rfl 1 (by decide +kernel) ⟨(Nat.le_of_ble_eq_true rfl), (Nat.le_of_ble_eq_true rfl)⟩ (c_pre hP hD hS hA hK hE [0] rfl rfl ro_nil) (recv_at (q := (RJ2, TJ2, 3)) hK (b_at (k := 0) hP rfl) rfl) rfl hl.1 rfl (Nat.le_of_ble_eq_true rfl) dJ2_add_3_2 ⟨(Nat.le_of_ble_eq_true rfl), (Nat.le_of_ble_eq_true rfl)⟩) hP hD hS hA [0] [] rfl rfl rfl (fun u_1 H locs hw_1 hP hD hS _ => ?_)
    obtain rfl := hw_1
    have hP : WP Γ [[(a, .inr (11, [.int m, .ref (Γ.2.2 0), .int (nI n)]))]] H := hP
    have hD : WD A [[(a, .inr (11, [.int m, .ref (Γ.2.2 0), .int (nI n)]))]] := hD
    refine lv_aload_n hx hb dJ2_add_3_5 rfl (lv_at hl 0 rfl) ?_
    refine lv_dup hx hb dJ2_add_3_6 rfl ?_
    refine b_get (C := RJ2) (T := TJ2) (N := 3) (v := .int m) hx hb hts in_J2 hown hK (b_at (k := 0) hP rfl) rfl 0 (by decide) q138 (u_same (hts _ q137)) rfl dJ2_add_3_7 ?_
    refine lv_iconst (v := 1) hx hb dJ2_add_3_10 (by decide) ?_
    refine lv_iadd hx hb dJ2_add_3_11 ?_
    refine b_put (C := RJ2) (T := TJ2) (N := 3) (ty := .int) (v := .int (m + 1)) hx hb hts in_J2 tyJ2_ok nmJ2 hown hK hP hD hS 0 rfl rfl 0 (by decide) q138 (u_same (hts _ q137)) rfl (by decide +kernel) rfl rfl (Nat.le_of_ble_eq_true rfl) dJ2_add_3_12 (fun H locs hP hD hS => ?_)
    have hP : WP Γ [[(a, .inr (11, [.int (m + 1), .ref (Γ.2.2 0), .int (nI n)]))]] H := hP
    have hD : WD A [[(a, .inr (11, [.int (m + 1), .ref (Γ.2.2 0), .int (nI n)]))]] := hD
    refine lv_aload_n hx hb dJ2_add_3_15 rfl (lv_at hl 0 rfl) ?_
    refine b_get (C := RJ2) (T := TJ2) (N := 3) (v := .int (nI n)) hx hb hts in_J2 hown hK (b_at (k := 0) hP rfl) rfl 2 (by decide) q134 (fun _ h9 => h9) rfl dJ2_add_3_16 ?_
    refine lv_dup hx hb dJ2_add_3_19 rfl ?_
    refine lv_istore_n (lv' := [(3, .int (nI n)), (0, .ref a), (1, .int (nI i)), (2, .ref e)]) hx hb dJ2_add_3_20 rfl hl (by decide) rfl (fun ls hl => ?_)
    refine lv_aload_n hx hb dJ2_add_3_21 rfl (lv_at hl 1 rfl) ?_
    refine b_get (C := RJ2) (T := TJ2) (N := 3) (v := .ref (Γ.2.2 0)) hx hb hts in_J2 hown hK (b_at (k := 0) hP rfl) rfl 1 (by decide) q131 (fun _ h9 => h9) rfl dJ2_add_3_22 ?_
    refine lv_dup hx hb dJ2_add_3_25 rfl ?_
    refine lv_astore (lv' := [(4, .ref (Γ.2.2 0)), (3, .int (nI n)), (0, .ref a), (1, .int (nI i)), (2, .ref e)]) hx hb dJ2_add_3_26 hl (by decide) rfl (fun ls hl => ?_)
    refine va_tlen hx hb hE.2.1.1.2.1 hS (v := nI 0) rfl dJ2_add_3_28 ?_
    have hn0 : n = 0 := by omega
    refine lv_icmp_ne (tgt := 38) hx hb dJ2_add_3_29 (by decide) (fun c_2 => ?_) (fun c_2 => ?_)
    · -- 29 taken
      have n_2 : ¬ (n = 0) := fun h => c_2 ((nI_eq (a := n) (b := 0) (by omega) (by omega)).mpr h)
      exfalso; omega
    · -- 29 not taken
      have n_2 : n = 0 := (nI_eq (by omega) (by omega)).mp (show nI n = nI 0 from c_2)
      refine lv_aload_n hx hb dJ2_add_3_32 rfl (lv_at hl 2 rfl) ?_
      refine b_callq (br := []) (b_runV ⟨hx, hb, hml, hown, hts⟩ (mt_AL_grow_e l Γ _ a (m + 1) n (by omega)) (lw_V q481 q483 qs2 q66 q484) rfl rfl 0 (by decide +kernel) ⟨(Nat.le_of_ble_eq_true rfl), (Nat.le_of_ble_eq_true rfl)⟩ (c_pre hP hD hS hA hK hE [0] rfl rfl ro_nil) (recv_at (q := (RJ2, TJ2, 3)) hK (b_at (k := 0) hP rfl) rfl) rfl hl.1 rfl (Nat.le_of_ble_eq_true rfl) dJ2_add_3_33 ⟨(Nat.le_of_ble_eq_true rfl), (Nat.le_of_ble_eq_true rfl)⟩) hP hD hS hA [0] [] rfl rfl rfl (fun r_3 u_3 H locs hw_3 hP hD hS _ => ?_)
      obtain ⟨w_3, rfl, rfl⟩ := hw_3
      have hP : WP Γ [[(a, .inr (11, [.int (m + 1), .ref w_3, .int (nI n)]))], [(w_3, .inl (Γ.2.1 2, (mxN 10 (n + 1)), .inr (.inr (.inr (.inr (fun _ => none))))))]] H := hP
      have hD : WD A [[(a, .inr (11, [.int (m + 1), .ref w_3, .int (nI n)]))], [(w_3, .inl (Γ.2.1 2, (mxN 10 (n + 1)), .inr (.inr (.inr (.inr (fun _ => none))))))]] := hD
      refine W.eq (g2 := F0 mi_ 36 ls ([.ref w_3])) rfl ?_
      refine lv_astore (lv' := [(4, .ref w_3), (3, .int (nI n)), (0, .ref a), (1, .int (nI i)), (2, .ref e)]) hx hb dJ2_add_3_36 hl (by decide) rfl (fun ls hl => ?_)
      have hmx : mxN 10 (n + 1) ≤ 100 ∧ 10 ≤ mxN 10 (n + 1) := by unfold mxN; split <;> omega
      have hal9 : alI Γ (w_3, mxN 10 (n + 1), fun _ => none) n c := (by have h9 := alI_new (Γ := Γ) (v := w_3) (cap := mxN 10 (n + 1)) (c := c) hmx.1 (by omega); rw [hn0]; rw [hn0] at h9; exact h9)
      refine lv_aload hx hb dJ2_add_3_38 (lv_at hl 0 rfl) ?_
      refine lv_iload_n hx hb dJ2_add_3_40 rfl (lv_at hl 3 rfl) ?_
      refine lv_aload hx hb dJ2_add_3_41 (lv_at hl 0 rfl) ?_
      refine lv_iload_n hx hb dJ2_add_3_43 rfl (lv_at hl 3 rfl) ?_
      refine lv_iconst (v := 1) hx hb dJ2_add_3_44 (by decide) ?_
      refine lv_iadd hx hb dJ2_add_3_45 ?_
      refine b_top (nI_addE (a := i) (b := 1) (c := i + 1) rfl rfl (by first | omega | rfl)) ?_
      refine lv_iload_n hx hb dJ2_add_3_46 rfl (lv_at hl 1 rfl) ?_
      refine lv_iload_n hx hb dJ2_add_3_47 rfl (lv_at hl 3 rfl) ?_
      refine lv_isub hx hb dJ2_add_3_48 ?_
      refine b_top (nI_subE (a := n) (b := i) (c := (n - i)) rfl rfl (by first | omega | rfl)) ?_
      refine b_copyq hx hb hts (hml.trans hl.1.symm) hown q791 q541 q540 q85 hK hP hD hS 1 1 rfl rfl i (i + 1) (n - i) rfl rfl rfl (by omega) (by omega) (by omega) (by omega) (fun j _ y hy => el_any hK hE hRo hS (al_el hal9 hel (i + j) y hy)) (Nat.le_of_ble_eq_true rfl) (Nat.le_of_ble_eq_true rfl) dJ2_add_3_49 (fun H locs hP hD hS => ?_)
      have hP : WP Γ [[(a, .inr (11, [.int (m + 1), .ref w_3, .int (nI n)]))], [(w_3, .inl (Γ.2.1 2, (mxN 10 (n + 1)), .inr (.inr (.inr (.inr (va_cpy (fun _ => none) (fun _ => none) i (i + 1) (n - i)))))))]] H := hP
      have hD : WD A [[(a, .inr (11, [.int (m + 1), .ref w_3, .int (nI n)]))], [(w_3, .inl (Γ.2.1 2, (mxN 10 (n + 1)), .inr (.inr (.inr (.inr (va_cpy (fun _ => none) (fun _ => none) i (i + 1) (n - i)))))))]] := hD
      refine lv_aload hx hb dJ2_add_3_52 (lv_at hl 0 rfl) ?_
      refine lv_iload_n hx hb dJ2_add_3_54 rfl (lv_at hl 3 rfl) ?_
      refine lv_aload_n hx hb dJ2_add_3_55 rfl (lv_at hl 4 rfl) ?_
      refine b_aast hx hb hK hP hD hS 1 rfl (el_any hK hE hRo hS he) i rfl (by omega) (by omega) dJ2_add_3_56 (fun H locs hP hD hS => ?_)
      have hP : WP Γ [[(a, .inr (11, [.int (m + 1), .ref w_3, .int (nI n)]))], [(w_3, .inl (Γ.2.1 2, (mxN 10 (n + 1)), .inr (.inr (.inr (.inr (va_up (va_cpy (fun _ => none) (fun _ => none) i (i + 1) (n - i)) i (some e)))))))]] H := hP
      have hD : WD A [[(a, .inr (11, [.int (m + 1), .ref w_3, .int (nI n)]))], [(w_3, .inl (Γ.2.1 2, (mxN 10 (n + 1)), .inr (.inr (.inr (.inr (va_up (va_cpy (fun _ => none) (fun _ => none) i (i + 1) (n - i)) i (some e)))))))]] := hD
      refine lv_aload_n hx hb dJ2_add_3_57 rfl (lv_at hl 2 rfl) ?_
      refine lv_iload_n hx hb dJ2_add_3_58 rfl (lv_at hl 1 rfl) ?_
      refine lv_iconst (v := 1) hx hb dJ2_add_3_59 (by decide) ?_
      refine lv_iadd hx hb dJ2_add_3_60 ?_
      refine b_top (nI_addE (a := n) (b := 1) (c := n + 1) rfl rfl (by first | omega | rfl)) ?_
      refine b_put (C := RJ2) (T := TJ2) (N := 3) (ty := .int) (v := .int (nI (n + 1))) hx hb hts in_J2 tyJ2_ok nmJ2 hown hK hP hD hS 0 rfl rfl 2 (by decide) q134 (fun _ h9 => h9) rfl (by decide +kernel) rfl rfl (Nat.le_of_ble_eq_true rfl) dJ2_add_3_61 (fun H locs hP hD hS => ?_)
      have hP : WP Γ [[(a, .inr (11, [.int (m + 1), .ref w_3, .int (nI (n + 1))]))], [(w_3, .inl (Γ.2.1 2, (mxN 10 (n + 1)), .inr (.inr (.inr (.inr (va_up (va_cpy (fun _ => none) (fun _ => none) i (i + 1) (n - i)) i (some e)))))))]] H := hP
      have hD : WD A [[(a, .inr (11, [.int (m + 1), .ref w_3, .int (nI (n + 1))]))], [(w_3, .inl (Γ.2.1 2, (mxN 10 (n + 1)), .inr (.inr (.inr (.inr (va_up (va_cpy (fun _ => none) (fun _ => none) i (i + 1) (n - i)) i (some e)))))))]] := hD
      rw [show [(w_3, .inl (Γ.2.1 2, (mxN 10 (n + 1)), .inr (.inr (.inr (.inr (va_up (va_cpy (fun _ => none) (fun _ => none) i (i + 1) (n - i)) i (some e)))))))] = alA Γ (w_3, (mxN 10 (n + 1)), (va_up (va_cpy (fun _ => none) (fun _ => none) i (i + 1) (n - i)) i (some e))) from (alA_1 (x := (w_3, (mxN 10 (n + 1)), (va_up (va_cpy (fun _ => none) (fun _ => none) i (i + 1) (n - i)) i (some e)))) (by dsimp only; omega)).symm] at hP hD
      have hP : WP Γ [[(a, .inr (11, [.int (m + 1), .ref w_3, .int (nI (n + 1))]))], (alA Γ (w_3, (mxN 10 (n + 1)), (va_up (va_cpy (fun _ => none) (fun _ => none) i (i + 1) (n - i)) i (some e))))] H := hP
      have hD : WD A [[(a, .inr (11, [.int (m + 1), .ref w_3, .int (nI (n + 1))]))], (alA Γ (w_3, (mxN 10 (n + 1)), (va_up (va_cpy (fun _ => none) (fun _ => none) i (i + 1) (n - i)) i (some e))))] := hD
      exact b_vret hx hb hr hlocks hP hD hS (Nat.le_of_ble_eq_true rfl) (Nat.le_of_ble_eq_true rfl) ⟨(w_3, (mxN 10 (n + 1)), (va_up (va_cpy (fun _ => none) (fun _ => none) i (i + 1) (n - i)) i (some e))), (alI_ins hal9 (by omega) hi), rfl⟩ dJ2_add_3_64
  ·
    have hln := alI_n hal
    rw [alA_1 hcap] at hP hD
    have hP : WP Γ [[(a, .inr (11, [.int m, .ref x.1, .int (nI n)]))], [(x.1, .inl (Γ.2.1 2, x.2.1, .inr (.inr (.inr (.inr x.2.2)))))]] s.heap := hP
    have hD : WD A [[(a, .inr (11, [.int m, .ref x.1, .int (nI n)]))], [(x.1, .inl (Γ.2.1 2, x.2.1, .inr (.inr (.inr (.inr x.2.2)))))]] := hD
    refine lv_aload_n hx hb dJ2_add_3_0 rfl (lv_at hl 0 rfl) ?_
    refine lv_iload_n hx hb dJ2_add_3_1 rfl (lv_at hl 1 rfl) ?_
    refine b_callv (br := [[(x.1, .inl (Γ.2.1 2, x.2.1, .inr (.inr (.inr (.inr x.2.2)))))]]) (b_runV ⟨hx, hb, hml, hown, hts⟩ (mt_AL_rangeAdd l Γ _ a m x.1 n i (by first | exact hi | omega) (by omega)) (lw_V q1139 q1141 qs11 q66 q1142) rfl rfl 1 (by decide +kernel) ⟨(Nat.le_of_ble_eq_true rfl), (Nat.le_of_ble_eq_true rfl)⟩ (c_pre hP hD hS hA hK hE [0] rfl rfl ro_nil) (recv_at (q := (RJ2, TJ2, 3)) hK (b_at (k := 0) hP rfl) rfl) rfl hl.1 rfl (Nat.le_of_ble_eq_true rfl) dJ2_add_3_2 ⟨(Nat.le_of_ble_eq_true rfl), (Nat.le_of_ble_eq_true rfl)⟩) hP hD hS hA [0] [1] rfl rfl rfl (fun u_4 H locs hw_4 hP hD hS _ => ?_)
    obtain rfl := hw_4
    have hP : WP Γ [[(a, .inr (11, [.int m, .ref x.1, .int (nI n)]))], [(x.1, .inl (Γ.2.1 2, x.2.1, .inr (.inr (.inr (.inr x.2.2)))))]] H := hP
    have hD : WD A [[(a, .inr (11, [.int m, .ref x.1, .int (nI n)]))], [(x.1, .inl (Γ.2.1 2, x.2.1, .inr (.inr (.inr (.inr x.2.2)))))]] := hD
    refine lv_aload_n hx hb dJ2_add_3_5 rfl (lv_at hl 0 rfl) ?_
    refine lv_dup hx hb dJ2_add_3_6 rfl ?_
    refine b_get (C := RJ2) (T := TJ2) (N := 3) (v := .int m) hx hb hts in_J2 hown hK (b_at (k := 0) hP rfl) rfl 0 (by decide) q138 (u_same (hts _ q137)) rfl dJ2_add_3_7 ?_
    refine lv_iconst (v := 1) hx hb dJ2_add_3_10 (by decide) ?_
    refine lv_iadd hx hb dJ2_add_3_11 ?_
    refine b_put (C := RJ2) (T := TJ2) (N := 3) (ty := .int) (v := .int (m + 1)) hx hb hts in_J2 tyJ2_ok nmJ2 hown hK hP hD hS 0 rfl rfl 0 (by decide) q138 (u_same (hts _ q137)) rfl (by decide +kernel) rfl rfl (Nat.le_of_ble_eq_true rfl) dJ2_add_3_12 (fun H locs hP hD hS => ?_)
    have hP : WP Γ [[(a, .inr (11, [.int (m + 1), .ref x.1, .int (nI n)]))], [(x.1, .inl (Γ.2.1 2, x.2.1, .inr (.inr (.inr (.inr x.2.2)))))]] H := hP
    have hD : WD A [[(a, .inr (11, [.int (m + 1), .ref x.1, .int (nI n)]))], [(x.1, .inl (Γ.2.1 2, x.2.1, .inr (.inr (.inr (.inr x.2.2)))))]] := hD
    refine lv_aload_n hx hb dJ2_add_3_15 rfl (lv_at hl 0 rfl) ?_
    refine b_get (C := RJ2) (T := TJ2) (N := 3) (v := .int (nI n)) hx hb hts in_J2 hown hK (b_at (k := 0) hP rfl) rfl 2 (by decide) q134 (fun _ h9 => h9) rfl dJ2_add_3_16 ?_
    refine lv_dup hx hb dJ2_add_3_19 rfl ?_
    refine lv_istore_n (lv' := [(3, .int (nI n)), (0, .ref a), (1, .int (nI i)), (2, .ref e)]) hx hb dJ2_add_3_20 rfl hl (by decide) rfl (fun ls hl => ?_)
    refine lv_aload_n hx hb dJ2_add_3_21 rfl (lv_at hl 1 rfl) ?_
    refine b_get (C := RJ2) (T := TJ2) (N := 3) (v := .ref x.1) hx hb hts in_J2 hown hK (b_at (k := 0) hP rfl) rfl 1 (by decide) q131 (fun _ h9 => h9) rfl dJ2_add_3_22 ?_
    refine lv_dup hx hb dJ2_add_3_25 rfl ?_
    refine lv_astore (lv' := [(4, .ref x.1), (3, .int (nI n)), (0, .ref a), (1, .int (nI i)), (2, .ref e)]) hx hb dJ2_add_3_26 hl (by decide) rfl (fun ls hl => ?_)
    refine b_alen hx hb hK 2 (b_at (k := 1) hP rfl) rfl dJ2_add_3_28 ?_
    refine lv_icmp_ne (tgt := 38) hx hb dJ2_add_3_29 (by decide) (fun c_5 => ?_) (fun c_5 => ?_)
    · -- 29 taken
      have n_5 : ¬ (n = x.2.1) := fun h => c_5 ((nI_eq (a := n) (b := x.2.1) (by omega) (by omega)).mpr h)
      have hal9 : alI Γ (x.1, x.2.1, x.2.2) n c := hal
      refine lv_aload hx hb dJ2_add_3_38 (lv_at hl 0 rfl) ?_
      refine lv_iload_n hx hb dJ2_add_3_40 rfl (lv_at hl 3 rfl) ?_
      refine lv_aload hx hb dJ2_add_3_41 (lv_at hl 0 rfl) ?_
      refine lv_iload_n hx hb dJ2_add_3_43 rfl (lv_at hl 3 rfl) ?_
      refine lv_iconst (v := 1) hx hb dJ2_add_3_44 (by decide) ?_
      refine lv_iadd hx hb dJ2_add_3_45 ?_
      refine b_top (nI_addE (a := i) (b := 1) (c := i + 1) rfl rfl (by first | omega | rfl)) ?_
      refine lv_iload_n hx hb dJ2_add_3_46 rfl (lv_at hl 1 rfl) ?_
      refine lv_iload_n hx hb dJ2_add_3_47 rfl (lv_at hl 3 rfl) ?_
      refine lv_isub hx hb dJ2_add_3_48 ?_
      refine b_top (nI_subE (a := n) (b := i) (c := (n - i)) rfl rfl (by first | omega | rfl)) ?_
      refine b_copyq hx hb hts (hml.trans hl.1.symm) hown q791 q541 q540 q85 hK hP hD hS 1 1 rfl rfl i (i + 1) (n - i) rfl rfl rfl (by omega) (by omega) (by omega) (by omega) (fun j _ y hy => el_any hK hE hRo hS (al_el hal9 hel (i + j) y hy)) (Nat.le_of_ble_eq_true rfl) (Nat.le_of_ble_eq_true rfl) dJ2_add_3_49 (fun H locs hP hD hS => ?_)
      have hP : WP Γ [[(a, .inr (11, [.int (m + 1), .ref x.1, .int (nI n)]))], [(x.1, .inl (Γ.2.1 2, x.2.1, .inr (.inr (.inr (.inr (va_cpy x.2.2 x.2.2 i (i + 1) (n - i)))))))]] H := hP
      have hD : WD A [[(a, .inr (11, [.int (m + 1), .ref x.1, .int (nI n)]))], [(x.1, .inl (Γ.2.1 2, x.2.1, .inr (.inr (.inr (.inr (va_cpy x.2.2 x.2.2 i (i + 1) (n - i)))))))]] := hD
      refine lv_aload hx hb dJ2_add_3_52 (lv_at hl 0 rfl) ?_
      refine lv_iload_n hx hb dJ2_add_3_54 rfl (lv_at hl 3 rfl) ?_
      refine lv_aload_n hx hb dJ2_add_3_55 rfl (lv_at hl 4 rfl) ?_
      refine b_aast hx hb hK hP hD hS 1 rfl (el_any hK hE hRo hS he) i rfl (by omega) (by omega) dJ2_add_3_56 (fun H locs hP hD hS => ?_)
      have hP : WP Γ [[(a, .inr (11, [.int (m + 1), .ref x.1, .int (nI n)]))], [(x.1, .inl (Γ.2.1 2, x.2.1, .inr (.inr (.inr (.inr (va_up (va_cpy x.2.2 x.2.2 i (i + 1) (n - i)) i (some e)))))))]] H := hP
      have hD : WD A [[(a, .inr (11, [.int (m + 1), .ref x.1, .int (nI n)]))], [(x.1, .inl (Γ.2.1 2, x.2.1, .inr (.inr (.inr (.inr (va_up (va_cpy x.2.2 x.2.2 i (i + 1) (n - i)) i (some e)))))))]] := hD
      refine lv_aload_n hx hb dJ2_add_3_57 rfl (lv_at hl 2 rfl) ?_
      refine lv_iload_n hx hb dJ2_add_3_58 rfl (lv_at hl 1 rfl) ?_
      refine lv_iconst (v := 1) hx hb dJ2_add_3_59 (by decide) ?_
      refine lv_iadd hx hb dJ2_add_3_60 ?_
      refine b_top (nI_addE (a := n) (b := 1) (c := n + 1) rfl rfl (by first | omega | rfl)) ?_
      refine b_put (C := RJ2) (T := TJ2) (N := 3) (ty := .int) (v := .int (nI (n + 1))) hx hb hts in_J2 tyJ2_ok nmJ2 hown hK hP hD hS 0 rfl rfl 2 (by decide) q134 (fun _ h9 => h9) rfl (by decide +kernel) rfl rfl (Nat.le_of_ble_eq_true rfl) dJ2_add_3_61 (fun H locs hP hD hS => ?_)
      have hP : WP Γ [[(a, .inr (11, [.int (m + 1), .ref x.1, .int (nI (n + 1))]))], [(x.1, .inl (Γ.2.1 2, x.2.1, .inr (.inr (.inr (.inr (va_up (va_cpy x.2.2 x.2.2 i (i + 1) (n - i)) i (some e)))))))]] H := hP
      have hD : WD A [[(a, .inr (11, [.int (m + 1), .ref x.1, .int (nI (n + 1))]))], [(x.1, .inl (Γ.2.1 2, x.2.1, .inr (.inr (.inr (.inr (va_up (va_cpy x.2.2 x.2.2 i (i + 1) (n - i)) i (some e)))))))]] := hD
      rw [show [(x.1, .inl (Γ.2.1 2, x.2.1, .inr (.inr (.inr (.inr (va_up (va_cpy x.2.2 x.2.2 i (i + 1) (n - i)) i (some e)))))))] = alA Γ (x.1, x.2.1, (va_up (va_cpy x.2.2 x.2.2 i (i + 1) (n - i)) i (some e))) from (alA_1 (x := (x.1, x.2.1, (va_up (va_cpy x.2.2 x.2.2 i (i + 1) (n - i)) i (some e)))) (by dsimp only; omega)).symm] at hP hD
      have hP : WP Γ [[(a, .inr (11, [.int (m + 1), .ref x.1, .int (nI (n + 1))]))], (alA Γ (x.1, x.2.1, (va_up (va_cpy x.2.2 x.2.2 i (i + 1) (n - i)) i (some e))))] H := hP
      have hD : WD A [[(a, .inr (11, [.int (m + 1), .ref x.1, .int (nI (n + 1))]))], (alA Γ (x.1, x.2.1, (va_up (va_cpy x.2.2 x.2.2 i (i + 1) (n - i)) i (some e))))] := hD
      exact b_vret hx hb hr hlocks hP hD hS (Nat.le_of_ble_eq_true rfl) (Nat.le_of_ble_eq_true rfl) ⟨(x.1, x.2.1, (va_up (va_cpy x.2.2 x.2.2 i (i + 1) (n - i)) i (some e))), (alI_ins hal9 (by omega) hi), rfl⟩ dJ2_add_3_64
    · -- 29 not taken
      have n_5 : n = x.2.1 := (nI_eq (by omega) (by omega)).mp (show nI n = nI x.2.1 from c_5)
      have hgl := glN_b (cap := x.2.1) (q := n + 1) (by omega) (by omega)
      refine lv_aload_n hx hb dJ2_add_3_32 rfl (lv_at hl 2 rfl) ?_
      refine b_callq (br := []) (b_runV ⟨hx, hb, hml, hown, hts⟩ (mt_AL_grow l Γ _ a (m + 1) x.1 n x.2.1 x.2.2 E (by omega) (by omega) (by omega) (al_el hal hel)) (lw_V q481 q483 qs2 q66 q484) rfl rfl 0 (by decide +kernel) ⟨(Nat.le_of_ble_eq_true rfl), (Nat.le_of_ble_eq_true rfl)⟩ (c_pre hP hD hS hA hK hE [0, 1] rfl rfl (ro_pass (ro_sel (ro2 := [E]) hRo [0] rfl) hD hS hA [0, 1] rfl)) (recv_at (q := (RJ2, TJ2, 3)) hK (b_at (k := 0) hP rfl) rfl) rfl hl.1 rfl (Nat.le_of_ble_eq_true rfl) dJ2_add_3_33 ⟨(Nat.le_of_ble_eq_true rfl), (Nat.le_of_ble_eq_true rfl)⟩) hP hD hS hA [0, 1] [] rfl rfl rfl (fun r_6 u_6 H locs hw_6 hP hD hS _ => ?_)
      obtain ⟨w_6, rfl, rfl⟩ := hw_6
      have hP : WP Γ [[(a, .inr (11, [.int (m + 1), .ref w_6, .int (nI n)]))], [(w_6, .inl (Γ.2.1 2, (glN x.2.1 (n + 1)), .inr (.inr (.inr (.inr (va_cpy x.2.2 (fun _ => none) 0 0 x.2.1))))))]] H := hP
      have hD : WD A [[(a, .inr (11, [.int (m + 1), .ref w_6, .int (nI n)]))], [(w_6, .inl (Γ.2.1 2, (glN x.2.1 (n + 1)), .inr (.inr (.inr (.inr (va_cpy x.2.2 (fun _ => none) 0 0 x.2.1))))))]] := hD
      refine W.eq (g2 := F0 mi_ 36 ls ([.ref w_6])) rfl ?_
      refine lv_astore (lv' := [(4, .ref w_6), (3, .int (nI n)), (0, .ref a), (1, .int (nI i)), (2, .ref e)]) hx hb dJ2_add_3_36 hl (by decide) rfl (fun ls hl => ?_)
      have hal9 := alI_grow (v2 := w_6) (cap2 := glN x.2.1 (n + 1)) (v := x.1) (cap := x.2.1) (f := x.2.2) hal hgl.2.2.2 hgl.2.1 hgl.2.2.1
      refine lv_aload hx hb dJ2_add_3_38 (lv_at hl 0 rfl) ?_
      refine lv_iload_n hx hb dJ2_add_3_40 rfl (lv_at hl 3 rfl) ?_
      refine lv_aload hx hb dJ2_add_3_41 (lv_at hl 0 rfl) ?_
      refine lv_iload_n hx hb dJ2_add_3_43 rfl (lv_at hl 3 rfl) ?_
      refine lv_iconst (v := 1) hx hb dJ2_add_3_44 (by decide) ?_
      refine lv_iadd hx hb dJ2_add_3_45 ?_
      refine b_top (nI_addE (a := i) (b := 1) (c := i + 1) rfl rfl (by first | omega | rfl)) ?_
      refine lv_iload_n hx hb dJ2_add_3_46 rfl (lv_at hl 1 rfl) ?_
      refine lv_iload_n hx hb dJ2_add_3_47 rfl (lv_at hl 3 rfl) ?_
      refine lv_isub hx hb dJ2_add_3_48 ?_
      refine b_top (nI_subE (a := n) (b := i) (c := (n - i)) rfl rfl (by first | omega | rfl)) ?_
      refine b_copyq hx hb hts (hml.trans hl.1.symm) hown q791 q541 q540 q85 hK hP hD hS 1 1 rfl rfl i (i + 1) (n - i) rfl rfl rfl (by omega) (by omega) (by omega) (by omega) (fun j _ y hy => el_any hK hE hRo hS (al_el hal9 hel (i + j) y hy)) (Nat.le_of_ble_eq_true rfl) (Nat.le_of_ble_eq_true rfl) dJ2_add_3_49 (fun H locs hP hD hS => ?_)
      have hP : WP Γ [[(a, .inr (11, [.int (m + 1), .ref w_6, .int (nI n)]))], [(w_6, .inl (Γ.2.1 2, (glN x.2.1 (n + 1)), .inr (.inr (.inr (.inr (va_cpy (va_cpy x.2.2 (fun _ => none) 0 0 x.2.1) (va_cpy x.2.2 (fun _ => none) 0 0 x.2.1) i (i + 1) (n - i)))))))]] H := hP
      have hD : WD A [[(a, .inr (11, [.int (m + 1), .ref w_6, .int (nI n)]))], [(w_6, .inl (Γ.2.1 2, (glN x.2.1 (n + 1)), .inr (.inr (.inr (.inr (va_cpy (va_cpy x.2.2 (fun _ => none) 0 0 x.2.1) (va_cpy x.2.2 (fun _ => none) 0 0 x.2.1) i (i + 1) (n - i)))))))]] := hD
      refine lv_aload hx hb dJ2_add_3_52 (lv_at hl 0 rfl) ?_
      refine lv_iload_n hx hb dJ2_add_3_54 rfl (lv_at hl 3 rfl) ?_
      refine lv_aload_n hx hb dJ2_add_3_55 rfl (lv_at hl 4 rfl) ?_
      refine b_aast hx hb hK hP hD hS 1 rfl (el_any hK hE hRo hS he) i rfl (by omega) (by omega) dJ2_add_3_56 (fun H locs hP hD hS => ?_)
      have hP : WP Γ [[(a, .inr (11, [.int (m + 1), .ref w_6, .int (nI n)]))], [(w_6, .inl (Γ.2.1 2, (glN x.2.1 (n + 1)), .inr (.inr (.inr (.inr (va_up (va_cpy (va_cpy x.2.2 (fun _ => none) 0 0 x.2.1) (va_cpy x.2.2 (fun _ => none) 0 0 x.2.1) i (i + 1) (n - i)) i (some e)))))))]] H := hP
      have hD : WD A [[(a, .inr (11, [.int (m + 1), .ref w_6, .int (nI n)]))], [(w_6, .inl (Γ.2.1 2, (glN x.2.1 (n + 1)), .inr (.inr (.inr (.inr (va_up (va_cpy (va_cpy x.2.2 (fun _ => none) 0 0 x.2.1) (va_cpy x.2.2 (fun _ => none) 0 0 x.2.1) i (i + 1) (n - i)) i (some e)))))))]] := hD
      refine lv_aload_n hx hb dJ2_add_3_57 rfl (lv_at hl 2 rfl) ?_
      refine lv_iload_n hx hb dJ2_add_3_58 rfl (lv_at hl 1 rfl) ?_
      refine lv_iconst (v := 1) hx hb dJ2_add_3_59 (by decide) ?_
      refine lv_iadd hx hb dJ2_add_3_60 ?_
      refine b_top (nI_addE (a := n) (b := 1) (c := n + 1) rfl rfl (by first | omega | rfl)) ?_
      refine b_put (C := RJ2) (T := TJ2) (N := 3) (ty := .int) (v := .int (nI (n + 1))) hx hb hts in_J2 tyJ2_ok nmJ2 hown hK hP hD hS 0 rfl rfl 2 (by decide) q134 (fun _ h9 => h9) rfl (by decide +kernel) rfl rfl (Nat.le_of_ble_eq_true rfl) dJ2_add_3_61 (fun H locs hP hD hS => ?_)
      have hP : WP Γ [[(a, .inr (11, [.int (m + 1), .ref w_6, .int (nI (n + 1))]))], [(w_6, .inl (Γ.2.1 2, (glN x.2.1 (n + 1)), .inr (.inr (.inr (.inr (va_up (va_cpy (va_cpy x.2.2 (fun _ => none) 0 0 x.2.1) (va_cpy x.2.2 (fun _ => none) 0 0 x.2.1) i (i + 1) (n - i)) i (some e)))))))]] H := hP
      have hD : WD A [[(a, .inr (11, [.int (m + 1), .ref w_6, .int (nI (n + 1))]))], [(w_6, .inl (Γ.2.1 2, (glN x.2.1 (n + 1)), .inr (.inr (.inr (.inr (va_up (va_cpy (va_cpy x.2.2 (fun _ => none) 0 0 x.2.1) (va_cpy x.2.2 (fun _ => none) 0 0 x.2.1) i (i + 1) (n - i)) i (some e)))))))]] := hD
      rw [show [(w_6, .inl (Γ.2.1 2, (glN x.2.1 (n + 1)), .inr (.inr (.inr (.inr (va_up (va_cpy (va_cpy x.2.2 (fun _ => none) 0 0 x.2.1) (va_cpy x.2.2 (fun _ => none) 0 0 x.2.1) i (i + 1) (n - i)) i (some e)))))))] = alA Γ (w_6, (glN x.2.1 (n + 1)), (va_up (va_cpy (va_cpy x.2.2 (fun _ => none) 0 0 x.2.1) (va_cpy x.2.2 (fun _ => none) 0 0 x.2.1) i (i + 1) (n - i)) i (some e))) from (alA_1 (x := (w_6, (glN x.2.1 (n + 1)), (va_up (va_cpy (va_cpy x.2.2 (fun _ => none) 0 0 x.2.1) (va_cpy x.2.2 (fun _ => none) 0 0 x.2.1) i (i + 1) (n - i)) i (some e)))) (by dsimp only; omega)).symm] at hP hD
      have hP : WP Γ [[(a, .inr (11, [.int (m + 1), .ref w_6, .int (nI (n + 1))]))], (alA Γ (w_6, (glN x.2.1 (n + 1)), (va_up (va_cpy (va_cpy x.2.2 (fun _ => none) 0 0 x.2.1) (va_cpy x.2.2 (fun _ => none) 0 0 x.2.1) i (i + 1) (n - i)) i (some e))))] H := hP
      have hD : WD A [[(a, .inr (11, [.int (m + 1), .ref w_6, .int (nI (n + 1))]))], (alA Γ (w_6, (glN x.2.1 (n + 1)), (va_up (va_cpy (va_cpy x.2.2 (fun _ => none) 0 0 x.2.1) (va_cpy x.2.2 (fun _ => none) 0 0 x.2.1) i (i + 1) (n - i)) i (some e))))] := hD
      exact b_vret hx hb hr hlocks hP hD hS (Nat.le_of_ble_eq_true rfl) (Nat.le_of_ble_eq_true rfl) ⟨(w_6, (glN x.2.1 (n + 1)), (va_up (va_cpy (va_cpy x.2.2 (fun _ => none) 0 0 x.2.1) (va_cpy x.2.2 (fun _ => none) 0 0 x.2.1) i (i + 1) (n - i)) i (some e))), (alI_ins hal9 (by omega) hi), rfl⟩ dJ2_add_3_64
set_option maxHeartbeats 4000000 in
set_option maxRecDepth 100000 in
theorem mt_AL_fastRemove (l : Launch) (Γ : GE) (sz : Nat) (a : Nat) (m : Int32) (v : Nat) (n : Nat) (cap : Nat) (f : Nat → Option Nat) (E : va_W) (hn : n + 1 ≤ cap) (hc : cap ≤ 100) (hn0 : 0 < n) (hel : ∀ k y, f k = some y → inE E y) : KM l yJ2_fastRemove cJ2_fastRemove 4 none Γ 1 60 0 0 [.ref a, .ref v, .int 0] [[(a, .inr (11, [.int m, .ref v, .int (nI (n + 1))]))], [(v, .inl (Γ.2.1 2, cap, .inr (.inr (.inr (.inr f)))))]] [E] sz (Qv Γ (fun u_ => u_ = [[(a, .inr (11, [.int (m + 1), .ref v, .int (nI n)]))], [(v, .inl (Γ.2.1 2, cap, .inr (.inr (.inr (.inr (va_up (va_cpy f f 1 0 n) n none))))))]])) := by
  refine K_intro (by decide) (Nat.le_of_ble_eq_true rfl) ?_
  intro pr_ ev_ s mi_ below meth cd_ A ls hx hb hr hml hown hts hlocks hname hK hE hRo hP hD hA hS hsz hl
  have hl : lv_has ls 4 [(0, .ref a), (1, .ref v), (2, .int 0)] := hl
  have hown : s.vm.findClass RJ2 = some mi_.cls := hown
  refine lv_aload_n hx hb dJ2_fastRemove_0 rfl (lv_at hl 0 rfl) ?_
  refine lv_dup hx hb dJ2_fastRemove_1 rfl ?_
  refine b_get (C := RJ2) (T := TJ2) (N := 3) (v := .int m) hx hb hts in_J2 hown hK (b_at (k := 0) hP rfl) rfl 0 (by decide) q138 (u_same (hts _ q137)) rfl dJ2_fastRemove_2 ?_
  refine lv_iconst (v := 1) hx hb dJ2_fastRemove_5 (by decide) ?_
  refine lv_iadd hx hb dJ2_fastRemove_6 ?_
  refine b_put (C := RJ2) (T := TJ2) (N := 3) (ty := .int) (v := .int (m + 1)) hx hb hts in_J2 tyJ2_ok nmJ2 hown hK hP hD hS 0 rfl rfl 0 (by decide) q138 (u_same (hts _ q137)) rfl (by decide +kernel) rfl rfl (Nat.le_of_ble_eq_true rfl) dJ2_fastRemove_7 (fun H locs hP hD hS => ?_)
  have hP : WP Γ [[(a, .inr (11, [.int (m + 1), .ref v, .int (nI (n + 1))]))], [(v, .inl (Γ.2.1 2, cap, .inr (.inr (.inr (.inr f)))))]] H := hP
  have hD : WD A [[(a, .inr (11, [.int (m + 1), .ref v, .int (nI (n + 1))]))], [(v, .inl (Γ.2.1 2, cap, .inr (.inr (.inr (.inr f)))))]] := hD
  refine lv_aload_n hx hb dJ2_fastRemove_10 rfl (lv_at hl 0 rfl) ?_
  refine b_get (C := RJ2) (T := TJ2) (N := 3) (v := .int (nI (n + 1))) hx hb hts in_J2 hown hK (b_at (k := 0) hP rfl) rfl 2 (by decide) q134 (fun _ h9 => h9) rfl dJ2_fastRemove_11 ?_
  refine lv_iconst (v := 1) hx hb dJ2_fastRemove_14 (by decide) ?_
  refine lv_isub hx hb dJ2_fastRemove_15 ?_
  refine b_top (nI_subE (a := n + 1) (b := 1) (c := n) rfl rfl (by first | omega | rfl)) ?_
  refine lv_dup hx hb dJ2_fastRemove_16 rfl ?_
  refine lv_istore_n (lv' := [(3, .int (nI n)), (0, .ref a), (1, .ref v), (2, .int 0)]) hx hb dJ2_fastRemove_17 rfl hl (by decide) rfl (fun ls hl => ?_)
  refine lv_iload_n hx hb dJ2_fastRemove_18 rfl (lv_at hl 3 rfl) ?_
  refine lv_icmp_le (tgt := 34) hx hb dJ2_fastRemove_19 (by decide) (fun c_1 => ?_) (fun c_1 => ?_)
  · -- 19 taken
    have n_1 : n ≤ 0 := (nI_leI (by omega) (by omega)).mp (show nI n ≤ nI 0 from c_1)
    have m_1 : ¬ (0 < n) := by omega
    have d_1 := Int32.not_lt.mpr c_1
    exfalso; omega
  · -- 19 not taken
    have n_1 : ¬ (n ≤ 0) := fun h => c_1 ((nI_leI (a := n) (b := 0) (by omega) (by omega)).mpr h)
    have m_1 : 0 < n := by omega
    have d_1 := Int32.not_le.mp c_1
    refine lv_aload_n hx hb dJ2_fastRemove_22 rfl (lv_at hl 2 rfl) ?_
    refine lv_iload_n hx hb dJ2_fastRemove_23 rfl (lv_at hl 3 rfl) ?_
    refine lv_iconst (v := 1) hx hb dJ2_fastRemove_24 (by decide) ?_
    refine lv_iadd hx hb dJ2_fastRemove_25 ?_
    refine b_top (nI_addE (a := 0) (b := 1) (c := 1) rfl rfl (by first | omega | rfl)) ?_
    refine lv_aload_n hx hb dJ2_fastRemove_26 rfl (lv_at hl 2 rfl) ?_
    refine lv_iload_n hx hb dJ2_fastRemove_27 rfl (lv_at hl 3 rfl) ?_
    refine lv_iload_n hx hb dJ2_fastRemove_28 rfl (lv_at hl 0 rfl) ?_
    refine lv_iload_n hx hb dJ2_fastRemove_29 rfl (lv_at hl 3 rfl) ?_
    refine lv_isub hx hb dJ2_fastRemove_30 ?_
    refine b_top (nI_subE (a := n) (b := 0) (c := n) rfl rfl (by first | omega | rfl)) ?_
    refine b_copyq hx hb hts (hml.trans hl.1.symm) hown q791 q541 q540 q85 hK hP hD hS 1 1 rfl rfl 1 0 n rfl rfl rfl (by omega) (by omega) (by omega) (by omega) (fun i _ y hy => el_any hK hE hRo hS (hel _ y hy)) (Nat.le_of_ble_eq_true rfl) (Nat.le_of_ble_eq_true rfl) dJ2_fastRemove_31 (fun H locs hP hD hS => ?_)
    have hP : WP Γ [[(a, .inr (11, [.int (m + 1), .ref v, .int (nI (n + 1))]))], [(v, .inl (Γ.2.1 2, cap, .inr (.inr (.inr (.inr (va_cpy f f 1 0 n))))))]] H := hP
    have hD : WD A [[(a, .inr (11, [.int (m + 1), .ref v, .int (nI (n + 1))]))], [(v, .inl (Γ.2.1 2, cap, .inr (.inr (.inr (.inr (va_cpy f f 1 0 n))))))]] := hD
    refine lv_aload_n hx hb dJ2_fastRemove_34 rfl (lv_at hl 2 rfl) ?_
    refine lv_aload_n hx hb dJ2_fastRemove_35 rfl (lv_at hl 1 rfl) ?_
    refine lv_iload_n hx hb dJ2_fastRemove_36 rfl (lv_at hl 0 rfl) ?_
    refine lv_dup_x1 hx hb dJ2_fastRemove_37 rfl rfl ?_
    refine b_put (C := RJ2) (T := TJ2) (N := 3) (ty := .int) (v := .int (nI n)) hx hb hts in_J2 tyJ2_ok nmJ2 hown hK hP hD hS 0 rfl rfl 2 (by decide) q134 (fun _ h9 => h9) rfl (by decide +kernel) rfl rfl (Nat.le_of_ble_eq_true rfl) dJ2_fastRemove_38 (fun H locs hP hD hS => ?_)
    have hP : WP Γ [[(a, .inr (11, [.int (m + 1), .ref v, .int (nI n)]))], [(v, .inl (Γ.2.1 2, cap, .inr (.inr (.inr (.inr (va_cpy f f 1 0 n))))))]] H := hP
    have hD : WD A [[(a, .inr (11, [.int (m + 1), .ref v, .int (nI n)]))], [(v, .inl (Γ.2.1 2, cap, .inr (.inr (.inr (.inr (va_cpy f f 1 0 n))))))]] := hD
    refine lv_null hx hb dJ2_fastRemove_41 ?_
    refine b_aastN hx hb hK hP hD hS 1 rfl n rfl (by omega) (by omega) dJ2_fastRemove_42 (fun H locs hP hD hS => ?_)
    have hP : WP Γ [[(a, .inr (11, [.int (m + 1), .ref v, .int (nI n)]))], [(v, .inl (Γ.2.1 2, cap, .inr (.inr (.inr (.inr (va_up (va_cpy f f 1 0 n) n none))))))]] H := hP
    have hD : WD A [[(a, .inr (11, [.int (m + 1), .ref v, .int (nI n)]))], [(v, .inl (Γ.2.1 2, cap, .inr (.inr (.inr (.inr (va_up (va_cpy f f 1 0 n) n none))))))]] := hD
    exact b_vret hx hb hr hlocks hP hD hS (Nat.le_of_ble_eq_true rfl) (Nat.le_of_ble_eq_true rfl) (by first | with_reducible rfl | (simp [n_1, m_1, d_1]; done) | rfl) dJ2_fastRemove_43
set_option maxHeartbeats 4000000 in
set_option maxRecDepth 100000 in
theorem mt_AL_remove0 (l : Launch) (Γ : GE) (sz : Nat) (a : Nat) (m : Int32) (x : LST) (n : Nat) (c : Nat → Nat) (E : va_W) (hal : alI Γ x (n + 1) c) (hn0 : 0 < n) (hel : elIn E (n + 1) c) : KM l yJ2_remove cJ2_remove 4 (some (FieldType.object "java/lang/Object")) Γ 2 83 0 0 [.ref a, .int 0] [[(a, .inr (11, [.int m, .ref x.1, .int (nI (n + 1))]))], (alA Γ x)] [E] sz (Qq Γ (fun r_ u_ => ∃ y : LST, alI Γ y n (fun k => c (k + 1)) ∧ r_ = some (c 0) ∧ u_ = [[(a, .inr (11, [.int (m + 1), .ref y.1, .int (nI n)]))], (alA Γ y)])) := by
  refine K_intro (by decide) (Nat.le_of_ble_eq_true rfl) ?_
  intro pr_ ev_ s mi_ below meth cd_ A ls hx hb hr hml hown hts hlocks hname hK hE hRo hP hD hA hS hsz hl
  have hl : lv_has ls 4 [(0, .ref a), (1, .int 0)] := hl
  have hown : s.vm.findClass RJ2 = some mi_.cls := hown
  have hln := alI_n hal
  have hcap : ¬ x.2.1 = 0 := by omega
  rw [alA_1 hcap] at hP hD
  have hP : WP Γ [[(a, .inr (11, [.int m, .ref x.1, .int (nI (n + 1))]))], [(x.1, .inl (Γ.2.1 2, x.2.1, .inr (.inr (.inr (.inr x.2.2)))))]] s.heap := hP
  have hD : WD A [[(a, .inr (11, [.int m, .ref x.1, .int (nI (n + 1))]))], [(x.1, .inl (Γ.2.1 2, x.2.1, .inr (.inr (.inr (.inr x.2.2)))))]] := hD
  refine lv_iload_n hx hb dJ2_remove_0 rfl (lv_at hl 1 rfl) ?_
  refine lv_aload_n hx hb dJ2_remove_1 rfl (lv_at hl 0 rfl) ?_
  refine b_get (C := RJ2) (T := TJ2) (N := 3) (v := .int (nI (n + 1))) hx hb hts in_J2 hown hK (b_at (k := 0) hP rfl) rfl 2 (by decide) q134 (fun _ h9 => h9) rfl dJ2_remove_2 ?_
  refine b_calli (br := [[(a, .inr (11, [.int m, .ref x.1, .int (nI (n + 1))]))], [(x.1, .inl (Γ.2.1 2, x.2.1, .inr (.inr (.inr (.inr x.2.2)))))]]) (b_runS ⟨hx, hb, hml, hown, hts⟩ (mt_Obs_checkIndex l Γ _ 0 (n + 1) (by omega) (by omega)) (lw_S q967 q968 q92 q969) rfl rfl 2 (by decide +kernel) ⟨(Nat.le_of_ble_eq_true rfl), (Nat.le_of_ble_eq_true rfl)⟩ (c_pre hP hD hS hA hK hE [] rfl rfl ro_nil) rfl hl.1 rfl (Nat.le_of_ble_eq_true rfl) dJ2_remove_5 ⟨(Nat.le_of_ble_eq_true rfl), (Nat.le_of_ble_eq_true rfl)⟩) hP hD hS hA [] [0, 1] rfl rfl rfl (fun r_1 u_1 H locs hw_1 hP hD hS _ => ?_)
  obtain ⟨rfl, rfl⟩ := hw_1
  have hP : WP Γ [[(a, .inr (11, [.int m, .ref x.1, .int (nI (n + 1))]))], [(x.1, .inl (Γ.2.1 2, x.2.1, .inr (.inr (.inr (.inr x.2.2)))))]] H := hP
  have hD : WD A [[(a, .inr (11, [.int m, .ref x.1, .int (nI (n + 1))]))], [(x.1, .inl (Γ.2.1 2, x.2.1, .inr (.inr (.inr (.inr x.2.2)))))]] := hD
  refine lv_pop hx hb dJ2_remove_8 rfl ?_
  refine lv_aload_n hx hb dJ2_remove_9 rfl (lv_at hl 0 rfl) ?_
  refine b_get (C := RJ2) (T := TJ2) (N := 3) (v := .ref x.1) hx hb hts in_J2 hown hK (b_at (k := 0) hP rfl) rfl 1 (by decide) q131 (fun _ h9 => h9) rfl dJ2_remove_10 ?_
  refine lv_astore_n (lv' := [(2, .ref x.1), (0, .ref a), (1, .int 0)]) hx hb dJ2_remove_13 rfl hl (by decide) rfl (fun ls hl => ?_)
  refine lv_aload_n hx hb dJ2_remove_14 rfl (lv_at hl 0 rfl) ?_
  refine lv_iload_n hx hb dJ2_remove_15 rfl (lv_at hl 2 rfl) ?_
  refine b_aald hx hb hK (b_at (k := 1) hP rfl) 0 rfl (by omega) (by omega) dJ2_remove_16 ?_
  rw [show (x.2.2 0) = some (c 0) from hal.2.2.2.1 0 (by omega)]
  refine W.eq (g2 := F0 mi_ 17 ls ([.ref (c 0)])) rfl ?_
  refine lv_astore_n (lv' := [(3, .ref (c 0)), (2, .ref x.1), (0, .ref a), (1, .int 0)]) hx hb dJ2_remove_17 rfl hl (by decide) rfl (fun ls hl => ?_)
  refine lv_aload_n hx hb dJ2_remove_18 rfl (lv_at hl 2 rfl) ?_
  refine lv_aload_n hx hb dJ2_remove_19 rfl (lv_at hl 1 rfl) ?_
  refine lv_iload_n hx hb dJ2_remove_20 rfl (lv_at hl 3 rfl) ?_
  refine b_callv (br := []) (b_runV ⟨hx, hb, hml, hown, hts⟩ (mt_AL_fastRemove l Γ _ a m x.1 n x.2.1 x.2.2 E (by omega) (by omega) (by first | exact hn0 | omega) (al_el hal hel)) (lw_V q1283 q1285 qs21 q66 q1286) rfl rfl 2 (by decide +kernel) ⟨(Nat.le_of_ble_eq_true rfl), (Nat.le_of_ble_eq_true rfl)⟩ (c_pre hP hD hS hA hK hE [0, 1] rfl rfl (ro_pass (ro_sel (ro2 := [E]) hRo [0] rfl) hD hS hA [0, 1] rfl)) (recv_at (q := (RJ2, TJ2, 3)) hK (b_at (k := 0) hP rfl) rfl) rfl hl.1 rfl (Nat.le_of_ble_eq_true rfl) dJ2_remove_21 ⟨(Nat.le_of_ble_eq_true rfl), (Nat.le_of_ble_eq_true rfl)⟩) hP hD hS hA [0, 1] [] rfl rfl rfl (fun u_2 H locs hw_2 hP hD hS _ => ?_)
  obtain rfl := hw_2
  have hP : WP Γ [[(a, .inr (11, [.int (m + 1), .ref x.1, .int (nI n)]))], [(x.1, .inl (Γ.2.1 2, x.2.1, .inr (.inr (.inr (.inr (va_up (va_cpy x.2.2 x.2.2 1 0 n) n none))))))]] H := hP
  have hD : WD A [[(a, .inr (11, [.int (m + 1), .ref x.1, .int (nI n)]))], [(x.1, .inl (Γ.2.1 2, x.2.1, .inr (.inr (.inr (.inr (va_up (va_cpy x.2.2 x.2.2 1 0 n) n none))))))]] := hD
  refine lv_aload_n hx hb dJ2_remove_24 rfl (lv_at hl 0 rfl) ?_
  rw [show [(x.1, .inl (Γ.2.1 2, x.2.1, .inr (.inr (.inr (.inr (va_up (va_cpy x.2.2 x.2.2 1 0 n) n none))))))] = alA Γ (x.1, x.2.1, (va_up (va_cpy x.2.2 x.2.2 1 0 n) n none)) from (alA_1 (x := (x.1, x.2.1, (va_up (va_cpy x.2.2 x.2.2 1 0 n) n none))) (by dsimp only; omega)).symm] at hP hD
  have hP : WP Γ [[(a, .inr (11, [.int (m + 1), .ref x.1, .int (nI n)]))], (alA Γ (x.1, x.2.1, (va_up (va_cpy x.2.2 x.2.2 1 0 n) n none)))] H := hP
  have hD : WD A [[(a, .inr (11, [.int (m + 1), .ref x.1, .int (nI n)]))], (alA Γ (x.1, x.2.1, (va_up (va_cpy x.2.2 x.2.2 1 0 n) n none)))] := hD
  exact b_aret hx hb hr (by first | exact Or.inl ⟨_, rfl⟩ | exact Or.inr ⟨_, rfl⟩) hlocks hP hD hS (Nat.le_of_ble_eq_true rfl) (Nat.le_of_ble_eq_true rfl) ⟨(x.1, x.2.1, (va_up (va_cpy x.2.2 x.2.2 1 0 n) n none)), (alI_rem (v := x.1) (cap := x.2.1) (f := x.2.2) hal), (by first | with_reducible rfl | (simp [hcap]; done) | rfl), rfl⟩ dJ2_remove_25
set_option maxHeartbeats 4000000 in
set_option maxRecDepth 100000 in
theorem mt_AL_clear (l : Launch) (Γ : GE) (sz : Nat) (a : Nat) (m : Int32) (x : LST) (n : Nat) (c : Nat → Nat) (hal : alI Γ x n c) : KM l yJ2_clear cJ2_clear 4 none Γ 0 0 0 0 [.ref a] [[(a, .inr (11, [.int m, .ref x.1, .int (nI n)]))], (alA Γ x)] [] sz (Qv Γ (fun u_ => ∃ y : LST, alI Γ y 0 c ∧ u_ = [[(a, .inr (11, [.int (m + 1), .ref y.1, .int (nI 0)]))], (alA Γ y)])) := by
  refine K_intro (by decide) (Nat.le_of_ble_eq_true rfl) ?_
  intro pr_ ev_ s mi_ below meth cd_ A ls hx hb hr hml hown hts hlocks hname hK hE hRo hP hD hA hS hsz hl
  have hl : lv_has ls 4 [(0, .ref a)] := hl
  have hown : s.vm.findClass RJ2 = some mi_.cls := hown
  by_cases hcap : x.2.1 = 0
  ·
    have hln := alI_n hal
    have hv0 := hal.2.2.1 hcap
    rw [alA_0 hcap] at hP hD
    have hP : WP Γ [[(a, .inr (11, [.int m, .ref x.1, .int (nI n)]))]] s.heap := bP_sel hP [0] rfl
    have hD : WD A [[(a, .inr (11, [.int m, .ref x.1, .int (nI n)]))]] := bD_sel hD [0] rfl rfl
    rw [hv0] at hP hD
    have hP : WP Γ [[(a, .inr (11, [.int m, .ref (Γ.2.2 0), .int (nI n)]))]] s.heap := hP
    have hD : WD A [[(a, .inr (11, [.int m, .ref (Γ.2.2 0), .int (nI n)]))]] := hD
    refine lv_aload_n hx hb dJ2_clear_0 rfl (lv_at hl 0 rfl) ?_
    refine lv_dup hx hb dJ2_clear_1 rfl ?_
    refine b_get (C := RJ2) (T := TJ2) (N := 3) (v := .int m) hx hb hts in_J2 hown hK (b_at (k := 0) hP rfl) rfl 0 (by decide) q138 (u_same (hts _ q137)) rfl dJ2_clear_2 ?_
    refine lv_iconst (v := 1) hx hb dJ2_clear_5 (by decide) ?_
    refine lv_iadd hx hb dJ2_clear_6 ?_
    refine b_put (C := RJ2) (T := TJ2) (N := 3) (ty := .int) (v := .int (m + 1)) hx hb hts in_J2 tyJ2_ok nmJ2 hown hK hP hD hS 0 rfl rfl 0 (by decide) q138 (u_same (hts _ q137)) rfl (by decide +kernel) rfl rfl (Nat.le_of_ble_eq_true rfl) dJ2_clear_7 (fun H locs hP hD hS => ?_)
    have hP : WP Γ [[(a, .inr (11, [.int (m + 1), .ref (Γ.2.2 0), .int (nI n)]))]] H := hP
    have hD : WD A [[(a, .inr (11, [.int (m + 1), .ref (Γ.2.2 0), .int (nI n)]))]] := hD
    refine lv_aload_n hx hb dJ2_clear_10 rfl (lv_at hl 0 rfl) ?_
    refine b_get (C := RJ2) (T := TJ2) (N := 3) (v := .ref (Γ.2.2 0)) hx hb hts in_J2 hown hK (b_at (k := 0) hP rfl) rfl 1 (by decide) q131 (fun _ h9 => h9) rfl dJ2_clear_11 ?_
    refine lv_astore_n (lv' := [(1, .ref (Γ.2.2 0)), (0, .ref a)]) hx hb dJ2_clear_14 rfl hl (by decide) rfl (fun ls hl => ?_)
    refine lv_aload_n hx hb dJ2_clear_15 rfl (lv_at hl 1 rfl) ?_
    refine b_get (C := RJ2) (T := TJ2) (N := 3) (v := .int (nI n)) hx hb hts in_J2 hown hK (b_at (k := 0) hP rfl) rfl 2 (by decide) q134 (fun _ h9 => h9) rfl dJ2_clear_16 ?_
    refine lv_istore_n (lv' := [(2, .int (nI n)), (1, .ref (Γ.2.2 0)), (0, .ref a)]) hx hb dJ2_clear_19 rfl hl (by decide) rfl (fun ls hl => ?_)
    refine lv_aload_n hx hb dJ2_clear_20 rfl (lv_at hl 2 rfl) ?_
    refine lv_iconst (v := 0) hx hb dJ2_clear_21 (by decide) ?_
    refine lv_dup_x1 hx hb dJ2_clear_22 rfl rfl ?_
    refine b_put (C := RJ2) (T := TJ2) (N := 3) (ty := .int) (v := .int 0) hx hb hts in_J2 tyJ2_ok nmJ2 hown hK hP hD hS 0 rfl rfl 2 (by decide) q134 (fun _ h9 => h9) rfl (by decide +kernel) rfl rfl (Nat.le_of_ble_eq_true rfl) dJ2_clear_23 (fun H locs hP hD hS => ?_)
    have hP : WP Γ [[(a, .inr (11, [.int (m + 1), .ref (Γ.2.2 0), .int 0]))]] H := hP
    have hD : WD A [[(a, .inr (11, [.int (m + 1), .ref (Γ.2.2 0), .int 0]))]] := hD
    refine lv_istore_n (lv' := [(3, .int 0), (2, .int (nI n)), (1, .ref (Γ.2.2 0)), (0, .ref a)]) hx hb dJ2_clear_26 rfl hl (by decide) rfl (fun ls hl => ?_)
    have hn0 : n = 0 := by omega
    refine lv_iload_n hx hb dJ2_clear_27 rfl (lv_at hl 0 rfl) ?_
    refine lv_iload_n hx hb dJ2_clear_28 rfl (lv_at hl 1 rfl) ?_
    refine lv_icmp_ge (tgt := 42) hx hb dJ2_clear_29 (by decide) (fun c_1 => ?_) (fun c_1 => ?_)
    · -- 29 taken
      have n_1 : n ≤ 0 := (nI_leI (by omega) (by omega)).mp (show nI n ≤ nI 0 from c_1)
      have m_1 : ¬ (0 < n) := by omega
      have d_1 := Int32.not_lt.mpr c_1
      have hP : WP Γ [[(a, .inr (11, [.int (m + 1), .ref (Γ.2.2 0), .int 0]))], []] H := (show va_P _ _ _ _ from by rw [show ([[(a, .inr (11, [.int (m + 1), .ref (Γ.2.2 0), .int 0]))], []] : BW).flatten = ([[(a, .inr (11, [.int (m + 1), .ref (Γ.2.2 0), .int 0]))]] : BW).flatten from by simp]; exact hP)
      have hD : WD A [[(a, .inr (11, [.int (m + 1), .ref (Γ.2.2 0), .int 0]))], []] := (show va_D _ _ from by rw [show ([[(a, .inr (11, [.int (m + 1), .ref (Γ.2.2 0), .int 0]))], []] : BW).flatten = ([[(a, .inr (11, [.int (m + 1), .ref (Γ.2.2 0), .int 0]))]] : BW).flatten from by simp]; exact hD)
      rw [← hv0] at hP hD
      have hP : WP Γ [[(a, .inr (11, [.int (m + 1), .ref x.1, .int 0]))], (alA Γ x)] H := by rw [alA_0 hcap]; exact hP
      have hD : WD A [[(a, .inr (11, [.int (m + 1), .ref x.1, .int 0]))], (alA Γ x)] := by rw [alA_0 hcap]; exact hD
      have hP : WP Γ [[(a, .inr (11, [.int (m + 1), .ref x.1, .int 0]))], (alA Γ x)] H := hP
      have hD : WD A [[(a, .inr (11, [.int (m + 1), .ref x.1, .int 0]))], (alA Γ x)] := hD
      exact b_vret hx hb hr hlocks hP hD hS (Nat.le_of_ble_eq_true rfl) (Nat.le_of_ble_eq_true rfl) ⟨x, (by rw [hn0] at hal; exact hal), rfl⟩ dJ2_clear_42
    · -- 29 not taken
      have n_1 : ¬ (n ≤ 0) := fun h => c_1 ((nI_leI (a := n) (b := 0) (by omega) (by omega)).mpr h)
      have m_1 : 0 < n := by omega
      have d_1 := Int32.not_le.mp c_1
      exfalso; omega
  ·
    have hln := alI_n hal
    rw [alA_1 hcap] at hP hD
    have hP : WP Γ [[(a, .inr (11, [.int m, .ref x.1, .int (nI n)]))], [(x.1, .inl (Γ.2.1 2, x.2.1, .inr (.inr (.inr (.inr x.2.2)))))]] s.heap := hP
    have hD : WD A [[(a, .inr (11, [.int m, .ref x.1, .int (nI n)]))], [(x.1, .inl (Γ.2.1 2, x.2.1, .inr (.inr (.inr (.inr x.2.2)))))]] := hD
    refine lv_aload_n hx hb dJ2_clear_0 rfl (lv_at hl 0 rfl) ?_
    refine lv_dup hx hb dJ2_clear_1 rfl ?_
    refine b_get (C := RJ2) (T := TJ2) (N := 3) (v := .int m) hx hb hts in_J2 hown hK (b_at (k := 0) hP rfl) rfl 0 (by decide) q138 (u_same (hts _ q137)) rfl dJ2_clear_2 ?_
    refine lv_iconst (v := 1) hx hb dJ2_clear_5 (by decide) ?_
    refine lv_iadd hx hb dJ2_clear_6 ?_
    refine b_put (C := RJ2) (T := TJ2) (N := 3) (ty := .int) (v := .int (m + 1)) hx hb hts in_J2 tyJ2_ok nmJ2 hown hK hP hD hS 0 rfl rfl 0 (by decide) q138 (u_same (hts _ q137)) rfl (by decide +kernel) rfl rfl (Nat.le_of_ble_eq_true rfl) dJ2_clear_7 (fun H locs hP hD hS => ?_)
    have hP : WP Γ [[(a, .inr (11, [.int (m + 1), .ref x.1, .int (nI n)]))], [(x.1, .inl (Γ.2.1 2, x.2.1, .inr (.inr (.inr (.inr x.2.2)))))]] H := hP
    have hD : WD A [[(a, .inr (11, [.int (m + 1), .ref x.1, .int (nI n)]))], [(x.1, .inl (Γ.2.1 2, x.2.1, .inr (.inr (.inr (.inr x.2.2)))))]] := hD
    refine lv_aload_n hx hb dJ2_clear_10 rfl (lv_at hl 0 rfl) ?_
    refine b_get (C := RJ2) (T := TJ2) (N := 3) (v := .ref x.1) hx hb hts in_J2 hown hK (b_at (k := 0) hP rfl) rfl 1 (by decide) q131 (fun _ h9 => h9) rfl dJ2_clear_11 ?_
    refine lv_astore_n (lv' := [(1, .ref x.1), (0, .ref a)]) hx hb dJ2_clear_14 rfl hl (by decide) rfl (fun ls hl => ?_)
    refine lv_aload_n hx hb dJ2_clear_15 rfl (lv_at hl 1 rfl) ?_
    refine b_get (C := RJ2) (T := TJ2) (N := 3) (v := .int (nI n)) hx hb hts in_J2 hown hK (b_at (k := 0) hP rfl) rfl 2 (by decide) q134 (fun _ h9 => h9) rfl dJ2_clear_16 ?_
    refine lv_istore_n (lv' := [(2, .int (nI n)), (1, .ref x.1), (0, .ref a)]) hx hb dJ2_clear_19 rfl hl (by decide) rfl (fun ls hl => ?_)
    refine lv_aload_n hx hb dJ2_clear_20 rfl (lv_at hl 2 rfl) ?_
    refine lv_iconst (v := 0) hx hb dJ2_clear_21 (by decide) ?_
    refine lv_dup_x1 hx hb dJ2_clear_22 rfl rfl ?_
    refine b_put (C := RJ2) (T := TJ2) (N := 3) (ty := .int) (v := .int 0) hx hb hts in_J2 tyJ2_ok nmJ2 hown hK hP hD hS 0 rfl rfl 2 (by decide) q134 (fun _ h9 => h9) rfl (by decide +kernel) rfl rfl (Nat.le_of_ble_eq_true rfl) dJ2_clear_23 (fun H locs hP hD hS => ?_)
    have hP : WP Γ [[(a, .inr (11, [.int (m + 1), .ref x.1, .int 0]))], [(x.1, .inl (Γ.2.1 2, x.2.1, .inr (.inr (.inr (.inr x.2.2)))))]] H := hP
    have hD : WD A [[(a, .inr (11, [.int (m + 1), .ref x.1, .int 0]))], [(x.1, .inl (Γ.2.1 2, x.2.1, .inr (.inr (.inr (.inr x.2.2)))))]] := hD
    refine lv_istore_n (lv' := [(3, .int 0), (2, .int (nI n)), (1, .ref x.1), (0, .ref a)]) hx hb dJ2_clear_26 rfl hl (by decide) rfl (fun ls hl => ?_)
    rw [show x.2.2 = (clrF x.2.2 0) from (clrF_0 x.2.2).symm] at hP hD
    have loop_2 : ∀ (fuel : Nat) (j : Nat), n - j < fuel → (j ≤ n) → ∀ (H : Heap) (locs : List Loc) (ls : Array Slot), WP Γ [[(a, .inr (11, [.int (m + 1), .ref x.1, .int (nI 0)]))], [(x.1, .inl (Γ.2.1 2, x.2.1, .inr (.inr (.inr (.inr (clrF x.2.2 j))))))]] H → WD A [[(a, .inr (11, [.int (m + 1), .ref x.1, .int (nI 0)]))], [(x.1, .inl (Γ.2.1 2, x.2.1, .inr (.inr (.inr (.inr (clrF x.2.2 j))))))]] → va_S A s.heap H locs → lv_has ls 4 [(3, .int (nI j)), (2, .int (nI n)), (1, .ref x.1)] → W pr_ l ev_ { frames := 0, cells := 0, slots := 0, locals := 0 } s mi_ ([.ref a] : List Value).toArray below meth cd_ H locs 0 0 (MQ below (Qv Γ (fun u_ => ∃ y : LST, alI Γ y 0 c ∧ u_ = [[(a, .inr (11, [.int (m + 1), .ref y.1, .int (nI 0)]))], (alA Γ y)]) A) ([.ref a] : List Value).toArray s 0 0 A) (F0 mi_ 27 ls ([])) := by
      intro fuel
      induction fuel with
      | zero => intro j hfuel; exact absurd hfuel (Nat.not_lt_zero _)
      | succ fuel ih =>
        intro j hfuel hj H locs ls hP hD hS hl
        refine lv_iload_n hx hb dJ2_clear_27 rfl (lv_at hl 0 rfl) ?_
        refine lv_iload_n hx hb dJ2_clear_28 rfl (lv_at hl 1 rfl) ?_
        refine lv_icmp_ge (tgt := 42) hx hb dJ2_clear_29 (by decide) (fun c_3 => ?_) (fun c_3 => ?_)
        · -- 29 taken
          have n_3 : n ≤ j := (nI_leI (by omega) (by omega)).mp (show nI n ≤ nI j from c_3)
          have m_3 : ¬ (j < n) := by omega
          have d_3 := Int32.not_lt.mpr c_3
          have ej : j = n := by omega
          rw [ej] at hP hD
          rw [show [(x.1, .inl (Γ.2.1 2, x.2.1, .inr (.inr (.inr (.inr (clrF x.2.2 n))))))] = alA Γ (x.1, x.2.1, (clrF x.2.2 n)) from (alA_1 (x := (x.1, x.2.1, (clrF x.2.2 n))) (by dsimp only; omega)).symm] at hP hD
          have hP : WP Γ [[(a, .inr (11, [.int (m + 1), .ref x.1, .int (nI 0)]))], (alA Γ (x.1, x.2.1, (clrF x.2.2 n)))] H := hP
          have hD : WD A [[(a, .inr (11, [.int (m + 1), .ref x.1, .int (nI 0)]))], (alA Γ (x.1, x.2.1, (clrF x.2.2 n)))] := hD
          exact b_vret hx hb hr hlocks hP hD hS (Nat.le_of_ble_eq_true rfl) (Nat.le_of_ble_eq_true rfl) ⟨(x.1, x.2.1, (clrF x.2.2 n)), (alI_clr hal), rfl⟩ dJ2_clear_42
        · -- 29 not taken
          have n_3 : ¬ (n ≤ j) := fun h => c_3 ((nI_leI (a := n) (b := j) (by omega) (by omega)).mpr h)
          have m_3 : j < n := by omega
          have d_3 := Int32.not_le.mp c_3
          refine lv_aload_n hx hb dJ2_clear_32 rfl (lv_at hl 2 rfl) ?_
          refine lv_iload_n hx hb dJ2_clear_33 rfl (lv_at hl 0 rfl) ?_
          refine lv_null hx hb dJ2_clear_34 ?_
          refine b_aastN hx hb hK hP hD hS 1 rfl j rfl (by omega) (by omega) dJ2_clear_35 (fun H locs hP hD hS => ?_)
          have hP : WP Γ [[(a, .inr (11, [.int (m + 1), .ref x.1, .int (nI 0)]))], [(x.1, .inl (Γ.2.1 2, x.2.1, .inr (.inr (.inr (.inr (va_up (clrF x.2.2 j) j none))))))]] H := hP
          have hD : WD A [[(a, .inr (11, [.int (m + 1), .ref x.1, .int (nI 0)]))], [(x.1, .inl (Γ.2.1 2, x.2.1, .inr (.inr (.inr (.inr (va_up (clrF x.2.2 j) j none))))))]] := hD
          rw [show (va_up (clrF x.2.2 j) j none) = (clrF x.2.2 (j + 1)) from clrF_step _ _] at hP hD
          refine lv_iinc (v := (nI (j + 1))) (lv' := [(3, .int (nI (j + 1))), (2, .int (nI n)), (1, .ref x.1)]) hx hb dJ2_clear_36 hl (k := 0) rfl (nI_addE (a := j) (b := 1) (c := j + 1) rfl rfl (by first | omega | rfl)) (by decide) rfl (fun ls hl => ?_)
          refine lv_goto (tgt := 27) hx hb dJ2_clear_39 (by decide) ?_
          exact ih (j + 1) (by omega) (by omega) _ _ _ hP hD hS (lv_sub hl [0, 1, 2] rfl)
    exact loop_2 ((n - 0) + 1) 0 (Nat.lt_succ_self _) (Nat.zero_le _) _ _ _ hP hD hS (lv_sub hl [0, 1, 2] rfl)
set_option maxHeartbeats 4000000 in
set_option maxRecDepth 100000 in
theorem mt_AL_toArray (l : Launch) (Γ : GE) (sz : Nat) (a : Nat) (m : Int32) (x : LST) (n : Nat) (c : Nat → Nat) (E : va_W) (hal : alI Γ x n c) (hel : elIn E n c) : KM l yJ2_toArray cJ2_toArray 1 (some (FieldType.array (FieldType.object "java/lang/Object"))) Γ 3 104 1 n [.ref a] [[(a, .inr (11, [.int m, .ref x.1, .int (nI n)]))], (alA Γ x)] [E] sz (Qq Γ (fun r_ u_ => ∃ w : Nat, ∃ g : Nat → Option Nat, (∀ k, k < n → g k = x.2.2 k) ∧ r_ = some w ∧ u_ = [[(a, .inr (11, [.int m, .ref x.1, .int (nI n)]))], (alA Γ x), [(w, .inl (Γ.2.1 2, n, .inr (.inr (.inr (.inr g)))))]])) := by
  refine K_intro (by decide) (Nat.le_of_ble_eq_true rfl) ?_
  intro pr_ ev_ s mi_ below meth cd_ A ls hx hb hr hml hown hts hlocks hname hK hE hRo hP hD hA hS hsz hl
  have hl : lv_has ls 1 [(0, .ref a)] := hl
  have hown : s.vm.findClass RJ2 = some mi_.cls := hown
  by_cases hcap : x.2.1 = 0
  ·
    have hln := alI_n hal
    have hv0 := hal.2.2.1 hcap
    rw [alA_0 hcap] at hP hD
    have hP : WP Γ [[(a, .inr (11, [.int m, .ref x.1, .int (nI n)]))]] s.heap := bP_sel hP [0] rfl
    have hD : WD A [[(a, .inr (11, [.int m, .ref x.1, .int (nI n)]))]] := bD_sel hD [0] rfl rfl
    rw [hv0] at hP hD
    have hP : WP Γ [[(a, .inr (11, [.int m, .ref (Γ.2.2 0), .int (nI n)]))]] s.heap := hP
    have hD : WD A [[(a, .inr (11, [.int m, .ref (Γ.2.2 0), .int (nI n)]))]] := hD
    refine lv_aload_n hx hb dJ2_toArray_0 rfl (lv_at hl 0 rfl) ?_
    refine b_get (C := RJ2) (T := TJ2) (N := 3) (v := .ref (Γ.2.2 0)) hx hb hts in_J2 hown hK (b_at (k := 0) hP rfl) rfl 1 (by decide) q131 (fun _ h9 => h9) rfl dJ2_toArray_1 ?_
    refine lv_aload_n hx hb dJ2_toArray_4 rfl (lv_at hl 0 rfl) ?_
    refine b_get (C := RJ2) (T := TJ2) (N := 3) (v := .int (nI n)) hx hb hts in_J2 hown hK (b_at (k := 0) hP rfl) rfl 2 (by decide) q134 (fun _ h9 => h9) rfl dJ2_toArray_5 ?_
    have hn0 : n = 0 := by omega
    refine b_top (show (nI n) = nI 0 from by rw [hn0]) ?_
    refine b_callq (br := [[(a, .inr (11, [.int m, .ref (Γ.2.2 0), .int (nI n)]))]]) (b_runS ⟨hx, hb, hml, hown, hts⟩ (mt_copyOfq_e l Γ _ ) (lw_S q499 q500 q84 q501) rfl rfl 2 (by decide +kernel) ⟨(Nat.le_of_ble_eq_true rfl), (Nat.le_of_ble_eq_true rfl)⟩ (c_pre hP hD hS hA hK hE [] rfl rfl ro_nil) rfl hl.1 rfl (Nat.le_of_ble_eq_true rfl) dJ2_toArray_8 ⟨(by first | omega | (dsimp only; omega)), (by first | omega | (dsimp only; omega))⟩) hP hD hS hA [] [0] rfl rfl rfl (fun r_1 u_1 H locs hw_1 hP hD hS _ => ?_)
    obtain ⟨w_1, rfl, rfl⟩ := hw_1
    have hP : WP Γ [[(w_1, .inl (Γ.2.1 2, 0, .inr (.inr (.inr (.inr (fun _ => none))))))], [(a, .inr (11, [.int m, .ref (Γ.2.2 0), .int (nI n)]))]] H := hP
    have hD : WD A [[(w_1, .inl (Γ.2.1 2, 0, .inr (.inr (.inr (.inr (fun _ => none))))))], [(a, .inr (11, [.int m, .ref (Γ.2.2 0), .int (nI n)]))]] := hD
    refine W.eq (g2 := F0 mi_ 11 ls ([.ref w_1])) rfl ?_
    rw [show [(w_1, .inl (Γ.2.1 2, 0, .inr (.inr (.inr (.inr (fun _ => none))))))] = ([(w_1, .inl (Γ.2.1 2, n, .inr (.inr (.inr (.inr (fun _ => none))))))] : va_W) from by rw [hn0]] at hP hD
    have hP : WP Γ [[(w_1, .inl (Γ.2.1 2, n, .inr (.inr (.inr (.inr (fun _ => none))))))], [(a, .inr (11, [.int m, .ref (Γ.2.2 0), .int (nI n)]))], []] H := (show va_P _ _ _ _ from by rw [show ([[(w_1, .inl (Γ.2.1 2, n, .inr (.inr (.inr (.inr (fun _ => none))))))], [(a, .inr (11, [.int m, .ref (Γ.2.2 0), .int (nI n)]))], []] : BW).flatten = ([[(w_1, .inl (Γ.2.1 2, n, .inr (.inr (.inr (.inr (fun _ => none))))))], [(a, .inr (11, [.int m, .ref (Γ.2.2 0), .int (nI n)]))]] : BW).flatten from by simp]; exact hP)
    have hD : WD A [[(w_1, .inl (Γ.2.1 2, n, .inr (.inr (.inr (.inr (fun _ => none))))))], [(a, .inr (11, [.int m, .ref (Γ.2.2 0), .int (nI n)]))], []] := (show va_D _ _ from by rw [show ([[(w_1, .inl (Γ.2.1 2, n, .inr (.inr (.inr (.inr (fun _ => none))))))], [(a, .inr (11, [.int m, .ref (Γ.2.2 0), .int (nI n)]))], []] : BW).flatten = ([[(w_1, .inl (Γ.2.1 2, n, .inr (.inr (.inr (.inr (fun _ => none))))))], [(a, .inr (11, [.int m, .ref (Γ.2.2 0), .int (nI n)]))]] : BW).flatten from by simp]; exact hD)
    rw [← hv0] at hP hD
    have hP : WP Γ [[(w_1, .inl (Γ.2.1 2, n, .inr (.inr (.inr (.inr (fun _ => none))))))], [(a, .inr (11, [.int m, .ref x.1, .int (nI n)]))], (alA Γ x)] H := by rw [alA_0 hcap]; exact hP
    have hD : WD A [[(w_1, .inl (Γ.2.1 2, n, .inr (.inr (.inr (.inr (fun _ => none))))))], [(a, .inr (11, [.int m, .ref x.1, .int (nI n)]))], (alA Γ x)] := by rw [alA_0 hcap]; exact hD
    have hP : WP Γ [[(w_1, .inl (Γ.2.1 2, n, .inr (.inr (.inr (.inr (fun _ => none))))))], [(a, .inr (11, [.int m, .ref x.1, .int (nI n)]))], (alA Γ x)] H := hP
    have hD : WD A [[(w_1, .inl (Γ.2.1 2, n, .inr (.inr (.inr (.inr (fun _ => none))))))], [(a, .inr (11, [.int m, .ref x.1, .int (nI n)]))], (alA Γ x)] := hD
    have hP : WP Γ [[(a, .inr (11, [.int m, .ref x.1, .int (nI n)]))], (alA Γ x), [(w_1, .inl (Γ.2.1 2, n, .inr (.inr (.inr (.inr (fun _ => none))))))]] H := bP_sel hP [1, 2, 0] rfl
    have hD : WD A [[(a, .inr (11, [.int m, .ref x.1, .int (nI n)]))], (alA Γ x), [(w_1, .inl (Γ.2.1 2, n, .inr (.inr (.inr (.inr (fun _ => none))))))]] := bD_sel hD [1, 2, 0] rfl rfl
    exact b_aret hx hb hr (by first | exact Or.inl ⟨_, rfl⟩ | exact Or.inr ⟨_, rfl⟩) hlocks hP hD hS (by first | omega | (dsimp only; omega)) (by first | omega | (dsimp only; omega)) ⟨w_1, (fun _ => none), (fun k hk => absurd hk (by omega)), rfl, rfl⟩ dJ2_toArray_11
  ·
    have hln := alI_n hal
    rw [alA_1 hcap] at hP hD
    have hP : WP Γ [[(a, .inr (11, [.int m, .ref x.1, .int (nI n)]))], [(x.1, .inl (Γ.2.1 2, x.2.1, .inr (.inr (.inr (.inr x.2.2)))))]] s.heap := hP
    have hD : WD A [[(a, .inr (11, [.int m, .ref x.1, .int (nI n)]))], [(x.1, .inl (Γ.2.1 2, x.2.1, .inr (.inr (.inr (.inr x.2.2)))))]] := hD
    refine lv_aload_n hx hb dJ2_toArray_0 rfl (lv_at hl 0 rfl) ?_
    refine b_get (C := RJ2) (T := TJ2) (N := 3) (v := .ref x.1) hx hb hts in_J2 hown hK (b_at (k := 0) hP rfl) rfl 1 (by decide) q131 (fun _ h9 => h9) rfl dJ2_toArray_1 ?_
    refine lv_aload_n hx hb dJ2_toArray_4 rfl (lv_at hl 0 rfl) ?_
    refine b_get (C := RJ2) (T := TJ2) (N := 3) (v := .int (nI n)) hx hb hts in_J2 hown hK (b_at (k := 0) hP rfl) rfl 2 (by decide) q134 (fun _ h9 => h9) rfl dJ2_toArray_5 ?_
    refine b_callq (br := [[(a, .inr (11, [.int m, .ref x.1, .int (nI n)]))]]) (b_runS ⟨hx, hb, hml, hown, hts⟩ (mt_copyOfq l Γ _ x.1 x.2.1 x.2.2 n E (by omega) (by omega) (al_el hal hel)) (lw_S q499 q500 q84 q501) rfl rfl 2 (by decide +kernel) ⟨(Nat.le_of_ble_eq_true rfl), (Nat.le_of_ble_eq_true rfl)⟩ (c_pre hP hD hS hA hK hE [1] rfl rfl (ro_pass (ro_sel (ro2 := [E]) hRo [0] rfl) hD hS hA [1] rfl)) rfl hl.1 rfl (Nat.le_of_ble_eq_true rfl) dJ2_toArray_8 ⟨(by first | omega | (dsimp only; omega)), (by first | omega | (dsimp only; omega))⟩) hP hD hS hA [1] [0] rfl rfl rfl (fun r_2 u_2 H locs hw_2 hP hD hS _ => ?_)
    obtain ⟨w_2, rfl, rfl⟩ := hw_2
    have hP : WP Γ [[(x.1, .inl (Γ.2.1 2, x.2.1, .inr (.inr (.inr (.inr x.2.2)))))], [(w_2, .inl (Γ.2.1 2, n, .inr (.inr (.inr (.inr (va_cpy x.2.2 (fun _ => none) 0 0 (mnN x.2.1 n)))))))], [(a, .inr (11, [.int m, .ref x.1, .int (nI n)]))]] H := hP
    have hD : WD A [[(x.1, .inl (Γ.2.1 2, x.2.1, .inr (.inr (.inr (.inr x.2.2)))))], [(w_2, .inl (Γ.2.1 2, n, .inr (.inr (.inr (.inr (va_cpy x.2.2 (fun _ => none) 0 0 (mnN x.2.1 n)))))))], [(a, .inr (11, [.int m, .ref x.1, .int (nI n)]))]] := hD
    refine W.eq (g2 := F0 mi_ 11 ls ([.ref w_2])) rfl ?_
    have hmn : mnN x.2.1 n = n := by unfold mnN; split <;> omega
    rw [show [(x.1, .inl (Γ.2.1 2, x.2.1, .inr (.inr (.inr (.inr x.2.2)))))] = alA Γ x from (alA_1 hcap).symm] at hP hD
    have hP : WP Γ [(alA Γ x), [(w_2, .inl (Γ.2.1 2, n, .inr (.inr (.inr (.inr (va_cpy x.2.2 (fun _ => none) 0 0 (mnN x.2.1 n)))))))], [(a, .inr (11, [.int m, .ref x.1, .int (nI n)]))]] H := hP
    have hD : WD A [(alA Γ x), [(w_2, .inl (Γ.2.1 2, n, .inr (.inr (.inr (.inr (va_cpy x.2.2 (fun _ => none) 0 0 (mnN x.2.1 n)))))))], [(a, .inr (11, [.int m, .ref x.1, .int (nI n)]))]] := hD
    have hP : WP Γ [[(a, .inr (11, [.int m, .ref x.1, .int (nI n)]))], (alA Γ x), [(w_2, .inl (Γ.2.1 2, n, .inr (.inr (.inr (.inr (va_cpy x.2.2 (fun _ => none) 0 0 (mnN x.2.1 n)))))))]] H := bP_sel hP [2, 0, 1] rfl
    have hD : WD A [[(a, .inr (11, [.int m, .ref x.1, .int (nI n)]))], (alA Γ x), [(w_2, .inl (Γ.2.1 2, n, .inr (.inr (.inr (.inr (va_cpy x.2.2 (fun _ => none) 0 0 (mnN x.2.1 n)))))))]] := bD_sel hD [2, 0, 1] rfl rfl
    exact b_aret hx hb hr (by first | exact Or.inl ⟨_, rfl⟩ | exact Or.inr ⟨_, rfl⟩) hlocks hP hD hS (by first | omega | (dsimp only; omega)) (by first | omega | (dsimp only; omega)) ⟨w_2, (va_cpy x.2.2 (fun _ => none) 0 0 (mnN x.2.1 n)), (fun k hk => by show (if 0 ≤ k ∧ k < 0 + mnN x.2.1 n then x.2.2 (0 + (k - 0)) else none) = _; rw [hmn, if_pos (by omega), show 0 + (k - 0) = k by omega]), rfl, rfl⟩ dJ2_toArray_11
set_option maxHeartbeats 4000000 in
set_option maxRecDepth 100000 in
theorem mt_AL_addAll (l : Launch) (Γ : GE) (sz : Nat) (a : Nat) (m : Int32) (x : LST) (c : Nat → Nat) (b : Nat) (m2 : Int32) (x2 : LST) (n : Nat) (c2 : Nat → Nat) (E : va_W) (hal : alI Γ x 0 c) (hal2 : alI Γ x2 n c2) (hn64 : n ≤ 62) (hel : elIn E n c2) : KM l yJ2_addAll cJ2_addAll 6 (some FieldType.boolean) Γ 4 127 2 200 [.ref a, .ref b] [[(a, .inr (11, [.int m, .ref x.1, .int (nI 0)]))], (alA Γ x), [(b, .inr (11, [.int m2, .ref x2.1, .int (nI n)]))], (alA Γ x2)] [E] sz (Qi Γ (fun r_ u_ => ∃ y : LST, alI Γ y n c2 ∧ r_ = (if n = 0 then 0 else 1) ∧ u_ = [[(a, .inr (11, [.int (m + 1), .ref y.1, .int (nI n)]))], (alA Γ y), [(b, .inr (11, [.int m2, .ref x2.1, .int (nI n)]))], (alA Γ x2)])) := by
  refine K_intro (by decide) (Nat.le_of_ble_eq_true rfl) ?_
  intro pr_ ev_ s mi_ below meth cd_ A ls hx hb hr hml hown hts hlocks hname hK hE hRo hP hD hA hS hsz hl
  have hl : lv_has ls 6 [(0, .ref a), (1, .ref b)] := hl
  have hown : s.vm.findClass RJ2 = some mi_.cls := hown
  have hln := alI_n hal
  refine lv_aload_n hx hb dJ2_addAll_0 rfl (lv_at hl 1 rfl) ?_
  refine b_call5q (br := [[(a, .inr (11, [.int m, .ref x.1, .int (nI 0)]))], (alA Γ x)]) (b_runF (x := ⟨"java/util/Collection", "toArray", "()[Ljava/lang/Object;"⟩) (hK.1 11 _ rfl).2 ⟨hx, hb, hml, hown, hts⟩ (mt_AL_toArray l Γ _ b m2 x2 n c2 E hal2 hel) (hE.1.2.1.1 (fwL[0]'(by decide)) (List.getElem_mem _)) q549 q786 q788 q66 q790 rfl rfl 0 ⟨by decide, by decide, by decide +kernel⟩ ⟨(Nat.le_of_ble_eq_true rfl), (Nat.le_of_ble_eq_true rfl)⟩ (c_pre hP hD hS hA hK hE [2, 3] rfl rfl (ro_pass (ro_sel (ro2 := [E]) hRo [0] rfl) hD hS hA [2, 3] rfl)) (recv_at (q := (RJ2, TJ2, 3)) hK (b_at (k := 2) hP rfl) rfl) rfl hl.1 rfl (Nat.le_of_ble_eq_true rfl) dJ2_addAll_1 ⟨(by first | omega | (dsimp only; omega)), (by first | omega | (dsimp only; omega))⟩) hP hD hS hA [2, 3] [0, 1] rfl rfl rfl (fun r_1 u_1 H locs hw_1 hP hD hS _ => ?_)
  obtain ⟨w_1, g_1, hg_1, rfl, rfl⟩ := hw_1
  have hP : WP Γ [[(b, .inr (11, [.int m2, .ref x2.1, .int (nI n)]))], (alA Γ x2), [(w_1, .inl (Γ.2.1 2, n, .inr (.inr (.inr (.inr g_1)))))], [(a, .inr (11, [.int m, .ref x.1, .int (nI 0)]))], (alA Γ x)] H := hP
  have hD : WD A [[(b, .inr (11, [.int m2, .ref x2.1, .int (nI n)]))], (alA Γ x2), [(w_1, .inl (Γ.2.1 2, n, .inr (.inr (.inr (.inr g_1)))))], [(a, .inr (11, [.int m, .ref x.1, .int (nI 0)]))], (alA Γ x)] := hD
  refine W.eq (g2 := F0 mi_ 6 ls ([.ref w_1])) rfl ?_
  refine lv_astore_n (lv' := [(2, .ref w_1), (0, .ref a), (1, .ref b)]) hx hb dJ2_addAll_6 rfl hl (by decide) rfl (fun ls hl => ?_)
  refine lv_aload_n hx hb dJ2_addAll_7 rfl (lv_at hl 1 rfl) ?_
  refine lv_dup hx hb dJ2_addAll_8 rfl ?_
  refine b_get (C := RJ2) (T := TJ2) (N := 3) (v := .int m) hx hb hts in_J2 hown hK (b_at (k := 3) hP rfl) rfl 0 (by decide) q138 (u_same (hts _ q137)) rfl dJ2_addAll_9 ?_
  refine lv_iconst (v := 1) hx hb dJ2_addAll_12 (by decide) ?_
  refine lv_iadd hx hb dJ2_addAll_13 ?_
  refine b_put (C := RJ2) (T := TJ2) (N := 3) (ty := .int) (v := .int (m + 1)) hx hb hts in_J2 tyJ2_ok nmJ2 hown hK hP hD hS 3 rfl rfl 0 (by decide) q138 (u_same (hts _ q137)) rfl (by decide +kernel) rfl rfl (Nat.le_of_ble_eq_true rfl) dJ2_addAll_14 (fun H locs hP hD hS => ?_)
  have hP : WP Γ [[(b, .inr (11, [.int m2, .ref x2.1, .int (nI n)]))], (alA Γ x2), [(w_1, .inl (Γ.2.1 2, n, .inr (.inr (.inr (.inr g_1)))))], [(a, .inr (11, [.int (m + 1), .ref x.1, .int (nI 0)]))], (alA Γ x)] H := hP
  have hD : WD A [[(b, .inr (11, [.int m2, .ref x2.1, .int (nI n)]))], (alA Γ x2), [(w_1, .inl (Γ.2.1 2, n, .inr (.inr (.inr (.inr g_1)))))], [(a, .inr (11, [.int (m + 1), .ref x.1, .int (nI 0)]))], (alA Γ x)] := hD
  have hln2 := alI_n hal2
  refine lv_aload_n hx hb dJ2_addAll_17 rfl (lv_at hl 0 rfl) ?_
  refine b_alen hx hb hK 2 (b_at (k := 2) hP rfl) rfl dJ2_addAll_18 ?_
  refine lv_istore_n (lv' := [(3, .int (nI n)), (2, .ref w_1), (0, .ref a), (1, .ref b)]) hx hb dJ2_addAll_19 rfl hl (by decide) rfl (fun ls hl => ?_)
  refine lv_iload_n hx hb dJ2_addAll_20 rfl (lv_at hl 0 rfl) ?_
  refine lv_if_ne (tgt := 26) hx hb dJ2_addAll_21 (by decide) (fun c_2 => ?_) (fun c_2 => ?_)
  · -- 21 taken
    have n_2 : ¬ (n = 0) := fun h => c_2 ((nI_eq (a := n) (b := 0) (by omega) (by omega)).mpr h)
    by_cases hcap : x.2.1 = 0
    ·
      have hln := alI_n hal
      have hv0 := hal.2.2.1 hcap
      rw [alA_0 hcap] at hP hD
      have hP : WP Γ [[(b, .inr (11, [.int m2, .ref x2.1, .int (nI n)]))], (alA Γ x2), [(w_1, .inl (Γ.2.1 2, n, .inr (.inr (.inr (.inr g_1)))))], [(a, .inr (11, [.int (m + 1), .ref x.1, .int (nI 0)]))]] H := bP_sel hP [0, 1, 2, 3] rfl
      have hD : WD A [[(b, .inr (11, [.int m2, .ref x2.1, .int (nI n)]))], (alA Γ x2), [(w_1, .inl (Γ.2.1 2, n, .inr (.inr (.inr (.inr g_1)))))], [(a, .inr (11, [.int (m + 1), .ref x.1, .int (nI 0)]))]] := bD_sel hD [0, 1, 2, 3] rfl rfl
      rw [hv0] at hP hD
      have hP : WP Γ [[(b, .inr (11, [.int m2, .ref x2.1, .int (nI n)]))], (alA Γ x2), [(w_1, .inl (Γ.2.1 2, n, .inr (.inr (.inr (.inr g_1)))))], [(a, .inr (11, [.int (m + 1), .ref (Γ.2.2 0), .int (nI 0)]))]] H := hP
      have hD : WD A [[(b, .inr (11, [.int m2, .ref x2.1, .int (nI n)]))], (alA Γ x2), [(w_1, .inl (Γ.2.1 2, n, .inr (.inr (.inr (.inr g_1)))))], [(a, .inr (11, [.int (m + 1), .ref (Γ.2.2 0), .int (nI 0)]))]] := hD
      refine lv_iload_n hx hb dJ2_addAll_26 rfl (lv_at hl 0 rfl) ?_
      refine lv_aload_n hx hb dJ2_addAll_27 rfl (lv_at hl 2 rfl) ?_
      refine b_get (C := RJ2) (T := TJ2) (N := 3) (v := .ref (Γ.2.2 0)) hx hb hts in_J2 hown hK (b_at (k := 3) hP rfl) rfl 1 (by decide) q131 (fun _ h9 => h9) rfl dJ2_addAll_28 ?_
      refine lv_dup hx hb dJ2_addAll_31 rfl ?_
      refine lv_astore (lv' := [(4, .ref (Γ.2.2 0)), (3, .int (nI n)), (2, .ref w_1), (0, .ref a), (1, .ref b)]) hx hb dJ2_addAll_32 hl (by decide) rfl (fun ls hl => ?_)
      refine va_tlen hx hb hE.2.1.1.2.1 hS (v := nI 0) rfl dJ2_addAll_34 ?_
      refine lv_aload_n hx hb dJ2_addAll_35 rfl (lv_at hl 3 rfl) ?_
      refine b_get (C := RJ2) (T := TJ2) (N := 3) (v := .int (nI 0)) hx hb hts in_J2 hown hK (b_at (k := 3) hP rfl) rfl 2 (by decide) q134 (fun _ h9 => h9) rfl dJ2_addAll_36 ?_
      refine lv_dup hx hb dJ2_addAll_39 rfl ?_
      refine lv_istore (lv' := [(5, .int (nI 0)), (4, .ref (Γ.2.2 0)), (3, .int (nI n)), (2, .ref w_1), (0, .ref a), (1, .ref b)]) hx hb dJ2_addAll_40 hl (by decide) rfl (fun ls hl => ?_)
      refine lv_isub hx hb dJ2_addAll_42 ?_
      refine b_top (nI_subE (a := 0) (b := 0) (c := 0) rfl rfl (by first | omega | rfl)) ?_
      refine lv_icmp_le (tgt := 56) hx hb dJ2_addAll_43 (by decide) (fun c_3 => ?_) (fun c_3 => ?_)
      · -- 43 taken
        have n_3 : n ≤ 0 := (nI_leI (by omega) (by omega)).mp (show nI n ≤ nI 0 from c_3)
        have m_3 : ¬ (0 < n) := by omega
        have d_3 := Int32.not_lt.mpr c_3
        exfalso; omega
      · -- 43 not taken
        have n_3 : ¬ (n ≤ 0) := fun h => c_3 ((nI_leI (a := n) (b := 0) (by omega) (by omega)).mpr h)
        have m_3 : 0 < n := by omega
        have d_3 := Int32.not_le.mp c_3
        refine lv_aload_n hx hb dJ2_addAll_46 rfl (lv_at hl 4 rfl) ?_
        refine lv_iload hx hb dJ2_addAll_47 (lv_at hl 0 rfl) ?_
        refine lv_iload_n hx hb dJ2_addAll_49 rfl (lv_at hl 2 rfl) ?_
        refine lv_iadd hx hb dJ2_addAll_50 ?_
        refine b_top (nI_addE (a := 0) (b := n) (c := n) rfl rfl (by first | omega | rfl)) ?_
        refine b_callq (br := [[(b, .inr (11, [.int m2, .ref x2.1, .int (nI n)]))], (alA Γ x2), [(w_1, .inl (Γ.2.1 2, n, .inr (.inr (.inr (.inr g_1)))))]]) (b_runV ⟨hx, hb, hml, hown, hts⟩ (mt_AL_grow2_e l Γ _ a (m + 1) 0 n (by omega)) (lw_V q485 q487 qs3 q66 q488) rfl rfl 1 (by decide +kernel) ⟨(Nat.le_of_ble_eq_true rfl), (Nat.le_of_ble_eq_true rfl)⟩ (c_pre hP hD hS hA hK hE [3] rfl rfl ro_nil) (recv_at (q := (RJ2, TJ2, 3)) hK (b_at (k := 3) hP rfl) rfl) rfl hl.1 rfl (Nat.le_of_ble_eq_true rfl) dJ2_addAll_51 ⟨(by first | omega | (dsimp only; omega)), (by first | omega | (dsimp only; omega))⟩) hP hD hS hA [3] [0, 1, 2] rfl rfl rfl (fun r_4 u_4 H locs hw_4 hP hD hS _ => ?_)
        obtain ⟨w_4, rfl, rfl⟩ := hw_4
        have hP : WP Γ [[(a, .inr (11, [.int (m + 1), .ref w_4, .int (nI 0)]))], [(w_4, .inl (Γ.2.1 2, (mxN 10 n), .inr (.inr (.inr (.inr (fun _ => none))))))], [(b, .inr (11, [.int m2, .ref x2.1, .int (nI n)]))], (alA Γ x2), [(w_1, .inl (Γ.2.1 2, n, .inr (.inr (.inr (.inr g_1)))))]] H := hP
        have hD : WD A [[(a, .inr (11, [.int (m + 1), .ref w_4, .int (nI 0)]))], [(w_4, .inl (Γ.2.1 2, (mxN 10 n), .inr (.inr (.inr (.inr (fun _ => none))))))], [(b, .inr (11, [.int m2, .ref x2.1, .int (nI n)]))], (alA Γ x2), [(w_1, .inl (Γ.2.1 2, n, .inr (.inr (.inr (.inr g_1)))))]] := hD
        refine W.eq (g2 := F0 mi_ 54 ls ([.ref w_4])) rfl ?_
        refine lv_astore (lv' := [(4, .ref w_4), (5, .int (nI 0)), (3, .int (nI n)), (2, .ref w_1), (0, .ref a), (1, .ref b)]) hx hb dJ2_addAll_54 hl (by decide) rfl (fun ls hl => ?_)
        have hmx : mxN 10 n ≤ 100 ∧ 10 ≤ mxN 10 n ∧ n ≤ mxN 10 n := by unfold mxN; split <;> omega
        refine lv_aload_n hx hb dJ2_addAll_56 rfl (lv_at hl 3 rfl) ?_
        refine lv_iconst (v := 0) hx hb dJ2_addAll_57 (by decide) ?_
        refine lv_aload hx hb dJ2_addAll_58 (lv_at hl 0 rfl) ?_
        refine lv_iload hx hb dJ2_addAll_60 (lv_at hl 1 rfl) ?_
        refine lv_iload_n hx hb dJ2_addAll_62 rfl (lv_at hl 2 rfl) ?_
        refine b_copyq hx hb hts (hml.trans hl.1.symm) hown q791 q541 q540 q85 hK hP hD hS 4 1 rfl rfl 0 0 n rfl rfl rfl (by omega) (by omega) (by omega) (by omega) (fun i hi y hy => el_any hK hE hRo hS (by rw [Nat.zero_add, hg_1 i hi] at hy; exact al_el hal2 hel i y hy)) (Nat.le_of_ble_eq_true rfl) (Nat.le_of_ble_eq_true rfl) dJ2_addAll_63 (fun H locs hP hD hS => ?_)
        have hP : WP Γ [[(a, .inr (11, [.int (m + 1), .ref w_4, .int (nI 0)]))], [(w_4, .inl (Γ.2.1 2, (mxN 10 n), .inr (.inr (.inr (.inr (va_cpy g_1 (fun _ => none) 0 0 n))))))], [(b, .inr (11, [.int m2, .ref x2.1, .int (nI n)]))], (alA Γ x2), [(w_1, .inl (Γ.2.1 2, n, .inr (.inr (.inr (.inr g_1)))))]] H := hP
        have hD : WD A [[(a, .inr (11, [.int (m + 1), .ref w_4, .int (nI 0)]))], [(w_4, .inl (Γ.2.1 2, (mxN 10 n), .inr (.inr (.inr (.inr (va_cpy g_1 (fun _ => none) 0 0 n))))))], [(b, .inr (11, [.int m2, .ref x2.1, .int (nI n)]))], (alA Γ x2), [(w_1, .inl (Γ.2.1 2, n, .inr (.inr (.inr (.inr g_1)))))]] := hD
        rw [show [(w_4, .inl (Γ.2.1 2, (mxN 10 n), .inr (.inr (.inr (.inr (va_cpy g_1 (fun _ => none) 0 0 n))))))] = alA Γ (w_4, (mxN 10 n), (va_cpy g_1 (fun _ => none) 0 0 n)) from (alA_1 (x := (w_4, (mxN 10 n), (va_cpy g_1 (fun _ => none) 0 0 n))) (by dsimp only; omega)).symm] at hP hD
        have hP : WP Γ [[(a, .inr (11, [.int (m + 1), .ref w_4, .int (nI 0)]))], (alA Γ (w_4, (mxN 10 n), (va_cpy g_1 (fun _ => none) 0 0 n))), [(b, .inr (11, [.int m2, .ref x2.1, .int (nI n)]))], (alA Γ x2), [(w_1, .inl (Γ.2.1 2, n, .inr (.inr (.inr (.inr g_1)))))]] H := hP
        have hD : WD A [[(a, .inr (11, [.int (m + 1), .ref w_4, .int (nI 0)]))], (alA Γ (w_4, (mxN 10 n), (va_cpy g_1 (fun _ => none) 0 0 n))), [(b, .inr (11, [.int m2, .ref x2.1, .int (nI n)]))], (alA Γ x2), [(w_1, .inl (Γ.2.1 2, n, .inr (.inr (.inr (.inr g_1)))))]] := hD
        refine lv_aload_n hx hb dJ2_addAll_66 rfl (lv_at hl 4 rfl) ?_
        refine lv_iload hx hb dJ2_addAll_67 (lv_at hl 1 rfl) ?_
        refine lv_iload_n hx hb dJ2_addAll_69 rfl (lv_at hl 2 rfl) ?_
        refine lv_iadd hx hb dJ2_addAll_70 ?_
        refine b_top (nI_addE (a := 0) (b := n) (c := n) rfl rfl (by first | omega | rfl)) ?_
        refine b_put (C := RJ2) (T := TJ2) (N := 3) (ty := .int) (v := .int (nI n)) hx hb hts in_J2 tyJ2_ok nmJ2 hown hK hP hD hS 0 rfl rfl 2 (by decide) q134 (fun _ h9 => h9) rfl (by decide +kernel) rfl rfl (Nat.le_of_ble_eq_true rfl) dJ2_addAll_71 (fun H locs hP hD hS => ?_)
        have hP : WP Γ [[(a, .inr (11, [.int (m + 1), .ref w_4, .int (nI n)]))], (alA Γ (w_4, (mxN 10 n), (va_cpy g_1 (fun _ => none) 0 0 n))), [(b, .inr (11, [.int m2, .ref x2.1, .int (nI n)]))], (alA Γ x2), [(w_1, .inl (Γ.2.1 2, n, .inr (.inr (.inr (.inr g_1)))))]] H := hP
        have hD : WD A [[(a, .inr (11, [.int (m + 1), .ref w_4, .int (nI n)]))], (alA Γ (w_4, (mxN 10 n), (va_cpy g_1 (fun _ => none) 0 0 n))), [(b, .inr (11, [.int m2, .ref x2.1, .int (nI n)]))], (alA Γ x2), [(w_1, .inl (Γ.2.1 2, n, .inr (.inr (.inr (.inr g_1)))))]] := hD
        refine lv_iconst (v := 1) hx hb dJ2_addAll_74 (by decide) ?_
        have hP : WP Γ [[(a, .inr (11, [.int (m + 1), .ref w_4, .int (nI n)]))], (alA Γ (w_4, (mxN 10 n), (va_cpy g_1 (fun _ => none) 0 0 n))), [(b, .inr (11, [.int m2, .ref x2.1, .int (nI n)]))], (alA Γ x2)] H := bP_sel hP [0, 1, 2, 3] rfl
        have hD : WD A [[(a, .inr (11, [.int (m + 1), .ref w_4, .int (nI n)]))], (alA Γ (w_4, (mxN 10 n), (va_cpy g_1 (fun _ => none) 0 0 n))), [(b, .inr (11, [.int m2, .ref x2.1, .int (nI n)]))], (alA Γ x2)] := bD_sel hD [0, 1, 2, 3] rfl rfl
        exact b_zret hx hb hr hlocks hP hD hS (by first | omega | (dsimp only; omega)) (by first | omega | (dsimp only; omega)) rfl ⟨(w_4, (mxN 10 n), (va_cpy g_1 (fun _ => none) 0 0 n)), (alI_all hal2 hmx.2.2 hmx.1 (by omega) hg_1 (fun _ => rfl)), (by rw [if_neg (by omega)]), (by simp only [Nat.zero_add])⟩ dJ2_addAll_75
    ·
      have hln := alI_n hal
      rw [alA_1 hcap] at hP hD
      have hP : WP Γ [[(b, .inr (11, [.int m2, .ref x2.1, .int (nI n)]))], (alA Γ x2), [(w_1, .inl (Γ.2.1 2, n, .inr (.inr (.inr (.inr g_1)))))], [(a, .inr (11, [.int (m + 1), .ref x.1, .int (nI 0)]))], [(x.1, .inl (Γ.2.1 2, x.2.1, .inr (.inr (.inr (.inr x.2.2)))))]] H := hP
      have hD : WD A [[(b, .inr (11, [.int m2, .ref x2.1, .int (nI n)]))], (alA Γ x2), [(w_1, .inl (Γ.2.1 2, n, .inr (.inr (.inr (.inr g_1)))))], [(a, .inr (11, [.int (m + 1), .ref x.1, .int (nI 0)]))], [(x.1, .inl (Γ.2.1 2, x.2.1, .inr (.inr (.inr (.inr x.2.2)))))]] := hD
      refine lv_iload_n hx hb dJ2_addAll_26 rfl (lv_at hl 0 rfl) ?_
      refine lv_aload_n hx hb dJ2_addAll_27 rfl (lv_at hl 2 rfl) ?_
      refine b_get (C := RJ2) (T := TJ2) (N := 3) (v := .ref x.1) hx hb hts in_J2 hown hK (b_at (k := 3) hP rfl) rfl 1 (by decide) q131 (fun _ h9 => h9) rfl dJ2_addAll_28 ?_
      refine lv_dup hx hb dJ2_addAll_31 rfl ?_
      refine lv_astore (lv' := [(4, .ref x.1), (3, .int (nI n)), (2, .ref w_1), (0, .ref a), (1, .ref b)]) hx hb dJ2_addAll_32 hl (by decide) rfl (fun ls hl => ?_)
      refine b_alen hx hb hK 2 (b_at (k := 4) hP rfl) rfl dJ2_addAll_34 ?_
      refine lv_aload_n hx hb dJ2_addAll_35 rfl (lv_at hl 3 rfl) ?_
      refine b_get (C := RJ2) (T := TJ2) (N := 3) (v := .int (nI 0)) hx hb hts in_J2 hown hK (b_at (k := 3) hP rfl) rfl 2 (by decide) q134 (fun _ h9 => h9) rfl dJ2_addAll_36 ?_
      refine lv_dup hx hb dJ2_addAll_39 rfl ?_
      refine lv_istore (lv' := [(5, .int (nI 0)), (4, .ref x.1), (3, .int (nI n)), (2, .ref w_1), (0, .ref a), (1, .ref b)]) hx hb dJ2_addAll_40 hl (by decide) rfl (fun ls hl => ?_)
      refine lv_isub hx hb dJ2_addAll_42 ?_
      refine b_top (nI_subE (a := x.2.1) (b := 0) (c := x.2.1) rfl rfl (by first | omega | rfl)) ?_
      refine lv_icmp_le (tgt := 56) hx hb dJ2_addAll_43 (by decide) (fun c_5 => ?_) (fun c_5 => ?_)
      · -- 43 taken
        have n_5 : n ≤ x.2.1 := (nI_leI (by omega) (by omega)).mp (show nI n ≤ nI x.2.1 from c_5)
        have m_5 : ¬ (x.2.1 < n) := by omega
        have d_5 := Int32.not_lt.mpr c_5
        refine lv_aload_n hx hb dJ2_addAll_56 rfl (lv_at hl 3 rfl) ?_
        refine lv_iconst (v := 0) hx hb dJ2_addAll_57 (by decide) ?_
        refine lv_aload hx hb dJ2_addAll_58 (lv_at hl 1 rfl) ?_
        refine lv_iload hx hb dJ2_addAll_60 (lv_at hl 0 rfl) ?_
        refine lv_iload_n hx hb dJ2_addAll_62 rfl (lv_at hl 2 rfl) ?_
        refine b_copyq hx hb hts (hml.trans hl.1.symm) hown q791 q541 q540 q85 hK hP hD hS 2 4 rfl rfl 0 0 n rfl rfl rfl (by omega) (by omega) (by omega) (by omega) (fun i hi y hy => el_any hK hE hRo hS (by rw [Nat.zero_add, hg_1 i hi] at hy; exact al_el hal2 hel i y hy)) (Nat.le_of_ble_eq_true rfl) (Nat.le_of_ble_eq_true rfl) dJ2_addAll_63 (fun H locs hP hD hS => ?_)
        have hP : WP Γ [[(b, .inr (11, [.int m2, .ref x2.1, .int (nI n)]))], (alA Γ x2), [(w_1, .inl (Γ.2.1 2, n, .inr (.inr (.inr (.inr g_1)))))], [(a, .inr (11, [.int (m + 1), .ref x.1, .int (nI 0)]))], [(x.1, .inl (Γ.2.1 2, x.2.1, .inr (.inr (.inr (.inr (va_cpy g_1 x.2.2 0 0 n))))))]] H := hP
        have hD : WD A [[(b, .inr (11, [.int m2, .ref x2.1, .int (nI n)]))], (alA Γ x2), [(w_1, .inl (Γ.2.1 2, n, .inr (.inr (.inr (.inr g_1)))))], [(a, .inr (11, [.int (m + 1), .ref x.1, .int (nI 0)]))], [(x.1, .inl (Γ.2.1 2, x.2.1, .inr (.inr (.inr (.inr (va_cpy g_1 x.2.2 0 0 n))))))]] := hD
        rw [show [(x.1, .inl (Γ.2.1 2, x.2.1, .inr (.inr (.inr (.inr (va_cpy g_1 x.2.2 0 0 n))))))] = alA Γ (x.1, x.2.1, (va_cpy g_1 x.2.2 0 0 n)) from (alA_1 (x := (x.1, x.2.1, (va_cpy g_1 x.2.2 0 0 n))) (by dsimp only; omega)).symm] at hP hD
        have hP : WP Γ [[(b, .inr (11, [.int m2, .ref x2.1, .int (nI n)]))], (alA Γ x2), [(w_1, .inl (Γ.2.1 2, n, .inr (.inr (.inr (.inr g_1)))))], [(a, .inr (11, [.int (m + 1), .ref x.1, .int (nI 0)]))], (alA Γ (x.1, x.2.1, (va_cpy g_1 x.2.2 0 0 n)))] H := hP
        have hD : WD A [[(b, .inr (11, [.int m2, .ref x2.1, .int (nI n)]))], (alA Γ x2), [(w_1, .inl (Γ.2.1 2, n, .inr (.inr (.inr (.inr g_1)))))], [(a, .inr (11, [.int (m + 1), .ref x.1, .int (nI 0)]))], (alA Γ (x.1, x.2.1, (va_cpy g_1 x.2.2 0 0 n)))] := hD
        refine lv_aload_n hx hb dJ2_addAll_66 rfl (lv_at hl 4 rfl) ?_
        refine lv_iload hx hb dJ2_addAll_67 (lv_at hl 0 rfl) ?_
        refine lv_iload_n hx hb dJ2_addAll_69 rfl (lv_at hl 2 rfl) ?_
        refine lv_iadd hx hb dJ2_addAll_70 ?_
        refine b_top (nI_addE (a := 0) (b := n) (c := n) rfl rfl (by first | omega | rfl)) ?_
        refine b_put (C := RJ2) (T := TJ2) (N := 3) (ty := .int) (v := .int (nI n)) hx hb hts in_J2 tyJ2_ok nmJ2 hown hK hP hD hS 3 rfl rfl 2 (by decide) q134 (fun _ h9 => h9) rfl (by decide +kernel) rfl rfl (Nat.le_of_ble_eq_true rfl) dJ2_addAll_71 (fun H locs hP hD hS => ?_)
        have hP : WP Γ [[(b, .inr (11, [.int m2, .ref x2.1, .int (nI n)]))], (alA Γ x2), [(w_1, .inl (Γ.2.1 2, n, .inr (.inr (.inr (.inr g_1)))))], [(a, .inr (11, [.int (m + 1), .ref x.1, .int (nI n)]))], (alA Γ (x.1, x.2.1, (va_cpy g_1 x.2.2 0 0 n)))] H := hP
        have hD : WD A [[(b, .inr (11, [.int m2, .ref x2.1, .int (nI n)]))], (alA Γ x2), [(w_1, .inl (Γ.2.1 2, n, .inr (.inr (.inr (.inr g_1)))))], [(a, .inr (11, [.int (m + 1), .ref x.1, .int (nI n)]))], (alA Γ (x.1, x.2.1, (va_cpy g_1 x.2.2 0 0 n)))] := hD
        refine lv_iconst (v := 1) hx hb dJ2_addAll_74 (by decide) ?_
        have hP : WP Γ [[(a, .inr (11, [.int (m + 1), .ref x.1, .int (nI n)]))], (alA Γ (x.1, x.2.1, (va_cpy g_1 x.2.2 0 0 n))), [(b, .inr (11, [.int m2, .ref x2.1, .int (nI n)]))], (alA Γ x2)] H := bP_sel hP [3, 4, 0, 1] rfl
        have hD : WD A [[(a, .inr (11, [.int (m + 1), .ref x.1, .int (nI n)]))], (alA Γ (x.1, x.2.1, (va_cpy g_1 x.2.2 0 0 n))), [(b, .inr (11, [.int m2, .ref x2.1, .int (nI n)]))], (alA Γ x2)] := bD_sel hD [3, 4, 0, 1] rfl rfl
        exact b_zret hx hb hr hlocks hP hD hS (by first | omega | (dsimp only; omega)) (by first | omega | (dsimp only; omega)) rfl ⟨(x.1, x.2.1, (va_cpy g_1 x.2.2 0 0 n)), (alI_all hal2 (by omega) (by omega) (by omega) hg_1 (alI_f0 hal)), (by rw [if_neg (by omega)]), (by simp only [Nat.zero_add])⟩ dJ2_addAll_75
      · -- 43 not taken
        have n_5 : ¬ (n ≤ x.2.1) := fun h => c_5 ((nI_leI (a := n) (b := x.2.1) (by omega) (by omega)).mpr h)
        have m_5 : x.2.1 < n := by omega
        have d_5 := Int32.not_le.mp c_5
        have hgl := glN_b (cap := x.2.1) (q := n) (by omega) (by omega)
        refine lv_aload_n hx hb dJ2_addAll_46 rfl (lv_at hl 4 rfl) ?_
        refine lv_iload hx hb dJ2_addAll_47 (lv_at hl 0 rfl) ?_
        refine lv_iload_n hx hb dJ2_addAll_49 rfl (lv_at hl 2 rfl) ?_
        refine lv_iadd hx hb dJ2_addAll_50 ?_
        refine b_top (nI_addE (a := 0) (b := n) (c := n) rfl rfl (by first | omega | rfl)) ?_
        refine b_callq (br := [[(b, .inr (11, [.int m2, .ref x2.1, .int (nI n)]))], (alA Γ x2), [(w_1, .inl (Γ.2.1 2, n, .inr (.inr (.inr (.inr g_1)))))]]) (b_runV ⟨hx, hb, hml, hown, hts⟩ (mt_AL_grow2 l Γ _ a (m + 1) x.1 0 x.2.1 x.2.2 n E (by omega) (by omega) (by omega) (al_el hal (fun k hk => absurd hk (Nat.not_lt_zero k)))) (lw_V q485 q487 qs3 q66 q488) rfl rfl 1 (by decide +kernel) ⟨(Nat.le_of_ble_eq_true rfl), (Nat.le_of_ble_eq_true rfl)⟩ (c_pre hP hD hS hA hK hE [3, 4] rfl rfl (ro_pass (ro_sel (ro2 := [E]) hRo [0] rfl) hD hS hA [3, 4] rfl)) (recv_at (q := (RJ2, TJ2, 3)) hK (b_at (k := 3) hP rfl) rfl) rfl hl.1 rfl (Nat.le_of_ble_eq_true rfl) dJ2_addAll_51 ⟨(by first | omega | (dsimp only; omega)), (by first | omega | (dsimp only; omega))⟩) hP hD hS hA [3, 4] [0, 1, 2] rfl rfl rfl (fun r_6 u_6 H locs hw_6 hP hD hS _ => ?_)
        obtain ⟨w_6, rfl, rfl⟩ := hw_6
        have hP : WP Γ [[(a, .inr (11, [.int (m + 1), .ref w_6, .int (nI 0)]))], [(w_6, .inl (Γ.2.1 2, (glN x.2.1 n), .inr (.inr (.inr (.inr (va_cpy x.2.2 (fun _ => none) 0 0 x.2.1))))))], [(b, .inr (11, [.int m2, .ref x2.1, .int (nI n)]))], (alA Γ x2), [(w_1, .inl (Γ.2.1 2, n, .inr (.inr (.inr (.inr g_1)))))]] H := hP
        have hD : WD A [[(a, .inr (11, [.int (m + 1), .ref w_6, .int (nI 0)]))], [(w_6, .inl (Γ.2.1 2, (glN x.2.1 n), .inr (.inr (.inr (.inr (va_cpy x.2.2 (fun _ => none) 0 0 x.2.1))))))], [(b, .inr (11, [.int m2, .ref x2.1, .int (nI n)]))], (alA Γ x2), [(w_1, .inl (Γ.2.1 2, n, .inr (.inr (.inr (.inr g_1)))))]] := hD
        refine W.eq (g2 := F0 mi_ 54 ls ([.ref w_6])) rfl ?_
        refine lv_astore (lv' := [(4, .ref w_6), (5, .int (nI 0)), (3, .int (nI n)), (2, .ref w_1), (0, .ref a), (1, .ref b)]) hx hb dJ2_addAll_54 hl (by decide) rfl (fun ls hl => ?_)
        refine lv_aload_n hx hb dJ2_addAll_56 rfl (lv_at hl 3 rfl) ?_
        refine lv_iconst (v := 0) hx hb dJ2_addAll_57 (by decide) ?_
        refine lv_aload hx hb dJ2_addAll_58 (lv_at hl 0 rfl) ?_
        refine lv_iload hx hb dJ2_addAll_60 (lv_at hl 1 rfl) ?_
        refine lv_iload_n hx hb dJ2_addAll_62 rfl (lv_at hl 2 rfl) ?_
        refine b_copyq hx hb hts (hml.trans hl.1.symm) hown q791 q541 q540 q85 hK hP hD hS 4 1 rfl rfl 0 0 n rfl rfl rfl (by omega) (by omega) (by omega) (by omega) (fun i hi y hy => el_any hK hE hRo hS (by rw [Nat.zero_add, hg_1 i hi] at hy; exact al_el hal2 hel i y hy)) (Nat.le_of_ble_eq_true rfl) (Nat.le_of_ble_eq_true rfl) dJ2_addAll_63 (fun H locs hP hD hS => ?_)
        have hP : WP Γ [[(a, .inr (11, [.int (m + 1), .ref w_6, .int (nI 0)]))], [(w_6, .inl (Γ.2.1 2, (glN x.2.1 n), .inr (.inr (.inr (.inr (va_cpy g_1 (va_cpy x.2.2 (fun _ => none) 0 0 x.2.1) 0 0 n))))))], [(b, .inr (11, [.int m2, .ref x2.1, .int (nI n)]))], (alA Γ x2), [(w_1, .inl (Γ.2.1 2, n, .inr (.inr (.inr (.inr g_1)))))]] H := hP
        have hD : WD A [[(a, .inr (11, [.int (m + 1), .ref w_6, .int (nI 0)]))], [(w_6, .inl (Γ.2.1 2, (glN x.2.1 n), .inr (.inr (.inr (.inr (va_cpy g_1 (va_cpy x.2.2 (fun _ => none) 0 0 x.2.1) 0 0 n))))))], [(b, .inr (11, [.int m2, .ref x2.1, .int (nI n)]))], (alA Γ x2), [(w_1, .inl (Γ.2.1 2, n, .inr (.inr (.inr (.inr g_1)))))]] := hD
        rw [show [(w_6, .inl (Γ.2.1 2, (glN x.2.1 n), .inr (.inr (.inr (.inr (va_cpy g_1 (va_cpy x.2.2 (fun _ => none) 0 0 x.2.1) 0 0 n))))))] = alA Γ (w_6, (glN x.2.1 n), (va_cpy g_1 (va_cpy x.2.2 (fun _ => none) 0 0 x.2.1) 0 0 n)) from (alA_1 (x := (w_6, (glN x.2.1 n), (va_cpy g_1 (va_cpy x.2.2 (fun _ => none) 0 0 x.2.1) 0 0 n))) (by dsimp only; omega)).symm] at hP hD
        have hP : WP Γ [[(a, .inr (11, [.int (m + 1), .ref w_6, .int (nI 0)]))], (alA Γ (w_6, (glN x.2.1 n), (va_cpy g_1 (va_cpy x.2.2 (fun _ => none) 0 0 x.2.1) 0 0 n))), [(b, .inr (11, [.int m2, .ref x2.1, .int (nI n)]))], (alA Γ x2), [(w_1, .inl (Γ.2.1 2, n, .inr (.inr (.inr (.inr g_1)))))]] H := hP
        have hD : WD A [[(a, .inr (11, [.int (m + 1), .ref w_6, .int (nI 0)]))], (alA Γ (w_6, (glN x.2.1 n), (va_cpy g_1 (va_cpy x.2.2 (fun _ => none) 0 0 x.2.1) 0 0 n))), [(b, .inr (11, [.int m2, .ref x2.1, .int (nI n)]))], (alA Γ x2), [(w_1, .inl (Γ.2.1 2, n, .inr (.inr (.inr (.inr g_1)))))]] := hD
        refine lv_aload_n hx hb dJ2_addAll_66 rfl (lv_at hl 4 rfl) ?_
        refine lv_iload hx hb dJ2_addAll_67 (lv_at hl 1 rfl) ?_
        refine lv_iload_n hx hb dJ2_addAll_69 rfl (lv_at hl 2 rfl) ?_
        refine lv_iadd hx hb dJ2_addAll_70 ?_
        refine b_top (nI_addE (a := 0) (b := n) (c := n) rfl rfl (by first | omega | rfl)) ?_
        refine b_put (C := RJ2) (T := TJ2) (N := 3) (ty := .int) (v := .int (nI n)) hx hb hts in_J2 tyJ2_ok nmJ2 hown hK hP hD hS 0 rfl rfl 2 (by decide) q134 (fun _ h9 => h9) rfl (by decide +kernel) rfl rfl (Nat.le_of_ble_eq_true rfl) dJ2_addAll_71 (fun H locs hP hD hS => ?_)
        have hP : WP Γ [[(a, .inr (11, [.int (m + 1), .ref w_6, .int (nI n)]))], (alA Γ (w_6, (glN x.2.1 n), (va_cpy g_1 (va_cpy x.2.2 (fun _ => none) 0 0 x.2.1) 0 0 n))), [(b, .inr (11, [.int m2, .ref x2.1, .int (nI n)]))], (alA Γ x2), [(w_1, .inl (Γ.2.1 2, n, .inr (.inr (.inr (.inr g_1)))))]] H := hP
        have hD : WD A [[(a, .inr (11, [.int (m + 1), .ref w_6, .int (nI n)]))], (alA Γ (w_6, (glN x.2.1 n), (va_cpy g_1 (va_cpy x.2.2 (fun _ => none) 0 0 x.2.1) 0 0 n))), [(b, .inr (11, [.int m2, .ref x2.1, .int (nI n)]))], (alA Γ x2), [(w_1, .inl (Γ.2.1 2, n, .inr (.inr (.inr (.inr g_1)))))]] := hD
        refine lv_iconst (v := 1) hx hb dJ2_addAll_74 (by decide) ?_
        have hP : WP Γ [[(a, .inr (11, [.int (m + 1), .ref w_6, .int (nI n)]))], (alA Γ (w_6, (glN x.2.1 n), (va_cpy g_1 (va_cpy x.2.2 (fun _ => none) 0 0 x.2.1) 0 0 n))), [(b, .inr (11, [.int m2, .ref x2.1, .int (nI n)]))], (alA Γ x2)] H := bP_sel hP [0, 1, 2, 3] rfl
        have hD : WD A [[(a, .inr (11, [.int (m + 1), .ref w_6, .int (nI n)]))], (alA Γ (w_6, (glN x.2.1 n), (va_cpy g_1 (va_cpy x.2.2 (fun _ => none) 0 0 x.2.1) 0 0 n))), [(b, .inr (11, [.int m2, .ref x2.1, .int (nI n)]))], (alA Γ x2)] := bD_sel hD [0, 1, 2, 3] rfl rfl
        exact b_zret hx hb hr hlocks hP hD hS (by first | omega | (dsimp only; omega)) (by first | omega | (dsimp only; omega)) rfl ⟨(w_6, (glN x.2.1 n), (va_cpy g_1 (va_cpy x.2.2 (fun _ => none) 0 0 x.2.1) 0 0 n)), (alI_all hal2 (by omega) (by omega) (by omega) hg_1 (fun k => by show (if 0 ≤ k ∧ k < 0 + x.2.1 then x.2.2 (0 + (k - 0)) else none) = none; split; exact alI_f0 hal _; rfl)), (by rw [if_neg (by omega)]), (by simp only [Nat.zero_add])⟩ dJ2_addAll_75
  · -- 21 not taken
    have n_2 : n = 0 := (nI_eq (by omega) (by omega)).mp (show nI n = nI 0 from c_2)
    refine lv_iconst (v := 0) hx hb dJ2_addAll_24 (by decide) ?_
    have hP : WP Γ [[(a, .inr (11, [.int (m + 1), .ref x.1, .int (nI 0)]))], (alA Γ x), [(b, .inr (11, [.int m2, .ref x2.1, .int (nI n)]))], (alA Γ x2)] H := bP_sel hP [3, 4, 0, 1] rfl
    have hD : WD A [[(a, .inr (11, [.int (m + 1), .ref x.1, .int (nI 0)]))], (alA Γ x), [(b, .inr (11, [.int m2, .ref x2.1, .int (nI n)]))], (alA Γ x2)] := bD_sel hD [3, 4, 0, 1] rfl rfl
    exact b_zret hx hb hr hlocks hP hD hS (by first | omega | (dsimp only; omega)) (by first | omega | (dsimp only; omega)) rfl ⟨x, (by have h9 : n = 0 := (by omega); subst h9; exact alI_c hal (fun k hk => absurd hk (Nat.not_lt_zero k))), (by rw [if_pos (by omega)]), (by have h9 : n = 0 := (by omega); subst h9; with_reducible rfl)⟩ dJ2_addAll_25
set_option maxHeartbeats 4000000 in
set_option maxRecDepth 100000 in
theorem mt_Itr_init (l : Launch) (Γ : GE) (sz : Nat) (t : Nat) (a : Nat) (m : Int32) (v : Nat) (n : Nat)  : KM l yJ13_init cJ13_init 2 none Γ 1 30 0 0 [.ref t, .ref a] [[(t, .inr (15, [.int 0, .int 0, .int 0, .null]))], [(a, .inr (11, [.int m, .ref v, .int (nI n)]))]] [] sz (Qv Γ (fun u_ => u_ = [[(t, .inr (15, [.int 0, .int (-1), .int m, .ref a]))], [(a, .inr (11, [.int m, .ref v, .int (nI n)]))]])) := by
  refine K_intro (by decide) (Nat.le_of_ble_eq_true rfl) ?_
  intro pr_ ev_ s mi_ below meth cd_ A ls hx hb hr hml hown hts hlocks hname hK hE hRo hP hD hA hS hsz hl
  have hl : lv_has ls 2 [(0, .ref t), (1, .ref a)] := hl
  have hown : s.vm.findClass RJ13 = some mi_.cls := hown
  refine lv_aload_n hx hb dJ13_init_0 rfl (lv_at hl 0 rfl) ?_
  refine lv_aload_n hx hb dJ13_init_1 rfl (lv_at hl 1 rfl) ?_
  refine b_putF (C := RJ13) (T := TJ13) (N := 4) (ty := (tyJ13 3)) (v := .ref a) hx hb hts in_J13 tyJ13_ok nmJ13 hown hK hP hD hS 0 rfl rfl 3 (by decide) q309 (fun _ h9 => h9) rfl hname rfl rfl (by decide +kernel) rfl rfl (Nat.le_of_ble_eq_true rfl) dJ13_init_2 (fun H locs hP hD hS => ?_)
  have hP : WP Γ [[(t, .inr (15, [.int 0, .int 0, .int 0, .ref a]))], [(a, .inr (11, [.int m, .ref v, .int (nI n)]))]] H := hP
  have hD : WD A [[(t, .inr (15, [.int 0, .int 0, .int 0, .ref a]))], [(a, .inr (11, [.int m, .ref v, .int (nI n)]))]] := hD
  refine lv_aload_n hx hb dJ13_init_5 rfl (lv_at hl 0 rfl) ?_
  refine W.objInit hx hb hown (hts _ q305) (hts _ q109) (hts _ q110) rfl (by rw [hml]; exact hl.1) rfl dJ13_init_6 (Nat.le_of_ble_eq_true rfl) (Nat.le_of_ble_eq_true rfl) ?_
  refine W.eq (g2 := F0 mi_ 9 ls ([])) rfl ?_
  refine lv_aload_n hx hb dJ13_init_9 rfl (lv_at hl 0 rfl) ?_
  refine lv_iconst (v := (-1)) hx hb dJ13_init_10 (by decide) ?_
  refine b_put (C := RJ13) (T := TJ13) (N := 4) (ty := .int) (v := .int (-1)) hx hb hts in_J13 tyJ13_ok nmJ13 hown hK hP hD hS 0 rfl rfl 1 (by decide) q307 (fun _ h9 => h9) rfl (by decide +kernel) rfl rfl (Nat.le_of_ble_eq_true rfl) dJ13_init_11 (fun H locs hP hD hS => ?_)
  have hP : WP Γ [[(t, .inr (15, [.int 0, .int (-1), .int 0, .ref a]))], [(a, .inr (11, [.int m, .ref v, .int (nI n)]))]] H := hP
  have hD : WD A [[(t, .inr (15, [.int 0, .int (-1), .int 0, .ref a]))], [(a, .inr (11, [.int m, .ref v, .int (nI n)]))]] := hD
  refine lv_aload_n hx hb dJ13_init_14 rfl (lv_at hl 0 rfl) ?_
  refine lv_aload_n hx hb dJ13_init_15 rfl (lv_at hl 0 rfl) ?_
  refine b_get (C := RJ13) (T := TJ13) (N := 4) (v := .ref a) hx hb hts in_J13 hown hK (b_at (k := 0) hP rfl) rfl 3 (by decide) q309 (fun _ h9 => h9) rfl dJ13_init_16 ?_
  refine b_get (C := RJ2) (T := TJ2) (N := 3) (v := .int m) hx hb hts in_J2 hown hK (b_at (k := 1) hP rfl) rfl 0 (by decide) q136 (u_same (hts _ q137)) rfl dJ13_init_19 ?_
  refine b_put (C := RJ13) (T := TJ13) (N := 4) (ty := .int) (v := .int m) hx hb hts in_J13 tyJ13_ok nmJ13 hown hK hP hD hS 0 rfl rfl 2 (by decide) q308 (fun _ h9 => h9) rfl (by decide +kernel) rfl rfl (Nat.le_of_ble_eq_true rfl) dJ13_init_22 (fun H locs hP hD hS => ?_)
  have hP : WP Γ [[(t, .inr (15, [.int 0, .int (-1), .int m, .ref a]))], [(a, .inr (11, [.int m, .ref v, .int (nI n)]))]] H := hP
  have hD : WD A [[(t, .inr (15, [.int 0, .int (-1), .int m, .ref a]))], [(a, .inr (11, [.int m, .ref v, .int (nI n)]))]] := hD
  exact b_vret hx hb hr hlocks hP hD hS (Nat.le_of_ble_eq_true rfl) (Nat.le_of_ble_eq_true rfl) (by first | rfl | (simp; done)) dJ13_init_25
set_option maxHeartbeats 4000000 in
set_option maxRecDepth 100000 in
theorem mt_AL_iterator (l : Launch) (Γ : GE) (sz : Nat) (a : Nat) (m : Int32) (v : Nat) (n : Nat)  : KM l yJ2_iterator cJ2_iterator 1 (some (FieldType.object "java/util/Iterator")) Γ 2 51 1 4 [.ref a] [[(a, .inr (11, [.int m, .ref v, .int (nI n)]))]] [] sz (Qq Γ (fun r_ u_ => ∃ t : Nat, r_ = some t ∧ u_ = [[(t, .inr (15, [.int (nI 0), .int (-1), .int m, .ref a]))], [(a, .inr (11, [.int m, .ref v, .int (nI n)]))]])) := by
  refine K_intro (by decide) (Nat.le_of_ble_eq_true rfl) ?_
  intro pr_ ev_ s mi_ below meth cd_ A ls hx hb hr hml hown hts hlocks hname hK hE hRo hP hD hA hS hsz hl
  have hl : lv_has ls 1 [(0, .ref a)] := hl
  have hown : s.vm.findClass RJ2 = some mi_.cls := hown
  refine b_new (ci := 15) (fs := [.int 0, .int 0, .int 0, .null]) (C := RJ13) (T := TJ13) (N := 4) hx hb hts in_J13 tyJ13_ok hown q300 q301 q79 hK hP hD hS hA rfl (fun j hj => by rcases (show j = 0 ∨ j = 1 ∨ j = 2 ∨ j = 3 by omega) with rfl | rfl | rfl | rfl <;> rfl) (Nat.le_of_ble_eq_true rfl) (Nat.le_of_ble_eq_true rfl) dJ2_iterator_0 (fun a_1 H hP hD hS => ?_)
  have hP : WP Γ [[(a, .inr (11, [.int m, .ref v, .int (nI n)]))], [(a_1, .inr (15, [.int 0, .int 0, .int 0, .null]))]] H := hP
  have hD : WD A [[(a, .inr (11, [.int m, .ref v, .int (nI n)]))], [(a_1, .inr (15, [.int 0, .int 0, .int 0, .null]))]] := hD
  refine lv_dup hx hb dJ2_iterator_3 rfl ?_
  refine lv_aload_n hx hb dJ2_iterator_4 rfl (lv_at hl 0 rfl) ?_
  refine b_callv (br := []) (b_runI ⟨hx, hb, hml, hown, hts⟩ (mt_Itr_init l Γ _ a_1 a m v n) (lw_meth q304) q79 q302 q303 rfl rfl rfl 1 (by decide +kernel) ⟨(Nat.le_of_ble_eq_true rfl), (Nat.le_of_ble_eq_true rfl)⟩ (c_pre hP hD hS hA hK hE [1, 0] rfl rfl ro_nil) rfl hl.1 rfl (Nat.le_of_ble_eq_true rfl) dJ2_iterator_5 ⟨(Nat.le_of_ble_eq_true rfl), (Nat.le_of_ble_eq_true rfl)⟩) hP hD hS hA [1, 0] [] rfl rfl rfl (fun u_2 H locs hw_2 hP hD hS _ => ?_)
  obtain rfl := hw_2
  have hP : WP Γ [[(a_1, .inr (15, [.int 0, .int (-1), .int m, .ref a]))], [(a, .inr (11, [.int m, .ref v, .int (nI n)]))]] H := hP
  have hD : WD A [[(a_1, .inr (15, [.int 0, .int (-1), .int m, .ref a]))], [(a, .inr (11, [.int m, .ref v, .int (nI n)]))]] := hD
  exact b_aret hx hb hr (by first | exact Or.inl ⟨_, rfl⟩ | exact Or.inr ⟨_, rfl⟩) hlocks hP hD hS (Nat.le_of_ble_eq_true rfl) (Nat.le_of_ble_eq_true rfl) ⟨a_1, (by first | rfl | (simp; done)), rfl⟩ dJ2_iterator_8
set_option maxHeartbeats 4000000 in
set_option maxRecDepth 100000 in
theorem mt_Itr_hasNext_yes (l : Launch) (Γ : GE) (sz : Nat) (t : Nat) (a : Nat) (m : Int32) (v : Nat) (n : Nat) (j : Nat) (lr : Int32) (hj : j < n) (hn : n ≤ 100) : KM l yJ13_hasNext cJ13_hasNext 1 (some FieldType.boolean) Γ 0 0 0 0 [.ref t] [[(t, .inr (15, [.int (nI j), .int lr, .int m, .ref a]))], [(a, .inr (11, [.int m, .ref v, .int (nI n)]))]] [] sz (Qi Γ (fun r_ u_ => r_ = 1 ∧ u_ = [[(t, .inr (15, [.int (nI j), .int lr, .int m, .ref a]))], [(a, .inr (11, [.int m, .ref v, .int (nI n)]))]])) := by
  refine K_intro (by decide) (Nat.le_of_ble_eq_true rfl) ?_
  intro pr_ ev_ s mi_ below meth cd_ A ls hx hb hr hml hown hts hlocks hname hK hE hRo hP hD hA hS hsz hl
  have hl : lv_has ls 1 [(0, .ref t)] := hl
  have hown : s.vm.findClass RJ13 = some mi_.cls := hown
  refine lv_aload_n hx hb dJ13_hasNext_0 rfl (lv_at hl 0 rfl) ?_
  refine b_get (C := RJ13) (T := TJ13) (N := 4) (v := .int (nI j)) hx hb hts in_J13 hown hK (b_at (k := 0) hP rfl) rfl 0 (by decide) q306 (fun _ h9 => h9) rfl dJ13_hasNext_1 ?_
  refine lv_aload_n hx hb dJ13_hasNext_4 rfl (lv_at hl 0 rfl) ?_
  refine b_get (C := RJ13) (T := TJ13) (N := 4) (v := .ref a) hx hb hts in_J13 hown hK (b_at (k := 0) hP rfl) rfl 3 (by decide) q309 (fun _ h9 => h9) rfl dJ13_hasNext_5 ?_
  refine b_getN (C := RJ2) (T := TJ2) (N := 3) (v := .int (nI n)) hx hb hts hE in_J2 hown hK (b_at (k := 1) hP rfl) rfl 2 (by decide) q133 (fun _ h9 => h9) rfl dJ13_hasNext_8 ?_
  refine lv_icmp_eq (tgt := 18) hx hb dJ13_hasNext_11 (by decide) (fun c_1 => ?_) (fun c_1 => ?_)
  · -- 11 taken
    have n_1 : j = n := (nI_eq (by omega) (by omega)).mp (show nI j = nI n from c_1)
    exfalso; omega
  · -- 11 not taken
    have n_1 : ¬ (j = n) := fun h => c_1 ((nI_eq (a := j) (b := n) (by omega) (by omega)).mpr h)
    refine lv_iconst (v := 1) hx hb dJ13_hasNext_14 (by decide) ?_
    refine lv_goto (tgt := 19) hx hb dJ13_hasNext_15 (by decide) ?_
    exact b_zret hx hb hr hlocks hP hD hS (Nat.le_of_ble_eq_true rfl) (Nat.le_of_ble_eq_true rfl) rfl ⟨(by first | with_reducible rfl | (simp [n_1]; done) | rfl), (by first | with_reducible rfl | (simp [n_1]; done) | rfl)⟩ dJ13_hasNext_19
set_option maxHeartbeats 4000000 in
set_option maxRecDepth 100000 in
theorem mt_Itr_hasNext_no (l : Launch) (Γ : GE) (sz : Nat) (t : Nat) (a : Nat) (m : Int32) (v : Nat) (n : Nat) (j : Nat) (lr : Int32) (hj : j = n) (hn : n ≤ 100) : KM l yJ13_hasNext cJ13_hasNext 1 (some FieldType.boolean) Γ 0 0 0 0 [.ref t] [[(t, .inr (15, [.int (nI j), .int lr, .int m, .ref a]))], [(a, .inr (11, [.int m, .ref v, .int (nI n)]))]] [] sz (Qi Γ (fun r_ u_ => r_ = 0 ∧ u_ = [[(t, .inr (15, [.int (nI j), .int lr, .int m, .ref a]))], [(a, .inr (11, [.int m, .ref v, .int (nI n)]))]])) := by
  refine K_intro (by decide) (Nat.le_of_ble_eq_true rfl) ?_
  intro pr_ ev_ s mi_ below meth cd_ A ls hx hb hr hml hown hts hlocks hname hK hE hRo hP hD hA hS hsz hl
  have hl : lv_has ls 1 [(0, .ref t)] := hl
  have hown : s.vm.findClass RJ13 = some mi_.cls := hown
  refine lv_aload_n hx hb dJ13_hasNext_0 rfl (lv_at hl 0 rfl) ?_
  refine b_get (C := RJ13) (T := TJ13) (N := 4) (v := .int (nI j)) hx hb hts in_J13 hown hK (b_at (k := 0) hP rfl) rfl 0 (by decide) q306 (fun _ h9 => h9) rfl dJ13_hasNext_1 ?_
  refine lv_aload_n hx hb dJ13_hasNext_4 rfl (lv_at hl 0 rfl) ?_
  refine b_get (C := RJ13) (T := TJ13) (N := 4) (v := .ref a) hx hb hts in_J13 hown hK (b_at (k := 0) hP rfl) rfl 3 (by decide) q309 (fun _ h9 => h9) rfl dJ13_hasNext_5 ?_
  refine b_getN (C := RJ2) (T := TJ2) (N := 3) (v := .int (nI n)) hx hb hts hE in_J2 hown hK (b_at (k := 1) hP rfl) rfl 2 (by decide) q133 (fun _ h9 => h9) rfl dJ13_hasNext_8 ?_
  refine lv_icmp_eq (tgt := 18) hx hb dJ13_hasNext_11 (by decide) (fun c_1 => ?_) (fun c_1 => ?_)
  · -- 11 taken
    have n_1 : j = n := (nI_eq (by omega) (by omega)).mp (show nI j = nI n from c_1)
    refine lv_iconst (v := 0) hx hb dJ13_hasNext_18 (by decide) ?_
    exact b_zret hx hb hr hlocks hP hD hS (Nat.le_of_ble_eq_true rfl) (Nat.le_of_ble_eq_true rfl) rfl ⟨(by first | with_reducible rfl | (simp [n_1]; done) | rfl), (by first | with_reducible rfl | (simp [n_1]; done) | rfl)⟩ dJ13_hasNext_19
  · -- 11 not taken
    have n_1 : ¬ (j = n) := fun h => c_1 ((nI_eq (a := j) (b := n) (by omega) (by omega)).mpr h)
    exfalso; omega
set_option maxHeartbeats 4000000 in
set_option maxRecDepth 100000 in
theorem mt_Itr_check (l : Launch) (Γ : GE) (sz : Nat) (t : Nat) (a : Nat) (m : Int32) (v : Nat) (n : Nat) (j : Nat) (lr : Int32)  : KM l yJ13_checkForComodification cJ13_checkForComodification 1 none Γ 0 0 0 0 [.ref t] [[(t, .inr (15, [.int (nI j), .int lr, .int m, .ref a]))], [(a, .inr (11, [.int m, .ref v, .int (nI n)]))]] [] sz (Qv Γ (fun u_ => u_ = [[(t, .inr (15, [.int (nI j), .int lr, .int m, .ref a]))], [(a, .inr (11, [.int m, .ref v, .int (nI n)]))]])) := by
  refine K_intro (by decide) (Nat.le_of_ble_eq_true rfl) ?_
  intro pr_ ev_ s mi_ below meth cd_ A ls hx hb hr hml hown hts hlocks hname hK hE hRo hP hD hA hS hsz hl
  have hl : lv_has ls 1 [(0, .ref t)] := hl
  have hown : s.vm.findClass RJ13 = some mi_.cls := hown
  refine lv_aload_n hx hb dJ13_checkForComodification_0 rfl (lv_at hl 0 rfl) ?_
  refine b_get (C := RJ13) (T := TJ13) (N := 4) (v := .ref a) hx hb hts in_J13 hown hK (b_at (k := 0) hP rfl) rfl 3 (by decide) q309 (fun _ h9 => h9) rfl dJ13_checkForComodification_1 ?_
  refine b_get (C := RJ2) (T := TJ2) (N := 3) (v := .int m) hx hb hts in_J2 hown hK (b_at (k := 1) hP rfl) rfl 0 (by decide) q136 (u_same (hts _ q137)) rfl dJ13_checkForComodification_4 ?_
  refine lv_aload_n hx hb dJ13_checkForComodification_7 rfl (lv_at hl 0 rfl) ?_
  refine b_get (C := RJ13) (T := TJ13) (N := 4) (v := .int m) hx hb hts in_J13 hown hK (b_at (k := 0) hP rfl) rfl 2 (by decide) q308 (fun _ h9 => h9) rfl dJ13_checkForComodification_8 ?_
  refine lv_icmp_eq (tgt := 22) hx hb dJ13_checkForComodification_11 (by decide) (fun c_1 => ?_) (fun c_1 => ?_)
  · -- 11 taken
    exact b_vret hx hb hr hlocks hP hD hS (Nat.le_of_ble_eq_true rfl) (Nat.le_of_ble_eq_true rfl) (by first | with_reducible rfl | (simp [c_1]; done) | rfl) dJ13_checkForComodification_22
  · -- 11 not taken
    exact absurd rfl c_1
set_option maxHeartbeats 4000000 in
set_option maxRecDepth 100000 in
theorem mt_Itr_next (l : Launch) (Γ : GE) (sz : Nat) (t : Nat) (a : Nat) (m : Int32) (x : LST) (n : Nat) (j : Nat) (lr : Int32) (c : Nat → Nat) (hal : alI Γ x n c) (hj : j < n) : KM l yJ13_next cJ13_next 3 (some (FieldType.object "java/lang/Object")) Γ 1 20 0 0 [.ref t] [[(t, .inr (15, [.int (nI j), .int lr, .int m, .ref a]))], [(a, .inr (11, [.int m, .ref x.1, .int (nI n)]))], (alA Γ x)] [] sz (Qq Γ (fun r_ u_ => r_ = some (c j) ∧ u_ = [[(t, .inr (15, [.int (nI (j + 1)), .int (nI j), .int m, .ref a]))], [(a, .inr (11, [.int m, .ref x.1, .int (nI n)]))], (alA Γ x)])) := by
  refine K_intro (by decide) (Nat.le_of_ble_eq_true rfl) ?_
  intro pr_ ev_ s mi_ below meth cd_ A ls hx hb hr hml hown hts hlocks hname hK hE hRo hP hD hA hS hsz hl
  have hl : lv_has ls 3 [(0, .ref t)] := hl
  have hown : s.vm.findClass RJ13 = some mi_.cls := hown
  have hln := alI_n hal
  have hcap : ¬ x.2.1 = 0 := by omega
  rw [alA_1 hcap] at hP hD
  have hP : WP Γ [[(t, .inr (15, [.int (nI j), .int lr, .int m, .ref a]))], [(a, .inr (11, [.int m, .ref x.1, .int (nI n)]))], [(x.1, .inl (Γ.2.1 2, x.2.1, .inr (.inr (.inr (.inr x.2.2)))))]] s.heap := hP
  have hD : WD A [[(t, .inr (15, [.int (nI j), .int lr, .int m, .ref a]))], [(a, .inr (11, [.int m, .ref x.1, .int (nI n)]))], [(x.1, .inl (Γ.2.1 2, x.2.1, .inr (.inr (.inr (.inr x.2.2)))))]] := hD
  refine lv_aload_n hx hb dJ13_next_0 rfl (lv_at hl 0 rfl) ?_
  refine b_callv (br := [[(x.1, .inl (Γ.2.1 2, x.2.1, .inr (.inr (.inr (.inr x.2.2)))))]]) (b_runV ⟨hx, hb, hml, hown, hts⟩ (mt_Itr_check l Γ _ t a m x.1 n j lr) (lw_V q338 q339 q340 q79 q341) rfl rfl 0 (by decide +kernel) ⟨(Nat.le_of_ble_eq_true rfl), (Nat.le_of_ble_eq_true rfl)⟩ (c_pre hP hD hS hA hK hE [0, 1] rfl rfl ro_nil) (recv_at (q := (RJ13, TJ13, 4)) hK (b_at (k := 0) hP rfl) rfl) rfl hl.1 rfl (Nat.le_of_ble_eq_true rfl) dJ13_next_1 ⟨(Nat.le_of_ble_eq_true rfl), (Nat.le_of_ble_eq_true rfl)⟩) hP hD hS hA [0, 1] [2] rfl rfl rfl (fun u_1 H locs hw_1 hP hD hS _ => ?_)
  obtain rfl := hw_1
  have hP : WP Γ [[(t, .inr (15, [.int (nI j), .int lr, .int m, .ref a]))], [(a, .inr (11, [.int m, .ref x.1, .int (nI n)]))], [(x.1, .inl (Γ.2.1 2, x.2.1, .inr (.inr (.inr (.inr x.2.2)))))]] H := hP
  have hD : WD A [[(t, .inr (15, [.int (nI j), .int lr, .int m, .ref a]))], [(a, .inr (11, [.int m, .ref x.1, .int (nI n)]))], [(x.1, .inl (Γ.2.1 2, x.2.1, .inr (.inr (.inr (.inr x.2.2)))))]] := hD
  refine lv_aload_n hx hb dJ13_next_4 rfl (lv_at hl 0 rfl) ?_
  refine b_get (C := RJ13) (T := TJ13) (N := 4) (v := .int (nI j)) hx hb hts in_J13 hown hK (b_at (k := 0) hP rfl) rfl 0 (by decide) q306 (fun _ h9 => h9) rfl dJ13_next_5 ?_
  refine lv_istore_n (lv' := [(1, .int (nI j)), (0, .ref t)]) hx hb dJ13_next_8 rfl hl (by decide) rfl (fun ls hl => ?_)
  refine lv_iload_n hx hb dJ13_next_9 rfl (lv_at hl 0 rfl) ?_
  refine lv_aload_n hx hb dJ13_next_10 rfl (lv_at hl 1 rfl) ?_
  refine b_get (C := RJ13) (T := TJ13) (N := 4) (v := .ref a) hx hb hts in_J13 hown hK (b_at (k := 0) hP rfl) rfl 3 (by decide) q309 (fun _ h9 => h9) rfl dJ13_next_11 ?_
  refine b_getN (C := RJ2) (T := TJ2) (N := 3) (v := .int (nI n)) hx hb hts hE in_J2 hown hK (b_at (k := 1) hP rfl) rfl 2 (by decide) q133 (fun _ h9 => h9) rfl dJ13_next_14 ?_
  refine lv_icmp_lt (tgt := 28) hx hb dJ13_next_17 (by decide) (fun c_2 => ?_) (fun c_2 => ?_)
  · -- 17 taken
    have n_2 : j < n := (nI_ltI (by omega) (by omega)).mp (show nI j < nI n from c_2)
    refine lv_aload_n hx hb dJ13_next_28 rfl (lv_at hl 1 rfl) ?_
    refine b_get (C := RJ13) (T := TJ13) (N := 4) (v := .ref a) hx hb hts in_J13 hown hK (b_at (k := 0) hP rfl) rfl 3 (by decide) q309 (fun _ h9 => h9) rfl dJ13_next_29 ?_
    refine b_get (C := RJ2) (T := TJ2) (N := 3) (v := .ref x.1) hx hb hts in_J2 hown hK (b_at (k := 1) hP rfl) rfl 1 (by decide) q132 (fun _ h9 => h9) rfl dJ13_next_32 ?_
    refine lv_astore_n (lv' := [(2, .ref x.1), (1, .int (nI j)), (0, .ref t)]) hx hb dJ13_next_35 rfl hl (by decide) rfl (fun ls hl => ?_)
    refine lv_iload_n hx hb dJ13_next_36 rfl (lv_at hl 1 rfl) ?_
    refine lv_aload_n hx hb dJ13_next_37 rfl (lv_at hl 0 rfl) ?_
    refine b_alen hx hb hK 2 (b_at (k := 2) hP rfl) rfl dJ13_next_38 ?_
    refine lv_icmp_lt (tgt := 50) hx hb dJ13_next_39 (by decide) (fun c_3 => ?_) (fun c_3 => ?_)
    · -- 39 taken
      have n_3 : j < x.2.1 := (nI_ltI (by omega) (by omega)).mp (show nI j < nI x.2.1 from c_3)
      refine lv_aload_n hx hb dJ13_next_50 rfl (lv_at hl 2 rfl) ?_
      refine lv_iload_n hx hb dJ13_next_51 rfl (lv_at hl 1 rfl) ?_
      refine lv_iconst (v := 1) hx hb dJ13_next_52 (by decide) ?_
      refine lv_iadd hx hb dJ13_next_53 ?_
      refine b_top (nI_addE (a := j) (b := 1) (c := j + 1) rfl rfl (by first | omega | rfl)) ?_
      refine b_put (C := RJ13) (T := TJ13) (N := 4) (ty := .int) (v := .int (nI (j + 1))) hx hb hts in_J13 tyJ13_ok nmJ13 hown hK hP hD hS 0 rfl rfl 0 (by decide) q306 (fun _ h9 => h9) rfl (by decide +kernel) rfl rfl (Nat.le_of_ble_eq_true rfl) dJ13_next_54 (fun H locs hP hD hS => ?_)
      have hP : WP Γ [[(t, .inr (15, [.int (nI (j + 1)), .int lr, .int m, .ref a]))], [(a, .inr (11, [.int m, .ref x.1, .int (nI n)]))], [(x.1, .inl (Γ.2.1 2, x.2.1, .inr (.inr (.inr (.inr x.2.2)))))]] H := hP
      have hD : WD A [[(t, .inr (15, [.int (nI (j + 1)), .int lr, .int m, .ref a]))], [(a, .inr (11, [.int m, .ref x.1, .int (nI n)]))], [(x.1, .inl (Γ.2.1 2, x.2.1, .inr (.inr (.inr (.inr x.2.2)))))]] := hD
      refine lv_aload_n hx hb dJ13_next_57 rfl (lv_at hl 0 rfl) ?_
      refine lv_aload_n hx hb dJ13_next_58 rfl (lv_at hl 2 rfl) ?_
      refine lv_iload_n hx hb dJ13_next_59 rfl (lv_at hl 1 rfl) ?_
      refine lv_dup_x1 hx hb dJ13_next_60 rfl rfl ?_
      refine b_put (C := RJ13) (T := TJ13) (N := 4) (ty := .int) (v := .int (nI j)) hx hb hts in_J13 tyJ13_ok nmJ13 hown hK hP hD hS 0 rfl rfl 1 (by decide) q307 (fun _ h9 => h9) rfl (by decide +kernel) rfl rfl (Nat.le_of_ble_eq_true rfl) dJ13_next_61 (fun H locs hP hD hS => ?_)
      have hP : WP Γ [[(t, .inr (15, [.int (nI (j + 1)), .int (nI j), .int m, .ref a]))], [(a, .inr (11, [.int m, .ref x.1, .int (nI n)]))], [(x.1, .inl (Γ.2.1 2, x.2.1, .inr (.inr (.inr (.inr x.2.2)))))]] H := hP
      have hD : WD A [[(t, .inr (15, [.int (nI (j + 1)), .int (nI j), .int m, .ref a]))], [(a, .inr (11, [.int m, .ref x.1, .int (nI n)]))], [(x.1, .inl (Γ.2.1 2, x.2.1, .inr (.inr (.inr (.inr x.2.2)))))]] := hD
      refine b_aald hx hb hK (b_at (k := 2) hP rfl) j rfl (by omega) (by omega) dJ13_next_64 ?_
      rw [show (x.2.2 j) = some (c j) from hal.2.2.2.1 j hj]
      refine W.eq (g2 := F0 mi_ 65 ls ([.ref (c j)])) rfl ?_
      rw [show [(x.1, .inl (Γ.2.1 2, x.2.1, .inr (.inr (.inr (.inr x.2.2)))))] = alA Γ x from (alA_1 hcap).symm] at hP hD
      have hP : WP Γ [[(t, .inr (15, [.int (nI (j + 1)), .int (nI j), .int m, .ref a]))], [(a, .inr (11, [.int m, .ref x.1, .int (nI n)]))], (alA Γ x)] H := hP
      have hD : WD A [[(t, .inr (15, [.int (nI (j + 1)), .int (nI j), .int m, .ref a]))], [(a, .inr (11, [.int m, .ref x.1, .int (nI n)]))], (alA Γ x)] := hD
      exact b_aret hx hb hr (by first | exact Or.inl ⟨_, rfl⟩ | exact Or.inr ⟨_, rfl⟩) hlocks hP hD hS (Nat.le_of_ble_eq_true rfl) (Nat.le_of_ble_eq_true rfl) ⟨(by first | with_reducible rfl | (simp [hcap, n_2, c_2, n_3, c_3]; done) | rfl), (by first | with_reducible rfl | (simp [hcap, n_2, c_2, n_3, c_3]; done) | rfl)⟩ dJ13_next_65
    · -- 39 not taken
      have n_3 : ¬ (j < x.2.1) := fun h => c_3 ((nI_ltI (a := j) (b := x.2.1) (by omega) (by omega)).mpr h)
      exfalso; omega
  · -- 17 not taken
    have n_2 : ¬ (j < n) := fun h => c_2 ((nI_ltI (a := j) (b := n) (by omega) (by omega)).mpr h)
    exfalso; omega
