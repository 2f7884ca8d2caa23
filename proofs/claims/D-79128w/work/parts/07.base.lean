/-! BASE: a world is a list of blocks (each a list of cells); contracts over blocks; what every state knows (EN) -/
abbrev BW : Type := List va_W
theorem bD_iff {A : Nat → Prop} {ws : va_W} : va_D A ws ↔ ws.Pairwise (fun x y => x.1 ≠ y.1) ∧ ∀ q ∈ ws, A q.1 := by
  constructor
  · rintro ⟨h1, h2⟩
    refine ⟨List.pairwise_iff_getElem.mpr (fun i j hi hj hij e => ?_), fun q hq => ?_⟩
    · have := h1 i j ws[i] ws[j] (List.getElem?_eq_getElem hi) (List.getElem?_eq_getElem hj) e
      omega
    · obtain ⟨k, hk⟩ := List.getElem?_of_mem hq
      exact h2 k q hk
  · rintro ⟨h1, h2⟩
    refine ⟨fun i j p q hi hj e => ?_, fun k q hk => h2 q (List.mem_of_getElem? hk)⟩
    obtain ⟨hil, rfl⟩ := List.getElem?_eq_some_iff.mp hi
    obtain ⟨hjl, rfl⟩ := List.getElem?_eq_some_iff.mp hj
    rcases Nat.lt_trichotomy i j with h | h | h
    · exact absurd e (List.pairwise_iff_getElem.mp h1 i j hil hjl h)
    · exact h
    · exact absurd e.symm (List.pairwise_iff_getElem.mp h1 j i hjl hil h)
theorem bP_iff {D : va_G} {cl : List vw_C} {ws : va_W} {H : Heap} : va_P D cl ws H ↔ ∀ q ∈ ws, va_at D cl q H := by
  constructor
  · intro h q hq
    obtain ⟨k, hk⟩ := List.getElem?_of_mem hq
    exact h k q hk
  · intro h k q hk
    exact h q (List.mem_of_getElem? hk)
theorem bA_iff {ws : va_W} {sz q : Nat} : va_A ws sz q ↔ (∃ e, (q, e) ∈ ws) ∨ sz ≤ q := by
  constructor
  · rintro (⟨k, e, h⟩ | h)
    · exact Or.inl ⟨e, List.mem_of_getElem? h⟩
    · exact Or.inr h
  · rintro (⟨e, h⟩ | h)
    · obtain ⟨k, hk⟩ := List.getElem?_of_mem h
      exact Or.inl ⟨k, e, hk⟩
    · exact Or.inr h
theorem bPw_iff {bs : BW} : bs.flatten.Pairwise (fun x y => x.1 ≠ y.1) ↔ (∀ B ∈ bs, B.Pairwise (fun x y => x.1 ≠ y.1)) ∧ bs.Pairwise (fun B C => ∀ x ∈ B, ∀ y ∈ C, x.1 ≠ y.1) := List.pairwise_flatten
theorem bMap_at {α : Type} {bs bs' : List α} {is : List Nat} (hs : is.map (fun i => bs[i]?) = bs'.map some) {k : Nat} {B : α} (hk : bs'[k]? = some B) : ∃ i, is[k]? = some i ∧ bs[i]? = some B := by
  have h1 : (is.map (fun i => bs[i]?))[k]? = some (some B) := by rw [hs, List.getElem?_map, hk]; rfl
  rw [List.getElem?_map] at h1
  cases hi : is[k]? with
  | none => rw [hi] at h1; cases h1
  | some i => rw [hi] at h1; exact ⟨i, rfl, Option.some.inj h1⟩
/-- some of the blocks, in another order -/
theorem bP_sel {D : va_G} {cl : List vw_C} {bs bs' : BW} {H : Heap} (h : va_P D cl bs.flatten H) (is : List Nat) (hs : is.map (fun i => bs[i]?) = bs'.map some) : va_P D cl bs'.flatten H := by
  rw [bP_iff] at h ⊢
  intro q hq
  obtain ⟨B, hB, hqB⟩ := List.mem_flatten.mp hq
  obtain ⟨k, hk⟩ := List.getElem?_of_mem hB
  obtain ⟨i, -, hi⟩ := bMap_at hs hk
  exact h q (List.mem_flatten.mpr ⟨B, List.mem_of_getElem? hi, hqB⟩)
theorem bD_sel {A : Nat → Prop} {bs bs' : BW} (h : va_D A bs.flatten) (is : List Nat) (hn : va_nd is = true) (hs : is.map (fun i => bs[i]?) = bs'.map some) : va_D A bs'.flatten := by
  rw [bD_iff] at h ⊢
  obtain ⟨h1, h2⟩ := h
  rw [bPw_iff] at h1 ⊢
  obtain ⟨h3, h4⟩ := h1
  have mem : ∀ B ∈ bs', B ∈ bs := by
    intro B hB
    obtain ⟨k, hk⟩ := List.getElem?_of_mem hB
    obtain ⟨i, -, hi⟩ := bMap_at hs hk
    exact List.mem_of_getElem? hi
  refine ⟨⟨fun B hB => h3 B (mem B hB), List.pairwise_iff_getElem.mpr (fun i j hi hj hij x hx y hy e => ?_)⟩, fun q hq => ?_⟩
  · obtain ⟨a, ha1, ha2⟩ := bMap_at hs (List.getElem?_eq_getElem hi)
    obtain ⟨b, hb1, hb2⟩ := bMap_at hs (List.getElem?_eq_getElem hj)
    have hab : a ≠ b := fun z => by
      subst z
      have := va_nd_inj is hn i j a ha1 hb1
      omega
    obtain ⟨hal, ea⟩ := List.getElem?_eq_some_iff.mp ha2
    obtain ⟨hbl, eb⟩ := List.getElem?_eq_some_iff.mp hb2
    rcases Nat.lt_or_gt_of_ne hab with z | z
    · exact List.pairwise_iff_getElem.mp h4 a b hal hbl z x (by rw [ea]; exact hx) y (by rw [eb]; exact hy) e
    · exact List.pairwise_iff_getElem.mp h4 b a hbl hal z y (by rw [eb]; exact hy) x (by rw [ea]; exact hx) e.symm
  · obtain ⟨B, hB, hqB⟩ := List.mem_flatten.mp hq
    exact h2 q (List.mem_flatten.mpr ⟨B, mem B hB, hqB⟩)
/-- the place of a block's first cell in the whole world -/
def bpos (bs : BW) (k : Nat) : Nat := (bs.take k).flatten.length
theorem fl_split : ∀ (bs : BW) (k : Nat) (B : va_W), bs[k]? = some B → bs.flatten = (bs.take k).flatten ++ (B ++ (bs.drop (k + 1)).flatten)
  | [], k, B, h => by simp at h
  | C :: bs, 0, B, h => by
    rw [List.getElem?_cons_zero] at h
    cases h
    simp
  | C :: bs, k + 1, B, h => by
    rw [List.getElem?_cons_succ] at h
    have := fl_split bs k B h
    simp [this]
theorem fl_get {bs : BW} {k : Nat} {x : Nat × va_E} (h : bs[k]? = some [x]) : bs.flatten[bpos bs k]? = some x := by
  unfold bpos
  rw [fl_split bs k _ h, List.getElem?_append_right (Nat.le_refl _)]
  simp
theorem fl_set {bs : BW} {k : Nat} {x y : Nat × va_E} (h : bs[k]? = some [x]) : bs.flatten.set (bpos bs k) y = (bs.set k [y]).flatten := by
  have hk := (List.getElem?_eq_some_iff.mp h).1
  have h2 : (bs.set k [y])[k]? = some [y] := List.getElem?_set_self hk
  unfold bpos
  rw [fl_split bs k _ h, fl_split _ k _ h2, List.set_append_right _ _ (Nat.le_refl _)]
  simp [List.take_set_of_le, List.drop_set_of_lt]
theorem fl_push {bs : BW} {x : Nat × va_E} : bs.flatten ++ [x] = (bs ++ [[x]]).flatten := by simp
theorem b_at {D : va_G} {cl : List vw_C} {bs : BW} {H : Heap} (h : va_P D cl bs.flatten H) {k : Nat} {x : Nat × va_E} (hk : bs[k]? = some [x]) : va_at D cl x H := h _ _ (fl_get hk)
/-- behind a call: the callee's blocks as it left them, then the others -/
theorem bJoin {A0 : Nat → Prop} {D : va_G} {cl : List vw_C} {bs bc br b1 : BW} {H H1 : Heap} (hP : va_P D cl bs.flatten H) (hD : va_D A0 bs.flatten) (isC isR : List Nat) (hC : isC.map (fun i => bs[i]?) = bc.map some) (hR : isR.map (fun i => bs[i]?) = br.map some) (hn : va_nd (isR ++ isC) = true)
    (hk : ∀ q : Nat, q < H.size → ¬ va_A bc.flatten H.size q → H1[q]? = H[q]?) (hF : ∀ q, va_A bc.flatten H.size q → A0 q) (hP1 : va_P D cl b1.flatten H1) (hD1 : va_D (va_A bc.flatten H.size) b1.flatten) : va_P D cl (b1 ++ br).flatten H1 ∧ va_D A0 (b1 ++ br).flatten := by
  have hall : (isR ++ isC).map (fun i => bs[i]?) = (br ++ bc).map some := by rw [List.map_append, List.map_append, hR, hC]
  have hPa := bP_sel hP _ hall
  have hDa := bD_sel hD _ hn hall
  rw [List.flatten_append] at hPa hDa
  rw [bP_iff] at hPa
  rw [bD_iff, List.pairwise_append] at hDa
  obtain ⟨⟨d1, d2, d3⟩, d4⟩ := hDa
  have apart : ∀ q ∈ br.flatten, q.1 < H.size ∧ ¬ va_A bc.flatten H.size q.1 := by
    intro q hq
    have hl := (hPa q (List.mem_append_left _ hq)).lt
    refine ⟨hl, fun h => ?_⟩
    rcases bA_iff.mp h with ⟨e, he⟩ | h
    · exact d3 q hq (q.1, e) he rfl
    · omega
  rw [List.flatten_append]
  constructor
  · rw [bP_iff]
    intro q hq
    rcases List.mem_append.mp hq with h | h
    · exact bP_iff.mp hP1 q h
    · obtain ⟨a1, a2⟩ := apart q h
      exact (hPa q (List.mem_append_left _ h)).kept (hk q.1 a1 a2)
  · obtain ⟨e1, e2⟩ := bD_iff.mp hD1
    refine bD_iff.mpr ⟨List.pairwise_append.mpr ⟨e1, d1, fun x hx y hy z => (apart y hy).2 (z ▸ e2 x hx)⟩, fun q hq => ?_⟩
    rcases List.mem_append.mp hq with h | h
    · exact hF _ (e2 q h)
    · exact d4 q (List.mem_append_left _ h)
theorem bFree {A0 : Nat → Prop} {bs bc : BW} {H0 H : Heap} {locs : List Loc} (hD : va_D A0 bs.flatten) (hS : va_S A0 H0 H locs) (hA : ∀ q, H0.size ≤ q → A0 q) (isC : List Nat) (hC : isC.map (fun i => bs[i]?) = bc.map some) : ∀ q, va_A bc.flatten H.size q → A0 q := by
  intro q h
  rcases bA_iff.mp h with ⟨e, he⟩ | h
  · obtain ⟨B, hB, hqB⟩ := List.mem_flatten.mp he
    obtain ⟨k, hk⟩ := List.getElem?_of_mem hB
    obtain ⟨i, -, hi⟩ := bMap_at hC hk
    exact (bD_iff.mp hD).2 (q, e) (List.mem_flatten.mpr ⟨B, List.mem_of_getElem? hi, hqB⟩)
  · exact hA q (Nat.le_trans hS.1 h)
/-- a block falls into blocks, or blocks become one -/
theorem bP_exch {D : va_G} {cl : List vw_C} {Bs Cs rest : BW} {H : Heap} (h : va_P D cl (Bs ++ rest).flatten H) (e : Bs.flatten = Cs.flatten) : va_P D cl (Cs ++ rest).flatten H := by
  rw [List.flatten_append] at h ⊢
  rw [← e]
  exact h
theorem bD_exch {A : Nat → Prop} {Bs Cs rest : BW} (h : va_D A (Bs ++ rest).flatten) (e : Bs.flatten = Cs.flatten) : va_D A (Cs ++ rest).flatten := by
  rw [List.flatten_append] at h ⊢
  rw [← e]
  exact h
theorem bP_perm {D : va_G} {cl : List vw_C} {Bs Cs rest : BW} {H : Heap} (h : va_P D cl (Bs ++ rest).flatten H) (e : List.Perm Bs.flatten Cs.flatten) : va_P D cl (Cs ++ rest).flatten H := by
  rw [List.flatten_append] at h ⊢
  rw [bP_iff] at h ⊢
  intro q hq
  rcases List.mem_append.mp hq with h1 | h1
  · exact h q (List.mem_append_left _ (e.mem_iff.mpr h1))
  · exact h q (List.mem_append_right _ h1)
theorem bD_perm {A : Nat → Prop} {Bs Cs rest : BW} (h : va_D A (Bs ++ rest).flatten) (e : List.Perm Bs.flatten Cs.flatten) : va_D A (Cs ++ rest).flatten := by
  rw [List.flatten_append] at h ⊢
  rw [bD_iff] at h ⊢
  obtain ⟨h1, h2⟩ := h
  refine ⟨(List.Perm.pairwise_iff (fun hxy => Ne.symm hxy) (e.append_right _)).mp h1, fun q hq => ?_⟩
  rcases List.mem_append.mp hq with h3 | h3
  · exact h2 q (List.mem_append_left _ (e.mem_iff.mpr h3))
  · exact h2 q (List.mem_append_right _ h3)
