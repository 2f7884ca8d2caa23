/-! ROWS over blocks -/
abbrev WP (Γ : GE) (bs : BW) (H : Heap) : Prop := va_P Γ.1 cls (List.flatten bs) H
abbrev WD (A : Nat → Prop) (bs : BW) : Prop := va_D A (List.flatten bs)
theorem P1 {D : va_G} {cl : List vw_C} {q : Nat × va_E} {H : Heap} (h : va_at D cl q H) : va_P D cl [q] H := fun k x hx => by
  have hk : k < 1 := (List.getElem?_eq_some_iff.mp hx).1
  rw [show k = 0 by omega] at hx
  cases hx
  exact h
theorem nI_lit (n : Nat) : (OfNat.ofNat n : Int32) = nI n := rfl
section BROW
variable {p : Program} {l : Launch} {e : Env} {R : Room} {s : State} {m : MethodId} {args : Array Value} {below : List Frame} {meth : Method} {c : Code} {H H0 : Heap} {locs : List Loc} {cells slots : Nat} {Q : State → Prop} {cc : ByteArray} {pc : Nat} {ls : Array Slot} {Γ : GE} {A : Nat → Prop} {bs : BW} {rest : List Value} {a : Nat}
/-- the number on top, in another dress -/
theorem b_top {x y : Int32} (h : x = y) (k : W p l e R s m args below meth c H locs cells slots Q (F0 m pc ls (.int y :: rest))) : W p l e R s m args below meth c H locs cells slots Q (F0 m pc ls (.int x :: rest)) := h ▸ k
theorem b_get (hx : p.tables.exec = Jvm.exec) (hb : c.code = cc) (hts : ∀ w ∈ lw_all, w.before args s = true) {own ref C : String} {T : u_T} {N ci index : Nat} (hin : ∀ w ∈ u_ws C T N, w ∈ lw_all) (hown : s.vm.findClass own = some m.cls) (hK : va_K Γ.1 cls (tysG Γ) s) {fs : List Value} (hat : va_at Γ.1 cls (a, .inr (ci, fs)) H) (hc : cls[ci]? = some (C, T, N)) (k : Nat) (hk : k < N) (hlink : (Cond.fieldLink own index ref (T k).2.1 (T k).2.2.1) ∈ lw_all) (hsame : ∀ x, s.fieldFound? (T k).1 (T k).2.1 (T k).2.2.1 = some x → s.fieldFound? ref (T k).2.1 (T k).2.2.1 = some x) {v : Value} (hv : fs[k]? = some v) (hdg : decode cc pc = .ok (.getfield index, 3))
    (kk : W p l e R s m args below meth c H locs cells slots Q (F0 m (pc + 3) ls (v :: rest))) : W p l e R s m args below meth c H locs cells slots Q (F0 m pc ls (.ref a :: rest)) :=
  va_get hx hb hts hin hown hK (P1 hat) 0 rfl hc k hk (hts _ hlink) hsame hv hdg kk
theorem b_getN (hx : p.tables.exec = Jvm.exec) (hb : c.code = cc) (hts : ∀ w ∈ lw_all, w.before args s = true) (hE : EN Γ A s) {own ref C host : String} {T : u_T} {N ci index : Nat} (hin : ∀ w ∈ u_ws C T N, w ∈ lw_all) (hown : s.vm.findClass own = some m.cls) (hK : va_K Γ.1 cls (tysG Γ) s) {fs : List Value} (hat : va_at Γ.1 cls (a, .inr (ci, fs)) H) (hc : cls[ci]? = some (C, T, N)) (k : Nat) (hk : k < N) (hlink : (Cond.fieldLinkNest own index ref (T k).2.1 (T k).2.2.1 host) ∈ lw_tbl) (hsame : ∀ x, s.fieldFound? (T k).1 (T k).2.1 (T k).2.2.1 = some x → s.fieldFound? ref (T k).2.1 (T k).2.2.1 = some x) {v : Value} (hv : fs[k]? = some v) (hdg : decode cc pc = .ok (.getfield index, 3))
    (kk : W p l e R s m args below meth c H locs cells slots Q (F0 m (pc + 3) ls (v :: rest))) : W p l e R s m args below meth c H locs cells slots Q (F0 m pc ls (.ref a :: rest)) :=
  va_getN hx hb hts hin hown hK (P1 hat) 0 rfl hc k hk (va_Nw.use rfl (hE.1.1 _ hlink rfl)) hsame hv hdg kk
theorem b_put (hx : p.tables.exec = Jvm.exec) (hb : c.code = cc) (hts : ∀ w ∈ lw_all, w.before args s = true) {own ref C : String} {T : u_T} {N ci index : Nat} (hin : ∀ w ∈ u_ws C T N, w ∈ lw_all) {ty0 : Nat → FieldType} (hty : ∀ k, k < N → parseFieldDescriptor (T k).2.2.1 = some (ty0 k)) (hnm : ∀ a, a < N → ∀ b, b < N → a ≠ b → (T a).2.1 ≠ (T b).2.1) (hown : s.vm.findClass own = some m.cls) (hK : va_K Γ.1 cls (tysG Γ) s) (hP : WP Γ bs H) (hD : WD A bs) (hS : va_S A H0 H locs) (kb : Nat) {fs : List Value} (he : bs[kb]? = some [(a, .inr (ci, fs))]) (hc : cls[ci]? = some (C, T, N)) (k : Nat) (hk : k < N) (hlink : (Cond.fieldLink own index ref (T k).2.1 (T k).2.2.1) ∈ lw_all) (hsame : ∀ x, s.fieldFound? (T k).1 (T k).2.1 (T k).2.2.1 = some x → s.fieldFound? ref (T k).2.1 (T k).2.2.1 = some x) (hfin : (T k).2.2.2 = false) {ty : FieldType} {v : Value} (hd : parseFieldDescriptor (T k).2.2.1 = some ty) (hn : narrow ty v = v) (hfit : fits ty v = true) (hl : k < fs.length)
    (hdg : decode cc pc = .ok (.putfield index, 3)) (kk : ∀ (H1 : Heap) (locs1 : List Loc), WP Γ (bs.set kb [(a, .inr (ci, fs.set k v))]) H1 → WD A (bs.set kb [(a, .inr (ci, fs.set k v))]) → va_S A H0 H1 locs1 → W p l e R s m args below meth c H1 locs1 cells slots Q (F0 m (pc + 3) ls rest)) : W p l e R s m args below meth c H locs cells slots Q (F0 m pc ls (v :: .ref a :: rest)) := by
  refine va_put hx hb hts hin ty0 hty hnm hown hK hP hD hS (bpos bs kb) (fl_get he) hc k hk (hts _ hlink) hsame hfin hd hn hfit hl hdg (fun H1 locs1 h1 h2 h3 => ?_)
  rw [fl_set he] at h1 h2
  exact kk H1 locs1 h1 h2 h3
theorem b_putN (hx : p.tables.exec = Jvm.exec) (hb : c.code = cc) (hts : ∀ w ∈ lw_all, w.before args s = true) (hE : EN Γ A s) {own ref C host : String} {T : u_T} {N ci index : Nat} (hin : ∀ w ∈ u_ws C T N, w ∈ lw_all) {ty0 : Nat → FieldType} (hty : ∀ k, k < N → parseFieldDescriptor (T k).2.2.1 = some (ty0 k)) (hnm : ∀ a, a < N → ∀ b, b < N → a ≠ b → (T a).2.1 ≠ (T b).2.1) (hown : s.vm.findClass own = some m.cls) (hK : va_K Γ.1 cls (tysG Γ) s) (hP : WP Γ bs H) (hD : WD A bs) (hS : va_S A H0 H locs) (kb : Nat) {fs : List Value} (he : bs[kb]? = some [(a, .inr (ci, fs))]) (hc : cls[ci]? = some (C, T, N)) (k : Nat) (hk : k < N) (hlink : (Cond.fieldLinkNest own index ref (T k).2.1 (T k).2.2.1 host) ∈ lw_tbl) (hsame : ∀ x, s.fieldFound? (T k).1 (T k).2.1 (T k).2.2.1 = some x → s.fieldFound? ref (T k).2.1 (T k).2.2.1 = some x) (hfin : (T k).2.2.2 = false) {ty : FieldType} {v : Value} (hd : parseFieldDescriptor (T k).2.2.1 = some ty) (hn : narrow ty v = v) (hfit : fits ty v = true) (hl : k < fs.length)
    (hdg : decode cc pc = .ok (.putfield index, 3)) (kk : ∀ (H1 : Heap) (locs1 : List Loc), WP Γ (bs.set kb [(a, .inr (ci, fs.set k v))]) H1 → WD A (bs.set kb [(a, .inr (ci, fs.set k v))]) → va_S A H0 H1 locs1 → W p l e R s m args below meth c H1 locs1 cells slots Q (F0 m (pc + 3) ls rest)) : W p l e R s m args below meth c H locs cells slots Q (F0 m pc ls (v :: .ref a :: rest)) := by
  refine va_putN hx hb hts hin ty0 hty hnm hown hK hP hD hS (bpos bs kb) (fl_get he) hc k hk (va_Nw.use rfl (hE.1.1 _ hlink rfl)) hsame hfin hd hn hfit hl hdg (fun H1 locs1 h1 h2 h3 => ?_)
  rw [fl_set he] at h1 h2
  exact kk H1 locs1 h1 h2 h3
theorem b_putF (hx : p.tables.exec = Jvm.exec) (hb : c.code = cc) (hts : ∀ w ∈ lw_all, w.before args s = true) {own ref C : String} {T : u_T} {N ci index : Nat} (hin : ∀ w ∈ u_ws C T N, w ∈ lw_all) {ty0 : Nat → FieldType} (hty : ∀ k, k < N → parseFieldDescriptor (T k).2.2.1 = some (ty0 k)) (hnm : ∀ a, a < N → ∀ b, b < N → a ≠ b → (T a).2.1 ≠ (T b).2.1) (hown : s.vm.findClass own = some m.cls) (hK : va_K Γ.1 cls (tysG Γ) s) (hP : WP Γ bs H) (hD : WD A bs) (hS : va_S A H0 H locs) (kb : Nat) {fs : List Value} (he : bs[kb]? = some [(a, .inr (ci, fs))]) (hc : cls[ci]? = some (C, T, N)) (k : Nat) (hk : k < N) (hlink : (Cond.fieldLink own index ref (T k).2.1 (T k).2.2.1) ∈ lw_all) (hsame : ∀ x, s.fieldFound? (T k).1 (T k).2.1 (T k).2.2.1 = some x → s.fieldFound? ref (T k).2.1 (T k).2.2.1 = some x) (hfin : (T k).2.2.2 = true) (hname : meth.name = "<init>") (hcls : C = own) (hT1 : (T k).1 = own) {ty : FieldType} {v : Value} (hd : parseFieldDescriptor (T k).2.2.1 = some ty) (hn : narrow ty v = v) (hfit : fits ty v = true) (hl : k < fs.length)
    (hdg : decode cc pc = .ok (.putfield index, 3)) (kk : ∀ (H1 : Heap) (locs1 : List Loc), WP Γ (bs.set kb [(a, .inr (ci, fs.set k v))]) H1 → WD A (bs.set kb [(a, .inr (ci, fs.set k v))]) → va_S A H0 H1 locs1 → W p l e R s m args below meth c H1 locs1 cells slots Q (F0 m (pc + 3) ls rest)) : W p l e R s m args below meth c H locs cells slots Q (F0 m pc ls (v :: .ref a :: rest)) := by
  subst hcls
  refine va_putF hx hb hts hin ty0 hty hnm hown hK hP hD hS (bpos bs kb) (fl_get he) hc k hk (hts _ hlink) hsame hfin hname hT1 hd hn hfit hl hdg (fun H1 locs1 h1 h2 h3 => ?_)
  rw [fl_set he] at h1 h2
  exact kk H1 locs1 h1 h2 h3
theorem b_new (hx : p.tables.exec = Jvm.exec) (hb : c.code = cc) (hts : ∀ w ∈ lw_all, w.before args s = true) {own C : String} {T : u_T} {N ci index : Nat} (hin : ∀ w ∈ u_ws C T N, w ∈ lw_all) {ty : Nat → FieldType} (hty : ∀ k, k < N → parseFieldDescriptor (T k).2.2.1 = some (ty k)) (hown : s.vm.findClass own = some m.cls) (hcl : (Cond.classLink own index C) ∈ lw_all) (hinst : (Cond.instantiable C N) ∈ lw_all) (hini : (Cond.initialized C) ∈ lw_all) (hK : va_K Γ.1 cls (tysG Γ) s) (hP : WP Γ bs H) (hD : WD A bs) (hS : va_S A s.heap H locs) (hA : ∀ q, s.heap.size ≤ q → A q) (hc : cls[ci]? = some (C, T, N)) {fs : List Value} (hfs : ∀ j, j < N → defaultValue (ty j) = vp_V fs j) (hcells : cells + 1 ≤ R.cells) (hslots : slots + N ≤ R.slots) (hdg : decode cc pc = .ok (.new index, 3))
    (kk : ∀ (q : Nat) (H1 : Heap), WP Γ (bs ++ [[(q, .inr (ci, fs))]]) H1 → WD A (bs ++ [[(q, .inr (ci, fs))]]) → va_S A s.heap H1 locs → W p l e R s m args below meth c H1 locs (cells + 1) (slots + N) Q (F0 m (pc + 3) ls (.ref q :: rest))) : W p l e R s m args below meth c H locs cells slots Q (F0 m pc ls rest) := by
  refine va_new hx hb hts hin ty hty hown (hts _ hcl) (hts _ hinst) (hts _ hini) hK hP hD hS hA hc hfs hcells hslots hdg (fun q H1 h1 h2 h3 => ?_)
  rw [fl_push] at h1 h2
  exact kk q H1 h1 h2 h3
theorem ix_in {i : Int32} {j n : Nat} (hi : i = nI j) (hj : j < n) (hn : n < 2 ^ 31) : vp_in i n ∧ i.toNatClampNeg = j := by
  subst hi
  exact ⟨vp_in_nI hj hn, nI_clamp (by omega)⟩
theorem b_iald (hx : p.tables.exec = Jvm.exec) (hb : c.code = cc) (hK : va_K Γ.1 cls (tysG Γ) s) {n : Nat} {f : Nat → Int32} (hat : va_at Γ.1 cls (a, .inl (Γ.2.1 0, n, .inl f)) H) {i : Int32} (j : Nat) (hi : i = nI j) (hj : j < n) (hn : n < 2 ^ 31) (hdg : decode cc pc = .ok (.iaload, 1))
    (kk : W p l e R s m args below meth c H locs cells slots Q (F0 m (pc + 1) ls (.int (f j) :: rest))) : W p l e R s m args below meth c H locs cells slots Q (F0 m pc ls (.int i :: .ref a :: rest)) := by
  obtain ⟨h1, h2⟩ := ix_in hi hj hn
  exact va_iald hx hb hK (P1 hat) 0 0 rfl rfl h1 hdg (by rw [h2]; exact kk)
theorem b_bald (hx : p.tables.exec = Jvm.exec) (hb : c.code = cc) (hK : va_K Γ.1 cls (tysG Γ) s) {n : Nat} {f : Nat → Int32} (hat : va_at Γ.1 cls (a, .inl (Γ.2.1 1, n, .inl f)) H) {i : Int32} (j : Nat) (hi : i = nI j) (hj : j < n) (hn : n < 2 ^ 31) (hdg : decode cc pc = .ok (.baload, 1))
    (kk : W p l e R s m args below meth c H locs cells slots Q (F0 m (pc + 1) ls (.int (f j) :: rest))) : W p l e R s m args below meth c H locs cells slots Q (F0 m pc ls (.int i :: .ref a :: rest)) := by
  obtain ⟨h1, h2⟩ := ix_in hi hj hn
  exact va_bald hx hb hK (P1 hat) 0 1 rfl rfl h1 hdg (by rw [h2]; exact kk)
theorem b_aald (hx : p.tables.exec = Jvm.exec) (hb : c.code = cc) (hK : va_K Γ.1 cls (tysG Γ) s) {n : Nat} {f : Nat → Option Nat} (hat : va_at Γ.1 cls (a, .inl (Γ.2.1 2, n, .inr (.inr (.inr (.inr f))))) H) {i : Int32} (j : Nat) (hi : i = nI j) (hj : j < n) (hn : n < 2 ^ 31) (hdg : decode cc pc = .ok (.aaload, 1))
    (kk : W p l e R s m args below meth c H locs cells slots Q (F0 m (pc + 1) ls (va_rf (f j) :: rest))) : W p l e R s m args below meth c H locs cells slots Q (F0 m pc ls (.int i :: .ref a :: rest)) := by
  obtain ⟨h1, h2⟩ := ix_in hi hj hn
  exact va_aldq hx hb hK (P1 hat) 0 2 rfl rfl h1 hdg (by rw [h2]; exact kk)
theorem b_alen (hx : p.tables.exec = Jvm.exec) (hb : c.code = cc) (hK : va_K Γ.1 cls (tysG Γ) s) (t : Nat) {cA : ClassId} {ty : FieldType} {n : Nat} {f : (Nat → Int32) ⊕ (Nat → Int64) ⊕ (Nat → UInt32) ⊕ (Nat → UInt64) ⊕ (Nat → Option Nat)} (hat : va_at Γ.1 cls (a, .inl (cA, n, f)) H) (ht : (tysG Γ)[t]? = some (cA, ty)) (hdg : decode cc pc = .ok (.arraylength, 1))
    (kk : W p l e R s m args below meth c H locs cells slots Q (F0 m (pc + 1) ls (.int (nI n) :: rest))) : W p l e R s m args below meth c H locs cells slots Q (F0 m pc ls (.ref a :: rest)) :=
  va_alen hx hb hK (P1 hat) 0 t rfl ht rfl hdg kk
theorem b_iast (hx : p.tables.exec = Jvm.exec) (hb : c.code = cc) (hK : va_K Γ.1 cls (tysG Γ) s) (hP : WP Γ bs H) (hD : WD A bs) (hS : va_S A H0 H locs) (kb : Nat) {n : Nat} {f : Nat → Int32} (he : bs[kb]? = some [(a, .inl (Γ.2.1 0, n, .inl f))]) {i x : Int32} (j : Nat) (hi : i = nI j) (hj : j < n) (hn : n < 2 ^ 31) (hdg : decode cc pc = .ok (.iastore, 1))
    (kk : ∀ (H1 : Heap) (locs1 : List Loc), WP Γ (bs.set kb [(a, .inl (Γ.2.1 0, n, .inl (upd f j x)))]) H1 → WD A (bs.set kb [(a, .inl (Γ.2.1 0, n, .inl (upd f j x)))]) → va_S A H0 H1 locs1 → W p l e R s m args below meth c H1 locs1 cells slots Q (F0 m (pc + 1) ls rest)) : W p l e R s m args below meth c H locs cells slots Q (F0 m pc ls (.int x :: .int i :: .ref a :: rest)) := by
  obtain ⟨h1, h2⟩ := ix_in hi hj hn
  refine va_iast hx hb hK hP hD hS (bpos bs kb) 0 (fl_get he) rfl h1 hdg (fun H1 locs1 h3 h4 h5 => ?_)
  rw [fl_set he, h2] at h3 h4
  exact kk H1 locs1 h3 h4 h5
theorem b_bast (hx : p.tables.exec = Jvm.exec) (hb : c.code = cc) (hK : va_K Γ.1 cls (tysG Γ) s) (hP : WP Γ bs H) (hD : WD A bs) (hS : va_S A H0 H locs) (kb : Nat) {n : Nat} {f : Nat → Int32} (he : bs[kb]? = some [(a, .inl (Γ.2.1 1, n, .inl f))]) {i x : Int32} (j : Nat) (hi : i = nI j) (hj : j < n) (hn : n < 2 ^ 31) (hdg : decode cc pc = .ok (.bastore, 1))
    (kk : ∀ (H1 : Heap) (locs1 : List Loc), WP Γ (bs.set kb [(a, .inl (Γ.2.1 1, n, .inl (upd f j (vp_nar .byte x))))]) H1 → WD A (bs.set kb [(a, .inl (Γ.2.1 1, n, .inl (upd f j (vp_nar .byte x))))]) → va_S A H0 H1 locs1 → W p l e R s m args below meth c H1 locs1 cells slots Q (F0 m (pc + 1) ls rest)) : W p l e R s m args below meth c H locs cells slots Q (F0 m pc ls (.int x :: .int i :: .ref a :: rest)) := by
  obtain ⟨h1, h2⟩ := ix_in hi hj hn
  refine va_bast hx hb hK hP hD hS (bpos bs kb) 1 (fl_get he) rfl h1 hdg (fun H1 locs1 h3 h4 h5 => ?_)
  rw [fl_set he, h2] at h3 h4
  exact kk H1 locs1 h3 h4 h5
theorem b_aastN (hx : p.tables.exec = Jvm.exec) (hb : c.code = cc) (hK : va_K Γ.1 cls (tysG Γ) s) (hP : WP Γ bs H) (hD : WD A bs) (hS : va_S A H0 H locs) (kb : Nat) {n : Nat} {f : Nat → Option Nat} (he : bs[kb]? = some [(a, .inl (Γ.2.1 2, n, .inr (.inr (.inr (.inr f)))))]) {i : Int32} (j : Nat) (hi : i = nI j) (hj : j < n) (hn : n < 2 ^ 31) (hdg : decode cc pc = .ok (.aastore, 1))
    (kk : ∀ (H1 : Heap) (locs1 : List Loc), WP Γ (bs.set kb [(a, .inl (Γ.2.1 2, n, .inr (.inr (.inr (.inr (va_up f j none))))))]) H1 → WD A (bs.set kb [(a, .inl (Γ.2.1 2, n, .inr (.inr (.inr (.inr (va_up f j none))))))]) → va_S A H0 H1 locs1 → W p l e R s m args below meth c H1 locs1 cells slots Q (F0 m (pc + 1) ls rest)) : W p l e R s m args below meth c H locs cells slots Q (F0 m pc ls (.null :: .int i :: .ref a :: rest)) := by
  obtain ⟨h1, h2⟩ := ix_in hi hj hn
  refine va_astqN hx hb hK hP hD hS (bpos bs kb) 2 (fl_get he) rfl h1 hdg (fun H1 locs1 h3 h4 h5 => ?_)
  rw [fl_set he, h2] at h3 h4
  exact kk H1 locs1 h3 h4 h5
theorem b_aast (hx : p.tables.exec = Jvm.exec) (hb : c.code = cc) (hK : va_K Γ.1 cls (tysG Γ) s) (hP : WP Γ bs H) (hD : WD A bs) (hS : va_S A H0 H locs) (kb : Nat) {n v : Nat} {f : Nat → Option Nat} (he : bs[kb]? = some [(a, .inl (Γ.2.1 2, n, .inr (.inr (.inr (.inr f)))))]) (hv : va_Any "java/lang/Object" s H v) {i : Int32} (j : Nat) (hi : i = nI j) (hj : j < n) (hn : n < 2 ^ 31) (hdg : decode cc pc = .ok (.aastore, 1))
    (kk : ∀ (H1 : Heap) (locs1 : List Loc), WP Γ (bs.set kb [(a, .inl (Γ.2.1 2, n, .inr (.inr (.inr (.inr (va_up f j (some v)))))))]) H1 → WD A (bs.set kb [(a, .inl (Γ.2.1 2, n, .inr (.inr (.inr (.inr (va_up f j (some v)))))))]) → va_S A H0 H1 locs1 → W p l e R s m args below meth c H1 locs1 cells slots Q (F0 m (pc + 1) ls rest)) : W p l e R s m args below meth c H locs cells slots Q (F0 m pc ls (.ref v :: .int i :: .ref a :: rest)) := by
  obtain ⟨h1, h2⟩ := ix_in hi hj hn
  refine va_astqM hx hb hK hP hD hS (bpos bs kb) 2 (fl_get he) rfl hv h1 hdg (fun H1 locs1 h3 h4 h5 => ?_)
  rw [fl_set he, h2] at h3 h4
  exact kk H1 locs1 h3 h4 h5
theorem b_getS (hx : p.tables.exec = Jvm.exec) (hb : c.code = cc) (hts : ∀ w ∈ lw_all, w.before args s = true) {own : String} {index : Nat} (hown : s.vm.findClass own = some m.cls) (hK : va_K Γ.1 cls (tysG Γ) s) {d : Nat} {k x z : Int32} (hR : Rc Γ A s s.heap (a, .inr (14, [.ref d, .int k, .int x, .int z]))) (hS : va_S A s.heap H locs) (f : Nat) (hf : f < 2) (hlink : (Cond.fieldLink own index "java/lang/String" (TJ6 f).2.1 (TJ6 f).2.2.1) ∈ lw_all) {v : Value} (hv : [Value.ref d, .int k][f]? = some v) (hdg : decode cc pc = .ok (.getfield index, 3))
    (kk : W p l e R s m args below meth c H locs cells slots Q (F0 m (pc + 3) ls (v :: rest))) : W p l e R s m args below meth c H locs cells slots Q (F0 m pc ls (.ref a :: rest)) := by
  have h2 : f = 0 ∨ f = 1 := by omega
  rcases hR with h | ⟨n, g, e, -⟩ | ⟨d2, k2, x2, z2, e, -, h3, h4⟩
  · rcases h2 with rfl | rfl
    · exact b_get (C := RJ6) (T := TJ6) (N := 4) (ref := "java/lang/String") hx hb hts in_J6 hown hK (h.1.kept (hS.2.1 a h.1.lt h.2)) rfl 0 (by decide) hlink (fun _ h9 => h9) hv hdg kk
    · exact b_get (C := RJ6) (T := TJ6) (N := 4) (ref := "java/lang/String") hx hb hts in_J6 hown hK (h.1.kept (hS.2.1 a h.1.lt h.2)) rfl 1 (by decide) hlink (fun _ h9 => h9) hv hdg kk
  · cases e
  · cases e
    rcases h2 with rfl | rfl
    · cases hv
      exact vk_getf (ref := "java/lang/String") hx hb h4 hS hown (hts _ hlink) (fun _ h9 => h9) hdg kk
    · cases hv
      exact vk_getf (ref := "java/lang/String") hx hb h3 hS hown (hts _ hlink) (fun _ h9 => h9) hdg kk
theorem b_baldR (hx : p.tables.exec = Jvm.exec) (hb : c.code = cc) (hK : va_K Γ.1 cls (tysG Γ) s) {n : Nat} {f : Nat → Int32} (hR : Rc Γ A s s.heap (a, .inl (Γ.2.1 1, n, .inl f))) (hS : va_S A s.heap H locs) {i : Int32} (j : Nat) (hi : i = nI j) (hj : j < n) (hn : n < 2 ^ 31) (hdg : decode cc pc = .ok (.baload, 1))
    (kk : W p l e R s m args below meth c H locs cells slots Q (F0 m (pc + 1) ls (.int (f j) :: rest))) : W p l e R s m args below meth c H locs cells slots Q (F0 m pc ls (.int i :: .ref a :: rest)) := by
  rcases hR with h | ⟨n2, f2, e, h⟩ | ⟨d2, k2, x2, z2, e, -⟩
  · exact b_bald hx hb hK (h.1.kept (hS.2.1 a h.1.lt h.2)) j hi hj hn hdg kk
  · cases e
    obtain ⟨h1, h2⟩ := ix_in hi hj hn
    exact va_tb hx hb h hS h1 (v := .int (f j)) (by rw [h2]) hdg kk
  · cases e
theorem b_alenR (hx : p.tables.exec = Jvm.exec) (hb : c.code = cc) (hK : va_K Γ.1 cls (tysG Γ) s) {n : Nat} {f : Nat → Int32} (hR : Rc Γ A s s.heap (a, .inl (Γ.2.1 1, n, .inl f))) (hS : va_S A s.heap H locs) (hdg : decode cc pc = .ok (.arraylength, 1))
    (kk : W p l e R s m args below meth c H locs cells slots Q (F0 m (pc + 1) ls (.int (nI n) :: rest))) : W p l e R s m args below meth c H locs cells slots Q (F0 m pc ls (.ref a :: rest)) := by
  rcases hR with h | ⟨n2, f2, e, h⟩ | ⟨d2, k2, x2, z2, e, -⟩
  · exact b_alen hx hb hK 1 (h.1.kept (hS.2.1 a h.1.lt h.2)) rfl hdg kk
  · cases e
    exact va_tlen hx hb h hS rfl hdg kk
  · cases e
/-- a new array of numbers: its class is the one of the tables -/
theorem tys_last {t : Nat} {cA cB : ClassId} {ty : FieldType} (hK : va_K Γ.1 cls (tysG Γ ++ [(cA, ty)]) s) (ht : (tysG Γ)[t]? = some (cB, ty)) : cA = cB := by
  have h1 := (hK.2 5 (cA, ty) rfl).2
  have h2 := (hK.2 t (cB, ty) (by rw [List.getElem?_append_left (List.getElem?_eq_some_iff.mp ht).1]; exact ht)).2
  cases ty with
  | object C =>
    obtain ⟨-, -, -, -, -, e1⟩ := h1
    obtain ⟨-, -, -, -, -, e2⟩ := h2
    exact Option.some.inj (e1.symm.trans e2)
  | _ => exact Option.some.inj (h1.symm.trans h2)
theorem b_newi (hx : p.tables.exec = Jvm.exec) (hb : c.code = cc) (hts : ∀ w ∈ lw_all, w.before args s = true) (hK : va_K Γ.1 cls (tysG Γ) s) (hP : WP Γ bs H) (hD : WD A bs) (hS : va_S A s.heap H locs) (hA : ∀ q, s.heap.size ≤ q → A q) {i : Int32} (n : Nat) (hi : i = nI n) (hn : n < 2 ^ 26) (hq : Cond.arrayClass .int ∈ lw_all) (hcells : cells + 1 ≤ R.cells) (hslots : slots + n ≤ R.slots) (hdg : decode cc pc = .ok (.newarray .int, 2))
    (kk : ∀ (q : Nat) (H1 : Heap), WP Γ (bs ++ [[(q, .inl (Γ.2.1 0, n, .inl (fun _ => 0)))]]) H1 → WD A (bs ++ [[(q, .inl (Γ.2.1 0, n, .inl (fun _ => 0)))]]) → va_S A s.heap H1 locs → W p l e R s m args below meth c H1 locs (cells + 1) (slots + n) Q (F0 m (pc + 2) ls (.ref q :: rest))) : W p l e R s m args below meth c H locs cells slots Q (F0 m pc ls (.int i :: rest)) := by
  subst hi
  refine va_newa (atype := .int) (a0 := (n, .inl (fun _ => 0))) hx hb (hts _ hq) rfl hK hP hD hS hA (fun _ => rfl) (nI_pos (by omega)) (nI_clamp (by omega)) (by show n * 4 ≤ _; omega) hcells hslots hdg (fun q cA H1 h0 h1 h2 h3 => ?_)
  obtain rfl := tys_last (t := 0) h0 rfl
  rw [fl_push] at h1 h2
  exact kk q H1 h1 h2 h3
theorem b_newb (hx : p.tables.exec = Jvm.exec) (hb : c.code = cc) (hts : ∀ w ∈ lw_all, w.before args s = true) (hK : va_K Γ.1 cls (tysG Γ) s) (hP : WP Γ bs H) (hD : WD A bs) (hS : va_S A s.heap H locs) (hA : ∀ q, s.heap.size ≤ q → A q) {i : Int32} (n : Nat) (hi : i = nI n) (hn : n < 2 ^ 26) (hq : Cond.arrayClass .byte ∈ lw_all) (hcells : cells + 1 ≤ R.cells) (hslots : slots + n ≤ R.slots) (hdg : decode cc pc = .ok (.newarray .byte, 2))
    (kk : ∀ (q : Nat) (H1 : Heap), WP Γ (bs ++ [[(q, .inl (Γ.2.1 1, n, .inl (fun _ => 0)))]]) H1 → WD A (bs ++ [[(q, .inl (Γ.2.1 1, n, .inl (fun _ => 0)))]]) → va_S A s.heap H1 locs → W p l e R s m args below meth c H1 locs (cells + 1) (slots + n) Q (F0 m (pc + 2) ls (.ref q :: rest))) : W p l e R s m args below meth c H locs cells slots Q (F0 m pc ls (.int i :: rest)) := by
  subst hi
  refine va_newa (atype := .byte) (a0 := (n, .inl (fun _ => 0))) hx hb (hts _ hq) rfl hK hP hD hS hA (fun _ => rfl) (nI_pos (by omega)) (nI_clamp (by omega)) (by show n * 1 ≤ _; omega) hcells hslots hdg (fun q cA H1 h0 h1 h2 h3 => ?_)
  obtain rfl := tys_last (t := 1) h0 rfl
  rw [fl_push] at h1 h2
  exact kk q H1 h1 h2 h3
end BROW
theorem nI_addE {x y : Int32} {a b c : Nat} (hx : x = nI a) (hy : y = nI b) (h : a + b = c) : x + y = nI c := by
  subst hx; subst hy; subst h; exact nI_add a b
theorem nI_mulE {x y : Int32} {a b c : Nat} (hx : x = nI a) (hy : y = nI b) (h : a * b = c) : x * y = nI c := by
  subst hx; subst hy; subst h; exact pk_mul a b
theorem nI_subE {x y : Int32} {a b c : Nat} (hx : x = nI a) (hy : y = nI b) (h : c + b = a) : x - y = nI c := by
  subst hx; subst hy; subst h
  rw [pk_sub (by omega)]
  congr 1
  omega
theorem nI_decE {x y : Int32} {a b c : Nat} (hx : x = nI a) (hy : y = -nI b) (h : c + b = a) : x + y = nI c := by
  rw [hy, ← Int32.sub_eq_add_neg]
  exact nI_subE hx rfl h
theorem sw_out {x : Int32} (lo hi : Nat) (hh : hi < 2 ^ 31) (h : ∀ j : Nat, lo ≤ j → j ≤ hi → ¬ x = nI j) : x.toInt < (lo : Int) ∨ (hi : Int) < x.toInt := by
  rcases Int.lt_or_le x.toInt lo with h1 | h1
  · exact Or.inl h1
  · rcases Int.lt_or_le hi x.toInt with h2 | h2
    · exact Or.inr h2
    · refine absurd ?_ (h x.toInt.toNat (by omega) (by omega))
      apply Int32.toInt_inj.mp
      rw [nI_toInt (by omega)]
      omega
theorem va_rf_cat (r : Option Nat) : (va_rf r).category = 1 := by cases r <;> rfl
abbrev cowE (c : Nat → Int32) : va_E := .inr (4, [.int (c 0), .int (c 1), .int (c 2), .int (c 3), .int (c 4), .int (c 5), .int (c 6), .int (c 7), .int (c 8), .int (c 9), .int (c 10), .int (c 11)])
abbrev pickE (c : Nat → Int32) : va_E := .inr (6, [.int (c 0), .int (c 1), .int (c 2), .int (c 3), .int (c 4), .int (c 5)])
theorem nar_bool {x : Int32} (h : x = 0 ∨ x = 1) : narrow .boolean (.int x) = .int x ∧ fits .boolean (.int x) = true := by
  rcases h with rfl | rfl <;> exact ⟨rfl, rfl⟩
abbrev moE (r : Nat → Nat) (i : Nat → Int32) : va_E := .inr (3, [.ref (r 0), .ref (r 1), .ref (r 2), .int (i 3), .ref (r 4), .int (i 5), .int (i 6), .int (i 7), .ref (r 8), .ref (r 9), .int (i 10), .int (i 11), .int (i 12), .int (i 13), .ref (r 14), .int (i 15)])
theorem nI_shlE {x y : Int32} {a k c : Nat} (hx : x = nI a) (hy : y = nI k) (hk : ((nI k &&& 31).toBitVec.smod 32).toNat = k) (hb : c < 2 ^ 32) (h : c = a * 2 ^ k) : x <<< (y &&& 31) = nI c := by
  subst hx; subst hy; subst h
  exact pk_shlN (nI k &&& 31) k hk hb
theorem nI_shrE {x y : Int32} {a k c : Nat} (hx : x = nI a) (hy : y = nI k) (hk : ((nI k &&& 31).toBitVec.smod 32).toNat = k) (hb : a < 2 ^ 31) (h : c = a / 2 ^ k) : x >>> (y &&& 31) = nI c := by
  subst hx; subst hy; subst h
  exact pk_shrN hb (nI k &&& 31) k hk
theorem ro_one {Γ : GE} {A : Nat → Prop} {U : State} {H : Heap} {q : Nat × va_E} (h : Rc Γ A U H q) : ∀ x ∈ ([[q]] : BW).flatten, Rc Γ A U H x := fun x hx => by
  simp only [List.flatten_cons, List.flatten_nil, List.append_nil, List.mem_singleton] at hx
  rw [hx]
  exact h
/-- a Latin-1 letter out of its byte, a UTF-16 letter out of its two -/
def lc (b : Int32) : Int32 := ((b &&& 255).toUInt32 % 65536).toInt32
def uc (b1 b2 : Int32) : Int32 := ((((b1 &&& 255) <<< ((0 : Int32) &&& 31)) ||| ((b2 &&& 255) <<< ((8 : Int32) &&& 31))).toUInt32 % 65536).toInt32
theorem ro_sel {Γ : GE} {A : Nat → Prop} {U : State} {H : Heap} {ro ro2 : BW} (h : ∀ q ∈ ro.flatten, Rc Γ A U H q) (is : List Nat) (hs : is.map (fun i => ro[i]?) = ro2.map some) : ∀ q ∈ ro2.flatten, Rc Γ A U H q := by
  intro q hq
  obtain ⟨B, hB, hqB⟩ := List.mem_flatten.mp hq
  obtain ⟨k, hk⟩ := List.getElem?_of_mem hB
  obtain ⟨i, -, hi⟩ := bMap_at hs hk
  exact h q (List.mem_flatten.mpr ⟨B, List.mem_of_getElem? hi, hqB⟩)
def moL (r : Nat → Nat) (i : Nat → Int32) : List Value := [.ref (r 0), .ref (r 1), .ref (r 2), .int (i 3), .ref (r 4), .int (i 5), .int (i 6), .int (i 7), .ref (r 8), .ref (r 9), .int (i 10), .int (i 11), .int (i 12), .int (i 13), .ref (r 14), .int (i 15)]
theorem moL_set3 (r : Nat → Nat) (i : Nat → Int32) (v : Int32) : (moL r i).set 3 (.int v) = moL r (upd i 3 v) := rfl
theorem moL_set5 (r : Nat → Nat) (i : Nat → Int32) (v : Int32) : (moL r i).set 5 (.int v) = moL r (upd i 5 v) := rfl
theorem moL_set6 (r : Nat → Nat) (i : Nat → Int32) (v : Int32) : (moL r i).set 6 (.int v) = moL r (upd i 6 v) := rfl
theorem moL_set7 (r : Nat → Nat) (i : Nat → Int32) (v : Int32) : (moL r i).set 7 (.int v) = moL r (upd i 7 v) := rfl
theorem moL_set10 (r : Nat → Nat) (i : Nat → Int32) (v : Int32) : (moL r i).set 10 (.int v) = moL r (upd i 10 v) := rfl
theorem moL_set11 (r : Nat → Nat) (i : Nat → Int32) (v : Int32) : (moL r i).set 11 (.int v) = moL r (upd i 11 v) := rfl
theorem moL_set12 (r : Nat → Nat) (i : Nat → Int32) (v : Int32) : (moL r i).set 12 (.int v) = moL r (upd i 12 v) := rfl
theorem moL_set13 (r : Nat → Nat) (i : Nat → Int32) (v : Int32) : (moL r i).set 13 (.int v) = moL r (upd i 13 v) := rfl
theorem moL_set15 (r : Nat → Nat) (i : Nat → Int32) (v : Int32) : (moL r i).set 15 (.int v) = moL r (upd i 15 v) := rfl
theorem upd_drop (f h9 : Nat → Int32) (k : Nat) (x : Int32) (h : ∀ q, q ≠ k → f q = h9 q) : upd f k x = upd h9 k x := by
  funext q
  by_cases e : q = k
  · subst e; rw [pk_us, pk_us]
  · rw [pk_un e, pk_un e]; exact h q e
section BROM
variable {p : Program} {l : Launch} {e : Env} {R : Room} {s : State} {m : MethodId} {args : Array Value} {below : List Frame} {meth : Method} {c : Code} {H H0 : Heap} {locs : List Loc} {cells slots : Nat} {Q : State → Prop} {cc : ByteArray} {pc : Nat} {ls : Array Slot} {Γ : GE} {A : Nat → Prop} {bs : BW} {rest : List Value} {a : Nat}
theorem b_putM (hx : p.tables.exec = Jvm.exec) (hb : c.code = cc) (hts : ∀ w ∈ lw_all, w.before args s = true) {own ref C : String} {T : u_T} {N index : Nat} (hin : ∀ w ∈ u_ws C T N, w ∈ lw_all) {ty0 : Nat → FieldType} (hty : ∀ k, k < N → parseFieldDescriptor (T k).2.2.1 = some (ty0 k)) (hnm : ∀ a, a < N → ∀ b, b < N → a ≠ b → (T a).2.1 ≠ (T b).2.1) (hown : s.vm.findClass own = some m.cls) (hK : va_K Γ.1 cls (tysG Γ) s) (hP : WP Γ bs H) (hD : WD A bs) (hS : va_S A H0 H locs) (kb : Nat) {rr : Nat → Nat} {ff : Nat → Int32} {vv : Int32} (he : bs[kb]? = some [(a, moE rr ff)]) (hc : cls[3]? = some (C, T, N)) (k : Nat) (hk : k < N) (hlink : (Cond.fieldLink own index ref (T k).2.1 (T k).2.2.1) ∈ lw_all) (hsame : ∀ x, s.fieldFound? (T k).1 (T k).2.1 (T k).2.2.1 = some x → s.fieldFound? ref (T k).2.1 (T k).2.2.1 = some x) (hfin : (T k).2.2.2 = false) {ty : FieldType} (hd : parseFieldDescriptor (T k).2.2.1 = some ty) (hn : narrow ty (.int vv) = .int vv) (hfit : fits ty (.int vv) = true) (hl : k < 16) (hm : (moL rr ff).set k (.int vv) = moL rr (upd ff k vv))
    (hdg : decode cc pc = .ok (.putfield index, 3)) (kk : ∀ (H1 : Heap) (locs1 : List Loc), WP Γ (bs.set kb [(a, moE rr (upd ff k vv))]) H1 → WD A (bs.set kb [(a, moE rr (upd ff k vv))]) → va_S A H0 H1 locs1 → W p l e R s m args below meth c H1 locs1 cells slots Q (F0 m (pc + 3) ls rest)) : W p l e R s m args below meth c H locs cells slots Q (F0 m pc ls (.int vv :: .ref a :: rest)) := by
  refine b_put (fs := moL rr ff) (v := .int vv) hx hb hts hin hty hnm hown hK hP hD hS kb he hc k hk hlink hsame hfin hd hn hfit hl hdg (fun H1 locs1 h1 h2 h3 => ?_)
  rw [hm] at h1 h2
  exact kk H1 locs1 h1 h2 h3
end BROM
