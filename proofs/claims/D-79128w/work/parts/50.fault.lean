/-! FAULT: an exception of the program's own: new Fault(position) -/
abbrev FLT : String := "DairyBook$Fault"
abbrev RTE : String := "java/lang/RuntimeException"
def flAtoms : List Cond := Bundle.throwableAtoms ++ Bundle.chain0Atoms RTE ["java/lang/Exception"] ++
  [.methodLink FLT 1 (Bundle.init0 RTE), .instantiable FLT 7, .selects FLT Bundle.tFill0 Bundle.tFill0, .selects FLT Bundle.tFill Bundle.tFill,
   .lays FLT Bundle.tN "cause" "Ljava/lang/Throwable;", .lays FLT Bundle.tN "stackTrace" Bundle.steD, .lays FLT Bundle.tN "suppressedExceptions" Bundle.listD, .lays FLT Bundle.tN "detailMessage" "Ljava/lang/String;",
   .isRef (.static Bundle.tN "UNASSIGNED_STACK" Bundle.steD), .isRef (.static Bundle.tN "SUPPRESSED_SENTINEL" Bundle.listD),
   .fieldLink Bundle.tN 198 Bundle.tN "backtrace" "Ljava/lang/Object;", .lays Bundle.tN Bundle.tN "backtrace" "Ljava/lang/Object;", .lays FLT Bundle.tN "backtrace" "Ljava/lang/Object;"]
section FLA
variable {p : Program} {l : Launch} {e : Env} {R : Room} {s : State} {m₀ : MethodId} {args : Array Value} {below : List Frame} {meth : Method} {c : Code} {W : State} {locs : List Loc} {cells slots : Nat}
set_option maxHeartbeats 1000000 in
theorem fl_super (X : Stand p l e R s m₀ args below meth c W locs cells slots) (hexec : p.tables.exec = Jvm.exec) (htr : e.platform.stackTraces = false)
    (hown : s.vm.findClass FLT = some m₀.cls)
    (h : ∀ a ∈ flAtoms, a.before args s = true) (hWh : W.heap = s.heap)
    {a : Addr} {cX : ClassId} {kX : Class} (hfound : s.vm.findClass FLT = some cX) (hk : s.vm.classes[cX]? = some kX) (hcell0 : s.heap[a]? = some (freshCell cX kX))
    {g : JFrame} (hg : g.method = m₀) (hsize : g.locals.size = c.maxLocals) {rest : List Value} (hstack : g.stack = .ref a :: rest)
    (hd6 : decode c.code g.pc = .ok (.invokespecial 1, 3))
    (hRframes : 4 < R.frames) (hRlocals : 2 * g.monitorRoom + (rest.map fun v => v.category).sum + (13 * 2 + 41) ≤ R.locals) :
    ∃ (V : State) (ce : Cell) (L : List Loc), Stand p l e R s m₀ args below meth c (V.setCell a ce) (locs ++ L) cells slots ∧ (∀ y ∈ L, y.base = a) ∧ V.heap = s.heap ∧ ce.cls = cX ∧ ce.vm = .none ∧ (∀ i : Nat, (freshCell cX kX).slots[i]? = some (.int 0) → ce.slots[i]? = some (.int 0)) ∧
      ∀ target, Steps p.tables e below ((V.setCell a ce).setTop { g with stack := rest, pc := g.pc + 3 }) target → Steps p.tables e below (W.setTop g) target := by
  have howns : e.platform.frameOwnsMonitors = true := by rw [X.admits.platform]
  have hfin : e.platform.finalization = false := by rw [X.admits.platform]
  have hpl : e.platform.magicAccessors = ({} : Platform).magicAccessors := by rw [X.admits.platform]
  have hcell : W.heap[a]? = some (freshCell cX kX) := by rw [hWh]; exact hcell0
  have a' : ∀ x, x ∈ flAtoms → x.holds args s none s [] = true := fun x hx => h x hx
  obtain ⟨T, Z, L, LZ, Y⟩ := ThrowableC.of_atoms (args := args) howns hfin hpl (fun x hx => h x (by simp [flAtoms, hx]))
  obtain ⟨P1, Ps, hlen, L1, hL, hP1m, hlink1, hlink⟩ := Bundle.chain0 (args := args) hpl Y.init0 ["java/lang/Exception"] RTE (by decide +kernel) (by decide +kernel) (fun x hx => h x (by simp [flAtoms, hx]))
  obtain ⟨c1, kX', hc1, hk1, hord, -, -, hn6⟩ := Cond.instantiable_spec (a' (.instantiable FLT 7) (by simp [flAtoms]))
  cases Option.some.inj (hc1.symm.trans hfound)
  cases Option.some.inj (hk.symm.trans hk1)
  have hsel0 : selectMethod e.platform s.vm cX T.fill0 = .method T.fill0 := by
    obtain ⟨c2, r2, m2, q1, q2, q3, q4, -⟩ := Cond.selects_spec (a' (.selects FLT Bundle.tFill0 Bundle.tFill0) (by simp [flAtoms]))
    cases Option.some.inj (q1.symm.trans hfound)
    cases Option.some.inj (q2.symm.trans (State.methodFound?_of_named Y.fill0 (by decide)))
    cases Option.some.inj (q3.symm.trans Y.fill0)
    rw [Launch.admits_selectMethod X.admits]; exact q4
  have hselF : selectMethod e.platform s.vm cX T.fill = .method T.fill := by
    obtain ⟨c2, r2, m2, q1, q2, q3, q4, -⟩ := Cond.selects_spec (a' (.selects FLT Bundle.tFill Bundle.tFill) (by simp [flAtoms]))
    cases Option.some.inj (q1.symm.trans hfound)
    cases Option.some.inj (q2.symm.trans (State.methodFound?_of_named Y.fill (by decide)))
    cases Option.some.inj (q3.symm.trans Y.fill)
    rw [Launch.admits_selectMethod X.admits]; exact q4
  obtain ⟨cellS0, hcS0, hiss⟩ := Y.statics
  obtain ⟨u0, hu0⟩ := Cond.staticRefV Y.unassigned L.unassignedStatic L.statics hcS0 hiss (a' (.isRef (.static Bundle.tN "UNASSIGNED_STACK" Bundle.steD)) (by simp [flAtoms]))
  obtain ⟨sen, hsen⟩ := Cond.staticRefV Y.sentinel L.sentinelStatic L.statics hcS0 hiss (a' (.isRef (.static Bundle.tN "SUPPRESSED_SENTINEL" Bundle.listD)) (by simp [flAtoms]))
  obtain ⟨ci198, i198, fB, hk198, hg198, ha198, hsB, -, hnB, htB, hffB⟩ := Cond.ownField (t := .object "java/lang/Object") Y.found L.cls (by decide +kernel) (a' (.fieldLink Bundle.tN 198 Bundle.tN "backtrace" "Ljava/lang/Object;") (by simp [flAtoms])) (a' (.lays Bundle.tN Bundle.tN "backtrace" "Ljava/lang/Object;") (by simp [flAtoms])) e.platform hpl
  have hcellS : W.heap[T.aS]? = some cellS0 := by rw [hWh]; exact hcS0
  have hknownS : cellS0.vm ≠ .unknown := by
    intro hu
    rw [hu] at hiss
    cases hiss
  have hneS : T.aS ≠ a := fun e9 => by
    rw [e9, hcell0] at hcS0
    cases hcS0
    cases hiss
  obtain ⟨iM, hffM⟩ := Y.msg
  obtain ⟨tyC, dC, hdC, hdnC⟩ := Cond.laysAt hfound hk1 Y.cause (a' (.lays FLT Bundle.tN "cause" "Ljava/lang/Throwable;") (by simp [flAtoms]))
  obtain ⟨tyS, dS, hdS, hdnS⟩ := Cond.laysAt hfound hk1 Y.stack (a' (.lays FLT Bundle.tN "stackTrace" Bundle.steD) (by simp [flAtoms]))
  obtain ⟨tyP, dP, hdP, hdnP⟩ := Cond.laysAt hfound hk1 Y.supp (a' (.lays FLT Bundle.tN "suppressedExceptions" Bundle.listD) (by simp [flAtoms]))
  obtain ⟨tyB, dB, hdB, hdnB⟩ := Cond.laysAt hfound hk1 hffB (a' (.lays FLT Bundle.tN "backtrace" "Ljava/lang/Object;") (by simp [flAtoms]))
  have bC := Cond.laysApart hdB hdC hdnB hdnC (by rw [hnB, Y.causeName]; decide)
  have bS := Cond.laysApart hdB hdS hdnB hdnS (by rw [hnB, Y.stackName]; decide)
  have bP := Cond.laysApart hdB hdP hdnB hdnP (by rw [hnB, Y.suppName]; decide)
  have vC := fresh_default (c := cX) tyC
  have vS := fresh_default (c := cX) tyS
  have vP := fresh_default (c := cX) tyP
  rw [Y.causeType] at vC
  rw [Y.stackType] at vS
  rw [Y.suppType] at vP
  have hskip : SkipFacts T e.platform s (fun u => u) u0 ((preparedCellV T.toThrowableT (freshCell cX kX) a u0 sen).withEntry W.cur) :=
    ⟨{ ci198 := ci198, i198 := i198, fBack := fB }, ⟨hk198, hg198, ha198, hsB⟩, by
      have := fresh_default (c := cX) tyB
      rw [htB] at this
      simpa [preparedCellV, Cell.setSlot, Cell.withEntry, Array.getElem?_setIfInBounds, bC, bS, bP, bC.symm, bS.symm, bP.symm, defaultValue] using this, fun _ _ => rfl⟩
  obtain ⟨tm, methC, cdC, kC, vm₁, hnC, -, -, -, -, -, -, -, hW₁, st1⟩ := Steps.initCold (tb := p.tables) (e := e) (below := below) (s := s) (U := W) X.here hexec X.warmed hpl hown (t := Bundle.init0 RTE) rfl rfl (Bundle.fit_spec (n := RTE) (by decide +kernel)).2
    (a' (.methodLink FLT 1 (Bundle.init0 RTE)) (by simp [flAtoms])) (h (.instanceMethod (Bundle.init0 RTE)) (by simp [flAtoms, Bundle.chain0Atoms, Bundle.passAtoms])) (bytes := Bundle.five) (maxL := 1) (h (.code (Bundle.init0 RTE) Bundle.five 1 none) (by simp [flAtoms, Bundle.chain0Atoms, Bundle.passAtoms]))
    (f := g) hg (a := a) (rest := rest) hstack hd6
  cases Option.some.inj (hnC.symm.trans hP1m)
  have X₁ := X.noted hW₁
  obtain ⟨vm₂, X₂, st2⟩ := X₁.ctorPlainOffV hexec (g := { g with stack := rest }) hg hsize T L Z LZ (P1 :: Ps)
    (fun P hP => by rcases List.mem_cons.mp hP with rfl | hP; exact L1; exact hL P hP) ⟨hlink1, hlink⟩ (u0 := u0) (sen := sen) (self := a) (cell := freshCell cX kX) (cellS := cellS0)
    hcell (fun _ => by simp) (by simp) rfl rfl hsel0 hselF hcellS hneS hknownS hu0 hsen
    (Takes.of_laid hk1 hord tyC (by rw [Y.causeType]; rfl)) (Takes.of_laid hk1 hord tyS (by rw [Y.stackType]; exact fits_refV_array _ u0)) (Takes.of_laid hk1 hord tyP (by rw [Y.suppType]; exact fits_refV_object _ sen)) Y.objLocals hskip htr [] hd6
    (by simp only [List.length_cons, hlen, List.length_nil]; omega) (by simp only [List.length_cons, hlen, List.length_nil]; exact hRlocals)
  refine ⟨(W.setVm vm₁).setVm vm₂, _, _, X₂, fun y hy => ?_, hWh, rfl, rfl, fun i hi => ?_, fun target hwalk => st1 _ (fun acts => ?_)⟩
  · simp only [List.mem_cons, List.not_mem_nil, or_false] at hy
    rcases hy with rfl | rfl | rfl | rfl <;> rfl
  · have nC : T.fCause.slot ≠ i := fun e9 => by rw [← e9, vC] at hi; cases hi
    have nS : T.fStack.slot ≠ i := fun e9 => by rw [← e9, vS] at hi; cases hi
    have nP : T.fSupp.slot ≠ i := fun e9 => by rw [← e9, vP] at hi; cases hi
    simpa [preparedCellV, Cell.setSlot, Array.getElem?_setIfInBounds, nC, nS, nP, nC.symm, nS.symm, nP.symm] using hi
  · rw [doInvoke_state]
    exact st2 _ hwalk
end FLA
/-- the raw cell of a new Fault -/
def flR (a : Nat) (U : State) : Prop := ∃ (cX : ClassId) (kX : Class), U.vm.findClass FLT = some cX ∧ U.vm.classes[cX]? = some kX ∧ U.heap[a]? = some (freshCell cX kX)
def CpreF (Γ : GE) (a sz : Nat) (U : State) : Prop := Cpre Γ [[(a, .inr (9, [.int 0]))]] [] sz U ∧ flR a U
theorem cblindF {Γ : GE} {a sz : Nat} {av : List Value} : FrameBlind (va_Pc av (CpreF Γ a sz)) := by
  rintro a' U g mk ⟨q0, q1, q2⟩
  exact ⟨q0, (cblind (Γ := Γ) (bs := [[(a, .inr (9, [.int 0]))]]) (ro := []) (sz := sz) (av := av) a' U g mk ⟨q0, q1⟩).2, q2⟩
theorem at_FLT : ∀ w ∈ flAtoms.filter vx_no, w ∈ lw_tbl := tb_in _ [74, 364, 373, 383, 386, 388, 365, 366, 109, 110, 367, 372, 384, 401, 354, 402, 356, 403, 358, 368, 370, 360, 393, 394, 395, 396, 347, 396, 397, 398, 365, 349, 1658, 1647, 1649, 375, 1650, 1651, 1652, 1653, 399, 362, 1654] (by decide +kernel)
theorem ag_FLT : ∀ w ∈ flAtoms.filter vx_no, (goodWord w || nwOk w) = true := all_in (by decide +kernel)
section FLB
variable {p : Program} {l : Launch} {e : Env} {R : Room} {s : State} {m : MethodId} {args : Array Value} {below : List Frame} {meth : Method} {c : Code} {cells slots : Nat} {Q : State → Prop} {cc : ByteArray} {pc : Nat} {ls : Array Slot} {Γ : GE} {A : Nat → Prop} {rest : List Value} {a : Nat}
theorem fl_words (hts : ∀ w ∈ lw_all, w.before args s = true) (hE : EN Γ A s) : ∀ w ∈ flAtoms, w.before args s = true := by
  refine vx_own (fun w hw => ?_) (vx_isRefq hE.2.1.2.1.1.1) (vx_isRefq hE.2.1.2.1.2.1) hE.2.1.2.1.1.2.word hE.2.1.2.1.2.2.word
  have h2 := ag_FLT w hw
  rw [Bool.or_eq_true] at h2
  rcases h2 with h | h
  · exact hts _ (lw_g (at_FLT w hw) h)
  · exact va_Nw.use (nwOk_tbl w h) (hE.1.1 w (at_FLT w hw) h)
/-- super() in Fault's constructor -/
theorem fl_row (hx : p.tables.exec = Jvm.exec) (hb : c.code = cc) (hst : l.stackTraces = false) (hts : ∀ w ∈ lw_all, w.before args s = true) (hE : EN Γ A s) (hown : s.vm.findClass FLT = some m.cls) (hraw : flR a s) (hK : va_K Γ.1 cls (tysG Γ) s) (hP : WP Γ [[(a, .inr (9, [.int 0]))]] s.heap) (hD : WD A [[(a, .inr (9, [.int 0]))]]) (hml : c.maxLocals = ls.size)
    (hd : decode cc pc = .ok (.invokespecial 1, 3)) (hRf : 4 < R.frames) (hRl : (rest.map fun v => v.category).sum + (13 * 2 + 41) ≤ R.locals)
    (kk : ∀ (H1 : Heap) (locs1 : List Loc), WP Γ [[(a, .inr (9, [.int 0]))]] H1 → WD A [[(a, .inr (9, [.int 0]))]] → va_S A s.heap H1 locs1 → W p l e R s m args below meth c H1 locs1 cells slots Q (F0 m (pc + 3) ls rest)) : W p l e R s m args below meth c s.heap [] cells slots Q (F0 m pc ls (.ref a :: rest)) := by
  intro T hT X
  have htr : e.platform.stackTraces = false := (show e.platform.stackTraces = l.stackTraces by rw [X.admits.platform]).trans hst
  obtain ⟨cX, kX, h1, h2, h3⟩ := hraw
  obtain ⟨V, ce, L, Z, hL, hV, hcl, hvm, hsl, st⟩ := fl_super X hx htr hown (fl_words hts hE) hT h1 h2 h3 (g := F0 m pc ls (.ref a :: rest)) rfl hml.symm (rest := rest) rfl (by rw [hb]; exact hd) hRf (by show 0 + _ + _ ≤ _; omega)
  have hlt : a < V.heap.size := by rw [hV]; exact (Array.getElem?_eq_some_iff.mp h3).1
  have hself : (V.setCell a ce).heap[a]? = some ce := heapAt_setCell_self (s := V) ce hlt
  have hoth : ∀ q : Nat, a ≠ q → (V.setCell a ce).heap[q]? = s.heap[q]? := fun q hq => by rw [heapAt_setCell_ne (s := V) ce hq, hV]
  have hsz : (V.setCell a ce).heap.size = s.heap.size := by
    have : (V.setCell a ce).heap.size = V.heap.size := by simp [State.setCell]
    rw [this, hV]
  have hAa : A a := (bD_iff.mp hD).2 (a, .inr (9, [.int 0])) (by simp)
  have hat : va_at Γ.1 cls (a, .inr (9, [.int 0])) s.heap := bP_iff.mp hP _ (by simp)
  obtain ⟨t, a1, b1⟩ := kk (V.setCell a ce).heap ([] ++ L) (bP_iff.mpr (fun q hq => by
      have hq : q = (a, .inr (9, [.int 0])) := by simpa using hq
      subst hq
      obtain ⟨r, hr, cell, g1, g2, g3, g4⟩ := hat
      cases hr
      cases g1.symm.trans h3
      exact ⟨_, rfl, ce, hself, by rw [hcl]; exact g2, hvm, fun k hk => by
        have hk : k < 1 := hk
        have hk : k = 0 := by omega
        subst hk
        exact hsl _ (g4 0 (by decide))⟩)) hD ⟨Nat.le_of_eq hsz.symm, fun q _ hq => hoth q (fun e9 => hq (e9 ▸ hAa)), fun y hy => by
      rw [List.nil_append] at hy
      rw [hL y hy]; exact hAa⟩ _ rfl Z
  exact ⟨t, st t a1, b1⟩
end FLB
theorem mt_Fl_init (l : Launch) (Γ : GE) (sz a : Nat) (v : Int32) (hst : l.stackTraces = false) : Met l yX11_init (ws_ yX11_init cX11_init 2 none) { frames := 5, cells := 0, slots := 0, locals := 80 } (va_Pc [.ref a, .int v] (CpreF Γ a sz)) (Qv Γ (fun u => u = [[(a, .inr (9, [.int v]))]]) (va_A (List.flatten ([[(a, .inr (9, [.int 0]))]] : BW)) sz)) 0 0 (va_A (List.flatten ([[(a, .inr (9, [.int 0]))]] : BW)) sz) := by
  refine Met.ofW (cc := cX11_init) (maxL := 2) (ret := none) (by decide) rfl ?_
  intro p e s m args below meth c s₁ B hml hv
  obtain ⟨rfl, ⟨hsz, hP, hK, hD, hE, -⟩, hraw⟩ := hv
  have hts := atoms_spec (ws := ws_ yX11_init cX11_init 2 none) B.pre
  have hts : ∀ w ∈ lw_all, w.before _ s = true := fun w h => hts w (List.mem_cons_of_mem _ h)
  have hl := lv_entry [.ref a, .int v] (n := 2) (Nat.le_of_ble_eq_true rfl)
  rw [lg_entry_eq]
  generalize (lg_sl [Value.ref a, Value.int v] ++ List.replicate (2 - (lg_sl [Value.ref a, Value.int v]).length) Slot.unset).toArray = ls at hl ⊢
  have hx := B.exec
  have hb := B.bytes
  have hown : s.vm.findClass FLT = some m.cls := findClass_of_methodNamed B.named
  have hname : meth.name = "<init>" := (name_of_methodNamed B.named B.method).1
  have hD := hD.self (sz := sz)
  have hl : lv_has ls 2 [(0, .ref a), (1, .int v)] := hl
  refine lv_aload_n hx hb dX11_init_0 rfl (lv_at hl 0 rfl) ?_
  refine fl_row hx hb hst hts hE hown hraw hK hP hD (hml.trans hl.1.symm) dX11_init_1 (by decide) (by decide) (fun H locs hP hD hS => ?_)
  refine lv_aload_n hx hb dX11_init_4 rfl (lv_at hl 0 rfl) ?_
  refine lv_iload_n hx hb dX11_init_5 rfl (lv_at hl 1 rfl) ?_
  refine b_putF (C := RXF) (T := TXF) (N := 1) (ty := .int) (v := .int v) hx hb hts in_XF tyXF_ok nmXF hown hK hP hD hS 0 rfl rfl 0 (by decide) q1659 (fun _ h9 => h9) rfl hname rfl rfl (by decide +kernel) rfl rfl (by decide) dX11_init_6 (fun H locs hP hD hS => ?_)
  exact b_vret hx hb B.returns B.notSynchronized hP hD hS (Nat.le_refl _) (Nat.le_refl _) rfl dX11_init_9
def flRH (s : State) (q : Nat) (H : Heap) : Prop := ∃ (cX : ClassId) (kX : Class), s.vm.findClass FLT = some cX ∧ s.vm.classes[cX]? = some kX ∧ H[q]? = some (freshCell cX kX)
section FLD
variable {p : Program} {l : Launch} {e : Env} {R : Room} {s : State} {m : MethodId} {args : Array Value} {below : List Frame} {meth : Method} {c : Code} {H : Heap} {locs : List Loc} {cells slots mc ms : Nat} {Q : State → Prop} {cc : ByteArray} {pc : Nat} {ls : Array Slot} {Γ : GE} {A : Nat → Prop} {bs bc : BW} {st0 rest : List Value}
theorem b_newF (hx : p.tables.exec = Jvm.exec) (hb : c.code = cc) (hts : ∀ w ∈ lw_all, w.before args s = true) {own : String} {index : Nat} (hown : s.vm.findClass own = some m.cls) (hcl : (Cond.classLink own index FLT) ∈ lw_all) (hK : va_K Γ.1 cls (tysG Γ) s) (hP : WP Γ bs H) (hD : WD A bs) (hS : va_S A s.heap H locs) (hA : ∀ q, s.heap.size ≤ q → A q) (hcells : cells + 1 ≤ R.cells) (hslots : slots + 7 ≤ R.slots) (hdg : decode cc pc = .ok (.new index, 3))
    (kk : ∀ (q : Nat) (H1 : Heap), WP Γ (bs ++ [[(q, .inr (9, [.int 0]))]]) H1 → WD A (bs ++ [[(q, .inr (9, [.int 0]))]]) → va_S A s.heap H1 locs → flRH s q H1 → W p l e R s m args below meth c H1 locs (cells + 1) (slots + 7) Q (F0 m (pc + 3) ls (.ref q :: rest))) : W p l e R s m args below meth c H locs cells slots Q (F0 m pc ls rest) := by
  have hKn := hK.1 9 (RXF, TXF, 1) rfl
  refine W.newcK hx hb hown (hts _ hcl) (hts _ q1647) (hts _ q100) rfl hdg hcells hslots hKn.2.1 rfl fun H1 kC hkC e1 z1 o1 => ?_
  have hk : ∀ (k : Nat) (x : Nat × va_E), bs.flatten[k]? = some x → H1[x.1]? = H[x.1]? := fun k x hx => o1 x.1 ((hP k x hx).lt)
  have h1 := (hP.kept hk).app (w2 := [(H.size, .inr (9, [.int 0]))]) (fun k x hx9 => by
    have hz : k < 1 := (List.getElem?_eq_some_iff.mp hx9).1
    rw [show k = 0 by omega] at hx9
    cases hx9
    exact ⟨_, rfl, (u_born tyXF hts in_XF hKn hkC e1 tyXF_ok).to (fun j hj => by
      have hj : j < 1 := hj
      rw [show j = 0 by omega]
      rfl)⟩)
  have h2 := hD.push (e := .inr (9, [.int 0])) hP rfl (hA _ hS.1)
  rw [fl_push] at h1 h2
  exact kk H.size H1 h1 h2 ⟨Nat.le_trans hS.1 (by omega), fun x h1 h2 => (o1 x (Nat.lt_of_lt_of_le h1 hS.1)).trans (hS.2.1 x h1 h2), hS.2.2⟩ ⟨_, kC, hKn.2.1, hkC, e1⟩
theorem cf_pre {a : Nat} (h : ∀ U : State, U.heap = H → s.WarmedH U.vm → Cpre Γ [[(a, .inr (9, [.int 0]))]] [] H.size U) (hraw : flRH s a H) : ∀ U : State, U.heap = H → s.WarmedH U.vm → CpreF Γ a H.size U := by
  intro U hU hW
  refine ⟨h U hU hW, ?_⟩
  obtain ⟨cX, kX, h1, h2, h3⟩ := hraw
  obtain ⟨k', hk', he⟩ := hW.alike.2.2 _ _ h2
  refine ⟨cX, k', by rw [hW.alike.findClass]; exact h1, hk', ?_⟩
  rw [hU, h3, he]
theorem b_runIF {own : String} {nL idx : Nat} {a : Nat} {v : Int32} {rm : Room} {Qc : Array Value → State → Outcome → State → Prop} {free : Addr → Prop} {sz : Nat} (S : CallFix p m c cc nL s args lw_all own) (hM : Met l yX11_init (ws_ yX11_init cX11_init 2 none) rm (va_Pc [.ref a, .int v] (CpreF Γ a sz)) Qc mc ms free) (h2 : Cond.methodLink own idx yX11_init ∈ lw_all) (hrc : rm.cells = mc) (hrs : rm.slots = ms) (hR : rm.frames + 1 ≤ R.frames ∧ 8 + (2 + 11) + rm.locals ≤ R.locals)
    (hpre : ∀ U : State, U.heap = H → s.WarmedH U.vm → CpreF Γ a sz U) (hsize : ls.size = nL) (hstack : st0 = .int v :: .ref a :: rest) (hW : (rest.map fun v => v.category).sum ≤ 8) (hdg : decode cc pc = .ok (.invokespecial idx, 3)) (hf : cells + mc ≤ R.cells ∧ slots + ms ≤ R.slots) :
    va_Run p l e R s m args below meth c H locs cells slots mc ms (F0 m pc ls st0) rest (Qc ([.ref a, .int v] : List Value).toArray) free :=
  va_runI S hM (cwI 1 S.2.2.2.2 (lw_meth q1657) rfl hrc hrs (S.2.2.2.2 _ q100) (S.2.2.2.2 _ h2) (S.2.2.2.2 _ q1656) rfl (by decide +kernel) hR) ⟨cblindF, fun U hU hW => ⟨rfl, hpre U hU hW⟩⟩ rfl rfl hsize hstack (lv_room hW) hdg hf
theorem fl_ce {q : Nat} {fs : List Value} (hK : va_K Γ.1 cls (tysG Γ) s) (h : va_at Γ.1 cls (q, .inr (9, fs)) H) : ∃ ce : Cell, H[q]? = some ce ∧ ce.vm = .none ∧ s.vm.findClass FLT = some ce.cls := by
  obtain ⟨r, hr, cell, g1, g2, g3, -⟩ := h
  cases hr
  exact ⟨cell, g1, g3, by rw [g2]; exact (hK.1 9 (RXF, TXF, 1) rfl).2.1⟩
end FLD
